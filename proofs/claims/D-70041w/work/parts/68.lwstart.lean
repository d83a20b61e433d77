set_option maxRecDepth 100000
section WL2
variable {p : Program} {l : Launch} {e : Env} {R : Room} {s : State} {m : MethodId} {args : Array Value} {below : List Frame} {meth : Method} {c : Code} {H : Heap} {locs : List Loc} {cells slots : Nat} {Z : State → Prop}
variable {D : va_G} {cl : List vw_C} {tys : List (ClassId × FieldType)} {A : Nat → Prop} {cc : ByteArray} {nL : Nat} {ret0 : Option FieldType} {own : String} {pc : Nat} {ls : Array Slot} {st0 : List Value}
variable {y : MethodName} {bytes : ByteArray} {maxL mc ms n index : Nat} {ret : Option FieldType} {ws' : List Cond} {rm : Room} {C0 : String} {b : Nat} {X Y : va_W}
theorem lwI_v {S : Type} {post : S → Prop} {w1 : S → va_W} {As rest : List Value} (C : cx cc nL ret0 own D cl tys A p c meth s m args) (hM : Met l y ws' rm (va_Pc (.ref b :: As) (wpre D cl tys Y H.size)) (va_Qv post (wpost D cl (va_A Y H.size) w1) (va_A Y H.size)) mc ms (va_A Y H.size)) (cw : CallB R s args own index y bytes maxL none ws' rm mc ms n ∧ y.name = "<init>" ∧ (Cond.instanceMethod y).before args s = true) (hP : va_P D cl (X ++ Y) H) (hD : va_D A (X ++ Y)) (hS : va_S A s.heap H locs) (hn : As.length = n) (hst : st0 = As.reverse ++ .ref b :: rest) (hsz : ls.size = nL) (hrm : (rest.map fun v => v.category).sum ≤ 8) (hdg : decode cc pc = .ok (.invokespecial index, 3)) (hf : cells + mc ≤ R.cells ∧ slots + ms ≤ R.slots)
    (kk : ∀ (u : S) (H1 : Heap) (locs1 : List Loc), post u → va_P D cl (X ++ w1 u) H1 → va_D A (X ++ w1 u) → va_S A s.heap H1 locs1 → W p l e R s m args below meth c H1 locs1 (cells + mc) (slots + ms) Z (F0 m (pc + 3) ls rest)) : W p l e R s m args below meth c H locs cells slots Z (F0 m pc ls st0) := by
  have hC : (List.range' X.length Y.length).map (fun i => (X ++ Y)[i]?) = Y.map some := wc_rg
  have hR : (List.range X.length).map (fun i => (X ++ Y)[i]?) = X.map some := wc_up (wc_self X)
  have hnC : va_nd (List.range' X.length Y.length) = true := wc_ndr _ _
  have hF : ∀ q, va_A Y H.size q → A q := va_free hD hS C.2.2.2.2.2.2.2.2.2 (List.range' X.length Y.length) hC
  refine va_callv (va_runI (As := As) (rest := rest) ⟨C.1, C.2.1, C.2.2.2.2.1, C.2.2.2.2.2.1, C.2.2.2.2.2.2.1⟩ hM cw ⟨wpre_blind, wc_pre C hP hD hC hnC (.ref b :: As)⟩ rfl hn hsz hst (lv_room hrm) hdg hf) hS (fun q _ h => hF q h) hF (fun u t H1 locs1 ht hvm hw hB hz1 hk1 hS1 => ?_)
  obtain ⟨hP1, hD1⟩ := hB
  rw [ht] at hP1
  obtain ⟨hP2, hD2⟩ := va_join hP hD (List.range' X.length Y.length) (List.range X.length) hC hR (wc_nd _) (fun i hi hic => by have h1 := List.mem_range'_1.mp hic; have h2 := List.mem_range.mp hi; omega) hk1 hF hP1 hD1
  exact kk u H1 locs1 hw hP2 hD2 hS1
end WL2
theorem lw_prim {args : Array Value} {s : State} {ty : FieldType} (h : (Cond.arrayClass ty).before args s = true) (hv : ∀ c, s.vm.findClass ("[" ++ ty.toString) = some c → va_RA s c ty) : ∃ c : ClassId, ArrOfT s c ty ∧ va_RA s c ty := by
  obtain ⟨c, k, comp, h1, h2, h3⟩ := Cond.arrayClass_spec h
  exact ⟨c, fun n z => ⟨fun k h => (by cases h), k, h2, comp, h3⟩, hv c h1⟩
theorem lw_obj {args : Array Value} {s : State} {C : String} (h : (Cond.arrayOver (.object C)).before args s = true) : ∃ c : ClassId, ArrOfT s c (.object C) ∧ va_RA s c (.object C) := by
  obtain ⟨comp, c, k, h1, h2, h3, h4, h5⟩ := Cond.arrayOver_spec h
  exact ⟨c, fun n z => ⟨fun k h => (by cases h), k, h3, comp, h4⟩, k, comp, h3, h4, h1, h5⟩
def txI : List Nat := [58, 60, 62, 64, 66, 68, 70, 72, 74, 50, 52, 54, 56]
def txT (i : Nat) : Term := .string "OmenLine$Reader" (txI.getD i 0)
abbrev gvF : List Cond := flatC (Jvm.Cond.and given_1 narrow_1)
theorem gv_ex : ∀ i, i < 13 → Cond.exactly (txT i) "java/lang/String" ∈ gvF := by decide +kernel
theorem gv_co : ∀ i, i < 13 → Cond.eq (.field (txT i) "java/lang/String" "coder" "B") (.int 0) ∈ gvF := by decide +kernel
theorem gv_ar : ∀ i, i < 13 → Cond.arrayOf (.field (txT i) "java/lang/String" "value" "[B") .byte ∈ gvF := by decide +kernel
theorem gv_le : ∀ i, i < 13 → Cond.eq (.length (.field (txT i) "java/lang/String" "value" "[B")) (.int (Int32.ofNat (lenJ.getD i 0))) ∈ gvF := by decide +kernel
theorem gv_el : ∀ i, i < 13 → ∀ j, j < lenJ.getD i 0 → Cond.eq (.elem (.field (txT i) "java/lang/String" "value" "[B") (.int (Int32.ofNat j))) (.int ((bytJ.getD i []).getD j 0)) ∈ gvF := by decide +kernel
def neP : Cond → Option (Nat × Nat)
  | .not (.eq (.string o a) (.string o2 b)) => if o = "OmenLine$Reader" ∧ o2 = "OmenLine$Reader" then some (a, b) else none
  | _ => none
theorem neP_spec {c : Cond} {a b : Nat} (h : neP c = some (a, b)) : c = .not (.eq (.string "OmenLine$Reader" a) (.string "OmenLine$Reader" b)) := by
  unfold neP at h
  split at h
  · rename_i o a2 o2 b2
    by_cases hc : o = "OmenLine$Reader" ∧ o2 = "OmenLine$Reader"
    · rw [if_pos hc] at h
      cases h
      rw [hc.1, hc.2]
    · rw [if_neg hc] at h
      cases h
  · cases h
def nePL : List (Nat × Nat) := [(58, 60), (58, 62), (60, 62), (58, 64), (60, 64), (62, 64), (58, 66), (60, 66), (62, 66), (64, 66), (58, 68), (60, 68), (62, 68), (64, 68), (66, 68), (58, 70), (60, 70), (62, 70), (64, 70), (66, 70), (68, 70), (58, 72), (60, 72), (62, 72), (64, 72), (66, 72), (68, 72), (70, 72), (58, 74), (60, 74), (62, 74), (64, 74), (66, 74), (68, 74), (70, 74), (72, 74), (58, 50), (60, 50), (62, 50), (64, 50), (66, 50), (68, 50), (70, 50), (72, 50), (74, 50), (58, 52), (60, 52), (62, 52), (64, 52), (66, 52), (68, 52), (70, 52), (72, 52), (74, 52), (50, 52), (58, 54), (60, 54), (62, 54), (64, 54), (66, 54), (68, 54), (70, 54), (72, 54), (74, 54), (50, 54), (52, 54), (58, 56), (60, 56), (62, 56), (64, 56), (66, 56), (68, 56), (70, 56), (72, 56), (74, 56), (50, 56), (52, 56), (54, 56)]
theorem gv_np : gvF.filterMap neP = nePL := by decide +kernel
theorem gv_nb : ((List.range 13).all fun i => (List.range 13).all fun j => i == j || (nePL.any fun x => x.1 == txI.getD i 0 && x.2 == txI.getD j 0) || (nePL.any fun x => x.1 == txI.getD j 0 && x.2 == txI.getD i 0)) = true := by decide +kernel
theorem gv_na {a b : Nat} (h : (nePL.any fun x => x.1 == a && x.2 == b) = true) : (a, b) ∈ nePL := by
  obtain ⟨x, hx, h1⟩ := List.any_eq_true.mp h
  simp only [Bool.and_eq_true, beq_iff_eq] at h1
  rw [← h1.1, ← h1.2]
  exact hx
theorem gv_n0 (i : Nat) (hi : i < 13) (j : Nat) (hj : j < 13) (hij : i ≠ j) : (txI.getD i 0, txI.getD j 0) ∈ nePL ∨ (txI.getD j 0, txI.getD i 0) ∈ nePL := by
  have h := List.all_eq_true.mp (List.all_eq_true.mp gv_nb i (List.mem_range.mpr hi)) j (List.mem_range.mpr hj)
  simp only [Bool.or_eq_true, beq_iff_eq] at h
  rcases h with (h | h) | h
  · exact absurd h hij
  · exact Or.inl (gv_na h)
  · exact Or.inr (gv_na h)
theorem gv_nm {a b : Nat} (h : (a, b) ∈ nePL) : Cond.not (Cond.eq (.string "OmenLine$Reader" a) (.string "OmenLine$Reader" b)) ∈ gvF := by
  rw [← gv_np] at h
  obtain ⟨c, hc, hp⟩ := List.mem_filterMap.mp h
  rw [← neP_spec hp]
  exact hc
theorem gv_ne : ∀ i, i < 13 → ∀ j, j < 13 → i ≠ j → (Cond.not (Cond.eq (txT i) (txT j)) ∈ gvF ∨ Cond.not (Cond.eq (txT j) (txT i)) ∈ gvF) := fun i hi j hj hij => (gv_n0 i hi j hj hij).imp gv_nm gv_nm
theorem gv_nc : ∀ x ∈ ncl, Cond.not (.castable x.1 x.2) ∈ gvF := by decide +kernel
theorem gv_cs : Cond.eq (.static "java/lang/String" "COMPACT_STRINGS" "Z") (.int 1) ∈ gvF := by decide +kernel
theorem gv_si : Cond.isRef (.static "jdk/internal/util/Preconditions" "SIOOBE_FORMATTER" "Ljava/util/function/BiFunction;") ∈ gvF := by decide +kernel
theorem gv_us : Cond.isRef (.static Bundle.tN "UNASSIGNED_STACK" Bundle.steD) ∈ gvF := by decide +kernel
theorem gv_ss : Cond.isRef (.static Bundle.tN "SUPPRESSED_SENTINEL" Bundle.listD) ∈ gvF := by decide +kernel
theorem gv_j : ∀ i, i < 13 → txJ[i]? = some (txI.getD i 0, (txJ.getD i (0, "")).2) := by decide +kernel
theorem gv_r : ∀ i, i < 13 → Cond.stringRef "OmenLine$Reader" (txI.getD i 0) (txJ.getD i (0, "")).2 ∈ lw_tbl := by decide +kernel
theorem lw_flags {l : Launch} (h : l.flags = flags0) : l.stackTraces = false := by
  unfold Launch.stackTraces
  rw [h]
  decide +kernel
set_option maxHeartbeats 4000000 in
theorem law_start (Inv : Int32 → Int32 → Int32 → Int32 → Int32 → Int32 → Int32 → Int32 → Int32 → (Nat → Int32) → (Nat → Int32) → Int32 → Int32 → Int32 → (Nat → Int32) → (Nat → Int32) → Int32 → Int32 → Int32 → (Nat → Int32) → (Nat → Int32) → (Nat → Int32) → (Nat → Int32) → (Nat → Int32) → Sh → Int32 → Int32 → Int32 → Int32 → Int32 → Int32 → Int32 → (Nat → Int32) → (Nat → Int32) → (Nat → Int32) → (Nat → Int32) → (Nat → Int32) → (Nat → Int32) → (Nat → Int32) → (Nat → Int32) → (Nat → Int32) → (Nat → Int32) → (Nat → Int32) → Prop) (hG : SOK Inv) (h0 : Inv 0 0 0 0 0 0 4 0 0 (fun _ => 0) (fun _ => 0) 4 0 0 (fun _ => 0) (fun _ => 0) 4 0 0 (fun _ => 0) (fun _ => 0) (fun _ => 0) (fun _ => 0) (fun _ => 0) (fun _ => none) 4 0 0 0 0 0 0 (fun _ => 0) (fun _ => 0) M0_waits (fun _ => 0) M0_cuts M0_letters (fun _ => 0) (fun _ => 0) M0_lanes (fun _ => 0) (fun _ => 0)) {p : Program} {e : Env} {s : State} {m : MethodId} {below : List Frame} {meth : Method} {c : Code} (l : Launch) (hflags : l.flags = flags0) {b L : Nat} {xs : Nat → Int32} (hL : L ≤ 320) (C0 : lw_At p s m meth c b L xs) : W p l e room_1 s m #[Value.ref b] below meth c s.heap [] 0 0 (lw_Z below #[Value.ref b] s) (entryFrame m ([Value.ref b] : List Value).toArray 4) := by
  obtain ⟨hx, hb, hr, hml, hown, htb, hX, hbl, hlocks, hgv, -⟩ := C0
  have hst : l.stackTraces = false := lw_flags hflags
  have hA : ∀ q : Nat, s.heap.size ≤ q → (fun q : Nat => s.heap.size ≤ q) q := fun _ h => h
  have hbA : ¬ (fun q : Nat => s.heap.size ≤ q) b := Nat.not_le.mpr hbl
  have hAh : ∀ a : Nat, a < s.heap.size → ¬ (fun q : Nat => s.heap.size ≤ q) a := fun a h => Nat.not_le.mpr h
  have hts : ∀ w ∈ lw_all, w.before #[Value.ref b] s = true := fun w h => htb w (lw_all_tbl h)
  have hn : nx s := nx_of htb
  have hs := flat_of_before _ hgv
  obtain ⟨c0, iS0, hKn0⟩ := u_known (C := RX0) (T := TX0) (N := 29) (n := 29) hts in_X0 (hts _ q94)
  obtain ⟨c1, iS1, hKn1⟩ := u_known (C := RX1) (T := TX1) (N := 0) (n := 0) hts (in_X1 RX1) (hts _ q103)
  obtain ⟨c2, iS2, hKn2⟩ := u_known (C := RX2) (T := TX1) (N := 0) (n := 0) hts (in_X1 RX2) (hts _ q110)
  obtain ⟨c3, iS3, hKn3⟩ := u_known (C := RX3) (T := TX1) (N := 0) (n := 0) hts (in_X1 RX3) (hts _ q117)
  obtain ⟨c4, iS4, hKn4⟩ := u_known (C := RX4) (T := TX1) (N := 0) (n := 0) hts (in_X1 RX4) (hts _ q124)
  obtain ⟨c5, iS5, hKn5⟩ := u_known (C := RX5) (T := TX5) (N := 5) (n := 5) hts in_X5 (hts _ q131)
  obtain ⟨c6, iS6, hKn6⟩ := u_known (C := RX6) (T := TX6) (N := 1) (n := 1) hts in_X6 (hts _ q166)
  obtain ⟨c7, iS7, hKn7⟩ := u_known (C := RX7) (T := TX7) (N := 45) (n := 45) hts in_X7 (hts _ q923)
  obtain ⟨c8, iS8, hKn8⟩ := u_known (C := RX8) (T := TX8) (N := 12) (n := 12) hts in_X8 (hts _ q284)
  obtain ⟨c9, iS9, hKn9⟩ := u_known (C := RX9) (T := TX9) (N := 8) (n := 8) hts in_X9 (hts _ q304)
  obtain ⟨dC, dI, hKc⟩ : ∃ (dC : Nat → ClassId) (dI : Nat → Nat → Nat), ∀ (k : Nat) (q : vw_C), vwCl[k]? = some q → u_Kn s q.1 q.2.1 q.2.2 (dC k) (dI k) := by
    refine ⟨fun k => if k = 0 then c0 else if k = 1 then c1 else if k = 2 then c2 else if k = 3 then c3 else if k = 4 then c4 else if k = 5 then c5 else if k = 6 then c6 else if k = 7 then c7 else if k = 8 then c8 else c9, fun k => if k = 0 then iS0 else if k = 1 then iS1 else if k = 2 then iS2 else if k = 3 then iS3 else if k = 4 then iS4 else if k = 5 then iS5 else if k = 6 then iS6 else if k = 7 then iS7 else if k = 8 then iS8 else iS9, ?_⟩
    intro k q hq
    match k, hq with
    | 0, hq => cases hq; exact hKn0
    | 1, hq => cases hq; exact hKn1
    | 2, hq => cases hq; exact hKn2
    | 3, hq => cases hq; exact hKn3
    | 4, hq => cases hq; exact hKn4
    | 5, hq => cases hq; exact hKn5
    | 6, hq => cases hq; exact hKn6
    | 7, hq => cases hq; exact hKn7
    | 8, hq => cases hq; exact hKn8
    | 9, hq => cases hq; exact hKn9
    | k + 10, hq => simp [vwCl] at hq
  obtain ⟨a0, hA0⟩ := lw_prim (hts _ q175) (fun c h => h)
  obtain ⟨a1, hA1⟩ := lw_prim (hts _ q176) (fun c h => h)
  obtain ⟨a2, hA2⟩ := lw_prim (hts _ q162) (fun c h => h)
  obtain ⟨a3, hA3⟩ := lw_prim (hts _ q839) (fun c h => h)
  obtain ⟨a4, hA4⟩ := lw_obj (htb _ q102)
  obtain ⟨a5, hA5⟩ := lw_obj (htb _ q163)
  obtain ⟨a6, hA6⟩ := lw_obj (htb _ q165)
  obtain ⟨ca, hca⟩ : ∃ ca : Nat → ClassId, ∀ (k : Nat) (q : ClassId × FieldType), (tyL ca)[k]? = some q → ArrOfT s q.1 q.2 ∧ va_RA s q.1 q.2 := by
    refine ⟨fun k => if k = 0 then a0 else if k = 1 then a1 else if k = 2 then a2 else if k = 3 then a3 else if k = 4 then a4 else if k = 5 then a5 else a6, ?_⟩
    intro k q hq
    match k, hq with
    | 0, hq => cases hq; exact hA0
    | 1, hq => cases hq; exact hA1
    | 2, hq => cases hq; exact hA2
    | 3, hq => cases hq; exact hA3
    | 4, hq => cases hq; exact hA4
    | 5, hq => cases hq; exact hA5
    | 6, hq => cases hq; exact hA6
    | k + 7, hq => simp [tyL] at hq
  have hK : va_K (dC, dI) vwCl (tyL ca) s := ⟨hKc, hca⟩
  obtain ⟨sk, sv, hSk, hev⟩ := vk_Sof (N := 13) (tm := txT) (len := lenJ) (byt := bytJ) (by decide) (fun i hi => hs _ (gv_ex i hi)) (fun i hi => hs _ (gv_co i hi)) (fun i hi => hs _ (gv_ar i hi)) (fun i hi => hs _ (gv_le i hi)) (fun i hi j hj => hs _ (gv_el i hi j hj)) (fun i j hi hj hij => (gv_ne i hi j hj hij).imp (hs _) (hs _)) hAh
  have hE : env sk sv (fun q : Nat => s.heap.size ≤ q) s s.heap := by
    refine ⟨hSk, fun i x hx9 => ?_, va_Zof (htb _ q473) (hts _ q80) (va_eqi (hs _ gv_cs)) hAh, va_Zqof (htb _ q489) (hts _ q82) (hs _ gv_si) hAh, vx_Zqof (htb _ q328) (hts _ q77) (hs _ gv_us) hAh, vx_Zqof (htb _ q330) (hts _ q77) (hs _ gv_ss) hAh⟩
    have hi : i < 13 := (List.getElem?_eq_some_iff.mp hx9).1
    obtain rfl := Option.some.inj (hx9.symm.trans (gv_j i hi))
    exact vk_R.of (htb _ (gv_r i hi)) (hev i hi)
  have hNC : ncE s := fun x hx9 => va_Nc.of (hs _ (gv_nc x hx9))
  have C : cx cL_law 4 ret "OmenLineLaw" (dC, dI) vwCl (tyL ca) (fun q : Nat => s.heap.size ≤ q) p c meth s m #[Value.ref b] := ⟨hx, hb, hr, hlocks, hml, hown, hts, hn, hK, hA⟩
  have hS : va_S (fun q : Nat => s.heap.size ≤ q) s.heap s.heap [] := va_S.rf
  have hP : va_P (dC, dI) vwCl [] s.heap := fun k q h => by simp at h
  have hD : va_D (fun q : Nat => s.heap.size ≤ q) [] := ⟨fun i j p q h => by simp at h, fun k q h => by simp at h⟩
  have hl := lv_entry ([.ref b]) (n := 4) (Nat.le_of_ble_eq_true rfl)
  rw [lg_entry_eq]
  generalize (lg_sl ([.ref b]) ++ List.replicate (4 - (lg_sl ([.ref b])).length) Slot.unset).toArray = ls at hl ⊢
  have hl : lv_has ls 4 [(0, .ref b)] := hl
  refine va_new (ci := 0) (fs := [.null, .null, .null, .null, .int 0, .int 0, .null, .null, .int 0, .null, .null, .null, .null, .null, .int 0, .int 0, .int 0, .int 0, .int 0, .int 0, .null, .int 0, .int 0, .long 0, .long 0, .long 0, .null, .null, .int 0]) (C := RX0) (T := TX0) (N := 29) hx hb hts in_X0 tyX0 tyX0_ok hown (hts _ q93) (hts _ q94) (hts _ q68) hK hP hD hS hA rfl (fun j hj => match j, hj with
    | 0, _ => rfl
    | 1, _ => rfl
    | 2, _ => rfl
    | 3, _ => rfl
    | 4, _ => rfl
    | 5, _ => rfl
    | 6, _ => rfl
    | 7, _ => rfl
    | 8, _ => rfl
    | 9, _ => rfl
    | 10, _ => rfl
    | 11, _ => rfl
    | 12, _ => rfl
    | 13, _ => rfl
    | 14, _ => rfl
    | 15, _ => rfl
    | 16, _ => rfl
    | 17, _ => rfl
    | 18, _ => rfl
    | 19, _ => rfl
    | 20, _ => rfl
    | 21, _ => rfl
    | 22, _ => rfl
    | 23, _ => rfl
    | 24, _ => rfl
    | 25, _ => rfl
    | 26, _ => rfl
    | 27, _ => rfl
    | 28, _ => rfl
    | j + 29, hj => absurd hj (by omega)) (Nat.le_of_ble_eq_true rfl) (Nat.le_of_ble_eq_true rfl) dL_law_0 (fun r0 H hP hD hS => ?_)
  refine lv_dup hx hb dL_law_3 rfl ?_
  have hP : va_P (dC, dI) vwCl (([] : va_W) ++ [(r0, .inr (0, [.null, .null, .null, .null, .int 0, .int 0, .null, .null, .int 0, .null, .null, .null, .null, .null, .int 0, .int 0, .int 0, .int 0, .int 0, .int 0, .null, .int 0, .int 0, .long 0, .long 0, .long 0, .null, .null, .int 0]))]) H := hP
  have hD : va_D (fun q : Nat => s.heap.size ≤ q) (([] : va_W) ++ [(r0, .inr (0, [.null, .null, .null, .null, .int 0, .int 0, .null, .null, .int 0, .null, .null, .null, .null, .null, .int 0, .int 0, .int 0, .int 0, .int 0, .int 0, .null, .int 0, .int 0, .long 0, .long 0, .long 0, .null, .null, .int 0]))]) := hD
  refine lwI_v (As := []) (rest := [.ref r0]) C (met_X0_init l (dC, dI) ca H.size r0) (cwI 0 hts (lw_meth q97) rfl rfl rfl (hts _ q68) (hts _ q95) (hts _ q96) rfl (by decide +kernel) ⟨Nat.le_of_ble_eq_true rfl, Nat.le_of_ble_eq_true rfl⟩) hP hD hS rfl rfl hl.1 (Nat.le_of_ble_eq_true rfl) dL_law_4 ⟨Nat.le_of_ble_eq_true rfl, Nat.le_of_ble_eq_true rfl⟩ (fun ad H1 locs1 hu0 hP1 hD1 hS1 => ?_)
  subst hu0
  clear hP hD hS
  have hP : va_P (dC, dI) vwCl ((oW ad ca 0 0 0 0 0 0 0 0 0 0 0 0 0 0 0 4 0 0 (fun _ => 0) (fun _ => 0) 4 0 0 (fun _ => 0) (fun _ => 0) 4 0 0 (fun _ => 0) (fun _ => 0) 4 0 0 (fun _ => 0) (fun _ => 0) (fun _ => 0) (fun _ => 0) (fun _ => 0) (fun _ => 0) (fun _ => 0) (fun _ => 0) (fun _ => 0) (fun _ => 0) (fun _ => 0) ((fun _ : Nat => (none : Option Nat)) 0) ((fun _ : Nat => (none : Option Nat)) 1) ((fun _ : Nat => (none : Option Nat)) 2) ((fun _ : Nat => (none : Option Nat)) 3)) ++ ([] : va_W)) H1 := hP1
  have hD : va_D (fun q : Nat => s.heap.size ≤ q) ((oW ad ca 0 0 0 0 0 0 0 0 0 0 0 0 0 0 0 4 0 0 (fun _ => 0) (fun _ => 0) 4 0 0 (fun _ => 0) (fun _ => 0) 4 0 0 (fun _ => 0) (fun _ => 0) 4 0 0 (fun _ => 0) (fun _ => 0) (fun _ => 0) (fun _ => 0) (fun _ => 0) (fun _ => 0) (fun _ => 0) (fun _ => 0) (fun _ => 0) (fun _ => 0) (fun _ => 0) ((fun _ : Nat => (none : Option Nat)) 0) ((fun _ : Nat => (none : Option Nat)) 1) ((fun _ : Nat => (none : Option Nat)) 2) ((fun _ : Nat => (none : Option Nat)) 3)) ++ ([] : va_W)) := hD1
  have hS := hS1
  clear hP1 hD1 hS1
  refine lv_astore_n (lv' := [(1, .ref (ad 0)), (0, .ref b)]) hx hb dL_law_7 rfl hl (by decide) rfl (fun ls hl => ?_)
  refine va_new (ci := 7) (fs := [.null, .int 0, .int 0, .null, .int 0, .null, .null, .null, .int 0, .int 0, .int 0, .int 0, .int 0, .int 0, .null, .int 0, .int 0, .int 0, .int 0, .int 0, .int 0, .int 0, .int 0, .null, .null, .null, .null, .null, .null, .null, .int 0, .int 0, .int 0, .int 0, .int 0, .int 0, .null, .int 0, .null, .int 0, .null, .null, .null, .null, .int 0]) (C := RX7) (T := TX7) (N := 45) hx hb hts in_X7 tyX7 tyX7_ok hown (hts _ q922) (hts _ q923) (hts _ q75) hK hP hD hS hA rfl (fun j hj => match j, hj with
    | 0, _ => rfl
    | 1, _ => rfl
    | 2, _ => rfl
    | 3, _ => rfl
    | 4, _ => rfl
    | 5, _ => rfl
    | 6, _ => rfl
    | 7, _ => rfl
    | 8, _ => rfl
    | 9, _ => rfl
    | 10, _ => rfl
    | 11, _ => rfl
    | 12, _ => rfl
    | 13, _ => rfl
    | 14, _ => rfl
    | 15, _ => rfl
    | 16, _ => rfl
    | 17, _ => rfl
    | 18, _ => rfl
    | 19, _ => rfl
    | 20, _ => rfl
    | 21, _ => rfl
    | 22, _ => rfl
    | 23, _ => rfl
    | 24, _ => rfl
    | 25, _ => rfl
    | 26, _ => rfl
    | 27, _ => rfl
    | 28, _ => rfl
    | 29, _ => rfl
    | 30, _ => rfl
    | 31, _ => rfl
    | 32, _ => rfl
    | 33, _ => rfl
    | 34, _ => rfl
    | 35, _ => rfl
    | 36, _ => rfl
    | 37, _ => rfl
    | 38, _ => rfl
    | 39, _ => rfl
    | 40, _ => rfl
    | 41, _ => rfl
    | 42, _ => rfl
    | 43, _ => rfl
    | 44, _ => rfl
    | j + 45, hj => absurd hj (by omega)) (Nat.le_of_ble_eq_true rfl) (Nat.le_of_ble_eq_true rfl) dL_law_8 (fun r7 H hP hD hS => ?_)
  refine lv_dup hx hb dL_law_11 rfl ?_
  have hP : va_P (dC, dI) vwCl (((oW ad ca 0 0 0 0 0 0 0 0 0 0 0 0 0 0 0 4 0 0 (fun _ => 0) (fun _ => 0) 4 0 0 (fun _ => 0) (fun _ => 0) 4 0 0 (fun _ => 0) (fun _ => 0) 4 0 0 (fun _ => 0) (fun _ => 0) (fun _ => 0) (fun _ => 0) (fun _ => 0) (fun _ => 0) (fun _ => 0) (fun _ => 0) (fun _ => 0) (fun _ => 0) (fun _ => 0) ((fun _ : Nat => (none : Option Nat)) 0) ((fun _ : Nat => (none : Option Nat)) 1) ((fun _ : Nat => (none : Option Nat)) 2) ((fun _ : Nat => (none : Option Nat)) 3)) ++ ([] : va_W)) ++ [(r7, .inr (7, [.null, .int 0, .int 0, .null, .int 0, .null, .null, .null, .int 0, .int 0, .int 0, .int 0, .int 0, .int 0, .null, .int 0, .int 0, .int 0, .int 0, .int 0, .int 0, .int 0, .int 0, .null, .null, .null, .null, .null, .null, .null, .int 0, .int 0, .int 0, .int 0, .int 0, .int 0, .null, .int 0, .null, .int 0, .null, .null, .null, .null, .int 0]))]) H := hP
  have hD : va_D (fun q : Nat => s.heap.size ≤ q) (((oW ad ca 0 0 0 0 0 0 0 0 0 0 0 0 0 0 0 4 0 0 (fun _ => 0) (fun _ => 0) 4 0 0 (fun _ => 0) (fun _ => 0) 4 0 0 (fun _ => 0) (fun _ => 0) 4 0 0 (fun _ => 0) (fun _ => 0) (fun _ => 0) (fun _ => 0) (fun _ => 0) (fun _ => 0) (fun _ => 0) (fun _ => 0) (fun _ => 0) (fun _ => 0) (fun _ => 0) ((fun _ : Nat => (none : Option Nat)) 0) ((fun _ : Nat => (none : Option Nat)) 1) ((fun _ : Nat => (none : Option Nat)) 2) ((fun _ : Nat => (none : Option Nat)) 3)) ++ ([] : va_W)) ++ [(r7, .inr (7, [.null, .int 0, .int 0, .null, .int 0, .null, .null, .null, .int 0, .int 0, .int 0, .int 0, .int 0, .int 0, .null, .int 0, .int 0, .int 0, .int 0, .int 0, .int 0, .int 0, .int 0, .null, .null, .null, .null, .null, .null, .null, .int 0, .int 0, .int 0, .int 0, .int 0, .int 0, .null, .int 0, .null, .int 0, .null, .null, .null, .null, .int 0]))]) := hD
  refine lwI_v (As := []) (rest := [.ref r7]) C (met_X7_init l (dC, dI) ca H.size r7) (cwI 0 hts (lw_meth q926) rfl rfl rfl (hts _ q75) (hts _ q924) (hts _ q925) rfl (by decide +kernel) ⟨Nat.le_of_ble_eq_true rfl, Nat.le_of_ble_eq_true rfl⟩) hP hD hS rfl rfl hl.1 (Nat.le_of_ble_eq_true rfl) dL_law_12 ⟨Nat.le_of_ble_eq_true rfl, Nat.le_of_ble_eq_true rfl⟩ (fun um H1 locs1 hu7 hP1 hD1 hS1 => ?_)
  subst hu7
  clear hP hD hS
  have hP : va_P (dC, dI) vwCl ((mW um ca 4 0 0 0 0 0 0 0 0 0 0 0 0 0 0 0 0 0 0 0 0 0 0 0 0 0 (fun _ => 0) (fun _ => 0) M0_waits (fun _ => 0) (fun _ => 0) (fun _ => 0) M0_cuts M0_letters (fun _ => 0) (fun _ => 0) (fun _ => 0) (fun _ => 0) (fun _ => 0) (fun _ => 0) (fun _ => 0) (fun _ => 0) M0_lanes (fun _ => 0) (fun _ => 0)) ++ ((oW ad ca 0 0 0 0 0 0 0 0 0 0 0 0 0 0 0 4 0 0 (fun _ => 0) (fun _ => 0) 4 0 0 (fun _ => 0) (fun _ => 0) 4 0 0 (fun _ => 0) (fun _ => 0) 4 0 0 (fun _ => 0) (fun _ => 0) (fun _ => 0) (fun _ => 0) (fun _ => 0) (fun _ => 0) (fun _ => 0) (fun _ => 0) (fun _ => 0) (fun _ => 0) (fun _ => 0) ((fun _ : Nat => (none : Option Nat)) 0) ((fun _ : Nat => (none : Option Nat)) 1) ((fun _ : Nat => (none : Option Nat)) 2) ((fun _ : Nat => (none : Option Nat)) 3)) ++ ([] : va_W))) H1 := va_P.comm hP1
  have hD : va_D (fun q : Nat => s.heap.size ≤ q) ((mW um ca 4 0 0 0 0 0 0 0 0 0 0 0 0 0 0 0 0 0 0 0 0 0 0 0 0 0 (fun _ => 0) (fun _ => 0) M0_waits (fun _ => 0) (fun _ => 0) (fun _ => 0) M0_cuts M0_letters (fun _ => 0) (fun _ => 0) (fun _ => 0) (fun _ => 0) (fun _ => 0) (fun _ => 0) (fun _ => 0) (fun _ => 0) M0_lanes (fun _ => 0) (fun _ => 0)) ++ ((oW ad ca 0 0 0 0 0 0 0 0 0 0 0 0 0 0 0 4 0 0 (fun _ => 0) (fun _ => 0) 4 0 0 (fun _ => 0) (fun _ => 0) 4 0 0 (fun _ => 0) (fun _ => 0) 4 0 0 (fun _ => 0) (fun _ => 0) (fun _ => 0) (fun _ => 0) (fun _ => 0) (fun _ => 0) (fun _ => 0) (fun _ => 0) (fun _ => 0) (fun _ => 0) (fun _ => 0) ((fun _ : Nat => (none : Option Nat)) 0) ((fun _ : Nat => (none : Option Nat)) 1) ((fun _ : Nat => (none : Option Nat)) 2) ((fun _ : Nat => (none : Option Nat)) 3)) ++ ([] : va_W))) := va_D.comm hD1
  have hS := hS1
  refine lv_astore_n (lv' := [(2, .ref (um 0)), (1, .ref (ad 0)), (0, .ref b)]) hx hb dL_law_15 rfl hl (by decide) rfl (fun ls hl => ?_)
  refine lv_iconst (v := 0) hx hb dL_law_16 (by decide) ?_
  refine lv_istore_n (lv' := [(3, .int 0), (2, .ref (um 0)), (1, .ref (ad 0)), (0, .ref b)]) hx hb dL_law_17 rfl hl (by decide) rfl (fun ls hl => ?_)
  refine W.widen (k := 60 + 6 * 0) (n := 3000 + 1010 * 0) (by decide) (by decide) ?_
  exact law_loop hst C hE hNC hX hbl hbA hL (fun q h => h) hG 64 0 rfl h0 ⟨fun k => k, fun k _ => rfl, fun k k9 _ _ h => absurd rfl h⟩ hP hD hS ls (lv_sub hl [3, 2, 1, 0] rfl)
