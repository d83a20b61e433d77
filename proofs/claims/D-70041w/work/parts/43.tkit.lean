set_option maxRecDepth 100000
/-! OWN ROWS 7: calls that may throw, in a method that made cells before; in a method that catches, beside a pool -/
section WC7
variable {p : Program} {l : Launch} {e : Env} {R : Room} {s : State} {m : MethodId} {args : Array Value} {below : List Frame} {meth : Method} {c : Code} {H : Heap} {locs : List Loc} {cells slots : Nat} {Z : State → Prop}
variable {D : va_G} {cl : List vw_C} {tys : List (ClassId × FieldType)} {A : Nat → Prop} {cc : ByteArray} {nL : Nat} {ret0 : Option FieldType} {own : String} {pc : Nat} {ls : Array Slot} {st0 : List Value}
variable {y : MethodName} {bytes : ByteArray} {maxL mc ms n index : Nat} {ret : Option FieldType} {ws' : List Cond} {rm : Room} {C0 : String} {b : Nat} {ws wc X pl : va_W}
variable {sk sv : Nat → Nat} {X0 pl : va_W} {nc ns : Nat}
theorem wy_Gv {S : Type} {post : S → Prop} {w1 : S → va_W} {As rest : List Value} {ci : Nat} {fs : List Value} {q : vw_C} {X : Int32 → Int32 → Prop} {keep : va_W} (C : cx cc nL ret0 own D cl tys A p c meth s m args) (hE : env sk sv A s s.heap) (hnh : ∀ x ∈ c.exceptionTable.toList, False) (hX : ∃ Qc : Array Value → State → Outcome → State → Prop, Z = vy_MQ below Qc (vx_X (fun (u : Int32 × Int32) => X u.1 u.2) (fltB D cl keep A) A) args s nc ns mc ms A) (hM : vy_Met l y ws' rm (va_Pc (.ref b :: As) (wpreE D cl tys sk sv ws H.size)) (va_Qv post (wpost D cl (va_A ws H.size) w1) (va_A ws H.size)) (vx_X (fun (u : Int32 × Int32) => X u.1 u.2) (fltB D cl keep (va_A ws H.size)) (va_A ws H.size)) 0 0 1 8 (va_A ws H.size)) (cw : CallW R s args own q.1 index y bytes maxL ret ws' rm 1 8 n) (hP : va_P D cl ws H) (hD : va_D A ws) (hS : va_S A s.heap H locs) (q0 : Nat) (he : ws[q0]? = some (b, .inr (ci, fs))) (hc : cl[ci]? = some q) (hn : As.length = n) (hst : st0 = As.reverse ++ .ref b :: rest) (hsz : ls.size = nL) (hrm : (rest.map fun v => v.category).sum ≤ 8) (hdg : decode cc pc = .ok (.invokevirtual index, 3)) (hf : cells + 1 ≤ R.cells ∧ slots + 8 ≤ R.slots) (hcm : cells + 1 ≤ mc) (hsm : slots + 8 ≤ ms)
    (kk : ∀ (u : S) (H1 : Heap) (locs1 : List Loc), post u → va_P D cl (w1 u) H1 → va_D A (w1 u) → va_S A s.heap H1 locs1 → W p l e R s m args below meth c H1 locs1 cells slots Z (F0 m (pc + 3) ls (rest))) : W p l e R s m args below meth c H locs cells slots Z (F0 m pc ls st0) := by
  obtain ⟨Qc, hZ⟩ := hX
  have hF : ∀ q, va_A ws H.size q → A q := va_free hD hS C.2.2.2.2.2.2.2.2.2 (List.range ws.length) (wc_self ws)
  refine vy_callv (vy_runV (As := As) (rest := rest) ⟨C.1, C.2.1, C.2.2.2.2.1, C.2.2.2.2.2.1, C.2.2.2.2.2.2.1⟩ hM cw ⟨wpreE_blind, va_recv C.2.2.2.2.2.2.2.2.1 hP hc he, wcE_pre C hE hP hD hS (wc_self ws) (wc_nd ws.length) (.ref b :: As)⟩ rfl hn hsz hst (lv_room hrm) hdg hf) hS (fun q _ h => hF q h) hF (fun q _ h => hF q h) (fun E ce q9 u t H1 locs1 ht hvm hpx hbx hz hk hS1 hcell hv hcl => ?_) (fun u t H1 locs1 ht hvm hw hB hz1 hk1 hS1 => ?_)
  · rw [hZ]
    obtain ⟨hE1, hP1, hD1⟩ := hbx
    rw [ht] at hP1
    exact vy_out (fun x hx => (hnh x hx).elim) C.2.2.2.1 hcell hv hcl (fun t' ht' hvm' => ⟨u, hpx, ⟨hE1, by rw [ht']; exact hP1, hD1.weaken (fun k q _ h => hF q.1 h)⟩, hS1.F ht'⟩) hS1.2.2 hcm hsm
  · obtain ⟨hP1, hD1⟩ := hB
    rw [ht] at hP1
    exact kk u H1 locs1 hw hP1 (hD1.weaken (fun k q _ h => hF q.1 h)) hS1
theorem wz_Ivp {S : Type} {post : S → Prop} {w1 : S → va_W} {As rest : List Value} {X : Int32 → Int32 → Prop} {keep : va_W} (C : cx cc nL ret0 own D cl tys A p c meth s m args) (hE : env sk sv A s s.heap) (hM : vy_Met l y ws' rm (va_Pc (.ref b :: As) (wpreE D cl tys sk sv wc H.size)) (va_Qv post (wpost D cl (va_A wc H.size) w1) (va_A wc H.size)) (vx_X (fun (u : Int32 × Int32) => X u.1 u.2) (fltB D cl keep (va_A wc H.size)) (va_A wc H.size)) nc ns mc ms (va_A wc H.size)) (cw : CallB R s args own index y bytes maxL none ws' rm mc ms n ∧ y.name = "<init>" ∧ (Cond.instanceMethod y).before args s = true) (hP : va_P D cl (X0 ++ pl) H) (hD : va_D A (X0 ++ pl)) (hS : va_S A s.heap H locs) (isC isR : List Nat) (hC : isC.map (fun i => X0[i]?) = wc.map some) (hR : isR.all (fun i => Nat.blt i X0.length) = true) (hnC : va_nd isC = true) (hnR : va_nd isR = true) (hdis : ∀ i ∈ isR, i ∉ isC) (hn : As.length = n) (hst : st0 = As.reverse ++ .ref b :: rest) (hsz : ls.size = nL) (hrm : (rest.map fun v => v.category).sum ≤ 8) (hdg : decode cc pc = .ok (.invokespecial index, 3)) (hf : cells + mc ≤ R.cells ∧ slots + ms ≤ R.slots)
    (kx : ∀ (x y : Int32) (ce : Cell) (q9 : Nat) (H1 : Heap) (locs1 : List Loc), X x y → va_P D cl ((isR.filterMap (fun i => X0[i]?) ++ ((q9, flt x y) :: keep)) ++ pl) H1 → va_D A ((isR.filterMap (fun i => X0[i]?) ++ ((q9, flt x y) :: keep)) ++ pl) → va_S A s.heap H1 locs1 → H1[q9]? = some ce → ce.vm = .none → s.vm.findClass "OmenLine$Fault" = some ce.cls → vx_W p l e R s m args below meth c H1 locs1 (cells + mc) (slots + ms) Z (F0 m pc ls rest) q9)
    (kk : ∀ (u : S) (H1 : Heap) (locs1 : List Loc), post u → va_P D cl ((isR.filterMap (fun i => X0[i]?) ++ w1 u) ++ pl) H1 → va_D A ((isR.filterMap (fun i => X0[i]?) ++ w1 u) ++ pl) → va_S A s.heap H1 locs1 → W p l e R s m args below meth c H1 locs1 (cells + nc) (slots + ns) Z (F0 m (pc + 3) ls (rest))) : W p l e R s m args below meth c H locs cells slots Z (F0 m pc ls st0) := by
  have hC2 := wc_up (pl := pl) hC
  have hF : ∀ q, va_A wc H.size q → A q := va_free hD hS C.2.2.2.2.2.2.2.2.2 isC hC2
  have hlt : ∀ i ∈ isR, i < X0.length := fun i hi => Nat.le_of_ble_eq_true (List.all_eq_true.mp hR i hi)
  have hdis2 : ∀ i ∈ isR ++ List.range' X0.length pl.length, i ∉ isC := fun i hi hic => by
    rcases List.mem_append.mp hi with h | h
    · exact hdis i h hic
    · have h1 := List.mem_range'_1.mp h
      have h2 := wc_lt hC i hic
      omega
  have hR2 : (isR ++ List.range' X0.length pl.length).map (fun i => (X0 ++ pl)[i]?) = (isR.filterMap (fun i => X0[i]?) ++ pl).map some := by rw [List.map_append, List.map_append, wc_up (wc_R hR), wc_rg]
  refine vy_callv (vy_runI (As := As) (rest := rest) ⟨C.1, C.2.1, C.2.2.2.2.1, C.2.2.2.2.2.1, C.2.2.2.2.2.2.1⟩ hM cw ⟨wpreE_blind, wcE_pre C hE hP hD hS hC2 hnC (.ref b :: As)⟩ rfl hn hsz hst (lv_room hrm) hdg hf) hS (fun q _ h => hF q h) hF (fun q _ h => hF q h) (fun E ce q9 u t H1 locs1 ht hvm hpx hbx hz hk hS1 hcell hv hcl => ?_) (fun u t H1 locs1 ht hvm hw hB hz1 hk1 hS1 => ?_)
  · obtain ⟨hE1, hP1, hD1⟩ := hbx
    rw [ht] at hP1
    obtain ⟨hP2, hD2⟩ := va_join (wr := isR.filterMap (fun i => X0[i]?) ++ pl) hP hD isC (isR ++ List.range' X0.length pl.length) hC2 hR2 (wc_nda _ _ hnR hlt) hdis2 hk hF hP1 hD1
    exact kx u.1 u.2 ce q9 H1 locs1 hpx (va_P.swap hP2) (va_D.swap hD2) hS1 hcell hv (by rw [← hE1]; exact hcl)
  · obtain ⟨hP1, hD1⟩ := hB
    rw [ht] at hP1
    obtain ⟨hP2, hD2⟩ := va_join (wr := isR.filterMap (fun i => X0[i]?) ++ pl) hP hD isC (isR ++ List.range' X0.length pl.length) hC2 hR2 (wc_nda _ _ hnR hlt) hdis2 hk1 hF hP1 hD1
    exact kk u H1 locs1 hw (va_P.swap hP2) (va_D.swap hD2) hS1
theorem wz_Vip {S : Type} {post : Int32 → S → Prop} {w1 : S → va_W} {As rest : List Value} {ci : Nat} {fs : List Value} {q : vw_C} {X : Int32 → Int32 → Prop} {keep : va_W} (C : cx cc nL ret0 own D cl tys A p c meth s m args) (hE : env sk sv A s s.heap) (hM : vy_Met l y ws' rm (va_Pc (.ref b :: As) (wpreE D cl tys sk sv wc H.size)) (va_Qi post (wpost D cl (va_A wc H.size) w1) (va_A wc H.size)) (vx_X (fun (u : Int32 × Int32) => X u.1 u.2) (fltB D cl keep (va_A wc H.size)) (va_A wc H.size)) nc ns mc ms (va_A wc H.size)) (cw : CallW R s args own q.1 index y bytes maxL ret ws' rm mc ms n) (hP : va_P D cl (X0 ++ pl) H) (hD : va_D A (X0 ++ pl)) (hS : va_S A s.heap H locs) (isC isR : List Nat) (hC : isC.map (fun i => X0[i]?) = wc.map some) (hR : isR.all (fun i => Nat.blt i X0.length) = true) (hnC : va_nd isC = true) (hnR : va_nd isR = true) (hdis : ∀ i ∈ isR, i ∉ isC) (q0 : Nat) (he : (X0 ++ pl)[q0]? = some (b, .inr (ci, fs))) (hc : cl[ci]? = some q) (hn : As.length = n) (hst : st0 = As.reverse ++ .ref b :: rest) (hsz : ls.size = nL) (hrm : (rest.map fun v => v.category).sum ≤ 8) (hdg : decode cc pc = .ok (.invokevirtual index, 3)) (hf : cells + mc ≤ R.cells ∧ slots + ms ≤ R.slots)
    (kx : ∀ (x y : Int32) (ce : Cell) (q9 : Nat) (H1 : Heap) (locs1 : List Loc), X x y → va_P D cl ((isR.filterMap (fun i => X0[i]?) ++ ((q9, flt x y) :: keep)) ++ pl) H1 → va_D A ((isR.filterMap (fun i => X0[i]?) ++ ((q9, flt x y) :: keep)) ++ pl) → va_S A s.heap H1 locs1 → H1[q9]? = some ce → ce.vm = .none → s.vm.findClass "OmenLine$Fault" = some ce.cls → vx_W p l e R s m args below meth c H1 locs1 (cells + mc) (slots + ms) Z (F0 m pc ls rest) q9)
    (kk : ∀ (r : Int32) (u : S) (H1 : Heap) (locs1 : List Loc), post r u → va_P D cl ((isR.filterMap (fun i => X0[i]?) ++ w1 u) ++ pl) H1 → va_D A ((isR.filterMap (fun i => X0[i]?) ++ w1 u) ++ pl) → va_S A s.heap H1 locs1 → W p l e R s m args below meth c H1 locs1 (cells + nc) (slots + ns) Z (F0 m (pc + 3) ls (.int r :: rest))) : W p l e R s m args below meth c H locs cells slots Z (F0 m pc ls st0) := by
  have hC2 := wc_up (pl := pl) hC
  have hF : ∀ q, va_A wc H.size q → A q := va_free hD hS C.2.2.2.2.2.2.2.2.2 isC hC2
  have hlt : ∀ i ∈ isR, i < X0.length := fun i hi => Nat.le_of_ble_eq_true (List.all_eq_true.mp hR i hi)
  have hdis2 : ∀ i ∈ isR ++ List.range' X0.length pl.length, i ∉ isC := fun i hi hic => by
    rcases List.mem_append.mp hi with h | h
    · exact hdis i h hic
    · have h1 := List.mem_range'_1.mp h
      have h2 := wc_lt hC i hic
      omega
  have hR2 : (isR ++ List.range' X0.length pl.length).map (fun i => (X0 ++ pl)[i]?) = (isR.filterMap (fun i => X0[i]?) ++ pl).map some := by rw [List.map_append, List.map_append, wc_up (wc_R hR), wc_rg]
  refine vy_calli (vy_runV (As := As) (rest := rest) ⟨C.1, C.2.1, C.2.2.2.2.1, C.2.2.2.2.2.1, C.2.2.2.2.2.2.1⟩ hM cw ⟨wpreE_blind, va_recv C.2.2.2.2.2.2.2.2.1 hP hc he, wcE_pre C hE hP hD hS hC2 hnC (.ref b :: As)⟩ rfl hn hsz hst (lv_room hrm) hdg hf) hS (fun q _ h => hF q h) hF (fun q _ h => hF q h) (fun E ce q9 u t H1 locs1 ht hvm hpx hbx hz hk hS1 hcell hv hcl => ?_) (fun r u t H1 locs1 ht hvm hw hB hz1 hk1 hS1 => ?_)
  · obtain ⟨hE1, hP1, hD1⟩ := hbx
    rw [ht] at hP1
    obtain ⟨hP2, hD2⟩ := va_join (wr := isR.filterMap (fun i => X0[i]?) ++ pl) hP hD isC (isR ++ List.range' X0.length pl.length) hC2 hR2 (wc_nda _ _ hnR hlt) hdis2 hk hF hP1 hD1
    exact kx u.1 u.2 ce q9 H1 locs1 hpx (va_P.swap hP2) (va_D.swap hD2) hS1 hcell hv (by rw [← hE1]; exact hcl)
  · obtain ⟨hP1, hD1⟩ := hB
    rw [ht] at hP1
    obtain ⟨hP2, hD2⟩ := va_join (wr := isR.filterMap (fun i => X0[i]?) ++ pl) hP hD isC (isR ++ List.range' X0.length pl.length) hC2 hR2 (wc_nda _ _ hnR hlt) hdis2 hk1 hF hP1 hD1
    exact kk r u H1 locs1 hw (va_P.swap hP2) (va_D.swap hD2) hS1
end WC7
theorem met_ofH {l : Launch} {y : MethodName} {rm : Room} {D : va_G} {cl : List vw_C} {tys : List (ClassId × FieldType)} {sk sv : Nat → Nat} {ws : va_W} {sz : Nat} {av : List Value} (Qc : (Nat → Prop) → Array Value → State → Outcome → State → Prop) (XC : (Nat → Prop) → String → Addr → State → State → Prop) {cc : ByteArray} {nL mc ms : Nat} {ret : Option FieldType} {hh : List (Nat × Nat × Nat × Nat)}
    (hy : plainName y.cls = true) (hsl : (lg_sl av).length ≤ nL)
    (body : ∀ (p : Program) (e : Env) (s : State) (m : MethodId) (args : Array Value) (below : List Frame) (meth : Method) (c : Code) (Z : State → Prop) (A : Nat → Prop), Z = vx_MQ below (Qc A) (XC A) args s mc ms A → cx cc nL ret y.cls D cl tys A p c meth s m args → env sk sv A s s.heap → c.exceptionTable.toList = tableOf hh → meth.name = y.name → ∀ (H : Heap) (locs : List Loc), va_P D cl ws H → va_D A ws → va_S A s.heap H locs → ∀ ls : Array Slot, lv_has ls nL (lv_args 0 av) →
      W p l e rm s m args below meth c H locs 0 0 Z (F0 m 0 ls [])) : vx_Met l y (wsW_ y cc nL ret hh) rm (va_Pc av (wpreE D cl tys sk sv ws sz)) (Qc (va_A ws sz)) (XC (va_A ws sz)) mc ms (va_A ws sz) := by
  refine vx_ofWH (hh := hh) (cc := cc) (maxL := nL) (ret := ret) hy rfl ?_
  intro p e s m args below meth c s₁ B hml hv
  obtain ⟨rfl, ⟨hsz, hP, hK, hD0, hn⟩, hE⟩ := hv
  subst hsz
  have hts := atoms_spec (ws := wsW_ y cc nL ret hh) B.pre
  have hnh : c.exceptionTable.toList = tableOf hh := vx_table (x := y) B (hts _ List.mem_cons_self)
  have hts : ∀ w ∈ lw_all, w.before av.toArray s = true := fun w h => hts w (List.mem_cons_of_mem _ h)
  have hl := lv_entry av (n := nL) hsl
  rw [lg_entry_eq]
  generalize (lg_sl av ++ List.replicate (nL - (lg_sl av).length) Slot.unset).toArray = ls at hl ⊢
  exact body p e s m av.toArray below meth c _ _ rfl ⟨B.exec, B.bytes, B.returns, B.notSynchronized, hml, findClass_of_methodNamed B.named, hts, hn, hK, fun q h => Or.inr h⟩ hE hnh (name_of_methodNamed B.named B.method).1 _ _ hP hD0.self va_S.rf ls hl
/-- nothing leaves it by being thrown -/
theorem met_ofN {l : Launch} {y : MethodName} {ws : List Cond} {rm : Room} {Pc : Array Value → State → Prop} {Qc : Array Value → State → Outcome → State → Prop} {mc ms : Nat} {free : Addr → Prop} (h : vx_Met l y ws rm Pc Qc (fun _ _ _ _ => False) mc ms free) : Met l y ws rm Pc Qc mc ms free := by
  intro p e ha hc hk s m args below hf happ hp ht
  obtain ⟨k, o, h1, h2, h3, hQ⟩ := h p e ha hc hk s m args below hf happ hp ht
  refine ⟨k, o, h1, h2, h3, ?_⟩
  rcases hQ with h | ⟨q, -, E, ce, L, hx, -⟩
  · exact h
  · exact hx.elim
