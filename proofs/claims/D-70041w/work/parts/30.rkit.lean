set_option maxRecDepth 100000
/-! OWN ROWS 5: for the reader of texts -/
section WC5
variable {p : Program} {l : Launch} {e : Env} {R : Room} {s : State} {m : MethodId} {args : Array Value} {below : List Frame} {meth : Method} {c : Code} {H : Heap} {locs : List Loc} {cells slots : Nat} {Z : State → Prop}
variable {D : va_G} {cl : List vw_C} {tys : List (ClassId × FieldType)} {A : Nat → Prop} {cc : ByteArray} {nL : Nat} {ret0 : Option FieldType} {own : String} {pc : Nat} {ls : Array Slot} {st0 : List Value}
variable {y : MethodName} {bytes : ByteArray} {maxL mc ms n index : Nat} {ret : Option FieldType} {ws' : List Cond} {rm : Room} {C0 : String} {b : Nat} {ws wc X pl : va_W}
variable {sk sv : Nat → Nat}
theorem wc_Nik {S : Type} {post : Int32 → S → Prop} {As rest : List Value} (C : cx cc nL ret0 own D cl tys A p c meth s m args) (hM : Met l y ws' rm (va_Pc As (wpre D cl tys wc H.size)) (va_Qi post (wpost D cl (va_A wc H.size) (fun _ => wc)) (va_A wc H.size)) mc ms (va_A wc H.size)) {host : String} (cw : va_CN R s args own index y host bytes maxL ret ws' rm mc ms n ∧ (Cond.static y).before args s = true ∧ True) (hP : va_P D cl ws H) (hD : va_D A ws) (hS : va_S A s.heap H locs) (isC : List Nat) (hC : isC.map (fun i => ws[i]?) = wc.map some) (hnC : va_nd isC = true) (hn : As.length = n) (hst : st0 = As.reverse ++ rest) (hsz : ls.size = nL) (hrm : (rest.map fun v => v.category).sum ≤ 8) (hdg : decode cc pc = .ok (.invokestatic index, 3)) (hf : cells + mc ≤ R.cells ∧ slots + ms ≤ R.slots)
    (kk : ∀ (r : Int32) (u : S) (H1 : Heap) (locs1 : List Loc), post r u → va_P D cl ws H1 → va_D A ws → va_S A s.heap H1 locs1 → W p l e R s m args below meth c H1 locs1 (cells + mc) (slots + ms) Z (F0 m (pc + 3) ls (.int r :: rest))) : W p l e R s m args below meth c H locs cells slots Z (F0 m pc ls st0) := by
  have hF : ∀ q, va_A wc H.size q → A q := va_free hD hS C.2.2.2.2.2.2.2.2.2 isC hC
  refine va_calli (va_runSN (As := As) (rest := rest) ⟨C.1, C.2.1, C.2.2.2.2.1, C.2.2.2.2.2.1, C.2.2.2.2.2.2.1⟩ hM cw ⟨wpre_blind, wc_pre C hP hD hC hnC As⟩ rfl hn hsz hst (lv_room hrm) hdg hf) hS (fun q _ h => hF q h) hF (fun r u t H1 locs1 ht hvm hw hB hz1 hk1 hS1 => ?_)
  obtain ⟨hP1, hD1⟩ := hB
  rw [ht] at hP1
  exact kk r u H1 locs1 hw (wc_keep hP hD hC hk1 hP1) hD hS1
theorem wcE_Ivs {S : Type} {post : S → Prop} {w1 : S → va_W} {As rest : List Value} (C : cx cc nL ret0 own D cl tys A p c meth s m args) (hE : env sk sv A s s.heap) (hM : Met l y ws' rm (va_Pc (.ref b :: As) (wpreE D cl tys sk sv wc H.size)) (va_Qv post (wpost D cl (va_A wc H.size) w1) (va_A wc H.size)) mc ms (va_A wc H.size)) (cw : CallB R s args own index y bytes maxL none ws' rm mc ms n ∧ y.name = "<init>" ∧ (Cond.instanceMethod y).before args s = true) (hP : va_P D cl ws H) (hD : va_D A ws) (hS : va_S A s.heap H locs) (isC isR : List Nat) (hC : isC.map (fun i => ws[i]?) = wc.map some) (hR : isR.all (fun i => Nat.blt i ws.length) = true) (hnC : va_nd isC = true) (hnR : va_nd isR = true) (hdis : ∀ i ∈ isR, i ∉ isC) (hn : As.length = n) (hst : st0 = As.reverse ++ .ref b :: rest) (hsz : ls.size = nL) (hrm : (rest.map fun v => v.category).sum ≤ 8) (hdg : decode cc pc = .ok (.invokespecial index, 3)) (hf : cells + mc ≤ R.cells ∧ slots + ms ≤ R.slots)
    (kk : ∀ (u : S) (H1 : Heap) (locs1 : List Loc), post u → va_P D cl (isR.filterMap (fun i => ws[i]?) ++ w1 u) H1 → va_D A (isR.filterMap (fun i => ws[i]?) ++ w1 u) → va_S A s.heap H1 locs1 → W p l e R s m args below meth c H1 locs1 (cells + mc) (slots + ms) Z (F0 m (pc + 3) ls rest)) : W p l e R s m args below meth c H locs cells slots Z (F0 m pc ls st0) := by
  have hF : ∀ q, va_A wc H.size q → A q := va_free hD hS C.2.2.2.2.2.2.2.2.2 isC hC
  refine va_callv (va_runI (As := As) (rest := rest) ⟨C.1, C.2.1, C.2.2.2.2.1, C.2.2.2.2.2.1, C.2.2.2.2.2.2.1⟩ hM cw ⟨wpreE_blind, wcE_pre C hE hP hD hS hC hnC (.ref b :: As)⟩ rfl hn hsz hst (lv_room hrm) hdg hf) hS (fun q _ h => hF q h) hF (fun u t H1 locs1 ht hvm hw hB hz1 hk1 hS1 => ?_)
  obtain ⟨hP1, hD1⟩ := hB
  rw [ht] at hP1
  obtain ⟨hP2, hD2⟩ := va_join hP hD isC isR hC (wc_R hR) hnR hdis hk1 hF hP1 hD1
  exact kk u H1 locs1 hw hP2 hD2 hS1
theorem flt_cell {x y : Int32} {qn : Nat} {keep : va_W} (hK : va_K D vwCl tys s) (hP : va_P D vwCl ((qn, flt x y) :: keep) H) : ∃ ce : Cell, H[qn]? = some ce ∧ ce.vm = .none ∧ s.vm.findClass "OmenLine$Fault" = some ce.cls := by
  obtain ⟨q', h1, cell, g1, g2, g3, -⟩ := hP 0 _ rfl
  cases h1
  exact ⟨cell, g1, g3, by rw [g2]; exact (hK.1 9 _ rfl).2.1⟩
end WC5
