set_option maxRecDepth 100000
/-! OWN ROWS 10: calls in a world of two parts -/
theorem va_P.comm {D : va_G} {cl : List vw_C} {a b : va_W} {H : Heap} (h : va_P D cl (a ++ b) H) : va_P D cl (b ++ a) H := va_P.swap (a := []) h
theorem va_D.comm {A : Nat → Prop} {a b : va_W} (h : va_D A (a ++ b)) : va_D A (b ++ a) := va_D.swap (a := []) h
section WL1
variable {p : Program} {l : Launch} {e : Env} {R : Room} {s : State} {m : MethodId} {args : Array Value} {below : List Frame} {meth : Method} {c : Code} {H : Heap} {locs : List Loc} {cells slots : Nat} {Z : State → Prop}
variable {D : va_G} {cl : List vw_C} {tys : List (ClassId × FieldType)} {A : Nat → Prop} {cc : ByteArray} {nL : Nat} {ret0 : Option FieldType} {own : String} {pc : Nat} {ls : Array Slot} {st0 : List Value}
variable {y : MethodName} {bytes : ByteArray} {maxL mc ms n index : Nat} {ret : Option FieldType} {ws' : List Cond} {rm : Room} {C0 : String} {b : Nat} {X Y : va_W} {sk sv : Nat → Nat} {hh : List (Nat × Nat × Nat × Nat)}
theorem lwO_i {S : Type} {post : Int32 → S → Prop} {w1 : S → va_W} {As rest : List Value} {ci : Nat} {fs : List Value} {q : vw_C} (C : cx cc nL ret0 own D cl tys A p c meth s m args) (hM : Met l y ws' rm (va_Pc (.ref b :: As) (wpre D cl tys Y H.size)) (va_Qi post (wpost D cl (va_A Y H.size) w1) (va_A Y H.size)) mc ms (va_A Y H.size)) (cw : CallW R s args own q.1 index y bytes maxL ret ws' rm mc ms n) (hP : va_P D cl (X ++ Y) H) (hD : va_D A (X ++ Y)) (hS : va_S A s.heap H locs) (q0 : Nat) (he : (X ++ Y)[q0]? = some (b, .inr (ci, fs))) (hc : cl[ci]? = some q) (hn : As.length = n) (hst : st0 = As.reverse ++ .ref b :: rest) (hsz : ls.size = nL) (hrm : (rest.map fun v => v.category).sum ≤ 8) (hdg : decode cc pc = .ok (.invokevirtual index, 3)) (hf : cells + mc ≤ R.cells ∧ slots + ms ≤ R.slots)
    (kk : ∀ (r : Int32) (u : S) (H1 : Heap) (locs1 : List Loc), post r u → va_P D cl (X ++ w1 u) H1 → va_D A (X ++ w1 u) → va_S A s.heap H1 locs1 → W p l e R s m args below meth c H1 locs1 (cells + mc) (slots + ms) Z (F0 m (pc + 3) ls (.int r :: rest))) : W p l e R s m args below meth c H locs cells slots Z (F0 m pc ls st0) := by
  have hC : (List.range' X.length Y.length).map (fun i => (X ++ Y)[i]?) = Y.map some := wc_rg
  have hR : (List.range X.length).map (fun i => (X ++ Y)[i]?) = X.map some := wc_up (wc_self X)
  have hnC : va_nd (List.range' X.length Y.length) = true := wc_ndr _ _
  have hF : ∀ q, va_A Y H.size q → A q := va_free hD hS C.2.2.2.2.2.2.2.2.2 (List.range' X.length Y.length) hC
  refine va_calli (va_runV (As := As) (rest := rest) ⟨C.1, C.2.1, C.2.2.2.2.1, C.2.2.2.2.2.1, C.2.2.2.2.2.2.1⟩ hM cw ⟨wpre_blind, va_recv C.2.2.2.2.2.2.2.2.1 hP hc he, wc_pre C hP hD hC hnC (.ref b :: As)⟩ rfl hn hsz hst (lv_room hrm) hdg hf) hS (fun q _ h => hF q h) hF (fun r u t H1 locs1 ht hvm hw hB hz1 hk1 hS1 => ?_)
  obtain ⟨hP1, hD1⟩ := hB
  rw [ht] at hP1
  obtain ⟨hP2, hD2⟩ := va_join hP hD (List.range' X.length Y.length) (List.range X.length) hC hR (wc_nd _) (fun i hi hic => by have h1 := List.mem_range'_1.mp hic; have h2 := List.mem_range.mp hi; omega) hk1 hF hP1 hD1
  exact kk r u H1 locs1 hw hP2 hD2 hS1
theorem lwO_l {S : Type} {post : Int64 → S → Prop} {w1 : S → va_W} {As rest : List Value} {ci : Nat} {fs : List Value} {q : vw_C} (C : cx cc nL ret0 own D cl tys A p c meth s m args) (hM : Met l y ws' rm (va_Pc (.ref b :: As) (wpre D cl tys Y H.size)) (va_Ql post (wpost D cl (va_A Y H.size) w1) (va_A Y H.size)) mc ms (va_A Y H.size)) (cw : CallW R s args own q.1 index y bytes maxL ret ws' rm mc ms n) (hP : va_P D cl (X ++ Y) H) (hD : va_D A (X ++ Y)) (hS : va_S A s.heap H locs) (q0 : Nat) (he : (X ++ Y)[q0]? = some (b, .inr (ci, fs))) (hc : cl[ci]? = some q) (hn : As.length = n) (hst : st0 = As.reverse ++ .ref b :: rest) (hsz : ls.size = nL) (hrm : (rest.map fun v => v.category).sum ≤ 8) (hdg : decode cc pc = .ok (.invokevirtual index, 3)) (hf : cells + mc ≤ R.cells ∧ slots + ms ≤ R.slots)
    (kk : ∀ (r : Int64) (u : S) (H1 : Heap) (locs1 : List Loc), post r u → va_P D cl (X ++ w1 u) H1 → va_D A (X ++ w1 u) → va_S A s.heap H1 locs1 → W p l e R s m args below meth c H1 locs1 (cells + mc) (slots + ms) Z (F0 m (pc + 3) ls (.long r :: rest))) : W p l e R s m args below meth c H locs cells slots Z (F0 m pc ls st0) := by
  have hC : (List.range' X.length Y.length).map (fun i => (X ++ Y)[i]?) = Y.map some := wc_rg
  have hR : (List.range X.length).map (fun i => (X ++ Y)[i]?) = X.map some := wc_up (wc_self X)
  have hnC : va_nd (List.range' X.length Y.length) = true := wc_ndr _ _
  have hF : ∀ q, va_A Y H.size q → A q := va_free hD hS C.2.2.2.2.2.2.2.2.2 (List.range' X.length Y.length) hC
  refine va_calll (va_runV (As := As) (rest := rest) ⟨C.1, C.2.1, C.2.2.2.2.1, C.2.2.2.2.2.1, C.2.2.2.2.2.2.1⟩ hM cw ⟨wpre_blind, va_recv C.2.2.2.2.2.2.2.2.1 hP hc he, wc_pre C hP hD hC hnC (.ref b :: As)⟩ rfl hn hsz hst (lv_room hrm) hdg hf) hS (fun q _ h => hF q h) hF (fun r u t H1 locs1 ht hvm hw hB hz1 hk1 hS1 => ?_)
  obtain ⟨hP1, hD1⟩ := hB
  rw [ht] at hP1
  obtain ⟨hP2, hD2⟩ := va_join hP hD (List.range' X.length Y.length) (List.range X.length) hC hR (wc_nd _) (fun i hi hic => by have h1 := List.mem_range'_1.mp hic; have h2 := List.mem_range.mp hi; omega) hk1 hF hP1 hD1
  exact kk r u H1 locs1 hw hP2 hD2 hS1
theorem lwO_iE {S : Type} {post : Int32 → S → Prop} {w1 : S → va_W} {As rest : List Value} {ci : Nat} {fs : List Value} {q : vw_C} (C : cx cc nL ret0 own D cl tys A p c meth s m args) (hE : env sk sv A s s.heap) (hM : Met l y ws' rm (va_Pc (.ref b :: As) (wpreE D cl tys sk sv Y H.size)) (va_Qi post (wpost D cl (va_A Y H.size) w1) (va_A Y H.size)) mc ms (va_A Y H.size)) (cw : vx_CVW R s args own q.1 index y bytes maxL ret hh ws' rm mc ms n) (hP : va_P D cl (X ++ Y) H) (hD : va_D A (X ++ Y)) (hS : va_S A s.heap H locs) (q0 : Nat) (he : (X ++ Y)[q0]? = some (b, .inr (ci, fs))) (hc : cl[ci]? = some q) (hn : As.length = n) (hst : st0 = As.reverse ++ .ref b :: rest) (hsz : ls.size = nL) (hrm : (rest.map fun v => v.category).sum ≤ 8) (hdg : decode cc pc = .ok (.invokevirtual index, 3)) (hf : cells + mc ≤ R.cells ∧ slots + ms ≤ R.slots)
    (kk : ∀ (r : Int32) (u : S) (H1 : Heap) (locs1 : List Loc), post r u → va_P D cl (X ++ w1 u) H1 → va_D A (X ++ w1 u) → va_S A s.heap H1 locs1 → W p l e R s m args below meth c H1 locs1 (cells + mc) (slots + ms) Z (F0 m (pc + 3) ls (.int r :: rest))) : W p l e R s m args below meth c H locs cells slots Z (F0 m pc ls st0) := by
  have hC : (List.range' X.length Y.length).map (fun i => (X ++ Y)[i]?) = Y.map some := wc_rg
  have hR : (List.range X.length).map (fun i => (X ++ Y)[i]?) = X.map some := wc_up (wc_self X)
  have hnC : va_nd (List.range' X.length Y.length) = true := wc_ndr _ _
  have hF : ∀ q, va_A Y H.size q → A q := va_free hD hS C.2.2.2.2.2.2.2.2.2 (List.range' X.length Y.length) hC
  refine va_calli (vx_runVW (As := As) (rest := rest) ⟨C.1, C.2.1, C.2.2.2.2.1, C.2.2.2.2.2.1, C.2.2.2.2.2.2.1⟩ hM cw ⟨wpreE_blind, va_recv C.2.2.2.2.2.2.2.2.1 hP hc he, wcE_pre C hE hP hD hS hC hnC (.ref b :: As)⟩ rfl hn hsz hst (lv_room hrm) hdg hf) hS (fun q _ h => hF q h) hF (fun r u t H1 locs1 ht hvm hw hB hz1 hk1 hS1 => ?_)
  obtain ⟨hP1, hD1⟩ := hB
  rw [ht] at hP1
  obtain ⟨hP2, hD2⟩ := va_join hP hD (List.range' X.length Y.length) (List.range X.length) hC hR (wc_nd _) (fun i hi hic => by have h1 := List.mem_range'_1.mp hic; have h2 := List.mem_range.mp hi; omega) hk1 hF hP1 hD1
  exact kk r u H1 locs1 hw hP2 hD2 hS1
theorem lwO_iF {S : Type} {post : Int32 → S → Prop} {w1 : S → va_W} {As rest : List Value} {ci : Nat} {fs : List Value} {q : vw_C} (C : cx cc nL ret0 own D cl tys A p c meth s m args) (hE : env sk sv A s s.heap) (hNC : ncE s) (hM : Met l y ws' rm (va_Pc (.ref b :: As) (wpreF D cl tys sk sv Y H.size)) (va_Qi post (wpost D cl (va_A Y H.size) w1) (va_A Y H.size)) mc ms (va_A Y H.size)) (cw : vx_CVW R s args own q.1 index y bytes maxL ret hh ws' rm mc ms n) (hP : va_P D cl (X ++ Y) H) (hD : va_D A (X ++ Y)) (hS : va_S A s.heap H locs) (q0 : Nat) (he : (X ++ Y)[q0]? = some (b, .inr (ci, fs))) (hc : cl[ci]? = some q) (hn : As.length = n) (hst : st0 = As.reverse ++ .ref b :: rest) (hsz : ls.size = nL) (hrm : (rest.map fun v => v.category).sum ≤ 8) (hdg : decode cc pc = .ok (.invokevirtual index, 3)) (hf : cells + mc ≤ R.cells ∧ slots + ms ≤ R.slots)
    (kk : ∀ (r : Int32) (u : S) (H1 : Heap) (locs1 : List Loc), post r u → va_P D cl (X ++ w1 u) H1 → va_D A (X ++ w1 u) → va_S A s.heap H1 locs1 → W p l e R s m args below meth c H1 locs1 (cells + mc) (slots + ms) Z (F0 m (pc + 3) ls (.int r :: rest))) : W p l e R s m args below meth c H locs cells slots Z (F0 m pc ls st0) := by
  have hC : (List.range' X.length Y.length).map (fun i => (X ++ Y)[i]?) = Y.map some := wc_rg
  have hR : (List.range X.length).map (fun i => (X ++ Y)[i]?) = X.map some := wc_up (wc_self X)
  have hnC : va_nd (List.range' X.length Y.length) = true := wc_ndr _ _
  have hF : ∀ q, va_A Y H.size q → A q := va_free hD hS C.2.2.2.2.2.2.2.2.2 (List.range' X.length Y.length) hC
  refine va_calli (vx_runVW (As := As) (rest := rest) ⟨C.1, C.2.1, C.2.2.2.2.1, C.2.2.2.2.2.1, C.2.2.2.2.2.2.1⟩ hM cw ⟨wpreF_blind, va_recv C.2.2.2.2.2.2.2.2.1 hP hc he, fun U hU hW => ⟨rfl, (wcE_pre C hE hP hD hS hC hnC (.ref b :: As) U hU hW).2, ncE_warm hW hNC⟩⟩ rfl hn hsz hst (lv_room hrm) hdg hf) hS (fun q _ h => hF q h) hF (fun r u t H1 locs1 ht hvm hw hB hz1 hk1 hS1 => ?_)
  obtain ⟨hP1, hD1⟩ := hB
  rw [ht] at hP1
  obtain ⟨hP2, hD2⟩ := va_join hP hD (List.range' X.length Y.length) (List.range X.length) hC hR (wc_nd _) (fun i hi hic => by have h1 := List.mem_range'_1.mp hic; have h2 := List.mem_range.mp hi; omega) hk1 hF hP1 hD1
  exact kk r u H1 locs1 hw hP2 hD2 hS1
theorem lwO_iG {S : Type} {post : Int32 → S → Prop} {w1 : S → va_W} {As rest : List Value} {ci : Nat} {fs : List Value} {q : vw_C} (C : cx cc nL ret0 own D cl tys A p c meth s m args) (hE : env sk sv A s s.heap) (hNC : ncE s) (hM : Met l y ws' rm (va_Pc (.ref b :: As) (wpreF D cl tys sk sv Y H.size)) (va_Qi post (wpost D cl (va_A Y H.size) w1) (va_A Y H.size)) mc ms (va_A Y H.size)) (cw : CallW R s args own q.1 index y bytes maxL ret ws' rm mc ms n) (hP : va_P D cl (X ++ Y) H) (hD : va_D A (X ++ Y)) (hS : va_S A s.heap H locs) (q0 : Nat) (he : (X ++ Y)[q0]? = some (b, .inr (ci, fs))) (hc : cl[ci]? = some q) (hn : As.length = n) (hst : st0 = As.reverse ++ .ref b :: rest) (hsz : ls.size = nL) (hrm : (rest.map fun v => v.category).sum ≤ 8) (hdg : decode cc pc = .ok (.invokevirtual index, 3)) (hf : cells + mc ≤ R.cells ∧ slots + ms ≤ R.slots)
    (kk : ∀ (r : Int32) (u : S) (H1 : Heap) (locs1 : List Loc), post r u → va_P D cl (X ++ w1 u) H1 → va_D A (X ++ w1 u) → va_S A s.heap H1 locs1 → W p l e R s m args below meth c H1 locs1 (cells + mc) (slots + ms) Z (F0 m (pc + 3) ls (.int r :: rest))) : W p l e R s m args below meth c H locs cells slots Z (F0 m pc ls st0) := by
  have hC : (List.range' X.length Y.length).map (fun i => (X ++ Y)[i]?) = Y.map some := wc_rg
  have hR : (List.range X.length).map (fun i => (X ++ Y)[i]?) = X.map some := wc_up (wc_self X)
  have hnC : va_nd (List.range' X.length Y.length) = true := wc_ndr _ _
  have hF : ∀ q, va_A Y H.size q → A q := va_free hD hS C.2.2.2.2.2.2.2.2.2 (List.range' X.length Y.length) hC
  refine va_calli (va_runV (As := As) (rest := rest) ⟨C.1, C.2.1, C.2.2.2.2.1, C.2.2.2.2.2.1, C.2.2.2.2.2.2.1⟩ hM cw ⟨wpreF_blind, va_recv C.2.2.2.2.2.2.2.2.1 hP hc he, fun U hU hW => ⟨rfl, (wcE_pre C hE hP hD hS hC hnC (.ref b :: As) U hU hW).2, ncE_warm hW hNC⟩⟩ rfl hn hsz hst (lv_room hrm) hdg hf) hS (fun q _ h => hF q h) hF (fun r u t H1 locs1 ht hvm hw hB hz1 hk1 hS1 => ?_)
  obtain ⟨hP1, hD1⟩ := hB
  rw [ht] at hP1
  obtain ⟨hP2, hD2⟩ := va_join hP hD (List.range' X.length Y.length) (List.range X.length) hC hR (wc_nd _) (fun i hi hic => by have h1 := List.mem_range'_1.mp hic; have h2 := List.mem_range.mp hi; omega) hk1 hF hP1 hD1
  exact kk r u H1 locs1 hw hP2 hD2 hS1
theorem lwM_i {S : Type} {post : Int32 → S → Prop} {w1 : S → va_W} {As rest : List Value} {ci : Nat} {fs : List Value} {q : vw_C} (C : cx cc nL ret0 own D cl tys A p c meth s m args) (hM : Met l y ws' rm (va_Pc (.ref b :: As) (wpre D cl tys X H.size)) (va_Qi post (wpost D cl (va_A X H.size) w1) (va_A X H.size)) mc ms (va_A X H.size)) (cw : CallW R s args own q.1 index y bytes maxL ret ws' rm mc ms n) (hP : va_P D cl (X ++ Y) H) (hD : va_D A (X ++ Y)) (hS : va_S A s.heap H locs) (q0 : Nat) (he : (X ++ Y)[q0]? = some (b, .inr (ci, fs))) (hc : cl[ci]? = some q) (hn : As.length = n) (hst : st0 = As.reverse ++ .ref b :: rest) (hsz : ls.size = nL) (hrm : (rest.map fun v => v.category).sum ≤ 8) (hdg : decode cc pc = .ok (.invokevirtual index, 3)) (hf : cells + mc ≤ R.cells ∧ slots + ms ≤ R.slots)
    (kk : ∀ (r : Int32) (u : S) (H1 : Heap) (locs1 : List Loc), post r u → va_P D cl (w1 u ++ Y) H1 → va_D A (w1 u ++ Y) → va_S A s.heap H1 locs1 → W p l e R s m args below meth c H1 locs1 (cells + mc) (slots + ms) Z (F0 m (pc + 3) ls (.int r :: rest))) : W p l e R s m args below meth c H locs cells slots Z (F0 m pc ls st0) := by
  have hR : (List.range' X.length Y.length).map (fun i => (X ++ Y)[i]?) = Y.map some := wc_rg
  have hC : (List.range X.length).map (fun i => (X ++ Y)[i]?) = X.map some := wc_up (wc_self X)
  have hnC : va_nd (List.range X.length) = true := wc_nd _
  have hF : ∀ q, va_A X H.size q → A q := va_free hD hS C.2.2.2.2.2.2.2.2.2 (List.range X.length) hC
  refine va_calli (va_runV (As := As) (rest := rest) ⟨C.1, C.2.1, C.2.2.2.2.1, C.2.2.2.2.2.1, C.2.2.2.2.2.2.1⟩ hM cw ⟨wpre_blind, va_recv C.2.2.2.2.2.2.2.2.1 hP hc he, wc_pre C hP hD hC hnC (.ref b :: As)⟩ rfl hn hsz hst (lv_room hrm) hdg hf) hS (fun q _ h => hF q h) hF (fun r u t H1 locs1 ht hvm hw hB hz1 hk1 hS1 => ?_)
  obtain ⟨hP1, hD1⟩ := hB
  rw [ht] at hP1
  obtain ⟨hP2, hD2⟩ := va_join hP hD (List.range X.length) (List.range' X.length Y.length) hC hR (wc_ndr _ _) (fun i hi hic => by have h1 := List.mem_range'_1.mp hi; have h2 := List.mem_range.mp hic; omega) hk1 hF hP1 hD1
  exact kk r u H1 locs1 hw hP2.comm hD2.comm hS1
theorem lwM_l {S : Type} {post : Int64 → S → Prop} {w1 : S → va_W} {As rest : List Value} {ci : Nat} {fs : List Value} {q : vw_C} (C : cx cc nL ret0 own D cl tys A p c meth s m args) (hM : Met l y ws' rm (va_Pc (.ref b :: As) (wpre D cl tys X H.size)) (va_Ql post (wpost D cl (va_A X H.size) w1) (va_A X H.size)) mc ms (va_A X H.size)) (cw : CallW R s args own q.1 index y bytes maxL ret ws' rm mc ms n) (hP : va_P D cl (X ++ Y) H) (hD : va_D A (X ++ Y)) (hS : va_S A s.heap H locs) (q0 : Nat) (he : (X ++ Y)[q0]? = some (b, .inr (ci, fs))) (hc : cl[ci]? = some q) (hn : As.length = n) (hst : st0 = As.reverse ++ .ref b :: rest) (hsz : ls.size = nL) (hrm : (rest.map fun v => v.category).sum ≤ 8) (hdg : decode cc pc = .ok (.invokevirtual index, 3)) (hf : cells + mc ≤ R.cells ∧ slots + ms ≤ R.slots)
    (kk : ∀ (r : Int64) (u : S) (H1 : Heap) (locs1 : List Loc), post r u → va_P D cl (w1 u ++ Y) H1 → va_D A (w1 u ++ Y) → va_S A s.heap H1 locs1 → W p l e R s m args below meth c H1 locs1 (cells + mc) (slots + ms) Z (F0 m (pc + 3) ls (.long r :: rest))) : W p l e R s m args below meth c H locs cells slots Z (F0 m pc ls st0) := by
  have hR : (List.range' X.length Y.length).map (fun i => (X ++ Y)[i]?) = Y.map some := wc_rg
  have hC : (List.range X.length).map (fun i => (X ++ Y)[i]?) = X.map some := wc_up (wc_self X)
  have hnC : va_nd (List.range X.length) = true := wc_nd _
  have hF : ∀ q, va_A X H.size q → A q := va_free hD hS C.2.2.2.2.2.2.2.2.2 (List.range X.length) hC
  refine va_calll (va_runV (As := As) (rest := rest) ⟨C.1, C.2.1, C.2.2.2.2.1, C.2.2.2.2.2.1, C.2.2.2.2.2.2.1⟩ hM cw ⟨wpre_blind, va_recv C.2.2.2.2.2.2.2.2.1 hP hc he, wc_pre C hP hD hC hnC (.ref b :: As)⟩ rfl hn hsz hst (lv_room hrm) hdg hf) hS (fun q _ h => hF q h) hF (fun r u t H1 locs1 ht hvm hw hB hz1 hk1 hS1 => ?_)
  obtain ⟨hP1, hD1⟩ := hB
  rw [ht] at hP1
  obtain ⟨hP2, hD2⟩ := va_join hP hD (List.range X.length) (List.range' X.length Y.length) hC hR (wc_ndr _ _) (fun i hi hic => by have h1 := List.mem_range'_1.mp hi; have h2 := List.mem_range.mp hic; omega) hk1 hF hP1 hD1
  exact kk r u H1 locs1 hw hP2.comm hD2.comm hS1
end WL1
