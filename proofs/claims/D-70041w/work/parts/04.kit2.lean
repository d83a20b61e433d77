set_option maxRecDepth 100000
/-! OWN ROWS 2: worlds with a pool behind, calls of overriding and super methods, faiths -/
theorem wc_rg {X pl : va_W} : (List.range' X.length pl.length).map (fun i => (X ++ pl)[i]?) = pl.map some := by
  apply List.ext_getElem?
  intro i
  by_cases h : i < pl.length
  · simp [h, List.getElem?_append_right]
  · simp [h]
theorem wc_up {X pl wc : va_W} {is : List Nat} (h : is.map (fun i => X[i]?) = wc.map some) : is.map (fun i => (X ++ pl)[i]?) = wc.map some := by
  rw [← h]
  apply List.map_congr_left
  intro i hi
  have h1 : X[i]? ∈ is.map (fun i => X[i]?) := List.mem_map.mpr ⟨i, hi, rfl⟩
  rw [h] at h1
  obtain ⟨q, -, hq⟩ := List.mem_map.mp h1
  rw [← hq]
  have hl := (List.getElem?_eq_some_iff.mp hq.symm).1
  rw [List.getElem?_append_left hl, hq]
theorem wc_lt {X wc : va_W} {is : List Nat} (h : is.map (fun i => X[i]?) = wc.map some) : ∀ i ∈ is, i < X.length := by
  intro i hi
  have h1 : X[i]? ∈ is.map (fun i => X[i]?) := List.mem_map.mpr ⟨i, hi, rfl⟩
  rw [h] at h1
  obtain ⟨q, -, hq⟩ := List.mem_map.mp h1
  exact (List.getElem?_eq_some_iff.mp hq.symm).1
theorem wc_nda {l : List Nat} (n k : Nat) (h : va_nd l = true) (hl : ∀ i ∈ l, i < n) : va_nd (l ++ List.range' n k) = true := by
  induction l with
  | nil => exact wc_ndr k n
  | cons a l ih =>
    simp only [va_nd, Bool.and_eq_true, decide_eq_true_eq] at h
    simp only [List.cons_append, va_nd, Bool.and_eq_true, decide_eq_true_eq]
    refine ⟨fun hm => ?_, ih h.2 (fun i hi => hl i (List.mem_cons_of_mem _ hi))⟩
    rcases List.mem_append.mp hm with hm | hm
    · exact h.1 hm
    · have h1 := List.mem_range'_1.mp hm
      have h2 := hl a List.mem_cons_self
      omega
theorem wc_canP {D : va_G} {cl : List vw_C} {Y X pl : va_W} {H : Heap} (h : va_P D cl (Y ++ pl) H) (perm : List Nat) (hp : perm.map (fun i => Y[i]?) = X.map some) : va_P D cl (X ++ pl) H := by
  intro k q hk
  rcases List.mem_append.mp (List.mem_of_getElem? hk) with hm | hm
  · have h1 : some q ∈ X.map some := List.mem_map.mpr ⟨q, hm, rfl⟩
    rw [← hp] at h1
    obtain ⟨i, -, hi⟩ := List.mem_map.mp h1
    have hl := (List.getElem?_eq_some_iff.mp hi).1
    exact h i q (by rw [List.getElem?_append_left hl]; exact hi)
  · obtain ⟨i, hi⟩ := List.getElem?_of_mem hm
    exact h (Y.length + i) q (by rw [List.getElem?_append_right (by omega)]; simpa using hi)
theorem wc_canD {A : Nat → Prop} {Y X pl : va_W} (h : va_D A (Y ++ pl)) (perm : List Nat) (hn : va_nd perm = true) (hp : perm.map (fun i => Y[i]?) = X.map some) : va_D A (X ++ pl) := by
  refine h.sub (perm ++ List.range' Y.length pl.length) (wc_nda _ _ hn (wc_lt hp)) ?_
  rw [List.map_append, List.map_append, wc_up hp, wc_rg]
section WC2
variable {p : Program} {l : Launch} {e : Env} {R : Room} {s : State} {m : MethodId} {args : Array Value} {below : List Frame} {meth : Method} {c : Code} {H : Heap} {locs : List Loc} {cells slots : Nat} {Z : State → Prop}
variable {D : va_G} {cl : List vw_C} {tys : List (ClassId × FieldType)} {A : Nat → Prop} {cc : ByteArray} {nL : Nat} {ret0 : Option FieldType} {own : String} {pc : Nat} {ls : Array Slot} {st0 : List Value}
variable {y : MethodName} {bytes : ByteArray} {maxL mc ms n index : Nat} {ret : Option FieldType} {ws' : List Cond} {rm : Room} {C0 : String} {b : Nat} {ws wc X pl : va_W}
theorem wc_Sip {S : Type} {post : Int32 → S → Prop} {w1 : S → va_W} {As rest : List Value} (C : cx cc nL ret0 own D cl tys A p c meth s m args) (hM : Met l y ws' rm (va_Pc As (wpre D cl tys wc H.size)) (va_Qi post (wpost D cl (va_A wc H.size) w1) (va_A wc H.size)) mc ms (va_A wc H.size)) (cw : CallB R s args own index y bytes maxL ret ws' rm mc ms n ∧ (Cond.static y).before args s = true) (hP : va_P D cl (X ++ pl) H) (hD : va_D A (X ++ pl)) (hS : va_S A s.heap H locs) (isC isR : List Nat) (hC : isC.map (fun i => X[i]?) = wc.map some) (hR : isR.all (fun i => Nat.blt i X.length) = true) (hnC : va_nd isC = true) (hnR : va_nd isR = true) (hdis : ∀ i ∈ isR, i ∉ isC) (hn : As.length = n) (hst : st0 = As.reverse ++ rest) (hsz : ls.size = nL) (hrm : (rest.map fun v => v.category).sum ≤ 8) (hdg : decode cc pc = .ok (.invokestatic index, 3)) (hf : cells + mc ≤ R.cells ∧ slots + ms ≤ R.slots)
    (kk : ∀ (r : Int32) (u : S) (H1 : Heap) (locs1 : List Loc), post r u → va_P D cl ((isR.filterMap (fun i => X[i]?) ++ w1 u) ++ pl) H1 → va_D A ((isR.filterMap (fun i => X[i]?) ++ w1 u) ++ pl) → va_S A s.heap H1 locs1 → W p l e R s m args below meth c H1 locs1 (cells + mc) (slots + ms) Z (F0 m (pc + 3) ls (.int r :: rest))) : W p l e R s m args below meth c H locs cells slots Z (F0 m pc ls st0) := by
  have hC2 := wc_up (pl := pl) hC
  have hF : ∀ q, va_A wc H.size q → A q := va_free hD hS C.2.2.2.2.2.2.2.2.2 isC hC2
  refine va_calli (va_runS (As := As) (rest := rest) ⟨C.1, C.2.1, C.2.2.2.2.1, C.2.2.2.2.2.1, C.2.2.2.2.2.2.1⟩ hM cw ⟨wpre_blind, wc_pre C hP hD hC2 hnC As⟩ rfl hn hsz hst (lv_room hrm) hdg hf) hS (fun q _ h => hF q h) hF (fun r u t H1 locs1 ht hvm hw hB hz1 hk1 hS1 => ?_)
  obtain ⟨hP1, hD1⟩ := hB
  rw [ht] at hP1
  have hlt : ∀ i ∈ isR, i < X.length := fun i hi => Nat.le_of_ble_eq_true (List.all_eq_true.mp hR i hi)
  obtain ⟨hP2, hD2⟩ := va_join (wr := isR.filterMap (fun i => X[i]?) ++ pl) hP hD isC (isR ++ List.range' X.length pl.length) hC2 (by rw [List.map_append, List.map_append, wc_up (wc_R hR), wc_rg]) (wc_nda _ _ hnR hlt) (fun i hi hic => by
    rcases List.mem_append.mp hi with h | h
    · exact hdis i h hic
    · have h1 := List.mem_range'_1.mp h
      have h2 := wc_lt hC i hic
      omega) hk1 hF hP1 hD1
  exact kk r u H1 locs1 hw (va_P.swap hP2) (va_D.swap hD2) hS1
theorem wc_Vip {S : Type} {post : Int32 → S → Prop} {w1 : S → va_W} {As rest : List Value} {ci : Nat} {fs : List Value} {q : vw_C} (C : cx cc nL ret0 own D cl tys A p c meth s m args) (hM : Met l y ws' rm (va_Pc (.ref b :: As) (wpre D cl tys wc H.size)) (va_Qi post (wpost D cl (va_A wc H.size) w1) (va_A wc H.size)) mc ms (va_A wc H.size)) (cw : CallW R s args own q.1 index y bytes maxL ret ws' rm mc ms n) (hP : va_P D cl (X ++ pl) H) (hD : va_D A (X ++ pl)) (hS : va_S A s.heap H locs) (isC isR : List Nat) (hC : isC.map (fun i => X[i]?) = wc.map some) (hR : isR.all (fun i => Nat.blt i X.length) = true) (hnC : va_nd isC = true) (hnR : va_nd isR = true) (hdis : ∀ i ∈ isR, i ∉ isC) (q0 : Nat) (he : (X ++ pl)[q0]? = some (b, .inr (ci, fs))) (hc : cl[ci]? = some q) (hn : As.length = n) (hst : st0 = As.reverse ++ .ref b :: rest) (hsz : ls.size = nL) (hrm : (rest.map fun v => v.category).sum ≤ 8) (hdg : decode cc pc = .ok (.invokevirtual index, 3)) (hf : cells + mc ≤ R.cells ∧ slots + ms ≤ R.slots)
    (kk : ∀ (r : Int32) (u : S) (H1 : Heap) (locs1 : List Loc), post r u → va_P D cl ((isR.filterMap (fun i => X[i]?) ++ w1 u) ++ pl) H1 → va_D A ((isR.filterMap (fun i => X[i]?) ++ w1 u) ++ pl) → va_S A s.heap H1 locs1 → W p l e R s m args below meth c H1 locs1 (cells + mc) (slots + ms) Z (F0 m (pc + 3) ls (.int r :: rest))) : W p l e R s m args below meth c H locs cells slots Z (F0 m pc ls st0) := by
  have hC2 := wc_up (pl := pl) hC
  have hF : ∀ q, va_A wc H.size q → A q := va_free hD hS C.2.2.2.2.2.2.2.2.2 isC hC2
  refine va_calli (va_runV (As := As) (rest := rest) ⟨C.1, C.2.1, C.2.2.2.2.1, C.2.2.2.2.2.1, C.2.2.2.2.2.2.1⟩ hM cw ⟨wpre_blind, va_recv C.2.2.2.2.2.2.2.2.1 hP hc he, wc_pre C hP hD hC2 hnC (.ref b :: As)⟩ rfl hn hsz hst (lv_room hrm) hdg hf) hS (fun q _ h => hF q h) hF (fun r u t H1 locs1 ht hvm hw hB hz1 hk1 hS1 => ?_)
  obtain ⟨hP1, hD1⟩ := hB
  rw [ht] at hP1
  have hlt : ∀ i ∈ isR, i < X.length := fun i hi => Nat.le_of_ble_eq_true (List.all_eq_true.mp hR i hi)
  obtain ⟨hP2, hD2⟩ := va_join (wr := isR.filterMap (fun i => X[i]?) ++ pl) hP hD isC (isR ++ List.range' X.length pl.length) hC2 (by rw [List.map_append, List.map_append, wc_up (wc_R hR), wc_rg]) (wc_nda _ _ hnR hlt) (fun i hi hic => by
    rcases List.mem_append.mp hi with h | h
    · exact hdis i h hic
    · have h1 := List.mem_range'_1.mp h
      have h2 := wc_lt hC i hic
      omega) hk1 hF hP1 hD1
  exact kk r u H1 locs1 hw (va_P.swap hP2) (va_D.swap hD2) hS1
theorem wc_Slp {S : Type} {post : Int64 → S → Prop} {w1 : S → va_W} {As rest : List Value} (C : cx cc nL ret0 own D cl tys A p c meth s m args) (hM : Met l y ws' rm (va_Pc As (wpre D cl tys wc H.size)) (va_Ql post (wpost D cl (va_A wc H.size) w1) (va_A wc H.size)) mc ms (va_A wc H.size)) (cw : CallB R s args own index y bytes maxL ret ws' rm mc ms n ∧ (Cond.static y).before args s = true) (hP : va_P D cl (X ++ pl) H) (hD : va_D A (X ++ pl)) (hS : va_S A s.heap H locs) (isC isR : List Nat) (hC : isC.map (fun i => X[i]?) = wc.map some) (hR : isR.all (fun i => Nat.blt i X.length) = true) (hnC : va_nd isC = true) (hnR : va_nd isR = true) (hdis : ∀ i ∈ isR, i ∉ isC) (hn : As.length = n) (hst : st0 = As.reverse ++ rest) (hsz : ls.size = nL) (hrm : (rest.map fun v => v.category).sum ≤ 8) (hdg : decode cc pc = .ok (.invokestatic index, 3)) (hf : cells + mc ≤ R.cells ∧ slots + ms ≤ R.slots)
    (kk : ∀ (r : Int64) (u : S) (H1 : Heap) (locs1 : List Loc), post r u → va_P D cl ((isR.filterMap (fun i => X[i]?) ++ w1 u) ++ pl) H1 → va_D A ((isR.filterMap (fun i => X[i]?) ++ w1 u) ++ pl) → va_S A s.heap H1 locs1 → W p l e R s m args below meth c H1 locs1 (cells + mc) (slots + ms) Z (F0 m (pc + 3) ls (.long r :: rest))) : W p l e R s m args below meth c H locs cells slots Z (F0 m pc ls st0) := by
  have hC2 := wc_up (pl := pl) hC
  have hF : ∀ q, va_A wc H.size q → A q := va_free hD hS C.2.2.2.2.2.2.2.2.2 isC hC2
  refine va_calll (va_runS (As := As) (rest := rest) ⟨C.1, C.2.1, C.2.2.2.2.1, C.2.2.2.2.2.1, C.2.2.2.2.2.2.1⟩ hM cw ⟨wpre_blind, wc_pre C hP hD hC2 hnC As⟩ rfl hn hsz hst (lv_room hrm) hdg hf) hS (fun q _ h => hF q h) hF (fun r u t H1 locs1 ht hvm hw hB hz1 hk1 hS1 => ?_)
  obtain ⟨hP1, hD1⟩ := hB
  rw [ht] at hP1
  have hlt : ∀ i ∈ isR, i < X.length := fun i hi => Nat.le_of_ble_eq_true (List.all_eq_true.mp hR i hi)
  obtain ⟨hP2, hD2⟩ := va_join (wr := isR.filterMap (fun i => X[i]?) ++ pl) hP hD isC (isR ++ List.range' X.length pl.length) hC2 (by rw [List.map_append, List.map_append, wc_up (wc_R hR), wc_rg]) (wc_nda _ _ hnR hlt) (fun i hi hic => by
    rcases List.mem_append.mp hi with h | h
    · exact hdis i h hic
    · have h1 := List.mem_range'_1.mp h
      have h2 := wc_lt hC i hic
      omega) hk1 hF hP1 hD1
  exact kk r u H1 locs1 hw (va_P.swap hP2) (va_D.swap hD2) hS1
theorem wc_Vlp {S : Type} {post : Int64 → S → Prop} {w1 : S → va_W} {As rest : List Value} {ci : Nat} {fs : List Value} {q : vw_C} (C : cx cc nL ret0 own D cl tys A p c meth s m args) (hM : Met l y ws' rm (va_Pc (.ref b :: As) (wpre D cl tys wc H.size)) (va_Ql post (wpost D cl (va_A wc H.size) w1) (va_A wc H.size)) mc ms (va_A wc H.size)) (cw : CallW R s args own q.1 index y bytes maxL ret ws' rm mc ms n) (hP : va_P D cl (X ++ pl) H) (hD : va_D A (X ++ pl)) (hS : va_S A s.heap H locs) (isC isR : List Nat) (hC : isC.map (fun i => X[i]?) = wc.map some) (hR : isR.all (fun i => Nat.blt i X.length) = true) (hnC : va_nd isC = true) (hnR : va_nd isR = true) (hdis : ∀ i ∈ isR, i ∉ isC) (q0 : Nat) (he : (X ++ pl)[q0]? = some (b, .inr (ci, fs))) (hc : cl[ci]? = some q) (hn : As.length = n) (hst : st0 = As.reverse ++ .ref b :: rest) (hsz : ls.size = nL) (hrm : (rest.map fun v => v.category).sum ≤ 8) (hdg : decode cc pc = .ok (.invokevirtual index, 3)) (hf : cells + mc ≤ R.cells ∧ slots + ms ≤ R.slots)
    (kk : ∀ (r : Int64) (u : S) (H1 : Heap) (locs1 : List Loc), post r u → va_P D cl ((isR.filterMap (fun i => X[i]?) ++ w1 u) ++ pl) H1 → va_D A ((isR.filterMap (fun i => X[i]?) ++ w1 u) ++ pl) → va_S A s.heap H1 locs1 → W p l e R s m args below meth c H1 locs1 (cells + mc) (slots + ms) Z (F0 m (pc + 3) ls (.long r :: rest))) : W p l e R s m args below meth c H locs cells slots Z (F0 m pc ls st0) := by
  have hC2 := wc_up (pl := pl) hC
  have hF : ∀ q, va_A wc H.size q → A q := va_free hD hS C.2.2.2.2.2.2.2.2.2 isC hC2
  refine va_calll (va_runV (As := As) (rest := rest) ⟨C.1, C.2.1, C.2.2.2.2.1, C.2.2.2.2.2.1, C.2.2.2.2.2.2.1⟩ hM cw ⟨wpre_blind, va_recv C.2.2.2.2.2.2.2.2.1 hP hc he, wc_pre C hP hD hC2 hnC (.ref b :: As)⟩ rfl hn hsz hst (lv_room hrm) hdg hf) hS (fun q _ h => hF q h) hF (fun r u t H1 locs1 ht hvm hw hB hz1 hk1 hS1 => ?_)
  obtain ⟨hP1, hD1⟩ := hB
  rw [ht] at hP1
  have hlt : ∀ i ∈ isR, i < X.length := fun i hi => Nat.le_of_ble_eq_true (List.all_eq_true.mp hR i hi)
  obtain ⟨hP2, hD2⟩ := va_join (wr := isR.filterMap (fun i => X[i]?) ++ pl) hP hD isC (isR ++ List.range' X.length pl.length) hC2 (by rw [List.map_append, List.map_append, wc_up (wc_R hR), wc_rg]) (wc_nda _ _ hnR hlt) (fun i hi hic => by
    rcases List.mem_append.mp hi with h | h
    · exact hdis i h hic
    · have h1 := List.mem_range'_1.mp h
      have h2 := wc_lt hC i hic
      omega) hk1 hF hP1 hD1
  exact kk r u H1 locs1 hw (va_P.swap hP2) (va_D.swap hD2) hS1
theorem wc_Svp {S : Type} {post : S → Prop} {w1 : S → va_W} {As rest : List Value} (C : cx cc nL ret0 own D cl tys A p c meth s m args) (hM : Met l y ws' rm (va_Pc As (wpre D cl tys wc H.size)) (va_Qv post (wpost D cl (va_A wc H.size) w1) (va_A wc H.size)) mc ms (va_A wc H.size)) (cw : CallB R s args own index y bytes maxL ret ws' rm mc ms n ∧ (Cond.static y).before args s = true) (hP : va_P D cl (X ++ pl) H) (hD : va_D A (X ++ pl)) (hS : va_S A s.heap H locs) (isC isR : List Nat) (hC : isC.map (fun i => X[i]?) = wc.map some) (hR : isR.all (fun i => Nat.blt i X.length) = true) (hnC : va_nd isC = true) (hnR : va_nd isR = true) (hdis : ∀ i ∈ isR, i ∉ isC) (hn : As.length = n) (hst : st0 = As.reverse ++ rest) (hsz : ls.size = nL) (hrm : (rest.map fun v => v.category).sum ≤ 8) (hdg : decode cc pc = .ok (.invokestatic index, 3)) (hf : cells + mc ≤ R.cells ∧ slots + ms ≤ R.slots)
    (kk : ∀ (u : S) (H1 : Heap) (locs1 : List Loc), post u → va_P D cl ((isR.filterMap (fun i => X[i]?) ++ w1 u) ++ pl) H1 → va_D A ((isR.filterMap (fun i => X[i]?) ++ w1 u) ++ pl) → va_S A s.heap H1 locs1 → W p l e R s m args below meth c H1 locs1 (cells + mc) (slots + ms) Z (F0 m (pc + 3) ls (rest))) : W p l e R s m args below meth c H locs cells slots Z (F0 m pc ls st0) := by
  have hC2 := wc_up (pl := pl) hC
  have hF : ∀ q, va_A wc H.size q → A q := va_free hD hS C.2.2.2.2.2.2.2.2.2 isC hC2
  refine va_callv (va_runS (As := As) (rest := rest) ⟨C.1, C.2.1, C.2.2.2.2.1, C.2.2.2.2.2.1, C.2.2.2.2.2.2.1⟩ hM cw ⟨wpre_blind, wc_pre C hP hD hC2 hnC As⟩ rfl hn hsz hst (lv_room hrm) hdg hf) hS (fun q _ h => hF q h) hF (fun u t H1 locs1 ht hvm hw hB hz1 hk1 hS1 => ?_)
  obtain ⟨hP1, hD1⟩ := hB
  rw [ht] at hP1
  have hlt : ∀ i ∈ isR, i < X.length := fun i hi => Nat.le_of_ble_eq_true (List.all_eq_true.mp hR i hi)
  obtain ⟨hP2, hD2⟩ := va_join (wr := isR.filterMap (fun i => X[i]?) ++ pl) hP hD isC (isR ++ List.range' X.length pl.length) hC2 (by rw [List.map_append, List.map_append, wc_up (wc_R hR), wc_rg]) (wc_nda _ _ hnR hlt) (fun i hi hic => by
    rcases List.mem_append.mp hi with h | h
    · exact hdis i h hic
    · have h1 := List.mem_range'_1.mp h
      have h2 := wc_lt hC i hic
      omega) hk1 hF hP1 hD1
  exact kk u H1 locs1 hw (va_P.swap hP2) (va_D.swap hD2) hS1
theorem wc_Vvp {S : Type} {post : S → Prop} {w1 : S → va_W} {As rest : List Value} {ci : Nat} {fs : List Value} {q : vw_C} (C : cx cc nL ret0 own D cl tys A p c meth s m args) (hM : Met l y ws' rm (va_Pc (.ref b :: As) (wpre D cl tys wc H.size)) (va_Qv post (wpost D cl (va_A wc H.size) w1) (va_A wc H.size)) mc ms (va_A wc H.size)) (cw : CallW R s args own q.1 index y bytes maxL ret ws' rm mc ms n) (hP : va_P D cl (X ++ pl) H) (hD : va_D A (X ++ pl)) (hS : va_S A s.heap H locs) (isC isR : List Nat) (hC : isC.map (fun i => X[i]?) = wc.map some) (hR : isR.all (fun i => Nat.blt i X.length) = true) (hnC : va_nd isC = true) (hnR : va_nd isR = true) (hdis : ∀ i ∈ isR, i ∉ isC) (q0 : Nat) (he : (X ++ pl)[q0]? = some (b, .inr (ci, fs))) (hc : cl[ci]? = some q) (hn : As.length = n) (hst : st0 = As.reverse ++ .ref b :: rest) (hsz : ls.size = nL) (hrm : (rest.map fun v => v.category).sum ≤ 8) (hdg : decode cc pc = .ok (.invokevirtual index, 3)) (hf : cells + mc ≤ R.cells ∧ slots + ms ≤ R.slots)
    (kk : ∀ (u : S) (H1 : Heap) (locs1 : List Loc), post u → va_P D cl ((isR.filterMap (fun i => X[i]?) ++ w1 u) ++ pl) H1 → va_D A ((isR.filterMap (fun i => X[i]?) ++ w1 u) ++ pl) → va_S A s.heap H1 locs1 → W p l e R s m args below meth c H1 locs1 (cells + mc) (slots + ms) Z (F0 m (pc + 3) ls (rest))) : W p l e R s m args below meth c H locs cells slots Z (F0 m pc ls st0) := by
  have hC2 := wc_up (pl := pl) hC
  have hF : ∀ q, va_A wc H.size q → A q := va_free hD hS C.2.2.2.2.2.2.2.2.2 isC hC2
  refine va_callv (va_runV (As := As) (rest := rest) ⟨C.1, C.2.1, C.2.2.2.2.1, C.2.2.2.2.2.1, C.2.2.2.2.2.2.1⟩ hM cw ⟨wpre_blind, va_recv C.2.2.2.2.2.2.2.2.1 hP hc he, wc_pre C hP hD hC2 hnC (.ref b :: As)⟩ rfl hn hsz hst (lv_room hrm) hdg hf) hS (fun q _ h => hF q h) hF (fun u t H1 locs1 ht hvm hw hB hz1 hk1 hS1 => ?_)
  obtain ⟨hP1, hD1⟩ := hB
  rw [ht] at hP1
  have hlt : ∀ i ∈ isR, i < X.length := fun i hi => Nat.le_of_ble_eq_true (List.all_eq_true.mp hR i hi)
  obtain ⟨hP2, hD2⟩ := va_join (wr := isR.filterMap (fun i => X[i]?) ++ pl) hP hD isC (isR ++ List.range' X.length pl.length) hC2 (by rw [List.map_append, List.map_append, wc_up (wc_R hR), wc_rg]) (wc_nda _ _ hnR hlt) (fun i hi hic => by
    rcases List.mem_append.mp hi with h | h
    · exact hdis i h hic
    · have h1 := List.mem_range'_1.mp h
      have h2 := wc_lt hC i hic
      omega) hk1 hF hP1 hD1
  exact kk u H1 locs1 hw (va_P.swap hP2) (va_D.swap hD2) hS1
theorem wc_Ui {S : Type} {post : Int32 → S → Prop} {w1 : S → va_W} {As rest : List Value} {ci : Nat} {fs : List Value} (C : cx cc nL ret0 own D cl tys A p c meth s m args) (hM : Met l y ws' rm (va_Pc (.ref b :: As) (wpre D cl tys ws H.size)) (va_Qi post (wpost D cl (va_A ws H.size) w1) (va_A ws H.size)) mc ms (va_A ws H.size)) (cw : va_CS R s args own index y bytes maxL ret ws' rm mc ms n) (hP : va_P D cl ws H) (hD : va_D A ws) (hS : va_S A s.heap H locs) (q0 : Nat) (he : ws[q0]? = some (b, .inr (ci, fs))) (hn : As.length = n) (hst : st0 = As.reverse ++ .ref b :: rest) (hsz : ls.size = nL) (hrm : (rest.map fun v => v.category).sum ≤ 8) (hdg : decode cc pc = .ok (.invokespecial index, 3)) (hf : cells + mc ≤ R.cells ∧ slots + ms ≤ R.slots)
    (kk : ∀ (r : Int32) (u : S) (H1 : Heap) (locs1 : List Loc), post r u → va_P D cl (w1 u) H1 → va_D A (w1 u) → va_S A s.heap H1 locs1 → W p l e R s m args below meth c H1 locs1 (cells + mc) (slots + ms) Z (F0 m (pc + 3) ls (.int r :: rest))) : W p l e R s m args below meth c H locs cells slots Z (F0 m pc ls st0) := by
  have hF : ∀ q, va_A ws H.size q → A q := va_free hD hS C.2.2.2.2.2.2.2.2.2 (List.range ws.length) (wc_self ws)
  have he2 := he
  obtain ⟨q, hc, -⟩ := hP q0 _ he2
  have hat : ClassAt s q.1 (D.1 ci) := ⟨(C.2.2.2.2.2.2.2.2.1.1 ci q hc).2.1, by obtain ⟨kC, h1, h2⟩ := (C.2.2.2.2.2.2.2.2.1.1 ci q hc).2.2; exact ⟨kC, h1, h2⟩⟩
  refine va_calli (va_runSU (As := As) (rest := rest) hat ⟨C.1, C.2.1, C.2.2.2.2.1, C.2.2.2.2.2.1, C.2.2.2.2.2.2.1⟩ hM cw ⟨wpre_blind, va_recv C.2.2.2.2.2.2.2.2.1 hP hc he, wc_pre C hP hD (wc_self ws) (wc_nd ws.length) (.ref b :: As)⟩ rfl hn hsz hst (lv_room hrm) hdg hf) hS (fun q _ h => hF q h) hF (fun r u t H1 locs1 ht hvm hw hB hz1 hk1 hS1 => ?_)
  obtain ⟨hP1, hD1⟩ := hB
  rw [ht] at hP1
  exact kk r u H1 locs1 hw hP1 (hD1.weaken (fun k q _ h => hF q.1 h)) hS1
theorem wc_Ois {S : Type} {post : Int32 → S → Prop} {w1 : S → va_W} {As rest : List Value} {ci : Nat} {fs : List Value} {q : vw_C} {x0 : MethodName} {owner : String} (C : cx cc nL ret0 own D cl tys A p c meth s m args) (hM : Met l y ws' rm (va_Pc (.ref b :: As) (wpre D cl tys wc H.size)) (va_Qi post (wpost D cl (va_A wc H.size) w1) (va_A wc H.size)) mc ms (va_A wc H.size)) (cw : va_CU R s args own q.1 owner index x0 y bytes maxL ret ws' rm mc ms n) (hP : va_P D cl ws H) (hD : va_D A ws) (hS : va_S A s.heap H locs) (isC isR : List Nat) (hC : isC.map (fun i => ws[i]?) = wc.map some) (hR : isR.all (fun i => Nat.blt i ws.length) = true) (hnC : va_nd isC = true) (hnR : va_nd isR = true) (hdis : ∀ i ∈ isR, i ∉ isC) (q0 : Nat) (he : ws[q0]? = some (b, .inr (ci, fs))) (hc : cl[ci]? = some q) (hn : As.length = n) (hst : st0 = As.reverse ++ .ref b :: rest) (hsz : ls.size = nL) (hrm : (rest.map fun v => v.category).sum ≤ 8) (hdg : decode cc pc = .ok (.invokevirtual index, 3)) (hf : cells + mc ≤ R.cells ∧ slots + ms ≤ R.slots)
    (kk : ∀ (r : Int32) (u : S) (H1 : Heap) (locs1 : List Loc), post r u → va_P D cl ((isR.filterMap (fun i => ws[i]?)) ++ w1 u) H1 → va_D A ((isR.filterMap (fun i => ws[i]?)) ++ w1 u) → va_S A s.heap H1 locs1 → W p l e R s m args below meth c H1 locs1 (cells + mc) (slots + ms) Z (F0 m (pc + 3) ls (.int r :: rest))) : W p l e R s m args below meth c H locs cells slots Z (F0 m pc ls st0) := by
  have hF : ∀ q, va_A wc H.size q → A q := va_free hD hS C.2.2.2.2.2.2.2.2.2 isC hC
  refine va_calli (va_runU (As := As) (rest := rest) ⟨C.1, C.2.1, C.2.2.2.2.1, C.2.2.2.2.2.1, C.2.2.2.2.2.2.1⟩ hM cw ⟨wpre_blind, va_recv C.2.2.2.2.2.2.2.2.1 hP hc he, wc_pre C hP hD hC hnC (.ref b :: As)⟩ rfl hn hsz hst (lv_room hrm) hdg hf) hS (fun q _ h => hF q h) hF (fun r u t H1 locs1 ht hvm hw hB hz1 hk1 hS1 => ?_)
  obtain ⟨hP1, hD1⟩ := hB
  rw [ht] at hP1
  obtain ⟨hP2, hD2⟩ := va_join hP hD isC isR hC (wc_R hR) hnR hdis hk1 hF hP1 hD1
  exact kk r u H1 locs1 hw hP2 hD2 hS1
theorem wc_Oip {S : Type} {post : Int32 → S → Prop} {w1 : S → va_W} {As rest : List Value} {ci : Nat} {fs : List Value} {q : vw_C} {x0 : MethodName} {owner : String} (C : cx cc nL ret0 own D cl tys A p c meth s m args) (hM : Met l y ws' rm (va_Pc (.ref b :: As) (wpre D cl tys wc H.size)) (va_Qi post (wpost D cl (va_A wc H.size) w1) (va_A wc H.size)) mc ms (va_A wc H.size)) (cw : va_CU R s args own q.1 owner index x0 y bytes maxL ret ws' rm mc ms n) (hP : va_P D cl (X ++ pl) H) (hD : va_D A (X ++ pl)) (hS : va_S A s.heap H locs) (isC isR : List Nat) (hC : isC.map (fun i => X[i]?) = wc.map some) (hR : isR.all (fun i => Nat.blt i X.length) = true) (hnC : va_nd isC = true) (hnR : va_nd isR = true) (hdis : ∀ i ∈ isR, i ∉ isC) (q0 : Nat) (he : (X ++ pl)[q0]? = some (b, .inr (ci, fs))) (hc : cl[ci]? = some q) (hn : As.length = n) (hst : st0 = As.reverse ++ .ref b :: rest) (hsz : ls.size = nL) (hrm : (rest.map fun v => v.category).sum ≤ 8) (hdg : decode cc pc = .ok (.invokevirtual index, 3)) (hf : cells + mc ≤ R.cells ∧ slots + ms ≤ R.slots)
    (kk : ∀ (r : Int32) (u : S) (H1 : Heap) (locs1 : List Loc), post r u → va_P D cl ((isR.filterMap (fun i => X[i]?) ++ w1 u) ++ pl) H1 → va_D A ((isR.filterMap (fun i => X[i]?) ++ w1 u) ++ pl) → va_S A s.heap H1 locs1 → W p l e R s m args below meth c H1 locs1 (cells + mc) (slots + ms) Z (F0 m (pc + 3) ls (.int r :: rest))) : W p l e R s m args below meth c H locs cells slots Z (F0 m pc ls st0) := by
  have hC2 := wc_up (pl := pl) hC
  have hF : ∀ q, va_A wc H.size q → A q := va_free hD hS C.2.2.2.2.2.2.2.2.2 isC hC2
  refine va_calli (va_runU (As := As) (rest := rest) ⟨C.1, C.2.1, C.2.2.2.2.1, C.2.2.2.2.2.1, C.2.2.2.2.2.2.1⟩ hM cw ⟨wpre_blind, va_recv C.2.2.2.2.2.2.2.2.1 hP hc he, wc_pre C hP hD hC2 hnC (.ref b :: As)⟩ rfl hn hsz hst (lv_room hrm) hdg hf) hS (fun q _ h => hF q h) hF (fun r u t H1 locs1 ht hvm hw hB hz1 hk1 hS1 => ?_)
  obtain ⟨hP1, hD1⟩ := hB
  rw [ht] at hP1
  have hlt : ∀ i ∈ isR, i < X.length := fun i hi => Nat.le_of_ble_eq_true (List.all_eq_true.mp hR i hi)
  obtain ⟨hP2, hD2⟩ := va_join (wr := isR.filterMap (fun i => X[i]?) ++ pl) hP hD isC (isR ++ List.range' X.length pl.length) hC2 (by rw [List.map_append, List.map_append, wc_up (wc_R hR), wc_rg]) (wc_nda _ _ hnR hlt) (fun i hi hic => by
    rcases List.mem_append.mp hi with h | h
    · exact hdis i h hic
    · have h1 := List.mem_range'_1.mp h
      have h2 := wc_lt hC i hic
      omega) hk1 hF hP1 hD1
  exact kk r u H1 locs1 hw (va_P.swap hP2) (va_D.swap hD2) hS1
end WC2
