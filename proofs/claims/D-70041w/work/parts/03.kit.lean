set_option maxRecDepth 100000
def TX1 : u_T := fun _ => ("", "", "", false)
def tyX1 : Nat → FieldType := fun _ => .int
theorem in_X1 (C : String) : ∀ w ∈ u_ws C TX1 0, w ∈ lw_all := fun w h => by cases h
abbrev vwCl : List vw_C := [(RX0, TX0, 29), (RX1, TX1, 0), (RX2, TX1, 0), (RX3, TX1, 0), (RX4, TX1, 0), (RX5, TX5, 5), (RX6, TX6, 1), (RX7, TX7, 45), (RX8, TX8, 12), (RX9, TX9, 8)]
abbrev tyL (ca : Nat → ClassId) : List (ClassId × FieldType) := [(ca 0, .int), (ca 1, .boolean), (ca 2, .byte), (ca 3, .short), (ca 4, .object "OmenLine$Plain"), (ca 5, .object "OmenLine$Branch"), (ca 6, .object "OmenLine$Sheet")]
/-! OWN ROWS: contracts over a whole world, words of nest mates, calls -/
theorem eT {α : Sort _} {c : Prop} [Decidable c] {x a b : α} (h : c) (e : x = a) : x = if c then a else b := by rw [if_pos h]; exact e
theorem eF {α : Sort _} {c : Prop} [Decidable c] {x a b : α} (h : ¬ c) (e : x = b) : x = if c then a else b := by rw [if_neg h]; exact e
def zb (v : Int32) : Prop := v = 0 ∨ v = 1
theorem zb_0 : zb 0 := Or.inl rfl
theorem zb_1 : zb 1 := Or.inr rfl
theorem zb_I {c : Prop} [Decidable c] {a b : Int32} (h1 : c → zb a) (h2 : ¬ c → zb b) : zb (if c then a else b) := by
  by_cases h : c
  · rw [if_pos h]; exact h1 h
  · rw [if_neg h]; exact h2 h
theorem zb_n {v : Int32} (h : zb v) : narrow .boolean (.int v) = .int v := by rcases h with rfl | rfl <;> rfl
theorem zb_f {v : Int32} (h : zb v) : fits .boolean (.int v) = true := by rcases h with rfl | rfl <;> rfl
theorem sw_i (x : Int32) (k : Nat) (hk : k < 100) : (x.toInt < 0 ∨ (k : Int) < x.toInt) ∨ ∃ j : Nat, j ≤ k ∧ x = nI j := by
  by_cases h : x.toInt < 0 ∨ (k : Int) < x.toInt
  · exact Or.inl h
  · refine Or.inr ⟨x.toInt.toNat, by omega, ?_⟩
    rw [← Int32.toInt_inj, nI_toInt (by omega)]
    omega
/-- words of the tables that don't ride in the lists: nest mates' links, castable, declares, arrays of references -/
def nxw (w : Cond) : Bool := match w with
  | .fieldLinkNest .. => true
  | .methodLinkNest .. => true
  | .castable .. => true
  | .declares .. => true
  | .arrayOver (.object _) => true
  | _ => false
def nx (U : State) : Prop := ∀ w ∈ lw_tbl, nxw w = true → va_Nw w U
theorem nx_of {U : State} {A : Array Value} (h : ∀ w ∈ lw_tbl, w.before A U = true) : nx U := by
  intro w hw hk
  have h1 := h w hw
  cases w with
  | fieldLinkNest a b c d e f => exact va_Nw.of rfl h1
  | methodLinkNest a b c d => exact va_Nw.of rfl h1
  | castable a b => exact va_Nw.of rfl h1
  | declares a => exact va_Nw.of rfl h1
  | arrayOver t =>
    cases t with
    | object C => exact va_AO.of h1
    | _ => cases hk
  | _ => cases hk
theorem nx_warm {s U : State} (hW : s.WarmedH U.vm) (h : nx s) : nx U := by
  intro w hw hk
  have h1 := h w hw hk
  cases w with
  | fieldLinkNest a b c d e f => exact va_Nw.warmF hW h1
  | methodLinkNest a b c d => exact va_Nw.warmM hW h1
  | castable a b => exact va_Nw.warmC hW h1
  | declares a => exact va_Nw.warmD hW h1
  | arrayOver t =>
    cases t with
    | object C => exact va_AO.moved hW.alike h1
    | _ => cases hk
  | _ => cases hk
theorem nx_same {s U : State} (hv : s.vm = U.vm) (h : nx s) : nx U := by
  intro w hw hk
  have h1 := h w hw hk
  cases w with
  | fieldLinkNest a b c d e f => exact va_Nw.same rfl hv h1
  | methodLinkNest a b c d => exact va_Nw.same rfl hv h1
  | castable a b => exact va_Nw.same rfl hv h1
  | declares a => exact va_Nw.same rfl hv h1
  | arrayOver t =>
    cases t with
    | object C => exact va_AO.moved (by rw [hv]; exact Vm.Alike.refl _) h1
    | _ => cases hk
  | _ => cases hk
/-- a world at a method's start, and at its end -/
def wpre (D : va_G) (cl : List vw_C) (tys : List (ClassId × FieldType)) (ws : va_W) (sz : Nat) : State → Prop := fun U => U.heap.size = sz ∧ va_P D cl ws U.heap ∧ va_K D cl tys U ∧ va_D (fun _ => True) ws ∧ nx U
def wpost {S : Type} (D : va_G) (cl : List vw_C) (A : Nat → Prop) (ws : S → va_W) : S → State → Prop := fun u t => va_P D cl (ws u) t.heap ∧ va_D A (ws u)
theorem wpre_blind {D : va_G} {cl : List vw_C} {tys : List (ClassId × FieldType)} {ws : va_W} {sz : Nat} {av : List Value} : FrameBlind (va_Pc av (wpre D cl tys ws sz)) := fun a U g mk h => by
  obtain ⟨h0, h1, h2, h3, h4, h5⟩ := h
  exact ⟨h0, h1, h2, va_K.moved (u := U) (U := U.calling g mk a) (Vm.Alike.refl U.vm) h3, h4, nx_same (s := U) (U := U.calling g mk a) rfl h5⟩
/-- what a method's walk keeps at hand -/
def cx (cc : ByteArray) (nL : Nat) (ret : Option FieldType) (own : String) (D : va_G) (cl : List vw_C) (tys : List (ClassId × FieldType)) (A : Nat → Prop) (p : Program) (c : Code) (meth : Method) (s : State) (m : MethodId) (args : Array Value) : Prop :=
  p.tables.exec = Jvm.exec ∧ c.code = cc ∧ meth.sig.returnType = ret ∧ meth.locks = false ∧ c.maxLocals = nL ∧ s.vm.findClass own = some m.cls ∧ (∀ w ∈ lw_all, w.before args s = true) ∧ nx s ∧ va_K D cl tys s ∧ ∀ q, s.heap.size ≤ q → A q
theorem met_of {l : Launch} {y : MethodName} {rm : Room} {D : va_G} {cl : List vw_C} {tys : List (ClassId × FieldType)} {ws : va_W} {sz : Nat} {av : List Value} (Qc : (Nat → Prop) → Array Value → State → Outcome → State → Prop) {cc : ByteArray} {nL mc ms : Nat} {ret : Option FieldType}
    (hy : plainName y.cls = true) (hsl : (lg_sl av).length ≤ nL)
    (body : ∀ (p : Program) (e : Env) (s : State) (m : MethodId) (args : Array Value) (below : List Frame) (meth : Method) (c : Code) (Z : State → Prop) (A : Nat → Prop), Z = MQ below (Qc A) args s mc ms A → cx cc nL ret y.cls D cl tys A p c meth s m args → ∀ (H : Heap) (locs : List Loc), va_P D cl ws H → va_D A ws → va_S A s.heap H locs → ∀ ls : Array Slot, lv_has ls nL (lv_args 0 av) →
      W p l e rm s m args below meth c H locs 0 0 Z (F0 m 0 ls [])) : Met l y (ws_ y cc nL ret) rm (va_Pc av (wpre D cl tys ws sz)) (Qc (va_A ws sz)) mc ms (va_A ws sz) := by
  refine Met.ofW (cc := cc) (maxL := nL) (ret := ret) hy rfl ?_
  intro p e s m args below meth c s₁ B hml hv
  obtain ⟨rfl, hsz, hP, hK, hD0, hn⟩ := hv
  subst hsz
  have hts := atoms_spec (ws := ws_ y cc nL ret) B.pre
  have hts : ∀ w ∈ lw_all, w.before av.toArray s = true := fun w h => hts w (List.mem_cons_of_mem _ h)
  have hl := lv_entry av (n := nL) hsl
  rw [lg_entry_eq]
  generalize (lg_sl av ++ List.replicate (nL - (lg_sl av).length) Slot.unset).toArray = ls at hl ⊢
  exact body p e s m av.toArray below meth c _ _ rfl ⟨B.exec, B.bytes, B.returns, B.notSynchronized, hml, findClass_of_methodNamed B.named, hts, hn, hK, fun q h => Or.inr h⟩ _ _ hP hD0.self va_S.rf ls hl
section WC
variable {p : Program} {l : Launch} {e : Env} {R : Room} {s : State} {m : MethodId} {args : Array Value} {below : List Frame} {meth : Method} {c : Code} {H : Heap} {locs : List Loc} {cells slots : Nat} {Z : State → Prop}
variable {D : va_G} {cl : List vw_C} {tys : List (ClassId × FieldType)} {A : Nat → Prop} {cc : ByteArray} {nL : Nat} {ret0 : Option FieldType} {own : String} {pc : Nat} {ls : Array Slot} {st0 : List Value}
variable {y : MethodName} {bytes : ByteArray} {maxL mc ms n index : Nat} {ret : Option FieldType} {ws' : List Cond} {rm : Room} {C0 : String} {b : Nat} {ws wc wr : va_W}
theorem wc_free {isC : List Nat} (hD : va_D A ws) (hS : va_S A s.heap H locs) (hA : ∀ q, s.heap.size ≤ q → A q) (hC : isC.map (fun i => ws[i]?) = wc.map some) : ∀ q, va_A wc H.size q → A q := va_free hD hS hA isC hC
theorem wc_self (ws : va_W) : (List.range ws.length).map (fun i => ws[i]?) = ws.map some := by
  apply List.ext_getElem?
  intro i
  by_cases h : i < ws.length
  · simp [h]
  · simp [h]
theorem wc_pre {isC : List Nat} (C : cx cc nL ret0 own D cl tys A p c meth s m args) (hP : va_P D cl ws H) (hD : va_D A ws) (hC : isC.map (fun i => ws[i]?) = wc.map some) (hn : va_nd isC = true) (av : List Value) : ∀ U : State, U.heap = H → s.WarmedH U.vm → va_Pc av (wpre D cl tys wc H.size) av.toArray U := by
  intro U hU hW
  have h0 : ∀ (k : Nat) (q : Nat × va_E), wc[k]? = some q → ∃ i, isC[k]? = some i ∧ ws[i]? = some q := by
    intro k q hk
    have h1 : (isC.map (fun i => ws[i]?))[k]? = some (some q) := by rw [hC, List.getElem?_map, hk]; rfl
    rw [List.getElem?_map] at h1
    cases hi : isC[k]? with
    | none => rw [hi] at h1; cases h1
    | some i => rw [hi] at h1; exact ⟨i, rfl, Option.some.inj h1⟩
  refine ⟨rfl, by rw [hU], fun k q hk => ?_, va_K.moved hW.alike C.2.2.2.2.2.2.2.2.1, (hD.sub isC hn hC).weaken (fun _ _ _ _ => trivial), nx_warm hW C.2.2.2.2.2.2.2.1⟩
  obtain ⟨i, -, hi⟩ := h0 k q hk
  rw [hU]
  exact hP i q hi
theorem wc_R {ws : va_W} {isR : List Nat} (h : isR.all (fun i => Nat.blt i ws.length) = true) : isR.map (fun i => ws[i]?) = (isR.filterMap (fun i => ws[i]?)).map some := by
  induction isR with
  | nil => rfl
  | cons i l ih =>
    simp only [List.all_cons, Bool.and_eq_true] at h
    have hi : i < ws.length := Nat.le_of_ble_eq_true h.1
    rw [List.map_cons, ih h.2, List.filterMap_cons, List.getElem?_eq_getElem hi]
    rfl
theorem wc_ndr : ∀ (n k : Nat), va_nd (List.range' k n) = true := by
  intro n
  induction n with
  | zero => intro k; rfl
  | succ n ih =>
    intro k
    rw [List.range'_succ]
    simp only [va_nd, Bool.and_eq_true, decide_eq_true_eq]
    refine ⟨?_, ih _⟩
    intro h
    have := List.mem_range'_1.mp h
    omega
theorem wc_nd (n : Nat) : va_nd (List.range n) = true := by rw [List.range_eq_range']; exact wc_ndr n 0
theorem wc_Vi {S : Type} {post : Int32 → S → Prop} {w1 : S → va_W} {As rest : List Value} {ci : Nat} {fs : List Value} {q : vw_C} (C : cx cc nL ret0 own D cl tys A p c meth s m args) (hM : Met l y ws' rm (va_Pc (.ref b :: As) (wpre D cl tys ws H.size)) (va_Qi post (wpost D cl (va_A ws H.size) w1) (va_A ws H.size)) mc ms (va_A ws H.size)) (cw : CallW R s args own q.1 index y bytes maxL ret ws' rm mc ms n) (hP : va_P D cl ws H) (hD : va_D A ws) (hS : va_S A s.heap H locs) (q0 : Nat) (he : ws[q0]? = some (b, .inr (ci, fs))) (hc : cl[ci]? = some q) (hn : As.length = n) (hst : st0 = As.reverse ++ .ref b :: rest) (hsz : ls.size = nL) (hrm : (rest.map fun v => v.category).sum ≤ 8) (hdg : decode cc pc = .ok (.invokevirtual index, 3)) (hf : cells + mc ≤ R.cells ∧ slots + ms ≤ R.slots)
    (kk : ∀ (r : Int32) (u : S) (H1 : Heap) (locs1 : List Loc), post r u → va_P D cl (w1 u) H1 → va_D A (w1 u) → va_S A s.heap H1 locs1 → W p l e R s m args below meth c H1 locs1 (cells + mc) (slots + ms) Z (F0 m (pc + 3) ls (.int r :: rest))) : W p l e R s m args below meth c H locs cells slots Z (F0 m pc ls st0) := by
  have hF : ∀ q, va_A ws H.size q → A q := va_free hD hS C.2.2.2.2.2.2.2.2.2 (List.range ws.length) (wc_self ws)
  refine va_calli (va_runV (As := As) (rest := rest) ⟨C.1, C.2.1, C.2.2.2.2.1, C.2.2.2.2.2.1, C.2.2.2.2.2.2.1⟩ hM cw ⟨wpre_blind, va_recv C.2.2.2.2.2.2.2.2.1 hP hc he, wc_pre C hP hD (wc_self ws) (wc_nd ws.length) (.ref b :: As)⟩ rfl hn hsz hst (lv_room hrm) hdg hf) hS (fun q _ h => hF q h) hF (fun r u t H1 locs1 ht hvm hw hB hz1 hk1 hS1 => ?_)
  obtain ⟨hP1, hD1⟩ := hB
  rw [ht] at hP1
  exact kk r u H1 locs1 hw hP1 (hD1.weaken (fun k q _ h => hF q.1 h)) hS1
theorem wc_Vis {S : Type} {post : Int32 → S → Prop} {w1 : S → va_W} {As rest : List Value} {ci : Nat} {fs : List Value} {q : vw_C} (C : cx cc nL ret0 own D cl tys A p c meth s m args) (hM : Met l y ws' rm (va_Pc (.ref b :: As) (wpre D cl tys wc H.size)) (va_Qi post (wpost D cl (va_A wc H.size) w1) (va_A wc H.size)) mc ms (va_A wc H.size)) (cw : CallW R s args own q.1 index y bytes maxL ret ws' rm mc ms n) (hP : va_P D cl ws H) (hD : va_D A ws) (hS : va_S A s.heap H locs) (isC isR : List Nat) (hC : isC.map (fun i => ws[i]?) = wc.map some) (hR : isR.all (fun i => Nat.blt i ws.length) = true) (hnC : va_nd isC = true) (hnR : va_nd isR = true) (hdis : ∀ i ∈ isR, i ∉ isC) (q0 : Nat) (he : ws[q0]? = some (b, .inr (ci, fs))) (hc : cl[ci]? = some q) (hn : As.length = n) (hst : st0 = As.reverse ++ .ref b :: rest) (hsz : ls.size = nL) (hrm : (rest.map fun v => v.category).sum ≤ 8) (hdg : decode cc pc = .ok (.invokevirtual index, 3)) (hf : cells + mc ≤ R.cells ∧ slots + ms ≤ R.slots)
    (kk : ∀ (r : Int32) (u : S) (H1 : Heap) (locs1 : List Loc), post r u → va_P D cl ((isR.filterMap (fun i => ws[i]?)) ++ w1 u) H1 → va_D A ((isR.filterMap (fun i => ws[i]?)) ++ w1 u) → va_S A s.heap H1 locs1 → W p l e R s m args below meth c H1 locs1 (cells + mc) (slots + ms) Z (F0 m (pc + 3) ls (.int r :: rest))) : W p l e R s m args below meth c H locs cells slots Z (F0 m pc ls st0) := by
  have hF : ∀ q, va_A wc H.size q → A q := va_free hD hS C.2.2.2.2.2.2.2.2.2 isC hC
  refine va_calli (va_runV (As := As) (rest := rest) ⟨C.1, C.2.1, C.2.2.2.2.1, C.2.2.2.2.2.1, C.2.2.2.2.2.2.1⟩ hM cw ⟨wpre_blind, va_recv C.2.2.2.2.2.2.2.2.1 hP hc he, wc_pre C hP hD hC hnC (.ref b :: As)⟩ rfl hn hsz hst (lv_room hrm) hdg hf) hS (fun q _ h => hF q h) hF (fun r u t H1 locs1 ht hvm hw hB hz1 hk1 hS1 => ?_)
  obtain ⟨hP1, hD1⟩ := hB
  rw [ht] at hP1
  obtain ⟨hP2, hD2⟩ := va_join hP hD isC isR hC (wc_R hR) hnR hdis hk1 hF hP1 hD1
  exact kk r u H1 locs1 hw hP2 hD2 hS1
theorem wc_Si {S : Type} {post : Int32 → S → Prop} {w1 : S → va_W} {As rest : List Value} (C : cx cc nL ret0 own D cl tys A p c meth s m args) (hM : Met l y ws' rm (va_Pc As (wpre D cl tys ws H.size)) (va_Qi post (wpost D cl (va_A ws H.size) w1) (va_A ws H.size)) mc ms (va_A ws H.size)) (cw : CallB R s args own index y bytes maxL ret ws' rm mc ms n ∧ (Cond.static y).before args s = true) (hP : va_P D cl ws H) (hD : va_D A ws) (hS : va_S A s.heap H locs) (hn : As.length = n) (hst : st0 = As.reverse ++ rest) (hsz : ls.size = nL) (hrm : (rest.map fun v => v.category).sum ≤ 8) (hdg : decode cc pc = .ok (.invokestatic index, 3)) (hf : cells + mc ≤ R.cells ∧ slots + ms ≤ R.slots)
    (kk : ∀ (r : Int32) (u : S) (H1 : Heap) (locs1 : List Loc), post r u → va_P D cl (w1 u) H1 → va_D A (w1 u) → va_S A s.heap H1 locs1 → W p l e R s m args below meth c H1 locs1 (cells + mc) (slots + ms) Z (F0 m (pc + 3) ls (.int r :: rest))) : W p l e R s m args below meth c H locs cells slots Z (F0 m pc ls st0) := by
  have hF : ∀ q, va_A ws H.size q → A q := va_free hD hS C.2.2.2.2.2.2.2.2.2 (List.range ws.length) (wc_self ws)
  refine va_calli (va_runS (As := As) (rest := rest) ⟨C.1, C.2.1, C.2.2.2.2.1, C.2.2.2.2.2.1, C.2.2.2.2.2.2.1⟩ hM cw ⟨wpre_blind, wc_pre C hP hD (wc_self ws) (wc_nd ws.length) As⟩ rfl hn hsz hst (lv_room hrm) hdg hf) hS (fun q _ h => hF q h) hF (fun r u t H1 locs1 ht hvm hw hB hz1 hk1 hS1 => ?_)
  obtain ⟨hP1, hD1⟩ := hB
  rw [ht] at hP1
  exact kk r u H1 locs1 hw hP1 (hD1.weaken (fun k q _ h => hF q.1 h)) hS1
theorem wc_Sis {S : Type} {post : Int32 → S → Prop} {w1 : S → va_W} {As rest : List Value} (C : cx cc nL ret0 own D cl tys A p c meth s m args) (hM : Met l y ws' rm (va_Pc As (wpre D cl tys wc H.size)) (va_Qi post (wpost D cl (va_A wc H.size) w1) (va_A wc H.size)) mc ms (va_A wc H.size)) (cw : CallB R s args own index y bytes maxL ret ws' rm mc ms n ∧ (Cond.static y).before args s = true) (hP : va_P D cl ws H) (hD : va_D A ws) (hS : va_S A s.heap H locs) (isC isR : List Nat) (hC : isC.map (fun i => ws[i]?) = wc.map some) (hR : isR.all (fun i => Nat.blt i ws.length) = true) (hnC : va_nd isC = true) (hnR : va_nd isR = true) (hdis : ∀ i ∈ isR, i ∉ isC) (hn : As.length = n) (hst : st0 = As.reverse ++ rest) (hsz : ls.size = nL) (hrm : (rest.map fun v => v.category).sum ≤ 8) (hdg : decode cc pc = .ok (.invokestatic index, 3)) (hf : cells + mc ≤ R.cells ∧ slots + ms ≤ R.slots)
    (kk : ∀ (r : Int32) (u : S) (H1 : Heap) (locs1 : List Loc), post r u → va_P D cl ((isR.filterMap (fun i => ws[i]?)) ++ w1 u) H1 → va_D A ((isR.filterMap (fun i => ws[i]?)) ++ w1 u) → va_S A s.heap H1 locs1 → W p l e R s m args below meth c H1 locs1 (cells + mc) (slots + ms) Z (F0 m (pc + 3) ls (.int r :: rest))) : W p l e R s m args below meth c H locs cells slots Z (F0 m pc ls st0) := by
  have hF : ∀ q, va_A wc H.size q → A q := va_free hD hS C.2.2.2.2.2.2.2.2.2 isC hC
  refine va_calli (va_runS (As := As) (rest := rest) ⟨C.1, C.2.1, C.2.2.2.2.1, C.2.2.2.2.2.1, C.2.2.2.2.2.2.1⟩ hM cw ⟨wpre_blind, wc_pre C hP hD hC hnC As⟩ rfl hn hsz hst (lv_room hrm) hdg hf) hS (fun q _ h => hF q h) hF (fun r u t H1 locs1 ht hvm hw hB hz1 hk1 hS1 => ?_)
  obtain ⟨hP1, hD1⟩ := hB
  rw [ht] at hP1
  obtain ⟨hP2, hD2⟩ := va_join hP hD isC isR hC (wc_R hR) hnR hdis hk1 hF hP1 hD1
  exact kk r u H1 locs1 hw hP2 hD2 hS1
theorem wc_Vl {S : Type} {post : Int64 → S → Prop} {w1 : S → va_W} {As rest : List Value} {ci : Nat} {fs : List Value} {q : vw_C} (C : cx cc nL ret0 own D cl tys A p c meth s m args) (hM : Met l y ws' rm (va_Pc (.ref b :: As) (wpre D cl tys ws H.size)) (va_Ql post (wpost D cl (va_A ws H.size) w1) (va_A ws H.size)) mc ms (va_A ws H.size)) (cw : CallW R s args own q.1 index y bytes maxL ret ws' rm mc ms n) (hP : va_P D cl ws H) (hD : va_D A ws) (hS : va_S A s.heap H locs) (q0 : Nat) (he : ws[q0]? = some (b, .inr (ci, fs))) (hc : cl[ci]? = some q) (hn : As.length = n) (hst : st0 = As.reverse ++ .ref b :: rest) (hsz : ls.size = nL) (hrm : (rest.map fun v => v.category).sum ≤ 8) (hdg : decode cc pc = .ok (.invokevirtual index, 3)) (hf : cells + mc ≤ R.cells ∧ slots + ms ≤ R.slots)
    (kk : ∀ (r : Int64) (u : S) (H1 : Heap) (locs1 : List Loc), post r u → va_P D cl (w1 u) H1 → va_D A (w1 u) → va_S A s.heap H1 locs1 → W p l e R s m args below meth c H1 locs1 (cells + mc) (slots + ms) Z (F0 m (pc + 3) ls (.long r :: rest))) : W p l e R s m args below meth c H locs cells slots Z (F0 m pc ls st0) := by
  have hF : ∀ q, va_A ws H.size q → A q := va_free hD hS C.2.2.2.2.2.2.2.2.2 (List.range ws.length) (wc_self ws)
  refine va_calll (va_runV (As := As) (rest := rest) ⟨C.1, C.2.1, C.2.2.2.2.1, C.2.2.2.2.2.1, C.2.2.2.2.2.2.1⟩ hM cw ⟨wpre_blind, va_recv C.2.2.2.2.2.2.2.2.1 hP hc he, wc_pre C hP hD (wc_self ws) (wc_nd ws.length) (.ref b :: As)⟩ rfl hn hsz hst (lv_room hrm) hdg hf) hS (fun q _ h => hF q h) hF (fun r u t H1 locs1 ht hvm hw hB hz1 hk1 hS1 => ?_)
  obtain ⟨hP1, hD1⟩ := hB
  rw [ht] at hP1
  exact kk r u H1 locs1 hw hP1 (hD1.weaken (fun k q _ h => hF q.1 h)) hS1
theorem wc_Vls {S : Type} {post : Int64 → S → Prop} {w1 : S → va_W} {As rest : List Value} {ci : Nat} {fs : List Value} {q : vw_C} (C : cx cc nL ret0 own D cl tys A p c meth s m args) (hM : Met l y ws' rm (va_Pc (.ref b :: As) (wpre D cl tys wc H.size)) (va_Ql post (wpost D cl (va_A wc H.size) w1) (va_A wc H.size)) mc ms (va_A wc H.size)) (cw : CallW R s args own q.1 index y bytes maxL ret ws' rm mc ms n) (hP : va_P D cl ws H) (hD : va_D A ws) (hS : va_S A s.heap H locs) (isC isR : List Nat) (hC : isC.map (fun i => ws[i]?) = wc.map some) (hR : isR.all (fun i => Nat.blt i ws.length) = true) (hnC : va_nd isC = true) (hnR : va_nd isR = true) (hdis : ∀ i ∈ isR, i ∉ isC) (q0 : Nat) (he : ws[q0]? = some (b, .inr (ci, fs))) (hc : cl[ci]? = some q) (hn : As.length = n) (hst : st0 = As.reverse ++ .ref b :: rest) (hsz : ls.size = nL) (hrm : (rest.map fun v => v.category).sum ≤ 8) (hdg : decode cc pc = .ok (.invokevirtual index, 3)) (hf : cells + mc ≤ R.cells ∧ slots + ms ≤ R.slots)
    (kk : ∀ (r : Int64) (u : S) (H1 : Heap) (locs1 : List Loc), post r u → va_P D cl ((isR.filterMap (fun i => ws[i]?)) ++ w1 u) H1 → va_D A ((isR.filterMap (fun i => ws[i]?)) ++ w1 u) → va_S A s.heap H1 locs1 → W p l e R s m args below meth c H1 locs1 (cells + mc) (slots + ms) Z (F0 m (pc + 3) ls (.long r :: rest))) : W p l e R s m args below meth c H locs cells slots Z (F0 m pc ls st0) := by
  have hF : ∀ q, va_A wc H.size q → A q := va_free hD hS C.2.2.2.2.2.2.2.2.2 isC hC
  refine va_calll (va_runV (As := As) (rest := rest) ⟨C.1, C.2.1, C.2.2.2.2.1, C.2.2.2.2.2.1, C.2.2.2.2.2.2.1⟩ hM cw ⟨wpre_blind, va_recv C.2.2.2.2.2.2.2.2.1 hP hc he, wc_pre C hP hD hC hnC (.ref b :: As)⟩ rfl hn hsz hst (lv_room hrm) hdg hf) hS (fun q _ h => hF q h) hF (fun r u t H1 locs1 ht hvm hw hB hz1 hk1 hS1 => ?_)
  obtain ⟨hP1, hD1⟩ := hB
  rw [ht] at hP1
  obtain ⟨hP2, hD2⟩ := va_join hP hD isC isR hC (wc_R hR) hnR hdis hk1 hF hP1 hD1
  exact kk r u H1 locs1 hw hP2 hD2 hS1
theorem wc_Sl {S : Type} {post : Int64 → S → Prop} {w1 : S → va_W} {As rest : List Value} (C : cx cc nL ret0 own D cl tys A p c meth s m args) (hM : Met l y ws' rm (va_Pc As (wpre D cl tys ws H.size)) (va_Ql post (wpost D cl (va_A ws H.size) w1) (va_A ws H.size)) mc ms (va_A ws H.size)) (cw : CallB R s args own index y bytes maxL ret ws' rm mc ms n ∧ (Cond.static y).before args s = true) (hP : va_P D cl ws H) (hD : va_D A ws) (hS : va_S A s.heap H locs) (hn : As.length = n) (hst : st0 = As.reverse ++ rest) (hsz : ls.size = nL) (hrm : (rest.map fun v => v.category).sum ≤ 8) (hdg : decode cc pc = .ok (.invokestatic index, 3)) (hf : cells + mc ≤ R.cells ∧ slots + ms ≤ R.slots)
    (kk : ∀ (r : Int64) (u : S) (H1 : Heap) (locs1 : List Loc), post r u → va_P D cl (w1 u) H1 → va_D A (w1 u) → va_S A s.heap H1 locs1 → W p l e R s m args below meth c H1 locs1 (cells + mc) (slots + ms) Z (F0 m (pc + 3) ls (.long r :: rest))) : W p l e R s m args below meth c H locs cells slots Z (F0 m pc ls st0) := by
  have hF : ∀ q, va_A ws H.size q → A q := va_free hD hS C.2.2.2.2.2.2.2.2.2 (List.range ws.length) (wc_self ws)
  refine va_calll (va_runS (As := As) (rest := rest) ⟨C.1, C.2.1, C.2.2.2.2.1, C.2.2.2.2.2.1, C.2.2.2.2.2.2.1⟩ hM cw ⟨wpre_blind, wc_pre C hP hD (wc_self ws) (wc_nd ws.length) As⟩ rfl hn hsz hst (lv_room hrm) hdg hf) hS (fun q _ h => hF q h) hF (fun r u t H1 locs1 ht hvm hw hB hz1 hk1 hS1 => ?_)
  obtain ⟨hP1, hD1⟩ := hB
  rw [ht] at hP1
  exact kk r u H1 locs1 hw hP1 (hD1.weaken (fun k q _ h => hF q.1 h)) hS1
theorem wc_Sls {S : Type} {post : Int64 → S → Prop} {w1 : S → va_W} {As rest : List Value} (C : cx cc nL ret0 own D cl tys A p c meth s m args) (hM : Met l y ws' rm (va_Pc As (wpre D cl tys wc H.size)) (va_Ql post (wpost D cl (va_A wc H.size) w1) (va_A wc H.size)) mc ms (va_A wc H.size)) (cw : CallB R s args own index y bytes maxL ret ws' rm mc ms n ∧ (Cond.static y).before args s = true) (hP : va_P D cl ws H) (hD : va_D A ws) (hS : va_S A s.heap H locs) (isC isR : List Nat) (hC : isC.map (fun i => ws[i]?) = wc.map some) (hR : isR.all (fun i => Nat.blt i ws.length) = true) (hnC : va_nd isC = true) (hnR : va_nd isR = true) (hdis : ∀ i ∈ isR, i ∉ isC) (hn : As.length = n) (hst : st0 = As.reverse ++ rest) (hsz : ls.size = nL) (hrm : (rest.map fun v => v.category).sum ≤ 8) (hdg : decode cc pc = .ok (.invokestatic index, 3)) (hf : cells + mc ≤ R.cells ∧ slots + ms ≤ R.slots)
    (kk : ∀ (r : Int64) (u : S) (H1 : Heap) (locs1 : List Loc), post r u → va_P D cl ((isR.filterMap (fun i => ws[i]?)) ++ w1 u) H1 → va_D A ((isR.filterMap (fun i => ws[i]?)) ++ w1 u) → va_S A s.heap H1 locs1 → W p l e R s m args below meth c H1 locs1 (cells + mc) (slots + ms) Z (F0 m (pc + 3) ls (.long r :: rest))) : W p l e R s m args below meth c H locs cells slots Z (F0 m pc ls st0) := by
  have hF : ∀ q, va_A wc H.size q → A q := va_free hD hS C.2.2.2.2.2.2.2.2.2 isC hC
  refine va_calll (va_runS (As := As) (rest := rest) ⟨C.1, C.2.1, C.2.2.2.2.1, C.2.2.2.2.2.1, C.2.2.2.2.2.2.1⟩ hM cw ⟨wpre_blind, wc_pre C hP hD hC hnC As⟩ rfl hn hsz hst (lv_room hrm) hdg hf) hS (fun q _ h => hF q h) hF (fun r u t H1 locs1 ht hvm hw hB hz1 hk1 hS1 => ?_)
  obtain ⟨hP1, hD1⟩ := hB
  rw [ht] at hP1
  obtain ⟨hP2, hD2⟩ := va_join hP hD isC isR hC (wc_R hR) hnR hdis hk1 hF hP1 hD1
  exact kk r u H1 locs1 hw hP2 hD2 hS1
theorem wc_Vv {S : Type} {post : S → Prop} {w1 : S → va_W} {As rest : List Value} {ci : Nat} {fs : List Value} {q : vw_C} (C : cx cc nL ret0 own D cl tys A p c meth s m args) (hM : Met l y ws' rm (va_Pc (.ref b :: As) (wpre D cl tys ws H.size)) (va_Qv post (wpost D cl (va_A ws H.size) w1) (va_A ws H.size)) mc ms (va_A ws H.size)) (cw : CallW R s args own q.1 index y bytes maxL ret ws' rm mc ms n) (hP : va_P D cl ws H) (hD : va_D A ws) (hS : va_S A s.heap H locs) (q0 : Nat) (he : ws[q0]? = some (b, .inr (ci, fs))) (hc : cl[ci]? = some q) (hn : As.length = n) (hst : st0 = As.reverse ++ .ref b :: rest) (hsz : ls.size = nL) (hrm : (rest.map fun v => v.category).sum ≤ 8) (hdg : decode cc pc = .ok (.invokevirtual index, 3)) (hf : cells + mc ≤ R.cells ∧ slots + ms ≤ R.slots)
    (kk : ∀ (u : S) (H1 : Heap) (locs1 : List Loc), post u → va_P D cl (w1 u) H1 → va_D A (w1 u) → va_S A s.heap H1 locs1 → W p l e R s m args below meth c H1 locs1 (cells + mc) (slots + ms) Z (F0 m (pc + 3) ls (rest))) : W p l e R s m args below meth c H locs cells slots Z (F0 m pc ls st0) := by
  have hF : ∀ q, va_A ws H.size q → A q := va_free hD hS C.2.2.2.2.2.2.2.2.2 (List.range ws.length) (wc_self ws)
  refine va_callv (va_runV (As := As) (rest := rest) ⟨C.1, C.2.1, C.2.2.2.2.1, C.2.2.2.2.2.1, C.2.2.2.2.2.2.1⟩ hM cw ⟨wpre_blind, va_recv C.2.2.2.2.2.2.2.2.1 hP hc he, wc_pre C hP hD (wc_self ws) (wc_nd ws.length) (.ref b :: As)⟩ rfl hn hsz hst (lv_room hrm) hdg hf) hS (fun q _ h => hF q h) hF (fun u t H1 locs1 ht hvm hw hB hz1 hk1 hS1 => ?_)
  obtain ⟨hP1, hD1⟩ := hB
  rw [ht] at hP1
  exact kk u H1 locs1 hw hP1 (hD1.weaken (fun k q _ h => hF q.1 h)) hS1
theorem wc_Vvs {S : Type} {post : S → Prop} {w1 : S → va_W} {As rest : List Value} {ci : Nat} {fs : List Value} {q : vw_C} (C : cx cc nL ret0 own D cl tys A p c meth s m args) (hM : Met l y ws' rm (va_Pc (.ref b :: As) (wpre D cl tys wc H.size)) (va_Qv post (wpost D cl (va_A wc H.size) w1) (va_A wc H.size)) mc ms (va_A wc H.size)) (cw : CallW R s args own q.1 index y bytes maxL ret ws' rm mc ms n) (hP : va_P D cl ws H) (hD : va_D A ws) (hS : va_S A s.heap H locs) (isC isR : List Nat) (hC : isC.map (fun i => ws[i]?) = wc.map some) (hR : isR.all (fun i => Nat.blt i ws.length) = true) (hnC : va_nd isC = true) (hnR : va_nd isR = true) (hdis : ∀ i ∈ isR, i ∉ isC) (q0 : Nat) (he : ws[q0]? = some (b, .inr (ci, fs))) (hc : cl[ci]? = some q) (hn : As.length = n) (hst : st0 = As.reverse ++ .ref b :: rest) (hsz : ls.size = nL) (hrm : (rest.map fun v => v.category).sum ≤ 8) (hdg : decode cc pc = .ok (.invokevirtual index, 3)) (hf : cells + mc ≤ R.cells ∧ slots + ms ≤ R.slots)
    (kk : ∀ (u : S) (H1 : Heap) (locs1 : List Loc), post u → va_P D cl ((isR.filterMap (fun i => ws[i]?)) ++ w1 u) H1 → va_D A ((isR.filterMap (fun i => ws[i]?)) ++ w1 u) → va_S A s.heap H1 locs1 → W p l e R s m args below meth c H1 locs1 (cells + mc) (slots + ms) Z (F0 m (pc + 3) ls (rest))) : W p l e R s m args below meth c H locs cells slots Z (F0 m pc ls st0) := by
  have hF : ∀ q, va_A wc H.size q → A q := va_free hD hS C.2.2.2.2.2.2.2.2.2 isC hC
  refine va_callv (va_runV (As := As) (rest := rest) ⟨C.1, C.2.1, C.2.2.2.2.1, C.2.2.2.2.2.1, C.2.2.2.2.2.2.1⟩ hM cw ⟨wpre_blind, va_recv C.2.2.2.2.2.2.2.2.1 hP hc he, wc_pre C hP hD hC hnC (.ref b :: As)⟩ rfl hn hsz hst (lv_room hrm) hdg hf) hS (fun q _ h => hF q h) hF (fun u t H1 locs1 ht hvm hw hB hz1 hk1 hS1 => ?_)
  obtain ⟨hP1, hD1⟩ := hB
  rw [ht] at hP1
  obtain ⟨hP2, hD2⟩ := va_join hP hD isC isR hC (wc_R hR) hnR hdis hk1 hF hP1 hD1
  exact kk u H1 locs1 hw hP2 hD2 hS1
theorem wc_Sv {S : Type} {post : S → Prop} {w1 : S → va_W} {As rest : List Value} (C : cx cc nL ret0 own D cl tys A p c meth s m args) (hM : Met l y ws' rm (va_Pc As (wpre D cl tys ws H.size)) (va_Qv post (wpost D cl (va_A ws H.size) w1) (va_A ws H.size)) mc ms (va_A ws H.size)) (cw : CallB R s args own index y bytes maxL ret ws' rm mc ms n ∧ (Cond.static y).before args s = true) (hP : va_P D cl ws H) (hD : va_D A ws) (hS : va_S A s.heap H locs) (hn : As.length = n) (hst : st0 = As.reverse ++ rest) (hsz : ls.size = nL) (hrm : (rest.map fun v => v.category).sum ≤ 8) (hdg : decode cc pc = .ok (.invokestatic index, 3)) (hf : cells + mc ≤ R.cells ∧ slots + ms ≤ R.slots)
    (kk : ∀ (u : S) (H1 : Heap) (locs1 : List Loc), post u → va_P D cl (w1 u) H1 → va_D A (w1 u) → va_S A s.heap H1 locs1 → W p l e R s m args below meth c H1 locs1 (cells + mc) (slots + ms) Z (F0 m (pc + 3) ls (rest))) : W p l e R s m args below meth c H locs cells slots Z (F0 m pc ls st0) := by
  have hF : ∀ q, va_A ws H.size q → A q := va_free hD hS C.2.2.2.2.2.2.2.2.2 (List.range ws.length) (wc_self ws)
  refine va_callv (va_runS (As := As) (rest := rest) ⟨C.1, C.2.1, C.2.2.2.2.1, C.2.2.2.2.2.1, C.2.2.2.2.2.2.1⟩ hM cw ⟨wpre_blind, wc_pre C hP hD (wc_self ws) (wc_nd ws.length) As⟩ rfl hn hsz hst (lv_room hrm) hdg hf) hS (fun q _ h => hF q h) hF (fun u t H1 locs1 ht hvm hw hB hz1 hk1 hS1 => ?_)
  obtain ⟨hP1, hD1⟩ := hB
  rw [ht] at hP1
  exact kk u H1 locs1 hw hP1 (hD1.weaken (fun k q _ h => hF q.1 h)) hS1
theorem wc_Svs {S : Type} {post : S → Prop} {w1 : S → va_W} {As rest : List Value} (C : cx cc nL ret0 own D cl tys A p c meth s m args) (hM : Met l y ws' rm (va_Pc As (wpre D cl tys wc H.size)) (va_Qv post (wpost D cl (va_A wc H.size) w1) (va_A wc H.size)) mc ms (va_A wc H.size)) (cw : CallB R s args own index y bytes maxL ret ws' rm mc ms n ∧ (Cond.static y).before args s = true) (hP : va_P D cl ws H) (hD : va_D A ws) (hS : va_S A s.heap H locs) (isC isR : List Nat) (hC : isC.map (fun i => ws[i]?) = wc.map some) (hR : isR.all (fun i => Nat.blt i ws.length) = true) (hnC : va_nd isC = true) (hnR : va_nd isR = true) (hdis : ∀ i ∈ isR, i ∉ isC) (hn : As.length = n) (hst : st0 = As.reverse ++ rest) (hsz : ls.size = nL) (hrm : (rest.map fun v => v.category).sum ≤ 8) (hdg : decode cc pc = .ok (.invokestatic index, 3)) (hf : cells + mc ≤ R.cells ∧ slots + ms ≤ R.slots)
    (kk : ∀ (u : S) (H1 : Heap) (locs1 : List Loc), post u → va_P D cl ((isR.filterMap (fun i => ws[i]?)) ++ w1 u) H1 → va_D A ((isR.filterMap (fun i => ws[i]?)) ++ w1 u) → va_S A s.heap H1 locs1 → W p l e R s m args below meth c H1 locs1 (cells + mc) (slots + ms) Z (F0 m (pc + 3) ls (rest))) : W p l e R s m args below meth c H locs cells slots Z (F0 m pc ls st0) := by
  have hF : ∀ q, va_A wc H.size q → A q := va_free hD hS C.2.2.2.2.2.2.2.2.2 isC hC
  refine va_callv (va_runS (As := As) (rest := rest) ⟨C.1, C.2.1, C.2.2.2.2.1, C.2.2.2.2.2.1, C.2.2.2.2.2.2.1⟩ hM cw ⟨wpre_blind, wc_pre C hP hD hC hnC As⟩ rfl hn hsz hst (lv_room hrm) hdg hf) hS (fun q _ h => hF q h) hF (fun u t H1 locs1 ht hvm hw hB hz1 hk1 hS1 => ?_)
  obtain ⟨hP1, hD1⟩ := hB
  rw [ht] at hP1
  obtain ⟨hP2, hD2⟩ := va_join hP hD isC isR hC (wc_R hR) hnR hdis hk1 hF hP1 hD1
  exact kk u H1 locs1 hw hP2 hD2 hS1
end WC
