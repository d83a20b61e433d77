set_option maxRecDepth 100000
/-! OWN ROWS 4: what the texts' methods and the throwing ones need of the heap beside their world: string constants, statics -/
def txJ : List (Nat × String) := [(58, "magpie"), (60, "sweep"), (62, "cat"), (64, "hearse"), (66, "blocks"), (68, "guard"), (70, "lock"), (72, "up"), (74, "down"), (50, "plain"), (52, "sceptic"), (54, "devout"), (56, "heathen")]
def lenJ : List Nat := [6, 5, 3, 6, 6, 5, 4, 2, 4, 5, 7, 6, 7]
def bytJ : List (List Int32) := [[109, 97, 103, 112, 105, 101], [115, 119, 101, 101, 112], [99, 97, 116], [104, 101, 97, 114, 115, 101], [98, 108, 111, 99, 107, 115], [103, 117, 97, 114, 100], [108, 111, 99, 107], [117, 112], [100, 111, 119, 110], [112, 108, 97, 105, 110], [115, 99, 101, 112, 116, 105, 99], [100, 101, 118, 111, 117, 116], [104, 101, 97, 116, 104, 101, 110]]
def env (sk sv : Nat → Nat) (A : Nat → Prop) (U : State) (H : Heap) : Prop := vk_S 13 lenJ bytJ sk sv A U H ∧ (∀ (i : Nat) (x : Nat × String), txJ[i]? = some x → vk_R "OmenLine$Reader" x.1 x.2 (sk i) U) ∧ va_Z "java/lang/String" "COMPACT_STRINGS" "Z" (.int 1) A U H ∧ va_Zq "jdk/internal/util/Preconditions" "SIOOBE_FORMATTER" "Ljava/util/function/BiFunction;" A U H ∧ vx_Zq Bundle.tN "UNASSIGNED_STACK" Bundle.steD A U H ∧ vx_Zq Bundle.tN "SUPPRESSED_SENTINEL" Bundle.listD A U H
theorem env_warm {sk sv : Nat → Nat} {A : Nat → Prop} {s U : State} {H : Heap} (hW : s.WarmedH U.vm) (h : env sk sv A s H) : env sk sv A U H := ⟨h.1.moved hW.alike, fun i x hx => vk_R.warm hW (h.2.1 i x hx), h.2.2.1.moved hW.alike, h.2.2.2.1.moved hW.alike, h.2.2.2.2.1.moved hW.alike, h.2.2.2.2.2.moved hW.alike⟩
theorem env_same {sk sv : Nat → Nat} {A : Nat → Prop} {u U : State} {H : Heap} (hv : U.vm = u.vm) (h : env sk sv A u H) : env sk sv A U H := by
  have ha : u.vm.Alike U.vm := by rw [hv]; exact Vm.Alike.refl _
  exact ⟨h.1.moved ha, fun i x hx => vk_R.same hv (h.2.1 i x hx), h.2.2.1.moved ha, h.2.2.2.1.moved ha, h.2.2.2.2.1.moved ha, h.2.2.2.2.2.moved ha⟩
theorem env_kept {sk sv : Nat → Nat} {A : Nat → Prop} {U : State} {H H1 : Heap} (h : env sk sv A U H) (hq : ∀ a : Nat, a < H.size → ¬ A a → H1[a]? = H[a]?) : env sk sv A U H1 := ⟨h.1.kept hq, h.2.1, h.2.2.1.kept hq, h.2.2.2.1.kept hq, h.2.2.2.2.1.kept hq, h.2.2.2.2.2.kept hq⟩
theorem env_narrow {sk sv : Nat → Nat} {A B : Nat → Prop} {U : State} {H : Heap} (h : env sk sv A U H) (hAB : ∀ q, B q → A q) : env sk sv B U H := ⟨h.1.narrow hAB, h.2.1, h.2.2.1.narrow hAB, h.2.2.2.1.narrow hAB, h.2.2.2.2.1.narrow hAB, h.2.2.2.2.2.narrow hAB⟩
def wpreE (D : va_G) (cl : List vw_C) (tys : List (ClassId × FieldType)) (sk sv : Nat → Nat) (ws : va_W) (sz : Nat) : State → Prop := fun U => wpre D cl tys ws sz U ∧ env sk sv (va_A ws sz) U U.heap
theorem wpreE_blind {D : va_G} {cl : List vw_C} {tys : List (ClassId × FieldType)} {sk sv : Nat → Nat} {ws : va_W} {sz : Nat} {av : List Value} : FrameBlind (va_Pc av (wpreE D cl tys sk sv ws sz)) := fun a U g mk h => by
  obtain ⟨h0, h1, h2⟩ := h
  exact ⟨h0, (wpre_blind a U g mk ⟨h0, h1⟩).2, env_same (u := U) (U := U.calling g mk a) rfl h2⟩
/-- the object that is thrown, and what of the world stays behind it -/
abbrev flt (x y : Int32) : va_E := .inr (9, [.null, .null, .null, .null, .null, .int 0, .int x, .int y])
def fltB (D : va_G) (cl : List vw_C) (keep : va_W) (A : Nat → Prop) : String → Addr → Int32 × Int32 → State → Prop := fun E q u t => E = "OmenLine$Fault" ∧ va_P D cl ((q, flt u.1 u.2) :: keep) t.heap ∧ va_D A ((q, flt u.1 u.2) :: keep)
theorem met_ofE {l : Launch} {y : MethodName} {rm : Room} {D : va_G} {cl : List vw_C} {tys : List (ClassId × FieldType)} {sk sv : Nat → Nat} {ws : va_W} {sz : Nat} {av : List Value} (Qc : (Nat → Prop) → Array Value → State → Outcome → State → Prop) {cc : ByteArray} {nL mc ms : Nat} {ret : Option FieldType}
    (hy : plainName y.cls = true) (hsl : (lg_sl av).length ≤ nL)
    (body : ∀ (p : Program) (e : Env) (s : State) (m : MethodId) (args : Array Value) (below : List Frame) (meth : Method) (c : Code) (Z : State → Prop) (A : Nat → Prop), Z = MQ below (Qc A) args s mc ms A → cx cc nL ret y.cls D cl tys A p c meth s m args → env sk sv A s s.heap → meth.name = y.name → ∀ (H : Heap) (locs : List Loc), va_P D cl ws H → va_D A ws → va_S A s.heap H locs → ∀ ls : Array Slot, lv_has ls nL (lv_args 0 av) →
      W p l e rm s m args below meth c H locs 0 0 Z (F0 m 0 ls [])) : Met l y (ws_ y cc nL ret) rm (va_Pc av (wpreE D cl tys sk sv ws sz)) (Qc (va_A ws sz)) mc ms (va_A ws sz) := by
  refine Met.ofW (cc := cc) (maxL := nL) (ret := ret) hy rfl ?_
  intro p e s m args below meth c s₁ B hml hv
  obtain ⟨rfl, ⟨hsz, hP, hK, hD0, hn⟩, hE⟩ := hv
  subst hsz
  have hts := atoms_spec (ws := ws_ y cc nL ret) B.pre
  have hts : ∀ w ∈ lw_all, w.before av.toArray s = true := fun w h => hts w (List.mem_cons_of_mem _ h)
  have hl := lv_entry av (n := nL) hsl
  rw [lg_entry_eq]
  generalize (lg_sl av ++ List.replicate (nL - (lg_sl av).length) Slot.unset).toArray = ls at hl ⊢
  exact body p e s m av.toArray below meth c _ _ rfl ⟨B.exec, B.bytes, B.returns, B.notSynchronized, hml, findClass_of_methodNamed B.named, hts, hn, hK, fun q h => Or.inr h⟩ hE (name_of_methodNamed B.named B.method).1 _ _ hP hD0.self va_S.rf ls hl
theorem met_ofX {l : Launch} {y : MethodName} {rm : Room} {D : va_G} {cl : List vw_C} {tys : List (ClassId × FieldType)} {sk sv : Nat → Nat} {ws : va_W} {sz : Nat} {av : List Value} (Qc : (Nat → Prop) → Array Value → State → Outcome → State → Prop) (XC : (Nat → Prop) → String → Addr → State → State → Prop) {cc : ByteArray} {nL nc ns mc ms : Nat} {ret : Option FieldType}
    (hy : plainName y.cls = true) (hsl : (lg_sl av).length ≤ nL)
    (body : ∀ (p : Program) (e : Env) (s : State) (m : MethodId) (args : Array Value) (below : List Frame) (meth : Method) (c : Code) (Z : State → Prop) (A : Nat → Prop), Z = vy_MQ below (Qc A) (XC A) args s nc ns mc ms A → cx cc nL ret y.cls D cl tys A p c meth s m args → env sk sv A s s.heap → (∀ x ∈ c.exceptionTable.toList, False) → meth.name = y.name → ∀ (H : Heap) (locs : List Loc), va_P D cl ws H → va_D A ws → va_S A s.heap H locs → ∀ ls : Array Slot, lv_has ls nL (lv_args 0 av) →
      W p l e rm s m args below meth c H locs 0 0 Z (F0 m 0 ls [])) : vy_Met l y (ws_ y cc nL ret) rm (va_Pc av (wpreE D cl tys sk sv ws sz)) (Qc (va_A ws sz)) (XC (va_A ws sz)) nc ns mc ms (va_A ws sz) := by
  refine vy_ofW (cc := cc) (maxL := nL) (ret := ret) hy rfl ?_
  intro p e s m args below meth c s₁ B hml hnh hv
  obtain ⟨rfl, ⟨hsz, hP, hK, hD0, hn⟩, hE⟩ := hv
  subst hsz
  have hts := atoms_spec (ws := ws_ y cc nL ret) B.pre
  have hts : ∀ w ∈ lw_all, w.before av.toArray s = true := fun w h => hts w (List.mem_cons_of_mem _ h)
  have hl := lv_entry av (n := nL) hsl
  rw [lg_entry_eq]
  generalize (lg_sl av ++ List.replicate (nL - (lg_sl av).length) Slot.unset).toArray = ls at hl ⊢
  exact body p e s m av.toArray below meth c _ _ rfl ⟨B.exec, B.bytes, B.returns, B.notSynchronized, hml, findClass_of_methodNamed B.named, hts, hn, hK, fun q h => Or.inr h⟩ hE hnh (name_of_methodNamed B.named B.method).1 _ _ hP hD0.self va_S.rf ls hl
section WC4
variable {p : Program} {l : Launch} {e : Env} {R : Room} {s : State} {m : MethodId} {args : Array Value} {below : List Frame} {meth : Method} {c : Code} {H : Heap} {locs : List Loc} {cells slots : Nat} {Z : State → Prop}
variable {D : va_G} {cl : List vw_C} {tys : List (ClassId × FieldType)} {A : Nat → Prop} {cc : ByteArray} {nL : Nat} {ret0 : Option FieldType} {own : String} {pc : Nat} {ls : Array Slot} {st0 : List Value}
variable {y : MethodName} {bytes : ByteArray} {maxL mc ms n index : Nat} {ret : Option FieldType} {ws' : List Cond} {rm : Room} {C0 : String} {b : Nat} {ws wc X pl : va_W}
variable {sk sv : Nat → Nat}
theorem wcE_pre {isC : List Nat} (C : cx cc nL ret0 own D cl tys A p c meth s m args) (hE : env sk sv A s s.heap) (hP : va_P D cl ws H) (hD : va_D A ws) (hS : va_S A s.heap H locs) (hC : isC.map (fun i => ws[i]?) = wc.map some) (hn : va_nd isC = true) (av : List Value) : ∀ U : State, U.heap = H → s.WarmedH U.vm → va_Pc av (wpreE D cl tys sk sv wc H.size) av.toArray U := by
  intro U hU hW
  refine ⟨rfl, (wc_pre C hP hD hC hn av U hU hW).2, ?_⟩
  rw [hU]
  exact env_warm hW (env_narrow (env_kept hE hS.2.1) (va_free hD hS C.2.2.2.2.2.2.2.2.2 isC hC))
theorem wcE_Vik {S : Type} {post : Int32 → S → Prop} {As rest : List Value} {ci : Nat} {fs : List Value} {q : vw_C} (C : cx cc nL ret0 own D cl tys A p c meth s m args) (hE : env sk sv A s s.heap) (hM : Met l y ws' rm (va_Pc (.ref b :: As) (wpreE D cl tys sk sv wc H.size)) (va_Qi post (wpost D cl (va_A wc H.size) (fun _ => wc)) (va_A wc H.size)) mc ms (va_A wc H.size)) (cw : CallW R s args own q.1 index y bytes maxL ret ws' rm mc ms n) (hP : va_P D cl ws H) (hD : va_D A ws) (hS : va_S A s.heap H locs) (isC : List Nat) (hC : isC.map (fun i => ws[i]?) = wc.map some) (hnC : va_nd isC = true) (q0 : Nat) (he : ws[q0]? = some (b, .inr (ci, fs))) (hc : cl[ci]? = some q) (hn : As.length = n) (hst : st0 = As.reverse ++ .ref b :: rest) (hsz : ls.size = nL) (hrm : (rest.map fun v => v.category).sum ≤ 8) (hdg : decode cc pc = .ok (.invokevirtual index, 3)) (hf : cells + mc ≤ R.cells ∧ slots + ms ≤ R.slots)
    (kk : ∀ (r : Int32) (u : S) (H1 : Heap) (locs1 : List Loc), post r u → va_P D cl ws H1 → va_D A ws → va_S A s.heap H1 locs1 → W p l e R s m args below meth c H1 locs1 (cells + mc) (slots + ms) Z (F0 m (pc + 3) ls (.int r :: rest))) : W p l e R s m args below meth c H locs cells slots Z (F0 m pc ls st0) := by
  have hF : ∀ q, va_A wc H.size q → A q := va_free hD hS C.2.2.2.2.2.2.2.2.2 isC hC
  refine va_calli (va_runV (As := As) (rest := rest) ⟨C.1, C.2.1, C.2.2.2.2.1, C.2.2.2.2.2.1, C.2.2.2.2.2.2.1⟩ hM cw ⟨wpreE_blind, va_recv C.2.2.2.2.2.2.2.2.1 hP hc he, wcE_pre C hE hP hD hS hC hnC (.ref b :: As)⟩ rfl hn hsz hst (lv_room hrm) hdg hf) hS (fun q _ h => hF q h) hF (fun r u t H1 locs1 ht hvm hw hB hz1 hk1 hS1 => ?_)
  obtain ⟨hP1, hD1⟩ := hB
  rw [ht] at hP1
  exact kk r u H1 locs1 hw (wc_keep hP hD hC hk1 hP1) hD hS1
theorem wcE_Vak {post : Nat → Prop} {As rest : List Value} {ci : Nat} {fs : List Value} {q : vw_C} (C : cx cc nL ret0 own D cl tys A p c meth s m args) (hE : env sk sv A s s.heap) (hM : Met l y ws' rm (va_Pc (.ref b :: As) (wpreE D cl tys sk sv wc H.size)) (va_Qr post (fun (u : Nat) (a : Nat) (t : State) => a = sk u ∧ wpost (S := Unit) D cl (va_A wc H.size) (fun _ => wc) () t) (va_A wc H.size)) mc ms (va_A wc H.size)) (cw : CallW R s args own q.1 index y bytes maxL ret ws' rm mc ms n) (hP : va_P D cl ws H) (hD : va_D A ws) (hS : va_S A s.heap H locs) (isC : List Nat) (hC : isC.map (fun i => ws[i]?) = wc.map some) (hnC : va_nd isC = true) (q0 : Nat) (he : ws[q0]? = some (b, .inr (ci, fs))) (hc : cl[ci]? = some q) (hn : As.length = n) (hst : st0 = As.reverse ++ .ref b :: rest) (hsz : ls.size = nL) (hrm : (rest.map fun v => v.category).sum ≤ 8) (hdg : decode cc pc = .ok (.invokevirtual index, 3)) (hf : cells + mc ≤ R.cells ∧ slots + ms ≤ R.slots)
    (kk : ∀ (u : Nat) (H1 : Heap) (locs1 : List Loc), post u → va_P D cl ws H1 → va_D A ws → va_S A s.heap H1 locs1 → W p l e R s m args below meth c H1 locs1 (cells + mc) (slots + ms) Z (F0 m (pc + 3) ls (.ref (sk u) :: rest))) : W p l e R s m args below meth c H locs cells slots Z (F0 m pc ls st0) := by
  have hF : ∀ q, va_A wc H.size q → A q := va_free hD hS C.2.2.2.2.2.2.2.2.2 isC hC
  refine va_callr (va_runV (As := As) (rest := rest) ⟨C.1, C.2.1, C.2.2.2.2.1, C.2.2.2.2.2.1, C.2.2.2.2.2.2.1⟩ hM cw ⟨wpreE_blind, va_recv C.2.2.2.2.2.2.2.2.1 hP hc he, wcE_pre C hE hP hD hS hC hnC (.ref b :: As)⟩ rfl hn hsz hst (lv_room hrm) hdg hf) hS (fun q _ h => hF q h) hF (fun u ra t H1 locs1 ht hvm hw hB hz1 hk1 hS1 => ?_)
  obtain ⟨rfl, hP1, hD1⟩ := hB
  rw [ht] at hP1
  exact kk u H1 locs1 hw (wc_keep hP hD hC hk1 hP1) hD hS1
theorem wcE_Sik {S : Type} {post : Int32 → S → Prop} {As rest : List Value} (C : cx cc nL ret0 own D cl tys A p c meth s m args) (hE : env sk sv A s s.heap) (hM : Met l y ws' rm (va_Pc As (wpreE D cl tys sk sv wc H.size)) (va_Qi post (wpost D cl (va_A wc H.size) (fun _ => wc)) (va_A wc H.size)) mc ms (va_A wc H.size)) (cw : CallB R s args own index y bytes maxL ret ws' rm mc ms n ∧ (Cond.static y).before args s = true) (hP : va_P D cl ws H) (hD : va_D A ws) (hS : va_S A s.heap H locs) (isC : List Nat) (hC : isC.map (fun i => ws[i]?) = wc.map some) (hnC : va_nd isC = true) (hn : As.length = n) (hst : st0 = As.reverse ++ rest) (hsz : ls.size = nL) (hrm : (rest.map fun v => v.category).sum ≤ 8) (hdg : decode cc pc = .ok (.invokestatic index, 3)) (hf : cells + mc ≤ R.cells ∧ slots + ms ≤ R.slots)
    (kk : ∀ (r : Int32) (u : S) (H1 : Heap) (locs1 : List Loc), post r u → va_P D cl ws H1 → va_D A ws → va_S A s.heap H1 locs1 → W p l e R s m args below meth c H1 locs1 (cells + mc) (slots + ms) Z (F0 m (pc + 3) ls (.int r :: rest))) : W p l e R s m args below meth c H locs cells slots Z (F0 m pc ls st0) := by
  have hF : ∀ q, va_A wc H.size q → A q := va_free hD hS C.2.2.2.2.2.2.2.2.2 isC hC
  refine va_calli (va_runS (As := As) (rest := rest) ⟨C.1, C.2.1, C.2.2.2.2.1, C.2.2.2.2.2.1, C.2.2.2.2.2.2.1⟩ hM cw ⟨wpreE_blind, wcE_pre C hE hP hD hS hC hnC As⟩ rfl hn hsz hst (lv_room hrm) hdg hf) hS (fun q _ h => hF q h) hF (fun r u t H1 locs1 ht hvm hw hB hz1 hk1 hS1 => ?_)
  obtain ⟨hP1, hD1⟩ := hB
  rw [ht] at hP1
  exact kk r u H1 locs1 hw (wc_keep hP hD hC hk1 hP1) hD hS1
theorem wcE_Svk {S : Type} {post : S → Prop} {As rest : List Value} (C : cx cc nL ret0 own D cl tys A p c meth s m args) (hE : env sk sv A s s.heap) (hM : Met l y ws' rm (va_Pc As (wpreE D cl tys sk sv wc H.size)) (va_Qv post (wpost D cl (va_A wc H.size) (fun _ => wc)) (va_A wc H.size)) mc ms (va_A wc H.size)) (cw : CallB R s args own index y bytes maxL ret ws' rm mc ms n ∧ (Cond.static y).before args s = true) (hP : va_P D cl ws H) (hD : va_D A ws) (hS : va_S A s.heap H locs) (isC : List Nat) (hC : isC.map (fun i => ws[i]?) = wc.map some) (hnC : va_nd isC = true) (hn : As.length = n) (hst : st0 = As.reverse ++ rest) (hsz : ls.size = nL) (hrm : (rest.map fun v => v.category).sum ≤ 8) (hdg : decode cc pc = .ok (.invokestatic index, 3)) (hf : cells + mc ≤ R.cells ∧ slots + ms ≤ R.slots)
    (kk : ∀ (u : S) (H1 : Heap) (locs1 : List Loc), post u → va_P D cl ws H1 → va_D A ws → va_S A s.heap H1 locs1 → W p l e R s m args below meth c H1 locs1 (cells + mc) (slots + ms) Z (F0 m (pc + 3) ls (rest))) : W p l e R s m args below meth c H locs cells slots Z (F0 m pc ls st0) := by
  have hF : ∀ q, va_A wc H.size q → A q := va_free hD hS C.2.2.2.2.2.2.2.2.2 isC hC
  refine va_callv (va_runS (As := As) (rest := rest) ⟨C.1, C.2.1, C.2.2.2.2.1, C.2.2.2.2.2.1, C.2.2.2.2.2.2.1⟩ hM cw ⟨wpreE_blind, wcE_pre C hE hP hD hS hC hnC As⟩ rfl hn hsz hst (lv_room hrm) hdg hf) hS (fun q _ h => hF q h) hF (fun u t H1 locs1 ht hvm hw hB hz1 hk1 hS1 => ?_)
  obtain ⟨hP1, hD1⟩ := hB
  rw [ht] at hP1
  exact kk u H1 locs1 hw (wc_keep hP hD hC hk1 hP1) hD hS1
theorem wcE_Kik {S : Type} {post : Int32 → S → Prop} {As rest : List Value} (C : cx cc nL ret0 own D cl tys A p c meth s m args) (hE : env sk sv A s s.heap) (hM : Met l y ws' rm (va_Pc (.ref b :: As) (wpreE D cl tys sk sv wc H.size)) (va_Qi post (wpost D cl (va_A wc H.size) (fun _ => wc)) (va_A wc H.size)) mc ms (va_A wc H.size)) (cw : CallW R s args own "java/lang/String" index y bytes maxL ret ws' rm mc ms n) (hP : va_P D cl ws H) (hD : va_D A ws) (hS : va_S A s.heap H locs) (isC : List Nat) (hC : isC.map (fun i => ws[i]?) = wc.map some) (hnC : va_nd isC = true) (i : Nat) (hi : i < 13) (hb0 : b = sk i) (hn : As.length = n) (hst : st0 = As.reverse ++ .ref b :: rest) (hsz : ls.size = nL) (hrm : (rest.map fun v => v.category).sum ≤ 8) (hdg : decode cc pc = .ok (.invokevirtual index, 3)) (hf : cells + mc ≤ R.cells ∧ slots + ms ≤ R.slots)
    (kk : ∀ (r : Int32) (u : S) (H1 : Heap) (locs1 : List Loc), post r u → va_P D cl ws H1 → va_D A ws → va_S A s.heap H1 locs1 → W p l e R s m args below meth c H1 locs1 (cells + mc) (slots + ms) Z (F0 m (pc + 3) ls (.int r :: rest))) : W p l e R s m args below meth c H locs cells slots Z (F0 m pc ls st0) := by
  have hF : ∀ q, va_A wc H.size q → A q := va_free hD hS C.2.2.2.2.2.2.2.2.2 isC hC
  subst hb0
  refine va_calli (va_runV (As := As) (rest := rest) ⟨C.1, C.2.1, C.2.2.2.2.1, C.2.2.2.2.2.1, C.2.2.2.2.2.2.1⟩ hM cw ⟨wpreE_blind, vk_recv hE.1 hi hS, wcE_pre C hE hP hD hS hC hnC (.ref (sk i) :: As)⟩ rfl hn hsz hst (lv_room hrm) hdg hf) hS (fun q _ h => hF q h) hF (fun r u t H1 locs1 ht hvm hw hB hz1 hk1 hS1 => ?_)
  obtain ⟨hP1, hD1⟩ := hB
  rw [ht] at hP1
  exact kk r u H1 locs1 hw (wc_keep hP hD hC hk1 hP1) hD hS1
theorem wy_Vi {S : Type} {post : Int32 → S → Prop} {w1 : S → va_W} {As rest : List Value} {ci : Nat} {fs : List Value} {q : vw_C} {X : Int32 → Int32 → Prop} {keep : va_W} (C : cx cc nL ret0 own D cl tys A p c meth s m args) (hE : env sk sv A s s.heap) (hnh : ∀ x ∈ c.exceptionTable.toList, False) (hX : ∃ Qc : Array Value → State → Outcome → State → Prop, Z = vy_MQ below Qc (vx_X (fun (u : Int32 × Int32) => X u.1 u.2) (fltB D cl keep A) A) args s 0 0 1 8 A) (hM : vy_Met l y ws' rm (va_Pc (.ref b :: As) (wpreE D cl tys sk sv ws H.size)) (va_Qi post (wpost D cl (va_A ws H.size) w1) (va_A ws H.size)) (vx_X (fun (u : Int32 × Int32) => X u.1 u.2) (fltB D cl keep (va_A ws H.size)) (va_A ws H.size)) 0 0 1 8 (va_A ws H.size)) (cw : CallW R s args own q.1 index y bytes maxL ret ws' rm 1 8 n) (hP : va_P D cl ws H) (hD : va_D A ws) (hS : va_S A s.heap H locs) (q0 : Nat) (he : ws[q0]? = some (b, .inr (ci, fs))) (hc : cl[ci]? = some q) (hn : As.length = n) (hst : st0 = As.reverse ++ .ref b :: rest) (hsz : ls.size = nL) (hrm : (rest.map fun v => v.category).sum ≤ 8) (hdg : decode cc pc = .ok (.invokevirtual index, 3)) (hf : 0 + 1 ≤ R.cells ∧ 0 + 8 ≤ R.slots)
    (kk : ∀ (r : Int32) (u : S) (H1 : Heap) (locs1 : List Loc), post r u → va_P D cl (w1 u) H1 → va_D A (w1 u) → va_S A s.heap H1 locs1 → W p l e R s m args below meth c H1 locs1 0 0 Z (F0 m (pc + 3) ls (.int r :: rest))) : W p l e R s m args below meth c H locs 0 0 Z (F0 m pc ls st0) := by
  obtain ⟨Qc, hZ⟩ := hX
  have hF : ∀ q, va_A ws H.size q → A q := va_free hD hS C.2.2.2.2.2.2.2.2.2 (List.range ws.length) (wc_self ws)
  refine vy_calli (vy_runV (As := As) (rest := rest) ⟨C.1, C.2.1, C.2.2.2.2.1, C.2.2.2.2.2.1, C.2.2.2.2.2.2.1⟩ hM cw ⟨wpreE_blind, va_recv C.2.2.2.2.2.2.2.2.1 hP hc he, wcE_pre C hE hP hD hS (wc_self ws) (wc_nd ws.length) (.ref b :: As)⟩ rfl hn hsz hst (lv_room hrm) hdg hf) hS (fun q _ h => hF q h) hF (fun q _ h => hF q h) (fun E ce q9 u t H1 locs1 ht hvm hpx hbx hz hk hS1 hcell hv hcl => ?_) (fun r u t H1 locs1 ht hvm hw hB hz1 hk1 hS1 => ?_)
  · rw [hZ]
    obtain ⟨hE1, hP1, hD1⟩ := hbx
    rw [ht] at hP1
    exact vy_out (fun x hx => (hnh x hx).elim) C.2.2.2.1 hcell hv hcl (fun t' ht' hvm' => ⟨u, hpx, ⟨hE1, by rw [ht']; exact hP1, hD1.weaken (fun k q _ h => hF q.1 h)⟩, hS1.F ht'⟩) hS1.2.2 (by omega) (by omega)
  · obtain ⟨hP1, hD1⟩ := hB
    rw [ht] at hP1
    exact kk r u H1 locs1 hw hP1 (hD1.weaken (fun k q _ h => hF q.1 h)) hS1
theorem wy_Vv {S : Type} {post : S → Prop} {w1 : S → va_W} {As rest : List Value} {ci : Nat} {fs : List Value} {q : vw_C} {X : Int32 → Int32 → Prop} {keep : va_W} (C : cx cc nL ret0 own D cl tys A p c meth s m args) (hE : env sk sv A s s.heap) (hnh : ∀ x ∈ c.exceptionTable.toList, False) (hX : ∃ Qc : Array Value → State → Outcome → State → Prop, Z = vy_MQ below Qc (vx_X (fun (u : Int32 × Int32) => X u.1 u.2) (fltB D cl keep A) A) args s 0 0 1 8 A) (hM : vy_Met l y ws' rm (va_Pc (.ref b :: As) (wpreE D cl tys sk sv ws H.size)) (va_Qv post (wpost D cl (va_A ws H.size) w1) (va_A ws H.size)) (vx_X (fun (u : Int32 × Int32) => X u.1 u.2) (fltB D cl keep (va_A ws H.size)) (va_A ws H.size)) 0 0 1 8 (va_A ws H.size)) (cw : CallW R s args own q.1 index y bytes maxL ret ws' rm 1 8 n) (hP : va_P D cl ws H) (hD : va_D A ws) (hS : va_S A s.heap H locs) (q0 : Nat) (he : ws[q0]? = some (b, .inr (ci, fs))) (hc : cl[ci]? = some q) (hn : As.length = n) (hst : st0 = As.reverse ++ .ref b :: rest) (hsz : ls.size = nL) (hrm : (rest.map fun v => v.category).sum ≤ 8) (hdg : decode cc pc = .ok (.invokevirtual index, 3)) (hf : 0 + 1 ≤ R.cells ∧ 0 + 8 ≤ R.slots)
    (kk : ∀ (u : S) (H1 : Heap) (locs1 : List Loc), post u → va_P D cl (w1 u) H1 → va_D A (w1 u) → va_S A s.heap H1 locs1 → W p l e R s m args below meth c H1 locs1 0 0 Z (F0 m (pc + 3) ls (rest))) : W p l e R s m args below meth c H locs 0 0 Z (F0 m pc ls st0) := by
  obtain ⟨Qc, hZ⟩ := hX
  have hF : ∀ q, va_A ws H.size q → A q := va_free hD hS C.2.2.2.2.2.2.2.2.2 (List.range ws.length) (wc_self ws)
  refine vy_callv (vy_runV (As := As) (rest := rest) ⟨C.1, C.2.1, C.2.2.2.2.1, C.2.2.2.2.2.1, C.2.2.2.2.2.2.1⟩ hM cw ⟨wpreE_blind, va_recv C.2.2.2.2.2.2.2.2.1 hP hc he, wcE_pre C hE hP hD hS (wc_self ws) (wc_nd ws.length) (.ref b :: As)⟩ rfl hn hsz hst (lv_room hrm) hdg hf) hS (fun q _ h => hF q h) hF (fun q _ h => hF q h) (fun E ce q9 u t H1 locs1 ht hvm hpx hbx hz hk hS1 hcell hv hcl => ?_) (fun u t H1 locs1 ht hvm hw hB hz1 hk1 hS1 => ?_)
  · rw [hZ]
    obtain ⟨hE1, hP1, hD1⟩ := hbx
    rw [ht] at hP1
    exact vy_out (fun x hx => (hnh x hx).elim) C.2.2.2.1 hcell hv hcl (fun t' ht' hvm' => ⟨u, hpx, ⟨hE1, by rw [ht']; exact hP1, hD1.weaken (fun k q _ h => hF q.1 h)⟩, hS1.F ht'⟩) hS1.2.2 (by omega) (by omega)
  · obtain ⟨hP1, hD1⟩ := hB
    rw [ht] at hP1
    exact kk u H1 locs1 hw hP1 (hD1.weaken (fun k q _ h => hF q.1 h)) hS1
theorem wcE_Ivk {S : Type} {post : S → Prop} {As rest : List Value} (C : cx cc nL ret0 own D cl tys A p c meth s m args) (hE : env sk sv A s s.heap) (hM : Met l y ws' rm (va_Pc (.ref b :: As) (wpreE D cl tys sk sv wc H.size)) (va_Qv post (wpost D cl (va_A wc H.size) (fun _ => wc)) (va_A wc H.size)) mc ms (va_A wc H.size)) (cw : CallB R s args own index y bytes maxL none ws' rm mc ms n ∧ y.name = "<init>" ∧ (Cond.instanceMethod y).before args s = true) (hP : va_P D cl ws H) (hD : va_D A ws) (hS : va_S A s.heap H locs) (isC : List Nat) (hC : isC.map (fun i => ws[i]?) = wc.map some) (hnC : va_nd isC = true) (hn : As.length = n) (hst : st0 = As.reverse ++ .ref b :: rest) (hsz : ls.size = nL) (hrm : (rest.map fun v => v.category).sum ≤ 8) (hdg : decode cc pc = .ok (.invokespecial index, 3)) (hf : cells + mc ≤ R.cells ∧ slots + ms ≤ R.slots)
    (kk : ∀ (u : S) (H1 : Heap) (locs1 : List Loc), post u → va_P D cl ws H1 → va_D A ws → va_S A s.heap H1 locs1 → W p l e R s m args below meth c H1 locs1 (cells + mc) (slots + ms) Z (F0 m (pc + 3) ls rest)) : W p l e R s m args below meth c H locs cells slots Z (F0 m pc ls st0) := by
  have hF : ∀ q, va_A wc H.size q → A q := va_free hD hS C.2.2.2.2.2.2.2.2.2 isC hC
  refine va_callv (va_runI (As := As) (rest := rest) ⟨C.1, C.2.1, C.2.2.2.2.1, C.2.2.2.2.2.1, C.2.2.2.2.2.2.1⟩ hM cw ⟨wpreE_blind, wcE_pre C hE hP hD hS hC hnC (.ref b :: As)⟩ rfl hn hsz hst (lv_room hrm) hdg hf) hS (fun q _ h => hF q h) hF (fun u t H1 locs1 ht hvm hw hB hz1 hk1 hS1 => ?_)
  obtain ⟨hP1, hD1⟩ := hB
  rw [ht] at hP1
  exact kk u H1 locs1 hw (wc_keep hP hD hC hk1 hP1) hD hS1
end WC4
