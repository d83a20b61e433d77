set_option maxRecDepth 100000
/-! OWN ROWS 6: constructors -/
theorem ca_u {D : va_G} {cl : List vw_C} {ca : Nat → ClassId} {cA : ClassId} {ty : FieldType} {s : State} (h : va_K D cl (tyL ca ++ [(cA, ty)]) s) (j : Nat) (c : ClassId) (hj : (tyL ca)[j]? = some (c, ty)) : cA = c := by
  have h1 := (h.2 7 (cA, ty) rfl).2
  have h2 := (h.2 j (c, ty) (by rw [List.getElem?_append_left (List.getElem?_eq_some_iff.mp hj).1]; exact hj)).2
  cases ty with
  | object C =>
    obtain ⟨_, _, _, _, _, e1⟩ := h1
    obtain ⟨_, _, _, _, _, e2⟩ := h2
    exact Option.some.inj (e1.symm.trans e2)
  | _ => exact Option.some.inj (Eq.trans (Eq.symm h1) h2)
theorem wc_setl {pre : va_W} {x y : Nat × va_E} : (pre ++ [x]).set pre.length y = pre ++ [y] := by
  rw [List.set_append_right _ _ (Nat.le_refl _), Nat.sub_self]
  rfl
theorem wc_getl {pre : va_W} {x : Nat × va_E} : (pre ++ [x])[pre.length]? = some x := by
  rw [List.getElem?_append_right (Nat.le_refl _), Nat.sub_self]
  rfl
theorem met_ofC {l : Launch} {y : MethodName} {rm : Room} {D : va_G} {cl : List vw_C} {tys : List (ClassId × FieldType)} {ws : va_W} {sz : Nat} {av : List Value} (Qc : (Nat → Prop) → Array Value → State → Outcome → State → Prop) {cc : ByteArray} {nL mc ms : Nat} {ret : Option FieldType}
    (hy : plainName y.cls = true) (hsl : (lg_sl av).length ≤ nL)
    (body : ∀ (p : Program) (e : Env) (s : State) (m : MethodId) (args : Array Value) (below : List Frame) (meth : Method) (c : Code) (Z : State → Prop) (A : Nat → Prop), Z = MQ below (Qc A) args s mc ms A → cx cc nL ret y.cls D cl tys A p c meth s m args → meth.name = y.name → ∀ (H : Heap) (locs : List Loc), va_P D cl ws H → va_D A ws → va_S A s.heap H locs → ∀ ls : Array Slot, lv_has ls nL (lv_args 0 av) →
      W p l e rm s m args below meth c H locs 0 0 Z (F0 m 0 ls [])) : Met l y (ws_ y cc nL ret) rm (va_Pc av (wpre D cl tys ws sz)) (Qc (va_A ws sz)) mc ms (va_A ws sz) := by
  refine Met.ofW (cc := cc) (maxL := nL) (ret := ret) hy rfl ?_
  intro p e s m args below meth c s₁ B hml hv
  obtain ⟨rfl, hsz, hP, hK, hD0, hn⟩ := hv
  subst hsz
  have hts := atoms_spec (ws := ws_ y cc nL ret) B.pre
  have hts : ∀ w ∈ lw_all, w.before av.toArray s = true := fun w h => hts w (List.mem_cons_of_mem _ h)
  have hl := lv_entry av (n := nL) hsl
  rw [lg_entry_eq]
  generalize (lg_sl av ++ List.replicate (nL - (lg_sl av).length) Slot.unset).toArray = ls at hl ⊢
  exact body p e s m av.toArray below meth c _ _ rfl ⟨B.exec, B.bytes, B.returns, B.notSynchronized, hml, findClass_of_methodNamed B.named, hts, hn, hK, fun q h => Or.inr h⟩ (name_of_methodNamed B.named B.method).1 _ _ hP hD0.self va_S.rf ls hl
section WC6
variable {p : Program} {l : Launch} {e : Env} {R : Room} {s : State} {m : MethodId} {args : Array Value} {below : List Frame} {meth : Method} {c : Code} {H : Heap} {locs : List Loc} {cells slots : Nat} {Z : State → Prop}
variable {D : va_G} {cl : List vw_C} {tys : List (ClassId × FieldType)} {A : Nat → Prop} {cc : ByteArray} {nL : Nat} {ret0 : Option FieldType} {own : String} {pc : Nat} {ls : Array Slot} {st0 : List Value}
variable {y : MethodName} {bytes : ByteArray} {maxL mc ms n index : Nat} {ret : Option FieldType} {ws' : List Cond} {rm : Room} {C0 : String} {b : Nat} {ws wc X pl : va_W}
variable {sk sv : Nat → Nat}
theorem wc_iastE {a n : Nat} {f : Nat → Int32} {pre : va_W} {rest : List Value} {cA : ClassId} (hexec : p.tables.exec = Jvm.exec) (hb : c.code = cc) (hK : va_K D cl tys s) (hP : va_P D cl (pre ++ [(a, .inl (cA, n, .inl f))]) H) (hD : va_D A (pre ++ [(a, .inl (cA, n, .inl f))])) (hS : va_S A s.heap H locs) (t0 : Nat) (ht : tys[t0]? = some (cA, .int)) {i x : Int32} (hin : vp_in i n) (hdg : decode cc pc = .ok (.iastore, 1))
    (kk : ∀ (H1 : Heap) (locs1 : List Loc), va_P D cl (pre ++ [(a, .inl (cA, n, .inl (upd f i.toNatClampNeg x)))]) H1 → va_D A (pre ++ [(a, .inl (cA, n, .inl (upd f i.toNatClampNeg x)))]) → va_S A s.heap H1 locs1 → W p l e R s m args below meth c H1 locs1 cells slots Z (F0 m (pc + 1) ls rest)) : W p l e R s m args below meth c H locs cells slots Z (F0 m pc ls (.int x :: .int i :: .ref a :: rest)) := by
  refine va_iast hexec hb hK hP hD hS pre.length t0 wc_getl ht hin hdg (fun H1 locs1 h1 h2 h3 => ?_)
  rw [wc_setl] at h1 h2
  exact kk H1 locs1 h1 h2 h3
theorem wc_INvs {S : Type} {post : S → Prop} {w1 : S → va_W} {As rest : List Value} (C : cx cc nL ret0 own D cl tys A p c meth s m args) (hM : Met l y ws' rm (va_Pc (.ref b :: As) (wpre D cl tys wc H.size)) (va_Qv post (wpost D cl (va_A wc H.size) w1) (va_A wc H.size)) mc ms (va_A wc H.size)) {host : String} (cw : va_CN R s args own index y host bytes maxL none ws' rm mc ms n ∧ y.name = "<init>" ∧ (Cond.instanceMethod y).before args s = true) (hP : va_P D cl ws H) (hD : va_D A ws) (hS : va_S A s.heap H locs) (isC isR : List Nat) (hC : isC.map (fun i => ws[i]?) = wc.map some) (hR : isR.all (fun i => Nat.blt i ws.length) = true) (hnC : va_nd isC = true) (hnR : va_nd isR = true) (hdis : ∀ i ∈ isR, i ∉ isC) (hn : As.length = n) (hst : st0 = As.reverse ++ .ref b :: rest) (hsz : ls.size = nL) (hrm : (rest.map fun v => v.category).sum ≤ 8) (hdg : decode cc pc = .ok (.invokespecial index, 3)) (hf : cells + mc ≤ R.cells ∧ slots + ms ≤ R.slots)
    (kk : ∀ (u : S) (H1 : Heap) (locs1 : List Loc), post u → va_P D cl (isR.filterMap (fun i => ws[i]?) ++ w1 u) H1 → va_D A (isR.filterMap (fun i => ws[i]?) ++ w1 u) → va_S A s.heap H1 locs1 → W p l e R s m args below meth c H1 locs1 (cells + mc) (slots + ms) Z (F0 m (pc + 3) ls rest)) : W p l e R s m args below meth c H locs cells slots Z (F0 m pc ls st0) := by
  have hF : ∀ q, va_A wc H.size q → A q := va_free hD hS C.2.2.2.2.2.2.2.2.2 isC hC
  refine va_callv (va_runIN (As := As) (rest := rest) ⟨C.1, C.2.1, C.2.2.2.2.1, C.2.2.2.2.2.1, C.2.2.2.2.2.2.1⟩ hM cw ⟨wpre_blind, wc_pre C hP hD hC hnC (.ref b :: As)⟩ rfl hn hsz hst (lv_room hrm) hdg hf) hS (fun q _ h => hF q h) hF (fun u t H1 locs1 ht hvm hw hB hz1 hk1 hS1 => ?_)
  obtain ⟨hP1, hD1⟩ := hB
  rw [ht] at hP1
  obtain ⟨hP2, hD2⟩ := va_join hP hD isC isR hC (wc_R hR) hnR hdis hk1 hF hP1 hD1
  exact kk u H1 locs1 hw hP2 hD2 hS1
end WC6
