set_option maxRecDepth 100000
/-! OWN ROWS 3: calls that leave the world as it was -/
theorem wc_keep {D : va_G} {cl : List vw_C} {A : Nat → Prop} {ws wc : va_W} {H H1 : Heap} {isC : List Nat} (hP : va_P D cl ws H) (hD : va_D A ws) (hC : isC.map (fun i => ws[i]?) = wc.map some) (hk1 : ∀ q : Nat, q < H.size → ¬ va_A wc H.size q → H1[q]? = H[q]?) (hP1 : va_P D cl wc H1) : va_P D cl ws H1 := by
  intro k q hk
  by_cases h : ∃ (j : Nat) (x : va_E), wc[j]? = some (q.1, x)
  · obtain ⟨j, x, hj⟩ := h
    have h1 : (isC.map (fun i => ws[i]?))[j]? = some (some (q.1, x)) := by rw [hC, List.getElem?_map, hj]; rfl
    rw [List.getElem?_map] at h1
    cases hi : isC[j]? with
    | none => rw [hi] at h1; cases h1
    | some i =>
      rw [hi] at h1
      have h2 : ws[i]? = some (q.1, x) := Option.some.inj h1
      have h3 := hD.1 k i q (q.1, x) hk h2 rfl
      subst h3
      have h4 : q = (q.1, x) := Option.some.inj (hk.symm.trans h2)
      rw [h4]
      exact hP1 j _ hj
  · refine (hP k q hk).kept (hk1 q.1 ((hP k q hk).lt) ?_)
    rintro (⟨j, x, hj⟩ | hj)
    · exact h ⟨j, x, hj⟩
    · exact absurd (hP k q hk).lt (by omega)
theorem lw_SU {own : String} {idx : Nat} {y : MethodName} {b : ByteArray} {L : Nat} {r : Option FieldType} (h1 : Cond.methodLink own idx y ∈ lw_all) (h2 : Cond.sameMethod y.cls y.cls y.name y.desc ∈ lw_all) (h3 : Cond.superclass own y.cls ∈ lw_all) (h4 : Cond.instanceMethod y ∈ lw_all) (h5 : Cond.initialized y.cls ∈ lw_all) (h6 : Cond.code y b L r ∈ lw_all) : GoodIn lw_all (va_wsSU own idx y (ws_ y b L r)) := by
  refine lw_app ?_ (lw_meth h6)
  intro w hw
  simp only [List.mem_cons, List.not_mem_nil, or_false] at hw
  rcases hw with e | e | e | e | e
  · rw [e]; exact h1
  · rw [e]; exact h2
  · rw [e]; exact h3
  · rw [e]; exact h4
  · rw [e]; exact h5
theorem lw_O {own : String} {idx : Nat} {C owner : String} {x y : MethodName} {b : ByteArray} {L : Nat} {r : Option FieldType} (h1 : Cond.methodLink own idx x ∈ lw_all) (h2 : Cond.sameMethod x.cls owner x.name x.desc ∈ lw_all) (h3 : Cond.instanceMethod ⟨owner, x.name, x.desc⟩ ∈ lw_all) (h4 : Cond.selects C x y ∈ lw_all) (h5 : Cond.instanceMethod y ∈ lw_all) (h6 : Cond.initialized y.cls ∈ lw_all) (h7 : Cond.code y b L r ∈ lw_all) : GoodIn lw_all (va_wsO own idx C owner x y (ws_ y b L r)) := by
  refine lw_app ?_ (lw_meth h7)
  intro w hw
  simp only [List.mem_cons, List.not_mem_nil, or_false] at hw
  rcases hw with e | e | e | e | e | e
  · rw [e]; exact h1
  · rw [e]; exact h2
  · rw [e]; exact h3
  · rw [e]; exact h4
  · rw [e]; exact h5
  · rw [e]; exact h6
/-- an array of references, as a list -/
def rq (l : List Nat) : Nat → Option Nat := fun j => l[j]?
/-- which of four -/
def fsel (f0 f1 f2 f3 : Nat) (i : Int32) : Nat := if i = 0 then f0 else if i = 1 then f1 else if i = 2 then f2 else f3
def bfit (f : Nat → Int32) (n : Nat) : Prop := ∀ i, i < n → fits .byte (.int (f i)) = true
theorem bfit_z {f : Nat → Int32} {n : Int32} (h : bfit f n.toNatClampNeg) : ∀ i, i < n.toNatClampNeg → fits .byte (.int (f ((0 : Int32).toNatClampNeg + i))) = true := by
  intro i hi
  rw [show (0 : Int32).toNatClampNeg = 0 from rfl, Nat.zero_add]
  exact h i hi
theorem vi_four {i : Int32} (h : vp_in i 4) : i = 0 ∨ i = 1 ∨ i = 2 ∨ i = 3 := by
  obtain ⟨j, hj, rfl⟩ := vp_in_of h (by decide)
  have : j = 0 ∨ j = 1 ∨ j = 2 ∨ j = 3 := by omega
  rcases this with rfl | rfl | rfl | rfl <;> decide
theorem vi_two {i : Int32} (h : vp_in i 2) (h0 : ¬ i = 0) : i = 1 := by
  obtain ⟨j, hj, rfl⟩ := vp_in_of h (by decide)
  have : j = 0 ∨ j = 1 := by omega
  rcases this with rfl | rfl
  · exact absurd rfl h0
  · rfl
section WC3
variable {p : Program} {l : Launch} {e : Env} {R : Room} {s : State} {m : MethodId} {args : Array Value} {below : List Frame} {meth : Method} {c : Code} {H : Heap} {locs : List Loc} {cells slots : Nat} {Z : State → Prop}
variable {D : va_G} {cl : List vw_C} {tys : List (ClassId × FieldType)} {A : Nat → Prop} {cc : ByteArray} {nL : Nat} {ret0 : Option FieldType} {own : String} {pc : Nat} {ls : Array Slot} {st0 : List Value}
variable {y : MethodName} {bytes : ByteArray} {maxL mc ms n index : Nat} {ret : Option FieldType} {ws' : List Cond} {rm : Room} {C0 : String} {b : Nat} {ws wc X pl : va_W}
theorem wc_Vik {S : Type} {post : Int32 → S → Prop} {As rest : List Value} {ci : Nat} {fs : List Value} {q : vw_C} (C : cx cc nL ret0 own D cl tys A p c meth s m args) (hM : Met l y ws' rm (va_Pc (.ref b :: As) (wpre D cl tys wc H.size)) (va_Qi post (wpost D cl (va_A wc H.size) (fun _ => wc)) (va_A wc H.size)) mc ms (va_A wc H.size)) (cw : CallW R s args own q.1 index y bytes maxL ret ws' rm mc ms n) (hP : va_P D cl ws H) (hD : va_D A ws) (hS : va_S A s.heap H locs) (isC : List Nat) (hC : isC.map (fun i => ws[i]?) = wc.map some) (hnC : va_nd isC = true) (q0 : Nat) (he : ws[q0]? = some (b, .inr (ci, fs))) (hc : cl[ci]? = some q) (hn : As.length = n) (hst : st0 = As.reverse ++ .ref b :: rest) (hsz : ls.size = nL) (hrm : (rest.map fun v => v.category).sum ≤ 8) (hdg : decode cc pc = .ok (.invokevirtual index, 3)) (hf : cells + mc ≤ R.cells ∧ slots + ms ≤ R.slots)
    (kk : ∀ (r : Int32) (u : S) (H1 : Heap) (locs1 : List Loc), post r u → va_P D cl ws H1 → va_D A ws → va_S A s.heap H1 locs1 → W p l e R s m args below meth c H1 locs1 (cells + mc) (slots + ms) Z (F0 m (pc + 3) ls (.int r :: rest))) : W p l e R s m args below meth c H locs cells slots Z (F0 m pc ls st0) := by
  have hF : ∀ q, va_A wc H.size q → A q := va_free hD hS C.2.2.2.2.2.2.2.2.2 isC hC
  refine va_calli (va_runV (As := As) (rest := rest) ⟨C.1, C.2.1, C.2.2.2.2.1, C.2.2.2.2.2.1, C.2.2.2.2.2.2.1⟩ hM cw ⟨wpre_blind, va_recv C.2.2.2.2.2.2.2.2.1 hP hc he, wc_pre C hP hD hC hnC (.ref b :: As)⟩ rfl hn hsz hst (lv_room hrm) hdg hf) hS (fun q _ h => hF q h) hF (fun r u t H1 locs1 ht hvm hw hB hz1 hk1 hS1 => ?_)
  obtain ⟨hP1, hD1⟩ := hB
  rw [ht] at hP1
  exact kk r u H1 locs1 hw (wc_keep hP hD hC hk1 hP1) hD hS1
theorem wc_Sik {S : Type} {post : Int32 → S → Prop} {As rest : List Value} (C : cx cc nL ret0 own D cl tys A p c meth s m args) (hM : Met l y ws' rm (va_Pc As (wpre D cl tys wc H.size)) (va_Qi post (wpost D cl (va_A wc H.size) (fun _ => wc)) (va_A wc H.size)) mc ms (va_A wc H.size)) (cw : CallB R s args own index y bytes maxL ret ws' rm mc ms n ∧ (Cond.static y).before args s = true) (hP : va_P D cl ws H) (hD : va_D A ws) (hS : va_S A s.heap H locs) (isC : List Nat) (hC : isC.map (fun i => ws[i]?) = wc.map some) (hnC : va_nd isC = true) (hn : As.length = n) (hst : st0 = As.reverse ++ rest) (hsz : ls.size = nL) (hrm : (rest.map fun v => v.category).sum ≤ 8) (hdg : decode cc pc = .ok (.invokestatic index, 3)) (hf : cells + mc ≤ R.cells ∧ slots + ms ≤ R.slots)
    (kk : ∀ (r : Int32) (u : S) (H1 : Heap) (locs1 : List Loc), post r u → va_P D cl ws H1 → va_D A ws → va_S A s.heap H1 locs1 → W p l e R s m args below meth c H1 locs1 (cells + mc) (slots + ms) Z (F0 m (pc + 3) ls (.int r :: rest))) : W p l e R s m args below meth c H locs cells slots Z (F0 m pc ls st0) := by
  have hF : ∀ q, va_A wc H.size q → A q := va_free hD hS C.2.2.2.2.2.2.2.2.2 isC hC
  refine va_calli (va_runS (As := As) (rest := rest) ⟨C.1, C.2.1, C.2.2.2.2.1, C.2.2.2.2.2.1, C.2.2.2.2.2.2.1⟩ hM cw ⟨wpre_blind, wc_pre C hP hD hC hnC As⟩ rfl hn hsz hst (lv_room hrm) hdg hf) hS (fun q _ h => hF q h) hF (fun r u t H1 locs1 ht hvm hw hB hz1 hk1 hS1 => ?_)
  obtain ⟨hP1, hD1⟩ := hB
  rw [ht] at hP1
  exact kk r u H1 locs1 hw (wc_keep hP hD hC hk1 hP1) hD hS1
theorem wc_Vlk {S : Type} {post : Int64 → S → Prop} {As rest : List Value} {ci : Nat} {fs : List Value} {q : vw_C} (C : cx cc nL ret0 own D cl tys A p c meth s m args) (hM : Met l y ws' rm (va_Pc (.ref b :: As) (wpre D cl tys wc H.size)) (va_Ql post (wpost D cl (va_A wc H.size) (fun _ => wc)) (va_A wc H.size)) mc ms (va_A wc H.size)) (cw : CallW R s args own q.1 index y bytes maxL ret ws' rm mc ms n) (hP : va_P D cl ws H) (hD : va_D A ws) (hS : va_S A s.heap H locs) (isC : List Nat) (hC : isC.map (fun i => ws[i]?) = wc.map some) (hnC : va_nd isC = true) (q0 : Nat) (he : ws[q0]? = some (b, .inr (ci, fs))) (hc : cl[ci]? = some q) (hn : As.length = n) (hst : st0 = As.reverse ++ .ref b :: rest) (hsz : ls.size = nL) (hrm : (rest.map fun v => v.category).sum ≤ 8) (hdg : decode cc pc = .ok (.invokevirtual index, 3)) (hf : cells + mc ≤ R.cells ∧ slots + ms ≤ R.slots)
    (kk : ∀ (r : Int64) (u : S) (H1 : Heap) (locs1 : List Loc), post r u → va_P D cl ws H1 → va_D A ws → va_S A s.heap H1 locs1 → W p l e R s m args below meth c H1 locs1 (cells + mc) (slots + ms) Z (F0 m (pc + 3) ls (.long r :: rest))) : W p l e R s m args below meth c H locs cells slots Z (F0 m pc ls st0) := by
  have hF : ∀ q, va_A wc H.size q → A q := va_free hD hS C.2.2.2.2.2.2.2.2.2 isC hC
  refine va_calll (va_runV (As := As) (rest := rest) ⟨C.1, C.2.1, C.2.2.2.2.1, C.2.2.2.2.2.1, C.2.2.2.2.2.2.1⟩ hM cw ⟨wpre_blind, va_recv C.2.2.2.2.2.2.2.2.1 hP hc he, wc_pre C hP hD hC hnC (.ref b :: As)⟩ rfl hn hsz hst (lv_room hrm) hdg hf) hS (fun q _ h => hF q h) hF (fun r u t H1 locs1 ht hvm hw hB hz1 hk1 hS1 => ?_)
  obtain ⟨hP1, hD1⟩ := hB
  rw [ht] at hP1
  exact kk r u H1 locs1 hw (wc_keep hP hD hC hk1 hP1) hD hS1
theorem wc_Slk {S : Type} {post : Int64 → S → Prop} {As rest : List Value} (C : cx cc nL ret0 own D cl tys A p c meth s m args) (hM : Met l y ws' rm (va_Pc As (wpre D cl tys wc H.size)) (va_Ql post (wpost D cl (va_A wc H.size) (fun _ => wc)) (va_A wc H.size)) mc ms (va_A wc H.size)) (cw : CallB R s args own index y bytes maxL ret ws' rm mc ms n ∧ (Cond.static y).before args s = true) (hP : va_P D cl ws H) (hD : va_D A ws) (hS : va_S A s.heap H locs) (isC : List Nat) (hC : isC.map (fun i => ws[i]?) = wc.map some) (hnC : va_nd isC = true) (hn : As.length = n) (hst : st0 = As.reverse ++ rest) (hsz : ls.size = nL) (hrm : (rest.map fun v => v.category).sum ≤ 8) (hdg : decode cc pc = .ok (.invokestatic index, 3)) (hf : cells + mc ≤ R.cells ∧ slots + ms ≤ R.slots)
    (kk : ∀ (r : Int64) (u : S) (H1 : Heap) (locs1 : List Loc), post r u → va_P D cl ws H1 → va_D A ws → va_S A s.heap H1 locs1 → W p l e R s m args below meth c H1 locs1 (cells + mc) (slots + ms) Z (F0 m (pc + 3) ls (.long r :: rest))) : W p l e R s m args below meth c H locs cells slots Z (F0 m pc ls st0) := by
  have hF : ∀ q, va_A wc H.size q → A q := va_free hD hS C.2.2.2.2.2.2.2.2.2 isC hC
  refine va_calll (va_runS (As := As) (rest := rest) ⟨C.1, C.2.1, C.2.2.2.2.1, C.2.2.2.2.2.1, C.2.2.2.2.2.2.1⟩ hM cw ⟨wpre_blind, wc_pre C hP hD hC hnC As⟩ rfl hn hsz hst (lv_room hrm) hdg hf) hS (fun q _ h => hF q h) hF (fun r u t H1 locs1 ht hvm hw hB hz1 hk1 hS1 => ?_)
  obtain ⟨hP1, hD1⟩ := hB
  rw [ht] at hP1
  exact kk r u H1 locs1 hw (wc_keep hP hD hC hk1 hP1) hD hS1
theorem wc_Oik {S : Type} {post : Int32 → S → Prop} {As rest : List Value} {ci : Nat} {fs : List Value} {q : vw_C} {x0 : MethodName} {owner : String} (C : cx cc nL ret0 own D cl tys A p c meth s m args) (hM : Met l y ws' rm (va_Pc (.ref b :: As) (wpre D cl tys wc H.size)) (va_Qi post (wpost D cl (va_A wc H.size) (fun _ => wc)) (va_A wc H.size)) mc ms (va_A wc H.size)) (cw : va_CU R s args own q.1 owner index x0 y bytes maxL ret ws' rm mc ms n) (hP : va_P D cl ws H) (hD : va_D A ws) (hS : va_S A s.heap H locs) (isC : List Nat) (hC : isC.map (fun i => ws[i]?) = wc.map some) (hnC : va_nd isC = true) (q0 : Nat) (he : ws[q0]? = some (b, .inr (ci, fs))) (hc : cl[ci]? = some q) (hn : As.length = n) (hst : st0 = As.reverse ++ .ref b :: rest) (hsz : ls.size = nL) (hrm : (rest.map fun v => v.category).sum ≤ 8) (hdg : decode cc pc = .ok (.invokevirtual index, 3)) (hf : cells + mc ≤ R.cells ∧ slots + ms ≤ R.slots)
    (kk : ∀ (r : Int32) (u : S) (H1 : Heap) (locs1 : List Loc), post r u → va_P D cl ws H1 → va_D A ws → va_S A s.heap H1 locs1 → W p l e R s m args below meth c H1 locs1 (cells + mc) (slots + ms) Z (F0 m (pc + 3) ls (.int r :: rest))) : W p l e R s m args below meth c H locs cells slots Z (F0 m pc ls st0) := by
  have hF : ∀ q, va_A wc H.size q → A q := va_free hD hS C.2.2.2.2.2.2.2.2.2 isC hC
  refine va_calli (va_runU (As := As) (rest := rest) ⟨C.1, C.2.1, C.2.2.2.2.1, C.2.2.2.2.2.1, C.2.2.2.2.2.2.1⟩ hM cw ⟨wpre_blind, va_recv C.2.2.2.2.2.2.2.2.1 hP hc he, wc_pre C hP hD hC hnC (.ref b :: As)⟩ rfl hn hsz hst (lv_room hrm) hdg hf) hS (fun q _ h => hF q h) hF (fun r u t H1 locs1 ht hvm hw hB hz1 hk1 hS1 => ?_)
  obtain ⟨hP1, hD1⟩ := hB
  rw [ht] at hP1
  exact kk r u H1 locs1 hw (wc_keep hP hD hC hk1 hP1) hD hS1
theorem wc_faithld (hexec : p.tables.exec = Jvm.exec) (hb : c.code = cc) (hK : va_K D cl tys s) (hP : va_P D cl ws H) (q0 t0 : Nat) {a f0 f1 f2 f3 : Nat} {rest : List Value} {cA : ClassId} {E : String} (ha : ws[q0]? = some (a, .inl (cA, 4, .inr (.inr (.inr (.inr (rq [f0, f1, f2, f3]))))))) (ht : tys[t0]? = some (cA, .object E)) {i : Int32} (hin : vp_in i 4) (hdg : decode cc pc = .ok (.aaload, 1))
    (kk : W p l e R s m args below meth c H locs cells slots Z (F0 m (pc + 1) ls (.ref (fsel f0 f1 f2 f3 i) :: rest))) : W p l e R s m args below meth c H locs cells slots Z (F0 m pc ls (.int i :: .ref a :: rest)) := by
  refine va_aldq hexec hb hK hP q0 t0 ha ht hin hdg ?_
  rcases vi_four hin with rfl | rfl | rfl | rfl <;> exact kk
theorem wc_aldq (hexec : p.tables.exec = Jvm.exec) (hb : c.code = cc) (hK : va_K D cl tys s) (hP : va_P D cl ws H) (q0 t0 : Nat) {a v n : Nat} {f : Nat → Option Nat} {rest : List Value} {cA : ClassId} {E : String} (ha : ws[q0]? = some (a, .inl (cA, n, .inr (.inr (.inr (.inr f)))))) (ht : tys[t0]? = some (cA, .object E)) {i : Int32} (hin : vp_in i n) (hv : f i.toNatClampNeg = some v) (hdg : decode cc pc = .ok (.aaload, 1))
    (kk : W p l e R s m args below meth c H locs cells slots Z (F0 m (pc + 1) ls (.ref v :: rest))) : W p l e R s m args below meth c H locs cells slots Z (F0 m pc ls (.int i :: .ref a :: rest)) := by
  refine va_aldq hexec hb hK hP q0 t0 ha ht hin hdg ?_
  rw [hv]
  exact kk
end WC3
