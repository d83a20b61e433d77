set_option maxRecDepth 100000
/-! OWN ROWS 8: what the machine itself throws, beside a world; a checkcast that fails; the rows that sheets hold -/
abbrev nmRT : String := "java/lang/RuntimeException"
abbrev nmEX : String := "java/lang/Exception"
abbrev nmNeg : String := "java/lang/NegativeArraySizeException"
abbrev nmCCE : String := "java/lang/ClassCastException"
abbrev nmIOB : String := "java/lang/IndexOutOfBoundsException"
abbrev nmAIO : String := "java/lang/ArrayIndexOutOfBoundsException"
abbrev nmNPE : String := "java/lang/NullPointerException"
def atoks (L : List Cond) : Bool := L.all fun w => (goodWord w || (nxw w && w.onTables)) && vx_ot w && decide (w ∈ lw_tbl)
theorem atoks_spec {L : List Cond} (h : atoks L = true) {s : State} {args : Array Value} (hts : ∀ w ∈ lw_all, w.before args s = true) (hn : nx s) : (∀ w ∈ L, w.before args s = true) ∧ ∀ w ∈ L, vx_ot w = true := by
  have h1 := List.all_eq_true.mp h
  refine ⟨fun w hw => ?_, fun w hw => ?_⟩
  · have h2 := h1 w hw
    simp only [Bool.and_eq_true, Bool.or_eq_true, decide_eq_true_eq] at h2
    obtain ⟨⟨h3 | h3, -⟩, h5⟩ := h2
    · exact hts w (lw_g h5 h3)
    · exact va_Nw.use h3.2 (hn w h5 h3.1)
  · have h2 := h1 w hw
    simp only [Bool.and_eq_true] at h2
    exact h2.1.2
theorem at_neg : atoks (vx_atM nmNeg [nmRT, nmEX]) = true := by decide +kernel
theorem at_cce : atoks (vx_atM nmCCE [nmRT, nmEX]) = true := by decide +kernel
theorem at_aio : atoks (vx_atM nmAIO [nmIOB, nmRT, nmEX]) = true := by decide +kernel
theorem at_npe : atoks (vx_atN 8) = true := by decide +kernel
/-- what is not castable -/
def ncl : List (String × String) := [("[B", "[S"), ("[B", "[I"), ("[S", "[B"), ("[S", "[I"), ("[I", "[B"), ("[I", "[S"), (nmAIO, nmNPE), (nmAIO, nmCCE), (nmCCE, nmNPE)]
def ncE (U : State) : Prop := ∀ x ∈ ncl, va_Nc x.1 x.2 U
theorem ncE_same {u U : State} (hv : U.vm = u.vm) (h : ncE u) : ncE U := fun x hx => (h x hx).moved (by rw [hv]; exact Vm.Alike.refl _)
theorem ncE_warm {s U : State} (hW : s.WarmedH U.vm) (h : ncE s) : ncE U := fun x hx => (h x hx).moved hW.alike
/-- the class of an array of a primitive type -/
def arK (nm : String) (k : Class) : Prop := k.name = nm ∧ k.hidden = none ∧ k.loader = none ∧ k.ofPrimitives = true
theorem arK_of {s : State} {args : Array Value} {ty : FieldType} {nm : String} {c : ClassId} (h : (Cond.arrayClass ty).before args s = true) (e : "[" ++ ty.toString = nm) (hl : ((withoutBrackets nm).length == 1) = true) (hc : s.vm.findClass nm = some c) : ∃ k, s.vm.classes[c]? = some k ∧ arK nm k := by
  obtain ⟨c', k, comp, h1, h2, h3⟩ := Cond.arrayClass_spec h
  rw [e] at h1
  cases h1.symm.trans hc
  obtain ⟨hlt, hp, -⟩ := Array.findIdx?_eq_some_iff_getElem.mp hc
  have hk : s.vm.classes[c] = k := by rw [Array.getElem?_eq_getElem hlt] at h2; exact Option.some.inj h2
  rw [hk] at hp
  simp only [Bool.and_eq_true, beq_iff_eq] at hp
  refine ⟨k, h2, hp.1.1.1, Option.isNone_iff_eq_none.mp hp.1.1.2, Option.isNone_iff_eq_none.mp hp.2, ?_⟩
  simp only [Class.ofPrimitives, h3]
  rw [hp.1.1.1]
  exact hl
def cast_home : List String := ["module java.base of loader 'bootstrap'", "unnamed module of loader 'bootstrap'"]
def cast_hm (a b h : String) : String := toString (dotted a) ++ toString " and " ++ toString (dotted b) ++ toString " are in " ++ toString h
def cast_tx (a b h : String) : String := toString "class " ++ toString (dotted a) ++ toString " cannot be cast to class " ++ toString (dotted b) ++ toString " (" ++ toString (cast_hm a b h) ++ toString ")"
theorem cast_msg {vm : Vm} {a b : Class} {nS nT : String} (ha : arK nS a) (hb : arK nT b) : ∃ h ∈ cast_home, checkcast.message vm a b = cast_tx nS nT h := by
  have sa : a.shown = dotted nS := by simp only [Class.shown, ha.2.1, ha.1]
  have sb : b.shown = dotted nT := by simp only [Class.shown, hb.2.1, hb.1]
  have ma : vm.moduleOf a = vm.modules.find? (fun x => x.name == "java.base") := by simp only [Vm.moduleOf, ha.2.2.2, if_true]
  have mb : vm.moduleOf b = vm.modules.find? (fun x => x.name == "java.base") := by simp only [Vm.moduleOf, hb.2.2.2, if_true]
  cases hf : vm.modules.find? (fun x => x.name == "java.base") with
  | none =>
    rw [hf] at ma mb
    have hsm : vm.sameModule a b = true := by simp [Vm.sameModule, ma, mb, ha.2.2.1, hb.2.2.1]
    have hh : vm.home a = "unnamed module of loader 'bootstrap'" := by simp only [Vm.home, ma, ha.2.2.1, Vm.loaderName]; decide
    exact ⟨_, List.mem_cons_of_mem _ List.mem_cons_self, by simp only [checkcast.message, Vm.homes, hsm, if_true, sa, sb, hh, cast_tx, cast_hm]⟩
  | some mm =>
    rw [hf] at ma mb
    have hn : mm.name = "java.base" := by simpa using List.find?_some hf
    have hsm : vm.sameModule a b = true := by simp [Vm.sameModule, ma, mb]
    have hh : vm.home a = "module java.base of loader 'bootstrap'" := by simp only [Vm.home, ma, ha.2.2.1, Vm.loaderName, hn]; decide
    exact ⟨_, List.mem_cons_self, by simp only [checkcast.message, Vm.homes, hsm, if_true, sa, sb, hh, cast_tx, cast_hm]⟩
def cast_prs : List (String × String) := [("[B", "[S"), ("[B", "[I"), ("[S", "[B"), ("[S", "[I"), ("[I", "[B"), ("[I", "[S")]
theorem cast_ok : ∀ x ∈ cast_prs, ∀ h ∈ cast_home, (cast_tx x.1 x.2 h).toList.length ≤ 240 ∧ (cast_tx x.1 x.2 h == notModelled) = false := by decide +kernel
theorem tx_small {t : String} {n : Nat} (h : t.toList.length ≤ n) (hn : 4 * n ≤ 1000) : (stringBytes (stringToUtf16 t)).size ≤ 1000 := by
  have b1 := stringBytes_size_le (stringToUtf16 t)
  have b2 := utf16_size_le t
  omega
section WC8
variable {p : Program} {l : Launch} {e : Env} {R : Room} {s : State} {m : MethodId} {args : Array Value} {below : List Frame} {meth : Method} {c : Code} {H : Heap} {locs : List Loc} {cells slots : Nat} {Z : State → Prop}
variable {D : va_G} {cl : List vw_C} {tys : List (ClassId × FieldType)} {A : Nat → Prop} {cc : ByteArray} {nL : Nat} {ret0 : Option FieldType} {own : String} {pc : Nat} {ls : Array Slot} {st0 : List Value}
variable {y : MethodName} {bytes : ByteArray} {maxL mc ms n index : Nat} {ret : Option FieldType} {ws' : List Cond} {rm : Room} {C0 : String} {b : Nat} {ws wc X pl : va_W}
variable {sk sv : Nat → Nat} {X0 pl : va_W} {nc ns : Nat}
theorem vx_castNo (hexec : p.tables.exec = Jvm.exec) (hb : c.code = cc) {nS nT : String} {index a : Nat} {rest : List Value} (hown : s.vm.findClass own = some m.cls) (hlink : (Cond.classLink own index nT).before args s = true) (hc : va_Nc nS nT s)
    (hr : ∃ cell : Cell, H[a]? = some cell ∧ cell.vm.isStatics = false ∧ s.vm.findClass nS = some cell.cls)
    (hkS : ∀ cS, s.vm.findClass nS = some cS → ∃ k, s.vm.classes[cS]? = some k ∧ arK nS k) (hkT : ∀ cS, s.vm.findClass nT = some cS → ∃ k, s.vm.classes[cS]? = some k ∧ arK nT k)
    (hdg : decode cc pc = .ok (.checkcast index, 3))
    (k : ∀ h ∈ cast_home, vx_Note p l e R s m args below meth c H locs cells slots Z (F0 m pc ls (.ref a :: rest)) nmCCE (cast_tx nS nT h)) : W p l e R s m args below meth c H locs cells slots Z (F0 m pc ls (.ref a :: rest)) := by
  obtain ⟨cell, h1, h2, h3⟩ := hr
  obtain ⟨c0, cT, f1, f2, f3⟩ := hc
  cases h3.symm.trans f1
  obtain ⟨ks, hks, aS⟩ := hkS _ h3
  obtain ⟨kt0, hkt0, aT⟩ := hkT _ f2
  intro T hT X
  have hpl : e.platform.magicAccessors = ({} : Platform).magicAccessors := by rw [X.admits.platform]
  obtain ⟨c', hc', hcl⟩ := Cond.classLink_spec hown hlink e.platform hpl
  cases f2.symm.trans hc'
  obtain ⟨dk, _, _, kt, hd, _, _, _, _, hkt, _, hopen⟩ := hcl.here
  have hcl₀ := X.warmed.classLinks hcl
  have hW' : s.WarmedH (T.vm.noted m.cls index (.cls cT)) := X.warmed.noted hd hopen (State.rightAt_cls hcl)
  obtain ⟨ks', hks', hes⟩ := hW'.alike.2.2 _ _ hks
  obtain ⟨kt', hkt', het⟩ := hW'.alike.2.2 _ _ hkt0
  have aS' : arK nS ks' := by rw [hes]; exact aS
  have aT' : arK nT kt' := by rw [het]; exact aT
  obtain ⟨h, hh, hmsg⟩ := cast_msg (vm := T.vm.noted m.cls index (.cls cT)) aS' aT'
  obtain ⟨t, a1, b1⟩ := k h hh (T.setVm (T.vm.noted m.cls index (.cls cT))) hT (X.noted hW')
  refine ⟨t, ?_, b1⟩
  have hdg' : decode c.code (F0 m pc ls (.ref a :: rest)).pc = .ok (.checkcast index, 3) := by rw [hb]; exact hdg
  have hcell : T.heap[a]? = some cell := by rw [hT]; exact h1
  jvm_step X.here [hexec, hdg', checkcast.wp_cold (e := e) (s := T) (f := F0 m pc ls (.ref a :: rest)) X.here.top rfl (resolveClass_links e.toSetting hcl₀) hcl₀.ready,
    checkcast.wp_ready (e := e) (s := T.setVm (T.vm.noted m.cls index (.cls cT))) (f := F0 m pc ls (.ref a :: rest)) X.here.top hcl₀.ready rfl]
  refine ⟨cell, hcell, VmData.noStatics_of h2, ks', hks', kt', hkt', ?_⟩
  have h9 : ¬ (T.vm.noted m.cls index (Resolved.cls cT)).assignable cell.cls cT = true := by rw [hW'.alike.assignable, f3]; decide
  rw [if_neg h9, hmsg]
  exact a1
/-- thrown by the machine with a message: the world stays -/
theorem sx_vm {cls text : String} {names : List String} {rest : List Value} (C : cx cc nL ret0 own D cl tys A p c meth s m args) (hE : env sk sv A s s.heap) (hst : l.stackTraces = false) (hP : va_P D cl ws H) (hS : va_S A s.heap H locs) (hsz : ls.size = nL) (hat : atoks (vx_atM cls names) = true)
    (hcls : Bundle.fit cls = true) (hnames : ∀ n ∈ names, Bundle.fit n = true) (hsoe : (cls == "java/lang/StackOverflowError") = false) (hoom : (cls == "java/lang/OutOfMemoryError") = false) (hlen : names.length ≤ 3)
    (htext : (text == notModelled) = false) (hnb : (stringBytes (stringToUtf16 text)).size ≤ 1000) (hfr : 8 ≤ R.frames) (hlo : (rest.map fun v => v.category).sum + 10240 ≤ R.locals) (hf : cells + 3 ≤ R.cells ∧ slots + 1010 ≤ R.slots)
    (k : ∀ (H1 : Heap) (q9 : Addr) (ce : Cell), va_P D cl ws H1 → va_S A s.heap H1 locs → H1[q9]? = some ce → ce.vm = .none → s.vm.findClass cls = some ce.cls → vx_W p l e R s m args below meth c H1 locs (cells + 3) (slots + 1010) Z (F0 m pc ls rest) q9) :
    vx_Note p l e R s m args below meth c H locs cells slots Z (F0 m pc ls rest) cls text := by
  obtain ⟨hat1, hat2⟩ := atoks_spec hat C.2.2.2.2.2.2.1 C.2.2.2.2.2.2.2.1
  exact vx_vm C.1 hst hcls hnames hsoe hoom hat1 hat2 hE.2.2.2.2.1 hE.2.2.2.2.2 hS (hsz.trans C.2.2.2.2.1.symm) htext (nb := 1000) hnb (by decide) (by omega) hlo (by omega) hf.1 hf.2 C.2.2.2.1
    (fun H1 q9 ce h1 h2 hS1 hc hv hl => k H1 q9 ce (fun i q hi => (hP i q hi).kept (h2 q.1 (hP i q hi).lt)) hS1 hc hv hl)
theorem sx_npe {rest : List Value} (C : cx cc nL ret0 own D cl tys A p c meth s m args) (hE : env sk sv A s s.heap) (hst : l.stackTraces = false) (hP : va_P D cl ws H) (hS : va_S A s.heap H locs) (hsz : ls.size = nL)
    (hfr : 8 ≤ R.frames) (hlo : (rest.map fun v => v.category).sum + 10240 ≤ R.locals) (hf : cells + 3 ≤ R.cells ∧ slots + 1010 ≤ R.slots)
    (k : ∀ (H1 : Heap) (q9 : Addr) (ce : Cell), va_P D cl ws H1 → va_S A s.heap H1 locs → H1[q9]? = some ce → ce.vm = .none → s.vm.findClass nmNPE = some ce.cls → vx_W p l e R s m args below meth c H1 locs (cells + 3) (slots + 1010) Z (F0 m pc ls rest) q9) :
    vx_NoteN p l e R s m args below meth c H locs cells slots Z (F0 m pc ls rest) := by
  obtain ⟨hat1, hat2⟩ := atoks_spec at_npe C.2.2.2.2.2.2.1 C.2.2.2.2.2.2.2.1
  exact vx_npe C.1 hst hat1 hat2 hE.2.2.2.2.1 hE.2.2.2.2.2 hS (hsz.trans C.2.2.2.2.1.symm) (by omega) hlo (by omega) (by omega) C.2.2.2.1
    (fun H1 q9 ce h1 h2 hS1 hc hv hl => vx_widen (by omega) (by omega) (k H1 q9 ce (fun i q hi => (hP i q hi).kept (h2 q.1 (hP i q hi).lt)) hS1 hc hv hl))
theorem sx_neg {rest : List Value} (C : cx cc nL ret0 own D cl tys A p c meth s m args) (hE : env sk sv A s s.heap) (hst : l.stackTraces = false) (hP : va_P D cl ws H) (hS : va_S A s.heap H locs) (hsz : ls.size = nL) {atype : ArrayType} {n : Int32} (h0 : n < 0) (hdg : decode cc pc = .ok (.newarray atype, 2))
    (hfr : 8 ≤ R.frames) (hlo : (rest.map fun v => v.category).sum + 10240 ≤ R.locals) (hf : cells + 3 ≤ R.cells ∧ slots + 1010 ≤ R.slots)
    (k : ∀ (H1 : Heap) (q9 : Addr) (ce : Cell), va_P D cl ws H1 → va_S A s.heap H1 locs → H1[q9]? = some ce → ce.vm = .none → s.vm.findClass nmNeg = some ce.cls → vx_W p l e R s m args below meth c H1 locs (cells + 3) (slots + 1010) Z (F0 m pc ls rest) q9) :
    W p l e R s m args below meth c H locs cells slots Z (F0 m pc ls (.int n :: rest)) := by
  refine vx_newarrayZ C.1 C.2.1 h0 hdg (fun tx htx => ?_)
  subst htx
  exact sx_vm C hE hst hP hS hsz at_neg (by decide +kernel) (by decide +kernel) (by decide +kernel) (by decide +kernel) (by decide) (negative_text_modelled h0) (Nat.le_trans (negative_text_bytes n) (by decide)) hfr hlo hf k
theorem sx_aio {rest : List Value} (C : cx cc nL ret0 own D cl tys A p c meth s m args) (hE : env sk sv A s s.heap) (hst : l.stackTraces = false) (hP : va_P D cl ws H) (hS : va_S A s.heap H locs) (hsz : ls.size = nL) {i : Int32} {n : Nat} (hn : n ≤ 40) {tx : String} (htx : tx = (toString "Index " ++ toString i ++ toString " out of bounds for length " ++ toString n : String))
    (hfr : 8 ≤ R.frames) (hlo : (rest.map fun v => v.category).sum + 10240 ≤ R.locals) (hf : cells + 3 ≤ R.cells ∧ slots + 1010 ≤ R.slots)
    (k : ∀ (H1 : Heap) (q9 : Addr) (ce : Cell), va_P D cl ws H1 → va_S A s.heap H1 locs → H1[q9]? = some ce → ce.vm = .none → s.vm.findClass nmAIO = some ce.cls → vx_W p l e R s m args below meth c H1 locs (cells + 3) (slots + 1010) Z (F0 m pc ls rest) q9) :
    vx_Note p l e R s m args below meth c H locs cells slots Z (F0 m pc ls rest) nmAIO tx := by
  subst htx
  exact sx_vm C hE hst hP hS hsz at_aio (by decide +kernel) (by decide +kernel) (by decide +kernel) (by decide +kernel) (by decide) (index_text_modelled i n) (Nat.le_trans (index_text_bytes i (by omega)) (by decide)) hfr hlo hf k
theorem va_arr {q0 a : Nat} {cA : ClassId} {x : vp_A} (hP : va_P D cl ws H) (ha : ws[q0]? = some (a, .inl (cA, x))) {nm : String} (hc : s.vm.findClass nm = some cA) : ∃ cell : Cell, H[a]? = some cell ∧ cell.vm.isStatics = false ∧ s.vm.findClass nm = some cell.cls := by
  have hvm0 : (vp_cell cA x).vm = .none := by
    obtain ⟨n, f | f | f | f | f⟩ := x <;> rfl
  have hcl0 : (vp_cell cA x).cls = cA := by
    obtain ⟨n, f | f | f | f | f⟩ := x <;> rfl
  exact ⟨_, hP q0 _ ha, by rw [hvm0]; rfl, by rw [hcl0]; exact hc⟩
end WC8
/-- what sheets hold: type's place, length, cells -/
abbrev Sh := Nat → Option (Nat × Nat × (Nat → Int32))
def rowOK (ca : Nat → ClassId) (pl : va_W) (r : Option Nat) (j : Nat) (x : Option (Nat × Nat × (Nat → Int32))) : Prop := match x with
  | none => r = none
  | some (t, n, f) => (t = 2 ∨ t = 3 ∨ t = 0) ∧ n ≤ 40 ∧ ∃ a, r = some a ∧ pl[j]? = some (a, .inl (ca t, n, .inl f))
def RowsOK (ca : Nat → ClassId) (pl : va_W) (rw : Nat → Option Nat) (sh : Sh) : Prop := ∃ jx : Nat → Nat, (∀ k, k < 4 → rowOK ca pl (rw k) (jx k) (sh k)) ∧ ∀ k k', k < 4 → k' < 4 → sh k ≠ none → sh k' ≠ none → jx k = jx k' → k = k'
def shSet {α : Type} (f : Nat → α) (k : Nat) (v : α) : Nat → α := fun j => if j = k then v else f j
theorem RowsOK.put {ca : Nat → ClassId} {pl : va_W} {rw : Nat → Option Nat} {sh : Sh} (h : RowsOK ca pl rw sh) {k t n q : Nat} {f : Nat → Int32} (ht : t = 2 ∨ t = 3 ∨ t = 0) (hn : n ≤ 40) : RowsOK ca (pl ++ [(q, .inl (ca t, n, .inl f))]) (shSet rw k (some q)) (shSet sh k (some (t, n, f))) := by
  obtain ⟨jx, h1, h2⟩ := h
  have hlt : ∀ j, j < 4 → sh j ≠ none → jx j < pl.length := by
    intro j hj hs
    have := h1 j hj
    cases hx : sh j with
    | none => exact absurd hx hs
    | some x =>
      obtain ⟨t, n, f⟩ := x
      rw [hx] at this
      obtain ⟨-, -, a, -, hp⟩ := this
      exact (List.getElem?_eq_some_iff.mp hp).1
  refine ⟨fun j => if j = k then pl.length else jx j, fun j hj => ?_, fun j j' hj hj' hs hs' he => ?_⟩
  · by_cases e : j = k
    · simp only [shSet, e, if_true]
      exact ⟨ht, hn, q, rfl, by rw [List.getElem?_append_right (Nat.le_refl _), Nat.sub_self]; rfl⟩
    · simp only [shSet, if_neg e]
      have := h1 j hj
      cases hx : sh j with
      | none => rw [hx] at this; exact this
      | some x =>
        obtain ⟨t, n, f⟩ := x
        rw [hx] at this
        obtain ⟨g1, g2, a, g3, g4⟩ := this
        exact ⟨g1, g2, a, g3, by rw [List.getElem?_append_left (List.getElem?_eq_some_iff.mp g4).1]; exact g4⟩
  · by_cases e : j = k <;> by_cases e' : j' = k
    · rw [e, e']
    · simp only [e, if_true, if_neg e'] at he
      simp only [shSet, if_neg e'] at hs'
      have := hlt j' hj' hs'
      omega
    · simp only [e', if_true, if_neg e] at he
      simp only [shSet, if_neg e] at hs
      have := hlt j hj hs
      omega
    · simp only [if_neg e, if_neg e'] at he
      simp only [shSet, if_neg e] at hs
      simp only [shSet, if_neg e'] at hs'
      exact h2 j j' hj hj' hs hs' he
theorem RowsOK.get {ca : Nat → ClassId} {pl : va_W} {rw : Nat → Option Nat} {sh : Sh} (h : RowsOK ca pl rw sh) {k : Nat} (hk : k < 4) : (sh k = none ∧ rw k = none) ∨ ∃ (t n : Nat) (f : Nat → Int32) (a j : Nat), sh k = some (t, n, f) ∧ (t = 2 ∨ t = 3 ∨ t = 0) ∧ n ≤ 40 ∧ rw k = some a ∧ pl[j]? = some (a, .inl (ca t, n, .inl f)) ∧ ∀ f' : Nat → Int32, RowsOK ca (pl.set j (a, .inl (ca t, n, .inl f'))) rw (shSet sh k (some (t, n, f'))) := by
  obtain ⟨jx, h1, h2⟩ := h
  have hk1 := h1 k hk
  cases hx : sh k with
  | none =>
    rw [hx] at hk1
    exact Or.inl ⟨rfl, hk1⟩
  | some x =>
    obtain ⟨t, n, f⟩ := x
    rw [hx] at hk1
    obtain ⟨g1, g2, a, g3, g4⟩ := hk1
    refine Or.inr ⟨t, n, f, a, jx k, rfl, g1, g2, g3, g4, fun f' => ⟨jx, fun j hj => ?_, fun j j' hj hj' hs hs' he => ?_⟩⟩
    · by_cases e : j = k
      · subst e
        simp only [shSet, if_true]
        exact ⟨g1, g2, a, g3, by rw [List.getElem?_set_self (List.getElem?_eq_some_iff.mp g4).1]⟩
      · simp only [shSet, if_neg e]
        have hj1 := h1 j hj
        cases hy : sh j with
        | none => rw [hy] at hj1; exact hj1
        | some y =>
          obtain ⟨t', n', f''⟩ := y
          rw [hy] at hj1
          obtain ⟨u1, u2, a', u3, u4⟩ := hj1
          refine ⟨u1, u2, a', u3, ?_⟩
          rw [List.getElem?_set_ne (fun he => e (h2 j k hj hk (by rw [hy]; exact Option.some_ne_none _) (by rw [hx]; exact Option.some_ne_none _) he.symm))]
          exact u4
    · have hs0 : sh j ≠ none := by
        by_cases e : j = k
        · subst e; rw [hx]; exact Option.some_ne_none _
        · simp only [shSet, if_neg e] at hs; exact hs
      have hs0' : sh j' ≠ none := by
        by_cases e : j' = k
        · subst e; rw [hx]; exact Option.some_ne_none _
        · simp only [shSet, if_neg e] at hs'; exact hs'
      exact h2 j j' hj hj' hs0 hs0' he
def laneT (lane : Int32) : Nat := if lane = 0 then 2 else if lane = 1 then 3 else 0
/-- takenOf: why it throws (0: it doesn't; 1 null, 2 index, 3 cast), and what it answers -/
def takeW (sh : Sh) (k : Nat) (lane i : Int32) : Int32 := match sh k with
  | none => 1
  | some (t, n, _) => if t = laneT lane then (if i < 0 ∨ n ≤ i.toNatClampNeg then 2 else 0) else 3
def takeV (sh : Sh) (k : Nat) (i : Int32) : Int32 := match sh k with
  | none => 0
  | some (_, _, f) => f i.toNatClampNeg
def exN (w : Int32) : String := if w = 1 then nmNPE else if w = 2 then nmAIO else nmCCE
def wpreF (D : va_G) (cl : List vw_C) (tys : List (ClassId × FieldType)) (sk sv : Nat → Nat) (ws : va_W) (sz : Nat) : State → Prop := fun U => wpreE D cl tys sk sv ws sz U ∧ ncE U
theorem wpreF_blind {D : va_G} {cl : List vw_C} {tys : List (ClassId × FieldType)} {sk sv : Nat → Nat} {ws : va_W} {sz : Nat} {av : List Value} : FrameBlind (va_Pc av (wpreF D cl tys sk sv ws sz)) := fun a U g mk h => by
  obtain ⟨h0, h1, h2⟩ := h
  exact ⟨h0, (wpreE_blind a U g mk ⟨h0, h1⟩).2, ncE_same (u := U) (U := U.calling g mk a) rfl h2⟩
theorem met_ofXF {l : Launch} {y : MethodName} {rm : Room} {D : va_G} {cl : List vw_C} {tys : List (ClassId × FieldType)} {sk sv : Nat → Nat} {ws : va_W} {sz : Nat} {av : List Value} (Qc : (Nat → Prop) → Array Value → State → Outcome → State → Prop) (XC : (Nat → Prop) → String → Addr → State → State → Prop) {cc : ByteArray} {nL nc ns mc ms : Nat} {ret : Option FieldType}
    (hy : plainName y.cls = true) (hsl : (lg_sl av).length ≤ nL)
    (body : ∀ (p : Program) (e : Env) (s : State) (m : MethodId) (args : Array Value) (below : List Frame) (meth : Method) (c : Code) (Z : State → Prop) (A : Nat → Prop), Z = vy_MQ below (Qc A) (XC A) args s nc ns mc ms A → cx cc nL ret y.cls D cl tys A p c meth s m args → env sk sv A s s.heap → ncE s → (∀ x ∈ c.exceptionTable.toList, False) → meth.name = y.name → ∀ (H : Heap) (locs : List Loc), va_P D cl ws H → va_D A ws → va_S A s.heap H locs → ∀ ls : Array Slot, lv_has ls nL (lv_args 0 av) →
      W p l e rm s m args below meth c H locs 0 0 Z (F0 m 0 ls [])) : vy_Met l y (ws_ y cc nL ret) rm (va_Pc av (wpreF D cl tys sk sv ws sz)) (Qc (va_A ws sz)) (XC (va_A ws sz)) nc ns mc ms (va_A ws sz) := by
  refine vy_ofW (cc := cc) (maxL := nL) (ret := ret) hy rfl ?_
  intro p e s m args below meth c s₁ B hml hnh hv
  obtain ⟨rfl, ⟨⟨hsz, hP, hK, hD0, hn⟩, hE⟩, hNC⟩ := hv
  subst hsz
  have hts := atoms_spec (ws := ws_ y cc nL ret) B.pre
  have hts : ∀ w ∈ lw_all, w.before av.toArray s = true := fun w h => hts w (List.mem_cons_of_mem _ h)
  have hl := lv_entry av (n := nL) hsl
  rw [lg_entry_eq]
  generalize (lg_sl av ++ List.replicate (nL - (lg_sl av).length) Slot.unset).toArray = ls at hl ⊢
  exact body p e s m av.toArray below meth c _ _ rfl ⟨B.exec, B.bytes, B.returns, B.notSynchronized, hml, findClass_of_methodNamed B.named, hts, hn, hK, fun q h => Or.inr h⟩ hE hNC hnh (name_of_methodNamed B.named B.method).1 _ _ hP hD0.self va_S.rf ls hl
theorem met_ofHF {l : Launch} {y : MethodName} {rm : Room} {D : va_G} {cl : List vw_C} {tys : List (ClassId × FieldType)} {sk sv : Nat → Nat} {ws : va_W} {sz : Nat} {av : List Value} (Qc : (Nat → Prop) → Array Value → State → Outcome → State → Prop) (XC : (Nat → Prop) → String → Addr → State → State → Prop) {cc : ByteArray} {nL mc ms : Nat} {ret : Option FieldType} {hh : List (Nat × Nat × Nat × Nat)}
    (hy : plainName y.cls = true) (hsl : (lg_sl av).length ≤ nL)
    (body : ∀ (p : Program) (e : Env) (s : State) (m : MethodId) (args : Array Value) (below : List Frame) (meth : Method) (c : Code) (Z : State → Prop) (A : Nat → Prop), Z = vx_MQ below (Qc A) (XC A) args s mc ms A → cx cc nL ret y.cls D cl tys A p c meth s m args → env sk sv A s s.heap → ncE s → c.exceptionTable.toList = tableOf hh → meth.name = y.name → ∀ (H : Heap) (locs : List Loc), va_P D cl ws H → va_D A ws → va_S A s.heap H locs → ∀ ls : Array Slot, lv_has ls nL (lv_args 0 av) →
      W p l e rm s m args below meth c H locs 0 0 Z (F0 m 0 ls [])) : vx_Met l y (wsW_ y cc nL ret hh) rm (va_Pc av (wpreF D cl tys sk sv ws sz)) (Qc (va_A ws sz)) (XC (va_A ws sz)) mc ms (va_A ws sz) := by
  refine vx_ofWH (hh := hh) (cc := cc) (maxL := nL) (ret := ret) hy rfl ?_
  intro p e s m args below meth c s₁ B hml hv
  obtain ⟨rfl, ⟨⟨hsz, hP, hK, hD0, hn⟩, hE⟩, hNC⟩ := hv
  subst hsz
  have hts := atoms_spec (ws := wsW_ y cc nL ret hh) B.pre
  have hnh : c.exceptionTable.toList = tableOf hh := vx_table (x := y) B (hts _ List.mem_cons_self)
  have hts : ∀ w ∈ lw_all, w.before av.toArray s = true := fun w h => hts w (List.mem_cons_of_mem _ h)
  have hl := lv_entry av (n := nL) hsl
  rw [lg_entry_eq]
  generalize (lg_sl av ++ List.replicate (nL - (lg_sl av).length) Slot.unset).toArray = ls at hl ⊢
  exact body p e s m av.toArray below meth c _ _ rfl ⟨B.exec, B.bytes, B.returns, B.notSynchronized, hml, findClass_of_methodNamed B.named, hts, hn, hK, fun q h => Or.inr h⟩ hE hNC hnh (name_of_methodNamed B.named B.method).1 _ _ hP hD0.self va_S.rf ls hl
theorem met_ofEF {l : Launch} {y : MethodName} {rm : Room} {D : va_G} {cl : List vw_C} {tys : List (ClassId × FieldType)} {sk sv : Nat → Nat} {ws : va_W} {sz : Nat} {av : List Value} (Qc : (Nat → Prop) → Array Value → State → Outcome → State → Prop) {cc : ByteArray} {nL mc ms : Nat} {ret : Option FieldType}
    (hy : plainName y.cls = true) (hsl : (lg_sl av).length ≤ nL)
    (body : ∀ (p : Program) (e : Env) (s : State) (m : MethodId) (args : Array Value) (below : List Frame) (meth : Method) (c : Code) (Z : State → Prop) (A : Nat → Prop), Z = MQ below (Qc A) args s mc ms A → cx cc nL ret y.cls D cl tys A p c meth s m args → env sk sv A s s.heap → ncE s → meth.name = y.name → ∀ (H : Heap) (locs : List Loc), va_P D cl ws H → va_D A ws → va_S A s.heap H locs → ∀ ls : Array Slot, lv_has ls nL (lv_args 0 av) →
      W p l e rm s m args below meth c H locs 0 0 Z (F0 m 0 ls [])) : Met l y (ws_ y cc nL ret) rm (va_Pc av (wpreF D cl tys sk sv ws sz)) (Qc (va_A ws sz)) mc ms (va_A ws sz) := by
  refine Met.ofW (cc := cc) (maxL := nL) (ret := ret) hy rfl ?_
  intro p e s m args below meth c s₁ B hml hv
  obtain ⟨rfl, ⟨⟨hsz, hP, hK, hD0, hn⟩, hE⟩, hNC⟩ := hv
  subst hsz
  have hts := atoms_spec (ws := ws_ y cc nL ret) B.pre
  have hts : ∀ w ∈ lw_all, w.before av.toArray s = true := fun w h => hts w (List.mem_cons_of_mem _ h)
  have hl := lv_entry av (n := nL) hsl
  rw [lg_entry_eq]
  generalize (lg_sl av ++ List.replicate (nL - (lg_sl av).length) Slot.unset).toArray = ls at hl ⊢
  exact body p e s m av.toArray below meth c _ _ rfl ⟨B.exec, B.bytes, B.returns, B.notSynchronized, hml, findClass_of_methodNamed B.named, hts, hn, hK, fun q h => Or.inr h⟩ hE hNC (name_of_methodNamed B.named B.method).1 _ _ hP hD0.self va_S.rf ls hl
