set_option maxRecDepth 100000
abbrev rm_M_faithsOf : Room := { frames := 5, cells := 0, slots := 0, locals := 88 }
set_option maxHeartbeats 4000000 in
theorem w_M_faithsOf_L42 {p : Program} {l : Launch} {e : Env} {s : State} {m : MethodId} {args : Array Value} {below : List Frame} {meth : Method} {c : Code} {D : va_G} {ad : Nat → Nat} {ca : Nat → ClassId} {A : Nat → Prop} {Z : State → Prop} (C : cx cX7_faithsOf 7 (some .int) RX7 D vwCl (tyL ca) A p c meth s m args) {blocks : Int32} {trainMany : Int32} {lockMany : Int32} {readBlocks : Int32} {readTrains : Int32} {readLockMany : Int32} {blocksTold : Int32} {omensTold : Int32} {highBlock : Int32} {taped : Int32} {fault : Int32} {broken : Int32} {brokenAt : Int32} {spot : Int32} {here : Int32} {token : Int32} {value : Int32} {bumpAt : Int32} {bumpIn : Int32} {bumpOf : Int32} {waited : Int32} {keptOut : Int32} {visited : Int32} {seenMany : Int32} {drawn : Int32} {torn : Int32} {state : Nat → Int32} {locks : Nat → Int32} {waits : Nat → Int32} {readPage : Nat → Int32} {readLocks : Nat → Int32} {tape : Nat → Int32} {cuts : Nat → Int32} {letters : Nat → Int32} {place : Nat → Int32} {left : Nat → Int32} {hasSeen : Nat → Int32} {homeAt : Nat → Int32} {places : Nat → Int32} {seen : Nat → Int32} {wouldBe : Nat → Int32} {isKept : Nat → Int32} {lanes : Nat → Int32} {lengths : Nat → Int32} {cells : Nat → Int32} {x1 : Int32} {x2 : Int32} {x3 : Int32} {x4 : Int32} {k116 : Int32 → Prop} (hk116 : ∀ (x5 : Int32), k116 x5 → ∀ (ls : Array Slot) (H : Heap) (locs : List Loc), lv_has ls 7 [(0, .ref (ad 0)), (1, .int x1), (2, .int x2), (3, .int x3), (4, .int x4), (5, .int x5)] → va_P D vwCl (mW ad ca blocks trainMany lockMany readBlocks readTrains readLockMany blocksTold omensTold highBlock taped fault broken brokenAt spot here token value bumpAt bumpIn bumpOf waited keptOut visited seenMany drawn torn state locks waits readPage readLocks tape cuts letters place left hasSeen homeAt places seen wouldBe isKept lanes lengths cells) H → va_D A (mW ad ca blocks trainMany lockMany readBlocks readTrains readLockMany blocksTold omensTold highBlock taped fault broken brokenAt spot here token value bumpAt bumpIn bumpOf waited keptOut visited seenMany drawn torn state locks waits readPage readLocks tape cuts letters place left hasSeen homeAt places seen wouldBe isKept lanes lengths cells) → va_S A s.heap H locs → W p l e rm_M_faithsOf s m args below meth c H locs 0 0 Z (F0 m 116 ls [])) : ∀ (n : Nat) (x5 : Int32) (x6 : Int32), M_faithsOf_L42 seenMany places seen x1 k116 n x5 x6 → ∀ (ls : Array Slot) (H : Heap) (locs : List Loc), lv_has ls 7 [(0, .ref (ad 0)), (1, .int x1), (2, .int x2), (3, .int x3), (4, .int x4), (5, .int x5), (6, .int x6)] → va_P D vwCl (mW ad ca blocks trainMany lockMany readBlocks readTrains readLockMany blocksTold omensTold highBlock taped fault broken brokenAt spot here token value bumpAt bumpIn bumpOf waited keptOut visited seenMany drawn torn state locks waits readPage readLocks tape cuts letters place left hasSeen homeAt places seen wouldBe isKept lanes lengths cells) H → va_D A (mW ad ca blocks trainMany lockMany readBlocks readTrains readLockMany blocksTold omensTold highBlock taped fault broken brokenAt spot here token value bumpAt bumpIn bumpOf waited keptOut visited seenMany drawn torn state locks waits readPage readLocks tape cuts letters place left hasSeen homeAt places seen wouldBe isKept lanes lengths cells) → va_S A s.heap H locs → W p l e rm_M_faithsOf s m args below meth c H locs 0 0 Z (F0 m 42 ls []) := by
  have hx := C.1; have hb := C.2.1; have hr := C.2.2.1; have hlocks := C.2.2.2.1; have hml := C.2.2.2.2.1; have hown := C.2.2.2.2.2.1; have hts := C.2.2.2.2.2.2.1; have hn := C.2.2.2.2.2.2.2.1; have hK := C.2.2.2.2.2.2.2.2.1; have hA := C.2.2.2.2.2.2.2.2.2
  intro n
  induction n with
  | zero =>
    intro x5 x6 G
    exact False.elim G
  | succ n ih =>
    intro x5 x6 G ls H locs hl hP hD hS
    unfold M_faithsOf_L42 at G
    have hk42 := ih
    refine lv_iload hx hb dX7_faithsOf_42 (lv_at hl 6 rfl) ?_
    refine lv_aload_n hx hb dX7_faithsOf_44 rfl (lv_at hl 0 rfl) ?_
    refine va_get hx hb hts in_X7 hown hK hP 0 rfl rfl 37 (by decide) (hts _ q965) (fun _ h => h) rfl dX7_faithsOf_45 ?_
    refine lv_icmp_ge (tgt := 116) hx hb dX7_faithsOf_48 (by decide) (fun c_16 => ?_) (fun c_16 => ?_)
    · have G := G.1 c_16
      exact hk116 _ G _ _ _ (lv_sub hl [0, 1, 2, 3, 4, 5] rfl) hP hD hS
    · have G := G.2 c_16
      refine lv_iload hx hb dX7_faithsOf_51 (lv_at hl 5 rfl) ?_
      obtain ⟨h_18, G⟩ := G
      obtain ⟨h_20, G⟩ := G
      obtain ⟨h_21, G⟩ := G
      obtain ⟨h_22, G⟩ := G
      have hJ : ∀ (H : Heap) (locs : List Loc), va_P D vwCl (mW ad ca blocks trainMany lockMany readBlocks readTrains readLockMany blocksTold omensTold highBlock taped fault broken brokenAt spot here token value bumpAt bumpIn bumpOf waited keptOut visited seenMany drawn torn state locks waits readPage readLocks tape cuts letters place left hasSeen homeAt places seen wouldBe isKept lanes lengths cells) H → va_D A (mW ad ca blocks trainMany lockMany readBlocks readTrains readLockMany blocksTold omensTold highBlock taped fault broken brokenAt spot here token value bumpAt bumpIn bumpOf waited keptOut visited seenMany drawn torn state locks waits readPage readLocks tape cuts letters place left hasSeen homeAt places seen wouldBe isKept lanes lengths cells) → va_S A s.heap H locs → ∀ v_24 : Int32, v_24 = (if x5 = 0 then (0 : Int32) else (if (seen ((3 : Int32) * x6).toNatClampNeg) = x1 then (if (places (((4 : Int32) * (seen (((3 : Int32) * x6) + (1 : Int32)).toNatClampNeg)) + x1).toNatClampNeg) = (seen (((3 : Int32) * x6) + (2 : Int32)).toNatClampNeg) then (1 : Int32) else (0 : Int32)) else (1 : Int32))) → W p l e rm_M_faithsOf s m args below meth c H locs 0 0 Z (F0 m 108 ls (.int v_24 :: [])) := by
        intro H locs hP hD hS v_24 hv
        subst hv
        refine lv_istore (lv' := [(5, .int (if x5 = 0 then (0 : Int32) else (if (seen ((3 : Int32) * x6).toNatClampNeg) = x1 then (if (places (((4 : Int32) * (seen (((3 : Int32) * x6) + (1 : Int32)).toNatClampNeg)) + x1).toNatClampNeg) = (seen (((3 : Int32) * x6) + (2 : Int32)).toNatClampNeg) then (1 : Int32) else (0 : Int32)) else (1 : Int32)))), (0, .ref (ad 0)), (1, .int x1), (2, .int x2), (3, .int x3), (4, .int x4), (6, .int x6)]) hx hb dX7_faithsOf_108 hl (by decide) rfl (fun ls hl => ?_)
        refine lv_iinc (v := (x6 + (1 : Int32))) (lv' := [(6, .int (x6 + (1 : Int32))), (5, .int (if x5 = 0 then (0 : Int32) else (if (seen ((3 : Int32) * x6).toNatClampNeg) = x1 then (if (places (((4 : Int32) * (seen (((3 : Int32) * x6) + (1 : Int32)).toNatClampNeg)) + x1).toNatClampNeg) = (seen (((3 : Int32) * x6) + (2 : Int32)).toNatClampNeg) then (1 : Int32) else (0 : Int32)) else (1 : Int32)))), (0, .ref (ad 0)), (1, .int x1), (2, .int x2), (3, .int x3), (4, .int x4)]) hx hb dX7_faithsOf_110 hl (k := 6) rfl rfl (by decide) rfl (fun ls hl => ?_)
        refine lv_goto (tgt := 42) hx hb dX7_faithsOf_113 (by decide) ?_
        exact hk42 _ _ G _ _ _ (lv_sub hl [2, 3, 4, 5, 6, 1, 0] rfl) hP hD hS
      refine lv_if_eq (tgt := 107) hx hb dX7_faithsOf_53 (by decide) (fun c_17 => ?_) (fun c_17 => ?_)
      · refine lv_iconst (v := 0) hx hb dX7_faithsOf_107 (by decide) ?_
        exact hJ _ _ hP hD hS _ (eT c_17 rfl)
      · refine lv_aload_n hx hb dX7_faithsOf_56 rfl (lv_at hl 0 rfl) ?_
        refine va_get hx hb hts in_X7 hown hK hP 0 rfl rfl 36 (by decide) (hts _ q964) (fun _ h => h) rfl dX7_faithsOf_57 ?_
        refine lv_iconst (v := 3) hx hb dX7_faithsOf_60 (by decide) ?_
        refine lv_iload hx hb dX7_faithsOf_61 (lv_at hl 6 rfl) ?_
        refine lv_imul hx hb dX7_faithsOf_63 ?_
        refine va_iald hx hb hK hP 14 0 rfl rfl (h_18 c_17) dX7_faithsOf_64 ?_
        refine lv_iload_n hx hb dX7_faithsOf_65 rfl (lv_at hl 1 rfl) ?_
        refine lv_icmp_ne (tgt := 103) hx hb dX7_faithsOf_66 (by decide) (fun c_19 => ?_) (fun c_19 => ?_)
        · refine lv_iconst (v := 1) hx hb dX7_faithsOf_103 (by decide) ?_
          refine lv_goto (tgt := 108) hx hb dX7_faithsOf_104 (by decide) ?_
          exact hJ _ _ hP hD hS _ (eF c_17 (eF c_19 rfl))
        · refine lv_aload_n hx hb dX7_faithsOf_69 rfl (lv_at hl 0 rfl) ?_
          refine va_get hx hb hts in_X7 hown hK hP 0 rfl rfl 29 (by decide) (hts _ q957) (fun _ h => h) rfl dX7_faithsOf_70 ?_
          refine lv_iconst (v := 4) hx hb dX7_faithsOf_73 (by decide) ?_
          refine lv_aload_n hx hb dX7_faithsOf_74 rfl (lv_at hl 0 rfl) ?_
          refine va_get hx hb hts in_X7 hown hK hP 0 rfl rfl 36 (by decide) (hts _ q964) (fun _ h => h) rfl dX7_faithsOf_75 ?_
          refine lv_iconst (v := 3) hx hb dX7_faithsOf_78 (by decide) ?_
          refine lv_iload hx hb dX7_faithsOf_79 (lv_at hl 6 rfl) ?_
          refine lv_imul hx hb dX7_faithsOf_81 ?_
          refine lv_iconst (v := 1) hx hb dX7_faithsOf_82 (by decide) ?_
          refine lv_iadd hx hb dX7_faithsOf_83 ?_
          refine va_iald hx hb hK hP 14 0 rfl rfl (h_20 c_17 c_19) dX7_faithsOf_84 ?_
          refine lv_imul hx hb dX7_faithsOf_85 ?_
          refine lv_iload_n hx hb dX7_faithsOf_86 rfl (lv_at hl 1 rfl) ?_
          refine lv_iadd hx hb dX7_faithsOf_87 ?_
          refine va_iald hx hb hK hP 13 0 rfl rfl (h_21 c_17 c_19) dX7_faithsOf_88 ?_
          refine lv_aload_n hx hb dX7_faithsOf_89 rfl (lv_at hl 0 rfl) ?_
          refine va_get hx hb hts in_X7 hown hK hP 0 rfl rfl 36 (by decide) (hts _ q964) (fun _ h => h) rfl dX7_faithsOf_90 ?_
          refine lv_iconst (v := 3) hx hb dX7_faithsOf_93 (by decide) ?_
          refine lv_iload hx hb dX7_faithsOf_94 (lv_at hl 6 rfl) ?_
          refine lv_imul hx hb dX7_faithsOf_96 ?_
          refine lv_iconst (v := 2) hx hb dX7_faithsOf_97 (by decide) ?_
          refine lv_iadd hx hb dX7_faithsOf_98 ?_
          refine va_iald hx hb hK hP 14 0 rfl rfl (h_22 c_17 c_19) dX7_faithsOf_99 ?_
          refine lv_icmp_ne (tgt := 107) hx hb dX7_faithsOf_100 (by decide) (fun c_23 => ?_) (fun c_23 => ?_)
          · refine lv_iconst (v := 0) hx hb dX7_faithsOf_107 (by decide) ?_
            exact hJ _ _ hP hD hS _ (eF c_17 (eT c_19 (eF c_23 rfl)))
          · refine lv_iconst (v := 1) hx hb dX7_faithsOf_103 (by decide) ?_
            refine lv_goto (tgt := 108) hx hb dX7_faithsOf_104 (by decide) ?_
            exact hJ _ _ hP hD hS _ (eF c_17 (eT c_19 (eT c_23 rfl)))
set_option maxHeartbeats 4000000 in
theorem w_M_faithsOf_L119 {p : Program} {l : Launch} {e : Env} {s : State} {m : MethodId} {args : Array Value} {below : List Frame} {meth : Method} {c : Code} {D : va_G} {ad : Nat → Nat} {ca : Nat → ClassId} {A : Nat → Prop} {Z : State → Prop} (C : cx cX7_faithsOf 7 (some .int) RX7 D vwCl (tyL ca) A p c meth s m args) {blocks : Int32} {trainMany : Int32} {lockMany : Int32} {readBlocks : Int32} {readTrains : Int32} {readLockMany : Int32} {blocksTold : Int32} {omensTold : Int32} {highBlock : Int32} {taped : Int32} {fault : Int32} {broken : Int32} {brokenAt : Int32} {spot : Int32} {here : Int32} {token : Int32} {value : Int32} {bumpAt : Int32} {bumpIn : Int32} {bumpOf : Int32} {waited : Int32} {keptOut : Int32} {visited : Int32} {seenMany : Int32} {drawn : Int32} {torn : Int32} {state : Nat → Int32} {locks : Nat → Int32} {waits : Nat → Int32} {readPage : Nat → Int32} {readLocks : Nat → Int32} {tape : Nat → Int32} {cuts : Nat → Int32} {letters : Nat → Int32} {place : Nat → Int32} {left : Nat → Int32} {hasSeen : Nat → Int32} {homeAt : Nat → Int32} {places : Nat → Int32} {seen : Nat → Int32} {isKept : Nat → Int32} {lanes : Nat → Int32} {lengths : Nat → Int32} {cells : Nat → Int32} {x1 : Int32} {x2 : Int32} {x3 : Int32} {x4 : Int32} {x5 : Int32} {k155 : (Nat → Int32) → Prop} (hk155 : ∀ (wouldBe : Nat → Int32), k155 wouldBe → ∀ (ls : Array Slot) (H : Heap) (locs : List Loc), lv_has ls 7 [(0, .ref (ad 0)), (1, .int x1), (2, .int x2), (3, .int x3), (4, .int x4), (5, .int x5)] → va_P D vwCl (mW ad ca blocks trainMany lockMany readBlocks readTrains readLockMany blocksTold omensTold highBlock taped fault broken brokenAt spot here token value bumpAt bumpIn bumpOf waited keptOut visited seenMany drawn torn state locks waits readPage readLocks tape cuts letters place left hasSeen homeAt places seen wouldBe isKept lanes lengths cells) H → va_D A (mW ad ca blocks trainMany lockMany readBlocks readTrains readLockMany blocksTold omensTold highBlock taped fault broken brokenAt spot here token value bumpAt bumpIn bumpOf waited keptOut visited seenMany drawn torn state locks waits readPage readLocks tape cuts letters place left hasSeen homeAt places seen wouldBe isKept lanes lengths cells) → va_S A s.heap H locs → W p l e rm_M_faithsOf s m args below meth c H locs 0 0 Z (F0 m 155 ls [])) : ∀ (n : Nat) (wouldBe : Nat → Int32) (x6 : Int32), M_faithsOf_L119 places x1 x4 k155 n wouldBe x6 → ∀ (ls : Array Slot) (H : Heap) (locs : List Loc), lv_has ls 7 [(0, .ref (ad 0)), (1, .int x1), (2, .int x2), (3, .int x3), (4, .int x4), (5, .int x5), (6, .int x6)] → va_P D vwCl (mW ad ca blocks trainMany lockMany readBlocks readTrains readLockMany blocksTold omensTold highBlock taped fault broken brokenAt spot here token value bumpAt bumpIn bumpOf waited keptOut visited seenMany drawn torn state locks waits readPage readLocks tape cuts letters place left hasSeen homeAt places seen wouldBe isKept lanes lengths cells) H → va_D A (mW ad ca blocks trainMany lockMany readBlocks readTrains readLockMany blocksTold omensTold highBlock taped fault broken brokenAt spot here token value bumpAt bumpIn bumpOf waited keptOut visited seenMany drawn torn state locks waits readPage readLocks tape cuts letters place left hasSeen homeAt places seen wouldBe isKept lanes lengths cells) → va_S A s.heap H locs → W p l e rm_M_faithsOf s m args below meth c H locs 0 0 Z (F0 m 119 ls []) := by
  have hx := C.1; have hb := C.2.1; have hr := C.2.2.1; have hlocks := C.2.2.2.1; have hml := C.2.2.2.2.1; have hown := C.2.2.2.2.2.1; have hts := C.2.2.2.2.2.2.1; have hn := C.2.2.2.2.2.2.2.1; have hK := C.2.2.2.2.2.2.2.2.1; have hA := C.2.2.2.2.2.2.2.2.2
  intro n
  induction n with
  | zero =>
    intro wouldBe x6 G
    exact False.elim G
  | succ n ih =>
    intro wouldBe x6 G ls H locs hl hP hD hS
    unfold M_faithsOf_L119 at G
    have hk119 := ih
    refine lv_iload hx hb dX7_faithsOf_119 (lv_at hl 6 rfl) ?_
    refine lv_bipush (v := 119) hx hb dX7_faithsOf_121 (by decide) ?_
    refine lv_icmp_gt (tgt := 155) hx hb dX7_faithsOf_123 (by decide) (fun c_27 => ?_) (fun c_27 => ?_)
    · have G := G.1 c_27
      exact hk155 _ G _ _ _ (lv_sub hl [0, 1, 2, 3, 4, 5] rfl) hP hD hS
    · have G := G.2 c_27
      refine lv_aload_n hx hb dX7_faithsOf_126 rfl (lv_at hl 0 rfl) ?_
      refine va_get hx hb hts in_X7 hown hK hP 0 rfl rfl 38 (by decide) (hts _ q966) (fun _ h => h) rfl dX7_faithsOf_127 ?_
      refine lv_iconst (v := 4) hx hb dX7_faithsOf_130 (by decide) ?_
      refine lv_iload hx hb dX7_faithsOf_131 (lv_at hl 6 rfl) ?_
      refine lv_imul hx hb dX7_faithsOf_133 ?_
      refine lv_iload hx hb dX7_faithsOf_134 (lv_at hl 4 rfl) ?_
      refine lv_iadd hx hb dX7_faithsOf_136 ?_
      refine lv_aload_n hx hb dX7_faithsOf_137 rfl (lv_at hl 0 rfl) ?_
      refine va_get hx hb hts in_X7 hown hK hP 0 rfl rfl 29 (by decide) (hts _ q957) (fun _ h => h) rfl dX7_faithsOf_138 ?_
      refine lv_iconst (v := 4) hx hb dX7_faithsOf_141 (by decide) ?_
      refine lv_iload hx hb dX7_faithsOf_142 (lv_at hl 6 rfl) ?_
      refine lv_imul hx hb dX7_faithsOf_144 ?_
      refine lv_iload_n hx hb dX7_faithsOf_145 rfl (lv_at hl 1 rfl) ?_
      refine lv_iadd hx hb dX7_faithsOf_146 ?_
      obtain ⟨h_28, G⟩ := G
      refine va_iald hx hb hK hP 13 0 rfl rfl h_28 dX7_faithsOf_147 ?_
      obtain ⟨h_29, G⟩ := G
      refine va_iast hx hb hK hP hD hS 15 0 rfl rfl h_29 dX7_faithsOf_148 (fun H locs hP hD hS => ?_)
      have hP : va_P D vwCl (mW ad ca blocks trainMany lockMany readBlocks readTrains readLockMany blocksTold omensTold highBlock taped fault broken brokenAt spot here token value bumpAt bumpIn bumpOf waited keptOut visited seenMany drawn torn state locks waits readPage readLocks tape cuts letters place left hasSeen homeAt places seen (upd wouldBe (((4 : Int32) * x6) + x4).toNatClampNeg (places (((4 : Int32) * x6) + x1).toNatClampNeg)) isKept lanes lengths cells) H := hP
      have hD : va_D A (mW ad ca blocks trainMany lockMany readBlocks readTrains readLockMany blocksTold omensTold highBlock taped fault broken brokenAt spot here token value bumpAt bumpIn bumpOf waited keptOut visited seenMany drawn torn state locks waits readPage readLocks tape cuts letters place left hasSeen homeAt places seen (upd wouldBe (((4 : Int32) * x6) + x4).toNatClampNeg (places (((4 : Int32) * x6) + x1).toNatClampNeg)) isKept lanes lengths cells) := hD
      refine lv_iinc (v := (x6 + (1 : Int32))) (lv' := [(6, .int (x6 + (1 : Int32))), (0, .ref (ad 0)), (1, .int x1), (2, .int x2), (3, .int x3), (4, .int x4), (5, .int x5)]) hx hb dX7_faithsOf_149 hl (k := 6) rfl rfl (by decide) rfl (fun ls hl => ?_)
      refine lv_goto (tgt := 119) hx hb dX7_faithsOf_152 (by decide) ?_
      exact hk119 _ _ G _ _ _ (lv_sub hl [1, 2, 3, 4, 5, 6, 0] rfl) hP hD hS
set_option maxHeartbeats 4000000 in
theorem w_M_faithsOf_L15 {p : Program} {l : Launch} {e : Env} {s : State} {m : MethodId} {args : Array Value} {below : List Frame} {meth : Method} {c : Code} {D : va_G} {ad : Nat → Nat} {ca : Nat → ClassId} {A : Nat → Prop} {Z : State → Prop} (C : cx cX7_faithsOf 7 (some .int) RX7 D vwCl (tyL ca) A p c meth s m args) {blocks : Int32} {trainMany : Int32} {lockMany : Int32} {readBlocks : Int32} {readTrains : Int32} {readLockMany : Int32} {blocksTold : Int32} {omensTold : Int32} {highBlock : Int32} {taped : Int32} {fault : Int32} {broken : Int32} {brokenAt : Int32} {spot : Int32} {here : Int32} {token : Int32} {value : Int32} {seenMany : Int32} {drawn : Int32} {torn : Int32} {locks : Nat → Int32} {waits : Nat → Int32} {readPage : Nat → Int32} {readLocks : Nat → Int32} {tape : Nat → Int32} {cuts : Nat → Int32} {letters : Nat → Int32} {seen : Nat → Int32} {isKept : Nat → Int32} {lanes : Nat → Int32} {lengths : Nat → Int32} {cells : Nat → Int32} {x1 : Int32} {x3 : Int32} {k177 : Int32 → Int32 → Int32 → Int32 → Int32 → Int32 → (Nat → Int32) → (Nat → Int32) → (Nat → Int32) → (Nat → Int32) → (Nat → Int32) → (Nat → Int32) → (Nat → Int32) → Int32 → Prop} (hk177 : ∀ (bumpAt : Int32) (bumpIn : Int32) (bumpOf : Int32) (waited : Int32) (keptOut : Int32) (visited : Int32) (state : Nat → Int32) (place : Nat → Int32) (left : Nat → Int32) (hasSeen : Nat → Int32) (homeAt : Nat → Int32) (places : Nat → Int32) (wouldBe : Nat → Int32) (x2 : Int32), k177 bumpAt bumpIn bumpOf waited keptOut visited state place left hasSeen homeAt places wouldBe x2 → ∀ (ls : Array Slot) (H : Heap) (locs : List Loc), lv_has ls 7 [(0, .ref (ad 0)), (1, .int x1), (2, .int x2), (3, .int x3)] → va_P D vwCl (mW ad ca blocks trainMany lockMany readBlocks readTrains readLockMany blocksTold omensTold highBlock taped fault broken brokenAt spot here token value bumpAt bumpIn bumpOf waited keptOut visited seenMany drawn torn state locks waits readPage readLocks tape cuts letters place left hasSeen homeAt places seen wouldBe isKept lanes lengths cells) H → va_D A (mW ad ca blocks trainMany lockMany readBlocks readTrains readLockMany blocksTold omensTold highBlock taped fault broken brokenAt spot here token value bumpAt bumpIn bumpOf waited keptOut visited seenMany drawn torn state locks waits readPage readLocks tape cuts letters place left hasSeen homeAt places seen wouldBe isKept lanes lengths cells) → va_S A s.heap H locs → W p l e rm_M_faithsOf s m args below meth c H locs 0 0 Z (F0 m 177 ls [])) : ∀ (n : Nat) (bumpAt : Int32) (bumpIn : Int32) (bumpOf : Int32) (waited : Int32) (keptOut : Int32) (visited : Int32) (state : Nat → Int32) (place : Nat → Int32) (left : Nat → Int32) (hasSeen : Nat → Int32) (homeAt : Nat → Int32) (places : Nat → Int32) (wouldBe : Nat → Int32) (x2 : Int32) (x4 : Int32), M_faithsOf_L15 blocks trainMany seenMany waits seen x1 k177 n bumpAt bumpIn bumpOf waited keptOut visited state place left hasSeen homeAt places wouldBe x2 x4 → ∀ (ls : Array Slot) (H : Heap) (locs : List Loc), lv_has ls 7 [(0, .ref (ad 0)), (1, .int x1), (2, .int x2), (3, .int x3), (4, .int x4)] → va_P D vwCl (mW ad ca blocks trainMany lockMany readBlocks readTrains readLockMany blocksTold omensTold highBlock taped fault broken brokenAt spot here token value bumpAt bumpIn bumpOf waited keptOut visited seenMany drawn torn state locks waits readPage readLocks tape cuts letters place left hasSeen homeAt places seen wouldBe isKept lanes lengths cells) H → va_D A (mW ad ca blocks trainMany lockMany readBlocks readTrains readLockMany blocksTold omensTold highBlock taped fault broken brokenAt spot here token value bumpAt bumpIn bumpOf waited keptOut visited seenMany drawn torn state locks waits readPage readLocks tape cuts letters place left hasSeen homeAt places seen wouldBe isKept lanes lengths cells) → va_S A s.heap H locs → W p l e rm_M_faithsOf s m args below meth c H locs 0 0 Z (F0 m 15 ls []) := by
  have hx := C.1; have hb := C.2.1; have hr := C.2.2.1; have hlocks := C.2.2.2.1; have hml := C.2.2.2.2.1; have hown := C.2.2.2.2.2.1; have hts := C.2.2.2.2.2.2.1; have hn := C.2.2.2.2.2.2.2.1; have hK := C.2.2.2.2.2.2.2.2.1; have hA := C.2.2.2.2.2.2.2.2.2
  intro n
  induction n with
  | zero =>
    intro bumpAt bumpIn bumpOf waited keptOut visited state place left hasSeen homeAt places wouldBe x2 x4 G
    exact False.elim G
  | succ n ih =>
    intro bumpAt bumpIn bumpOf waited keptOut visited state place left hasSeen homeAt places wouldBe x2 x4 G ls H locs hl hP hD hS
    unfold M_faithsOf_L15 at G
    have hk15 := ih
    refine lv_iload hx hb dX7_faithsOf_15 (lv_at hl 4 rfl) ?_
    refine lv_iconst (v := 4) hx hb dX7_faithsOf_17 (by decide) ?_
    refine lv_icmp_ge (tgt := 177) hx hb dX7_faithsOf_18 (by decide) (fun c_2 => ?_) (fun c_2 => ?_)
    · have G := G.1 c_2
      exact hk177 _ _ _ _ _ _ _ _ _ _ _ _ _ _ G _ _ _ (lv_sub hl [0, 1, 2, 3] rfl) hP hD hS
    · have G := G.2 c_2
      refine lv_aload_n hx hb dX7_faithsOf_21 rfl (lv_at hl 0 rfl) ?_
      refine va_get hx hb hts in_X7 hown hK hP 0 rfl rfl 0 (by decide) (hts _ q928) (fun _ h => h) rfl dX7_faithsOf_22 ?_
      refine lv_bipush (v := 9) hx hb dX7_faithsOf_25 (by decide) ?_
      refine lv_iload_n hx hb dX7_faithsOf_27 rfl (lv_at hl 1 rfl) ?_
      refine lv_iadd hx hb dX7_faithsOf_28 ?_
      refine lv_iload hx hb dX7_faithsOf_29 (lv_at hl 4 rfl) ?_
      obtain ⟨h_3, G⟩ := G
      refine va_iast hx hb hK hP hD hS 1 0 rfl rfl h_3 dX7_faithsOf_31 (fun H locs hP hD hS => ?_)
      have hP : va_P D vwCl (mW ad ca blocks trainMany lockMany readBlocks readTrains readLockMany blocksTold omensTold highBlock taped fault broken brokenAt spot here token value bumpAt bumpIn bumpOf waited keptOut visited seenMany drawn torn (upd state ((9 : Int32) + x1).toNatClampNeg x4) locks waits readPage readLocks tape cuts letters place left hasSeen homeAt places seen wouldBe isKept lanes lengths cells) H := hP
      have hD : va_D A (mW ad ca blocks trainMany lockMany readBlocks readTrains readLockMany blocksTold omensTold highBlock taped fault broken brokenAt spot here token value bumpAt bumpIn bumpOf waited keptOut visited seenMany drawn torn (upd state ((9 : Int32) + x1).toNatClampNeg x4) locks waits readPage readLocks tape cuts letters place left hasSeen homeAt places seen wouldBe isKept lanes lengths cells) := hD
      refine lv_aload_n hx hb dX7_faithsOf_32 rfl (lv_at hl 0 rfl) ?_
      refine wc_Vv (As := []) (rest := []) C (met_M_run l D ad ca H.size blocks trainMany lockMany readBlocks readTrains readLockMany blocksTold omensTold highBlock taped fault broken brokenAt spot here token value bumpAt bumpIn bumpOf waited keptOut visited seenMany drawn torn (upd state ((9 : Int32) + x1).toNatClampNeg x4) locks waits readPage readLocks tape cuts letters place left hasSeen homeAt places seen wouldBe isKept lanes lengths cells _ G) (cwV 0 hts (lw_V q1194 q1196 qs52 q75 q1197) rfl rfl rfl (by decide +kernel) ⟨Nat.le_of_ble_eq_true rfl, Nat.le_of_ble_eq_true rfl⟩) hP hD hS 0 rfl rfl rfl rfl hl.1 (Nat.le_of_ble_eq_true rfl) dX7_faithsOf_33 ⟨Nat.le_of_ble_eq_true rfl, Nat.le_of_ble_eq_true rfl⟩ (fun u H locs G hP hD hS => ?_)
      obtain ⟨bumpAt_5, bumpIn_6, bumpOf_7, waited_8, keptOut_9, visited_10, place_11, left_12, hasSeen_13, homeAt_14, places_15⟩ := u
      have hP : va_P D vwCl (mW ad ca blocks trainMany lockMany readBlocks readTrains readLockMany blocksTold omensTold highBlock taped fault broken brokenAt spot here token value bumpAt_5 bumpIn_6 bumpOf_7 waited_8 keptOut_9 visited_10 seenMany drawn torn (upd state ((9 : Int32) + x1).toNatClampNeg x4) locks waits readPage readLocks tape cuts letters place_11 left_12 hasSeen_13 homeAt_14 places_15 seen wouldBe isKept lanes lengths cells) H := hP
      have hD : va_D A (mW ad ca blocks trainMany lockMany readBlocks readTrains readLockMany blocksTold omensTold highBlock taped fault broken brokenAt spot here token value bumpAt_5 bumpIn_6 bumpOf_7 waited_8 keptOut_9 visited_10 seenMany drawn torn (upd state ((9 : Int32) + x1).toNatClampNeg x4) locks waits readPage readLocks tape cuts letters place_11 left_12 hasSeen_13 homeAt_14 places_15 seen wouldBe isKept lanes lengths cells) := hD
      refine lv_iconst (v := 1) hx hb dX7_faithsOf_36 (by decide) ?_
      refine lv_istore (lv' := [(5, .int (1 : Int32)), (0, .ref (ad 0)), (1, .int x1), (2, .int x2), (3, .int x3), (4, .int x4)]) hx hb dX7_faithsOf_37 hl (by decide) rfl (fun ls hl => ?_)
      refine lv_iconst (v := 0) hx hb dX7_faithsOf_39 (by decide) ?_
      refine lv_istore (lv' := [(6, .int (0 : Int32)), (5, .int (1 : Int32)), (0, .ref (ad 0)), (1, .int x1), (2, .int x2), (3, .int x3), (4, .int x4)]) hx hb dX7_faithsOf_40 hl (by decide) rfl (fun ls hl => ?_)
      obtain ⟨n_25, G⟩ := G
      refine w_M_faithsOf_L42 C (fun x5_26 G ls H locs hl hP hD hS => ?_) n_25 _ _ G _ _ _ (lv_sub hl [2, 3, 4, 5, 6, 1, 0] rfl) hP hD hS
      refine lv_iconst (v := 0) hx hb dX7_faithsOf_116 (by decide) ?_
      refine lv_istore (lv' := [(6, .int (0 : Int32)), (0, .ref (ad 0)), (1, .int x1), (2, .int x2), (3, .int x3), (4, .int x4), (5, .int x5_26)]) hx hb dX7_faithsOf_117 hl (by decide) rfl (fun ls hl => ?_)
      obtain ⟨n_30, G⟩ := G
      refine w_M_faithsOf_L119 C (fun wouldBe_31 G ls H locs hl hP hD hS => ?_) n_30 _ _ G _ _ _ (lv_sub hl [1, 2, 3, 4, 5, 6, 0] rfl) hP hD hS
      refine lv_iload_n hx hb dX7_faithsOf_155 rfl (lv_at hl 2 rfl) ?_
      refine lv_iload hx hb dX7_faithsOf_156 (lv_at hl 5 rfl) ?_
      have hJ : ∀ (H : Heap) (locs : List Loc), va_P D vwCl (mW ad ca blocks trainMany lockMany readBlocks readTrains readLockMany blocksTold omensTold highBlock taped fault broken brokenAt spot here token value bumpAt_5 bumpIn_6 bumpOf_7 waited_8 keptOut_9 visited_10 seenMany drawn torn (upd state ((9 : Int32) + x1).toNatClampNeg x4) locks waits readPage readLocks tape cuts letters place_11 left_12 hasSeen_13 homeAt_14 places_15 seen wouldBe_31 isKept lanes lengths cells) H → va_D A (mW ad ca blocks trainMany lockMany readBlocks readTrains readLockMany blocksTold omensTold highBlock taped fault broken brokenAt spot here token value bumpAt_5 bumpIn_6 bumpOf_7 waited_8 keptOut_9 visited_10 seenMany drawn torn (upd state ((9 : Int32) + x1).toNatClampNeg x4) locks waits readPage readLocks tape cuts letters place_11 left_12 hasSeen_13 homeAt_14 places_15 seen wouldBe_31 isKept lanes lengths cells) → va_S A s.heap H locs → ∀ v_33 : Int32, v_33 = (if x5_26 = 0 then (0 : Int32) else ((1 : Int32) <<< (x4 &&& 31))) → W p l e rm_M_faithsOf s m args below meth c H locs 0 0 Z (F0 m 169 ls (.int v_33 :: [.int x2])) := by
        intro H locs hP hD hS v_33 hv
        subst hv
        refine lv_ior hx hb dX7_faithsOf_169 ?_
        refine lv_istore_n (lv' := [(2, .int (x2 ||| (if x5_26 = 0 then (0 : Int32) else ((1 : Int32) <<< (x4 &&& 31))))), (0, .ref (ad 0)), (1, .int x1), (3, .int x3), (4, .int x4), (5, .int x5_26)]) hx hb dX7_faithsOf_170 rfl hl (by decide) rfl (fun ls hl => ?_)
        refine lv_iinc (v := (x4 + (1 : Int32))) (lv' := [(4, .int (x4 + (1 : Int32))), (2, .int (x2 ||| (if x5_26 = 0 then (0 : Int32) else ((1 : Int32) <<< (x4 &&& 31))))), (0, .ref (ad 0)), (1, .int x1), (3, .int x3), (5, .int x5_26)]) hx hb dX7_faithsOf_171 hl (k := 4) rfl rfl (by decide) rfl (fun ls hl => ?_)
        refine lv_goto (tgt := 15) hx hb dX7_faithsOf_174 (by decide) ?_
        exact hk15 _ _ _ _ _ _ _ _ _ _ _ _ _ _ _ G _ _ _ (lv_sub hl [2, 3, 1, 4, 0] rfl) hP hD hS
      refine lv_if_eq (tgt := 168) hx hb dX7_faithsOf_158 (by decide) (fun c_32 => ?_) (fun c_32 => ?_)
      · refine lv_iconst (v := 0) hx hb dX7_faithsOf_168 (by decide) ?_
        exact hJ _ _ hP hD hS _ (eT c_32 rfl)
      · refine lv_iconst (v := 1) hx hb dX7_faithsOf_161 (by decide) ?_
        refine lv_iload hx hb dX7_faithsOf_162 (lv_at hl 4 rfl) ?_
        refine lv_ishl hx hb dX7_faithsOf_164 ?_
        refine lv_goto (tgt := 169) hx hb dX7_faithsOf_165 (by decide) ?_
        exact hJ _ _ hP hD hS _ (eF c_32 rfl)
set_option maxHeartbeats 4000000 in
theorem met_M_faithsOf (l : Launch) (D : va_G) (ad : Nat → Nat) (ca : Nat → ClassId) (sz : Nat) (blocks : Int32) (trainMany : Int32) (lockMany : Int32) (readBlocks : Int32) (readTrains : Int32) (readLockMany : Int32) (blocksTold : Int32) (omensTold : Int32) (highBlock : Int32) (taped : Int32) (fault : Int32) (broken : Int32) (brokenAt : Int32) (spot : Int32) (here : Int32) (token : Int32) (value : Int32) (bumpAt : Int32) (bumpIn : Int32) (bumpOf : Int32) (waited : Int32) (keptOut : Int32) (visited : Int32) (seenMany : Int32) (drawn : Int32) (torn : Int32) (state : Nat → Int32) (locks : Nat → Int32) (waits : Nat → Int32) (readPage : Nat → Int32) (readLocks : Nat → Int32) (tape : Nat → Int32) (cuts : Nat → Int32) (letters : Nat → Int32) (place : Nat → Int32) (left : Nat → Int32) (hasSeen : Nat → Int32) (homeAt : Nat → Int32) (places : Nat → Int32) (seen : Nat → Int32) (wouldBe : Nat → Int32) (isKept : Nat → Int32) (lanes : Nat → Int32) (lengths : Nat → Int32) (cells : Nat → Int32) (x1 : Int32) (Q : Int32 → Int32 → Int32 → Int32 → Int32 → Int32 → Int32 → (Nat → Int32) → (Nat → Int32) → (Nat → Int32) → (Nat → Int32) → (Nat → Int32) → (Nat → Int32) → (Nat → Int32) → Prop) (G : M_faithsOf blocks trainMany bumpAt bumpIn bumpOf waited keptOut visited seenMany state waits place left hasSeen homeAt places seen wouldBe x1 Q) : Met l yX7_faithsOf (ws_ yX7_faithsOf cX7_faithsOf 7 (some .int)) rm_M_faithsOf (va_Pc [.ref (ad 0), .int x1] (wpre D vwCl (tyL ca) (mW ad ca blocks trainMany lockMany readBlocks readTrains readLockMany blocksTold omensTold highBlock taped fault broken brokenAt spot here token value bumpAt bumpIn bumpOf waited keptOut visited seenMany drawn torn state locks waits readPage readLocks tape cuts letters place left hasSeen homeAt places seen wouldBe isKept lanes lengths cells) sz)) (va_Qi (fun (r : Int32) (u : Int32 × Int32 × Int32 × Int32 × Int32 × Int32 × (Nat → Int32) × (Nat → Int32) × (Nat → Int32) × (Nat → Int32) × (Nat → Int32) × (Nat → Int32) × (Nat → Int32)) => Q r u.1 u.2.1 u.2.2.1 u.2.2.2.1 u.2.2.2.2.1 u.2.2.2.2.2.1 u.2.2.2.2.2.2.1 u.2.2.2.2.2.2.2.1 u.2.2.2.2.2.2.2.2.1 u.2.2.2.2.2.2.2.2.2.1 u.2.2.2.2.2.2.2.2.2.2.1 u.2.2.2.2.2.2.2.2.2.2.2.1 u.2.2.2.2.2.2.2.2.2.2.2.2) (wpost D vwCl (va_A (mW ad ca blocks trainMany lockMany readBlocks readTrains readLockMany blocksTold omensTold highBlock taped fault broken brokenAt spot here token value bumpAt bumpIn bumpOf waited keptOut visited seenMany drawn torn state locks waits readPage readLocks tape cuts letters place left hasSeen homeAt places seen wouldBe isKept lanes lengths cells) sz) (fun (u : Int32 × Int32 × Int32 × Int32 × Int32 × Int32 × (Nat → Int32) × (Nat → Int32) × (Nat → Int32) × (Nat → Int32) × (Nat → Int32) × (Nat → Int32) × (Nat → Int32)) => (mW ad ca blocks trainMany lockMany readBlocks readTrains readLockMany blocksTold omensTold highBlock taped fault broken brokenAt spot here token value u.1 u.2.1 u.2.2.1 u.2.2.2.1 u.2.2.2.2.1 u.2.2.2.2.2.1 seenMany drawn torn u.2.2.2.2.2.2.1 locks waits readPage readLocks tape cuts letters u.2.2.2.2.2.2.2.1 u.2.2.2.2.2.2.2.2.1 u.2.2.2.2.2.2.2.2.2.1 u.2.2.2.2.2.2.2.2.2.2.1 u.2.2.2.2.2.2.2.2.2.2.2.1 seen u.2.2.2.2.2.2.2.2.2.2.2.2 isKept lanes lengths cells))) (va_A (mW ad ca blocks trainMany lockMany readBlocks readTrains readLockMany blocksTold omensTold highBlock taped fault broken brokenAt spot here token value bumpAt bumpIn bumpOf waited keptOut visited seenMany drawn torn state locks waits readPage readLocks tape cuts letters place left hasSeen homeAt places seen wouldBe isKept lanes lengths cells) sz)) 0 0 (va_A (mW ad ca blocks trainMany lockMany readBlocks readTrains readLockMany blocksTold omensTold highBlock taped fault broken brokenAt spot here token value bumpAt bumpIn bumpOf waited keptOut visited seenMany drawn torn state locks waits readPage readLocks tape cuts letters place left hasSeen homeAt places seen wouldBe isKept lanes lengths cells) sz) := by
  refine met_of (fun A => (va_Qi (fun (r : Int32) (u : Int32 × Int32 × Int32 × Int32 × Int32 × Int32 × (Nat → Int32) × (Nat → Int32) × (Nat → Int32) × (Nat → Int32) × (Nat → Int32) × (Nat → Int32) × (Nat → Int32)) => Q r u.1 u.2.1 u.2.2.1 u.2.2.2.1 u.2.2.2.2.1 u.2.2.2.2.2.1 u.2.2.2.2.2.2.1 u.2.2.2.2.2.2.2.1 u.2.2.2.2.2.2.2.2.1 u.2.2.2.2.2.2.2.2.2.1 u.2.2.2.2.2.2.2.2.2.2.1 u.2.2.2.2.2.2.2.2.2.2.2.1 u.2.2.2.2.2.2.2.2.2.2.2.2) (wpost D vwCl A (fun (u : Int32 × Int32 × Int32 × Int32 × Int32 × Int32 × (Nat → Int32) × (Nat → Int32) × (Nat → Int32) × (Nat → Int32) × (Nat → Int32) × (Nat → Int32) × (Nat → Int32)) => (mW ad ca blocks trainMany lockMany readBlocks readTrains readLockMany blocksTold omensTold highBlock taped fault broken brokenAt spot here token value u.1 u.2.1 u.2.2.1 u.2.2.2.1 u.2.2.2.2.1 u.2.2.2.2.2.1 seenMany drawn torn u.2.2.2.2.2.2.1 locks waits readPage readLocks tape cuts letters u.2.2.2.2.2.2.2.1 u.2.2.2.2.2.2.2.2.1 u.2.2.2.2.2.2.2.2.2.1 u.2.2.2.2.2.2.2.2.2.2.1 u.2.2.2.2.2.2.2.2.2.2.2.1 seen u.2.2.2.2.2.2.2.2.2.2.2.2 isKept lanes lengths cells))) A)) (by decide) (Nat.le_of_ble_eq_true rfl) ?_
  intro p e s m args below meth c Z A hZ C H locs hP hD hS ls hl
  have hx := C.1; have hb := C.2.1; have hr := C.2.2.1; have hlocks := C.2.2.2.1; have hml := C.2.2.2.2.1; have hown := C.2.2.2.2.2.1; have hts := C.2.2.2.2.2.2.1; have hn := C.2.2.2.2.2.2.2.1; have hK := C.2.2.2.2.2.2.2.2.1; have hA := C.2.2.2.2.2.2.2.2.2
  have hl : lv_has ls 7 [(0, .ref (ad 0)), (1, .int x1)] := hl
  unfold M_faithsOf at G
  refine lv_iconst (v := 0) hx hb dX7_faithsOf_0 (by decide) ?_
  refine lv_istore_n (lv' := [(2, .int (0 : Int32)), (0, .ref (ad 0)), (1, .int x1)]) hx hb dX7_faithsOf_1 rfl hl (by decide) rfl (fun ls hl => ?_)
  refine lv_aload_n hx hb dX7_faithsOf_2 rfl (lv_at hl 1 rfl) ?_
  refine va_get hx hb hts in_X7 hown hK hP 0 rfl rfl 0 (by decide) (hts _ q928) (fun _ h => h) rfl dX7_faithsOf_3 ?_
  refine lv_bipush (v := 9) hx hb dX7_faithsOf_6 (by decide) ?_
  refine lv_iload_n hx hb dX7_faithsOf_8 rfl (lv_at hl 2 rfl) ?_
  refine lv_iadd hx hb dX7_faithsOf_9 ?_
  obtain ⟨h_1, G⟩ := G
  refine va_iald hx hb hK hP 1 0 rfl rfl h_1 dX7_faithsOf_10 ?_
  refine lv_istore_n (lv' := [(3, .int (state ((9 : Int32) + x1).toNatClampNeg)), (2, .int (0 : Int32)), (0, .ref (ad 0)), (1, .int x1)]) hx hb dX7_faithsOf_11 rfl hl (by decide) rfl (fun ls hl => ?_)
  refine lv_iconst (v := 0) hx hb dX7_faithsOf_12 (by decide) ?_
  refine lv_istore (lv' := [(4, .int (0 : Int32)), (3, .int (state ((9 : Int32) + x1).toNatClampNeg)), (2, .int (0 : Int32)), (0, .ref (ad 0)), (1, .int x1)]) hx hb dX7_faithsOf_13 hl (by decide) rfl (fun ls hl => ?_)
  obtain ⟨n_34, G⟩ := G
  refine w_M_faithsOf_L15 C (fun bumpAt_35 bumpIn_36 bumpOf_37 waited_38 keptOut_39 visited_40 state_41 place_42 left_43 hasSeen_44 homeAt_45 places_46 wouldBe_47 x2_48 G ls H locs hl hP hD hS => ?_) n_34 _ _ _ _ _ _ _ _ _ _ _ _ _ _ _ G _ _ _ (lv_sub hl [3, 4, 2, 1, 0] rfl) hP hD hS
  refine lv_aload_n hx hb dX7_faithsOf_177 rfl (lv_at hl 0 rfl) ?_
  refine va_get hx hb hts in_X7 hown hK hP 0 rfl rfl 0 (by decide) (hts _ q928) (fun _ h => h) rfl dX7_faithsOf_178 ?_
  refine lv_bipush (v := 9) hx hb dX7_faithsOf_181 (by decide) ?_
  refine lv_iload_n hx hb dX7_faithsOf_183 rfl (lv_at hl 1 rfl) ?_
  refine lv_iadd hx hb dX7_faithsOf_184 ?_
  refine lv_iload_n hx hb dX7_faithsOf_185 rfl (lv_at hl 3 rfl) ?_
  obtain ⟨h_49, G⟩ := G
  refine va_iast hx hb hK hP hD hS 1 0 rfl rfl h_49 dX7_faithsOf_186 (fun H locs hP hD hS => ?_)
  have hP : va_P D vwCl (mW ad ca blocks trainMany lockMany readBlocks readTrains readLockMany blocksTold omensTold highBlock taped fault broken brokenAt spot here token value bumpAt_35 bumpIn_36 bumpOf_37 waited_38 keptOut_39 visited_40 seenMany drawn torn (upd state_41 ((9 : Int32) + x1).toNatClampNeg (state ((9 : Int32) + x1).toNatClampNeg)) locks waits readPage readLocks tape cuts letters place_42 left_43 hasSeen_44 homeAt_45 places_46 seen wouldBe_47 isKept lanes lengths cells) H := hP
  have hD : va_D A (mW ad ca blocks trainMany lockMany readBlocks readTrains readLockMany blocksTold omensTold highBlock taped fault broken brokenAt spot here token value bumpAt_35 bumpIn_36 bumpOf_37 waited_38 keptOut_39 visited_40 seenMany drawn torn (upd state_41 ((9 : Int32) + x1).toNatClampNeg (state ((9 : Int32) + x1).toNatClampNeg)) locks waits readPage readLocks tape cuts letters place_42 left_43 hasSeen_44 homeAt_45 places_46 seen wouldBe_47 isKept lanes lengths cells) := hD
  refine lv_iload_n hx hb dX7_faithsOf_187 rfl (lv_at hl 2 rfl) ?_
  rw [hZ]
  exact W.iret hx hb hr (fun t ht hW => ⟨⟨x2_48, (bumpAt_35, bumpIn_36, bumpOf_37, waited_38, keptOut_39, visited_40, (upd state_41 ((9 : Int32) + x1).toNatClampNeg (state ((9 : Int32) + x1).toNatClampNeg)), place_42, left_43, hasSeen_44, homeAt_45, places_46, wouldBe_47), rfl, G, by rw [ht]; exact hP, hD⟩, hS.F ht⟩) hS.2.2 dX7_faithsOf_188 hlocks
abbrev rm_M_fits : Room := { frames := 6, cells := 0, slots := 0, locals := 114 }
set_option maxHeartbeats 4000000 in
theorem met_M_fits (l : Launch) (D : va_G) (ad : Nat → Nat) (ca : Nat → ClassId) (sz : Nat) (blocks : Int32) (trainMany : Int32) (lockMany : Int32) (readBlocks : Int32) (readTrains : Int32) (readLockMany : Int32) (blocksTold : Int32) (omensTold : Int32) (highBlock : Int32) (taped : Int32) (fault : Int32) (broken : Int32) (brokenAt : Int32) (spot : Int32) (here : Int32) (token : Int32) (value : Int32) (bumpAt : Int32) (bumpIn : Int32) (bumpOf : Int32) (waited : Int32) (keptOut : Int32) (visited : Int32) (seenMany : Int32) (drawn : Int32) (torn : Int32) (state : Nat → Int32) (locks : Nat → Int32) (waits : Nat → Int32) (readPage : Nat → Int32) (readLocks : Nat → Int32) (tape : Nat → Int32) (cuts : Nat → Int32) (letters : Nat → Int32) (place : Nat → Int32) (left : Nat → Int32) (hasSeen : Nat → Int32) (homeAt : Nat → Int32) (places : Nat → Int32) (seen : Nat → Int32) (wouldBe : Nat → Int32) (isKept : Nat → Int32) (lanes : Nat → Int32) (lengths : Nat → Int32) (cells : Nat → Int32) (x1 : Int32) (Q : Int32 → Int32 → Int32 → Int32 → Int32 → Int32 → Int32 → (Nat → Int32) → (Nat → Int32) → (Nat → Int32) → (Nat → Int32) → (Nat → Int32) → (Nat → Int32) → (Nat → Int32) → Prop) (G : M_fits blocks trainMany bumpAt bumpIn bumpOf waited keptOut visited seenMany state waits place left hasSeen homeAt places seen wouldBe x1 Q) : Met l yX7_fits (ws_ yX7_fits cX7_fits 2 (some .int)) rm_M_fits (va_Pc [.ref (ad 0), .int x1] (wpre D vwCl (tyL ca) (mW ad ca blocks trainMany lockMany readBlocks readTrains readLockMany blocksTold omensTold highBlock taped fault broken brokenAt spot here token value bumpAt bumpIn bumpOf waited keptOut visited seenMany drawn torn state locks waits readPage readLocks tape cuts letters place left hasSeen homeAt places seen wouldBe isKept lanes lengths cells) sz)) (va_Qi (fun (r : Int32) (u : Int32 × Int32 × Int32 × Int32 × Int32 × Int32 × (Nat → Int32) × (Nat → Int32) × (Nat → Int32) × (Nat → Int32) × (Nat → Int32) × (Nat → Int32) × (Nat → Int32)) => Q r u.1 u.2.1 u.2.2.1 u.2.2.2.1 u.2.2.2.2.1 u.2.2.2.2.2.1 u.2.2.2.2.2.2.1 u.2.2.2.2.2.2.2.1 u.2.2.2.2.2.2.2.2.1 u.2.2.2.2.2.2.2.2.2.1 u.2.2.2.2.2.2.2.2.2.2.1 u.2.2.2.2.2.2.2.2.2.2.2.1 u.2.2.2.2.2.2.2.2.2.2.2.2) (wpost D vwCl (va_A (mW ad ca blocks trainMany lockMany readBlocks readTrains readLockMany blocksTold omensTold highBlock taped fault broken brokenAt spot here token value bumpAt bumpIn bumpOf waited keptOut visited seenMany drawn torn state locks waits readPage readLocks tape cuts letters place left hasSeen homeAt places seen wouldBe isKept lanes lengths cells) sz) (fun (u : Int32 × Int32 × Int32 × Int32 × Int32 × Int32 × (Nat → Int32) × (Nat → Int32) × (Nat → Int32) × (Nat → Int32) × (Nat → Int32) × (Nat → Int32) × (Nat → Int32)) => (mW ad ca blocks trainMany lockMany readBlocks readTrains readLockMany blocksTold omensTold highBlock taped fault broken brokenAt spot here token value u.1 u.2.1 u.2.2.1 u.2.2.2.1 u.2.2.2.2.1 u.2.2.2.2.2.1 seenMany drawn torn u.2.2.2.2.2.2.1 locks waits readPage readLocks tape cuts letters u.2.2.2.2.2.2.2.1 u.2.2.2.2.2.2.2.2.1 u.2.2.2.2.2.2.2.2.2.1 u.2.2.2.2.2.2.2.2.2.2.1 u.2.2.2.2.2.2.2.2.2.2.2.1 seen u.2.2.2.2.2.2.2.2.2.2.2.2 isKept lanes lengths cells))) (va_A (mW ad ca blocks trainMany lockMany readBlocks readTrains readLockMany blocksTold omensTold highBlock taped fault broken brokenAt spot here token value bumpAt bumpIn bumpOf waited keptOut visited seenMany drawn torn state locks waits readPage readLocks tape cuts letters place left hasSeen homeAt places seen wouldBe isKept lanes lengths cells) sz)) 0 0 (va_A (mW ad ca blocks trainMany lockMany readBlocks readTrains readLockMany blocksTold omensTold highBlock taped fault broken brokenAt spot here token value bumpAt bumpIn bumpOf waited keptOut visited seenMany drawn torn state locks waits readPage readLocks tape cuts letters place left hasSeen homeAt places seen wouldBe isKept lanes lengths cells) sz) := by
  refine met_of (fun A => (va_Qi (fun (r : Int32) (u : Int32 × Int32 × Int32 × Int32 × Int32 × Int32 × (Nat → Int32) × (Nat → Int32) × (Nat → Int32) × (Nat → Int32) × (Nat → Int32) × (Nat → Int32) × (Nat → Int32)) => Q r u.1 u.2.1 u.2.2.1 u.2.2.2.1 u.2.2.2.2.1 u.2.2.2.2.2.1 u.2.2.2.2.2.2.1 u.2.2.2.2.2.2.2.1 u.2.2.2.2.2.2.2.2.1 u.2.2.2.2.2.2.2.2.2.1 u.2.2.2.2.2.2.2.2.2.2.1 u.2.2.2.2.2.2.2.2.2.2.2.1 u.2.2.2.2.2.2.2.2.2.2.2.2) (wpost D vwCl A (fun (u : Int32 × Int32 × Int32 × Int32 × Int32 × Int32 × (Nat → Int32) × (Nat → Int32) × (Nat → Int32) × (Nat → Int32) × (Nat → Int32) × (Nat → Int32) × (Nat → Int32)) => (mW ad ca blocks trainMany lockMany readBlocks readTrains readLockMany blocksTold omensTold highBlock taped fault broken brokenAt spot here token value u.1 u.2.1 u.2.2.1 u.2.2.2.1 u.2.2.2.2.1 u.2.2.2.2.2.1 seenMany drawn torn u.2.2.2.2.2.2.1 locks waits readPage readLocks tape cuts letters u.2.2.2.2.2.2.2.1 u.2.2.2.2.2.2.2.2.1 u.2.2.2.2.2.2.2.2.2.1 u.2.2.2.2.2.2.2.2.2.2.1 u.2.2.2.2.2.2.2.2.2.2.2.1 seen u.2.2.2.2.2.2.2.2.2.2.2.2 isKept lanes lengths cells))) A)) (by decide) (Nat.le_of_ble_eq_true rfl) ?_
  intro p e s m args below meth c Z A hZ C H locs hP hD hS ls hl
  have hx := C.1; have hb := C.2.1; have hr := C.2.2.1; have hlocks := C.2.2.2.1; have hml := C.2.2.2.2.1; have hown := C.2.2.2.2.2.1; have hts := C.2.2.2.2.2.2.1; have hn := C.2.2.2.2.2.2.2.1; have hK := C.2.2.2.2.2.2.2.2.1; have hA := C.2.2.2.2.2.2.2.2.2
  have hl : lv_has ls 2 [(0, .ref (ad 0)), (1, .int x1)] := hl
  unfold M_fits at G
  refine lv_aload_n hx hb dX7_fits_0 rfl (lv_at hl 0 rfl) ?_
  refine lv_iload_n hx hb dX7_fits_1 rfl (lv_at hl 1 rfl) ?_
  refine wc_Vik (As := [.int x1]) (rest := []) C (met_M_isTrain l D ad ca H.size blocks trainMany lockMany readBlocks readTrains readLockMany blocksTold omensTold highBlock taped fault broken brokenAt spot here token value bumpAt bumpIn bumpOf waited keptOut visited seenMany drawn torn state locks waits readPage readLocks tape cuts letters place left hasSeen homeAt places seen wouldBe isKept lanes lengths cells x1) (cwV 1 hts (lw_V q1164 q1166 qs50 q75 q1167) rfl rfl rfl (by decide +kernel) ⟨Nat.le_of_ble_eq_true rfl, Nat.le_of_ble_eq_true rfl⟩) hP hD hS (List.range _) (wc_self _) (wc_nd _) 0 rfl rfl rfl rfl hl.1 (Nat.le_of_ble_eq_true rfl) dX7_fits_2 ⟨Nat.le_of_ble_eq_true rfl, Nat.le_of_ble_eq_true rfl⟩ (fun r_1 u H locs hr hP hD hS => ?_)
  subst hr
  refine lv_if_eq (tgt := 16) hx hb dX7_fits_5 (by decide) (fun c_2 => ?_) (fun c_2 => ?_)
  · have G := G.1 c_2
    refine lv_iconst (v := -1) hx hb dX7_fits_16 (by decide) ?_
    rw [hZ]
    exact W.iret hx hb hr (fun t ht hW => ⟨⟨(-1 : Int32), (bumpAt, bumpIn, bumpOf, waited, keptOut, visited, state, place, left, hasSeen, homeAt, places, wouldBe), rfl, G, by rw [ht]; exact hP, hD⟩, hS.F ht⟩) hS.2.2 dX7_fits_17 hlocks
  · have G := G.2 c_2
    refine lv_aload_n hx hb dX7_fits_8 rfl (lv_at hl 0 rfl) ?_
    refine lv_iload_n hx hb dX7_fits_9 rfl (lv_at hl 1 rfl) ?_
    refine wc_Vi (As := [.int x1]) (rest := []) C (met_M_faithsOf l D ad ca H.size blocks trainMany lockMany readBlocks readTrains readLockMany blocksTold omensTold highBlock taped fault broken brokenAt spot here token value bumpAt bumpIn bumpOf waited keptOut visited seenMany drawn torn state locks waits readPage readLocks tape cuts letters place left hasSeen homeAt places seen wouldBe isKept lanes lengths cells x1 _ G) (cwV 1 hts (lw_V q1311 q1313 qs65 q75 q1314) rfl rfl rfl (by decide +kernel) ⟨Nat.le_of_ble_eq_true rfl, Nat.le_of_ble_eq_true rfl⟩) hP hD hS 0 rfl rfl rfl rfl hl.1 (Nat.le_of_ble_eq_true rfl) dX7_fits_10 ⟨Nat.le_of_ble_eq_true rfl, Nat.le_of_ble_eq_true rfl⟩ (fun r_3 u H locs G hP hD hS => ?_)
    obtain ⟨bumpAt_4, bumpIn_5, bumpOf_6, waited_7, keptOut_8, visited_9, state_10, place_11, left_12, hasSeen_13, homeAt_14, places_15, wouldBe_16⟩ := u
    have hP : va_P D vwCl (mW ad ca blocks trainMany lockMany readBlocks readTrains readLockMany blocksTold omensTold highBlock taped fault broken brokenAt spot here token value bumpAt_4 bumpIn_5 bumpOf_6 waited_7 keptOut_8 visited_9 seenMany drawn torn state_10 locks waits readPage readLocks tape cuts letters place_11 left_12 hasSeen_13 homeAt_14 places_15 seen wouldBe_16 isKept lanes lengths cells) H := hP
    have hD : va_D A (mW ad ca blocks trainMany lockMany readBlocks readTrains readLockMany blocksTold omensTold highBlock taped fault broken brokenAt spot here token value bumpAt_4 bumpIn_5 bumpOf_6 waited_7 keptOut_8 visited_9 seenMany drawn torn state_10 locks waits readPage readLocks tape cuts letters place_11 left_12 hasSeen_13 homeAt_14 places_15 seen wouldBe_16 isKept lanes lengths cells) := hD
    refine lv_goto (tgt := 17) hx hb dX7_fits_13 (by decide) ?_
    rw [hZ]
    exact W.iret hx hb hr (fun t ht hW => ⟨⟨r_3, (bumpAt_4, bumpIn_5, bumpOf_6, waited_7, keptOut_8, visited_9, state_10, place_11, left_12, hasSeen_13, homeAt_14, places_15, wouldBe_16), rfl, G, by rw [ht]; exact hP, hD⟩, hS.F ht⟩) hS.2.2 dX7_fits_17 hlocks
abbrev rm_M_look : Room := { frames := 6, cells := 0, slots := 0, locals := 114 }
set_option maxHeartbeats 4000000 in
theorem w_M_look_L64 {p : Program} {l : Launch} {e : Env} {s : State} {m : MethodId} {args : Array Value} {below : List Frame} {meth : Method} {c : Code} {D : va_G} {ad : Nat → Nat} {ca : Nat → ClassId} {A : Nat → Prop} {Z : State → Prop} (C : cx cX7_look 11 (some .int) RX7 D vwCl (tyL ca) A p c meth s m args) {blocks : Int32} {trainMany : Int32} {lockMany : Int32} {readBlocks : Int32} {readTrains : Int32} {readLockMany : Int32} {blocksTold : Int32} {omensTold : Int32} {highBlock : Int32} {taped : Int32} {fault : Int32} {broken : Int32} {brokenAt : Int32} {spot : Int32} {here : Int32} {token : Int32} {value : Int32} {bumpAt : Int32} {bumpIn : Int32} {bumpOf : Int32} {waited : Int32} {keptOut : Int32} {visited : Int32} {seenMany : Int32} {drawn : Int32} {torn : Int32} {state : Nat → Int32} {locks : Nat → Int32} {waits : Nat → Int32} {readPage : Nat → Int32} {readLocks : Nat → Int32} {tape : Nat → Int32} {cuts : Nat → Int32} {letters : Nat → Int32} {place : Nat → Int32} {left : Nat → Int32} {hasSeen : Nat → Int32} {homeAt : Nat → Int32} {places : Nat → Int32} {seen : Nat → Int32} {wouldBe : Nat → Int32} {isKept : Nat → Int32} {lanes : Nat → Int32} {lengths : Nat → Int32} {cells : Nat → Int32} {x2 : Int32} {x3 : Int32} {x4 : Int32} {x5 : Int32} {x6 : Int32} {x7 : Int32} {x8 : Int32} {k133 : Int32 → Prop} (hk133 : ∀ (x9 : Int32), k133 x9 → ∀ (ls : Array Slot) (H : Heap) (locs : List Loc), lv_has ls 11 [(0, .ref (ad 0)), (2, .int x2), (3, .int x3), (4, .int x4), (5, .int x5), (6, .int x6), (7, .int x7), (8, .int x8), (9, .int x9)] → va_P D vwCl (mW ad ca blocks trainMany lockMany readBlocks readTrains readLockMany blocksTold omensTold highBlock taped fault broken brokenAt spot here token value bumpAt bumpIn bumpOf waited keptOut visited seenMany drawn torn state locks waits readPage readLocks tape cuts letters place left hasSeen homeAt places seen wouldBe isKept lanes lengths cells) H → va_D A (mW ad ca blocks trainMany lockMany readBlocks readTrains readLockMany blocksTold omensTold highBlock taped fault broken brokenAt spot here token value bumpAt bumpIn bumpOf waited keptOut visited seenMany drawn torn state locks waits readPage readLocks tape cuts letters place left hasSeen homeAt places seen wouldBe isKept lanes lengths cells) → va_S A s.heap H locs → W p l e rm_M_look s m args below meth c H locs 0 0 Z (F0 m 133 ls [])) : ∀ (n : Nat) (x9 : Int32) (x10 : Int32), M_look_L64 wouldBe x3 x6 x8 k133 n x9 x10 → ∀ (ls : Array Slot) (H : Heap) (locs : List Loc), lv_has ls 11 [(0, .ref (ad 0)), (2, .int x2), (3, .int x3), (4, .int x4), (5, .int x5), (6, .int x6), (7, .int x7), (8, .int x8), (9, .int x9), (10, .int x10)] → va_P D vwCl (mW ad ca blocks trainMany lockMany readBlocks readTrains readLockMany blocksTold omensTold highBlock taped fault broken brokenAt spot here token value bumpAt bumpIn bumpOf waited keptOut visited seenMany drawn torn state locks waits readPage readLocks tape cuts letters place left hasSeen homeAt places seen wouldBe isKept lanes lengths cells) H → va_D A (mW ad ca blocks trainMany lockMany readBlocks readTrains readLockMany blocksTold omensTold highBlock taped fault broken brokenAt spot here token value bumpAt bumpIn bumpOf waited keptOut visited seenMany drawn torn state locks waits readPage readLocks tape cuts letters place left hasSeen homeAt places seen wouldBe isKept lanes lengths cells) → va_S A s.heap H locs → W p l e rm_M_look s m args below meth c H locs 0 0 Z (F0 m 64 ls []) := by
  have hx := C.1; have hb := C.2.1; have hr := C.2.2.1; have hlocks := C.2.2.2.1; have hml := C.2.2.2.2.1; have hown := C.2.2.2.2.2.1; have hts := C.2.2.2.2.2.2.1; have hn := C.2.2.2.2.2.2.2.1; have hK := C.2.2.2.2.2.2.2.2.1; have hA := C.2.2.2.2.2.2.2.2.2
  intro n
  induction n with
  | zero =>
    intro x9 x10 G
    exact False.elim G
  | succ n ih =>
    intro x9 x10 G ls H locs hl hP hD hS
    unfold M_look_L64 at G
    have hk64 := ih
    refine lv_iload hx hb dX7_look_64 (lv_at hl 9 rfl) ?_
    refine lv_iconst (v := 4) hx hb dX7_look_66 (by decide) ?_
    refine lv_icmp_ge (tgt := 133) hx hb dX7_look_67 (by decide) (fun c_22 => ?_) (fun c_22 => ?_)
    · have G := G.1 c_22
      exact hk133 _ G _ _ _ (lv_sub hl [0, 1, 2, 3, 4, 5, 6, 7, 8] rfl) hP hD hS
    · have G := G.2 c_22
      refine lv_iload_n hx hb dX7_look_70 rfl (lv_at hl 2 rfl) ?_
      refine lv_iload hx hb dX7_look_71 (lv_at hl 7 rfl) ?_
      refine lv_ishr hx hb dX7_look_73 ?_
      refine lv_iconst (v := 1) hx hb dX7_look_74 (by decide) ?_
      refine lv_iand hx hb dX7_look_75 ?_
      refine lv_iconst (v := 1) hx hb dX7_look_76 (by decide) ?_
      refine lv_icmp_ne (tgt := 133) hx hb dX7_look_77 (by decide) (fun c_23 => ?_) (fun c_23 => ?_)
      · have G := G.2 c_23
        exact hk133 _ G _ _ _ (lv_sub hl [0, 1, 2, 3, 4, 5, 6, 7, 8] rfl) hP hD hS
      · have G := G.1 c_23
        refine lv_iload hx hb dX7_look_80 (lv_at hl 8 rfl) ?_
        refine lv_iload_n hx hb dX7_look_82 rfl (lv_at hl 2 rfl) ?_
        refine lv_iload hx hb dX7_look_83 (lv_at hl 9 rfl) ?_
        refine lv_ishr hx hb dX7_look_85 ?_
        refine lv_iconst (v := 1) hx hb dX7_look_86 (by decide) ?_
        refine lv_iand hx hb dX7_look_87 ?_
        refine lv_iconst (v := 1) hx hb dX7_look_88 (by decide) ?_
        obtain ⟨h_25, G⟩ := G
        obtain ⟨h_26, G⟩ := G
        have hJ : ∀ (H : Heap) (locs : List Loc), va_P D vwCl (mW ad ca blocks trainMany lockMany readBlocks readTrains readLockMany blocksTold omensTold highBlock taped fault broken brokenAt spot here token value bumpAt bumpIn bumpOf waited keptOut visited seenMany drawn torn state locks waits readPage readLocks tape cuts letters place left hasSeen homeAt places seen wouldBe isKept lanes lengths cells) H → va_D A (mW ad ca blocks trainMany lockMany readBlocks readTrains readLockMany blocksTold omensTold highBlock taped fault broken brokenAt spot here token value bumpAt bumpIn bumpOf waited keptOut visited seenMany drawn torn state locks waits readPage readLocks tape cuts letters place left hasSeen homeAt places seen wouldBe isKept lanes lengths cells) → va_S A s.heap H locs → ∀ v_28 : Int32, v_28 = (if ((x3 >>> (x10 &&& 31)) &&& (1 : Int32)) = (1 : Int32) then (if (wouldBe (((4 : Int32) * x6) + x8).toNatClampNeg) = (wouldBe (((4 : Int32) * x6) + x10).toNatClampNeg) then (1 : Int32) else (0 : Int32)) else (0 : Int32)) → W p l e rm_M_look s m args below meth c H locs 0 0 Z (F0 m 124 ls (.int v_28 :: [.int x9])) := by
          intro H locs hP hD hS v_28 hv
          subst hv
          refine lv_iadd hx hb dX7_look_124 ?_
          refine lv_istore (lv' := [(9, .int (x9 + (if ((x3 >>> (x10 &&& 31)) &&& (1 : Int32)) = (1 : Int32) then (if (wouldBe (((4 : Int32) * x6) + x8).toNatClampNeg) = (wouldBe (((4 : Int32) * x6) + x10).toNatClampNeg) then (1 : Int32) else (0 : Int32)) else (0 : Int32)))), (0, .ref (ad 0)), (2, .int x2), (3, .int x3), (4, .int x4), (5, .int x5), (6, .int x6), (7, .int x7), (8, .int x8), (10, .int x10)]) hx hb dX7_look_125 hl (by decide) rfl (fun ls hl => ?_)
          refine lv_iinc (v := (x10 + (1 : Int32))) (lv' := [(10, .int (x10 + (1 : Int32))), (9, .int (x9 + (if ((x3 >>> (x10 &&& 31)) &&& (1 : Int32)) = (1 : Int32) then (if (wouldBe (((4 : Int32) * x6) + x8).toNatClampNeg) = (wouldBe (((4 : Int32) * x6) + x10).toNatClampNeg) then (1 : Int32) else (0 : Int32)) else (0 : Int32)))), (0, .ref (ad 0)), (2, .int x2), (3, .int x3), (4, .int x4), (5, .int x5), (6, .int x6), (7, .int x7), (8, .int x8)]) hx hb dX7_look_127 hl (k := 9) rfl rfl (by decide) rfl (fun ls hl => ?_)
          refine lv_goto (tgt := 64) hx hb dX7_look_130 (by decide) ?_
          exact hk64 _ _ G _ _ _ (lv_sub hl [2, 3, 4, 5, 6, 7, 8, 9, 1, 0] rfl) hP hD hS
        refine lv_icmp_ne (tgt := 123) hx hb dX7_look_89 (by decide) (fun c_24 => ?_) (fun c_24 => ?_)
        · refine lv_iconst (v := 0) hx hb dX7_look_123 (by decide) ?_
          exact hJ _ _ hP hD hS _ (eF c_24 rfl)
        · refine lv_aload_n hx hb dX7_look_92 rfl (lv_at hl 0 rfl) ?_
          refine va_get hx hb hts in_X7 hown hK hP 0 rfl rfl 38 (by decide) (hts _ q966) (fun _ h => h) rfl dX7_look_93 ?_
          refine lv_iconst (v := 4) hx hb dX7_look_96 (by decide) ?_
          refine lv_iload hx hb dX7_look_97 (lv_at hl 5 rfl) ?_
          refine lv_imul hx hb dX7_look_99 ?_
          refine lv_iload hx hb dX7_look_100 (lv_at hl 7 rfl) ?_
          refine lv_iadd hx hb dX7_look_102 ?_
          refine va_iald hx hb hK hP 15 0 rfl rfl (h_25 c_24) dX7_look_103 ?_
          refine lv_aload_n hx hb dX7_look_104 rfl (lv_at hl 0 rfl) ?_
          refine va_get hx hb hts in_X7 hown hK hP 0 rfl rfl 38 (by decide) (hts _ q966) (fun _ h => h) rfl dX7_look_105 ?_
          refine lv_iconst (v := 4) hx hb dX7_look_108 (by decide) ?_
          refine lv_iload hx hb dX7_look_109 (lv_at hl 5 rfl) ?_
          refine lv_imul hx hb dX7_look_111 ?_
          refine lv_iload hx hb dX7_look_112 (lv_at hl 9 rfl) ?_
          refine lv_iadd hx hb dX7_look_114 ?_
          refine va_iald hx hb hK hP 15 0 rfl rfl (h_26 c_24) dX7_look_115 ?_
          refine lv_icmp_ne (tgt := 123) hx hb dX7_look_116 (by decide) (fun c_27 => ?_) (fun c_27 => ?_)
          · refine lv_iconst (v := 0) hx hb dX7_look_123 (by decide) ?_
            exact hJ _ _ hP hD hS _ (eT c_24 (eF c_27 rfl))
          · refine lv_iconst (v := 1) hx hb dX7_look_119 (by decide) ?_
            refine lv_goto (tgt := 124) hx hb dX7_look_120 (by decide) ?_
            exact hJ _ _ hP hD hS _ (eT c_24 (eT c_27 rfl))
set_option maxHeartbeats 4000000 in
theorem w_M_look_J133 {p : Program} {l : Launch} {e : Env} {s : State} {m : MethodId} {args : Array Value} {below : List Frame} {meth : Method} {c : Code} {D : va_G} {ad : Nat → Nat} {ca : Nat → ClassId} {A : Nat → Prop} {Z : State → Prop} (C : cx cX7_look 11 (some .int) RX7 D vwCl (tyL ca) A p c meth s m args) {blocks : Int32} {trainMany : Int32} {lockMany : Int32} {readBlocks : Int32} {readTrains : Int32} {readLockMany : Int32} {blocksTold : Int32} {omensTold : Int32} {highBlock : Int32} {taped : Int32} {fault : Int32} {broken : Int32} {brokenAt : Int32} {spot : Int32} {here : Int32} {token : Int32} {value : Int32} {bumpAt : Int32} {bumpIn : Int32} {bumpOf : Int32} {waited : Int32} {keptOut : Int32} {visited : Int32} {seenMany : Int32} {drawn : Int32} {torn : Int32} {state : Nat → Int32} {locks : Nat → Int32} {waits : Nat → Int32} {readPage : Nat → Int32} {readLocks : Nat → Int32} {tape : Nat → Int32} {cuts : Nat → Int32} {letters : Nat → Int32} {place : Nat → Int32} {left : Nat → Int32} {hasSeen : Nat → Int32} {homeAt : Nat → Int32} {places : Nat → Int32} {seen : Nat → Int32} {wouldBe : Nat → Int32} {isKept : Nat → Int32} {lanes : Nat → Int32} {lengths : Nat → Int32} {cells : Nat → Int32} {x2 : Int32} {x3 : Int32} {x4 : Int32} {x5 : Int32} {x6 : Int32} {x7 : Int32} {x8 : Int32} {x9 : Int32}  {k52 : Int32 → Int32 → Prop} {k155 : Int32 → Prop} (hk52 : ∀ (x7 : Int32) (x8 : Int32), k52 x7 x8 → ∀ (ls : Array Slot) (H : Heap) (locs : List Loc), lv_has ls 11 [(0, .ref (ad 0)), (2, .int x2), (3, .int x3), (4, .int x4), (5, .int x5), (6, .int x6), (7, .int x7), (8, .int x8)] → va_P D vwCl (mW ad ca blocks trainMany lockMany readBlocks readTrains readLockMany blocksTold omensTold highBlock taped fault broken brokenAt spot here token value bumpAt bumpIn bumpOf waited keptOut visited seenMany drawn torn state locks waits readPage readLocks tape cuts letters place left hasSeen homeAt places seen wouldBe isKept lanes lengths cells) H → va_D A (mW ad ca blocks trainMany lockMany readBlocks readTrains readLockMany blocksTold omensTold highBlock taped fault broken brokenAt spot here token value bumpAt bumpIn bumpOf waited keptOut visited seenMany drawn torn state locks waits readPage readLocks tape cuts letters place left hasSeen homeAt places seen wouldBe isKept lanes lengths cells) → va_S A s.heap H locs → W p l e rm_M_look s m args below meth c H locs 0 0 Z (F0 m 52 ls [])) (hk155 : ∀ (x7 : Int32), k155 x7 → ∀ (ls : Array Slot) (H : Heap) (locs : List Loc), lv_has ls 11 [(0, .ref (ad 0)), (2, .int x2), (3, .int x3), (4, .int x4), (5, .int x5), (6, .int x6), (7, .int x7)] → va_P D vwCl (mW ad ca blocks trainMany lockMany readBlocks readTrains readLockMany blocksTold omensTold highBlock taped fault broken brokenAt spot here token value bumpAt bumpIn bumpOf waited keptOut visited seenMany drawn torn state locks waits readPage readLocks tape cuts letters place left hasSeen homeAt places seen wouldBe isKept lanes lengths cells) H → va_D A (mW ad ca blocks trainMany lockMany readBlocks readTrains readLockMany blocksTold omensTold highBlock taped fault broken brokenAt spot here token value bumpAt bumpIn bumpOf waited keptOut visited seenMany drawn torn state locks waits readPage readLocks tape cuts letters place left hasSeen homeAt places seen wouldBe isKept lanes lengths cells) → va_S A s.heap H locs → W p l e rm_M_look s m args below meth c H locs 0 0 Z (F0 m 155 ls [])) (G : M_look_J133 wouldBe x3 x6 x7 x8 x9 k52 k155) {ls : Array Slot} {H : Heap} {locs : List Loc} (hl : lv_has ls 11 [(0, .ref (ad 0)), (2, .int x2), (3, .int x3), (4, .int x4), (5, .int x5), (6, .int x6), (7, .int x7), (8, .int x8), (9, .int x9)]) (hP : va_P D vwCl (mW ad ca blocks trainMany lockMany readBlocks readTrains readLockMany blocksTold omensTold highBlock taped fault broken brokenAt spot here token value bumpAt bumpIn bumpOf waited keptOut visited seenMany drawn torn state locks waits readPage readLocks tape cuts letters place left hasSeen homeAt places seen wouldBe isKept lanes lengths cells) H) (hD : va_D A (mW ad ca blocks trainMany lockMany readBlocks readTrains readLockMany blocksTold omensTold highBlock taped fault broken brokenAt spot here token value bumpAt bumpIn bumpOf waited keptOut visited seenMany drawn torn state locks waits readPage readLocks tape cuts letters place left hasSeen homeAt places seen wouldBe isKept lanes lengths cells)) (hS : va_S A s.heap H locs) : W p l e rm_M_look s m args below meth c H locs 0 0 Z (F0 m 133 ls []) := by
  have hx := C.1; have hb := C.2.1; have hr := C.2.2.1; have hlocks := C.2.2.2.1; have hml := C.2.2.2.2.1; have hown := C.2.2.2.2.2.1; have hts := C.2.2.2.2.2.2.1; have hn := C.2.2.2.2.2.2.2.1; have hK := C.2.2.2.2.2.2.2.2.1; have hA := C.2.2.2.2.2.2.2.2.2
  unfold M_look_J133 at G
  refine lv_iload hx hb dX7_look_133 (lv_at hl 8 rfl) ?_
  refine lv_iload hx hb dX7_look_135 (lv_at hl 6 rfl) ?_
  have hJ : ∀ (H : Heap) (locs : List Loc), va_P D vwCl (mW ad ca blocks trainMany lockMany readBlocks readTrains readLockMany blocksTold omensTold highBlock taped fault broken brokenAt spot here token value bumpAt bumpIn bumpOf waited keptOut visited seenMany drawn torn state locks waits readPage readLocks tape cuts letters place left hasSeen homeAt places seen wouldBe isKept lanes lengths cells) H → va_D A (mW ad ca blocks trainMany lockMany readBlocks readTrains readLockMany blocksTold omensTold highBlock taped fault broken brokenAt spot here token value bumpAt bumpIn bumpOf waited keptOut visited seenMany drawn torn state locks waits readPage readLocks tape cuts letters place left hasSeen homeAt places seen wouldBe isKept lanes lengths cells) → va_S A s.heap H locs → ∀ v_32 : Int32, v_32 = (if x9 ≤ x7 then x7 else x9) → W p l e rm_M_look s m args below meth c H locs 0 0 Z (F0 m 147 ls (.int v_32 :: [])) := by
    intro H locs hP hD hS v_32 hv
    subst hv
    refine lv_istore (lv' := [(7, .int (if x9 ≤ x7 then x7 else x9)), (0, .ref (ad 0)), (2, .int x2), (3, .int x3), (4, .int x4), (5, .int x5), (6, .int x6), (8, .int x8), (9, .int x9)]) hx hb dX7_look_147 hl (by decide) rfl (fun ls hl => ?_)
    refine lv_iinc (v := (x8 + (1 : Int32))) (lv' := [(8, .int (x8 + (1 : Int32))), (7, .int (if x9 ≤ x7 then x7 else x9)), (0, .ref (ad 0)), (2, .int x2), (3, .int x3), (4, .int x4), (5, .int x5), (6, .int x6), (9, .int x9)]) hx hb dX7_look_149 hl (k := 7) rfl rfl (by decide) rfl (fun ls hl => ?_)
    refine lv_goto (tgt := 52) hx hb dX7_look_152 (by decide) ?_
    exact hk52 _ _ G _ _ _ (lv_sub hl [2, 3, 4, 5, 6, 7, 1, 0] rfl) hP hD hS
  refine lv_icmp_le (tgt := 145) hx hb dX7_look_137 (by decide) (fun c_31 => ?_) (fun c_31 => ?_)
  · refine lv_iload hx hb dX7_look_145 (lv_at hl 6 rfl) ?_
    exact hJ _ _ hP hD hS _ (eT c_31 rfl)
  · refine lv_iload hx hb dX7_look_140 (lv_at hl 8 rfl) ?_
    refine lv_goto (tgt := 147) hx hb dX7_look_142 (by decide) ?_
    exact hJ _ _ hP hD hS _ (eF c_31 rfl)
set_option maxHeartbeats 4000000 in
theorem w_M_look_L52 {p : Program} {l : Launch} {e : Env} {s : State} {m : MethodId} {args : Array Value} {below : List Frame} {meth : Method} {c : Code} {D : va_G} {ad : Nat → Nat} {ca : Nat → ClassId} {A : Nat → Prop} {Z : State → Prop} (C : cx cX7_look 11 (some .int) RX7 D vwCl (tyL ca) A p c meth s m args) {blocks : Int32} {trainMany : Int32} {lockMany : Int32} {readBlocks : Int32} {readTrains : Int32} {readLockMany : Int32} {blocksTold : Int32} {omensTold : Int32} {highBlock : Int32} {taped : Int32} {fault : Int32} {broken : Int32} {brokenAt : Int32} {spot : Int32} {here : Int32} {token : Int32} {value : Int32} {bumpAt : Int32} {bumpIn : Int32} {bumpOf : Int32} {waited : Int32} {keptOut : Int32} {visited : Int32} {seenMany : Int32} {drawn : Int32} {torn : Int32} {state : Nat → Int32} {locks : Nat → Int32} {waits : Nat → Int32} {readPage : Nat → Int32} {readLocks : Nat → Int32} {tape : Nat → Int32} {cuts : Nat → Int32} {letters : Nat → Int32} {place : Nat → Int32} {left : Nat → Int32} {hasSeen : Nat → Int32} {homeAt : Nat → Int32} {places : Nat → Int32} {seen : Nat → Int32} {wouldBe : Nat → Int32} {isKept : Nat → Int32} {lanes : Nat → Int32} {lengths : Nat → Int32} {cells : Nat → Int32} {x2 : Int32} {x3 : Int32} {x4 : Int32} {x5 : Int32} {x6 : Int32} {k155 : Int32 → Prop} (hk155 : ∀ (x7 : Int32), k155 x7 → ∀ (ls : Array Slot) (H : Heap) (locs : List Loc), lv_has ls 11 [(0, .ref (ad 0)), (2, .int x2), (3, .int x3), (4, .int x4), (5, .int x5), (6, .int x6), (7, .int x7)] → va_P D vwCl (mW ad ca blocks trainMany lockMany readBlocks readTrains readLockMany blocksTold omensTold highBlock taped fault broken brokenAt spot here token value bumpAt bumpIn bumpOf waited keptOut visited seenMany drawn torn state locks waits readPage readLocks tape cuts letters place left hasSeen homeAt places seen wouldBe isKept lanes lengths cells) H → va_D A (mW ad ca blocks trainMany lockMany readBlocks readTrains readLockMany blocksTold omensTold highBlock taped fault broken brokenAt spot here token value bumpAt bumpIn bumpOf waited keptOut visited seenMany drawn torn state locks waits readPage readLocks tape cuts letters place left hasSeen homeAt places seen wouldBe isKept lanes lengths cells) → va_S A s.heap H locs → W p l e rm_M_look s m args below meth c H locs 0 0 Z (F0 m 155 ls [])) : ∀ (n : Nat) (x7 : Int32) (x8 : Int32), M_look_L52 wouldBe x3 x6 k155 n x7 x8 → ∀ (ls : Array Slot) (H : Heap) (locs : List Loc), lv_has ls 11 [(0, .ref (ad 0)), (2, .int x2), (3, .int x3), (4, .int x4), (5, .int x5), (6, .int x6), (7, .int x7), (8, .int x8)] → va_P D vwCl (mW ad ca blocks trainMany lockMany readBlocks readTrains readLockMany blocksTold omensTold highBlock taped fault broken brokenAt spot here token value bumpAt bumpIn bumpOf waited keptOut visited seenMany drawn torn state locks waits readPage readLocks tape cuts letters place left hasSeen homeAt places seen wouldBe isKept lanes lengths cells) H → va_D A (mW ad ca blocks trainMany lockMany readBlocks readTrains readLockMany blocksTold omensTold highBlock taped fault broken brokenAt spot here token value bumpAt bumpIn bumpOf waited keptOut visited seenMany drawn torn state locks waits readPage readLocks tape cuts letters place left hasSeen homeAt places seen wouldBe isKept lanes lengths cells) → va_S A s.heap H locs → W p l e rm_M_look s m args below meth c H locs 0 0 Z (F0 m 52 ls []) := by
  have hx := C.1; have hb := C.2.1; have hr := C.2.2.1; have hlocks := C.2.2.2.1; have hml := C.2.2.2.2.1; have hown := C.2.2.2.2.2.1; have hts := C.2.2.2.2.2.2.1; have hn := C.2.2.2.2.2.2.2.1; have hK := C.2.2.2.2.2.2.2.2.1; have hA := C.2.2.2.2.2.2.2.2.2
  intro n
  induction n with
  | zero =>
    intro x7 x8 G
    exact False.elim G
  | succ n ih =>
    intro x7 x8 G ls H locs hl hP hD hS
    unfold M_look_L52 at G
    have hk52 := ih
    refine lv_iload hx hb dX7_look_52 (lv_at hl 7 rfl) ?_
    refine lv_iconst (v := 4) hx hb dX7_look_54 (by decide) ?_
    refine lv_icmp_ge (tgt := 155) hx hb dX7_look_55 (by decide) (fun c_21 => ?_) (fun c_21 => ?_)
    · have G := G.1 c_21
      exact hk155 _ G _ _ _ (lv_sub hl [0, 1, 2, 3, 4, 5, 6] rfl) hP hD hS
    · have G := G.2 c_21
      refine lv_iconst (v := 0) hx hb dX7_look_58 (by decide) ?_
      refine lv_istore (lv' := [(9, .int (0 : Int32)), (0, .ref (ad 0)), (2, .int x2), (3, .int x3), (4, .int x4), (5, .int x5), (6, .int x6), (7, .int x7), (8, .int x8)]) hx hb dX7_look_59 hl (by decide) rfl (fun ls hl => ?_)
      refine lv_iconst (v := 0) hx hb dX7_look_61 (by decide) ?_
      refine lv_istore (lv' := [(10, .int (0 : Int32)), (9, .int (0 : Int32)), (0, .ref (ad 0)), (2, .int x2), (3, .int x3), (4, .int x4), (5, .int x5), (6, .int x6), (7, .int x7), (8, .int x8)]) hx hb dX7_look_62 hl (by decide) rfl (fun ls hl => ?_)
      obtain ⟨n_29, G⟩ := G
      refine w_M_look_L64 C (fun x9_30 G ls H locs hl hP hD hS => ?_) n_29 _ _ G _ _ _ (lv_sub hl [2, 3, 4, 5, 6, 7, 8, 9, 1, 0] rfl) hP hD hS
      exact w_M_look_J133 C hk52 hk155 G (lv_sub hl [0, 1, 2, 3, 4, 5, 6, 7, 8] rfl) hP hD hS
set_option maxHeartbeats 4000000 in
theorem w_M_look_L39 {p : Program} {l : Launch} {e : Env} {s : State} {m : MethodId} {args : Array Value} {below : List Frame} {meth : Method} {c : Code} {D : va_G} {ad : Nat → Nat} {ca : Nat → ClassId} {A : Nat → Prop} {Z : State → Prop} (C : cx cX7_look 11 (some .int) RX7 D vwCl (tyL ca) A p c meth s m args) {blocks : Int32} {trainMany : Int32} {lockMany : Int32} {readBlocks : Int32} {readTrains : Int32} {readLockMany : Int32} {blocksTold : Int32} {omensTold : Int32} {highBlock : Int32} {taped : Int32} {fault : Int32} {broken : Int32} {brokenAt : Int32} {spot : Int32} {here : Int32} {token : Int32} {value : Int32} {bumpAt : Int32} {bumpIn : Int32} {bumpOf : Int32} {waited : Int32} {keptOut : Int32} {visited : Int32} {seenMany : Int32} {drawn : Int32} {torn : Int32} {state : Nat → Int32} {locks : Nat → Int32} {waits : Nat → Int32} {readPage : Nat → Int32} {readLocks : Nat → Int32} {tape : Nat → Int32} {cuts : Nat → Int32} {letters : Nat → Int32} {place : Nat → Int32} {left : Nat → Int32} {hasSeen : Nat → Int32} {homeAt : Nat → Int32} {places : Nat → Int32} {seen : Nat → Int32} {wouldBe : Nat → Int32} {isKept : Nat → Int32} {lanes : Nat → Int32} {lengths : Nat → Int32} {cells : Nat → Int32} {x2 : Int32} {x3 : Int32} {k193 : Int32 → Int32 → Prop} (hk193 : ∀ (x4 : Int32) (x5 : Int32), k193 x4 x5 → ∀ (ls : Array Slot) (H : Heap) (locs : List Loc), lv_has ls 11 [(2, .int x2), (4, .int x4), (5, .int x5)] → va_P D vwCl (mW ad ca blocks trainMany lockMany readBlocks readTrains readLockMany blocksTold omensTold highBlock taped fault broken brokenAt spot here token value bumpAt bumpIn bumpOf waited keptOut visited seenMany drawn torn state locks waits readPage readLocks tape cuts letters place left hasSeen homeAt places seen wouldBe isKept lanes lengths cells) H → va_D A (mW ad ca blocks trainMany lockMany readBlocks readTrains readLockMany blocksTold omensTold highBlock taped fault broken brokenAt spot here token value bumpAt bumpIn bumpOf waited keptOut visited seenMany drawn torn state locks waits readPage readLocks tape cuts letters place left hasSeen homeAt places seen wouldBe isKept lanes lengths cells) → va_S A s.heap H locs → W p l e rm_M_look s m args below meth c H locs 0 0 Z (F0 m 193 ls [])) : ∀ (n : Nat) (x4 : Int32) (x5 : Int32) (x6 : Int32), M_look_L39 wouldBe x3 k193 n x4 x5 x6 → ∀ (ls : Array Slot) (H : Heap) (locs : List Loc), lv_has ls 11 [(0, .ref (ad 0)), (2, .int x2), (3, .int x3), (4, .int x4), (5, .int x5), (6, .int x6)] → va_P D vwCl (mW ad ca blocks trainMany lockMany readBlocks readTrains readLockMany blocksTold omensTold highBlock taped fault broken brokenAt spot here token value bumpAt bumpIn bumpOf waited keptOut visited seenMany drawn torn state locks waits readPage readLocks tape cuts letters place left hasSeen homeAt places seen wouldBe isKept lanes lengths cells) H → va_D A (mW ad ca blocks trainMany lockMany readBlocks readTrains readLockMany blocksTold omensTold highBlock taped fault broken brokenAt spot here token value bumpAt bumpIn bumpOf waited keptOut visited seenMany drawn torn state locks waits readPage readLocks tape cuts letters place left hasSeen homeAt places seen wouldBe isKept lanes lengths cells) → va_S A s.heap H locs → W p l e rm_M_look s m args below meth c H locs 0 0 Z (F0 m 39 ls []) := by
  have hx := C.1; have hb := C.2.1; have hr := C.2.2.1; have hlocks := C.2.2.2.1; have hml := C.2.2.2.2.1; have hown := C.2.2.2.2.2.1; have hts := C.2.2.2.2.2.2.1; have hn := C.2.2.2.2.2.2.2.1; have hK := C.2.2.2.2.2.2.2.2.1; have hA := C.2.2.2.2.2.2.2.2.2
  intro n
  induction n with
  | zero =>
    intro x4 x5 x6 G
    exact False.elim G
  | succ n ih =>
    intro x4 x5 x6 G ls H locs hl hP hD hS
    unfold M_look_L39 at G
    have hk39 := ih
    refine lv_iload hx hb dX7_look_39 (lv_at hl 5 rfl) ?_
    refine lv_bipush (v := 119) hx hb dX7_look_41 (by decide) ?_
    refine lv_icmp_gt (tgt := 193) hx hb dX7_look_43 (by decide) (fun c_20 => ?_) (fun c_20 => ?_)
    · have G := G.1 c_20
      exact hk193 _ _ G _ _ _ (lv_sub hl [1, 3, 4] rfl) hP hD hS
    · have G := G.2 c_20
      refine lv_iconst (v := 0) hx hb dX7_look_46 (by decide) ?_
      refine lv_istore (lv' := [(7, .int (0 : Int32)), (0, .ref (ad 0)), (2, .int x2), (3, .int x3), (4, .int x4), (5, .int x5), (6, .int x6)]) hx hb dX7_look_47 hl (by decide) rfl (fun ls hl => ?_)
      refine lv_iconst (v := 0) hx hb dX7_look_49 (by decide) ?_
      refine lv_istore (lv' := [(8, .int (0 : Int32)), (7, .int (0 : Int32)), (0, .ref (ad 0)), (2, .int x2), (3, .int x3), (4, .int x4), (5, .int x5), (6, .int x6)]) hx hb dX7_look_50 hl (by decide) rfl (fun ls hl => ?_)
      obtain ⟨n_33, G⟩ := G
      refine w_M_look_L52 C (fun x7_34 G ls H locs hl hP hD hS => ?_) n_33 _ _ G _ _ _ (lv_sub hl [2, 3, 4, 5, 6, 7, 1, 0] rfl) hP hD hS
      refine lv_iload hx hb dX7_look_155 (lv_at hl 6 rfl) ?_
      refine lv_iload hx hb dX7_look_157 (lv_at hl 3 rfl) ?_
      have hJ : ∀ (H : Heap) (locs : List Loc), va_P D vwCl (mW ad ca blocks trainMany lockMany readBlocks readTrains readLockMany blocksTold omensTold highBlock taped fault broken brokenAt spot here token value bumpAt bumpIn bumpOf waited keptOut visited seenMany drawn torn state locks waits readPage readLocks tape cuts letters place left hasSeen homeAt places seen wouldBe isKept lanes lengths cells) H → va_D A (mW ad ca blocks trainMany lockMany readBlocks readTrains readLockMany blocksTold omensTold highBlock taped fault broken brokenAt spot here token value bumpAt bumpIn bumpOf waited keptOut visited seenMany drawn torn state locks waits readPage readLocks tape cuts letters place left hasSeen homeAt places seen wouldBe isKept lanes lengths cells) → va_S A s.heap H locs → ∀ v_38 : Int32, v_38 = (if x4 ≤ x7_34 then x5 else x6) → W p l e rm_M_look s m args below meth c H locs 0 0 Z (F0 m 169 ls (.int v_38 :: [])) := by
        intro H locs hP hD hS v_38 hv
        subst hv
        refine lv_istore (lv' := [(5, .int (if x4 ≤ x7_34 then x5 else x6)), (0, .ref (ad 0)), (2, .int x2), (3, .int x3), (4, .int x4), (6, .int x6), (7, .int x7_34)]) hx hb dX7_look_169 hl (by decide) rfl (fun ls hl => ?_)
        refine lv_iload hx hb dX7_look_171 (lv_at hl 6 rfl) ?_
        refine lv_iload hx hb dX7_look_173 (lv_at hl 4 rfl) ?_
        have hJ : ∀ (H : Heap) (locs : List Loc), va_P D vwCl (mW ad ca blocks trainMany lockMany readBlocks readTrains readLockMany blocksTold omensTold highBlock taped fault broken brokenAt spot here token value bumpAt bumpIn bumpOf waited keptOut visited seenMany drawn torn state locks waits readPage readLocks tape cuts letters place left hasSeen homeAt places seen wouldBe isKept lanes lengths cells) H → va_D A (mW ad ca blocks trainMany lockMany readBlocks readTrains readLockMany blocksTold omensTold highBlock taped fault broken brokenAt spot here token value bumpAt bumpIn bumpOf waited keptOut visited seenMany drawn torn state locks waits readPage readLocks tape cuts letters place left hasSeen homeAt places seen wouldBe isKept lanes lengths cells) → va_S A s.heap H locs → ∀ v_37 : Int32, v_37 = (if x4 ≤ x7_34 then x4 else x7_34) → W p l e rm_M_look s m args below meth c H locs 0 0 Z (F0 m 185 ls (.int v_37 :: [])) := by
          intro H locs hP hD hS v_37 hv
          subst hv
          refine lv_istore (lv' := [(4, .int (if x4 ≤ x7_34 then x4 else x7_34)), (5, .int (if x4 ≤ x7_34 then x5 else x6)), (0, .ref (ad 0)), (2, .int x2), (3, .int x3), (6, .int x6), (7, .int x7_34)]) hx hb dX7_look_185 hl (by decide) rfl (fun ls hl => ?_)
          refine lv_iinc (v := (x6 + (1 : Int32))) (lv' := [(6, .int (x6 + (1 : Int32))), (4, .int (if x4 ≤ x7_34 then x4 else x7_34)), (5, .int (if x4 ≤ x7_34 then x5 else x6)), (0, .ref (ad 0)), (2, .int x2), (3, .int x3), (7, .int x7_34)]) hx hb dX7_look_187 hl (k := 5) rfl rfl (by decide) rfl (fun ls hl => ?_)
          refine lv_goto (tgt := 39) hx hb dX7_look_190 (by decide) ?_
          exact hk39 _ _ _ G _ _ _ (lv_sub hl [3, 4, 5, 1, 2, 0] rfl) hP hD hS
        refine lv_icmp_ge (tgt := 183) hx hb dX7_look_175 (by decide) (fun c_36 => ?_) (fun c_36 => ?_)
        · refine lv_iload hx hb dX7_look_183 (lv_at hl 4 rfl) ?_
          exact hJ _ _ hP hD hS _ (eT c_36 rfl)
        · refine lv_iload hx hb dX7_look_178 (lv_at hl 6 rfl) ?_
          refine lv_goto (tgt := 185) hx hb dX7_look_180 (by decide) ?_
          exact hJ _ _ hP hD hS _ (eF c_36 rfl)
      refine lv_icmp_ge (tgt := 167) hx hb dX7_look_159 (by decide) (fun c_35 => ?_) (fun c_35 => ?_)
      · refine lv_iload hx hb dX7_look_167 (lv_at hl 4 rfl) ?_
        exact hJ _ _ hP hD hS _ (eT c_35 rfl)
      · refine lv_iload hx hb dX7_look_162 (lv_at hl 5 rfl) ?_
        refine lv_goto (tgt := 169) hx hb dX7_look_164 (by decide) ?_
        exact hJ _ _ hP hD hS _ (eF c_35 rfl)
set_option maxHeartbeats 4000000 in
theorem met_M_look (l : Launch) (D : va_G) (ad : Nat → Nat) (ca : Nat → ClassId) (sz : Nat) (blocks : Int32) (trainMany : Int32) (lockMany : Int32) (readBlocks : Int32) (readTrains : Int32) (readLockMany : Int32) (blocksTold : Int32) (omensTold : Int32) (highBlock : Int32) (taped : Int32) (fault : Int32) (broken : Int32) (brokenAt : Int32) (spot : Int32) (here : Int32) (token : Int32) (value : Int32) (bumpAt : Int32) (bumpIn : Int32) (bumpOf : Int32) (waited : Int32) (keptOut : Int32) (visited : Int32) (seenMany : Int32) (drawn : Int32) (torn : Int32) (state : Nat → Int32) (locks : Nat → Int32) (waits : Nat → Int32) (readPage : Nat → Int32) (readLocks : Nat → Int32) (tape : Nat → Int32) (cuts : Nat → Int32) (letters : Nat → Int32) (place : Nat → Int32) (left : Nat → Int32) (hasSeen : Nat → Int32) (homeAt : Nat → Int32) (places : Nat → Int32) (seen : Nat → Int32) (wouldBe : Nat → Int32) (isKept : Nat → Int32) (lanes : Nat → Int32) (lengths : Nat → Int32) (cells : Nat → Int32) (x1 : Int32) (x2 : Int32) (Q : Int32 → Int32 → Int32 → Int32 → Int32 → Int32 → Int32 → (Nat → Int32) → (Nat → Int32) → (Nat → Int32) → (Nat → Int32) → (Nat → Int32) → (Nat → Int32) → (Nat → Int32) → Prop) (G : M_look blocks trainMany bumpAt bumpIn bumpOf waited keptOut visited seenMany state waits place left hasSeen homeAt places seen wouldBe x1 x2 Q) : Met l yX7_look (ws_ yX7_look cX7_look 11 (some .int)) rm_M_look (va_Pc [.ref (ad 0), .int x1, .int x2] (wpre D vwCl (tyL ca) (mW ad ca blocks trainMany lockMany readBlocks readTrains readLockMany blocksTold omensTold highBlock taped fault broken brokenAt spot here token value bumpAt bumpIn bumpOf waited keptOut visited seenMany drawn torn state locks waits readPage readLocks tape cuts letters place left hasSeen homeAt places seen wouldBe isKept lanes lengths cells) sz)) (va_Qi (fun (r : Int32) (u : Int32 × Int32 × Int32 × Int32 × Int32 × Int32 × (Nat → Int32) × (Nat → Int32) × (Nat → Int32) × (Nat → Int32) × (Nat → Int32) × (Nat → Int32) × (Nat → Int32)) => Q r u.1 u.2.1 u.2.2.1 u.2.2.2.1 u.2.2.2.2.1 u.2.2.2.2.2.1 u.2.2.2.2.2.2.1 u.2.2.2.2.2.2.2.1 u.2.2.2.2.2.2.2.2.1 u.2.2.2.2.2.2.2.2.2.1 u.2.2.2.2.2.2.2.2.2.2.1 u.2.2.2.2.2.2.2.2.2.2.2.1 u.2.2.2.2.2.2.2.2.2.2.2.2) (wpost D vwCl (va_A (mW ad ca blocks trainMany lockMany readBlocks readTrains readLockMany blocksTold omensTold highBlock taped fault broken brokenAt spot here token value bumpAt bumpIn bumpOf waited keptOut visited seenMany drawn torn state locks waits readPage readLocks tape cuts letters place left hasSeen homeAt places seen wouldBe isKept lanes lengths cells) sz) (fun (u : Int32 × Int32 × Int32 × Int32 × Int32 × Int32 × (Nat → Int32) × (Nat → Int32) × (Nat → Int32) × (Nat → Int32) × (Nat → Int32) × (Nat → Int32) × (Nat → Int32)) => (mW ad ca blocks trainMany lockMany readBlocks readTrains readLockMany blocksTold omensTold highBlock taped fault broken brokenAt spot here token value u.1 u.2.1 u.2.2.1 u.2.2.2.1 u.2.2.2.2.1 u.2.2.2.2.2.1 seenMany drawn torn u.2.2.2.2.2.2.1 locks waits readPage readLocks tape cuts letters u.2.2.2.2.2.2.2.1 u.2.2.2.2.2.2.2.2.1 u.2.2.2.2.2.2.2.2.2.1 u.2.2.2.2.2.2.2.2.2.2.1 u.2.2.2.2.2.2.2.2.2.2.2.1 seen u.2.2.2.2.2.2.2.2.2.2.2.2 isKept lanes lengths cells))) (va_A (mW ad ca blocks trainMany lockMany readBlocks readTrains readLockMany blocksTold omensTold highBlock taped fault broken brokenAt spot here token value bumpAt bumpIn bumpOf waited keptOut visited seenMany drawn torn state locks waits readPage readLocks tape cuts letters place left hasSeen homeAt places seen wouldBe isKept lanes lengths cells) sz)) 0 0 (va_A (mW ad ca blocks trainMany lockMany readBlocks readTrains readLockMany blocksTold omensTold highBlock taped fault broken brokenAt spot here token value bumpAt bumpIn bumpOf waited keptOut visited seenMany drawn torn state locks waits readPage readLocks tape cuts letters place left hasSeen homeAt places seen wouldBe isKept lanes lengths cells) sz) := by
  refine met_of (fun A => (va_Qi (fun (r : Int32) (u : Int32 × Int32 × Int32 × Int32 × Int32 × Int32 × (Nat → Int32) × (Nat → Int32) × (Nat → Int32) × (Nat → Int32) × (Nat → Int32) × (Nat → Int32) × (Nat → Int32)) => Q r u.1 u.2.1 u.2.2.1 u.2.2.2.1 u.2.2.2.2.1 u.2.2.2.2.2.1 u.2.2.2.2.2.2.1 u.2.2.2.2.2.2.2.1 u.2.2.2.2.2.2.2.2.1 u.2.2.2.2.2.2.2.2.2.1 u.2.2.2.2.2.2.2.2.2.2.1 u.2.2.2.2.2.2.2.2.2.2.2.1 u.2.2.2.2.2.2.2.2.2.2.2.2) (wpost D vwCl A (fun (u : Int32 × Int32 × Int32 × Int32 × Int32 × Int32 × (Nat → Int32) × (Nat → Int32) × (Nat → Int32) × (Nat → Int32) × (Nat → Int32) × (Nat → Int32) × (Nat → Int32)) => (mW ad ca blocks trainMany lockMany readBlocks readTrains readLockMany blocksTold omensTold highBlock taped fault broken brokenAt spot here token value u.1 u.2.1 u.2.2.1 u.2.2.2.1 u.2.2.2.2.1 u.2.2.2.2.2.1 seenMany drawn torn u.2.2.2.2.2.2.1 locks waits readPage readLocks tape cuts letters u.2.2.2.2.2.2.2.1 u.2.2.2.2.2.2.2.2.1 u.2.2.2.2.2.2.2.2.2.1 u.2.2.2.2.2.2.2.2.2.2.1 u.2.2.2.2.2.2.2.2.2.2.2.1 seen u.2.2.2.2.2.2.2.2.2.2.2.2 isKept lanes lengths cells))) A)) (by decide) (Nat.le_of_ble_eq_true rfl) ?_
  intro p e s m args below meth c Z A hZ C H locs hP hD hS ls hl
  have hx := C.1; have hb := C.2.1; have hr := C.2.2.1; have hlocks := C.2.2.2.1; have hml := C.2.2.2.2.1; have hown := C.2.2.2.2.2.1; have hts := C.2.2.2.2.2.2.1; have hn := C.2.2.2.2.2.2.2.1; have hK := C.2.2.2.2.2.2.2.2.1; have hA := C.2.2.2.2.2.2.2.2.2
  have hl : lv_has ls 11 [(0, .ref (ad 0)), (1, .int x1), (2, .int x2)] := hl
  unfold M_look at G
  refine lv_aload_n hx hb dX7_look_0 rfl (lv_at hl 0 rfl) ?_
  refine lv_iload_n hx hb dX7_look_1 rfl (lv_at hl 1 rfl) ?_
  refine wc_Vik (As := [.int x1]) (rest := []) C (met_M_isTrain l D ad ca H.size blocks trainMany lockMany readBlocks readTrains readLockMany blocksTold omensTold highBlock taped fault broken brokenAt spot here token value bumpAt bumpIn bumpOf waited keptOut visited seenMany drawn torn state locks waits readPage readLocks tape cuts letters place left hasSeen homeAt places seen wouldBe isKept lanes lengths cells x1) (cwV 1 hts (lw_V q1164 q1166 qs50 q75 q1167) rfl rfl rfl (by decide +kernel) ⟨Nat.le_of_ble_eq_true rfl, Nat.le_of_ble_eq_true rfl⟩) hP hD hS (List.range _) (wc_self _) (wc_nd _) 0 rfl rfl rfl rfl hl.1 (Nat.le_of_ble_eq_true rfl) dX7_look_2 ⟨Nat.le_of_ble_eq_true rfl, Nat.le_of_ble_eq_true rfl⟩ (fun r_1 u H locs hr hP hD hS => ?_)
  subst hr
  refine lv_if_eq (tgt := 18) hx hb dX7_look_5 (by decide) (fun c_2 => ?_) (fun c_2 => ?_)
  · have G := G.1 c_2
    refine lv_iconst (v := -1) hx hb dX7_look_18 (by decide) ?_
    rw [hZ]
    exact W.iret hx hb hr (fun t ht hW => ⟨⟨(-1 : Int32), (bumpAt, bumpIn, bumpOf, waited, keptOut, visited, state, place, left, hasSeen, homeAt, places, wouldBe), rfl, G, by rw [ht]; exact hP, hD⟩, hS.F ht⟩) hS.2.2 dX7_look_19 hlocks
  · have G := G.2 c_2
    refine lv_iload_n hx hb dX7_look_8 rfl (lv_at hl 2 rfl) ?_
    refine lv_i2l hx hb dX7_look_9 rfl ?_
    refine lv_lconst (v := 0) hx hb dX7_look_10 (by decide) ?_
    refine lv_lconst (v := 1) hx hb dX7_look_11 (by decide) ?_
    refine wc_Sik (As := [.long ((x2).toInt64), .long (0 : Int64), .long (1 : Int64)]) (rest := []) C (met_M_in l D ca H.size ((x2).toInt64) (0 : Int64) (1 : Int64)) (va_cwS 3 hts (lw_S q1069 q1070 q75 q1071) rfl rfl rfl (by decide +kernel) ⟨Nat.le_of_ble_eq_true rfl, Nat.le_of_ble_eq_true rfl⟩) hP hD hS [] rfl (by decide) rfl rfl hl.1 (Nat.le_of_ble_eq_true rfl) dX7_look_12 ⟨Nat.le_of_ble_eq_true rfl, Nat.le_of_ble_eq_true rfl⟩ (fun r_3 u H locs hr hP hD hS => ?_)
    subst hr
    refine lv_if_ne (tgt := 20) hx hb dX7_look_15 (by decide) (fun c_4 => ?_) (fun c_4 => ?_)
    · have G := G.2 c_4
      refine lv_aload_n hx hb dX7_look_20 rfl (lv_at hl 0 rfl) ?_
      refine lv_iload_n hx hb dX7_look_21 rfl (lv_at hl 1 rfl) ?_
      refine wc_Vi (As := [.int x1]) (rest := []) C (met_M_faithsOf l D ad ca H.size blocks trainMany lockMany readBlocks readTrains readLockMany blocksTold omensTold highBlock taped fault broken brokenAt spot here token value bumpAt bumpIn bumpOf waited keptOut visited seenMany drawn torn state locks waits readPage readLocks tape cuts letters place left hasSeen homeAt places seen wouldBe isKept lanes lengths cells x1 _ G) (cwV 1 hts (lw_V q1311 q1313 qs65 q75 q1314) rfl rfl rfl (by decide +kernel) ⟨Nat.le_of_ble_eq_true rfl, Nat.le_of_ble_eq_true rfl⟩) hP hD hS 0 rfl rfl rfl rfl hl.1 (Nat.le_of_ble_eq_true rfl) dX7_look_22 ⟨Nat.le_of_ble_eq_true rfl, Nat.le_of_ble_eq_true rfl⟩ (fun r_5 u H locs G hP hD hS => ?_)
      obtain ⟨bumpAt_6, bumpIn_7, bumpOf_8, waited_9, keptOut_10, visited_11, state_12, place_13, left_14, hasSeen_15, homeAt_16, places_17, wouldBe_18⟩ := u
      have hP : va_P D vwCl (mW ad ca blocks trainMany lockMany readBlocks readTrains readLockMany blocksTold omensTold highBlock taped fault broken brokenAt spot here token value bumpAt_6 bumpIn_7 bumpOf_8 waited_9 keptOut_10 visited_11 seenMany drawn torn state_12 locks waits readPage readLocks tape cuts letters place_13 left_14 hasSeen_15 homeAt_16 places_17 seen wouldBe_18 isKept lanes lengths cells) H := hP
      have hD : va_D A (mW ad ca blocks trainMany lockMany readBlocks readTrains readLockMany blocksTold omensTold highBlock taped fault broken brokenAt spot here token value bumpAt_6 bumpIn_7 bumpOf_8 waited_9 keptOut_10 visited_11 seenMany drawn torn state_12 locks waits readPage readLocks tape cuts letters place_13 left_14 hasSeen_15 homeAt_16 places_17 seen wouldBe_18 isKept lanes lengths cells) := hD
      refine lv_istore_n (lv' := [(3, .int r_5), (0, .ref (ad 0)), (1, .int x1), (2, .int x2)]) hx hb dX7_look_25 rfl hl (by decide) rfl (fun ls hl => ?_)
      refine lv_iload_n hx hb dX7_look_26 rfl (lv_at hl 0 rfl) ?_
      refine wc_Sik (As := [.int r_5]) (rest := []) C (met_M_bitsOf l D ca H.size r_5 _ G) (va_cwS 1 hts (lw_S q1243 q1244 q75 q1245) rfl rfl rfl (by decide +kernel) ⟨Nat.le_of_ble_eq_true rfl, Nat.le_of_ble_eq_true rfl⟩) hP hD hS [] rfl (by decide) rfl rfl hl.1 (Nat.le_of_ble_eq_true rfl) dX7_look_27 ⟨Nat.le_of_ble_eq_true rfl, Nat.le_of_ble_eq_true rfl⟩ (fun r_19 u H locs G hP hD hS => ?_)
      refine lv_istore (lv' := [(4, .int r_19), (3, .int r_5), (0, .ref (ad 0)), (1, .int x1), (2, .int x2)]) hx hb dX7_look_30 hl (by decide) rfl (fun ls hl => ?_)
      refine lv_bipush (v := -4) hx hb dX7_look_32 (by decide) ?_
      refine lv_istore (lv' := [(5, .int (-4 : Int32)), (4, .int r_19), (3, .int r_5), (0, .ref (ad 0)), (1, .int x1), (2, .int x2)]) hx hb dX7_look_34 hl (by decide) rfl (fun ls hl => ?_)
      refine lv_iconst (v := 0) hx hb dX7_look_36 (by decide) ?_
      refine lv_istore (lv' := [(6, .int (0 : Int32)), (5, .int (-4 : Int32)), (4, .int r_19), (3, .int r_5), (0, .ref (ad 0)), (1, .int x1), (2, .int x2)]) hx hb dX7_look_37 hl (by decide) rfl (fun ls hl => ?_)
      obtain ⟨n_39, G⟩ := G
      refine w_M_look_L39 C (fun x4_40 x5_41 G ls H locs hl hP hD hS => ?_) n_39 _ _ _ G _ _ _ (lv_sub hl [4, 6, 3, 2, 1, 0] rfl) hP hD hS
      refine lv_iload hx hb dX7_look_193 (lv_at hl 2 rfl) ?_
      refine lv_bipush (v := -4) hx hb dX7_look_195 (by decide) ?_
      have hJ : ∀ (H : Heap) (locs : List Loc), va_P D vwCl (mW ad ca blocks trainMany lockMany readBlocks readTrains readLockMany blocksTold omensTold highBlock taped fault broken brokenAt spot here token value bumpAt_6 bumpIn_7 bumpOf_8 waited_9 keptOut_10 visited_11 seenMany drawn torn state_12 locks waits readPage readLocks tape cuts letters place_13 left_14 hasSeen_15 homeAt_16 places_17 seen wouldBe_18 isKept lanes lengths cells) H → va_D A (mW ad ca blocks trainMany lockMany readBlocks readTrains readLockMany blocksTold omensTold highBlock taped fault broken brokenAt spot here token value bumpAt_6 bumpIn_7 bumpOf_8 waited_9 keptOut_10 visited_11 seenMany drawn torn state_12 locks waits readPage readLocks tape cuts letters place_13 left_14 hasSeen_15 homeAt_16 places_17 seen wouldBe_18 isKept lanes lengths cells) → va_S A s.heap H locs → ∀ v_44 : Int32, v_44 = (if x5_41 = (-4 : Int32) then x5_41 else (if x2 = 0 then x5_41 else x4_40)) → W p l e rm_M_look s m args below meth c H locs 0 0 Z (F0 m 211 ls (.int v_44 :: [])) := by
        intro H locs hP hD hS v_44 hv
        subst hv
        rw [hZ]
        exact W.iret hx hb hr (fun t ht hW => ⟨⟨(if x5_41 = (-4 : Int32) then x5_41 else (if x2 = 0 then x5_41 else x4_40)), (bumpAt_6, bumpIn_7, bumpOf_8, waited_9, keptOut_10, visited_11, state_12, place_13, left_14, hasSeen_15, homeAt_16, places_17, wouldBe_18), rfl, G, by rw [ht]; exact hP, hD⟩, hS.F ht⟩) hS.2.2 dX7_look_211 hlocks
      refine lv_icmp_eq (tgt := 204) hx hb dX7_look_197 (by decide) (fun c_42 => ?_) (fun c_42 => ?_)
      · refine lv_iload hx hb dX7_look_204 (lv_at hl 2 rfl) ?_
        refine lv_goto (tgt := 211) hx hb dX7_look_206 (by decide) ?_
        exact hJ _ _ hP hD hS _ (eT c_42 rfl)
      · refine lv_iload_n hx hb dX7_look_200 rfl (lv_at hl 0 rfl) ?_
        refine lv_if_ne (tgt := 209) hx hb dX7_look_201 (by decide) (fun c_43 => ?_) (fun c_43 => ?_)
        · refine lv_iload hx hb dX7_look_209 (lv_at hl 1 rfl) ?_
          exact hJ _ _ hP hD hS _ (eF c_42 (eF c_43 rfl))
        · refine lv_iload hx hb dX7_look_204 (lv_at hl 2 rfl) ?_
          refine lv_goto (tgt := 211) hx hb dX7_look_206 (by decide) ?_
          exact hJ _ _ hP hD hS _ (eF c_42 (eT c_43 rfl))
    · have G := G.1 c_4
      refine lv_iconst (v := -1) hx hb dX7_look_18 (by decide) ?_
      rw [hZ]
      exact W.iret hx hb hr (fun t ht hW => ⟨⟨(-1 : Int32), (bumpAt, bumpIn, bumpOf, waited, keptOut, visited, state, place, left, hasSeen, homeAt, places, wouldBe), rfl, G, by rw [ht]; exact hP, hD⟩, hS.F ht⟩) hS.2.2 dX7_look_19 hlocks
abbrev rm_M_draws : Room := { frames := 1, cells := 0, slots := 0, locals := 0 }
set_option maxHeartbeats 4000000 in
theorem met_M_draws (l : Launch) (D : va_G) (ad : Nat → Nat) (ca : Nat → ClassId) (sz : Nat) (blocks : Int32) (trainMany : Int32) (lockMany : Int32) (readBlocks : Int32) (readTrains : Int32) (readLockMany : Int32) (blocksTold : Int32) (omensTold : Int32) (highBlock : Int32) (taped : Int32) (fault : Int32) (broken : Int32) (brokenAt : Int32) (spot : Int32) (here : Int32) (token : Int32) (value : Int32) (bumpAt : Int32) (bumpIn : Int32) (bumpOf : Int32) (waited : Int32) (keptOut : Int32) (visited : Int32) (seenMany : Int32) (drawn : Int32) (torn : Int32) (state : Nat → Int32) (locks : Nat → Int32) (waits : Nat → Int32) (readPage : Nat → Int32) (readLocks : Nat → Int32) (tape : Nat → Int32) (cuts : Nat → Int32) (letters : Nat → Int32) (place : Nat → Int32) (left : Nat → Int32) (hasSeen : Nat → Int32) (homeAt : Nat → Int32) (places : Nat → Int32) (seen : Nat → Int32) (wouldBe : Nat → Int32) (isKept : Nat → Int32) (lanes : Nat → Int32) (lengths : Nat → Int32) (cells : Nat → Int32) (x1 : Int32) (Q : Int32 → Int32 → Prop) (G : M_draws drawn x1 Q) : Met l yX7_draws (ws_ yX7_draws cX7_draws 2 (some .int)) rm_M_draws (va_Pc [.ref (ad 0), .int x1] (wpre D vwCl (tyL ca) (mW ad ca blocks trainMany lockMany readBlocks readTrains readLockMany blocksTold omensTold highBlock taped fault broken brokenAt spot here token value bumpAt bumpIn bumpOf waited keptOut visited seenMany drawn torn state locks waits readPage readLocks tape cuts letters place left hasSeen homeAt places seen wouldBe isKept lanes lengths cells) sz)) (va_Qi (fun (r : Int32) (u : Int32) => Q r u) (wpost D vwCl (va_A (mW ad ca blocks trainMany lockMany readBlocks readTrains readLockMany blocksTold omensTold highBlock taped fault broken brokenAt spot here token value bumpAt bumpIn bumpOf waited keptOut visited seenMany drawn torn state locks waits readPage readLocks tape cuts letters place left hasSeen homeAt places seen wouldBe isKept lanes lengths cells) sz) (fun (u : Int32) => (mW ad ca blocks trainMany lockMany readBlocks readTrains readLockMany blocksTold omensTold highBlock taped fault broken brokenAt spot here token value bumpAt bumpIn bumpOf waited keptOut visited seenMany u torn state locks waits readPage readLocks tape cuts letters place left hasSeen homeAt places seen wouldBe isKept lanes lengths cells))) (va_A (mW ad ca blocks trainMany lockMany readBlocks readTrains readLockMany blocksTold omensTold highBlock taped fault broken brokenAt spot here token value bumpAt bumpIn bumpOf waited keptOut visited seenMany drawn torn state locks waits readPage readLocks tape cuts letters place left hasSeen homeAt places seen wouldBe isKept lanes lengths cells) sz)) 0 0 (va_A (mW ad ca blocks trainMany lockMany readBlocks readTrains readLockMany blocksTold omensTold highBlock taped fault broken brokenAt spot here token value bumpAt bumpIn bumpOf waited keptOut visited seenMany drawn torn state locks waits readPage readLocks tape cuts letters place left hasSeen homeAt places seen wouldBe isKept lanes lengths cells) sz) := by
  refine met_of (fun A => (va_Qi (fun (r : Int32) (u : Int32) => Q r u) (wpost D vwCl A (fun (u : Int32) => (mW ad ca blocks trainMany lockMany readBlocks readTrains readLockMany blocksTold omensTold highBlock taped fault broken brokenAt spot here token value bumpAt bumpIn bumpOf waited keptOut visited seenMany u torn state locks waits readPage readLocks tape cuts letters place left hasSeen homeAt places seen wouldBe isKept lanes lengths cells))) A)) (by decide) (Nat.le_of_ble_eq_true rfl) ?_
  intro p e s m args below meth c Z A hZ C H locs hP hD hS ls hl
  have hx := C.1; have hb := C.2.1; have hr := C.2.2.1; have hlocks := C.2.2.2.1; have hml := C.2.2.2.2.1; have hown := C.2.2.2.2.2.1; have hts := C.2.2.2.2.2.2.1; have hn := C.2.2.2.2.2.2.2.1; have hK := C.2.2.2.2.2.2.2.2.1; have hA := C.2.2.2.2.2.2.2.2.2
  have hl : lv_has ls 2 [(0, .ref (ad 0)), (1, .int x1)] := hl
  unfold M_draws at G
  refine lv_aload_n hx hb dX7_draws_0 rfl (lv_at hl 0 rfl) ?_
  refine lv_aload_n hx hb dX7_draws_1 rfl (lv_at hl 0 rfl) ?_
  refine va_get hx hb hts in_X7 hown hK hP 0 rfl rfl 39 (by decide) (hts _ q967) (fun _ h => h) rfl dX7_draws_2 ?_
  refine lv_ldcw hx hb hown (hts _ q1328) dX7_draws_5 ?_
  refine lv_imul hx hb dX7_draws_8 ?_
  refine lv_sipush (v := 12345) hx hb dX7_draws_9 (by decide) ?_
  refine lv_iadd hx hb dX7_draws_12 ?_
  refine va_put hx hb hts in_X7 tyX7 tyX7_ok nmX7 hown hK hP hD hS 0 rfl rfl 39 (by decide) (hts _ q967) (fun _ h => h) rfl (tyX7_ok 39 (by decide)) rfl rfl (Nat.le_of_ble_eq_true rfl) dX7_draws_13 (fun H locs hP hD hS => ?_)
  have hP : va_P D vwCl (mW ad ca blocks trainMany lockMany readBlocks readTrains readLockMany blocksTold omensTold highBlock taped fault broken brokenAt spot here token value bumpAt bumpIn bumpOf waited keptOut visited seenMany ((drawn * (1103515245 : Int32)) + (12345 : Int32)) torn state locks waits readPage readLocks tape cuts letters place left hasSeen homeAt places seen wouldBe isKept lanes lengths cells) H := hP
  have hD : va_D A (mW ad ca blocks trainMany lockMany readBlocks readTrains readLockMany blocksTold omensTold highBlock taped fault broken brokenAt spot here token value bumpAt bumpIn bumpOf waited keptOut visited seenMany ((drawn * (1103515245 : Int32)) + (12345 : Int32)) torn state locks waits readPage readLocks tape cuts letters place left hasSeen homeAt places seen wouldBe isKept lanes lengths cells) := hD
  refine lv_aload_n hx hb dX7_draws_16 rfl (lv_at hl 0 rfl) ?_
  refine va_get hx hb hts in_X7 hown hK hP 0 rfl rfl 39 (by decide) (hts _ q967) (fun _ h => h) rfl dX7_draws_17 ?_
  refine lv_bipush (v := 16) hx hb dX7_draws_20 (by decide) ?_
  refine lv_ishr hx hb dX7_draws_22 ?_
  refine lv_sipush (v := 32767) hx hb dX7_draws_23 (by decide) ?_
  refine lv_iand hx hb dX7_draws_26 ?_
  refine lv_iload_n hx hb dX7_draws_27 rfl (lv_at hl 1 rfl) ?_
  obtain ⟨h_1, G⟩ := G
  refine lv_irem hx hb dX7_draws_28 h_1 ?_
  rw [hZ]
  exact W.iret hx hb hr (fun t ht hW => ⟨⟨(((((drawn * (1103515245 : Int32)) + (12345 : Int32)) >>> ((16 : Int32) &&& 31)) &&& (32767 : Int32)) - (((((drawn * (1103515245 : Int32)) + (12345 : Int32)) >>> ((16 : Int32) &&& 31)) &&& (32767 : Int32)) / x1) * x1), ((drawn * (1103515245 : Int32)) + (12345 : Int32)), rfl, G, by rw [ht]; exact hP, hD⟩, hS.F ht⟩) hS.2.2 dX7_draws_29 hlocks
abbrev rm_M_drift : Room := { frames := 5, cells := 0, slots := 0, locals := 88 }
set_option maxHeartbeats 4000000 in
theorem w_M_drift_L45 {p : Program} {l : Launch} {e : Env} {s : State} {m : MethodId} {args : Array Value} {below : List Frame} {meth : Method} {c : Code} {D : va_G} {ad : Nat → Nat} {ca : Nat → ClassId} {A : Nat → Prop} {Z : State → Prop} (C : cx cX7_drift 8 (some .int) RX7 D vwCl (tyL ca) A p c meth s m args) {blocks : Int32} {trainMany : Int32} {lockMany : Int32} {readBlocks : Int32} {readTrains : Int32} {readLockMany : Int32} {blocksTold : Int32} {omensTold : Int32} {highBlock : Int32} {taped : Int32} {fault : Int32} {broken : Int32} {brokenAt : Int32} {spot : Int32} {here : Int32} {token : Int32} {value : Int32} {seenMany : Int32} {torn : Int32} {locks : Nat → Int32} {waits : Nat → Int32} {readPage : Nat → Int32} {readLocks : Nat → Int32} {tape : Nat → Int32} {cuts : Nat → Int32} {letters : Nat → Int32} {seen : Nat → Int32} {wouldBe : Nat → Int32} {isKept : Nat → Int32} {lanes : Nat → Int32} {lengths : Nat → Int32} {cells : Nat → Int32} {x2 : Int32} {x3 : Int32} {k111 : Int32 → Int32 → Int32 → Int32 → Int32 → Int32 → Int32 → (Nat → Int32) → (Nat → Int32) → (Nat → Int32) → (Nat → Int32) → (Nat → Int32) → (Nat → Int32) → Int32 → Int32 → Prop} (hk111 : ∀ (bumpAt : Int32) (bumpIn : Int32) (bumpOf : Int32) (waited : Int32) (keptOut : Int32) (visited : Int32) (drawn : Int32) (state : Nat → Int32) (place : Nat → Int32) (left : Nat → Int32) (hasSeen : Nat → Int32) (homeAt : Nat → Int32) (places : Nat → Int32) (x4 : Int32) (x5 : Int32), k111 bumpAt bumpIn bumpOf waited keptOut visited drawn state place left hasSeen homeAt places x4 x5 → ∀ (ls : Array Slot) (H : Heap) (locs : List Loc), lv_has ls 8 [(0, .ref (ad 0)), (3, .int x3), (4, .int x4), (5, .int x5)] → va_P D vwCl (mW ad ca blocks trainMany lockMany readBlocks readTrains readLockMany blocksTold omensTold highBlock taped fault broken brokenAt spot here token value bumpAt bumpIn bumpOf waited keptOut visited seenMany drawn torn state locks waits readPage readLocks tape cuts letters place left hasSeen homeAt places seen wouldBe isKept lanes lengths cells) H → va_D A (mW ad ca blocks trainMany lockMany readBlocks readTrains readLockMany blocksTold omensTold highBlock taped fault broken brokenAt spot here token value bumpAt bumpIn bumpOf waited keptOut visited seenMany drawn torn state locks waits readPage readLocks tape cuts letters place left hasSeen homeAt places seen wouldBe isKept lanes lengths cells) → va_S A s.heap H locs → W p l e rm_M_drift s m args below meth c H locs 0 0 Z (F0 m 111 ls [])) : ∀ (n : Nat) (bumpAt : Int32) (bumpIn : Int32) (bumpOf : Int32) (waited : Int32) (keptOut : Int32) (visited : Int32) (drawn : Int32) (state : Nat → Int32) (place : Nat → Int32) (left : Nat → Int32) (hasSeen : Nat → Int32) (homeAt : Nat → Int32) (places : Nat → Int32) (x4 : Int32) (x5 : Int32) (x6 : Int32), M_drift_L45 blocks trainMany lockMany locks waits x2 k111 n bumpAt bumpIn bumpOf waited keptOut visited drawn state place left hasSeen homeAt places x4 x5 x6 → ∀ (ls : Array Slot) (H : Heap) (locs : List Loc), lv_has ls 8 [(0, .ref (ad 0)), (2, .int x2), (3, .int x3), (4, .int x4), (5, .int x5), (6, .int x6)] → va_P D vwCl (mW ad ca blocks trainMany lockMany readBlocks readTrains readLockMany blocksTold omensTold highBlock taped fault broken brokenAt spot here token value bumpAt bumpIn bumpOf waited keptOut visited seenMany drawn torn state locks waits readPage readLocks tape cuts letters place left hasSeen homeAt places seen wouldBe isKept lanes lengths cells) H → va_D A (mW ad ca blocks trainMany lockMany readBlocks readTrains readLockMany blocksTold omensTold highBlock taped fault broken brokenAt spot here token value bumpAt bumpIn bumpOf waited keptOut visited seenMany drawn torn state locks waits readPage readLocks tape cuts letters place left hasSeen homeAt places seen wouldBe isKept lanes lengths cells) → va_S A s.heap H locs → W p l e rm_M_drift s m args below meth c H locs 0 0 Z (F0 m 45 ls []) := by
  have hx := C.1; have hb := C.2.1; have hr := C.2.2.1; have hlocks := C.2.2.2.1; have hml := C.2.2.2.2.1; have hown := C.2.2.2.2.2.1; have hts := C.2.2.2.2.2.2.1; have hn := C.2.2.2.2.2.2.2.1; have hK := C.2.2.2.2.2.2.2.2.1; have hA := C.2.2.2.2.2.2.2.2.2
  intro n
  induction n with
  | zero =>
    intro bumpAt bumpIn bumpOf waited keptOut visited drawn state place left hasSeen homeAt places x4 x5 x6 G
    exact False.elim G
  | succ n ih =>
    intro bumpAt bumpIn bumpOf waited keptOut visited drawn state place left hasSeen homeAt places x4 x5 x6 G ls H locs hl hP hD hS
    unfold M_drift_L45 at G
    have hk45 := ih
    refine lv_iload hx hb dX7_drift_45 (lv_at hl 5 rfl) ?_
    refine lv_iload_n hx hb dX7_drift_47 rfl (lv_at hl 1 rfl) ?_
    refine lv_icmp_ge (tgt := 111) hx hb dX7_drift_48 (by decide) (fun c_7 => ?_) (fun c_7 => ?_)
    · have G := G.1 c_7
      exact hk111 _ _ _ _ _ _ _ _ _ _ _ _ _ _ _ G _ _ _ (lv_sub hl [0, 2, 3, 4] rfl) hP hD hS
    · have G := G.2 c_7
      refine lv_aload_n hx hb dX7_drift_51 rfl (lv_at hl 0 rfl) ?_
      refine lv_aload_n hx hb dX7_drift_52 rfl (lv_at hl 0 rfl) ?_
      refine va_get hx hb hts in_X7 hown hK hP 0 rfl rfl 1 (by decide) (hts _ q929) (fun _ h => h) rfl dX7_drift_53 ?_
      refine wc_Vi (As := [.int blocks]) (rest := []) C (met_M_draws l D ad ca H.size blocks trainMany lockMany readBlocks readTrains readLockMany blocksTold omensTold highBlock taped fault broken brokenAt spot here token value bumpAt bumpIn bumpOf waited keptOut visited seenMany drawn torn state locks waits readPage readLocks tape cuts letters place left hasSeen homeAt places seen wouldBe isKept lanes lengths cells blocks _ G) (cwV 1 hts (lw_V q1324 q1326 qs66 q75 q1327) rfl rfl rfl (by decide +kernel) ⟨Nat.le_of_ble_eq_true rfl, Nat.le_of_ble_eq_true rfl⟩) hP hD hS 0 rfl rfl rfl rfl hl.1 (Nat.le_of_ble_eq_true rfl) dX7_drift_56 ⟨Nat.le_of_ble_eq_true rfl, Nat.le_of_ble_eq_true rfl⟩ (fun r_8 u H locs G hP hD hS => ?_)
      obtain ⟨drawn_9, rfl⟩ : ∃ z, z = u := ⟨u, rfl⟩
      have hP : va_P D vwCl (mW ad ca blocks trainMany lockMany readBlocks readTrains readLockMany blocksTold omensTold highBlock taped fault broken brokenAt spot here token value bumpAt bumpIn bumpOf waited keptOut visited seenMany drawn_9 torn state locks waits readPage readLocks tape cuts letters place left hasSeen homeAt places seen wouldBe isKept lanes lengths cells) H := hP
      have hD : va_D A (mW ad ca blocks trainMany lockMany readBlocks readTrains readLockMany blocksTold omensTold highBlock taped fault broken brokenAt spot here token value bumpAt bumpIn bumpOf waited keptOut visited seenMany drawn_9 torn state locks waits readPage readLocks tape cuts letters place left hasSeen homeAt places seen wouldBe isKept lanes lengths cells) := hD
      refine lv_istore (lv' := [(7, .int r_8), (0, .ref (ad 0)), (2, .int x2), (3, .int x3), (4, .int x4), (5, .int x5), (6, .int x6)]) hx hb dX7_drift_59 hl (by decide) rfl (fun ls hl => ?_)
      refine lv_aload_n hx hb dX7_drift_61 rfl (lv_at hl 1 rfl) ?_
      refine lv_iload hx hb dX7_drift_62 (lv_at hl 0 rfl) ?_
      refine lv_aload_n hx hb dX7_drift_64 rfl (lv_at hl 1 rfl) ?_
      refine lv_iconst (v := 5) hx hb dX7_drift_65 (by decide) ?_
      refine wc_Vi (As := [.int (5 : Int32)]) (rest := [.int r_8, .ref (ad 0)]) C (met_M_draws l D ad ca H.size blocks trainMany lockMany readBlocks readTrains readLockMany blocksTold omensTold highBlock taped fault broken brokenAt spot here token value bumpAt bumpIn bumpOf waited keptOut visited seenMany drawn_9 torn state locks waits readPage readLocks tape cuts letters place left hasSeen homeAt places seen wouldBe isKept lanes lengths cells (5 : Int32) _ G) (cwV 1 hts (lw_V q1324 q1326 qs66 q75 q1327) rfl rfl rfl (by decide +kernel) ⟨Nat.le_of_ble_eq_true rfl, Nat.le_of_ble_eq_true rfl⟩) hP hD hS 0 rfl rfl rfl rfl hl.1 (Nat.le_of_ble_eq_true rfl) dX7_drift_66 ⟨Nat.le_of_ble_eq_true rfl, Nat.le_of_ble_eq_true rfl⟩ (fun r_10 u H locs G hP hD hS => ?_)
      obtain ⟨drawn_11, rfl⟩ : ∃ z, z = u := ⟨u, rfl⟩
      have hP : va_P D vwCl (mW ad ca blocks trainMany lockMany readBlocks readTrains readLockMany blocksTold omensTold highBlock taped fault broken brokenAt spot here token value bumpAt bumpIn bumpOf waited keptOut visited seenMany drawn_11 torn state locks waits readPage readLocks tape cuts letters place left hasSeen homeAt places seen wouldBe isKept lanes lengths cells) H := hP
      have hD : va_D A (mW ad ca blocks trainMany lockMany readBlocks readTrains readLockMany blocksTold omensTold highBlock taped fault broken brokenAt spot here token value bumpAt bumpIn bumpOf waited keptOut visited seenMany drawn_11 torn state locks waits readPage readLocks tape cuts letters place left hasSeen homeAt places seen wouldBe isKept lanes lengths cells) := hD
      refine wc_Vi (As := [.int r_8, .int r_10]) (rest := []) C (met_M_hangs l D ad ca H.size blocks trainMany lockMany readBlocks readTrains readLockMany blocksTold omensTold highBlock taped fault broken brokenAt spot here token value bumpAt bumpIn bumpOf waited keptOut visited seenMany drawn_11 torn state locks waits readPage readLocks tape cuts letters place left hasSeen homeAt places seen wouldBe isKept lanes lengths cells r_8 r_10 _ G) (cwV 2 hts (lw_V q1177 q1179 qs51 q75 q1180) rfl rfl rfl (by decide +kernel) ⟨Nat.le_of_ble_eq_true rfl, Nat.le_of_ble_eq_true rfl⟩) hP hD hS 0 rfl rfl rfl rfl hl.1 (Nat.le_of_ble_eq_true rfl) dX7_drift_69 ⟨Nat.le_of_ble_eq_true rfl, Nat.le_of_ble_eq_true rfl⟩ (fun r_12 u H locs G hP hD hS => ?_)
      obtain ⟨state_13, rfl⟩ : ∃ z, z = u := ⟨u, rfl⟩
      have hP : va_P D vwCl (mW ad ca blocks trainMany lockMany readBlocks readTrains readLockMany blocksTold omensTold highBlock taped fault broken brokenAt spot here token value bumpAt bumpIn bumpOf waited keptOut visited seenMany drawn_11 torn state_13 locks waits readPage readLocks tape cuts letters place left hasSeen homeAt places seen wouldBe isKept lanes lengths cells) H := hP
      have hD : va_D A (mW ad ca blocks trainMany lockMany readBlocks readTrains readLockMany blocksTold omensTold highBlock taped fault broken brokenAt spot here token value bumpAt bumpIn bumpOf waited keptOut visited seenMany drawn_11 torn state_13 locks waits readPage readLocks tape cuts letters place left hasSeen homeAt places seen wouldBe isKept lanes lengths cells) := hD
      refine lv_pop hx hb dX7_drift_72 rfl ?_
      refine lv_aload_n hx hb dX7_drift_73 rfl (lv_at hl 1 rfl) ?_
      refine wc_Vv (As := []) (rest := []) C (met_M_run l D ad ca H.size blocks trainMany lockMany readBlocks readTrains readLockMany blocksTold omensTold highBlock taped fault broken brokenAt spot here token value bumpAt bumpIn bumpOf waited keptOut visited seenMany drawn_11 torn state_13 locks waits readPage readLocks tape cuts letters place left hasSeen homeAt places seen wouldBe isKept lanes lengths cells _ G) (cwV 0 hts (lw_V q1194 q1196 qs52 q75 q1197) rfl rfl rfl (by decide +kernel) ⟨Nat.le_of_ble_eq_true rfl, Nat.le_of_ble_eq_true rfl⟩) hP hD hS 0 rfl rfl rfl rfl hl.1 (Nat.le_of_ble_eq_true rfl) dX7_drift_74 ⟨Nat.le_of_ble_eq_true rfl, Nat.le_of_ble_eq_true rfl⟩ (fun u H locs G hP hD hS => ?_)
      obtain ⟨bumpAt_15, bumpIn_16, bumpOf_17, waited_18, keptOut_19, visited_20, place_21, left_22, hasSeen_23, homeAt_24, places_25⟩ := u
      have hP : va_P D vwCl (mW ad ca blocks trainMany lockMany readBlocks readTrains readLockMany blocksTold omensTold highBlock taped fault broken brokenAt spot here token value bumpAt_15 bumpIn_16 bumpOf_17 waited_18 keptOut_19 visited_20 seenMany drawn_11 torn state_13 locks waits readPage readLocks tape cuts letters place_21 left_22 hasSeen_23 homeAt_24 places_25 seen wouldBe isKept lanes lengths cells) H := hP
      have hD : va_D A (mW ad ca blocks trainMany lockMany readBlocks readTrains readLockMany blocksTold omensTold highBlock taped fault broken brokenAt spot here token value bumpAt_15 bumpIn_16 bumpOf_17 waited_18 keptOut_19 visited_20 seenMany drawn_11 torn state_13 locks waits readPage readLocks tape cuts letters place_21 left_22 hasSeen_23 homeAt_24 places_25 seen wouldBe isKept lanes lengths cells) := hD
      refine lv_iload hx hb dX7_drift_77 (lv_at hl 4 rfl) ?_
      refine lv_aload_n hx hb dX7_drift_79 rfl (lv_at hl 1 rfl) ?_
      refine va_get hx hb hts in_X7 hown hK hP 0 rfl rfl 30 (by decide) (hts _ q958) (fun _ h => h) rfl dX7_drift_80 ?_
      refine lv_bipush (v := -4) hx hb dX7_drift_83 (by decide) ?_
      have hJ : ∀ (H : Heap) (locs : List Loc), va_P D vwCl (mW ad ca blocks trainMany lockMany readBlocks readTrains readLockMany blocksTold omensTold highBlock taped fault broken brokenAt spot here token value bumpAt_15 bumpIn_16 bumpOf_17 waited_18 keptOut_19 visited_20 seenMany drawn_11 torn state_13 locks waits readPage readLocks tape cuts letters place_21 left_22 hasSeen_23 homeAt_24 places_25 seen wouldBe isKept lanes lengths cells) H → va_D A (mW ad ca blocks trainMany lockMany readBlocks readTrains readLockMany blocksTold omensTold highBlock taped fault broken brokenAt spot here token value bumpAt_15 bumpIn_16 bumpOf_17 waited_18 keptOut_19 visited_20 seenMany drawn_11 torn state_13 locks waits readPage readLocks tape cuts letters place_21 left_22 hasSeen_23 homeAt_24 places_25 seen wouldBe isKept lanes lengths cells) → va_S A s.heap H locs → ∀ v_28 : Int32, v_28 = (if bumpAt_15 = (-4 : Int32) then (0 : Int32) else (1 : Int32)) → W p l e rm_M_drift s m args below meth c H locs 0 0 Z (F0 m 93 ls (.int v_28 :: [.int x4])) := by
        intro H locs hP hD hS v_28 hv
        subst hv
        refine lv_iadd hx hb dX7_drift_93 ?_
        refine lv_istore (lv' := [(4, .int (x4 + (if bumpAt_15 = (-4 : Int32) then (0 : Int32) else (1 : Int32)))), (7, .int r_8), (0, .ref (ad 0)), (2, .int x2), (3, .int x3), (5, .int x5), (6, .int x6)]) hx hb dX7_drift_94 hl (by decide) rfl (fun ls hl => ?_)
        refine lv_iload hx hb dX7_drift_96 (lv_at hl 5 rfl) ?_
        refine lv_aload_n hx hb dX7_drift_98 rfl (lv_at hl 2 rfl) ?_
        refine wc_Vik (As := []) (rest := [.int x5]) C (met_M_cost l D ad ca H.size blocks trainMany lockMany readBlocks readTrains readLockMany blocksTold omensTold highBlock taped fault broken brokenAt spot here token value bumpAt_15 bumpIn_16 bumpOf_17 waited_18 keptOut_19 visited_20 seenMany drawn_11 torn state_13 locks waits readPage readLocks tape cuts letters place_21 left_22 hasSeen_23 homeAt_24 places_25 seen wouldBe isKept lanes lengths cells _ G) (cwV 0 hts (lw_V q1227 q1229 qs57 q75 q1230) rfl rfl rfl (by decide +kernel) ⟨Nat.le_of_ble_eq_true rfl, Nat.le_of_ble_eq_true rfl⟩) hP hD hS (List.range _) (wc_self _) (wc_nd _) 0 rfl rfl rfl rfl hl.1 (Nat.le_of_ble_eq_true rfl) dX7_drift_99 ⟨Nat.le_of_ble_eq_true rfl, Nat.le_of_ble_eq_true rfl⟩ (fun r_27 u H locs G hP hD hS => ?_)
        refine lv_iadd hx hb dX7_drift_102 ?_
        refine lv_istore (lv' := [(5, .int (x5 + r_27)), (4, .int (x4 + (if bumpAt_15 = (-4 : Int32) then (0 : Int32) else (1 : Int32)))), (7, .int r_8), (0, .ref (ad 0)), (2, .int x2), (3, .int x3), (6, .int x6)]) hx hb dX7_drift_103 hl (by decide) rfl (fun ls hl => ?_)
        refine lv_iinc (v := (x6 + (1 : Int32))) (lv' := [(6, .int (x6 + (1 : Int32))), (5, .int (x5 + r_27)), (4, .int (x4 + (if bumpAt_15 = (-4 : Int32) then (0 : Int32) else (1 : Int32)))), (7, .int r_8), (0, .ref (ad 0)), (2, .int x2), (3, .int x3)]) hx hb dX7_drift_105 hl (k := 6) rfl rfl (by decide) rfl (fun ls hl => ?_)
        refine lv_goto (tgt := 45) hx hb dX7_drift_108 (by decide) ?_
        exact hk45 _ _ _ _ _ _ _ _ _ _ _ _ _ _ _ _ G _ _ _ (lv_sub hl [4, 5, 6, 2, 1, 0] rfl) hP hD hS
      refine lv_icmp_eq (tgt := 92) hx hb dX7_drift_85 (by decide) (fun c_26 => ?_) (fun c_26 => ?_)
      · refine lv_iconst (v := 0) hx hb dX7_drift_92 (by decide) ?_
        exact hJ _ _ hP hD hS _ (eT c_26 rfl)
      · refine lv_iconst (v := 1) hx hb dX7_drift_88 (by decide) ?_
        refine lv_goto (tgt := 93) hx hb dX7_drift_89 (by decide) ?_
        exact hJ _ _ hP hD hS _ (eF c_26 rfl)
set_option maxHeartbeats 4000000 in
theorem met_M_drift (l : Launch) (D : va_G) (ad : Nat → Nat) (ca : Nat → ClassId) (sz : Nat) (blocks : Int32) (trainMany : Int32) (lockMany : Int32) (readBlocks : Int32) (readTrains : Int32) (readLockMany : Int32) (blocksTold : Int32) (omensTold : Int32) (highBlock : Int32) (taped : Int32) (fault : Int32) (broken : Int32) (brokenAt : Int32) (spot : Int32) (here : Int32) (token : Int32) (value : Int32) (bumpAt : Int32) (bumpIn : Int32) (bumpOf : Int32) (waited : Int32) (keptOut : Int32) (visited : Int32) (seenMany : Int32) (drawn : Int32) (torn : Int32) (state : Nat → Int32) (locks : Nat → Int32) (waits : Nat → Int32) (readPage : Nat → Int32) (readLocks : Nat → Int32) (tape : Nat → Int32) (cuts : Nat → Int32) (letters : Nat → Int32) (place : Nat → Int32) (left : Nat → Int32) (hasSeen : Nat → Int32) (homeAt : Nat → Int32) (places : Nat → Int32) (seen : Nat → Int32) (wouldBe : Nat → Int32) (isKept : Nat → Int32) (lanes : Nat → Int32) (lengths : Nat → Int32) (cells : Nat → Int32) (x1 : Int32) (x2 : Int32) (x3 : Int32) (Q : Int32 → Int32 → Int32 → Int32 → Int32 → Int32 → Int32 → Int32 → (Nat → Int32) → (Nat → Int32) → (Nat → Int32) → (Nat → Int32) → (Nat → Int32) → (Nat → Int32) → Prop) (G : M_drift blocks trainMany lockMany bumpAt bumpIn bumpOf waited keptOut visited drawn state locks waits place left hasSeen homeAt places x1 x2 x3 Q) : Met l yX7_drift (ws_ yX7_drift cX7_drift 8 (some .int)) rm_M_drift (va_Pc [.ref (ad 0), .int x1, .int x2, .int x3] (wpre D vwCl (tyL ca) (mW ad ca blocks trainMany lockMany readBlocks readTrains readLockMany blocksTold omensTold highBlock taped fault broken brokenAt spot here token value bumpAt bumpIn bumpOf waited keptOut visited seenMany drawn torn state locks waits readPage readLocks tape cuts letters place left hasSeen homeAt places seen wouldBe isKept lanes lengths cells) sz)) (va_Qi (fun (r : Int32) (u : Int32 × Int32 × Int32 × Int32 × Int32 × Int32 × Int32 × (Nat → Int32) × (Nat → Int32) × (Nat → Int32) × (Nat → Int32) × (Nat → Int32) × (Nat → Int32)) => Q r u.1 u.2.1 u.2.2.1 u.2.2.2.1 u.2.2.2.2.1 u.2.2.2.2.2.1 u.2.2.2.2.2.2.1 u.2.2.2.2.2.2.2.1 u.2.2.2.2.2.2.2.2.1 u.2.2.2.2.2.2.2.2.2.1 u.2.2.2.2.2.2.2.2.2.2.1 u.2.2.2.2.2.2.2.2.2.2.2.1 u.2.2.2.2.2.2.2.2.2.2.2.2) (wpost D vwCl (va_A (mW ad ca blocks trainMany lockMany readBlocks readTrains readLockMany blocksTold omensTold highBlock taped fault broken brokenAt spot here token value bumpAt bumpIn bumpOf waited keptOut visited seenMany drawn torn state locks waits readPage readLocks tape cuts letters place left hasSeen homeAt places seen wouldBe isKept lanes lengths cells) sz) (fun (u : Int32 × Int32 × Int32 × Int32 × Int32 × Int32 × Int32 × (Nat → Int32) × (Nat → Int32) × (Nat → Int32) × (Nat → Int32) × (Nat → Int32) × (Nat → Int32)) => (mW ad ca blocks trainMany lockMany readBlocks readTrains readLockMany blocksTold omensTold highBlock taped fault broken brokenAt spot here token value u.1 u.2.1 u.2.2.1 u.2.2.2.1 u.2.2.2.2.1 u.2.2.2.2.2.1 seenMany u.2.2.2.2.2.2.1 torn u.2.2.2.2.2.2.2.1 locks waits readPage readLocks tape cuts letters u.2.2.2.2.2.2.2.2.1 u.2.2.2.2.2.2.2.2.2.1 u.2.2.2.2.2.2.2.2.2.2.1 u.2.2.2.2.2.2.2.2.2.2.2.1 u.2.2.2.2.2.2.2.2.2.2.2.2 seen wouldBe isKept lanes lengths cells))) (va_A (mW ad ca blocks trainMany lockMany readBlocks readTrains readLockMany blocksTold omensTold highBlock taped fault broken brokenAt spot here token value bumpAt bumpIn bumpOf waited keptOut visited seenMany drawn torn state locks waits readPage readLocks tape cuts letters place left hasSeen homeAt places seen wouldBe isKept lanes lengths cells) sz)) 0 0 (va_A (mW ad ca blocks trainMany lockMany readBlocks readTrains readLockMany blocksTold omensTold highBlock taped fault broken brokenAt spot here token value bumpAt bumpIn bumpOf waited keptOut visited seenMany drawn torn state locks waits readPage readLocks tape cuts letters place left hasSeen homeAt places seen wouldBe isKept lanes lengths cells) sz) := by
  refine met_of (fun A => (va_Qi (fun (r : Int32) (u : Int32 × Int32 × Int32 × Int32 × Int32 × Int32 × Int32 × (Nat → Int32) × (Nat → Int32) × (Nat → Int32) × (Nat → Int32) × (Nat → Int32) × (Nat → Int32)) => Q r u.1 u.2.1 u.2.2.1 u.2.2.2.1 u.2.2.2.2.1 u.2.2.2.2.2.1 u.2.2.2.2.2.2.1 u.2.2.2.2.2.2.2.1 u.2.2.2.2.2.2.2.2.1 u.2.2.2.2.2.2.2.2.2.1 u.2.2.2.2.2.2.2.2.2.2.1 u.2.2.2.2.2.2.2.2.2.2.2.1 u.2.2.2.2.2.2.2.2.2.2.2.2) (wpost D vwCl A (fun (u : Int32 × Int32 × Int32 × Int32 × Int32 × Int32 × Int32 × (Nat → Int32) × (Nat → Int32) × (Nat → Int32) × (Nat → Int32) × (Nat → Int32) × (Nat → Int32)) => (mW ad ca blocks trainMany lockMany readBlocks readTrains readLockMany blocksTold omensTold highBlock taped fault broken brokenAt spot here token value u.1 u.2.1 u.2.2.1 u.2.2.2.1 u.2.2.2.2.1 u.2.2.2.2.2.1 seenMany u.2.2.2.2.2.2.1 torn u.2.2.2.2.2.2.2.1 locks waits readPage readLocks tape cuts letters u.2.2.2.2.2.2.2.2.1 u.2.2.2.2.2.2.2.2.2.1 u.2.2.2.2.2.2.2.2.2.2.1 u.2.2.2.2.2.2.2.2.2.2.2.1 u.2.2.2.2.2.2.2.2.2.2.2.2 seen wouldBe isKept lanes lengths cells))) A)) (by decide) (Nat.le_of_ble_eq_true rfl) ?_
  intro p e s m args below meth c Z A hZ C H locs hP hD hS ls hl
  have hx := C.1; have hb := C.2.1; have hr := C.2.2.1; have hlocks := C.2.2.2.1; have hml := C.2.2.2.2.1; have hown := C.2.2.2.2.2.1; have hts := C.2.2.2.2.2.2.1; have hn := C.2.2.2.2.2.2.2.1; have hK := C.2.2.2.2.2.2.2.2.1; have hA := C.2.2.2.2.2.2.2.2.2
  have hl : lv_has ls 8 [(0, .ref (ad 0)), (1, .int x1), (2, .int x2), (3, .int x3)] := hl
  unfold M_drift at G
  refine lv_iload_n hx hb dX7_drift_0 rfl (lv_at hl 2 rfl) ?_
  refine lv_i2l hx hb dX7_drift_1 rfl ?_
  refine lv_lconst (v := 1) hx hb dX7_drift_2 (by decide) ?_
  refine lv_ldc2 hx hb hown (hts _ q1323) dX7_drift_3 ?_
  refine wc_Sik (As := [.long ((x2).toInt64), .long (1 : Int64), .long (20 : Int64)]) (rest := []) C (met_M_in l D ca H.size ((x2).toInt64) (1 : Int64) (20 : Int64)) (va_cwS 3 hts (lw_S q1069 q1070 q75 q1071) rfl rfl rfl (by decide +kernel) ⟨Nat.le_of_ble_eq_true rfl, Nat.le_of_ble_eq_true rfl⟩) hP hD hS [] rfl (by decide) rfl rfl hl.1 (Nat.le_of_ble_eq_true rfl) dX7_drift_6 ⟨Nat.le_of_ble_eq_true rfl, Nat.le_of_ble_eq_true rfl⟩ (fun r_1 u H locs hr hP hD hS => ?_)
  subst hr
  refine lv_if_eq (tgt := 22) hx hb dX7_drift_9 (by decide) (fun c_2 => ?_) (fun c_2 => ?_)
  · have G := G.1 c_2
    refine lv_iconst (v := -1) hx hb dX7_drift_22 (by decide) ?_
    rw [hZ]
    exact W.iret hx hb hr (fun t ht hW => ⟨⟨(-1 : Int32), (bumpAt, bumpIn, bumpOf, waited, keptOut, visited, drawn, state, place, left, hasSeen, homeAt, places), rfl, G, by rw [ht]; exact hP, hD⟩, hS.F ht⟩) hS.2.2 dX7_drift_23 hlocks
  · have G := G.2 c_2
    refine lv_iload_n hx hb dX7_drift_12 rfl (lv_at hl 3 rfl) ?_
    refine lv_i2l hx hb dX7_drift_13 rfl ?_
    refine lv_lconst (v := 0) hx hb dX7_drift_14 (by decide) ?_
    refine lv_lconst (v := 1) hx hb dX7_drift_15 (by decide) ?_
    refine wc_Sik (As := [.long ((x3).toInt64), .long (0 : Int64), .long (1 : Int64)]) (rest := []) C (met_M_in l D ca H.size ((x3).toInt64) (0 : Int64) (1 : Int64)) (va_cwS 3 hts (lw_S q1069 q1070 q75 q1071) rfl rfl rfl (by decide +kernel) ⟨Nat.le_of_ble_eq_true rfl, Nat.le_of_ble_eq_true rfl⟩) hP hD hS [] rfl (by decide) rfl rfl hl.1 (Nat.le_of_ble_eq_true rfl) dX7_drift_16 ⟨Nat.le_of_ble_eq_true rfl, Nat.le_of_ble_eq_true rfl⟩ (fun r_3 u H locs hr hP hD hS => ?_)
    subst hr
    refine lv_if_ne (tgt := 24) hx hb dX7_drift_19 (by decide) (fun c_4 => ?_) (fun c_4 => ?_)
    · have G := G.2 c_4
      refine lv_iconst (v := 0) hx hb dX7_drift_24 (by decide) ?_
      refine lv_istore (lv' := [(4, .int (0 : Int32)), (0, .ref (ad 0)), (1, .int x1), (2, .int x2), (3, .int x3)]) hx hb dX7_drift_25 hl (by decide) rfl (fun ls hl => ?_)
      refine lv_iconst (v := 0) hx hb dX7_drift_27 (by decide) ?_
      refine lv_istore (lv' := [(5, .int (0 : Int32)), (4, .int (0 : Int32)), (0, .ref (ad 0)), (1, .int x1), (2, .int x2), (3, .int x3)]) hx hb dX7_drift_28 hl (by decide) rfl (fun ls hl => ?_)
      refine lv_aload_n hx hb dX7_drift_30 rfl (lv_at hl 2 rfl) ?_
      refine lv_iconst (v := 0) hx hb dX7_drift_31 (by decide) ?_
      refine lv_bipush (v := 100) hx hb dX7_drift_32 (by decide) ?_
      refine wc_Vv (As := [.int (0 : Int32), .int (100 : Int32)]) (rest := []) C (met_M_copies l D ad ca H.size blocks trainMany lockMany readBlocks readTrains readLockMany blocksTold omensTold highBlock taped fault broken brokenAt spot here token value bumpAt bumpIn bumpOf waited keptOut visited seenMany drawn torn state locks waits readPage readLocks tape cuts letters place left hasSeen homeAt places seen wouldBe isKept lanes lengths cells (0 : Int32) (100 : Int32) _ G) (cwV 2 hts (lw_V q1255 q1257 qs60 q75 q1258) rfl rfl rfl (by decide +kernel) ⟨Nat.le_of_ble_eq_true rfl, Nat.le_of_ble_eq_true rfl⟩) hP hD hS 0 rfl rfl rfl rfl hl.1 (Nat.le_of_ble_eq_true rfl) dX7_drift_34 ⟨Nat.le_of_ble_eq_true rfl, Nat.le_of_ble_eq_true rfl⟩ (fun u H locs G hP hD hS => ?_)
      obtain ⟨state_6, rfl⟩ : ∃ z, z = u := ⟨u, rfl⟩
      have hP : va_P D vwCl (mW ad ca blocks trainMany lockMany readBlocks readTrains readLockMany blocksTold omensTold highBlock taped fault broken brokenAt spot here token value bumpAt bumpIn bumpOf waited keptOut visited seenMany drawn torn state_6 locks waits readPage readLocks tape cuts letters place left hasSeen homeAt places seen wouldBe isKept lanes lengths cells) H := hP
      have hD : va_D A (mW ad ca blocks trainMany lockMany readBlocks readTrains readLockMany blocksTold omensTold highBlock taped fault broken brokenAt spot here token value bumpAt bumpIn bumpOf waited keptOut visited seenMany drawn torn state_6 locks waits readPage readLocks tape cuts letters place left hasSeen homeAt places seen wouldBe isKept lanes lengths cells) := hD
      refine lv_aload_n hx hb dX7_drift_37 rfl (lv_at hl 2 rfl) ?_
      refine lv_iload_n hx hb dX7_drift_38 rfl (lv_at hl 3 rfl) ?_
      refine va_put hx hb hts in_X7 tyX7 tyX7_ok nmX7 hown hK hP hD hS 0 rfl rfl 39 (by decide) (hts _ q967) (fun _ h => h) rfl (tyX7_ok 39 (by decide)) rfl rfl (Nat.le_of_ble_eq_true rfl) dX7_drift_39 (fun H locs hP hD hS => ?_)
      have hP : va_P D vwCl (mW ad ca blocks trainMany lockMany readBlocks readTrains readLockMany blocksTold omensTold highBlock taped fault broken brokenAt spot here token value bumpAt bumpIn bumpOf waited keptOut visited seenMany x1 torn state_6 locks waits readPage readLocks tape cuts letters place left hasSeen homeAt places seen wouldBe isKept lanes lengths cells) H := hP
      have hD : va_D A (mW ad ca blocks trainMany lockMany readBlocks readTrains readLockMany blocksTold omensTold highBlock taped fault broken brokenAt spot here token value bumpAt bumpIn bumpOf waited keptOut visited seenMany x1 torn state_6 locks waits readPage readLocks tape cuts letters place left hasSeen homeAt places seen wouldBe isKept lanes lengths cells) := hD
      refine lv_iconst (v := 0) hx hb dX7_drift_42 (by decide) ?_
      refine lv_istore (lv' := [(6, .int (0 : Int32)), (5, .int (0 : Int32)), (4, .int (0 : Int32)), (0, .ref (ad 0)), (1, .int x1), (2, .int x2), (3, .int x3)]) hx hb dX7_drift_43 hl (by decide) rfl (fun ls hl => ?_)
      obtain ⟨n_29, G⟩ := G
      refine w_M_drift_L45 C (fun bumpAt_30 bumpIn_31 bumpOf_32 waited_33 keptOut_34 visited_35 drawn_36 state_37 place_38 left_39 hasSeen_40 homeAt_41 places_42 x4_43 x5_44 G ls H locs hl hP hD hS => ?_) n_29 _ _ _ _ _ _ _ _ _ _ _ _ _ _ _ _ G _ _ _ (lv_sub hl [3, 5, 6, 2, 1, 0] rfl) hP hD hS
      refine lv_aload_n hx hb dX7_drift_111 rfl (lv_at hl 0 rfl) ?_
      refine lv_bipush (v := 100) hx hb dX7_drift_112 (by decide) ?_
      refine lv_iconst (v := 0) hx hb dX7_drift_114 (by decide) ?_
      refine wc_Vv (As := [.int (100 : Int32), .int (0 : Int32)]) (rest := []) C (met_M_copies l D ad ca H.size blocks trainMany lockMany readBlocks readTrains readLockMany blocksTold omensTold highBlock taped fault broken brokenAt spot here token value bumpAt_30 bumpIn_31 bumpOf_32 waited_33 keptOut_34 visited_35 seenMany drawn_36 torn state_37 locks waits readPage readLocks tape cuts letters place_38 left_39 hasSeen_40 homeAt_41 places_42 seen wouldBe isKept lanes lengths cells (100 : Int32) (0 : Int32) _ G) (cwV 2 hts (lw_V q1255 q1257 qs60 q75 q1258) rfl rfl rfl (by decide +kernel) ⟨Nat.le_of_ble_eq_true rfl, Nat.le_of_ble_eq_true rfl⟩) hP hD hS 0 rfl rfl rfl rfl hl.1 (Nat.le_of_ble_eq_true rfl) dX7_drift_115 ⟨Nat.le_of_ble_eq_true rfl, Nat.le_of_ble_eq_true rfl⟩ (fun u H locs G hP hD hS => ?_)
      obtain ⟨state_46, rfl⟩ : ∃ z, z = u := ⟨u, rfl⟩
      have hP : va_P D vwCl (mW ad ca blocks trainMany lockMany readBlocks readTrains readLockMany blocksTold omensTold highBlock taped fault broken brokenAt spot here token value bumpAt_30 bumpIn_31 bumpOf_32 waited_33 keptOut_34 visited_35 seenMany drawn_36 torn state_46 locks waits readPage readLocks tape cuts letters place_38 left_39 hasSeen_40 homeAt_41 places_42 seen wouldBe isKept lanes lengths cells) H := hP
      have hD : va_D A (mW ad ca blocks trainMany lockMany readBlocks readTrains readLockMany blocksTold omensTold highBlock taped fault broken brokenAt spot here token value bumpAt_30 bumpIn_31 bumpOf_32 waited_33 keptOut_34 visited_35 seenMany drawn_36 torn state_46 locks waits readPage readLocks tape cuts letters place_38 left_39 hasSeen_40 homeAt_41 places_42 seen wouldBe isKept lanes lengths cells) := hD
      refine lv_iload_n hx hb dX7_drift_118 rfl (lv_at hl 1 rfl) ?_
      have hJ : ∀ (H : Heap) (locs : List Loc), va_P D vwCl (mW ad ca blocks trainMany lockMany readBlocks readTrains readLockMany blocksTold omensTold highBlock taped fault broken brokenAt spot here token value bumpAt_30 bumpIn_31 bumpOf_32 waited_33 keptOut_34 visited_35 seenMany drawn_36 torn state_46 locks waits readPage readLocks tape cuts letters place_38 left_39 hasSeen_40 homeAt_41 places_42 seen wouldBe isKept lanes lengths cells) H → va_D A (mW ad ca blocks trainMany lockMany readBlocks readTrains readLockMany blocksTold omensTold highBlock taped fault broken brokenAt spot here token value bumpAt_30 bumpIn_31 bumpOf_32 waited_33 keptOut_34 visited_35 seenMany drawn_36 torn state_46 locks waits readPage readLocks tape cuts letters place_38 left_39 hasSeen_40 homeAt_41 places_42 seen wouldBe isKept lanes lengths cells) → va_S A s.heap H locs → ∀ v_48 : Int32, v_48 = (if x3 = 0 then x4_43 else x5_44) → W p l e rm_M_drift s m args below meth c H locs 0 0 Z (F0 m 129 ls (.int v_48 :: [])) := by
        intro H locs hP hD hS v_48 hv
        subst hv
        rw [hZ]
        exact W.iret hx hb hr (fun t ht hW => ⟨⟨(if x3 = 0 then x4_43 else x5_44), (bumpAt_30, bumpIn_31, bumpOf_32, waited_33, keptOut_34, visited_35, drawn_36, state_46, place_38, left_39, hasSeen_40, homeAt_41, places_42), rfl, G, by rw [ht]; exact hP, hD⟩, hS.F ht⟩) hS.2.2 dX7_drift_129 hlocks
      refine lv_if_ne (tgt := 127) hx hb dX7_drift_119 (by decide) (fun c_47 => ?_) (fun c_47 => ?_)
      · refine lv_iload hx hb dX7_drift_127 (lv_at hl 3 rfl) ?_
        exact hJ _ _ hP hD hS _ (eF c_47 rfl)
      · refine lv_iload hx hb dX7_drift_122 (lv_at hl 2 rfl) ?_
        refine lv_goto (tgt := 129) hx hb dX7_drift_124 (by decide) ?_
        exact hJ _ _ hP hD hS _ (eT c_47 rfl)
    · have G := G.1 c_4
      refine lv_iconst (v := -1) hx hb dX7_drift_22 (by decide) ?_
      rw [hZ]
      exact W.iret hx hb hr (fun t ht hW => ⟨⟨(-1 : Int32), (bumpAt, bumpIn, bumpOf, waited, keptOut, visited, drawn, state, place, left, hasSeen, homeAt, places), rfl, G, by rw [ht]; exact hP, hD⟩, hS.F ht⟩) hS.2.2 dX7_drift_23 hlocks
abbrev rm_M_keep : Room := { frames := 2, cells := 0, slots := 0, locals := 25 }
set_option maxHeartbeats 4000000 in
theorem met_M_keep (l : Launch) (D : va_G) (ad : Nat → Nat) (ca : Nat → ClassId) (sz : Nat) (blocks : Int32) (trainMany : Int32) (lockMany : Int32) (readBlocks : Int32) (readTrains : Int32) (readLockMany : Int32) (blocksTold : Int32) (omensTold : Int32) (highBlock : Int32) (taped : Int32) (fault : Int32) (broken : Int32) (brokenAt : Int32) (spot : Int32) (here : Int32) (token : Int32) (value : Int32) (bumpAt : Int32) (bumpIn : Int32) (bumpOf : Int32) (waited : Int32) (keptOut : Int32) (visited : Int32) (seenMany : Int32) (drawn : Int32) (torn : Int32) (state : Nat → Int32) (locks : Nat → Int32) (waits : Nat → Int32) (readPage : Nat → Int32) (readLocks : Nat → Int32) (tape : Nat → Int32) (cuts : Nat → Int32) (letters : Nat → Int32) (place : Nat → Int32) (left : Nat → Int32) (hasSeen : Nat → Int32) (homeAt : Nat → Int32) (places : Nat → Int32) (seen : Nat → Int32) (wouldBe : Nat → Int32) (isKept : Nat → Int32) (lanes : Nat → Int32) (lengths : Nat → Int32) (cells : Nat → Int32) (x1 : Int32) (Q : Int32 → (Nat → Int32) → (Nat → Int32) → Prop) (G : M_keep state isKept x1 Q) : Met l yX7_keep (ws_ yX7_keep cX7_keep 3 (some .int)) rm_M_keep (va_Pc [.ref (ad 0), .int x1] (wpre D vwCl (tyL ca) (mW ad ca blocks trainMany lockMany readBlocks readTrains readLockMany blocksTold omensTold highBlock taped fault broken brokenAt spot here token value bumpAt bumpIn bumpOf waited keptOut visited seenMany drawn torn state locks waits readPage readLocks tape cuts letters place left hasSeen homeAt places seen wouldBe isKept lanes lengths cells) sz)) (va_Qi (fun (r : Int32) (u : (Nat → Int32) × (Nat → Int32)) => Q r u.1 u.2) (wpost D vwCl (va_A (mW ad ca blocks trainMany lockMany readBlocks readTrains readLockMany blocksTold omensTold highBlock taped fault broken brokenAt spot here token value bumpAt bumpIn bumpOf waited keptOut visited seenMany drawn torn state locks waits readPage readLocks tape cuts letters place left hasSeen homeAt places seen wouldBe isKept lanes lengths cells) sz) (fun (u : (Nat → Int32) × (Nat → Int32)) => (mW ad ca blocks trainMany lockMany readBlocks readTrains readLockMany blocksTold omensTold highBlock taped fault broken brokenAt spot here token value bumpAt bumpIn bumpOf waited keptOut visited seenMany drawn torn u.1 locks waits readPage readLocks tape cuts letters place left hasSeen homeAt places seen wouldBe u.2 lanes lengths cells))) (va_A (mW ad ca blocks trainMany lockMany readBlocks readTrains readLockMany blocksTold omensTold highBlock taped fault broken brokenAt spot here token value bumpAt bumpIn bumpOf waited keptOut visited seenMany drawn torn state locks waits readPage readLocks tape cuts letters place left hasSeen homeAt places seen wouldBe isKept lanes lengths cells) sz)) 0 0 (va_A (mW ad ca blocks trainMany lockMany readBlocks readTrains readLockMany blocksTold omensTold highBlock taped fault broken brokenAt spot here token value bumpAt bumpIn bumpOf waited keptOut visited seenMany drawn torn state locks waits readPage readLocks tape cuts letters place left hasSeen homeAt places seen wouldBe isKept lanes lengths cells) sz) := by
  refine met_of (fun A => (va_Qi (fun (r : Int32) (u : (Nat → Int32) × (Nat → Int32)) => Q r u.1 u.2) (wpost D vwCl A (fun (u : (Nat → Int32) × (Nat → Int32)) => (mW ad ca blocks trainMany lockMany readBlocks readTrains readLockMany blocksTold omensTold highBlock taped fault broken brokenAt spot here token value bumpAt bumpIn bumpOf waited keptOut visited seenMany drawn torn u.1 locks waits readPage readLocks tape cuts letters place left hasSeen homeAt places seen wouldBe u.2 lanes lengths cells))) A)) (by decide) (Nat.le_of_ble_eq_true rfl) ?_
  intro p e s m args below meth c Z A hZ C H locs hP hD hS ls hl
  have hx := C.1; have hb := C.2.1; have hr := C.2.2.1; have hlocks := C.2.2.2.1; have hml := C.2.2.2.2.1; have hown := C.2.2.2.2.2.1; have hts := C.2.2.2.2.2.2.1; have hn := C.2.2.2.2.2.2.2.1; have hK := C.2.2.2.2.2.2.2.2.1; have hA := C.2.2.2.2.2.2.2.2.2
  have hl : lv_has ls 3 [(0, .ref (ad 0)), (1, .int x1)] := hl
  unfold M_keep at G
  refine lv_iload_n hx hb dX7_keep_0 rfl (lv_at hl 1 rfl) ?_
  refine lv_i2l hx hb dX7_keep_1 rfl ?_
  refine lv_lconst (v := 0) hx hb dX7_keep_2 (by decide) ?_
  refine lv_lconst (v := 1) hx hb dX7_keep_3 (by decide) ?_
  refine wc_Sik (As := [.long ((x1).toInt64), .long (0 : Int64), .long (1 : Int64)]) (rest := []) C (met_M_in l D ca H.size ((x1).toInt64) (0 : Int64) (1 : Int64)) (va_cwS 3 hts (lw_S q1069 q1070 q75 q1071) rfl rfl rfl (by decide +kernel) ⟨Nat.le_of_ble_eq_true rfl, Nat.le_of_ble_eq_true rfl⟩) hP hD hS [] rfl (by decide) rfl rfl hl.1 (Nat.le_of_ble_eq_true rfl) dX7_keep_4 ⟨Nat.le_of_ble_eq_true rfl, Nat.le_of_ble_eq_true rfl⟩ (fun r_1 u H locs hr hP hD hS => ?_)
  subst hr
  refine lv_if_ne (tgt := 12) hx hb dX7_keep_7 (by decide) (fun c_2 => ?_) (fun c_2 => ?_)
  · have G := G.2 c_2
    refine lv_aload_n hx hb dX7_keep_12 rfl (lv_at hl 0 rfl) ?_
    refine lv_iconst (v := 0) hx hb dX7_keep_13 (by decide) ?_
    refine lv_bipush (v := 25) hx hb dX7_keep_14 (by decide) ?_
    refine lv_iload_n hx hb dX7_keep_16 rfl (lv_at hl 1 rfl) ?_
    refine lv_iconst (v := 1) hx hb dX7_keep_17 (by decide) ?_
    refine lv_iadd hx hb dX7_keep_18 ?_
    refine lv_imul hx hb dX7_keep_19 ?_
    refine wc_Vv (As := [.int (0 : Int32), .int ((25 : Int32) * (x1 + (1 : Int32)))]) (rest := []) C (met_M_copies l D ad ca H.size blocks trainMany lockMany readBlocks readTrains readLockMany blocksTold omensTold highBlock taped fault broken brokenAt spot here token value bumpAt bumpIn bumpOf waited keptOut visited seenMany drawn torn state locks waits readPage readLocks tape cuts letters place left hasSeen homeAt places seen wouldBe isKept lanes lengths cells (0 : Int32) ((25 : Int32) * (x1 + (1 : Int32))) _ G) (cwV 2 hts (lw_V q1255 q1257 qs60 q75 q1258) rfl rfl rfl (by decide +kernel) ⟨Nat.le_of_ble_eq_true rfl, Nat.le_of_ble_eq_true rfl⟩) hP hD hS 0 rfl rfl rfl rfl hl.1 (Nat.le_of_ble_eq_true rfl) dX7_keep_20 ⟨Nat.le_of_ble_eq_true rfl, Nat.le_of_ble_eq_true rfl⟩ (fun u H locs G hP hD hS => ?_)
    obtain ⟨state_4, rfl⟩ : ∃ z, z = u := ⟨u, rfl⟩
    have hP : va_P D vwCl (mW ad ca blocks trainMany lockMany readBlocks readTrains readLockMany blocksTold omensTold highBlock taped fault broken brokenAt spot here token value bumpAt bumpIn bumpOf waited keptOut visited seenMany drawn torn state_4 locks waits readPage readLocks tape cuts letters place left hasSeen homeAt places seen wouldBe isKept lanes lengths cells) H := hP
    have hD : va_D A (mW ad ca blocks trainMany lockMany readBlocks readTrains readLockMany blocksTold omensTold highBlock taped fault broken brokenAt spot here token value bumpAt bumpIn bumpOf waited keptOut visited seenMany drawn torn state_4 locks waits readPage readLocks tape cuts letters place left hasSeen homeAt places seen wouldBe isKept lanes lengths cells) := hD
    refine lv_aload_n hx hb dX7_keep_23 rfl (lv_at hl 0 rfl) ?_
    refine va_get hx hb hts in_X7 hown hK hP 0 rfl rfl 40 (by decide) (hts _ q968) (fun _ h => h) rfl dX7_keep_24 ?_
    refine lv_iload_n hx hb dX7_keep_27 rfl (lv_at hl 1 rfl) ?_
    obtain ⟨h_5, G⟩ := G
    refine va_zald hx hb hK hP 16 1 rfl rfl h_5 dX7_keep_28 ?_
    have hJ : ∀ (H : Heap) (locs : List Loc), va_P D vwCl (mW ad ca blocks trainMany lockMany readBlocks readTrains readLockMany blocksTold omensTold highBlock taped fault broken brokenAt spot here token value bumpAt bumpIn bumpOf waited keptOut visited seenMany drawn torn state_4 locks waits readPage readLocks tape cuts letters place left hasSeen homeAt places seen wouldBe isKept lanes lengths cells) H → va_D A (mW ad ca blocks trainMany lockMany readBlocks readTrains readLockMany blocksTold omensTold highBlock taped fault broken brokenAt spot here token value bumpAt bumpIn bumpOf waited keptOut visited seenMany drawn torn state_4 locks waits readPage readLocks tape cuts letters place left hasSeen homeAt places seen wouldBe isKept lanes lengths cells) → va_S A s.heap H locs → ∀ v_8 : Int32, v_8 = (if (isKept x1.toNatClampNeg) = 0 then (0 : Int32) else (1 : Int32)) → W p l e rm_M_keep s m args below meth c H locs 0 0 Z (F0 m 37 ls (.int v_8 :: [])) := by
      intro H locs hP hD hS v_8 hv
      subst hv
      refine lv_istore_n (lv' := [(2, .int (if (isKept x1.toNatClampNeg) = 0 then (0 : Int32) else (1 : Int32))), (0, .ref (ad 0)), (1, .int x1)]) hx hb dX7_keep_37 rfl hl (by decide) rfl (fun ls hl => ?_)
      refine lv_aload_n hx hb dX7_keep_38 rfl (lv_at hl 1 rfl) ?_
      refine va_get hx hb hts in_X7 hown hK hP 0 rfl rfl 40 (by decide) (hts _ q968) (fun _ h => h) rfl dX7_keep_39 ?_
      refine lv_iload_n hx hb dX7_keep_42 rfl (lv_at hl 2 rfl) ?_
      refine lv_iconst (v := 1) hx hb dX7_keep_43 (by decide) ?_
      obtain ⟨h_7, G⟩ := G
      refine va_zast hx hb hK hP hD hS 16 1 rfl rfl h_7 dX7_keep_44 (fun H locs hP hD hS => ?_)
      have hP : va_P D vwCl (mW ad ca blocks trainMany lockMany readBlocks readTrains readLockMany blocksTold omensTold highBlock taped fault broken brokenAt spot here token value bumpAt bumpIn bumpOf waited keptOut visited seenMany drawn torn state_4 locks waits readPage readLocks tape cuts letters place left hasSeen homeAt places seen wouldBe (upd isKept x1.toNatClampNeg (vp_nar .boolean (1 : Int32))) lanes lengths cells) H := hP
      have hD : va_D A (mW ad ca blocks trainMany lockMany readBlocks readTrains readLockMany blocksTold omensTold highBlock taped fault broken brokenAt spot here token value bumpAt bumpIn bumpOf waited keptOut visited seenMany drawn torn state_4 locks waits readPage readLocks tape cuts letters place left hasSeen homeAt places seen wouldBe (upd isKept x1.toNatClampNeg (vp_nar .boolean (1 : Int32))) lanes lengths cells) := hD
      refine lv_iload_n hx hb dX7_keep_45 rfl (lv_at hl 0 rfl) ?_
      rw [hZ]
      exact W.iret hx hb hr (fun t ht hW => ⟨⟨(if (isKept x1.toNatClampNeg) = 0 then (0 : Int32) else (1 : Int32)), (state_4, (upd isKept x1.toNatClampNeg (vp_nar .boolean (1 : Int32)))), rfl, G, by rw [ht]; exact hP, hD⟩, hS.F ht⟩) hS.2.2 dX7_keep_46 hlocks
    refine lv_if_eq (tgt := 36) hx hb dX7_keep_29 (by decide) (fun c_6 => ?_) (fun c_6 => ?_)
    · refine lv_iconst (v := 0) hx hb dX7_keep_36 (by decide) ?_
      exact hJ _ _ hP hD hS _ (eT c_6 rfl)
    · refine lv_iconst (v := 1) hx hb dX7_keep_32 (by decide) ?_
      refine lv_goto (tgt := 37) hx hb dX7_keep_33 (by decide) ?_
      exact hJ _ _ hP hD hS _ (eF c_6 rfl)
  · have G := G.1 c_2
    refine lv_iconst (v := -1) hx hb dX7_keep_10 (by decide) ?_
    rw [hZ]
    exact W.iret hx hb hr (fun t ht hW => ⟨⟨(-1 : Int32), (state, isKept), rfl, G, by rw [ht]; exact hP, hD⟩, hS.F ht⟩) hS.2.2 dX7_keep_11 hlocks
abbrev rm_M_back : Room := { frames := 2, cells := 0, slots := 0, locals := 25 }
set_option maxHeartbeats 4000000 in
theorem met_M_back (l : Launch) (D : va_G) (ad : Nat → Nat) (ca : Nat → ClassId) (sz : Nat) (blocks : Int32) (trainMany : Int32) (lockMany : Int32) (readBlocks : Int32) (readTrains : Int32) (readLockMany : Int32) (blocksTold : Int32) (omensTold : Int32) (highBlock : Int32) (taped : Int32) (fault : Int32) (broken : Int32) (brokenAt : Int32) (spot : Int32) (here : Int32) (token : Int32) (value : Int32) (bumpAt : Int32) (bumpIn : Int32) (bumpOf : Int32) (waited : Int32) (keptOut : Int32) (visited : Int32) (seenMany : Int32) (drawn : Int32) (torn : Int32) (state : Nat → Int32) (locks : Nat → Int32) (waits : Nat → Int32) (readPage : Nat → Int32) (readLocks : Nat → Int32) (tape : Nat → Int32) (cuts : Nat → Int32) (letters : Nat → Int32) (place : Nat → Int32) (left : Nat → Int32) (hasSeen : Nat → Int32) (homeAt : Nat → Int32) (places : Nat → Int32) (seen : Nat → Int32) (wouldBe : Nat → Int32) (isKept : Nat → Int32) (lanes : Nat → Int32) (lengths : Nat → Int32) (cells : Nat → Int32) (x1 : Int32) (Q : Int32 → (Nat → Int32) → Prop) (G : M_back blocks state isKept x1 Q) : Met l yX7_back (ws_ yX7_back cX7_back 2 (some .int)) rm_M_back (va_Pc [.ref (ad 0), .int x1] (wpre D vwCl (tyL ca) (mW ad ca blocks trainMany lockMany readBlocks readTrains readLockMany blocksTold omensTold highBlock taped fault broken brokenAt spot here token value bumpAt bumpIn bumpOf waited keptOut visited seenMany drawn torn state locks waits readPage readLocks tape cuts letters place left hasSeen homeAt places seen wouldBe isKept lanes lengths cells) sz)) (va_Qi (fun (r : Int32) (u : (Nat → Int32)) => Q r u) (wpost D vwCl (va_A (mW ad ca blocks trainMany lockMany readBlocks readTrains readLockMany blocksTold omensTold highBlock taped fault broken brokenAt spot here token value bumpAt bumpIn bumpOf waited keptOut visited seenMany drawn torn state locks waits readPage readLocks tape cuts letters place left hasSeen homeAt places seen wouldBe isKept lanes lengths cells) sz) (fun (u : (Nat → Int32)) => (mW ad ca blocks trainMany lockMany readBlocks readTrains readLockMany blocksTold omensTold highBlock taped fault broken brokenAt spot here token value bumpAt bumpIn bumpOf waited keptOut visited seenMany drawn torn u locks waits readPage readLocks tape cuts letters place left hasSeen homeAt places seen wouldBe isKept lanes lengths cells))) (va_A (mW ad ca blocks trainMany lockMany readBlocks readTrains readLockMany blocksTold omensTold highBlock taped fault broken brokenAt spot here token value bumpAt bumpIn bumpOf waited keptOut visited seenMany drawn torn state locks waits readPage readLocks tape cuts letters place left hasSeen homeAt places seen wouldBe isKept lanes lengths cells) sz)) 0 0 (va_A (mW ad ca blocks trainMany lockMany readBlocks readTrains readLockMany blocksTold omensTold highBlock taped fault broken brokenAt spot here token value bumpAt bumpIn bumpOf waited keptOut visited seenMany drawn torn state locks waits readPage readLocks tape cuts letters place left hasSeen homeAt places seen wouldBe isKept lanes lengths cells) sz) := by
  refine met_of (fun A => (va_Qi (fun (r : Int32) (u : (Nat → Int32)) => Q r u) (wpost D vwCl A (fun (u : (Nat → Int32)) => (mW ad ca blocks trainMany lockMany readBlocks readTrains readLockMany blocksTold omensTold highBlock taped fault broken brokenAt spot here token value bumpAt bumpIn bumpOf waited keptOut visited seenMany drawn torn u locks waits readPage readLocks tape cuts letters place left hasSeen homeAt places seen wouldBe isKept lanes lengths cells))) A)) (by decide) (Nat.le_of_ble_eq_true rfl) ?_
  intro p e s m args below meth c Z A hZ C H locs hP hD hS ls hl
  have hx := C.1; have hb := C.2.1; have hr := C.2.2.1; have hlocks := C.2.2.2.1; have hml := C.2.2.2.2.1; have hown := C.2.2.2.2.2.1; have hts := C.2.2.2.2.2.2.1; have hn := C.2.2.2.2.2.2.2.1; have hK := C.2.2.2.2.2.2.2.2.1; have hA := C.2.2.2.2.2.2.2.2.2
  have hl : lv_has ls 2 [(0, .ref (ad 0)), (1, .int x1)] := hl
  unfold M_back at G
  refine lv_iload_n hx hb dX7_back_0 rfl (lv_at hl 1 rfl) ?_
  refine lv_i2l hx hb dX7_back_1 rfl ?_
  refine lv_lconst (v := 0) hx hb dX7_back_2 (by decide) ?_
  refine lv_lconst (v := 1) hx hb dX7_back_3 (by decide) ?_
  refine wc_Sik (As := [.long ((x1).toInt64), .long (0 : Int64), .long (1 : Int64)]) (rest := []) C (met_M_in l D ca H.size ((x1).toInt64) (0 : Int64) (1 : Int64)) (va_cwS 3 hts (lw_S q1069 q1070 q75 q1071) rfl rfl rfl (by decide +kernel) ⟨Nat.le_of_ble_eq_true rfl, Nat.le_of_ble_eq_true rfl⟩) hP hD hS [] rfl (by decide) rfl rfl hl.1 (Nat.le_of_ble_eq_true rfl) dX7_back_4 ⟨Nat.le_of_ble_eq_true rfl, Nat.le_of_ble_eq_true rfl⟩ (fun r_1 u H locs hr hP hD hS => ?_)
  subst hr
  refine lv_if_ne (tgt := 12) hx hb dX7_back_7 (by decide) (fun c_2 => ?_) (fun c_2 => ?_)
  · have G := G.2 c_2
    refine lv_aload_n hx hb dX7_back_12 rfl (lv_at hl 0 rfl) ?_
    refine va_get hx hb hts in_X7 hown hK hP 0 rfl rfl 40 (by decide) (hts _ q968) (fun _ h => h) rfl dX7_back_13 ?_
    refine lv_iload_n hx hb dX7_back_16 rfl (lv_at hl 1 rfl) ?_
    obtain ⟨h_3, G⟩ := G
    refine va_zald hx hb hK hP 16 1 rfl rfl h_3 dX7_back_17 ?_
    refine lv_if_ne (tgt := 24) hx hb dX7_back_18 (by decide) (fun c_4 => ?_) (fun c_4 => ?_)
    · have G := G.2 c_4
      refine lv_aload_n hx hb dX7_back_24 rfl (lv_at hl 0 rfl) ?_
      refine lv_bipush (v := 25) hx hb dX7_back_25 (by decide) ?_
      refine lv_iload_n hx hb dX7_back_27 rfl (lv_at hl 1 rfl) ?_
      refine lv_iconst (v := 1) hx hb dX7_back_28 (by decide) ?_
      refine lv_iadd hx hb dX7_back_29 ?_
      refine lv_imul hx hb dX7_back_30 ?_
      refine lv_iconst (v := 0) hx hb dX7_back_31 (by decide) ?_
      refine wc_Vv (As := [.int ((25 : Int32) * (x1 + (1 : Int32))), .int (0 : Int32)]) (rest := []) C (met_M_copies l D ad ca H.size blocks trainMany lockMany readBlocks readTrains readLockMany blocksTold omensTold highBlock taped fault broken brokenAt spot here token value bumpAt bumpIn bumpOf waited keptOut visited seenMany drawn torn state locks waits readPage readLocks tape cuts letters place left hasSeen homeAt places seen wouldBe isKept lanes lengths cells ((25 : Int32) * (x1 + (1 : Int32))) (0 : Int32) _ G) (cwV 2 hts (lw_V q1255 q1257 qs60 q75 q1258) rfl rfl rfl (by decide +kernel) ⟨Nat.le_of_ble_eq_true rfl, Nat.le_of_ble_eq_true rfl⟩) hP hD hS 0 rfl rfl rfl rfl hl.1 (Nat.le_of_ble_eq_true rfl) dX7_back_32 ⟨Nat.le_of_ble_eq_true rfl, Nat.le_of_ble_eq_true rfl⟩ (fun u H locs G hP hD hS => ?_)
      obtain ⟨state_6, rfl⟩ : ∃ z, z = u := ⟨u, rfl⟩
      have hP : va_P D vwCl (mW ad ca blocks trainMany lockMany readBlocks readTrains readLockMany blocksTold omensTold highBlock taped fault broken brokenAt spot here token value bumpAt bumpIn bumpOf waited keptOut visited seenMany drawn torn state_6 locks waits readPage readLocks tape cuts letters place left hasSeen homeAt places seen wouldBe isKept lanes lengths cells) H := hP
      have hD : va_D A (mW ad ca blocks trainMany lockMany readBlocks readTrains readLockMany blocksTold omensTold highBlock taped fault broken brokenAt spot here token value bumpAt bumpIn bumpOf waited keptOut visited seenMany drawn torn state_6 locks waits readPage readLocks tape cuts letters place left hasSeen homeAt places seen wouldBe isKept lanes lengths cells) := hD
      refine lv_aload_n hx hb dX7_back_35 rfl (lv_at hl 0 rfl) ?_
      refine wc_Vik (As := []) (rest := []) C (met_M_omens l D ad ca H.size blocks trainMany lockMany readBlocks readTrains readLockMany blocksTold omensTold highBlock taped fault broken brokenAt spot here token value bumpAt bumpIn bumpOf waited keptOut visited seenMany drawn torn state_6 locks waits readPage readLocks tape cuts letters place left hasSeen homeAt places seen wouldBe isKept lanes lengths cells _ G) (cwV 0 hts (lw_V q1139 q1141 qs47 q75 q1142) rfl rfl rfl (by decide +kernel) ⟨Nat.le_of_ble_eq_true rfl, Nat.le_of_ble_eq_true rfl⟩) hP hD hS (List.range _) (wc_self _) (wc_nd _) 0 rfl rfl rfl rfl hl.1 (Nat.le_of_ble_eq_true rfl) dX7_back_36 ⟨Nat.le_of_ble_eq_true rfl, Nat.le_of_ble_eq_true rfl⟩ (fun r_7 u H locs G hP hD hS => ?_)
      refine wc_Sik (As := [.int r_7]) (rest := []) C (met_M_bitsOf l D ca H.size r_7 _ G) (va_cwS 1 hts (lw_S q1243 q1244 q75 q1245) rfl rfl rfl (by decide +kernel) ⟨Nat.le_of_ble_eq_true rfl, Nat.le_of_ble_eq_true rfl⟩) hP hD hS [] rfl (by decide) rfl rfl hl.1 (Nat.le_of_ble_eq_true rfl) dX7_back_39 ⟨Nat.le_of_ble_eq_true rfl, Nat.le_of_ble_eq_true rfl⟩ (fun r_8 u H locs G hP hD hS => ?_)
      rw [hZ]
      exact W.iret hx hb hr (fun t ht hW => ⟨⟨r_8, state_6, rfl, G, by rw [ht]; exact hP, hD⟩, hS.F ht⟩) hS.2.2 dX7_back_42 hlocks
    · have G := G.1 c_4
      refine lv_bipush (v := -2) hx hb dX7_back_21 (by decide) ?_
      rw [hZ]
      exact W.iret hx hb hr (fun t ht hW => ⟨⟨(-2 : Int32), state, rfl, G, by rw [ht]; exact hP, hD⟩, hS.F ht⟩) hS.2.2 dX7_back_23 hlocks
  · have G := G.1 c_2
    refine lv_iconst (v := -1) hx hb dX7_back_10 (by decide) ?_
    rw [hZ]
    exact W.iret hx hb hr (fun t ht hW => ⟨⟨(-1 : Int32), state, rfl, G, by rw [ht]; exact hP, hD⟩, hS.F ht⟩) hS.2.2 dX7_back_11 hlocks
abbrev rm_M_sheet : Room := { frames := 2, cells := 0, slots := 0, locals := 25 }
set_option maxHeartbeats 4000000 in
theorem w_M_sheet_L56 {p : Program} {l : Launch} {e : Env} {s : State} {m : MethodId} {args : Array Value} {below : List Frame} {meth : Method} {c : Code} {D : va_G} {ad : Nat → Nat} {ca : Nat → ClassId} {A : Nat → Prop} {Z : State → Prop} (C : cx cX7_sheet 5 (some .int) RX7 D vwCl (tyL ca) A p c meth s m args) {blocks : Int32} {trainMany : Int32} {lockMany : Int32} {readBlocks : Int32} {readTrains : Int32} {readLockMany : Int32} {blocksTold : Int32} {omensTold : Int32} {highBlock : Int32} {taped : Int32} {fault : Int32} {broken : Int32} {brokenAt : Int32} {spot : Int32} {here : Int32} {token : Int32} {value : Int32} {bumpAt : Int32} {bumpIn : Int32} {bumpOf : Int32} {waited : Int32} {keptOut : Int32} {visited : Int32} {seenMany : Int32} {drawn : Int32} {torn : Int32} {state : Nat → Int32} {locks : Nat → Int32} {waits : Nat → Int32} {readPage : Nat → Int32} {readLocks : Nat → Int32} {tape : Nat → Int32} {cuts : Nat → Int32} {letters : Nat → Int32} {place : Nat → Int32} {left : Nat → Int32} {hasSeen : Nat → Int32} {homeAt : Nat → Int32} {places : Nat → Int32} {seen : Nat → Int32} {wouldBe : Nat → Int32} {isKept : Nat → Int32} {lanes : Nat → Int32} {lengths : Nat → Int32} {x1 : Int32} {k82 : (Nat → Int32) → Prop} (hk82 : ∀ (cells : Nat → Int32), k82 cells → ∀ (ls : Array Slot) (H : Heap) (locs : List Loc), lv_has ls 5 [] → va_P D vwCl (mW ad ca blocks trainMany lockMany readBlocks readTrains readLockMany blocksTold omensTold highBlock taped fault broken brokenAt spot here token value bumpAt bumpIn bumpOf waited keptOut visited seenMany drawn torn state locks waits readPage readLocks tape cuts letters place left hasSeen homeAt places seen wouldBe isKept lanes lengths cells) H → va_D A (mW ad ca blocks trainMany lockMany readBlocks readTrains readLockMany blocksTold omensTold highBlock taped fault broken brokenAt spot here token value bumpAt bumpIn bumpOf waited keptOut visited seenMany drawn torn state locks waits readPage readLocks tape cuts letters place left hasSeen homeAt places seen wouldBe isKept lanes lengths cells) → va_S A s.heap H locs → W p l e rm_M_sheet s m args below meth c H locs 0 0 Z (F0 m 82 ls [])) : ∀ (n : Nat) (cells : Nat → Int32) (x4 : Int32), M_sheet_L56 x1 k82 n cells x4 → ∀ (ls : Array Slot) (H : Heap) (locs : List Loc), lv_has ls 5 [(0, .ref (ad 0)), (1, .int x1), (4, .int x4)] → va_P D vwCl (mW ad ca blocks trainMany lockMany readBlocks readTrains readLockMany blocksTold omensTold highBlock taped fault broken brokenAt spot here token value bumpAt bumpIn bumpOf waited keptOut visited seenMany drawn torn state locks waits readPage readLocks tape cuts letters place left hasSeen homeAt places seen wouldBe isKept lanes lengths cells) H → va_D A (mW ad ca blocks trainMany lockMany readBlocks readTrains readLockMany blocksTold omensTold highBlock taped fault broken brokenAt spot here token value bumpAt bumpIn bumpOf waited keptOut visited seenMany drawn torn state locks waits readPage readLocks tape cuts letters place left hasSeen homeAt places seen wouldBe isKept lanes lengths cells) → va_S A s.heap H locs → W p l e rm_M_sheet s m args below meth c H locs 0 0 Z (F0 m 56 ls []) := by
  have hx := C.1; have hb := C.2.1; have hr := C.2.2.1; have hlocks := C.2.2.2.1; have hml := C.2.2.2.2.1; have hown := C.2.2.2.2.2.1; have hts := C.2.2.2.2.2.2.1; have hn := C.2.2.2.2.2.2.2.1; have hK := C.2.2.2.2.2.2.2.2.1; have hA := C.2.2.2.2.2.2.2.2.2
  intro n
  induction n with
  | zero =>
    intro cells x4 G
    exact False.elim G
  | succ n ih =>
    intro cells x4 G ls H locs hl hP hD hS
    unfold M_sheet_L56 at G
    have hk56 := ih
    refine lv_iload hx hb dX7_sheet_56 (lv_at hl 2 rfl) ?_
    refine lv_bipush (v := 40) hx hb dX7_sheet_58 (by decide) ?_
    refine lv_icmp_ge (tgt := 82) hx hb dX7_sheet_60 (by decide) (fun c_9 => ?_) (fun c_9 => ?_)
    · have G := G.1 c_9
      exact hk82 _ G _ _ _ (lv_sub hl [] rfl) hP hD hS
    · have G := G.2 c_9
      refine lv_aload_n hx hb dX7_sheet_63 rfl (lv_at hl 0 rfl) ?_
      refine va_get hx hb hts in_X7 hown hK hP 0 rfl rfl 43 (by decide) (hts _ q971) (fun _ h => h) rfl dX7_sheet_64 ?_
      refine lv_bipush (v := 40) hx hb dX7_sheet_67 (by decide) ?_
      refine lv_iload_n hx hb dX7_sheet_69 rfl (lv_at hl 1 rfl) ?_
      refine lv_imul hx hb dX7_sheet_70 ?_
      refine lv_iload hx hb dX7_sheet_71 (lv_at hl 2 rfl) ?_
      refine lv_iadd hx hb dX7_sheet_73 ?_
      refine lv_iconst (v := 0) hx hb dX7_sheet_74 (by decide) ?_
      obtain ⟨h_10, G⟩ := G
      refine va_iast hx hb hK hP hD hS 19 0 rfl rfl h_10 dX7_sheet_75 (fun H locs hP hD hS => ?_)
      have hP : va_P D vwCl (mW ad ca blocks trainMany lockMany readBlocks readTrains readLockMany blocksTold omensTold highBlock taped fault broken brokenAt spot here token value bumpAt bumpIn bumpOf waited keptOut visited seenMany drawn torn state locks waits readPage readLocks tape cuts letters place left hasSeen homeAt places seen wouldBe isKept lanes lengths (upd cells (((40 : Int32) * x1) + x4).toNatClampNeg (0 : Int32))) H := hP
      have hD : va_D A (mW ad ca blocks trainMany lockMany readBlocks readTrains readLockMany blocksTold omensTold highBlock taped fault broken brokenAt spot here token value bumpAt bumpIn bumpOf waited keptOut visited seenMany drawn torn state locks waits readPage readLocks tape cuts letters place left hasSeen homeAt places seen wouldBe isKept lanes lengths (upd cells (((40 : Int32) * x1) + x4).toNatClampNeg (0 : Int32))) := hD
      refine lv_iinc (v := (x4 + (1 : Int32))) (lv' := [(4, .int (x4 + (1 : Int32))), (0, .ref (ad 0)), (1, .int x1)]) hx hb dX7_sheet_76 hl (k := 2) rfl rfl (by decide) rfl (fun ls hl => ?_)
      refine lv_goto (tgt := 56) hx hb dX7_sheet_79 (by decide) ?_
      exact hk56 _ _ G _ _ _ (lv_sub hl [1, 2, 0] rfl) hP hD hS
set_option maxHeartbeats 4000000 in
theorem met_M_sheet (l : Launch) (D : va_G) (ad : Nat → Nat) (ca : Nat → ClassId) (sz : Nat) (blocks : Int32) (trainMany : Int32) (lockMany : Int32) (readBlocks : Int32) (readTrains : Int32) (readLockMany : Int32) (blocksTold : Int32) (omensTold : Int32) (highBlock : Int32) (taped : Int32) (fault : Int32) (broken : Int32) (brokenAt : Int32) (spot : Int32) (here : Int32) (token : Int32) (value : Int32) (bumpAt : Int32) (bumpIn : Int32) (bumpOf : Int32) (waited : Int32) (keptOut : Int32) (visited : Int32) (seenMany : Int32) (drawn : Int32) (torn : Int32) (state : Nat → Int32) (locks : Nat → Int32) (waits : Nat → Int32) (readPage : Nat → Int32) (readLocks : Nat → Int32) (tape : Nat → Int32) (cuts : Nat → Int32) (letters : Nat → Int32) (place : Nat → Int32) (left : Nat → Int32) (hasSeen : Nat → Int32) (homeAt : Nat → Int32) (places : Nat → Int32) (seen : Nat → Int32) (wouldBe : Nat → Int32) (isKept : Nat → Int32) (lanes : Nat → Int32) (lengths : Nat → Int32) (cells : Nat → Int32) (x1 : Int32) (x2 : Int32) (x3 : Int32) (Q : Int32 → (Nat → Int32) → (Nat → Int32) → (Nat → Int32) → Prop) (G : M_sheet lanes lengths cells x1 x2 x3 Q) : Met l yX7_sheet (ws_ yX7_sheet cX7_sheet 5 (some .int)) rm_M_sheet (va_Pc [.ref (ad 0), .int x1, .int x2, .int x3] (wpre D vwCl (tyL ca) (mW ad ca blocks trainMany lockMany readBlocks readTrains readLockMany blocksTold omensTold highBlock taped fault broken brokenAt spot here token value bumpAt bumpIn bumpOf waited keptOut visited seenMany drawn torn state locks waits readPage readLocks tape cuts letters place left hasSeen homeAt places seen wouldBe isKept lanes lengths cells) sz)) (va_Qi (fun (r : Int32) (u : (Nat → Int32) × (Nat → Int32) × (Nat → Int32)) => Q r u.1 u.2.1 u.2.2) (wpost D vwCl (va_A (mW ad ca blocks trainMany lockMany readBlocks readTrains readLockMany blocksTold omensTold highBlock taped fault broken brokenAt spot here token value bumpAt bumpIn bumpOf waited keptOut visited seenMany drawn torn state locks waits readPage readLocks tape cuts letters place left hasSeen homeAt places seen wouldBe isKept lanes lengths cells) sz) (fun (u : (Nat → Int32) × (Nat → Int32) × (Nat → Int32)) => (mW ad ca blocks trainMany lockMany readBlocks readTrains readLockMany blocksTold omensTold highBlock taped fault broken brokenAt spot here token value bumpAt bumpIn bumpOf waited keptOut visited seenMany drawn torn state locks waits readPage readLocks tape cuts letters place left hasSeen homeAt places seen wouldBe isKept u.1 u.2.1 u.2.2))) (va_A (mW ad ca blocks trainMany lockMany readBlocks readTrains readLockMany blocksTold omensTold highBlock taped fault broken brokenAt spot here token value bumpAt bumpIn bumpOf waited keptOut visited seenMany drawn torn state locks waits readPage readLocks tape cuts letters place left hasSeen homeAt places seen wouldBe isKept lanes lengths cells) sz)) 0 0 (va_A (mW ad ca blocks trainMany lockMany readBlocks readTrains readLockMany blocksTold omensTold highBlock taped fault broken brokenAt spot here token value bumpAt bumpIn bumpOf waited keptOut visited seenMany drawn torn state locks waits readPage readLocks tape cuts letters place left hasSeen homeAt places seen wouldBe isKept lanes lengths cells) sz) := by
  refine met_of (fun A => (va_Qi (fun (r : Int32) (u : (Nat → Int32) × (Nat → Int32) × (Nat → Int32)) => Q r u.1 u.2.1 u.2.2) (wpost D vwCl A (fun (u : (Nat → Int32) × (Nat → Int32) × (Nat → Int32)) => (mW ad ca blocks trainMany lockMany readBlocks readTrains readLockMany blocksTold omensTold highBlock taped fault broken brokenAt spot here token value bumpAt bumpIn bumpOf waited keptOut visited seenMany drawn torn state locks waits readPage readLocks tape cuts letters place left hasSeen homeAt places seen wouldBe isKept u.1 u.2.1 u.2.2))) A)) (by decide) (Nat.le_of_ble_eq_true rfl) ?_
  intro p e s m args below meth c Z A hZ C H locs hP hD hS ls hl
  have hx := C.1; have hb := C.2.1; have hr := C.2.2.1; have hlocks := C.2.2.2.1; have hml := C.2.2.2.2.1; have hown := C.2.2.2.2.2.1; have hts := C.2.2.2.2.2.2.1; have hn := C.2.2.2.2.2.2.2.1; have hK := C.2.2.2.2.2.2.2.2.1; have hA := C.2.2.2.2.2.2.2.2.2
  have hl : lv_has ls 5 [(0, .ref (ad 0)), (1, .int x1), (2, .int x2), (3, .int x3)] := hl
  unfold M_sheet at G
  refine lv_iload_n hx hb dX7_sheet_0 rfl (lv_at hl 1 rfl) ?_
  refine lv_i2l hx hb dX7_sheet_1 rfl ?_
  refine lv_lconst (v := 0) hx hb dX7_sheet_2 (by decide) ?_
  refine lv_ldc2 hx hb hown (hts _ q1168) dX7_sheet_3 ?_
  refine wc_Sik (As := [.long ((x1).toInt64), .long (0 : Int64), .long (3 : Int64)]) (rest := []) C (met_M_in l D ca H.size ((x1).toInt64) (0 : Int64) (3 : Int64)) (va_cwS 3 hts (lw_S q1069 q1070 q75 q1071) rfl rfl rfl (by decide +kernel) ⟨Nat.le_of_ble_eq_true rfl, Nat.le_of_ble_eq_true rfl⟩) hP hD hS [] rfl (by decide) rfl rfl hl.1 (Nat.le_of_ble_eq_true rfl) dX7_sheet_6 ⟨Nat.le_of_ble_eq_true rfl, Nat.le_of_ble_eq_true rfl⟩ (fun r_1 u H locs hr hP hD hS => ?_)
  subst hr
  refine lv_if_eq (tgt := 30) hx hb dX7_sheet_9 (by decide) (fun c_2 => ?_) (fun c_2 => ?_)
  · have G := G.1 c_2
    refine lv_iconst (v := -1) hx hb dX7_sheet_30 (by decide) ?_
    rw [hZ]
    exact W.iret hx hb hr (fun t ht hW => ⟨⟨(-1 : Int32), (lanes, lengths, cells), rfl, G, by rw [ht]; exact hP, hD⟩, hS.F ht⟩) hS.2.2 dX7_sheet_31 hlocks
  · have G := G.2 c_2
    refine lv_iload_n hx hb dX7_sheet_12 rfl (lv_at hl 2 rfl) ?_
    refine lv_i2l hx hb dX7_sheet_13 rfl ?_
    refine lv_lconst (v := 0) hx hb dX7_sheet_14 (by decide) ?_
    refine lv_ldc2 hx hb hown (hts _ q1151) dX7_sheet_15 ?_
    refine wc_Sik (As := [.long ((x2).toInt64), .long (0 : Int64), .long (2 : Int64)]) (rest := []) C (met_M_in l D ca H.size ((x2).toInt64) (0 : Int64) (2 : Int64)) (va_cwS 3 hts (lw_S q1069 q1070 q75 q1071) rfl rfl rfl (by decide +kernel) ⟨Nat.le_of_ble_eq_true rfl, Nat.le_of_ble_eq_true rfl⟩) hP hD hS [] rfl (by decide) rfl rfl hl.1 (Nat.le_of_ble_eq_true rfl) dX7_sheet_18 ⟨Nat.le_of_ble_eq_true rfl, Nat.le_of_ble_eq_true rfl⟩ (fun r_3 u H locs hr hP hD hS => ?_)
    subst hr
    refine lv_if_eq (tgt := 30) hx hb dX7_sheet_21 (by decide) (fun c_4 => ?_) (fun c_4 => ?_)
    · have G := G.1 c_4
      refine lv_iconst (v := -1) hx hb dX7_sheet_30 (by decide) ?_
      rw [hZ]
      exact W.iret hx hb hr (fun t ht hW => ⟨⟨(-1 : Int32), (lanes, lengths, cells), rfl, G, by rw [ht]; exact hP, hD⟩, hS.F ht⟩) hS.2.2 dX7_sheet_31 hlocks
    · have G := G.2 c_4
      refine lv_iload_n hx hb dX7_sheet_24 rfl (lv_at hl 3 rfl) ?_
      refine lv_bipush (v := 40) hx hb dX7_sheet_25 (by decide) ?_
      refine lv_icmp_le (tgt := 32) hx hb dX7_sheet_27 (by decide) (fun c_5 => ?_) (fun c_5 => ?_)
      · have G := G.1 c_5
        refine lv_iload_n hx hb dX7_sheet_32 rfl (lv_at hl 3 rfl) ?_
        refine lv_if_ge (tgt := 39) hx hb dX7_sheet_33 (by decide) (fun c_6 => ?_) (fun c_6 => ?_)
        · have G := G.1 c_6
          refine lv_aload_n hx hb dX7_sheet_39 rfl (lv_at hl 0 rfl) ?_
          refine va_get hx hb hts in_X7 hown hK hP 0 rfl rfl 41 (by decide) (hts _ q969) (fun _ h => h) rfl dX7_sheet_40 ?_
          refine lv_iload_n hx hb dX7_sheet_43 rfl (lv_at hl 1 rfl) ?_
          refine lv_iload_n hx hb dX7_sheet_44 rfl (lv_at hl 2 rfl) ?_
          obtain ⟨h_7, G⟩ := G
          refine va_iast hx hb hK hP hD hS 17 0 rfl rfl h_7 dX7_sheet_45 (fun H locs hP hD hS => ?_)
          have hP : va_P D vwCl (mW ad ca blocks trainMany lockMany readBlocks readTrains readLockMany blocksTold omensTold highBlock taped fault broken brokenAt spot here token value bumpAt bumpIn bumpOf waited keptOut visited seenMany drawn torn state locks waits readPage readLocks tape cuts letters place left hasSeen homeAt places seen wouldBe isKept (upd lanes x1.toNatClampNeg x2) lengths cells) H := hP
          have hD : va_D A (mW ad ca blocks trainMany lockMany readBlocks readTrains readLockMany blocksTold omensTold highBlock taped fault broken brokenAt spot here token value bumpAt bumpIn bumpOf waited keptOut visited seenMany drawn torn state locks waits readPage readLocks tape cuts letters place left hasSeen homeAt places seen wouldBe isKept (upd lanes x1.toNatClampNeg x2) lengths cells) := hD
          refine lv_aload_n hx hb dX7_sheet_46 rfl (lv_at hl 0 rfl) ?_
          refine va_get hx hb hts in_X7 hown hK hP 0 rfl rfl 42 (by decide) (hts _ q970) (fun _ h => h) rfl dX7_sheet_47 ?_
          refine lv_iload_n hx hb dX7_sheet_50 rfl (lv_at hl 1 rfl) ?_
          refine lv_iload_n hx hb dX7_sheet_51 rfl (lv_at hl 3 rfl) ?_
          obtain ⟨h_8, G⟩ := G
          refine va_iast hx hb hK hP hD hS 18 0 rfl rfl h_8 dX7_sheet_52 (fun H locs hP hD hS => ?_)
          have hP : va_P D vwCl (mW ad ca blocks trainMany lockMany readBlocks readTrains readLockMany blocksTold omensTold highBlock taped fault broken brokenAt spot here token value bumpAt bumpIn bumpOf waited keptOut visited seenMany drawn torn state locks waits readPage readLocks tape cuts letters place left hasSeen homeAt places seen wouldBe isKept (upd lanes x1.toNatClampNeg x2) (upd lengths x1.toNatClampNeg x3) cells) H := hP
          have hD : va_D A (mW ad ca blocks trainMany lockMany readBlocks readTrains readLockMany blocksTold omensTold highBlock taped fault broken brokenAt spot here token value bumpAt bumpIn bumpOf waited keptOut visited seenMany drawn torn state locks waits readPage readLocks tape cuts letters place left hasSeen homeAt places seen wouldBe isKept (upd lanes x1.toNatClampNeg x2) (upd lengths x1.toNatClampNeg x3) cells) := hD
          refine lv_iconst (v := 0) hx hb dX7_sheet_53 (by decide) ?_
          refine lv_istore (lv' := [(4, .int (0 : Int32)), (0, .ref (ad 0)), (1, .int x1), (2, .int x2), (3, .int x3)]) hx hb dX7_sheet_54 hl (by decide) rfl (fun ls hl => ?_)
          obtain ⟨n_11, G⟩ := G
          refine w_M_sheet_L56 C (fun cells_12 G ls H locs hl hP hD hS => ?_) n_11 _ _ G _ _ _ (lv_sub hl [1, 2, 0] rfl) hP hD hS
          refine lv_iconst (v := 1) hx hb dX7_sheet_82 (by decide) ?_
          rw [hZ]
          exact W.iret hx hb hr (fun t ht hW => ⟨⟨(1 : Int32), ((upd lanes x1.toNatClampNeg x2), (upd lengths x1.toNatClampNeg x3), cells_12), rfl, G, by rw [ht]; exact hP, hD⟩, hS.F ht⟩) hS.2.2 dX7_sheet_83 hlocks
        · have G := G.2 c_6
          refine lv_bipush (v := -14) hx hb dX7_sheet_36 (by decide) ?_
          rw [hZ]
          exact W.iret hx hb hr (fun t ht hW => ⟨⟨(-14 : Int32), (lanes, lengths, cells), rfl, G, by rw [ht]; exact hP, hD⟩, hS.F ht⟩) hS.2.2 dX7_sheet_38 hlocks
      · have G := G.2 c_5
        refine lv_iconst (v := -1) hx hb dX7_sheet_30 (by decide) ?_
        rw [hZ]
        exact W.iret hx hb hr (fun t ht hW => ⟨⟨(-1 : Int32), (lanes, lengths, cells), rfl, G, by rw [ht]; exact hP, hD⟩, hS.F ht⟩) hS.2.2 dX7_sheet_31 hlocks
abbrev rm_M_lay : Room := { frames := 2, cells := 0, slots := 0, locals := 25 }
set_option maxHeartbeats 4000000 in
theorem met_M_lay (l : Launch) (D : va_G) (ad : Nat → Nat) (ca : Nat → ClassId) (sz : Nat) (blocks : Int32) (trainMany : Int32) (lockMany : Int32) (readBlocks : Int32) (readTrains : Int32) (readLockMany : Int32) (blocksTold : Int32) (omensTold : Int32) (highBlock : Int32) (taped : Int32) (fault : Int32) (broken : Int32) (brokenAt : Int32) (spot : Int32) (here : Int32) (token : Int32) (value : Int32) (bumpAt : Int32) (bumpIn : Int32) (bumpOf : Int32) (waited : Int32) (keptOut : Int32) (visited : Int32) (seenMany : Int32) (drawn : Int32) (torn : Int32) (state : Nat → Int32) (locks : Nat → Int32) (waits : Nat → Int32) (readPage : Nat → Int32) (readLocks : Nat → Int32) (tape : Nat → Int32) (cuts : Nat → Int32) (letters : Nat → Int32) (place : Nat → Int32) (left : Nat → Int32) (hasSeen : Nat → Int32) (homeAt : Nat → Int32) (places : Nat → Int32) (seen : Nat → Int32) (wouldBe : Nat → Int32) (isKept : Nat → Int32) (lanes : Nat → Int32) (lengths : Nat → Int32) (cells : Nat → Int32) (x1 : Int32) (x2 : Int32) (x3 : Int32) (Q : Int32 → (Nat → Int32) → Prop) (G : M_lay lanes lengths cells x1 x2 x3 Q) : Met l yX7_lay (ws_ yX7_lay cX7_lay 4 (some .int)) rm_M_lay (va_Pc [.ref (ad 0), .int x1, .int x2, .int x3] (wpre D vwCl (tyL ca) (mW ad ca blocks trainMany lockMany readBlocks readTrains readLockMany blocksTold omensTold highBlock taped fault broken brokenAt spot here token value bumpAt bumpIn bumpOf waited keptOut visited seenMany drawn torn state locks waits readPage readLocks tape cuts letters place left hasSeen homeAt places seen wouldBe isKept lanes lengths cells) sz)) (va_Qi (fun (r : Int32) (u : (Nat → Int32)) => Q r u) (wpost D vwCl (va_A (mW ad ca blocks trainMany lockMany readBlocks readTrains readLockMany blocksTold omensTold highBlock taped fault broken brokenAt spot here token value bumpAt bumpIn bumpOf waited keptOut visited seenMany drawn torn state locks waits readPage readLocks tape cuts letters place left hasSeen homeAt places seen wouldBe isKept lanes lengths cells) sz) (fun (u : (Nat → Int32)) => (mW ad ca blocks trainMany lockMany readBlocks readTrains readLockMany blocksTold omensTold highBlock taped fault broken brokenAt spot here token value bumpAt bumpIn bumpOf waited keptOut visited seenMany drawn torn state locks waits readPage readLocks tape cuts letters place left hasSeen homeAt places seen wouldBe isKept lanes lengths u))) (va_A (mW ad ca blocks trainMany lockMany readBlocks readTrains readLockMany blocksTold omensTold highBlock taped fault broken brokenAt spot here token value bumpAt bumpIn bumpOf waited keptOut visited seenMany drawn torn state locks waits readPage readLocks tape cuts letters place left hasSeen homeAt places seen wouldBe isKept lanes lengths cells) sz)) 0 0 (va_A (mW ad ca blocks trainMany lockMany readBlocks readTrains readLockMany blocksTold omensTold highBlock taped fault broken brokenAt spot here token value bumpAt bumpIn bumpOf waited keptOut visited seenMany drawn torn state locks waits readPage readLocks tape cuts letters place left hasSeen homeAt places seen wouldBe isKept lanes lengths cells) sz) := by
  refine met_of (fun A => (va_Qi (fun (r : Int32) (u : (Nat → Int32)) => Q r u) (wpost D vwCl A (fun (u : (Nat → Int32)) => (mW ad ca blocks trainMany lockMany readBlocks readTrains readLockMany blocksTold omensTold highBlock taped fault broken brokenAt spot here token value bumpAt bumpIn bumpOf waited keptOut visited seenMany drawn torn state locks waits readPage readLocks tape cuts letters place left hasSeen homeAt places seen wouldBe isKept lanes lengths u))) A)) (by decide) (Nat.le_of_ble_eq_true rfl) ?_
  intro p e s m args below meth c Z A hZ C H locs hP hD hS ls hl
  have hx := C.1; have hb := C.2.1; have hr := C.2.2.1; have hlocks := C.2.2.2.1; have hml := C.2.2.2.2.1; have hown := C.2.2.2.2.2.1; have hts := C.2.2.2.2.2.2.1; have hn := C.2.2.2.2.2.2.2.1; have hK := C.2.2.2.2.2.2.2.2.1; have hA := C.2.2.2.2.2.2.2.2.2
  have hl : lv_has ls 4 [(0, .ref (ad 0)), (1, .int x1), (2, .int x2), (3, .int x3)] := hl
  unfold M_lay at G
  refine lv_iload_n hx hb dX7_lay_0 rfl (lv_at hl 1 rfl) ?_
  refine lv_i2l hx hb dX7_lay_1 rfl ?_
  refine lv_lconst (v := 0) hx hb dX7_lay_2 (by decide) ?_
  refine lv_ldc2 hx hb hown (hts _ q1168) dX7_lay_3 ?_
  refine wc_Sik (As := [.long ((x1).toInt64), .long (0 : Int64), .long (3 : Int64)]) (rest := []) C (met_M_in l D ca H.size ((x1).toInt64) (0 : Int64) (3 : Int64)) (va_cwS 3 hts (lw_S q1069 q1070 q75 q1071) rfl rfl rfl (by decide +kernel) ⟨Nat.le_of_ble_eq_true rfl, Nat.le_of_ble_eq_true rfl⟩) hP hD hS [] rfl (by decide) rfl rfl hl.1 (Nat.le_of_ble_eq_true rfl) dX7_lay_6 ⟨Nat.le_of_ble_eq_true rfl, Nat.le_of_ble_eq_true rfl⟩ (fun r_1 u H locs hr hP hD hS => ?_)
  subst hr
  refine lv_if_ne (tgt := 14) hx hb dX7_lay_9 (by decide) (fun c_2 => ?_) (fun c_2 => ?_)
  · have G := G.2 c_2
    refine lv_aload_n hx hb dX7_lay_14 rfl (lv_at hl 0 rfl) ?_
    refine va_get hx hb hts in_X7 hown hK hP 0 rfl rfl 41 (by decide) (hts _ q969) (fun _ h => h) rfl dX7_lay_15 ?_
    refine lv_iload_n hx hb dX7_lay_18 rfl (lv_at hl 1 rfl) ?_
    obtain ⟨h_3, G⟩ := G
    refine va_iald hx hb hK hP 17 0 rfl rfl h_3 dX7_lay_19 ?_
    refine lv_bipush (v := -4) hx hb dX7_lay_20 (by decide) ?_
    refine lv_icmp_ne (tgt := 28) hx hb dX7_lay_22 (by decide) (fun c_4 => ?_) (fun c_4 => ?_)
    · have G := G.2 c_4
      refine lv_iload_n hx hb dX7_lay_28 rfl (lv_at hl 2 rfl) ?_
      refine lv_i2l hx hb dX7_lay_29 rfl ?_
      refine lv_lconst (v := 0) hx hb dX7_lay_30 (by decide) ?_
      refine lv_aload_n hx hb dX7_lay_31 rfl (lv_at hl 0 rfl) ?_
      refine va_get hx hb hts in_X7 hown hK hP 0 rfl rfl 42 (by decide) (hts _ q970) (fun _ h => h) rfl dX7_lay_32 ?_
      refine lv_iload_n hx hb dX7_lay_35 rfl (lv_at hl 1 rfl) ?_
      obtain ⟨h_5, G⟩ := G
      refine va_iald hx hb hK hP 18 0 rfl rfl h_5 dX7_lay_36 ?_
      refine lv_iconst (v := 1) hx hb dX7_lay_37 (by decide) ?_
      refine lv_isub hx hb dX7_lay_38 ?_
      refine lv_i2l hx hb dX7_lay_39 rfl ?_
      refine wc_Sik (As := [.long ((x2).toInt64), .long (0 : Int64), .long ((((lengths x1.toNatClampNeg) - (1 : Int32))).toInt64)]) (rest := []) C (met_M_in l D ca H.size ((x2).toInt64) (0 : Int64) ((((lengths x1.toNatClampNeg) - (1 : Int32))).toInt64)) (va_cwS 3 hts (lw_S q1069 q1070 q75 q1071) rfl rfl rfl (by decide +kernel) ⟨Nat.le_of_ble_eq_true rfl, Nat.le_of_ble_eq_true rfl⟩) hP hD hS [] rfl (by decide) rfl rfl hl.1 (Nat.le_of_ble_eq_true rfl) dX7_lay_40 ⟨Nat.le_of_ble_eq_true rfl, Nat.le_of_ble_eq_true rfl⟩ (fun r_6 u H locs hr hP hD hS => ?_)
      subst hr
      refine lv_if_ne (tgt := 49) hx hb dX7_lay_43 (by decide) (fun c_7 => ?_) (fun c_7 => ?_)
      · have G := G.2 c_7
        refine lv_aload_n hx hb dX7_lay_49 rfl (lv_at hl 0 rfl) ?_
        refine va_get hx hb hts in_X7 hown hK hP 0 rfl rfl 43 (by decide) (hts _ q971) (fun _ h => h) rfl dX7_lay_50 ?_
        refine lv_bipush (v := 40) hx hb dX7_lay_53 (by decide) ?_
        refine lv_iload_n hx hb dX7_lay_55 rfl (lv_at hl 1 rfl) ?_
        refine lv_imul hx hb dX7_lay_56 ?_
        refine lv_iload_n hx hb dX7_lay_57 rfl (lv_at hl 2 rfl) ?_
        refine lv_iadd hx hb dX7_lay_58 ?_
        refine lv_aload_n hx hb dX7_lay_59 rfl (lv_at hl 0 rfl) ?_
        refine va_get hx hb hts in_X7 hown hK hP 0 rfl rfl 41 (by decide) (hts _ q969) (fun _ h => h) rfl dX7_lay_60 ?_
        refine lv_iload_n hx hb dX7_lay_63 rfl (lv_at hl 1 rfl) ?_
        obtain ⟨h_8, G⟩ := G
        refine va_iald hx hb hK hP 17 0 rfl rfl h_8 dX7_lay_64 ?_
        obtain ⟨h_10, G⟩ := G
        have hJ : ∀ (H : Heap) (locs : List Loc), va_P D vwCl (mW ad ca blocks trainMany lockMany readBlocks readTrains readLockMany blocksTold omensTold highBlock taped fault broken brokenAt spot here token value bumpAt bumpIn bumpOf waited keptOut visited seenMany drawn torn state locks waits readPage readLocks tape cuts letters place left hasSeen homeAt places seen wouldBe isKept lanes lengths cells) H → va_D A (mW ad ca blocks trainMany lockMany readBlocks readTrains readLockMany blocksTold omensTold highBlock taped fault broken brokenAt spot here token value bumpAt bumpIn bumpOf waited keptOut visited seenMany drawn torn state locks waits readPage readLocks tape cuts letters place left hasSeen homeAt places seen wouldBe isKept lanes lengths cells) → va_S A s.heap H locs → ∀ v_13 : Int32, v_13 = (if (lanes x1.toNatClampNeg) = 0 then ((x3 <<< ((24 : Int32) &&& 31)) >>> ((24 : Int32) &&& 31)) else (if (lanes x1.toNatClampNeg) = (1 : Int32) then ((x3 <<< ((16 : Int32) &&& 31)) >>> ((16 : Int32) &&& 31)) else x3)) → W p l e rm_M_lay s m args below meth c H locs 0 0 Z (F0 m 99 ls (.int v_13 :: [.int (((40 : Int32) * x1) + x2), .ref (ad 19)])) := by
          intro H locs hP hD hS v_13 hv
          subst hv
          obtain ⟨h_12, G⟩ := G
          refine va_iast hx hb hK hP hD hS 19 0 rfl rfl h_12 dX7_lay_99 (fun H locs hP hD hS => ?_)
          have hP : va_P D vwCl (mW ad ca blocks trainMany lockMany readBlocks readTrains readLockMany blocksTold omensTold highBlock taped fault broken brokenAt spot here token value bumpAt bumpIn bumpOf waited keptOut visited seenMany drawn torn state locks waits readPage readLocks tape cuts letters place left hasSeen homeAt places seen wouldBe isKept lanes lengths (upd cells (((40 : Int32) * x1) + x2).toNatClampNeg (if (lanes x1.toNatClampNeg) = 0 then ((x3 <<< ((24 : Int32) &&& 31)) >>> ((24 : Int32) &&& 31)) else (if (lanes x1.toNatClampNeg) = (1 : Int32) then ((x3 <<< ((16 : Int32) &&& 31)) >>> ((16 : Int32) &&& 31)) else x3)))) H := hP
          have hD : va_D A (mW ad ca blocks trainMany lockMany readBlocks readTrains readLockMany blocksTold omensTold highBlock taped fault broken brokenAt spot here token value bumpAt bumpIn bumpOf waited keptOut visited seenMany drawn torn state locks waits readPage readLocks tape cuts letters place left hasSeen homeAt places seen wouldBe isKept lanes lengths (upd cells (((40 : Int32) * x1) + x2).toNatClampNeg (if (lanes x1.toNatClampNeg) = 0 then ((x3 <<< ((24 : Int32) &&& 31)) >>> ((24 : Int32) &&& 31)) else (if (lanes x1.toNatClampNeg) = (1 : Int32) then ((x3 <<< ((16 : Int32) &&& 31)) >>> ((16 : Int32) &&& 31)) else x3)))) := hD
          refine lv_iconst (v := 1) hx hb dX7_lay_100 (by decide) ?_
          rw [hZ]
          exact W.iret hx hb hr (fun t ht hW => ⟨⟨(1 : Int32), (upd cells (((40 : Int32) * x1) + x2).toNatClampNeg (if (lanes x1.toNatClampNeg) = 0 then ((x3 <<< ((24 : Int32) &&& 31)) >>> ((24 : Int32) &&& 31)) else (if (lanes x1.toNatClampNeg) = (1 : Int32) then ((x3 <<< ((16 : Int32) &&& 31)) >>> ((16 : Int32) &&& 31)) else x3))), rfl, G, by rw [ht]; exact hP, hD⟩, hS.F ht⟩) hS.2.2 dX7_lay_101 hlocks
        refine lv_if_ne (tgt := 78) hx hb dX7_lay_65 (by decide) (fun c_9 => ?_) (fun c_9 => ?_)
        · refine lv_aload_n hx hb dX7_lay_78 rfl (lv_at hl 0 rfl) ?_
          refine va_get hx hb hts in_X7 hown hK hP 0 rfl rfl 41 (by decide) (hts _ q969) (fun _ h => h) rfl dX7_lay_79 ?_
          refine lv_iload_n hx hb dX7_lay_82 rfl (lv_at hl 1 rfl) ?_
          refine va_iald hx hb hK hP 17 0 rfl rfl (h_10 c_9) dX7_lay_83 ?_
          refine lv_iconst (v := 1) hx hb dX7_lay_84 (by decide) ?_
          refine lv_icmp_ne (tgt := 98) hx hb dX7_lay_85 (by decide) (fun c_11 => ?_) (fun c_11 => ?_)
          · refine lv_iload_n hx hb dX7_lay_98 rfl (lv_at hl 3 rfl) ?_
            exact hJ _ _ hP hD hS _ (eF c_9 (eF c_11 rfl))
          · refine lv_iload_n hx hb dX7_lay_88 rfl (lv_at hl 3 rfl) ?_
            refine lv_bipush (v := 16) hx hb dX7_lay_89 (by decide) ?_
            refine lv_ishl hx hb dX7_lay_91 ?_
            refine lv_bipush (v := 16) hx hb dX7_lay_92 (by decide) ?_
            refine lv_ishr hx hb dX7_lay_94 ?_
            refine lv_goto (tgt := 99) hx hb dX7_lay_95 (by decide) ?_
            exact hJ _ _ hP hD hS _ (eF c_9 (eT c_11 rfl))
        · refine lv_iload_n hx hb dX7_lay_68 rfl (lv_at hl 3 rfl) ?_
          refine lv_bipush (v := 24) hx hb dX7_lay_69 (by decide) ?_
          refine lv_ishl hx hb dX7_lay_71 ?_
          refine lv_bipush (v := 24) hx hb dX7_lay_72 (by decide) ?_
          refine lv_ishr hx hb dX7_lay_74 ?_
          refine lv_goto (tgt := 99) hx hb dX7_lay_75 (by decide) ?_
          exact hJ _ _ hP hD hS _ (eT c_9 rfl)
      · have G := G.1 c_7
        refine lv_bipush (v := -12) hx hb dX7_lay_46 (by decide) ?_
        rw [hZ]
        exact W.iret hx hb hr (fun t ht hW => ⟨⟨(-12 : Int32), cells, rfl, G, by rw [ht]; exact hP, hD⟩, hS.F ht⟩) hS.2.2 dX7_lay_48 hlocks
    · have G := G.1 c_4
      refine lv_bipush (v := -11) hx hb dX7_lay_25 (by decide) ?_
      rw [hZ]
      exact W.iret hx hb hr (fun t ht hW => ⟨⟨(-11 : Int32), cells, rfl, G, by rw [ht]; exact hP, hD⟩, hS.F ht⟩) hS.2.2 dX7_lay_27 hlocks
  · have G := G.1 c_2
    refine lv_iconst (v := -1) hx hb dX7_lay_12 (by decide) ?_
    rw [hZ]
    exact W.iret hx hb hr (fun t ht hW => ⟨⟨(-1 : Int32), cells, rfl, G, by rw [ht]; exact hP, hD⟩, hS.F ht⟩) hS.2.2 dX7_lay_13 hlocks
abbrev rm_M_read : Room := { frames := 4, cells := 0, slots := 0, locals := 69 }
set_option maxHeartbeats 4000000 in
theorem w_M_read_J190 {p : Program} {l : Launch} {e : Env} {s : State} {m : MethodId} {args : Array Value} {below : List Frame} {meth : Method} {c : Code} {D : va_G} {ad : Nat → Nat} {ca : Nat → ClassId} {A : Nat → Prop} {Z : State → Prop} (C : cx cX7_read 9 (some .int) RX7 D vwCl (tyL ca) A p c meth s m args) {blocks : Int32} {trainMany : Int32} {lockMany : Int32} {readBlocks : Int32} {readTrains : Int32} {readLockMany : Int32} {blocksTold : Int32} {omensTold : Int32} {highBlock : Int32} {taped : Int32} {fault : Int32} {broken : Int32} {brokenAt : Int32} {spot : Int32} {here : Int32} {token : Int32} {value : Int32} {bumpAt : Int32} {bumpIn : Int32} {bumpOf : Int32} {waited : Int32} {keptOut : Int32} {visited : Int32} {seenMany : Int32} {drawn : Int32} {torn : Int32} {state : Nat → Int32} {locks : Nat → Int32} {waits : Nat → Int32} {readPage : Nat → Int32} {readLocks : Nat → Int32} {tape : Nat → Int32} {cuts : Nat → Int32} {letters : Nat → Int32} {place : Nat → Int32} {left : Nat → Int32} {hasSeen : Nat → Int32} {homeAt : Nat → Int32} {places : Nat → Int32} {seen : Nat → Int32} {wouldBe : Nat → Int32} {isKept : Nat → Int32} {lanes : Nat → Int32} {lengths : Nat → Int32} {cells : Nat → Int32} {x1 : Int32} {x2 : Int32} {x3 : Int32} {x4 : Int32} {x5 : Int32} {x6 : Int32} {x7 : Int32}  {k55 : (Nat → Int32) → Int32 → Int32 → Int32 → Prop} {k174 : (Nat → Int32) → Int32 → Prop} {k196 : (Nat → Int32) → Int32 → Int32 → Prop} (hk55 : ∀ (state : Nat → Int32) (x5 : Int32) (x6 : Int32) (x7 : Int32), k55 state x5 x6 x7 → ∀ (ls : Array Slot) (H : Heap) (locs : List Loc), lv_has ls 9 [(0, .ref (ad 0)), (1, .int x1), (2, .int x2), (3, .int x3), (4, .int x4), (5, .int x5), (6, .int x6), (7, .int x7)] → va_P D vwCl (mW ad ca blocks trainMany lockMany readBlocks readTrains readLockMany blocksTold omensTold highBlock taped fault broken brokenAt spot here token value bumpAt bumpIn bumpOf waited keptOut visited seenMany drawn torn state locks waits readPage readLocks tape cuts letters place left hasSeen homeAt places seen wouldBe isKept lanes lengths cells) H → va_D A (mW ad ca blocks trainMany lockMany readBlocks readTrains readLockMany blocksTold omensTold highBlock taped fault broken brokenAt spot here token value bumpAt bumpIn bumpOf waited keptOut visited seenMany drawn torn state locks waits readPage readLocks tape cuts letters place left hasSeen homeAt places seen wouldBe isKept lanes lengths cells) → va_S A s.heap H locs → W p l e rm_M_read s m args below meth c H locs 0 0 Z (F0 m 55 ls [])) (hk174 : ∀ (state : Nat → Int32) (x6 : Int32), k174 state x6 → ∀ (ls : Array Slot) (H : Heap) (locs : List Loc), lv_has ls 9 [(0, .ref (ad 0)), (6, .int x6)] → va_P D vwCl (mW ad ca blocks trainMany lockMany readBlocks readTrains readLockMany blocksTold omensTold highBlock taped fault broken brokenAt spot here token value bumpAt bumpIn bumpOf waited keptOut visited seenMany drawn torn state locks waits readPage readLocks tape cuts letters place left hasSeen homeAt places seen wouldBe isKept lanes lengths cells) H → va_D A (mW ad ca blocks trainMany lockMany readBlocks readTrains readLockMany blocksTold omensTold highBlock taped fault broken brokenAt spot here token value bumpAt bumpIn bumpOf waited keptOut visited seenMany drawn torn state locks waits readPage readLocks tape cuts letters place left hasSeen homeAt places seen wouldBe isKept lanes lengths cells) → va_S A s.heap H locs → W p l e rm_M_read s m args below meth c H locs 0 0 Z (F0 m 174 ls [])) (hk196 : ∀ (state : Nat → Int32) (x5 : Int32) (x6 : Int32), k196 state x5 x6 → ∀ (ls : Array Slot) (H : Heap) (locs : List Loc), lv_has ls 9 [(0, .ref (ad 0)), (5, .int x5), (6, .int x6)] → va_P D vwCl (mW ad ca blocks trainMany lockMany readBlocks readTrains readLockMany blocksTold omensTold highBlock taped fault broken brokenAt spot here token value bumpAt bumpIn bumpOf waited keptOut visited seenMany drawn torn state locks waits readPage readLocks tape cuts letters place left hasSeen homeAt places seen wouldBe isKept lanes lengths cells) H → va_D A (mW ad ca blocks trainMany lockMany readBlocks readTrains readLockMany blocksTold omensTold highBlock taped fault broken brokenAt spot here token value bumpAt bumpIn bumpOf waited keptOut visited seenMany drawn torn state locks waits readPage readLocks tape cuts letters place left hasSeen homeAt places seen wouldBe isKept lanes lengths cells) → va_S A s.heap H locs → W p l e rm_M_read s m args below meth c H locs 0 0 Z (F0 m 196 ls [])) (G : M_read_J190 blocks lockMany state locks lanes lengths cells x1 x2 x3 x4 x5 x6 x7 k55 k174 k196) {ls : Array Slot} {H : Heap} {locs : List Loc} (hl : lv_has ls 9 [(0, .ref (ad 0)), (1, .int x1), (2, .int x2), (3, .int x3), (4, .int x4), (5, .int x5), (6, .int x6), (7, .int x7)]) (hP : va_P D vwCl (mW ad ca blocks trainMany lockMany readBlocks readTrains readLockMany blocksTold omensTold highBlock taped fault broken brokenAt spot here token value bumpAt bumpIn bumpOf waited keptOut visited seenMany drawn torn state locks waits readPage readLocks tape cuts letters place left hasSeen homeAt places seen wouldBe isKept lanes lengths cells) H) (hD : va_D A (mW ad ca blocks trainMany lockMany readBlocks readTrains readLockMany blocksTold omensTold highBlock taped fault broken brokenAt spot here token value bumpAt bumpIn bumpOf waited keptOut visited seenMany drawn torn state locks waits readPage readLocks tape cuts letters place left hasSeen homeAt places seen wouldBe isKept lanes lengths cells)) (hS : va_S A s.heap H locs) : W p l e rm_M_read s m args below meth c H locs 0 0 Z (F0 m 190 ls []) := by
  have hx := C.1; have hb := C.2.1; have hr := C.2.2.1; have hlocks := C.2.2.2.1; have hml := C.2.2.2.2.1; have hown := C.2.2.2.2.2.1; have hts := C.2.2.2.2.2.2.1; have hn := C.2.2.2.2.2.2.2.1; have hK := C.2.2.2.2.2.2.2.2.1; have hA := C.2.2.2.2.2.2.2.2.2
  unfold M_read_J190 at G
  refine lv_iinc (v := (x7 + (1 : Int32))) (lv' := [(7, .int (x7 + (1 : Int32))), (0, .ref (ad 0)), (1, .int x1), (2, .int x2), (3, .int x3), (4, .int x4), (5, .int x5), (6, .int x6)]) hx hb dX7_read_190 hl (k := 7) rfl rfl (by decide) rfl (fun ls hl => ?_)
  refine lv_goto (tgt := 55) hx hb dX7_read_193 (by decide) ?_
  exact hk55 _ _ _ _ G _ _ _ (lv_sub hl [1, 2, 3, 4, 5, 6, 7, 0] rfl) hP hD hS
set_option maxHeartbeats 4000000 in
theorem w_M_read_L55 {p : Program} {l : Launch} {e : Env} {s : State} {m : MethodId} {args : Array Value} {below : List Frame} {meth : Method} {c : Code} {D : va_G} {ad : Nat → Nat} {ca : Nat → ClassId} {A : Nat → Prop} {Z : State → Prop} (C : cx cX7_read 9 (some .int) RX7 D vwCl (tyL ca) A p c meth s m args) {blocks : Int32} {trainMany : Int32} {lockMany : Int32} {readBlocks : Int32} {readTrains : Int32} {readLockMany : Int32} {blocksTold : Int32} {omensTold : Int32} {highBlock : Int32} {taped : Int32} {fault : Int32} {broken : Int32} {brokenAt : Int32} {spot : Int32} {here : Int32} {token : Int32} {value : Int32} {bumpAt : Int32} {bumpIn : Int32} {bumpOf : Int32} {waited : Int32} {keptOut : Int32} {visited : Int32} {seenMany : Int32} {drawn : Int32} {torn : Int32} {locks : Nat → Int32} {waits : Nat → Int32} {readPage : Nat → Int32} {readLocks : Nat → Int32} {tape : Nat → Int32} {cuts : Nat → Int32} {letters : Nat → Int32} {place : Nat → Int32} {left : Nat → Int32} {hasSeen : Nat → Int32} {homeAt : Nat → Int32} {places : Nat → Int32} {seen : Nat → Int32} {wouldBe : Nat → Int32} {isKept : Nat → Int32} {lanes : Nat → Int32} {lengths : Nat → Int32} {cells : Nat → Int32} {x1 : Int32} {x2 : Int32} {x3 : Int32} {x4 : Int32} {k174 : (Nat → Int32) → Int32 → Prop} {k196 : (Nat → Int32) → Int32 → Int32 → Prop} (hk174 : ∀ (state : Nat → Int32) (x6 : Int32), k174 state x6 → ∀ (ls : Array Slot) (H : Heap) (locs : List Loc), lv_has ls 9 [(0, .ref (ad 0)), (6, .int x6)] → va_P D vwCl (mW ad ca blocks trainMany lockMany readBlocks readTrains readLockMany blocksTold omensTold highBlock taped fault broken brokenAt spot here token value bumpAt bumpIn bumpOf waited keptOut visited seenMany drawn torn state locks waits readPage readLocks tape cuts letters place left hasSeen homeAt places seen wouldBe isKept lanes lengths cells) H → va_D A (mW ad ca blocks trainMany lockMany readBlocks readTrains readLockMany blocksTold omensTold highBlock taped fault broken brokenAt spot here token value bumpAt bumpIn bumpOf waited keptOut visited seenMany drawn torn state locks waits readPage readLocks tape cuts letters place left hasSeen homeAt places seen wouldBe isKept lanes lengths cells) → va_S A s.heap H locs → W p l e rm_M_read s m args below meth c H locs 0 0 Z (F0 m 174 ls [])) (hk196 : ∀ (state : Nat → Int32) (x5 : Int32) (x6 : Int32), k196 state x5 x6 → ∀ (ls : Array Slot) (H : Heap) (locs : List Loc), lv_has ls 9 [(0, .ref (ad 0)), (5, .int x5), (6, .int x6)] → va_P D vwCl (mW ad ca blocks trainMany lockMany readBlocks readTrains readLockMany blocksTold omensTold highBlock taped fault broken brokenAt spot here token value bumpAt bumpIn bumpOf waited keptOut visited seenMany drawn torn state locks waits readPage readLocks tape cuts letters place left hasSeen homeAt places seen wouldBe isKept lanes lengths cells) H → va_D A (mW ad ca blocks trainMany lockMany readBlocks readTrains readLockMany blocksTold omensTold highBlock taped fault broken brokenAt spot here token value bumpAt bumpIn bumpOf waited keptOut visited seenMany drawn torn state locks waits readPage readLocks tape cuts letters place left hasSeen homeAt places seen wouldBe isKept lanes lengths cells) → va_S A s.heap H locs → W p l e rm_M_read s m args below meth c H locs 0 0 Z (F0 m 196 ls [])) : ∀ (n : Nat) (state : Nat → Int32) (x5 : Int32) (x6 : Int32) (x7 : Int32), M_read_L55 blocks lockMany locks lanes lengths cells x1 x2 x3 x4 k174 k196 n state x5 x6 x7 → ∀ (ls : Array Slot) (H : Heap) (locs : List Loc), lv_has ls 9 [(0, .ref (ad 0)), (1, .int x1), (2, .int x2), (3, .int x3), (4, .int x4), (5, .int x5), (6, .int x6), (7, .int x7)] → va_P D vwCl (mW ad ca blocks trainMany lockMany readBlocks readTrains readLockMany blocksTold omensTold highBlock taped fault broken brokenAt spot here token value bumpAt bumpIn bumpOf waited keptOut visited seenMany drawn torn state locks waits readPage readLocks tape cuts letters place left hasSeen homeAt places seen wouldBe isKept lanes lengths cells) H → va_D A (mW ad ca blocks trainMany lockMany readBlocks readTrains readLockMany blocksTold omensTold highBlock taped fault broken brokenAt spot here token value bumpAt bumpIn bumpOf waited keptOut visited seenMany drawn torn state locks waits readPage readLocks tape cuts letters place left hasSeen homeAt places seen wouldBe isKept lanes lengths cells) → va_S A s.heap H locs → W p l e rm_M_read s m args below meth c H locs 0 0 Z (F0 m 55 ls []) := by
  have hx := C.1; have hb := C.2.1; have hr := C.2.2.1; have hlocks := C.2.2.2.1; have hml := C.2.2.2.2.1; have hown := C.2.2.2.2.2.1; have hts := C.2.2.2.2.2.2.1; have hn := C.2.2.2.2.2.2.2.1; have hK := C.2.2.2.2.2.2.2.2.1; have hA := C.2.2.2.2.2.2.2.2.2
  intro n
  induction n with
  | zero =>
    intro state x5 x6 x7 G
    exact False.elim G
  | succ n ih =>
    intro state x5 x6 x7 G ls H locs hl hP hD hS
    unfold M_read_L55 at G
    have hk55 := ih
    refine lv_iload hx hb dX7_read_55 (lv_at hl 7 rfl) ?_
    refine lv_iconst (v := 2) hx hb dX7_read_57 (by decide) ?_
    refine lv_iload hx hb dX7_read_58 (lv_at hl 4 rfl) ?_
    refine lv_imul hx hb dX7_read_60 ?_
    refine lv_icmp_ge (tgt := 196) hx hb dX7_read_61 (by decide) (fun c_9 => ?_) (fun c_9 => ?_)
    · have G := G.1 c_9
      exact hk196 _ _ _ G _ _ _ (lv_sub hl [0, 5, 6] rfl) hP hD hS
    · have G := G.2 c_9
      refine lv_iload hx hb dX7_read_64 (lv_at hl 5 rfl) ?_
      refine lv_if_ne (tgt := 196) hx hb dX7_read_66 (by decide) (fun c_10 => ?_) (fun c_10 => ?_)
      · have G := G.2 c_10
        exact hk196 _ _ _ G _ _ _ (lv_sub hl [0, 5, 6] rfl) hP hD hS
      · have G := G.1 c_10
        refine lv_aload_n hx hb dX7_read_69 rfl (lv_at hl 0 rfl) ?_
        refine va_get hx hb hts in_X7 hown hK hP 0 rfl rfl 41 (by decide) (hts _ q969) (fun _ h => h) rfl dX7_read_70 ?_
        refine lv_iload_n hx hb dX7_read_73 rfl (lv_at hl 1 rfl) ?_
        obtain ⟨h_11, G⟩ := G
        refine va_iald hx hb hK hP 17 0 rfl rfl h_11 dX7_read_74 ?_
        refine lv_bipush (v := -4) hx hb dX7_read_75 (by decide) ?_
        obtain ⟨h_13, G⟩ := G
        obtain ⟨h_15, G⟩ := G
        have hJ : ∀ (H : Heap) (locs : List Loc), va_P D vwCl (mW ad ca blocks trainMany lockMany readBlocks readTrains readLockMany blocksTold omensTold highBlock taped fault broken brokenAt spot here token value bumpAt bumpIn bumpOf waited keptOut visited seenMany drawn torn state locks waits readPage readLocks tape cuts letters place left hasSeen homeAt places seen wouldBe isKept lanes lengths cells) H → va_D A (mW ad ca blocks trainMany lockMany readBlocks readTrains readLockMany blocksTold omensTold highBlock taped fault broken brokenAt spot here token value bumpAt bumpIn bumpOf waited keptOut visited seenMany drawn torn state locks waits readPage readLocks tape cuts letters place left hasSeen homeAt places seen wouldBe isKept lanes lengths cells) → va_S A s.heap H locs → ∀ v_25 : Int32, v_25 = (if (lanes x1.toNatClampNeg) = (-4 : Int32) then (1 : Int32) else (if (lanes x1.toNatClampNeg) = x2 then (if (M_in_e (((x3).toInt64) + ((x7).toInt64)) (0 : Int64) ((((lengths x1.toNatClampNeg) - (1 : Int32))).toInt64)) = 0 then (2 : Int32) else (0 : Int32)) else (3 : Int32))) → W p l e rm_M_read s m args below meth c H locs 0 0 Z (F0 m 125 ls (.int v_25 :: [])) := by
          intro H locs hP hD hS v_25 hv
          subst hv
          refine lv_istore (lv' := [(5, .int (if (lanes x1.toNatClampNeg) = (-4 : Int32) then (1 : Int32) else (if (lanes x1.toNatClampNeg) = x2 then (if (M_in_e (((x3).toInt64) + ((x7).toInt64)) (0 : Int64) ((((lengths x1.toNatClampNeg) - (1 : Int32))).toInt64)) = 0 then (2 : Int32) else (0 : Int32)) else (3 : Int32)))), (0, .ref (ad 0)), (1, .int x1), (2, .int x2), (3, .int x3), (4, .int x4), (6, .int x6), (7, .int x7)]) hx hb dX7_read_125 hl (by decide) rfl (fun ls hl => ?_)
          refine lv_iload hx hb dX7_read_127 (lv_at hl 0 rfl) ?_
          refine lv_if_ne (tgt := 190) hx hb dX7_read_129 (by decide) (fun c_18 => ?_) (fun c_18 => ?_)
          · have G := G.2 c_18
            exact w_M_read_J190 C hk55 hk174 hk196 G (lv_sub hl [1, 2, 3, 4, 5, 0, 6, 7] rfl) hP hD hS
          · have G := G.1 c_18
            refine lv_iload hx hb dX7_read_132 (lv_at hl 7 rfl) ?_
            refine lv_iconst (v := 2) hx hb dX7_read_134 (by decide) ?_
            refine lv_irem hx hb dX7_read_135 (by decide) ?_
            refine lv_iconst (v := 1) hx hb dX7_read_136 (by decide) ?_
            refine lv_icmp_ne (tgt := 190) hx hb dX7_read_137 (by decide) (fun c_19 => ?_) (fun c_19 => ?_)
            · have G := G.2 c_19
              exact w_M_read_J190 C hk55 hk174 hk196 G (lv_sub hl [1, 2, 3, 4, 5, 0, 6, 7] rfl) hP hD hS
            · have G := G.1 c_19
              refine lv_bipush (v := 40) hx hb dX7_read_140 (by decide) ?_
              refine lv_iload_n hx hb dX7_read_142 rfl (lv_at hl 2 rfl) ?_
              refine lv_imul hx hb dX7_read_143 ?_
              refine lv_iload_n hx hb dX7_read_144 rfl (lv_at hl 4 rfl) ?_
              refine lv_iadd hx hb dX7_read_145 ?_
              refine lv_iload hx hb dX7_read_146 (lv_at hl 7 rfl) ?_
              refine lv_iadd hx hb dX7_read_148 ?_
              refine lv_istore (lv' := [(8, .int ((((40 : Int32) * x1) + x3) + x7)), (5, .int (if (lanes x1.toNatClampNeg) = (-4 : Int32) then (1 : Int32) else (if (lanes x1.toNatClampNeg) = x2 then (if (M_in_e (((x3).toInt64) + ((x7).toInt64)) (0 : Int64) ((((lengths x1.toNatClampNeg) - (1 : Int32))).toInt64)) = 0 then (2 : Int32) else (0 : Int32)) else (3 : Int32)))), (0, .ref (ad 0)), (1, .int x1), (2, .int x2), (3, .int x3), (4, .int x4), (6, .int x6), (7, .int x7)]) hx hb dX7_read_149 hl (by decide) rfl (fun ls hl => ?_)
              refine lv_aload_n hx hb dX7_read_151 rfl (lv_at hl 2 rfl) ?_
              refine lv_aload_n hx hb dX7_read_152 rfl (lv_at hl 2 rfl) ?_
              refine va_get hx hb hts in_X7 hown hK hP 0 rfl rfl 43 (by decide) (hts _ q971) (fun _ h => h) rfl dX7_read_153 ?_
              refine lv_iload hx hb dX7_read_156 (lv_at hl 0 rfl) ?_
              refine lv_iconst (v := 1) hx hb dX7_read_158 (by decide) ?_
              refine lv_isub hx hb dX7_read_159 ?_
              obtain ⟨h_20, G⟩ := G
              refine va_iald hx hb hK hP 19 0 rfl rfl h_20 dX7_read_160 ?_
              refine lv_aload_n hx hb dX7_read_161 rfl (lv_at hl 2 rfl) ?_
              refine va_get hx hb hts in_X7 hown hK hP 0 rfl rfl 43 (by decide) (hts _ q971) (fun _ h => h) rfl dX7_read_162 ?_
              refine lv_iload hx hb dX7_read_165 (lv_at hl 0 rfl) ?_
              obtain ⟨h_21, G⟩ := G
              refine va_iald hx hb hK hP 19 0 rfl rfl h_21 dX7_read_167 ?_
              refine wc_Vi (As := [.int (cells (((((40 : Int32) * x1) + x3) + x7) - (1 : Int32)).toNatClampNeg), .int (cells ((((40 : Int32) * x1) + x3) + x7).toNatClampNeg)]) (rest := []) C (met_M_hangs l D ad ca H.size blocks trainMany lockMany readBlocks readTrains readLockMany blocksTold omensTold highBlock taped fault broken brokenAt spot here token value bumpAt bumpIn bumpOf waited keptOut visited seenMany drawn torn state locks waits readPage readLocks tape cuts letters place left hasSeen homeAt places seen wouldBe isKept lanes lengths cells (cells (((((40 : Int32) * x1) + x3) + x7) - (1 : Int32)).toNatClampNeg) (cells ((((40 : Int32) * x1) + x3) + x7).toNatClampNeg) _ G) (cwV 2 hts (lw_V q1177 q1179 qs51 q75 q1180) rfl rfl rfl (by decide +kernel) ⟨Nat.le_of_ble_eq_true rfl, Nat.le_of_ble_eq_true rfl⟩) hP hD hS 0 rfl rfl rfl rfl hl.1 (Nat.le_of_ble_eq_true rfl) dX7_read_168 ⟨Nat.le_of_ble_eq_true rfl, Nat.le_of_ble_eq_true rfl⟩ (fun r_22 u H locs G hP hD hS => ?_)
              obtain ⟨state_23, rfl⟩ : ∃ z, z = u := ⟨u, rfl⟩
              have hP : va_P D vwCl (mW ad ca blocks trainMany lockMany readBlocks readTrains readLockMany blocksTold omensTold highBlock taped fault broken brokenAt spot here token value bumpAt bumpIn bumpOf waited keptOut visited seenMany drawn torn state_23 locks waits readPage readLocks tape cuts letters place left hasSeen homeAt places seen wouldBe isKept lanes lengths cells) H := hP
              have hD : va_D A (mW ad ca blocks trainMany lockMany readBlocks readTrains readLockMany blocksTold omensTold highBlock taped fault broken brokenAt spot here token value bumpAt bumpIn bumpOf waited keptOut visited seenMany drawn torn state_23 locks waits readPage readLocks tape cuts letters place left hasSeen homeAt places seen wouldBe isKept lanes lengths cells) := hD
              refine lv_if_ge (tgt := 187) hx hb dX7_read_171 (by decide) (fun c_24 => ?_) (fun c_24 => ?_)
              · have G := G.1 c_24
                refine lv_iinc (v := (x6 + (1 : Int32))) (lv' := [(6, .int (x6 + (1 : Int32))), (8, .int ((((40 : Int32) * x1) + x3) + x7)), (5, .int (if (lanes x1.toNatClampNeg) = (-4 : Int32) then (1 : Int32) else (if (lanes x1.toNatClampNeg) = x2 then (if (M_in_e (((x3).toInt64) + ((x7).toInt64)) (0 : Int64) ((((lengths x1.toNatClampNeg) - (1 : Int32))).toInt64)) = 0 then (2 : Int32) else (0 : Int32)) else (3 : Int32)))), (0, .ref (ad 0)), (1, .int x1), (2, .int x2), (3, .int x3), (4, .int x4), (7, .int x7)]) hx hb dX7_read_187 hl (k := 7) rfl rfl (by decide) rfl (fun ls hl => ?_)
                exact w_M_read_J190 C hk55 hk174 hk196 G (lv_sub hl [3, 4, 5, 6, 7, 2, 0, 8] rfl) hP hD hS
              · have G := G.2 c_24
                exact hk174 _ _ G _ _ _ (lv_sub hl [2, 7] rfl) hP hD hS
        refine lv_icmp_ne (tgt := 84) hx hb dX7_read_77 (by decide) (fun c_12 => ?_) (fun c_12 => ?_)
        · refine lv_aload_n hx hb dX7_read_84 rfl (lv_at hl 0 rfl) ?_
          refine va_get hx hb hts in_X7 hown hK hP 0 rfl rfl 41 (by decide) (hts _ q969) (fun _ h => h) rfl dX7_read_85 ?_
          refine lv_iload_n hx hb dX7_read_88 rfl (lv_at hl 1 rfl) ?_
          refine va_iald hx hb hK hP 17 0 rfl rfl (h_13 c_12) dX7_read_89 ?_
          refine lv_iload_n hx hb dX7_read_90 rfl (lv_at hl 2 rfl) ?_
          refine lv_icmp_eq (tgt := 98) hx hb dX7_read_91 (by decide) (fun c_14 => ?_) (fun c_14 => ?_)
          · refine lv_iload_n hx hb dX7_read_98 rfl (lv_at hl 3 rfl) ?_
            refine lv_i2l hx hb dX7_read_99 rfl ?_
            refine lv_iload hx hb dX7_read_100 (lv_at hl 7 rfl) ?_
            refine lv_i2l hx hb dX7_read_102 rfl ?_
            refine lv_ladd hx hb dX7_read_103 ?_
            refine lv_lconst (v := 0) hx hb dX7_read_104 (by decide) ?_
            refine lv_aload_n hx hb dX7_read_105 rfl (lv_at hl 0 rfl) ?_
            refine va_get hx hb hts in_X7 hown hK hP 0 rfl rfl 42 (by decide) (hts _ q970) (fun _ h => h) rfl dX7_read_106 ?_
            refine lv_iload_n hx hb dX7_read_109 rfl (lv_at hl 1 rfl) ?_
            refine va_iald hx hb hK hP 18 0 rfl rfl (h_15 c_12 c_14) dX7_read_110 ?_
            refine lv_iconst (v := 1) hx hb dX7_read_111 (by decide) ?_
            refine lv_isub hx hb dX7_read_112 ?_
            refine lv_i2l hx hb dX7_read_113 rfl ?_
            refine wc_Sik (As := [.long (((x3).toInt64) + ((x7).toInt64)), .long (0 : Int64), .long ((((lengths x1.toNatClampNeg) - (1 : Int32))).toInt64)]) (rest := []) C (met_M_in l D ca H.size (((x3).toInt64) + ((x7).toInt64)) (0 : Int64) ((((lengths x1.toNatClampNeg) - (1 : Int32))).toInt64)) (va_cwS 3 hts (lw_S q1069 q1070 q75 q1071) rfl rfl rfl (by decide +kernel) ⟨Nat.le_of_ble_eq_true rfl, Nat.le_of_ble_eq_true rfl⟩) hP hD hS [] rfl (by decide) rfl rfl hl.1 (Nat.le_of_ble_eq_true rfl) dX7_read_114 ⟨Nat.le_of_ble_eq_true rfl, Nat.le_of_ble_eq_true rfl⟩ (fun r_16 u H locs hr hP hD hS => ?_)
            subst hr
            refine lv_if_ne (tgt := 124) hx hb dX7_read_117 (by decide) (fun c_17 => ?_) (fun c_17 => ?_)
            · refine lv_iconst (v := 0) hx hb dX7_read_124 (by decide) ?_
              exact hJ _ _ hP hD hS _ (eF c_12 (eT c_14 (eF c_17 rfl)))
            · refine lv_iconst (v := 2) hx hb dX7_read_120 (by decide) ?_
              refine lv_goto (tgt := 125) hx hb dX7_read_121 (by decide) ?_
              exact hJ _ _ hP hD hS _ (eF c_12 (eT c_14 (eT c_17 rfl)))
          · refine lv_iconst (v := 3) hx hb dX7_read_94 (by decide) ?_
            refine lv_goto (tgt := 125) hx hb dX7_read_95 (by decide) ?_
            exact hJ _ _ hP hD hS _ (eF c_12 (eF c_14 rfl))
        · refine lv_iconst (v := 1) hx hb dX7_read_80 (by decide) ?_
          refine lv_goto (tgt := 125) hx hb dX7_read_81 (by decide) ?_
          exact hJ _ _ hP hD hS _ (eT c_12 rfl)
set_option maxHeartbeats 4000000 in
theorem met_M_read (l : Launch) (D : va_G) (ad : Nat → Nat) (ca : Nat → ClassId) (sz : Nat) (blocks : Int32) (trainMany : Int32) (lockMany : Int32) (readBlocks : Int32) (readTrains : Int32) (readLockMany : Int32) (blocksTold : Int32) (omensTold : Int32) (highBlock : Int32) (taped : Int32) (fault : Int32) (broken : Int32) (brokenAt : Int32) (spot : Int32) (here : Int32) (token : Int32) (value : Int32) (bumpAt : Int32) (bumpIn : Int32) (bumpOf : Int32) (waited : Int32) (keptOut : Int32) (visited : Int32) (seenMany : Int32) (drawn : Int32) (torn : Int32) (state : Nat → Int32) (locks : Nat → Int32) (waits : Nat → Int32) (readPage : Nat → Int32) (readLocks : Nat → Int32) (tape : Nat → Int32) (cuts : Nat → Int32) (letters : Nat → Int32) (place : Nat → Int32) (left : Nat → Int32) (hasSeen : Nat → Int32) (homeAt : Nat → Int32) (places : Nat → Int32) (seen : Nat → Int32) (wouldBe : Nat → Int32) (isKept : Nat → Int32) (lanes : Nat → Int32) (lengths : Nat → Int32) (cells : Nat → Int32) (x1 : Int32) (x2 : Int32) (x3 : Int32) (x4 : Int32) (Q : Int32 → Int32 → (Nat → Int32) → Prop) (G : M_read blocks lockMany torn state locks lanes lengths cells x1 x2 x3 x4 Q) : Met l yX7_read (ws_ yX7_read cX7_read 9 (some .int)) rm_M_read (va_Pc [.ref (ad 0), .int x1, .int x2, .int x3, .int x4] (wpre D vwCl (tyL ca) (mW ad ca blocks trainMany lockMany readBlocks readTrains readLockMany blocksTold omensTold highBlock taped fault broken brokenAt spot here token value bumpAt bumpIn bumpOf waited keptOut visited seenMany drawn torn state locks waits readPage readLocks tape cuts letters place left hasSeen homeAt places seen wouldBe isKept lanes lengths cells) sz)) (va_Qi (fun (r : Int32) (u : Int32 × (Nat → Int32)) => Q r u.1 u.2) (wpost D vwCl (va_A (mW ad ca blocks trainMany lockMany readBlocks readTrains readLockMany blocksTold omensTold highBlock taped fault broken brokenAt spot here token value bumpAt bumpIn bumpOf waited keptOut visited seenMany drawn torn state locks waits readPage readLocks tape cuts letters place left hasSeen homeAt places seen wouldBe isKept lanes lengths cells) sz) (fun (u : Int32 × (Nat → Int32)) => (mW ad ca blocks trainMany lockMany readBlocks readTrains readLockMany blocksTold omensTold highBlock taped fault broken brokenAt spot here token value bumpAt bumpIn bumpOf waited keptOut visited seenMany drawn u.1 u.2 locks waits readPage readLocks tape cuts letters place left hasSeen homeAt places seen wouldBe isKept lanes lengths cells))) (va_A (mW ad ca blocks trainMany lockMany readBlocks readTrains readLockMany blocksTold omensTold highBlock taped fault broken brokenAt spot here token value bumpAt bumpIn bumpOf waited keptOut visited seenMany drawn torn state locks waits readPage readLocks tape cuts letters place left hasSeen homeAt places seen wouldBe isKept lanes lengths cells) sz)) 0 0 (va_A (mW ad ca blocks trainMany lockMany readBlocks readTrains readLockMany blocksTold omensTold highBlock taped fault broken brokenAt spot here token value bumpAt bumpIn bumpOf waited keptOut visited seenMany drawn torn state locks waits readPage readLocks tape cuts letters place left hasSeen homeAt places seen wouldBe isKept lanes lengths cells) sz) := by
  refine met_of (fun A => (va_Qi (fun (r : Int32) (u : Int32 × (Nat → Int32)) => Q r u.1 u.2) (wpost D vwCl A (fun (u : Int32 × (Nat → Int32)) => (mW ad ca blocks trainMany lockMany readBlocks readTrains readLockMany blocksTold omensTold highBlock taped fault broken brokenAt spot here token value bumpAt bumpIn bumpOf waited keptOut visited seenMany drawn u.1 u.2 locks waits readPage readLocks tape cuts letters place left hasSeen homeAt places seen wouldBe isKept lanes lengths cells))) A)) (by decide) (Nat.le_of_ble_eq_true rfl) ?_
  intro p e s m args below meth c Z A hZ C H locs hP hD hS ls hl
  have hx := C.1; have hb := C.2.1; have hr := C.2.2.1; have hlocks := C.2.2.2.1; have hml := C.2.2.2.2.1; have hown := C.2.2.2.2.2.1; have hts := C.2.2.2.2.2.2.1; have hn := C.2.2.2.2.2.2.2.1; have hK := C.2.2.2.2.2.2.2.2.1; have hA := C.2.2.2.2.2.2.2.2.2
  have hl : lv_has ls 9 [(0, .ref (ad 0)), (1, .int x1), (2, .int x2), (3, .int x3), (4, .int x4)] := hl
  unfold M_read at G
  refine lv_iload_n hx hb dX7_read_0 rfl (lv_at hl 1 rfl) ?_
  refine lv_i2l hx hb dX7_read_1 rfl ?_
  refine lv_lconst (v := 0) hx hb dX7_read_2 (by decide) ?_
  refine lv_ldc2 hx hb hown (hts _ q1168) dX7_read_3 ?_
  refine wc_Sik (As := [.long ((x1).toInt64), .long (0 : Int64), .long (3 : Int64)]) (rest := []) C (met_M_in l D ca H.size ((x1).toInt64) (0 : Int64) (3 : Int64)) (va_cwS 3 hts (lw_S q1069 q1070 q75 q1071) rfl rfl rfl (by decide +kernel) ⟨Nat.le_of_ble_eq_true rfl, Nat.le_of_ble_eq_true rfl⟩) hP hD hS [] rfl (by decide) rfl rfl hl.1 (Nat.le_of_ble_eq_true rfl) dX7_read_6 ⟨Nat.le_of_ble_eq_true rfl, Nat.le_of_ble_eq_true rfl⟩ (fun r_1 u H locs hr hP hD hS => ?_)
  subst hr
  refine lv_if_eq (tgt := 37) hx hb dX7_read_9 (by decide) (fun c_2 => ?_) (fun c_2 => ?_)
  · have G := G.1 c_2
    refine lv_iconst (v := -1) hx hb dX7_read_37 (by decide) ?_
    rw [hZ]
    exact W.iret hx hb hr (fun t ht hW => ⟨⟨(-1 : Int32), (torn, state), rfl, G, by rw [ht]; exact hP, hD⟩, hS.F ht⟩) hS.2.2 dX7_read_38 hlocks
  · have G := G.2 c_2
    refine lv_iload_n hx hb dX7_read_12 rfl (lv_at hl 2 rfl) ?_
    refine lv_i2l hx hb dX7_read_13 rfl ?_
    refine lv_lconst (v := 0) hx hb dX7_read_14 (by decide) ?_
    refine lv_ldc2 hx hb hown (hts _ q1151) dX7_read_15 ?_
    refine wc_Sik (As := [.long ((x2).toInt64), .long (0 : Int64), .long (2 : Int64)]) (rest := []) C (met_M_in l D ca H.size ((x2).toInt64) (0 : Int64) (2 : Int64)) (va_cwS 3 hts (lw_S q1069 q1070 q75 q1071) rfl rfl rfl (by decide +kernel) ⟨Nat.le_of_ble_eq_true rfl, Nat.le_of_ble_eq_true rfl⟩) hP hD hS [] rfl (by decide) rfl rfl hl.1 (Nat.le_of_ble_eq_true rfl) dX7_read_18 ⟨Nat.le_of_ble_eq_true rfl, Nat.le_of_ble_eq_true rfl⟩ (fun r_3 u H locs hr hP hD hS => ?_)
    subst hr
    refine lv_if_eq (tgt := 37) hx hb dX7_read_21 (by decide) (fun c_4 => ?_) (fun c_4 => ?_)
    · have G := G.1 c_4
      refine lv_iconst (v := -1) hx hb dX7_read_37 (by decide) ?_
      rw [hZ]
      exact W.iret hx hb hr (fun t ht hW => ⟨⟨(-1 : Int32), (torn, state), rfl, G, by rw [ht]; exact hP, hD⟩, hS.F ht⟩) hS.2.2 dX7_read_38 hlocks
    · have G := G.2 c_4
      refine lv_iload hx hb dX7_read_24 (lv_at hl 4 rfl) ?_
      refine lv_i2l hx hb dX7_read_26 rfl ?_
      refine lv_lconst (v := 0) hx hb dX7_read_27 (by decide) ?_
      refine lv_ldc2 hx hb hown (hts _ q1323) dX7_read_28 ?_
      refine wc_Sik (As := [.long ((x4).toInt64), .long (0 : Int64), .long (20 : Int64)]) (rest := []) C (met_M_in l D ca H.size ((x4).toInt64) (0 : Int64) (20 : Int64)) (va_cwS 3 hts (lw_S q1069 q1070 q75 q1071) rfl rfl rfl (by decide +kernel) ⟨Nat.le_of_ble_eq_true rfl, Nat.le_of_ble_eq_true rfl⟩) hP hD hS [] rfl (by decide) rfl rfl hl.1 (Nat.le_of_ble_eq_true rfl) dX7_read_31 ⟨Nat.le_of_ble_eq_true rfl, Nat.le_of_ble_eq_true rfl⟩ (fun r_5 u H locs hr hP hD hS => ?_)
      subst hr
      refine lv_if_ne (tgt := 39) hx hb dX7_read_34 (by decide) (fun c_6 => ?_) (fun c_6 => ?_)
      · have G := G.2 c_6
        refine lv_aload_n hx hb dX7_read_39 rfl (lv_at hl 0 rfl) ?_
        refine lv_iconst (v := 0) hx hb dX7_read_40 (by decide) ?_
        refine lv_bipush (v := 75) hx hb dX7_read_41 (by decide) ?_
        refine wc_Vv (As := [.int (0 : Int32), .int (75 : Int32)]) (rest := []) C (met_M_copies l D ad ca H.size blocks trainMany lockMany readBlocks readTrains readLockMany blocksTold omensTold highBlock taped fault broken brokenAt spot here token value bumpAt bumpIn bumpOf waited keptOut visited seenMany drawn torn state locks waits readPage readLocks tape cuts letters place left hasSeen homeAt places seen wouldBe isKept lanes lengths cells (0 : Int32) (75 : Int32) _ G) (cwV 2 hts (lw_V q1255 q1257 qs60 q75 q1258) rfl rfl rfl (by decide +kernel) ⟨Nat.le_of_ble_eq_true rfl, Nat.le_of_ble_eq_true rfl⟩) hP hD hS 0 rfl rfl rfl rfl hl.1 (Nat.le_of_ble_eq_true rfl) dX7_read_43 ⟨Nat.le_of_ble_eq_true rfl, Nat.le_of_ble_eq_true rfl⟩ (fun u H locs G hP hD hS => ?_)
        obtain ⟨state_8, rfl⟩ : ∃ z, z = u := ⟨u, rfl⟩
        have hP : va_P D vwCl (mW ad ca blocks trainMany lockMany readBlocks readTrains readLockMany blocksTold omensTold highBlock taped fault broken brokenAt spot here token value bumpAt bumpIn bumpOf waited keptOut visited seenMany drawn torn state_8 locks waits readPage readLocks tape cuts letters place left hasSeen homeAt places seen wouldBe isKept lanes lengths cells) H := hP
        have hD : va_D A (mW ad ca blocks trainMany lockMany readBlocks readTrains readLockMany blocksTold omensTold highBlock taped fault broken brokenAt spot here token value bumpAt bumpIn bumpOf waited keptOut visited seenMany drawn torn state_8 locks waits readPage readLocks tape cuts letters place left hasSeen homeAt places seen wouldBe isKept lanes lengths cells) := hD
        refine lv_iconst (v := 0) hx hb dX7_read_46 (by decide) ?_
        refine lv_istore (lv' := [(5, .int (0 : Int32)), (0, .ref (ad 0)), (1, .int x1), (2, .int x2), (3, .int x3), (4, .int x4)]) hx hb dX7_read_47 hl (by decide) rfl (fun ls hl => ?_)
        refine lv_iconst (v := 0) hx hb dX7_read_49 (by decide) ?_
        refine lv_istore (lv' := [(6, .int (0 : Int32)), (5, .int (0 : Int32)), (0, .ref (ad 0)), (1, .int x1), (2, .int x2), (3, .int x3), (4, .int x4)]) hx hb dX7_read_50 hl (by decide) rfl (fun ls hl => ?_)
        refine lv_iconst (v := 0) hx hb dX7_read_52 (by decide) ?_
        refine lv_istore (lv' := [(7, .int (0 : Int32)), (6, .int (0 : Int32)), (5, .int (0 : Int32)), (0, .ref (ad 0)), (1, .int x1), (2, .int x2), (3, .int x3), (4, .int x4)]) hx hb dX7_read_53 hl (by decide) rfl (fun ls hl => ?_)
        obtain ⟨n_26, G⟩ := G
        refine w_M_read_L55 C (fun state_27 x6_28 G ls H locs hl hP hD hS => ?_) (fun state_31 x5_32 x6_33 G ls H locs hl hP hD hS => ?_) n_26 _ _ _ _ G _ _ _ (lv_sub hl [3, 4, 5, 6, 7, 2, 1, 0] rfl) hP hD hS
        · refine lv_aload_n hx hb dX7_read_174 rfl (lv_at hl 0 rfl) ?_
          refine lv_bipush (v := 75) hx hb dX7_read_175 (by decide) ?_
          refine lv_iconst (v := 0) hx hb dX7_read_177 (by decide) ?_
          refine wc_Vv (As := [.int (75 : Int32), .int (0 : Int32)]) (rest := []) C (met_M_copies l D ad ca H.size blocks trainMany lockMany readBlocks readTrains readLockMany blocksTold omensTold highBlock taped fault broken brokenAt spot here token value bumpAt bumpIn bumpOf waited keptOut visited seenMany drawn torn state_27 locks waits readPage readLocks tape cuts letters place left hasSeen homeAt places seen wouldBe isKept lanes lengths cells (75 : Int32) (0 : Int32) _ G) (cwV 2 hts (lw_V q1255 q1257 qs60 q75 q1258) rfl rfl rfl (by decide +kernel) ⟨Nat.le_of_ble_eq_true rfl, Nat.le_of_ble_eq_true rfl⟩) hP hD hS 0 rfl rfl rfl rfl hl.1 (Nat.le_of_ble_eq_true rfl) dX7_read_178 ⟨Nat.le_of_ble_eq_true rfl, Nat.le_of_ble_eq_true rfl⟩ (fun u H locs G hP hD hS => ?_)
          obtain ⟨state_30, rfl⟩ : ∃ z, z = u := ⟨u, rfl⟩
          have hP : va_P D vwCl (mW ad ca blocks trainMany lockMany readBlocks readTrains readLockMany blocksTold omensTold highBlock taped fault broken brokenAt spot here token value bumpAt bumpIn bumpOf waited keptOut visited seenMany drawn torn state_30 locks waits readPage readLocks tape cuts letters place left hasSeen homeAt places seen wouldBe isKept lanes lengths cells) H := hP
          have hD : va_D A (mW ad ca blocks trainMany lockMany readBlocks readTrains readLockMany blocksTold omensTold highBlock taped fault broken brokenAt spot here token value bumpAt bumpIn bumpOf waited keptOut visited seenMany drawn torn state_30 locks waits readPage readLocks tape cuts letters place left hasSeen homeAt places seen wouldBe isKept lanes lengths cells) := hD
          refine lv_bipush (v := -20) hx hb dX7_read_181 (by decide) ?_
          refine lv_iload hx hb dX7_read_183 (lv_at hl 1 rfl) ?_
          refine lv_isub hx hb dX7_read_185 ?_
          rw [hZ]
          exact W.iret hx hb hr (fun t ht hW => ⟨⟨((-20 : Int32) - x6_28), (torn, state_30), rfl, G, by rw [ht]; exact hP, hD⟩, hS.F ht⟩) hS.2.2 dX7_read_186 hlocks
        · refine lv_aload_n hx hb dX7_read_196 rfl (lv_at hl 0 rfl) ?_
          refine lv_iload hx hb dX7_read_197 (lv_at hl 1 rfl) ?_
          refine va_put hx hb hts in_X7 tyX7 tyX7_ok nmX7 hown hK hP hD hS 0 rfl rfl 44 (by decide) (hts _ q972) (fun _ h => h) rfl (tyX7_ok 44 (by decide)) rfl rfl (Nat.le_of_ble_eq_true rfl) dX7_read_199 (fun H locs hP hD hS => ?_)
          have hP : va_P D vwCl (mW ad ca blocks trainMany lockMany readBlocks readTrains readLockMany blocksTold omensTold highBlock taped fault broken brokenAt spot here token value bumpAt bumpIn bumpOf waited keptOut visited seenMany drawn x5_32 state_31 locks waits readPage readLocks tape cuts letters place left hasSeen homeAt places seen wouldBe isKept lanes lengths cells) H := hP
          have hD : va_D A (mW ad ca blocks trainMany lockMany readBlocks readTrains readLockMany blocksTold omensTold highBlock taped fault broken brokenAt spot here token value bumpAt bumpIn bumpOf waited keptOut visited seenMany drawn x5_32 state_31 locks waits readPage readLocks tape cuts letters place left hasSeen homeAt places seen wouldBe isKept lanes lengths cells) := hD
          refine lv_iload hx hb dX7_read_202 (lv_at hl 2 rfl) ?_
          rw [hZ]
          exact W.iret hx hb hr (fun t ht hW => ⟨⟨x6_33, (x5_32, state_31), rfl, G, by rw [ht]; exact hP, hD⟩, hS.F ht⟩) hS.2.2 dX7_read_204 hlocks
      · have G := G.1 c_6
        refine lv_iconst (v := -1) hx hb dX7_read_37 (by decide) ?_
        rw [hZ]
        exact W.iret hx hb hr (fun t ht hW => ⟨⟨(-1 : Int32), (torn, state), rfl, G, by rw [ht]; exact hP, hD⟩, hS.F ht⟩) hS.2.2 dX7_read_38 hlocks
abbrev rm_M_torn : Room := { frames := 1, cells := 0, slots := 0, locals := 0 }
set_option maxHeartbeats 4000000 in
theorem met_M_torn (l : Launch) (D : va_G) (ad : Nat → Nat) (ca : Nat → ClassId) (sz : Nat) (blocks : Int32) (trainMany : Int32) (lockMany : Int32) (readBlocks : Int32) (readTrains : Int32) (readLockMany : Int32) (blocksTold : Int32) (omensTold : Int32) (highBlock : Int32) (taped : Int32) (fault : Int32) (broken : Int32) (brokenAt : Int32) (spot : Int32) (here : Int32) (token : Int32) (value : Int32) (bumpAt : Int32) (bumpIn : Int32) (bumpOf : Int32) (waited : Int32) (keptOut : Int32) (visited : Int32) (seenMany : Int32) (drawn : Int32) (torn : Int32) (state : Nat → Int32) (locks : Nat → Int32) (waits : Nat → Int32) (readPage : Nat → Int32) (readLocks : Nat → Int32) (tape : Nat → Int32) (cuts : Nat → Int32) (letters : Nat → Int32) (place : Nat → Int32) (left : Nat → Int32) (hasSeen : Nat → Int32) (homeAt : Nat → Int32) (places : Nat → Int32) (seen : Nat → Int32) (wouldBe : Nat → Int32) (isKept : Nat → Int32) (lanes : Nat → Int32) (lengths : Nat → Int32) (cells : Nat → Int32)  : Met l yX7_torn (ws_ yX7_torn cX7_torn 1 (some .int)) rm_M_torn (va_Pc [.ref (ad 0)] (wpre D vwCl (tyL ca) (mW ad ca blocks trainMany lockMany readBlocks readTrains readLockMany blocksTold omensTold highBlock taped fault broken brokenAt spot here token value bumpAt bumpIn bumpOf waited keptOut visited seenMany drawn torn state locks waits readPage readLocks tape cuts letters place left hasSeen homeAt places seen wouldBe isKept lanes lengths cells) sz)) (va_Qi (fun (r : Int32) (u : Unit) => r = M_torn_e torn) (wpost D vwCl (va_A (mW ad ca blocks trainMany lockMany readBlocks readTrains readLockMany blocksTold omensTold highBlock taped fault broken brokenAt spot here token value bumpAt bumpIn bumpOf waited keptOut visited seenMany drawn torn state locks waits readPage readLocks tape cuts letters place left hasSeen homeAt places seen wouldBe isKept lanes lengths cells) sz) (fun (u : Unit) => (mW ad ca blocks trainMany lockMany readBlocks readTrains readLockMany blocksTold omensTold highBlock taped fault broken brokenAt spot here token value bumpAt bumpIn bumpOf waited keptOut visited seenMany drawn torn state locks waits readPage readLocks tape cuts letters place left hasSeen homeAt places seen wouldBe isKept lanes lengths cells))) (va_A (mW ad ca blocks trainMany lockMany readBlocks readTrains readLockMany blocksTold omensTold highBlock taped fault broken brokenAt spot here token value bumpAt bumpIn bumpOf waited keptOut visited seenMany drawn torn state locks waits readPage readLocks tape cuts letters place left hasSeen homeAt places seen wouldBe isKept lanes lengths cells) sz)) 0 0 (va_A (mW ad ca blocks trainMany lockMany readBlocks readTrains readLockMany blocksTold omensTold highBlock taped fault broken brokenAt spot here token value bumpAt bumpIn bumpOf waited keptOut visited seenMany drawn torn state locks waits readPage readLocks tape cuts letters place left hasSeen homeAt places seen wouldBe isKept lanes lengths cells) sz) := by
  refine met_of (fun A => (va_Qi (fun (r : Int32) (u : Unit) => r = M_torn_e torn) (wpost D vwCl A (fun (u : Unit) => (mW ad ca blocks trainMany lockMany readBlocks readTrains readLockMany blocksTold omensTold highBlock taped fault broken brokenAt spot here token value bumpAt bumpIn bumpOf waited keptOut visited seenMany drawn torn state locks waits readPage readLocks tape cuts letters place left hasSeen homeAt places seen wouldBe isKept lanes lengths cells))) A)) (by decide) (Nat.le_of_ble_eq_true rfl) ?_
  intro p e s m args below meth c Z A hZ C H locs hP hD hS ls hl
  have hx := C.1; have hb := C.2.1; have hr := C.2.2.1; have hlocks := C.2.2.2.1; have hml := C.2.2.2.2.1; have hown := C.2.2.2.2.2.1; have hts := C.2.2.2.2.2.2.1; have hn := C.2.2.2.2.2.2.2.1; have hK := C.2.2.2.2.2.2.2.2.1; have hA := C.2.2.2.2.2.2.2.2.2
  have hl : lv_has ls 1 [(0, .ref (ad 0))] := hl
  refine lv_aload_n hx hb dX7_torn_0 rfl (lv_at hl 0 rfl) ?_
  refine va_get hx hb hts in_X7 hown hK hP 0 rfl rfl 44 (by decide) (hts _ q972) (fun _ h => h) rfl dX7_torn_1 ?_
  rw [hZ]
  exact W.iret hx hb hr (fun t ht hW => ⟨⟨torn, (), rfl, rfl, by rw [ht]; exact hP, hD⟩, hS.F ht⟩) hS.2.2 dX7_torn_4 hlocks
abbrev rm_M_count : Room := { frames := 2, cells := 0, slots := 0, locals := 22 }
set_option maxHeartbeats 4000000 in
theorem w_M_count_L4 {p : Program} {l : Launch} {e : Env} {s : State} {m : MethodId} {args : Array Value} {below : List Frame} {meth : Method} {c : Code} {D : va_G} {ad : Nat → Nat} {ca : Nat → ClassId} {A : Nat → Prop} {Z : State → Prop} (C : cx cX7_count 4 (some .int) RX7 D vwCl (tyL ca) A p c meth s m args) {blocks : Int32} {trainMany : Int32} {lockMany : Int32} {readBlocks : Int32} {readTrains : Int32} {readLockMany : Int32} {blocksTold : Int32} {omensTold : Int32} {highBlock : Int32} {taped : Int32} {fault : Int32} {broken : Int32} {brokenAt : Int32} {spot : Int32} {here : Int32} {token : Int32} {value : Int32} {bumpAt : Int32} {bumpIn : Int32} {bumpOf : Int32} {waited : Int32} {keptOut : Int32} {visited : Int32} {seenMany : Int32} {drawn : Int32} {torn : Int32} {state : Nat → Int32} {locks : Nat → Int32} {waits : Nat → Int32} {readPage : Nat → Int32} {readLocks : Nat → Int32} {tape : Nat → Int32} {cuts : Nat → Int32} {letters : Nat → Int32} {place : Nat → Int32} {left : Nat → Int32} {hasSeen : Nat → Int32} {homeAt : Nat → Int32} {places : Nat → Int32} {seen : Nat → Int32} {wouldBe : Nat → Int32} {isKept : Nat → Int32} {lanes : Nat → Int32} {lengths : Nat → Int32} {cells : Nat → Int32} {x1 : Int32} {k30 : Int32 → Prop} (hk30 : ∀ (x2 : Int32), k30 x2 → ∀ (ls : Array Slot) (H : Heap) (locs : List Loc), lv_has ls 4 [(0, .ref (ad 0)), (1, .int x1), (2, .int x2)] → va_P D vwCl (mW ad ca blocks trainMany lockMany readBlocks readTrains readLockMany blocksTold omensTold highBlock taped fault broken brokenAt spot here token value bumpAt bumpIn bumpOf waited keptOut visited seenMany drawn torn state locks waits readPage readLocks tape cuts letters place left hasSeen homeAt places seen wouldBe isKept lanes lengths cells) H → va_D A (mW ad ca blocks trainMany lockMany readBlocks readTrains readLockMany blocksTold omensTold highBlock taped fault broken brokenAt spot here token value bumpAt bumpIn bumpOf waited keptOut visited seenMany drawn torn state locks waits readPage readLocks tape cuts letters place left hasSeen homeAt places seen wouldBe isKept lanes lengths cells) → va_S A s.heap H locs → W p l e rm_M_count s m args below meth c H locs 0 0 Z (F0 m 30 ls [])) : ∀ (n : Nat) (x2 : Int32) (x3 : Int32), M_count_L4 trainMany state k30 n x2 x3 → ∀ (ls : Array Slot) (H : Heap) (locs : List Loc), lv_has ls 4 [(0, .ref (ad 0)), (1, .int x1), (2, .int x2), (3, .int x3)] → va_P D vwCl (mW ad ca blocks trainMany lockMany readBlocks readTrains readLockMany blocksTold omensTold highBlock taped fault broken brokenAt spot here token value bumpAt bumpIn bumpOf waited keptOut visited seenMany drawn torn state locks waits readPage readLocks tape cuts letters place left hasSeen homeAt places seen wouldBe isKept lanes lengths cells) H → va_D A (mW ad ca blocks trainMany lockMany readBlocks readTrains readLockMany blocksTold omensTold highBlock taped fault broken brokenAt spot here token value bumpAt bumpIn bumpOf waited keptOut visited seenMany drawn torn state locks waits readPage readLocks tape cuts letters place left hasSeen homeAt places seen wouldBe isKept lanes lengths cells) → va_S A s.heap H locs → W p l e rm_M_count s m args below meth c H locs 0 0 Z (F0 m 4 ls []) := by
  have hx := C.1; have hb := C.2.1; have hr := C.2.2.1; have hlocks := C.2.2.2.1; have hml := C.2.2.2.2.1; have hown := C.2.2.2.2.2.1; have hts := C.2.2.2.2.2.2.1; have hn := C.2.2.2.2.2.2.2.1; have hK := C.2.2.2.2.2.2.2.2.1; have hA := C.2.2.2.2.2.2.2.2.2
  intro n
  induction n with
  | zero =>
    intro x2 x3 G
    exact False.elim G
  | succ n ih =>
    intro x2 x3 G ls H locs hl hP hD hS
    unfold M_count_L4 at G
    have hk4 := ih
    refine lv_iload_n hx hb dX7_count_4 rfl (lv_at hl 3 rfl) ?_
    refine lv_aload_n hx hb dX7_count_5 rfl (lv_at hl 0 rfl) ?_
    refine va_get hx hb hts in_X7 hown hK hP 0 rfl rfl 2 (by decide) (hts _ q930) (fun _ h => h) rfl dX7_count_6 ?_
    refine lv_icmp_ge (tgt := 30) hx hb dX7_count_9 (by decide) (fun c_1 => ?_) (fun c_1 => ?_)
    · have G := G.1 c_1
      exact hk30 _ G _ _ _ (lv_sub hl [0, 1, 2] rfl) hP hD hS
    · have G := G.2 c_1
      refine lv_iload_n hx hb dX7_count_12 rfl (lv_at hl 2 rfl) ?_
      refine lv_aload_n hx hb dX7_count_13 rfl (lv_at hl 0 rfl) ?_
      refine va_get hx hb hts in_X7 hown hK hP 0 rfl rfl 0 (by decide) (hts _ q928) (fun _ h => h) rfl dX7_count_14 ?_
      refine lv_bipush (v := 21) hx hb dX7_count_17 (by decide) ?_
      refine lv_iload_n hx hb dX7_count_19 rfl (lv_at hl 3 rfl) ?_
      refine lv_iadd hx hb dX7_count_20 ?_
      obtain ⟨h_2, G⟩ := G
      refine va_iald hx hb hK hP 1 0 rfl rfl h_2 dX7_count_21 ?_
      refine lv_iadd hx hb dX7_count_22 ?_
      refine lv_istore_n (lv' := [(2, .int (x2 + (state ((21 : Int32) + x3).toNatClampNeg))), (0, .ref (ad 0)), (1, .int x1), (3, .int x3)]) hx hb dX7_count_23 rfl hl (by decide) rfl (fun ls hl => ?_)
      refine lv_iinc (v := (x3 + (1 : Int32))) (lv' := [(3, .int (x3 + (1 : Int32))), (2, .int (x2 + (state ((21 : Int32) + x3).toNatClampNeg))), (0, .ref (ad 0)), (1, .int x1)]) hx hb dX7_count_24 hl (k := 3) rfl rfl (by decide) rfl (fun ls hl => ?_)
      refine lv_goto (tgt := 4) hx hb dX7_count_27 (by decide) ?_
      exact hk4 _ _ G _ _ _ (lv_sub hl [2, 3, 1, 0] rfl) hP hD hS
set_option maxHeartbeats 4000000 in
theorem met_M_count (l : Launch) (D : va_G) (ad : Nat → Nat) (ca : Nat → ClassId) (sz : Nat) (blocks : Int32) (trainMany : Int32) (lockMany : Int32) (readBlocks : Int32) (readTrains : Int32) (readLockMany : Int32) (blocksTold : Int32) (omensTold : Int32) (highBlock : Int32) (taped : Int32) (fault : Int32) (broken : Int32) (brokenAt : Int32) (spot : Int32) (here : Int32) (token : Int32) (value : Int32) (bumpAt : Int32) (bumpIn : Int32) (bumpOf : Int32) (waited : Int32) (keptOut : Int32) (visited : Int32) (seenMany : Int32) (drawn : Int32) (torn : Int32) (state : Nat → Int32) (locks : Nat → Int32) (waits : Nat → Int32) (readPage : Nat → Int32) (readLocks : Nat → Int32) (tape : Nat → Int32) (cuts : Nat → Int32) (letters : Nat → Int32) (place : Nat → Int32) (left : Nat → Int32) (hasSeen : Nat → Int32) (homeAt : Nat → Int32) (places : Nat → Int32) (seen : Nat → Int32) (wouldBe : Nat → Int32) (isKept : Nat → Int32) (lanes : Nat → Int32) (lengths : Nat → Int32) (cells : Nat → Int32) (x1 : Int32) (Q : Int32 → Prop) (G : M_count blocks trainMany taped seenMany state isKept lanes lengths x1 Q) : Met l yX7_count (ws_ yX7_count cX7_count 4 (some .int)) rm_M_count (va_Pc [.ref (ad 0), .int x1] (wpre D vwCl (tyL ca) (mW ad ca blocks trainMany lockMany readBlocks readTrains readLockMany blocksTold omensTold highBlock taped fault broken brokenAt spot here token value bumpAt bumpIn bumpOf waited keptOut visited seenMany drawn torn state locks waits readPage readLocks tape cuts letters place left hasSeen homeAt places seen wouldBe isKept lanes lengths cells) sz)) (va_Qi (fun (r : Int32) (u : Unit) => Q r) (wpost D vwCl (va_A (mW ad ca blocks trainMany lockMany readBlocks readTrains readLockMany blocksTold omensTold highBlock taped fault broken brokenAt spot here token value bumpAt bumpIn bumpOf waited keptOut visited seenMany drawn torn state locks waits readPage readLocks tape cuts letters place left hasSeen homeAt places seen wouldBe isKept lanes lengths cells) sz) (fun (u : Unit) => (mW ad ca blocks trainMany lockMany readBlocks readTrains readLockMany blocksTold omensTold highBlock taped fault broken brokenAt spot here token value bumpAt bumpIn bumpOf waited keptOut visited seenMany drawn torn state locks waits readPage readLocks tape cuts letters place left hasSeen homeAt places seen wouldBe isKept lanes lengths cells))) (va_A (mW ad ca blocks trainMany lockMany readBlocks readTrains readLockMany blocksTold omensTold highBlock taped fault broken brokenAt spot here token value bumpAt bumpIn bumpOf waited keptOut visited seenMany drawn torn state locks waits readPage readLocks tape cuts letters place left hasSeen homeAt places seen wouldBe isKept lanes lengths cells) sz)) 0 0 (va_A (mW ad ca blocks trainMany lockMany readBlocks readTrains readLockMany blocksTold omensTold highBlock taped fault broken brokenAt spot here token value bumpAt bumpIn bumpOf waited keptOut visited seenMany drawn torn state locks waits readPage readLocks tape cuts letters place left hasSeen homeAt places seen wouldBe isKept lanes lengths cells) sz) := by
  refine met_of (fun A => (va_Qi (fun (r : Int32) (u : Unit) => Q r) (wpost D vwCl A (fun (u : Unit) => (mW ad ca blocks trainMany lockMany readBlocks readTrains readLockMany blocksTold omensTold highBlock taped fault broken brokenAt spot here token value bumpAt bumpIn bumpOf waited keptOut visited seenMany drawn torn state locks waits readPage readLocks tape cuts letters place left hasSeen homeAt places seen wouldBe isKept lanes lengths cells))) A)) (by decide) (Nat.le_of_ble_eq_true rfl) ?_
  intro p e s m args below meth c Z A hZ C H locs hP hD hS ls hl
  have hx := C.1; have hb := C.2.1; have hr := C.2.2.1; have hlocks := C.2.2.2.1; have hml := C.2.2.2.2.1; have hown := C.2.2.2.2.2.1; have hts := C.2.2.2.2.2.2.1; have hn := C.2.2.2.2.2.2.2.1; have hK := C.2.2.2.2.2.2.2.2.1; have hA := C.2.2.2.2.2.2.2.2.2
  have hl : lv_has ls 4 [(0, .ref (ad 0)), (1, .int x1)] := hl
  unfold M_count at G
  refine lv_iconst (v := 0) hx hb dX7_count_0 (by decide) ?_
  refine lv_istore_n (lv' := [(2, .int (0 : Int32)), (0, .ref (ad 0)), (1, .int x1)]) hx hb dX7_count_1 rfl hl (by decide) rfl (fun ls hl => ?_)
  refine lv_iconst (v := 0) hx hb dX7_count_2 (by decide) ?_
  refine lv_istore_n (lv' := [(3, .int (0 : Int32)), (2, .int (0 : Int32)), (0, .ref (ad 0)), (1, .int x1)]) hx hb dX7_count_3 rfl hl (by decide) rfl (fun ls hl => ?_)
  obtain ⟨n_3, G⟩ := G
  refine w_M_count_L4 C (fun x2_4 G ls H locs hl hP hD hS => ?_) n_3 _ _ G _ _ _ (lv_sub hl [2, 3, 1, 0] rfl) hP hD hS
  refine lv_iload_n hx hb dX7_count_30 rfl (lv_at hl 1 rfl) ?_
  rcases sw_5 x1 with c_5 | c_5 | c_5 | c_5 | c_5 | c_5 | c_5
  · have G := G.1 c_5
    refine lv_tableIn (off := 37) (tgt := 68) hx hb dX7_count_31 (by rw [c_5]; decide) (by rw [c_5]; decide) (by rw [c_5]; rfl) (by decide) ?_
    refine lv_aload_n hx hb dX7_count_68 rfl (lv_at hl 0 rfl) ?_
    refine va_get hx hb hts in_X7 hown hK hP 0 rfl rfl 37 (by decide) (hts _ q965) (fun _ h => h) rfl dX7_count_69 ?_
    rw [hZ]
    exact W.iret hx hb hr (fun t ht hW => ⟨⟨seenMany, (), rfl, G, by rw [ht]; exact hP, hD⟩, hS.F ht⟩) hS.2.2 dX7_count_72 hlocks
  · have G := G.2.1 c_5
    refine lv_tableIn (off := 42) (tgt := 73) hx hb dX7_count_31 (by rw [c_5]; decide) (by rw [c_5]; decide) (by rw [c_5]; rfl) (by decide) ?_
    refine lv_aload_n hx hb dX7_count_73 rfl (lv_at hl 0 rfl) ?_
    refine va_get hx hb hts in_X7 hown hK hP 0 rfl rfl 40 (by decide) (hts _ q968) (fun _ h => h) rfl dX7_count_74 ?_
    refine lv_iconst (v := 0) hx hb dX7_count_77 (by decide) ?_
    refine va_zald hx hb hK hP 16 1 rfl rfl vi_0_2 dX7_count_78 ?_
    have hJ : ∀ (H : Heap) (locs : List Loc), va_P D vwCl (mW ad ca blocks trainMany lockMany readBlocks readTrains readLockMany blocksTold omensTold highBlock taped fault broken brokenAt spot here token value bumpAt bumpIn bumpOf waited keptOut visited seenMany drawn torn state locks waits readPage readLocks tape cuts letters place left hasSeen homeAt places seen wouldBe isKept lanes lengths cells) H → va_D A (mW ad ca blocks trainMany lockMany readBlocks readTrains readLockMany blocksTold omensTold highBlock taped fault broken brokenAt spot here token value bumpAt bumpIn bumpOf waited keptOut visited seenMany drawn torn state locks waits readPage readLocks tape cuts letters place left hasSeen homeAt places seen wouldBe isKept lanes lengths cells) → va_S A s.heap H locs → ∀ v_9 : Int32, v_9 = (if (isKept (0 : Int32).toNatClampNeg) = 0 then (0 : Int32) else (1 : Int32)) → W p l e rm_M_count s m args below meth c H locs 0 0 Z (F0 m 87 ls (.int v_9 :: [])) := by
      intro H locs hP hD hS v_9 hv
      subst hv
      refine lv_aload_n hx hb dX7_count_87 rfl (lv_at hl 0 rfl) ?_
      refine va_get hx hb hts in_X7 hown hK hP 0 rfl rfl 40 (by decide) (hts _ q968) (fun _ h => h) rfl dX7_count_88 ?_
      refine lv_iconst (v := 1) hx hb dX7_count_91 (by decide) ?_
      refine va_zald hx hb hK hP 16 1 rfl rfl vi_1_2 dX7_count_92 ?_
      have hJ : ∀ (H : Heap) (locs : List Loc), va_P D vwCl (mW ad ca blocks trainMany lockMany readBlocks readTrains readLockMany blocksTold omensTold highBlock taped fault broken brokenAt spot here token value bumpAt bumpIn bumpOf waited keptOut visited seenMany drawn torn state locks waits readPage readLocks tape cuts letters place left hasSeen homeAt places seen wouldBe isKept lanes lengths cells) H → va_D A (mW ad ca blocks trainMany lockMany readBlocks readTrains readLockMany blocksTold omensTold highBlock taped fault broken brokenAt spot here token value bumpAt bumpIn bumpOf waited keptOut visited seenMany drawn torn state locks waits readPage readLocks tape cuts letters place left hasSeen homeAt places seen wouldBe isKept lanes lengths cells) → va_S A s.heap H locs → ∀ v_8 : Int32, v_8 = (if (isKept (1 : Int32).toNatClampNeg) = 0 then (0 : Int32) else (1 : Int32)) → W p l e rm_M_count s m args below meth c H locs 0 0 Z (F0 m 101 ls (.int v_8 :: [.int (if (isKept (0 : Int32).toNatClampNeg) = 0 then (0 : Int32) else (1 : Int32))])) := by
        intro H locs hP hD hS v_8 hv
        subst hv
        refine lv_iadd hx hb dX7_count_101 ?_
        rw [hZ]
        exact W.iret hx hb hr (fun t ht hW => ⟨⟨((if (isKept (0 : Int32).toNatClampNeg) = 0 then (0 : Int32) else (1 : Int32)) + (if (isKept (1 : Int32).toNatClampNeg) = 0 then (0 : Int32) else (1 : Int32))), (), rfl, G, by rw [ht]; exact hP, hD⟩, hS.F ht⟩) hS.2.2 dX7_count_102 hlocks
      refine lv_if_eq (tgt := 100) hx hb dX7_count_93 (by decide) (fun c_7 => ?_) (fun c_7 => ?_)
      · refine lv_iconst (v := 0) hx hb dX7_count_100 (by decide) ?_
        exact hJ _ _ hP hD hS _ (eT c_7 rfl)
      · refine lv_iconst (v := 1) hx hb dX7_count_96 (by decide) ?_
        refine lv_goto (tgt := 101) hx hb dX7_count_97 (by decide) ?_
        exact hJ _ _ hP hD hS _ (eF c_7 rfl)
    refine lv_if_eq (tgt := 86) hx hb dX7_count_79 (by decide) (fun c_6 => ?_) (fun c_6 => ?_)
    · refine lv_iconst (v := 0) hx hb dX7_count_86 (by decide) ?_
      exact hJ _ _ hP hD hS _ (eT c_6 rfl)
    · refine lv_iconst (v := 1) hx hb dX7_count_82 (by decide) ?_
      refine lv_goto (tgt := 87) hx hb dX7_count_83 (by decide) ?_
      exact hJ _ _ hP hD hS _ (eF c_6 rfl)
  · have G := G.2.2.1 c_5
    refine lv_tableIn (off := 72) (tgt := 103) hx hb dX7_count_31 (by rw [c_5]; decide) (by rw [c_5]; decide) (by rw [c_5]; rfl) (by decide) ?_
    refine lv_aload_n hx hb dX7_count_103 rfl (lv_at hl 0 rfl) ?_
    refine va_get hx hb hts in_X7 hown hK hP 0 rfl rfl 15 (by decide) (hts _ q943) (fun _ h => h) rfl dX7_count_104 ?_
    rw [hZ]
    exact W.iret hx hb hr (fun t ht hW => ⟨⟨taped, (), rfl, G, by rw [ht]; exact hP, hD⟩, hS.F ht⟩) hS.2.2 dX7_count_107 hlocks
  · have G := G.2.2.2.1 c_5
    refine lv_tableIn (off := 77) (tgt := 108) hx hb dX7_count_31 (by rw [c_5]; decide) (by rw [c_5]; decide) (by rw [c_5]; rfl) (by decide) ?_
    refine lv_aload_n hx hb dX7_count_108 rfl (lv_at hl 0 rfl) ?_
    refine va_get hx hb hts in_X7 hown hK hP 0 rfl rfl 41 (by decide) (hts _ q969) (fun _ h => h) rfl dX7_count_109 ?_
    refine lv_iconst (v := 0) hx hb dX7_count_112 (by decide) ?_
    refine va_iald hx hb hK hP 17 0 rfl rfl vi_0_4 dX7_count_113 ?_
    refine lv_bipush (v := -4) hx hb dX7_count_114 (by decide) ?_
    have hJ : ∀ (H : Heap) (locs : List Loc), va_P D vwCl (mW ad ca blocks trainMany lockMany readBlocks readTrains readLockMany blocksTold omensTold highBlock taped fault broken brokenAt spot here token value bumpAt bumpIn bumpOf waited keptOut visited seenMany drawn torn state locks waits readPage readLocks tape cuts letters place left hasSeen homeAt places seen wouldBe isKept lanes lengths cells) H → va_D A (mW ad ca blocks trainMany lockMany readBlocks readTrains readLockMany blocksTold omensTold highBlock taped fault broken brokenAt spot here token value bumpAt bumpIn bumpOf waited keptOut visited seenMany drawn torn state locks waits readPage readLocks tape cuts letters place left hasSeen homeAt places seen wouldBe isKept lanes lengths cells) → va_S A s.heap H locs → ∀ v_11 : Int32, v_11 = (if (lanes (0 : Int32).toNatClampNeg) = (-4 : Int32) then (-4 : Int32) else (lengths (0 : Int32).toNatClampNeg)) → W p l e rm_M_count s m args below meth c H locs 0 0 Z (F0 m 130 ls (.int v_11 :: [])) := by
      intro H locs hP hD hS v_11 hv
      subst hv
      rw [hZ]
      exact W.iret hx hb hr (fun t ht hW => ⟨⟨(if (lanes (0 : Int32).toNatClampNeg) = (-4 : Int32) then (-4 : Int32) else (lengths (0 : Int32).toNatClampNeg)), (), rfl, G, by rw [ht]; exact hP, hD⟩, hS.F ht⟩) hS.2.2 dX7_count_130 hlocks
    refine lv_icmp_ne (tgt := 124) hx hb dX7_count_116 (by decide) (fun c_10 => ?_) (fun c_10 => ?_)
    · refine lv_aload_n hx hb dX7_count_124 rfl (lv_at hl 0 rfl) ?_
      refine va_get hx hb hts in_X7 hown hK hP 0 rfl rfl 42 (by decide) (hts _ q970) (fun _ h => h) rfl dX7_count_125 ?_
      refine lv_iconst (v := 0) hx hb dX7_count_128 (by decide) ?_
      refine va_iald hx hb hK hP 18 0 rfl rfl vi_0_4 dX7_count_129 ?_
      exact hJ _ _ hP hD hS _ (eF c_10 rfl)
    · refine lv_bipush (v := -4) hx hb dX7_count_119 (by decide) ?_
      refine lv_goto (tgt := 130) hx hb dX7_count_121 (by decide) ?_
      exact hJ _ _ hP hD hS _ (eT c_10 rfl)
  · have G := G.2.2.2.2.1 c_5
    refine lv_tableIn (off := 100) (tgt := 131) hx hb dX7_count_31 (by rw [c_5]; decide) (by rw [c_5]; decide) (by rw [c_5]; rfl) (by decide) ?_
    refine lv_aload_n hx hb dX7_count_131 rfl (lv_at hl 0 rfl) ?_
    refine wc_Vik (As := []) (rest := []) C (met_M_omens l D ad ca H.size blocks trainMany lockMany readBlocks readTrains readLockMany blocksTold omensTold highBlock taped fault broken brokenAt spot here token value bumpAt bumpIn bumpOf waited keptOut visited seenMany drawn torn state locks waits readPage readLocks tape cuts letters place left hasSeen homeAt places seen wouldBe isKept lanes lengths cells _ G) (cwV 0 hts (lw_V q1139 q1141 qs47 q75 q1142) rfl rfl rfl (by decide +kernel) ⟨Nat.le_of_ble_eq_true rfl, Nat.le_of_ble_eq_true rfl⟩) hP hD hS (List.range _) (wc_self _) (wc_nd _) 0 rfl rfl rfl rfl hl.1 (Nat.le_of_ble_eq_true rfl) dX7_count_132 ⟨Nat.le_of_ble_eq_true rfl, Nat.le_of_ble_eq_true rfl⟩ (fun r_12 u H locs G hP hD hS => ?_)
    refine wc_Sik (As := [.int r_12]) (rest := []) C (met_M_bitsOf l D ca H.size r_12 _ G) (va_cwS 1 hts (lw_S q1243 q1244 q75 q1245) rfl rfl rfl (by decide +kernel) ⟨Nat.le_of_ble_eq_true rfl, Nat.le_of_ble_eq_true rfl⟩) hP hD hS [] rfl (by decide) rfl rfl hl.1 (Nat.le_of_ble_eq_true rfl) dX7_count_135 ⟨Nat.le_of_ble_eq_true rfl, Nat.le_of_ble_eq_true rfl⟩ (fun r_13 u H locs G hP hD hS => ?_)
    rw [hZ]
    exact W.iret hx hb hr (fun t ht hW => ⟨⟨r_13, (), rfl, G, by rw [ht]; exact hP, hD⟩, hS.F ht⟩) hS.2.2 dX7_count_138 hlocks
  · have G := G.2.2.2.2.2.1 c_5
    refine lv_tableIn (off := 108) (tgt := 139) hx hb dX7_count_31 (by rw [c_5]; decide) (by rw [c_5]; decide) (by rw [c_5]; rfl) (by decide) ?_
    refine lv_iload_n hx hb dX7_count_139 rfl (lv_at hl 2 rfl) ?_
    rw [hZ]
    exact W.iret hx hb hr (fun t ht hW => ⟨⟨x2_4, (), rfl, G, by rw [ht]; exact hP, hD⟩, hS.F ht⟩) hS.2.2 dX7_count_140 hlocks
  · have G := G.2.2.2.2.2.2 c_5
    refine lv_tableOut (tgt := 141) hx hb dX7_count_31 c_5 (by decide) ?_
    refine lv_iconst (v := -1) hx hb dX7_count_141 (by decide) ?_
    rw [hZ]
    exact W.iret hx hb hr (fun t ht hW => ⟨⟨(-1 : Int32), (), rfl, G, by rw [ht]; exact hP, hD⟩, hS.F ht⟩) hS.2.2 dX7_count_142 hlocks
