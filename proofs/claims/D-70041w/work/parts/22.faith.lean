set_option maxRecDepth 100000
def F_waits_e (i x : Int32) : Int32 := if i = 0 then F1_waits_e x else if i = 1 then F2_waits_e x else if i = 2 then F3_waits_e x else F4_waits_e x
section WF
variable {p : Program} {l : Launch} {e : Env} {R : Room} {s : State} {m : MethodId} {args : Array Value} {below : List Frame} {meth : Method} {c : Code} {H : Heap} {locs : List Loc} {cells slots : Nat} {Z : State → Prop}
variable {D : va_G} {ca : Nat → ClassId} {A : Nat → Prop} {cc : ByteArray} {nL : Nat} {ret0 : Option FieldType} {pc : Nat} {ls : Array Slot} {ws : va_W}
theorem wc_faith {f0 f1 f2 f3 : Nat} {x i : Int32} {rest : List Value} (C : cx cc nL ret0 RX0 D vwCl (tyL ca) A p c meth s m args) (hP : va_P D vwCl ws H) (hD : va_D A ws) (hS : va_S A s.heap H locs) (q0 q1 q2 q3 : Nat) (h0 : ws[q0]? = some (f0, .inr (1, []))) (h1 : ws[q1]? = some (f1, .inr (2, []))) (h2 : ws[q2]? = some (f2, .inr (3, []))) (h3 : ws[q3]? = some (f3, .inr (4, []))) (hsz : ls.size = nL) (hrm : (rest.map fun v => v.category).sum ≤ 8) (hdg : decode cc pc = .ok (.invokevirtual 70, 3)) (hfr : 5 ≤ R.frames) (hlo : 120 ≤ R.locals) (hc : cells ≤ R.cells) (hs : slots ≤ R.slots)
    (kk : ∀ (H1 : Heap) (locs1 : List Loc), va_P D vwCl ws H1 → va_D A ws → va_S A s.heap H1 locs1 → W p l e R s m args below meth c H1 locs1 cells slots Z (F0 m (pc + 3) ls (.int (F_waits_e i x) :: rest))) : W p l e R s m args below meth c H locs cells slots Z (F0 m pc ls (.int x :: .ref (fsel f0 f1 f2 f3 i) :: rest)) := by
  have hts := C.2.2.2.2.2.2.1
  by_cases c0 : i = 0
  · have e1 : fsel f0 f1 f2 f3 i = f0 := by simp [fsel, c0]
    have e2 : F_waits_e i x = F1_waits_e x := by simp [F_waits_e, c0]
    rw [e1]
    rw [e2] at kk
    exact wc_Vik (As := [.int x]) (rest := rest) C (met_F1_waits l D f0 1 ca H.size x) (cwV 1 hts (lw_V q609 q610 q611 q69 q617) rfl rfl rfl (by decide +kernel) ⟨Nat.le_trans (show rm_F1_waits.frames + 1 ≤ 5 by decide) hfr, Nat.le_trans (show 8 + (2 + 11) + rm_F1_waits.locals ≤ 120 by decide) hlo⟩) hP hD hS [q0] (by rw [List.map_cons, h0]; rfl) rfl q0 h0 rfl rfl rfl hsz hrm hdg ⟨hc, hs⟩ (fun r u H1 locs1 hr hP1 hD1 hS1 => by subst hr; exact kk H1 locs1 hP1 hD1 hS1)
  by_cases c1 : i = 1
  · have e1 : fsel f0 f1 f2 f3 i = f1 := by simp [fsel, c1]
    have e2 : F_waits_e i x = F2_waits_e x := by simp [F_waits_e, c1]
    rw [e1]
    rw [e2] at kk
    exact wc_Oik (As := [.int x]) (rest := rest) C (met_F2_waits l D f1 2 ca H.size x) (va_cwO 1 hts (lw_O q609 q612 q610 q623 q624 q70 q625) rfl rfl rfl (b0 := cX1_waits) (m0 := 2) (r0 := some .int) q617 ⟨by decide, by decide, by decide +kernel⟩ ⟨Nat.le_trans (show rm_F2_waits.frames + 1 ≤ 5 by decide) hfr, Nat.le_trans (show 8 + (2 + 11) + rm_F2_waits.locals ≤ 120 by decide) hlo⟩) hP hD hS [q1] (by rw [List.map_cons, h1]; rfl) rfl q1 h1 rfl rfl rfl hsz hrm hdg ⟨hc, hs⟩ (fun r u H1 locs1 hr hP1 hD1 hS1 => by subst hr; exact kk H1 locs1 hP1 hD1 hS1)
  by_cases c2 : i = 2
  · have e1 : fsel f0 f1 f2 f3 i = f2 := by simp [fsel, c2]
    have e2 : F_waits_e i x = F3_waits_e x := by simp [F_waits_e, c2]
    rw [e1]
    rw [e2] at kk
    exact wc_Oik (As := [.int x]) (rest := rest) C (met_F3_waits l D f2 3 ca H.size x) (va_cwO 1 hts (lw_O q609 q612 q610 q613 q614 q71 q615) rfl rfl rfl (b0 := cX1_waits) (m0 := 2) (r0 := some .int) q617 ⟨by decide, by decide, by decide +kernel⟩ ⟨Nat.le_trans (show rm_F3_waits.frames + 1 ≤ 5 by decide) hfr, Nat.le_trans (show 8 + (2 + 11) + rm_F3_waits.locals ≤ 120 by decide) hlo⟩) hP hD hS [q2] (by rw [List.map_cons, h2]; rfl) rfl q2 h2 rfl rfl rfl hsz hrm hdg ⟨hc, hs⟩ (fun r u H1 locs1 hr hP1 hD1 hS1 => by subst hr; exact kk H1 locs1 hP1 hD1 hS1)
  have e1 : fsel f0 f1 f2 f3 i = f3 := by simp [fsel, c0, c1, c2]
  have e2 : F_waits_e i x = F4_waits_e x := by simp [F_waits_e, c0, c1, c2]
  rw [e1]
  rw [e2] at kk
  exact wc_Oik (As := [.int x]) (rest := rest) C (met_F4_waits l D f3 4 ca H.size x) (va_cwO 1 hts (lw_O q609 q612 q610 q618 q619 q72 q620) rfl rfl rfl (b0 := cX1_waits) (m0 := 2) (r0 := some .int) q617 ⟨by decide, by decide, by decide +kernel⟩ ⟨Nat.le_trans (show rm_F4_waits.frames + 1 ≤ 5 by decide) hfr, Nat.le_trans (show 8 + (2 + 11) + rm_F4_waits.locals ≤ 120 by decide) hlo⟩) hP hD hS [q3] (by rw [List.map_cons, h3]; rfl) rfl q3 h3 rfl rfl rfl hsz hrm hdg ⟨hc, hs⟩ (fun r u H1 locs1 hr hP1 hD1 hS1 => by subst hr; exact kk H1 locs1 hP1 hD1 hS1)
end WF
