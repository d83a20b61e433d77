set_option maxRecDepth 100000
theorem up2 {P : Nat → Int32 → Int32 → Prop} {f g : Nat → Int32} {s : Nat} {v w : Int32} (h : ∀ t : Nat, t < 4 → P t (f t) (g t)) (hv : P s v w) : ∀ t : Nat, t < 4 → P t (upd f s v t) (upd g s w t) := by
  intro t ht
  by_cases e : t = s
  · subst e
    rw [upd_eq, upd_eq]
    exact hv
  · rw [upd_ne _ _ e, upd_ne _ _ e]
    exact h t ht
theorem nar_b0 : vp_nar .boolean (0 : Int32) = 0 := by decide
theorem nar_b1 : vp_nar .boolean (1 : Int32) = 1 := by decide
theorem RR_enter {B T s n : Nat} (hT : T ≤ 4) (hs : s < T) (hn : n < B) {wh ho iS lf pl le hs' hm : Nat → Int32} (hR : RR B T wh ho iS lf pl le hs' hm) (hx : ∀ t, t < T → t ≠ s → wh t ≠ nI n) : RR B T (upd wh s (nI n)) ho (upd iS s (0 : Int32)) lf (upd pl s (nI n)) le (upd hs' s (0 : Int32)) hm := by
  obtain ⟨h1, h2, h3, h4, h5⟩ := hR
  refine ⟨up2 (P := fun _ a b => a = b ∧ plB B a) h1 ⟨rfl, Or.inr ⟨n, hn, rfl⟩⟩, h2, up2 (P := fun _ a b => a = b ∧ zb a) h3 ⟨rfl, zb_0⟩, ?_, ?_⟩
  · intro t ht h
    by_cases e : t = s
    · subst e
      rw [upd_eq] at h
      exact absurd h (by decide)
    · rw [upd_ne _ _ e] at h
      exact h4 t ht h
  · intro t u ht hu htu h
    by_cases e : t = s
    · have e2 : u ≠ s := fun e2 => htu (by rw [e, e2])
      rw [e, upd_eq, upd_ne _ _ e2] at h
      exact absurd h.symm (hx u hu e2)
    · by_cases e2 : u = s
      · rw [e2, upd_eq, upd_ne _ _ e] at h
        exact absurd h (hx t ht e)
      · rw [upd_ne _ _ e, upd_ne _ _ e2] at h
        rw [upd_ne _ _ e]
        exact h5 t u ht hu htu h
theorem RR_out {B T s m : Nat} (hT : T ≤ 4) (hs : s < T) (hm1 : m < 120) {wh ho iS lf pl le hs' hm : Nat → Int32} (hR : RR B T wh ho iS lf pl le hs' hm) : RR B T (upd wh s (-4 : Int32)) (upd ho s (nI m)) iS lf (upd pl s (-4 : Int32)) le hs' (upd hm s (nI m)) := by
  obtain ⟨h1, h2, h3, h4, h5⟩ := hR
  refine ⟨up2 (P := fun _ a b => a = b ∧ plB B a) h1 ⟨rfl, Or.inl rfl⟩, up2 (P := fun _ a b => a = b ∧ plB 120 a) h2 ⟨rfl, Or.inr ⟨m, hm1, rfl⟩⟩, h3, h4, ?_⟩
  intro t u ht hu htu h
  by_cases e : t = s
  · rw [e, upd_eq]
  · by_cases e2 : u = s
    · rw [e2, upd_eq] at h
      exact h
    · rw [upd_ne _ _ e, upd_ne _ _ e2] at h
      rw [upd_ne _ _ e]
      exact h5 t u ht hu htu h
theorem RR_see {B T s : Nat} {v : Int32} {wh ho iS lf pl le hs' hm : Nat → Int32} (hR : RR B T wh ho iS lf pl le hs' hm) : RR B T wh ho (upd iS s (1 : Int32)) (upd lf s v) pl (upd le s v) (upd hs' s (1 : Int32)) hm := by
  obtain ⟨h1, h2, h3, h4, h5⟩ := hR
  refine ⟨h1, h2, up2 (P := fun _ a b => a = b ∧ zb a) h3 ⟨rfl, zb_1⟩, ?_, h5⟩
  intro t ht h
  by_cases e : t = s
  · rw [e, upd_eq, upd_eq]
  · rw [upd_ne _ _ e] at h
    rw [upd_ne _ _ e, upd_ne _ _ e]
    exact h4 t ht h
theorem RR_wait {B T s : Nat} {v : Int32} {wh ho iS lf pl le hs' hm : Nat → Int32} (hR : RR B T wh ho iS lf pl le hs' hm) : RR B T wh ho iS (upd lf s v) pl (upd le s v) hs' hm := by
  obtain ⟨h1, h2, h3, h4, h5⟩ := hR
  refine ⟨h1, h2, h3, ?_, h5⟩
  intro t ht h
  by_cases e : t = s
  · rw [e, upd_eq, upd_eq]
  · rw [upd_ne _ _ e, upd_ne _ _ e]
    exact h4 t ht h
theorem J_y {T B s n m : Nat} (hT : T ≤ 4) (hs : s < T) (hB8 : B ≤ 8) (hn : n < B) (hm1 : m < 120) {G bm bb bt wa ko us bi bo : Int32} {wh ho iS lf pl le hs' hm st : Nat → Int32} (hG : st 8 = G) (hR : RR B T wh ho iS lf pl le hs' hm) (hsn : iS s = 1) (hS : RS G B bm bb bt bi bo) :
    ∃ bm2 bb2 bt2 wa2 ko2 us2 wh2 iS2 lf2 bi2 bo2 pl2 le2 hs2,
      (∀ Q : Int32 → Int32 → Int32 → Int32 → Int32 → Int32 → (Nat → Int32) → (Nat → Int32) → (Nat → Int32) → (Nat → Int32) → Prop, Q bm2 bb2 bt2 wa2 ko2 us2 wh2 ho iS2 lf2 → C_steps_J79 bm bb bt wa ko us wh ho iS lf G (nI T) (nI s) (nI m) (nI n) Q) ∧
      (∀ Q : Int32 → Int32 → Int32 → Int32 → Int32 → Int32 → (Nat → Int32) → (Nat → Int32) → (Nat → Int32) → (Nat → Int32) → Prop, Q bm2 bi2 bo2 wa2 ko2 us2 pl2 le2 hs2 hm → M_moves_J94 (nI T) bm bi bo wa ko us st pl le hs' hm (nI s) (nI m) (nI n) Q) ∧
      RS G B bm2 bb2 bt2 bi2 bo2 ∧ RR B T wh2 ho iS2 lf2 pl2 le2 hs2 hm := by
  have hv : vp_in (nI s) 4 := vp_in_nI (by omega) (by omega)
  have hc : (nI s).toNatClampNeg = s := nI_clamp (by omega)
  have hl : lf s = le s := hR.2.2.2.1 s (by omega) hsn
  have h8 : (8 : Int32).toNatClampNeg = 8 := by decide
  unfold C_steps_J79 M_moves_J94 C_enters
  rw [hc, hl, h8, hG]
  by_cases c1 : le s ≤ 0
  · have hot : otF pl (nI n) s T = otF wh (nI n) s T := (otF_eq (fun t ht => (hR.1 t ht).1) (nI n) s T hT).symm
    have hu : ∀ t u, t < T → u < T → t ≠ u → wh t = nI n → wh u ≠ nI n := fun t u ht hu2 htu e1 e2 => absurd (e1.symm.trans (hR.2.2.2.2 t u ht hu2 htu (e1.trans e2.symm))) (n4_ne (by omega))
    have hC : ∀ Q : Int32 → Prop, Q (otF wh (nI n) s T) → C_whoIn wh (nI T) (nI n) (nI s) Q := fun Q hQ => whC_y hT (by omega) hu hQ
    have hM : ∀ Q : Int32 → Prop, Q (otF wh (nI n) s T) → M_otherIn (nI T) pl (nI s) (nI n) Q := fun Q hQ => otM_y hT (by omega) (by rw [hot]; exact hQ)
    by_cases c2 : otF wh (nI n) s T = -4
    · refine ⟨bm, bb, bt, wa, ko, us ||| ((1 : Int32) <<< (nI n &&& 31)), upd wh s (nI n), upd iS s (0 : Int32), lf, bi, bo, upd pl s (nI n), le, upd hs' s (0 : Int32), ?_, ?_, hS, RR_enter hT hs hn hR (otF_s c2 hT)⟩
      · intro Q hQ
        exact ⟨hv, fun _ => hC _ ⟨fun _ => ⟨hv, hv, hQ⟩, fun c => absurd c2 c⟩, fun c => absurd c1 c⟩
      · intro Q hQ
        exact ⟨hv, fun _ => hM _ ⟨fun _ => ⟨hv, hv, hQ⟩, fun c => absurd c2 c⟩, fun c => absurd c1 c⟩
    · have hbz : C_has_e G (nI n) = (G >>> (nI n &&& 31)) &&& (1 : Int32) := has_bz G (nI n)
      by_cases c3 : C_has_e G (nI n) = 0
      · have c4 : ¬ (G >>> (nI n &&& 31)) &&& (1 : Int32) = (1 : Int32) := by rw [← hbz, c3]; decide
        refine ⟨nI m, nI n, ((10 : Int32) * nI s) + otF wh (nI n) s T, wa, ko, us, wh, iS, lf, nI n, ((10 : Int32) * nI s) + otF wh (nI n) s T, pl, le, hs', ?_, ?_, ⟨fun _ => ⟨rfl, rfl⟩, fun h => absurd h (n4_ne (by omega)), fun h => absurd c3 (h n hn)⟩, hR⟩
        · intro Q hQ
          exact ⟨hv, fun _ => hC _ ⟨fun c => absurd c c2, fun _ => ⟨fun _ => hQ, fun c => absurd c3 c⟩⟩, fun c => absurd c1 c⟩
        · intro Q hQ
          exact ⟨hv, fun _ => hM _ ⟨fun c => absurd c c2, fun _ => ⟨fun c => absurd c c4, fun _ => hQ⟩⟩, fun c => absurd c1 c⟩
      · have c4 : (G >>> (nI n &&& 31)) &&& (1 : Int32) = (1 : Int32) := by
          rcases bz_01 G (nI n) with h | h
          · exact absurd (hbz.trans h) c3
          · exact h
        refine ⟨bm, bb, bt, wa, ko + (1 : Int32), us, wh, iS, lf, bi, bo, pl, le, hs', ?_, ?_, hS, hR⟩
        · intro Q hQ
          exact ⟨hv, fun _ => hC _ ⟨fun c => absurd c c2, fun _ => ⟨fun c => absurd c c3, fun _ => hQ⟩⟩, fun c => absurd c1 c⟩
        · intro Q hQ
          exact ⟨hv, fun _ => hM _ ⟨fun c => absurd c c2, fun _ => ⟨fun _ => hQ, fun c => absurd c4 c⟩⟩, fun c => absurd c1 c⟩
  · refine ⟨bm, bb, bt, wa + (1 : Int32), ko, us, wh, iS, upd lf s (le s - (1 : Int32)), bi, bo, pl, upd le s (le s - (1 : Int32)), hs', ?_, ?_, hS, RR_wait hR⟩
    · intro Q hQ
      exact ⟨hv, fun c => absurd c c1, fun _ => ⟨hv, hv, hQ⟩⟩
    · intro Q hQ
      exact ⟨hv, fun c => absurd c c1, fun _ => ⟨hv, hv, hQ⟩⟩
