set_option maxRecDepth 100000
theorem of_e {t w : Nat} (ht : t < 4) (hw : w < 4) (tr : Nat → Int32) : B_of_e tr (nI t) (nI w) = tr (4 * t + w) := by
  unfold B_of_e
  rw [of_c ht hw]
theorem steps_y {B T s m : Nat} (hT : T ≤ 4) (hs : s < T) (hB2 : 2 ≤ B) (hB8 : B ≤ 8) (hm1 : m < 120) {G bm bb bt wa ko us bi bo : Int32} {wh ho iS lf pl le hs' hm st om tr : Nat → Int32} (hp : pgOK st 0 G om tr) (hb : bOK (nI B) (nI T) om tr) (hR : RR B T wh ho iS lf pl le hs' hm) (hS : RS G B bm bb bt bi bo) :
    ∃ bm2 bb2 bt2 wa2 ko2 us2 wh2 ho2 iS2 lf2 bi2 bo2 pl2 le2 hs2 hm2,
      (∀ Q : Int32 → Int32 → Int32 → Int32 → Int32 → Int32 → (Nat → Int32) → (Nat → Int32) → (Nat → Int32) → (Nat → Int32) → Prop, Q bm2 bb2 bt2 wa2 ko2 us2 wh2 ho2 iS2 lf2 → C_steps bm bb bt wa ko us wh ho iS lf (nI B) G (nI T) om tr (nI s) (nI m) Q) ∧
      (∀ Q : Int32 → Int32 → Int32 → Int32 → Int32 → Int32 → (Nat → Int32) → (Nat → Int32) → (Nat → Int32) → (Nat → Int32) → Prop, Q bm2 bi2 bo2 wa2 ko2 us2 pl2 le2 hs2 hm2 → M_moves (nI B) (nI T) bm bi bo wa ko us st M0_waits pl le hs' hm (nI s) (nI m) Q) ∧
      RS G B bm2 bb2 bt2 bi2 bo2 ∧ RR B T wh2 ho2 iS2 lf2 pl2 le2 hs2 hm2 := by
  have hs4 : s < 4 := by omega
  have hv : vp_in (nI s) 4 := vp_in_nI (by omega) (by omega)
  have hc : (nI s).toNatClampNeg = s := nI_clamp (by omega)
  have hw := hR.1 s hs4
  have hi := hR.2.2.1 s hs4
  have h8 : st 8 = G := hp.2.1
  have f := pg_f hp hs4
  have eB : B_of_e tr (nI s) (1 : Int32) = tr (4 * s + 1) := of_e hs4 (w := 1) (by omega) tr
  have eB0 : B_of_e tr (nI s) (0 : Int32) = tr (4 * s) := of_e hs4 (w := 0) (by omega) tr
  have sB : B_of_s tr (nI s) (1 : Int32) := of_v hs4 (w := 1) (by omega)
  have sB0 : B_of_s tr (nI s) (0 : Int32) := of_v hs4 (w := 0) (by omega)
  have c13 : ((13 : Int32) + nI s).toNatClampNeg = 13 + s := ad_c (a := 13) (by omega)
  have c9 : ((9 : Int32) + nI s).toNatClampNeg = 9 + s := ad_c (a := 9) (by omega)
  have v13 : vp_in ((13 : Int32) + nI s) 125 := ad_v (a := 13) (by omega) (by omega)
  have v9 : vp_in ((9 : Int32) + nI s) 125 := ad_v (a := 9) (by omega) (by omega)
  have eU : M_isUp_e st (nI s) = (if tr (4 * s + 1) = 0 then (1 : Int32) else (0 : Int32)) := by
    unfold M_isUp_e
    rw [c13, f.2.1]
  have eN : M_nextBlock_e (nI B) st pl (nI s) = nbE B (tr (4 * s + 1)) (wh s) := by
    unfold M_nextBlock_e nbE
    rw [eU, hc, ← hw.1]
  have sN : M_nextBlock_s (nI B) st pl (nI s) := ⟨hv, fun _ => v13, fun _ _ => hv, fun _ _ => hv, fun _ => v13⟩
  have eC : ∀ Q : Int32 → Prop, Q (nbC B (tr (4 * s + 1)) (wh s)) → B_next (nI B) tr (nI s) (wh s) Q := fun Q hQ => ⟨sB, by rw [eB]; exact hQ⟩
  unfold C_steps M_moves
  rw [hc, eU, eN, ← hw.1, c9, f.1, eB0]
  by_cases c1 : wh s = nbT B (tr (4 * s + 1))
  · have e1 := nb_end hB2 hB8 c1
    refine ⟨bm, bb, bt, wa, ko, us, upd wh s (-4 : Int32), upd ho s (nI m), iS, lf, bi, bo, upd pl s (-4 : Int32), le, hs', upd hm s (nI m), ?_, ?_, hS, RR_out hT hs hm1 hR⟩
    · intro Q hQ
      exact ⟨hv, eC _ ⟨fun _ => ⟨hv, hv, hQ⟩, fun c => absurd e1 c⟩⟩
    · intro Q hQ
      exact ⟨hv, v13, fun _ => ⟨hv, hv, hQ⟩, fun c => absurd c1 c⟩
  · obtain ⟨e1, n, hn, e2⟩ := nb_go hB2 hB8 hw.2 c1
    have e3 : nbC B (tr (4 * s + 1)) (wh s) = nI n := e1.trans e2
    have eC2 : ∀ Q : Int32 → Prop, Q (nI n) → B_next (nI B) tr (nI s) (wh s) Q := fun Q hQ => eC Q (by rw [e3]; exact hQ)
    have cn : (nI n).toNatClampNeg = n := nI_clamp (by omega)
    have hn4 : nI n ≠ -4 := n4_ne (by omega)
    rw [e2, cn, pg_b hp (show n < 8 by omega)]
    have hf := (hb.2.2.2.2.2 s hs4).1
    have ho1 := hb.2.2.2.2.1 n (by omega)
    have vf : vp_in (tr (4 * s)) 4 := vp_of hf.1 (by have := hf.2; omega)
    have w := wt_eq vf (vp_of (n := 5) ho1.1 (by have := ho1.2.1; omega))
    rw [← w.1]
    have v125 : vp_in (nI n) 125 := vp_in_nI (by omega) (by omega)
    have v8 : vp_in (nI n) 8 := vp_in_nI (by omega) (by omega)
    by_cases c2 : iS s = 0
    · have c3 : hs' s = 0 := hi.1.symm.trans c2
      obtain ⟨bm2, bb2, bt2, wa2, ko2, us2, wh2, iS2, lf2, bi2, bo2, pl2, le2, hs2, hC, hM, hS2, hR2⟩ := J_y hT hs hB8 hn hm1 h8 (RR_see (s := s) (v := F_waits_e (tr (4 * s)) (om n)) hR) (upd_eq _ _ _) hS (wa := wa) (ko := ko) (us := us)
      refine ⟨bm2, bb2, bt2, wa2, ko2, us2, wh2, ho, iS2, lf2, bi2, bo2, pl2, le2, hs2, hm, ?_, ?_, hS2, hR2⟩
      · intro Q hQ
        refine ⟨hv, eC2 _ ⟨fun c => absurd c hn4, fun _ => ⟨hv, fun _ => ⟨hv, sB0, vf, v8, hv, ?_⟩, fun c => absurd c2 c⟩⟩⟩
        rw [cn]
        exact hC Q hQ
      · intro Q hQ
        exact ⟨hv, v13, fun c => absurd c c1, fun _ => ⟨sN, hv, fun _ => ⟨hv, v9, v125, w.2, hv, hM Q hQ⟩, fun c => absurd c3 c⟩⟩
    · have c3 : ¬ hs' s = 0 := fun h => c2 (hi.1.trans h)
      have c4 : iS s = 1 := hi.2.resolve_left c2
      obtain ⟨bm2, bb2, bt2, wa2, ko2, us2, wh2, iS2, lf2, bi2, bo2, pl2, le2, hs2, hC, hM, hS2, hR2⟩ := J_y hT hs hB8 hn hm1 h8 hR c4 hS (wa := wa) (ko := ko) (us := us)
      refine ⟨bm2, bb2, bt2, wa2, ko2, us2, wh2, ho, iS2, lf2, bi2, bo2, pl2, le2, hs2, hm, ?_, ?_, hS2, hR2⟩
      · intro Q hQ
        exact ⟨hv, eC2 _ ⟨fun c => absurd c hn4, fun _ => ⟨hv, fun c => absurd c c2, fun _ => hC Q hQ⟩⟩⟩
      · intro Q hQ
        exact ⟨hv, v13, fun c => absurd c c1, fun _ => ⟨sN, hv, fun c => absurd c c3, fun _ => hM Q hQ⟩⟩
