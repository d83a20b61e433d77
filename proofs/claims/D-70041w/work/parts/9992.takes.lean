set_option maxRecDepth 100000
/-! a text broken: the one program throws, the other goes on and does nothing more -/
def BK (x : Int32) : Prop := ¬ x = 0 ∧ ¬ x ≤ 0
theorem bst {n br ba sp he to va : Int32} {b : Nat → Int32} (hb : BK br) {Q : KS} (hQ : Q br ba sp he to va) : M_step n br ba sp he to va b Q := ⟨fun c => absurd c hb.2, fun _ => hQ⟩
abbrev KO7 := Int32 → Int32 → Int32 → Int32 → Int32 → Int32 → Int32 → Prop
abbrev KB8 := Int32 → Int32 → Int32 → Int32 → Int32 → Int32 → Int32 → Int32 → Prop
theorem bj71 {n br ba sp he to va x1 : Int32} {b : Nat → Int32} (hb : BK br) {Q : KO7} (hQ : Q x1 br ba sp he to va) : M_other_J71 n br ba sp he to va b x1 Q := by
  refine bst hb ?_
  rw [if_neg hb.1]
  exact hQ
theorem bj47 {n br ba sp he to va x1 x3 : Int32} {b : Nat → Int32} (hb : BK br) {Q : KO7} (hQ : Q x1 br ba sp he to va) : M_other_J47 n br ba sp he to va b x1 x3 Q := ⟨fun c => absurd c hb.1, fun _ => bj71 hb hQ⟩
theorem bj20 {n br ba sp he to va x1 x2 x3 : Int32} {b : Nat → Int32} (hb : BK br) {Q : KO7} (hQ : Q x1 br ba sp he to va) : M_other_J20 n br ba sp he to va b x1 x2 x3 Q := ⟨fun c => absurd c hb.1, fun _ => bj47 hb hQ⟩
theorem bother {n br ba sp he to va x1 x2 x3 : Int32} {b : Nat → Int32} (hb : BK br) {Q : KO7} (hQ : Q x1 br ba sp he to va) : M_other n br ba sp he to va b x1 x2 x3 Q := ⟨fun c => absurd c hb.1, fun _ => bj20 hb hQ⟩
theorem bblk {n hb br ba sp he to va x1 : Int32} {b : Nat → Int32} (hk : BK br) : ∃ h2 : Int32, ∀ Q : KB8, Q 0 h2 br ba sp he to va → M_blockHere hb n br ba sp he to va b x1 Q := ⟨_, fun Q hQ => bother hk hQ⟩
theorem bk1 : BK 1 := by unfold BK; decide
theorem bk2 : BK 2 := by unfold BK; decide
theorem bk3 : BK 3 := by unfold BK; decide
theorem bk4 : BK 4 := by unfold BK; decide
theorem bk5 : BK 5 := by unfold BK; decide
theorem bk6 : BK 6 := by unfold BK; decide
theorem bk7 : BK 7 := by unfold BK; decide
theorem oth_2 {n ba sp he to va x1 x2 x3 : Int32} {b : Nat → Int32} (h : ¬ to = 2) {Q : KO7} (hQ : Q x1 2 he sp he to va) : M_other n 0 ba sp he to va b x1 x2 x3 Q := ⟨fun _ => ⟨fun c => absurd c h, fun _ => fails_0 (bj20 bk2 hQ)⟩, fun c => absurd rfl c⟩
theorem oth_3 {n ba sp he to va x1 x2 x3 : Int32} {b : Nat → Int32} (h : to = 2) (h2 : M_in_e va.toInt64 x1.toInt64 x2.toInt64 = 0) {Q : KO7} (hQ : Q x1 3 he sp he to va) : M_other n 0 ba sp he to va b x1 x2 x3 Q := ⟨fun _ => ⟨fun _ => ⟨fun _ => ⟨fun _ => fails_0 (bj47 bk3 hQ), fun c => absurd h2 c⟩, fun c => absurd rfl c⟩, fun c => absurd h c⟩, fun c => absurd rfl c⟩
theorem oth_4 {n ba sp he to va x1 x2 x3 : Int32} {b : Nat → Int32} (h : to = 2) (h2 : ¬ M_in_e va.toInt64 x1.toInt64 x2.toInt64 = 0) (h3 : (x3 >>> (va &&& 31)) &&& (1 : Int32) = (1 : Int32)) {Q : KO7} (hQ : Q x1 4 he sp he to va) : M_other n 0 ba sp he to va b x1 x2 x3 Q := ⟨fun _ => ⟨fun _ => ⟨fun _ => ⟨fun c => absurd c h2, fun _ => ⟨fun _ => ⟨fun _ => fails_0 (bj71 bk4 hQ), fun c => absurd h3 c⟩, fun c => absurd rfl c⟩⟩, fun c => absurd rfl c⟩, fun c => absurd h c⟩, fun c => absurd rfl c⟩
theorem oth_k {n ba sp he to va x1 x2 x3 : Int32} {b : Nat → Int32} (h : to = 2) (h2 : ¬ M_in_e va.toInt64 x1.toInt64 x2.toInt64 = 0) (h3 : ¬ (x3 >>> (va &&& 31)) &&& (1 : Int32) = (1 : Int32)) {Q : KO7} (hQ : M_step n 0 ba sp he to va b (fun br ba sp he to va2 => Q va br ba sp he to va2)) : M_other n 0 ba sp he to va b x1 x2 x3 Q := by
  refine ⟨fun _ => ⟨fun _ => ⟨fun _ => ⟨fun c => absurd c h2, fun _ => ⟨fun _ => ⟨fun c => absurd c h3, fun _ => ?_⟩, fun c => absurd rfl c⟩⟩, fun c => absurd rfl c⟩, fun c => absurd h c⟩, fun c => absurd rfl c⟩
  unfold M_other_J71
  rw [if_pos rfl]
  exact hQ
theorem z_bit (v : Int32) : ¬ ((0 : Int32) >>> (v &&& 31)) &&& (1 : Int32) = (1 : Int32) := by
  rw [Int32.zero_shiftRight, Int32.zero_and]
  decide
/-- a token, as both hold it -/
def TK (N lo q f : Nat) (s vC vM : Int32) : Prop := f ≤ q ∧ q ≤ N ∧ (s = 2 → vC = vM) ∧ lo ≤ q ∧ (s = 3 → lo < q)
theorem look_2 {f : Nat} {s v x1 x2 : Int32} (h : ¬ s = 2) {Q : Int32 → Prop} {X : KX} (hX : X 2 (nI f)) : R_looked (nI f) s v x1 x2 Q X := ⟨fun _ => hX, fun c => absurd (if_neg h) c⟩
theorem look_3 {f : Nat} {s v x1 x2 : Int32} (h : s = 2) (h2 : C_in_e v.toInt64 x1.toInt64 x2.toInt64 = 0) {Q : Int32 → Prop} {X : KX} (hX : X 3 (nI f)) : R_looked (nI f) s v x1 x2 Q X := ⟨fun c => by rw [if_pos h] at c; exact absurd c (by decide), fun _ => ⟨fun _ => hX, fun c => absurd h2 c⟩⟩
theorem look_k {f : Nat} {s v x1 x2 : Int32} (h : s = 2) (h2 : ¬ C_in_e v.toInt64 x1.toInt64 x2.toInt64 = 0) {Q : Int32 → Prop} {X : KX} (hQ : Q v) : R_looked (nI f) s v x1 x2 Q X := ⟨fun c => by rw [if_pos h] at c; exact absurd c (by decide), fun _ => ⟨fun c => absurd c h2, fun _ => hQ⟩⟩
abbrev KT5 := Int32 → Int32 → Int32 → Int32 → Int32 → Prop
theorem in_nn {v : Int32} {l h : Nat} (hl : l < 100) (hh : h < 100) (c : ¬ C_in_e v.toInt64 (nI l).toInt64 (nI h).toInt64 = 0) : ∃ n : Nat, l ≤ n ∧ n ≤ h ∧ v = nI n := by
  have h1 := in_ok c
  rw [Int32.toInt_toInt64, Int32.toInt_toInt64, Int32.toInt_toInt64, nI_toInt (by omega), nI_toInt (by omega)] at h1
  exact ⟨v.toInt.toNat, by omega, by omega, of_nn (by omega)⟩
theorem take_y {N lo q f l h : Nat} (hN : N ≤ 160) {a b : Nat → Int32} (tp : TP N a b) {s vC vM ba : Int32} (hT : TK N lo q f s vC vM) (hl : l < 100) (hh : h < 100) :
    (∃ (v q2 f2 : Nat) (s2 vC2 vM2 : Int32), l ≤ v ∧ v ≤ h ∧ TK N lo q2 f2 s2 vC2 vM2 ∧ (∀ (Q : KT5) (X : KX), Q (nI v) (nI q2) (nI f2) s2 vC2 → R_taken (nI N) (nI q) (nI f) s vC a (nI l) (nI h) Q X) ∧ (∀ Q : KO7, Q (nI v) 0 ba (nI q2) (nI f2) s2 vM2 → M_other (nI N) 0 ba (nI q) (nI f) s vM b (nI l) (nI h) 0 Q)) ∨
    (∃ xc xp r sp he to va : Int32, BK xc ∧ (∀ (Q : KT5) (X : KX), X xc xp → R_taken (nI N) (nI q) (nI f) s vC a (nI l) (nI h) Q X) ∧ (∀ Q : KO7, Q r xc xp sp he to va → M_other (nI N) 0 ba (nI q) (nI f) s vM b (nI l) (nI h) 0 Q)) := by
  by_cases c1 : s = 2
  · have ev := hT.2.2.1 c1
    by_cases c2 : C_in_e vC.toInt64 (nI l).toInt64 (nI h).toInt64 = 0
    · exact Or.inr ⟨3, nI f, nI l, nI q, nI f, s, vM, bk3, fun Q X hX => look_3 c1 c2 hX, fun Q hQ => oth_3 c1 (by rw [Min_C, ← ev]; exact c2) hQ⟩
    · obtain ⟨v, v1, v2, rfl⟩ := in_nn hl hh c2
      subst ev
      rcases step_y hN hT.2.1 tp (nI f) s (nI v) ba (nI f) s (nI v) with ⟨q2, f2, s2, vC2, vM2, g1, g2, g3, g4, g5, hC, hM⟩ | ⟨xp, sp, to, va, hC, hM⟩
      · exact Or.inl ⟨v, q2, f2, s2, vC2, vM2, v1, v2, ⟨g1, g2, g3, Nat.le_trans hT.2.2.2.1 g4, fun h => Nat.lt_of_le_of_lt hT.2.2.2.1 (g5 h)⟩, fun Q X hQ => look_k c1 c2 (hC _ X hQ), fun Q hQ => oth_k c1 c2 (z_bit _) (hM _ hQ)⟩
      · exact Or.inr ⟨1, xp, nI v, sp, xp, to, va, bk1, fun Q X hX => look_k c1 c2 (hC _ X hX), fun Q hQ => oth_k c1 c2 (z_bit _) (hM _ hQ)⟩
  · exact Or.inr ⟨2, nI f, nI l, nI q, nI f, s, vM, bk2, fun Q X hX => look_2 c1 hX, fun Q hQ => oth_2 c1 hQ⟩
def HB (hi hb : Int32) : Prop := (hi = -4 ∧ hb = -1) ∨ ∃ h : Nat, h < 8 ∧ hi = nI h ∧ hb = nI h
def hiU (hi : Int32) (v : Nat) : Int32 := if hi < nI v then nI v else hi
def hbU (hb : Int32) (v : Nat) : Int32 := if nI v ≤ hb then hb else nI v
theorem HB_up {hi hb : Int32} {v : Nat} (h : HB hi hb) (hv : v < 8) : HB (hiU hi v) (hbU hb v) ∧ (v : Int) ≤ (hbU hb v).toInt ∧ hb.toInt ≤ (hbU hb v).toInt := by
  unfold hiU hbU
  have tv := nI_toInt (n := v) (by omega)
  rcases h with ⟨rfl, rfl⟩ | ⟨x, hx, rfl, rfl⟩
  · have c1 : (-4 : Int32) < nI v := Int32.lt_iff_toInt_lt.mpr (by rw [tv, show (-4 : Int32).toInt = -4 from by decide]; omega)
    have c2 : ¬ nI v ≤ (-1 : Int32) := fun h => by
      have := Int32.le_iff_toInt_le.mp h
      rw [tv, show (-1 : Int32).toInt = -1 from by decide] at this
      omega
    rw [if_pos c1, if_neg c2, tv, show (-1 : Int32).toInt = -1 from by decide]
    exact ⟨Or.inr ⟨v, hv, rfl, rfl⟩, by omega, by omega⟩
  · have tx := nI_toInt (n := x) (by omega)
    by_cases c : x < v
    · rw [if_pos (nI_lt c (by omega)), if_neg (nI_ge c (by omega)), tv, tx]
      exact ⟨Or.inr ⟨v, hv, rfl, rfl⟩, by omega, by omega⟩
    · rw [if_neg (nI_nlt (by omega) (by omega)), if_pos (nI_le (by omega) (by omega)), tx]
      exact ⟨Or.inr ⟨x, hx, rfl, rfl⟩, by omega, by omega⟩
/-- a block, a set that it must not be in, and the step behind -/
theorem blk_y {N lo q f : Nat} (hN : N ≤ 160) {a b : Nat → Int32} (tp : TP N a b) {s vC vM ba : Int32} (hT : TK N lo q f s vC vM) (hi hb sm : Int32) :
    (∃ (v q2 f2 : Nat) (s2 vC2 vM2 : Int32), v < 8 ∧ bz sm (nI v) = 0 ∧ TK N lo q2 f2 s2 vC2 vM2 ∧ s = 2 ∧ vC = nI v ∧ (∀ (Q : Int32 → Int32 → Prop) (X : KX), Q (nI v) (hiU hi v) → R_aBlock hi (nI f) s vC Q X) ∧ (∀ (Q : KN) (X : KX), Q (nI q2) (nI f2) s2 vC2 → R_next (nI N) (nI q) (nI f) s vC a Q X) ∧ (∀ Q : KB8, Q (nI v) (hbU hb v) 0 ba (nI q2) (nI f2) s2 vM2 → M_blockHere hb (nI N) 0 ba (nI q) (nI f) s vM b sm Q)) ∨
    (∃ (xc xp : Int32) (r : Nat) (h2 sp he to va : Int32), BK xc ∧ r < 8 ∧ ((∀ (Q : Int32 → Int32 → Prop) (X : KX), X xc xp → R_aBlock hi (nI f) s vC Q X) ∨
        (∃ v : Nat, v < 8 ∧ s = 2 ∧ vC = nI v ∧ (∀ (Q : Int32 → Int32 → Prop) (X : KX), Q (nI v) (hiU hi v) → R_aBlock hi (nI f) s vC Q X) ∧ ((¬ bz sm (nI v) = 0 ∧ xc = 4 ∧ xp = nI f) ∨ (bz sm (nI v) = 0 ∧ ∀ (Q : KN) (X : KX), X xc xp → R_next (nI N) (nI q) (nI f) s vC a Q X)))) ∧
      (∀ Q : KB8, Q (nI r) h2 xc xp sp he to va → M_blockHere hb (nI N) 0 ba (nI q) (nI f) s vM b sm Q)) := by
  by_cases c1 : s = 2
  · have ev := hT.2.2.1 c1
    by_cases c2 : C_in_e vC.toInt64 (0 : Int32).toInt64 (7 : Int32).toInt64 = 0
    · exact Or.inr ⟨3, nI f, 0, _, nI q, nI f, s, vM, bk3, by omega, Or.inl (fun Q X hX => look_3 c1 c2 hX), fun Q hQ => oth_3 c1 (by rw [Min_C, ← ev]; exact c2) hQ⟩
    · obtain ⟨v, v1, v2, rfl⟩ := in_nn (l := 0) (h := 7) (by omega) (by omega) c2
      subst ev
      have hA : ∀ (Q : Int32 → Int32 → Prop) (X : KX), Q (nI v) (hiU hi v) → R_aBlock hi (nI f) s (nI v) Q X := fun Q X hQ => look_k c1 c2 hQ
      by_cases c3 : bz sm (nI v) = 0
      · have c4 : ¬ (sm >>> (nI v &&& 31)) &&& (1 : Int32) = (1 : Int32) := fun h => absurd (c3.symm.trans h) (by decide)
        rcases step_y hN hT.2.1 tp (nI f) s (nI v) ba (nI f) s (nI v) with ⟨q2, f2, s2, vC2, vM2, g1, g2, g3, g4, g5, hC, hM⟩ | ⟨xp, sp, to, va, hC, hM⟩
        · exact Or.inl ⟨v, q2, f2, s2, vC2, vM2, by omega, c3, ⟨g1, g2, g3, Nat.le_trans hT.2.2.2.1 g4, fun h => Nat.lt_of_le_of_lt hT.2.2.2.1 (g5 h)⟩, c1, rfl, hA, hC, fun Q hQ => oth_k c1 c2 c4 (hM _ hQ)⟩
        · exact Or.inr ⟨1, xp, v, _, sp, xp, to, va, bk1, by omega, Or.inr ⟨v, by omega, c1, rfl, hA, Or.inr ⟨c3, hC⟩⟩, fun Q hQ => oth_k c1 c2 c4 (hM _ hQ)⟩
      · have c4 : (sm >>> (nI v &&& 31)) &&& (1 : Int32) = (1 : Int32) := (bz_01 sm (nI v)).resolve_left c3
        exact Or.inr ⟨4, nI f, 0, _, nI q, nI f, s, nI v, bk4, by omega, Or.inr ⟨v, by omega, c1, rfl, hA, Or.inl ⟨c3, rfl, rfl⟩⟩, fun Q hQ => oth_4 c1 c2 c4 hQ⟩
  · exact Or.inr ⟨2, nI f, 0, _, nI q, nI f, s, vM, bk2, by omega, Or.inl (fun Q X hX => look_2 c1 hX), fun Q hQ => oth_2 c1 hQ⟩
