set_option maxRecDepth 100000
def rnxB (sizeR : Int32) (valueR : Int32) (tape : Nat → Int32) (Q : Int32 → Int32 → Int32 → Int32 → Prop) (X : Int32 → Int32 → Prop) (atR : Int32) : Prop :=
  ((atR = sizeR → (Q atR atR (0 : Int32) valueR)) ∧ (¬ (atR = sizeR) → (R_isIn_s sizeR atR tape (97 : Int32) (122 : Int32) ∧ (((R_isIn_e sizeR atR tape (97 : Int32) (122 : Int32)) = 0 → (R_isIn_s sizeR atR tape (48 : Int32) (57 : Int32) ∧ (((R_isIn_e sizeR atR tape (48 : Int32) (57 : Int32)) = 0 → (R_isIn_s sizeR atR tape (59 : Int32) (59 : Int32) ∧ (R_need atR (R_isIn_e sizeR atR tape (59 : Int32) (59 : Int32)) (1 : Int32) ((Q (atR + (1 : Int32)) atR (3 : Int32) valueR)) X))) ∧ (¬ ((R_isIn_e sizeR atR tape (48 : Int32) (57 : Int32)) = 0) → (∃ n_46 : Nat, R_next_L112 sizeR atR tape (fun atR_47 valueR_48 => (R_need atR (if (3 : Int32) ≤ (atR_47 - atR) then (0 : Int32) else (1 : Int32)) (1 : Int32) ((Q atR_47 atR (2 : Int32) valueR_48)) X)) X n_46 atR (0 : Int32)))))) ∧ (¬ ((R_isIn_e sizeR atR tape (97 : Int32) (122 : Int32)) = 0) → (∃ n_52 : Nat, R_next_L67 sizeR tape (fun atR_53 => (Q atR_53 atR (1 : Int32) valueR)) X n_52 atR))))))
theorem rnx_of {sizeR atR fromR sortR valueR : Int32} {tape : Nat → Int32} {Q : Int32 → Int32 → Int32 → Int32 → Prop} {X : Int32 → Int32 → Prop} (h : ∃ n : Nat, R_next_L0 sizeR tape (rnxB sizeR valueR tape Q X) X n atR) : R_next sizeR atR fromR sortR valueR tape Q X := by
  obtain ⟨n, h⟩ := h
  cases n with
  | zero => exact h.elim
  | succ n => exact ⟨h.1, h.2.1, fun c => ⟨n, h.2.2 c⟩⟩
/-- the two tapes agree below N -/
def TP (N : Nat) (a b : Nat → Int32) : Prop := ∀ i : Nat, i < N → a i = b i ∧ 0 ≤ (b i).toInt ∧ (b i).toInt ≤ 127
def inb (N p : Nat) (a : Nat → Int32) (lo hi : Int) : Prop := p < N ∧ lo ≤ (a p).toInt ∧ (a p).toInt ≤ hi
theorem inC {N p : Nat} (hN : N ≤ 160) (hp : p ≤ N) (a : Nat → Int32) {lo hi : Int32} {l h : Int} (hl : lo.toInt = l) (hh : hi.toInt = h) : R_isIn_s (nI N) (nI p) a lo hi ∧ (R_isIn_e (nI N) (nI p) a lo hi = 0 ↔ ¬ inb N p a l h) := by
  have cp : (nI p).toNatClampNeg = p := nI_clamp (by omega)
  have hle : nI N ≤ nI p ↔ N ≤ p := nI_leI (by omega) (by omega)
  refine ⟨⟨fun c => vp_in_nI (by rw [hle] at c; omega) (by omega), fun c _ => vp_in_nI (by rw [hle] at c; omega) (by omega)⟩, ?_⟩
  unfold R_isIn_e inb
  rw [cp]
  by_cases c : nI N ≤ nI p
  · rw [if_pos c]
    rw [hle] at c
    exact ⟨fun _ h2 => by omega, fun _ => rfl⟩
  · rw [if_neg c]
    rw [hle] at c
    by_cases c1 : a p < lo
    · rw [if_pos c1]
      have := Int32.lt_iff_toInt_lt.mp c1
      exact ⟨fun _ h2 => by omega, fun _ => rfl⟩
    · rw [if_neg c1]
      have h1 := Int32.le_iff_toInt_le.mp (Int32.not_lt.mp c1)
      by_cases c2 : hi < a p
      · rw [if_pos c2]
        have := Int32.lt_iff_toInt_lt.mp c2
        exact ⟨fun _ h2 => by omega, fun _ => rfl⟩
      · rw [if_neg c2]
        have h2 := Int32.le_iff_toInt_le.mp (Int32.not_lt.mp c2)
        exact ⟨fun h3 => absurd h3 (by decide), fun h3 => absurd ⟨by omega, by omega, by omega⟩ h3⟩
theorem byM {N p : Nat} (hN : N ≤ 160) (hp : p ≤ N) (b : Nat → Int32) : M_byteAt_s (nI N) b (nI p) ∧ M_byteAt_e (nI N) b (nI p) = if p < N then b p else -4 := by
  have cp : (nI p).toNatClampNeg = p := nI_clamp (by omega)
  have hle : nI N ≤ nI p ↔ N ≤ p := nI_leI (by omega) (by omega)
  refine ⟨fun c => vp_in_nI (by rw [hle] at c; omega) (by omega), ?_⟩
  unfold M_byteAt_e
  rw [cp]
  by_cases c : p < N
  · rw [if_pos c, if_neg (by rw [hle]; omega)]
  · rw [if_neg c, if_pos (by rw [hle]; omega)]
theorem inM {N p : Nat} (hN : N ≤ 160) (hp : p ≤ N) {a b : Nat → Int32} (tp : TP N a b) {lo hi : Int64} {l h : Int} (hl : lo.toInt = l) (hh : hi.toInt = h) (h0 : 0 ≤ l) : M_in_e ((M_byteAt_e (nI N) b (nI p)).toInt64) lo hi = 0 ↔ ¬ inb N p a l h := by
  rw [(byM hN hp b).2, Min_C, in_iff, Int32.toInt_toInt64, hl, hh]
  unfold inb
  by_cases c : p < N
  · rw [if_pos c, (tp p c).1]
    exact ⟨fun h1 h2 => h1 h2.2, fun h1 h2 => h1 ⟨c, h2⟩⟩
  · rw [if_neg c, show (-4 : Int32).toInt = -4 from by decide]
    exact ⟨fun _ h2 => c h2.1, fun _ h2 => by omega⟩
theorem eqM {N p : Nat} (hN : N ≤ 160) (hp : p ≤ N) {a b : Nat → Int32} (tp : TP N a b) {c : Int32} {l : Int} (hl : c.toInt = l) (h0 : 0 ≤ l) : M_byteAt_e (nI N) b (nI p) = c ↔ inb N p a l l := by
  rw [(byM hN hp b).2, ← Int32.toInt_inj, hl]
  unfold inb
  by_cases h : p < N
  · rw [if_pos h, (tp p h).1]
    exact ⟨fun h1 => ⟨h, by omega, by omega⟩, fun h1 => by omega⟩
  · rw [if_neg h, show (-4 : Int32).toInt = -4 from by decide]
    exact ⟨fun h1 => by omega, fun h1 => absurd h1.1 h⟩
theorem enM {N p : Nat} (hN : N ≤ 160) (hp : p ≤ N) {a b : Nat → Int32} (tp : TP N a b) : M_byteAt_e (nI N) b (nI p) = -4 ↔ p = N := by
  rw [(byM hN hp b).2]
  by_cases h : p < N
  · rw [if_pos h]
    have := (tp p h).2.1
    refine ⟨fun h1 => ?_, fun h1 => by omega⟩
    rw [h1, show (-4 : Int32).toInt = -4 from by decide] at this
    omega
  · rw [if_neg h]
    exact ⟨fun _ => by omega, fun _ => rfl⟩
theorem sp_L {N : Nat} (hN : N ≤ 160) {a b : Nat → Int32} (tp : TP N a b) : ∀ d p : Nat, p + d = N → ∃ q : Nat, p ≤ q ∧ q ≤ N ∧ ¬ inb N q a 32 32 ∧ (∀ (k : Int32 → Prop) (X : Int32 → Int32 → Prop), k (nI q) → ∃ n : Nat, R_next_L0 (nI N) a k X n (nI p)) ∧ (∀ k : Int32 → Prop, k (nI q) → ∃ n : Nat, M_step_L8 (nI N) b k n (nI p)) := by
  intro d
  induction d with
  | zero =>
    intro p hp
    have hi := inC hN (show p ≤ N by omega) a (lo := 32) (hi := 32) (l := 32) (h := 32) (by decide) (by decide)
    have hm := eqM hN (show p ≤ N by omega) tp (c := 32) (l := 32) (by decide) (by omega)
    have hs := (byM hN (show p ≤ N by omega) b).1
    have hn : ¬ inb N p a 32 32 := fun h => by have := h.1; omega
    exact ⟨p, Nat.le_refl _, by omega, hn, fun k X hk => ⟨1, hi.1, fun _ => hk, fun c => absurd (hi.2.mpr hn) c⟩, fun k hk => ⟨1, hs, fun c => absurd (hm.mp c) hn, fun _ => hk⟩⟩
  | succ d ih =>
    intro p hp
    have hi := inC hN (show p ≤ N by omega) a (lo := 32) (hi := 32) (l := 32) (h := 32) (by decide) (by decide)
    have hm := eqM hN (show p ≤ N by omega) tp (c := 32) (l := 32) (by decide) (by omega)
    have hs := (byM hN (show p ≤ N by omega) b).1
    by_cases c : inb N p a 32 32
    · obtain ⟨q, h1, h2, h3, hC, hM⟩ := ih (p + 1) (by omega)
      rw [nI_succ] at hC hM
      refine ⟨q, by omega, h2, h3, fun k X hk => ?_, fun k hk => ?_⟩
      · obtain ⟨n, hn⟩ := hC k X hk
        exact ⟨n + 1, hi.1, fun h => absurd c (hi.2.mp h), fun _ => hn⟩
      · obtain ⟨n, hn⟩ := hM k hk
        exact ⟨n + 1, hs, fun _ => hn, fun h => absurd (hm.mpr c) h⟩
    · exact ⟨p, Nat.le_refl _, by omega, c, fun k X hk => ⟨1, hi.1, fun _ => hk, fun h => absurd (hi.2.mpr c) h⟩, fun k hk => ⟨1, hs, fun h => absurd (hm.mp h) c, fun _ => hk⟩⟩
theorem lt_L {N : Nat} (hN : N ≤ 160) {a b : Nat → Int32} (tp : TP N a b) : ∀ d p : Nat, p + d = N → ∃ q : Nat, p ≤ q ∧ q ≤ N ∧ (∀ (k : Int32 → Prop) (X : Int32 → Int32 → Prop), k (nI q) → ∃ n : Nat, R_next_L67 (nI N) a k X n (nI p)) ∧ (∀ k : Int32 → Prop, k (nI q) → ∃ n : Nat, M_step_L84 (nI N) b k n (nI p)) := by
  intro d
  induction d with
  | zero =>
    intro p hp
    have hi := inC hN (show p ≤ N by omega) a (lo := 97) (hi := 122) (l := 97) (h := 122) (by decide) (by decide)
    have hm := inM hN (show p ≤ N by omega) tp (lo := 97) (hi := 122) (l := 97) (h := 122) (by decide) (by decide) (by omega)
    have hs := (byM hN (show p ≤ N by omega) b).1
    have hn : ¬ inb N p a 97 122 := fun h => by have := h.1; omega
    exact ⟨p, Nat.le_refl _, by omega, fun k X hk => ⟨1, hi.1, fun _ => hk, fun c => absurd (hi.2.mpr hn) c⟩, fun k hk => ⟨1, hs, fun _ => hk, fun c => absurd (hm.mpr hn) c⟩⟩
  | succ d ih =>
    intro p hp
    have hi := inC hN (show p ≤ N by omega) a (lo := 97) (hi := 122) (l := 97) (h := 122) (by decide) (by decide)
    have hm := inM hN (show p ≤ N by omega) tp (lo := 97) (hi := 122) (l := 97) (h := 122) (by decide) (by decide) (by omega)
    have hs := (byM hN (show p ≤ N by omega) b).1
    by_cases c : inb N p a 97 122
    · obtain ⟨q, h1, h2, hC, hM⟩ := ih (p + 1) (by omega)
      rw [nI_succ] at hC hM
      refine ⟨q, by omega, h2, fun k X hk => ?_, fun k hk => ?_⟩
      · obtain ⟨n, hn⟩ := hC k X hk
        exact ⟨n + 1, hi.1, fun h => absurd c (hi.2.mp h), fun _ => hn⟩
      · obtain ⟨n, hn⟩ := hM k hk
        exact ⟨n + 1, hs, fun h => absurd c (hm.mp h), fun _ => hn⟩
    · exact ⟨p, Nat.le_refl _, by omega, fun k X hk => ⟨1, hi.1, fun _ => hk, fun h => absurd (hi.2.mpr c) h⟩, fun k hk => ⟨1, hs, fun _ => hk, fun h => absurd (hm.mpr c) h⟩⟩
theorem dg_L {N f : Nat} (hN : N ≤ 160) {a b : Nat → Int32} (tp : TP N a b) : ∀ d p : Nat, p + d = N → ∀ v : Int32, ∃ (q : Nat) (w : Int32), p ≤ q ∧ q ≤ N ∧ (∀ (k : Int32 → Int32 → Prop) (X : Int32 → Int32 → Prop), k (nI q) w → ∃ n : Nat, R_next_L112 (nI N) (nI f) a k X n (nI p) v) ∧ (∀ k : Int32 → Int32 → Prop, k (nI q) w → ∃ n : Nat, M_step_L140 (nI N) (nI f) b k n (nI p) v) := by
  intro d
  induction d with
  | zero =>
    intro p hp v
    have hi := inC hN (show p ≤ N by omega) a (lo := 48) (hi := 57) (l := 48) (h := 57) (by decide) (by decide)
    have hm := inM hN (show p ≤ N by omega) tp (lo := 48) (hi := 57) (l := 48) (h := 57) (by decide) (by decide) (by omega)
    have hs := (byM hN (show p ≤ N by omega) b).1
    have hn : ¬ inb N p a 48 57 := fun h => by have := h.1; omega
    exact ⟨p, v, Nat.le_refl _, by omega, fun k X hk => ⟨1, hi.1, fun _ => hk, fun c => absurd (hi.2.mpr hn) c⟩, fun k hk => ⟨1, hs, fun _ => hk, fun c => absurd (hm.mpr hn) c⟩⟩
  | succ d ih =>
    intro p hp v
    have hi := inC hN (show p ≤ N by omega) a (lo := 48) (hi := 57) (l := 48) (h := 57) (by decide) (by decide)
    have hm := inM hN (show p ≤ N by omega) tp (lo := 48) (hi := 57) (l := 48) (h := 57) (by decide) (by decide) (by omega)
    have hs := (byM hN (show p ≤ N by omega) b).1
    have cp : (nI p).toNatClampNeg = p := nI_clamp (by omega)
    by_cases c : inb N p a 48 57
    · have hb : M_byteAt_e (nI N) b (nI p) = a p := by
        rw [(byM hN (show p ≤ N by omega) b).2, if_pos c.1, (tp p c.1).1]
      obtain ⟨q, w, h1, h2, hC, hM⟩ := ih (p + 1) (by omega) (if (2 : Int32) ≤ (nI p - nI f) then v else ((((10 : Int32) * v) + (a p)) - (48 : Int32)))
      rw [nI_succ] at hC hM
      refine ⟨q, w, by omega, h2, fun k X hk => ?_, fun k hk => ?_⟩
      · obtain ⟨n, hn⟩ := hC k X hk
        refine ⟨n + 1, hi.1, fun h => absurd c (hi.2.mp h), fun _ => ⟨fun _ => vp_in_nI (by have := c.1; omega) (by omega), ?_⟩⟩
        rw [cp]
        exact hn
      · obtain ⟨n, hn⟩ := hM k hk
        refine ⟨n + 1, hs, fun h => absurd c (hm.mp h), fun _ => ⟨fun _ => hs, ?_⟩⟩
        rw [hb]
        exact hn
    · exact ⟨p, v, Nat.le_refl _, by omega, fun k X hk => ⟨1, hi.1, fun _ => hk, fun h => absurd (hi.2.mpr c) h⟩, fun k hk => ⟨1, hs, fun _ => hk, fun h => absurd (hm.mpr c) h⟩⟩
abbrev KN := Int32 → Int32 → Int32 → Int32 → Prop
abbrev KS := Int32 → Int32 → Int32 → Int32 → Int32 → Int32 → Prop
abbrev KX := Int32 → Int32 → Prop
theorem fails_0 {ba he code : Int32} {Q : Int32 → Int32 → Prop} (h : Q code he) : M_fails 0 ba he code Q := ⟨fun _ => h, fun c => absurd rfl c⟩
theorem step_y {N p : Nat} (hN : N ≤ 160) (hp : p ≤ N) {a b : Nat → Int32} (tp : TP N a b) (fr so va ba he to vm : Int32) :
    (∃ (q f : Nat) (s vC vM : Int32), f ≤ q ∧ q ≤ N ∧ (s = 2 → vC = vM) ∧ p ≤ q ∧ (s = 3 → p < q) ∧ (∀ (Q : KN) (X : KX), Q (nI q) (nI f) s vC → R_next (nI N) (nI p) fr so va a Q X) ∧ (∀ Q : KS, Q 0 ba (nI q) (nI f) s vM → M_step (nI N) 0 ba (nI p) he to vm b Q)) ∨
    (∃ f sp to2 vm2 : Int32, (∀ (Q : KN) (X : KX), X 1 f → R_next (nI N) (nI p) fr so va a Q X) ∧ (∀ Q : KS, Q 1 f sp f to2 vm2 → M_step (nI N) 0 ba (nI p) he to vm b Q)) := by
  obtain ⟨f, h1, h2, h3, hC, hM⟩ := sp_L hN tp (N - p) p (by omega)
  have hs := (byM hN h2 b).1
  have a1 := inC hN h2 a (lo := 97) (hi := 122) (l := 97) (h := 122) (by decide) (by decide)
  have a2 := inM hN h2 tp (lo := 97) (hi := 122) (l := 97) (h := 122) (by decide) (by decide) (by omega)
  have d1 := inC hN h2 a (lo := 48) (hi := 57) (l := 48) (h := 57) (by decide) (by decide)
  have d2 := inM hN h2 tp (lo := 48) (hi := 57) (l := 48) (h := 57) (by decide) (by decide) (by omega)
  have s1 := inC hN h2 a (lo := 59) (hi := 59) (l := 59) (h := 59) (by decide) (by decide)
  have s2 := eqM hN h2 tp (c := 59) (l := 59) (by decide) (by omega)
  have e2 := enM hN h2 tp
  have e1 : nI f = nI N ↔ f = N := nI_eq (by omega) (by omega)
  by_cases c0 : f = N
  · refine Or.inl ⟨f, f, 0, va, 0, Nat.le_refl _, h2, fun h => absurd h (by decide), h1, fun h => absurd h (by decide), fun Q X hQ => rnx_of (hC _ _ ⟨fun _ => hQ, fun c => absurd (e1.mpr c0) c⟩), fun Q hQ => ⟨fun _ => hM _ ⟨hs, fun _ => hQ, fun c => absurd (e2.mpr c0) c⟩, fun c => absurd (show (0 : Int32) ≤ 0 by decide) c⟩⟩
  have c0C : ¬ nI f = nI N := fun h => c0 (e1.mp h)
  have c0M : ¬ M_byteAt_e (nI N) b (nI f) = (-4 : Int32) := fun h => c0 (e2.mp h)
  have z0 : (0 : Int32) ≤ 0 := by decide
  by_cases c1 : inb N f a 97 122
  · obtain ⟨q, g1, g2, gC, gM⟩ := lt_L hN tp (N - f) f (by omega)
    exact Or.inl ⟨q, f, 1, va, 0, g1, g2, fun h => absurd h (by decide), by omega, fun h => absurd h (by decide), fun Q X hQ => rnx_of (hC _ _ ⟨fun c => absurd c c0C, fun _ => ⟨a1.1, fun c => absurd c1 (a1.2.mp c), fun _ => gC _ _ hQ⟩⟩), fun Q hQ => ⟨fun _ => hM _ ⟨hs, fun c => absurd c c0M, fun _ => ⟨fun c => absurd c1 (a2.mp c), fun _ => gM _ hQ⟩⟩, fun c => absurd z0 c⟩⟩
  have c1C := a1.2.mpr c1
  have c1M := a2.mpr c1
  by_cases c2 : inb N f a 48 57
  · obtain ⟨q, w, g1, g2, gC, gM⟩ := dg_L (f := f) hN tp (N - f) f (by omega) 0
    have hd : nI q - nI f = nI (q - f) := pk_sub g1
    have h23 : (3 : Int32) ≤ (nI q - nI f) ↔ ¬ (nI q - nI f) ≤ (2 : Int32) := by
      rw [hd]
      have e3 : (3 : Int32) ≤ nI (q - f) ↔ 3 ≤ q - f := nI_leI (a := 3) (by omega) (by omega)
      have e4 : nI (q - f) ≤ (2 : Int32) ↔ q - f ≤ 2 := nI_leI (b := 2) (by omega) (by omega)
      rw [e3, e4]
      omega
    by_cases c3 : (3 : Int32) ≤ (nI q - nI f)
    · have c4 := h23.mp c3
      refine Or.inr ⟨nI f, nI q, 2, w, fun Q X hX => rnx_of (hC _ _ ⟨fun c => absurd c c0C, fun _ => ⟨a1.1, fun _ => ⟨d1.1, fun c => absurd c2 (d1.2.mp c), fun _ => gC _ _ ?_⟩, fun c => absurd c1C c⟩⟩), fun Q hQ => ⟨fun _ => hM _ ⟨hs, fun c => absurd c c0M, fun _ => ⟨fun _ => ⟨fun c => absurd c2 (d2.mp c), fun _ => gM _ ⟨fun c => absurd c c4, fun _ => fails_0 hQ⟩⟩, fun c => absurd c1M c⟩⟩, fun c => absurd z0 c⟩⟩
      exact ⟨fun _ => hX, fun c => absurd (if_pos c3) c⟩
    · have c4 : (nI q - nI f) ≤ (2 : Int32) := Classical.byContradiction (fun h => c3 (h23.mpr h))
      refine Or.inl ⟨q, f, 2, w, w, g1, g2, fun _ => rfl, by omega, fun h => absurd h (by decide), fun Q X hQ => rnx_of (hC _ _ ⟨fun c => absurd c c0C, fun _ => ⟨a1.1, fun _ => ⟨d1.1, fun c => absurd c2 (d1.2.mp c), fun _ => gC _ _ ?_⟩, fun c => absurd c1C c⟩⟩), fun Q hQ => ⟨fun _ => hM _ ⟨hs, fun c => absurd c c0M, fun _ => ⟨fun _ => ⟨fun c => absurd c2 (d2.mp c), fun _ => gM _ ⟨fun _ => hQ, fun c => absurd c4 c⟩⟩, fun c => absurd c1M c⟩⟩, fun c => absurd z0 c⟩⟩
      refine ⟨fun c => ?_, fun _ => hQ⟩
      rw [if_neg c3] at c
      exact absurd c (by decide)
  have c2C := d1.2.mpr c2
  have c2M := d2.mpr c2
  by_cases c3 : inb N f a 59 59
  · have hf : f + 1 ≤ N := c3.1
    refine Or.inl ⟨f + 1, f, 3, va, 0, by omega, hf, fun h => absurd h (by decide), by omega, fun _ => by omega, fun Q X hQ => rnx_of (hC _ _ ⟨fun c => absurd c c0C, fun _ => ⟨a1.1, fun _ => ⟨d1.1, fun _ => ⟨s1.1, fun c => absurd c3 (s1.2.mp c), fun _ => ?_⟩, fun c => absurd c2C c⟩, fun c => absurd c1C c⟩⟩), fun Q hQ => ⟨fun _ => hM _ ⟨hs, fun c => absurd c c0M, fun _ => ⟨fun _ => ⟨fun _ => ⟨fun _ => ?_, fun c => absurd (s2.mpr c3) c⟩, fun c => absurd c2M c⟩, fun c => absurd c1M c⟩⟩, fun c => absurd z0 c⟩⟩
    · rw [nI_succ] at hQ
      exact hQ
    · rw [nI_succ] at hQ
      exact hQ
  · exact Or.inr ⟨nI f, nI f + (1 : Int32), 3, 0, fun Q X hX => rnx_of (hC _ _ ⟨fun c => absurd c c0C, fun _ => ⟨a1.1, fun _ => ⟨d1.1, fun _ => ⟨s1.1, fun _ => hX, fun c => absurd (s1.2.mpr c3) c⟩, fun c => absurd c2C c⟩, fun c => absurd c1C c⟩⟩), fun Q hQ => ⟨fun _ => hM _ ⟨hs, fun c => absurd c c0M, fun _ => ⟨fun _ => ⟨fun _ => ⟨fun c => absurd (s2.mp c) c3, fun _ => fails_0 hQ⟩, fun c => absurd c2M c⟩, fun c => absurd c1M c⟩⟩, fun c => absurd z0 c⟩⟩
