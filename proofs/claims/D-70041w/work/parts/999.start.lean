set_option maxRecDepth 100000
theorem inv_start : Inv 0 0 0 0 0 0 4 0 0 (fun _ => 0) (fun _ => 0) 4 0 0 (fun _ => 0) (fun _ => 0) 4 0 0 (fun _ => 0) (fun _ => 0) (fun _ => 0) (fun _ => 0) (fun _ => 0) (fun _ => none) 4 0 0 0 0 0 0 (fun _ => 0) (fun _ => 0) M0_waits (fun _ => 0) M0_cuts M0_letters (fun _ => 0) (fun _ => 0) M0_lanes (fun _ => 0) (fun _ => 0) := by
  have z0 : (0 : Int32).toInt = 0 := by decide
  have z4 : (4 : Int32).toInt = 4 := by decide
  have hz : 0 ≤ (0 : Int32).toInt ∧ (0 : Int32).toInt ≤ 0 := by decide
  refine ⟨rfl, rfl, rfl, rfl, rfl, rfl, rfl, rfl, rfl, rfl, fun _ _ => rfl, ⟨by decide, by decide, by decide, by decide, fun b _ => ⟨hz.1, ?_, fun _ => rfl⟩, fun t _ => ⟨⟨hz.1, ?_⟩, ⟨hz.1, ?_⟩, ⟨hz.1, ?_⟩, hz.1, ?_⟩⟩, ⟨fun _ _ => rfl, rfl, fun _ _ _ _ => rfl⟩, ⟨by decide, by decide, fun l _ => ⟨hz.1, ?_⟩, fun l hl => ?_⟩, fun _ _ => Or.inl rfl, fun h => absurd h (by decide), fun h => absurd h (by decide), ⟨zb_0, zb_0, by decide⟩, ⟨by decide, by decide, fun i hi => ?_⟩, ⟨by decide, by decide, fun i hi => ?_⟩, fun k hk => ?_⟩
  · show (0 : Int32).toInt ≤ 4
    decide
  · show (0 : Int32).toInt ≤ 3
    decide
  · show (0 : Int32).toInt ≤ 1
    decide
  · show (0 : Int32).toInt ≤ 9
    decide
  · show (0 : Int32).toInt ≤ 9
    decide
  · show (0 : Int32).toInt < 8
    decide
  · rw [z0] at hl
    omega
  · rw [z0] at hi
    omega
  · rw [z0] at hi
    omega
  · have : k = 0 ∨ k = 1 ∨ k = 2 ∨ k = 3 := by omega
    rcases this with rfl | rfl | rfl | rfl
    · show M0_lanes 0 = -4
      decide
    · show M0_lanes 1 = -4
      decide
    · show M0_lanes 2 = -4
      decide
    · show M0_lanes 3 = -4
      decide
