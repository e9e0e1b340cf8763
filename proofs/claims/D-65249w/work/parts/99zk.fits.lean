set_option maxRecDepth 100000
/-! a guard: what fits; how it is made -/
theorem fits_c {N : Mem} {t : DB} (x1 x2 x3 x4 : Int32) (h8 : cn t 1 ≤ 8) (hst : x1 = 6 → x2 = 1 → ∃ i, i < cn t 1 ∧ x3 = nI i) : ∃ r : Int32, (r = 0 ∨ r = 1) ∧ (∀ Q : Int32 → Mem → Prop, Q r N → v_X0_fits x1 x2 x3 x4 N Q) ∧ (∀ Q : Int32 → DB → Prop, Q r t → w_isGood x1 x2 x3 x4 t Q) ∧ (r = 1 → ∃ s, s ≤ 9 ∧ x1 = nI s ∧ GPr t s x2 x3 x4) := by
  by_cases w0 : x1 = 0
  · subst w0
    by_cases a0 : x2 < 1
    · exact ⟨0, Or.inl rfl, fun Q hQ => by simp [v_X0_fits, v_X0_fits_147, v_X0_in, a0, hQ], fun Q hQ => by simp [w_isGood, w_isGood_156, w_isGood_269, w_in, a0, hQ], fun e => absurd e (by decide)⟩
    by_cases b0 : 20 < x2
    · exact ⟨0, Or.inl rfl, fun Q hQ => by simp [v_X0_fits, v_X0_fits_147, v_X0_in, a0, b0, hQ], fun Q hQ => by simp [w_isGood, w_isGood_156, w_isGood_269, w_in, a0, b0, hQ], fun e => absurd e (by decide)⟩
    by_cases a1 : x3 < 1
    · exact ⟨0, Or.inl rfl, fun Q hQ => by simp [v_X0_fits, v_X0_fits_147, v_X0_in, a0, b0, a1, hQ], fun Q hQ => by simp [w_isGood, w_isGood_156, w_isGood_269, w_in, a0, b0, a1, hQ], fun e => absurd e (by decide)⟩
    by_cases b1 : 1000 < x3
    · exact ⟨0, Or.inl rfl, fun Q hQ => by simp [v_X0_fits, v_X0_fits_147, v_X0_in, a0, b0, a1, b1, hQ], fun Q hQ => by simp [w_isGood, w_isGood_156, w_isGood_269, w_in, a0, b0, a1, b1, hQ], fun e => absurd e (by decide)⟩
    by_cases a2 : x4 = 0
    rotate_left
    · exact ⟨0, Or.inl rfl, fun Q hQ => by simp [v_X0_fits, v_X0_fits_147, v_X0_in, a0, b0, a1, b1, a2, hQ], fun Q hQ => by simp [w_isGood, w_isGood_156, w_isGood_269, w_in, a0, b0, a1, b1, a2, hQ], fun e => absurd e (by decide)⟩
    subst a2
    obtain ⟨i, hi, ei⟩ := rng (x := x2) (n := 20) (by decide) (fun h => a0 (Int32.lt_trans h (by decide))) b0
    have g0 : ∃ a, 1 ≤ a ∧ a ≤ 20 ∧ x2 = nI a := ⟨i, Nat.pos_of_ne_zero (fun e => a0 (by rw [ei, e]; decide)), hi, ei⟩
    exact ⟨1, Or.inr rfl, fun Q hQ => by simp [v_X0_fits, v_X0_fits_147, v_X0_in, a0, b0, a1, b1, hQ], fun Q hQ => by simp [w_isGood, w_isGood_156, w_isGood_269, w_in, a0, b0, a1, b1, hQ], fun _ => ⟨0, by decide, rfl, ⟨fun _ => g0, fun e => absurd e (by decide), fun e => absurd e (by decide), fun e => absurd e (by decide), fun e => absurd e (by decide), fun e => absurd e (by decide), fun e => absurd e (by decide)⟩⟩⟩
  by_cases w1 : x1 = 1
  · subst w1
    by_cases a0 : x2 < 1
    · exact ⟨0, Or.inl rfl, fun Q hQ => by simp [v_X0_fits, v_X0_fits_147, v_X0_in, a0, hQ], fun Q hQ => by simp [w_isGood, w_isGood_156, w_isGood_269, w_in, a0, hQ], fun e => absurd e (by decide)⟩
    by_cases b0 : 10 < x2
    · exact ⟨0, Or.inl rfl, fun Q hQ => by simp [v_X0_fits, v_X0_fits_147, v_X0_in, a0, b0, hQ], fun Q hQ => by simp [w_isGood, w_isGood_156, w_isGood_269, w_in, a0, b0, hQ], fun e => absurd e (by decide)⟩
    by_cases a1 : x3 < 0
    · exact ⟨0, Or.inl rfl, fun Q hQ => by simp [v_X0_fits, v_X0_fits_147, v_X0_in, a0, b0, a1, hQ], fun Q hQ => by simp [w_isGood, w_isGood_156, w_isGood_269, w_in, a0, b0, a1, hQ], fun e => absurd e (by decide)⟩
    by_cases b1 : 10 < x3
    · exact ⟨0, Or.inl rfl, fun Q hQ => by simp [v_X0_fits, v_X0_fits_147, v_X0_in, a0, b0, a1, b1, hQ], fun Q hQ => by simp [w_isGood, w_isGood_156, w_isGood_269, w_in, a0, b0, a1, b1, hQ], fun e => absurd e (by decide)⟩
    by_cases a2 : x4 = 0
    rotate_left
    · exact ⟨0, Or.inl rfl, fun Q hQ => by simp [v_X0_fits, v_X0_fits_147, v_X0_in, a0, b0, a1, b1, a2, hQ], fun Q hQ => by simp [w_isGood, w_isGood_156, w_isGood_269, w_in, a0, b0, a1, b1, a2, hQ], fun e => absurd e (by decide)⟩
    subst a2
    obtain ⟨i, hi, ei⟩ := rng (x := x3) (n := 10) (by decide) a1 b1
    have g1 : ∃ b, b ≤ 10 ∧ x3 = nI b := ⟨i, hi, ei⟩
    exact ⟨1, Or.inr rfl, fun Q hQ => by simp [v_X0_fits, v_X0_fits_147, v_X0_in, a0, b0, a1, b1, hQ], fun Q hQ => by simp [w_isGood, w_isGood_156, w_isGood_269, w_in, a0, b0, a1, b1, hQ], fun _ => ⟨1, by decide, rfl, ⟨fun e => absurd e (by decide), fun _ => g1, fun e => absurd e (by decide), fun e => absurd e (by decide), fun e => absurd e (by decide), fun e => absurd e (by decide), fun e => absurd e (by decide)⟩⟩⟩
  by_cases w2 : x1 = 2
  · subst w2
    by_cases a0 : x2 < 1
    · exact ⟨0, Or.inl rfl, fun Q hQ => by simp [v_X0_fits, v_X0_fits_147, v_X0_in, a0, hQ], fun Q hQ => by simp [w_isGood, w_isGood_156, w_isGood_269, w_in, a0, hQ], fun e => absurd e (by decide)⟩
    by_cases b0 : 100 < x2
    · exact ⟨0, Or.inl rfl, fun Q hQ => by simp [v_X0_fits, v_X0_fits_147, v_X0_in, a0, b0, hQ], fun Q hQ => by simp [w_isGood, w_isGood_156, w_isGood_269, w_in, a0, b0, hQ], fun e => absurd e (by decide)⟩
    by_cases a1 : x3 < 1
    · exact ⟨0, Or.inl rfl, fun Q hQ => by simp [v_X0_fits, v_X0_fits_147, v_X0_in, a0, b0, a1, hQ], fun Q hQ => by simp [w_isGood, w_isGood_156, w_isGood_269, w_in, a0, b0, a1, hQ], fun e => absurd e (by decide)⟩
    by_cases b1 : 100 < x3
    · exact ⟨0, Or.inl rfl, fun Q hQ => by simp [v_X0_fits, v_X0_fits_147, v_X0_in, a0, b0, a1, b1, hQ], fun Q hQ => by simp [w_isGood, w_isGood_156, w_isGood_269, w_in, a0, b0, a1, b1, hQ], fun e => absurd e (by decide)⟩
    by_cases a2 : x4 = 0
    rotate_left
    · exact ⟨0, Or.inl rfl, fun Q hQ => by simp [v_X0_fits, v_X0_fits_147, v_X0_in, a0, b0, a1, b1, a2, hQ], fun Q hQ => by simp [w_isGood, w_isGood_156, w_isGood_269, w_in, a0, b0, a1, b1, a2, hQ], fun e => absurd e (by decide)⟩
    subst a2
    exact ⟨1, Or.inr rfl, fun Q hQ => by simp [v_X0_fits, v_X0_fits_147, v_X0_in, a0, b0, a1, b1, hQ], fun Q hQ => by simp [w_isGood, w_isGood_156, w_isGood_269, w_in, a0, b0, a1, b1, hQ], fun _ => ⟨2, by decide, rfl, ⟨fun e => absurd e (by decide), fun e => absurd e (by decide), fun e => absurd e (by decide), fun e => absurd e (by decide), fun e => absurd e (by decide), fun e => absurd e (by decide), fun e => absurd e (by decide)⟩⟩⟩
  by_cases w3 : x1 = 3
  · subst w3
    by_cases a0 : x2 < 1
    · exact ⟨0, Or.inl rfl, fun Q hQ => by simp [v_X0_fits, v_X0_fits_147, v_X0_in, a0, hQ], fun Q hQ => by simp [w_isGood, w_isGood_156, w_isGood_269, w_in, a0, hQ], fun e => absurd e (by decide)⟩
    by_cases b0 : 1000 < x2
    · exact ⟨0, Or.inl rfl, fun Q hQ => by simp [v_X0_fits, v_X0_fits_147, v_X0_in, a0, b0, hQ], fun Q hQ => by simp [w_isGood, w_isGood_156, w_isGood_269, w_in, a0, b0, hQ], fun e => absurd e (by decide)⟩
    by_cases a1 : x3 = 0
    rotate_left
    · exact ⟨0, Or.inl rfl, fun Q hQ => by simp [v_X0_fits, v_X0_fits_147, v_X0_in, a0, b0, a1, hQ], fun Q hQ => by simp [w_isGood, w_isGood_156, w_isGood_269, w_in, a0, b0, a1, hQ], fun e => absurd e (by decide)⟩
    subst a1
    by_cases a2 : x4 = 0
    rotate_left
    · exact ⟨0, Or.inl rfl, fun Q hQ => by simp [v_X0_fits, v_X0_fits_147, v_X0_in, a0, b0, a2, hQ], fun Q hQ => by simp [w_isGood, w_isGood_156, w_isGood_269, w_in, a0, b0, a2, hQ], fun e => absurd e (by decide)⟩
    subst a2
    obtain ⟨i, hi, ei⟩ := rng (x := x2) (n := 1000) (by decide) (fun h => a0 (Int32.lt_trans h (by decide))) b0
    have g3 : ∃ a, 1 ≤ a ∧ a ≤ 1000 ∧ x2 = nI a := ⟨i, Nat.pos_of_ne_zero (fun e => a0 (by rw [ei, e]; decide)), hi, ei⟩
    exact ⟨1, Or.inr rfl, fun Q hQ => by simp [v_X0_fits, v_X0_fits_147, v_X0_in, a0, b0, hQ], fun Q hQ => by simp [w_isGood, w_isGood_156, w_isGood_269, w_in, a0, b0, hQ], fun _ => ⟨3, by decide, rfl, ⟨fun e => absurd e (by decide), fun e => absurd e (by decide), fun _ => g3, fun e => absurd e (by decide), fun e => absurd e (by decide), fun e => absurd e (by decide), fun e => absurd e (by decide)⟩⟩⟩
  by_cases w4 : x1 = 4
  · subst w4
    by_cases a0 : x2 < 2
    · exact ⟨0, Or.inl rfl, fun Q hQ => by simp [v_X0_fits, v_X0_fits_147, v_X0_in, a0, hQ], fun Q hQ => by simp [w_isGood, w_isGood_156, w_isGood_269, w_in, a0, hQ], fun e => absurd e (by decide)⟩
    by_cases b0 : 6 < x2
    · exact ⟨0, Or.inl rfl, fun Q hQ => by simp [v_X0_fits, v_X0_fits_147, v_X0_in, a0, b0, hQ], fun Q hQ => by simp [w_isGood, w_isGood_156, w_isGood_269, w_in, a0, b0, hQ], fun e => absurd e (by decide)⟩
    by_cases a1 : x3 < 1
    · exact ⟨0, Or.inl rfl, fun Q hQ => by simp [v_X0_fits, v_X0_fits_147, v_X0_in, a0, b0, a1, hQ], fun Q hQ => by simp [w_isGood, w_isGood_156, w_isGood_269, w_in, a0, b0, a1, hQ], fun e => absurd e (by decide)⟩
    by_cases b1 : 50 < x3
    · exact ⟨0, Or.inl rfl, fun Q hQ => by simp [v_X0_fits, v_X0_fits_147, v_X0_in, a0, b0, a1, b1, hQ], fun Q hQ => by simp [w_isGood, w_isGood_156, w_isGood_269, w_in, a0, b0, a1, b1, hQ], fun e => absurd e (by decide)⟩
    by_cases a2 : x4 < 0
    · exact ⟨0, Or.inl rfl, fun Q hQ => by simp [v_X0_fits, v_X0_fits_147, v_X0_in, a0, b0, a1, b1, a2, hQ], fun Q hQ => by simp [w_isGood, w_isGood_156, w_isGood_269, w_in, a0, b0, a1, b1, a2, hQ], fun e => absurd e (by decide)⟩
    by_cases b2 : 1 < x4
    · exact ⟨0, Or.inl rfl, fun Q hQ => by simp [v_X0_fits, v_X0_fits_147, v_X0_in, a0, b0, a1, b1, a2, b2, hQ], fun Q hQ => by simp [w_isGood, w_isGood_156, w_isGood_269, w_in, a0, b0, a1, b1, a2, b2, hQ], fun e => absurd e (by decide)⟩
    obtain ⟨i, hi, ei⟩ := rng (x := x4) (n := 1) (by decide) a2 b2
    have g40 : x4 = 0 ∨ x4 = 1 := by
      have : i = 0 ∨ i = 1 := by omega
      rcases this with e | e <;> subst e
      · exact Or.inl ei
      · exact Or.inr ei
    obtain ⟨i, hi, ei⟩ := rng (x := x2) (n := 6) (by decide) (fun h => a0 (Int32.lt_trans h (by decide))) b0
    have g4 : ∃ a, 2 ≤ a ∧ a ≤ 6 ∧ x2 = nI a ∧ (x4 = 0 ∨ x4 = 1) := by
      refine ⟨i, ?_, hi, ei, g40⟩
      rcases Nat.lt_or_ge i 2 with v | v
      · exfalso
        have : i = 0 ∨ i = 1 := by omega
        rcases this with e | e <;> subst e <;> exact a0 (by rw [ei]; decide)
      · exact v
    exact ⟨1, Or.inr rfl, fun Q hQ => by simp [v_X0_fits, v_X0_fits_147, v_X0_in, a0, b0, a1, b1, a2, b2, hQ], fun Q hQ => by simp [w_isGood, w_isGood_156, w_isGood_269, w_in, a0, b0, a1, b1, a2, b2, hQ], fun _ => ⟨4, by decide, rfl, ⟨fun e => absurd e (by decide), fun e => absurd e (by decide), fun e => absurd e (by decide), fun _ => g4, fun e => absurd e (by decide), fun e => absurd e (by decide), fun e => absurd e (by decide)⟩⟩⟩
  by_cases w5 : x1 = 5
  · subst w5
    by_cases a0 : x2 < 1
    · exact ⟨0, Or.inl rfl, fun Q hQ => by simp [v_X0_fits, v_X0_fits_147, v_X0_in, a0, hQ], fun Q hQ => by simp [w_isGood, w_isGood_156, w_isGood_269, w_in, a0, hQ], fun e => absurd e (by decide)⟩
    by_cases b0 : 100 < x2
    · exact ⟨0, Or.inl rfl, fun Q hQ => by simp [v_X0_fits, v_X0_fits_147, v_X0_in, a0, b0, hQ], fun Q hQ => by simp [w_isGood, w_isGood_156, w_isGood_269, w_in, a0, b0, hQ], fun e => absurd e (by decide)⟩
    by_cases a1 : x3 = 0
    rotate_left
    · exact ⟨0, Or.inl rfl, fun Q hQ => by simp [v_X0_fits, v_X0_fits_147, v_X0_in, a0, b0, a1, hQ], fun Q hQ => by simp [w_isGood, w_isGood_156, w_isGood_269, w_in, a0, b0, a1, hQ], fun e => absurd e (by decide)⟩
    subst a1
    by_cases a2 : x4 = 0
    rotate_left
    · exact ⟨0, Or.inl rfl, fun Q hQ => by simp [v_X0_fits, v_X0_fits_147, v_X0_in, a0, b0, a2, hQ], fun Q hQ => by simp [w_isGood, w_isGood_156, w_isGood_269, w_in, a0, b0, a2, hQ], fun e => absurd e (by decide)⟩
    subst a2
    obtain ⟨i, hi, ei⟩ := rng (x := x2) (n := 100) (by decide) (fun h => a0 (Int32.lt_trans h (by decide))) b0
    have g3 : ∃ a, 1 ≤ a ∧ a ≤ 1000 ∧ x2 = nI a := ⟨i, Nat.pos_of_ne_zero (fun e => a0 (by rw [ei, e]; decide)), by omega, ei⟩
    exact ⟨1, Or.inr rfl, fun Q hQ => by simp [v_X0_fits, v_X0_fits_147, v_X0_in, a0, b0, hQ], fun Q hQ => by simp [w_isGood, w_isGood_156, w_isGood_269, w_in, a0, b0, hQ], fun _ => ⟨5, by decide, rfl, ⟨fun e => absurd e (by decide), fun e => absurd e (by decide), fun _ => g3, fun e => absurd e (by decide), fun e => absurd e (by decide), fun e => absurd e (by decide), fun e => absurd e (by decide)⟩⟩⟩
  by_cases w7 : x1 = 7
  · subst w7
    by_cases a0 : x2 < 1
    · exact ⟨0, Or.inl rfl, fun Q hQ => by simp [v_X0_fits, v_X0_fits_147, v_X0_in, a0, hQ], fun Q hQ => by simp [w_isGood, w_isGood_156, w_isGood_269, w_in, a0, hQ], fun e => absurd e (by decide)⟩
    by_cases b0 : 1000 < x2
    · exact ⟨0, Or.inl rfl, fun Q hQ => by simp [v_X0_fits, v_X0_fits_147, v_X0_in, a0, b0, hQ], fun Q hQ => by simp [w_isGood, w_isGood_156, w_isGood_269, w_in, a0, b0, hQ], fun e => absurd e (by decide)⟩
    by_cases a1 : x3 = 0
    rotate_left
    · exact ⟨0, Or.inl rfl, fun Q hQ => by simp [v_X0_fits, v_X0_fits_147, v_X0_in, a0, b0, a1, hQ], fun Q hQ => by simp [w_isGood, w_isGood_156, w_isGood_269, w_in, a0, b0, a1, hQ], fun e => absurd e (by decide)⟩
    subst a1
    by_cases a2 : x4 = 0
    rotate_left
    · exact ⟨0, Or.inl rfl, fun Q hQ => by simp [v_X0_fits, v_X0_fits_147, v_X0_in, a0, b0, a2, hQ], fun Q hQ => by simp [w_isGood, w_isGood_156, w_isGood_269, w_in, a0, b0, a2, hQ], fun e => absurd e (by decide)⟩
    subst a2
    exact ⟨1, Or.inr rfl, fun Q hQ => by simp [v_X0_fits, v_X0_fits_147, v_X0_in, a0, b0, hQ], fun Q hQ => by simp [w_isGood, w_isGood_156, w_isGood_269, w_in, a0, b0, hQ], fun _ => ⟨7, by decide, rfl, ⟨fun e => absurd e (by decide), fun e => absurd e (by decide), fun e => absurd e (by decide), fun e => absurd e (by decide), fun e => absurd e (by decide), fun e => absurd e (by decide), fun e => absurd e (by decide)⟩⟩⟩
  by_cases w8 : x1 = 8
  · subst w8
    by_cases a0 : x2 = 0
    rotate_left
    · exact ⟨0, Or.inl rfl, fun Q hQ => by simp [v_X0_fits, v_X0_fits_147, v_X0_in, a0, hQ], fun Q hQ => by simp [w_isGood, w_isGood_156, w_isGood_269, w_in, a0, hQ], fun e => absurd e (by decide)⟩
    subst a0
    by_cases a1 : x3 = 0
    rotate_left
    · exact ⟨0, Or.inl rfl, fun Q hQ => by simp [v_X0_fits, v_X0_fits_147, v_X0_in, a1, hQ], fun Q hQ => by simp [w_isGood, w_isGood_156, w_isGood_269, w_in, a1, hQ], fun e => absurd e (by decide)⟩
    subst a1
    by_cases a2 : x4 = 0
    rotate_left
    · exact ⟨0, Or.inl rfl, fun Q hQ => by simp [v_X0_fits, v_X0_fits_147, v_X0_in, a2, hQ], fun Q hQ => by simp [w_isGood, w_isGood_156, w_isGood_269, w_in, a2, hQ], fun e => absurd e (by decide)⟩
    subst a2
    exact ⟨1, Or.inr rfl, fun Q hQ => by simp [v_X0_fits, v_X0_fits_147, v_X0_in, hQ], fun Q hQ => by simp [w_isGood, w_isGood_156, w_isGood_269, w_in, hQ], fun _ => ⟨8, by decide, rfl, ⟨fun e => absurd e (by decide), fun e => absurd e (by decide), fun e => absurd e (by decide), fun e => absurd e (by decide), fun e => absurd e (by decide), fun _ => ⟨rfl, rfl, rfl⟩, fun e => absurd e (by decide)⟩⟩⟩
  by_cases w9 : x1 = 9
  · subst w9
    by_cases a0 : x2 = 0
    rotate_left
    · exact ⟨0, Or.inl rfl, fun Q hQ => by simp [v_X0_fits, v_X0_fits_147, v_X0_in, a0, hQ], fun Q hQ => by simp [w_isGood, w_isGood_156, w_isGood_269, w_in, a0, hQ], fun e => absurd e (by decide)⟩
    subst a0
    by_cases a1 : x3 < 0
    · exact ⟨0, Or.inl rfl, fun Q hQ => by simp [v_X0_fits, v_X0_fits_147, v_X0_in, a1, hQ], fun Q hQ => by simp [w_isGood, w_isGood_156, w_isGood_269, w_in, a1, hQ], fun e => absurd e (by decide)⟩
    by_cases b1 : 15 < x3
    · exact ⟨0, Or.inl rfl, fun Q hQ => by simp [v_X0_fits, v_X0_fits_147, v_X0_in, a1, b1, hQ], fun Q hQ => by simp [w_isGood, w_isGood_156, w_isGood_269, w_in, a1, b1, hQ], fun e => absurd e (by decide)⟩
    by_cases a2 : x4 = 0
    rotate_left
    · exact ⟨0, Or.inl rfl, fun Q hQ => by simp [v_X0_fits, v_X0_fits_147, v_X0_in, a1, b1, a2, hQ], fun Q hQ => by simp [w_isGood, w_isGood_156, w_isGood_269, w_in, a1, b1, a2, hQ], fun e => absurd e (by decide)⟩
    subst a2
    obtain ⟨i, hi, ei⟩ := rng (x := x3) (n := 15) (by decide) a1 b1
    have g9 : ∃ b, b ≤ 15 ∧ x3 = nI b := ⟨i, hi, ei⟩
    exact ⟨1, Or.inr rfl, fun Q hQ => by simp [v_X0_fits, v_X0_fits_147, v_X0_in, a1, b1, hQ], fun Q hQ => by simp [w_isGood, w_isGood_156, w_isGood_269, w_in, a1, b1, hQ], fun _ => ⟨9, by decide, rfl, ⟨fun e => absurd e (by decide), fun e => absurd e (by decide), fun e => absurd e (by decide), fun e => absurd e (by decide), fun e => absurd e (by decide), fun e => absurd e (by decide), fun _ => g9⟩⟩⟩
  by_cases w6 : x1 = 6
  · subst w6
    have nn : x2 = 0 ∨ x2 = 1 ∨ ((x2 < 0 ∨ (¬ x2 < 0 ∧ 1 < x2)) ∧ ¬ x2 = 0 ∧ ¬ x2 = 1) := by
      by_cases a : x2 = 0
      · exact Or.inl a
      by_cases b : x2 = 1
      · exact Or.inr (Or.inl b)
      refine Or.inr (Or.inr ⟨?_, a, b⟩)
      by_cases c : x2 < 0
      · exact Or.inl c
      refine Or.inr ⟨c, Classical.byContradiction fun d => ?_⟩
      obtain ⟨i, hi, ei⟩ := rng (x := x2) (n := 1) (by decide) c d
      have : i = 0 ∨ i = 1 := by omega
      rcases this with e | e <;> subst e
      · exact a ei
      · exact b ei
    rcases nn with y | y | ⟨y, y0, y1⟩
    · subst y
      by_cases c1 : x4 = 0
      · subst c1
        by_cases a : x3 < 0
        · exact ⟨0, Or.inl rfl, fun Q hQ => by simp [v_X0_fits, v_X0_fits_147, v_X0_in, a, hQ], fun Q hQ => by simp [w_isGood, w_isGood_156, w_isGood_269, w_in, a, hQ], fun e => absurd e (by decide)⟩
        by_cases b : 1000000 < x3
        · exact ⟨0, Or.inl rfl, fun Q hQ => by simp [v_X0_fits, v_X0_fits_147, v_X0_in, a, b, hQ], fun Q hQ => by simp [w_isGood, w_isGood_156, w_isGood_269, w_in, a, b, hQ], fun e => absurd e (by decide)⟩
        exact ⟨1, Or.inr rfl, fun Q hQ => by simp [v_X0_fits, v_X0_fits_147, v_X0_in, a, b, hQ], fun Q hQ => by simp [w_isGood, w_isGood_156, w_isGood_269, w_in, a, b, hQ], fun _ => ⟨6, by decide, rfl, ⟨fun e => absurd e (by decide), fun e => absurd e (by decide), fun e => absurd e (by decide), fun e => absurd e (by decide), fun _ => Or.inl rfl, fun e => absurd e (by decide), fun e => absurd e (by decide)⟩⟩⟩
      · refine ⟨0, Or.inl rfl, fun Q hQ => ?_, fun Q hQ => by simp [w_isGood, w_isGood_156, w_isGood_269, w_in, c1, hQ], fun e => absurd e (by decide)⟩
        by_cases a : x3 < 0
        · simp [v_X0_fits, v_X0_fits_147, v_X0_in, a, hQ]
        by_cases b : 1000000 < x3
        · simp [v_X0_fits, v_X0_fits_147, v_X0_in, a, b, hQ]
        simp [v_X0_fits, v_X0_fits_147, v_X0_in, a, b, c1, hQ]
    · subst y
      obtain ⟨i, hi, ei⟩ := hst rfl rfl
      have a : ¬ x3 < 0 := by rw [ei]; exact nI_pos (by omega)
      have b : ¬ 1000000 < x3 := by rw [ei]; exact Int32.not_lt.mpr (show nI i ≤ nI 1000000 from nI_le (by omega) (by decide))
      by_cases c1 : x4 = 0
      · subst c1
        exact ⟨1, Or.inr rfl, fun Q hQ => by simp [v_X0_fits, v_X0_fits_147, v_X0_in, a, b, hQ], fun Q hQ => by simp [w_isGood, w_isGood_156, w_isGood_269, w_in, hQ], fun _ => ⟨6, by decide, rfl, ⟨fun e => absurd e (by decide), fun e => absurd e (by decide), fun e => absurd e (by decide), fun e => absurd e (by decide), fun _ => Or.inr ⟨rfl, i, hi, ei⟩, fun e => absurd e (by decide), fun e => absurd e (by decide)⟩⟩⟩
      · exact ⟨0, Or.inl rfl, fun Q hQ => by simp [v_X0_fits, v_X0_fits_147, v_X0_in, a, b, c1, hQ], fun Q hQ => by simp [w_isGood, w_isGood_156, w_isGood_269, w_in, c1, hQ], fun e => absurd e (by decide)⟩
    · refine ⟨0, Or.inl rfl, fun Q hQ => ?_, fun Q hQ => ?_, fun e => absurd e (by decide)⟩
      · rcases y with c | ⟨c, d⟩
        · simp [v_X0_fits, v_X0_fits_147, v_X0_in, c, hQ]
        · simp [v_X0_fits, v_X0_fits_147, v_X0_in, c, d, hQ]
      · by_cases c1 : x4 = 0
        · simp [w_isGood, w_isGood_156, w_isGood_269, w_in, c1, y0, y1, hQ]
        · simp [w_isGood, w_isGood_156, w_isGood_269, w_in, c1, hQ]
  exact ⟨0, Or.inl rfl, fun Q hQ => by simp [v_X0_fits, w0, w1, w2, w3, w4, w5, w6, w7, w8, w9, hQ], fun Q hQ => by simp [w_isGood, w0, w1, w2, w3, w4, w5, w6, w7, w8, w9, hQ], fun e => absurd e (by decide)⟩
def x4m (M : Mem) (kk k : Nat) (sx a b c e : Int32) : Mem := sI (sI (sI (sI (sI (sI (sR M kk k 6 (1, 0)) kk k 0 (nI k)) kk k 1 sx) kk k 2 a) kk k 3 b) kk k 4 c) kk k 5 e
theorem x4_c {M : Mem} {kk k i : Nat} (hkk : gk kk) {sx e a b c : Int32} (w5 : M.2.1 1 0 5 = (30, 5)) (s5 : M.1 30 5 0 = nI k) (ha : M.1 43 i 0 = a) (hb : M.1 43 i 1 = b) (hc : M.1 43 i 2 = c) (hl : M.2.2.1 43 i = 4) {Q : Mem → Prop} (hQ : Q (x4m M kk k sx a b c e)) : v_X4_init (kk, k) (1, 0) sx (43, i) e M Q := by
  have h1 : kk ≠ 1 := by have := hkk.1; omega
  have h30 : kk ≠ 30 := by have := hkk.2; omega
  have h43 : kk ≠ 43 := by have := hkk.2; omega
  have h0 : ¬ kk = 0 := by have := hkk.1; omega
  have lk30 : lk 30 := ⟨by decide, by decide⟩
  have ar : ∀ (M' : Mem) (j : Nat), M'.2.2.1 = M.2.2.1 → j < 3 → arI M' (43, i) 100 (nI j) := fun M' j e hj => ⟨by show 43 ≠ 0; decide, rfl, by show M'.2.2.1 43 i ≠ 0; rw [e, hl]; decide, by show vp_in (nI j) (M'.2.2.1 43 i - 1); rw [e, hl]; exact vp_in_nI hj (by decide)⟩
  refine ⟨hkk, fun M1 g1 => ⟨h0, rfl, fun e2 ee2 => ?_⟩⟩
  have q2 : e2 = (30, 5) := by
    rw [ee2, g1]
    show (if 1 = kk ∧ 0 = k ∧ 5 = 6 then ((1, 0) : Nat × Nat) else M.2.1 1 0 5) = _
    rw [if_neg (fun y => absurd y.2.2 (by decide))]
    exact w5
  subst q2
  refine ⟨lk30, hkk, fun M3 g3 => ⟨hkk, fun M4 g4 => ?_⟩⟩
  have e3 : M3 = sI (sR M kk k 6 (1, 0)) kk k 0 (nI k) := by
    rw [g3, g1]
    show sI _ kk k 0 (M.1 30 5 0) = _
    rw [s5]
  have z4 : ∀ f, M4.1 43 i f = M.1 43 i f := fun f => by
    rw [g4, e3, sI_ne (by simp; intro y; exact absurd y.symm h43), sI_ne (by simp; intro y; exact absurd y.symm h43)]
    rfl
  have l4 : M4.2.2.1 = M.2.2.1 := by rw [g4, e3]; rfl
  refine ⟨ar M4 0 l4 (by decide), hkk, fun M5 g5 => ?_⟩
  have e5 : M5 = sI M4 kk k 2 a := by
    rw [g5]
    show sI M4 kk k 2 (M4.1 43 i 0) = _
    rw [z4, ha]
  have z5 : ∀ f, M5.1 43 i f = M.1 43 i f := fun f => by
    rw [e5, sI_ne (by simp; intro y; exact absurd y.symm h43), z4]
  have l5 : M5.2.2.1 = M.2.2.1 := by rw [e5]; exact l4
  refine ⟨ar M5 1 l5 (by decide), hkk, fun M6 g6 => ?_⟩
  have e6 : M6 = sI M5 kk k 3 b := by
    rw [g6]
    show sI M5 kk k 3 (M5.1 43 i 1) = _
    rw [z5, hb]
  have z6 : ∀ f, M6.1 43 i f = M.1 43 i f := fun f => by
    rw [e6, sI_ne (by simp; intro y; exact absurd y.symm h43), z5]
  have l6 : M6.2.2.1 = M.2.2.1 := by rw [e6]; exact l5
  refine ⟨ar M6 2 l6 (by decide), hkk, fun M7 g7 => ⟨hkk, fun M8 g8 => ?_⟩⟩
  have e7 : M7 = sI M6 kk k 4 c := by
    rw [g7]
    show sI M6 kk k 4 (M6.1 43 i 2) = _
    rw [z6, hc]
  have e8 : M8 = x4m M kk k sx a b c e := by rw [g8, e7, e6, e5, g4, e3]; rfl
  rw [e8]
  exact hQ
