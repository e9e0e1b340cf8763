set_option maxRecDepth 100000
def APQ (wf : (Int32 → DB → Prop) → Prop) (vf : (Int32 → Mem → Prop) → Prop) (N : Mem) (t : DB) : Prop := ∃ r : Int32, (∀ Q : Int32 → DB → Prop, Q r t → wf Q) ∧ (∀ Q : Int32 → Mem → Prop, Q r N → vf Q)
theorem ix3 (x : Int32) {n : Nat} (hn : n < 2 ^ 31) : (x < 0) ∨ (¬ x < 0 ∧ 0 ≤ x ∧ nI n ≤ x ∧ ¬ x < nI n) ∨ ∃ j, j < n ∧ x = nI j ∧ ¬ nI j < 0 ∧ 0 ≤ nI j ∧ ¬ nI n ≤ nI j ∧ nI j < nI n ∧ (nI j).toNatClampNeg = j := by
  rcases pk_ix x hn with h | h | ⟨j, hj, rfl⟩
  · exact Or.inl h
  · have h0 : (0 : Int32) ≤ nI n := nI_pos' hn
    have h1 : (0 : Int32) ≤ x := Int32.le_trans h0 h
    exact Or.inr (Or.inl ⟨Int32.not_lt.mpr h1, h1, h, Int32.not_lt.mpr h⟩)
  · exact Or.inr (Or.inr ⟨j, hj, rfl, nI_pos (by omega), nI_pos' (by omega), nI_ge hj hn, nI_lt hj hn, nI_clamp (by omega)⟩)
theorem rn_j {k j : Nat} (h : j < 2 ^ 31) : rn k (nI j) = (k, j) := by
  unfold rn
  rw [if_neg (nI_pos h), nI_clamp h]
theorem rn_m {k : Nat} : rn k (-1) = (0, 0) := if_pos (by decide)
theorem ap_level {X : Mem} {m z : Nat} {P : List Nat} {x : Nat} {N : Mem} {t : DB} (h : SS X m z P x N t) (x1 : Int32) : APQ (w_level x1 t) (v_X0_level (1, 0) x1 N) N t := by
  have hL : N.2.1 1 0 2 = (30, 2) := h.W.1 2 (by decide) (by decide)
  have hs : N.1 30 2 0 = t 1 0 := h.S (2, 1, 0) (by decide)
  obtain ⟨hb, hb2⟩ := h.iB.1
  rcases ix3 x1 (n := cn t 1) (by omega) with hx | ⟨hx0, hx1, hx2, hx3⟩ | ⟨j, hj, rfl, h0, h1, h2, h3, hcl⟩
  · exact ⟨-1, fun Q hQ => by simp [w_level, w_isStation, hx, hQ], fun Q hQ => by simp [v_X0_level, v_X0_has, hL, hx, hQ, kt]⟩
  · exact ⟨-1, fun Q hQ => by simp [w_level, w_isStation, hx0, hb, hx1, hx2, hx3, hQ], fun Q hQ => by simp [v_X0_level, v_X0_has, hL, hs, hb, hx0, hx1, hx2, hx3, hQ, kt, lk]⟩
  · have eK : N.2.1 30 2 j = (3, j) := h.K (2, 3, 1) (by decide) j hj
    have hv : vp_in (nI j) 8 := vp_in_nI (by omega) (by decide)
    have e2 : N.1 3 j 2 = t 2 j := h.I (3, 2, 2, 1) (by decide) j hj
    exact ⟨t 2 j, fun Q hQ => by simp [w_level, w_isStation, h0, h1, h2, h3, hcl, hb, hv, hQ, e2], fun Q hQ => by simp [v_X0_level, v_X0_has, hL, hs, eK, h0, h1, h2, h3, hcl, hb, hv, hQ, e2, kt, lk]⟩
theorem ap_effect {X : Mem} {m z : Nat} {P : List Nat} {x : Nat} {N : Mem} {t : DB} (h : SS X m z P x N t) (x1 x2 : Int32) : APQ (w_effect x1 x2 t) (v_X0_effect (1, 0) x1 x2 N) N t := by
  have hL : N.2.1 1 0 11 = (30, 11) := h.W.1 11 (by decide) (by decide)
  have hs : N.1 30 11 0 = t 17 0 := h.S (11, 17, 0) (by decide)
  obtain ⟨hb, hb2⟩ := h.iB.2.2.2.2.2.2.2.2.1
  rcases ix3 x1 (n := cn t 17) (by omega) with hx | ⟨hx0, hx1, hx2, hx3⟩ | ⟨j, hj, rfl, h0, h1, h2, h3, hcl⟩
  · exact ⟨-1, fun Q hQ => by simp [w_effect, hx, hQ], fun Q hQ => by simp [v_X0_effect, v_X0_has, hL, hx, hQ, kt]⟩
  · exact ⟨-1, fun Q hQ => by simp [w_effect, hx0, hb, hx1, hx2, hx3, hQ], fun Q hQ => by simp [v_X0_effect, v_X0_has, hL, hs, hb, hx0, hx1, hx2, hx3, hQ, kt, lk]⟩
  · have eK : N.2.1 30 11 j = (23, j) := h.K (11, 23, 17) (by decide) j hj
    have hv : vp_in (nI j) 4400 := vp_in_nI (by omega) (by decide)
    by_cases w0 : x2 = 0
    · subst w0
      have e2 : N.1 23 j 0 = t 18 j := h.I (23, 0, 18, 17) (by decide) j hj
      exact ⟨t 18 j, fun Q hQ => by simp [w_effect, h0, h1, h2, h3, hcl, hb, hv, hQ, e2], fun Q hQ => by simp [v_X0_effect, v_X0_has, hL, hs, eK, h0, h1, h2, h3, hcl, hb, hv, hQ, e2, kt, lk]⟩
    by_cases w1 : x2 = 1
    · subst w1
      have e2 : N.1 23 j 1 = t 19 j := h.I (23, 1, 19, 17) (by decide) j hj
      exact ⟨t 19 j, fun Q hQ => by simp [w_effect, h0, h1, h2, h3, hcl, hb, hv, hQ, e2], fun Q hQ => by simp [v_X0_effect, v_X0_has, hL, hs, eK, h0, h1, h2, h3, hcl, hb, hv, hQ, e2, kt, lk]⟩
    by_cases w2 : x2 = 2
    · subst w2
      have e2 : N.1 23 j 2 = t 20 j := h.I (23, 2, 20, 17) (by decide) j hj
      exact ⟨t 20 j, fun Q hQ => by simp [w_effect, h0, h1, h2, h3, hcl, hb, hv, hQ, e2], fun Q hQ => by simp [v_X0_effect, v_X0_has, hL, hs, eK, h0, h1, h2, h3, hcl, hb, hv, hQ, e2, kt, lk]⟩
    by_cases w3 : x2 = 3
    · subst w3
      have e2 : N.1 23 j 3 = t 21 j := h.I (23, 3, 21, 17) (by decide) j hj
      exact ⟨t 21 j, fun Q hQ => by simp [w_effect, h0, h1, h2, h3, hcl, hb, hv, hQ, e2], fun Q hQ => by simp [v_X0_effect, v_X0_has, hL, hs, eK, h0, h1, h2, h3, hcl, hb, hv, hQ, e2, kt, lk]⟩
    by_cases w4 : x2 = 4
    · subst w4
      have e2 : N.1 23 j 4 = t 22 j := h.I (23, 4, 22, 17) (by decide) j hj
      exact ⟨t 22 j, fun Q hQ => by simp [w_effect, h0, h1, h2, h3, hcl, hb, hv, hQ, e2], fun Q hQ => by simp [v_X0_effect, v_X0_has, hL, hs, eK, h0, h1, h2, h3, hcl, hb, hv, hQ, e2, kt, lk]⟩
    exact ⟨-1, fun Q hQ => by simp [w_effect, h0, h1, h2, h3, hcl, hb, hv, hQ, w0, w1, w2, w3, w4], fun Q hQ => by simp [v_X0_effect, v_X0_has, hL, hs, eK, h0, h1, h2, h3, hcl, hb, hv, hQ, w0, w1, w2, w3, w4, kt, lk]⟩
theorem ap_failure {X : Mem} {m z : Nat} {P : List Nat} {x : Nat} {N : Mem} {t : DB} (h : SS X m z P x N t) (x1 x2 : Int32) : APQ (w_failure x1 x2 t) (v_X0_failure (1, 0) x1 x2 N) N t := by
  have hL : N.2.1 1 0 10 = (30, 10) := h.W.1 10 (by decide) (by decide)
  have hs : N.1 30 10 0 = t 23 0 := h.S (10, 23, 0) (by decide)
  obtain ⟨hb, hb2⟩ := h.iB.2.2.2.2.2.2.2.1
  rcases ix3 x1 (n := cn t 23) (by omega) with hx | ⟨hx0, hx1, hx2, hx3⟩ | ⟨j, hj, rfl, h0, h1, h2, h3, hcl⟩
  · exact ⟨-1, fun Q hQ => by simp [w_failure, hx, hQ], fun Q hQ => by simp [v_X0_failure, v_X0_has, v_X17_numberOf, hL, hx, hQ, kt]⟩
  · exact ⟨-1, fun Q hQ => by simp [w_failure, hx0, hb, hx1, hx2, hx3, hQ], fun Q hQ => by simp [v_X0_failure, v_X0_has, v_X17_numberOf, hL, hs, hb, hx0, hx1, hx2, hx3, hQ, kt, lk]⟩
  · have eK : N.2.1 30 10 j = (22, j) := h.K (10, 22, 23) (by decide) j hj
    have hv : vp_in (nI j) 4400 := vp_in_nI (by omega) (by decide)
    by_cases w0 : x2 = 0
    · subst w0
      have e2 : N.1 22 j 1 = t 24 j := h.I (22, 1, 24, 23) (by decide) j hj
      exact ⟨t 24 j, fun Q hQ => by simp [w_failure, h0, h1, h2, h3, hcl, hb, hv, hQ, e2], fun Q hQ => by simp [v_X0_failure, v_X0_has, v_X17_numberOf, hL, hs, eK, h0, h1, h2, h3, hcl, hb, hv, hQ, e2, kt, lk]⟩
    by_cases w1 : x2 = 1
    · subst w1
      have e2 : N.1 22 j 2 = t 25 j := h.I (22, 2, 25, 23) (by decide) j hj
      exact ⟨t 25 j, fun Q hQ => by simp [w_failure, h0, h1, h2, h3, hcl, hb, hv, hQ, e2], fun Q hQ => by simp [v_X0_failure, v_X0_has, v_X17_numberOf, hL, hs, eK, h0, h1, h2, h3, hcl, hb, hv, hQ, e2, kt, lk]⟩
    by_cases w2 : x2 = 2
    · subst w2
      have e2 : N.1 22 j 3 = t 26 j := h.I (22, 3, 26, 23) (by decide) j hj
      exact ⟨t 26 j, fun Q hQ => by simp [w_failure, h0, h1, h2, h3, hcl, hb, hv, hQ, e2], fun Q hQ => by simp [v_X0_failure, v_X0_has, v_X17_numberOf, hL, hs, eK, h0, h1, h2, h3, hcl, hb, hv, hQ, e2, kt, lk]⟩
    by_cases w3 : x2 = 3
    · subst w3
      have e2 : N.1 22 j 4 = t 27 j := h.I (22, 4, 27, 23) (by decide) j hj
      exact ⟨t 27 j, fun Q hQ => by simp [w_failure, h0, h1, h2, h3, hcl, hb, hv, hQ, e2], fun Q hQ => by simp [v_X0_failure, v_X0_has, v_X17_numberOf, hL, hs, eK, h0, h1, h2, h3, hcl, hb, hv, hQ, e2, kt, lk]⟩
    by_cases w4 : x2 = 4
    · subst w4
      have e2 : N.2.1 22 j 5 = rn 22 (t 28 j) := h.R (22, 5, 22, 28, 23) (by decide) j hj
      rcases (h.iX j hj).2.1 with e3 | ⟨i, hi, e3⟩
      · rw [e3, rn_m] at e2
        exact ⟨-1, fun Q hQ => by simp [w_failure, h0, h1, h2, h3, hcl, hb, hv, hQ, e3], fun Q hQ => by simp [v_X0_failure, v_X0_has, v_X17_numberOf, hL, hs, eK, h0, h1, h2, h3, hcl, hb, hv, hQ, e2, kt, lk]⟩
      · rw [e3, rn_j (by omega)] at e2
        have e4 : N.1 22 i 0 = nI i := h.N (22, 23) (by decide) i hi
        exact ⟨nI i, fun Q hQ => by simp [w_failure, h0, h1, h2, h3, hcl, hb, hv, hQ, e3], fun Q hQ => by simp [v_X0_failure, v_X0_has, v_X17_numberOf, hL, hs, eK, h0, h1, h2, h3, hcl, hb, hv, hQ, e2, e4, kt, lk]⟩
    by_cases w5 : x2 = 5
    · subst w5
      have e2 : N.2.1 22 j 6 = rn 22 (t 29 j) := h.R (22, 6, 22, 29, 23) (by decide) j hj
      rcases (h.iX j hj).2.2 with e3 | ⟨i, hi, e3⟩
      · rw [e3, rn_m] at e2
        exact ⟨-1, fun Q hQ => by simp [w_failure, h0, h1, h2, h3, hcl, hb, hv, hQ, e3], fun Q hQ => by simp [v_X0_failure, v_X0_has, v_X17_numberOf, hL, hs, eK, h0, h1, h2, h3, hcl, hb, hv, hQ, e2, kt, lk]⟩
      · rw [e3, rn_j (by omega)] at e2
        have e4 : N.1 22 i 0 = nI i := h.N (22, 23) (by decide) i hi
        exact ⟨nI i, fun Q hQ => by simp [w_failure, h0, h1, h2, h3, hcl, hb, hv, hQ, e3], fun Q hQ => by simp [v_X0_failure, v_X0_has, v_X17_numberOf, hL, hs, eK, h0, h1, h2, h3, hcl, hb, hv, hQ, e2, e4, kt, lk]⟩
    exact ⟨-1, fun Q hQ => by simp [w_failure, h0, h1, h2, h3, hcl, hb, hv, hQ, w0, w1, w2, w3, w4, w5], fun Q hQ => by simp [v_X0_failure, v_X0_has, v_X17_numberOf, hL, hs, eK, h0, h1, h2, h3, hcl, hb, hv, hQ, w0, w1, w2, w3, w4, w5, kt, lk]⟩
theorem ap_planned {X : Mem} {m z : Nat} {P : List Nat} {x : Nat} {N : Mem} {t : DB} (h : SS X m z P x N t) (x1 x2 : Int32) : APQ (w_planned x1 x2 t) (v_X0_planned (1, 0) x1 x2 N) N t := by
  have hL : N.2.1 1 0 12 = (30, 12) := h.W.1 12 (by decide) (by decide)
  have hs : N.1 30 12 0 = t 89 0 := h.S (12, 89, 0) (by decide)
  obtain ⟨hb, hb2⟩ := h.iB.2.2.2.2.2.2.2.2.2.1
  rcases ix3 x1 (n := cn t 89) (by omega) with hx | ⟨hx0, hx1, hx2, hx3⟩ | ⟨j, hj, rfl, h0, h1, h2, h3, hcl⟩
  · exact ⟨-1, fun Q hQ => by simp [w_planned, hx, hQ], fun Q hQ => by simp [v_X0_planned, v_X0_has, hL, hx, hQ, kt]⟩
  · exact ⟨-1, fun Q hQ => by simp [w_planned, hx0, hb, hx1, hx2, hx3, hQ], fun Q hQ => by simp [v_X0_planned, v_X0_has, hL, hs, hb, hx0, hx1, hx2, hx3, hQ, kt, lk]⟩
  · have eK : N.2.1 30 12 j = (24, j) := h.K (12, 24, 89) (by decide) j hj
    have hv : vp_in (nI j) 12 := vp_in_nI (by omega) (by decide)
    by_cases w0 : x2 = 0
    · subst w0
      have e2 : N.1 24 j 8 = t 98 j := h.I (24, 8, 98, 89) (by decide) j hj
      exact ⟨t 98 j, fun Q hQ => by simp [w_planned, h0, h1, h2, h3, hcl, hb, hv, hQ, e2], fun Q hQ => by simp [v_X0_planned, v_X0_has, hL, hs, eK, h0, h1, h2, h3, hcl, hb, hv, hQ, e2, kt, lk]⟩
    by_cases w1 : x2 = 1
    · subst w1
      have e2 : N.1 24 j 9 = t 99 j := h.I (24, 9, 99, 89) (by decide) j hj
      exact ⟨t 99 j, fun Q hQ => by simp [w_planned, h0, h1, h2, h3, hcl, hb, hv, hQ, e2], fun Q hQ => by simp [v_X0_planned, v_X0_has, hL, hs, eK, h0, h1, h2, h3, hcl, hb, hv, hQ, e2, kt, lk]⟩
    by_cases w2 : x2 = 2
    · subst w2
      have e2 : N.1 24 j 10 = t 100 j := h.I (24, 10, 100, 89) (by decide) j hj
      exact ⟨t 100 j, fun Q hQ => by simp [w_planned, h0, h1, h2, h3, hcl, hb, hv, hQ, e2], fun Q hQ => by simp [v_X0_planned, v_X0_has, hL, hs, eK, h0, h1, h2, h3, hcl, hb, hv, hQ, e2, kt, lk]⟩
    by_cases w3 : x2 = 3
    · subst w3
      have e2 : N.1 24 j 11 = t 101 j := h.I (24, 11, 101, 89) (by decide) j hj
      exact ⟨t 101 j, fun Q hQ => by simp [w_planned, h0, h1, h2, h3, hcl, hb, hv, hQ, e2], fun Q hQ => by simp [v_X0_planned, v_X0_has, hL, hs, eK, h0, h1, h2, h3, hcl, hb, hv, hQ, e2, kt, lk]⟩
    by_cases w4 : x2 = 4
    · subst w4
      have e2 : N.1 24 j 12 = t 102 j := h.I (24, 12, 102, 89) (by decide) j hj
      by_cases e3 : t 102 j = 0
      · exact ⟨1, fun Q hQ => by simp [w_planned, h0, h1, h2, h3, hcl, hb, hv, hQ, e3], fun Q hQ => by simp [v_X0_planned, v_X0_has, hL, hs, eK, h0, h1, h2, h3, hcl, hb, hv, hQ, e2, e3, kt, lk]⟩
      · exact ⟨0, fun Q hQ => by simp [w_planned, h0, h1, h2, h3, hcl, hb, hv, hQ, e3], fun Q hQ => by simp [v_X0_planned, v_X0_has, hL, hs, eK, h0, h1, h2, h3, hcl, hb, hv, hQ, e2, e3, kt, lk]⟩
    exact ⟨-1, fun Q hQ => by simp [w_planned, h0, h1, h2, h3, hcl, hb, hv, hQ, w0, w1, w2, w3, w4], fun Q hQ => by simp [v_X0_planned, v_X0_has, hL, hs, eK, h0, h1, h2, h3, hcl, hb, hv, hQ, w0, w1, w2, w3, w4, kt, lk]⟩
theorem ap_now {X : Mem} {m z : Nat} {P : List Nat} {x : Nat} {N : Mem} {t : DB} (h : SS X m z P x N t) : APQ (w_now t) (v_X0_now (1, 0) N) N t := ⟨t 0 0, fun Q hQ => by simp [w_now, hQ], fun Q hQ => by have e := h.W.2.1; simp [v_X0_now, e, hQ, kt]⟩
