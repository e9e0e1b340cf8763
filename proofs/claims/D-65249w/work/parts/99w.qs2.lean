set_option maxRecDepth 100000
/-! the remaining queries -/
theorem ap_outcome {X : Mem} {m : Nat} {N : Mem} {t : DB} (h : SS X m 60 [] 100000 N t) (x1 : Int32) : APQ (w_outcome x1 t) (v_X0_outcome (1, 0) x1 N) N t := by
  have hL : N.2.1 1 0 8 = (30, 8) := h.W.1 8 (by decide) (by decide)
  have hs : N.1 30 8 0 = t 50 0 := h.S (8, 50, 0) (by decide)
  obtain ⟨hb, hb2⟩ := h.iB.2.2.2.2.2.1
  rcases ix3 x1 (n := cn t 50) (by omega) with hx | ⟨hx0, hx1, hx2, hx3⟩ | ⟨j, hj, rfl, h0, h1, h2, h3, hcl⟩
  · exact ⟨-1, fun Q hQ => by simp [w_outcome, hx, hQ], fun Q hQ => by simp [v_X0_outcome, v_X0_has, hL, hx, hQ, kt]⟩
  · exact ⟨-1, fun Q hQ => by simp [w_outcome, hx0, hb, hx1, hx2, hx3, hQ], fun Q hQ => by simp [v_X0_outcome, v_X0_has, hL, hs, hb, hx0, hx1, hx2, hx3, hQ, kt, lk]⟩
  have hv : vp_in (nI j) 60 := vp_in_nI (by omega) (by decide)
  have eK : N.2.1 30 8 j = (20, j) := h.K (8, 20, 50) (by decide) j hj
  have oc : ∀ Q : Int32 → Mem → Prop, Q (t 58 j) N → v_X15_outcome (20, j) N Q := fun Q hQ => outc_c h.1 hj hQ
  exact ⟨t 58 j, fun Q hQ => by simp [w_outcome, h0, h1, h2, h3, hcl, hb, hv, hQ], fun Q hQ => by simp [v_X0_outcome, v_X0_has, hL, hs, eK, h0, h1, h2, h3, hcl, hb, hv, hQ, kt, lk]; exact oc _ hQ⟩
theorem ap_of {X : Mem} {m : Nat} {N : Mem} {t : DB} (h : SS X m 60 [] 100000 N t) (x1 x2 : Int32) : APQ (w_of x1 x2 t) (v_X0_of (1, 0) x1 x2 N) N t := by
  have hL : N.2.1 1 0 8 = (30, 8) := h.W.1 8 (by decide) (by decide)
  have hs : N.1 30 8 0 = t 50 0 := h.S (8, 50, 0) (by decide)
  obtain ⟨hb, hb2⟩ := h.iB.2.2.2.2.2.1
  rcases ix3 x1 (n := cn t 50) (by omega) with hx | ⟨hx0, hx1, hx2, hx3⟩ | ⟨j, hj, rfl, h0, h1, h2, h3, hcl⟩
  · exact ⟨-1, fun Q hQ => by simp [w_of, hx, hQ], fun Q hQ => by simp [v_X0_of, v_X0_has, hL, hx, hQ, kt]⟩
  · exact ⟨-1, fun Q hQ => by simp [w_of, hx0, hb, hx1, hx2, hx3, hQ], fun Q hQ => by simp [v_X0_of, v_X0_has, hL, hs, hb, hx0, hx1, hx2, hx3, hQ, kt, lk]⟩
  have hv : vp_in (nI j) 60 := vp_in_nI (by omega) (by decide)
  have eK : N.2.1 30 8 j = (20, j) := h.K (8, 20, 50) (by decide) j hj
  obtain ⟨o8, c, c1, c2, c3, c4, c5⟩ := h.O j hj (by omega)
  have e12 : N.1 21 c 12 = (if t 69 c = 1 then t 70 c else -1) := (h.C c c1).2.2.1
  have e16 : N.2.1 21 c 16 = (if t 69 c = 2 then rn 22 (t 70 c) else (0, 0)) := (h.C c c1).2.2.2
  have e5 : N.1 20 j 5 = t 56 j := h.I (20, 5, 56, 50) (by decide) j hj
  have e9 : N.1 20 j 9 = t 57 j := h.I (20, 9, 57, 50) (by decide) j hj
  by_cases w0 : x2 = 0
  · subst w0
    rcases c5 with ⟨y1, -⟩ | ⟨y1, y2⟩ | ⟨y1, y2, y3⟩ | ⟨y1, y2, y3⟩
    · rw [if_pos y1] at o8
      exact ⟨-1, fun Q hQ => by simp [w_of, y1, h0, h1, h2, h3, hcl, hb, hv, hQ], fun Q hQ => by simp [v_X0_of, v_X0_has, o8, hL, hs, eK, h0, h1, h2, h3, hcl, hb, hv, hQ, kt, lk]⟩
    · rw [y2, if_neg (by decide)] at o8
      rw [y1, if_neg (by decide)] at e12
      exact ⟨-1, fun Q hQ => by simp [w_of, y2, h0, h1, h2, h3, hcl, hb, hv, hQ], fun Q hQ => by simp [v_X0_of, v_X0_has, o8, c2, e12, hL, hs, eK, h0, h1, h2, h3, hcl, hb, hv, hQ, kt, lk]⟩
    · have n4 : ¬ t 58 j = 4 := fun v => by rw [v] at y2; by_cases w : t 71 c = 1 <;> simp [w] at y2
      rw [if_neg n4] at o8
      rw [y1, if_pos rfl] at e12
      refine ⟨t 59 j, fun Q hQ => ?_, fun Q hQ => by simp [v_X0_of, v_X0_has, o8, c2, e12, ← y3, hL, hs, eK, h0, h1, h2, h3, hcl, hb, hv, hQ, kt, lk]⟩
      by_cases w : t 71 c = 1
      · rw [if_pos w] at y2
        simp [w_of, y2, h0, h1, h2, h3, hcl, hb, hv, hQ]
      · rw [if_neg w] at y2
        simp [w_of, y2, h0, h1, h2, h3, hcl, hb, hv, hQ]
    · rw [y2, if_neg (by decide)] at o8
      rw [y1, if_neg (by decide)] at e12
      exact ⟨-1, fun Q hQ => by simp [w_of, y2, h0, h1, h2, h3, hcl, hb, hv, hQ], fun Q hQ => by simp [v_X0_of, v_X0_has, o8, c2, e12, hL, hs, eK, h0, h1, h2, h3, hcl, hb, hv, hQ, kt, lk]⟩
  by_cases w1 : x2 = 1
  · subst w1
    rcases c5 with ⟨y1, -⟩ | ⟨y1, y2⟩ | ⟨y1, y2, y3⟩ | ⟨y1, y2, y3⟩
    · rw [if_pos y1] at o8
      exact ⟨-1, fun Q hQ => by simp [w_of, y1, h0, h1, h2, h3, hcl, hb, hv, hQ], fun Q hQ => by simp [v_X0_of, v_X0_has, o8, hL, hs, eK, h0, h1, h2, h3, hcl, hb, hv, hQ, kt, lk]⟩
    · rw [y2, if_neg (by decide)] at o8
      rw [y1, if_neg (by decide)] at e16
      exact ⟨-1, fun Q hQ => by simp [w_of, y2, h0, h1, h2, h3, hcl, hb, hv, hQ], fun Q hQ => by simp [v_X0_of, v_X0_has, v_X17_numberOf, o8, c2, e16, hL, hs, eK, h0, h1, h2, h3, hcl, hb, hv, hQ, kt, lk]⟩
    · have n4 : ¬ t 58 j = 4 := fun v => by rw [v] at y2; by_cases w : t 71 c = 1 <;> simp [w] at y2
      have n2 : ¬ t 58 j = 2 := fun v => by rw [v] at y2; by_cases w : t 71 c = 1 <;> simp [w] at y2
      rw [if_neg n4] at o8
      rw [y1, if_neg (by decide)] at e16
      exact ⟨-1, fun Q hQ => by simp [w_of, n2, h0, h1, h2, h3, hcl, hb, hv, hQ], fun Q hQ => by simp [v_X0_of, v_X0_has, v_X17_numberOf, o8, c2, e16, hL, hs, eK, h0, h1, h2, h3, hcl, hb, hv, hQ, kt, lk]⟩
    · rw [y2, if_neg (by decide)] at o8
      obtain ⟨f, f1, f2⟩ := (h.iH c c1).2.1 y1
      have h23 : cn t 23 ≤ 4020 := h.iB.2.2.2.2.2.2.2.1.2
      rw [y1, if_pos rfl, f2, rn_j (by omega)] at e16
      have ef : N.1 22 f 0 = nI f := h.N (22, 23) (by decide) f f1
      rw [f2] at y3
      exact ⟨nI f, fun Q hQ => by simp [w_of, y2, y3, h0, h1, h2, h3, hcl, hb, hv, hQ], fun Q hQ => by simp [v_X0_of, v_X0_has, v_X17_numberOf, o8, c2, e16, ef, hL, hs, eK, h0, h1, h2, h3, hcl, hb, hv, hQ, kt, lk]⟩
  by_cases w2 : x2 = 2
  · subst w2
    exact ⟨t 56 j, fun Q hQ => by simp [w_of, h0, h1, h2, h3, hcl, hb, hv, hQ], fun Q hQ => by simp [v_X0_of, v_X0_has, e5, hL, hs, eK, h0, h1, h2, h3, hcl, hb, hv, hQ, kt, lk]⟩
  by_cases w3 : x2 = 3
  · subst w3
    exact ⟨t 57 j, fun Q hQ => by simp [w_of, h0, h1, h2, h3, hcl, hb, hv, hQ], fun Q hQ => by simp [v_X0_of, v_X0_has, e9, hL, hs, eK, h0, h1, h2, h3, hcl, hb, hv, hQ, kt, lk]⟩
  exact ⟨-1, fun Q hQ => by simp [w_of, w0, w1, w2, w3, h0, h1, h2, h3, hcl, hb, hv, hQ], fun Q hQ => by simp [v_X0_of, v_X0_has, w0, w1, w2, w3, hL, hs, eK, h0, h1, h2, h3, hcl, hb, hv, hQ, kt, lk]⟩
theorem ap_call {X : Mem} {m : Nat} {N : Mem} {t : DB} (h : SS X m 60 [] 100000 N t) (x1 x2 : Int32) : APQ (w_call x1 x2 t) (v_X0_call (1, 0) x1 x2 N) N t := by
  have hL : N.2.1 1 0 9 = (30, 9) := h.W.1 9 (by decide) (by decide)
  have hs : N.1 30 9 0 = t 61 0 := h.S (9, 61, 0) (by decide)
  obtain ⟨hb, hb2⟩ := h.iB.2.2.2.2.2.2.1
  rcases ix3 x1 (n := cn t 61) (by omega) with hx | ⟨hx0, hx1, hx2, hx3⟩ | ⟨j, hj, rfl, h0, h1, h2, h3, hcl⟩
  · exact ⟨-1, fun Q hQ => by simp [w_call, hx, hQ], fun Q hQ => by simp [v_X0_call, v_X0_has, hL, hx, hQ, kt]⟩
  · exact ⟨-1, fun Q hQ => by simp [w_call, hx0, hb, hx1, hx2, hx3, hQ], fun Q hQ => by simp [v_X0_call, v_X0_has, hL, hs, hb, hx0, hx1, hx2, hx3, hQ, kt, lk]⟩
  have hv : vp_in (nI j) 4400 := vp_in_nI (by omega) (by decide)
  have eK : N.2.1 30 9 j = (21, j) := h.K (9, 21, 61) (by decide) j hj
  by_cases w0 : x2 = 0
  · subst w0
    obtain ⟨o, T, hh, d, a1, a2, -⟩ := h.iC j hj
    have h60 : cn t 50 ≤ 60 := h.iB.2.2.2.2.2.1.2
    have e4 : N.2.1 21 j 4 = (20, o) := by rw [h.R (21, 4, 20, 62, 61) (by decide) j hj, a2]; exact rn_j (by omega)
    have eo : N.1 20 o 0 = nI o := h.N (20, 50) (by decide) o a1
    exact ⟨nI o, fun Q hQ => by simp [w_call, a2, h0, h1, h2, h3, hcl, hb, hv, hQ], fun Q hQ => by simp [v_X0_call, v_X0_has, e4, eo, hL, hs, eK, h0, h1, h2, h3, hcl, hb, hv, hQ, kt, lk]⟩
  by_cases w1 : x2 = 1
  · subst w1
    have e1 : N.1 21 j 1 = t 63 j := h.I (21, 1, 63, 61) (by decide) j hj
    exact ⟨t 63 j, fun Q hQ => by simp [w_call, h0, h1, h2, h3, hcl, hb, hv, hQ], fun Q hQ => by simp [v_X0_call, v_X0_has, e1, hL, hs, eK, h0, h1, h2, h3, hcl, hb, hv, hQ, kt, lk]⟩
  by_cases w2 : x2 = 2
  · subst w2
    have e5 : N.2.1 21 j 5 = rn 21 (t 64 j) := h.R (21, 5, 21, 64, 61) (by decide) j hj
    rcases h.1.par j hj with y | ⟨p, y1, y2⟩
    · rw [y, rn_m] at e5
      exact ⟨-1, fun Q hQ => by simp [w_call, y, h0, h1, h2, h3, hcl, hb, hv, hQ], fun Q hQ => by simp [v_X0_call, v_X0_has, e5, hL, hs, eK, h0, h1, h2, h3, hcl, hb, hv, hQ, kt, lk]⟩
    · rw [y2, rn_j (by omega)] at e5
      have ep : N.1 21 p 0 = nI p := h.N (21, 61) (by decide) p (by show p < cn t 61; omega)
      exact ⟨nI p, fun Q hQ => by simp [w_call, y2, h0, h1, h2, h3, hcl, hb, hv, hQ], fun Q hQ => by simp [v_X0_call, v_X0_has, e5, ep, hL, hs, eK, h0, h1, h2, h3, hcl, hb, hv, hQ, kt, lk]⟩
  by_cases w3 : x2 = 3
  · subst w3
    have e6 : N.2.1 21 j 6 = gn t (t 65 j) := (h.C j hj).1
    rcases h.1.grd hj with y | ⟨g, s, hg, y, hs', hs9⟩
    · rw [y] at e6
      have e6' : N.2.1 21 j 6 = (0, 0) := e6
      exact ⟨-1, fun Q hQ => by simp [w_call, y, h0, h1, h2, h3, hcl, hb, hv, hQ], fun Q hQ => by simp [v_X0_call, v_X0_has, e6', hL, hs, eK, h0, h1, h2, h3, hcl, hb, hv, hQ, kt, lk]⟩
    · have h24 : cn t 30 ≤ 24 := h.iB.2.2.2.1.2
      rw [y, gn_j (by omega) hs' hs9] at e6
      obtain ⟨s2, a1, a2, a3, a4, -⟩ := h.G g hg
      have es : s2 = s := (nI_eq (by omega) (by omega)).mp (a2.symm.trans hs')
      subst es
      have hgk : gk (10 + s2) := ⟨by omega, by omega⟩
      exact ⟨nI g, fun Q hQ => by simp [w_call, y, h0, h1, h2, h3, hcl, hb, hv, hQ], fun Q hQ => by simp [v_X0_call, v_X0_has, e6, hgk, a4, hL, hs, eK, h0, h1, h2, h3, hcl, hb, hv, hQ, kt, lk]⟩
  by_cases w4 : x2 = 4
  · subst w4
    have e1 : N.1 21 j 2 = t 66 j := h.I (21, 2, 66, 61) (by decide) j hj
    exact ⟨t 66 j, fun Q hQ => by simp [w_call, h0, h1, h2, h3, hcl, hb, hv, hQ], fun Q hQ => by simp [v_X0_call, v_X0_has, e1, hL, hs, eK, h0, h1, h2, h3, hcl, hb, hv, hQ, kt, lk]⟩
  by_cases w5 : x2 = 5
  · subst w5
    have e1 : N.1 21 j 3 = t 67 j := h.I (21, 3, 67, 61) (by decide) j hj
    exact ⟨t 67 j, fun Q hQ => by simp [w_call, h0, h1, h2, h3, hcl, hb, hv, hQ], fun Q hQ => by simp [v_X0_call, v_X0_has, e1, hL, hs, eK, h0, h1, h2, h3, hcl, hb, hv, hQ, kt, lk]⟩
  by_cases w6 : x2 = 6
  · subst w6
    have e1 : N.1 21 j 13 = t 68 j := h.I (21, 13, 68, 61) (by decide) j hj
    exact ⟨t 68 j, fun Q hQ => by simp [w_call, h0, h1, h2, h3, hcl, hb, hv, hQ], fun Q hQ => by simp [v_X0_call, v_X0_has, e1, hL, hs, eK, h0, h1, h2, h3, hcl, hb, hv, hQ, kt, lk]⟩
  by_cases w7 : x2 = 7
  · subst w7
    have e1 : N.1 21 j 11 = t 69 j := h.I (21, 11, 69, 61) (by decide) j hj
    exact ⟨t 69 j, fun Q hQ => by simp [w_call, h0, h1, h2, h3, hcl, hb, hv, hQ], fun Q hQ => by simp [v_X0_call, v_X0_has, e1, hL, hs, eK, h0, h1, h2, h3, hcl, hb, hv, hQ, kt, lk]⟩
  by_cases w8 : x2 = 8
  · subst w8
    have e12 : N.1 21 j 12 = (if t 69 j = 1 then t 70 j else -1) := (h.C j hj).2.2.1
    by_cases y : t 69 j = 1
    · rw [if_pos y] at e12
      exact ⟨t 70 j, fun Q hQ => by simp [w_call, y, h0, h1, h2, h3, hcl, hb, hv, hQ], fun Q hQ => by simp [v_X0_call, v_X0_has, e12, hL, hs, eK, h0, h1, h2, h3, hcl, hb, hv, hQ, kt, lk]⟩
    · rw [if_neg y] at e12
      exact ⟨-1, fun Q hQ => by simp [w_call, y, h0, h1, h2, h3, hcl, hb, hv, hQ], fun Q hQ => by simp [v_X0_call, v_X0_has, e12, hL, hs, eK, h0, h1, h2, h3, hcl, hb, hv, hQ, kt, lk]⟩
  by_cases w9 : x2 = 9
  · subst w9
    have e16 : N.2.1 21 j 16 = (if t 69 j = 2 then rn 22 (t 70 j) else (0, 0)) := (h.C j hj).2.2.2
    by_cases y : t 69 j = 2
    · obtain ⟨f, f1, f2⟩ := (h.iH j hj).2.1 y
      have h23 : cn t 23 ≤ 4020 := h.iB.2.2.2.2.2.2.2.1.2
      rw [if_pos y, f2, rn_j (by omega)] at e16
      have ef : N.1 22 f 0 = nI f := h.N (22, 23) (by decide) f f1
      exact ⟨nI f, fun Q hQ => by simp [w_call, y, f2, h0, h1, h2, h3, hcl, hb, hv, hQ], fun Q hQ => by simp [v_X0_call, v_X0_has, v_X17_numberOf, e16, ef, hL, hs, eK, h0, h1, h2, h3, hcl, hb, hv, hQ, kt, lk]⟩
    · rw [if_neg y] at e16
      exact ⟨-1, fun Q hQ => by simp [w_call, y, h0, h1, h2, h3, hcl, hb, hv, hQ], fun Q hQ => by simp [v_X0_call, v_X0_has, v_X17_numberOf, e16, hL, hs, eK, h0, h1, h2, h3, hcl, hb, hv, hQ, kt, lk]⟩
  by_cases w10 : x2 = 10
  · subst w10
    have e11 : N.1 21 j 11 = t 69 j := h.I (21, 11, 69, 61) (by decide) j hj
    by_cases y : t 69 j = 0
    · have e14 : N.1 21 j 14 = stOf t j := (h.Q j hj (Or.inl ⟨y, by omega⟩)).1
      obtain ⟨-, -, -, -, i75, i76, -⟩ := h.iH j hj
      refine ⟨stOf t j, fun Q hQ => ?_, fun Q hQ => by simp [v_X0_call, v_X0_has, v_X16_isUnderWay, e11, y, e14, hL, hs, eK, h0, h1, h2, h3, hcl, hb, hv, hQ, kt, lk]⟩
      unfold stOf at hQ
      rcases i75 with u | u
      · rw [u, if_neg (by decide)] at hQ
        rcases i76 with u2 | u2
        · rw [u2, if_neg (by decide)] at hQ
          by_cases u3 : t 74 j < 0
          · rw [if_pos u3] at hQ
            simp [w_call, y, u, u2, u3, h0, h1, h2, h3, hcl, hb, hv, hQ]
          · rw [if_neg u3] at hQ
            simp [w_call, y, u, u2, u3, h0, h1, h2, h3, hcl, hb, hv, hQ]
        · rw [u2, if_pos rfl] at hQ
          simp [w_call, y, u, u2, h0, h1, h2, h3, hcl, hb, hv, hQ]
      · rw [u, if_pos rfl] at hQ
        simp [w_call, y, u, h0, h1, h2, h3, hcl, hb, hv, hQ]
    · exact ⟨0, fun Q hQ => by simp [w_call, y, h0, h1, h2, h3, hcl, hb, hv, hQ], fun Q hQ => by simp [v_X0_call, v_X0_has, v_X16_isUnderWay, e11, y, hL, hs, eK, h0, h1, h2, h3, hcl, hb, hv, hQ, kt, lk]⟩
  exact ⟨-1, fun Q hQ => by simp [w_call, w0, w1, w2, w3, w4, w5, w6, w7, w8, w9, w10, h0, h1, h2, h3, hcl, hb, hv, hQ], fun Q hQ => by simp [v_X0_call, v_X0_has, w0, w1, w2, w3, w4, w5, w6, w7, w8, w9, w10, hL, hs, eK, h0, h1, h2, h3, hcl, hb, hv, hQ, kt, lk]⟩
theorem ap_alarmed {X : Mem} {m : Nat} {N : Mem} {t : DB} (h : SS X m 60 [] 100000 N t) (x1 x2 : Int32) : APQ (w_alarmed x1 x2 t) (v_X0_alarmed (1, 0) x1 x2 N) N t := by
  have hL : N.2.1 1 0 13 = (30, 13) := h.W.1 13 (by decide) (by decide)
  have hs : N.1 30 13 0 = t 103 0 := h.S (13, 103, 0) (by decide)
  obtain ⟨hb, hb2⟩ := h.iB.2.2.2.2.2.2.2.2.2.2.1
  rcases ix3 x1 (n := cn t 103) (by omega) with hx | ⟨hx0, hx1, hx2, hx3⟩ | ⟨j, hj, rfl, h0, h1, h2, h3, hcl⟩
  · exact ⟨-1, fun Q hQ => by simp [w_alarmed, hx, hQ], fun Q hQ => by simp [v_X0_alarmed, v_X0_has, hL, hx, hQ, kt]⟩
  · exact ⟨-1, fun Q hQ => by simp [w_alarmed, hx0, hb, hx1, hx2, hx3, hQ], fun Q hQ => by simp [v_X0_alarmed, v_X0_has, hL, hs, hb, hx0, hx1, hx2, hx3, hQ, kt, lk]⟩
  have hv : vp_in (nI j) 10 := vp_in_nI (by omega) (by decide)
  obtain ⟨s, a1, a2, eK, a4, a5, a6, -, a8, -⟩ := h.A j hj
  have hak : ak (25 + s) := ⟨by omega, by omega⟩
  by_cases w0 : x2 = 0
  · subst w0
    exact ⟨t 109 j, fun Q hQ => by rcases a8 with u | u <;> rw [u] at hQ <;> simp [w_alarmed, u, h0, h1, h2, h3, hcl, hb, hv, hQ], fun Q hQ => by rcases a8 with u | u <;> rw [u] at hQ a4 <;> simp [v_X0_alarmed, v_X0_has, hak, a4, hL, hs, eK, h0, h1, h2, h3, hcl, hb, hv, hQ, kt, lk]⟩
  by_cases w1 : x2 = 1
  · subst w1
    exact ⟨t 107 j, fun Q hQ => by simp [w_alarmed, h0, h1, h2, h3, hcl, hb, hv, hQ], fun Q hQ => by simp [v_X0_alarmed, v_X0_has, hak, a5, hL, hs, eK, h0, h1, h2, h3, hcl, hb, hv, hQ, kt, lk]⟩
  by_cases w2 : x2 = 2
  · subst w2
    exact ⟨t 108 j, fun Q hQ => by simp [w_alarmed, h0, h1, h2, h3, hcl, hb, hv, hQ], fun Q hQ => by simp [v_X0_alarmed, v_X0_has, hak, a6, hL, hs, eK, h0, h1, h2, h3, hcl, hb, hv, hQ, kt, lk]⟩
  exact ⟨-1, fun Q hQ => by simp [w_alarmed, w0, w1, w2, h0, h1, h2, h3, hcl, hb, hv, hQ], fun Q hQ => by simp [v_X0_alarmed, v_X0_has, hak, w0, w1, w2, hL, hs, eK, h0, h1, h2, h3, hcl, hb, hv, hQ, kt, lk]⟩
