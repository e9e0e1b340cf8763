set_option maxRecDepth 100000
/-! queries: guards, joined, count -/
theorem ktg {s : Nat} (hs : s ≤ 9) : kt (10 + s) = 5 + s := by
  have : s = 0 ∨ s = 1 ∨ s = 2 ∨ s = 3 ∨ s = 4 ∨ s = 5 ∨ s = 6 ∨ s = 7 ∨ s = 8 ∨ s = 9 := by omega
  rcases this with e | e | e | e | e | e | e | e | e | e <;> subst e <;> rfl
theorem ap_fuse {X : Mem} {m : Nat} {N : Mem} {t : DB} (h : SS X m 60 [] 100000 N t) (x1 x2 : Int32) : APQ (w_fuse x1 x2 t) (v_X0_fuse (1, 0) x1 x2 N) N t := by
  have hL : N.2.1 1 0 5 = (30, 5) := h.W.1 5 (by decide) (by decide)
  have hs : N.1 30 5 0 = t 30 0 := h.S (5, 30, 0) (by decide)
  obtain ⟨hb, hb2⟩ := h.iB.2.2.2.1
  rcases ix3 x1 (n := cn t 30) (by omega) with hx | ⟨hx0, hx1, hx2, hx3⟩ | ⟨j, hj, rfl, h0, h1, h2, h3, hcl⟩
  · exact ⟨-1, fun Q hQ => by simp [w_fuse, w_isGuard, hx, hQ], fun Q hQ => by simp [v_X0_fuse, v_X0_fuseOf, v_X0_has, hL, hx, hQ, kt]⟩
  · exact ⟨-1, fun Q hQ => by simp [w_fuse, w_isGuard, hx0, hb, hx1, hx2, hx3, hQ], fun Q hQ => by simp [v_X0_fuse, v_X0_fuseOf, v_X0_has, hL, hs, hb, hx0, hx1, hx2, hx3, hQ, kt, lk]⟩
  have hv : vp_in (nI j) 24 := vp_in_nI (by omega) (by decide)
  obtain ⟨s, a1, a2, eK, -⟩ := h.G j hj
  have hgk : gk (10 + s) := ⟨by omega, by omega⟩
  by_cases es : s = 0
  rotate_left
  · have n31 : ¬ t 31 j = 0 := fun v => es ((nI_eq (by omega) (by omega)).mp (a2.symm.trans (show t 31 j = nI 0 from v)))
    have nkt : ¬ kt (10 + s) = 5 := by rw [ktg a1]; omega
    have k0 : kt 1 = 0 := rfl
    exact ⟨-1, fun Q hQ => by simp [w_fuse, w_isGuard, n31, h0, h1, h2, h3, hcl, hb, hv, hQ], fun Q hQ => by simp [v_X0_fuse, v_X0_fuseOf, v_X0_has, hgk, nkt, hL, hs, eK, h0, h1, h2, h3, hcl, hb, hv, hQ, k0, lk]⟩
  subst es
  have h31 : t 31 j = 0 := a2
  obtain ⟨f7, f8, f9⟩ := h.G0 j hj h31
  by_cases w0 : x2 = 0
  · subst w0
    exact ⟨t 36 j, fun Q hQ => by simp [w_fuse, w_isGuard, h31, h0, h1, h2, h3, hcl, hb, hv, hQ], fun Q hQ => by simp [v_X0_fuse, v_X0_fuseOf, v_X0_has, hgk, f7, hL, hs, eK, h0, h1, h2, h3, hcl, hb, hv, hQ, kt, lk]⟩
  by_cases w1 : x2 = 1
  · subst w1
    exact ⟨t 37 j, fun Q hQ => by simp [w_fuse, w_isGuard, h31, h0, h1, h2, h3, hcl, hb, hv, hQ], fun Q hQ => by simp [v_X0_fuse, v_X0_fuseOf, v_X0_has, hgk, f8, hL, hs, eK, h0, h1, h2, h3, hcl, hb, hv, hQ, kt, lk]⟩
  by_cases w2 : x2 = 2
  · subst w2
    exact ⟨t 38 j, fun Q hQ => by simp [w_fuse, w_isGuard, h31, h0, h1, h2, h3, hcl, hb, hv, hQ], fun Q hQ => by simp [v_X0_fuse, v_X0_fuseOf, v_X0_has, hgk, f9, hL, hs, eK, h0, h1, h2, h3, hcl, hb, hv, hQ, kt, lk]⟩
  exact ⟨-1, fun Q hQ => by simp [w_fuse, w_isGuard, h31, w0, w1, w2, h0, h1, h2, h3, hcl, hb, hv, hQ], fun Q hQ => by simp [v_X0_fuse, v_X0_fuseOf, v_X0_has, hgk, w0, w1, w2, hL, hs, eK, h0, h1, h2, h3, hcl, hb, hv, hQ, kt, lk]⟩
theorem ap_bulkhead {X : Mem} {m : Nat} {N : Mem} {t : DB} (h : SS X m 60 [] 100000 N t) (x1 x2 : Int32) : APQ (w_bulkhead x1 x2 t) (v_X0_bulkhead (1, 0) x1 x2 N) N t := by
  have hL : N.2.1 1 0 5 = (30, 5) := h.W.1 5 (by decide) (by decide)
  have hs : N.1 30 5 0 = t 30 0 := h.S (5, 30, 0) (by decide)
  obtain ⟨hb, hb2⟩ := h.iB.2.2.2.1
  rcases ix3 x1 (n := cn t 30) (by omega) with hx | ⟨hx0, hx1, hx2, hx3⟩ | ⟨j, hj, rfl, h0, h1, h2, h3, hcl⟩
  · exact ⟨-1, fun Q hQ => by simp [w_bulkhead, w_isGuard, hx, hQ], fun Q hQ => by simp [v_X0_bulkhead, v_X0_bulkheadOf, v_X0_has, hL, hx, hQ, kt]⟩
  · exact ⟨-1, fun Q hQ => by simp [w_bulkhead, w_isGuard, hx0, hb, hx1, hx2, hx3, hQ], fun Q hQ => by simp [v_X0_bulkhead, v_X0_bulkheadOf, v_X0_has, hL, hs, hb, hx0, hx1, hx2, hx3, hQ, kt, lk]⟩
  have hv : vp_in (nI j) 24 := vp_in_nI (by omega) (by decide)
  obtain ⟨s, a1, a2, eK, -⟩ := h.G j hj
  have hgk : gk (10 + s) := ⟨by omega, by omega⟩
  by_cases es : s = 1
  rotate_left
  · have n31 : ¬ t 31 j = 1 := fun v => es ((nI_eq (by omega) (by omega)).mp (a2.symm.trans (show t 31 j = nI 1 from v)))
    have nkt : ¬ kt (10 + s) = 6 := by rw [ktg a1]; omega
    have k0 : kt 1 = 0 := rfl
    exact ⟨-1, fun Q hQ => by simp [w_bulkhead, w_isGuard, n31, h0, h1, h2, h3, hcl, hb, hv, hQ], fun Q hQ => by simp [v_X0_bulkhead, v_X0_bulkheadOf, v_X0_has, hgk, nkt, hL, hs, eK, h0, h1, h2, h3, hcl, hb, hv, hQ, k0, lk]⟩
  subst es
  have h31 : t 31 j = 1 := a2
  obtain ⟨f7, f8, f9, fs, fe⟩ := h.G1 j hj h31
  by_cases w0 : x2 = 0
  · subst w0
    exact ⟨t 39 j, fun Q hQ => by simp [w_bulkhead, w_isGuard, h31, h0, h1, h2, h3, hcl, hb, hv, hQ], fun Q hQ => by simp [v_X0_bulkhead, v_X0_bulkheadOf, v_X0_has, hgk, f8, hL, hs, eK, h0, h1, h2, h3, hcl, hb, hv, hQ, kt, lk]⟩
  by_cases w1 : x2 = 1
  · subst w1
    exact ⟨t 40 j, fun Q hQ => by simp [w_bulkhead, w_isGuard, h31, h0, h1, h2, h3, hcl, hb, hv, hQ], fun Q hQ => by simp [v_X0_bulkhead, v_X0_bulkheadOf, v_X0_has, hgk, f7, fs, hL, hs, eK, h0, h1, h2, h3, hcl, hb, hv, hQ, kt, lk]⟩
  by_cases w2 : x2 = 2
  · subst w2
    exact ⟨t 41 j, fun Q hQ => by simp [w_bulkhead, w_isGuard, h31, h0, h1, h2, h3, hcl, hb, hv, hQ], fun Q hQ => by simp [v_X0_bulkhead, v_X0_bulkheadOf, v_X0_has, hgk, f9, hL, hs, eK, h0, h1, h2, h3, hcl, hb, hv, hQ, kt, lk]⟩
  exact ⟨-1, fun Q hQ => by simp [w_bulkhead, w_isGuard, h31, w0, w1, w2, h0, h1, h2, h3, hcl, hb, hv, hQ], fun Q hQ => by simp [v_X0_bulkhead, v_X0_bulkheadOf, v_X0_has, hgk, w0, w1, w2, hL, hs, eK, h0, h1, h2, h3, hcl, hb, hv, hQ, kt, lk]⟩
theorem ap_waiting {X : Mem} {m : Nat} {N : Mem} {t : DB} (h : SS X m 60 [] 100000 N t) (x1 x2 : Int32) : APQ (w_waiting x1 x2 t) (v_X0_waiting (1, 0) x1 x2 N) N t := by
  have hL : N.2.1 1 0 5 = (30, 5) := h.W.1 5 (by decide) (by decide)
  have hs : N.1 30 5 0 = t 30 0 := h.S (5, 30, 0) (by decide)
  obtain ⟨hb, hb2⟩ := h.iB.2.2.2.1
  rcases ix3 x1 (n := cn t 30) (by omega) with hx | ⟨hx0, hx1, hx2, hx3⟩ | ⟨j, hj, rfl, h0, h1, h2, h3, hcl⟩
  · exact ⟨-1, fun Q hQ => by simp [w_waiting, w_isGuard, hx, hQ], fun Q hQ => by simp [v_X0_waiting, v_X0_bulkheadOf, v_X0_has, hL, hx, hQ, kt]⟩
  · exact ⟨-1, fun Q hQ => by simp [w_waiting, w_isGuard, hx0, hb, hx1, hx2, hx3, hQ], fun Q hQ => by simp [v_X0_waiting, v_X0_bulkheadOf, v_X0_has, hL, hs, hb, hx0, hx1, hx2, hx3, hQ, kt, lk]⟩
  have hv : vp_in (nI j) 24 := vp_in_nI (by omega) (by decide)
  obtain ⟨s, a1, a2, eK, -⟩ := h.G j hj
  have hgk : gk (10 + s) := ⟨by omega, by omega⟩
  by_cases es : s = 1
  rotate_left
  · have n31 : ¬ t 31 j = 1 := fun v => es ((nI_eq (by omega) (by omega)).mp (a2.symm.trans (show t 31 j = nI 1 from v)))
    have nkt : ¬ kt (10 + s) = 6 := by rw [ktg a1]; omega
    have k0 : kt 1 = 0 := rfl
    exact ⟨-1, fun Q hQ => by simp [w_waiting, w_isGuard, n31, h0, h1, h2, h3, hcl, hb, hv, hQ], fun Q hQ => by simp [v_X0_waiting, v_X0_bulkheadOf, v_X0_has, hgk, nkt, hL, hs, eK, h0, h1, h2, h3, hcl, hb, hv, hQ, k0, lk]⟩
  subst es
  have h31 : t 31 j = 1 := a2
  obtain ⟨f7, f8, f9, fs, fe⟩ := h.G1 j hj h31
  obtain ⟨b, w, hb10, hbb, hwb, hw⟩ : ∃ b w, b ≤ 10 ∧ t 33 j = nI b ∧ w ≤ b ∧ t 40 j = nI w := by
    obtain ⟨s', c1, c2, c3, -, c5, -⟩ := h.iG j hj
    exact c5 ((nI_eq (by omega) (by omega)).mp (c2.symm.trans (by rw [h31]; rfl)))
  rcases ix3 x2 (n := w) (by omega) with hx | ⟨hx0, hx1, hx2, hx3⟩ | ⟨i, hi, rfl, i0, i1, i2, i3, icl⟩
  · exact ⟨-1, fun Q hQ => by simp [w_waiting, w_isGuard, h31, hx, h0, h1, h2, h3, hcl, hb, hv, hQ], fun Q hQ => by simp [v_X0_waiting, v_X0_bulkheadOf, v_X0_has, hgk, f7, fs, hx, hL, hs, eK, h0, h1, h2, h3, hcl, hb, hv, hQ, kt, lk]⟩
  · exact ⟨-1, fun Q hQ => by simp [w_waiting, w_isGuard, h31, hw, hx0, hx1, hx2, hx3, h0, h1, h2, h3, hcl, hb, hv, hQ], fun Q hQ => by simp [v_X0_waiting, v_X0_bulkheadOf, v_X0_has, hgk, f7, fs, hw, hx0, hx1, hx2, hx3, hL, hs, eK, h0, h1, h2, h3, hcl, hb, hv, hQ, kt, lk]⟩
  have e1 : 10 * nI j + nI i = nI (10 * j + i) := by rw [show (10 : Int32) = nI 10 from rfl, pk_mul, nI_add]
  have e2 : (nI (10 * j + i)).toNatClampNeg = 10 * j + i := nI_clamp (by omega)
  have e3 : vp_in (nI (10 * j + i)) 240 := vp_in_nI (by omega) (by decide)
  obtain ⟨c, c1, c2, -⟩ := h.B j hj h31 i (by rw [hw, nI_clamp (by omega)]; exact hi)
  have h61 := h.1.nC
  have ec := fe i (by rw [hw, nI_clamp (by omega)]; exact hi)
  rw [c2, rn_j (by omega)] at ec
  have e0 : N.1 21 c 0 = nI c := h.N (21, 61) (by decide) c c1
  exact ⟨nI c, fun Q hQ => by simp [w_waiting, w_isGuard, h31, hw, i0, i1, i2, i3, icl, e1, e2, e3, c2, h0, h1, h2, h3, hcl, hb, hv, hQ], fun Q hQ => by simp [v_X0_waiting, v_X0_bulkheadOf, v_X0_has, hgk, f7, fs, hw, i0, i1, i2, i3, icl, ec, e0, hL, hs, eK, h0, h1, h2, h3, hcl, hb, hv, hQ, kt, lk]⟩
theorem ap_tokens {X : Mem} {m : Nat} {N : Mem} {t : DB} (h : SS X m 60 [] 100000 N t) (x1 : Int32) : APQ (w_tokens x1 t) (v_X0_tokens (1, 0) x1 N) N t := by
  have hL : N.2.1 1 0 5 = (30, 5) := h.W.1 5 (by decide) (by decide)
  have hs : N.1 30 5 0 = t 30 0 := h.S (5, 30, 0) (by decide)
  obtain ⟨hb, hb2⟩ := h.iB.2.2.2.1
  rcases ix3 x1 (n := cn t 30) (by omega) with hx | ⟨hx0, hx1, hx2, hx3⟩ | ⟨j, hj, rfl, h0, h1, h2, h3, hcl⟩
  · exact ⟨-1, fun Q hQ => by simp [w_tokens, w_isGuard, hx, hQ], fun Q hQ => by simp [v_X0_tokens, v_X0_has, hL, hx, hQ, kt]⟩
  · exact ⟨-1, fun Q hQ => by simp [w_tokens, w_isGuard, hx0, hb, hx1, hx2, hx3, hQ], fun Q hQ => by simp [v_X0_tokens, v_X0_has, hL, hs, hb, hx0, hx1, hx2, hx3, hQ, kt, lk]⟩
  have hv : vp_in (nI j) 24 := vp_in_nI (by omega) (by decide)
  obtain ⟨s, a1, a2, eK, -⟩ := h.G j hj
  have hgk : gk (10 + s) := ⟨by omega, by omega⟩
  by_cases es : s = 2
  rotate_left
  · have n31 : ¬ t 31 j = 2 := fun v => es ((nI_eq (by omega) (by omega)).mp (a2.symm.trans (show t 31 j = nI 2 from v)))
    have nkt : ¬ kt (10 + s) = 7 := by rw [ktg a1]; omega
    have k0 : kt 1 = 0 := rfl
    exact ⟨-1, fun Q hQ => by simp [w_tokens, w_isGuard, n31, h0, h1, h2, h3, hcl, hb, hv, hQ], fun Q hQ => by simp [v_X0_tokens, v_X0_has, hgk, nkt, hL, hs, eK, h0, h1, h2, h3, hcl, hb, hv, hQ, k0, lk]⟩
  subst es
  have h31 : t 31 j = 2 := a2
  have f7 : N.1 12 j 7 = t 42 j := h.G2 j hj h31
  exact ⟨t 42 j, fun Q hQ => by simp [w_tokens, w_isGuard, h31, h0, h1, h2, h3, hcl, hb, hv, hQ], fun Q hQ => by simp [v_X0_tokens, v_X0_has, hgk, f7, hL, hs, eK, h0, h1, h2, h3, hcl, hb, hv, hQ, kt, lk]⟩
theorem ap_kept {X : Mem} {m : Nat} {N : Mem} {t : DB} (h : SS X m 60 [] 100000 N t) (x1 x2 x3 : Int32) : APQ (w_kept x1 x2 x3 t) (v_X0_kept (1, 0) x1 x2 x3 N) N t := by
  have hL : N.2.1 1 0 5 = (30, 5) := h.W.1 5 (by decide) (by decide)
  have hs : N.1 30 5 0 = t 30 0 := h.S (5, 30, 0) (by decide)
  obtain ⟨hb, hb2⟩ := h.iB.2.2.2.1
  rcases ix3 x1 (n := cn t 30) (by omega) with hx | ⟨hx0, hx1, hx2, hx3⟩ | ⟨j, hj, rfl, h0, h1, h2, h3, hcl⟩
  · exact ⟨-1, fun Q hQ => by simp [w_kept, w_isGuard, hx, hQ], fun Q hQ => by simp [v_X0_kept, v_X0_has, hL, hx, hQ, kt]⟩
  · exact ⟨-1, fun Q hQ => by simp [w_kept, w_isGuard, hx0, hb, hx1, hx2, hx3, hQ], fun Q hQ => by simp [v_X0_kept, v_X0_has, hL, hs, hb, hx0, hx1, hx2, hx3, hQ, kt, lk]⟩
  have hv : vp_in (nI j) 24 := vp_in_nI (by omega) (by decide)
  obtain ⟨s, a1, a2, eK, -⟩ := h.G j hj
  have hgk : gk (10 + s) := ⟨by omega, by omega⟩
  by_cases es : s = 7
  rotate_left
  · have n31 : ¬ t 31 j = 7 := fun v => es ((nI_eq (by omega) (by omega)).mp (a2.symm.trans (show t 31 j = nI 7 from v)))
    have nkt : ¬ kt (10 + s) = 12 := by rw [ktg a1]; omega
    have k0 : kt 1 = 0 := rfl
    exact ⟨-1, fun Q hQ => by simp [w_kept, w_isGuard, n31, h0, h1, h2, h3, hcl, hb, hv, hQ], fun Q hQ => by simp [v_X0_kept, v_X0_has, hgk, nkt, hL, hs, eK, h0, h1, h2, h3, hcl, hb, hv, hQ, k0, lk]⟩
  subst es
  have h31 : t 31 j = 7 := a2
  obtain ⟨f7, f8, f9, l6, l7, l8, fv⟩ := h.G7 j hj h31
  have hL2 : N.2.1 1 0 2 = (30, 2) := h.W.1 2 (by decide) (by decide)
  have hs2 : N.1 30 2 0 = t 1 0 := h.S (2, 1, 0) (by decide)
  obtain ⟨hc, hc2⟩ := h.iB.1
  rcases ix3 x2 (n := cn t 1) (by omega) with hx | ⟨hx0, hx1, hx2, hx3⟩ | ⟨i, hi, rfl, i0, i1, i2, i3, icl⟩
  · exact ⟨-1, fun Q hQ => by simp [w_kept, w_isGuard, w_isStation, h31, hx, h0, h1, h2, h3, hcl, hb, hv, hQ], fun Q hQ => by simp [v_X0_kept, v_X0_has, hgk, hL2, hs2, hx, hL, hs, eK, h0, h1, h2, h3, hcl, hb, hv, hQ, kt, lk]⟩
  · exact ⟨-1, fun Q hQ => by simp [w_kept, w_isGuard, w_isStation, h31, hc, hx0, hx1, hx2, hx3, h0, h1, h2, h3, hcl, hb, hv, hQ], fun Q hQ => by simp [v_X0_kept, v_X0_has, hgk, hL2, hs2, hc, hx0, hx1, hx2, hx3, hL, hs, eK, h0, h1, h2, h3, hcl, hb, hv, hQ, kt, lk]⟩
  have e1 : 8 * nI j + nI i = nI (8 * j + i) := by rw [show (8 : Int32) = nI 8 from rfl, pk_mul, nI_add]
  have e2 : (nI (8 * j + i)).toNatClampNeg = 8 * j + i := nI_clamp (by omega)
  have e3 : vp_in (nI (8 * j + i)) 192 := vp_in_nI (by omega) (by decide)
  have r6 : arI N (46, j) 100 (nI i) := ⟨by show 46 ≠ 0; decide, rfl, by show N.2.2.1 46 j ≠ 0; rw [l6]; decide, by show vp_in (nI i) (N.2.2.1 46 j - 1); rw [l6]; exact vp_in_nI (by omega) (by decide)⟩
  have r7 : arI N (47, j) 100 (nI i) := ⟨by show 47 ≠ 0; decide, rfl, by show N.2.2.1 47 j ≠ 0; rw [l7]; decide, by show vp_in (nI i) (N.2.2.1 47 j - 1); rw [l7]; exact vp_in_nI (by omega) (by decide)⟩
  obtain ⟨v7, v6⟩ := fv i (by omega)
  have u6 : N.1 46 j i = (if 0 ≤ t 45 (8 * j + i) then t 44 (8 * j + i) else -1) := by
    rcases v6 with ⟨y1, y2⟩ | ⟨y1, y2, -⟩
    · rw [y2, y1, if_neg (by decide)]
    · rw [y2, if_pos y1]
  have u7 : N.1 47 j i = (if 0 ≤ t 45 (8 * j + i) then t 45 (8 * j + i) else -1) := by
    rcases v6 with ⟨y1, y2⟩ | ⟨y1, y2, -⟩
    · rw [v7, y1, if_neg (by decide)]
    · rw [v7, if_pos y1]
  by_cases w0 : x3 = 0
  · subst w0
    refine ⟨if 0 ≤ t 45 (8 * j + i) then t 44 (8 * j + i) else -1, fun Q hQ => ?_, fun Q hQ => by simp [v_X0_kept, v_X0_has, hgk, hL2, hs2, hc, f7, r6, u6, i0, i1, i2, i3, icl, hL, hs, eK, h0, h1, h2, h3, hcl, hb, hv, hQ, kt, lk]⟩
    by_cases y : 0 ≤ t 45 (8 * j + i)
    · rw [if_pos y] at hQ
      simp [w_kept, w_isGuard, w_isStation, h31, hc, i0, i1, i2, i3, icl, e1, e2, e3, y, h0, h1, h2, h3, hcl, hb, hv, hQ]
    · rw [if_neg y] at hQ
      simp [w_kept, w_isGuard, w_isStation, h31, hc, i0, i1, i2, i3, icl, e1, e2, e3, y, h0, h1, h2, h3, hcl, hb, hv, hQ]
  by_cases w1 : x3 = 1
  · subst w1
    refine ⟨if 0 ≤ t 45 (8 * j + i) then t 45 (8 * j + i) else -1, fun Q hQ => ?_, fun Q hQ => by simp [v_X0_kept, v_X0_has, hgk, hL2, hs2, hc, f8, r7, u7, i0, i1, i2, i3, icl, hL, hs, eK, h0, h1, h2, h3, hcl, hb, hv, hQ, kt, lk]⟩
    by_cases y : 0 ≤ t 45 (8 * j + i)
    · rw [if_pos y] at hQ
      simp [w_kept, w_isGuard, w_isStation, h31, hc, i0, i1, i2, i3, icl, e1, e2, e3, y, h0, h1, h2, h3, hcl, hb, hv, hQ]
    · rw [if_neg y] at hQ
      simp [w_kept, w_isGuard, w_isStation, h31, hc, i0, i1, i2, i3, icl, e1, e2, e3, y, h0, h1, h2, h3, hcl, hb, hv, hQ]
  have nn : x3 < 0 ∨ (¬ x3 < 0 ∧ 1 < x3) := by
    by_cases a : x3 < 0
    · exact Or.inl a
    · refine Or.inr ⟨a, Classical.byContradiction fun b => ?_⟩
      obtain ⟨k, k1, k2⟩ := rng (x := x3) (n := 1) (by decide) a b
      have : k = 0 ∨ k = 1 := by omega
      rcases this with e | e <;> subst e
      · exact w0 k2
      · exact w1 k2
  refine ⟨-1, fun Q hQ => ?_, fun Q hQ => by simp [v_X0_kept, v_X0_has, hgk, hL2, hs2, hc, w0, w1, i0, i1, i2, i3, icl, hL, hs, eK, h0, h1, h2, h3, hcl, hb, hv, hQ, kt, lk]⟩
  rcases nn with a | ⟨a, b⟩
  · simp [w_kept, w_isGuard, w_isStation, h31, hc, i0, i1, i2, i3, icl, a, h0, h1, h2, h3, hcl, hb, hv, hQ]
  · simp [w_kept, w_isGuard, w_isStation, h31, hc, i0, i1, i2, i3, icl, a, b, h0, h1, h2, h3, hcl, hb, hv, hQ]
theorem ap_isOf {X : Mem} {m : Nat} {N : Mem} {t : DB} (h : SS X m 60 [] 100000 N t) (x1 x2 : Int32) : APQ (w_isOf x1 x2 t) (v_X0_isOf (1, 0) x1 x2 N) N t := by
  by_cases a1 : x1 < 0
  · exact ⟨-1, fun Q hQ => by simp [w_isOf, a1, hQ], fun Q hQ => by simp [v_X0_isOf, v_X0_in, a1, hQ]⟩
  by_cases a2 : 15 < x1
  · exact ⟨-1, fun Q hQ => by simp [w_isOf, a1, a2, hQ], fun Q hQ => by simp [v_X0_isOf, v_X0_in, a1, a2, hQ]⟩
  by_cases b1 : x2 < 0
  · exact ⟨-1, fun Q hQ => by simp [w_isOf, a1, a2, b1, hQ], fun Q hQ => by simp [v_X0_isOf, v_X0_in, a1, a2, b1, hQ]⟩
  by_cases b2 : 15 < x2
  · have b3 : ¬ x2 ≤ 15 := Int32.not_le.mpr b2
    exact ⟨-1, fun Q hQ => by simp [w_isOf, a1, a2, b1, b3, hQ], fun Q hQ => by simp [v_X0_isOf, v_X0_in, a1, a2, b1, b2, hQ]⟩
  obtain ⟨i, hi, ei⟩ := rng (x := x1) (n := 15) (by decide) a1 a2
  obtain ⟨k, hk, ek⟩ := rng (x := x2) (n := 15) (by decide) b1 b2
  have b3 : x2 ≤ 15 := Int32.not_lt.mp b2
  subst ei; subst ek
  refine ⟨if und 5 (nI i) (nI k) then 1 else 0, fun Q hQ => ⟨fun v => absurd v a1, fun _ => ⟨fun v => absurd v a2, fun _ => ⟨fun v => absurd v b1, fun _ => ⟨fun _ => w_isUnder_s hi hk ?_, fun v => absurd b3 v⟩⟩⟩⟩, fun Q hQ => in_c (fun v => absurd v (fun v => v.elim a1 a2)) (fun _ _ => ⟨fun v => absurd v (by decide), fun _ => in_c (fun v => absurd v (fun v => v.elim b1 b2)) (fun _ _ => ⟨fun _ => v_isUnder_s h.H hi ?_, fun v => absurd v (by decide)⟩)⟩)⟩
  · by_cases y : und 5 (nI i) (nI k) = true
    · rw [if_pos y] at hQ ⊢
      exact ⟨fun v => absurd v (by decide), fun _ => hQ⟩
    · rw [if_neg y] at hQ ⊢
      exact ⟨fun _ => hQ, fun v => absurd rfl v⟩
  · by_cases y : und 5 (nI i) (nI k) = true
    · rw [if_pos y] at hQ ⊢
      exact ⟨fun v => absurd v (by decide), fun _ => hQ⟩
    · rw [if_neg y] at hQ ⊢
      exact ⟨fun _ => hQ, fun v => absurd rfl v⟩
