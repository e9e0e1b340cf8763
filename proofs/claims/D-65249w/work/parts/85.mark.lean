set_option maxRecDepth 100000
/-! calls are marked as taken back -/
theorem SZ.mark {X : Mem} {m z z' : Nat} {P L : List Nat} {N N' : Mem} {t t' : DB} (h : SZ X m z P 100000 N t) (hL : ∀ k ∈ L, k < cn t 61 ∧ t 69 k = 0) (hU : sumTo (cn t 61) (undW t' 100000) + L.length ≤ sumTo (cn t 61) (undW t 100000)) (hlen : cn t 82 + L.length ≤ 4020)
    (ht : TF t t' [68, 69, 80, 81, 82]) (t69 : ∀ i, t' 69 i = if i ∈ L then 3 else t 69 i) (t68 : ∀ i, t' 68 i = if i ∈ L then t 0 0 else t 68 i) (t82 : t' 82 0 = nI (cn t 82 + L.length))
    (hf : NF N N' [21, 33]) (i21 : ∀ i f, N'.1 21 i f = if f = 11 ∧ i ∈ L then 3 else if f = 13 ∧ i ∈ L then t 0 0 else N.1 21 i f) (r21 : N'.2.1 21 = N.2.1 21) (x21 : N'.2.2.1 21 = N.2.2.1 21) (hF : S_F X N') (hM : S_M m N' t') (hO : S_O z' N' t') : SZ X m z' (L ++ P) 100000 N' t' := by
  have hn := h.nC
  have hcn : ∀ f, f ∉ [68, 69, 80, 81, 82] → cn t' f = cn t f := fun f hf => ht.cn hf
  have e61 := hcn 61 (by decide)
  have e30 := hcn 30 (by decide)
  have e31 := ht 31 (by decide)
  have e65 := ht 65 (by decide)
  have c82 : cn t' 82 = cn t 82 + L.length := by
    show (t' 82 0).toNatClampNeg = _
    rw [t82, nI_clamp (by omega)]
  have lvk : ∀ k, k < cn t 61 → (lvv t' (L ++ P) 100000 k ↔ lvv t P 100000 k) := fun k hk => by
    unfold lvv
    rw [t69]
    by_cases e : k ∈ L
    · rw [if_pos e]
      exact ⟨fun _ => Or.inl ⟨(hL k e).2, by omega⟩, fun _ => Or.inr (List.mem_append_left _ e)⟩
    · rw [if_neg e]
      constructor
      · rintro (q | q)
        · exact Or.inl q
        · rcases List.mem_append.mp q with w | w
          · exact absurd w e
          · exact Or.inr w
      · rintro (q | q)
        · exact Or.inl q
        · exact Or.inr (List.mem_append_right _ q)
  have hI : S_I N' t' := by
    intro q hq i hi
    by_cases e : q.1 = 21
    · have hq2 : q.2.2.2 = 61 ∧ (q.2.1 = 11 ↔ q.2.2.1 = 69) ∧ (q.2.1 = 13 ↔ q.2.2.1 = 68) ∧ q.2.2.1 ∉ [80, 81, 82] := (by decide : ∀ q ∈ TI, q.1 = 21 → q.2.2.2 = 61 ∧ (q.2.1 = 11 ↔ q.2.2.1 = 69) ∧ (q.2.1 = 13 ↔ q.2.2.1 = 68) ∧ q.2.2.1 ∉ [80, 81, 82]) q hq e
      obtain ⟨z1, z2, z3, z4⟩ := hq2
      rw [z1, e61] at hi
      have old := h.I q hq i (by rw [z1]; exact hi)
      rw [e] at old ⊢
      rw [i21]
      by_cases y1 : q.2.1 = 11
      · rw [z2.mp y1, t69]
        rw [z2.mp y1] at old
        by_cases y : i ∈ L
        · rw [if_pos ⟨y1, y⟩, if_pos y]
        · rw [if_neg (fun w => y w.2), if_neg (fun w => y w.2), if_neg y]; exact old
      · rw [if_neg (fun w => y1 w.1)]
        by_cases y2 : q.2.1 = 13
        · rw [z3.mp y2, t68]
          rw [z3.mp y2] at old
          by_cases y : i ∈ L
          · rw [if_pos ⟨y2, y⟩, if_pos y]
          · rw [if_neg (fun w => y w.2), if_neg y]; exact old
        · rw [if_neg (fun w => y2 w.1), ht _ (fun w => by
            have a1 : q.2.2.1 ≠ 69 := fun u => y1 (z2.mpr u)
            have a2 : q.2.2.1 ≠ 68 := fun u => y2 (z3.mpr u)
            simp only [List.mem_cons, List.not_mem_nil, or_false, not_or] at w z4
            omega)]
          exact old
    · have hq3 : q.1 ≠ 33 ∧ q.2.2.1 ∉ [68, 69, 80, 81, 82] ∧ q.2.2.2 ∉ [68, 69, 80, 81, 82] := (by decide : ∀ q ∈ TI, q.1 ≠ 21 → q.1 ≠ 33 ∧ q.2.2.1 ∉ [68, 69, 80, 81, 82] ∧ q.2.2.2 ∉ [68, 69, 80, 81, 82]) q hq e
      rw [hcn _ hq3.2.2] at hi
      rw [(hf q.1 (by simp; omega)).1, ht _ hq3.2.1]
      exact h.I q hq i hi
  have hR : S_R N' t' := by
    intro q hq i hi
    have hq3 : q.1 ≠ 33 ∧ q.2.2.2.1 ∉ [68, 69, 80, 81, 82] ∧ q.2.2.2.2 ∉ [68, 69, 80, 81, 82] := (by decide : ∀ q ∈ TR, q.1 ≠ 33 ∧ q.2.2.2.1 ∉ [68, 69, 80, 81, 82] ∧ q.2.2.2.2 ∉ [68, 69, 80, 81, 82]) q hq
    rw [hcn _ hq3.2.2] at hi
    rw [ht _ hq3.2.1]
    by_cases e : q.1 = 21
    · have := h.R q hq i hi
      rw [e] at this ⊢
      rw [r21]; exact this
    · rw [(hf q.1 (by simp; omega)).2.1]
      exact h.R q hq i hi
  have hN : S_N N' t' := by
    intro q hq i hi
    have hq3 : q.1 ≠ 33 ∧ q.2 ∉ [68, 69, 80, 81, 82] := (by decide : ∀ q ∈ TN, q.1 ≠ 33 ∧ q.2 ∉ [68, 69, 80, 81, 82]) q hq
    rw [hcn _ hq3.2] at hi
    by_cases e : q.1 = 21
    · have := h.N q hq i hi
      rw [e] at this ⊢
      rw [i21, if_neg (fun w => absurd w.1 (by decide)), if_neg (fun w => absurd w.1 (by decide))]; exact this
    · rw [(hf q.1 (by simp; omega)).1]
      exact h.N q hq i hi
  have hE : S_E N' t' := by
    intro q hq i hi
    have hq3 : q.1 ≠ 33 ∧ q.2 ∉ [68, 69, 80, 81, 82] := (by decide : ∀ q ∈ TE, q.1 ≠ 33 ∧ q.2 ∉ [68, 69, 80, 81, 82]) q hq
    rw [hcn _ hq3.2] at hi
    by_cases e : q.1 = 21
    · have := h.E q hq i hi
      rw [e] at this ⊢
      rw [x21]; exact this
    · rw [(hf q.1 (by simp; omega)).2.2]
      exact h.E q hq i hi
  have hC : S_C N' t' := by
    intro i hi
    rw [e61] at hi
    obtain ⟨a1, a2, a3, a4⟩ := h.C i hi
    rw [r21, i21, if_neg (fun w => absurd w.1 (by decide)), if_neg (fun w => absurd w.1 (by decide)), e65, gn_fr e31, t69, ht 70 (by decide)]
    by_cases e : i ∈ L
    · rw [(hL i e).2, if_neg (by decide)] at a3 a4
      rw [if_pos e, if_neg (by decide), if_neg (by decide)]
      exact ⟨a1, a2, a3, a4⟩
    · rw [if_neg e]; exact ⟨a1, a2, a3, a4⟩
  have hV : S_V N' t' := by
    have q31 := hf 31 (by decide)
    have hV0 := h.V
    unfold S_V at hV0 ⊢
    rw [e61, e30, ht 73 (by decide), ht 64 (by decide), e65, e31, q31.2.1]
    intro i hi
    obtain ⟨a1, a2, a3, a4⟩ := hV0 i hi
    refine ⟨a1, a2, a3, ?_⟩
    rw [i21, if_neg (fun w => absurd w.1 (by decide)), if_neg (fun w => absurd w.1 (by decide))]
    exact a4
  have hQ : S_Q (L ++ P) 100000 N' t' := by
    intro k hk hl
    rw [e61] at hk
    have hs := h.Q k hk ((lvk k hk).mp hl)
    have q10 := hf 10 (by decide)
    rw [i21, if_neg (fun w => absurd w.1 (by decide)), if_neg (fun w => absurd w.1 (by decide)), e65, e30, e31, ht 79 (by decide), ht 36 (by decide), ht 75 (by decide), ht 77 (by decide), ht 40 (by decide), ht 43 (by decide), q10.2.1]
    refine ⟨?_, hs.2⟩
    rw [hs.1]
    unfold stOf
    rw [ht 75 (by decide), ht 76 (by decide), ht 74 (by decide)]
  have hB : S_B (L ++ P) 100000 t' := by
    intro g hg hs j hj
    rw [e30] at hg
    rw [e31] at hs
    rw [ht 40 (by decide)] at hj
    obtain ⟨k, a1, a2, a3, a4, a5, a6, a7⟩ := h.B g hg hs j hj
    rw [e61, ht 43 (by decide), e65, ht 75 (by decide), ht 73 (by decide)]
    exact ⟨k, a1, a2, a3, a4, a5, (lvk k a1).mpr a6, a7⟩
  have hH : I_H t' := by
    intro i hi
    rw [e61] at hi
    obtain ⟨a1, a2, a3, a4, a5⟩ := h.iH i hi
    rw [t69, ht 70 (by decide), ht 71 (by decide), hcn 23 (by decide), ht 75 (by decide), ht 76 (by decide), ht 77 (by decide), ht 78 (by decide), ht 79 (by decide), ht 73 (by decide)]
    by_cases e : i ∈ L
    · rw [if_pos e]
      exact ⟨Or.inr (Or.inr (Or.inr rfl)), fun w => absurd w (by decide), a3, fun _ => a4 (by rw [(hL i e).2]; decide), a5⟩
    · rw [if_neg e]; exact ⟨a1, a2, a3, a4, a5⟩
  have nw : ∀ k, t' 69 k = 0 → t 69 k = 0 := fun k hk => by
    rw [t69] at hk
    by_cases e : k ∈ L
    · exact (hL k e).2
    · rw [if_neg e] at hk; exact hk
  have hLL : I_L t' := by
    intro k l hk hl u1 u2 u3 u4 u5 u6
    rw [e61] at hk hl
    rw [ht 78 (by decide)] at u3 u4
    rw [e65] at u5
    rw [ht 62 (by decide), hcn 50 (by decide), ht 52 (by decide), ht 53 (by decide), ht 54 (by decide)] at u6
    exact h.iL k l hk hl (nw k u1) (nw l u2) u3 u4 u5 u6
  have hIU : I_U 100000 t' := by
    have er : remC t' = remC t := by
      funext k
      unfold remC capD srt
      rw [e65, e31, ht 73 (by decide), ht 51 (by decide), ht 62 (by decide), ht 48 (by decide), ht 49 (by decide), ht 63 (by decide)]
    obtain ⟨u1, u2, u3, u4⟩ := h.iU
    unfold I_U
    rw [er, e61, hcn 50 (by decide), hcn 23 (by decide), hcn 17 (by decide), c82]
    omega
  have hJ : I_J (L ++ P) t' := by
    intro k hk
    rw [e61, t69]
    rcases List.mem_append.mp hk with w | w
    · rw [if_pos w]; exact ⟨(hL k w).1, rfl⟩
    · obtain ⟨j1, j2⟩ := h.J k w
      refine ⟨j1, ?_⟩
      by_cases e : k ∈ L
      · rw [if_pos e]
      · rw [if_neg e]; exact j2
  have hBd : I_B t' := by
    obtain ⟨a1, a2, a3, a4, a5, a6, a7, a8, a9, a10, a11, a12⟩ := h.iB
    have hb : ∀ q mx, q ∉ [68, 69, 80, 81, 82] → bnd t q mx → bnd t' q mx := by
      intro q mx hq hb
      unfold bnd at hb ⊢
      rw [hcn q hq, ht q hq]; exact hb
    refine ⟨hb _ _ (by decide) a1, hb _ _ (by decide) a2, hb _ _ (by decide) a3, hb _ _ (by decide) a4, hb _ _ (by decide) a5, hb _ _ (by decide) a6, hb _ _ (by decide) a7, hb _ _ (by decide) a8, hb _ _ (by decide) a9, hb _ _ (by decide) a10, hb _ _ (by decide) a11, ⟨?_, ?_⟩⟩
    · rw [c82]; exact t82
    · rw [c82]; exact hlen
  exact ⟨hI, hR, hN, h.K.fr hf (by decide) ht (by decide), h.S.fr hf (by decide) ht (by decide), hE, h.W.fr hf (by decide) ht (by decide), h.P1.fr hf (by decide) ht (by decide), h.P2.fr hf (by decide) ht (by decide), h.G.fr hf (by decide) ht (by decide), h.G0.fr hf (by decide) ht (by decide), h.G1.fr hf (by decide) ht (by decide), h.G2.fr hf (by decide) ht (by decide), h.G7.fr hf (by decide) ht (by decide), h.T.fr hf (by decide) ht (by decide), h.U.fr hf (by decide) ht (by decide), hC, hV, hO, h.A.fr hf (by decide) ht (by decide), h.Y.fr hf (by decide) ht (by decide), hQ, hB, hF, hM, hBd, h.iG.fr ht (by decide), h.iT.fr ht (by decide), h.iO.fr ht (by decide), h.iC.fr ht (by decide), hH, h.iZ.fr ht (by decide), hLL, h.iR.fr ht (by decide), h.iX.fr ht (by decide), hIU, h.iD.fr ht (by decide), h.iK.fr ht (by decide), h.iY.fr ht (by decide), hJ, h.GT.fr hf (by decide) ht (by decide), h.H.fr hf (by decide) ht (by decide)⟩
