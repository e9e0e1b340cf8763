set_option maxRecDepth 100000
/-! one leaves a bulkhead's queue -/
theorem SZ.qrem {X : Mem} {m z : Nat} {P P' : List Nat} {x x' : Nat} {N : Mem} {t t' : DB} {k g j w : Nat} (h : SZ X m z P x N t) (hg : g < cn t 30) (hs : t 31 g = 1) (hw : t 40 g = nI w) (hw10 : w ≤ 10) (hj : j < w) (hk : k < cn t 61) (h43 : t 43 (10 * g + j) = nI k) (h65 : t 65 k = nI g)
    (hl : ∀ i, i < cn t 61 → lvv t P' x' i → lvv t P x i ∧ i ≠ k) (hl2 : ∀ i, i < cn t 61 → lvv t P x i → i ≠ k → lvv t P' x' i) (hP : ∀ c ∈ P', c ∈ P)
    (ht : TF t t' [40, 43, 75]) (t40 : ∀ i, t' 40 i = if i = g then nI (w - 1) else t 40 i) (t75 : ∀ i, t' 75 i = if i = k then 0 else t 75 i)
    (t43 : ∀ g' i, i < 10 → t' 43 (10 * g' + i) = if g' = g ∧ j ≤ i ∧ i + 1 < w then t 43 (10 * g + i + 1) else t 43 (10 * g' + i)) : SZ X m z P' x' (lRem N (32, g) j) t' := by
  have h24 : cn t 30 ≤ 24 := h.iB.2.2.2.1.2
  have hn := h.nC
  have w10 : ∀ g', g' < cn t 30 → t 31 g' = 1 → ∃ v, v ≤ 10 ∧ t 40 g' = nI v := fun g' hg' hs' => by
    obtain ⟨s', a1, a2, a3, -, a5, -⟩ := h.iG g' hg'
    obtain ⟨b, v, b1, b2, b3, b4⟩ := a5 ((nI_eq (by omega) (by omega)).mp (a2.symm.trans (hs'.trans (show (1 : Int32) = nI 1 from rfl))))
    exact ⟨v, by omega, b4⟩
  have cw : (nI w).toNatClampNeg = w := nI_clamp (by omega)
  have cw1 : (nI (w - 1)).toNatClampNeg = w - 1 := nI_clamp (by omega)
  have hf : NF N (lRem N (32, g) j) [32] := NF.rf.wD _ _ (by show 32 ∈ [32]; decide)
  have li : ∀ i, (lRem N (32, g) j).1 32 i 0 = if i = g then N.1 32 g 0 - 1 else N.1 32 i 0 := fun i => by
    show (if 32 = 32 ∧ i = g ∧ 0 = 0 then _ else _) = _
    by_cases e : i = g
    · rw [if_pos ⟨rfl, e, rfl⟩, if_pos e]
    · rw [if_neg (fun q => e q.2.1), if_neg e]
  have lr : ∀ i f, (lRem N (32, g) j).2.1 32 i f = if i = g ∧ j ≤ f then N.2.1 32 g (f + 1) else N.2.1 32 i f := fun i f => by
    show (if (32 = 32 ∧ i = g) ∧ j ≤ f then _ else _) = _
    by_cases e : i = g ∧ j ≤ f
    · rw [if_pos ⟨⟨rfl, e.1⟩, e.2⟩, if_pos e]
    · rw [if_neg (fun q => e ⟨q.1.2, q.2⟩), if_neg e]
  have e30 : cn t' 30 = cn t 30 := ht.cn (by decide)
  have e31 := ht 31 (by decide)
  have e61 : cn t' 61 = cn t 61 := ht.cn (by decide)
  have e65 := ht 65 (by decide)
  have lve : ∀ P x i, lvv t' P x i ↔ lvv t P x i := fun P x i => by unfold lvv; rw [ht 69 (by decide)]
  have hG1 : S_G1 (lRem N (32, g) j) t' := by
    intro g' hg' hs'
    rw [e30] at hg'
    rw [e31] at hs'
    obtain ⟨a1, a2, a3, a4, a5⟩ := h.G1 g' hg' hs'
    have q11 := hf 11 (by decide)
    rw [q11.1, q11.2.1, ht 39 (by decide), ht 41 (by decide), li, t40]
    by_cases e : g' = g
    · subst e
      rw [if_pos rfl, if_pos rfl, a4, hw]
      rw [hw, cw] at a5
      refine ⟨a1, a2, a3, ?_, fun i hi => ?_⟩
      · rw [show w = (w - 1) + 1 from by omega, nI_pred]; rfl
      · rw [cw1] at hi
        rw [lr, t43 g' i (by omega)]
        by_cases y : j ≤ i
        · rw [if_pos ⟨rfl, y⟩, if_pos ⟨rfl, y, by omega⟩]
          exact a5 (i + 1) (by omega)
        · rw [if_neg (fun q => y q.2), if_neg (fun q => y q.2.1)]
          exact a5 i (by omega)
    · rw [if_neg e, if_neg e]
      obtain ⟨v, hv, ev⟩ := w10 g' hg' hs'
      refine ⟨a1, a2, a3, a4, fun i hi => ?_⟩
      rw [lr, if_neg (fun q => e q.1), t43 g' i (by rw [ev, nI_clamp (by omega)] at hi; omega), if_neg (fun q => e q.1)]
      exact a5 i hi
  have hQ : S_Q P' x' (lRem N (32, g) j) t' := by
    intro i hi hlv
    rw [e61] at hi
    rw [lve] at hlv
    obtain ⟨lv1, hik⟩ := hl i hi hlv
    obtain ⟨q1, q2⟩ := h.Q i hi lv1
    have q21 := hf 21 (by decide)
    have q10 := hf 10 (by decide)
    have e75 : t' 75 i = t 75 i := by rw [t75, if_neg hik]
    refine ⟨?_, fun g' e1 hg' => ?_⟩
    · rw [q21.1, q1]
      unfold stOf
      rw [e75, ht 76 (by decide), ht 74 (by decide)]
    · rw [e65] at e1
      rw [e30] at hg'
      rw [e31, ht 79 (by decide), ht 36 (by decide), q10.2.1, e75, ht 77 (by decide)]
      obtain ⟨r1, r2⟩ := q2 g' e1 hg'
      refine ⟨r1, fun hs' => ?_⟩
      rcases r2 hs' with ⟨u1, u2, j', u3, u4⟩ | u
      · refine Or.inl ⟨u1, u2, ?_⟩
        rw [t40]
        by_cases e : g' = g
        · subst e
          rw [if_pos rfl, cw1]
          rw [hw, cw] at u3
          have hjj : j' ≠ j := fun q => by
            rw [q, h43] at u4
            exact hik ((nI_eq (by omega) (by omega)).mp u4).symm
          by_cases y : j' < j
          · exact ⟨j', by omega, by rw [t43 g' j' (by omega), if_neg (by omega)]; exact u4⟩
          · refine ⟨j' - 1, by omega, ?_⟩
            rw [t43 g' (j' - 1) (by omega), if_pos ⟨rfl, by omega, by omega⟩, show 10 * g' + (j' - 1) + 1 = 10 * g' + j' from by omega]
            exact u4
        · rw [if_neg e]
          obtain ⟨v, hv, ev⟩ := w10 g' hg' hs'
          have u3' := u3
          rw [ev, nI_clamp (by omega)] at u3'
          exact ⟨j', u3, by rw [t43 g' j' (by omega), if_neg (fun q => e q.1)]; exact u4⟩
      · exact Or.inr u
  have hB : S_B P' x' t' := by
    intro g' hg' hs' i hi
    rw [e30] at hg'
    rw [e31] at hs'
    rw [e61, e65, ht 73 (by decide)]
    rw [t40] at hi
    by_cases e : g' = g
    · subst e
      rw [if_pos rfl, cw1] at hi
      have old := h.B g' hg' hs
      rw [hw, cw] at old
      have sel : ∃ i', i' < w ∧ i' ≠ j ∧ t' 43 (10 * g' + i) = t 43 (10 * g' + i') ∧ (∀ a, a < i → ∃ a', a' < i' ∧ t' 43 (10 * g' + a) = t 43 (10 * g' + a')) := by
        have one : ∀ a, a < w - 1 → t' 43 (10 * g' + a) = t 43 (10 * g' + (if j ≤ a then a + 1 else a)) := fun a ha => by
          rw [t43 g' a (by omega)]
          by_cases y : j ≤ a
          · rw [if_pos ⟨rfl, y, by omega⟩, if_pos y]; rfl
          · rw [if_neg (fun q => y q.2.1), if_neg y]
        refine ⟨if j ≤ i then i + 1 else i, by split <;> omega, by split <;> omega, one i hi, fun a ha => ⟨if j ≤ a then a + 1 else a, by split <;> split <;> omega, one a (by omega)⟩⟩
      obtain ⟨i', s1, s2, s3, s4⟩ := sel
      obtain ⟨c, b1, b2, b3, b4, b5, b6, b7⟩ := old i' s1
      have hck : c ≠ k := fun q => by
        subst q
        by_cases y : j < i'
        · exact b7 j y h43
        · obtain ⟨c', d1, d2, -, -, -, -, d7⟩ := old j hj
          exact d7 i' (by omega) (by rw [b2, ← d2, h43])
      refine ⟨c, b1, by rw [s3]; exact b2, b3, by rw [t75, if_neg hck]; exact b4, b5, (lve P' x' c).mpr (hl2 c b1 b6 hck), fun a ha => ?_⟩
      obtain ⟨a', d1, d2⟩ := s4 a ha
      rw [d2]
      exact b7 a' d1
    · rw [if_neg e] at hi
      obtain ⟨v, hv, ev⟩ := w10 g' hg' hs'
      have hi' := hi
      rw [ev, nI_clamp (by omega)] at hi'
      obtain ⟨c, b1, b2, b3, b4, b5, b6, b7⟩ := h.B g' hg' hs' i hi
      have hck : c ≠ k := fun q => by
        subst q
        exact e ((nI_eq (by omega) (by omega)).mp (b3.symm.trans h65))
      refine ⟨c, b1, by rw [t43 g' i (by omega), if_neg (fun q => e q.1)]; exact b2, b3, by rw [t75, if_neg hck]; exact b4, b5, (lve P' x' c).mpr (hl2 c b1 b6 hck), fun a ha => ?_⟩
      rw [t43 g' a (by omega), if_neg (fun q => e q.1)]
      exact b7 a ha
  have hGI : I_G t' := by
    intro g' hg'
    rw [e30] at hg'
    obtain ⟨s', a1, a2, a3, a4, a5, a6⟩ := h.iG g' hg'
    rw [e31, ht 35 (by decide), ht 36 (by decide), ht 32 (by decide), ht 33 (by decide), ht 34 (by decide), ht.cn (f := 1) (by decide)]
    refine ⟨s', a1, a2, a3, a4, fun q => ?_, a6⟩
    obtain ⟨b, v, b1, b2, b3, b4⟩ := a5 q
    rw [t40]
    by_cases e : g' = g
    · subst e
      rw [if_pos rfl]
      have : v = w := (nI_eq (by omega) (by omega)).mp (b4.symm.trans hw)
      exact ⟨b, w - 1, b1, b2, Nat.le_trans (Nat.sub_le w 1) (this ▸ b3), rfl⟩
    · rw [if_neg e]; exact ⟨b, v, b1, b2, b3, b4⟩
  have hH : I_H t' := by
    intro i hi
    rw [e61] at hi
    obtain ⟨a1, a2, a3, a4, a5, a6⟩ := h.iH i hi
    rw [ht 69 (by decide), ht 70 (by decide), ht 71 (by decide), ht 76 (by decide), ht 77 (by decide), ht 78 (by decide), ht 79 (by decide), ht 73 (by decide), ht.cn (f := 23) (by decide), t75]
    refine ⟨a1, a2, a3, a4, ?_, a6⟩
    by_cases e : i = k
    · rw [if_pos e]; exact Or.inl rfl
    · rw [if_neg e]; exact a5
  have hZ : I_Z t' := by
    intro i hi
    rw [e61] at hi
    obtain ⟨a1, a2⟩ := h.iZ i hi
    rw [e30, e31, e65, ht 79 (by decide), ht 77 (by decide), ht 76 (by decide), ht 78 (by decide), ht 74 (by decide), ht 73 (by decide), ht 62 (by decide), ht 52 (by decide), ht 53 (by decide), ht 54 (by decide), ht.cn (f := 50) (by decide), t75]
    refine ⟨fun g' hg' e => ?_, fun e => ?_⟩
    · obtain ⟨b1, b2, b3⟩ := a1 g' hg' e
      refine ⟨b1, fun q => ⟨?_, (b2 q).2⟩, b3⟩
      by_cases y : i = k
      · rw [if_pos y]
      · rw [if_neg y]; exact (b2 q).1
    · obtain ⟨b1, b2, b3, b4⟩ := a2 e
      refine ⟨b1, b2, ?_, b4⟩
      by_cases y : i = k
      · rw [if_pos y]
      · rw [if_neg y]; exact b3
  have hU : I_U x' t' := by
    have a := h.iU
    have hle : sumTo (cn t 61) (undW t' x') ≤ sumTo (cn t 61) (undW t x) := by
      refine sumTo_le fun i hi => ?_
      unfold undW
      rw [ht 69 (by decide)]
      by_cases q : t 69 i = 0 ∧ i ≠ x'
      · rw [if_pos q]
        have h2 := (hl i hi (Or.inl q)).1
        rcases h2 with h2 | h2
        · rw [if_pos h2]; exact Nat.le_refl _
        · have := (h.J i h2).2
          rw [q.1] at this
          exact absurd this (by decide)
      · rw [if_neg q]; exact Nat.zero_le _
    have er : remC t' = remC t := by
      funext i
      unfold remC capD srt
      rw [e65, e31, ht 73 (by decide), ht 51 (by decide), ht 62 (by decide), ht 48 (by decide), ht 49 (by decide), ht 63 (by decide)]
    unfold I_U at a ⊢
    rw [e61, er, ht.cn (f := 50) (by decide), ht.cn (f := 23) (by decide), ht.cn (f := 17) (by decide), ht.cn (f := 82) (by decide)]
    omega
  have hJ : I_J P' t' := fun c hc => by
    obtain ⟨j1, j2⟩ := h.J c (hP c hc)
    rw [e61, ht 69 (by decide)]
    exact ⟨j1, j2⟩
  exact ⟨h.I.fr hf (by decide) ht (by decide), h.R.fr hf (by decide) ht (by decide), h.N.fr hf (by decide) ht (by decide), h.K.fr hf (by decide) ht (by decide), h.S.fr hf (by decide) ht (by decide), h.E.fr rfl ht (by decide), h.W.fr hf (by decide) ht (by decide), h.P1.fr hf (by decide) ht (by decide), h.P2.fr hf (by decide) ht (by decide), h.G.fr hf (by decide) ht (by decide), h.G0.fr hf (by decide) ht (by decide), hG1, h.G2.fr hf (by decide) ht (by decide), h.G7.fr hf (by decide) ht (by decide), h.T.fr hf (by decide) ht (by decide), h.U.fr hf (by decide) ht (by decide), h.C.fr hf (by decide) ht (by decide), h.V.fr hf (by decide) ht (by decide), h.O.fr hf (by decide) ht (by decide), h.A.fr hf (by decide) ht (by decide), h.Y.fr hf (by decide) ht (by decide), hQ, hB, h.F.fr hf (by decide), h.M.fr rfl ht (by decide), h.iB.fr ht (by decide), hGI, h.iT.fr ht (by decide), h.iO.fr ht (by decide), h.iC.fr ht (by decide), hH, hZ, h.iL.fr ht (by decide), h.iR.fr ht (by decide), h.iX.fr ht (by decide), hU, h.iD.fr ht (by decide), h.iK.fr ht (by decide), h.iY.fr ht (by decide), hJ, h.GT.fr hf (by decide) ht (by decide), h.H.fr hf (by decide) ht (by decide)⟩
