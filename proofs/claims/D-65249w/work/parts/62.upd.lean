set_option maxRecDepth 100000
/-! single changes, and the relation -/
theorem SZ.tt {X : Mem} {m z : Nat} {P : List Nat} {x : Nat} {N : Mem} {t t' : DB} (h : SZ X m z P x N t) (ht : TF t t' [80, 81, 83, 84, 85, 86, 87, 88]) : SZ X m z P x N t' := by
  have hf : NF N N [] := NF.rf
  exact ⟨h.I.fr hf (by decide) ht (by decide), h.R.fr hf (by decide) ht (by decide), h.N.fr hf (by decide) ht (by decide), h.K.fr hf (by decide) ht (by decide), h.S.fr hf (by decide) ht (by decide), h.E.fr rfl ht (by decide), h.W.fr hf (by decide) ht (by decide), h.P1.fr hf (by decide) ht (by decide), h.P2.fr hf (by decide) ht (by decide), h.G.fr hf (by decide) ht (by decide), h.G0.fr hf (by decide) ht (by decide), h.G1.fr hf (by decide) ht (by decide), h.G2.fr hf (by decide) ht (by decide), h.G7.fr hf (by decide) ht (by decide), h.T.fr hf (by decide) ht (by decide), h.U.fr hf (by decide) ht (by decide), h.C.fr hf (by decide) ht (by decide), h.V.fr hf (by decide) ht (by decide), h.O.fr hf (by decide) ht (by decide), h.A.fr hf (by decide) ht (by decide), h.Y.fr hf (by decide) ht (by decide), h.Q.fr hf (by decide) ht (by decide), h.B.fr ht (by decide), h.F.fr hf (by decide), h.M.fr rfl ht (by decide), h.iB.fr ht (by decide), h.iG.fr ht (by decide), h.iT.fr ht (by decide), h.iO.fr ht (by decide), h.iC.fr ht (by decide), h.iH.fr ht (by decide), h.iZ.fr ht (by decide), h.iL.fr ht (by decide), h.iR.fr ht (by decide), h.iX.fr ht (by decide), h.iU.fr ht (by decide), h.iD.fr ht (by decide), h.iK.fr ht (by decide), h.iY.fr ht (by decide), h.J.fr ht (by decide), h.GT.fr hf (by decide) ht (by decide), h.H.fr hf (by decide) ht (by decide)⟩
theorem SS.tt {X : Mem} {m z : Nat} {P : List Nat} {x : Nat} {N : Mem} {t t' : DB} (h : SS X m z P x N t) (ht : TF t t' [80, 81, 83, 84, 85, 86, 87, 88]) : SS X m z P x N t' := ⟨h.1.tt ht, h.iP.fr ht (by decide)⟩
theorem TF.mono {t t' : DB} {C D : List Nat} (h : TF t t' C) (hs : ∀ c ∈ C, c ∈ D) : TF t t' D := fun f hf => h f (fun m => hf (hs f m))
theorem NF.mono {N N' : Mem} {C D : List Nat} (h : NF N N' C) (hs : ∀ c ∈ C, c ∈ D) : NF N N' D := fun f hf => h f (fun m => hf (hs f m))
theorem SS.psh {X : Mem} {m z : Nat} {P : List Nat} {x : Nat} {N : Mem} {t : DB} (h : SS X m z P x N t) {k : Nat} {a b c d e : Int32} : SS X m z P x N (psh t k a b c d e) := h.tt (psh_TF.mono (by decide))
theorem SS.pop {X : Mem} {m z : Nat} {P : List Nat} {x : Nat} {N : Mem} {t : DB} (h : SS X m z P x N t) {k : Nat} : SS X m z P x N (pop t k) := h.tt (pop_TF.mono (by decide))
theorem sumTo_le {f g : Nat → Nat} : ∀ {n : Nat}, (∀ i, i < n → f i ≤ g i) → sumTo n f ≤ sumTo n g
  | 0, _ => Nat.le_refl _
  | n + 1, h => by
    show sumTo n f + f n ≤ sumTo n g + g n
    have := sumTo_le (n := n) (fun i hi => h i (by omega))
    have := h n (by omega)
    omega
/-- fewer are reckoned with -/
theorem SZ.sub {X : Mem} {m z : Nat} {P P' : List Nat} {x x' : Nat} {N : Mem} {t : DB} (h : SZ X m z P x N t) (hl : ∀ k, k < cn t 61 → lvv t P' x' k → lvv t P x k) (hB : ∀ g j k, g < cn t 30 → t 31 g = 1 → j < (t 40 g).toNatClampNeg → k < cn t 61 → t 43 (10 * g + j) = nI k → t 65 k = nI g → t 75 k = 1 → t 73 k = 0 → lvv t P x k → lvv t P' x' k) (hP : ∀ c ∈ P', c ∈ P) : SZ X m z P' x' N t := by
  have hf : NF N N [] := NF.rf
  have ht : TF t t [] := TF.rf
  have hQ : S_Q P' x' N t := fun k hk hk2 => h.Q k hk (hl k hk hk2)
  have hBB : S_B P' x' t := by
    intro g hg hs j hj
    obtain ⟨k, a1, a2, a3, a4, a5, a6, a7⟩ := h.B g hg hs j hj
    exact ⟨k, a1, a2, a3, a4, a5, hB g j k hg hs hj a1 a2 a3 a4 a5 a6, a7⟩
  have hU : I_U x' t := by
    have a := h.iU
    have hle : sumTo (cn t 61) (undW t x') ≤ sumTo (cn t 61) (undW t x) := by
      refine sumTo_le fun k hk => ?_
      unfold undW
      by_cases q : t 69 k = 0 ∧ k ≠ x'
      · rw [if_pos q]
        have h2 := hl k hk (Or.inl q)
        rcases h2 with h2 | h2
        · rw [if_pos h2]; exact Nat.le_refl _
        · have := (h.J k h2).2
          rw [q.1] at this
          exact absurd this (by decide)
      · rw [if_neg q]; exact Nat.zero_le _
    unfold I_U at a ⊢
    omega
  have hJ : I_J P' t := fun c hc => h.J c (hP c hc)
  exact ⟨h.I.fr hf (by decide) ht (by decide), h.R.fr hf (by decide) ht (by decide), h.N.fr hf (by decide) ht (by decide), h.K.fr hf (by decide) ht (by decide), h.S.fr hf (by decide) ht (by decide), h.E.fr rfl ht (by decide), h.W.fr hf (by decide) ht (by decide), h.P1.fr hf (by decide) ht (by decide), h.P2.fr hf (by decide) ht (by decide), h.G.fr hf (by decide) ht (by decide), h.G0.fr hf (by decide) ht (by decide), h.G1.fr hf (by decide) ht (by decide), h.G2.fr hf (by decide) ht (by decide), h.G7.fr hf (by decide) ht (by decide), h.T.fr hf (by decide) ht (by decide), h.U.fr hf (by decide) ht (by decide), h.C.fr hf (by decide) ht (by decide), h.V.fr hf (by decide) ht (by decide), h.O.fr hf (by decide) ht (by decide), h.A.fr hf (by decide) ht (by decide), h.Y.fr hf (by decide) ht (by decide), hQ, hBB, h.F.fr hf (by decide), h.M.fr rfl ht (by decide), h.iB.fr ht (by decide), h.iG.fr ht (by decide), h.iT.fr ht (by decide), h.iO.fr ht (by decide), h.iC.fr ht (by decide), h.iH.fr ht (by decide), h.iZ.fr ht (by decide), h.iL.fr ht (by decide), h.iR.fr ht (by decide), h.iX.fr ht (by decide), hU, h.iD.fr ht (by decide), h.iK.fr ht (by decide), h.iY.fr ht (by decide), hJ, h.GT.fr hf (by decide) ht (by decide), h.H.fr hf (by decide) ht (by decide)⟩
/-- a fuse -/
theorem SZ.fuse {X : Mem} {m z : Nat} {P : List Nat} {x : Nat} {N : Mem} {t : DB} (h : SZ X m z P x N t) {g : Nat} {s c u : Int32} {r : Nat × Nat} (hs : s = 0 ∨ s = 1 ∨ s = 2) (hg31 : t 31 g = 0)
    (hq : ∀ k, k < cn t 61 → lvv t P x k → t 65 k = nI g → (t 79 k = 1 → s = 2) ∧ (t 79 k = 1 ↔ r = (21, k))) (hg : g < cn t 30) (hrr : r = (0, 0) ∨ ∃ k, k < cn t 61 ∧ r = (21, k)) :
    SZ X m z P x (sR (sI (sI (sI N 10 g 7 s) 10 g 8 c) 10 g 9 u) 10 g 10 r) (up (up (up t 36 g s) 37 g c) 38 g u) := by
  have hf : NF N (sR (sI (sI (sI N 10 g 7 s) 10 g 8 c) 10 g 9 u) 10 g 10 r) [10] := (((NF.rf.wI _ _ _ (by decide)).wI _ _ _ (by decide)).wI _ _ _ (by decide)).wR _ _ _ (by decide)
  have ht : TF t (up (up (up t 36 g s) 37 g c) 38 g u) [36, 37, 38] := ((TF.rf.wu _ _ (by decide)).wu _ _ (by decide)).wu _ _ (by decide)
  generalize hN' : sR (sI (sI (sI N 10 g 7 s) 10 g 8 c) 10 g 9 u) 10 g 10 r = N' at hf ⊢
  have hi : ∀ i f, N'.1 10 i f = if i = g ∧ f = 7 then s else if i = g ∧ f = 8 then c else if i = g ∧ f = 9 then u else N.1 10 i f := by
    intro i f
    rw [← hN']
    simp only [sR, sI]
    by_cases e : i = g
    · by_cases e7 : f = 7
      · subst e e7; simp
      by_cases e8 : f = 8
      · subst e e8; simp
      by_cases e9 : f = 9
      · subst e e9; simp
      simp [e7, e8, e9]
    · simp [e]
  have hr : ∀ i f, N'.2.1 10 i f = if i = g ∧ f = 10 then r else N.2.1 10 i f := by
    intro i f
    rw [← hN']
    simp [sR, sI]
  have hE : N'.2.2 = N.2.2 := by rw [← hN']; rfl
  have t36 : ∀ i, (up (up (up t 36 g s) 37 g c) 38 g u) 36 i = if i = g then s else t 36 i := by intro i; simp [up]
  have t37 : ∀ i, (up (up (up t 36 g s) 37 g c) 38 g u) 37 i = if i = g then c else t 37 i := by intro i; simp [up]
  have t38 : ∀ i, (up (up (up t 36 g s) 37 g c) 38 g u) 38 i = if i = g then u else t 38 i := by intro i; simp [up]
  generalize ht' : up (up (up t 36 g s) 37 g c) 38 g u = t' at ht t36 t37 t38 ⊢
  clear hN' ht'
  have h31 := ht 31 (by decide)
  have h30 := ht.cn (f := 30) (by decide)
  have h65 := ht 65 (by decide)
  have hG : S_G N' t' := by
    intro g' hg'
    rw [h30] at hg'
    obtain ⟨s', a0, a1, a2, a3, a4, a5, a6, a7, a8, a9, a10⟩ := h.G g' hg'
    rw [h31, ht 32 (by decide), ht 33 (by decide), ht 34 (by decide), ht 35 (by decide), (hf 30 (by decide)).2.1]
    refine ⟨s', a0, a1, a2, ?_⟩
    by_cases e : s' = 0
    · subst e
      simp only [Nat.add_zero] at a3 a4 a5 a6 a7 a8 a9 a10 ⊢
      have i0 : ∀ f, f ≤ 6 → N'.1 10 g' f = N.1 10 g' f := fun f hf => by rw [hi, if_neg (by omega), if_neg (by omega), if_neg (by omega)]
      rw [i0 0 (by decide), i0 1 (by decide), i0 2 (by decide), i0 3 (by decide), i0 4 (by decide), i0 5 (by decide), hr, hr, if_neg (by omega), if_neg (by show ¬ (_ ∧ 11 = 10); omega)]
      exact ⟨a3, a4, a5, a6, a7, a8, a9, a10⟩
    · have e2 := hf (10 + s') (by simp; omega)
      rw [e2.1, e2.2.1]
      exact ⟨a3, a4, a5, a6, a7, a8, a9, a10⟩
  have hG0 : S_G0 N' t' := by
    intro g' hg' hs'
    rw [h30] at hg'
    rw [h31] at hs'
    obtain ⟨a1, a2, a3⟩ := h.G0 g' hg' hs'
    rw [hi, hi, hi, t36, t37, t38]
    by_cases e : g' = g
    · simp [e]
    · simp [e, a1, a2, a3]
  have hQ : S_Q P x N' t' := by
    intro k hk hl
    rw [ht.cn (by decide)] at hk
    have hl' : lvv t P x k := by unfold lvv at hl ⊢; rw [ht 69 (by decide)] at hl; exact hl
    have a := h.Q k hk hl'
    have n21 := hf 21 (by decide)
    rw [n21.1, h65, h30, h31, ht 79 (by decide), ht 75 (by decide), ht 77 (by decide), ht 40 (by decide), ht 43 (by decide)]
    refine ⟨?_, fun g' e1 e2 => ?_⟩
    · rw [a.1]; unfold stOf; rw [ht 75 (by decide), ht 76 (by decide), ht 74 (by decide)]
    · have b := a.2 g' e1 e2
      refine ⟨fun e3 => ?_, b.2⟩
      rw [t36, hr]
      by_cases e : g' = g
      · subst e
        rw [if_pos rfl, if_pos ⟨rfl, rfl⟩]
        exact hq k hk hl' e1
      · rw [if_neg e, if_neg (fun z => e z.1)]
        exact b.1 e3
  have hGI : I_G t' := by
    intro g' hg'
    rw [h30] at hg'
    obtain ⟨s', a0, a1, a2, a3, a4⟩ := h.iG g' hg'
    rw [h31, ht 35 (by decide), ht 33 (by decide), ht 40 (by decide), ht 32 (by decide), ht 34 (by decide), ht.cn (f := 1) (by decide), t36]
    refine ⟨s', a0, a1, a2, fun e => ?_, a4⟩
    by_cases e2 : g' = g
    · rw [if_pos e2]; exact ⟨hs, (a3 e).2⟩
    · rw [if_neg e2]; exact a3 e
  have hGT : S_GT N' t' := by
    intro g' hg' hs'
    rw [ht.cn (by decide)] at hg'
    rw [ht 31 (by decide)] at hs'
    rw [hr, ht.cn (f := 61) (by decide)]
    by_cases y : g' = g
    · rw [if_pos ⟨y, rfl⟩]; exact hrr
    · rw [if_neg (fun q => y q.1)]; exact h.GT g' hg' hs'
  exact ⟨h.I.fr hf (by decide) ht (by decide), h.R.fr hf (by decide) ht (by decide), h.N.fr hf (by decide) ht (by decide), h.K.fr hf (by decide) ht (by decide), h.S.fr hf (by decide) ht (by decide), h.E.fr (congrArg Prod.fst hE) ht (by decide), h.W.fr hf (by decide) ht (by decide), h.P1.fr hf (by decide) ht (by decide), h.P2.fr hf (by decide) ht (by decide), hG, hG0, h.G1.fr hf (by decide) ht (by decide), h.G2.fr hf (by decide) ht (by decide), h.G7.fr hf (by decide) ht (by decide), h.T.fr hf (by decide) ht (by decide), h.U.fr hf (by decide) ht (by decide), h.C.fr hf (by decide) ht (by decide), h.V.fr hf (by decide) ht (by decide), h.O.fr hf (by decide) ht (by decide), h.A.fr hf (by decide) ht (by decide), h.Y.fr hf (by decide) ht (by decide), hQ, h.B.fr ht (by decide), h.F.fr hf (by decide), h.M.fr (congrArg Prod.snd hE) ht (by decide), h.iB.fr ht (by decide), hGI, h.iT.fr ht (by decide), h.iO.fr ht (by decide), h.iC.fr ht (by decide), h.iH.fr ht (by decide), h.iZ.fr ht (by decide), h.iL.fr ht (by decide), h.iR.fr ht (by decide), h.iX.fr ht (by decide), h.iU.fr ht (by decide), h.iD.fr ht (by decide), h.iK.fr ht (by decide), h.iY.fr ht (by decide), h.J.fr ht (by decide), hGT, h.H.fr hf (by decide) ht (by decide)⟩
