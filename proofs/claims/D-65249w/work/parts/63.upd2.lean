set_option maxRecDepth 100000
/-! more single changes -/
theorem sI_at {N : Mem} {k i f : Nat} {v : Int32} (k' i' f' : Nat) : (sI N k i f v).1 k' i' f' = if k' = k ∧ i' = i ∧ f' = f then v else N.1 k' i' f' := rfl
theorem sR_at {N : Mem} {k i f : Nat} {v : Nat × Nat} (k' i' f' : Nat) : (sR N k i f v).2.1 k' i' f' = if k' = k ∧ i' = i ∧ f' = f then v else N.2.1 k' i' f' := rfl
theorem up_at {t : DB} {f i : Nat} {v : Int32} (g j : Nat) : up t f i v g j = if g = f ∧ j = i then v else t g j := rfl
theorem S_R.wn {N : Mem} {t : DB} (h : S_R N t) (k i f : Nat) (v : Nat × Nat) (hn : ∀ q ∈ TR, ¬ (q.1 = k ∧ q.2.1 = f)) : S_R (sR N k i f v) t := by
  intro r hr j hj
  show (if _ then _ else _) = _
  rw [if_neg (fun z => hn r hr ⟨z.1, z.2.2⟩)]
  exact h r hr j hj
theorem S_R.wu {N : Mem} {t : DB} (h : S_R N t) (q : Nat × Nat × Nat × Nat × Nat) (hq : q ∈ TR) (i : Nat) (v : Int32) : S_R (sR N q.1 i q.2.1 (rn q.2.2.1 v)) (up t q.2.2.2.1 i v) := by
  intro r hr j hj
  rw [cn_up (TR_c q hq r hr)] at hj
  have hu := TR_u r hr q hq
  show (if _ then _ else _) = _
  by_cases e : r.2.2.2.1 = q.2.2.2.1
  · have e2 := hu.mpr e
    have e4 : r.2.2.1 = q.2.2.1 := (by decide : ∀ q ∈ TR, ∀ r ∈ TR, r.2.2.2.1 = q.2.2.2.1 → r.2.2.1 = q.2.2.1) q hq r hr e
    by_cases e3 : j = i
    · rw [if_pos ⟨e2.1, e3, e2.2⟩, e, e3, up_s, e4]
    · rw [if_neg (fun z => e3 z.2.1), up_n (fun z => e3 z.2)]
      exact h r hr j hj
  · rw [if_neg (fun z => e (hu.mp ⟨z.1, z.2.2⟩)), up_f e]
    exact h r hr j hj
theorem S_N.wn {N : Mem} {t : DB} (h : S_N N t) (k i f : Nat) (v : Int32) (hf : f ≠ 0) : S_N (sI N k i f v) t := by
  intro r hr j hj
  show (if _ then _ else _) = _
  rw [if_neg (fun z => hf z.2.2.symm)]
  exact h r hr j hj
/-- an int of a guard, beyond those that all guards have -/
theorem S_G.wI {N : Mem} {t : DB} (h : S_G N t) (k i f : Nat) (v : Int32) (hf : 6 ≤ f) : S_G (sI N k i f v) t := by
  intro g hg
  obtain ⟨s, a0, a1, a2, a3, a4, a5, a6, a7, a8, a9, a10⟩ := h g hg
  refine ⟨s, a0, a1, a2, ?_⟩
  rw [sI_at, sI_at, sI_at, sI_at, sI_at, sI_at, if_neg (by omega), if_neg (by omega), if_neg (by omega), if_neg (by omega), if_neg (by omega), if_neg (by omega)]
  exact ⟨a3, a4, a5, a6, a7, a8, a9, a10⟩
theorem S_G.tt {N : Mem} {t t' : DB} {C : List Nat} (h : S_G N t) (ht : TF t t' C) (hC : ∀ c ∈ C, c ∉ [30, 31, 32, 33, 34, 35]) : S_G N t' := h.fr (K := []) NF.rf (by decide) ht hC
theorem SZ.b39 {X : Mem} {m z : Nat} {P : List Nat} {x : Nat} {N : Mem} {t : DB} (h : SZ X m z P x N t) {g : Nat} {v : Int32} : SZ X m z P x (sI N 11 g 8 v) (up t 39 g v) := by
  have hf : NF N (sI N 11 g 8 v) [11] := NF.rf.wI _ _ _ (by decide)
  have ht : TF t (up t 39 g v) [39] := TF.rf.wu _ _ (by decide)
  have hG := (h.G.wI 11 g 8 v (by decide)).tt ht (by decide)
  have hG1 : S_G1 (sI N 11 g 8 v) (up t 39 g v) := by
    intro g' hg' hs'
    obtain ⟨a1, a2, a3, a4, a5⟩ := h.G1 g' hg' hs'
    refine ⟨a1, ?_, ?_, a4, a5⟩
    · rw [sI_at, up_at]
      by_cases e : g' = g
      · simp [e]
      · simp [e, a2]
    · rw [sI_at, if_neg (by omega)]; exact a3
  exact ⟨h.I.fr hf (by decide) ht (by decide), h.R.fr hf (by decide) ht (by decide), h.N.fr hf (by decide) ht (by decide), h.K.fr hf (by decide) ht (by decide), h.S.fr hf (by decide) ht (by decide), h.E.fr rfl ht (by decide), h.W.fr hf (by decide) ht (by decide), h.P1.fr hf (by decide) ht (by decide), h.P2.fr hf (by decide) ht (by decide), hG, h.G0.fr hf (by decide) ht (by decide), hG1, h.G2.fr hf (by decide) ht (by decide), h.G7.fr hf (by decide) ht (by decide), h.T.fr hf (by decide) ht (by decide), h.U.fr hf (by decide) ht (by decide), h.C.fr hf (by decide) ht (by decide), h.V.fr hf (by decide) ht (by decide), h.O.fr hf (by decide) ht (by decide), h.A.fr hf (by decide) ht (by decide), h.Y.fr hf (by decide) ht (by decide), h.Q.fr hf (by decide) ht (by decide), h.B.fr ht (by decide), h.F.fr hf (by decide), h.M.fr rfl ht (by decide), h.iB.fr ht (by decide), h.iG.fr ht (by decide), h.iT.fr ht (by decide), h.iO.fr ht (by decide), h.iC.fr ht (by decide), h.iH.fr ht (by decide), h.iZ.fr ht (by decide), h.iL.fr ht (by decide), h.iR.fr ht (by decide), h.iX.fr ht (by decide), h.iU.fr ht (by decide), h.iD.fr ht (by decide), h.iK.fr ht (by decide), h.iY.fr ht (by decide), h.J.fr ht (by decide), h.GT.fr hf (by decide) ht (by decide), h.H.fr hf (by decide) ht (by decide)⟩
theorem SZ.b41 {X : Mem} {m z : Nat} {P : List Nat} {x : Nat} {N : Mem} {t : DB} (h : SZ X m z P x N t) {g : Nat} {v : Int32} : SZ X m z P x (sI N 11 g 9 v) (up t 41 g v) := by
  have hf : NF N (sI N 11 g 9 v) [11] := NF.rf.wI _ _ _ (by decide)
  have ht : TF t (up t 41 g v) [41] := TF.rf.wu _ _ (by decide)
  have hG := (h.G.wI 11 g 9 v (by decide)).tt ht (by decide)
  have hG1 : S_G1 (sI N 11 g 9 v) (up t 41 g v) := by
    intro g' hg' hs'
    obtain ⟨a1, a2, a3, a4, a5⟩ := h.G1 g' hg' hs'
    refine ⟨a1, ?_, ?_, a4, a5⟩
    · rw [sI_at, if_neg (by omega)]; exact a2
    · rw [sI_at, up_at]
      by_cases e : g' = g
      · simp [e]
      · simp [e, a3]
  exact ⟨h.I.fr hf (by decide) ht (by decide), h.R.fr hf (by decide) ht (by decide), h.N.fr hf (by decide) ht (by decide), h.K.fr hf (by decide) ht (by decide), h.S.fr hf (by decide) ht (by decide), h.E.fr rfl ht (by decide), h.W.fr hf (by decide) ht (by decide), h.P1.fr hf (by decide) ht (by decide), h.P2.fr hf (by decide) ht (by decide), hG, h.G0.fr hf (by decide) ht (by decide), hG1, h.G2.fr hf (by decide) ht (by decide), h.G7.fr hf (by decide) ht (by decide), h.T.fr hf (by decide) ht (by decide), h.U.fr hf (by decide) ht (by decide), h.C.fr hf (by decide) ht (by decide), h.V.fr hf (by decide) ht (by decide), h.O.fr hf (by decide) ht (by decide), h.A.fr hf (by decide) ht (by decide), h.Y.fr hf (by decide) ht (by decide), h.Q.fr hf (by decide) ht (by decide), h.B.fr ht (by decide), h.F.fr hf (by decide), h.M.fr rfl ht (by decide), h.iB.fr ht (by decide), h.iG.fr ht (by decide), h.iT.fr ht (by decide), h.iO.fr ht (by decide), h.iC.fr ht (by decide), h.iH.fr ht (by decide), h.iZ.fr ht (by decide), h.iL.fr ht (by decide), h.iR.fr ht (by decide), h.iX.fr ht (by decide), h.iU.fr ht (by decide), h.iD.fr ht (by decide), h.iK.fr ht (by decide), h.iY.fr ht (by decide), h.J.fr ht (by decide), h.GT.fr hf (by decide) ht (by decide), h.H.fr hf (by decide) ht (by decide)⟩
theorem SZ.tok {X : Mem} {m z : Nat} {P : List Nat} {x : Nat} {N : Mem} {t : DB} (h : SZ X m z P x N t) {g : Nat} {v : Int32} : SZ X m z P x (sI N 12 g 7 v) (up t 42 g v) := by
  have hf : NF N (sI N 12 g 7 v) [12] := NF.rf.wI _ _ _ (by decide)
  have ht : TF t (up t 42 g v) [42] := TF.rf.wu _ _ (by decide)
  have hG := (h.G.wI 12 g 7 v (by decide)).tt ht (by decide)
  have hG2 : S_G2 (sI N 12 g 7 v) (up t 42 g v) := by
    intro g' hg' hs'
    have a := h.G2 g' hg' hs'
    rw [sI_at, up_at]
    by_cases e : g' = g
    · simp [e]
    · simp [e, a]
  exact ⟨h.I.fr hf (by decide) ht (by decide), h.R.fr hf (by decide) ht (by decide), h.N.fr hf (by decide) ht (by decide), h.K.fr hf (by decide) ht (by decide), h.S.fr hf (by decide) ht (by decide), h.E.fr rfl ht (by decide), h.W.fr hf (by decide) ht (by decide), h.P1.fr hf (by decide) ht (by decide), h.P2.fr hf (by decide) ht (by decide), hG, h.G0.fr hf (by decide) ht (by decide), h.G1.fr hf (by decide) ht (by decide), hG2, h.G7.fr hf (by decide) ht (by decide), h.T.fr hf (by decide) ht (by decide), h.U.fr hf (by decide) ht (by decide), h.C.fr hf (by decide) ht (by decide), h.V.fr hf (by decide) ht (by decide), h.O.fr hf (by decide) ht (by decide), h.A.fr hf (by decide) ht (by decide), h.Y.fr hf (by decide) ht (by decide), h.Q.fr hf (by decide) ht (by decide), h.B.fr ht (by decide), h.F.fr hf (by decide), h.M.fr rfl ht (by decide), h.iB.fr ht (by decide), h.iG.fr ht (by decide), h.iT.fr ht (by decide), h.iO.fr ht (by decide), h.iC.fr ht (by decide), h.iH.fr ht (by decide), h.iZ.fr ht (by decide), h.iL.fr ht (by decide), h.iR.fr ht (by decide), h.iX.fr ht (by decide), h.iU.fr ht (by decide), h.iD.fr ht (by decide), h.iK.fr ht (by decide), h.iY.fr ht (by decide), h.J.fr ht (by decide), h.GT.fr hf (by decide) ht (by decide), h.H.fr hf (by decide) ht (by decide)⟩
theorem SZ.t77 {X : Mem} {m z : Nat} {P : List Nat} {x : Nat} {N : Mem} {t : DB} (h : SZ X m z P x N t) {p g : Nat} {w : Int32} (hw : w = 0 ∨ w = 1) (hg : t 65 p = nI g) (hs : t 31 g = 1) (hg2 : g < cn t 30) (hq : lvv t P x p → (t 75 p = 1 ∧ w = 0) ∨ (t 75 p = 0 ∧ w = 1)) : SZ X m z P x N (up t 77 p w) := by
  have hf : NF N N [] := NF.rf
  have ht : TF t (up t 77 p w) [77] := TF.rf.wu _ _ (by decide)
  have hQ : S_Q P x N (up t 77 p w) := by
    intro k hk hl
    have a := h.Q k hk hl
    refine ⟨a.1, fun g' e1 e2 => ⟨(a.2 g' e1 e2).1, fun e3 => ?_⟩⟩
    have b := (a.2 g' e1 e2).2 e3
    show (t 75 k = 1 ∧ up t 77 p w 77 k = 0 ∧ _) ∨ (t 75 k = 0 ∧ up t 77 p w 77 k = 1)
    rw [up_at]
    by_cases e : k = p
    · subst e
      simp only [and_self, if_true]
      rcases hq hl with ⟨c1, c2⟩ | ⟨c1, c2⟩
      · rcases b with ⟨-, -, b3⟩ | ⟨b1, -⟩
        · exact Or.inl ⟨c1, c2, b3⟩
        · rw [c1] at b1; exact absurd b1 (by decide)
      · exact Or.inr ⟨c1, c2⟩
    · rw [if_neg (fun q => e q.2)]; exact b
  have hH : I_H (up t 77 p w) := by
    intro c hc
    have a := h.iH c hc
    refine ⟨a.1, a.2.1, a.2.2.1, a.2.2.2.1, a.2.2.2.2.1, a.2.2.2.2.2.1, ?_, a.2.2.2.2.2.2.2⟩
    rw [up_at]
    by_cases e : c = p
    · rw [if_pos ⟨rfl, e⟩]; exact hw
    · rw [if_neg (fun q => e q.2)]; exact a.2.2.2.2.2.2.1
  have hZ : I_Z (up t 77 p w) := by
    intro c hc
    have a := h.iZ c hc
    refine ⟨fun g' hgl hg' => ?_, fun e1 => ?_⟩
    · obtain ⟨b1, b2, b3, b4, b5⟩ := a.1 g' hgl hg'
      refine ⟨b1, fun q => ?_, b3, b4, b5⟩
      obtain ⟨c1, c2⟩ := b2 q
      refine ⟨c1, ?_⟩
      rw [up_at]
      by_cases e : c = p
      · exfalso
        apply q
        have e1 : t 65 c = nI g' := hg'
        rw [e, hg] at e1
        have h24 := h.iB.2.2.2.1.2
        have hgl' : g' < cn t 30 := hgl
        show t 31 g' = 1
        rw [← (nI_eq (by omega) (by omega)).mp e1]; exact hs
      · rw [if_neg (fun q => e q.2)]; exact c2
    · obtain ⟨b1, b2, b3, b4, b5, b6, b7⟩ := a.2 e1
      refine ⟨b1, b2, b3, b4, ?_, b6, b7⟩
      rw [up_at]
      by_cases e : c = p
      · have e1' : t 65 c = -1 := e1
        rw [e, hg] at e1'
        have hcl : g < 2 ^ 31 := by have := h.iB.2.2.2.1.2; omega
        exact absurd e1' (fun z => nI_pos hcl (by rw [z]; decide))
      · rw [if_neg (fun q => e q.2)]; exact b5
  exact ⟨h.I.fr hf (by decide) ht (by decide), h.R.fr hf (by decide) ht (by decide), h.N.fr hf (by decide) ht (by decide), h.K.fr hf (by decide) ht (by decide), h.S.fr hf (by decide) ht (by decide), h.E.fr rfl ht (by decide), h.W.fr hf (by decide) ht (by decide), h.P1.fr hf (by decide) ht (by decide), h.P2.fr hf (by decide) ht (by decide), h.G.fr hf (by decide) ht (by decide), h.G0.fr hf (by decide) ht (by decide), h.G1.fr hf (by decide) ht (by decide), h.G2.fr hf (by decide) ht (by decide), h.G7.fr hf (by decide) ht (by decide), h.T.fr hf (by decide) ht (by decide), h.U.fr hf (by decide) ht (by decide), h.C.fr hf (by decide) ht (by decide), h.V.fr hf (by decide) ht (by decide), h.O.fr hf (by decide) ht (by decide), h.A.fr hf (by decide) ht (by decide), h.Y.fr hf (by decide) ht (by decide), hQ, h.B.fr ht (by decide), h.F.fr hf (by decide), h.M.fr rfl ht (by decide), h.iB.fr ht (by decide), h.iG.fr ht (by decide), h.iT.fr ht (by decide), h.iO.fr ht (by decide), h.iC.fr ht (by decide), hH, hZ, h.iL.fr ht (by decide), h.iR.fr ht (by decide), h.iX.fr ht (by decide), h.iU.fr ht (by decide), h.iD.fr ht (by decide), h.iK.fr ht (by decide), h.iY.fr ht (by decide), h.J.fr ht (by decide), h.GT.fr hf (by decide) ht (by decide), h.H.fr hf (by decide) ht (by decide)⟩
