set_option maxRecDepth 100000
theorem nI_m1 {g : Nat} (h : g < 2 ^ 31) : nI g ≠ -1 := fun z => nI_pos h (by rw [z]; decide)
theorem SZ.due {X : Mem} {m z : Nat} {P : List Nat} {x : Nat} {N : Mem} {t : DB} (h : SZ X m z P x N t) {c : Nat} {v : Int32} : SZ X m z P x (sI N 21 c 15 v) (up t 72 c v) := by
  have hf : NF N (sI N 21 c 15 v) [21] := NF.rf.wI _ _ _ (by decide)
  have ht : TF t (up t 72 c v) [72] := TF.rf.wu _ _ (by decide)
  have hI : S_I (sI N 21 c 15 v) (up t 72 c v) := h.I.wu (21, 15, 72, 61) (by decide) c v
  have hN := (h.N.wn 21 c 15 v (by decide)).fr (K := []) NF.rf (by decide) ht (by decide)
  have hR : S_R (sI N 21 c 15 v) (up t 72 c v) := h.R.fr (K := []) (N' := N) NF.rf (by decide) ht (by decide)
  have hC : S_C (sI N 21 c 15 v) (up t 72 c v) := by
    intro i hi
    obtain ⟨a1, a2, a3, a4⟩ := h.C i hi
    refine ⟨a1, a2, ?_, a4⟩
    rw [sI_at, if_neg (by omega)]; exact a3
  have hV : S_V (sI N 21 c 15 v) (up t 72 c v) := by
    intro i hi
    obtain ⟨a1, a2, a3, a4⟩ := h.V i hi
    refine ⟨a1, a2, a3, ?_⟩
    rw [sI_at, if_neg (by omega)]; exact a4
  have hQ : S_Q P x (sI N 21 c 15 v) (up t 72 c v) := by
    intro k hk hl
    have a := h.Q k hk hl
    refine ⟨?_, a.2⟩
    rw [sI_at, if_neg (by omega)]; exact a.1
  exact ⟨hI, hR, hN, h.K.fr hf (by decide) ht (by decide), h.S.fr hf (by decide) ht (by decide), h.E.fr rfl ht (by decide), h.W.fr hf (by decide) ht (by decide), h.P1.fr hf (by decide) ht (by decide), h.P2.fr hf (by decide) ht (by decide), h.G.fr hf (by decide) ht (by decide), h.G0.fr hf (by decide) ht (by decide), h.G1.fr hf (by decide) ht (by decide), h.G2.fr hf (by decide) ht (by decide), h.G7.fr hf (by decide) ht (by decide), h.T.fr hf (by decide) ht (by decide), h.U.fr hf (by decide) ht (by decide), hC, hV, h.O.fr hf (by decide) ht (by decide), h.A.fr hf (by decide) ht (by decide), h.Y.fr hf (by decide) ht (by decide), hQ, h.B.fr ht (by decide), h.F.fr hf (by decide), h.M.fr rfl ht (by decide), h.iB.fr ht (by decide), h.iG.fr ht (by decide), h.iT.fr ht (by decide), h.iO.fr ht (by decide), h.iC.fr ht (by decide), h.iH.fr ht (by decide), h.iZ.fr ht (by decide), h.iL.fr ht (by decide), h.iR.fr ht (by decide), h.iX.fr ht (by decide), h.iU.fr ht (by decide), h.iD.fr ht (by decide), h.iK.fr ht (by decide), h.iY.fr ht (by decide), h.J.fr ht (by decide), h.GT.fr hf (by decide) ht (by decide), h.H.fr hf (by decide) ht (by decide)⟩
/-- the state of a call of a retry -/
theorem SZ.paus {X : Mem} {m z : Nat} {P : List Nat} {x : Nat} {N : Mem} {t : DB} (h : SZ X m z P x N t) {c g : Nat} {v w : Int32} (hv : (v = 2 ∧ w = 1) ∨ (v = 0 ∧ w = 0)) (hg : g < cn t 30) (h65 : t 65 c = nI g) (hs : t 31 g = 4) (hc : c < cn t 61) (hn : w = 1 → ∃ n, t 73 c = nI n ∧ n < 6) : SZ X m z P x (sI N 21 c 14 v) (up t 76 c w) := by
  have hf : NF N (sI N 21 c 14 v) [21] := NF.rf.wI _ _ _ (by decide)
  have ht : TF t (up t 76 c w) [76] := TF.rf.wu _ _ (by decide)
  have hI : S_I (sI N 21 c 14 v) (up t 76 c w) := (h.I.wn 21 c 14 v (by decide)).wt 76 c w (by decide)
  have hN := (h.N.wn 21 c 14 v (by decide)).fr (K := []) NF.rf (by decide) ht (by decide)
  have hR : S_R (sI N 21 c 14 v) (up t 76 c w) := h.R.fr (K := []) (N' := N) NF.rf (by decide) ht (by decide)
  have hw : w = 0 ∨ w = 1 := by rcases hv with ⟨-, q⟩ | ⟨-, q⟩ <;> simp [q]
  have zz := (h.iZ c hc).1 g hg h65
  have h24 := h.iB.2.2.2.1.2
  have hC : S_C (sI N 21 c 14 v) (up t 76 c w) := by
    intro i hi
    obtain ⟨a1, a2, a3, a4⟩ := h.C i hi
    refine ⟨a1, a2, ?_, a4⟩
    rw [sI_at, if_neg (by omega)]; exact a3
  have hV : S_V (sI N 21 c 14 v) (up t 76 c w) := by
    intro i hi
    obtain ⟨a1, a2, a3, a4⟩ := h.V i hi
    refine ⟨a1, a2, a3, ?_⟩
    rw [sI_at, if_neg (by omega)]; exact a4
  have hQ : S_Q P x (sI N 21 c 14 v) (up t 76 c w) := by
    intro k hk hl
    have a := h.Q k hk hl
    refine ⟨?_, a.2⟩
    rw [sI_at]
    unfold stOf
    by_cases e : k = c
    · subst e
      have z1 := (zz.2.1 (by rw [hs]; decide)).1
      have z2 := (zz.2.2.2.1 (by rw [hs]; decide)).2
      show _ = if t 75 k = 1 then 1 else if up t 76 k w 76 k = 1 then 2 else if t 74 k < 0 then 0 else 3
      rw [if_pos ⟨rfl, rfl, rfl⟩, z1, z2, up_s]
      rcases hv with ⟨q1, q2⟩ | ⟨q1, q2⟩ <;> subst q1 q2 <;> decide
    · rw [if_neg (fun q => e q.2.1)]
      have := a.1
      unfold stOf at this
      show _ = if t 75 k = 1 then 1 else if up t 76 c w 76 k = 1 then 2 else if t 74 k < 0 then 0 else 3
      rw [up_n (fun q => e q.2)]
      exact this
  have hH : I_H (up t 76 c w) := by
    intro i hi
    have a := h.iH i hi
    refine ⟨a.1, a.2.1, a.2.2.1, a.2.2.2.1, a.2.2.2.2.1, ?_, a.2.2.2.2.2.2⟩
    rw [up_at]
    by_cases e : i = c
    · rw [if_pos ⟨rfl, e⟩]; exact hw
    · rw [if_neg (fun q => e q.2)]; exact a.2.2.2.2.2.1
  have hZ : I_Z (up t 76 c w) := by
    intro i hi
    have a := h.iZ i hi
    refine ⟨fun g' hgl hg' => ?_, fun e1 => ?_⟩
    · obtain ⟨b1, b2, b3, b4, b5⟩ := a.1 g' hgl hg'
      refine ⟨b1, b2, fun q => ?_, b4, b5⟩
      rw [up_at]
      by_cases e : i = c
      · exfalso
        apply q
        have e1 : t 65 i = nI g' := hg'
        rw [e, h65] at e1
        have hgl' : g' < cn t 30 := hgl
        show t 31 g' = 4
        rw [← (nI_eq (by omega) (by omega)).mp e1]; exact hs
      · rw [if_neg (fun q => e q.2)]; exact b3 q
    · obtain ⟨b1, b2, b3, b4, b5⟩ := a.2 e1
      refine ⟨b1, b2, b3, ?_, b5⟩
      rw [up_at]
      by_cases e : i = c
      · have e1' : t 65 i = -1 := e1
        rw [e, h65] at e1'
        exact absurd e1' (nI_m1 (by omega))
      · rw [if_neg (fun q => e q.2)]; exact b4
  have hD : I_D (up t 76 c w) := by
    intro k hk g' hg' e65
    obtain ⟨n, a1, a2, a3, a4, a5⟩ := h.iD k hk g' hg' e65
    refine ⟨n, a1, a2, a3, a4, fun q => ?_⟩
    by_cases e : k = c
    · subst e
      rw [up_s] at q
      obtain ⟨n', b1, b2⟩ := hn q
      have := (nI_eq (by omega) (by omega)).mp (a1.symm.trans b1)
      omega
    · rw [up_n (fun y => e y.2)] at q
      exact a5 q
  exact ⟨hI, hR, hN, h.K.fr hf (by decide) ht (by decide), h.S.fr hf (by decide) ht (by decide), h.E.fr rfl ht (by decide), h.W.fr hf (by decide) ht (by decide), h.P1.fr hf (by decide) ht (by decide), h.P2.fr hf (by decide) ht (by decide), h.G.fr hf (by decide) ht (by decide), h.G0.fr hf (by decide) ht (by decide), h.G1.fr hf (by decide) ht (by decide), h.G2.fr hf (by decide) ht (by decide), h.G7.fr hf (by decide) ht (by decide), h.T.fr hf (by decide) ht (by decide), h.U.fr hf (by decide) ht (by decide), hC, hV, h.O.fr hf (by decide) ht (by decide), h.A.fr hf (by decide) ht (by decide), h.Y.fr hf (by decide) ht (by decide), hQ, h.B.fr ht (by decide), h.F.fr hf (by decide), h.M.fr rfl ht (by decide), h.iB.fr ht (by decide), h.iG.fr ht (by decide), h.iT.fr ht (by decide), h.iO.fr ht (by decide), h.iC.fr ht (by decide), hH, hZ, h.iL.fr ht (by decide), h.iR.fr ht (by decide), h.iX.fr ht (by decide), h.iU.fr ht (by decide), hD, h.iK.fr ht (by decide), h.iY.fr ht (by decide), h.J.fr ht (by decide), h.GT.fr hf (by decide) ht (by decide), h.H.fr hf (by decide) ht (by decide)⟩
/-- what a failure lies over -/
theorem SZ.sup {X : Mem} {m z : Nat} {P : List Nat} {x : Nat} {N : Mem} {t : DB} (h : SZ X m z P x N t) {f v : Nat} (hv : v < cn t 23) : SZ X m z P x (sR N 22 f 6 (22, v)) (up t 29 f (nI v)) := by
  have hf : NF N (sR N 22 f 6 (22, v)) [22] := NF.rf.wR _ _ _ (by decide)
  have ht : TF t (up t 29 f (nI v)) [29] := TF.rf.wu _ _ (by decide)
  have h23 := h.iB.2.2.2.2.2.2.2.1.2
  have hR : S_R (sR N 22 f 6 (22, v)) (up t 29 f (nI v)) := by
    have := h.R.wu (22, 6, 22, 29, 23) (by decide) f (nI v)
    rw [rn_j (by omega)] at this
    exact this
  have hI : S_I (sR N 22 f 6 (22, v)) (up t 29 f (nI v)) := h.I.wt 29 f (nI v) (by decide)
  have hN : S_N (sR N 22 f 6 (22, v)) (up t 29 f (nI v)) := h.N.fr (K := []) (N' := N) NF.rf (by decide) ht (by decide)
  have hX : I_X (up t 29 f (nI v)) := by
    intro i hi
    obtain ⟨a1, a2, a3⟩ := h.iX i hi
    refine ⟨a1, a2, ?_⟩
    rw [up_at]
    by_cases e : i = f
    · rw [if_pos ⟨rfl, e⟩]; exact Or.inr ⟨v, hv, rfl⟩
    · rw [if_neg (fun q => e q.2)]; exact a3
  exact ⟨hI, hR, hN, h.K.fr hf (by decide) ht (by decide), h.S.fr hf (by decide) ht (by decide), h.E.fr rfl ht (by decide), h.W.fr hf (by decide) ht (by decide), h.P1.fr hf (by decide) ht (by decide), h.P2.fr hf (by decide) ht (by decide), h.G.fr hf (by decide) ht (by decide), h.G0.fr hf (by decide) ht (by decide), h.G1.fr hf (by decide) ht (by decide), h.G2.fr hf (by decide) ht (by decide), h.G7.fr hf (by decide) ht (by decide), h.T.fr hf (by decide) ht (by decide), h.U.fr hf (by decide) ht (by decide), h.C.fr hf (by decide) ht (by decide), h.V.fr hf (by decide) ht (by decide), h.O.fr hf (by decide) ht (by decide), h.A.fr hf (by decide) ht (by decide), h.Y.fr hf (by decide) ht (by decide), h.Q.fr hf (by decide) ht (by decide), h.B.fr ht (by decide), h.F.fr hf (by decide), h.M.fr rfl ht (by decide), h.iB.fr ht (by decide), h.iG.fr ht (by decide), h.iT.fr ht (by decide), h.iO.fr ht (by decide), h.iC.fr ht (by decide), h.iH.fr ht (by decide), h.iZ.fr ht (by decide), h.iL.fr ht (by decide), h.iR.fr ht (by decide), hX, h.iU.fr ht (by decide), h.iD.fr ht (by decide), h.iK.fr ht (by decide), h.iY.fr ht (by decide), h.J.fr ht (by decide), h.GT.fr hf (by decide) ht (by decide), h.H.fr hf (by decide) ht (by decide)⟩
theorem SZ.cau {X : Mem} {m z : Nat} {P : List Nat} {x : Nat} {N : Mem} {t : DB} (h : SZ X m z P x N t) {f v : Nat} (hv : v < cn t 23) : SZ X m z P x (sR N 22 f 5 (22, v)) (up t 28 f (nI v)) := by
  have hf : NF N (sR N 22 f 5 (22, v)) [22] := NF.rf.wR _ _ _ (by decide)
  have ht : TF t (up t 28 f (nI v)) [28] := TF.rf.wu _ _ (by decide)
  have h23 := h.iB.2.2.2.2.2.2.2.1.2
  have hR : S_R (sR N 22 f 5 (22, v)) (up t 28 f (nI v)) := by
    have := h.R.wu (22, 5, 22, 28, 23) (by decide) f (nI v)
    rw [rn_j (by omega)] at this
    exact this
  have hI : S_I (sR N 22 f 5 (22, v)) (up t 28 f (nI v)) := h.I.wt 28 f (nI v) (by decide)
  have hN : S_N (sR N 22 f 5 (22, v)) (up t 28 f (nI v)) := h.N.fr (K := []) (N' := N) NF.rf (by decide) ht (by decide)
  have hX : I_X (up t 28 f (nI v)) := by
    intro i hi
    obtain ⟨a1, a2, a3⟩ := h.iX i hi
    refine ⟨a1, ?_, a3⟩
    rw [up_at]
    by_cases e : i = f
    · rw [if_pos ⟨rfl, e⟩]; exact Or.inr ⟨v, hv, rfl⟩
    · rw [if_neg (fun q => e q.2)]; exact a2
  exact ⟨hI, hR, hN, h.K.fr hf (by decide) ht (by decide), h.S.fr hf (by decide) ht (by decide), h.E.fr rfl ht (by decide), h.W.fr hf (by decide) ht (by decide), h.P1.fr hf (by decide) ht (by decide), h.P2.fr hf (by decide) ht (by decide), h.G.fr hf (by decide) ht (by decide), h.G0.fr hf (by decide) ht (by decide), h.G1.fr hf (by decide) ht (by decide), h.G2.fr hf (by decide) ht (by decide), h.G7.fr hf (by decide) ht (by decide), h.T.fr hf (by decide) ht (by decide), h.U.fr hf (by decide) ht (by decide), h.C.fr hf (by decide) ht (by decide), h.V.fr hf (by decide) ht (by decide), h.O.fr hf (by decide) ht (by decide), h.A.fr hf (by decide) ht (by decide), h.Y.fr hf (by decide) ht (by decide), h.Q.fr hf (by decide) ht (by decide), h.B.fr ht (by decide), h.F.fr hf (by decide), h.M.fr rfl ht (by decide), h.iB.fr ht (by decide), h.iG.fr ht (by decide), h.iT.fr ht (by decide), h.iO.fr ht (by decide), h.iC.fr ht (by decide), h.iH.fr ht (by decide), h.iZ.fr ht (by decide), h.iL.fr ht (by decide), h.iR.fr ht (by decide), hX, h.iU.fr ht (by decide), h.iD.fr ht (by decide), h.iK.fr ht (by decide), h.iY.fr ht (by decide), h.J.fr ht (by decide), h.GT.fr hf (by decide) ht (by decide), h.H.fr hf (by decide) ht (by decide)⟩
/-- a memory keeps an answer -/
theorem SZ.memo {X : Mem} {m z : Nat} {P : List Nat} {x : Nat} {N : Mem} {t : DB} (h : SZ X m z P x N t) {g s : Nat} {a b tm : Int32} (hg : g < cn t 30) (hs : s < 8) (hb : b = 0 ∨ b = 1) (htm : 0 ≤ tm) : SZ X m z P x (sI (sI (sI N 46 g s a) 47 g s tm) 48 g s b) (up (up (up t 44 (8 * g + s) a) 45 (8 * g + s) tm) 46 (8 * g + s) b) := by
  have hf : NF N (sI (sI (sI N 46 g s a) 47 g s tm) 48 g s b) [46, 47, 48] := ((NF.rf.wI _ _ _ (by decide)).wI _ _ _ (by decide)).wI _ _ _ (by decide)
  have ht : TF t (up (up (up t 44 (8 * g + s) a) 45 (8 * g + s) tm) 46 (8 * g + s) b) [44, 45, 46] := ((TF.rf.wu _ _ (by decide)).wu _ _ (by decide)).wu _ _ (by decide)
  have hG7 : S_G7 (sI (sI (sI N 46 g s a) 47 g s tm) 48 g s b) (up (up (up t 44 (8 * g + s) a) 45 (8 * g + s) tm) 46 (8 * g + s) b) := by
    intro g' hg' hs'
    obtain ⟨a1, a2, a3, a4, a5, a6, a7⟩ := h.G7 g' hg' hs'
    refine ⟨a1, a2, a3, a4, a5, a6, fun s' hs' => ?_⟩
    have i46 : (sI (sI (sI N 46 g s a) 47 g s tm) 48 g s b).1 46 g' s' = if g' = g ∧ s' = s then a else N.1 46 g' s' := by simp [sI]
    have i47 : (sI (sI (sI N 46 g s a) 47 g s tm) 48 g s b).1 47 g' s' = if g' = g ∧ s' = s then tm else N.1 47 g' s' := by simp [sI]
    have i48 : (sI (sI (sI N 46 g s a) 47 g s tm) 48 g s b).1 48 g' s' = if g' = g ∧ s' = s then b else N.1 48 g' s' := by simp [sI]
    have j44 : (up (up (up t 44 (8 * g + s) a) 45 (8 * g + s) tm) 46 (8 * g + s) b) 44 (8 * g' + s') = if g' = g ∧ s' = s then a else t 44 (8 * g' + s') := by
      rw [up_at, if_neg (by omega), up_at, if_neg (by omega), up_at]
      by_cases e : g' = g ∧ s' = s
      · rw [if_pos ⟨rfl, by rw [e.1, e.2]⟩, if_pos e]
      · rw [if_neg (by omega), if_neg e]
    have j45 : (up (up (up t 44 (8 * g + s) a) 45 (8 * g + s) tm) 46 (8 * g + s) b) 45 (8 * g' + s') = if g' = g ∧ s' = s then tm else t 45 (8 * g' + s') := by
      rw [up_at, if_neg (by omega), up_at]
      by_cases e : g' = g ∧ s' = s
      · rw [if_pos ⟨rfl, by rw [e.1, e.2]⟩, if_pos e]
      · rw [if_neg (by omega), if_neg e, up_at, if_neg (by omega)]
    have j46 : (up (up (up t 44 (8 * g + s) a) 45 (8 * g + s) tm) 46 (8 * g + s) b) 46 (8 * g' + s') = if g' = g ∧ s' = s then b else t 46 (8 * g' + s') := by
      rw [up_at]
      by_cases e : g' = g ∧ s' = s
      · rw [if_pos ⟨rfl, by rw [e.1, e.2]⟩, if_pos e]
      · rw [if_neg (by omega), if_neg e, up_at, if_neg (by omega), up_at, if_neg (by omega)]
    rw [i46, i47, i48, j44, j45, j46]
    by_cases e : g' = g ∧ s' = s
    · simp only [if_pos e]
      exact ⟨trivial, Or.inr ⟨htm, trivial, trivial, hb⟩⟩
    · simp only [if_neg e]
      exact a7 s' hs'
  exact ⟨h.I.fr hf (by decide) ht (by decide), h.R.fr hf (by decide) ht (by decide), h.N.fr hf (by decide) ht (by decide), h.K.fr hf (by decide) ht (by decide), h.S.fr hf (by decide) ht (by decide), h.E.fr rfl ht (by decide), h.W.fr hf (by decide) ht (by decide), h.P1.fr hf (by decide) ht (by decide), h.P2.fr hf (by decide) ht (by decide), h.G.fr hf (by decide) ht (by decide), h.G0.fr hf (by decide) ht (by decide), h.G1.fr hf (by decide) ht (by decide), h.G2.fr hf (by decide) ht (by decide), hG7, h.T.fr hf (by decide) ht (by decide), h.U.fr hf (by decide) ht (by decide), h.C.fr hf (by decide) ht (by decide), h.V.fr hf (by decide) ht (by decide), h.O.fr hf (by decide) ht (by decide), h.A.fr hf (by decide) ht (by decide), h.Y.fr hf (by decide) ht (by decide), h.Q.fr hf (by decide) ht (by decide), h.B.fr ht (by decide), h.F.fr hf (by decide), h.M.fr rfl ht (by decide), h.iB.fr ht (by decide), h.iG.fr ht (by decide), h.iT.fr ht (by decide), h.iO.fr ht (by decide), h.iC.fr ht (by decide), h.iH.fr ht (by decide), h.iZ.fr ht (by decide), h.iL.fr ht (by decide), h.iR.fr ht (by decide), h.iX.fr ht (by decide), h.iU.fr ht (by decide), h.iD.fr ht (by decide), h.iK.fr ht (by decide), h.iY.fr ht (by decide), h.J.fr ht (by decide), h.GT.fr hf (by decide) ht (by decide), h.H.fr hf (by decide) ht (by decide)⟩
