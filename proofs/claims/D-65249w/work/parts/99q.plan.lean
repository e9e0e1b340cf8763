set_option maxRecDepth 100000
/-! plans -/
theorem SZ.p98 {X : Mem} {m z : Nat} {P : List Nat} {x : Nat} {N : Mem} {t : DB} (h : SZ X m z P x N t) {p : Nat} {v : Int32} : SZ X m z P x (sI N 24 p 8 v) (up t 98 p v) := by
  have hf : NF N (sI N 24 p 8 v) [24] := NF.rf.wI _ _ _ (by decide)
  have ht : TF t (up t 98 p v) [98] := TF.rf.wu _ _ (by decide)
  have hI : S_I (sI N 24 p 8 v) (up t 98 p v) := h.I.wu (24, 8, 98, 89) (by decide) p v
  have hY : S_Y (sI N 24 p 8 v) (up t 98 p v) := fun p hp => h.Y p hp
  exact ⟨hI, h.R.fr hf (by decide) ht (by decide), h.N.fr hf (by decide) ht (by decide), h.K.fr hf (by decide) ht (by decide), h.S.fr hf (by decide) ht (by decide), h.E.fr rfl ht (by decide), h.W.fr hf (by decide) ht (by decide), h.P1.fr hf (by decide) ht (by decide), h.P2.fr hf (by decide) ht (by decide), h.G.fr hf (by decide) ht (by decide), h.G0.fr hf (by decide) ht (by decide), h.G1.fr hf (by decide) ht (by decide), h.G2.fr hf (by decide) ht (by decide), h.G7.fr hf (by decide) ht (by decide), h.T.fr hf (by decide) ht (by decide), h.U.fr hf (by decide) ht (by decide), h.C.fr hf (by decide) ht (by decide), h.V.fr hf (by decide) ht (by decide), h.O.fr hf (by decide) ht (by decide), h.A.fr hf (by decide) ht (by decide), hY, h.Q.fr hf (by decide) ht (by decide), h.B.fr ht (by decide), h.F.fr hf (by decide), h.M.fr rfl ht (by decide), h.iB.fr ht (by decide), h.iG.fr ht (by decide), h.iT.fr ht (by decide), h.iO.fr ht (by decide), h.iC.fr ht (by decide), h.iH.fr ht (by decide), h.iZ.fr ht (by decide), h.iL.fr ht (by decide), h.iR.fr ht (by decide), h.iX.fr ht (by decide), h.iU.fr ht (by decide), h.iD.fr ht (by decide), h.iK.fr ht (by decide), h.iY.fr ht (by decide), h.J.fr ht (by decide), h.GT.fr hf (by decide) ht (by decide), h.H.fr hf (by decide) ht (by decide)⟩
theorem SZ.p99 {X : Mem} {m z : Nat} {P : List Nat} {x : Nat} {N : Mem} {t : DB} (h : SZ X m z P x N t) {p : Nat} {v : Int32} : SZ X m z P x (sI N 24 p 9 v) (up t 99 p v) := by
  have hf : NF N (sI N 24 p 9 v) [24] := NF.rf.wI _ _ _ (by decide)
  have ht : TF t (up t 99 p v) [99] := TF.rf.wu _ _ (by decide)
  have hI : S_I (sI N 24 p 9 v) (up t 99 p v) := h.I.wu (24, 9, 99, 89) (by decide) p v
  have hY : S_Y (sI N 24 p 9 v) (up t 99 p v) := fun p hp => h.Y p hp
  exact ⟨hI, h.R.fr hf (by decide) ht (by decide), h.N.fr hf (by decide) ht (by decide), h.K.fr hf (by decide) ht (by decide), h.S.fr hf (by decide) ht (by decide), h.E.fr rfl ht (by decide), h.W.fr hf (by decide) ht (by decide), h.P1.fr hf (by decide) ht (by decide), h.P2.fr hf (by decide) ht (by decide), h.G.fr hf (by decide) ht (by decide), h.G0.fr hf (by decide) ht (by decide), h.G1.fr hf (by decide) ht (by decide), h.G2.fr hf (by decide) ht (by decide), h.G7.fr hf (by decide) ht (by decide), h.T.fr hf (by decide) ht (by decide), h.U.fr hf (by decide) ht (by decide), h.C.fr hf (by decide) ht (by decide), h.V.fr hf (by decide) ht (by decide), h.O.fr hf (by decide) ht (by decide), h.A.fr hf (by decide) ht (by decide), hY, h.Q.fr hf (by decide) ht (by decide), h.B.fr ht (by decide), h.F.fr hf (by decide), h.M.fr rfl ht (by decide), h.iB.fr ht (by decide), h.iG.fr ht (by decide), h.iT.fr ht (by decide), h.iO.fr ht (by decide), h.iC.fr ht (by decide), h.iH.fr ht (by decide), h.iZ.fr ht (by decide), h.iL.fr ht (by decide), h.iR.fr ht (by decide), h.iX.fr ht (by decide), h.iU.fr ht (by decide), h.iD.fr ht (by decide), h.iK.fr ht (by decide), h.iY.fr ht (by decide), h.J.fr ht (by decide), h.GT.fr hf (by decide) ht (by decide), h.H.fr hf (by decide) ht (by decide)⟩
theorem SZ.p100 {X : Mem} {m z : Nat} {P : List Nat} {x : Nat} {N : Mem} {t : DB} (h : SZ X m z P x N t) {p : Nat} {v : Int32} : SZ X m z P x (sI N 24 p 10 v) (up t 100 p v) := by
  have hf : NF N (sI N 24 p 10 v) [24] := NF.rf.wI _ _ _ (by decide)
  have ht : TF t (up t 100 p v) [100] := TF.rf.wu _ _ (by decide)
  have hI : S_I (sI N 24 p 10 v) (up t 100 p v) := h.I.wu (24, 10, 100, 89) (by decide) p v
  have hY : S_Y (sI N 24 p 10 v) (up t 100 p v) := fun p hp => h.Y p hp
  exact ⟨hI, h.R.fr hf (by decide) ht (by decide), h.N.fr hf (by decide) ht (by decide), h.K.fr hf (by decide) ht (by decide), h.S.fr hf (by decide) ht (by decide), h.E.fr rfl ht (by decide), h.W.fr hf (by decide) ht (by decide), h.P1.fr hf (by decide) ht (by decide), h.P2.fr hf (by decide) ht (by decide), h.G.fr hf (by decide) ht (by decide), h.G0.fr hf (by decide) ht (by decide), h.G1.fr hf (by decide) ht (by decide), h.G2.fr hf (by decide) ht (by decide), h.G7.fr hf (by decide) ht (by decide), h.T.fr hf (by decide) ht (by decide), h.U.fr hf (by decide) ht (by decide), h.C.fr hf (by decide) ht (by decide), h.V.fr hf (by decide) ht (by decide), h.O.fr hf (by decide) ht (by decide), h.A.fr hf (by decide) ht (by decide), hY, h.Q.fr hf (by decide) ht (by decide), h.B.fr ht (by decide), h.F.fr hf (by decide), h.M.fr rfl ht (by decide), h.iB.fr ht (by decide), h.iG.fr ht (by decide), h.iT.fr ht (by decide), h.iO.fr ht (by decide), h.iC.fr ht (by decide), h.iH.fr ht (by decide), h.iZ.fr ht (by decide), h.iL.fr ht (by decide), h.iR.fr ht (by decide), h.iX.fr ht (by decide), h.iU.fr ht (by decide), h.iD.fr ht (by decide), h.iK.fr ht (by decide), h.iY.fr ht (by decide), h.J.fr ht (by decide), h.GT.fr hf (by decide) ht (by decide), h.H.fr hf (by decide) ht (by decide)⟩
theorem SZ.p101 {X : Mem} {m z : Nat} {P : List Nat} {x : Nat} {N : Mem} {t : DB} (h : SZ X m z P x N t) {p : Nat} {v : Int32} : SZ X m z P x (sI N 24 p 11 v) (up t 101 p v) := by
  have hf : NF N (sI N 24 p 11 v) [24] := NF.rf.wI _ _ _ (by decide)
  have ht : TF t (up t 101 p v) [101] := TF.rf.wu _ _ (by decide)
  have hI : S_I (sI N 24 p 11 v) (up t 101 p v) := h.I.wu (24, 11, 101, 89) (by decide) p v
  have hY : S_Y (sI N 24 p 11 v) (up t 101 p v) := fun p hp => h.Y p hp
  exact ⟨hI, h.R.fr hf (by decide) ht (by decide), h.N.fr hf (by decide) ht (by decide), h.K.fr hf (by decide) ht (by decide), h.S.fr hf (by decide) ht (by decide), h.E.fr rfl ht (by decide), h.W.fr hf (by decide) ht (by decide), h.P1.fr hf (by decide) ht (by decide), h.P2.fr hf (by decide) ht (by decide), h.G.fr hf (by decide) ht (by decide), h.G0.fr hf (by decide) ht (by decide), h.G1.fr hf (by decide) ht (by decide), h.G2.fr hf (by decide) ht (by decide), h.G7.fr hf (by decide) ht (by decide), h.T.fr hf (by decide) ht (by decide), h.U.fr hf (by decide) ht (by decide), h.C.fr hf (by decide) ht (by decide), h.V.fr hf (by decide) ht (by decide), h.O.fr hf (by decide) ht (by decide), h.A.fr hf (by decide) ht (by decide), hY, h.Q.fr hf (by decide) ht (by decide), h.B.fr ht (by decide), h.F.fr hf (by decide), h.M.fr rfl ht (by decide), h.iB.fr ht (by decide), h.iG.fr ht (by decide), h.iT.fr ht (by decide), h.iO.fr ht (by decide), h.iC.fr ht (by decide), h.iH.fr ht (by decide), h.iZ.fr ht (by decide), h.iL.fr ht (by decide), h.iR.fr ht (by decide), h.iX.fr ht (by decide), h.iU.fr ht (by decide), h.iD.fr ht (by decide), h.iK.fr ht (by decide), h.iY.fr ht (by decide), h.J.fr ht (by decide), h.GT.fr hf (by decide) ht (by decide), h.H.fr hf (by decide) ht (by decide)⟩
theorem plan_q {n : Nat} (hn : 102 ≤ n) {S : Nat → Prop} {X : Mem} {m : Nat} {N : Mem} {t : DB} {p : Nat} (q : QS S X m N t) (hp : p < cn t 89) : cq (n + 14) mX19_pass [.inr (24, p)] N (fun r N' => r = none ∧ ∃ t', QS S X m N' t' ∧ TF t t' (RC ++ OC ++ [98, 99, 100, 101]) ∧ ∀ Q, Q t' → w_planDue (nI p) t Q) := by
  have q0 := q
  obtain ⟨hS, hW, hV, h88⟩ := q
  have h12 : cn t 89 ≤ 12 := hS.iB.2.2.2.2.2.2.2.2.2.1.2
  have b50 := hS.iB.2.2.2.2.2.1
  have h8 : cn t 1 ≤ 8 := hS.iB.1.2
  have h10 : cn t 47 ≤ 10 := hS.iB.2.2.2.2.1.2
  have vp : vp_in (nI p) 12 := vp_in_nI (by omega) (by decide)
  have cp : (nI p).toNatClampNeg = p := nI_clamp (by omega)
  obtain ⟨⟨T, hT, e90⟩, ⟨s, hs, e91⟩, ⟨a, ha, e92⟩, ⟨v, hv, e93⟩, ⟨e, he1, he2, e94⟩, -⟩ := hS.iY.2 p hp
  have I : ∀ q ∈ TI, q.2.2.2 = 89 → N.1 q.1 p q.2.1 = t q.2.2.1 p := fun q hq e => hS.I q hq p (by rw [e]; exact hp)
  have n0 : N.1 24 p 0 = nI T := (I (24, 0, 90, 89) (by decide) rfl).trans e90
  have n1 : N.1 24 p 1 = nI s := (I (24, 1, 91, 89) (by decide) rfl).trans e91
  have n2 : N.1 24 p 2 = nI a := (I (24, 2, 92, 89) (by decide) rfl).trans e92
  have n3 : N.1 24 p 3 = nI v := (I (24, 3, 93, 89) (by decide) rfl).trans e93
  have n4 : N.1 24 p 4 = t 94 p := I (24, 4, 94, 89) (by decide) rfl
  have n5 : N.1 24 p 5 = t 95 p := I (24, 5, 95, 89) (by decide) rfl
  have n6 : N.1 24 p 6 = t 96 p := I (24, 6, 96, 89) (by decide) rfl
  have n7 : N.1 24 p 7 = t 97 p := I (24, 7, 97, 89) (by decide) rfl
  have n10 : N.1 24 p 10 = t 100 p := I (24, 10, 100, 89) (by decide) rfl
  have n11 : N.1 24 p 11 = t 101 p := I (24, 11, 101, 89) (by decide) rfl
  have n12 : N.1 24 p 12 = t 102 p := I (24, 12, 102, 89) (by decide) rfl
  have n13 : N.2.1 24 p 13 = (1, 0) := hS.1.Y p hp
  have tm : N.1 1 0 0 = t 0 0 := hS.W.2.1
  have w2 : N.2.1 1 0 2 = (30, 2) := hS.W.1 2 (by decide) (by decide)
  have w8 : N.2.1 1 0 8 = (30, 8) := hS.W.1 8 (by decide) (by decide)
  have s2 : N.1 30 2 0 = nI (cn t 1) := (hS.S (2, 1, 0) (by decide)).trans hS.iB.1.1
  have s8 : N.1 30 8 0 = nI (cn t 50) := (hS.S (8, 50, 0) (by decide)).trans b50.1
  have k2 : N.2.1 30 2 s = (3, s) := hS.K (2, 3, 1) (by decide) s hs
  have l2 : N.1 3 s 2 = t 2 s := hS.I (3, 2, 2, 1) (by decide) s hs
  have cs : (nI s).toNatClampNeg = s := nI_clamp (by omega)
  have vs : vp_in (nI s) 8 := vp_in_nI (by omega) (by decide)
  have n94 : ¬ t 94 p = 0 := fun y => by
    have : e = 0 := (nI_eq (by omega) (by omega)).mp (e94.symm.trans (show t 94 p = nI 0 from y))
    omega
  have tf : ∀ {t' : DB} {C : List Nat}, TF t t' C → (∀ c ∈ C, c ∈ RC ++ OC ++ [98, 99, 100, 101]) → TF t t' (RC ++ OC ++ [98, 99, 100, 101]) := fun h hC f hf => h f (fun y => hf (hC f y))
  show cq (n + 3 + 11) mX19_pass [.inr (24, p)] N _
  refine sv_X19_pass (d := n + 3) (Q := fun N' => ∃ t', QS S X m N' t' ∧ TF t t' (RC ++ OC ++ [98, 99, 100, 101]) ∧ ∀ Q, Q t' → w_planDue (nI p) t Q) (fun N' w => ⟨rfl, w⟩) ?_
  unfold v_X19_pass
  refine ⟨rfl, fun y => ?_, fun y => ⟨rfl, fun e1 ee1 => ?_⟩⟩
  · have y' : ¬ t 102 p = 0 := fun v => y (n12.trans v)
    exact ⟨t, q0, TF.rf, fun Q hQ => by unfold w_planDue; rw [cp]; exact ⟨vp, fun _ => hQ, fun v => absurd v y'⟩⟩
  have y' : t 102 p = 0 := n12.symm.trans y
  have q1 : e1 = (1, 0) := ee1.trans n13
  subst q1
  refine ⟨rfl, rfl, rfl, fun v => n94 (n4.symm.trans v), ?_⟩
  simp only [tm, n4, n7, n5, n6, n1, cs]
  refine ⟨fun yr => ⟨rfl, fun e2 ee2 => ?_⟩, fun yr => ?_⟩
  rotate_left
  · exact ⟨t, q0, TF.rf, fun Q hQ => by unfold w_planDue; rw [cp]; exact ⟨vp, fun v => absurd y' v, fun _ => ⟨vp, vp, n94, fun v => absurd v yr, fun _ => hQ⟩⟩⟩
  have q2 : e2 = (1, 0) := ee2.trans n13
  subst q2
  refine ⟨rfl, fun e3 ee3 => ?_⟩
  have q3 : e3 = (30, 2) := ee3.trans w2
  subst q3
  refine ⟨rfl, ⟨by decide, by decide⟩, ⟨nI_pos (by omega), by show nI s < N.1 30 2 0; rw [s2]; exact nI_lt hs (by omega)⟩, fun e4 ee4 => ?_⟩
  have q4 : e4 = (3, s) := ee4.trans k2
  subst q4
  refine ⟨rfl, rfl, rfl, rfl, ?_⟩
  have mi : ¬ (¬ t 2 s < t 95 p ∧ t 2 s ≤ t 96 p) → ∀ Q : DB → Prop, Q (up t 101 p (t 101 p + 1)) → w_planDue (nI p) t Q := fun hno Q hQ => by
    unfold w_planDue w_planDue_63
    simp only [cp]
    refine ⟨vp, fun v => absurd y' v, fun _ => ⟨vp, vp, n94, fun _ => ⟨vp, by rw [e91]; exact vs, fun x1 ex1 => ?_⟩, fun v => absurd yr v⟩⟩
    rw [e91, cs] at ex1
    subst ex1
    refine ⟨vp, fun _ => ⟨vp, vp, fun t1 e1 => ?_⟩, fun v1 => ⟨vp, fun v2 => absurd ⟨v1, v2⟩ hno, fun _ => ⟨vp, vp, fun t1 e1 => ?_⟩⟩⟩
    · rw [e1]; exact hQ
    · rw [e1]; exact hQ
  have out : ¬ (¬ t 2 s < t 95 p ∧ t 2 s ≤ t 96 p) → ∃ t', QS S X m (sI N 24 p 11 (N.1 24 p 11 + 1)) t' ∧ TF t t' (RC ++ OC ++ [98, 99, 100, 101]) ∧ ∀ Q, Q t' → w_planDue (nI p) t Q := fun hno => by
    refine ⟨up t 101 p (t 101 p + 1), ?_, tf (TF.rf.wu (C := [101]) _ _ (by decide)) (by decide), mi hno⟩
    rw [n11]
    exact q0.tf hS.1.p101 (TF.rf.wu (C := [101]) _ _ (by decide)) (by decide)
  show v_X0_in (N.1 3 s 2) (t 95 p) (t 96 p) N _
  rw [l2]
  refine ⟨fun z1 => ⟨fun v => absurd rfl v, fun _ => ⟨rfl, rfl, fun M1 g1 => ?_⟩⟩, fun z1 => ⟨fun z2 => ⟨fun v => absurd rfl v, fun _ => ⟨rfl, rfl, fun M1 g1 => ?_⟩⟩, fun z2 => ⟨fun _ => ⟨rfl, fun e7 ee7 => ?_⟩, fun v => absurd v (by decide)⟩⟩⟩
  · subst g1
    exact out (fun v => v.1 z1)
  · subst g1
    exact out (fun v => absurd v.2 (Int32.not_le.mpr z2))
  have z2' : t 2 s ≤ t 96 p := Int32.not_lt.mp z2
  have q7 : e7 = (1, 0) := ee7.trans n13
  subst q7
  refine ⟨rfl, fun e8 ee8 => ?_⟩
  have q8 : e8 = (30, 8) := ee8.trans w8
  subst q8
  refine ⟨⟨by decide, by decide⟩, fun z3 => ?_, fun z3 => ⟨rfl, rfl, fun M1 g1 => ?_⟩⟩
  · have z3' : ¬ t 50 0 = 60 := fun v => z3 (by show N.1 30 8 0 = 60; rw [s8, ← b50.1]; exact v)
    have h60 : cn t 50 < 60 := by
      rcases Nat.lt_or_ge (cn t 50) 60 with v | v
      · exact v
      · exact absurd (by rw [b50.1, show cn t 50 = 60 from Nat.le_antisymm b50.2 v]; rfl) z3'
    refine ⟨rfl, fun e9 ee9 => ?_⟩
    have q9 : e9 = (1, 0) := ee9.trans n13
    subst q9
    refine ⟨rfl, rfl, rfl, rfl, rfl, ?_⟩
    show cq (n + 3 + 10) mX0_begins [.inr (1, 0), .inl (N.1 24 p 0), .inl (N.1 24 p 1), .inl (N.1 24 p 2), .inl (N.1 24 p 3), .inl 0] N _
    rw [n0, n1, n2, n3]
    obtain ⟨k, hk⟩ : ∃ k, n + 3 + 10 = k + 15 := ⟨n - 2, by omega⟩
    rw [hk]
    refine (made_c (n := k) (by omega) q0 hT hs ha hv (x5 := 0) (by decide) h60).mono ?_
    rintro rr N' ⟨hr, t', u1, u2, u3⟩
    refine ⟨nI (cn t 50), hr, rfl, fun M12 g12 => ⟨rfl, rfl, fun M13 g13 => ?_⟩⟩
    have hp' : p < cn t' 89 := by rw [u2.cn (by decide)]; exact hp
    have m8 : N'.1 24 p 8 = t' 98 p := u1.1.I (24, 8, 98, 89) (by decide) p hp'
    have r1 := u1.tf (u1.1.1.p99 (p := p) (v := nI (cn t 50))) (TF.rf.wu (C := [99]) _ _ (by decide)) (by decide)
    have r2 := r1.tf (r1.1.1.p98 (p := p) (v := t' 98 p + 1)) (TF.rf.wu (C := [98]) _ _ (by decide)) (by decide)
    have e12 : M12 = sI N' 24 p 9 (nI (cn t 50)) := g12
    subst e12
    have e13 : M13 = sI (sI N' 24 p 9 (nI (cn t 50))) 24 p 8 (t' 98 p + 1) := by
      rw [g13]
      show sI _ 24 p 8 ((sI N' 24 p 9 (nI (cn t 50))).1 24 p 8 + 1) = _
      rw [sI_ne (by simp), m8]
    subst e13
    refine ⟨up (up t' 99 p (nI (cn t 50))) 98 p (t' 98 p + 1), r2, ?_, fun Q hQ => ?_⟩
    · intro f hf
      have f1 : f ≠ 98 ∧ f ≠ 99 ∧ f ∉ RC ++ OC := ⟨fun e => hf (by rw [e]; decide), fun e => hf (by rw [e]; decide), fun y => hf (List.mem_append_left _ y)⟩
      funext i
      rw [up_f f1.1, up_f f1.2.1, u2 f f1.2.2]
    · unfold w_planDue w_planDue_63
      simp only [cp]
      refine ⟨vp, fun v => absurd y' v, fun _ => ⟨vp, vp, n94, fun _ => ⟨vp, by rw [e91]; exact vs, fun x1 ex1 => ?_⟩, fun v => absurd yr v⟩⟩
      rw [e91, cs] at ex1
      subst ex1
      refine ⟨vp, fun v => absurd v z1, fun v1 => ⟨vp, fun v2 => ⟨fun _ => ⟨vp, vp, vp, vp, ?_⟩, fun v => absurd v z3'⟩, fun v => absurd z2' v⟩⟩
      rw [e90, e91, e92, e93]
      refine u3 _ ⟨vp, fun t4 e4 => ⟨vp, vp, fun t5 e5 => ?_⟩⟩
      subst e4
      rw [show up t' 99 p (nI (cn t 50)) 98 p = t' 98 p from up_f (by decide)] at e5
      subst e5
      exact hQ
  · have z3' : t 50 0 = 60 := by
      have : N.1 30 8 0 = 60 := z3
      rw [s8, ← b50.1] at this
      exact this
    have e1 : M1 = sI N 24 p 10 (t 100 p + 1) := by
      rw [g1, ← n10]
    subst e1
    refine ⟨up t 100 p (t 100 p + 1), q0.tf hS.1.p100 (TF.rf.wu (C := [100]) _ _ (by decide)) (by decide), tf (TF.rf.wu (C := [100]) _ _ (by decide)) (by decide), fun Q hQ => ?_⟩
    unfold w_planDue w_planDue_63
    simp only [cp]
    refine ⟨vp, fun v => absurd y' v, fun _ => ⟨vp, vp, n94, fun _ => ⟨vp, by rw [e91]; exact vs, fun x1 ex1 => ?_⟩, fun v => absurd yr v⟩⟩
    rw [e91, cs] at ex1
    subst ex1
    refine ⟨vp, fun v => absurd v z1, fun v1 => ⟨vp, fun v2 => ⟨fun v => absurd z3' v, fun _ => ⟨vp, vp, fun t6 e6 => ?_⟩⟩, fun v => absurd z2' v⟩⟩
    subst e6
    exact hQ
