set_option maxRecDepth 100000
/-! alarms look -/
theorem ak_mem {s : Nat} (hs : s ≤ 3) : 25 + s ∈ [25, 26, 27, 28] := by
  have : s = 0 ∨ s = 1 ∨ s = 2 ∨ s = 3 := by omega
  rcases this with e | e | e | e <;> subst e <;> decide
theorem S_A.wa {N : Mem} {t : DB} (h : S_A N t) {a s f c : Nat} {v : Int32} (hs : t 104 a = nI s) (hs3 : s ≤ 3) (hv : (f = 0 ∧ c = 109 ∧ (v = 0 ∨ v = 1)) ∨ (f = 1 ∧ c = 107) ∨ (f = 2 ∧ c = 108)) : S_A (sI N (25 + s) a f v) (up t c a v) := by
  intro i hi
  have c1 : c ≠ 103 ∧ c ≠ 104 ∧ c ≠ 105 ∧ c ≠ 106 ∧ c ≠ 30 ∧ c ≠ 31 ∧ c ≠ 1 := by omega
  have hf : f ≤ 2 := by omega
  rw [cn_up c1.1] at hi
  obtain ⟨s', a1, a2, a3, a4, a5, a6, a7, a8, b0, b1, b2, b3⟩ := h i hi
  have u : ∀ {g}, g ≠ c → up t c a v g = t g := fun hg => by funext i; exact up_f hg
  have y0 : ∀ (k f' : Nat), 3 ≤ f' → (sI N (25 + s) a f v).1 k i f' = N.1 k i f' := fun k f' hf' => sI_ne (by simp; omega)
  rw [u (fun e => c1.2.1 e.symm), u (fun e => c1.2.2.1 e.symm), u (fun e => c1.2.2.2.1 e.symm), u (fun e => c1.2.2.2.2.2.1 e.symm), cn_up c1.2.2.2.2.1, cn_up c1.2.2.2.2.2.2]
  refine ⟨s', a1, a2, a3, ?_, ?_, ?_, a7, ?_, b0, fun e => ?_, fun e => ?_, fun e => ?_⟩
  rotate_left 4
  · obtain ⟨i', x1, x2, x3, x4⟩ := b1 e
    exact ⟨i', x1, x2, x3, (y0 _ _ (by omega)).trans x4⟩
  · obtain ⟨i', x1, x2, x3, x4, x5⟩ := b2 e
    exact ⟨i', x1, x2, x3, x4, (y0 _ _ (by omega)).trans x5⟩
  · obtain ⟨x1, x2⟩ := b3 e
    exact ⟨(y0 _ _ (by omega)).trans x1, x2⟩
  all_goals by_cases e : i = a
  all_goals try (subst e; have es : s' = s := (nI_eq (by omega) (by omega)).mp (a2.symm.trans hs); subst es)
  all_goals rcases hv with ⟨hv1, hv2, hv3⟩ | ⟨hv1, hv2⟩ | ⟨hv1, hv2⟩ <;> subst hv1 <;> subst hv2
  all_goals first | simp [sI_at, up_at, a4, a5, a6]; done | simp [sI_at, up_at, e, a4, a5, a6]; done | skip
  all_goals first | (simp [up_at]; exact hv3) | (simp [up_at]; exact a8) | (simp [up_at, e]; exact a8)
theorem SZ.a109 {X : Mem} {m z : Nat} {P : List Nat} {x : Nat} {N : Mem} {t : DB} (h : SZ X m z P x N t) {a s : Nat} {v : Int32} (hs : t 104 a = nI s) (hs3 : s ≤ 3) (hv : v = 0 ∨ v = 1) : SZ X m z P x (sI N (25 + s) a 0 v) (up t 109 a v) := by
  have hf : NF N (sI N (25 + s) a 0 v) [25, 26, 27, 28] := NF.rf.wI _ _ _ (ak_mem hs3)
  have ht : TF t (up t 109 a v) [109] := TF.rf.wu _ _ (by decide)
  have hA : S_A (sI N (25 + s) a 0 v) (up t 109 a v) := h.A.wa hs hs3 (by simp [*])
  exact ⟨h.I.fr hf (by decide) ht (by decide), h.R.fr hf (by decide) ht (by decide), h.N.fr hf (by decide) ht (by decide), h.K.fr hf (by decide) ht (by decide), h.S.fr hf (by decide) ht (by decide), h.E.fr rfl ht (by decide), h.W.fr hf (by decide) ht (by decide), h.P1.fr hf (by decide) ht (by decide), h.P2.fr hf (by decide) ht (by decide), h.G.fr hf (by decide) ht (by decide), h.G0.fr hf (by decide) ht (by decide), h.G1.fr hf (by decide) ht (by decide), h.G2.fr hf (by decide) ht (by decide), h.G7.fr hf (by decide) ht (by decide), h.T.fr hf (by decide) ht (by decide), h.U.fr hf (by decide) ht (by decide), h.C.fr hf (by decide) ht (by decide), h.V.fr hf (by decide) ht (by decide), h.O.fr hf (by decide) ht (by decide), hA, h.Y.fr hf (by decide) ht (by decide), h.Q.fr hf (by decide) ht (by decide), h.B.fr ht (by decide), h.F.fr hf (by decide), h.M.fr rfl ht (by decide), h.iB.fr ht (by decide), h.iG.fr ht (by decide), h.iT.fr ht (by decide), h.iO.fr ht (by decide), h.iC.fr ht (by decide), h.iH.fr ht (by decide), h.iZ.fr ht (by decide), h.iL.fr ht (by decide), h.iR.fr ht (by decide), h.iX.fr ht (by decide), h.iU.fr ht (by decide), h.iD.fr ht (by decide), h.iK.fr ht (by decide), h.iY.fr ht (by decide), h.J.fr ht (by decide), h.GT.fr hf (by decide) ht (by decide), h.H.fr hf (by decide) ht (by decide)⟩
theorem SZ.a107 {X : Mem} {m z : Nat} {P : List Nat} {x : Nat} {N : Mem} {t : DB} (h : SZ X m z P x N t) {a s : Nat} {v : Int32} (hs : t 104 a = nI s) (hs3 : s ≤ 3)  : SZ X m z P x (sI N (25 + s) a 1 v) (up t 107 a v) := by
  have hf : NF N (sI N (25 + s) a 1 v) [25, 26, 27, 28] := NF.rf.wI _ _ _ (ak_mem hs3)
  have ht : TF t (up t 107 a v) [107] := TF.rf.wu _ _ (by decide)
  have hA : S_A (sI N (25 + s) a 1 v) (up t 107 a v) := h.A.wa hs hs3 (by simp [*])
  exact ⟨h.I.fr hf (by decide) ht (by decide), h.R.fr hf (by decide) ht (by decide), h.N.fr hf (by decide) ht (by decide), h.K.fr hf (by decide) ht (by decide), h.S.fr hf (by decide) ht (by decide), h.E.fr rfl ht (by decide), h.W.fr hf (by decide) ht (by decide), h.P1.fr hf (by decide) ht (by decide), h.P2.fr hf (by decide) ht (by decide), h.G.fr hf (by decide) ht (by decide), h.G0.fr hf (by decide) ht (by decide), h.G1.fr hf (by decide) ht (by decide), h.G2.fr hf (by decide) ht (by decide), h.G7.fr hf (by decide) ht (by decide), h.T.fr hf (by decide) ht (by decide), h.U.fr hf (by decide) ht (by decide), h.C.fr hf (by decide) ht (by decide), h.V.fr hf (by decide) ht (by decide), h.O.fr hf (by decide) ht (by decide), hA, h.Y.fr hf (by decide) ht (by decide), h.Q.fr hf (by decide) ht (by decide), h.B.fr ht (by decide), h.F.fr hf (by decide), h.M.fr rfl ht (by decide), h.iB.fr ht (by decide), h.iG.fr ht (by decide), h.iT.fr ht (by decide), h.iO.fr ht (by decide), h.iC.fr ht (by decide), h.iH.fr ht (by decide), h.iZ.fr ht (by decide), h.iL.fr ht (by decide), h.iR.fr ht (by decide), h.iX.fr ht (by decide), h.iU.fr ht (by decide), h.iD.fr ht (by decide), h.iK.fr ht (by decide), h.iY.fr ht (by decide), h.J.fr ht (by decide), h.GT.fr hf (by decide) ht (by decide), h.H.fr hf (by decide) ht (by decide)⟩
theorem SZ.a108 {X : Mem} {m z : Nat} {P : List Nat} {x : Nat} {N : Mem} {t : DB} (h : SZ X m z P x N t) {a s : Nat} {v : Int32} (hs : t 104 a = nI s) (hs3 : s ≤ 3)  : SZ X m z P x (sI N (25 + s) a 2 v) (up t 108 a v) := by
  have hf : NF N (sI N (25 + s) a 2 v) [25, 26, 27, 28] := NF.rf.wI _ _ _ (ak_mem hs3)
  have ht : TF t (up t 108 a v) [108] := TF.rf.wu _ _ (by decide)
  have hA : S_A (sI N (25 + s) a 2 v) (up t 108 a v) := h.A.wa hs hs3 (by simp [*])
  exact ⟨h.I.fr hf (by decide) ht (by decide), h.R.fr hf (by decide) ht (by decide), h.N.fr hf (by decide) ht (by decide), h.K.fr hf (by decide) ht (by decide), h.S.fr hf (by decide) ht (by decide), h.E.fr rfl ht (by decide), h.W.fr hf (by decide) ht (by decide), h.P1.fr hf (by decide) ht (by decide), h.P2.fr hf (by decide) ht (by decide), h.G.fr hf (by decide) ht (by decide), h.G0.fr hf (by decide) ht (by decide), h.G1.fr hf (by decide) ht (by decide), h.G2.fr hf (by decide) ht (by decide), h.G7.fr hf (by decide) ht (by decide), h.T.fr hf (by decide) ht (by decide), h.U.fr hf (by decide) ht (by decide), h.C.fr hf (by decide) ht (by decide), h.V.fr hf (by decide) ht (by decide), h.O.fr hf (by decide) ht (by decide), hA, h.Y.fr hf (by decide) ht (by decide), h.Q.fr hf (by decide) ht (by decide), h.B.fr ht (by decide), h.F.fr hf (by decide), h.M.fr rfl ht (by decide), h.iB.fr ht (by decide), h.iG.fr ht (by decide), h.iT.fr ht (by decide), h.iO.fr ht (by decide), h.iC.fr ht (by decide), h.iH.fr ht (by decide), h.iZ.fr ht (by decide), h.iL.fr ht (by decide), h.iR.fr ht (by decide), h.iX.fr ht (by decide), h.iU.fr ht (by decide), h.iD.fr ht (by decide), h.iK.fr ht (by decide), h.iY.fr ht (by decide), h.J.fr ht (by decide), h.GT.fr hf (by decide) ht (by decide), h.H.fr hf (by decide) ht (by decide)⟩
theorem isV_fr {t t' : DB} {C : List Nat} {a : Nat} (h : TF t t' C) (hC : ∀ c ∈ C, c ∉ [0, 2, 36, 40, 50, 56, 58, 104, 105, 106]) : isV t' a = isV t a := by
  have e : ∀ f ∈ [0, 2, 36, 40, 50, 56, 58, 104, 105, 106], t' f = t f := fun f hf => h f (fun y => hC f y hf)
  unfold isV latO
  rw [cn_fr (e 50 (by decide)), e 0 (by decide), e 2 (by decide), e 36 (by decide), e 40 (by decide), e 56 (by decide), e 58 (by decide), e 104 (by decide), e 105 (by decide), e 106 (by decide)]
theorem al_l {n : Nat} {X : Mem} {m : Nat} {T0 : DB} {S0 : Nat → Prop} {Q : Mem → Prop} {W0 : (DB → Prop) → Prop} {na : Nat} (hna : na ≤ 10)
    (hQ : ∀ N t, QS S0 X m N t → TF T0 t [107, 108, 109] → (∀ Qm, Qm t → W0 Qm) → Q N) :
    ∀ r j, j + r = na → ∀ N t, cn t 103 = na → QS S0 X m N t → TF T0 t [107, 108, 109] → (∀ Qm, (∃ a, w_tick_409 a (nI j) t Qm) → W0 Qm) → v_X0_pass_226 n (r + 1) (1, 0) (nI j) N Q := by
  intro r
  induction r with
  | zero =>
    intro j hj N t hc q hT hacc
    have b103 : t 103 0 = nI na := by rw [← hc]; exact q.1.iB.2.2.2.2.2.2.2.2.2.2.1.1
    have sz : N.1 (30, 13).1 (30, 13).2 0 = nI na := (q.1.S (13, 103, 0) (by decide)).trans b103
    refine ⟨rfl, fun e1 ee1 => ?_⟩
    have q1 : e1 = (30, 13) := ee1.trans (q.1.W.1 13 (by decide) (by decide))
    subst q1
    refine ⟨⟨by decide, by decide⟩, fun _ => hQ N t q hT (fun Qm h => hacc Qm ⟨1, fun _ => h, fun y => ?_⟩), fun y => ?_⟩
    · exact absurd (by rw [b103]; exact nI_le (by omega) (by omega)) y
    · exact absurd (by rw [sz]; exact nI_le (by omega) (by omega)) y
  | succ r ih =>
    intro j hj N t hc q hT hacc
    have hjn : j < na := by omega
    have b103 : t 103 0 = nI na := by rw [← hc]; exact q.1.iB.2.2.2.2.2.2.2.2.2.2.1.1
    have sz : N.1 (30, 13).1 (30, 13).2 0 = nI na := (q.1.S (13, 103, 0) (by decide)).trans b103
    have e13 : N.2.1 1 0 13 = (30, 13) := q.1.W.1 13 (by decide) (by decide)
    have cj : (nI j).toNatClampNeg = j := nI_clamp (by omega)
    have vj : vp_in (nI j) 10 := vp_in_nI (by omega) (by decide)
    have hjc : j < cn t 103 := by rw [hc]; exact hjn
    have tm : N.1 1 0 0 = t 0 0 := q.1.W.2.1
    have no103 : ¬ t 103 0 ≤ nI j := by rw [b103]; exact nI_ge hjn (by omega)
    refine ⟨rfl, fun e1 ee1 => ?_⟩
    have q1 : e1 = (30, 13) := ee1.trans e13
    subst q1
    refine ⟨⟨by decide, by decide⟩, fun y => ?_, fun _ => ⟨rfl, fun e2 ee2 => ?_⟩⟩
    · rw [sz] at y; exact absurd y (nI_ge hjn (by omega))
    have q2 : e2 = (30, 13) := ee2.trans e13
    subst q2
    obtain ⟨s, a1, a2, a3, a4, a5, a6, a7, a8, -⟩ := q.1.A j hjc
    have hak : ak (25 + s) := ⟨by omega, by omega⟩
    refine ⟨⟨by decide, by decide⟩, ⟨nI_pos (by omega), by rw [sz]; exact nI_lt hjn (by omega)⟩, fun e3 ee3 => ?_⟩
    rw [cj] at ee3
    have q3 : e3 = (25 + s, j) := ee3.trans a3
    subst q3
    have h456 : ∀ {Qm : DB → Prop} (v : Int32) (t' : DB) (a : Nat), (v = 0 ∨ v = 1) → w_tick_409 a (nI (j + 1)) (up t' 109 j v) Qm → w_tick_456 (fun z1 t => w_tick_409 a z1 t Qm) (nI j) v t' Qm := fun {Qm} v t' a hv ha => by
      refine ⟨hv, vj, fun t1 e1 x2 e2 => ?_⟩
      rw [nI_1] at e2
      rw [cj] at e1
      subst e1; subst e2
      exact ha
    refine ⟨hak, hak, hak, is_c q.1.1 hjc a1 a2 ⟨fun y => ⟨hak, is_c q.1.1 hjc a1 a2 ⟨isV_01, hak, fun M5 g5 x6 e6 => ?_⟩⟩, fun y => ⟨hak, fun y2 => ⟨hak, is_c q.1.1 hjc a1 a2 ⟨isV_01, hak, fun M5 g5 x6 e6 => ?_⟩⟩, fun y2 => ⟨hak, hak, fun M9 g9 => ⟨hak, fun e10 ee10 => ?_⟩⟩⟩⟩⟩
    · rw [nI_1] at e6
      have hS2 := q.1.1.a109 (a := j) (v := isV t j) a2 a1 isV_01
      have ht : TF t (up t 109 j (isV t j)) [109] := TF.rf.wu _ _ (by decide)
      have g5' : M5 = sI N (25 + s) j 0 (isV t j) := g5
      subst g5'; subst e6
      refine ih (j + 1) (by omega) _ _ (by rw [ht.cn (by decide)]; exact hc) (q.tf hS2 ht (by decide)) (fun f hf => (ht f (fun y => hf (by simp at y; subst y; decide))).trans (hT f hf)) (fun Qm ⟨a, ha⟩ => hacc Qm ⟨a + 1, fun y => absurd y no103, fun _ => isW q.1.1 hjc ⟨fun _ => h456 _ _ a isV_01 ha, fun v => absurd y v⟩⟩)
    · rw [nI_1] at e6
      have hS2 := q.1.1.a109 (a := j) (v := isV t j) a2 a1 isV_01
      have ht : TF t (up t 109 j (isV t j)) [109] := TF.rf.wu _ _ (by decide)
      have g5' : M5 = sI N (25 + s) j 0 (isV t j) := g5
      have y2' : ¬ t 109 j = 0 := fun v => y2 (a4.trans v)
      subst g5'; subst e6
      refine ih (j + 1) (by omega) _ _ (by rw [ht.cn (by decide)]; exact hc) (q.tf hS2 ht (by decide)) (fun f hf => (ht f (fun y => hf (by simp at y; subst y; decide))).trans (hT f hf)) (fun Qm ⟨a, ha⟩ => hacc Qm ⟨a + 1, fun y => absurd y no103, fun _ => isW q.1.1 hjc ⟨fun v => absurd v y, fun _ => ⟨vj, by rw [cj]; exact ⟨fun _ => h456 _ _ a isV_01 ha, fun v => absurd v y2'⟩⟩⟩⟩)
    · have y2' : t 109 j = 0 := a4.symm.trans y2
      have g9' : M9 = sI N (25 + s) j 1 (t 107 j + 1) := by rw [g9, ← a5]
      subst g9'
      have q10 : e10 = (1, 0) := ee10.trans a7
      subst q10
      refine ⟨rfl, hak, fun M11 g11 => ?_⟩
      have g11' : M11 = sI (sI N (25 + s) j 1 (t 107 j + 1)) (25 + s) j 2 (t 0 0) := by
        rw [g11]
        show sI _ (25 + s) j 2 ((sI N (25 + s) j 1 (t 107 j + 1)).1 1 0 0) = _
        rw [sI_ne (by simp), tm]
      subst g11'
      have r1 := q.tf (q.1.1.a107 (a := j) (v := t 107 j + 1) a2 a1) (TF.rf.wu (C := [107]) _ _ (by decide)) (by decide)
      have x2 : up t 107 j (t 107 j + 1) 104 j = nI s := (up_f (by decide)).trans a2
      have r2 := r1.tf (r1.1.1.a108 (a := j) (v := t 0 0) x2 a1) (TF.rf.wu (C := [108]) _ _ (by decide)) (by decide)
      have x3 : up (up t 107 j (t 107 j + 1)) 108 j (t 0 0) 104 j = nI s := (up_f (by decide)).trans x2
      have ht2 : TF t (up (up t 107 j (t 107 j + 1)) 108 j (t 0 0)) [107, 108] := (TF.rf.wu _ _ (by decide)).wu _ _ (by decide)
      have iv : isV (up (up t 107 j (t 107 j + 1)) 108 j (t 0 0)) j = isV t j := isV_fr ht2 (by decide)
      have hjc2 : j < cn (up (up t 107 j (t 107 j + 1)) 108 j (t 0 0)) 103 := by rw [ht2.cn (by decide)]; exact hjc
      refine ⟨hak, is_c r2.1.1 hjc2 a1 x3 ⟨isV_01, hak, fun M14 g14 x6 e6 => ?_⟩⟩
      rw [iv] at g14
      rw [nI_1] at e6
      have hS3 := r2.1.1.a109 (a := j) (v := isV t j) x3 a1 isV_01
      have ht : TF (up (up t 107 j (t 107 j + 1)) 108 j (t 0 0)) (up (up (up t 107 j (t 107 j + 1)) 108 j (t 0 0)) 109 j (isV t j)) [109] := TF.rf.wu _ _ (by decide)
      have ht3 : TF t (up (up (up t 107 j (t 107 j + 1)) 108 j (t 0 0)) 109 j (isV t j)) [107, 108, 109] := ((TF.rf.wu _ _ (by decide)).wu _ _ (by decide)).wu _ _ (by decide)
      have g14' : M14 = sI (sI (sI N (25 + s) j 1 (t 107 j + 1)) (25 + s) j 2 (t 0 0)) (25 + s) j 0 (isV t j) := g14
      subst g14'; subst e6
      refine ih (j + 1) (by omega) _ _ (by rw [ht3.cn (by decide)]; exact hc) (r2.tf hS3 ht (by decide)) (fun f hf => (ht3 f hf).trans (hT f hf)) (fun Qm ⟨a, ha⟩ => hacc Qm ⟨a + 1, fun y => absurd y no103, fun _ => isW q.1.1 hjc ⟨fun v => absurd v y, fun _ => ⟨vj, ?_⟩⟩⟩)
      rw [cj]
      refine ⟨fun v => absurd y2' v, fun _ => ⟨vj, vj, fun t3 e3 => ⟨vj, fun t4 e4 => ?_⟩⟩⟩
      subst e3
      rw [show up t 107 j (t 107 j + 1) 0 0 = t 0 0 from up_f (by decide)] at e4
      subst e4
      exact h456 _ _ a isV_01 ha
