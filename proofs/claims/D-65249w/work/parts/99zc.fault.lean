set_option maxRecDepth 100000
/-! a fault, a slowness -/
def nP (N : Mem) (i : Nat) (x1 x2 x3 x4 x5 : Int32) : Mem := sI (sI (sI (sI (sI (sN N 4 i 0 5) 4 i 0 x1) 4 i 1 x2) 4 i 2 x3) 4 i 3 x4) 4 i 4 x5
theorem nP_NF {N : Mem} {i : Nat} {x1 x2 x3 x4 x5 : Int32} : NF N (nP N i x1 x2 x3 x4 x5) [4] := (((((NF.rf.wN _ _ _ (by decide)).wI _ _ _ (by decide)).wI _ _ _ (by decide)).wI _ _ _ (by decide)).wI _ _ _ (by decide)).wI _ _ _ (by decide)
theorem nP_i {N : Mem} {i : Nat} {x1 x2 x3 x4 x5 : Int32} (p f : Nat) : (nP N i x1 x2 x3 x4 x5).1 4 p f = if p = i then (if f = 4 then x5 else if f = 3 then x4 else if f = 2 then x3 else if f = 1 then x2 else if f = 0 then x1 else 0) else N.1 4 p f := by
  by_cases e : p = i <;> simp [nP, sI, sN, e]
theorem nP_x {N : Mem} {i : Nat} {x1 x2 x3 x4 x5 : Int32} (p : Nat) : (nP N i x1 x2 x3 x4 x5).2.2.1 4 p = if p = i then 1 else N.2.2.1 4 p := by
  by_cases e : p = i <;> simp [nP, sI, sN, e]
/-- the old ones stand -/
theorem S_P.old {l c b : Nat} {N N' : Mem} {t t' : DB} (h : S_P N t l c b) {i : Nat} (hi : N.2.2.1 4 i = 0) (h4 : ∀ p, p ≠ i → N'.1 4 p = N.1 4 p ∧ N'.2.2.1 4 p = N.2.2.1 4 p) (hl : N'.2.1 30 l = N.2.1 30 l) (hc : t' c = t c) (hb : ∀ f, b ≤ f → f ≤ b + 4 → t' f = t f) : S_P N' t' l c b := by
  intro j hj
  rw [cn_fr hc] at hj
  obtain ⟨p, p1, p2, p3⟩ := h j hj
  have hp : p ≠ i := fun e => p2 (by rw [e]; exact hi)
  rw [hl, hb b (by omega) (by omega), hb (b + 1) (by omega) (by omega), hb (b + 2) (by omega) (by omega), hb (b + 3) (by omega) (by omega), hb (b + 4) (by omega) (by omega)]
  refine ⟨p, p1, ?_⟩
  rw [(h4 p hp).1, (h4 p hp).2]
  exact ⟨p2, p3⟩
theorem SZ.junk {X : Mem} {m : Nat} {N : Mem} {t : DB} (h : SZ X m 60 [] 100000 N t) (hm : m + 1 ≤ 100) {i : Nat} (hi : N.2.2.1 4 i = 0) {x1 x2 x3 x4 x5 : Int32} : SZ X (m + 1) 60 [] 100000 (nP N i x1 x2 x3 x4 x5) t := by
  have hf := nP_NF (N := N) (i := i) (x1 := x1) (x2 := x2) (x3 := x3) (x4 := x4) (x5 := x5)
  have h4 : ∀ p, p ≠ i → (nP N i x1 x2 x3 x4 x5).1 4 p = N.1 4 p ∧ (nP N i x1 x2 x3 x4 x5).2.2.1 4 p = N.2.2.1 4 p := fun p hp => ⟨by funext f; rw [nP_i, if_neg hp], by rw [nP_x, if_neg hp]⟩
  have nx2 : (nP N i x1 x2 x3 x4 x5).2.2.2 = (N.2.2.2.1 + 1, N.2.2.2.2 + 5) := rfl
  have ht : TF t t [] := TF.rf
  generalize nP N i x1 x2 x3 x4 x5 = N' at *
  have hE : S_E N' t := h.E.la (fun q hq i hi => ⟨hi, by rw [(hf q.1 ((by decide : ∀ q ∈ TE, q.1 ∉ [4]) q hq)).2.2]⟩)
  have hM : S_M (m + 1) N' t := h.M.up ht (by decide) (by rw [nx2]; dsimp only; omega) (by rw [nx2]; dsimp only; omega)
  have h' := h.mup (Nat.le_succ m) hm
  exact ⟨h.I.fr hf (by decide) ht (by decide), h.R.fr hf (by decide) ht (by decide), h.N.fr hf (by decide) ht (by decide), h.K.fr hf (by decide) ht (by decide), h.S.fr hf (by decide) ht (by decide), hE, h.W.fr hf (by decide) ht (by decide), h.P1.old hi h4 (by rw [(hf 30 (by decide)).2.1]) rfl (fun _ _ _ => rfl), h.P2.old hi h4 (by rw [(hf 30 (by decide)).2.1]) rfl (fun _ _ _ => rfl), h.G.fr hf (by decide) ht (by decide), h.G0.fr hf (by decide) ht (by decide), h.G1.fr hf (by decide) ht (by decide), h.G2.fr hf (by decide) ht (by decide), h.G7.fr hf (by decide) ht (by decide), h.T.fr hf (by decide) ht (by decide), h.U.fr hf (by decide) ht (by decide), h.C.fr hf (by decide) ht (by decide), h.V.fr hf (by decide) ht (by decide), h.O.fr hf (by decide) ht (by decide), h.A.fr hf (by decide) ht (by decide), h.Y.fr hf (by decide) ht (by decide), h.Q.fr hf (by decide) ht (by decide), h.B.fr ht (by decide), h.F.fr hf (by decide), hM, h.iB.fr ht (by decide), h.iG.fr ht (by decide), h.iT.fr ht (by decide), h.iO.fr ht (by decide), h.iC.fr ht (by decide), h.iH.fr ht (by decide), h.iZ.fr ht (by decide), h.iL.fr ht (by decide), h.iR.fr ht (by decide), h.iX.fr ht (by decide), h.iU.fr ht (by decide), h.iD.fr ht (by decide), h'.iK, h.iY.fr ht (by decide), h.J.fr ht (by decide), h.GT.fr hf (by decide) ht (by decide), h.H.fr hf (by decide) ht (by decide)⟩
def tfault (t : DB) (k : Nat) (x1 x2 x3 x4 x5 : Int32) : DB := up (up (up (up (up (up t 6 k x1) 7 k x2) 8 k x3) 9 k x4) 10 k x5) 5 0 (nI (k + 1))
theorem tfault_TF {t : DB} {k : Nat} {x1 x2 x3 x4 x5 : Int32} : TF t (tfault t k x1 x2 x3 x4 x5) [5, 6, 7, 8, 9, 10] := (((((TF.rf.wu _ _ (by decide)).wu _ _ (by decide)).wu _ _ (by decide)).wu _ _ (by decide)).wu _ _ (by decide)).wu _ _ (by decide)
theorem SZ.fault {X : Mem} {m : Nat} {N : Mem} {t : DB} (h : SZ X m 60 [] 100000 N t) (hm : m + 1 ≤ 100) {i : Nat} (hi : N.2.2.1 4 i = 0) {k : Nat} (hk : cn t 5 = k) (hk8 : k < 30) {x1 x2 x3 x4 x5 : Int32} (hx5 : ∃ k, k ≤ 15 ∧ x5 = nI k) : SZ X (m + 1) 60 [] 100000 (lAdd (nP N i x1 x2 x3 x4 x5) (30, 3) (4, i)) (tfault t k x1 x2 x3 x4 x5) := by
  have hf0 := nP_NF (N := N) (i := i) (x1 := x1) (x2 := x2) (x3 := x3) (x4 := x4) (x5 := x5)
  have hf : NF N (lAdd (nP N i x1 x2 x3 x4 x5) (30, 3) (4, i)) [4, 30] := (hf0.mono (by decide)).wA _ _ (by decide)
  have ht := tfault_TF (t := t) (k := k) (x1 := x1) (x2 := x2) (x3 := x3) (x4 := x4) (x5 := x5)
  have b1 : t 5 0 = nI k := by rw [← hk]; exact h.iB.2.1.1
  have L : LA N (lAdd (nP N i x1 x2 x3 x4 x5) (30, 3) (4, i)) 3 k (4, i) := LA.mk hf0 (by decide) ((h.S (3, 5, 0) (by decide)).trans b1) (by omega)
  have t1 : tfault t k x1 x2 x3 x4 x5 5 0 = nI (k + 1) := up_s
  have c1 : cn (tfault t k x1 x2 x3 x4 x5) 5 = k + 1 := by unfold cn; rw [t1, nI_clamp (by omega)]
  have e1 : ∀ p f, (lAdd (nP N i x1 x2 x3 x4 x5) (30, 3) (4, i)).1 4 p f = (nP N i x1 x2 x3 x4 x5).1 4 p f := fun p f => by rw [lAdd_i, if_neg (by simp)]
  have h4 : ∀ p, p ≠ i → (lAdd (nP N i x1 x2 x3 x4 x5) (30, 3) (4, i)).1 4 p = N.1 4 p ∧ (lAdd (nP N i x1 x2 x3 x4 x5) (30, 3) (4, i)).2.2.1 4 p = N.2.2.1 4 p := fun p hp => ⟨by funext f; rw [e1, nP_i, if_neg hp], (nP_x (N := N) (i := i) (x1 := x1) (x2 := x2) (x3 := x3) (x4 := x4) (x5 := x5) p).trans (if_neg hp)⟩
  have h5 : ∀ f, (lAdd (nP N i x1 x2 x3 x4 x5) (30, 3) (4, i)).1 4 i f = (if f = 4 then x5 else if f = 3 then x4 else if f = 2 then x3 else if f = 1 then x2 else if f = 0 then x1 else 0) := fun f => by rw [e1, nP_i, if_pos rfl]
  have h6 : (lAdd (nP N i x1 x2 x3 x4 x5) (30, 3) (4, i)).2.2.1 4 i ≠ 0 := by
    rw [show (lAdd (nP N i x1 x2 x3 x4 x5) (30, 3) (4, i)).2.2.1 4 i = (nP N i x1 x2 x3 x4 x5).2.2.1 4 i from rfl, nP_x, if_pos rfl]
    decide
  have nx2 : (lAdd (nP N i x1 x2 x3 x4 x5) (30, 3) (4, i)).2.2.2 = (N.2.2.2.1 + 2, N.2.2.2.2 + 15) := rfl
  have tv : ∀ j, tfault t k x1 x2 x3 x4 x5 6 j = (if j = k then x1 else t 6 j) ∧ tfault t k x1 x2 x3 x4 x5 7 j = (if j = k then x2 else t 7 j) ∧ tfault t k x1 x2 x3 x4 x5 8 j = (if j = k then x3 else t 8 j) ∧ tfault t k x1 x2 x3 x4 x5 9 j = (if j = k then x4 else t 9 j) ∧ tfault t k x1 x2 x3 x4 x5 10 j = (if j = k then x5 else t 10 j) := fun j => by
    by_cases e : j = k <;> simp [tfault, up, e]
  generalize lAdd (nP N i x1 x2 x3 x4 x5) (30, 3) (4, i) = N' at *
  generalize tfault t k x1 x2 x3 x4 x5 = t' at *
  have hP : S_P N' t' 3 5 6 := by
    intro j hj
    rw [c1] at hj
    obtain ⟨v1, v2, v3, v4, v5⟩ := tv j
    by_cases e : j = k
    · subst e
      rw [if_pos rfl] at v1 v2 v3 v4 v5
      refine ⟨i, by rw [L.2, if_pos ⟨rfl, rfl⟩], h6, ?_, ?_, ?_, ?_, ?_⟩
      · rw [v1, h5]; rfl
      · show _ = t' 7 _
        rw [v2, h5]; rfl
      · show _ = t' 8 _
        rw [v3, h5]; rfl
      · show _ = t' 9 _
        rw [v4, h5]; rfl
      · show _ = t' 10 _
        rw [v5, h5]; rfl
    · rw [if_neg e] at v1 v2 v3 v4 v5
      obtain ⟨p, p1, p2, p3⟩ := h.P1 j (by omega)
      have hp : p ≠ i := fun y => p2 (by rw [y]; exact hi)
      refine ⟨p, by rw [L.2, if_neg (fun y => e y.2)]; exact p1, ?_⟩
      show N'.2.2.1 4 p ≠ 0 ∧ N'.1 4 p 0 = t' 6 j ∧ N'.1 4 p 1 = t' 7 j ∧ N'.1 4 p 2 = t' 8 j ∧ N'.1 4 p 3 = t' 9 j ∧ N'.1 4 p 4 = t' 10 j
      rw [(h4 p hp).1, (h4 p hp).2, v1, v2, v3, v4, v5]
      exact ⟨p2, p3⟩
  have hK : S_K N' t' := h.K.la L hk c1 (fun q hq => Or.inr ⟨(by decide : ∀ q ∈ TK, q.1 ≠ 3) q hq, ht.cn ((by decide : ∀ q ∈ TK, q.2.2 ∉ [5, 6, 7, 8, 9, 10]) q hq)⟩)
  have hSS : S_S N' t' := h.S.la L (fun q hq => by
    by_cases e : q.1 = 3
    · have : q = (3, 5, 0) := (by decide : ∀ q ∈ TS, q.1 = 3 → q = (3, 5, 0)) q hq e
      subst this
      exact Or.inl ⟨rfl, t1⟩
    · exact Or.inr ⟨e, by rw [ht _ ((by decide : ∀ q ∈ TS, q.1 ≠ 3 → q.2.1 ∉ [5, 6, 7, 8, 9, 10]) q hq e)]⟩)
  have hE : S_E N' t' := h.E.la (fun q hq i hi => by
    have hq3 := (by decide : ∀ q ∈ TE, q.1 ∉ [4, 30] ∧ q.2 ∉ [5, 6, 7, 8, 9, 10]) q hq
    rw [ht.cn hq3.2] at hi
    exact ⟨hi, by rw [(hf q.1 hq3.1).2.2]⟩)
  have hM : S_M (m + 1) N' t' := h.M.up ht (by decide) (by rw [nx2]; dsimp only; omega) (by rw [nx2]; dsimp only; omega)
  have hB : I_B t' := by
    obtain ⟨a1, a2, a3, a4, a5, a6, a7, a8, a9, a10, a11, a12⟩ := h.iB
    exact ⟨a1.fr (ht _ (by decide)), ⟨by rw [c1]; exact t1, by rw [c1]; omega⟩, a3.fr (ht _ (by decide)), a4.fr (ht _ (by decide)), a5.fr (ht _ (by decide)), a6.fr (ht _ (by decide)), a7.fr (ht _ (by decide)), a8.fr (ht _ (by decide)), a9.fr (ht _ (by decide)), a10.fr (ht _ (by decide)), a11.fr (ht _ (by decide)), a12.fr (ht _ (by decide))⟩
  have hY : I_Y t' := by
    obtain ⟨y1, y2⟩ := h.iY
    refine ⟨fun j hj => ?_, ?_⟩
    · rw [c1] at hj
      obtain ⟨-, -, -, -, v5⟩ := tv j
      rw [v5]
      by_cases e : j = k
      · rw [if_pos e]; exact hx5
      · rw [if_neg e]; exact y1 j (by omega)
    · rw [ht.cn (by decide), ht.cn (by decide), ht.cn (by decide), ht 90 (by decide), ht 91 (by decide), ht 92 (by decide), ht 93 (by decide), ht 94 (by decide), ht 102 (by decide)]
      exact y2
  have hO := h.P2.old hi h4 (L.ne (by decide)) (ht _ (by decide)) (fun f h1 h2 => ht f (by simp; omega))
  have h' := h.mup (Nat.le_succ m) hm
  have hKK : I_K (m + 1) t' := h'.iK.fr ht (by decide)
  exact ⟨h.I.fr hf (by decide) ht (by decide), h.R.fr hf (by decide) ht (by decide), h.N.fr hf (by decide) ht (by decide), hK, hSS, hE, h.W.fr hf (by decide) ht (by decide), hP, hO, h.G.fl hf (by decide) (L.ne (by decide)) ht (by decide), h.G0.fr hf (by decide) ht (by decide), h.G1.fr hf (by decide) ht (by decide), h.G2.fr hf (by decide) ht (by decide), h.G7.fr hf (by decide) ht (by decide), h.T.fr hf (by decide) ht (by decide), h.U.fl (L.ne (by decide)) ht (by decide), h.C.fr hf (by decide) ht (by decide), h.V.fr hf (by decide) ht (by decide), h.O.fr hf (by decide) ht (by decide), h.A.fl hf (by decide) (L.ne (by decide)) ht (by decide), h.Y.fr hf (by decide) ht (by decide), h.Q.fr hf (by decide) ht (by decide), h.B.fr ht (by decide), h.F.fr hf (by decide), hM, hB, h.iG.fr ht (by decide), h.iT.fr ht (by decide), h.iO.fr ht (by decide), h.iC.fr ht (by decide), h.iH.fr ht (by decide), h.iZ.fr ht (by decide), h.iL.fr ht (by decide), h.iR.fr ht (by decide), h.iX.fr ht (by decide), h.iU.fr ht (by decide), h.iD.fr ht (by decide), hKK, hY, h.J.fr ht (by decide), h.GT.fr hf (by decide) ht (by decide), h.H.fr hf (by decide) ht (by decide)⟩
theorem ap_fault (x1 x2 x3 x4 x5 : Int32) : AP mX0_fault [.inl x1, .inl x2, .inl x3, .inl x4, .inl x5] (w_fault x1 x2 x3 x4 x5) := by
  intro n X m N t hn hm q
  have q' := q.mup (Nat.le_succ m) hm
  have b1 := q.1.iB.2.1
  have b30 : cn t 5 ≤ 30 := b1.2
  have b8 := q.1.iB.1
  have wl : N.2.1 1 0 3 = (30, 3) := q.1.W.1 3 (by decide) (by decide)
  have sl : N.1 30 3 0 = t 5 0 := q.1.S (3, 5, 0) (by decide)
  obtain ⟨ra, rb⟩ := rom_a q.1.1
  have lk30 : lk 30 := ⟨by decide, by decide⟩
  show cq (n + 10 + 10) mX0_fault [.inr (1, 0), .inl x1, .inl x2, .inl x3, .inl x4, .inl x5] N _
  refine sv_X0_fault (d := n + 10) (Q := fun v N' => ∃ t', QS (fun _ => True) X (m + 1) N' t' ∧ ∀ Q, Q v t' → w_fault x1 x2 x3 x4 x5 t Q) (fun v N' ⟨t', a, b⟩ => ⟨v, t', rfl, a, b⟩) ⟨rfl, fun e1 ee1 => ?_⟩
  have q1 : e1 = (30, 3) := ee1.trans wl
  subst q1
  refine ⟨⟨by omega, by omega⟩, fun i hi M3 g3 => ⟨by decide, by show ¬ 4 = 0; decide, rfl, fun M1 g1 => ⟨rfl, fun M2 g2 => ⟨rfl, fun M3' g3' => ⟨rfl, fun M4 g4 => ⟨rfl, fun M5 g5 => ?_⟩⟩⟩⟩⟩⟩
  have g5' : M5 = nP N i x1 x2 x3 x4 x5 := by rw [g5, g4, g3', g2, g1, g3]; rfl
  subst g5'
  have qj : QS (fun _ => True) X (m + 1) (nP N i x1 x2 x3 x4 x5) t := ⟨⟨q.1.1.junk hm hi, q.1.2⟩, q.2⟩
  have j2 : (nP N i x1 x2 x3 x4 x5).2.1 1 0 2 = (30, 2) := qj.1.W.1 2 (by decide) (by decide)
  have s2 : (nP N i x1 x2 x3 x4 x5).1 30 2 0 = t 1 0 := qj.1.S (2, 1, 0) (by decide)
  have sl' : (nP N i x1 x2 x3 x4 x5).1 30 3 0 = t 5 0 := qj.1.S (3, 5, 0) (by decide)
  have f0 : (nP N i x1 x2 x3 x4 x5).1 4 i 0 = x1 := by rw [nP_i, if_pos rfl]; rfl
  have f1 : (nP N i x1 x2 x3 x4 x5).1 4 i 1 = x2 := by rw [nP_i, if_pos rfl]; rfl
  have f2 : (nP N i x1 x2 x3 x4 x5).1 4 i 2 = x3 := by rw [nP_i, if_pos rfl]; rfl
  have f3 : (nP N i x1 x2 x3 x4 x5).1 4 i 3 = x4 := by rw [nP_i, if_pos rfl]; rfl
  have main : ∀ r7 : Int32, (r7 = 0 ∧ (x5 < 1 ∨ 7 < x5)) ∨ (r7 = 1 ∧ ¬ x5 < 1 ∧ ¬ 7 < x5) → v_X0_plan (1, 0) (30, 3) (4, i) r7 (nP N i x1 x2 x3 x4 x5) (fun v N' => ∃ t', QS (fun _ => True) X (m + 1) N' t' ∧ ∀ Q, Q v t' → w_fault x1 x2 x3 x4 x5 t Q) := fun r7 h7 => by
    refine ⟨rfl, fun e1 ee1 => ?_⟩
    have q1 : e1 = (30, 2) := ee1.trans j2
    subst q1
    refine ⟨rfl, ?_⟩
    show v_X0_has (30, 2) ((nP N i x1 x2 x3 x4 x5).1 4 i 0) _ _
    rw [f0]
    refine has_c s2 (fun h => ⟨fun v => absurd rfl v, fun _ => ⟨t, qj, fun Q hQ => wst_c (fun _ => ⟨fun v => absurd rfl v, fun _ => hQ⟩) (fun a b => absurd (ab_or h a b) id)⟩⟩) (fun a1 a2 => ⟨fun _ => ⟨rfl, ?_⟩, fun v => absurd v (by decide)⟩)
    have T1 : ∀ K : Int32 → DB → Prop, K 1 t → w_isStation x1 t K := fun K hK => wst_c (fun h => absurd (ab_or h a1 a2) id) (fun _ _ => hK)
    show v_X0_in ((nP N i x1 x2 x3 x4 x5).1 4 i 1) 0 2 _ _
    rw [f1]
    refine in_c (fun h => ⟨fun _ => ⟨t, qj, fun Q hQ => T1 _ ⟨fun _ => ⟨fun _ => ⟨fun _ => hQ, fun v => absurd rfl v⟩, fun a => ⟨fun _ => ⟨fun _ => hQ, fun v => absurd rfl v⟩, fun b => absurd h (fun h => h.elim a b)⟩⟩, fun v => absurd v (by decide)⟩⟩, fun v => absurd rfl v⟩) (fun d1 d2 => ⟨fun v => absurd v (by decide), fun _ => ⟨rfl, ?_⟩⟩)
    have T2 : ∀ Q : Int32 → DB → Prop, (((x3 < 0) → (Q (-2) t)) ∧ ((¬ x3 < 0) → (((x4 < x3) → (Q (-2) t)) ∧ ((¬ x4 < x3) → (((x5 < 1) → (Q (-2) t)) ∧ ((¬ x5 < 1) → (((x5 ≤ 7) → (((¬ (t 5 0) = 30) → (vp_in (t 5 0) 30 ∧ (∀ t_5 : DB, t_5 = up t 6 (t 5 0).toNatClampNeg x1 → (vp_in (t_5 5 0) 30 ∧ (∀ t_6 : DB, t_6 = up t_5 7 (t_5 5 0).toNatClampNeg x2 → (vp_in (t_6 5 0) 30 ∧ (∀ t_7 : DB, t_7 = up t_6 8 (t_6 5 0).toNatClampNeg x3 → (vp_in (t_7 5 0) 30 ∧ (∀ t_8 : DB, t_8 = up t_7 9 (t_7 5 0).toNatClampNeg x4 → (vp_in (t_8 5 0) 30 ∧ (∀ t_9 : DB, t_9 = up t_8 10 (t_8 5 0).toNatClampNeg x5 → (∀ t_10 : DB, t_10 = up t_9 5 0 ((t_9 5 0) + 1) → (Q (t_10 5 0) t_10))))))))))))) ∧ (((t 5 0) = 30) → (Q (-3) t)))) ∧ ((¬ x5 ≤ 7) → (Q (-2) t))))))))) → w_fault x1 x2 x3 x4 x5 t Q := fun Q h => T1 _ ⟨fun _ => ⟨fun a => absurd a d1, fun _ => ⟨fun a => absurd a d2, fun _ => ⟨fun v => absurd v (by decide), fun _ => h⟩⟩⟩, fun v => absurd v (by decide)⟩
    show ((nP N i x1 x2 x3 x4 x5).1 4 i 2 < 0 → _) ∧ (¬ (nP N i x1 x2 x3 x4 x5).1 4 i 2 < 0 → _ ∧ _ ∧ ((nP N i x1 x2 x3 x4 x5).1 4 i 3 < (nP N i x1 x2 x3 x4 x5).1 4 i 2 → _) ∧ (¬ (nP N i x1 x2 x3 x4 x5).1 4 i 3 < (nP N i x1 x2 x3 x4 x5).1 4 i 2 → _))
    rw [f2, f3]
    refine ⟨fun z => ⟨t, qj, fun Q hQ => T2 Q ⟨fun _ => hQ, fun a => absurd z a⟩⟩, fun z => ⟨rfl, rfl, fun z2 => ⟨t, qj, fun Q hQ => T2 Q ⟨fun a => absurd a z, fun _ => ⟨fun _ => hQ, fun a => absurd z2 a⟩⟩⟩, fun z2 => ⟨fun u => ⟨lk30, ?_⟩, fun u => ?_⟩⟩⟩
    rotate_left
    · rcases h7 with ⟨w1, w2⟩ | ⟨w1, w2⟩
      · exact ⟨t, qj, fun Q hQ => T2 Q ⟨fun a => absurd a z, fun _ => ⟨fun a => absurd a z2, fun _ => ⟨fun _ => hQ, fun a => ⟨fun b => absurd w2 (fun h => h.elim a (Int32.not_lt.mpr b)), fun _ => hQ⟩⟩⟩⟩⟩
      · rw [w1] at u
        exact absurd u (by decide)
    obtain ⟨w2, w3⟩ : ¬ x5 < 1 ∧ ¬ 7 < x5 := by
      rcases h7 with ⟨w1, -⟩ | ⟨-, w⟩
      · exact absurd w1 u
      · exact w
    have T3 : ∀ Q : Int32 → DB → Prop, (((¬ (t 5 0) = 30) → (vp_in (t 5 0) 30 ∧ (∀ t_5 : DB, t_5 = up t 6 (t 5 0).toNatClampNeg x1 → (vp_in (t_5 5 0) 30 ∧ (∀ t_6 : DB, t_6 = up t_5 7 (t_5 5 0).toNatClampNeg x2 → (vp_in (t_6 5 0) 30 ∧ (∀ t_7 : DB, t_7 = up t_6 8 (t_6 5 0).toNatClampNeg x3 → (vp_in (t_7 5 0) 30 ∧ (∀ t_8 : DB, t_8 = up t_7 9 (t_7 5 0).toNatClampNeg x4 → (vp_in (t_8 5 0) 30 ∧ (∀ t_9 : DB, t_9 = up t_8 10 (t_8 5 0).toNatClampNeg x5 → (∀ t_10 : DB, t_10 = up t_9 5 0 ((t_9 5 0) + 1) → (Q (t_10 5 0) t_10))))))))))))) ∧ (((t 5 0) = 30) → (Q (-3) t))) → w_fault x1 x2 x3 x4 x5 t Q := fun Q h => T2 Q ⟨fun a => absurd a z, fun _ => ⟨fun a => absurd a z2, fun _ => ⟨fun a => absurd a w2, fun _ => ⟨fun _ => h, fun a => absurd (Int32.not_lt.mp w3) a⟩⟩⟩⟩
    refine ⟨fun y => ⟨lk30, rfl, ?_, ?_, fun M6 g6 => ⟨lk30, ?_⟩⟩, fun y => ⟨t, qj, fun Q hQ => T3 Q ⟨fun v => absurd (sl'.symm.trans y) v, fun _ => hQ⟩⟩⟩
    · show (nP N i x1 x2 x3 x4 x5).1 30 3 0 < nI 10000
      rw [sl', b1.1]
      exact nI_lt (by omega) (by decide)
    · exact ⟨by show N.2.2.2.1 + 1 + 1 ≤ 600000; omega, by show N.2.2.2.2 + 5 + 10 ≤ 7302250; omega⟩
    have y' : ¬ t 5 0 = 30 := fun v => y (sl'.trans v)
    have hk8 : cn t 5 < 30 := by
      rcases Nat.lt_or_ge (cn t 5) 30 with v | v
      · exact v
      · exact absurd (by rw [b1.1, show cn t 5 = 30 from Nat.le_antisymm b1.2 v]; rfl) y'
    obtain ⟨e5, he5, ee5⟩ := rng (x := x5) (n := 7) (by decide) (fun h => w2 (Int32.lt_trans h (by decide))) w3
    have hS := q.1.1.fault hm hi rfl hk8 (x1 := x1) (x2 := x2) (x3 := x3) (x4 := x4) (x5 := x5) ⟨e5, by omega, ee5⟩
    have qq := q'.tf hS tfault_TF (by decide)
    have sz' : (lAdd (nP N i x1 x2 x3 x4 x5) (30, 3) (4, i)).1 30 3 0 = nI (cn t 5 + 1) := (hS.S (3, 5, 0) (by decide)).trans up_s
    have vk : vp_in (nI (cn t 5)) 30 := vp_in_nI hk8 (by decide)
    have ck : (nI (cn t 5)).toNatClampNeg = cn t 5 := nI_clamp (by omega)
    have g6' : M6 = lAdd (nP N i x1 x2 x3 x4 x5) (30, 3) (4, i) := g6
    subst g6'
    show ∃ t', QS (fun _ => True) X (m + 1) (lAdd (nP N i x1 x2 x3 x4 x5) (30, 3) (4, i)) t' ∧ ∀ Q, Q ((lAdd (nP N i x1 x2 x3 x4 x5) (30, 3) (4, i)).1 30 3 0) t' → w_fault x1 x2 x3 x4 x5 t Q
    rw [sz']
    refine ⟨_, qq, fun Q hQ => T3 Q ⟨fun _ => ?_, fun v => absurd v y'⟩⟩
    rw [b1.1, ck]
    refine ⟨vk, fun t1 e1 => ?_⟩
    have z1 : t1 5 0 = nI (cn t 5) := by rw [e1, up_f (by decide)]; exact b1.1
    rw [z1, ck]
    refine ⟨vk, fun t2 e2 => ?_⟩
    have z2 : t2 5 0 = nI (cn t 5) := by rw [e2, up_f (by decide)]; exact z1
    rw [z2, ck]
    refine ⟨vk, fun t3 e3 => ?_⟩
    have z3 : t3 5 0 = nI (cn t 5) := by rw [e3, up_f (by decide)]; exact z2
    rw [z3, ck]
    refine ⟨vk, fun t4 e4 => ?_⟩
    have z4 : t4 5 0 = nI (cn t 5) := by rw [e4, up_f (by decide)]; exact z3
    rw [z4, ck]
    refine ⟨vk, fun t5 e5 t6 e6 => ?_⟩
    have z5 : t5 5 0 = nI (cn t 5) := by rw [e5, up_f (by decide)]; exact z4
    rw [z5, nI_1] at e6
    have e6' : t6 = tfault t (cn t 5) x1 x2 x3 x4 x5 := by rw [e6, e5, e4, e3, e2, e1]; rfl
    subst e6'
    rw [show tfault t (cn t 5) x1 x2 x3 x4 x5 5 0 = nI (cn t 5 + 1) from up_s]
    exact hQ
  refine in_c (fun h => ⟨rfl, main 0 (Or.inl ⟨rfl, h⟩)⟩) (fun a b => ⟨rfl, main 1 (Or.inr ⟨rfl, a, b⟩)⟩)
def tslow (t : DB) (k : Nat) (x1 x2 x3 x4 x5 : Int32) : DB := up (up (up (up (up (up t 12 k x1) 13 k x2) 14 k x3) 15 k x4) 16 k x5) 11 0 (nI (k + 1))
theorem tslow_TF {t : DB} {k : Nat} {x1 x2 x3 x4 x5 : Int32} : TF t (tslow t k x1 x2 x3 x4 x5) [11, 12, 13, 14, 15, 16] := (((((TF.rf.wu _ _ (by decide)).wu _ _ (by decide)).wu _ _ (by decide)).wu _ _ (by decide)).wu _ _ (by decide)).wu _ _ (by decide)
theorem SZ.slow {X : Mem} {m : Nat} {N : Mem} {t : DB} (h : SZ X m 60 [] 100000 N t) (hm : m + 1 ≤ 100) {i : Nat} (hi : N.2.2.1 4 i = 0) {k : Nat} (hk : cn t 11 = k) (hk8 : k < 30) {x1 x2 x3 x4 x5 : Int32} : SZ X (m + 1) 60 [] 100000 (lAdd (nP N i x1 x2 x3 x4 x5) (30, 4) (4, i)) (tslow t k x1 x2 x3 x4 x5) := by
  have hf0 := nP_NF (N := N) (i := i) (x1 := x1) (x2 := x2) (x3 := x3) (x4 := x4) (x5 := x5)
  have hf : NF N (lAdd (nP N i x1 x2 x3 x4 x5) (30, 4) (4, i)) [4, 30] := (hf0.mono (by decide)).wA _ _ (by decide)
  have ht := tslow_TF (t := t) (k := k) (x1 := x1) (x2 := x2) (x3 := x3) (x4 := x4) (x5 := x5)
  have b1 : t 11 0 = nI k := by rw [← hk]; exact h.iB.2.2.1.1
  have L : LA N (lAdd (nP N i x1 x2 x3 x4 x5) (30, 4) (4, i)) 4 k (4, i) := LA.mk hf0 (by decide) ((h.S (4, 11, 0) (by decide)).trans b1) (by omega)
  have t1 : tslow t k x1 x2 x3 x4 x5 11 0 = nI (k + 1) := up_s
  have c1 : cn (tslow t k x1 x2 x3 x4 x5) 11 = k + 1 := by unfold cn; rw [t1, nI_clamp (by omega)]
  have e1 : ∀ p f, (lAdd (nP N i x1 x2 x3 x4 x5) (30, 4) (4, i)).1 4 p f = (nP N i x1 x2 x3 x4 x5).1 4 p f := fun p f => by rw [lAdd_i, if_neg (by simp)]
  have h4 : ∀ p, p ≠ i → (lAdd (nP N i x1 x2 x3 x4 x5) (30, 4) (4, i)).1 4 p = N.1 4 p ∧ (lAdd (nP N i x1 x2 x3 x4 x5) (30, 4) (4, i)).2.2.1 4 p = N.2.2.1 4 p := fun p hp => ⟨by funext f; rw [e1, nP_i, if_neg hp], (nP_x (N := N) (i := i) (x1 := x1) (x2 := x2) (x3 := x3) (x4 := x4) (x5 := x5) p).trans (if_neg hp)⟩
  have h5 : ∀ f, (lAdd (nP N i x1 x2 x3 x4 x5) (30, 4) (4, i)).1 4 i f = (if f = 4 then x5 else if f = 3 then x4 else if f = 2 then x3 else if f = 1 then x2 else if f = 0 then x1 else 0) := fun f => by rw [e1, nP_i, if_pos rfl]
  have h6 : (lAdd (nP N i x1 x2 x3 x4 x5) (30, 4) (4, i)).2.2.1 4 i ≠ 0 := by
    rw [show (lAdd (nP N i x1 x2 x3 x4 x5) (30, 4) (4, i)).2.2.1 4 i = (nP N i x1 x2 x3 x4 x5).2.2.1 4 i from rfl, nP_x, if_pos rfl]
    decide
  have nx2 : (lAdd (nP N i x1 x2 x3 x4 x5) (30, 4) (4, i)).2.2.2 = (N.2.2.2.1 + 2, N.2.2.2.2 + 15) := rfl
  have tv : ∀ j, tslow t k x1 x2 x3 x4 x5 12 j = (if j = k then x1 else t 12 j) ∧ tslow t k x1 x2 x3 x4 x5 13 j = (if j = k then x2 else t 13 j) ∧ tslow t k x1 x2 x3 x4 x5 14 j = (if j = k then x3 else t 14 j) ∧ tslow t k x1 x2 x3 x4 x5 15 j = (if j = k then x4 else t 15 j) ∧ tslow t k x1 x2 x3 x4 x5 16 j = (if j = k then x5 else t 16 j) := fun j => by
    by_cases e : j = k <;> simp [tslow, up, e]
  generalize lAdd (nP N i x1 x2 x3 x4 x5) (30, 4) (4, i) = N' at *
  generalize tslow t k x1 x2 x3 x4 x5 = t' at *
  have hP : S_P N' t' 4 11 12 := by
    intro j hj
    rw [c1] at hj
    obtain ⟨v1, v2, v3, v4, v5⟩ := tv j
    by_cases e : j = k
    · subst e
      rw [if_pos rfl] at v1 v2 v3 v4 v5
      refine ⟨i, by rw [L.2, if_pos ⟨rfl, rfl⟩], h6, ?_, ?_, ?_, ?_, ?_⟩
      · rw [v1, h5]; rfl
      · show _ = t' 13 _
        rw [v2, h5]; rfl
      · show _ = t' 14 _
        rw [v3, h5]; rfl
      · show _ = t' 15 _
        rw [v4, h5]; rfl
      · show _ = t' 16 _
        rw [v5, h5]; rfl
    · rw [if_neg e] at v1 v2 v3 v4 v5
      obtain ⟨p, p1, p2, p3⟩ := h.P2 j (by omega)
      have hp : p ≠ i := fun y => p2 (by rw [y]; exact hi)
      refine ⟨p, by rw [L.2, if_neg (fun y => e y.2)]; exact p1, ?_⟩
      show N'.2.2.1 4 p ≠ 0 ∧ N'.1 4 p 0 = t' 12 j ∧ N'.1 4 p 1 = t' 13 j ∧ N'.1 4 p 2 = t' 14 j ∧ N'.1 4 p 3 = t' 15 j ∧ N'.1 4 p 4 = t' 16 j
      rw [(h4 p hp).1, (h4 p hp).2, v1, v2, v3, v4, v5]
      exact ⟨p2, p3⟩
  have hK : S_K N' t' := h.K.la L hk c1 (fun q hq => Or.inr ⟨(by decide : ∀ q ∈ TK, q.1 ≠ 4) q hq, ht.cn ((by decide : ∀ q ∈ TK, q.2.2 ∉ [11, 12, 13, 14, 15, 16]) q hq)⟩)
  have hSS : S_S N' t' := h.S.la L (fun q hq => by
    by_cases e : q.1 = 4
    · have : q = (4, 11, 0) := (by decide : ∀ q ∈ TS, q.1 = 4 → q = (4, 11, 0)) q hq e
      subst this
      exact Or.inl ⟨rfl, t1⟩
    · exact Or.inr ⟨e, by rw [ht _ ((by decide : ∀ q ∈ TS, q.1 ≠ 4 → q.2.1 ∉ [11, 12, 13, 14, 15, 16]) q hq e)]⟩)
  have hE : S_E N' t' := h.E.la (fun q hq i hi => by
    have hq3 := (by decide : ∀ q ∈ TE, q.1 ∉ [4, 30] ∧ q.2 ∉ [11, 12, 13, 14, 15, 16]) q hq
    rw [ht.cn hq3.2] at hi
    exact ⟨hi, by rw [(hf q.1 hq3.1).2.2]⟩)
  have hM : S_M (m + 1) N' t' := h.M.up ht (by decide) (by rw [nx2]; dsimp only; omega) (by rw [nx2]; dsimp only; omega)
  have hB : I_B t' := by
    obtain ⟨a1, a2, a3, a4, a5, a6, a7, a8, a9, a10, a11, a12⟩ := h.iB
    exact ⟨a1.fr (ht _ (by decide)), a2.fr (ht _ (by decide)), ⟨by rw [c1]; exact t1, by rw [c1]; omega⟩, a4.fr (ht _ (by decide)), a5.fr (ht _ (by decide)), a6.fr (ht _ (by decide)), a7.fr (ht _ (by decide)), a8.fr (ht _ (by decide)), a9.fr (ht _ (by decide)), a10.fr (ht _ (by decide)), a11.fr (ht _ (by decide)), a12.fr (ht _ (by decide))⟩
  have hO := h.P1.old hi h4 (L.ne (by decide)) (ht _ (by decide)) (fun f h1 h2 => ht f (by simp; omega))
  have h' := h.mup (Nat.le_succ m) hm
  have hKK : I_K (m + 1) t' := h'.iK.fr ht (by decide)
  exact ⟨h.I.fr hf (by decide) ht (by decide), h.R.fr hf (by decide) ht (by decide), h.N.fr hf (by decide) ht (by decide), hK, hSS, hE, h.W.fr hf (by decide) ht (by decide), hO, hP, h.G.fl hf (by decide) (L.ne (by decide)) ht (by decide), h.G0.fr hf (by decide) ht (by decide), h.G1.fr hf (by decide) ht (by decide), h.G2.fr hf (by decide) ht (by decide), h.G7.fr hf (by decide) ht (by decide), h.T.fr hf (by decide) ht (by decide), h.U.fl (L.ne (by decide)) ht (by decide), h.C.fr hf (by decide) ht (by decide), h.V.fr hf (by decide) ht (by decide), h.O.fr hf (by decide) ht (by decide), h.A.fl hf (by decide) (L.ne (by decide)) ht (by decide), h.Y.fr hf (by decide) ht (by decide), h.Q.fr hf (by decide) ht (by decide), h.B.fr ht (by decide), h.F.fr hf (by decide), hM, hB, h.iG.fr ht (by decide), h.iT.fr ht (by decide), h.iO.fr ht (by decide), h.iC.fr ht (by decide), h.iH.fr ht (by decide), h.iZ.fr ht (by decide), h.iL.fr ht (by decide), h.iR.fr ht (by decide), h.iX.fr ht (by decide), h.iU.fr ht (by decide), h.iD.fr ht (by decide), hKK, h.iY.fr ht (by decide), h.J.fr ht (by decide), h.GT.fr hf (by decide) ht (by decide), h.H.fr hf (by decide) ht (by decide)⟩
theorem ap_slow (x1 x2 x3 x4 x5 : Int32) : AP mX0_slow [.inl x1, .inl x2, .inl x3, .inl x4, .inl x5] (w_slow x1 x2 x3 x4 x5) := by
  intro n X m N t hn hm q
  have q' := q.mup (Nat.le_succ m) hm
  have b1 := q.1.iB.2.2.1
  have b30 : cn t 11 ≤ 30 := b1.2
  have b8 := q.1.iB.1
  have wl : N.2.1 1 0 4 = (30, 4) := q.1.W.1 4 (by decide) (by decide)
  have sl : N.1 30 4 0 = t 11 0 := q.1.S (4, 11, 0) (by decide)
  obtain ⟨ra, rb⟩ := rom_a q.1.1
  have lk30 : lk 30 := ⟨by decide, by decide⟩
  show cq (n + 10 + 10) mX0_slow [.inr (1, 0), .inl x1, .inl x2, .inl x3, .inl x4, .inl x5] N _
  refine sv_X0_slow (d := n + 10) (Q := fun v N' => ∃ t', QS (fun _ => True) X (m + 1) N' t' ∧ ∀ Q, Q v t' → w_slow x1 x2 x3 x4 x5 t Q) (fun v N' ⟨t', a, b⟩ => ⟨v, t', rfl, a, b⟩) ⟨rfl, fun e1 ee1 => ?_⟩
  have q1 : e1 = (30, 4) := ee1.trans wl
  subst q1
  refine ⟨⟨by omega, by omega⟩, fun i hi M3 g3 => ⟨by decide, by show ¬ 4 = 0; decide, rfl, fun M1 g1 => ⟨rfl, fun M2 g2 => ⟨rfl, fun M3' g3' => ⟨rfl, fun M4 g4 => ⟨rfl, fun M5 g5 => ?_⟩⟩⟩⟩⟩⟩
  have g5' : M5 = nP N i x1 x2 x3 x4 x5 := by rw [g5, g4, g3', g2, g1, g3]; rfl
  subst g5'
  have qj : QS (fun _ => True) X (m + 1) (nP N i x1 x2 x3 x4 x5) t := ⟨⟨q.1.1.junk hm hi, q.1.2⟩, q.2⟩
  have j2 : (nP N i x1 x2 x3 x4 x5).2.1 1 0 2 = (30, 2) := qj.1.W.1 2 (by decide) (by decide)
  have s2 : (nP N i x1 x2 x3 x4 x5).1 30 2 0 = t 1 0 := qj.1.S (2, 1, 0) (by decide)
  have sl' : (nP N i x1 x2 x3 x4 x5).1 30 4 0 = t 11 0 := qj.1.S (4, 11, 0) (by decide)
  have f0 : (nP N i x1 x2 x3 x4 x5).1 4 i 0 = x1 := by rw [nP_i, if_pos rfl]; rfl
  have f1 : (nP N i x1 x2 x3 x4 x5).1 4 i 1 = x2 := by rw [nP_i, if_pos rfl]; rfl
  have f2 : (nP N i x1 x2 x3 x4 x5).1 4 i 2 = x3 := by rw [nP_i, if_pos rfl]; rfl
  have f3 : (nP N i x1 x2 x3 x4 x5).1 4 i 3 = x4 := by rw [nP_i, if_pos rfl]; rfl
  have main : ∀ r7 : Int32, (r7 = 0 ∧ (x5 < 1 ∨ 1000 < x5)) ∨ (r7 = 1 ∧ ¬ x5 < 1 ∧ ¬ 1000 < x5) → v_X0_plan (1, 0) (30, 4) (4, i) r7 (nP N i x1 x2 x3 x4 x5) (fun v N' => ∃ t', QS (fun _ => True) X (m + 1) N' t' ∧ ∀ Q, Q v t' → w_slow x1 x2 x3 x4 x5 t Q) := fun r7 h7 => by
    refine ⟨rfl, fun e1 ee1 => ?_⟩
    have q1 : e1 = (30, 2) := ee1.trans j2
    subst q1
    refine ⟨rfl, ?_⟩
    show v_X0_has (30, 2) ((nP N i x1 x2 x3 x4 x5).1 4 i 0) _ _
    rw [f0]
    refine has_c s2 (fun h => ⟨fun v => absurd rfl v, fun _ => ⟨t, qj, fun Q hQ => wst_c (fun _ => ⟨fun v => absurd rfl v, fun _ => hQ⟩) (fun a b => absurd (ab_or h a b) id)⟩⟩) (fun a1 a2 => ⟨fun _ => ⟨rfl, ?_⟩, fun v => absurd v (by decide)⟩)
    have T1 : ∀ K : Int32 → DB → Prop, K 1 t → w_isStation x1 t K := fun K hK => wst_c (fun h => absurd (ab_or h a1 a2) id) (fun _ _ => hK)
    show v_X0_in ((nP N i x1 x2 x3 x4 x5).1 4 i 1) 0 2 _ _
    rw [f1]
    refine in_c (fun h => ⟨fun _ => ⟨t, qj, fun Q hQ => T1 _ ⟨fun _ => ⟨fun _ => ⟨fun _ => hQ, fun v => absurd rfl v⟩, fun a => ⟨fun _ => ⟨fun _ => hQ, fun v => absurd rfl v⟩, fun b => absurd h (fun h => h.elim a b)⟩⟩, fun v => absurd v (by decide)⟩⟩, fun v => absurd rfl v⟩) (fun d1 d2 => ⟨fun v => absurd v (by decide), fun _ => ⟨rfl, ?_⟩⟩)
    have T2 : ∀ Q : Int32 → DB → Prop, (((x3 < 0) → (Q (-2) t)) ∧ ((¬ x3 < 0) → (((x4 < x3) → (Q (-2) t)) ∧ ((¬ x4 < x3) → (((x5 < 1) → (Q (-2) t)) ∧ ((¬ x5 < 1) → (((x5 ≤ 1000) → (((¬ (t 11 0) = 30) → (vp_in (t 11 0) 30 ∧ (∀ t_5 : DB, t_5 = up t 12 (t 11 0).toNatClampNeg x1 → (vp_in (t_5 11 0) 30 ∧ (∀ t_6 : DB, t_6 = up t_5 13 (t_5 11 0).toNatClampNeg x2 → (vp_in (t_6 11 0) 30 ∧ (∀ t_7 : DB, t_7 = up t_6 14 (t_6 11 0).toNatClampNeg x3 → (vp_in (t_7 11 0) 30 ∧ (∀ t_8 : DB, t_8 = up t_7 15 (t_7 11 0).toNatClampNeg x4 → (vp_in (t_8 11 0) 30 ∧ (∀ t_9 : DB, t_9 = up t_8 16 (t_8 11 0).toNatClampNeg x5 → (∀ t_10 : DB, t_10 = up t_9 11 0 ((t_9 11 0) + 1) → (Q (t_10 11 0) t_10))))))))))))) ∧ (((t 11 0) = 30) → (Q (-3) t)))) ∧ ((¬ x5 ≤ 1000) → (Q (-2) t))))))))) → w_slow x1 x2 x3 x4 x5 t Q := fun Q h => T1 _ ⟨fun _ => ⟨fun a => absurd a d1, fun _ => ⟨fun a => absurd a d2, fun _ => ⟨fun v => absurd v (by decide), fun _ => h⟩⟩⟩, fun v => absurd v (by decide)⟩
    show ((nP N i x1 x2 x3 x4 x5).1 4 i 2 < 0 → _) ∧ (¬ (nP N i x1 x2 x3 x4 x5).1 4 i 2 < 0 → _ ∧ _ ∧ ((nP N i x1 x2 x3 x4 x5).1 4 i 3 < (nP N i x1 x2 x3 x4 x5).1 4 i 2 → _) ∧ (¬ (nP N i x1 x2 x3 x4 x5).1 4 i 3 < (nP N i x1 x2 x3 x4 x5).1 4 i 2 → _))
    rw [f2, f3]
    refine ⟨fun z => ⟨t, qj, fun Q hQ => T2 Q ⟨fun _ => hQ, fun a => absurd z a⟩⟩, fun z => ⟨rfl, rfl, fun z2 => ⟨t, qj, fun Q hQ => T2 Q ⟨fun a => absurd a z, fun _ => ⟨fun _ => hQ, fun a => absurd z2 a⟩⟩⟩, fun z2 => ⟨fun u => ⟨lk30, ?_⟩, fun u => ?_⟩⟩⟩
    rotate_left
    · rcases h7 with ⟨w1, w2⟩ | ⟨w1, w2⟩
      · exact ⟨t, qj, fun Q hQ => T2 Q ⟨fun a => absurd a z, fun _ => ⟨fun a => absurd a z2, fun _ => ⟨fun _ => hQ, fun a => ⟨fun b => absurd w2 (fun h => h.elim a (Int32.not_lt.mpr b)), fun _ => hQ⟩⟩⟩⟩⟩
      · rw [w1] at u
        exact absurd u (by decide)
    obtain ⟨w2, w3⟩ : ¬ x5 < 1 ∧ ¬ 1000 < x5 := by
      rcases h7 with ⟨w1, -⟩ | ⟨-, w⟩
      · exact absurd w1 u
      · exact w
    have T3 : ∀ Q : Int32 → DB → Prop, (((¬ (t 11 0) = 30) → (vp_in (t 11 0) 30 ∧ (∀ t_5 : DB, t_5 = up t 12 (t 11 0).toNatClampNeg x1 → (vp_in (t_5 11 0) 30 ∧ (∀ t_6 : DB, t_6 = up t_5 13 (t_5 11 0).toNatClampNeg x2 → (vp_in (t_6 11 0) 30 ∧ (∀ t_7 : DB, t_7 = up t_6 14 (t_6 11 0).toNatClampNeg x3 → (vp_in (t_7 11 0) 30 ∧ (∀ t_8 : DB, t_8 = up t_7 15 (t_7 11 0).toNatClampNeg x4 → (vp_in (t_8 11 0) 30 ∧ (∀ t_9 : DB, t_9 = up t_8 16 (t_8 11 0).toNatClampNeg x5 → (∀ t_10 : DB, t_10 = up t_9 11 0 ((t_9 11 0) + 1) → (Q (t_10 11 0) t_10))))))))))))) ∧ (((t 11 0) = 30) → (Q (-3) t))) → w_slow x1 x2 x3 x4 x5 t Q := fun Q h => T2 Q ⟨fun a => absurd a z, fun _ => ⟨fun a => absurd a z2, fun _ => ⟨fun a => absurd a w2, fun _ => ⟨fun _ => h, fun a => absurd (Int32.not_lt.mp w3) a⟩⟩⟩⟩
    refine ⟨fun y => ⟨lk30, rfl, ?_, ?_, fun M6 g6 => ⟨lk30, ?_⟩⟩, fun y => ⟨t, qj, fun Q hQ => T3 Q ⟨fun v => absurd (sl'.symm.trans y) v, fun _ => hQ⟩⟩⟩
    · show (nP N i x1 x2 x3 x4 x5).1 30 4 0 < nI 10000
      rw [sl', b1.1]
      exact nI_lt (by omega) (by decide)
    · exact ⟨by show N.2.2.2.1 + 1 + 1 ≤ 600000; omega, by show N.2.2.2.2 + 5 + 10 ≤ 7302250; omega⟩
    have y' : ¬ t 11 0 = 30 := fun v => y (sl'.trans v)
    have hk8 : cn t 11 < 30 := by
      rcases Nat.lt_or_ge (cn t 11) 30 with v | v
      · exact v
      · exact absurd (by rw [b1.1, show cn t 11 = 30 from Nat.le_antisymm b1.2 v]; rfl) y'
    obtain ⟨e5, he5, ee5⟩ := rng (x := x5) (n := 1000) (by decide) (fun h => w2 (Int32.lt_trans h (by decide))) w3
    have hS := q.1.1.slow hm hi rfl hk8 (x1 := x1) (x2 := x2) (x3 := x3) (x4 := x4) (x5 := x5)
    have qq := q'.tf hS tslow_TF (by decide)
    have sz' : (lAdd (nP N i x1 x2 x3 x4 x5) (30, 4) (4, i)).1 30 4 0 = nI (cn t 11 + 1) := (hS.S (4, 11, 0) (by decide)).trans up_s
    have vk : vp_in (nI (cn t 11)) 30 := vp_in_nI hk8 (by decide)
    have ck : (nI (cn t 11)).toNatClampNeg = cn t 11 := nI_clamp (by omega)
    have g6' : M6 = lAdd (nP N i x1 x2 x3 x4 x5) (30, 4) (4, i) := g6
    subst g6'
    show ∃ t', QS (fun _ => True) X (m + 1) (lAdd (nP N i x1 x2 x3 x4 x5) (30, 4) (4, i)) t' ∧ ∀ Q, Q ((lAdd (nP N i x1 x2 x3 x4 x5) (30, 4) (4, i)).1 30 4 0) t' → w_slow x1 x2 x3 x4 x5 t Q
    rw [sz']
    refine ⟨_, qq, fun Q hQ => T3 Q ⟨fun _ => ?_, fun v => absurd v y'⟩⟩
    rw [b1.1, ck]
    refine ⟨vk, fun t1 e1 => ?_⟩
    have z1 : t1 11 0 = nI (cn t 11) := by rw [e1, up_f (by decide)]; exact b1.1
    rw [z1, ck]
    refine ⟨vk, fun t2 e2 => ?_⟩
    have z2 : t2 11 0 = nI (cn t 11) := by rw [e2, up_f (by decide)]; exact z1
    rw [z2, ck]
    refine ⟨vk, fun t3 e3 => ?_⟩
    have z3 : t3 11 0 = nI (cn t 11) := by rw [e3, up_f (by decide)]; exact z2
    rw [z3, ck]
    refine ⟨vk, fun t4 e4 => ?_⟩
    have z4 : t4 11 0 = nI (cn t 11) := by rw [e4, up_f (by decide)]; exact z3
    rw [z4, ck]
    refine ⟨vk, fun t5 e5 t6 e6 => ?_⟩
    have z5 : t5 11 0 = nI (cn t 11) := by rw [e5, up_f (by decide)]; exact z4
    rw [z5, nI_1] at e6
    have e6' : t6 = tslow t (cn t 11) x1 x2 x3 x4 x5 := by rw [e6, e5, e4, e3, e2, e1]; rfl
    subst e6'
    rw [show tslow t (cn t 11) x1 x2 x3 x4 x5 11 0 = nI (cn t 11 + 1) from up_s]
    exact hQ
  refine in_c (fun h => ⟨rfl, main 0 (Or.inl ⟨rfl, h⟩)⟩) (fun a b => ⟨rfl, main 1 (Or.inr ⟨rfl, a, b⟩)⟩)
