set_option maxRecDepth 100000
/-! an alarm is set -/
def aV (s x2 x3 : Int32) (f : Nat) : Int32 := if f = 104 then s else if f = 105 then x2 else if f = 106 then x3 else if f = 108 then -1 else 0
def tAl (t : DB) (k : Nat) (s x2 x3 : Int32) : DB := up (blk t k (aV s x2 x3) 104 110) 103 0 (nI (k + 1))
abbrev AC2 : List Nat := [103, 104, 105, 106, 107, 108, 109]
theorem tAl_TF {t : DB} {k : Nat} {s x2 x3 : Int32} : TF t (tAl t k s x2 x3) AC2 := fun f hf => by
  funext i
  have : f < 103 ∨ 109 < f := by simp at hf; omega
  unfold tAl blk
  rw [up_f (by omega), if_neg (by omega)]
theorem SZ.alarm {X : Mem} {m : Nat} {N N' : Mem} {t : DB} (h : SZ X m 60 [] 100000 N t) (hm : m + 1 ≤ 100) {k : Nat} (hk : cn t 103 = k) (hk8 : k < 10) {s : Nat} (hs3 : s ≤ 3) {x2 x3 : Int32} (hf : NF N N' [25, 26, 27, 28, 30]) (L : LA N N' 13 k (25 + s, k)) (hold : ∀ kk, 25 ≤ kk → kk ≤ 28 → ∀ i, i ≠ k → N'.1 kk i = N.1 kk i ∧ N'.2.1 kk i = N.2.1 kk i ∧ N'.2.2.1 kk i = N.2.2.1 kk i)
    (n0 : N'.1 (25 + s) k 0 = 0) (n1 : N'.1 (25 + s) k 1 = 0) (n2 : N'.1 (25 + s) k 2 = -1) (n3 : N'.2.1 (25 + s) k 3 = (1, 0))
    (h0 : s = 0 → ∃ g, g < cn t 30 ∧ x2 = nI g ∧ t 31 g = 0 ∧ N'.2.1 25 k 4 = (10, g)) (h1 : s = 1 → ∃ i, i < cn t 1 ∧ x2 = nI i ∧ N'.2.1 26 k 4 = (3, i) ∧ N'.1 26 k 5 = x3) (h2 : s = 2 → ∃ g, g < cn t 30 ∧ x2 = nI g ∧ t 31 g = 1 ∧ N'.2.1 27 k 4 = (11, g) ∧ N'.1 27 k 5 = x3) (h3 : s = 3 → N'.1 28 k 4 = x3 ∧ N'.2.1 28 k 5 = (1, 0))
    (hc1 : N'.2.2.2.1 = N.2.2.2.1 + 2) (hc2 : N'.2.2.2.2 ≤ N.2.2.2.2 + 20) : SZ X (m + 1) 60 [] 100000 N' (tAl t k (nI s) x2 x3) := by
  have ht := tAl_TF (t := t) (k := k) (s := nI s) (x2 := x2) (x3 := x3)
  have t1 : tAl t k (nI s) x2 x3 103 0 = nI (k + 1) := up_s
  have c1 : cn (tAl t k (nI s) x2 x3) 103 = k + 1 := by unfold cn; rw [t1, nI_clamp (by omega)]
  have tv : ∀ f i, 104 ≤ f → f ≤ 109 → tAl t k (nI s) x2 x3 f i = if i = k then aV (nI s) x2 x3 f else t f i := fun f i h1 h2 => by
    unfold tAl blk
    rw [up_f (by omega)]
    by_cases e : i = k
    · rw [if_pos (by omega), if_pos e]
    · rw [if_neg (by omega), if_neg e]
  generalize tAl t k (nI s) x2 x3 = t' at *
  have hK : S_K N' t' := h.K.la L hk c1 (fun q hq => Or.inr ⟨(by decide : ∀ q ∈ TK, q.1 ≠ 13) q hq, ht.cn ((by decide : ∀ q ∈ TK, q.2.2 ∉ AC2) q hq)⟩)
  have hSS : S_S N' t' := h.S.la L (fun q hq => by
    by_cases e : q.1 = 13
    · have : q = (13, 103, 0) := (by decide : ∀ q ∈ TS, q.1 = 13 → q = (13, 103, 0)) q hq e
      subst this
      exact Or.inl ⟨rfl, t1⟩
    · exact Or.inr ⟨e, by rw [ht _ ((by decide : ∀ q ∈ TS, q.1 ≠ 13 → q.2.1 ∉ AC2) q hq e)]⟩)
  have hE : S_E N' t' := h.E.la (fun q hq i hi => by
    by_cases e : 25 ≤ q.1 ∧ q.1 ≤ 28
    · have e2 : q.2 = 103 := (by decide : ∀ q ∈ TE, 25 ≤ q.1 ∧ q.1 ≤ 28 → q.2 = 103) q hq e
      rw [e2, c1] at hi
      rw [e2]
      exact ⟨by omega, (hold q.1 e.1 e.2 i (by omega)).2.2⟩
    · have hq3 := (by decide : ∀ q ∈ TE, ¬ (25 ≤ q.1 ∧ q.1 ≤ 28) → q.1 ∉ [25, 26, 27, 28, 30] ∧ q.2 ∉ AC2) q hq e
      rw [ht.cn hq3.2] at hi
      exact ⟨hi, by rw [(hf q.1 hq3.1).2.2]⟩)
  have hM : S_M (m + 1) N' t' := h.M.up ht (by decide) (by omega) (by omega)
  have hB : I_B t' := by
    obtain ⟨a1, a2, a3, a4, a5, a6, a7, a8, a9, a10, a11, a12⟩ := h.iB
    exact ⟨a1.fr (ht _ (by decide)), a2.fr (ht _ (by decide)), a3.fr (ht _ (by decide)), a4.fr (ht _ (by decide)), a5.fr (ht _ (by decide)), a6.fr (ht _ (by decide)), a7.fr (ht _ (by decide)), a8.fr (ht _ (by decide)), a9.fr (ht _ (by decide)), a10.fr (ht _ (by decide)), ⟨by rw [c1]; exact t1, by rw [c1]; omega⟩, a12.fr (ht _ (by decide))⟩
  have hA : S_A N' t' := by
    intro a ha
    rw [c1] at ha
    rw [ht.cn (by decide), ht.cn (by decide), ht 31 (by decide), tv 104 a (by decide) (by decide), tv 105 a (by decide) (by decide), tv 106 a (by decide) (by decide), tv 107 a (by decide) (by decide), tv 108 a (by decide) (by decide), tv 109 a (by decide) (by decide)]
    by_cases e : a = k
    · subst e
      rw [if_pos rfl, if_pos rfl, if_pos rfl, if_pos rfl, if_pos rfl, if_pos rfl]
      exact ⟨s, hs3, rfl, by rw [L.2, if_pos ⟨rfl, rfl⟩], n0, n1, n2, n3, Or.inl rfl, h0, h1, h2, h3⟩
    · rw [if_neg e, if_neg e, if_neg e, if_neg e, if_neg e, if_neg e]
      obtain ⟨s', b1, b2, b3, b4⟩ := h.A a (by omega)
      obtain ⟨o1, o2, -⟩ := hold (25 + s') (by omega) (by omega) a e
      refine ⟨s', b1, b2, by rw [L.2, if_neg (fun y => e y.2)]; exact b3, ?_⟩
      rw [o1, o2, (hold 25 (by decide) (by decide) a e).2.1, (hold 26 (by decide) (by decide) a e).2.1, (hold 26 (by decide) (by decide) a e).1, (hold 27 (by decide) (by decide) a e).2.1, (hold 27 (by decide) (by decide) a e).1, (hold 28 (by decide) (by decide) a e).2.1, (hold 28 (by decide) (by decide) a e).1]
      exact b4
  have n4 := hf 4 (by decide)
  have h' := h.mup (Nat.le_succ m) hm
  have hKK : I_K (m + 1) t' := h'.iK.fr ht (by decide)
  exact ⟨h.I.fr hf (by decide) ht (by decide), h.R.fr hf (by decide) ht (by decide), h.N.fr hf (by decide) ht (by decide), hK, hSS, hE, h.W.fr hf (by decide) ht (by decide), h.P1.fl ⟨n4.1, n4.2.2⟩ (L.ne (by decide)) ht (by decide), h.P2.fl ⟨n4.1, n4.2.2⟩ (L.ne (by decide)) ht (by decide), h.G.fl hf (by decide) (L.ne (by decide)) ht (by decide), h.G0.fr hf (by decide) ht (by decide), h.G1.fr hf (by decide) ht (by decide), h.G2.fr hf (by decide) ht (by decide), h.G7.fr hf (by decide) ht (by decide), h.T.fr hf (by decide) ht (by decide), h.U.fl (L.ne (by decide)) ht (by decide), h.C.fr hf (by decide) ht (by decide), h.V.fr hf (by decide) ht (by decide), h.O.fr hf (by decide) ht (by decide), hA, h.Y.fr hf (by decide) ht (by decide), h.Q.fr hf (by decide) ht (by decide), h.B.fr ht (by decide), h.F.fr hf (by decide), hM, hB, h.iG.fr ht (by decide), h.iT.fr ht (by decide), h.iO.fr ht (by decide), h.iC.fr ht (by decide), h.iH.fr ht (by decide), h.iZ.fr ht (by decide), h.iL.fr ht (by decide), h.iR.fr ht (by decide), h.iX.fr ht (by decide), h.iU.fr ht (by decide), h.iD.fr ht (by decide), hKK, h.iY.fr ht (by decide), h.J.fr ht (by decide), h.GT.fr hf (by decide) ht (by decide), h.H.fr hf (by decide) ht (by decide)⟩
theorem w_al_s {t : DB} {k : Nat} {x1 x2 x3 : Int32} {Q : Int32 → DB → Prop} (b : bnd t 103 10) (hk : cn t 103 = k) (h0 : k < 10 → Q (nI k) (tAl t k x1 x2 x3)) (h1 : t 103 0 = 10 → Q (-3) t) : w_alarm_117 x1 x2 x3 1 t Q := by
  refine ⟨fun _ => ⟨fun y => ?_, h1⟩, fun v => absurd v (by decide)⟩
  obtain ⟨b1, b2⟩ := b
  rw [hk] at b1 b2
  have hk10 : k < 10 := by
    rcases Nat.lt_or_ge k 10 with v | v
    · exact v
    · exact absurd (by rw [b1, show k = 10 from Nat.le_antisymm b2 v]; rfl) y
  have vo : vp_in (nI k) 10 := vp_in_nI hk10 (by decide)
  have co : (nI k).toNatClampNeg = k := nI_clamp (by omega)
  have b0 : blk t k (aV x1 x2 x3) 104 104 = t := blk_0
  have zz : ∀ {n : Nat} {t' : DB}, t' = blk t k (aV x1 x2 x3) 104 n → t' 103 0 = nI k := fun {n} {t'} e => by
    rw [e]
    exact (if_neg (by omega)).trans b1
  rw [b1, co]
  refine ⟨vo, fun t1 e1 => ?_⟩
  have f1 : t1 = blk t k (aV x1 x2 x3) 104 105 := by
    rw [e1]
    have := blk_s (t := t) (c := k) (V := aV x1 x2 x3) (a := 104) (b := 104) (v := x1) (Nat.le_refl _) rfl
    rw [b0] at this
    exact this
  rw [zz f1, co]
  refine ⟨vo, fun t2 e2 => ?_⟩
  have f2 : t2 = blk t k (aV x1 x2 x3) 104 106 := by rw [e2, f1]; exact blk_s (by decide) rfl
  rw [zz f2, co]
  refine ⟨vo, fun t3 e3 => ?_⟩
  have f3 : t3 = blk t k (aV x1 x2 x3) 104 107 := by rw [e3, f2]; exact blk_s (by decide) rfl
  rw [zz f3, co]
  refine ⟨vo, fun t4 e4 => ?_⟩
  have f4 : t4 = blk t k (aV x1 x2 x3) 104 108 := by rw [e4, f3]; exact blk_s (by decide) rfl
  rw [zz f4, co]
  refine ⟨vo, fun t5 e5 => ?_⟩
  have f5 : t5 = blk t k (aV x1 x2 x3) 104 109 := by rw [e5, f4]; exact blk_s (by decide) rfl
  rw [zz f5, co]
  refine ⟨vo, fun t6 e6 t7 e7 => ?_⟩
  have f6 : t6 = blk t k (aV x1 x2 x3) 104 110 := by rw [e6, f5]; exact blk_s (by decide) rfl
  rw [zz f6, nI_1, f6] at e7
  have e7' : t7 = tAl t k x1 x2 x3 := e7
  subst e7'
  rw [show tAl t k x1 x2 x3 103 0 = nI (k + 1) from up_s, nI_pred]
  exact h0 hk10
/-- a guard of that sort -/
def isGd (t : DB) (x : Int32) (s : Nat) : Prop := ∃ j, j < cn t 30 ∧ x = nI j ∧ t 31 j = nI s
theorem isG_c {t : DB} (b : bnd t 30 24) (hG : I_G t) {x : Int32} {s : Nat} (hs : s ≤ 9) {K : Int32 → DB → Prop} (hno : ¬ isGd t x s → K 0 t) (hyes : isGd t x s → K 1 t) : w_isGuard x (nI s) t K := by
  have b24 : cn t 30 ≤ 24 := b.2
  refine ⟨fun a => hno (fun ⟨j, j1, j2, j3⟩ => ?_), fun a => ⟨fun c => hno (fun ⟨j, j1, j2, j3⟩ => ?_), fun c => ?_⟩⟩
  · rw [j2] at a
    exact absurd a (nI_pos (by omega))
  · rw [j2, b.1] at c
    exact absurd c (nI_ge j1 (by omega))
  · obtain ⟨j, hj, e⟩ := rngL (x := x) (n := cn t 30) (by omega) a (by rw [← b.1]; exact c)
    subst e
    refine ⟨vp_in_nI (by omega) (by decide), ?_⟩
    rw [nI_clamp (by omega)]
    exact ⟨fun y => hno (fun ⟨i, i1, i2, i3⟩ => y (by rw [(nI_eq (by omega) (by omega)).mp i2]; exact i3)), fun y => hyes ⟨j, hj, rfl, y⟩⟩
theorem fuseOf_c {N : Mem} {t : DB} (b : bnd t 30 24) (w5 : N.2.1 1 0 5 = (30, 5)) (s5 : N.1 30 5 0 = t 30 0) (eK : ∀ j, j < cn t 30 → ∃ s, s ≤ 9 ∧ t 31 j = nI s ∧ N.2.1 30 5 j = (10 + s, j)) {x : Int32} {K : Nat × Nat → Mem → Prop} (hno : ¬ isGd t x 0 → K (0, 0) N) (hyes : ∀ j, j < cn t 30 → x = nI j → t 31 j = 0 → K (10, j) N) : v_X0_fuseOf (1, 0) x N K := by
  have b24 : cn t 30 ≤ 24 := b.2
  refine ⟨rfl, fun e1 ee1 => ?_⟩
  have q1 : e1 = (30, 5) := ee1.trans w5
  subst q1
  refine has_c s5 (fun h => ⟨fun _ => hno (fun ⟨j, j1, j2, j3⟩ => ?_), fun v => absurd rfl v⟩) (fun a1 a2 => ⟨fun v => absurd v (by decide), fun _ => ⟨rfl, fun e4 ee4 => ?_⟩⟩)
  · rw [j2, b.1] at h
    exact h.elim (nI_pos (by omega)) (nI_ge j1 (by omega))
  obtain ⟨j, hj, e⟩ := rngL (x := x) (n := cn t 30) (by omega) a1 (by rw [← b.1]; exact a2)
  subst e
  have q4 : e4 = (30, 5) := ee4.trans w5
  subst q4
  refine ⟨⟨by decide, by decide⟩, ⟨a1, by show nI j < N.1 30 5 0; rw [s5]; exact Int32.not_le.mp a2⟩, fun e5 ee5 => ?_⟩
  rw [nI_clamp (by omega)] at ee5
  obtain ⟨s, s9, s1, s2⟩ := eK j hj
  have q5 : e5 = (10 + s, j) := ee5.trans s2
  subst q5
  have hgk : gk (10 + s) := ⟨by omega, by omega⟩
  refine ⟨hgk, fun y => ⟨y, ?_⟩, fun y => hno (fun ⟨i, i1, i2, i3⟩ => y ?_)⟩
  · have : s = 0 := by
      have y' : kt (10 + s) = 5 := y
      rw [ktg s9] at y'
      omega
    subst this
    exact hyes j hj rfl s1
  · have : i = j := ((nI_eq (by omega) (by omega)).mp i2).symm
    subst this
    have : s = 0 := (nI_eq (by omega) (by omega)).mp (s1.symm.trans i3)
    subst this
    rfl
theorem bulkOf_c {N : Mem} {t : DB} (b : bnd t 30 24) (w5 : N.2.1 1 0 5 = (30, 5)) (s5 : N.1 30 5 0 = t 30 0) (eK : ∀ j, j < cn t 30 → ∃ s, s ≤ 9 ∧ t 31 j = nI s ∧ N.2.1 30 5 j = (10 + s, j)) {x : Int32} {K : Nat × Nat → Mem → Prop} (hno : ¬ isGd t x 1 → K (0, 0) N) (hyes : ∀ j, j < cn t 30 → x = nI j → t 31 j = 1 → K (11, j) N) : v_X0_bulkheadOf (1, 0) x N K := by
  have b24 : cn t 30 ≤ 24 := b.2
  refine ⟨rfl, fun e1 ee1 => ?_⟩
  have q1 : e1 = (30, 5) := ee1.trans w5
  subst q1
  refine has_c s5 (fun h => ⟨fun _ => hno (fun ⟨j, j1, j2, j3⟩ => ?_), fun v => absurd rfl v⟩) (fun a1 a2 => ⟨fun v => absurd v (by decide), fun _ => ⟨rfl, fun e4 ee4 => ?_⟩⟩)
  · rw [j2, b.1] at h
    exact h.elim (nI_pos (by omega)) (nI_ge j1 (by omega))
  obtain ⟨j, hj, e⟩ := rngL (x := x) (n := cn t 30) (by omega) a1 (by rw [← b.1]; exact a2)
  subst e
  have q4 : e4 = (30, 5) := ee4.trans w5
  subst q4
  refine ⟨⟨by decide, by decide⟩, ⟨a1, by show nI j < N.1 30 5 0; rw [s5]; exact Int32.not_le.mp a2⟩, fun e5 ee5 => ?_⟩
  rw [nI_clamp (by omega)] at ee5
  obtain ⟨s, s9, s1, s2⟩ := eK j hj
  have q5 : e5 = (10 + s, j) := ee5.trans s2
  subst q5
  have hgk : gk (10 + s) := ⟨by omega, by omega⟩
  refine ⟨hgk, fun y => ⟨y, ?_⟩, fun y => hno (fun ⟨i, i1, i2, i3⟩ => y ?_)⟩
  · have : s = 1 := by
      have y' : kt (10 + s) = 6 := y
      rw [ktg s9] at y'
      omega
    subst this
    exact hyes j hj rfl s1
  · have : i = j := ((nI_eq (by omega) (by omega)).mp i2).symm
    subst this
    have : s = 1 := (nI_eq (by omega) (by omega)).mp (s1.symm.trans i3)
    subst this
    rfl
