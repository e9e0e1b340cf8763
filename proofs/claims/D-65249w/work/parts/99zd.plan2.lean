set_option maxRecDepth 100000
/-! a plan is made, a plan is stopped -/
def pW (x1 x2 x3 x4 x5 x6 x7 tm : Int32) (f : Nat) : Int32 := if f = 6 then x7 else if f = 5 then x6 else if f = 4 then x5 else if f = 3 then x4 else if f = 2 then x3 else if f = 1 then x2 else if f = 0 then x1 else if f = 9 then -1 else if f = 7 then tm else 0
def nPl (N : Mem) (k : Nat) (x1 x2 x3 x4 x5 x6 x7 tm : Int32) : Mem := lAdd (sI (sI (sI (sI (sI (sI (sI (sI (sI (sR (sN N 24 k 0 14) 24 k 13 (1, 0)) 24 k 7 tm) 24 k 9 (-1)) 24 k 0 x1) 24 k 1 x2) 24 k 2 x3) 24 k 3 x4) 24 k 4 x5) 24 k 5 x6) 24 k 6 x7) (30, 12) (24, k)
def tPl (t : DB) (k : Nat) (x1 x2 x3 x4 x5 x6 x7 tm : Int32) : DB := up (blk t k (fun f => pW x1 x2 x3 x4 x5 x6 x7 tm (f - 90)) 90 103) 89 0 (nI (k + 1))
abbrev LC : List Nat := [89, 90, 91, 92, 93, 94, 95, 96, 97, 98, 99, 100, 101, 102]
theorem tPl_TF {t : DB} {k : Nat} {x1 x2 x3 x4 x5 x6 x7 tm : Int32} : TF t (tPl t k x1 x2 x3 x4 x5 x6 x7 tm) LC := fun f hf => by
  funext i
  have : f < 89 ∨ 102 < f := by simp at hf; omega
  unfold tPl blk
  rw [up_f (by omega), if_neg (by omega)]
theorem SZ.plan {X : Mem} {m : Nat} {N : Mem} {t : DB} (h : SZ X m 60 [] 100000 N t) (hm : m + 1 ≤ 100) {k : Nat} (hk : cn t 89 = k) (hk8 : k < 12) {T s a v e : Nat} {x6 x7 tm : Int32} (hT : T < cn t 47) (hs : s < cn t 1) (ha : a ≤ 2) (hv : v ≤ 1000000) (he1 : 1 ≤ e) (he2 : e ≤ 1000) : SZ X (m + 1) 60 [] 100000 (nPl N k (nI T) (nI s) (nI a) (nI v) (nI e) x6 x7 tm) (tPl t k (nI T) (nI s) (nI a) (nI v) (nI e) x6 x7 tm) := by
  generalize hx1 : nI T = x1
  generalize hx2 : nI s = x2
  generalize hx3 : nI a = x3
  generalize hx4 : nI v = x4
  generalize hx5 : nI e = x5
  have hf0 : NF N (sI (sI (sI (sI (sI (sI (sI (sI (sI (sR (sN N 24 k 0 14) 24 k 13 (1, 0)) 24 k 7 tm) 24 k 9 (-1)) 24 k 0 x1) 24 k 1 x2) 24 k 2 x3) 24 k 3 x4) 24 k 4 x5) 24 k 5 x6) 24 k 6 x7) [24] := ((((((((((NF.rf.wN _ _ _ (by decide)).wR _ _ _ (by decide)).wI _ _ _ (by decide)).wI _ _ _ (by decide)).wI _ _ _ (by decide)).wI _ _ _ (by decide)).wI _ _ _ (by decide)).wI _ _ _ (by decide)).wI _ _ _ (by decide)).wI _ _ _ (by decide)).wI _ _ _ (by decide)
  have hf : NF N (nPl N k x1 x2 x3 x4 x5 x6 x7 tm) [24, 30] := (hf0.mono (by decide)).wA _ _ (by decide)
  have ht := tPl_TF (t := t) (k := k) (x1 := x1) (x2 := x2) (x3 := x3) (x4 := x4) (x5 := x5) (x6 := x6) (x7 := x7) (tm := tm)
  have b1 : t 89 0 = nI k := by rw [← hk]; exact h.iB.2.2.2.2.2.2.2.2.2.1.1
  have L : LA N (nPl N k x1 x2 x3 x4 x5 x6 x7 tm) 12 k (24, k) := LA.mk hf0 (by decide) ((h.S (12, 89, 0) (by decide)).trans b1) (by omega)
  have t1 : tPl t k x1 x2 x3 x4 x5 x6 x7 tm 89 0 = nI (k + 1) := up_s
  have c1 : cn (tPl t k x1 x2 x3 x4 x5 x6 x7 tm) 89 = k + 1 := by unfold cn; rw [t1, nI_clamp (by omega)]
  have i24 : ∀ i f, (nPl N k x1 x2 x3 x4 x5 x6 x7 tm).1 24 i f = if i = k then pW x1 x2 x3 x4 x5 x6 x7 tm f else N.1 24 i f := fun i f => by
    by_cases e : i = k <;> simp [nPl, lAdd, sI, sR, sN, pW, e]
  have r24 : ∀ i, (nPl N k x1 x2 x3 x4 x5 x6 x7 tm).2.1 24 i 13 = if i = k then (1, 0) else N.2.1 24 i 13 := fun i => by
    by_cases e : i = k <;> simp [nPl, lAdd, sI, sR, sN, e]
  have x24 : ∀ i, i ≠ k → (nPl N k x1 x2 x3 x4 x5 x6 x7 tm).2.2.1 24 i = N.2.2.1 24 i := fun i hi => by simp [nPl, lAdd, sI, sR, sN, hi]
  have tv : ∀ f i, 90 ≤ f → f ≤ 102 → tPl t k x1 x2 x3 x4 x5 x6 x7 tm f i = if i = k then pW x1 x2 x3 x4 x5 x6 x7 tm (f - 90) else t f i := fun f i h1 h2 => by
    unfold tPl blk
    rw [up_f (by omega)]
    by_cases e : i = k
    · rw [if_pos (by omega), if_pos e]
    · rw [if_neg (by omega), if_neg e]
  have nx2 : (nPl N k x1 x2 x3 x4 x5 x6 x7 tm).2.2.2 = (N.2.2.2.1 + 2, N.2.2.2.2 + 24) := rfl
  generalize nPl N k x1 x2 x3 x4 x5 x6 x7 tm = N' at *
  generalize tPl t k x1 x2 x3 x4 x5 x6 x7 tm = t' at *
  have hI : S_I N' t' := by
    intro q hq i hi
    by_cases e : q.1 = 24
    · obtain ⟨z1, z2, z3⟩ := (by decide : ∀ q ∈ TI, q.1 = 24 → q.2.2.2 = 89 ∧ q.2.2.1 = q.2.1 + 90 ∧ q.2.1 ≤ 12) q hq e
      rw [z1, c1] at hi
      rw [e, i24, tv _ _ (by omega) (by omega)]
      by_cases ei : i = k
      · rw [if_pos ei, if_pos ei, z2, Nat.add_sub_cancel]
      · rw [if_neg ei, if_neg ei]
        have := h.I q hq i (by rw [z1, hk]; omega)
        rw [e] at this
        exact this
    · have hq3 := (by decide : ∀ q ∈ TI, q.1 ≠ 24 → q.1 ∉ [24, 30] ∧ q.2.2.1 ∉ LC ∧ q.2.2.2 ∉ LC) q hq e
      rw [ht.cn hq3.2.2] at hi
      rw [(hf q.1 hq3.1).1, ht _ hq3.2.1]
      exact h.I q hq i hi
  have hK : S_K N' t' := h.K.la L hk c1 (fun q hq => by
    by_cases e : q.1 = 12
    · have : q = (12, 24, 89) := (by decide : ∀ q ∈ TK, q.1 = 12 → q = (12, 24, 89)) q hq e
      subst this
      exact Or.inl ⟨rfl, rfl, rfl⟩
    · exact Or.inr ⟨e, ht.cn ((by decide : ∀ q ∈ TK, q.1 ≠ 12 → q.2.2 ∉ LC) q hq e)⟩)
  have hSS : S_S N' t' := h.S.la L (fun q hq => by
    by_cases e : q.1 = 12
    · have : q = (12, 89, 0) := (by decide : ∀ q ∈ TS, q.1 = 12 → q = (12, 89, 0)) q hq e
      subst this
      exact Or.inl ⟨rfl, t1⟩
    · exact Or.inr ⟨e, by rw [ht _ ((by decide : ∀ q ∈ TS, q.1 ≠ 12 → q.2.1 ∉ LC) q hq e)]⟩)
  have hE : S_E N' t' := h.E.la (fun q hq i hi => by
    by_cases e : q.1 = 24
    · have : q = (24, 89) := (by decide : ∀ q ∈ TE, q.1 = 24 → q = (24, 89)) q hq e
      subst this
      have hi' : cn t' 89 ≤ i := hi
      rw [c1] at hi'
      exact ⟨by show cn t 89 ≤ i; omega, x24 i (by omega)⟩
    · have hq3 := (by decide : ∀ q ∈ TE, q.1 ≠ 24 → q.1 ∉ [24, 30] ∧ q.2 ∉ LC) q hq e
      rw [ht.cn hq3.2] at hi
      exact ⟨hi, by rw [(hf q.1 hq3.1).2.2]⟩)
  have hM : S_M (m + 1) N' t' := h.M.up ht (by decide) (by rw [nx2]; dsimp only; omega) (by rw [nx2]; dsimp only; omega)
  have hB : I_B t' := by
    obtain ⟨a1, a2, a3, a4, a5, a6, a7, a8, a9, a10, a11, a12⟩ := h.iB
    exact ⟨a1.fr (ht _ (by decide)), a2.fr (ht _ (by decide)), a3.fr (ht _ (by decide)), a4.fr (ht _ (by decide)), a5.fr (ht _ (by decide)), a6.fr (ht _ (by decide)), a7.fr (ht _ (by decide)), a8.fr (ht _ (by decide)), a9.fr (ht _ (by decide)), ⟨by rw [c1]; exact t1, by rw [c1]; omega⟩, a11.fr (ht _ (by decide)), a12.fr (ht _ (by decide))⟩
  have hY : S_Y N' t' := by
    intro p hp
    rw [c1] at hp
    rw [r24]
    by_cases e : p = k
    · rw [if_pos e]
    · rw [if_neg e]; exact h.Y p (by omega)
  have hIY : I_Y t' := by
    obtain ⟨y1, y2⟩ := h.iY
    refine ⟨by rw [ht.cn (by decide), ht 10 (by decide)]; exact y1, fun p hp => ?_⟩
    rw [c1] at hp
    rw [ht.cn (by decide), ht.cn (by decide), tv 90 p (by decide) (by decide), tv 91 p (by decide) (by decide), tv 92 p (by decide) (by decide), tv 93 p (by decide) (by decide), tv 94 p (by decide) (by decide), tv 102 p (by decide) (by decide)]
    by_cases e' : p = k
    · rw [if_pos e', if_pos e', if_pos e', if_pos e', if_pos e', if_pos e']
      exact ⟨⟨T, hT, hx1.symm⟩, ⟨s, hs, hx2.symm⟩, ⟨a, ha, hx3.symm⟩, ⟨v, hv, hx4.symm⟩, ⟨e, he1, he2, hx5.symm⟩, Or.inl rfl⟩
    · rw [if_neg e', if_neg e', if_neg e', if_neg e', if_neg e', if_neg e']
      exact y2 p (by omega)
  have n4 := hf 4 (by decide)
  have h' := h.mup (Nat.le_succ m) hm
  have hKK : I_K (m + 1) t' := h'.iK.fr ht (by decide)
  exact ⟨hI, h.R.fr hf (by decide) ht (by decide), h.N.fr hf (by decide) ht (by decide), hK, hSS, hE, h.W.fr hf (by decide) ht (by decide), h.P1.fl ⟨n4.1, n4.2.2⟩ (L.ne (by decide)) ht (by decide), h.P2.fl ⟨n4.1, n4.2.2⟩ (L.ne (by decide)) ht (by decide), h.G.fl hf (by decide) (L.ne (by decide)) ht (by decide), h.G0.fr hf (by decide) ht (by decide), h.G1.fr hf (by decide) ht (by decide), h.G2.fr hf (by decide) ht (by decide), h.G7.fr hf (by decide) ht (by decide), h.T.fr hf (by decide) ht (by decide), h.U.fl (L.ne (by decide)) ht (by decide), h.C.fr hf (by decide) ht (by decide), h.V.fr hf (by decide) ht (by decide), h.O.fr hf (by decide) ht (by decide), h.A.fl hf (by decide) (L.ne (by decide)) ht (by decide), hY, h.Q.fr hf (by decide) ht (by decide), h.B.fr ht (by decide), h.F.fr hf (by decide), hM, hB, h.iG.fr ht (by decide), h.iT.fr ht (by decide), h.iO.fr ht (by decide), h.iC.fr ht (by decide), h.iH.fr ht (by decide), h.iZ.fr ht (by decide), h.iL.fr ht (by decide), h.iR.fr ht (by decide), h.iX.fr ht (by decide), h.iU.fr ht (by decide), h.iD.fr ht (by decide), hKK, hIY, h.J.fr ht (by decide), h.GT.fr hf (by decide) ht (by decide), h.H.fr hf (by decide) ht (by decide)⟩
theorem w_plan_s {t : DB} {k : Nat} {x1 x2 x3 x4 x5 x6 x7 : Int32} {Q : Int32 → DB → Prop} (h89 : t 89 0 = nI k) (hk : k < 12) (hQ : Q (nI k) (tPl t k x1 x2 x3 x4 x5 x6 x7 (t 0 0))) : ∀ x_9 : Int32, x_9 = t 89 0 → (vp_in x_9 12 ∧ (∀ t_10 : DB, t_10 = up t 90 x_9.toNatClampNeg x1 → (vp_in x_9 12 ∧ (∀ t_11 : DB, t_11 = up t_10 91 x_9.toNatClampNeg x2 → (vp_in x_9 12 ∧ (∀ t_12 : DB, t_12 = up t_11 92 x_9.toNatClampNeg x3 → (vp_in x_9 12 ∧ (∀ t_13 : DB, t_13 = up t_12 93 x_9.toNatClampNeg x4 → (vp_in x_9 12 ∧ (∀ t_14 : DB, t_14 = up t_13 94 x_9.toNatClampNeg x5 → (vp_in x_9 12 ∧ (∀ t_15 : DB, t_15 = up t_14 95 x_9.toNatClampNeg x6 → (vp_in x_9 12 ∧ (∀ t_16 : DB, t_16 = up t_15 96 x_9.toNatClampNeg x7 → (vp_in x_9 12 ∧ (∀ t_17 : DB, t_17 = up t_16 97 x_9.toNatClampNeg (t_16 0 0) → (vp_in x_9 12 ∧ (∀ t_18 : DB, t_18 = up t_17 98 x_9.toNatClampNeg 0 → (vp_in x_9 12 ∧ (∀ t_19 : DB, t_19 = up t_18 99 x_9.toNatClampNeg (-1) → (vp_in x_9 12 ∧ (∀ t_20 : DB, t_20 = up t_19 100 x_9.toNatClampNeg 0 → (vp_in x_9 12 ∧ (∀ t_21 : DB, t_21 = up t_20 101 x_9.toNatClampNeg 0 → (vp_in x_9 12 ∧ (∀ t_22 : DB, t_22 = up t_21 102 x_9.toNatClampNeg 0 → (∀ t_23 : DB, t_23 = up t_22 89 0 ((t_22 89 0) + 1) → (Q x_9 t_23)))))))))))))))))))))))))))) := by
  intro y ey
  rw [h89] at ey
  subst ey
  have vo : vp_in (nI k) 12 := vp_in_nI hk (by decide)
  have co : (nI k).toNatClampNeg = k := nI_clamp (by omega)
  rw [co]
  generalize hV : (fun f => pW x1 x2 x3 x4 x5 x6 x7 (t 0 0) (f - 90)) = V
  have V1 : ∀ f, V f = pW x1 x2 x3 x4 x5 x6 x7 (t 0 0) (f - 90) := fun f => by rw [← hV]
  have b0 : blk t k V 90 90 = t := blk_0
  refine ⟨vo, fun t2 e2 => ⟨vo, fun t3 e3 => ⟨vo, fun t4 e4 => ⟨vo, fun t5 e5 => ⟨vo, fun t6 e6 => ⟨vo, fun t7 e7 => ⟨vo, fun t8 e8 => ⟨vo, fun t9 e9 => ⟨vo, fun t10 e10 => ⟨vo, fun t11 e11 => ⟨vo, fun t12 e12 => ⟨vo, fun t13 e13 => ⟨vo, fun t14 e14 t15 e15 => ?_⟩⟩⟩⟩⟩⟩⟩⟩⟩⟩⟩⟩⟩
  have f2 : t2 = blk t k V 90 91 := by
    rw [e2]
    have := blk_s (t := t) (c := k) (V := V) (a := 90) (b := 90) (v := x1) (Nat.le_refl _) (by rw [V1]; rfl)
    rw [b0] at this
    exact this
  have f3 : t3 = blk t k V 90 92 := by rw [e3, f2]; exact blk_s (by decide) (by rw [V1]; rfl)
  have f4 : t4 = blk t k V 90 93 := by rw [e4, f3]; exact blk_s (by decide) (by rw [V1]; rfl)
  have f5 : t5 = blk t k V 90 94 := by rw [e5, f4]; exact blk_s (by decide) (by rw [V1]; rfl)
  have f6 : t6 = blk t k V 90 95 := by rw [e6, f5]; exact blk_s (by decide) (by rw [V1]; rfl)
  have f7 : t7 = blk t k V 90 96 := by rw [e7, f6]; exact blk_s (by decide) (by rw [V1]; rfl)
  have f8 : t8 = blk t k V 90 97 := by rw [e8, f7]; exact blk_s (by decide) (by rw [V1]; rfl)
  have z8 : t8 0 0 = t 0 0 := by rw [f8]; exact if_neg (by omega)
  rw [z8] at e9
  have f9 : t9 = blk t k V 90 98 := by rw [e9, f8]; exact blk_s (by decide) (by rw [V1]; rfl)
  have f10 : t10 = blk t k V 90 99 := by rw [e10, f9]; exact blk_s (by decide) (by rw [V1]; rfl)
  have f11 : t11 = blk t k V 90 100 := by rw [e11, f10]; exact blk_s (by decide) (by rw [V1]; rfl)
  have f12 : t12 = blk t k V 90 101 := by rw [e12, f11]; exact blk_s (by decide) (by rw [V1]; rfl)
  have f13 : t13 = blk t k V 90 102 := by rw [e13, f12]; exact blk_s (by decide) (by rw [V1]; rfl)
  have f14 : t14 = blk t k V 90 103 := by rw [e14, f13]; exact blk_s (by decide) (by rw [V1]; rfl)
  have z14 : t14 89 0 = nI k := by rw [f14]; exact (if_neg (by omega)).trans h89
  rw [z14, nI_1, f14] at e15
  have e15' : t15 = tPl t k x1 x2 x3 x4 x5 x6 x7 (t 0 0) := by rw [e15, ← hV]; rfl
  rw [e15']
  exact hQ
theorem ap_plan (x1 x2 x3 x4 x5 x6 x7 : Int32) : AP mX0_plan_2 [.inl x1, .inl x2, .inl x3, .inl x4, .inl x5, .inl x6, .inl x7] (w_plan x1 x2 x3 x4 x5 x6 x7) := by
  intro n X m N t hn hm q
  have q' := q.mup (Nat.le_succ m) hm
  have b47 := q.1.iB.2.2.2.2.1
  have b1 := q.1.iB.1
  have b89 := q.1.iB.2.2.2.2.2.2.2.2.2.1
  have b12 : cn t 89 ≤ 12 := b89.2
  have b10 : cn t 47 ≤ 10 := b47.2
  have b8 : cn t 1 ≤ 8 := b1.2
  have w7 : N.2.1 1 0 7 = (30, 7) := q.1.W.1 7 (by decide) (by decide)
  have w2 : N.2.1 1 0 2 = (30, 2) := q.1.W.1 2 (by decide) (by decide)
  have w12 : N.2.1 1 0 12 = (30, 12) := q.1.W.1 12 (by decide) (by decide)
  have s7 : N.1 30 7 0 = t 47 0 := q.1.S (7, 47, 0) (by decide)
  have s2 : N.1 30 2 0 = t 1 0 := q.1.S (2, 1, 0) (by decide)
  have s12 : N.1 30 12 0 = t 89 0 := q.1.S (12, 89, 0) (by decide)
  have tm : N.1 1 0 0 = t 0 0 := q.1.W.2.1
  obtain ⟨ra, rb⟩ := rom_a q.1.1
  have lk30 : lk 30 := ⟨by decide, by decide⟩
  show cq (n + 11 + 9) mX0_plan_2 [.inr (1, 0), .inl x1, .inl x2, .inl x3, .inl x4, .inl x5, .inl x6, .inl x7] N _
  refine sv_X0_plan_2 (d := n + 11) (Q := fun v N' => ∃ t', QS (fun _ => True) X (m + 1) N' t' ∧ ∀ Q, Q v t' → w_plan x1 x2 x3 x4 x5 x6 x7 t Q) (fun v N' ⟨t', a, b⟩ => ⟨v, t', rfl, a, b⟩) ⟨rfl, fun e1 ee1 => ?_⟩
  have q1 : e1 = (30, 7) := ee1.trans w7
  subst q1
  refine has_c s7 (fun h => ⟨fun _ => ⟨t, q', fun Q hQ => wto_c (fun _ => ⟨fun _ => hQ, fun v => absurd rfl v⟩) (fun a b => absurd (ab_or h a b) id)⟩, fun v => absurd rfl v⟩) (fun a1 a2 => ⟨fun v => absurd v (by decide), fun _ => ⟨rfl, fun e4 ee4 => ?_⟩⟩)
  have T1 : ∀ K : Int32 → DB → Prop, K 1 t → w_isTower x1 t K := fun K hK => wto_c (fun h => absurd (ab_or h a1 a2) id) (fun _ _ => hK)
  have q4 : e4 = (30, 2) := ee4.trans w2
  subst q4
  refine has_c s2 (fun h => ⟨fun v => absurd rfl v, fun _ => ⟨t, q', fun Q hQ => T1 _ ⟨fun v => absurd v (by decide), fun _ => wst_c (fun _ => ⟨fun v => absurd rfl v, fun _ => hQ⟩) (fun a b => absurd (ab_or h a b) id)⟩⟩⟩) (fun c1 c2 => ⟨fun _ => ?_, fun v => absurd v (by decide)⟩)
  have S1 : ∀ K : Int32 → DB → Prop, K 1 t → w_isStation x2 t K := fun K hK => wst_c (fun h => absurd (ab_or h c1 c2) id) (fun _ _ => hK)
  refine in_c (fun h => ⟨fun _ => ⟨t, q', fun Q hQ => T1 _ ⟨fun v => absurd v (by decide), fun _ => S1 _ ⟨fun _ => ⟨fun _ => ⟨fun _ => hQ, fun v => absurd rfl v⟩, fun a => ⟨fun _ => ⟨fun _ => hQ, fun v => absurd rfl v⟩, fun b => absurd h (fun h => h.elim a b)⟩⟩, fun v => absurd v (by decide)⟩⟩⟩, fun v => absurd rfl v⟩) (fun d1 d2 => ⟨fun v => absurd v (by decide), fun _ => ?_⟩)
  have A1 : ∀ K : Int32 → DB → Prop, K 1 t → w_isAct x3 t K := fun K hK => ⟨fun a => absurd a d1, fun _ => ⟨fun a => absurd a d2, fun _ => hK⟩⟩
  obtain ⟨i1, hi1, ei1⟩ := rngL (x := x1) (n := cn t 47) (by omega) a1 (by rw [← b47.1]; exact a2)
  obtain ⟨i2, hi2, ei2⟩ := rngL (x := x2) (n := cn t 1) (by omega) c1 (by rw [← b1.1]; exact c2)
  obtain ⟨i3, hi3, ei3⟩ := rng (x := x3) (n := 2) (by decide) d1 d2
  have main : ∀ b : Nat, b ≤ 1000000 → ((¬ x3 = 0 ∧ b = 1000000) ∨ (x3 = 0 ∧ b = 0)) → v_X0_plan_2_47 (1, 0) x1 x2 x3 x4 x5 x6 x7 (nI b) 0 x4 N (fun v N' => ∃ t', QS (fun _ => True) X (m + 1) N' t' ∧ ∀ Q, Q v t' → w_plan x1 x2 x3 x4 x5 x6 x7 t Q) := fun b hb hb2 => by
    have am : ∀ K : Int32 → DB → Prop, ((x4 < 0 ∨ nI b < x4) → K 0 t) → (¬ x4 < 0 → ¬ nI b < x4 → K 1 t) → w_isAmount x3 x4 t K := fun K k0 k1 => ⟨fun a => k0 (Or.inl a), fun a => by
      rcases hb2 with ⟨u1, u2⟩ | ⟨u1, u2⟩
      · subst u2
        exact ⟨fun _ => ⟨fun b => k0 (Or.inr b), fun b => k1 a b⟩, fun v => absurd v u1⟩
      · subst u2
        exact ⟨fun v => absurd u1 v, fun _ => ⟨fun b => k0 (Or.inr b), fun b => k1 a b⟩⟩⟩
    refine in_c (fun h => ⟨fun _ => ⟨t, q', fun Q hQ => T1 _ ⟨fun v => absurd v (by decide), fun _ => S1 _ ⟨fun _ => A1 _ ⟨fun v => absurd v (by decide), fun _ => am _ (fun _ => ⟨fun _ => hQ, fun v => absurd rfl v⟩) (fun a b => absurd h (fun h => h.elim a b))⟩, fun v => absurd v (by decide)⟩⟩⟩, fun v => absurd rfl v⟩) (fun f1 f2 => ⟨fun v => absurd v (by decide), fun _ => ?_⟩)
    have M1 : ∀ K : Int32 → DB → Prop, K 1 t → w_isAmount x3 x4 t K := fun K hK => am K (fun h => absurd h (fun h => h.elim f1 f2)) (fun _ _ => hK)
    refine in_c (fun h => ⟨fun _ => ⟨t, q', fun Q hQ => T1 _ ⟨fun v => absurd v (by decide), fun _ => S1 _ ⟨fun _ => A1 _ ⟨fun v => absurd v (by decide), fun _ => M1 _ ⟨fun v => absurd v (by decide), fun _ => ⟨fun _ => hQ, fun a => ⟨fun _ => hQ, fun b => absurd h (fun h => h.elim a b)⟩⟩⟩⟩, fun v => absurd v (by decide)⟩⟩⟩, fun v => absurd rfl v⟩) (fun g1 g2 => ⟨fun v => absurd v (by decide), fun _ => ⟨fun z6 => ?_, fun z6 => ⟨fun z7 => ⟨rfl, fun e5 ee5 => ?_⟩, fun z7 => ?_⟩⟩⟩)
    · exact ⟨t, q', fun Q hQ => T1 _ ⟨fun v => absurd v (by decide), fun _ => S1 _ ⟨fun _ => A1 _ ⟨fun v => absurd v (by decide), fun _ => M1 _ ⟨fun v => absurd v (by decide), fun _ => ⟨fun a => absurd a g1, fun _ => ⟨fun a => absurd a g2, fun _ => ⟨fun _ => hQ, fun a => absurd z6 a⟩⟩⟩⟩⟩, fun v => absurd v (by decide)⟩⟩⟩
    rotate_left
    · exact ⟨t, q', fun Q hQ => T1 _ ⟨fun v => absurd v (by decide), fun _ => S1 _ ⟨fun _ => A1 _ ⟨fun v => absurd v (by decide), fun _ => M1 _ ⟨fun v => absurd v (by decide), fun _ => ⟨fun a => absurd a g1, fun _ => ⟨fun a => absurd a g2, fun _ => ⟨fun a => absurd a z6, fun _ => ⟨fun a => absurd a z7, fun _ => hQ⟩⟩⟩⟩⟩⟩, fun v => absurd v (by decide)⟩⟩⟩
    have q5 : e5 = (30, 12) := ee5.trans w12
    subst q5
    refine ⟨lk30, fun y => ⟨rfl, fun e6 ee6 => ?_⟩, fun y => ⟨t, q', fun Q hQ => T1 _ ⟨fun v => absurd v (by decide), fun _ => S1 _ ⟨fun _ => A1 _ ⟨fun v => absurd v (by decide), fun _ => M1 _ ⟨fun v => absurd v (by decide), fun _ => ⟨fun a => absurd a g1, fun _ => ⟨fun a => absurd a g2, fun _ => ⟨fun a => absurd a z6, fun _ => ⟨fun _ => ⟨fun a => absurd (s12.symm.trans y) a, fun _ => hQ⟩, fun a => absurd z7 a⟩⟩⟩⟩⟩⟩, fun v => absurd v (by decide)⟩⟩⟩⟩
    have q6 : e6 = (30, 12) := ee6.trans w12
    subst q6
    have y' : ¬ t 89 0 = 12 := fun v => y (s12.trans v)
    have hk8 : cn t 89 < 12 := by
      rcases Nat.lt_or_ge (cn t 89) 12 with v | v
      · exact v
      · exact absurd (by rw [b89.1, show cn t 89 = 12 from Nat.le_antisymm b89.2 v]; rfl) y'
    obtain ⟨i4, hi4, ei4⟩ := rng (x := x4) (n := b) (by omega) f1 f2
    obtain ⟨i5, hi5, ei5⟩ := rng (x := x5) (n := 1000) (by decide) (fun h => g1 (Int32.lt_trans h (by decide))) g2
    have hi50 : 1 ≤ i5 := Nat.pos_of_ne_zero (fun e => g1 (by rw [ei5, e]; decide))
    have hS := q.1.1.plan hm rfl hk8 (T := i1) (s := i2) (a := i3) (v := i4) (e := i5) (x6 := x6) (x7 := x7) (tm := t 0 0) hi1 hi2 hi3 (Nat.le_trans hi4 hb) hi50 hi5
    rw [← ei1, ← ei2, ← ei3, ← ei4, ← ei5] at hS
    have qq := q'.tf hS tPl_TF (by decide)
    have sz' : (nPl N (cn t 89) x1 x2 x3 x4 x5 x6 x7 (t 0 0)).1 30 12 0 = nI (cn t 89 + 1) := (hS.S (12, 89, 0) (by decide)).trans up_s
    have w12' : (nPl N (cn t 89) x1 x2 x3 x4 x5 x6 x7 (t 0 0)).2.1 1 0 12 = (30, 12) := hS.W.1 12 (by decide) (by decide)
    refine ⟨⟨by omega, by omega⟩, cn t 89, q.1.E (24, 89) (by decide) (cn t 89) (Nat.le_refl _), fun M8 g8 => ⟨by decide, rfl, fun M1' h1 => ⟨by show ¬ 24 = 0; decide, rfl, fun e2 ee2 => ?_⟩⟩⟩
    have q2 : e2 = (1, 0) := by
      rw [ee2, h1]
      exact if_pos ⟨rfl, rfl, rfl⟩
    subst q2
    refine ⟨rfl, rfl, fun M3 h3 => ⟨rfl, fun M4 h4 => ⟨rfl, fun M5 h5 => ⟨rfl, fun M6 h6 => ⟨rfl, fun M7 h7 => ⟨rfl, fun M8' h8 => ⟨rfl, fun M9 h9 => ⟨rfl, fun M10 h10 => ⟨rfl, fun M11 h11 => ?_⟩⟩⟩⟩⟩⟩⟩⟩⟩
    have e3 : M3 = sI (sR (sN N 24 (cn t 89) 0 14) 24 (cn t 89) 13 (1, 0)) 24 (cn t 89) 7 (t 0 0) := by
      rw [h3, h1, g8]
      show sI _ 24 (cn t 89) 7 (if 1 = 24 ∧ 0 = cn t 89 then (0 : Int32) else N.1 1 0 0) = _
      rw [if_neg (fun y => absurd y.1 (by decide)), tm]
    have eM : M11 = sI (sI (sI (sI (sI (sI (sI (sI (sI (sR (sN N 24 (cn t 89) 0 14) 24 (cn t 89) 13 (1, 0)) 24 (cn t 89) 7 (t 0 0)) 24 (cn t 89) 9 (-1)) 24 (cn t 89) 0 x1) 24 (cn t 89) 1 x2) 24 (cn t 89) 2 x3) 24 (cn t 89) 3 x4) 24 (cn t 89) 4 x5) 24 (cn t 89) 5 x6) 24 (cn t 89) 6 x7 := by
      rw [h11, h10, h9, h8, h7, h6, h5, h4, e3]
    refine ⟨lk30, rfl, ?_, ?_, fun M12 g12 => ⟨rfl, fun e12 ee12 => ?_⟩⟩
    · rw [eM]
      show (sI (sI (sI (sI (sI (sI (sI (sI (sI (sR (sN N 24 (cn t 89) 0 14) 24 (cn t 89) 13 (1, 0)) 24 (cn t 89) 7 (t 0 0)) 24 (cn t 89) 9 (-1)) 24 (cn t 89) 0 x1) 24 (cn t 89) 1 x2) 24 (cn t 89) 2 x3) 24 (cn t 89) 3 x4) 24 (cn t 89) 4 x5) 24 (cn t 89) 5 x6) 24 (cn t 89) 6 x7).1 30 12 0 < nI 10000
      rw [show (sI (sI (sI (sI (sI (sI (sI (sI (sI (sR (sN N 24 (cn t 89) 0 14) 24 (cn t 89) 13 (1, 0)) 24 (cn t 89) 7 (t 0 0)) 24 (cn t 89) 9 (-1)) 24 (cn t 89) 0 x1) 24 (cn t 89) 1 x2) 24 (cn t 89) 2 x3) 24 (cn t 89) 3 x4) 24 (cn t 89) 4 x5) 24 (cn t 89) 5 x6) 24 (cn t 89) 6 x7).1 30 12 0 = N.1 30 12 0 from by simp [sI, sR, sN], s12, b89.1]
      exact nI_lt (by omega) (by decide)
    · rw [eM]
      exact ⟨by show N.2.2.2.1 + 1 + 1 ≤ 600000; omega, by show N.2.2.2.2 + 14 + 10 ≤ 7302250; omega⟩
    · have g12' : M12 = nPl N (cn t 89) x1 x2 x3 x4 x5 x6 x7 (t 0 0) := by rw [g12, eM]; rfl
      subst g12'
      have q12 : e12 = (30, 12) := ee12.trans w12'
      subst q12
      refine ⟨lk30, ?_⟩
      show ∃ t', QS (fun _ => True) X (m + 1) (nPl N (cn t 89) x1 x2 x3 x4 x5 x6 x7 (t 0 0)) t' ∧ ∀ Q, Q ((nPl N (cn t 89) x1 x2 x3 x4 x5 x6 x7 (t 0 0)).1 30 12 0 - 1) t' → w_plan x1 x2 x3 x4 x5 x6 x7 t Q
      rw [sz', nI_pred]
      exact ⟨_, qq, fun Q hQ => T1 _ ⟨fun v => absurd v (by decide), fun _ => S1 _ ⟨fun _ => A1 _ ⟨fun v => absurd v (by decide), fun _ => M1 _ ⟨fun v => absurd v (by decide), fun _ => ⟨fun a => absurd a g1, fun _ => ⟨fun a => absurd a g2, fun _ => ⟨fun a => absurd a z6, fun _ => ⟨fun _ => ⟨fun _ => w_plan_s b89.1 hk8 hQ, fun a => absurd a y'⟩, fun a => absurd z7 a⟩⟩⟩⟩⟩⟩, fun v => absurd v (by decide)⟩⟩⟩
  exact ⟨fun y => main 1000000 (by decide) (Or.inl ⟨y, rfl⟩), fun y => main 0 (by decide) (Or.inr ⟨y, rfl⟩)⟩
theorem SZ.p102 {X : Mem} {m z : Nat} {P : List Nat} {x : Nat} {N : Mem} {t : DB} (h : SZ X m z P x N t) {p : Nat} : SZ X m z P x (sI N 24 p 12 1) (up t 102 p 1) := by
  have hf : NF N (sI N 24 p 12 1) [24] := NF.rf.wI _ _ _ (by decide)
  have ht : TF t (up t 102 p 1) [102] := TF.rf.wu _ _ (by decide)
  have hI : S_I (sI N 24 p 12 1) (up t 102 p 1) := h.I.wu (24, 12, 102, 89) (by decide) p 1
  have hY : S_Y (sI N 24 p 12 1) (up t 102 p 1) := fun p hp => h.Y p hp
  have hIY : I_Y (up t 102 p 1) := by
    obtain ⟨y1, y2⟩ := h.iY
    refine ⟨y1, fun i hi => ?_⟩
    obtain ⟨a1, a2, a3, a4, a5, a6⟩ := y2 i hi
    refine ⟨a1, a2, a3, a4, a5, ?_⟩
    rw [up_at]
    by_cases e : i = p
    · rw [if_pos ⟨rfl, e⟩]; exact Or.inr rfl
    · rw [if_neg (fun y => e y.2)]; exact a6
  exact ⟨hI, h.R.fr hf (by decide) ht (by decide), h.N.fr hf (by decide) ht (by decide), h.K.fr hf (by decide) ht (by decide), h.S.fr hf (by decide) ht (by decide), h.E.fr rfl ht (by decide), h.W.fr hf (by decide) ht (by decide), h.P1.fr hf (by decide) ht (by decide), h.P2.fr hf (by decide) ht (by decide), h.G.fr hf (by decide) ht (by decide), h.G0.fr hf (by decide) ht (by decide), h.G1.fr hf (by decide) ht (by decide), h.G2.fr hf (by decide) ht (by decide), h.G7.fr hf (by decide) ht (by decide), h.T.fr hf (by decide) ht (by decide), h.U.fr hf (by decide) ht (by decide), h.C.fr hf (by decide) ht (by decide), h.V.fr hf (by decide) ht (by decide), h.O.fr hf (by decide) ht (by decide), h.A.fr hf (by decide) ht (by decide), hY, h.Q.fr hf (by decide) ht (by decide), h.B.fr ht (by decide), h.F.fr hf (by decide), h.M.fr rfl ht (by decide), h.iB.fr ht (by decide), h.iG.fr ht (by decide), h.iT.fr ht (by decide), h.iO.fr ht (by decide), h.iC.fr ht (by decide), h.iH.fr ht (by decide), h.iZ.fr ht (by decide), h.iL.fr ht (by decide), h.iR.fr ht (by decide), h.iX.fr ht (by decide), h.iU.fr ht (by decide), h.iD.fr ht (by decide), h.iK.fr ht (by decide), hIY, h.J.fr ht (by decide), h.GT.fr hf (by decide) ht (by decide), h.H.fr hf (by decide) ht (by decide)⟩
theorem ap_stop (x : Int32) : AP mX0_stop [.inl x] (w_stop x) := by
  intro n X m N t hn hm q
  have q' := q.mup (Nat.le_succ m) hm
  have b89 := q.1.iB.2.2.2.2.2.2.2.2.2.1
  have b12 : cn t 89 ≤ 12 := b89.2
  have w12 : N.2.1 1 0 12 = (30, 12) := q.1.W.1 12 (by decide) (by decide)
  have s12 : N.1 30 12 0 = t 89 0 := q.1.S (12, 89, 0) (by decide)
  have lk30 : lk 30 := ⟨by decide, by decide⟩
  show cq (n + 16 + 4) mX0_stop [.inr (1, 0), .inl x] N _
  refine sv_X0_stop (d := n + 16) (Q := fun v N' => ∃ t', QS (fun _ => True) X (m + 1) N' t' ∧ ∀ Q, Q v t' → w_stop x t Q) (fun v N' ⟨t', a, b⟩ => ⟨v, t', rfl, a, b⟩) ⟨rfl, fun e1 ee1 => ?_⟩
  have q1 : e1 = (30, 12) := ee1.trans w12
  subst q1
  refine has_c s12 (fun h => ⟨fun v => absurd rfl v, fun _ => ⟨t, q', fun Q hQ => ⟨fun _ => hQ, fun a => ⟨fun b => absurd h (fun h => h.elim a (Int32.not_le.mpr b)), fun _ => hQ⟩⟩⟩⟩) (fun a1 a2 => ⟨fun _ => ⟨rfl, fun e4 ee4 => ?_⟩, fun v => absurd v (by decide)⟩)
  obtain ⟨p, hp, ei⟩ := rngL (x := x) (n := cn t 89) (by omega) a1 (by rw [← b89.1]; exact a2)
  subst ei
  have cp : (nI p).toNatClampNeg = p := nI_clamp (by omega)
  have vp : vp_in (nI p) 12 := vp_in_nI (by omega) (by decide)
  have q4 : e4 = (30, 12) := ee4.trans w12
  subst q4
  refine ⟨lk30, ⟨a1, by show nI p < N.1 30 12 0; rw [s12]; exact Int32.not_le.mp a2⟩, fun e5 ee5 => ?_⟩
  rw [cp] at ee5
  have q5 : e5 = (24, p) := ee5.trans (q.1.K (12, 24, 89) (by decide) p hp)
  subst q5
  have n12 : N.1 24 p 12 = t 102 p := q.1.I (24, 12, 102, 89) (by decide) p hp
  have n8 : N.1 24 p 8 = t 98 p := q.1.I (24, 8, 98, 89) (by decide) p hp
  have M1 : ∀ Q : Int32 → DB → Prop, ((t 102 p = 0 → vp_in (nI p) 12 ∧ ∀ t_1 : DB, t_1 = up t 102 p 1 → vp_in (nI p) 12 ∧ Q (t_1 98 p) t_1) ∧ (¬ t 102 p = 0 → Q (-4) t)) → w_stop (nI p) t Q := fun Q h => by
    unfold w_stop
    rw [cp]
    exact ⟨fun a => absurd a a1, fun _ => ⟨fun _ => ⟨vp, h⟩, fun a => absurd (Int32.not_le.mp a2) a⟩⟩
  refine ⟨rfl, rfl, fun y => ⟨rfl, fun M6 g6 => ⟨rfl, ?_⟩⟩, fun y => ⟨t, q', fun Q hQ => M1 Q ⟨fun v => absurd (n12.trans v) y, fun _ => hQ⟩⟩⟩
  have y' : t 102 p = 0 := n12.symm.trans y
  have g6' : M6 = sI N 24 p 12 1 := g6
  subst g6'
  show ∃ t', QS (fun _ => True) X (m + 1) (sI N 24 p 12 1) t' ∧ ∀ Q, Q ((sI N 24 p 12 1).1 24 p 8) t' → w_stop (nI p) t Q
  rw [sI_ne (by simp), n8]
  refine ⟨up t 102 p 1, q'.tf q'.1.1.p102 (TF.rf.wu (C := [102]) _ _ (by decide)) (by decide), fun Q hQ => M1 Q ⟨fun _ => ⟨vp, fun t1 e1 => ⟨vp, ?_⟩⟩, fun v => absurd y' v⟩⟩
  subst e1
  rw [up_f (by decide)]
  exact hQ
