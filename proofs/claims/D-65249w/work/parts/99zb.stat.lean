set_option maxRecDepth 100000
/-! a station -/
def nSt (N : Mem) (k : Nat) (x1 x2 x3 : Int32) : Mem := lAdd (sI (sI (sI (sN N 3 k 0 3) 3 k 2 x1) 3 k 0 x2) 3 k 1 x3) (30, 2) (3, k)
def tSt (t : DB) (k : Nat) (x1 x2 x3 : Int32) : DB := up (up (up (up t 2 k x1) 3 k x2) 4 k x3) 1 0 (nI (k + 1))
theorem SZ.station {X : Mem} {m : Nat} {N : Mem} {t : DB} (h : SZ X m 60 [] 100000 N t) (hm : m + 1 ≤ 100) {k : Nat} (hk : cn t 1 = k) (hk8 : k < 8) {x1 x2 x3 : Int32} : SZ X (m + 1) 60 [] 100000 (nSt N k x1 x2 x3) (tSt t k x1 x2 x3) := by
  have hf : NF N (nSt N k x1 x2 x3) [3, 30] := ((((NF.rf.wN _ _ _ (by decide)).wI _ _ _ (by decide)).wI _ _ _ (by decide)).wI _ _ _ (by decide)).wA _ _ (by decide)
  have hf0 : NF N (sI (sI (sI (sN N 3 k 0 3) 3 k 2 x1) 3 k 0 x2) 3 k 1 x3) [3] := (((NF.rf.wN _ _ _ (by decide)).wI _ _ _ (by decide)).wI _ _ _ (by decide)).wI _ _ _ (by decide)
  have ht : TF t (tSt t k x1 x2 x3) [1, 2, 3, 4] := (((TF.rf.wu _ _ (by decide)).wu _ _ (by decide)).wu _ _ (by decide)).wu _ _ (by decide)
  have b1 : t 1 0 = nI k := by rw [← hk]; exact h.iB.1.1
  have L : LA N (nSt N k x1 x2 x3) 2 k (3, k) := LA.mk hf0 (by decide) ((h.S (2, 1, 0) (by decide)).trans b1) (by omega)
  have t1 : tSt t k x1 x2 x3 1 0 = nI (k + 1) := up_s
  have c1 : cn (tSt t k x1 x2 x3) 1 = k + 1 := by unfold cn; rw [t1, nI_clamp (by omega)]
  have i3 : ∀ i f, (nSt N k x1 x2 x3).1 3 i f = if i = k then (if f = 1 then x3 else if f = 0 then x2 else if f = 2 then x1 else 0) else N.1 3 i f := fun i f => by
    by_cases e : i = k <;> simp [nSt, lAdd, sI, sN, e]
  have r3 : ∀ i, i ≠ k → (nSt N k x1 x2 x3).2.2.1 3 i = N.2.2.1 3 i := fun i hi => by simp [nSt, lAdd, sI, sN, hi]
  have tv : ∀ i, tSt t k x1 x2 x3 2 i = (if i = k then x1 else t 2 i) ∧ tSt t k x1 x2 x3 3 i = (if i = k then x2 else t 3 i) ∧ tSt t k x1 x2 x3 4 i = (if i = k then x3 else t 4 i) := fun i => by
    by_cases e : i = k <;> simp [tSt, up, e]
  have nx2 : (nSt N k x1 x2 x3).2.2.2 = (N.2.2.2.1 + 2, N.2.2.2.2 + 13) := rfl
  generalize nSt N k x1 x2 x3 = N' at *
  generalize tSt t k x1 x2 x3 = t' at *
  have hI : S_I N' t' := by
    intro q hq i hi
    by_cases e : q.1 = 3
    · have : q = (3, 0, 3, 1) ∨ q = (3, 1, 4, 1) ∨ q = (3, 2, 2, 1) := (by decide : ∀ q ∈ TI, q.1 = 3 → q = (3, 0, 3, 1) ∨ q = (3, 1, 4, 1) ∨ q = (3, 2, 2, 1)) q hq e
      have hi1 : i < k + 1 := by
        rw [show q.2.2.2 = 1 from by rcases this with y | y | y <;> rw [y], c1] at hi; exact hi
      obtain ⟨v1, v2, v3⟩ := tv i
      by_cases ei : i = k
      · rw [if_pos ei] at v1 v2 v3
        rcases this with y | y | y <;> rw [y] <;> dsimp only <;> rw [i3, if_pos ei]
        · rw [v2]; rfl
        · rw [v3]; rfl
        · rw [v1]; rfl
      · rw [if_neg ei] at v1 v2 v3
        have old := h.I q hq i (by rw [show q.2.2.2 = 1 from by rcases this with y | y | y <;> rw [y], hk]; omega)
        rcases this with y | y | y <;> rw [y] at old ⊢ <;> dsimp only at old ⊢ <;> rw [i3, if_neg ei, old]
        · exact v2.symm
        · exact v3.symm
        · exact v1.symm
    · have hq3 := (by decide : ∀ q ∈ TI, q.1 ≠ 3 → q.1 ∉ [3, 30] ∧ q.2.2.1 ∉ [1, 2, 3, 4] ∧ q.2.2.2 ∉ [1, 2, 3, 4]) q hq e
      rw [ht.cn hq3.2.2] at hi
      rw [(hf q.1 hq3.1).1, ht _ hq3.2.1]
      exact h.I q hq i hi
  have hK : S_K N' t' := h.K.la L hk c1 (fun q hq => by
    by_cases e : q.1 = 2
    · have : q = (2, 3, 1) := (by decide : ∀ q ∈ TK, q.1 = 2 → q = (2, 3, 1)) q hq e
      subst this
      exact Or.inl ⟨rfl, rfl, rfl⟩
    · exact Or.inr ⟨e, ht.cn ((by decide : ∀ q ∈ TK, q.1 ≠ 2 → q.2.2 ∉ [1, 2, 3, 4]) q hq e)⟩)
  have hSS : S_S N' t' := h.S.la L (fun q hq => by
    by_cases e : q.1 = 2
    · have : q = (2, 1, 0) := (by decide : ∀ q ∈ TS, q.1 = 2 → q = (2, 1, 0)) q hq e
      subst this
      exact Or.inl ⟨rfl, t1⟩
    · exact Or.inr ⟨e, by rw [ht _ ((by decide : ∀ q ∈ TS, q.1 ≠ 2 → q.2.1 ∉ [1, 2, 3, 4]) q hq e)]⟩)
  have hE : S_E N' t' := h.E.la (fun q hq i hi => by
    by_cases e : q.1 = 3
    · have : q = (3, 1) := (by decide : ∀ q ∈ TE, q.1 = 3 → q = (3, 1)) q hq e
      subst this
      have hi' : cn t' 1 ≤ i := hi
      rw [c1] at hi'
      exact ⟨by show cn t 1 ≤ i; omega, r3 i (by omega)⟩
    · have hq3 := (by decide : ∀ q ∈ TE, q.1 ≠ 3 → q.1 ∉ [3, 30] ∧ q.2 ∉ [1, 2, 3, 4]) q hq e
      rw [ht.cn hq3.2] at hi
      exact ⟨hi, by rw [(hf q.1 hq3.1).2.2]⟩)
  have hM : S_M (m + 1) N' t' := h.M.up ht (by decide) (by rw [nx2]; dsimp only; omega) (by rw [nx2]; dsimp only; omega)
  have hB : I_B t' := by
    obtain ⟨a1, a2, a3, a4, a5, a6, a7, a8, a9, a10, a11, a12⟩ := h.iB
    exact ⟨⟨by rw [c1]; exact t1, by rw [c1]; omega⟩, a2.fr (ht _ (by decide)), a3.fr (ht _ (by decide)), a4.fr (ht _ (by decide)), a5.fr (ht _ (by decide)), a6.fr (ht _ (by decide)), a7.fr (ht _ (by decide)), a8.fr (ht _ (by decide)), a9.fr (ht _ (by decide)), a10.fr (ht _ (by decide)), a11.fr (ht _ (by decide)), a12.fr (ht _ (by decide))⟩
  have n4 := hf 4 (by decide)
  have le1 : cn t 1 ≤ cn t' 1 := by omega
  have le47 : cn t 47 ≤ cn t' 47 := Nat.le_of_eq (ht.cn (by decide)).symm
  have hR : S_R N' t' := h.R.fr hf (by decide) ht (by decide)
  have h' := h.mup (Nat.le_succ m) hm
  have hKK : I_K (m + 1) t' := h'.iK.fr ht (by decide)
  exact ⟨hI, hR, h.N.fr hf (by decide) ht (by decide), hK, hSS, hE, h.W.fr hf (by decide) ht (by decide), h.P1.fl ⟨n4.1, n4.2.2⟩ (L.ne (by decide)) ht (by decide), h.P2.fl ⟨n4.1, n4.2.2⟩ (L.ne (by decide)) ht (by decide), h.G.fl hf (by decide) (L.ne (by decide)) ht (by decide), h.G0.fr hf (by decide) ht (by decide), h.G1.fr hf (by decide) ht (by decide), h.G2.fr hf (by decide) ht (by decide), h.G7.fr hf (by decide) ht (by decide), h.T.fr hf (by decide) ht (by decide), h.U.fl (L.ne (by decide)) ht (by decide), h.C.fr hf (by decide) ht (by decide), h.V.fr hf (by decide) ht (by decide), h.O.fr hf (by decide) ht (by decide), h.A.fg hf (by decide) (L.ne (by decide)) ht (by decide) le1 (Nat.le_of_eq (ht.cn (by decide)).symm) (fun g _ => by rw [ht 31 (by decide)]), h.Y.fr hf (by decide) ht (by decide), h.Q.fr hf (by decide) ht (by decide), h.B.fr ht (by decide), h.F.fr hf (by decide), hM, hB, h.iG.g1 ht (by decide) le1, h.iT.fr ht (by decide), h.iO.gw ht (by decide) le1 le47, h.iC.gw ht (by decide) le1 le47 (fun T _ => ⟨by rw [ht 48 (by decide)], fun d _ => by rw [ht 49 (by decide)]⟩), h.iH.fr ht (by decide), h.iZ.fr ht (by decide), h.iL.fr ht (by decide), h.iR.fr ht (by decide), h.iX.fr ht (by decide), h.iU.fr ht (by decide), h.iD.fr ht (by decide), hKK, h.iY.gw ht (by decide) le1 le47, h.J.fr ht (by decide), h.GT.fr hf (by decide) ht (by decide), h.H.fr hf (by decide) ht (by decide)⟩
theorem ap_station (x1 x2 x3 : Int32) : AP mX0_station [.inl x1, .inl x2, .inl x3] (w_station x1 x2 x3) := by
  intro n X m N t hn hm q
  have q' := q.mup (Nat.le_succ m) hm
  have b1 := q.1.iB.1
  have b8 : cn t 1 ≤ 8 := b1.2
  have w2 : N.2.1 1 0 2 = (30, 2) := q.1.W.1 2 (by decide) (by decide)
  have s2 : N.1 30 2 0 = t 1 0 := q.1.S (2, 1, 0) (by decide)
  obtain ⟨ra, rb⟩ := rom_a q.1.1
  show cq (n + 11 + 9) mX0_station [.inr (1, 0), .inl x1, .inl x2, .inl x3] N _
  refine sv_X0_station (d := n + 11) (Q := fun v N' => ∃ t', QS (fun _ => True) X (m + 1) N' t' ∧ ∀ Q, Q v t' → w_station x1 x2 x3 t Q) (fun v N' ⟨t', a, b⟩ => ⟨v, t', rfl, a, b⟩) ?_
  refine in_c (fun h => ⟨fun _ => ⟨t, q', fun Q hQ => ⟨fun _ => hQ, fun a => ⟨fun _ => hQ, fun b => absurd h (fun h => h.elim a b)⟩⟩⟩, fun v => absurd rfl v⟩) (fun a1 a2 => ⟨fun v => absurd v (by decide), fun _ => ?_⟩)
  refine in_c (fun h => ⟨fun _ => ⟨t, q', fun Q hQ => ⟨fun a => absurd a a1, fun _ => ⟨fun a => absurd a a2, fun _ => ⟨fun _ => hQ, fun a => ⟨fun _ => hQ, fun b => absurd h (fun h => h.elim a b)⟩⟩⟩⟩⟩, fun v => absurd rfl v⟩) (fun c1 c2 => ⟨fun v => absurd v (by decide), fun _ => ?_⟩)
  have W : ∀ Q : Int32 → DB → Prop, (((x3 < 1) → (Q (-2) t)) ∧ ((¬ x3 < 1) → (((x3 ≤ 100) → (((¬ (t 1 0) = 8) → (vp_in (t 1 0) 8 ∧ (∀ t_1 : DB, t_1 = up t 2 (t 1 0).toNatClampNeg x1 → (vp_in (t_1 1 0) 8 ∧ (∀ t_2 : DB, t_2 = up t_1 3 (t_1 1 0).toNatClampNeg x2 → (vp_in (t_2 1 0) 8 ∧ (∀ t_3 : DB, t_3 = up t_2 4 (t_2 1 0).toNatClampNeg x3 → (∀ t_4 : DB, t_4 = up t_3 1 0 ((t_3 1 0) + 1) → (Q ((t_4 1 0) - 1) t_4))))))))) ∧ (((t 1 0) = 8) → (Q (-3) t)))) ∧ ((¬ x3 ≤ 100) → (Q (-2) t))))) → w_station x1 x2 x3 t Q := fun Q h => ⟨fun a => absurd a a1, fun _ => ⟨fun a => absurd a a2, fun _ => ⟨fun a => absurd a c1, fun _ => ⟨fun a => absurd a c2, fun _ => h⟩⟩⟩⟩
  refine in_c (fun h => ⟨fun v => absurd rfl v, fun _ => ⟨t, q', fun Q hQ => W Q ⟨fun _ => hQ, fun a => ⟨fun b => absurd h (fun h => h.elim a (Int32.not_lt.mpr b)), fun _ => hQ⟩⟩⟩⟩) (fun d1 d2 => ⟨fun _ => ⟨rfl, fun e7 ee7 => ?_⟩, fun v => absurd v (by decide)⟩)
  have q7 : e7 = (30, 2) := ee7.trans w2
  subst q7
  have lk30 : lk 30 := ⟨by decide, by decide⟩
  refine ⟨lk30, fun y => ⟨rfl, fun e8 ee8 => ?_⟩, fun y => ⟨t, q', fun Q hQ => W Q ⟨fun a => absurd a d1, fun _ => ⟨fun _ => ⟨fun v => absurd (s2.symm.trans y) v, fun _ => hQ⟩, fun b => absurd (Int32.not_lt.mp d2) b⟩⟩⟩⟩
  have q8 : e8 = (30, 2) := ee8.trans w2
  subst q8
  have y' : ¬ t 1 0 = 8 := fun v => y (s2.trans v)
  have hk8 : cn t 1 < 8 := by
    rcases Nat.lt_or_ge (cn t 1) 8 with v | v
    · exact v
    · exact absurd (by rw [b1.1, show cn t 1 = 8 from Nat.le_antisymm b1.2 v]; rfl) y'
  have hS := q.1.1.station hm rfl hk8 (x1 := x1) (x2 := x2) (x3 := x3)
  have ht : TF t (tSt t (cn t 1) x1 x2 x3) [1, 2, 3, 4] := (((TF.rf.wu _ _ (by decide)).wu _ _ (by decide)).wu _ _ (by decide)).wu _ _ (by decide)
  have qq := q'.tf hS ht (by decide)
  have sz' : (nSt N (cn t 1) x1 x2 x3).1 30 2 0 = nI (cn t 1 + 1) := (hS.S (2, 1, 0) (by decide)).trans up_s
  have w2' : (nSt N (cn t 1) x1 x2 x3).2.1 1 0 2 = (30, 2) := hS.W.1 2 (by decide) (by decide)
  have vk : vp_in (nI (cn t 1)) 8 := vp_in_nI hk8 (by decide)
  have ck : (nI (cn t 1)).toNatClampNeg = cn t 1 := nI_clamp (by omega)
  refine ⟨⟨by omega, by omega⟩, cn t 1, q.1.E (3, 1) (by decide) (cn t 1) (Nat.le_refl _), fun M10 g10 => ⟨by decide, by show ¬ 3 = 0; decide, rfl, fun M1 g1 => ⟨rfl, fun M2 g2 => ⟨rfl, fun M3 g3 => ⟨lk30, rfl, ?_, ?_, fun M13 g13 => ⟨rfl, fun e14 ee14 => ?_⟩⟩⟩⟩⟩⟩
  · subst g10; subst g1; subst g2; subst g3
    show (sI (sI (sI (sN N 3 (cn t 1) 0 3) 3 (cn t 1) 2 x1) 3 (cn t 1) 0 x2) 3 (cn t 1) 1 x3).1 30 2 0 < 10000
    rw [sI_ne (by simp), sI_ne (by simp), sI_ne (by simp)]
    show (if 30 = 3 ∧ 2 = cn t 1 then (0 : Int32) else N.1 30 2 0) < 10000
    rw [if_neg (fun y => absurd y.1 (by decide)), s2, b1.1]
    show nI (cn t 1) < nI 10000
    exact nI_lt (by omega) (by decide)
  · subst g10; subst g1; subst g2; subst g3
    exact ⟨by show N.2.2.2.1 + 1 + 1 ≤ 600000; omega, by show N.2.2.2.2 + 3 + 10 ≤ 7302250; omega⟩
  · have g13' : M13 = nSt N (cn t 1) x1 x2 x3 := by rw [g13, g3, g2, g1, g10]; rfl
    subst g13'
    have q14 : e14 = (30, 2) := ee14.trans w2'
    subst q14
    refine ⟨lk30, ?_⟩
    show ∃ t', QS (fun _ => True) X (m + 1) (nSt N (cn t 1) x1 x2 x3) t' ∧ ∀ Q, Q ((nSt N (cn t 1) x1 x2 x3).1 30 2 0 - 1) t' → w_station x1 x2 x3 t Q
    rw [sz', nI_pred]
    refine ⟨_, qq, fun Q hQ => W Q ⟨fun a => absurd a d1, fun _ => ⟨fun _ => ⟨fun _ => ?_, fun v => absurd v y'⟩, fun b => absurd (Int32.not_lt.mp d2) b⟩⟩⟩
    rw [b1.1, ck]
    refine ⟨vk, fun t1 e1 => ?_⟩
    have z1 : t1 1 0 = nI (cn t 1) := by rw [e1, up_f (by decide)]; exact b1.1
    rw [z1, ck]
    refine ⟨vk, fun t2 e2 => ?_⟩
    have z2 : t2 1 0 = nI (cn t 1) := by rw [e2, up_f (by decide)]; exact z1
    rw [z2, ck]
    refine ⟨vk, fun t3 e3 t4 e4 => ?_⟩
    have z3 : t3 1 0 = nI (cn t 1) := by rw [e3, up_f (by decide)]; exact z2
    rw [z3, nI_1] at e4
    have e4' : t4 = tSt t (cn t 1) x1 x2 x3 := by rw [e4, e3, e2, e1]; rfl
    subst e4'
    rw [show tSt t (cn t 1) x1 x2 x3 1 0 = nI (cn t 1 + 1) from up_s, nI_pred]
    exact hQ
