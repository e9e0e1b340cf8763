set_option maxRecDepth 100000
/-! a tower is made of the row -/
def nTw (N : Mem) (k w : Nat) : Nat → Mem
  | 0 => sN N 42 k w w
  | j + 1 => sR (nTw N k w j) 42 k j (N.2.1 30 6 j)
def tTw (t : DB) (k w : Nat) : Nat → DB
  | 0 => up t 48 k (nI w)
  | j + 1 => up (tTw t k w j) 49 (5 * k + j) (t 49 (50 + j))
theorem nTw_NF {N : Mem} {k w : Nat} : ∀ {j : Nat}, NF N (nTw N k w j) [42]
  | 0 => NF.rf.wN _ _ _ (by decide)
  | j + 1 => (nTw_NF (j := j)).wR _ _ _ (by decide)
theorem nTw_x {N : Mem} {k w : Nat} (i : Nat) : ∀ {j : Nat}, (nTw N k w j).2.2.1 42 i = if i = k then w + 1 else N.2.2.1 42 i
  | 0 => by
    show (if 42 = 42 ∧ i = k then w + 1 else N.2.2.1 42 i) = _
    by_cases e : i = k
    · rw [if_pos ⟨rfl, e⟩, if_pos e]
    · rw [if_neg (fun y => e y.2), if_neg e]
  | j + 1 => nTw_x i (j := j)
theorem nTw_c {N : Mem} {k w : Nat} : ∀ {j : Nat}, (nTw N k w j).2.2.2 = (N.2.2.2.1 + 1, N.2.2.2.2 + w)
  | 0 => rfl
  | j + 1 => nTw_c (j := j)
theorem nTw_r {N : Mem} {k w : Nat} (i d : Nat) : ∀ {j : Nat}, (nTw N k w j).2.1 42 i d = if i = k then (if d < j then N.2.1 30 6 d else (0, 0)) else N.2.1 42 i d
  | 0 => by
    show (if 42 = 42 ∧ i = k then ((0, 0) : Nat × Nat) else N.2.1 42 i d) = _
    by_cases e : i = k
    · rw [if_pos ⟨rfl, e⟩, if_pos e, if_neg (Nat.not_lt_zero _)]
    · rw [if_neg (fun y => e y.2), if_neg e]
  | j + 1 => by
    show (if 42 = 42 ∧ i = k ∧ d = j then N.2.1 30 6 j else (nTw N k w j).2.1 42 i d) = _
    rw [nTw_r i d (j := j)]
    by_cases e : i = k
    · rw [if_pos e, if_pos e]
      by_cases ed : d = j
      · rw [if_pos ⟨rfl, e, ed⟩, if_pos (by omega), ed]
      · rw [if_neg (fun y => ed y.2.2)]
        by_cases h : d < j
        · rw [if_pos h, if_pos (by omega)]
        · rw [if_neg h, if_neg (by omega)]
    · rw [if_neg (fun y => e y.2.1), if_neg e, if_neg e]
theorem tTw_TF {t : DB} {k w : Nat} : ∀ {j : Nat}, TF t (tTw t k w j) [48, 49]
  | 0 => TF.rf.wu _ _ (by decide)
  | j + 1 => (tTw_TF (j := j)).wu _ _ (by decide)
theorem tTw_48 {t : DB} {k w : Nat} (T : Nat) : ∀ {j : Nat}, tTw t k w j 48 T = if T = k then nI w else t 48 T
  | 0 => by
    show up t 48 k (nI w) 48 T = _
    rw [up_at]
    by_cases e : T = k
    · rw [if_pos ⟨rfl, e⟩, if_pos e]
    · rw [if_neg (fun y => e y.2), if_neg e]
  | j + 1 => by
    show up (tTw t k w j) 49 _ _ 48 T = _
    rw [up_f (by decide)]
    exact tTw_48 T (j := j)
theorem tTw_49 {t : DB} {k w : Nat} (i : Nat) : ∀ {j : Nat}, tTw t k w j 49 i = if 5 * k ≤ i ∧ i < 5 * k + j then t 49 (50 + (i - 5 * k)) else t 49 i
  | 0 => by
    show up t 48 k (nI w) 49 i = _
    rw [up_f (by decide), if_neg (by omega)]
  | j + 1 => by
    show up (tTw t k w j) 49 (5 * k + j) (t 49 (50 + j)) 49 i = _
    rw [up_at, tTw_49 i (j := j)]
    by_cases e : i = 5 * k + j
    · rw [if_pos ⟨rfl, e⟩, if_pos (by omega), show i - 5 * k = j from by omega]
    · rw [if_neg (fun y => e y.2)]
      by_cases h : 5 * k ≤ i ∧ i < 5 * k + j
      · rw [if_pos h, if_pos (by omega)]
      · rw [if_neg h, if_neg (by omega)]
def nTo (N : Mem) (k w : Nat) : Mem := lAdd (sI (nTw N k w w) 30 6 0 0) (30, 7) (42, k)
def tTo (t : DB) (k w : Nat) : DB := up (up (tTw t k w w) 48 10 0) 47 0 (nI (k + 1))
theorem tTo_TF {t : DB} {k w : Nat} : TF t (tTo t k w) [47, 48, 49] := ((tTw_TF.mono (by decide)).wu _ _ (by decide)).wu _ _ (by decide)
theorem SZ.tower {X : Mem} {m : Nat} {N : Mem} {t : DB} (h : SZ X m 60 [] 100000 N t) (hm : m + 1 ≤ 100) {w k : Nat} (hw : t 48 10 = nI w) (hw5 : w ≤ 5) (hk : cn t 47 = k) (hk10 : k < 10) : SZ X (m + 1) 60 [] 100000 (nTo N k w) (tTo t k w) := by
  have h24 : cn t 30 ≤ 24 := h.iB.2.2.2.1.2
  have b47 : t 47 0 = nI k := by rw [← hk]; exact h.iB.2.2.2.2.1.1
  have hf0 : NF N (sI (nTw N k w w) 30 6 0 0) [42, 30] := (nTw_NF.mono (by decide)).wI _ _ _ (by decide)
  have hf : NF N (nTo N k w) [42, 30] := hf0.wA _ _ (by decide)
  have ht := tTo_TF (t := t) (k := k) (w := w)
  have s7 : (sI (nTw N k w w) 30 6 0 0).1 30 7 0 = nI k := by
    rw [sI_ne (by simp), (nTw_NF (N := N) (k := k) (w := w) (j := w) 30 (by decide)).1]
    exact (h.S (7, 47, 0) (by decide)).trans b47
  have L1 : ∀ i, (nTo N k w).1 30 i 0 = if i = 7 then nI (k + 1) else if i = 6 then 0 else N.1 30 i 0 := fun i => by
    unfold nTo
    rw [lAdd_i, s7, nI_1]
    by_cases e : i = 7
    · rw [if_pos ⟨rfl, e, rfl⟩, if_pos e]
    · rw [if_neg (fun y => e y.2.1), if_neg e, sI_at]
      by_cases e6 : i = 6
      · rw [if_pos ⟨rfl, e6, rfl⟩, if_pos e6]
      · rw [if_neg (fun y => e6 y.2.1), if_neg e6, (nTw_NF (N := N) (k := k) (w := w) (j := w) 30 (by decide)).1]
  have L2 : ∀ i j, (nTo N k w).2.1 30 i j = if i = 7 ∧ j = k then (42, k) else N.2.1 30 i j := fun i j => by
    unfold nTo
    rw [lAdd_r, s7, nI_clamp (by omega)]
    by_cases e : i = 7 ∧ j = k
    · rw [if_pos ⟨rfl, e⟩, if_pos e]
    · rw [if_neg (fun y => e y.2), if_neg e]
      show (nTw N k w w).2.1 30 i j = _
      rw [(nTw_NF (N := N) (k := k) (w := w) (j := w) 30 (by decide)).2.1]
  have x42 : ∀ i, (nTo N k w).2.2.1 42 i = if i = k then w + 1 else N.2.2.1 42 i := fun i => nTw_x i (N := N) (k := k) (w := w) (j := w)
  have r42 : ∀ i d, (nTo N k w).2.1 42 i d = if i = k then (if d < w then N.2.1 30 6 d else (0, 0)) else N.2.1 42 i d := fun i d => by
    unfold nTo
    rw [lAdd_r, if_neg (by simp)]
    exact nTw_r i d (N := N) (k := k) (w := w) (j := w)
  have nx2 : (nTo N k w).2.2.2 = (N.2.2.2.1 + 2, N.2.2.2.2 + w + 10) := by
    show ((sI (nTw N k w w) 30 6 0 0).2.2.2.1 + 1, (sI (nTw N k w w) 30 6 0 0).2.2.2.2 + 10) = _
    show ((nTw N k w w).2.2.2.1 + 1, (nTw N k w w).2.2.2.2 + 10) = _
    rw [nTw_c]
  have t1 : tTo t k w 47 0 = nI (k + 1) := up_s
  have c1 : cn (tTo t k w) 47 = k + 1 := by unfold cn; rw [t1, nI_clamp (by omega)]
  have v48 : ∀ T, tTo t k w 48 T = if T = 10 then 0 else if T = k then nI w else t 48 T := fun T => by
    unfold tTo
    rw [up_f (by decide), up_at]
    by_cases e : T = 10
    · rw [if_pos ⟨rfl, e⟩, if_pos e]
    · rw [if_neg (fun y => e y.2), if_neg e]
      exact tTw_48 T
  have v49 : ∀ i, tTo t k w 49 i = if 5 * k ≤ i ∧ i < 5 * k + w then t 49 (50 + (i - 5 * k)) else t 49 i := fun i => by
    unfold tTo
    rw [up_f (by decide), up_f (by decide)]
    exact tTw_49 i
  generalize nTo N k w = N' at *
  generalize tTo t k w = t' at *
  have hl : ∀ l, l ≠ 7 → N'.2.1 30 l = N.2.1 30 l := fun l hl => funext fun j => by rw [L2, if_neg (fun e => hl e.1)]
  have h48 : ∀ T, T < cn t 47 → t' 48 T = t 48 T ∧ ∀ d, d < 5 → t' 49 (5 * T + d) = t 49 (5 * T + d) := fun T hT => ⟨by rw [v48, if_neg (by omega), if_neg (by omega)], fun d hd => by rw [v49, if_neg (by omega)]⟩
  have hK : S_K N' t' := by
    intro q hq i hi
    rw [L2]
    by_cases e : q.1 = 7
    · have : q = (7, 42, 47) := (by decide : ∀ q ∈ TK, q.1 = 7 → q = (7, 42, 47)) q hq e
      subst this
      have hi' : i < cn t' 47 := hi
      rw [c1] at hi'
      by_cases ei : i = k
      · rw [if_pos ⟨rfl, ei⟩, ei]
      · rw [if_neg (fun y => ei y.2)]; exact h.K (7, 42, 47) hq i (by show i < cn t 47; omega)
    · rw [ht.cn ((by decide : ∀ q ∈ TK, q.1 ≠ 7 → q.2.2 ∉ [47, 48, 49]) q hq e)] at hi
      rw [if_neg (fun y => e y.1)]
      exact h.K q hq i hi
  have hSS : S_S N' t' := by
    intro q hq
    rw [L1]
    by_cases e : q.1 = 7
    · have : q = (7, 47, 0) := (by decide : ∀ q ∈ TS, q.1 = 7 → q = (7, 47, 0)) q hq e
      subst this
      rw [if_pos rfl]; exact t1.symm
    · rw [if_neg e]
      by_cases e6 : q.1 = 6
      · have : q = (6, 48, 10) := (by decide : ∀ q ∈ TS, q.1 = 6 → q = (6, 48, 10)) q hq e6
        subst this
        rw [if_pos rfl]
        show 0 = t' 48 10
        rw [v48, if_pos rfl]
      · rw [if_neg e6, ht _ ((by decide : ∀ q ∈ TS, q.1 ≠ 7 → q.1 ≠ 6 → q.2.1 ∉ [47, 48, 49]) q hq e e6)]
        exact h.S q hq
  have hE : S_E N' t' := h.E.la (fun q hq i hi => by
    by_cases e : q.1 = 42
    · have : q = (42, 47) := (by decide : ∀ q ∈ TE, q.1 = 42 → q = (42, 47)) q hq e
      subst this
      have hi' : cn t' 47 ≤ i := hi
      rw [c1] at hi'
      exact ⟨by show cn t 47 ≤ i; omega, by show N'.2.2.1 42 i = _; rw [x42, if_neg (by omega)]⟩
    · have hq3 := (by decide : ∀ q ∈ TE, q.1 ≠ 42 → q.1 ∉ [42, 30] ∧ q.2 ∉ [47, 48, 49]) q hq e
      rw [ht.cn hq3.2] at hi
      exact ⟨hi, by rw [(hf q.1 hq3.1).2.2]⟩)
  have hM : S_M (m + 1) N' t' := h.M.up ht (by decide) (by rw [nx2]; dsimp only; omega) (by rw [nx2]; dsimp only; omega)
  have gne : ∀ y, gn t' y = gn t y := fun y => by unfold gn; rw [ht 31 (by decide)]
  have hU : S_U N' t' := by
    intro d hd
    rw [v48, if_pos rfl] at hd
    exact absurd hd (Nat.not_lt_zero _)
  have hT : S_T N' t' := by
    intro T hT
    rw [c1] at hT
    by_cases e : T = k
    · subst e
      rw [x42, if_pos rfl, v48, if_neg (by omega), if_pos rfl, nI_clamp (by omega)]
      refine ⟨rfl, fun d hd => ?_⟩
      rw [r42, if_pos rfl, if_pos hd, gne, v49, if_pos (by omega), show 5 * T + d - 5 * T = d from by omega]
      exact h.U d (by rw [hw, nI_clamp (by omega)]; exact hd)
    · obtain ⟨y1, y2⟩ := h48 T (by omega)
      obtain ⟨h', i1, i2, -⟩ := h.iT T (Or.inl (by omega))
      obtain ⟨z1, z2⟩ := h.T T (by omega)
      rw [y1, x42, if_neg e]
      refine ⟨z1, fun d hd => ?_⟩
      rw [gne, y2 d (by rw [i2, nI_clamp (by omega)] at hd; omega), r42, if_neg e]
      exact z2 d hd
  have hIT : I_T t' := by
    intro T hT
    rw [c1] at hT
    rw [ht.cn (by decide), ht 31 (by decide)]
    by_cases e : T = 10
    · subst e
      exact ⟨0, by decide, by rw [v48, if_pos rfl]; rfl, fun d hd => absurd hd (Nat.not_lt_zero _), fun d e g1 g2 hd => absurd hd (Nat.not_lt_zero _)⟩
    · by_cases ek : T = k
      · subst ek
        obtain ⟨h', i1, i2, i3, i4⟩ := h.iT 10 (Or.inr rfl)
        have e' : h' = w := (nI_eq (by omega) (by omega)).mp (i2.symm.trans hw)
        subst e'
        refine ⟨h', hw5, by rw [v48, if_neg e, if_pos rfl], fun d hd => ?_, fun d e g1 g2 hd he hne hg1 hg2 e1 e2 => ?_⟩
        · rw [v49, if_pos (by omega), show 5 * T + d - 5 * T = d from by omega]; exact i3 d hd
        · rw [v49, if_pos (by omega), show 5 * T + d - 5 * T = d from by omega] at e1
          rw [v49, if_pos (by omega), show 5 * T + e - 5 * T = e from by omega] at e2
          exact i4 d e g1 g2 hd he hne hg1 hg2 e1 e2
      · have hT' : T < cn t 47 := by omega
        obtain ⟨h', i1, i2, i3, i4⟩ := h.iT T (Or.inl hT')
        obtain ⟨y1, y2⟩ := h48 T hT'
        refine ⟨h', i1, by rw [y1]; exact i2, fun d hd => by rw [y2 d (by omega)]; exact i3 d hd, fun d e g1 g2 hd he hne hg1 hg2 e1 e2 => ?_⟩
        rw [y2 d (by omega)] at e1
        rw [y2 e (by omega)] at e2
        exact i4 d e g1 g2 hd he hne hg1 hg2 e1 e2
  have hB : I_B t' := by
    obtain ⟨a1, a2, a3, a4, a5, a6, a7, a8, a9, a10, a11, a12⟩ := h.iB
    exact ⟨a1.fr (ht _ (by decide)), a2.fr (ht _ (by decide)), a3.fr (ht _ (by decide)), a4.fr (ht _ (by decide)), ⟨by rw [c1]; exact t1, by rw [c1]; omega⟩, a6.fr (ht _ (by decide)), a7.fr (ht _ (by decide)), a8.fr (ht _ (by decide)), a9.fr (ht _ (by decide)), a10.fr (ht _ (by decide)), a11.fr (ht _ (by decide)), a12.fr (ht _ (by decide))⟩
  have n4 := hf 4 (by decide)
  have le1 : cn t 1 ≤ cn t' 1 := Nat.le_of_eq (ht.cn (by decide)).symm
  have le47 : cn t 47 ≤ cn t' 47 := by omega
  have h' := h.mup (Nat.le_succ m) hm
  have hKK : I_K (m + 1) t' := h'.iK.fr ht (by decide)
  exact ⟨h.I.fr hf (by decide) ht (by decide), h.R.fr hf (by decide) ht (by decide), h.N.fr hf (by decide) ht (by decide), hK, hSS, hE, h.W.fr hf (by decide) ht (by decide), h.P1.fl ⟨n4.1, n4.2.2⟩ (hl _ (by decide)) ht (by decide), h.P2.fl ⟨n4.1, n4.2.2⟩ (hl _ (by decide)) ht (by decide), h.G.fl hf (by decide) (hl _ (by decide)) ht (by decide), h.G0.fr hf (by decide) ht (by decide), h.G1.fr hf (by decide) ht (by decide), h.G2.fr hf (by decide) ht (by decide), h.G7.fr hf (by decide) ht (by decide), hT, hU, h.C.fr hf (by decide) ht (by decide), h.V.fr hf (by decide) ht (by decide), h.O.fr hf (by decide) ht (by decide), h.A.fl hf (by decide) (hl _ (by decide)) ht (by decide), h.Y.fr hf (by decide) ht (by decide), h.Q.fr hf (by decide) ht (by decide), h.B.fr ht (by decide), h.F.fr hf (by decide), hM, hB, h.iG.fr ht (by decide), hIT, h.iO.gw ht (by decide) le1 le47, h.iC.gw ht (by decide) le1 le47 h48, h.iH.fr ht (by decide), h.iZ.fr ht (by decide), h.iL.fr ht (by decide), h.iR.fr ht (by decide), h.iX.fr ht (by decide), I_U.gw h ht (by decide) h48 (fun g _ => by rw [ht 31 (by decide)]), h.iD.fr ht (by decide), hKK, h.iY.gw ht (by decide) le1 le47, h.J.fr ht (by decide), h.GT.fr hf (by decide) ht (by decide), h.H.fr hf (by decide) ht (by decide)⟩
theorem tow_l {N : Mem} {k w : Nat} (hw5 : w ≤ 5) (w6 : N.2.1 1 0 6 = (30, 6)) (w7 : N.2.1 1 0 7 = (30, 7)) (s6 : N.1 30 6 0 = nI w) (s7 : N.1 30 7 0 = nI k) (hk : k < 10) (hg : ∀ d, d < w → gk (N.2.1 30 6 d).1) (hr : N.2.2.2.1 + 100 ≤ 600000 ∧ N.2.2.2.2 + 100 ≤ 7302250) {Q : Int32 → Mem → Prop} (hQ : Q (nI k) (nTo N k w)) : ∀ r j, j + r = w → v_X0_tower_28 (r + 1) (1, 0) (42, k) (nI j) (nTw N k w j) Q := by
  have lk30 : lk 30 := ⟨by decide, by decide⟩
  have ar : ∀ j, arLN (nTw N k w j) (42, k) := fun j => ⟨rfl, by show (nTw N k w j).2.2.1 42 k ≠ 0; rw [nTw_x, if_pos rfl]; omega⟩
  have ln : ∀ j, nI ((nTw N k w j).2.2.1 (42, k).1 (42, k).2 - 1) = nI w := fun j => by show nI ((nTw N k w j).2.2.1 42 k - 1) = _; rw [nTw_x, if_pos rfl, Nat.add_sub_cancel]
  have z : ∀ j kk, kk ≠ 42 → (nTw N k w j).1 kk = N.1 kk ∧ (nTw N k w j).2.1 kk = N.2.1 kk := fun j kk hkk => by
    have := nTw_NF (N := N) (k := k) (w := w) (j := j) kk (by simp [hkk])
    exact ⟨this.1, this.2.1⟩
  intro r
  induction r with
  | zero =>
    intro j hj
    have ej : j = w := by omega
    subst ej
    refine ⟨ar j, fun _ => ⟨rfl, fun e1 ee1 => ?_⟩, fun y => absurd (by rw [ln]; exact nI_le (Nat.le_refl _) (by omega)) y⟩
    have q1 : e1 = (30, 6) := ee1.trans (by rw [(z j 1 (by decide)).2]; exact w6)
    subst q1
    refine ⟨lk30, fun M2 g2 => ⟨rfl, fun e3 ee3 => ?_⟩⟩
    have g2' : M2 = sI (nTw N k j j) 30 6 0 0 := g2
    subst g2'
    have q3 : e3 = (30, 7) := ee3.trans (by show (nTw N k j j).2.1 1 0 7 = _; rw [(z j 1 (by decide)).2]; exact w7)
    subst q3
    have z7 : (sI (nTw N k j j) 30 6 0 0).1 30 7 0 = nI k := by rw [sI_ne (by simp), (z j 30 (by decide)).1]; exact s7
    refine ⟨lk30, rfl, ?_, ?_, fun M4 g4 => ⟨rfl, fun e5 ee5 => ?_⟩⟩
    · show (sI (nTw N k j j) 30 6 0 0).1 30 7 0 < nI 10000
      rw [z7]
      exact nI_lt (by omega) (by decide)
    · have c := nTw_c (N := N) (k := k) (w := j) (j := j)
      have c1 : (nTw N k j j).2.2.2.1 = N.2.2.2.1 + 1 := by rw [c]
      have c2 : (nTw N k j j).2.2.2.2 = N.2.2.2.2 + j := by rw [c]
      exact ⟨by show (nTw N k j j).2.2.2.1 + 1 ≤ 600000; omega, by show (nTw N k j j).2.2.2.2 + 10 ≤ 7302250; omega⟩
    · have g4' : M4 = nTo N k j := g4
      subst g4'
      have q5 : e5 = (30, 7) := by
        rw [ee5]
        unfold nTo
        rw [lAdd_r, if_neg (by simp)]
        show (nTw N k j j).2.1 1 0 7 = _
        rw [(z j 1 (by decide)).2]
        exact w7
      subst q5
      refine ⟨lk30, ?_⟩
      have : (nTo N k j).1 (30, 7).1 (30, 7).2 0 = nI (k + 1) := by
        unfold nTo
        rw [lAdd_i]
        dsimp only
        rw [if_pos ⟨rfl, rfl, rfl⟩, z7, nI_1]
      rw [this, nI_pred]
      exact hQ
  | succ r ih =>
    intro j hj
    have hjw : j < w := by omega
    have cj : (nI j).toNatClampNeg = j := nI_clamp (by omega)
    refine ⟨ar j, fun y => absurd y (by rw [ln]; exact nI_ge hjw (by omega)), fun _ => ⟨rfl, fun e6 ee6 => ?_⟩⟩
    have q6 : e6 = (30, 6) := ee6.trans (by rw [(z j 1 (by decide)).2]; exact w6)
    subst q6
    refine ⟨lk30, ⟨nI_pos (by omega), by show nI j < (nTw N k w j).1 30 6 0; rw [(z j 30 (by decide)).1, s6]; exact nI_lt hjw (by omega)⟩, fun e7 ee7 => ?_⟩
    rw [cj] at ee7
    have q7 : e7 = N.2.1 30 6 j := ee7.trans (by show (nTw N k w j).2.1 30 6 j = _; rw [(z j 30 (by decide)).2])
    subst q7
    refine ⟨hg j hjw, ⟨rfl, (ar j).2, ?_, hg j hjw⟩, fun M8 g8 x9 e9 => ?_⟩
    · show vp_in (nI j) ((nTw N k w j).2.2.1 42 k - 1)
      rw [nTw_x, if_pos rfl, Nat.add_sub_cancel]
      exact vp_in_nI hjw (by omega)
    · rw [nI_1] at e9
      rw [cj] at g8
      subst e9
      have g8' : M8 = nTw N k w (j + 1) := g8
      subst g8'
      exact ih (j + 1) (by omega)
theorem wtow_l {t : DB} {k w : Nat} (hw5 : w ≤ 5) (hw : t 48 10 = nI w) (h47 : t 47 0 = nI k) (hk : k < 10) {Q : Int32 → DB → Prop} (hQ : Q (nI k) (tTo t k w)) : ∀ r j, j + r = w → w_tower_30 (r + 1) (nI j) (tTw t k w j) Q := by
  have v10 : vp_in 10 11 := by show vp_in (nI 10) 11; exact vp_in_nI (by decide) (by decide)
  have c10 : (10 : Int32).toNatClampNeg = 10 := rfl
  have z48 : ∀ j, tTw t k w j 48 10 = nI w := fun j => by rw [tTw_48, if_neg (by omega)]; exact hw
  have z47 : ∀ j, tTw t k w j 47 0 = nI k := fun j => by rw [tTw_TF 47 (by decide)]; exact h47
  intro r
  induction r with
  | zero =>
    intro j hj
    have ej : j = w := by omega
    subst ej
    refine ⟨v10, fun _ => ⟨v10, fun t1 e1 t2 e2 => ?_⟩, fun y => absurd (by rw [c10, z48]; exact nI_le (Nat.le_refl _) (by omega)) y⟩
    rw [c10] at e1
    have z1 : t1 47 0 = nI k := by rw [e1, up_f (by decide)]; exact z47 j
    rw [z1, nI_1] at e2
    have e2' : t2 = tTo t k j := by rw [e2, e1]; rfl
    subst e2'
    rw [show tTo t k j 47 0 = nI (k + 1) from up_s, nI_pred]
    exact hQ
  | succ r ih =>
    intro j hj
    have hjw : j < w := by omega
    have e50 : 50 + nI j = nI (50 + j) := by rw [show (50 : Int32) = nI 50 from rfl, nI_add]
    have e5 : 5 * tTw t k w j 47 0 + nI j = nI (5 * k + j) := by rw [z47, show (5 : Int32) = nI 5 from rfl, pk_mul, nI_add]
    refine ⟨v10, fun y => absurd y (by rw [c10, z48]; exact nI_ge hjw (by omega)), fun _ => ?_⟩
    rw [e50, e5, nI_clamp (by omega), nI_clamp (by omega)]
    refine ⟨vp_in_nI (by omega) (by decide), vp_in_nI (by omega) (by decide), fun t3 e3 x4 e4 => ?_⟩
    rw [nI_1] at e4
    subst e4
    rw [tTw_49, if_neg (by omega)] at e3
    have e3' : t3 = tTw t k w (j + 1) := e3
    subst e3'
    exact ih (j + 1) (by omega)
theorem ap_tower : AP mX0_tower [] w_tower := by
  intro n X m N t hn hm q
  have q' := q.mup (Nat.le_succ m) hm
  have b47 := q.1.iB.2.2.2.2.1
  have b10 : cn t 47 ≤ 10 := b47.2
  have h24 : cn t 30 ≤ 24 := q.1.iB.2.2.2.1.2
  have w6 : N.2.1 1 0 6 = (30, 6) := q.1.W.1 6 (by decide) (by decide)
  have w7 : N.2.1 1 0 7 = (30, 7) := q.1.W.1 7 (by decide) (by decide)
  have s7 : N.1 30 7 0 = t 47 0 := q.1.S (7, 47, 0) (by decide)
  have s6 : N.1 30 6 0 = t 48 10 := q.1.S (6, 48, 10) (by decide)
  have lk30 : lk 30 := ⟨by decide, by decide⟩
  obtain ⟨ra, rb⟩ := rom_a q.1.1
  obtain ⟨w, hw5, hw, i3, -⟩ := q.1.iT 10 (Or.inr rfl)
  have v10 : vp_in 10 11 := by show vp_in (nI 10) 11; exact vp_in_nI (by decide) (by decide)
  have c10 : (10 : Int32).toNatClampNeg = 10 := rfl
  show cq (n + 11 + 9) mX0_tower [.inr (1, 0)] N _
  refine sv_X0_tower (d := n + 11) (Q := fun v N' => ∃ t', QS (fun _ => True) X (m + 1) N' t' ∧ ∀ Q, Q v t' → w_tower t Q) (fun v N' ⟨t', a, b⟩ => ⟨v, t', rfl, a, b⟩) ⟨rfl, fun e1 ee1 => ?_⟩
  have q1 : e1 = (30, 7) := ee1.trans w7
  subst q1
  refine ⟨lk30, fun y => ⟨rfl, fun e2 ee2 => ?_⟩, fun y => ⟨t, q', fun Q hQ => ⟨fun v => absurd (s7.symm.trans y) v, fun _ => hQ⟩⟩⟩
  have q2 : e2 = (30, 6) := ee2.trans w6
  subst q2
  have y' : ¬ t 47 0 = 10 := fun v => y (s7.trans v)
  have hk8 : cn t 47 < 10 := by
    rcases Nat.lt_or_ge (cn t 47) 10 with v | v
    · exact v
    · exact absurd (by rw [b47.1, show cn t 47 = 10 from Nat.le_antisymm b47.2 v]; rfl) y'
  have sw : N.1 (30, 6).1 (30, 6).2 0 = nI w := s6.trans hw
  have cw : (nI w).toNatClampNeg = w := nI_clamp (by omega)
  rw [sw, cw]
  have hS := q.1.1.tower hm hw hw5 rfl hk8
  refine ⟨lk30, nI_pos (by omega), by omega, ⟨by omega, by omega⟩, cn t 47, q.1.E (42, 47) (by decide) (cn t 47) (Nat.le_refl _), fun M4 g4 => ⟨w + 1, ?_⟩⟩
  have g4' : M4 = nTw N (cn t 47) w 0 := g4
  subst g4'
  refine tow_l hw5 w6 w7 (s6.trans hw) (s7.trans b47.1) hk8 (fun d hd => ?_) ⟨by omega, by omega⟩ ⟨_, q'.tf hS tTo_TF (by decide), fun Q hQ => ⟨fun _ => ⟨v10, ?_⟩, fun v => absurd v y'⟩⟩ w 0 (by omega)
  · obtain ⟨g', g1, g2⟩ := i3 d hd
    obtain ⟨s', c1, c2, -⟩ := q.1.G g' g1
    have g2' : t 49 (50 + d) = nI g' := g2
    rw [q.1.U d (by rw [hw, cw]; exact hd), g2', gn_j (by omega) c2 c1]
    exact ⟨by show 10 ≤ 10 + s'; omega, by show 10 + s' ≤ 19; omega⟩
  · rw [b47.1, c10, hw, nI_clamp (by omega)]
    refine ⟨vp_in_nI (by omega) (by decide), fun t1 e1 => ⟨w + 1, ?_⟩⟩
    have e1' : t1 = tTw t (cn t 47) w 0 := e1
    subst e1'
    exact wtow_l hw5 hw b47.1 hk8 hQ w 0 (by omega)
