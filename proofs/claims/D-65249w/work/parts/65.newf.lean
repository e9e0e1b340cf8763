set_option maxRecDepth 100000
/-! a list of the component's own grows: the clauses that read the others -/
theorem S_P.fl {l c b : Nat} {N N' : Mem} {t t' : DB} {C : List Nat} (h : S_P N t l c b) (h4 : N'.1 4 = N.1 4 ∧ N'.2.2.1 4 = N.2.2.1 4) (hl : N'.2.1 30 l = N.2.1 30 l) (ht : TF t t' C) (hC : ∀ f ∈ C, f ≠ c ∧ (f < b ∨ b + 4 < f)) : S_P N' t' l c b := by
  have c0 := ht c (fun m => (hC c m).1 rfl)
  have d0 := ht b (fun m => by have := (hC b m).2; omega)
  have d1 := ht (b + 1) (fun m => by have := (hC (b + 1) m).2; omega)
  have d2 := ht (b + 2) (fun m => by have := (hC (b + 2) m).2; omega)
  have d3 := ht (b + 3) (fun m => by have := (hC (b + 3) m).2; omega)
  have d4 := ht (b + 4) (fun m => by have := (hC (b + 4) m).2; omega)
  unfold S_P cn at h ⊢
  rw [c0, d0, d1, d2, d3, d4, hl, h4.1, h4.2]
  exact h
theorem S_U.fl {N N' : Mem} {t t' : DB} {C : List Nat} (h : S_U N t) (hl : N'.2.1 30 6 = N.2.1 30 6) (ht : TF t t' C) (hC : ∀ c ∈ C, c ∉ [48, 49, 31]) : S_U N' t' := by
  unfold S_U gn at h ⊢
  rw [hl, ht 48 (fun m => hC _ m (by decide)), ht 49 (fun m => hC _ m (by decide)), ht 31 (fun m => hC _ m (by decide))]
  exact h
theorem S_G.fl {N N' : Mem} {t t' : DB} {K C : List Nat} (h : S_G N t) (hf : NF N N' K) (hK : ∀ k ∈ K, k ∉ [10, 11, 12, 13, 14, 15, 16, 17, 18, 19]) (hl : N'.2.1 30 5 = N.2.1 30 5) (ht : TF t t' C) (hC : ∀ c ∈ C, c ∉ [30, 31, 32, 33, 34, 35]) : S_G N' t' := by
  intro g hg
  rw [ht.cn (fun m => hC 30 m (by decide))] at hg
  obtain ⟨s, hs, h1⟩ := h g hg
  have e := hf (10 + s) (fun m => hK _ m (by simp; omega))
  refine ⟨s, hs, ?_⟩
  rw [e.1, e.2.1, hl, ht 31 (fun m => hC _ m (by decide)), ht 32 (fun m => hC _ m (by decide)), ht 33 (fun m => hC _ m (by decide)), ht 34 (fun m => hC _ m (by decide)), ht 35 (fun m => hC _ m (by decide))]
  exact h1
theorem S_A.fl {N N' : Mem} {t t' : DB} {K C : List Nat} (h : S_A N t) (hf : NF N N' K) (hK : ∀ k ∈ K, k ∉ [25, 26, 27, 28]) (hl : N'.2.1 30 13 = N.2.1 30 13) (ht : TF t t' C) (hC : ∀ c ∈ C, c ∉ [103, 104, 105, 106, 107, 108, 109, 30, 31, 1]) : S_A N' t' := by
  have c1 := ht 1 (fun m => hC 1 m (by decide))
  have c30 := ht 30 (fun m => hC 30 m (by decide))
  have c31 := ht 31 (fun m => hC 31 m (by decide))
  have c103 := ht 103 (fun m => hC 103 m (by decide))
  have c104 := ht 104 (fun m => hC 104 m (by decide))
  have c105 := ht 105 (fun m => hC 105 m (by decide))
  have c106 := ht 106 (fun m => hC 106 m (by decide))
  have c107 := ht 107 (fun m => hC 107 m (by decide))
  have c108 := ht 108 (fun m => hC 108 m (by decide))
  have c109 := ht 109 (fun m => hC 109 m (by decide))
  have n25 := hf 25 (fun m => hK 25 m (by decide))
  have n26 := hf 26 (fun m => hK 26 m (by decide))
  have n27 := hf 27 (fun m => hK 27 m (by decide))
  have n28 := hf 28 (fun m => hK 28 m (by decide))
  intro a ha
  unfold cn at ha ⊢
  rw [c103] at ha
  obtain ⟨s, hs, h1⟩ := h a ha
  have e := hf (25 + s) (fun m => hK _ m (by simp; omega))
  refine ⟨s, hs, ?_⟩
  rw [e.1, e.2.1, hl, c104, c109, c107, c108, c105, c106, c30, c31, c1, n25.2.1, n26.1, n26.2.1, n27.1, n27.2.1, n28.1, n28.2.1]
  exact h1
theorem S_K.ad {N N' : Mem} {t t' : DB} (h : S_K N t) (q : Nat × Nat × Nat) (hq : q ∈ TK) (hl : ∀ l, l ≠ q.1 → N'.2.1 30 l = N.2.1 30 l) (ha : ∀ i, i < cn t q.2.2 → N'.2.1 30 q.1 i = N.2.1 30 q.1 i) (hb : N'.2.1 30 q.1 (cn t q.2.2) = (q.2.1, cn t q.2.2)) (hc : ∀ r ∈ TK, r.2.2 ≠ q.2.2 → cn t' r.2.2 = cn t r.2.2) (hd : cn t' q.2.2 = cn t q.2.2 + 1) : S_K N' t' := by
  intro r hr i hi
  by_cases e : r = q
  · subst e
    rw [hd] at hi
    by_cases e2 : i = cn t r.2.2
    · rw [e2]; exact hb
    · rw [ha i (by omega)]; exact h r hr i (by omega)
  · have e3 : r.1 ≠ q.1 ∧ r.2.2 ≠ q.2.2 := (by decide : ∀ q ∈ TK, ∀ r ∈ TK, r ≠ q → r.1 ≠ q.1 ∧ r.2.2 ≠ q.2.2) q hq r hr e
    rw [hc r hr e3.2] at hi
    rw [hl r.1 e3.1]
    exact h r hr i hi
theorem S_S.ad {N N' : Mem} {t t' : DB} (h : S_S N t) (q : Nat × Nat × Nat) (hl : ∀ l, l ≠ q.1 → N'.1 30 l 0 = N.1 30 l 0) (hb : N'.1 30 q.1 0 = t' q.2.1 q.2.2) (hc : ∀ r ∈ TS, r.1 ≠ q.1 → t' r.2.1 r.2.2 = t r.2.1 r.2.2) (hq : q ∈ TS) : S_S N' t' := by
  intro r hr
  by_cases e : r.1 = q.1
  · have e2 : r = q := (by decide : ∀ q ∈ TS, ∀ r ∈ TS, r.1 = q.1 → r = q) q hq r hr e
    rw [e2]; exact hb
  · rw [hl r.1 e, hc r hr e]; exact h r hr
/-- a new failure -/
def nFt (t : DB) (f : Nat) (k g s : Int32) : DB := up (up (up (up (up (up (up t 24 f k) 25 f (t 0 0)) 26 f g) 27 f s) 28 f (-1)) 29 f (-1)) 23 0 (nI (f + 1))
def nFn (N : Mem) (f : Nat) (n k tm g s : Int32) : Mem := lAdd (sI (sI (sI (sI (sI (sN N 22 f 0 7) 22 f 0 n) 22 f 1 k) 22 f 2 tm) 22 f 3 g) 22 f 4 s) (30, 10) (22, f)
theorem nFt_TF {t : DB} {f : Nat} {k g s : Int32} : TF t (nFt t f k g s) [23, 24, 25, 26, 27, 28, 29] := ((((((TF.rf.wu _ _ (by decide)).wu _ _ (by decide)).wu _ _ (by decide)).wu _ _ (by decide)).wu _ _ (by decide)).wu _ _ (by decide)).wu _ _ (by decide)
theorem SZ.newF {X : Mem} {m z : Nat} {P : List Nat} {x : Nat} {N : Mem} {t : DB} (h : SZ X m z P x N t) {k : Nat} {g s : Int32} (hk : k ≤ 15) (hU : cn t 23 + 1 + sumTo (cn t 61) (undW t x) ≤ cn t 61) : SZ X m z P x (nFn N (cn t 23) (nI (cn t 23)) (nI k) (t 0 0) g s) (nFt t (cn t 23) (nI k) g s) := by
  have h61 := h.nC
  obtain ⟨b1, b2⟩ := h.iB.2.2.2.2.2.2.2.1
  generalize hfd : cn t 23 = f at *
  have hsz : N.1 30 10 0 = nI f := (h.S (10, 23, 0) (by decide)).trans b1
  have hcl : (nI f).toNatClampNeg = f := nI_clamp (by omega)
  have hcl1 : (nI (f + 1)).toNatClampNeg = f + 1 := nI_clamp (by omega)
  have hf : NF N (nFn N f (nI f) (nI k) (t 0 0) g s) [22, 30] := ((((((NF.rf.wN _ _ _ (by decide)).wI _ _ _ (by decide)).wI _ _ _ (by decide)).wI _ _ _ (by decide)).wI _ _ _ (by decide)).wI _ _ _ (by decide)).wA _ _ (by decide)
  have ht : TF t (nFt t f (nI k) g s) [23, 24, 25, 26, 27, 28, 29] := nFt_TF
  have i22 : ∀ i fd, (nFn N f (nI f) (nI k) (t 0 0) g s).1 22 i fd = if i = f then (if fd = 0 then nI f else if fd = 1 then nI k else if fd = 2 then t 0 0 else if fd = 3 then g else if fd = 4 then s else 0) else N.1 22 i fd := by
    intro i fd
    simp only [nFn, lAdd, sI, sN]
    by_cases e : i = f
    · subst e
      by_cases e0 : fd = 0
      · subst e0; simp
      by_cases e1 : fd = 1
      · subst e1; simp
      by_cases e2 : fd = 2
      · subst e2; simp
      by_cases e3 : fd = 3
      · subst e3; simp
      by_cases e4 : fd = 4
      · subst e4; simp
      simp [e0, e1, e2, e3, e4]
    · simp [e]
  have r22 : ∀ i fd, (nFn N f (nI f) (nI k) (t 0 0) g s).2.1 22 i fd = if i = f then (0, 0) else N.2.1 22 i fd := by
    intro i fd
    simp [nFn, lAdd, sI, sN]
  have x22 : ∀ i, (nFn N f (nI f) (nI k) (t 0 0) g s).2.2.1 22 i = if i = f then 1 else N.2.2.1 22 i := by
    intro i
    simp [nFn, lAdd, sI, sN]
  have i30 : ∀ i, (nFn N f (nI f) (nI k) (t 0 0) g s).1 30 i 0 = if i = 10 then nI (f + 1) else N.1 30 i 0 := by
    intro i
    have : (nFn N f (nI f) (nI k) (t 0 0) g s).1 30 i 0 = if i = 10 then N.1 30 10 0 + 1 else N.1 30 i 0 := by
      simp [nFn, lAdd, sI, sN]
    rw [this, hsz, nI_1]
  have r30 : ∀ i j, (nFn N f (nI f) (nI k) (t 0 0) g s).2.1 30 i j = if i = 10 ∧ j = f then (22, f) else N.2.1 30 i j := by
    intro i j
    have : (nFn N f (nI f) (nI k) (t 0 0) g s).2.1 30 i j = if i = 10 ∧ j = (N.1 30 10 0).toNatClampNeg then (22, f) else N.2.1 30 i j := by
      simp [nFn, lAdd, sI, sN]
    rw [this, hsz, hcl]
  have x30 : (nFn N f (nI f) (nI k) (t 0 0) g s).2.2.1 30 = N.2.2.1 30 := by
    funext i
    simp [nFn, lAdd, sI, sN]
  have room : (nFn N f (nI f) (nI k) (t 0 0) g s).2.2.2 = (N.2.2.2.1 + 2, N.2.2.2.2 + 17) := by
    simp [nFn, lAdd, sI, sN]
  have t23 : cn (nFt t f (nI k) g s) 23 = f + 1 := by
    show (up _ 23 0 (nI (f + 1)) 23 0).toNatClampNeg = _
    rw [up_s, hcl1]
  have tv : ∀ q i, 24 ≤ q → q ≤ 29 → nFt t f (nI k) g s q i = if i = f then (if q = 24 then nI k else if q = 25 then t 0 0 else if q = 26 then g else if q = 27 then s else -1) else t q i := by
    intro q i h1 h2
    unfold nFt
    have hq : q = 24 ∨ q = 25 ∨ q = 26 ∨ q = 27 ∨ q = 28 ∨ q = 29 := by omega
    rcases hq with e | e | e | e | e | e <;> subst e <;> simp [up]
  generalize nFn N f (nI f) (nI k) (t 0 0) g s = N' at *
  generalize hT' : nFt t f (nI k) g s = t' at *
  have t230 : t' 23 0 = nI (f + 1) := by rw [← hT']; exact up_s
  have hcn : ∀ q, q ∉ [23, 24, 25, 26, 27, 28, 29] → cn t' q = cn t q := fun q hq => ht.cn hq
  have hI : S_I N' t' := by
    intro q hq i hi
    by_cases e : q.1 = 22
    · have hq2 : q = (22, 1, 24, 23) ∨ q = (22, 2, 25, 23) ∨ q = (22, 3, 26, 23) ∨ q = (22, 4, 27, 23) := (by decide : ∀ q ∈ TI, q.1 = 22 → q = (22, 1, 24, 23) ∨ q = (22, 2, 25, 23) ∨ q = (22, 3, 26, 23) ∨ q = (22, 4, 27, 23)) q hq e
      have key : ∀ fd col, (22, fd, col, 23) ∈ TI → i < f → N.1 22 i fd = t col i := fun fd col hm hi2 => h.I (22, fd, col, 23) hm i (by show i < cn t 23; omega)
      rcases hq2 with e2 | e2 | e2 | e2 <;> subst e2 <;> dsimp only at hi ⊢ <;> rw [t23] at hi <;> rw [i22, tv _ _ (by decide) (by decide)] <;> by_cases e3 : i = f <;> simp only [e3, if_true, if_false] <;> first | rfl | (rw [if_neg (by omega), if_neg (by omega)]; exact key _ _ (by decide) (by omega)) | (simp) | exact key _ _ (by decide) (by omega)
    · have hq3 : q.1 ≠ 30 ∧ q.2.2.1 ∉ [23, 24, 25, 26, 27, 28, 29] ∧ q.2.2.2 ∉ [23, 24, 25, 26, 27, 28, 29] := (by decide : ∀ q ∈ TI, q.1 ≠ 22 → q.1 ≠ 30 ∧ q.2.2.1 ∉ [23, 24, 25, 26, 27, 28, 29] ∧ q.2.2.2 ∉ [23, 24, 25, 26, 27, 28, 29]) q hq e
      rw [hcn _ hq3.2.2] at hi
      rw [(hf q.1 (by simp [e, hq3.1])).1, ht _ hq3.2.1]
      exact h.I q hq i hi
  have hR : S_R N' t' := by
    intro q hq i hi
    by_cases e : q.1 = 22
    · have hq2 : q = (22, 5, 22, 28, 23) ∨ q = (22, 6, 22, 29, 23) := (by decide : ∀ q ∈ TR, q.1 = 22 → q = (22, 5, 22, 28, 23) ∨ q = (22, 6, 22, 29, 23)) q hq e
      have key : ∀ fd col, (22, fd, 22, col, 23) ∈ TR → i < f → N.2.1 22 i fd = rn 22 (t col i) := fun fd col hm hi2 => h.R (22, fd, 22, col, 23) hm i (by show i < cn t 23; omega)
      rcases hq2 with e2 | e2 <;> subst e2 <;> dsimp only at hi ⊢ <;> rw [t23] at hi <;> rw [r22, tv _ _ (by decide) (by decide)] <;> by_cases e3 : i = f
      · rw [if_pos e3, if_pos e3]; exact rn_m.symm
      · rw [if_neg e3, if_neg e3]; exact key _ _ (by decide) (by omega)
      · rw [if_pos e3, if_pos e3]; exact rn_m.symm
      · rw [if_neg e3, if_neg e3]; exact key _ _ (by decide) (by omega)
    · have hq3 : q.1 ≠ 30 ∧ q.2.2.2.1 ∉ [23, 24, 25, 26, 27, 28, 29] ∧ q.2.2.2.2 ∉ [23, 24, 25, 26, 27, 28, 29] := (by decide : ∀ q ∈ TR, q.1 ≠ 22 → q.1 ≠ 30 ∧ q.2.2.2.1 ∉ [23, 24, 25, 26, 27, 28, 29] ∧ q.2.2.2.2 ∉ [23, 24, 25, 26, 27, 28, 29]) q hq e
      rw [hcn _ hq3.2.2] at hi
      rw [(hf q.1 (by simp [e, hq3.1])).2.1, ht _ hq3.2.1]
      exact h.R q hq i hi
  have hN : S_N N' t' := by
    intro q hq i hi
    by_cases e : q.1 = 22
    · have hq2 : q = (22, 23) := (by decide : ∀ q ∈ TN, q.1 = 22 → q = (22, 23)) q hq e
      subst hq2
      dsimp only at hi ⊢
      rw [t23] at hi
      rw [i22]
      by_cases e3 : i = f
      · rw [if_pos e3, e3]; rfl
      · rw [if_neg e3]; exact h.N (22, 23) (by decide) i (by show i < cn t 23; omega)
    · have hq3 : q.1 ≠ 30 ∧ q.2 ∉ [23, 24, 25, 26, 27, 28, 29] := (by decide : ∀ q ∈ TN, q.1 ≠ 22 → q.1 ≠ 30 ∧ q.2 ∉ [23, 24, 25, 26, 27, 28, 29]) q hq e
      rw [hcn _ hq3.2] at hi
      rw [(hf q.1 (by simp [e, hq3.1])).1]
      exact h.N q hq i hi
  have hl : ∀ l, l ≠ 10 → N'.2.1 30 l = N.2.1 30 l := fun l hl => funext fun j => by rw [r30, if_neg (fun e => hl e.1)]
  have hK : S_K N' t' := h.K.ad (10, 22, 23) (by decide) hl (fun i hi => by
      have hi' : i < cn t 23 := hi
      rw [r30, if_neg (by omega)]) (by
      show N'.2.1 30 10 (cn t 23) = (22, cn t 23)
      rw [hfd, r30, if_pos ⟨rfl, rfl⟩]) (fun r hr hne => hcn _ ((by decide : ∀ r ∈ TK, r.2.2 ≠ 23 → r.2.2 ∉ [23, 24, 25, 26, 27, 28, 29]) r hr hne)) (by show cn t' 23 = cn t 23 + 1; rw [t23, hfd])
  have hS : S_S N' t' := h.S.ad (10, 23, 0) (fun l hl => by rw [i30, if_neg hl]) (by
      show N'.1 30 10 0 = t' 23 0
      rw [i30, if_pos rfl, t230]) (fun r hr hne => by rw [ht _ ((by decide : ∀ r ∈ TS, r.1 ≠ 10 → r.2.1 ∉ [23, 24, 25, 26, 27, 28, 29]) r hr hne)]) (by decide)
  have hE : S_E N' t' := by
    intro q hq i hi
    by_cases e : q.1 = 22
    · have hq2 : q = (22, 23) := (by decide : ∀ q ∈ TE, q.1 = 22 → q = (22, 23)) q hq e
      subst hq2
      dsimp only at hi ⊢
      rw [t23] at hi
      rw [x22, if_neg (by omega)]
      exact h.E (22, 23) (by decide) i (by show cn t 23 ≤ i; omega)
    · have hq3 : q.1 ≠ 30 ∧ q.2 ∉ [23, 24, 25, 26, 27, 28, 29] := (by decide : ∀ q ∈ TE, q.1 ≠ 22 → q.1 ≠ 30 ∧ q.2 ∉ [23, 24, 25, 26, 27, 28, 29]) q hq e
      rw [hcn _ hq3.2] at hi
      rw [(hf q.1 (by simp [e, hq3.1])).2.2]
      exact h.E q hq i hi
  have hM : S_M m N' t' := by
    have a := h.M
    unfold S_M at a ⊢
    rw [room, t23, hcn 61 (by decide), hcn 17 (by decide), hcn 82 (by decide), hcn 50 (by decide)]
    rw [hfd] at a
    dsimp only
    omega
  have hUU := h.iU
  have hB : I_B t' := by
    obtain ⟨a1, a2, a3, a4, a5, a6, a7, a8, a9, a10, a11, a12⟩ := h.iB
    have hb : ∀ q mx, q ∉ [23, 24, 25, 26, 27, 28, 29] → bnd t q mx → bnd t' q mx := by
      intro q mx hq hb
      unfold bnd at hb ⊢
      rw [hcn q hq, ht q hq]; exact hb
    refine ⟨hb _ _ (by decide) a1, hb _ _ (by decide) a2, hb _ _ (by decide) a3, hb _ _ (by decide) a4, hb _ _ (by decide) a5, hb _ _ (by decide) a6, hb _ _ (by decide) a7, ⟨?_, ?_⟩, hb _ _ (by decide) a9, hb _ _ (by decide) a10, hb _ _ (by decide) a11, hb _ _ (by decide) a12⟩
    · rw [t23]; exact t230
    · rw [t23]; omega
  have hH : I_H t' := by
    intro i hi
    rw [hcn 61 (by decide)] at hi
    have a := h.iH i hi
    rw [ht 69 (by decide), ht 70 (by decide), ht 71 (by decide), ht 75 (by decide), ht 76 (by decide), ht 77 (by decide), ht 78 (by decide), ht 79 (by decide), ht 73 (by decide), t23]
    refine ⟨a.1, fun e => ?_, a.2.2⟩
    obtain ⟨f', q1, q2⟩ := a.2.1 e
    exact ⟨f', by omega, q2⟩
  have hX : I_X t' := by
    intro i hi
    rw [t23] at hi
    rw [tv 24 i (by decide) (by decide), tv 28 i (by decide) (by decide), tv 29 i (by decide) (by decide), t23]
    by_cases e : i = f
    · simp only [e, if_true]
      exact ⟨⟨k, hk, rfl⟩, Or.inl (by simp), Or.inl (by simp)⟩
    · simp only [e, if_false]
      obtain ⟨a1, a2, a3⟩ := h.iX i (by omega)
      refine ⟨a1, ?_, ?_⟩
      · rcases a2 with q | ⟨j, q1, q2⟩
        · exact Or.inl q
        · exact Or.inr ⟨j, by omega, q2⟩
      · rcases a3 with q | ⟨j, q1, q2⟩
        · exact Or.inl q
        · exact Or.inr ⟨j, by omega, q2⟩
  have hIU : I_U x t' := by
    have e1 : undW t' x = undW t x := by
      funext c; unfold undW; rw [ht 69 (by decide)]
    have e2 : remC t' = remC t := by
      funext c
      unfold remC capD srt
      rw [ht 65 (by decide), ht 31 (by decide), ht 73 (by decide), ht 51 (by decide), ht 62 (by decide), ht 48 (by decide), ht 49 (by decide), ht 63 (by decide)]
    unfold I_U at hUU ⊢
    rw [e1, e2, hcn 61 (by decide), t23, hcn 50 (by decide), hcn 17 (by decide), hcn 82 (by decide)]
    omega
  have n4 := hf 4 (by decide)
  exact ⟨hI, hR, hN, hK, hS, hE, h.W.fr hf (by decide) ht (by decide), h.P1.fl ⟨n4.1, n4.2.2⟩ (hl 3 (by decide)) ht (by decide), h.P2.fl ⟨n4.1, n4.2.2⟩ (hl 4 (by decide)) ht (by decide), h.G.fl hf (by decide) (hl 5 (by decide)) ht (by decide), h.G0.fr hf (by decide) ht (by decide), h.G1.fr hf (by decide) ht (by decide), h.G2.fr hf (by decide) ht (by decide), h.G7.fr hf (by decide) ht (by decide), h.T.fr hf (by decide) ht (by decide), h.U.fl (hl 6 (by decide)) ht (by decide), h.C.fr hf (by decide) ht (by decide), h.V.fr hf (by decide) ht (by decide), h.O.fr hf (by decide) ht (by decide), h.A.fl hf (by decide) (hl 13 (by decide)) ht (by decide), h.Y.fr hf (by decide) ht (by decide), h.Q.fr hf (by decide) ht (by decide), h.B.fr ht (by decide), h.F.fr hf (by decide), hM, hB, h.iG.fr ht (by decide), h.iT.fr ht (by decide), h.iO.fr ht (by decide), h.iC.fr ht (by decide), hH, h.iZ.fr ht (by decide), h.iL.fr ht (by decide), h.iR.fr ht (by decide), hX, hIU, h.iD.fr ht (by decide), h.iK.fr ht (by decide), h.iY.fr ht (by decide), h.J.fr ht (by decide), h.GT.fr hf (by decide) ht (by decide), h.H.fr hf (by decide) ht (by decide)⟩
