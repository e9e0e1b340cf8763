set_option maxRecDepth 100000
/-! a guard is made -/
def gV (s x2 x3 x4 x5 y : Int32) (f : Nat) : Int32 := if f = 31 then s else if f = 32 then x2 else if f = 33 then x3 else if f = 34 then x4 else if f = 35 then x5 else if f = 42 then y else 0
theorem gV_31 {s x2 x3 x4 x5 y : Int32} : gV s x2 x3 x4 x5 y 31 = s := rfl
theorem gV_32 {s x2 x3 x4 x5 y : Int32} : gV s x2 x3 x4 x5 y 32 = x2 := rfl
theorem gV_33 {s x2 x3 x4 x5 y : Int32} : gV s x2 x3 x4 x5 y 33 = x3 := rfl
theorem gV_34 {s x2 x3 x4 x5 y : Int32} : gV s x2 x3 x4 x5 y 34 = x4 := rfl
theorem gV_35 {s x2 x3 x4 x5 y : Int32} : gV s x2 x3 x4 x5 y 35 = x5 := rfl
theorem gV_36 {s x2 x3 x4 x5 y : Int32} : gV s x2 x3 x4 x5 y 36 = 0 := rfl
theorem gV_37 {s x2 x3 x4 x5 y : Int32} : gV s x2 x3 x4 x5 y 37 = 0 := rfl
theorem gV_38 {s x2 x3 x4 x5 y : Int32} : gV s x2 x3 x4 x5 y 38 = 0 := rfl
theorem gV_39 {s x2 x3 x4 x5 y : Int32} : gV s x2 x3 x4 x5 y 39 = 0 := rfl
theorem gV_40 {s x2 x3 x4 x5 y : Int32} : gV s x2 x3 x4 x5 y 40 = 0 := rfl
theorem gV_42 {s x2 x3 x4 x5 y : Int32} : gV s x2 x3 x4 x5 y 42 = y := rfl
theorem gV_41 {s x2 x3 x4 x5 y : Int32} : gV s x2 x3 x4 x5 y 41 = 0 := rfl
def tGm (t : DB) (k : Nat) (s x2 x3 x4 x5 y : Int32) : Nat → DB
  | 0 => blk t k (gV s x2 x3 x4 x5 y) 31 43
  | j + 1 => up (tGm t k s x2 x3 x4 x5 y j) 45 (8 * k + j) (-1)
def tGd (t : DB) (k : Nat) (s x2 x3 x4 x5 y : Int32) : DB := up (tGm t k s x2 x3 x4 x5 y 8) 30 0 (nI (k + 1))
abbrev GCo : List Nat := [30, 31, 32, 33, 34, 35, 36, 37, 38, 39, 40, 41, 42, 45]
abbrev GKi : List Nat := [10, 11, 12, 13, 14, 15, 16, 17, 18, 19, 30, 32, 43, 46, 47, 48]
theorem tGm_TF {t : DB} {k : Nat} {s x2 x3 x4 x5 y : Int32} : ∀ {j : Nat}, TF t (tGm t k s x2 x3 x4 x5 y j) GCo
  | 0 => fun f hf => by
    funext i
    have : f < 31 ∨ 42 < f := by simp at hf; omega
    show (if 31 ≤ f ∧ f < 43 ∧ i = k then _ else t f i) = _
    rw [if_neg (by omega)]
  | j + 1 => (tGm_TF (j := j)).wu _ _ (by decide)
theorem tGm_b {t : DB} {k : Nat} {s x2 x3 x4 x5 y : Int32} {f i : Nat} (h1 : 31 ≤ f) (h2 : f ≤ 42) : ∀ {j : Nat}, tGm t k s x2 x3 x4 x5 y j f i = if i = k then gV s x2 x3 x4 x5 y f else t f i
  | 0 => by
    show (if 31 ≤ f ∧ f < 43 ∧ i = k then _ else t f i) = _
    by_cases e : i = k
    · rw [if_pos ⟨h1, by omega, e⟩, if_pos e]
    · rw [if_neg (fun y => e y.2.2), if_neg e]
  | j + 1 => by
    show up (tGm t k s x2 x3 x4 x5 y j) 45 (8 * k + j) (-1) f i = _
    rw [up_f (by omega)]
    exact tGm_b h1 h2 (j := j)
theorem tGm_45 {t : DB} {k : Nat} {s x2 x3 x4 x5 y : Int32} {i : Nat} : ∀ {j : Nat}, tGm t k s x2 x3 x4 x5 y j 45 i = if 8 * k ≤ i ∧ i < 8 * k + j then -1 else t 45 i
  | 0 => by
    show (if 31 ≤ 45 ∧ 45 < 43 ∧ i = k then gV s x2 x3 x4 x5 y 45 else t 45 i) = _
    rw [if_neg (by omega), if_neg (by omega)]
  | j + 1 => by
    show up (tGm t k s x2 x3 x4 x5 y j) 45 (8 * k + j) (-1) 45 i = _
    rw [up_at, tGm_45 (j := j)]
    by_cases e : i = 8 * k + j
    · rw [if_pos ⟨rfl, e⟩, if_pos (by omega)]
    · rw [if_neg (fun y => e y.2)]
      by_cases h : 8 * k ≤ i ∧ i < 8 * k + j
      · rw [if_pos h, if_pos (by omega)]
      · rw [if_neg h, if_neg (by omega)]
theorem tGd_TF {t : DB} {k : Nat} {s x2 x3 x4 x5 y : Int32} : TF t (tGd t k s x2 x3 x4 x5 y) GCo := tGm_TF.wu _ _ (by decide)
/-- what a guard's numbers must be -/
def GPr (t : DB) (s : Nat) (x2 x3 x4 : Int32) : Prop := (s = 0 → ∃ a, 1 ≤ a ∧ a ≤ 20 ∧ x2 = nI a) ∧ (s = 1 → ∃ b, b ≤ 10 ∧ x3 = nI b) ∧ (s = 3 ∨ s = 5 → ∃ a, 1 ≤ a ∧ a ≤ 1000 ∧ x2 = nI a) ∧ (s = 4 → ∃ a, 2 ≤ a ∧ a ≤ 6 ∧ x2 = nI a ∧ (x4 = 0 ∨ x4 = 1)) ∧ (s = 6 → x2 = 0 ∨ (x2 = 1 ∧ ∃ i, i < cn t 1 ∧ x3 = nI i)) ∧ (s = 8 → x2 = 0 ∧ x3 = 0 ∧ x4 = 0) ∧ (s = 9 → ∃ b, b ≤ 15 ∧ x3 = nI b)
theorem gk_mem {s : Nat} (hs : s ≤ 9) : 10 + s ∈ [10, 11, 12, 13, 14, 15, 16, 17, 18, 19, 32, 46, 47, 48] := by
  have : s = 0 ∨ s = 1 ∨ s = 2 ∨ s = 3 ∨ s = 4 ∨ s = 5 ∨ s = 6 ∨ s = 7 ∨ s = 8 ∨ s = 9 := by omega
  rcases this with e | e | e | e | e | e | e | e | e | e <;> subst e <;> decide
theorem GKi_no {k : Nat} (h : k < 10 ∨ (19 < k ∧ k < 30) ∨ k = 31 ∨ (32 < k ∧ k < 43) ∨ k = 44 ∨ k = 45 ∨ 48 < k) : k ∉ GKi := fun y => by
  simp at y
  omega
theorem GCo_no {k : Nat} (h : k < 30 ∨ k = 43 ∨ k = 44 ∨ 45 < k) : k ∉ GCo := fun y => by
  simp at y
  omega
theorem SZ.gmk {X : Mem} {m : Nat} {N N' : Mem} {t t' : DB} (h : SZ X m 60 [] 100000 N t) (hf : NF N N' GKi) (ht : TF t t' GCo) (hK : S_K N' t') (hSS : S_S N' t') (hE : S_E N' t') (hM : S_M (m + 1) N' t') (hP1 : S_P N' t' 3 5 6) (hP2 : S_P N' t' 4 11 12) (hG : S_G N' t') (hG0 : S_G0 N' t') (hG1 : S_G1 N' t') (hG2 : S_G2 N' t') (hG7 : S_G7 N' t') (hGT : S_GT N' t') (hT : S_T N' t') (hU : S_U N' t') (hC : S_C N' t') (hV : S_V N' t') (hA : S_A N' t') (hQ : S_Q [] 100000 N' t') (hBB : S_B [] 100000 t') (hB : I_B t') (hIG : I_G t') (hIT : I_T t') (hZ : I_Z t') (hD : I_D t') (hUU : I_U 100000 t') (hKK : I_K (m + 1) t') : SZ X (m + 1) 60 [] 100000 N' t' := by
  have hI : S_I N' t' := fun q hq i hi => by
    have a := (by decide : ∀ q ∈ TI, (q.1 < 10 ∨ (19 < q.1 ∧ q.1 < 30) ∨ q.1 = 31) ∧ (q.2.2.1 < 30 ∨ 45 < q.2.2.1) ∧ (q.2.2.2 < 30 ∨ 45 < q.2.2.2)) q hq
    rw [ht.cn (GCo_no (by omega))] at hi
    rw [(hf q.1 (GKi_no (by omega))).1, ht _ (GCo_no (by omega))]
    exact h.I q hq i hi
  have hR : S_R N' t' := fun q hq i hi => by
    have a := (by decide : ∀ q ∈ TR, (q.1 < 10 ∨ (19 < q.1 ∧ q.1 < 30) ∨ q.1 = 31) ∧ (q.2.2.2.1 < 30 ∨ 45 < q.2.2.2.1) ∧ (q.2.2.2.2 < 30 ∨ 45 < q.2.2.2.2)) q hq
    rw [ht.cn (GCo_no (by omega))] at hi
    rw [(hf q.1 (GKi_no (by omega))).2.1, ht _ (GCo_no (by omega))]
    exact h.R q hq i hi
  have hN : S_N N' t' := fun q hq i hi => by
    have a := (by decide : ∀ q ∈ TN, (q.1 < 10 ∨ (19 < q.1 ∧ q.1 < 30) ∨ q.1 = 31) ∧ (q.2 < 30 ∨ 45 < q.2)) q hq
    rw [ht.cn (GCo_no (by omega))] at hi
    rw [(hf q.1 (GKi_no (by omega))).1]
    exact h.N q hq i hi
  exact ⟨hI, hR, hN, hK, hSS, hE, h.W.fr hf (by decide) ht (by decide), hP1, hP2, hG, hG0, hG1, hG2, hG7, hT, hU, hC, hV, h.O.fr hf (by decide) ht (by decide), hA, h.Y.fr hf (by decide) ht (by decide), hQ, hBB, h.F.fr hf (by decide), hM, hB, hIG, hIT, h.iO.fr ht (by decide), h.iC.fr ht (by decide), h.iH.fr ht (by decide), hZ, h.iL.fr ht (by decide), h.iR.fr ht (by decide), h.iX.fr ht (by decide), hUU, hD, hKK, h.iY.fr ht (by decide), h.J.fr ht (by decide), hGT, h.H.fr hf (by decide) ht (by decide)⟩
theorem QS.guard {X : Mem} {m : Nat} {N N' : Mem} {t : DB} (q : QS (fun _ => True) X m N t) (hm : m + 1 ≤ 100) {k : Nat} (hk : cn t 30 = k) (hk8 : k < 24) {s : Nat} (hs9 : s ≤ 9) {x2 x3 x4 x5 y : Int32} (hp : GPr t s x2 x3 x4) (hx5 : ∃ e, e ≤ 15 ∧ x5 = nI e) (hf : NF N N' GKi) (L : LA N N' 5 k (10 + s, k))
    (hold : ∀ kk ∈ [10, 11, 12, 13, 14, 15, 16, 17, 18, 19, 32, 46, 47, 48], ∀ i, i ≠ k → N'.1 kk i = N.1 kk i ∧ N'.2.1 kk i = N.2.1 kk i ∧ N'.2.2.1 kk i = N.2.2.1 kk i)
    (n0 : N'.1 (10 + s) k 0 = nI k) (n1 : N'.1 (10 + s) k 1 = nI s) (n2 : N'.1 (10 + s) k 2 = x2) (n3 : N'.1 (10 + s) k 3 = x3) (n4 : N'.1 (10 + s) k 4 = x4) (n5 : N'.1 (10 + s) k 5 = x5) (n6 : N'.2.1 (10 + s) k 6 = (1, 0)) (n7 : N'.2.1 (10 + s) k (lastf s) = (1, 0))
    (h0 : s = 0 → N'.1 10 k 7 = 0 ∧ N'.1 10 k 8 = 0 ∧ N'.1 10 k 9 = 0 ∧ N'.2.1 10 k 10 = (0, 0)) (h1 : s = 1 → N'.2.1 11 k 7 = (32, k) ∧ N'.1 11 k 8 = 0 ∧ N'.1 11 k 9 = 0 ∧ N'.1 32 k 0 = 0) (h2 : s = 2 → N'.1 12 k 7 = y)
    (h7 : s = 7 → N'.2.1 17 k 7 = (46, k) ∧ N'.2.1 17 k 8 = (47, k) ∧ N'.2.1 17 k 9 = (48, k) ∧ N'.2.2.1 46 k = 9 ∧ N'.2.2.1 47 k = 9 ∧ N'.2.2.1 48 k = 9 ∧ ∀ i, i < 8 → N'.1 47 k i = -1 ∧ N'.1 46 k i = -1)
    (hc1 : N'.2.2.2.1 ≤ N.2.2.2.1 + 100) (hc2 : N'.2.2.2.2 + 20 * N.2.2.2.1 ≤ N.2.2.2.2 + 20 * N'.2.2.2.1) : QS (fun _ => True) X (m + 1) N' (tGd t k (nI s) x2 x3 x4 x5 y) := by
  obtain ⟨⟨h, hIP⟩, hIW, hQV, h88⟩ := q
  have ht := tGd_TF (t := t) (k := k) (s := nI s) (x2 := x2) (x3 := x3) (x4 := x4) (x5 := x5) (y := y)
  have t1 : tGd t k (nI s) x2 x3 x4 x5 y 30 0 = nI (k + 1) := up_s
  have c1 : cn (tGd t k (nI s) x2 x3 x4 x5 y) 30 = k + 1 := by unfold cn; rw [t1, nI_clamp (by omega)]
  have tv : ∀ f i, 31 ≤ f → f ≤ 42 → tGd t k (nI s) x2 x3 x4 x5 y f i = if i = k then gV (nI s) x2 x3 x4 x5 y f else t f i := fun f i h1 h2 => by
    unfold tGd
    rw [up_f (by omega)]
    exact tGm_b h1 h2
  have v45 : ∀ i, tGd t k (nI s) x2 x3 x4 x5 y 45 i = if 8 * k ≤ i ∧ i < 8 * k + 8 then -1 else t 45 i := fun i => by
    unfold tGd
    rw [up_f (by decide)]
    exact tGm_45
  have b30 : t 30 0 = nI k := by rw [← hk]; exact h.iB.2.2.2.1.1
  generalize tGd t k (nI s) x2 x3 x4 x5 y = t' at *
  have hn := h.nC
  have v31 : ∀ g, g < k → t' 31 g = t 31 g := fun g hg => by rw [tv 31 g (by decide) (by decide), if_neg (by omega)]
  have vo : ∀ f g, 31 ≤ f → f ≤ 42 → g < k → t' f g = t f g := fun f g h1 h2 hg => by rw [tv f g h1 h2, if_neg (by omega)]
  have v31k : t' 31 k = nI s := by rw [tv 31 k (by decide) (by decide), if_pos rfl, gV_31]
  -- no call has the new guard
  have old : ∀ c g, c < cn t 61 → t 65 c = nI g → g < k + 1 → g < k := fun c g hc e hg => by
    rcases h.grd hc with y | ⟨g', s', hg', y, -⟩
    · exact absurd (e.symm.trans y) (nI_m1 (by omega))
    · have : g = g' := (nI_eq (by omega) (by omega)).mp (e.symm.trans y)
      omega
  have gnn : ∀ c, c < cn t 61 → gn t' (t 65 c) = gn t (t 65 c) := fun c hc => by
    rcases h.grd hc with y | ⟨g', s', hg', y, -⟩
    · rw [y]
      unfold gn
      rw [if_pos (by decide), if_pos (by decide)]
    · rw [y]
      unfold gn
      rw [if_neg (nI_pos (by omega)), if_neg (nI_pos (by omega)), nI_clamp (by omega), v31 g' (by omega)]
  have gng : ∀ g, g < k → gn t' (nI g) = gn t (nI g) := fun g hg => by
    unfold gn
    rw [if_neg (nI_pos (by omega)), if_neg (nI_pos (by omega)), nI_clamp (by omega), v31 g hg]
  have c61 : cn t' 61 = cn t 61 := ht.cn (by decide)
  have hK : S_K N' t' := fun q hq i hi => by
    have hq3 := (by decide : ∀ q ∈ TK, q.1 ≠ 5 ∧ q.2.2 ∉ GCo) q hq
    rw [ht.cn hq3.2] at hi
    rw [L.ne hq3.1]
    exact h.K q hq i hi
  have hSS : S_S N' t' := h.S.la L (fun q hq => by
    by_cases e : q.1 = 5
    · have : q = (5, 30, 0) := (by decide : ∀ q ∈ TS, q.1 = 5 → q = (5, 30, 0)) q hq e
      subst this
      exact Or.inl ⟨rfl, t1⟩
    · exact Or.inr ⟨e, by rw [ht _ ((by decide : ∀ q ∈ TS, q.1 ≠ 5 → q.2.1 ∉ GCo) q hq e)]⟩)
  have hE : S_E N' t' := h.E.la (fun q hq i hi => by
    by_cases e : q.2 = 30
    · have e2 := (by decide : ∀ q ∈ TE, q.2 = 30 → q.1 ∈ [10, 11, 12, 13, 14, 15, 16, 17, 18, 19, 32, 46, 47, 48]) q hq e
      rw [e, c1] at hi
      rw [e]
      exact ⟨by omega, (hold q.1 e2 i (by omega)).2.2⟩
    · have hq3 := (by decide : ∀ q ∈ TE, ¬ q.2 = 30 → q.1 ∉ GKi ∧ q.2 ∉ GCo) q hq e
      rw [ht.cn hq3.2] at hi
      exact ⟨hi, by rw [(hf q.1 hq3.1).2.2]⟩)
  have hM : S_M (m + 1) N' t' := h.M.up ht (by decide) hc1 hc2
  have hB : I_B t' := by
    obtain ⟨a1, a2, a3, a4, a5, a6, a7, a8, a9, a10, a11, a12⟩ := h.iB
    exact ⟨a1.fr (ht _ (by decide)), a2.fr (ht _ (by decide)), a3.fr (ht _ (by decide)), ⟨by rw [c1]; exact t1, by rw [c1]; omega⟩, a5.fr (ht _ (by decide)), a6.fr (ht _ (by decide)), a7.fr (ht _ (by decide)), a8.fr (ht _ (by decide)), a9.fr (ht _ (by decide)), a10.fr (ht _ (by decide)), a11.fr (ht _ (by decide)), a12.fr (ht _ (by decide))⟩
  have hG : S_G N' t' := by
    intro g hg
    rw [c1] at hg
    by_cases e : g = k
    · subst e
      rw [tv 31 g (by decide) (by decide), tv 32 g (by decide) (by decide), tv 33 g (by decide) (by decide), tv 34 g (by decide) (by decide), tv 35 g (by decide) (by decide), if_pos rfl, if_pos rfl, if_pos rfl, if_pos rfl, if_pos rfl, gV_31, gV_32, gV_33, gV_34, gV_35]
      exact ⟨s, hs9, rfl, by rw [L.2, if_pos ⟨rfl, rfl⟩], n0, n1, n2, n3, n4, n5, n6, n7⟩
    · obtain ⟨s', b1, b2, b3, b4⟩ := h.G g (by omega)
      obtain ⟨o1, o2, -⟩ := hold (10 + s') (gk_mem b1) g e
      rw [vo 31 g (by decide) (by decide) (by omega), vo 32 g (by decide) (by decide) (by omega), vo 33 g (by decide) (by decide) (by omega), vo 34 g (by decide) (by decide) (by omega), vo 35 g (by decide) (by decide) (by omega)]
      refine ⟨s', b1, b2, by rw [L.2, if_neg (fun y => e y.2)]; exact b3, ?_⟩
      rw [o1, o2]
      exact b4
  have seq : ∀ n : Nat, n ≤ 9 → t' 31 k = nI n → s = n := fun n hn e => (nI_eq (by omega) (by omega)).mp (v31k.symm.trans e)
  have hG0 : S_G0 N' t' := by
    intro g hg e
    rw [c1] at hg
    by_cases ek : g = k
    · subst ek
      obtain ⟨y1, y2, y3, -⟩ := h0 (seq 0 (by decide) e)
      rw [tv 36 g (by decide) (by decide), tv 37 g (by decide) (by decide), tv 38 g (by decide) (by decide), if_pos rfl, if_pos rfl, if_pos rfl, gV_36, gV_37, gV_38]
      exact ⟨y1, y2, y3⟩
    · rw [v31 g (by omega)] at e
      rw [vo 36 g (by decide) (by decide) (by omega), vo 37 g (by decide) (by decide) (by omega), vo 38 g (by decide) (by decide) (by omega), (hold 10 (by decide) g ek).1]
      exact h.G0 g (by omega) e
  have hGT : S_GT N' t' := by
    intro g hg e
    rw [c1] at hg
    rw [c61]
    by_cases ek : g = k
    · subst ek
      exact Or.inl (h0 (seq 0 (by decide) e)).2.2.2
    · rw [v31 g (by omega)] at e
      rw [(hold 10 (by decide) g ek).2.1]
      exact h.GT g (by omega) e
  have hG1 : S_G1 N' t' := by
    intro g hg e
    rw [c1] at hg
    by_cases ek : g = k
    · subst ek
      obtain ⟨y1, y2, y3, y4⟩ := h1 (seq 1 (by decide) e)
      rw [tv 39 g (by decide) (by decide), tv 40 g (by decide) (by decide), tv 41 g (by decide) (by decide), if_pos rfl, if_pos rfl, if_pos rfl, gV_39, gV_40, gV_41]
      exact ⟨y1, y2, y3, y4, fun j hj => absurd hj (by rw [show (0 : Int32).toNatClampNeg = 0 from rfl]; exact Nat.not_lt_zero _)⟩
    · rw [v31 g (by omega)] at e
      rw [vo 39 g (by decide) (by decide) (by omega), vo 40 g (by decide) (by decide) (by omega), vo 41 g (by decide) (by decide) (by omega), (hold 11 (by decide) g ek).1, (hold 11 (by decide) g ek).2.1, (hold 32 (by decide) g ek).1, (hold 32 (by decide) g ek).2.1, ht 43 (by decide)]
      exact h.G1 g (by omega) e
  have hG2 : S_G2 N' t' := by
    intro g hg e
    rw [c1] at hg
    by_cases ek : g = k
    · subst ek
      have es := seq 2 (by decide) e
      rw [tv 42 g (by decide) (by decide), if_pos rfl, h2 es, gV_42]
    · rw [v31 g (by omega)] at e
      rw [vo 42 g (by decide) (by decide) (by omega), (hold 12 (by decide) g ek).1]
      exact h.G2 g (by omega) e
  have hG7 : S_G7 N' t' := by
    intro g hg e
    rw [c1] at hg
    by_cases ek : g = k
    · subst ek
      obtain ⟨y1, y2, y3, y4, y5, y6, y7⟩ := h7 (seq 7 (by decide) e)
      refine ⟨y1, y2, y3, y4, y5, y6, fun i hi => ?_⟩
      rw [v45, if_pos (by omega)]
      exact ⟨(y7 i hi).1, Or.inl ⟨rfl, (y7 i hi).2⟩⟩
    · rw [v31 g (by omega)] at e
      obtain ⟨y1, y2, y3, y4, y5, y6, y7⟩ := h.G7 g (by omega) e
      rw [(hold 17 (by decide) g ek).2.1, (hold 46 (by decide) g ek).1, (hold 46 (by decide) g ek).2.2, (hold 47 (by decide) g ek).1, (hold 47 (by decide) g ek).2.2, (hold 48 (by decide) g ek).1, (hold 48 (by decide) g ek).2.2, ht 44 (by decide), ht 46 (by decide)]
      refine ⟨y1, y2, y3, y4, y5, y6, fun i hi => ?_⟩
      rw [v45, if_neg (by omega)]
      exact y7 i hi
  have hT : S_T N' t' := by
    intro T hT
    rw [ht.cn (by decide)] at hT
    obtain ⟨h', i1, i2, i3, -⟩ := h.iT T (Or.inl hT)
    obtain ⟨z1, z2⟩ := h.T T hT
    obtain ⟨f1, f2, f3⟩ := hf 42 (by decide)
    rw [f3, f2, ht 48 (by decide), ht 49 (by decide)]
    refine ⟨z1, fun d hd => ?_⟩
    obtain ⟨g, g1, g2⟩ := i3 d (by rw [i2, nI_clamp (by omega)] at hd; exact hd)
    have := z2 d hd
    rw [g2] at this ⊢
    rw [gng g (by omega)]
    exact this
  have hU : S_U N' t' := by
    intro d hd
    rw [ht 48 (by decide)] at hd
    obtain ⟨h', i1, i2, i3, -⟩ := h.iT 10 (Or.inr rfl)
    obtain ⟨g, g1, g2⟩ := i3 d (by rw [i2, nI_clamp (by omega)] at hd; exact hd)
    have g2' : t 49 (50 + d) = nI g := g2
    have := h.U d hd
    rw [g2'] at this
    rw [L.ne (by decide), ht 49 (by decide), g2', gng g (by omega)]
    exact this
  have hC : S_C N' t' := by
    intro c hc
    rw [c61] at hc
    obtain ⟨f1, f2, -⟩ := hf 21 (by decide)
    rw [f1, f2, ht 65 (by decide), gnn c hc, ht 69 (by decide), ht 70 (by decide)]
    exact h.C c hc
  have hV : S_V N' t' := by
    intro c hc
    rw [c61] at hc
    obtain ⟨f1, f2, -⟩ := hf 21 (by decide)
    obtain ⟨-, f4, -⟩ := hf 31 (by decide)
    obtain ⟨a1, a2, a3, a4⟩ := h.V c hc
    rw [f1, f4, c61, c1, ht 73 (by decide), ht 64 (by decide), ht 65 (by decide)]
    refine ⟨a1, a2, a3, fun g hg e e6 => ?_⟩
    have hg' := old c g hc e hg
    rw [v31 g hg'] at e6
    exact a4 g (by omega) e e6
  have hQ : S_Q [] 100000 N' t' := by
    intro c hc hl
    rw [c61] at hc
    have hl' : lvv t [] 100000 c := by
      rcases hl with ⟨v1, v2⟩ | v
      · rw [ht 69 (by decide)] at v1
        exact Or.inl ⟨v1, v2⟩
      · exact absurd v List.not_mem_nil
    obtain ⟨a1, a2⟩ := h.Q c hc hl'
    obtain ⟨f1, -, -⟩ := hf 21 (by decide)
    have est : stOf t' c = stOf t c := by unfold stOf; rw [ht 75 (by decide), ht 76 (by decide), ht 74 (by decide)]
    rw [f1, est, c1, ht 65 (by decide), ht 79 (by decide), ht 75 (by decide), ht 77 (by decide), ht 43 (by decide)]
    refine ⟨a1, fun g e hg => ?_⟩
    have hg' := old c g hc e hg
    rw [v31 g hg', vo 36 g (by decide) (by decide) hg', vo 40 g (by decide) (by decide) hg', (hold 10 (by decide) g (by omega)).2.1]
    exact a2 g e (by omega)
  have hBB : S_B [] 100000 t' := by
    intro g hg e j hj
    rw [c1] at hg
    by_cases ek : g = k
    · subst ek
      rw [tv 40 g (by decide) (by decide), if_pos rfl, gV_40, show (0 : Int32).toNatClampNeg = 0 from rfl] at hj
      exact absurd hj (Nat.not_lt_zero _)
    · rw [v31 g (by omega)] at e
      rw [vo 40 g (by decide) (by decide) (by omega)] at hj
      obtain ⟨c, y1, y2, y3, y4, y5, y6, y7⟩ := h.B g (by omega) e j hj
      rw [c61, ht 43 (by decide), ht 65 (by decide), ht 75 (by decide), ht 73 (by decide)]
      refine ⟨c, y1, y2, y3, y4, y5, ?_, y7⟩
      rcases y6 with ⟨v1, v2⟩ | v
      · exact Or.inl ⟨by rw [ht 69 (by decide)]; exact v1, v2⟩
      · exact absurd v List.not_mem_nil
  have hIG : I_G t' := by
    intro g hg
    rw [c1] at hg
    rw [ht.cn (by decide)]
    by_cases ek : g = k
    · subst ek
      rw [tv 31 g (by decide) (by decide), tv 35 g (by decide) (by decide), tv 36 g (by decide) (by decide), tv 32 g (by decide) (by decide), tv 33 g (by decide) (by decide), tv 40 g (by decide) (by decide), tv 34 g (by decide) (by decide), if_pos rfl, if_pos rfl, if_pos rfl, if_pos rfl, if_pos rfl, if_pos rfl, if_pos rfl, gV_31, gV_35, gV_36, gV_32, gV_33, gV_40, gV_34]
      obtain ⟨p0, p1, p3, p4, p6, p8, p9⟩ := hp
      refine ⟨s, hs9, rfl, hx5, fun e => ⟨Or.inl rfl, p0 e⟩, fun e => ?_, p3, p4, p6, p9⟩
      obtain ⟨b, b1, b2⟩ := p1 e
      exact ⟨b, 0, b1, b2, Nat.zero_le _, rfl⟩
    · rw [vo 31 g (by decide) (by decide) (by omega), vo 35 g (by decide) (by decide) (by omega), vo 36 g (by decide) (by decide) (by omega), vo 32 g (by decide) (by decide) (by omega), vo 33 g (by decide) (by decide) (by omega), vo 40 g (by decide) (by decide) (by omega), vo 34 g (by decide) (by decide) (by omega)]
      exact h.iG g (by omega)
  have hIT : I_T t' := by
    intro T hT
    rw [ht.cn (by decide)] at hT
    obtain ⟨h', i1, i2, i3, i4⟩ := h.iT T hT
    rw [c1, ht 48 (by decide), ht 49 (by decide)]
    refine ⟨h', i1, i2, fun d hd => ?_, fun d e g1 g2 hd he hne hg1 hg2 e1 e2 => ?_⟩
    · obtain ⟨g, y1, y2⟩ := i3 d hd
      exact ⟨g, by omega, y2⟩
    · obtain ⟨g, y1, y2⟩ := i3 d hd
      obtain ⟨g', z1, z2⟩ := i3 e he
      have k1 : g1 = g := (nI_eq (by omega) (by omega)).mp (e1.symm.trans y2)
      have k2 : g2 = g' := (nI_eq (by omega) (by omega)).mp (e2.symm.trans z2)
      subst k1; subst k2
      rw [v31 g1 (by omega), v31 g2 (by omega)]
      exact i4 d e g1 g2 hd he hne y1 z1 e1 e2
  have hZ : I_Z t' := by
    intro c hc
    rw [c61] at hc
    obtain ⟨a1, a2⟩ := h.iZ c hc
    rw [c1, ht.cn (by decide), ht 65 (by decide), ht 79 (by decide), ht 75 (by decide), ht 77 (by decide), ht 76 (by decide), ht 78 (by decide), ht 74 (by decide), ht 73 (by decide), ht 62 (by decide), ht 52 (by decide), ht 53 (by decide), ht 54 (by decide)]
    refine ⟨fun g hg e => ?_, a2⟩
    have hg' := old c g hc e hg
    rw [v31 g hg']
    exact a1 g (by omega) e
  have hD : I_D t' := by
    intro c hc g hg e
    rw [c61] at hc
    rw [c1] at hg
    rw [ht 65 (by decide)] at e
    have hg' := old c g hc e hg
    rw [ht 73 (by decide), ht 76 (by decide), v31 g hg']
    exact h.iD c hc g (by omega) e
  have hIP' : I_P t' := by
    intro c hc e0 p hp' ep
    rw [c61] at hc hp'
    rw [ht 69 (by decide)] at e0 ⊢
    rw [ht 64 (by decide)] at ep ⊢
    obtain ⟨y1, y2⟩ := hIP c hc e0 p hp' ep
    refine ⟨y1, fun g hg e j hj => ?_⟩
    rw [c1] at hg
    rw [c61] at hj
    rw [ht 65 (by decide)] at e
    have hg' := old p g hp' e hg
    rw [v31 g hg']
    exact y2 g (by omega) e j hj
  have hIW' : I_W (fun _ => False) t' := by
    intro p hp' e0 hE g hg e j hj ej
    rw [c61] at hp' hj
    rw [c1] at hg
    rw [ht 69 (by decide)] at e0 ⊢
    rw [ht 65 (by decide)] at e
    rw [ht 64 (by decide)] at ej
    have hg' := old p g hp' e hg
    rw [v31 g hg', ht 76 (by decide)]
    exact hIW p hp' e0 hE g (by omega) e j hj ej
  have hQV' : QV (fun _ => True) t' := by
    intro c hc g hg e
    rw [c61] at hc
    rw [c1] at hg
    rw [ht 65 (by decide)] at e
    have hg' := old c g hc e hg
    rw [v31 g hg', ht 73 (by decide), ht 72 (by decide), ht 0 (by decide)]
    exact hQV c hc g (by omega) e
  have nf4 := hf 4 (GKi_no (by omega))
  have hP1 : S_P N' t' 3 5 6 := h.P1.fl ⟨nf4.1, nf4.2.2⟩ (L.ne (by decide)) ht (by decide)
  have hP2 : S_P N' t' 4 11 12 := h.P2.fl ⟨nf4.1, nf4.2.2⟩ (L.ne (by decide)) ht (by decide)
  have h' := h.mup (Nat.le_succ m) hm
  have hKK : I_K (m + 1) t' := h'.iK.fr ht (by decide)
  have hA : S_A N' t' := h.A.fg hf (by decide) (L.ne (by decide)) ht (by decide) (Nat.le_of_eq (ht.cn (by decide)).symm) (by omega) (fun g hg => v31 g (by omega))
  have hUU : I_U 100000 t' := I_U.gw h ht (by decide) (fun T _ => ⟨by rw [ht 48 (by decide)], fun d _ => by rw [ht 49 (by decide)]⟩) (fun g hg => v31 g (by omega))
  refine ⟨⟨?_, hIP'⟩, hIW', hQV', by rw [ht 88 (by decide)]; exact h88⟩
  exact h.gmk hf ht hK hSS hE hM hP1 hP2 hG hG0 hG1 hG2 hG7 hGT hT hU hC hV hA hQ hBB hB hIG hIT hZ hD hUU hKK
