set_option maxRecDepth 100000
/-! setting up: a list of the component's grows by one -/
def LA (N N' : Mem) (l k : Nat) (v : Nat × Nat) : Prop := (∀ i, N'.1 30 i 0 = if i = l then nI (k + 1) else N.1 30 i 0) ∧ ∀ i j, N'.2.1 30 i j = if i = l ∧ j = k then v else N.2.1 30 i j
theorem LA.mk {N N1 : Mem} {K : List Nat} (hf : NF N N1 K) (hK : 30 ∉ K) {l k : Nat} {v : Nat × Nat} (hs : N.1 30 l 0 = nI k) (hk : k < 2 ^ 31) : LA N (lAdd N1 (30, l) v) l k v := by
  obtain ⟨a, b, -⟩ := hf 30 hK
  refine ⟨fun i => ?_, fun i j => ?_⟩
  · show (if 30 = 30 ∧ i = l ∧ 0 = 0 then N1.1 30 l 0 + 1 else N1.1 30 i 0) = _
    rw [a, hs, nI_1]
    by_cases e : i = l
    · rw [if_pos ⟨rfl, e, rfl⟩, if_pos e]
    · rw [if_neg (fun y => e y.2.1), if_neg e]
  · show (if 30 = 30 ∧ i = l ∧ j = (N1.1 30 l 0).toNatClampNeg then v else N1.2.1 30 i j) = _
    rw [a, b, hs, nI_clamp hk]
    by_cases e : i = l ∧ j = k
    · rw [if_pos ⟨rfl, e⟩, if_pos e]
    · rw [if_neg (fun y => e y.2), if_neg e]
theorem LA.ne {N N' : Mem} {l k : Nat} {v : Nat × Nat} (h : LA N N' l k v) {i : Nat} (hi : i ≠ l) : N'.2.1 30 i = N.2.1 30 i := funext fun j => (h.2 i j).trans (if_neg (fun y => hi y.1))
theorem S_K.la {N N' : Mem} {t t' : DB} (h : S_K N t) {l k c : Nat} {v : Nat × Nat} (L : LA N N' l k v) (hc : cn t c = k) (hc' : cn t' c = k + 1) (hq : ∀ q ∈ TK, (q.1 = l ∧ q.2.2 = c ∧ v = (q.2.1, k)) ∨ (q.1 ≠ l ∧ cn t' q.2.2 = cn t q.2.2)) : S_K N' t' := by
  intro q hq' i hi
  rw [L.2]
  rcases hq q hq' with ⟨e1, e2, e3⟩ | ⟨e1, e2⟩
  · rw [e2, hc'] at hi
    by_cases e : i = k
    · rw [if_pos ⟨e1, e⟩, e3, e]
    · rw [if_neg (fun y => e y.2)]
      exact h q hq' i (by rw [e2, hc]; omega)
  · rw [e2] at hi
    rw [if_neg (fun y => e1 y.1)]
    exact h q hq' i hi
theorem S_S.la {N N' : Mem} {t t' : DB} (h : S_S N t) {l k : Nat} {v : Nat × Nat} (L : LA N N' l k v) (hq : ∀ q ∈ TS, (q.1 = l ∧ t' q.2.1 q.2.2 = nI (k + 1)) ∨ (q.1 ≠ l ∧ t' q.2.1 q.2.2 = t q.2.1 q.2.2)) : S_S N' t' := by
  intro q hq'
  rw [L.1]
  rcases hq q hq' with ⟨e1, e2⟩ | ⟨e1, e2⟩
  · rw [if_pos e1, e2]
  · rw [if_neg e1, e2]; exact h q hq'
theorem S_E.la {N N' : Mem} {t t' : DB} (h : S_E N t) (hq : ∀ q ∈ TE, ∀ i, cn t' q.2 ≤ i → cn t q.2 ≤ i ∧ N'.2.2.1 q.1 i = N.2.2.1 q.1 i) : S_E N' t' := by
  intro q hq' i hi
  obtain ⟨a, b⟩ := hq q hq' i hi
  rw [b]
  exact h q hq' i a
theorem S_A.fg {N N' : Mem} {t t' : DB} {K C : List Nat} (h : S_A N t) (hf : NF N N' K) (hK : ∀ k ∈ K, k ∉ [25, 26, 27, 28]) (hl : N'.2.1 30 13 = N.2.1 30 13) (ht : TF t t' C) (hC : ∀ c ∈ C, c ∉ [103, 104, 105, 106, 107, 108, 109]) (h1 : cn t 1 ≤ cn t' 1) (h30 : cn t 30 ≤ cn t' 30) (h31 : ∀ g, g < cn t 30 → t' 31 g = t 31 g) : S_A N' t' := by
  have n25 := hf 25 (fun m => hK 25 m (by decide))
  have n26 := hf 26 (fun m => hK 26 m (by decide))
  have n27 := hf 27 (fun m => hK 27 m (by decide))
  have n28 := hf 28 (fun m => hK 28 m (by decide))
  intro a ha
  rw [ht.cn (fun m => hC 103 m (by decide))] at ha
  obtain ⟨s, hs, a2, a3, a4, a5, a6, a7, a8, b0, b1, b2, b3⟩ := h a ha
  have e := hf (25 + s) (fun m => hK _ m (by simp; omega))
  refine ⟨s, hs, ?_⟩
  rw [e.1, e.2.1, hl, ht 104 (fun m => hC _ m (by decide)), ht 105 (fun m => hC _ m (by decide)), ht 106 (fun m => hC _ m (by decide)), ht 107 (fun m => hC _ m (by decide)), ht 108 (fun m => hC _ m (by decide)), ht 109 (fun m => hC _ m (by decide)), n25.2.1, n26.1, n26.2.1, n27.1, n27.2.1, n28.1, n28.2.1]
  refine ⟨a2, a3, a4, a5, a6, a7, a8, fun y => ?_, fun y => ?_, fun y => ?_, b3⟩
  · obtain ⟨g, g1, g2, g3, g4⟩ := b0 y
    exact ⟨g, by omega, g2, by rw [h31 g g1]; exact g3, g4⟩
  · obtain ⟨i, i1, i2⟩ := b1 y
    exact ⟨i, by omega, i2⟩
  · obtain ⟨g, g1, g2, g3, g4⟩ := b2 y
    exact ⟨g, by omega, g2, by rw [h31 g g1]; exact g3, g4⟩
theorem bnd.fr {t t' : DB} {f m : Nat} (h : bnd t f m) (e : t' f = t f) : bnd t' f m := by
  unfold bnd at h ⊢
  rw [cn_fr e, e]
  exact h
/-- station's count grows -/
theorem I_G.g1 {t t' : DB} {C : List Nat} (h : I_G t) (ht : TF t t' C) (hC : ∀ c ∈ C, c ∉ [30, 31, 35, 36, 33, 40, 32, 34]) (h1 : cn t 1 ≤ cn t' 1) : I_G t' := by
  intro g hg
  rw [ht.cn (fun m => hC 30 m (by decide))] at hg
  obtain ⟨s, a1, a2, a3, a4, a5, a6, a7, a8, a9⟩ := h g hg
  rw [ht 31 (fun m => hC _ m (by decide)), ht 35 (fun m => hC _ m (by decide)), ht 36 (fun m => hC _ m (by decide)), ht 33 (fun m => hC _ m (by decide)), ht 40 (fun m => hC _ m (by decide)), ht 32 (fun m => hC _ m (by decide)), ht 34 (fun m => hC _ m (by decide))]
  refine ⟨s, a1, a2, a3, a4, a5, a6, a7, fun y => ?_, a9⟩
  rcases a8 y with w | ⟨w, i, i1, i2⟩
  · exact Or.inl w
  · exact Or.inr ⟨w, i, by omega, i2⟩
theorem I_O.gw {t t' : DB} {C : List Nat} (h : I_O t) (ht : TF t t' C) (hC : ∀ c ∈ C, c ∉ [50, 51, 52, 53, 54, 55]) (h1 : cn t 1 ≤ cn t' 1) (h47 : cn t 47 ≤ cn t' 47) : I_O t' := by
  intro o ho
  rw [ht.cn (fun m => hC 50 m (by decide))] at ho
  obtain ⟨⟨T, T1, T2⟩, ⟨s, s1, s2⟩, a3, a4, a5⟩ := h o ho
  rw [ht 51 (fun m => hC _ m (by decide)), ht 52 (fun m => hC _ m (by decide)), ht 53 (fun m => hC _ m (by decide)), ht 54 (fun m => hC _ m (by decide)), ht 55 (fun m => hC _ m (by decide))]
  exact ⟨⟨T, by omega, T2⟩, ⟨s, by omega, s2⟩, a3, a4, a5⟩
theorem I_C.gw {t t' : DB} {C : List Nat} (h : I_C t) (ht : TF t t' C) (hC : ∀ c ∈ C, c ∉ [61, 50, 62, 51, 63, 64, 65, 66]) (h1 : cn t 1 ≤ cn t' 1) (h47 : cn t 47 ≤ cn t' 47) (h48 : ∀ T, T < cn t 47 → t' 48 T = t 48 T ∧ ∀ d, d < 5 → t' 49 (5 * T + d) = t 49 (5 * T + d)) : I_C t' := by
  intro c hc
  rw [ht.cn (fun m => hC 61 m (by decide))] at hc
  obtain ⟨o, T, hh, d, a1, a2, a3, a4, a5, a6, a7, a8, a9, a10⟩ := h c hc
  obtain ⟨w1, w2⟩ := h48 T a4
  rw [ht.cn (fun m => hC 50 m (by decide)), ht 62 (fun m => hC _ m (by decide)), ht 51 (fun m => hC _ m (by decide)), ht 63 (fun m => hC _ m (by decide)), ht 64 (fun m => hC _ m (by decide)), ht 65 (fun m => hC _ m (by decide)), ht 66 (fun m => hC _ m (by decide))]
  refine ⟨o, T, hh, d, a1, a2, a3, by omega, w1.trans a5, a6, a7, a8, ?_, ?_⟩
  · rcases a9 with y | ⟨p, e, b1, b2, b3, b4, b5, b6, b7⟩
    · exact Or.inl y
    · exact Or.inr ⟨p, e, b1, b2, b3, b4, b5, b6, by rw [w2 e (by omega)]; exact b7⟩
  · rcases a10 with ⟨y1, s, y2, y3⟩ | ⟨y1, y2, y3⟩
    · exact Or.inl ⟨y1, s, by omega, y3⟩
    · exact Or.inr ⟨y1, by rw [w2 d (by omega)]; exact y2, y3⟩
theorem I_Y.gw {t t' : DB} {C : List Nat} (h : I_Y t) (ht : TF t t' C) (hC : ∀ c ∈ C, c ∉ [5, 10, 89, 90, 91, 92, 93, 94, 102]) (h1 : cn t 1 ≤ cn t' 1) (h47 : cn t 47 ≤ cn t' 47) : I_Y t' := by
  obtain ⟨y1, y2⟩ := h
  refine ⟨?_, fun p hp => ?_⟩
  · rw [ht.cn (fun m => hC 5 m (by decide)), ht 10 (fun m => hC _ m (by decide))]; exact y1
  · rw [ht.cn (fun m => hC 89 m (by decide))] at hp
    obtain ⟨⟨T, T1, T2⟩, ⟨s, s1, s2⟩, a3, a4, a5, a6⟩ := y2 p hp
    rw [ht 90 (fun m => hC _ m (by decide)), ht 91 (fun m => hC _ m (by decide)), ht 92 (fun m => hC _ m (by decide)), ht 93 (fun m => hC _ m (by decide)), ht 94 (fun m => hC _ m (by decide)), ht 102 (fun m => hC _ m (by decide))]
    exact ⟨⟨T, by omega, T2⟩, ⟨s, by omega, s2⟩, a3, a4, a5, a6⟩
theorem S_M.up {m : Nat} {N N' : Mem} {t t' : DB} {C : List Nat} (h : S_M m N t) (ht : TF t t' C) (hC : ∀ c ∈ C, c ∉ [61, 23, 17, 82, 50]) (h1 : N'.2.2.2.1 ≤ N.2.2.2.1 + 100) (h2 : N'.2.2.2.2 + 20 * N.2.2.2.1 ≤ N.2.2.2.2 + 20 * N'.2.2.2.1) : S_M (m + 1) N' t' := by
  obtain ⟨a, b⟩ := h
  unfold S_M
  rw [ht.cn (fun m => hC 61 m (by decide)), ht.cn (fun m => hC 23 m (by decide)), ht.cn (fun m => hC 17 m (by decide)), ht.cn (fun m => hC 82 m (by decide)), ht.cn (fun m => hC 50 m (by decide))]
  omega
theorem rom_a {X : Mem} {m : Nat} {N : Mem} {t : DB} (h : SZ X m 60 [] 100000 N t) : N.2.2.2.1 + 1000 ≤ 600000 ∧ N.2.2.2.2 + 100000 ≤ 7302250 := by
  obtain ⟨a, b⟩ := h.M
  obtain ⟨-, -, -, hm⟩ := h.iK
  have c61 := h.nC
  obtain ⟨-, -, -, -, -, b50, -, b23, b17, -, -, b82⟩ := h.iB
  have := b50.2
  have := b23.2
  have := b17.2
  have := b82.2
  omega
