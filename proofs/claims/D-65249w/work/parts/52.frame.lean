set_option maxRecDepth 100000
/-! what a change touches: kinds, columns -/
def NF (N N' : Mem) (K : List Nat) : Prop := ∀ k, k ∉ K → N'.1 k = N.1 k ∧ N'.2.1 k = N.2.1 k ∧ N'.2.2.1 k = N.2.2.1 k
def TF (t t' : DB) (C : List Nat) : Prop := ∀ f, f ∉ C → t' f = t f
theorem NF.rf {N : Mem} {K : List Nat} : NF N N K := fun _ _ => ⟨rfl, rfl, rfl⟩
theorem TF.rf {t : DB} {C : List Nat} : TF t t C := fun _ _ => rfl
theorem NF.wI {N N' : Mem} {K : List Nat} (h : NF N N' K) {k : Nat} (i f : Nat) (v : Int32) (hk : k ∈ K) : NF N (sI N' k i f v) K := fun k' hk' => by
  obtain ⟨a, b, c⟩ := h k' hk'
  refine ⟨?_, b, c⟩
  have hne : k' ≠ k := fun e => hk' (e ▸ hk)
  rw [← a]
  funext i' f'
  exact if_neg (fun e => hne e.1)
theorem NF.wR {N N' : Mem} {K : List Nat} (h : NF N N' K) {k : Nat} (i f : Nat) (v : Nat × Nat) (hk : k ∈ K) : NF N (sR N' k i f v) K := fun k' hk' => by
  obtain ⟨a, b, c⟩ := h k' hk'
  refine ⟨a, ?_, c⟩
  have hne : k' ≠ k := fun e => hk' (e ▸ hk)
  rw [← b]
  funext i' f'
  exact if_neg (fun e => hne e.1)
theorem NF.wN {N N' : Mem} {K : List Nat} (h : NF N N' K) {k : Nat} (i n w : Nat) (hk : k ∈ K) : NF N (sN N' k i n w) K := fun k' hk' => by
  obtain ⟨a, b, c⟩ := h k' hk'
  have hne : k' ≠ k := fun e => hk' (e ▸ hk)
  refine ⟨?_, ?_, ?_⟩
  · rw [← a]; funext i' f'; exact if_neg (fun e => hne e.1)
  · rw [← b]; funext i' f'; exact if_neg (fun e => hne e.1)
  · rw [← c]; funext i'; exact if_neg (fun e => hne e.1)
theorem NF.wA {N N' : Mem} {K : List Nat} (h : NF N N' K) (e v : Nat × Nat) (hk : e.1 ∈ K) : NF N (lAdd N' e v) K := fun k' hk' => by
  obtain ⟨a, b, c⟩ := h k' hk'
  have hne : k' ≠ e.1 := fun q => hk' (q ▸ hk)
  refine ⟨?_, ?_, c⟩
  · rw [← a]; funext i' f'; exact if_neg (fun q => hne q.1)
  · rw [← b]; funext i' f'; exact if_neg (fun q => hne q.1)
theorem NF.wD {N N' : Mem} {K : List Nat} (h : NF N N' K) (e : Nat × Nat) (j : Nat) (hk : e.1 ∈ K) : NF N (lRem N' e j) K := fun k' hk' => by
  obtain ⟨a, b, c⟩ := h k' hk'
  have hne : k' ≠ e.1 := fun q => hk' (q ▸ hk)
  refine ⟨?_, ?_, c⟩
  · rw [← a]; funext i' f'; exact if_neg (fun q => hne q.1)
  · rw [← b]; funext i' f'; exact if_neg (fun q => hne q.1.1)
theorem TF.wu {t t' : DB} {C : List Nat} (h : TF t t' C) {c : Nat} (i : Nat) (v : Int32) (hc : c ∈ C) : TF t (up t' c i v) C := fun f hf => by
  rw [← h f hf]
  funext j
  exact up_f (fun e => hf (e ▸ hc))
theorem NF.tr {N N1 N2 : Mem} {K L : List Nat} (h : NF N N1 K) (h2 : NF N1 N2 L) : NF N N2 (K ++ L) := fun k hk => by
  have h3 := fun m => hk (List.mem_append_left _ m)
  have h4 := fun m => hk (List.mem_append_right _ m)
  exact ⟨(h2 k h4).1.trans (h k h3).1, (h2 k h4).2.1.trans (h k h3).2.1, (h2 k h4).2.2.trans (h k h3).2.2⟩
theorem TF.tr {t t1 t2 : DB} {K L : List Nat} (h : TF t t1 K) (h2 : TF t1 t2 L) : TF t t2 (K ++ L) := fun f hf => (h2 f (fun m => hf (List.mem_append_right _ m))).trans (h f (fun m => hf (List.mem_append_left _ m)))
theorem TF.cn {t t' : DB} {C : List Nat} (h : TF t t' C) {f : Nat} (hf : f ∉ C) : cn t' f = cn t f := by
  show (t' f 0).toNatClampNeg = (t f 0).toNatClampNeg
  rw [h f hf]

theorem S_W.fr {N N' : Mem} {t t' : DB} {K C : List Nat} (h : S_W N t) (hf : NF N N' K) (hK : ∀ k ∈ K, k ∉ [1]) (ht : TF t t' C) (hC : ∀ c ∈ C, c ∉ [0, 60]) : S_W N' t' := by
  have n1 := hf 1 (fun m => hK 1 m (by decide))
  have c0 := ht 0 (fun m => hC 0 m (by decide))
  have c60 := ht 60 (fun m => hC 60 m (by decide))
  unfold S_W  at h ⊢
  simp only [n1.1, n1.2.1, n1.2.2, c0, c60]
  exact h
theorem S_H.fr {N N' : Mem} {t t' : DB} {K C : List Nat} (h : S_H N t) (hf : NF N N' K) (hK : ∀ k ∈ K, k ∉ [44]) (ht : TF t t' C) (hC : ∀ c ∈ C, c ∉ []) : S_H N' t' := by
  have n44 := hf 44 (fun m => hK 44 m (by decide))
  unfold S_H  at h ⊢
  simp only [n44.1, n44.2.2]
  exact h
theorem S_P.fr {l c b : Nat} {N N' : Mem} {t t' : DB} {K C : List Nat} (h : S_P N t l c b) (hf : NF N N' K) (hK : ∀ k ∈ K, k ∉ [30, 4]) (ht : TF t t' C) (hC : ∀ f ∈ C, f ≠ c ∧ (f < b ∨ b + 4 < f)) : S_P N' t' l c b := by
  have n30 := hf 30 (fun m => hK 30 m (by decide))
  have n4 := hf 4 (fun m => hK 4 m (by decide))
  have c0 := ht c (fun m => (hC c m).1 rfl)
  have d0 := ht b (fun m => by have := (hC b m).2; omega)
  have d1 := ht (b + 1) (fun m => by have := (hC (b + 1) m).2; omega)
  have d2 := ht (b + 2) (fun m => by have := (hC (b + 2) m).2; omega)
  have d3 := ht (b + 3) (fun m => by have := (hC (b + 3) m).2; omega)
  have d4 := ht (b + 4) (fun m => by have := (hC (b + 4) m).2; omega)
  unfold S_P cn at h ⊢
  rw [c0, d0, d1, d2, d3, d4, n30.2.1, n4.1, n4.2.2]
  exact h
theorem S_G0.fr {N N' : Mem} {t t' : DB} {K C : List Nat} (h : S_G0 N t) (hf : NF N N' K) (hK : ∀ k ∈ K, k ∉ [10]) (ht : TF t t' C) (hC : ∀ c ∈ C, c ∉ [30, 31, 36, 37, 38]) : S_G0 N' t' := by
  have n10 := hf 10 (fun m => hK 10 m (by decide))
  have c30 := ht 30 (fun m => hC 30 m (by decide))
  have c31 := ht 31 (fun m => hC 31 m (by decide))
  have c36 := ht 36 (fun m => hC 36 m (by decide))
  have c37 := ht 37 (fun m => hC 37 m (by decide))
  have c38 := ht 38 (fun m => hC 38 m (by decide))
  unfold S_G0 cn at h ⊢
  simp only [n10.1, n10.2.1, n10.2.2, c30, c31, c36, c37, c38]
  exact h
theorem S_GT.fr {N N' : Mem} {t t' : DB} {K C : List Nat} (h : S_GT N t) (hf : NF N N' K) (hK : ∀ k ∈ K, k ∉ [10]) (ht : TF t t' C) (hC : ∀ c ∈ C, c ∉ [30, 31, 61]) : S_GT N' t' := by
  have n10 := hf 10 (fun m => hK 10 m (by decide))
  have c30 := ht 30 (fun m => hC 30 m (by decide))
  have c31 := ht 31 (fun m => hC 31 m (by decide))
  have c61 := ht 61 (fun m => hC 61 m (by decide))
  unfold S_GT cn at h ⊢
  simp only [n10.1, n10.2.1, n10.2.2, c30, c31, c61]
  exact h
theorem S_G1.fr {N N' : Mem} {t t' : DB} {K C : List Nat} (h : S_G1 N t) (hf : NF N N' K) (hK : ∀ k ∈ K, k ∉ [11, 32]) (ht : TF t t' C) (hC : ∀ c ∈ C, c ∉ [30, 31, 39, 40, 41, 43]) : S_G1 N' t' := by
  have n11 := hf 11 (fun m => hK 11 m (by decide))
  have n32 := hf 32 (fun m => hK 32 m (by decide))
  have c30 := ht 30 (fun m => hC 30 m (by decide))
  have c31 := ht 31 (fun m => hC 31 m (by decide))
  have c39 := ht 39 (fun m => hC 39 m (by decide))
  have c40 := ht 40 (fun m => hC 40 m (by decide))
  have c41 := ht 41 (fun m => hC 41 m (by decide))
  have c43 := ht 43 (fun m => hC 43 m (by decide))
  unfold S_G1 cn at h ⊢
  simp only [n11.1, n11.2.1, n11.2.2, n32.1, n32.2.1, n32.2.2, c30, c31, c39, c40, c41, c43]
  exact h
theorem S_G2.fr {N N' : Mem} {t t' : DB} {K C : List Nat} (h : S_G2 N t) (hf : NF N N' K) (hK : ∀ k ∈ K, k ∉ [12]) (ht : TF t t' C) (hC : ∀ c ∈ C, c ∉ [30, 31, 42]) : S_G2 N' t' := by
  have n12 := hf 12 (fun m => hK 12 m (by decide))
  have c30 := ht 30 (fun m => hC 30 m (by decide))
  have c31 := ht 31 (fun m => hC 31 m (by decide))
  have c42 := ht 42 (fun m => hC 42 m (by decide))
  unfold S_G2 cn at h ⊢
  simp only [n12.1, n12.2.1, n12.2.2, c30, c31, c42]
  exact h
theorem S_G7.fr {N N' : Mem} {t t' : DB} {K C : List Nat} (h : S_G7 N t) (hf : NF N N' K) (hK : ∀ k ∈ K, k ∉ [17, 46, 47, 48]) (ht : TF t t' C) (hC : ∀ c ∈ C, c ∉ [30, 31, 44, 45, 46]) : S_G7 N' t' := by
  have n17 := hf 17 (fun m => hK 17 m (by decide))
  have n46 := hf 46 (fun m => hK 46 m (by decide))
  have n47 := hf 47 (fun m => hK 47 m (by decide))
  have n48 := hf 48 (fun m => hK 48 m (by decide))
  have c30 := ht 30 (fun m => hC 30 m (by decide))
  have c31 := ht 31 (fun m => hC 31 m (by decide))
  have c44 := ht 44 (fun m => hC 44 m (by decide))
  have c45 := ht 45 (fun m => hC 45 m (by decide))
  have c46 := ht 46 (fun m => hC 46 m (by decide))
  unfold S_G7 cn at h ⊢
  simp only [n17.1, n17.2.1, n17.2.2, n46.1, n46.2.1, n46.2.2, n47.1, n47.2.1, n47.2.2, n48.1, n48.2.1, n48.2.2, c30, c31, c44, c45, c46]
  exact h
theorem S_T.fr {N N' : Mem} {t t' : DB} {K C : List Nat} (h : S_T N t) (hf : NF N N' K) (hK : ∀ k ∈ K, k ∉ [42]) (ht : TF t t' C) (hC : ∀ c ∈ C, c ∉ [47, 48, 49, 31]) : S_T N' t' := by
  have n42 := hf 42 (fun m => hK 42 m (by decide))
  have c47 := ht 47 (fun m => hC 47 m (by decide))
  have c48 := ht 48 (fun m => hC 48 m (by decide))
  have c49 := ht 49 (fun m => hC 49 m (by decide))
  have c31 := ht 31 (fun m => hC 31 m (by decide))
  unfold S_T cn gn at h ⊢
  simp only [n42.1, n42.2.1, n42.2.2, c47, c48, c49, c31]
  exact h
theorem S_U.fr {N N' : Mem} {t t' : DB} {K C : List Nat} (h : S_U N t) (hf : NF N N' K) (hK : ∀ k ∈ K, k ∉ [30]) (ht : TF t t' C) (hC : ∀ c ∈ C, c ∉ [48, 49, 31]) : S_U N' t' := by
  have n30 := hf 30 (fun m => hK 30 m (by decide))
  have c48 := ht 48 (fun m => hC 48 m (by decide))
  have c49 := ht 49 (fun m => hC 49 m (by decide))
  have c31 := ht 31 (fun m => hC 31 m (by decide))
  unfold S_U gn at h ⊢
  simp only [n30.1, n30.2.1, n30.2.2, c48, c49, c31]
  exact h
theorem S_C.fr {N N' : Mem} {t t' : DB} {K C : List Nat} (h : S_C N t) (hf : NF N N' K) (hK : ∀ k ∈ K, k ∉ [21]) (ht : TF t t' C) (hC : ∀ c ∈ C, c ∉ [61, 65, 31, 69, 70]) : S_C N' t' := by
  have n21 := hf 21 (fun m => hK 21 m (by decide))
  have c61 := ht 61 (fun m => hC 61 m (by decide))
  have c65 := ht 65 (fun m => hC 65 m (by decide))
  have c31 := ht 31 (fun m => hC 31 m (by decide))
  have c69 := ht 69 (fun m => hC 69 m (by decide))
  have c70 := ht 70 (fun m => hC 70 m (by decide))
  unfold S_C cn gn at h ⊢
  simp only [n21.1, n21.2.1, n21.2.2, c61, c65, c31, c69, c70]
  exact h
theorem S_V.fr {N N' : Mem} {t t' : DB} {K C : List Nat} (h : S_V N t) (hf : NF N N' K) (hK : ∀ k ∈ K, k ∉ [21, 31]) (ht : TF t t' C) (hC : ∀ c ∈ C, c ∉ [61, 73, 64, 65, 31, 30]) : S_V N' t' := by
  have n21 := hf 21 (fun m => hK 21 m (by decide))
  have n31 := hf 31 (fun m => hK 31 m (by decide))
  have c61 := ht 61 (fun m => hC 61 m (by decide))
  have c73 := ht 73 (fun m => hC 73 m (by decide))
  have c64 := ht 64 (fun m => hC 64 m (by decide))
  have c65 := ht 65 (fun m => hC 65 m (by decide))
  have c31 := ht 31 (fun m => hC 31 m (by decide))
  have c30 := ht 30 (fun m => hC 30 m (by decide))
  unfold S_V cn at h ⊢
  simp only [n21.1, n21.2.1, n21.2.2, n31.1, n31.2.1, n31.2.2, c61, c73, c64, c65, c31, c30]
  exact h
theorem S_O.fr {z : Nat} {N N' : Mem} {t t' : DB} {K C : List Nat} (h : S_O z N t) (hf : NF N N' K) (hK : ∀ k ∈ K, k ∉ [20]) (ht : TF t t' C) (hC : ∀ c ∈ C, c ∉ [50, 58, 59, 61, 62, 64, 69, 70, 71]) : S_O z N' t' := by
  have n20 := hf 20 (fun m => hK 20 m (by decide))
  have c50 := ht 50 (fun m => hC 50 m (by decide))
  have c58 := ht 58 (fun m => hC 58 m (by decide))
  have c59 := ht 59 (fun m => hC 59 m (by decide))
  have c61 := ht 61 (fun m => hC 61 m (by decide))
  have c62 := ht 62 (fun m => hC 62 m (by decide))
  have c64 := ht 64 (fun m => hC 64 m (by decide))
  have c69 := ht 69 (fun m => hC 69 m (by decide))
  have c70 := ht 70 (fun m => hC 70 m (by decide))
  have c71 := ht 71 (fun m => hC 71 m (by decide))
  unfold S_O cn at h ⊢
  simp only [n20.1, n20.2.1, n20.2.2, c50, c58, c59, c61, c62, c64, c69, c70, c71]
  exact h
theorem S_Y.fr {N N' : Mem} {t t' : DB} {K C : List Nat} (h : S_Y N t) (hf : NF N N' K) (hK : ∀ k ∈ K, k ∉ [24]) (ht : TF t t' C) (hC : ∀ c ∈ C, c ∉ [89]) : S_Y N' t' := by
  have n24 := hf 24 (fun m => hK 24 m (by decide))
  have c89 := ht 89 (fun m => hC 89 m (by decide))
  unfold S_Y cn at h ⊢
  simp only [n24.1, n24.2.1, n24.2.2, c89]
  exact h
theorem S_Q.fr {P : List Nat} {x : Nat} {N N' : Mem} {t t' : DB} {K C : List Nat} (h : S_Q P x N t) (hf : NF N N' K) (hK : ∀ k ∈ K, k ∉ [21, 10]) (ht : TF t t' C) (hC : ∀ c ∈ C, c ∉ [61, 69, 75, 76, 74, 65, 30, 31, 36, 79, 77, 40, 43]) : S_Q P x N' t' := by
  have n21 := hf 21 (fun m => hK 21 m (by decide))
  have n10 := hf 10 (fun m => hK 10 m (by decide))
  have c61 := ht 61 (fun m => hC 61 m (by decide))
  have c69 := ht 69 (fun m => hC 69 m (by decide))
  have c75 := ht 75 (fun m => hC 75 m (by decide))
  have c76 := ht 76 (fun m => hC 76 m (by decide))
  have c74 := ht 74 (fun m => hC 74 m (by decide))
  have c65 := ht 65 (fun m => hC 65 m (by decide))
  have c30 := ht 30 (fun m => hC 30 m (by decide))
  have c31 := ht 31 (fun m => hC 31 m (by decide))
  have c36 := ht 36 (fun m => hC 36 m (by decide))
  have c79 := ht 79 (fun m => hC 79 m (by decide))
  have c77 := ht 77 (fun m => hC 77 m (by decide))
  have c40 := ht 40 (fun m => hC 40 m (by decide))
  have c43 := ht 43 (fun m => hC 43 m (by decide))
  unfold S_Q cn lvv stOf at h ⊢
  simp only [n21.1, n21.2.1, n21.2.2, n10.1, n10.2.1, n10.2.2, c61, c69, c75, c76, c74, c65, c30, c31, c36, c79, c77, c40, c43]
  exact h
theorem S_B.fr {P : List Nat} {x : Nat} {t t' : DB} {C : List Nat} (h : S_B P x t) (ht : TF t t' C) (hC : ∀ c ∈ C, c ∉ [30, 31, 40, 61, 43, 65, 75, 73, 69]) : S_B P x t' := by
  have c30 := ht 30 (fun m => hC 30 m (by decide))
  have c31 := ht 31 (fun m => hC 31 m (by decide))
  have c40 := ht 40 (fun m => hC 40 m (by decide))
  have c61 := ht 61 (fun m => hC 61 m (by decide))
  have c43 := ht 43 (fun m => hC 43 m (by decide))
  have c65 := ht 65 (fun m => hC 65 m (by decide))
  have c75 := ht 75 (fun m => hC 75 m (by decide))
  have c73 := ht 73 (fun m => hC 73 m (by decide))
  have c69 := ht 69 (fun m => hC 69 m (by decide))
  unfold S_B cn lvv at h ⊢
  simp only [c30, c31, c40, c61, c43, c65, c75, c73, c69]
  exact h
theorem I_B.fr {t t' : DB} {C : List Nat} (h : I_B t) (ht : TF t t' C) (hC : ∀ c ∈ C, c ∉ [1, 5, 11, 30, 47, 50, 61, 23, 17, 89, 103, 82]) : I_B t' := by
  have c1 := ht 1 (fun m => hC 1 m (by decide))
  have c5 := ht 5 (fun m => hC 5 m (by decide))
  have c11 := ht 11 (fun m => hC 11 m (by decide))
  have c30 := ht 30 (fun m => hC 30 m (by decide))
  have c47 := ht 47 (fun m => hC 47 m (by decide))
  have c50 := ht 50 (fun m => hC 50 m (by decide))
  have c61 := ht 61 (fun m => hC 61 m (by decide))
  have c23 := ht 23 (fun m => hC 23 m (by decide))
  have c17 := ht 17 (fun m => hC 17 m (by decide))
  have c89 := ht 89 (fun m => hC 89 m (by decide))
  have c103 := ht 103 (fun m => hC 103 m (by decide))
  have c82 := ht 82 (fun m => hC 82 m (by decide))
  unfold I_B bnd cn at h ⊢
  simp only [c1, c5, c11, c30, c47, c50, c61, c23, c17, c89, c103, c82]
  exact h
theorem I_G.fr {t t' : DB} {C : List Nat} (h : I_G t) (ht : TF t t' C) (hC : ∀ c ∈ C, c ∉ [30, 31, 35, 36, 33, 40, 32, 34, 1]) : I_G t' := by
  have c30 := ht 30 (fun m => hC 30 m (by decide))
  have c31 := ht 31 (fun m => hC 31 m (by decide))
  have c35 := ht 35 (fun m => hC 35 m (by decide))
  have c36 := ht 36 (fun m => hC 36 m (by decide))
  have c33 := ht 33 (fun m => hC 33 m (by decide))
  have c40 := ht 40 (fun m => hC 40 m (by decide))
  have c32 := ht 32 (fun m => hC 32 m (by decide))
  have c34 := ht 34 (fun m => hC 34 m (by decide))
  have c1 := ht 1 (fun m => hC 1 m (by decide))
  unfold I_G cn at h ⊢
  simp only [c30, c31, c35, c36, c33, c40, c32, c34, c1]
  exact h
theorem I_T.fr {t t' : DB} {C : List Nat} (h : I_T t) (ht : TF t t' C) (hC : ∀ c ∈ C, c ∉ [47, 48, 30, 49, 31]) : I_T t' := by
  have c47 := ht 47 (fun m => hC 47 m (by decide))
  have c48 := ht 48 (fun m => hC 48 m (by decide))
  have c30 := ht 30 (fun m => hC 30 m (by decide))
  have c49 := ht 49 (fun m => hC 49 m (by decide))
  have c31 := ht 31 (fun m => hC 31 m (by decide))
  unfold I_T cn at h ⊢
  simp only [c47, c48, c30, c49, c31]
  exact h
theorem I_O.fr {t t' : DB} {C : List Nat} (h : I_O t) (ht : TF t t' C) (hC : ∀ c ∈ C, c ∉ [50, 47, 51, 1, 52, 53, 54, 55]) : I_O t' := by
  have c50 := ht 50 (fun m => hC 50 m (by decide))
  have c47 := ht 47 (fun m => hC 47 m (by decide))
  have c51 := ht 51 (fun m => hC 51 m (by decide))
  have c1 := ht 1 (fun m => hC 1 m (by decide))
  have c52 := ht 52 (fun m => hC 52 m (by decide))
  have c53 := ht 53 (fun m => hC 53 m (by decide))
  have c54 := ht 54 (fun m => hC 54 m (by decide))
  have c55 := ht 55 (fun m => hC 55 m (by decide))
  unfold I_O cn at h ⊢
  simp only [c50, c47, c51, c1, c52, c53, c54, c55]
  exact h
theorem I_C.fr {t t' : DB} {C : List Nat} (h : I_C t) (ht : TF t t' C) (hC : ∀ c ∈ C, c ∉ [61, 50, 62, 51, 47, 48, 63, 64, 65, 49, 66, 1]) : I_C t' := by
  have c61 := ht 61 (fun m => hC 61 m (by decide))
  have c50 := ht 50 (fun m => hC 50 m (by decide))
  have c62 := ht 62 (fun m => hC 62 m (by decide))
  have c51 := ht 51 (fun m => hC 51 m (by decide))
  have c47 := ht 47 (fun m => hC 47 m (by decide))
  have c48 := ht 48 (fun m => hC 48 m (by decide))
  have c63 := ht 63 (fun m => hC 63 m (by decide))
  have c64 := ht 64 (fun m => hC 64 m (by decide))
  have c65 := ht 65 (fun m => hC 65 m (by decide))
  have c49 := ht 49 (fun m => hC 49 m (by decide))
  have c66 := ht 66 (fun m => hC 66 m (by decide))
  have c1 := ht 1 (fun m => hC 1 m (by decide))
  unfold I_C cn at h ⊢
  simp only [c61, c50, c62, c51, c47, c48, c63, c64, c65, c49, c66, c1]
  exact h
theorem I_H.fr {t t' : DB} {C : List Nat} (h : I_H t) (ht : TF t t' C) (hC : ∀ c ∈ C, c ∉ [61, 69, 23, 70, 71, 75, 76, 77, 78, 79, 73]) : I_H t' := by
  have c61 := ht 61 (fun m => hC 61 m (by decide))
  have c69 := ht 69 (fun m => hC 69 m (by decide))
  have c23 := ht 23 (fun m => hC 23 m (by decide))
  have c70 := ht 70 (fun m => hC 70 m (by decide))
  have c71 := ht 71 (fun m => hC 71 m (by decide))
  have c75 := ht 75 (fun m => hC 75 m (by decide))
  have c76 := ht 76 (fun m => hC 76 m (by decide))
  have c77 := ht 77 (fun m => hC 77 m (by decide))
  have c78 := ht 78 (fun m => hC 78 m (by decide))
  have c79 := ht 79 (fun m => hC 79 m (by decide))
  have c73 := ht 73 (fun m => hC 73 m (by decide))
  unfold I_H cn at h ⊢
  simp only [c61, c69, c23, c70, c71, c75, c76, c77, c78, c79, c73]
  exact h
theorem I_Z.fr {t t' : DB} {C : List Nat} (h : I_Z t) (ht : TF t t' C) (hC : ∀ c ∈ C, c ∉ [30, 50, 61, 65, 31, 79, 75, 77, 76, 78, 74, 73, 62, 52, 53, 54]) : I_Z t' := by
  have c30 := ht 30 (fun m => hC 30 m (by decide))
  have c50 := ht 50 (fun m => hC 50 m (by decide))
  have c61 := ht 61 (fun m => hC 61 m (by decide))
  have c65 := ht 65 (fun m => hC 65 m (by decide))
  have c31 := ht 31 (fun m => hC 31 m (by decide))
  have c79 := ht 79 (fun m => hC 79 m (by decide))
  have c75 := ht 75 (fun m => hC 75 m (by decide))
  have c77 := ht 77 (fun m => hC 77 m (by decide))
  have c76 := ht 76 (fun m => hC 76 m (by decide))
  have c78 := ht 78 (fun m => hC 78 m (by decide))
  have c74 := ht 74 (fun m => hC 74 m (by decide))
  have c73 := ht 73 (fun m => hC 73 m (by decide))
  have c62 := ht 62 (fun m => hC 62 m (by decide))
  have c52 := ht 52 (fun m => hC 52 m (by decide))
  have c53 := ht 53 (fun m => hC 53 m (by decide))
  have c54 := ht 54 (fun m => hC 54 m (by decide))
  unfold I_Z cn at h ⊢
  simp only [c30, c50, c61, c65, c31, c79, c75, c77, c76, c78, c74, c73, c62, c52, c53, c54]
  exact h
theorem I_L.fr {t t' : DB} {C : List Nat} (h : I_L t) (ht : TF t t' C) (hC : ∀ c ∈ C, c ∉ [50, 61, 69, 78, 65, 62, 52, 53, 54]) : I_L t' := by
  have c50 := ht 50 (fun m => hC 50 m (by decide))
  have c61 := ht 61 (fun m => hC 61 m (by decide))
  have c69 := ht 69 (fun m => hC 69 m (by decide))
  have c78 := ht 78 (fun m => hC 78 m (by decide))
  have c65 := ht 65 (fun m => hC 65 m (by decide))
  have c62 := ht 62 (fun m => hC 62 m (by decide))
  have c52 := ht 52 (fun m => hC 52 m (by decide))
  have c53 := ht 53 (fun m => hC 53 m (by decide))
  have c54 := ht 54 (fun m => hC 54 m (by decide))
  unfold I_L cn at h ⊢
  simp only [c50, c61, c69, c78, c65, c62, c52, c53, c54]
  exact h
theorem I_P.fr {t t' : DB} {C : List Nat} (h : I_P t) (ht : TF t t' C) (hC : ∀ c ∈ C, c ∉ [61, 69, 64, 65, 31, 30]) : I_P t' := by
  have c61 := ht 61 (fun m => hC 61 m (by decide))
  have c69 := ht 69 (fun m => hC 69 m (by decide))
  have c64 := ht 64 (fun m => hC 64 m (by decide))
  have c65 := ht 65 (fun m => hC 65 m (by decide))
  have c31 := ht 31 (fun m => hC 31 m (by decide))
  have c30 := ht 30 (fun m => hC 30 m (by decide))
  unfold I_P cn at h ⊢
  simp only [c61, c69, c64, c65, c31, c30]
  exact h
theorem I_R.fr {t t' : DB} {C : List Nat} (h : I_R t) (ht : TF t t' C) (hC : ∀ c ∈ C, c ∉ [61, 64, 62]) : I_R t' := by
  have c61 := ht 61 (fun m => hC 61 m (by decide))
  have c64 := ht 64 (fun m => hC 64 m (by decide))
  have c62 := ht 62 (fun m => hC 62 m (by decide))
  unfold I_R cn at h ⊢
  simp only [c61, c64, c62]
  exact h
theorem I_X.fr {t t' : DB} {C : List Nat} (h : I_X t) (ht : TF t t' C) (hC : ∀ c ∈ C, c ∉ [23, 24, 28, 29]) : I_X t' := by
  have c23 := ht 23 (fun m => hC 23 m (by decide))
  have c24 := ht 24 (fun m => hC 24 m (by decide))
  have c28 := ht 28 (fun m => hC 28 m (by decide))
  have c29 := ht 29 (fun m => hC 29 m (by decide))
  unfold I_X cn at h ⊢
  simp only [c23, c24, c28, c29]
  exact h
theorem I_U.fr {x : Nat} {t t' : DB} {C : List Nat} (h : I_U x t) (ht : TF t t' C) (hC : ∀ c ∈ C, c ∉ [61, 65, 31, 73, 51, 62, 48, 49, 63, 69, 50, 23, 17, 82]) : I_U x t' := by
  have c61 := ht 61 (fun m => hC 61 m (by decide))
  have c65 := ht 65 (fun m => hC 65 m (by decide))
  have c31 := ht 31 (fun m => hC 31 m (by decide))
  have c73 := ht 73 (fun m => hC 73 m (by decide))
  have c51 := ht 51 (fun m => hC 51 m (by decide))
  have c62 := ht 62 (fun m => hC 62 m (by decide))
  have c48 := ht 48 (fun m => hC 48 m (by decide))
  have c49 := ht 49 (fun m => hC 49 m (by decide))
  have c63 := ht 63 (fun m => hC 63 m (by decide))
  have c69 := ht 69 (fun m => hC 69 m (by decide))
  have c50 := ht 50 (fun m => hC 50 m (by decide))
  have c23 := ht 23 (fun m => hC 23 m (by decide))
  have c17 := ht 17 (fun m => hC 17 m (by decide))
  have c82 := ht 82 (fun m => hC 82 m (by decide))
  unfold I_U cn remC undW capD srt at h ⊢
  simp only [c61, c65, c31, c73, c51, c62, c48, c49, c63, c69, c50, c23, c17, c82]
  exact h
theorem I_J.fr {P : List Nat} {t t' : DB} {C : List Nat} (h : I_J P t) (ht : TF t t' C) (hC : ∀ c ∈ C, c ∉ [61, 69]) : I_J P t' := by
  have c61 := ht 61 (fun m => hC 61 m (by decide))
  have c69 := ht 69 (fun m => hC 69 m (by decide))
  unfold I_J cn at h ⊢
  simp only [c61, c69]
  exact h
theorem I_D.fr {t t' : DB} {C : List Nat} (h : I_D t) (ht : TF t t' C) (hC : ∀ c ∈ C, c ∉ [61, 30, 65, 31, 73, 76]) : I_D t' := by
  have c61 := ht 61 (fun m => hC 61 m (by decide))
  have c30 := ht 30 (fun m => hC 30 m (by decide))
  have c65 := ht 65 (fun m => hC 65 m (by decide))
  have c31 := ht 31 (fun m => hC 31 m (by decide))
  have c73 := ht 73 (fun m => hC 73 m (by decide))
  have c76 := ht 76 (fun m => hC 76 m (by decide))
  unfold I_D cn at h ⊢
  simp only [c61, c30, c65, c31, c73, c76]
  exact h
theorem I_K.fr {m : Nat} {t t' : DB} {C : List Nat} (h : I_K m t) (ht : TF t t' C) (hC : ∀ c ∈ C, c ∉ [0]) : I_K m t' := by
  have c0 := ht 0 (fun m => hC 0 m (by decide))
  unfold I_K  at h ⊢
  simp only [c0]
  exact h
theorem I_Y.fr {t t' : DB} {C : List Nat} (h : I_Y t) (ht : TF t t' C) (hC : ∀ c ∈ C, c ∉ [5, 10, 89, 47, 90, 1, 91, 92, 93, 94, 102]) : I_Y t' := by
  have c5 := ht 5 (fun m => hC 5 m (by decide))
  have c10 := ht 10 (fun m => hC 10 m (by decide))
  have c89 := ht 89 (fun m => hC 89 m (by decide))
  have c47 := ht 47 (fun m => hC 47 m (by decide))
  have c90 := ht 90 (fun m => hC 90 m (by decide))
  have c1 := ht 1 (fun m => hC 1 m (by decide))
  have c91 := ht 91 (fun m => hC 91 m (by decide))
  have c92 := ht 92 (fun m => hC 92 m (by decide))
  have c93 := ht 93 (fun m => hC 93 m (by decide))
  have c94 := ht 94 (fun m => hC 94 m (by decide))
  have c102 := ht 102 (fun m => hC 102 m (by decide))
  unfold I_Y cn at h ⊢
  simp only [c5, c10, c89, c47, c90, c1, c91, c92, c93, c94, c102]
  exact h
theorem S_G.fr {N N' : Mem} {t t' : DB} {K C : List Nat} (h : S_G N t) (hf : NF N N' K) (hK : ∀ k ∈ K, k ∉ [10, 11, 12, 13, 14, 15, 16, 17, 18, 19, 30]) (ht : TF t t' C) (hC : ∀ c ∈ C, c ∉ [30, 31, 32, 33, 34, 35]) : S_G N' t' := by
  intro g hg
  rw [ht.cn (fun m => hC 30 m (by decide))] at hg
  obtain ⟨s, hs, h1⟩ := h g hg
  have e := hf (10 + s) (fun m => hK _ m (by simp; omega))
  have e30 := hf 30 (fun m => hK _ m (by decide))
  refine ⟨s, hs, ?_⟩
  rw [e.1, e.2.1, e30.2.1, ht 31 (fun m => hC _ m (by decide)), ht 32 (fun m => hC _ m (by decide)), ht 33 (fun m => hC _ m (by decide)), ht 34 (fun m => hC _ m (by decide)), ht 35 (fun m => hC _ m (by decide))]
  exact h1
theorem S_A.fr {N N' : Mem} {t t' : DB} {K C : List Nat} (h : S_A N t) (hf : NF N N' K) (hK : ∀ k ∈ K, k ∉ [25, 26, 27, 28, 30]) (ht : TF t t' C) (hC : ∀ c ∈ C, c ∉ [103, 104, 105, 106, 107, 108, 109, 30, 31, 1]) : S_A N' t' := by
  have c1 := ht 1 (fun m => hC 1 m (by decide))
  have c30 := ht 30 (fun m => hC 30 m (by decide))
  have c31 := ht 31 (fun m => hC 31 m (by decide))
  have c103 := ht 103 (fun m => hC 103 m (by decide))
  have c104 := ht 104 (fun m => hC 104 m (by decide))
  have c105 := ht 105 (fun m => hC 105 m (by decide))
  have c106 := ht 106 (fun m => hC 106 m (by decide))
  have c107 := ht 107 (fun m => hC 107 m (by decide))
  have c108 := ht 108 (fun m => hC 108 m (by decide))
  have c109 := ht 109 (fun m => hC 109 m (by decide))
  have n25 := hf 25 (fun m => hK 25 m (by decide))
  have n26 := hf 26 (fun m => hK 26 m (by decide))
  have n27 := hf 27 (fun m => hK 27 m (by decide))
  have n28 := hf 28 (fun m => hK 28 m (by decide))
  have n30 := hf 30 (fun m => hK 30 m (by decide))
  intro a ha
  unfold cn at ha ⊢
  rw [c103] at ha
  obtain ⟨s, hs, h1⟩ := h a ha
  have e := hf (25 + s) (fun m => hK _ m (by simp; omega))
  refine ⟨s, hs, ?_⟩
  rw [e.1, e.2.1, n30.2.1, c104, c109, c107, c108, c105, c106, c30, c31, c1, n25.2.1, n26.1, n26.2.1, n27.1, n27.2.1, n28.1, n28.2.1]
  exact h1
theorem S_I.fr {N N' : Mem} {t t' : DB} {K C : List Nat} (h : S_I N t) (hf : NF N N' K) (hK : ∀ k ∈ K, ∀ q ∈ TI, q.1 ≠ k) (ht : TF t t' C) (hC : ∀ c ∈ C, ∀ q ∈ TI, q.2.2.1 ≠ c ∧ q.2.2.2 ≠ c) : S_I N' t' := by
  intro q hq i hi
  rw [ht.cn (fun m => (hC _ m q hq).2 rfl)] at hi
  rw [(hf q.1 (fun m => hK _ m q hq rfl)).1, ht _ (fun m => (hC _ m q hq).1 rfl)]
  exact h q hq i hi
theorem S_R.fr {N N' : Mem} {t t' : DB} {K C : List Nat} (h : S_R N t) (hf : NF N N' K) (hK : ∀ k ∈ K, ∀ q ∈ TR, q.1 ≠ k) (ht : TF t t' C) (hC : ∀ c ∈ C, ∀ q ∈ TR, q.2.2.2.1 ≠ c ∧ q.2.2.2.2 ≠ c) : S_R N' t' := by
  intro q hq i hi
  rw [ht.cn (fun m => (hC _ m q hq).2 rfl)] at hi
  rw [(hf q.1 (fun m => hK _ m q hq rfl)).2.1, ht _ (fun m => (hC _ m q hq).1 rfl)]
  exact h q hq i hi
theorem S_N.fr {N N' : Mem} {t t' : DB} {K C : List Nat} (h : S_N N t) (hf : NF N N' K) (hK : ∀ k ∈ K, ∀ q ∈ TN, q.1 ≠ k) (ht : TF t t' C) (hC : ∀ c ∈ C, ∀ q ∈ TN, q.2 ≠ c) : S_N N' t' := by
  intro q hq i hi
  rw [ht.cn (fun m => (hC _ m q hq) rfl)] at hi
  rw [(hf q.1 (fun m => hK _ m q hq rfl)).1]
  exact h q hq i hi
theorem S_K.fr {N N' : Mem} {t t' : DB} {K C : List Nat} (h : S_K N t) (hf : NF N N' K) (hK : ∀ k ∈ K, k ≠ 30) (ht : TF t t' C) (hC : ∀ c ∈ C, ∀ q ∈ TK, q.2.2 ≠ c) : S_K N' t' := by
  intro q hq i hi
  rw [ht.cn (fun m => (hC _ m q hq) rfl)] at hi
  rw [(hf 30 (fun m => hK _ m rfl)).2.1]
  exact h q hq i hi
theorem S_S.fr {N N' : Mem} {t t' : DB} {K C : List Nat} (h : S_S N t) (hf : NF N N' K) (hK : ∀ k ∈ K, k ≠ 30) (ht : TF t t' C) (hC : ∀ c ∈ C, ∀ q ∈ TS, q.2.1 ≠ c) : S_S N' t' := by
  intro q hq
  rw [(hf 30 (fun m => hK _ m rfl)).1, ht _ (fun m => hC _ m q hq rfl)]
  exact h q hq
theorem S_E.fr {N N' : Mem} {t t' : DB} {C : List Nat} (h : S_E N t) (he : N'.2.2.1 = N.2.2.1) (ht : TF t t' C) (hC : ∀ c ∈ C, ∀ q ∈ TE, q.2 ≠ c) : S_E N' t' := by
  intro q hq i hi
  rw [ht.cn (fun m => (hC _ m q hq) rfl)] at hi
  rw [he]
  exact h q hq i hi
theorem S_F.fr {X N N' : Mem} {K : List Nat} (h : S_F X N) (hf : NF N N' K) (hK : ∀ k ∈ K, ¬ (k = 2 ∨ k = 33 ∨ k = 41 ∨ k = 44 ∨ k = 45 ∨ 100 ≤ k)) : S_F X N' := by
  refine ⟨fun k hk => ?_, fun i hi => ?_⟩
  · obtain ⟨a, b, c⟩ := h.1 k hk
    obtain ⟨a', b', c'⟩ := hf k (fun m => hK k m (by unfold fk at hk; omega))
    exact ⟨a'.trans a, b'.trans b, c'.trans c⟩
  · obtain ⟨a, b, c⟩ := h.2 i hi
    obtain ⟨a', b', c'⟩ := hf 33 (fun m => hK 33 m (by decide))
    rw [a', b', c']
    exact ⟨a, b, c⟩
theorem S_M.fr {m : Nat} {N N' : Mem} {t t' : DB} {C : List Nat} (h : S_M m N t) (he : N'.2.2.2 = N.2.2.2) (ht : TF t t' C) (hC : ∀ c ∈ C, c ∉ [61, 23, 17, 82, 50]) : S_M m N' t' := by
  unfold S_M
  rw [he, ht.cn (fun m => hC 61 m (by decide)), ht.cn (fun m => hC 23 m (by decide)), ht.cn (fun m => hC 17 m (by decide)), ht.cn (fun m => hC 82 m (by decide)), ht.cn (fun m => hC 50 m (by decide))]
  exact h
/-! the relation as a whole -/
def SZ (X : Mem) (m z : Nat) (P : List Nat) (x : Nat) (N : Mem) (t : DB) : Prop := S_I N t ∧ S_R N t ∧ S_N N t ∧ S_K N t ∧ S_S N t ∧ S_E N t ∧ S_W N t ∧ S_P N t 3 5 6 ∧ S_P N t 4 11 12 ∧ S_G N t ∧ S_G0 N t ∧ S_G1 N t ∧ S_G2 N t ∧ S_G7 N t ∧ S_T N t ∧ S_U N t ∧ S_C N t ∧ S_V N t ∧ S_O z N t ∧ S_A N t ∧ S_Y N t ∧ S_Q P x N t ∧ S_B P x t ∧ S_F X N ∧ S_M m N t ∧ I_B t ∧ I_G t ∧ I_T t ∧ I_O t ∧ I_C t ∧ I_H t ∧ I_Z t ∧ I_L t ∧ I_R t ∧ I_X t ∧ I_U x t ∧ I_D t ∧ I_K m t ∧ I_Y t ∧ I_J P t ∧ S_GT N t ∧ S_H N t
def SS (X : Mem) (m z : Nat) (P : List Nat) (x : Nat) (N : Mem) (t : DB) : Prop := SZ X m z P x N t ∧ I_P t
theorem SZ.I {X : Mem} {m z : Nat} {P : List Nat} {x : Nat} {N : Mem} {t : DB} (h : SZ X m z P x N t) : S_I N t := h.1
theorem SS.I {X : Mem} {m z : Nat} {P : List Nat} {x : Nat} {N : Mem} {t : DB} (h : SS X m z P x N t) : S_I N t := h.1.1
theorem SZ.R {X : Mem} {m z : Nat} {P : List Nat} {x : Nat} {N : Mem} {t : DB} (h : SZ X m z P x N t) : S_R N t := h.2.1
theorem SS.R {X : Mem} {m z : Nat} {P : List Nat} {x : Nat} {N : Mem} {t : DB} (h : SS X m z P x N t) : S_R N t := h.1.2.1
theorem SZ.N {X : Mem} {m z : Nat} {P : List Nat} {x : Nat} {N : Mem} {t : DB} (h : SZ X m z P x N t) : S_N N t := h.2.2.1
theorem SS.N {X : Mem} {m z : Nat} {P : List Nat} {x : Nat} {N : Mem} {t : DB} (h : SS X m z P x N t) : S_N N t := h.1.2.2.1
theorem SZ.K {X : Mem} {m z : Nat} {P : List Nat} {x : Nat} {N : Mem} {t : DB} (h : SZ X m z P x N t) : S_K N t := h.2.2.2.1
theorem SS.K {X : Mem} {m z : Nat} {P : List Nat} {x : Nat} {N : Mem} {t : DB} (h : SS X m z P x N t) : S_K N t := h.1.2.2.2.1
theorem SZ.S {X : Mem} {m z : Nat} {P : List Nat} {x : Nat} {N : Mem} {t : DB} (h : SZ X m z P x N t) : S_S N t := h.2.2.2.2.1
theorem SS.S {X : Mem} {m z : Nat} {P : List Nat} {x : Nat} {N : Mem} {t : DB} (h : SS X m z P x N t) : S_S N t := h.1.2.2.2.2.1
theorem SZ.E {X : Mem} {m z : Nat} {P : List Nat} {x : Nat} {N : Mem} {t : DB} (h : SZ X m z P x N t) : S_E N t := h.2.2.2.2.2.1
theorem SS.E {X : Mem} {m z : Nat} {P : List Nat} {x : Nat} {N : Mem} {t : DB} (h : SS X m z P x N t) : S_E N t := h.1.2.2.2.2.2.1
theorem SZ.W {X : Mem} {m z : Nat} {P : List Nat} {x : Nat} {N : Mem} {t : DB} (h : SZ X m z P x N t) : S_W N t := h.2.2.2.2.2.2.1
theorem SS.W {X : Mem} {m z : Nat} {P : List Nat} {x : Nat} {N : Mem} {t : DB} (h : SS X m z P x N t) : S_W N t := h.1.2.2.2.2.2.2.1
theorem SZ.P1 {X : Mem} {m z : Nat} {P : List Nat} {x : Nat} {N : Mem} {t : DB} (h : SZ X m z P x N t) : S_P N t 3 5 6 := h.2.2.2.2.2.2.2.1
theorem SS.P1 {X : Mem} {m z : Nat} {P : List Nat} {x : Nat} {N : Mem} {t : DB} (h : SS X m z P x N t) : S_P N t 3 5 6 := h.1.2.2.2.2.2.2.2.1
theorem SZ.P2 {X : Mem} {m z : Nat} {P : List Nat} {x : Nat} {N : Mem} {t : DB} (h : SZ X m z P x N t) : S_P N t 4 11 12 := h.2.2.2.2.2.2.2.2.1
theorem SS.P2 {X : Mem} {m z : Nat} {P : List Nat} {x : Nat} {N : Mem} {t : DB} (h : SS X m z P x N t) : S_P N t 4 11 12 := h.1.2.2.2.2.2.2.2.2.1
theorem SZ.G {X : Mem} {m z : Nat} {P : List Nat} {x : Nat} {N : Mem} {t : DB} (h : SZ X m z P x N t) : S_G N t := h.2.2.2.2.2.2.2.2.2.1
theorem SS.G {X : Mem} {m z : Nat} {P : List Nat} {x : Nat} {N : Mem} {t : DB} (h : SS X m z P x N t) : S_G N t := h.1.2.2.2.2.2.2.2.2.2.1
theorem SZ.G0 {X : Mem} {m z : Nat} {P : List Nat} {x : Nat} {N : Mem} {t : DB} (h : SZ X m z P x N t) : S_G0 N t := h.2.2.2.2.2.2.2.2.2.2.1
theorem SS.G0 {X : Mem} {m z : Nat} {P : List Nat} {x : Nat} {N : Mem} {t : DB} (h : SS X m z P x N t) : S_G0 N t := h.1.2.2.2.2.2.2.2.2.2.2.1
theorem SZ.G1 {X : Mem} {m z : Nat} {P : List Nat} {x : Nat} {N : Mem} {t : DB} (h : SZ X m z P x N t) : S_G1 N t := h.2.2.2.2.2.2.2.2.2.2.2.1
theorem SS.G1 {X : Mem} {m z : Nat} {P : List Nat} {x : Nat} {N : Mem} {t : DB} (h : SS X m z P x N t) : S_G1 N t := h.1.2.2.2.2.2.2.2.2.2.2.2.1
theorem SZ.G2 {X : Mem} {m z : Nat} {P : List Nat} {x : Nat} {N : Mem} {t : DB} (h : SZ X m z P x N t) : S_G2 N t := h.2.2.2.2.2.2.2.2.2.2.2.2.1
theorem SS.G2 {X : Mem} {m z : Nat} {P : List Nat} {x : Nat} {N : Mem} {t : DB} (h : SS X m z P x N t) : S_G2 N t := h.1.2.2.2.2.2.2.2.2.2.2.2.2.1
theorem SZ.G7 {X : Mem} {m z : Nat} {P : List Nat} {x : Nat} {N : Mem} {t : DB} (h : SZ X m z P x N t) : S_G7 N t := h.2.2.2.2.2.2.2.2.2.2.2.2.2.1
theorem SS.G7 {X : Mem} {m z : Nat} {P : List Nat} {x : Nat} {N : Mem} {t : DB} (h : SS X m z P x N t) : S_G7 N t := h.1.2.2.2.2.2.2.2.2.2.2.2.2.2.1
theorem SZ.T {X : Mem} {m z : Nat} {P : List Nat} {x : Nat} {N : Mem} {t : DB} (h : SZ X m z P x N t) : S_T N t := h.2.2.2.2.2.2.2.2.2.2.2.2.2.2.1
theorem SS.T {X : Mem} {m z : Nat} {P : List Nat} {x : Nat} {N : Mem} {t : DB} (h : SS X m z P x N t) : S_T N t := h.1.2.2.2.2.2.2.2.2.2.2.2.2.2.2.1
theorem SZ.U {X : Mem} {m z : Nat} {P : List Nat} {x : Nat} {N : Mem} {t : DB} (h : SZ X m z P x N t) : S_U N t := h.2.2.2.2.2.2.2.2.2.2.2.2.2.2.2.1
theorem SS.U {X : Mem} {m z : Nat} {P : List Nat} {x : Nat} {N : Mem} {t : DB} (h : SS X m z P x N t) : S_U N t := h.1.2.2.2.2.2.2.2.2.2.2.2.2.2.2.2.1
theorem SZ.C {X : Mem} {m z : Nat} {P : List Nat} {x : Nat} {N : Mem} {t : DB} (h : SZ X m z P x N t) : S_C N t := h.2.2.2.2.2.2.2.2.2.2.2.2.2.2.2.2.1
theorem SS.C {X : Mem} {m z : Nat} {P : List Nat} {x : Nat} {N : Mem} {t : DB} (h : SS X m z P x N t) : S_C N t := h.1.2.2.2.2.2.2.2.2.2.2.2.2.2.2.2.2.1
theorem SZ.V {X : Mem} {m z : Nat} {P : List Nat} {x : Nat} {N : Mem} {t : DB} (h : SZ X m z P x N t) : S_V N t := h.2.2.2.2.2.2.2.2.2.2.2.2.2.2.2.2.2.1
theorem SS.V {X : Mem} {m z : Nat} {P : List Nat} {x : Nat} {N : Mem} {t : DB} (h : SS X m z P x N t) : S_V N t := h.1.2.2.2.2.2.2.2.2.2.2.2.2.2.2.2.2.2.1
theorem SZ.O {X : Mem} {m z : Nat} {P : List Nat} {x : Nat} {N : Mem} {t : DB} (h : SZ X m z P x N t) : S_O z N t := h.2.2.2.2.2.2.2.2.2.2.2.2.2.2.2.2.2.2.1
theorem SS.O {X : Mem} {m z : Nat} {P : List Nat} {x : Nat} {N : Mem} {t : DB} (h : SS X m z P x N t) : S_O z N t := h.1.2.2.2.2.2.2.2.2.2.2.2.2.2.2.2.2.2.2.1
theorem SZ.A {X : Mem} {m z : Nat} {P : List Nat} {x : Nat} {N : Mem} {t : DB} (h : SZ X m z P x N t) : S_A N t := h.2.2.2.2.2.2.2.2.2.2.2.2.2.2.2.2.2.2.2.1
theorem SS.A {X : Mem} {m z : Nat} {P : List Nat} {x : Nat} {N : Mem} {t : DB} (h : SS X m z P x N t) : S_A N t := h.1.2.2.2.2.2.2.2.2.2.2.2.2.2.2.2.2.2.2.2.1
theorem SZ.Y {X : Mem} {m z : Nat} {P : List Nat} {x : Nat} {N : Mem} {t : DB} (h : SZ X m z P x N t) : S_Y N t := h.2.2.2.2.2.2.2.2.2.2.2.2.2.2.2.2.2.2.2.2.1
theorem SS.Y {X : Mem} {m z : Nat} {P : List Nat} {x : Nat} {N : Mem} {t : DB} (h : SS X m z P x N t) : S_Y N t := h.1.2.2.2.2.2.2.2.2.2.2.2.2.2.2.2.2.2.2.2.2.1
theorem SZ.Q {X : Mem} {m z : Nat} {P : List Nat} {x : Nat} {N : Mem} {t : DB} (h : SZ X m z P x N t) : S_Q P x N t := h.2.2.2.2.2.2.2.2.2.2.2.2.2.2.2.2.2.2.2.2.2.1
theorem SS.Q {X : Mem} {m z : Nat} {P : List Nat} {x : Nat} {N : Mem} {t : DB} (h : SS X m z P x N t) : S_Q P x N t := h.1.2.2.2.2.2.2.2.2.2.2.2.2.2.2.2.2.2.2.2.2.2.1
theorem SZ.B {X : Mem} {m z : Nat} {P : List Nat} {x : Nat} {N : Mem} {t : DB} (h : SZ X m z P x N t) : S_B P x t := h.2.2.2.2.2.2.2.2.2.2.2.2.2.2.2.2.2.2.2.2.2.2.1
theorem SS.B {X : Mem} {m z : Nat} {P : List Nat} {x : Nat} {N : Mem} {t : DB} (h : SS X m z P x N t) : S_B P x t := h.1.2.2.2.2.2.2.2.2.2.2.2.2.2.2.2.2.2.2.2.2.2.2.1
theorem SZ.F {X : Mem} {m z : Nat} {P : List Nat} {x : Nat} {N : Mem} {t : DB} (h : SZ X m z P x N t) : S_F X N := h.2.2.2.2.2.2.2.2.2.2.2.2.2.2.2.2.2.2.2.2.2.2.2.1
theorem SS.F {X : Mem} {m z : Nat} {P : List Nat} {x : Nat} {N : Mem} {t : DB} (h : SS X m z P x N t) : S_F X N := h.1.2.2.2.2.2.2.2.2.2.2.2.2.2.2.2.2.2.2.2.2.2.2.2.1
theorem SZ.M {X : Mem} {m z : Nat} {P : List Nat} {x : Nat} {N : Mem} {t : DB} (h : SZ X m z P x N t) : S_M m N t := h.2.2.2.2.2.2.2.2.2.2.2.2.2.2.2.2.2.2.2.2.2.2.2.2.1
theorem SS.M {X : Mem} {m z : Nat} {P : List Nat} {x : Nat} {N : Mem} {t : DB} (h : SS X m z P x N t) : S_M m N t := h.1.2.2.2.2.2.2.2.2.2.2.2.2.2.2.2.2.2.2.2.2.2.2.2.2.1
theorem SZ.iB {X : Mem} {m z : Nat} {P : List Nat} {x : Nat} {N : Mem} {t : DB} (h : SZ X m z P x N t) : I_B t := h.2.2.2.2.2.2.2.2.2.2.2.2.2.2.2.2.2.2.2.2.2.2.2.2.2.1
theorem SS.iB {X : Mem} {m z : Nat} {P : List Nat} {x : Nat} {N : Mem} {t : DB} (h : SS X m z P x N t) : I_B t := h.1.2.2.2.2.2.2.2.2.2.2.2.2.2.2.2.2.2.2.2.2.2.2.2.2.2.1
theorem SZ.iG {X : Mem} {m z : Nat} {P : List Nat} {x : Nat} {N : Mem} {t : DB} (h : SZ X m z P x N t) : I_G t := h.2.2.2.2.2.2.2.2.2.2.2.2.2.2.2.2.2.2.2.2.2.2.2.2.2.2.1
theorem SS.iG {X : Mem} {m z : Nat} {P : List Nat} {x : Nat} {N : Mem} {t : DB} (h : SS X m z P x N t) : I_G t := h.1.2.2.2.2.2.2.2.2.2.2.2.2.2.2.2.2.2.2.2.2.2.2.2.2.2.2.1
theorem SZ.iT {X : Mem} {m z : Nat} {P : List Nat} {x : Nat} {N : Mem} {t : DB} (h : SZ X m z P x N t) : I_T t := h.2.2.2.2.2.2.2.2.2.2.2.2.2.2.2.2.2.2.2.2.2.2.2.2.2.2.2.1
theorem SS.iT {X : Mem} {m z : Nat} {P : List Nat} {x : Nat} {N : Mem} {t : DB} (h : SS X m z P x N t) : I_T t := h.1.2.2.2.2.2.2.2.2.2.2.2.2.2.2.2.2.2.2.2.2.2.2.2.2.2.2.2.1
theorem SZ.iO {X : Mem} {m z : Nat} {P : List Nat} {x : Nat} {N : Mem} {t : DB} (h : SZ X m z P x N t) : I_O t := h.2.2.2.2.2.2.2.2.2.2.2.2.2.2.2.2.2.2.2.2.2.2.2.2.2.2.2.2.1
theorem SS.iO {X : Mem} {m z : Nat} {P : List Nat} {x : Nat} {N : Mem} {t : DB} (h : SS X m z P x N t) : I_O t := h.1.2.2.2.2.2.2.2.2.2.2.2.2.2.2.2.2.2.2.2.2.2.2.2.2.2.2.2.2.1
theorem SZ.iC {X : Mem} {m z : Nat} {P : List Nat} {x : Nat} {N : Mem} {t : DB} (h : SZ X m z P x N t) : I_C t := h.2.2.2.2.2.2.2.2.2.2.2.2.2.2.2.2.2.2.2.2.2.2.2.2.2.2.2.2.2.1
theorem SS.iC {X : Mem} {m z : Nat} {P : List Nat} {x : Nat} {N : Mem} {t : DB} (h : SS X m z P x N t) : I_C t := h.1.2.2.2.2.2.2.2.2.2.2.2.2.2.2.2.2.2.2.2.2.2.2.2.2.2.2.2.2.2.1
theorem SZ.iH {X : Mem} {m z : Nat} {P : List Nat} {x : Nat} {N : Mem} {t : DB} (h : SZ X m z P x N t) : I_H t := h.2.2.2.2.2.2.2.2.2.2.2.2.2.2.2.2.2.2.2.2.2.2.2.2.2.2.2.2.2.2.1
theorem SS.iH {X : Mem} {m z : Nat} {P : List Nat} {x : Nat} {N : Mem} {t : DB} (h : SS X m z P x N t) : I_H t := h.1.2.2.2.2.2.2.2.2.2.2.2.2.2.2.2.2.2.2.2.2.2.2.2.2.2.2.2.2.2.2.1
theorem SZ.iZ {X : Mem} {m z : Nat} {P : List Nat} {x : Nat} {N : Mem} {t : DB} (h : SZ X m z P x N t) : I_Z t := h.2.2.2.2.2.2.2.2.2.2.2.2.2.2.2.2.2.2.2.2.2.2.2.2.2.2.2.2.2.2.2.1
theorem SS.iZ {X : Mem} {m z : Nat} {P : List Nat} {x : Nat} {N : Mem} {t : DB} (h : SS X m z P x N t) : I_Z t := h.1.2.2.2.2.2.2.2.2.2.2.2.2.2.2.2.2.2.2.2.2.2.2.2.2.2.2.2.2.2.2.2.1
theorem SZ.iL {X : Mem} {m z : Nat} {P : List Nat} {x : Nat} {N : Mem} {t : DB} (h : SZ X m z P x N t) : I_L t := h.2.2.2.2.2.2.2.2.2.2.2.2.2.2.2.2.2.2.2.2.2.2.2.2.2.2.2.2.2.2.2.2.1
theorem SS.iL {X : Mem} {m z : Nat} {P : List Nat} {x : Nat} {N : Mem} {t : DB} (h : SS X m z P x N t) : I_L t := h.1.2.2.2.2.2.2.2.2.2.2.2.2.2.2.2.2.2.2.2.2.2.2.2.2.2.2.2.2.2.2.2.2.1
theorem SZ.iR {X : Mem} {m z : Nat} {P : List Nat} {x : Nat} {N : Mem} {t : DB} (h : SZ X m z P x N t) : I_R t := h.2.2.2.2.2.2.2.2.2.2.2.2.2.2.2.2.2.2.2.2.2.2.2.2.2.2.2.2.2.2.2.2.2.1
theorem SS.iR {X : Mem} {m z : Nat} {P : List Nat} {x : Nat} {N : Mem} {t : DB} (h : SS X m z P x N t) : I_R t := h.1.2.2.2.2.2.2.2.2.2.2.2.2.2.2.2.2.2.2.2.2.2.2.2.2.2.2.2.2.2.2.2.2.2.1
theorem SZ.iX {X : Mem} {m z : Nat} {P : List Nat} {x : Nat} {N : Mem} {t : DB} (h : SZ X m z P x N t) : I_X t := h.2.2.2.2.2.2.2.2.2.2.2.2.2.2.2.2.2.2.2.2.2.2.2.2.2.2.2.2.2.2.2.2.2.2.1
theorem SS.iX {X : Mem} {m z : Nat} {P : List Nat} {x : Nat} {N : Mem} {t : DB} (h : SS X m z P x N t) : I_X t := h.1.2.2.2.2.2.2.2.2.2.2.2.2.2.2.2.2.2.2.2.2.2.2.2.2.2.2.2.2.2.2.2.2.2.2.1
theorem SZ.iU {X : Mem} {m z : Nat} {P : List Nat} {x : Nat} {N : Mem} {t : DB} (h : SZ X m z P x N t) : I_U x t := h.2.2.2.2.2.2.2.2.2.2.2.2.2.2.2.2.2.2.2.2.2.2.2.2.2.2.2.2.2.2.2.2.2.2.2.1
theorem SS.iU {X : Mem} {m z : Nat} {P : List Nat} {x : Nat} {N : Mem} {t : DB} (h : SS X m z P x N t) : I_U x t := h.1.2.2.2.2.2.2.2.2.2.2.2.2.2.2.2.2.2.2.2.2.2.2.2.2.2.2.2.2.2.2.2.2.2.2.2.1
theorem SZ.iD {X : Mem} {m z : Nat} {P : List Nat} {x : Nat} {N : Mem} {t : DB} (h : SZ X m z P x N t) : I_D t := h.2.2.2.2.2.2.2.2.2.2.2.2.2.2.2.2.2.2.2.2.2.2.2.2.2.2.2.2.2.2.2.2.2.2.2.2.1
theorem SS.iD {X : Mem} {m z : Nat} {P : List Nat} {x : Nat} {N : Mem} {t : DB} (h : SS X m z P x N t) : I_D t := h.1.2.2.2.2.2.2.2.2.2.2.2.2.2.2.2.2.2.2.2.2.2.2.2.2.2.2.2.2.2.2.2.2.2.2.2.2.1
theorem SZ.iK {X : Mem} {m z : Nat} {P : List Nat} {x : Nat} {N : Mem} {t : DB} (h : SZ X m z P x N t) : I_K m t := h.2.2.2.2.2.2.2.2.2.2.2.2.2.2.2.2.2.2.2.2.2.2.2.2.2.2.2.2.2.2.2.2.2.2.2.2.2.1
theorem SS.iK {X : Mem} {m z : Nat} {P : List Nat} {x : Nat} {N : Mem} {t : DB} (h : SS X m z P x N t) : I_K m t := h.1.2.2.2.2.2.2.2.2.2.2.2.2.2.2.2.2.2.2.2.2.2.2.2.2.2.2.2.2.2.2.2.2.2.2.2.2.2.1
theorem SZ.iY {X : Mem} {m z : Nat} {P : List Nat} {x : Nat} {N : Mem} {t : DB} (h : SZ X m z P x N t) : I_Y t := h.2.2.2.2.2.2.2.2.2.2.2.2.2.2.2.2.2.2.2.2.2.2.2.2.2.2.2.2.2.2.2.2.2.2.2.2.2.2.1
theorem SS.iY {X : Mem} {m z : Nat} {P : List Nat} {x : Nat} {N : Mem} {t : DB} (h : SS X m z P x N t) : I_Y t := h.1.2.2.2.2.2.2.2.2.2.2.2.2.2.2.2.2.2.2.2.2.2.2.2.2.2.2.2.2.2.2.2.2.2.2.2.2.2.2.1
theorem SZ.J {X : Mem} {m z : Nat} {P : List Nat} {x : Nat} {N : Mem} {t : DB} (h : SZ X m z P x N t) : I_J P t := h.2.2.2.2.2.2.2.2.2.2.2.2.2.2.2.2.2.2.2.2.2.2.2.2.2.2.2.2.2.2.2.2.2.2.2.2.2.2.2.1
theorem SS.J {X : Mem} {m z : Nat} {P : List Nat} {x : Nat} {N : Mem} {t : DB} (h : SS X m z P x N t) : I_J P t := h.1.2.2.2.2.2.2.2.2.2.2.2.2.2.2.2.2.2.2.2.2.2.2.2.2.2.2.2.2.2.2.2.2.2.2.2.2.2.2.2.1
theorem SZ.GT {X : Mem} {m z : Nat} {P : List Nat} {x : Nat} {N : Mem} {t : DB} (h : SZ X m z P x N t) : S_GT N t := h.2.2.2.2.2.2.2.2.2.2.2.2.2.2.2.2.2.2.2.2.2.2.2.2.2.2.2.2.2.2.2.2.2.2.2.2.2.2.2.2.1
theorem SS.GT {X : Mem} {m z : Nat} {P : List Nat} {x : Nat} {N : Mem} {t : DB} (h : SS X m z P x N t) : S_GT N t := h.1.2.2.2.2.2.2.2.2.2.2.2.2.2.2.2.2.2.2.2.2.2.2.2.2.2.2.2.2.2.2.2.2.2.2.2.2.2.2.2.2.1
theorem SZ.H {X : Mem} {m z : Nat} {P : List Nat} {x : Nat} {N : Mem} {t : DB} (h : SZ X m z P x N t) : S_H N t := h.2.2.2.2.2.2.2.2.2.2.2.2.2.2.2.2.2.2.2.2.2.2.2.2.2.2.2.2.2.2.2.2.2.2.2.2.2.2.2.2.2
theorem SS.H {X : Mem} {m z : Nat} {P : List Nat} {x : Nat} {N : Mem} {t : DB} (h : SS X m z P x N t) : S_H N t := h.1.2.2.2.2.2.2.2.2.2.2.2.2.2.2.2.2.2.2.2.2.2.2.2.2.2.2.2.2.2.2.2.2.2.2.2.2.2.2.2.2.2
theorem SS.iP {X : Mem} {m z : Nat} {P : List Nat} {x : Nat} {N : Mem} {t : DB} (h : SS X m z P x N t) : I_P t := h.2
