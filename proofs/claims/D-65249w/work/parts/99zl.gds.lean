set_option maxRecDepth 100000
/-! guards, sort by sort -/
abbrev GK0 : List Nat := [10, 11, 12, 13, 14, 15, 16, 17, 18, 19, 32, 43, 46, 47, 48]
def nAr (N : Mem) (i : Nat) (x2 x3 x4 : Int32) : Mem := sI (sI (sI (sN N 43 i 3 3) 43 i 0 x2) 43 i 1 x3) 43 i 2 x4
theorem nAr_NF {N : Mem} {i : Nat} {x2 x3 x4 : Int32} : NF N (nAr N i x2 x3 x4) [43] := (((NF.rf.wN _ _ _ (by decide)).wI _ _ _ (by decide)).wI _ _ _ (by decide)).wI _ _ _ (by decide)
theorem hl43 {kk : Nat} (h : kk ∈ [10, 11, 12, 13, 14, 15, 16, 17, 18, 19, 32, 46, 47, 48]) : kk ≠ 43 := fun e => by
  subst e
  exact absurd h (by decide)
theorem gd_fin {X : Mem} {m : Nat} {N N1 : Mem} {t : DB} (q : QS (fun _ => True) X m N t) (hm : m + 1 ≤ 100) {k : Nat} (hk : cn t 30 = k) (hk8 : k < 24) {s : Nat} (hs9 : s ≤ 9) {x2 x3 x4 x5 y : Int32} (hp : GPr t s x2 x3 x4) (hx5 : ∃ e, e ≤ 15 ∧ x5 = nI e) (hf1 : NF N N1 GK0)
    (hold : ∀ kk ∈ [10, 11, 12, 13, 14, 15, 16, 17, 18, 19, 32, 46, 47, 48], ∀ i, i ≠ k → N1.1 kk i = N.1 kk i ∧ N1.2.1 kk i = N.2.1 kk i ∧ N1.2.2.1 kk i = N.2.2.1 kk i)
    (n0 : N1.1 (10 + s) k 0 = nI k) (n1 : N1.1 (10 + s) k 1 = nI s) (n2 : N1.1 (10 + s) k 2 = x2) (n3 : N1.1 (10 + s) k 3 = x3) (n4 : N1.1 (10 + s) k 4 = x4) (n5 : N1.1 (10 + s) k 5 = x5) (n6 : N1.2.1 (10 + s) k 6 = (1, 0)) (n7 : N1.2.1 (10 + s) k (lastf s) = (1, 0))
    (h0 : s = 0 → N1.1 10 k 7 = 0 ∧ N1.1 10 k 8 = 0 ∧ N1.1 10 k 9 = 0 ∧ N1.2.1 10 k 10 = (0, 0)) (h1 : s = 1 → N1.2.1 11 k 7 = (32, k) ∧ N1.1 11 k 8 = 0 ∧ N1.1 11 k 9 = 0 ∧ N1.1 32 k 0 = 0) (h2 : s = 2 → N1.1 12 k 7 = y)
    (h7 : s = 7 → N1.2.1 17 k 7 = (46, k) ∧ N1.2.1 17 k 8 = (47, k) ∧ N1.2.1 17 k 9 = (48, k) ∧ N1.2.2.1 46 k = 9 ∧ N1.2.2.1 47 k = 9 ∧ N1.2.2.1 48 k = 9 ∧ ∀ i, i < 8 → N1.1 47 k i = -1 ∧ N1.1 46 k i = -1)
    (hc1 : N1.2.2.2.1 ≤ N.2.2.2.1 + 50) (hc2 : N1.2.2.2.2 + 20 * N.2.2.2.1 ≤ N.2.2.2.2 + 20 * N1.2.2.2.1) :
    QS (fun _ => True) X (m + 1) (lAdd N1 (30, 5) (10 + s, k)) (tGd t k (nI s) x2 x3 x4 x5 y) ∧ (lAdd N1 (30, 5) (10 + s, k)).1 30 5 0 = nI (k + 1) ∧ (lAdd N1 (30, 5) (10 + s, k)).2.1 1 0 5 = (30, 5) ∧ N1.1 30 5 0 < 10000 ∧ rom N1 10 := by
  have b1 : t 30 0 = nI k := by rw [← hk]; exact q.1.iB.2.2.2.1.1
  have s5 : N.1 30 5 0 = nI k := (q.1.S (5, 30, 0) (by decide)).trans b1
  have hf : NF N (lAdd N1 (30, 5) (10 + s, k)) GKi := (hf1.mono (by decide)).wA _ _ (by decide)
  have L : LA N (lAdd N1 (30, 5) (10 + s, k)) 5 k (10 + s, k) := LA.mk hf1 (by decide) s5 (by omega)
  have a1 : ∀ kk, kk ≠ 30 → (lAdd N1 (30, 5) (10 + s, k)).1 kk = N1.1 kk := fun kk hkk => by
    funext i f
    rw [lAdd_i, if_neg (fun y => hkk y.1)]
  have a2 : ∀ kk, kk ≠ 30 → (lAdd N1 (30, 5) (10 + s, k)).2.1 kk = N1.2.1 kk := fun kk hkk => by
    funext i f
    rw [lAdd_r, if_neg (fun y => hkk y.1)]
  have a3 : (lAdd N1 (30, 5) (10 + s, k)).2.2.1 = N1.2.2.1 := rfl
  have e10 : 10 + s ≠ 30 := by omega
  have n30 : ∀ kk ∈ [10, 11, 12, 13, 14, 15, 16, 17, 18, 19, 32, 46, 47, 48], kk ≠ 30 := by decide
  obtain ⟨ra, rb⟩ := rom_a q.1.1
  have hS := q.guard (N' := lAdd N1 (30, 5) (10 + s, k)) hm hk hk8 hs9 (x2 := x2) (x3 := x3) (x4 := x4) (x5 := x5) (y := y) hp hx5 hf L (fun kk hkk i hi => by rw [a1 kk (n30 kk hkk), a2 kk (n30 kk hkk), a3]; exact hold kk hkk i hi) (by rw [a1 _ e10]; exact n0) (by rw [a1 _ e10]; exact n1) (by rw [a1 _ e10]; exact n2) (by rw [a1 _ e10]; exact n3) (by rw [a1 _ e10]; exact n4) (by rw [a1 _ e10]; exact n5) (by rw [a2 _ e10]; exact n6) (by rw [a2 _ e10]; exact n7) (by rw [a1 _ (by decide), a2 _ (by decide)]; exact h0) (by rw [a1 _ (by decide), a2 _ (by decide), a1 _ (by decide)]; exact h1) (by rw [a1 _ (by decide)]; exact h2) (by rw [a1 _ (by decide), a2 _ (by decide), a1 _ (by decide), a3]; exact h7) (by show N1.2.2.2.1 + 1 ≤ _; omega) (by show N1.2.2.2.2 + 10 + _ ≤ _ + 20 * (N1.2.2.2.1 + 1); omega)
  have hc3 := hS.1.M.1
  refine ⟨hS, (hS.1.S (5, 30, 0) (by decide)).trans up_s, hS.1.W.1 5 (by decide) (by decide), ?_, by omega, ?_⟩
  · rw [(hf1 30 (by decide)).1, s5]
    show nI k < nI 10000
    exact nI_lt (by omega) (by decide)
  · omega
/-- the eight memories -/
def m7 (M : Mem) (k : Nat) : Nat → Mem
  | 0 => M
  | j + 1 => sI (sI (m7 M k j) 46 k j (-1)) 47 k j (-1)
theorem m7_r {M : Mem} {k : Nat} : ∀ {j : Nat}, (m7 M k j).2 = M.2
  | 0 => rfl
  | j + 1 => m7_r (j := j)
theorem m7_i {M : Mem} {k : Nat} (kk i f : Nat) : ∀ {j : Nat}, (m7 M k j).1 kk i f = if (kk = 46 ∨ kk = 47) ∧ i = k ∧ f < j then -1 else M.1 kk i f
  | 0 => by rw [if_neg (fun y => absurd y.2.2 (Nat.not_lt_zero _))]; rfl
  | j + 1 => by
    show (if kk = 47 ∧ i = k ∧ f = j then (-1 : Int32) else if kk = 46 ∧ i = k ∧ f = j then -1 else (m7 M k j).1 kk i f) = _
    rw [m7_i kk i f (j := j)]
    by_cases h : (kk = 46 ∨ kk = 47) ∧ i = k ∧ f < j + 1
    · rw [if_pos h]
      by_cases e : f = j
      · rcases h.1 with y | y
        · rw [if_neg (fun z => by omega), if_pos ⟨y, h.2.1, e⟩]
        · rw [if_pos ⟨y, h.2.1, e⟩]
      · rw [if_neg (fun z => e z.2.2), if_neg (fun z => e z.2.2), if_pos ⟨h.1, h.2.1, by omega⟩]
    · rw [if_neg h, if_neg (fun z => h ⟨Or.inr z.1, z.2.1, by omega⟩), if_neg (fun z => h ⟨Or.inl z.1, z.2.1, by omega⟩), if_neg (fun z => h ⟨z.1, z.2.1, by omega⟩)]
theorem m7_NF {M : Mem} {k : Nat} : ∀ {j : Nat}, NF M (m7 M k j) [46, 47]
  | 0 => NF.rf
  | j + 1 => ((m7_NF (j := j)).wI _ _ _ (by decide)).wI _ _ _ (by decide)
theorem m7_l {M : Mem} {k : Nat} (r7 : M.2.1 17 k 7 = (46, k)) (r8 : M.2.1 17 k 8 = (47, k)) (l6 : M.2.2.1 46 k = 9) (l7 : M.2.2.1 47 k = 9) {Q : Mem → Prop} (hQ : Q (m7 M k 8)) : ∀ r j, j + r = 8 → v_X12_init_40 (r + 1) (17, k) (nI j) (m7 M k j) Q := by
  have ar6 : ∀ (M' : Mem) (j : Nat), M'.2 = M.2 → j < 8 → arI M' (46, k) 100 (nI j) := fun M' j e hj => ⟨by show 46 ≠ 0; decide, rfl, by show M'.2.2.1 46 k ≠ 0; rw [e, l6]; decide, by show vp_in (nI j) (M'.2.2.1 46 k - 1); rw [e, l6]; exact vp_in_nI hj (by decide)⟩
  have ar7 : ∀ (M' : Mem) (j : Nat), M'.2 = M.2 → j < 8 → arI M' (47, k) 100 (nI j) := fun M' j e hj => ⟨by show 47 ≠ 0; decide, rfl, by show M'.2.2.1 47 k ≠ 0; rw [e, l7]; decide, by show vp_in (nI j) (M'.2.2.1 47 k - 1); rw [e, l7]; exact vp_in_nI hj (by decide)⟩
  intro r
  induction r with
  | zero =>
    intro j hj
    have ej : j = 8 := by omega
    subst ej
    exact ⟨fun _ => hQ, fun y => absurd (by decide) y⟩
  | succ r ih =>
    intro j hj
    have hj8 : j < 8 := by omega
    have cj : (nI j).toNatClampNeg = j := nI_clamp (by omega)
    refine ⟨fun y => absurd (show nI 8 ≤ nI j from y) (nI_ge hj8 (by decide)), fun _ => ⟨rfl, fun e1 ee1 => ?_⟩⟩
    have q1 : e1 = (46, k) := by rw [ee1, m7_r]; exact r7
    subst q1
    refine ⟨⟨ar6 _ j m7_r hj8, rfl⟩, fun M2 g2 => ⟨rfl, fun e3 ee3 => ?_⟩⟩
    have g2' : M2 = sI (m7 M k j) 46 k j (-1) := by rw [g2, cj]
    subst g2'
    have q3 : e3 = (47, k) := by
      rw [ee3]
      show (m7 M k j).2.1 17 k 8 = _
      rw [m7_r]
      exact r8
    subst q3
    refine ⟨⟨ar7 _ j m7_r hj8, rfl⟩, fun M4 g4 x5 e5 => ?_⟩
    rw [nI_1] at e5
    subst e5
    have g4' : M4 = m7 M k (j + 1) := by rw [g4, cj]; rfl
    subst g4'
    exact ih (j + 1) (by omega)
def fM0 (N : Mem) (i k : Nat) (x2 x3 x4 x5 : Int32) : Mem := x4m (sR (sN (nAr N i x2 x3 x4) 10 k 0 12) 10 k 11 (1, 0)) 10 k 0 x2 x3 x4 x5
theorem fM0_fin {X : Mem} {m : Nat} {N : Mem} {t : DB} (q : QS (fun _ => True) X m N t) (hm : m + 1 ≤ 100) {i k : Nat} (hk : cn t 30 = k) (hk8 : k < 24) {x2 x3 x4 x5 : Int32} (hp : GPr t 0 x2 x3 x4) (hx5 : ∃ e, e ≤ 15 ∧ x5 = nI e) : QS (fun _ => True) X (m + 1) (lAdd (fM0 N i k x2 x3 x4 x5) (30, 5) (10, k)) (tGd t k (nI 0) x2 x3 x4 x5 0) ∧ (lAdd (fM0 N i k x2 x3 x4 x5) (30, 5) (10, k)).1 30 5 0 = nI (k + 1) ∧ (lAdd (fM0 N i k x2 x3 x4 x5) (30, 5) (10, k)).2.1 1 0 5 = (30, 5) ∧ (fM0 N i k x2 x3 x4 x5).1 30 5 0 < 10000 ∧ rom (fM0 N i k x2 x3 x4 x5) 10 := by
  have hh : 10 ∈ GK0 := by decide
  refine gd_fin q hm hk hk8 (s := 0) (by decide) (y := 0) hp hx5 ((((((((((nAr_NF.mono (by decide)).wN _ _ _ hh).wR _ _ _ hh).wR _ _ _ hh).wI _ _ _ hh).wI _ _ _ hh).wI _ _ _ hh).wI _ _ _ hh).wI _ _ _ hh).wI _ _ _ hh) (fun kk hkk j hj => ?_) (by simp [fM0, m7_i, m7_r, x4m, nAr, sI, sR, sN]) (by simp [fM0, m7_i, m7_r, x4m, nAr, sI, sR, sN]; rfl) (by simp [fM0, m7_i, m7_r, x4m, nAr, sI, sR, sN]) (by simp [fM0, m7_i, m7_r, x4m, nAr, sI, sR, sN]) (by simp [fM0, m7_i, m7_r, x4m, nAr, sI, sR, sN]) (by simp [fM0, m7_i, m7_r, x4m, nAr, sI, sR, sN]) (by simp [fM0, m7_i, m7_r, x4m, nAr, sI, sR, sN]) (by simp [fM0, m7_i, m7_r, x4m, nAr, sI, sR, sN, lastf]) (fun _ => ⟨by simp [fM0, m7_i, m7_r, x4m, nAr, sI, sR, sN], by simp [fM0, m7_i, m7_r, x4m, nAr, sI, sR, sN], by simp [fM0, m7_i, m7_r, x4m, nAr, sI, sR, sN], by simp [fM0, m7_i, m7_r, x4m, nAr, sI, sR, sN]⟩) (fun e => absurd e (by decide)) (fun e => absurd e (by decide)) (fun e => absurd e (by decide)) ?_ ?_
  · have h43 := hl43 hkk
    exact ⟨by funext f; simp [fM0, m7_i, m7_r, x4m, nAr, sI, sR, sN, hj, h43], by funext f; simp [fM0, m7_i, m7_r, x4m, nAr, sI, sR, sN, hj, h43], by simp [fM0, m7_i, m7_r, x4m, nAr, sI, sR, sN, hj, h43]⟩
  · simp [fM0, m7_i, m7_r, x4m, nAr, sI, sR, sN]
  · simp [fM0, m7_i, m7_r, x4m, nAr, sI, sR, sN]
    omega
def fM1 (N : Mem) (i k : Nat) (x2 x3 x4 x5 : Int32) : Mem := sR (sN (x4m (sR (sN (nAr N i x2 x3 x4) 11 k 0 11) 11 k 10 (1, 0)) 11 k 1 x2 x3 x4 0) 32 k 0 3) 11 k 7 (32, k)
theorem fM1_fin {X : Mem} {m : Nat} {N : Mem} {t : DB} (q : QS (fun _ => True) X m N t) (hm : m + 1 ≤ 100) {i k : Nat} (hk : cn t 30 = k) (hk8 : k < 24) {x2 x3 x4 x5 : Int32} (hp : GPr t 1 x2 x3 x4) (hx5 : ∃ e, e ≤ 15 ∧ x5 = nI e) (h5 : x5 = 0) : QS (fun _ => True) X (m + 1) (lAdd (fM1 N i k x2 x3 x4 x5) (30, 5) (11, k)) (tGd t k (nI 1) x2 x3 x4 x5 0) ∧ (lAdd (fM1 N i k x2 x3 x4 x5) (30, 5) (11, k)).1 30 5 0 = nI (k + 1) ∧ (lAdd (fM1 N i k x2 x3 x4 x5) (30, 5) (11, k)).2.1 1 0 5 = (30, 5) ∧ (fM1 N i k x2 x3 x4 x5).1 30 5 0 < 10000 ∧ rom (fM1 N i k x2 x3 x4 x5) 10 := by
  have hh : 11 ∈ GK0 := by decide
  refine gd_fin q hm hk hk8 (s := 1) (by decide) (y := 0) hp hx5 ((((((((((((nAr_NF.mono (by decide)).wN _ _ _ hh).wR _ _ _ hh).wR _ _ _ hh).wI _ _ _ hh).wI _ _ _ hh).wI _ _ _ hh).wI _ _ _ hh).wI _ _ _ hh).wI _ _ _ hh).wN _ _ _ (by decide)).wR _ _ _ hh) (fun kk hkk j hj => ?_) (by simp [fM1, m7_i, m7_r, x4m, nAr, sI, sR, sN]) (by simp [fM1, m7_i, m7_r, x4m, nAr, sI, sR, sN]; rfl) (by simp [fM1, m7_i, m7_r, x4m, nAr, sI, sR, sN]) (by simp [fM1, m7_i, m7_r, x4m, nAr, sI, sR, sN]) (by simp [fM1, m7_i, m7_r, x4m, nAr, sI, sR, sN]) (by simp [fM1, m7_i, m7_r, x4m, nAr, sI, sR, sN, h5]) (by simp [fM1, m7_i, m7_r, x4m, nAr, sI, sR, sN]) (by simp [fM1, m7_i, m7_r, x4m, nAr, sI, sR, sN, lastf]) (fun e => absurd e (by decide)) (fun _ => ⟨by simp [fM1, m7_i, m7_r, x4m, nAr, sI, sR, sN], by simp [fM1, m7_i, m7_r, x4m, nAr, sI, sR, sN], by simp [fM1, m7_i, m7_r, x4m, nAr, sI, sR, sN], by simp [fM1, m7_i, m7_r, x4m, nAr, sI, sR, sN]⟩) (fun e => absurd e (by decide)) (fun e => absurd e (by decide)) ?_ ?_
  · have h43 := hl43 hkk
    exact ⟨by funext f; simp [fM1, m7_i, m7_r, x4m, nAr, sI, sR, sN, hj, h43], by funext f; simp [fM1, m7_i, m7_r, x4m, nAr, sI, sR, sN, hj, h43], by simp [fM1, m7_i, m7_r, x4m, nAr, sI, sR, sN, hj, h43]⟩
  · simp [fM1, m7_i, m7_r, x4m, nAr, sI, sR, sN]
  · simp [fM1, m7_i, m7_r, x4m, nAr, sI, sR, sN]
    omega
def fM2 (N : Mem) (i k : Nat) (x2 x3 x4 x5 : Int32) : Mem := sI (x4m (sR (sN (nAr N i x2 x3 x4) 12 k 0 9) 12 k 8 (1, 0)) 12 k 2 x2 x3 x4 0) 12 k 7 x2
theorem fM2_fin {X : Mem} {m : Nat} {N : Mem} {t : DB} (q : QS (fun _ => True) X m N t) (hm : m + 1 ≤ 100) {i k : Nat} (hk : cn t 30 = k) (hk8 : k < 24) {x2 x3 x4 x5 : Int32} (hp : GPr t 2 x2 x3 x4) (hx5 : ∃ e, e ≤ 15 ∧ x5 = nI e) (h5 : x5 = 0) : QS (fun _ => True) X (m + 1) (lAdd (fM2 N i k x2 x3 x4 x5) (30, 5) (12, k)) (tGd t k (nI 2) x2 x3 x4 x5 x2) ∧ (lAdd (fM2 N i k x2 x3 x4 x5) (30, 5) (12, k)).1 30 5 0 = nI (k + 1) ∧ (lAdd (fM2 N i k x2 x3 x4 x5) (30, 5) (12, k)).2.1 1 0 5 = (30, 5) ∧ (fM2 N i k x2 x3 x4 x5).1 30 5 0 < 10000 ∧ rom (fM2 N i k x2 x3 x4 x5) 10 := by
  have hh : 12 ∈ GK0 := by decide
  refine gd_fin q hm hk hk8 (s := 2) (by decide) (y := x2) hp hx5 (((((((((((nAr_NF.mono (by decide)).wN _ _ _ hh).wR _ _ _ hh).wR _ _ _ hh).wI _ _ _ hh).wI _ _ _ hh).wI _ _ _ hh).wI _ _ _ hh).wI _ _ _ hh).wI _ _ _ hh).wI _ _ _ hh) (fun kk hkk j hj => ?_) (by simp [fM2, m7_i, m7_r, x4m, nAr, sI, sR, sN]) (by simp [fM2, m7_i, m7_r, x4m, nAr, sI, sR, sN]; rfl) (by simp [fM2, m7_i, m7_r, x4m, nAr, sI, sR, sN]) (by simp [fM2, m7_i, m7_r, x4m, nAr, sI, sR, sN]) (by simp [fM2, m7_i, m7_r, x4m, nAr, sI, sR, sN]) (by simp [fM2, m7_i, m7_r, x4m, nAr, sI, sR, sN, h5]) (by simp [fM2, m7_i, m7_r, x4m, nAr, sI, sR, sN]) (by simp [fM2, m7_i, m7_r, x4m, nAr, sI, sR, sN, lastf]) (fun e => absurd e (by decide)) (fun e => absurd e (by decide)) (fun _ => by simp [fM2, m7_i, m7_r, x4m, nAr, sI, sR, sN]) (fun e => absurd e (by decide)) ?_ ?_
  · have h43 := hl43 hkk
    exact ⟨by funext f; simp [fM2, m7_i, m7_r, x4m, nAr, sI, sR, sN, hj, h43], by funext f; simp [fM2, m7_i, m7_r, x4m, nAr, sI, sR, sN, hj, h43], by simp [fM2, m7_i, m7_r, x4m, nAr, sI, sR, sN, hj, h43]⟩
  · simp [fM2, m7_i, m7_r, x4m, nAr, sI, sR, sN]
  · simp [fM2, m7_i, m7_r, x4m, nAr, sI, sR, sN]
    omega
def fM3 (N : Mem) (i k : Nat) (x2 x3 x4 x5 : Int32) : Mem := x4m (sR (sN (nAr N i x2 x3 x4) 13 k 0 8) 13 k 7 (1, 0)) 13 k 3 x2 x3 x4 0
theorem fM3_fin {X : Mem} {m : Nat} {N : Mem} {t : DB} (q : QS (fun _ => True) X m N t) (hm : m + 1 ≤ 100) {i k : Nat} (hk : cn t 30 = k) (hk8 : k < 24) {x2 x3 x4 x5 : Int32} (hp : GPr t 3 x2 x3 x4) (hx5 : ∃ e, e ≤ 15 ∧ x5 = nI e) (h5 : x5 = 0) : QS (fun _ => True) X (m + 1) (lAdd (fM3 N i k x2 x3 x4 x5) (30, 5) (13, k)) (tGd t k (nI 3) x2 x3 x4 x5 0) ∧ (lAdd (fM3 N i k x2 x3 x4 x5) (30, 5) (13, k)).1 30 5 0 = nI (k + 1) ∧ (lAdd (fM3 N i k x2 x3 x4 x5) (30, 5) (13, k)).2.1 1 0 5 = (30, 5) ∧ (fM3 N i k x2 x3 x4 x5).1 30 5 0 < 10000 ∧ rom (fM3 N i k x2 x3 x4 x5) 10 := by
  have hh : 13 ∈ GK0 := by decide
  refine gd_fin q hm hk hk8 (s := 3) (by decide) (y := 0) hp hx5 ((((((((((nAr_NF.mono (by decide)).wN _ _ _ hh).wR _ _ _ hh).wR _ _ _ hh).wI _ _ _ hh).wI _ _ _ hh).wI _ _ _ hh).wI _ _ _ hh).wI _ _ _ hh).wI _ _ _ hh) (fun kk hkk j hj => ?_) (by simp [fM3, m7_i, m7_r, x4m, nAr, sI, sR, sN]) (by simp [fM3, m7_i, m7_r, x4m, nAr, sI, sR, sN]; rfl) (by simp [fM3, m7_i, m7_r, x4m, nAr, sI, sR, sN]) (by simp [fM3, m7_i, m7_r, x4m, nAr, sI, sR, sN]) (by simp [fM3, m7_i, m7_r, x4m, nAr, sI, sR, sN]) (by simp [fM3, m7_i, m7_r, x4m, nAr, sI, sR, sN, h5]) (by simp [fM3, m7_i, m7_r, x4m, nAr, sI, sR, sN]) (by simp [fM3, m7_i, m7_r, x4m, nAr, sI, sR, sN, lastf]) (fun e => absurd e (by decide)) (fun e => absurd e (by decide)) (fun e => absurd e (by decide)) (fun e => absurd e (by decide)) ?_ ?_
  · have h43 := hl43 hkk
    exact ⟨by funext f; simp [fM3, m7_i, m7_r, x4m, nAr, sI, sR, sN, hj, h43], by funext f; simp [fM3, m7_i, m7_r, x4m, nAr, sI, sR, sN, hj, h43], by simp [fM3, m7_i, m7_r, x4m, nAr, sI, sR, sN, hj, h43]⟩
  · simp [fM3, m7_i, m7_r, x4m, nAr, sI, sR, sN]
  · simp [fM3, m7_i, m7_r, x4m, nAr, sI, sR, sN]
    omega
def fM4 (N : Mem) (i k : Nat) (x2 x3 x4 x5 : Int32) : Mem := x4m (sR (sN (nAr N i x2 x3 x4) 14 k 0 8) 14 k 7 (1, 0)) 14 k 4 x2 x3 x4 x5
theorem fM4_fin {X : Mem} {m : Nat} {N : Mem} {t : DB} (q : QS (fun _ => True) X m N t) (hm : m + 1 ≤ 100) {i k : Nat} (hk : cn t 30 = k) (hk8 : k < 24) {x2 x3 x4 x5 : Int32} (hp : GPr t 4 x2 x3 x4) (hx5 : ∃ e, e ≤ 15 ∧ x5 = nI e) : QS (fun _ => True) X (m + 1) (lAdd (fM4 N i k x2 x3 x4 x5) (30, 5) (14, k)) (tGd t k (nI 4) x2 x3 x4 x5 0) ∧ (lAdd (fM4 N i k x2 x3 x4 x5) (30, 5) (14, k)).1 30 5 0 = nI (k + 1) ∧ (lAdd (fM4 N i k x2 x3 x4 x5) (30, 5) (14, k)).2.1 1 0 5 = (30, 5) ∧ (fM4 N i k x2 x3 x4 x5).1 30 5 0 < 10000 ∧ rom (fM4 N i k x2 x3 x4 x5) 10 := by
  have hh : 14 ∈ GK0 := by decide
  refine gd_fin q hm hk hk8 (s := 4) (by decide) (y := 0) hp hx5 ((((((((((nAr_NF.mono (by decide)).wN _ _ _ hh).wR _ _ _ hh).wR _ _ _ hh).wI _ _ _ hh).wI _ _ _ hh).wI _ _ _ hh).wI _ _ _ hh).wI _ _ _ hh).wI _ _ _ hh) (fun kk hkk j hj => ?_) (by simp [fM4, m7_i, m7_r, x4m, nAr, sI, sR, sN]) (by simp [fM4, m7_i, m7_r, x4m, nAr, sI, sR, sN]; rfl) (by simp [fM4, m7_i, m7_r, x4m, nAr, sI, sR, sN]) (by simp [fM4, m7_i, m7_r, x4m, nAr, sI, sR, sN]) (by simp [fM4, m7_i, m7_r, x4m, nAr, sI, sR, sN]) (by simp [fM4, m7_i, m7_r, x4m, nAr, sI, sR, sN]) (by simp [fM4, m7_i, m7_r, x4m, nAr, sI, sR, sN]) (by simp [fM4, m7_i, m7_r, x4m, nAr, sI, sR, sN, lastf]) (fun e => absurd e (by decide)) (fun e => absurd e (by decide)) (fun e => absurd e (by decide)) (fun e => absurd e (by decide)) ?_ ?_
  · have h43 := hl43 hkk
    exact ⟨by funext f; simp [fM4, m7_i, m7_r, x4m, nAr, sI, sR, sN, hj, h43], by funext f; simp [fM4, m7_i, m7_r, x4m, nAr, sI, sR, sN, hj, h43], by simp [fM4, m7_i, m7_r, x4m, nAr, sI, sR, sN, hj, h43]⟩
  · simp [fM4, m7_i, m7_r, x4m, nAr, sI, sR, sN]
  · simp [fM4, m7_i, m7_r, x4m, nAr, sI, sR, sN]
    omega
def fM5 (N : Mem) (i k : Nat) (x2 x3 x4 x5 : Int32) : Mem := x4m (sR (sN (nAr N i x2 x3 x4) 15 k 0 8) 15 k 7 (1, 0)) 15 k 5 x2 x3 x4 0
theorem fM5_fin {X : Mem} {m : Nat} {N : Mem} {t : DB} (q : QS (fun _ => True) X m N t) (hm : m + 1 ≤ 100) {i k : Nat} (hk : cn t 30 = k) (hk8 : k < 24) {x2 x3 x4 x5 : Int32} (hp : GPr t 5 x2 x3 x4) (hx5 : ∃ e, e ≤ 15 ∧ x5 = nI e) (h5 : x5 = 0) : QS (fun _ => True) X (m + 1) (lAdd (fM5 N i k x2 x3 x4 x5) (30, 5) (15, k)) (tGd t k (nI 5) x2 x3 x4 x5 0) ∧ (lAdd (fM5 N i k x2 x3 x4 x5) (30, 5) (15, k)).1 30 5 0 = nI (k + 1) ∧ (lAdd (fM5 N i k x2 x3 x4 x5) (30, 5) (15, k)).2.1 1 0 5 = (30, 5) ∧ (fM5 N i k x2 x3 x4 x5).1 30 5 0 < 10000 ∧ rom (fM5 N i k x2 x3 x4 x5) 10 := by
  have hh : 15 ∈ GK0 := by decide
  refine gd_fin q hm hk hk8 (s := 5) (by decide) (y := 0) hp hx5 ((((((((((nAr_NF.mono (by decide)).wN _ _ _ hh).wR _ _ _ hh).wR _ _ _ hh).wI _ _ _ hh).wI _ _ _ hh).wI _ _ _ hh).wI _ _ _ hh).wI _ _ _ hh).wI _ _ _ hh) (fun kk hkk j hj => ?_) (by simp [fM5, m7_i, m7_r, x4m, nAr, sI, sR, sN]) (by simp [fM5, m7_i, m7_r, x4m, nAr, sI, sR, sN]; rfl) (by simp [fM5, m7_i, m7_r, x4m, nAr, sI, sR, sN]) (by simp [fM5, m7_i, m7_r, x4m, nAr, sI, sR, sN]) (by simp [fM5, m7_i, m7_r, x4m, nAr, sI, sR, sN]) (by simp [fM5, m7_i, m7_r, x4m, nAr, sI, sR, sN, h5]) (by simp [fM5, m7_i, m7_r, x4m, nAr, sI, sR, sN]) (by simp [fM5, m7_i, m7_r, x4m, nAr, sI, sR, sN, lastf]) (fun e => absurd e (by decide)) (fun e => absurd e (by decide)) (fun e => absurd e (by decide)) (fun e => absurd e (by decide)) ?_ ?_
  · have h43 := hl43 hkk
    exact ⟨by funext f; simp [fM5, m7_i, m7_r, x4m, nAr, sI, sR, sN, hj, h43], by funext f; simp [fM5, m7_i, m7_r, x4m, nAr, sI, sR, sN, hj, h43], by simp [fM5, m7_i, m7_r, x4m, nAr, sI, sR, sN, hj, h43]⟩
  · simp [fM5, m7_i, m7_r, x4m, nAr, sI, sR, sN]
  · simp [fM5, m7_i, m7_r, x4m, nAr, sI, sR, sN]
    omega
def fM6 (N : Mem) (i k : Nat) (x2 x3 x4 x5 : Int32) : Mem := x4m (sR (sN (nAr N i x2 x3 x4) 16 k 0 8) 16 k 7 (1, 0)) 16 k 6 x2 x3 x4 x5
theorem fM6_fin {X : Mem} {m : Nat} {N : Mem} {t : DB} (q : QS (fun _ => True) X m N t) (hm : m + 1 ≤ 100) {i k : Nat} (hk : cn t 30 = k) (hk8 : k < 24) {x2 x3 x4 x5 : Int32} (hp : GPr t 6 x2 x3 x4) (hx5 : ∃ e, e ≤ 15 ∧ x5 = nI e) : QS (fun _ => True) X (m + 1) (lAdd (fM6 N i k x2 x3 x4 x5) (30, 5) (16, k)) (tGd t k (nI 6) x2 x3 x4 x5 0) ∧ (lAdd (fM6 N i k x2 x3 x4 x5) (30, 5) (16, k)).1 30 5 0 = nI (k + 1) ∧ (lAdd (fM6 N i k x2 x3 x4 x5) (30, 5) (16, k)).2.1 1 0 5 = (30, 5) ∧ (fM6 N i k x2 x3 x4 x5).1 30 5 0 < 10000 ∧ rom (fM6 N i k x2 x3 x4 x5) 10 := by
  have hh : 16 ∈ GK0 := by decide
  refine gd_fin q hm hk hk8 (s := 6) (by decide) (y := 0) hp hx5 ((((((((((nAr_NF.mono (by decide)).wN _ _ _ hh).wR _ _ _ hh).wR _ _ _ hh).wI _ _ _ hh).wI _ _ _ hh).wI _ _ _ hh).wI _ _ _ hh).wI _ _ _ hh).wI _ _ _ hh) (fun kk hkk j hj => ?_) (by simp [fM6, m7_i, m7_r, x4m, nAr, sI, sR, sN]) (by simp [fM6, m7_i, m7_r, x4m, nAr, sI, sR, sN]; rfl) (by simp [fM6, m7_i, m7_r, x4m, nAr, sI, sR, sN]) (by simp [fM6, m7_i, m7_r, x4m, nAr, sI, sR, sN]) (by simp [fM6, m7_i, m7_r, x4m, nAr, sI, sR, sN]) (by simp [fM6, m7_i, m7_r, x4m, nAr, sI, sR, sN]) (by simp [fM6, m7_i, m7_r, x4m, nAr, sI, sR, sN]) (by simp [fM6, m7_i, m7_r, x4m, nAr, sI, sR, sN, lastf]) (fun e => absurd e (by decide)) (fun e => absurd e (by decide)) (fun e => absurd e (by decide)) (fun e => absurd e (by decide)) ?_ ?_
  · have h43 := hl43 hkk
    exact ⟨by funext f; simp [fM6, m7_i, m7_r, x4m, nAr, sI, sR, sN, hj, h43], by funext f; simp [fM6, m7_i, m7_r, x4m, nAr, sI, sR, sN, hj, h43], by simp [fM6, m7_i, m7_r, x4m, nAr, sI, sR, sN, hj, h43]⟩
  · simp [fM6, m7_i, m7_r, x4m, nAr, sI, sR, sN]
  · simp [fM6, m7_i, m7_r, x4m, nAr, sI, sR, sN]
    omega
def fM7 (N : Mem) (i k : Nat) (x2 x3 x4 x5 : Int32) : Mem := m7 (sR (sN (sR (sN (sR (sN (x4m (sR (sN (nAr N i x2 x3 x4) 17 k 0 11) 17 k 10 (1, 0)) 17 k 7 x2 x3 x4 0) 46 k 8 8) 17 k 7 (46, k)) 47 k 8 8) 17 k 8 (47, k)) 48 k 8 8) 17 k 9 (48, k)) k 8
theorem fM7_fin {X : Mem} {m : Nat} {N : Mem} {t : DB} (q : QS (fun _ => True) X m N t) (hm : m + 1 ≤ 100) {i k : Nat} (hk : cn t 30 = k) (hk8 : k < 24) {x2 x3 x4 x5 : Int32} (hp : GPr t 7 x2 x3 x4) (hx5 : ∃ e, e ≤ 15 ∧ x5 = nI e) (h5 : x5 = 0) : QS (fun _ => True) X (m + 1) (lAdd (fM7 N i k x2 x3 x4 x5) (30, 5) (17, k)) (tGd t k (nI 7) x2 x3 x4 x5 0) ∧ (lAdd (fM7 N i k x2 x3 x4 x5) (30, 5) (17, k)).1 30 5 0 = nI (k + 1) ∧ (lAdd (fM7 N i k x2 x3 x4 x5) (30, 5) (17, k)).2.1 1 0 5 = (30, 5) ∧ (fM7 N i k x2 x3 x4 x5).1 30 5 0 < 10000 ∧ rom (fM7 N i k x2 x3 x4 x5) 10 := by
  have hh : 17 ∈ GK0 := by decide
  refine gd_fin q hm hk hk8 (s := 7) (by decide) (y := 0) hp hx5 (NF.mono (NF.tr (K := GK0) (((((((((((((((((nAr_NF.mono (by decide)).wN _ _ _ hh).wR _ _ _ hh).wR _ _ _ hh).wI _ _ _ hh).wI _ _ _ hh).wI _ _ _ hh).wI _ _ _ hh).wI _ _ _ hh).wI _ _ _ hh).wN _ _ _ (by decide)).wR _ _ _ hh).wN _ _ _ (by decide)).wR _ _ _ hh).wN _ _ _ (by decide)).wR _ _ _ hh)) m7_NF) (by decide)) (fun kk hkk j hj => ?_) (by simp [fM7, m7_i, m7_r, x4m, nAr, sI, sR, sN]) (by simp [fM7, m7_i, m7_r, x4m, nAr, sI, sR, sN]; rfl) (by simp [fM7, m7_i, m7_r, x4m, nAr, sI, sR, sN]) (by simp [fM7, m7_i, m7_r, x4m, nAr, sI, sR, sN]) (by simp [fM7, m7_i, m7_r, x4m, nAr, sI, sR, sN]) (by simp [fM7, m7_i, m7_r, x4m, nAr, sI, sR, sN, h5]) (by simp [fM7, m7_i, m7_r, x4m, nAr, sI, sR, sN]) (by simp [fM7, m7_i, m7_r, x4m, nAr, sI, sR, sN, lastf]) (fun e => absurd e (by decide)) (fun e => absurd e (by decide)) (fun e => absurd e (by decide)) (fun _ => ⟨by simp [fM7, m7_i, m7_r, x4m, nAr, sI, sR, sN], by simp [fM7, m7_i, m7_r, x4m, nAr, sI, sR, sN], by simp [fM7, m7_i, m7_r, x4m, nAr, sI, sR, sN], by simp [fM7, m7_i, m7_r, x4m, nAr, sI, sR, sN], by simp [fM7, m7_i, m7_r, x4m, nAr, sI, sR, sN], by simp [fM7, m7_i, m7_r, x4m, nAr, sI, sR, sN], fun j hj => ⟨by simp [fM7, m7_i, m7_r, x4m, nAr, sI, sR, sN, hj], by simp [fM7, m7_i, m7_r, x4m, nAr, sI, sR, sN, hj]⟩⟩) ?_ ?_
  · have h43 := hl43 hkk
    exact ⟨by funext f; simp [fM7, m7_i, m7_r, x4m, nAr, sI, sR, sN, hj, h43], by funext f; simp [fM7, m7_i, m7_r, x4m, nAr, sI, sR, sN, hj, h43], by simp [fM7, m7_i, m7_r, x4m, nAr, sI, sR, sN, hj, h43]⟩
  · simp [fM7, m7_i, m7_r, x4m, nAr, sI, sR, sN]
  · simp [fM7, m7_i, m7_r, x4m, nAr, sI, sR, sN]
    omega
def fM8 (N : Mem) (i k : Nat) (i2 : Nat) (x2 x3 x4 x5 : Int32) : Mem := x4m (sN (sR (sN (nAr N i x2 x3 x4) 18 k 0 8) 18 k 7 (1, 0)) 43 i2 3 3) 18 k 8 0 0 0 0
theorem fM8_fin {X : Mem} {m : Nat} {N : Mem} {t : DB} (q : QS (fun _ => True) X m N t) (hm : m + 1 ≤ 100) {i k : Nat} (i2 : Nat) (hk : cn t 30 = k) (hk8 : k < 24) {x2 x3 x4 x5 : Int32} (hp : GPr t 8 x2 x3 x4) (hx5 : ∃ e, e ≤ 15 ∧ x5 = nI e) (h5 : x5 = 0) : QS (fun _ => True) X (m + 1) (lAdd (fM8 N i k i2 x2 x3 x4 x5) (30, 5) (18, k)) (tGd t k (nI 8) x2 x3 x4 x5 0) ∧ (lAdd (fM8 N i k i2 x2 x3 x4 x5) (30, 5) (18, k)).1 30 5 0 = nI (k + 1) ∧ (lAdd (fM8 N i k i2 x2 x3 x4 x5) (30, 5) (18, k)).2.1 1 0 5 = (30, 5) ∧ (fM8 N i k i2 x2 x3 x4 x5).1 30 5 0 < 10000 ∧ rom (fM8 N i k i2 x2 x3 x4 x5) 10 := by
  have hh : 18 ∈ GK0 := by decide
  obtain ⟨p2, p3, p4⟩ := hp.2.2.2.2.2.1 rfl
  refine gd_fin q hm hk hk8 (s := 8) (by decide) (y := 0) hp hx5 (((((((((((nAr_NF.mono (by decide)).wN _ _ _ hh).wR _ _ _ hh).wN _ _ _ (by decide)).wR _ _ _ hh).wI _ _ _ hh).wI _ _ _ hh).wI _ _ _ hh).wI _ _ _ hh).wI _ _ _ hh).wI _ _ _ hh) (fun kk hkk j hj => ?_) (by simp [fM8, m7_i, m7_r, x4m, nAr, sI, sR, sN]) (by simp [fM8, m7_i, m7_r, x4m, nAr, sI, sR, sN]; rfl) (by simp [fM8, m7_i, m7_r, x4m, nAr, sI, sR, sN, p2]) (by simp [fM8, m7_i, m7_r, x4m, nAr, sI, sR, sN, p3]) (by simp [fM8, m7_i, m7_r, x4m, nAr, sI, sR, sN, p4]) (by simp [fM8, m7_i, m7_r, x4m, nAr, sI, sR, sN, h5]) (by simp [fM8, m7_i, m7_r, x4m, nAr, sI, sR, sN]) (by simp [fM8, m7_i, m7_r, x4m, nAr, sI, sR, sN, lastf]) (fun e => absurd e (by decide)) (fun e => absurd e (by decide)) (fun e => absurd e (by decide)) (fun e => absurd e (by decide)) ?_ ?_
  · have h43 := hl43 hkk
    exact ⟨by funext f; simp [fM8, m7_i, m7_r, x4m, nAr, sI, sR, sN, hj, h43], by funext f; simp [fM8, m7_i, m7_r, x4m, nAr, sI, sR, sN, hj, h43], by simp [fM8, m7_i, m7_r, x4m, nAr, sI, sR, sN, hj, h43]⟩
  · simp [fM8, m7_i, m7_r, x4m, nAr, sI, sR, sN]
  · simp [fM8, m7_i, m7_r, x4m, nAr, sI, sR, sN]
    omega
def fM9 (N : Mem) (i k : Nat) (x2 x3 x4 x5 : Int32) : Mem := x4m (sR (sN (nAr N i x2 x3 x4) 19 k 0 8) 19 k 7 (1, 0)) 19 k 9 x2 x3 x4 x5
theorem fM9_fin {X : Mem} {m : Nat} {N : Mem} {t : DB} (q : QS (fun _ => True) X m N t) (hm : m + 1 ≤ 100) {i k : Nat} (hk : cn t 30 = k) (hk8 : k < 24) {x2 x3 x4 x5 : Int32} (hp : GPr t 9 x2 x3 x4) (hx5 : ∃ e, e ≤ 15 ∧ x5 = nI e) : QS (fun _ => True) X (m + 1) (lAdd (fM9 N i k x2 x3 x4 x5) (30, 5) (19, k)) (tGd t k (nI 9) x2 x3 x4 x5 0) ∧ (lAdd (fM9 N i k x2 x3 x4 x5) (30, 5) (19, k)).1 30 5 0 = nI (k + 1) ∧ (lAdd (fM9 N i k x2 x3 x4 x5) (30, 5) (19, k)).2.1 1 0 5 = (30, 5) ∧ (fM9 N i k x2 x3 x4 x5).1 30 5 0 < 10000 ∧ rom (fM9 N i k x2 x3 x4 x5) 10 := by
  have hh : 19 ∈ GK0 := by decide
  refine gd_fin q hm hk hk8 (s := 9) (by decide) (y := 0) hp hx5 ((((((((((nAr_NF.mono (by decide)).wN _ _ _ hh).wR _ _ _ hh).wR _ _ _ hh).wI _ _ _ hh).wI _ _ _ hh).wI _ _ _ hh).wI _ _ _ hh).wI _ _ _ hh).wI _ _ _ hh) (fun kk hkk j hj => ?_) (by simp [fM9, m7_i, m7_r, x4m, nAr, sI, sR, sN]) (by simp [fM9, m7_i, m7_r, x4m, nAr, sI, sR, sN]; rfl) (by simp [fM9, m7_i, m7_r, x4m, nAr, sI, sR, sN]) (by simp [fM9, m7_i, m7_r, x4m, nAr, sI, sR, sN]) (by simp [fM9, m7_i, m7_r, x4m, nAr, sI, sR, sN]) (by simp [fM9, m7_i, m7_r, x4m, nAr, sI, sR, sN]) (by simp [fM9, m7_i, m7_r, x4m, nAr, sI, sR, sN]) (by simp [fM9, m7_i, m7_r, x4m, nAr, sI, sR, sN, lastf]) (fun e => absurd e (by decide)) (fun e => absurd e (by decide)) (fun e => absurd e (by decide)) (fun e => absurd e (by decide)) ?_ ?_
  · have h43 := hl43 hkk
    exact ⟨by funext f; simp [fM9, m7_i, m7_r, x4m, nAr, sI, sR, sN, hj, h43], by funext f; simp [fM9, m7_i, m7_r, x4m, nAr, sI, sR, sN, hj, h43], by simp [fM9, m7_i, m7_r, x4m, nAr, sI, sR, sN, hj, h43]⟩
  · simp [fM9, m7_i, m7_r, x4m, nAr, sI, sR, sN]
  · simp [fM9, m7_i, m7_r, x4m, nAr, sI, sR, sN]
    omega
