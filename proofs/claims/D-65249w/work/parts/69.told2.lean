set_option maxRecDepth 100000
/-! failures are made; a call is ended outright -/
theorem rom_s {X : Mem} {m z : Nat} {P : List Nat} {x : Nat} {N : Mem} {t : DB} (h : SZ X m z P x N t) : N.2.2.2.1 + 1000 ≤ 600000 ∧ N.2.2.2.2 + 10000 ≤ 7302250 := by
  obtain ⟨h1, h2⟩ := h.M
  obtain ⟨T, -, -, hm⟩ := h.iK
  obtain ⟨-, -, -, -, -, ⟨-, b0⟩, ⟨-, b1⟩, ⟨-, b2⟩, ⟨-, b3⟩, -, -, ⟨-, b4⟩⟩ := h.iB
  omega
theorem nF_b {X : Mem} {m z : Nat} {P : List Nat} {x : Nat} {N : Mem} {t : DB} (h : SZ X m z P x N t) : t 23 0 = nI (cn t 23) ∧ cn t 23 ≤ 4020 := h.iB.2.2.2.2.2.2.2.1
theorem w_fails_s {X : Mem} {m z : Nat} {P : List Nat} {x : Nat} {N : Mem} {t : DB} (h : SZ X m z P x N t) {k gx sx : Int32} {Q : Int32 → DB → Prop} (hQ : Q (nI (cn t 23)) (nFt t (cn t 23) k gx sx)) : w_fails k gx sx t Q := by
  obtain ⟨e0, hb⟩ := nF_b h
  generalize cn t 23 = f at *
  have hv : vp_in (nI f) 4400 := vp_in_nI (by omega) (by decide)
  have hc : (nI f).toNatClampNeg = f := nI_clamp (by omega)
  have u : ∀ (t' : DB) (c i : Nat) (v : Int32), t' 23 0 = nI f → c ≠ 23 → up t' c i v 23 0 = nI f := fun t' c i v e hne => (up_f (fun q => hne q.symm)).trans e
  have e1 := u t 24 f k e0 (by decide)
  have e2 := u _ 25 f (t 0 0) e1 (by decide)
  have e3 := u _ 26 f gx e2 (by decide)
  have e4 := u _ 27 f sx e3 (by decide)
  have e5 := u _ 28 f (-1) e4 (by decide)
  have e6 := u _ 29 f (-1) e5 (by decide)
  unfold w_fails
  rw [e0, hc]
  refine ⟨hv, fun t1 g1 => ?_⟩
  subst g1
  rw [e1, hc]
  refine ⟨hv, fun t2 g2 => ?_⟩
  rw [show (up t 24 f k) 0 0 = t 0 0 from rfl] at g2
  subst g2
  rw [e2, hc]
  refine ⟨hv, fun t3 g3 => ?_⟩
  subst g3
  rw [e3, hc]
  refine ⟨hv, fun t4 g4 => ?_⟩
  subst g4
  rw [e4, hc]
  refine ⟨hv, fun t5 g5 => ?_⟩
  subst g5
  rw [e5, hc]
  refine ⟨hv, fun t6 g6 t7 g7 => ?_⟩
  subst g6
  rw [e6, nI_1] at g7
  subst g7
  rw [up_s, nI_pred]
  exact hQ
theorem v_failed_s {X : Mem} {m z : Nat} {P : List Nat} {x : Nat} {N : Mem} {t : DB} (h : SZ X m z P x N t) {k gx sx : Int32} {Q : Nat × Nat → Mem → Prop} (hQ : Q (22, cn t 23) (nFn N (cn t 23) (nI (cn t 23)) k (t 0 0) gx sx)) : v_X0_failed (1, 0) k gx sx N Q := by
  obtain ⟨e0, hb⟩ := nF_b h
  obtain ⟨r1, r2⟩ := rom_s h
  have hE : N.2.2.1 22 (cn t 23) = 0 := h.E (22, 23) (by decide) _ (Nat.le_refl _)
  have e10 : N.2.1 1 0 10 = (30, 10) := h.W.1 10 (by decide) (by decide)
  have eS : N.1 30 10 0 = nI (cn t 23) := (h.S (10, 23, 0) (by decide)).trans e0
  have tm : N.1 1 0 0 = t 0 0 := h.W.2.1
  generalize cn t 23 = f at *
  have s1 : (sN N 22 f 0 7).2.1 1 0 10 = (30, 10) := by
    show (if 1 = 22 ∧ 0 = f then ((0, 0) : Nat × Nat) else N.2.1 1 0 10) = _
    rw [if_neg (by simp)]; exact e10
  have s2 : (sN N 22 f 0 7).1 30 10 0 = nI f := by
    show (if 30 = 22 ∧ 10 = f then (0 : Int32) else N.1 30 10 0) = _
    rw [if_neg (by simp)]; exact eS
  have s3 : (sN N 22 f 0 7).1 1 0 0 = t 0 0 := by
    show (if 1 = 22 ∧ 0 = f then (0 : Int32) else N.1 1 0 0) = _
    rw [if_neg (by simp)]; exact tm
  refine ⟨⟨by omega, by omega⟩, f, hE, fun M2 eM2 => ⟨rfl, fun e3 ee3 => ?_⟩⟩
  subst eM2
  have q3 : e3 = (30, 10) := ee3.trans s1
  subst q3
  refine ⟨⟨by decide, by decide⟩, rfl, by decide, by show ¬ 22 = 0; decide, rfl, fun M1 g1 => ⟨rfl, fun M2 g2 => ⟨rfl, fun M3 g3 => ⟨rfl, fun M4 g4 => ⟨rfl, fun M5 g5 => ⟨rfl, fun e6 ee6 => ?_⟩⟩⟩⟩⟩⟩
  rw [show (sN N 22 f 0 7).1 (30, 10).1 (30, 10).2 0 = nI f from s2] at g1
  rw [show (sN N 22 f 0 7).1 (1, 0).1 (1, 0).2 0 = t 0 0 from s3] at g3
  subst g1; subst g2; subst g3; subst g4; subst g5
  have q6 : e6 = (30, 10) := ee6.trans s1
  subst q6
  refine ⟨⟨by decide, by decide⟩, rfl, ?_, ⟨?_, ?_⟩, fun M7 g7 => ?_⟩
  · rw [sI_ne (by simp), sI_ne (by simp), sI_ne (by simp), sI_ne (by simp), sI_ne (by simp)]
    show (sN N 22 f 0 7).1 30 10 0 < 10000
    rw [s2]
    exact nI_lt (b := 10000) (by omega) (by decide)
  · show N.2.2.2.1 + 1 + 1 ≤ _; omega
  · show N.2.2.2.2 + 7 + 10 ≤ _; omega
  · subst g7; exact hQ
theorem und_one {t : DB} {p : Nat} (h0 : t 69 p = 0) : ∀ {n : Nat}, p < n → n ≤ 100000 → sumTo n (undW t p) + 1 ≤ sumTo n (undW t 100000)
  | n + 1, h1, h2 => by
    have hle : ∀ k, k ≤ n → sumTo k (undW t p) ≤ sumTo k (undW t 100000) := fun k hk => sumTo_le (fun i hi => by
      unfold undW
      by_cases q : t 69 i = 0 ∧ i ≠ p
      · rw [if_pos q, if_pos ⟨q.1, by omega⟩]; exact Nat.le_refl _
      · rw [if_neg q]; exact Nat.zero_le _)
    show sumTo n (undW t p) + undW t p n + 1 ≤ sumTo n (undW t 100000) + undW t 100000 n
    by_cases e : p = n
    · subst e
      have a1 : undW t p p = 0 := if_neg (fun q => q.2 rfl)
      have a2 : undW t 100000 p = 1 := if_pos ⟨h0, by omega⟩
      rw [a1, a2]
      have := hle p (Nat.le_refl _)
      omega
    · have ih := und_one h0 (n := n) (by omega) (by omega)
      have : undW t p n ≤ undW t 100000 n := by
        unfold undW
        by_cases q : t 69 n = 0 ∧ n ≠ p
        · rw [if_pos q, if_pos ⟨q.1, by omega⟩]; exact Nat.le_refl _
        · rw [if_neg q]; exact Nat.zero_le _
      omega
/-- p ends outright -/
theorem end_c {b dp n : Nat} (hE : CE b dp n) {X : Mem} {m z : Nat} {P : List Nat} {N : Mem} {t : DB} {h p : Nat} {how val by_ : Int32} (hS : SS X m z P p N t) (hh : (h + 1000 * b ≤ 10000 ∧ 60 ≤ z)) (hp : p < cn t 61) (hp0 : t 69 p = 0) (hpP : p ∉ P) (hch : ∀ k, k < cn t 61 → t 64 k = nI p → t 69 k ≠ 0) (hd : (t 63 p).toNatClampNeg ≤ dp) (hNL : b = 0 → NL t p) (_h88 : t 88 0 = nI h) :
    (how = 1 → (by_ = 0 ∨ by_ = 1) → cq (n + 10) mX0_good [.inr (1, 0), .inr (21, p), .inl val, .inl by_] N (fun r N' => r = none ∧ ∃ t', PT b X m z P N' t' h t (psh t h 1 (nI p) how val by_) (t 62 p) p)) ∧
    (how = 2 → by_ = 0 → ∀ f, f < cn t 23 → val = nI f → cq (n + 10) mX0_fails [.inr (1, 0), .inr (21, p), .inr (22, f)] N (fun r N' => r = none ∧ ∃ t', PT b X m z P N' t' h t (psh t h 1 (nI p) how val by_) (t 62 p) p)) := by
  have hft : ∀ f i, f < 83 ∨ 88 < f → psh t h 1 (nI p) how val by_ f i = t f i := fun f i hf => psh_f hf
  have hcn : ∀ f, f < 83 ∨ 88 < f → cn (psh t h 1 (nI p) how val by_) f = cn t f := fun f hf => by unfold cn; rw [hft f 0 hf]
  generalize hu : psh t h 1 (nI p) how val by_ = u at *
  have u88 : u 88 0 = nI (h + 1) := by rw [← hu]; exact psh_88
  have u83 : u 83 h = 1 := by rw [← hu]; exact psh_83
  have u84 : u 84 h = nI p := by rw [← hu]; exact psh_84
  have u85 : u 85 h = how := by rw [← hu]; exact psh_85
  have u86 : u 86 h = val := by rw [← hu]; exact psh_86
  have u87 : u 87 h = by_ := by rw [← hu]; exact psh_87
  have hSu : SS X m z P p N u := by rw [← hu]; exact hS.psh
  have hMu : MO t u := by rw [← hu]; exact MO.psh
  have hWu : WA t u := by rw [← hu]; exact WA.psh
  have hlo : ∀ f, 83 ≤ f → f ≤ 87 → ∀ i, i < h → u f i = t f i := fun f h1 h2 i hi => by rw [← hu]; exact psh_lo h1 h2 hi
  have hCE := hE X m z P N u h p val by_ hSu hh (by rw [hcn 61 (by decide)]; exact hp) (by rw [hft 69 p (by decide)]; exact hp0) hpP (fun k hk e => by
      rw [hcn 61 (by decide)] at hk
      rw [hft 64 k (by decide)] at e
      rw [hft 69 k (by decide)]
      exact hch k hk e) (by rw [hft 63 p (by decide)]; exact hd) (fun hb k hk => by
      rw [hcn 61 (by decide)] at hk
      rw [hft 62 k (by decide), hft 62 p (by decide), hft 69 k (by decide), hft 78 k (by decide)]
      exact hNL hb k hk) u88 u83 u84 u86 u87
  rw [u85, hft 62 p (by decide), hcn 23 (by decide)] at hCE
  have post : ∀ (a : Int32) (r : Option AV) (N' : Mem), (r = none ∧ ∃ t', PT b X m z P N' t' h u u (t 62 p) p ∧ DN t' p a val by_) → (r = none ∧ ∃ t', PT b X m z P N' t' h t u (t 62 p) p) := by
    rintro a r N' ⟨hr, t', w, -⟩
    refine ⟨hr, t', w.pre hMu ?_ hlo hWu⟩
    funext i
    exact hft 69 i (by decide)
  exact ⟨fun h1 h2 => (hCE.1 h1 h2).mono (post 1), fun h1 h2 f hf ef => (hCE.2 h1 h2 f hf ef).mono (post 2)⟩
/-- the guard did something of its own (t to t1), then ends p outright -/
theorem told_end {b dp n : Nat} (hE : CE b dp n) {X : Mem} {m z : Nat} {P : List Nat} {N N1 : Mem} {t t1 : DB} {h p c g s : Nat} {how val by_ : Int32} (q : CTP b dp X m z P N t h p c g s) (hs : s ≠ 5) {C : List Nat} (hS : SZ X m z P p N1 t1) (ht : TF t t1 C) (hM : MO t t1) (hC : ∀ f ∈ C, f ∉ [61, 30, 31, 62, 63, 64, 65, 69, 76, 78, 83, 84, 85, 86, 87, 88]) :
    (how = 1 → (by_ = 0 ∨ by_ = 1) → cq (n + 10) mX0_good [.inr (1, 0), .inr (21, p), .inl val, .inl by_] N1 (fun r N' => r = none ∧ ∃ t', PT b X m z P N' t' h t (psh t1 h 1 (nI p) how val by_) (t 62 p) p)) ∧
    (how = 2 → by_ = 0 → ∀ f, f < cn t1 23 → val = nI f → cq (n + 10) mX0_fails [.inr (1, 0), .inr (21, p), .inr (22, f)] N1 (fun r N' => r = none ∧ ∃ t', PT b X m z P N' t' h t (psh t1 h 1 (nI p) how val by_) (t 62 p) p)) := by
  have hch := q.ch hs
  obtain ⟨q1, q2, q3, q4, q5, q6, q7, q8, q9, q10, q11, q12, q13, q14, q15, q16, q17, -⟩ := q
  have e : ∀ f ∈ [61, 30, 31, 62, 63, 64, 65, 69, 76, 78, 83, 84, 85, 86, 87, 88], t1 f = t f := fun f hf => ht f (fun m => hC f m hf)
  have e61 : cn t1 61 = cn t 61 := cn_fr (e 61 (by decide))
  have hP : I_P t1 := (q2.all hch).fr ht (fun f hf m => hC f hf ((by decide : ∀ f ∈ [61, 69, 64, 65, 31, 30], f ∈ [61, 30, 31, 62, 63, 64, 65, 69, 76, 78, 83, 84, 85, 86, 87, 88]) f m))
  have hA := end_c hE (h := h) (how := how) (val := val) (by_ := by_) ⟨hS, hP⟩ q3 (by rw [e61]; omega) (by rw [e 69 (by decide)]; exact q7) q8 (by rw [e61, e 64 (by decide), e 69 (by decide)]; exact hch) (by rw [e 63 (by decide)]; exact q15) (fun hb k hk h1 h2 h3 => by
      rw [e61] at hk
      rw [e 62 (by decide)] at h1
      rw [e 69 (by decide)] at h2
      rw [e 78 (by decide)] at h3
      exact absurd h3 (q16 hb k hk h1 h2)) (by rw [e 88 (by decide)]; exact q17)
  rw [e 62 (by decide)] at hA
  have post : ∀ (r : Option AV) (N' : Mem), (r = none ∧ ∃ t', PT b X m z P N' t' h t1 (psh t1 h 1 (nI p) how val by_) (t 62 p) p) → (r = none ∧ ∃ t', PT b X m z P N' t' h t (psh t1 h 1 (nI p) how val by_) (t 62 p) p) := by
    rintro r N' ⟨hr, t', w⟩
    exact ⟨hr, t', w.pre hM (e 69 (by decide)) (fun f h1 h2 i _ => by rw [e f (by simp; omega)]) (WA.of ht (fun f hf m => hC f hf ((by decide : ∀ f ∈ [61, 69, 30, 65, 64, 76, 31], f ∈ [61, 30, 31, 62, 63, 64, 65, 69, 76, 78, 83, 84, 85, 86, 87, 88]) f m)))⟩
  exact ⟨fun h1 h2 => (hA.1 h1 h2).mono post, fun h1 h2 f hf ef => (hA.2 h1 h2 f hf ef).mono post⟩
