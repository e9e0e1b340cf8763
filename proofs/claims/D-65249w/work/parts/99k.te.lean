set_option maxRecDepth 100000
/-! a try ends -/
theorem endq {n : Nat} (hn : 70 ≤ n) {S : Nat → Prop} {X : Mem} {m : Nat} {N : Mem} {t : DB} (q : QS S X m N t) {c : Nat} (hc : c < cn t 61) (h0 : t 69 c = 0) (h73 : ∀ j, j < cn t 61 → t 64 j = nI c → t 69 j ≠ 0) {N2 : Mem} {t2 : DB} {C : List Nat} (hS2 : SZ X m 60 [] c N2 t2) (ht : TF t t2 C) (hC : ∀ f ∈ C, f ∈ EC ++ [23, 24, 25, 26, 27, 28, 29]) :
    (∀ val by_, (by_ = 0 ∨ by_ = 1) → cq (n + 10) mX0_good [.inr (1, 0), .inr (21, c), .inl val, .inl by_] N2 (fun r N' => r = none ∧ ∃ t', RUN (psh t2 0 1 (nI c) 1 val by_) t' ∧ QS S X m N' t' ∧ TF t t' (RC ++ EC) ∧ cn t 61 ≤ cn t' 61)) ∧
    (∀ f, f < cn t2 23 → cq (n + 10) mX0_fails [.inr (1, 0), .inr (21, c), .inr (22, f)] N2 (fun r N' => r = none ∧ ∃ t', RUN (psh t2 0 1 (nI c) 2 (nI f) 0) t' ∧ QS S X m N' t' ∧ TF t t' (RC ++ EC) ∧ cn t 61 ≤ cn t' 61)) := by
  obtain ⟨hS, hW, hV, h88⟩ := q
  have h24 : cn t 30 ≤ 24 := hS.iB.2.2.2.1.2
  have zt : ∀ f, f ∉ EC ++ [23, 24, 25, 26, 27, 28, 29] → t2 f = t f := fun f hf => ht f (fun m => hf (hC f m))
  have zn : ∀ f, f ∉ EC ++ [23, 24, 25, 26, 27, 28, 29] → cn t2 f = cn t f := fun f hf => cn_fr (zt f hf)
  have hP2 : I_P t2 := hS.2.fr ht (fun f hf => (by decide : ∀ f ∈ EC ++ [23, 24, 25, 26, 27, 28, 29], f ∉ [61, 69, 64, 65, 31, 30]) f (hC f hf))
  have hW2 : I_W (fun _ => False) t2 := hW.fr ht (fun f hf => (by decide : ∀ f ∈ EC ++ [23, 24, 25, 26, 27, 28, 29], f ∉ [61, 69, 30, 65, 64, 76, 31]) f (hC f hf))
  have hV2 : QV S t2 := hV.fr ht (fun f hf => (by decide : ∀ f ∈ EC ++ [23, 24, 25, 26, 27, 28, 29], f ∉ [61, 30, 65, 31, 73, 72, 0]) f (hC f hf))
  have depth : (t2 63 c).toNatClampNeg ≤ 5 := by
    obtain ⟨o, T, hh', d, c1, c2, c3, c4, c5, c6, c7, c8, -⟩ := hS.iC c hc
    rw [zt 63 (by decide), c8, nI_clamp (by omega)]; omega
  have hE := fun (how val by_ : Int32) => end_c (CE1 hn) (h := 0) (p := c) (how := how) (val := val) (by_ := by_) ⟨hS2, hP2⟩ ⟨by decide, Nat.le_refl _⟩ (by rw [zn 61 (by decide)]; exact hc) (by rw [zt 69 (by decide)]; exact h0) List.not_mem_nil (by rw [zn 61 (by decide), zt 64 (by decide), zt 69 (by decide)]; exact h73) depth (fun y => absurd y (by decide)) (by rw [zt 88 (by decide)]; exact h88)
  have post : ∀ (u : DB) (r : Option AV) (N' : Mem), (r = none ∧ ∃ t', PT 1 X m 60 [] N' t' 0 t2 u (t2 62 c) c) → (r = none ∧ ∃ t', RUN u t' ∧ QS S X m N' t' ∧ TF t t' (RC ++ EC) ∧ cn t 61 ≤ cn t' 61) := by
    rintro u r N' ⟨hr, t', b1, b2, b3, b4, -, b6⟩
    refine ⟨hr, t', b1, ⟨b3, b6.wa _ hW2, hV2.mb (q := 100000) (MB.of b4 (by rw [zn 30 (by decide)]; exact h24)) (fun y => by have := hS.1.nC; rw [zn 61 (by decide)] at y; omega), b2.1⟩, fun f hf => ?_, by rw [← zn 61 (by decide)]; exact b4.2.1⟩
    have f1 : f ∉ RC := fun y => hf (List.mem_append_left _ y)
    have f2 : f ∉ EC := fun y => hf (List.mem_append_right _ y)
    rw [b4.1 f f1, zt f (fun y => ?_)]
    rcases List.mem_append.mp y with y | y
    · exact f2 y
    · exact f1 ((by decide : ∀ f ∈ [23, 24, 25, 26, 27, 28, 29], f ∈ RC) f y)
  exact ⟨fun val by_ hb => ((hE 1 val by_).1 rfl hb).mono (post _), fun f hf => ((hE 2 (nI f) 0).2 rfl rfl f hf rfl).mono (post _)⟩
/-- a fault that fits -/
def FC (t : DB) (s o j : Nat) : Prop := t 6 j = nI s ∧ t 7 j = t 53 o ∧ ¬ t 0 0 < t 8 j ∧ t 0 0 ≤ t 9 j
theorem w_te25_s {t : DB} {c s o j nf a : Nat} {Q : DB → Prop} (h5 : t 5 0 = nI nf) (hnf : nf ≤ 30) (hj : j < nf) (h1 : ¬ FC t s o j → w_tryEnds_25 a (nI c) (nI s) (nI o) (t 53 o) (nI (j + 1)) t Q) (h2 : FC t s o j → w_fails (t 10 j) (-1) (nI s) t (fun r t8 => w_add 1 (nI c) 2 r 0 t8 Q)) : w_tryEnds_25 (a + 1) (nI c) (nI s) (nI o) (t 53 o) (nI j) t Q := by
  have vj : vp_in (nI j) 30 := vp_in_nI (by omega) (by decide)
  have cj : (nI j).toNatClampNeg = j := nI_clamp (by omega)
  have sk : ¬ FC t s o j → ∀ x, x = nI j + 1 → w_tryEnds_25 a (nI c) (nI s) (nI o) (t 53 o) x t Q := fun no x e => by rw [nI_1] at e; subst e; exact h1 no
  refine ⟨fun y => ?_, fun _ => ⟨vj, ?_⟩⟩
  · rw [h5] at y; exact absurd y (nI_ge hj (by omega))
  rw [cj]
  exact ⟨fun y => sk (fun w => y w.1), fun y => ⟨vj, fun y2 => sk (fun w => y2 w.2.1), fun y2 => ⟨vj, fun y3 => sk (fun w => w.2.2.1 y3), fun y3 => ⟨vj, fun y4 => ⟨vj, h2 ⟨y, y2, y3, y4⟩⟩, fun y4 => sk (fun w => y4 w.2.2.2)⟩⟩⟩⟩
theorem w_te25_l {t : DB} {c s o nf : Nat} {Q : DB → Prop} (h5 : t 5 0 = nI nf) (hnf : nf ≤ 30) {j1 a : Nat} (hj1 : j1 ≤ nf) (hno : ∀ i, i < j1 → ¬ FC t s o i) (hk : w_tryEnds_25 a (nI c) (nI s) (nI o) (t 53 o) (nI j1) t Q) : ∀ r j, j + r = j1 → w_tryEnds_25 (a + r) (nI c) (nI s) (nI o) (t 53 o) (nI j) t Q := by
  intro r
  induction r with
  | zero => intro j hj; rw [show j = j1 from by omega]; exact hk
  | succ r ih =>
    intro j hj
    exact w_te25_s (a := a + r) h5 hnf (by omega) (fun _ => ih (j + 1) (by omega)) (fun w => absurd w (hno j (by omega)))
theorem v_te23_s {d : Nat} {X : Mem} {m z : Nat} {P : List Nat} {x : Nat} {N : Mem} {t : DB} (h : SZ X m z P x N t) {c s o j nf a : Nat} {Q : Mem → Prop} (h5 : t 5 0 = nI nf) (hnf : nf ≤ 30) (hj : j < nf) (e2 : N.1 21 c 2 = nI s) (eo : N.1 20 o 2 = t 53 o) (h1 : ¬ FC t s o j → v_X0_ends_23 d a (1, 0) (21, c) (20, o) (3, s) (nI (j + 1)) N Q)
    (h2 : FC t s o j → v_X0_failed (1, 0) (t 10 j) (-1) (nI s) N (fun e M => kt (1, 0).1 = 0 ∧ cq (d + 10) mX0_fails [.inr (1, 0), .inr (21, c), .inr e] M (fun r M' => r = none ∧ Q M'))) : v_X0_ends_23 d (a + 1) (1, 0) (21, c) (20, o) (3, s) (nI j) N Q := by
  have cj : (nI j).toNatClampNeg = j := nI_clamp (by omega)
  have e3 : N.2.1 1 0 3 = (30, 3) := h.W.1 3 (by decide) (by decide)
  have sz : N.1 (30, 3).1 (30, 3).2 0 = nI nf := (h.S (3, 5, 0) (by decide)).trans h5
  have tm : N.1 (1, 0).1 (1, 0).2 0 = t 0 0 := h.W.2.1
  have inb : ¬ nI j < 0 ∧ nI j < N.1 (30, 3).1 (30, 3).2 0 := ⟨nI_pos (by omega), by rw [sz]; exact nI_lt hj (by omega)⟩
  obtain ⟨pl, p1, p2, p3, p4, p5, p6, p7⟩ := h.P1 j (by show j < (t 5 0).toNatClampNeg; rw [h5, nI_clamp (by omega)]; exact hj)
  refine ⟨rfl, fun e1 ee1 => ?_⟩
  have q1 : e1 = (30, 3) := ee1.trans e3
  subst q1
  refine ⟨⟨by decide, by decide⟩, fun y => ?_, fun _ => ⟨rfl, fun e5 ee5 => ?_⟩⟩
  · rw [sz] at y; exact absurd y (nI_ge hj (by omega))
  have q5 : e5 = (30, 3) := ee5.trans e3
  subst q5
  refine ⟨⟨by decide, by decide⟩, inb, fun e6 ee6 => ?_⟩
  rw [cj] at ee6
  have q6 : e6 = (4, pl) := ee6.trans p1
  subst q6
  refine ⟨rfl, rfl, rfl, rfl, rfl, ?_⟩
  show v_X3_fits (4, pl) (N.1 21 c 2) (N.1 20 o 2) (N.1 1 0 0) N _
  rw [e2, eo, show N.1 1 0 0 = t 0 0 from tm]
  have r3 : N.1 4 pl 0 = t 6 j := p3
  have r4 : N.1 4 pl 1 = t 7 j := p4
  have r5 : N.1 4 pl 2 = t 8 j := p5
  have r6 : N.1 4 pl 3 = t 9 j := p6
  have r7 : N.1 4 pl 4 = t 10 j := p7
  refine v_fits_s (fun y => ⟨fun _ => ⟨rfl, fun e9 ee9 => ?_⟩, fun w => absurd w (by decide)⟩) (fun y => ⟨fun w => absurd rfl w, fun _ x15 e15 => ?_⟩)
  · rw [r3, r4, r5, r6] at y
    have q9 : e9 = (30, 3) := ee9.trans e3
    subst q9
    refine ⟨⟨by decide, by decide⟩, inb, fun e10 ee10 => ?_⟩
    rw [cj] at ee10
    have q10 : e10 = (4, pl) := ee10.trans p1
    subst q10
    refine ⟨rfl, rfl, rfl, rfl, ?_⟩
    show v_X0_failed (1, 0) (N.1 4 pl 4) (-1) (N.1 21 c 2) N _
    rw [r7, e2]
    exact h2 ⟨y.1.symm, y.2.1.symm, y.2.2.1, Int32.not_lt.mp y.2.2.2⟩
  · rw [r3, r4, r5, r6] at y
    rw [nI_1] at e15
    subst e15
    exact h1 (fun w => y ⟨w.1.symm, w.2.1.symm, w.2.2.1, Int32.not_lt.mpr w.2.2.2⟩)
theorem v_te23_l {d : Nat} {X : Mem} {m z : Nat} {P : List Nat} {x : Nat} {N : Mem} {t : DB} (h : SZ X m z P x N t) {c s o nf a j1 : Nat} {Q : Mem → Prop} (h5 : t 5 0 = nI nf) (hnf : nf ≤ 30) (e2 : N.1 21 c 2 = nI s) (eo : N.1 20 o 2 = t 53 o) (hj1 : j1 ≤ nf) (hno : ∀ i, i < j1 → ¬ FC t s o i) (hk : v_X0_ends_23 d a (1, 0) (21, c) (20, o) (3, s) (nI j1) N Q) : ∀ r j, j + r = j1 → v_X0_ends_23 d (a + r) (1, 0) (21, c) (20, o) (3, s) (nI j) N Q := by
  intro r
  induction r with
  | zero => intro j hj; rw [show j = j1 from by omega]; exact hk
  | succ r ih =>
    intro j hj
    exact v_te23_s (a := a + r) h h5 hnf (by omega) e2 eo (fun _ => ih (j + 1) (by omega)) (fun w => absurd w (hno j (by omega)))
/-- an effect under the order's key -/
def EK (t : DB) (s o j : Nat) : Prop := ¬ t 55 o = 0 ∧ t 20 j = t 55 o ∧ t 18 j = nI s
theorem w_te147_s {t : DB} {c s o j ne a : Nat} {x4 : Int32} {Q : DB → Prop} (h17 : t 17 0 = nI ne) (hne : ne ≤ 4020) (hj : j < ne) (h1 : ¬ EK t s o j → w_tryEnds_147 a (nI c) (nI s) (nI o) x4 (t 55 o) (nI (j + 1)) t Q) (h2 : EK t s o j → (0 ≤ t 21 j → w_add 1 (nI c) 1 (t 21 j) 0 t Q) ∧ (¬ 0 ≤ t 21 j → w_add 1 (nI c) 1 (-(t 21 j)) 0 t Q)) : w_tryEnds_147 (a + 1) (nI c) (nI s) (nI o) x4 (t 55 o) (nI j) t Q := by
  have vj : vp_in (nI j) 4400 := vp_in_nI (by omega) (by decide)
  have cj : (nI j).toNatClampNeg = j := nI_clamp (by omega)
  have sk : ¬ EK t s o j → ∀ x, x = nI j + 1 → w_tryEnds_147 a (nI c) (nI s) (nI o) x4 (t 55 o) x t Q := fun no x e => by rw [nI_1] at e; subst e; exact h1 no
  refine ⟨fun y => ?_, fun _ => ⟨fun y => sk (fun w => w.1 y), fun y => ⟨vj, ?_⟩⟩⟩
  · rw [h17] at y; exact absurd y (nI_ge hj (by omega))
  rw [cj]
  exact ⟨fun y2 => sk (fun w => y2 w.2.1), fun y2 => ⟨vj, fun y3 => ⟨vj, fun y4 => ⟨vj, (h2 ⟨y, y2, y3⟩).1 y4⟩, fun y4 => ⟨vj, (h2 ⟨y, y2, y3⟩).2 y4⟩⟩, fun y3 => sk (fun w => y3 w.2.2)⟩⟩
theorem w_te147_l {t : DB} {c s o ne : Nat} {x4 : Int32} {Q : DB → Prop} (h17 : t 17 0 = nI ne) (hne : ne ≤ 4020) {j1 a : Nat} (hj1 : j1 ≤ ne) (hno : ∀ i, i < j1 → ¬ EK t s o i) (hk : w_tryEnds_147 a (nI c) (nI s) (nI o) x4 (t 55 o) (nI j1) t Q) : ∀ r j, j + r = j1 → w_tryEnds_147 (a + r) (nI c) (nI s) (nI o) x4 (t 55 o) (nI j) t Q := by
  intro r
  induction r with
  | zero => intro j hj; rw [show j = j1 from by omega]; exact hk
  | succ r ih =>
    intro j hj
    exact w_te147_s (a := a + r) h17 hne (by omega) (fun _ => ih (j + 1) (by omega)) (fun w => absurd w (hno j (by omega)))
theorem v_key_s {X : Mem} {m z : Nat} {P : List Nat} {x : Nat} {N : Mem} {t : DB} (h : SZ X m z P x N t) {s o j ne a : Nat} {Q : Nat × Nat → Mem → Prop} (h17 : t 17 0 = nI ne) (hne : ne ≤ 4020) (hj : j < ne) (hpos : ¬ t 55 o ≤ 0) (h1 : ¬ EK t s o j → v_X0_keyed_2 a (1, 0) (nI s) (t 55 o) (nI (j + 1)) N Q) (h2 : EK t s o j → Q (23, j) N) : v_X0_keyed_2 (a + 1) (1, 0) (nI s) (t 55 o) (nI j) N Q := by
  have cj : (nI j).toNatClampNeg = j := nI_clamp (by omega)
  have e3 : N.2.1 1 0 11 = (30, 11) := h.W.1 11 (by decide) (by decide)
  have sz : N.1 (30, 11).1 (30, 11).2 0 = nI ne := (h.S (11, 17, 0) (by decide)).trans h17
  have inb : ¬ nI j < 0 ∧ nI j < N.1 (30, 11).1 (30, 11).2 0 := ⟨nI_pos (by omega), by rw [sz]; exact nI_lt hj (by omega)⟩
  have hjc : j < cn t 17 := by show j < (t 17 0).toNatClampNeg; rw [h17, nI_clamp (by omega)]; exact hj
  have ek : N.2.1 30 11 j = (23, j) := h.K (11, 23, 17) (by decide) j hjc
  have f0 : N.1 23 j 0 = t 18 j := h.I (23, 0, 18, 17) (by decide) j hjc
  have f2 : N.1 23 j 2 = t 20 j := h.I (23, 2, 20, 17) (by decide) j hjc
  have hnz : ¬ t 55 o = 0 := fun y => hpos (by rw [y]; decide)
  have sk : ¬ EK t s o j → ∀ x, x = nI j + 1 → v_X0_keyed_2 a (1, 0) (nI s) (t 55 o) x N Q := fun no x e => by rw [nI_1] at e; subst e; exact h1 no
  refine ⟨rfl, fun e1 ee1 => ?_⟩
  have q1 : e1 = (30, 11) := ee1.trans e3
  subst q1
  refine ⟨⟨by decide, by decide⟩, fun y => ?_, fun _ => ⟨fun y => absurd y hpos, fun _ => ⟨rfl, fun e4 ee4 => ?_⟩⟩⟩
  · rw [sz] at y; exact absurd y (nI_ge hj (by omega))
  have q4 : e4 = (30, 11) := ee4.trans e3
  subst q4
  refine ⟨⟨by decide, by decide⟩, inb, fun e5 ee5 => ?_⟩
  rw [cj] at ee5
  have q5 : e5 = (23, j) := ee5.trans ek
  subst q5
  refine ⟨rfl, rfl, fun y => sk (fun w => y (f0.trans w.2.2)), fun y => ⟨rfl, fun e6 ee6 => ?_⟩⟩
  have y18 : t 18 j = nI s := f0.symm.trans y
  have q6 : e6 = (30, 11) := ee6.trans e3
  subst q6
  refine ⟨⟨by decide, by decide⟩, inb, fun e7 ee7 => ?_⟩
  rw [cj] at ee7
  have q7 : e7 = (23, j) := ee7.trans ek
  subst q7
  refine ⟨rfl, rfl, fun y2 => sk (fun w => y2 (f2.trans w.2.1)), fun y2 => ⟨rfl, fun e8 ee8 => ?_⟩⟩
  have y20 : t 20 j = t 55 o := f2.symm.trans y2
  have q8 : e8 = (30, 11) := ee8.trans e3
  subst q8
  refine ⟨⟨by decide, by decide⟩, inb, fun e9 ee9 => ?_⟩
  rw [cj] at ee9
  have q9 : e9 = (23, j) := ee9.trans ek
  subst q9
  exact ⟨rfl, h2 ⟨hnz, y20, y18⟩⟩
theorem v_key {X : Mem} {m z : Nat} {P : List Nat} {x : Nat} {N : Mem} {t : DB} (h : SZ X m z P x N t) {s o ne : Nat} {Q : Nat × Nat → Mem → Prop} (h17 : t 17 0 = nI ne) (hne : ne ≤ 4020) (hk0 : ¬ t 55 o < 0) (hno : (∀ i, i < ne → ¬ EK t s o i) → Q (0, 0) N) (hyes : ∀ j, j < ne → EK t s o j → (∀ i, i < j → ¬ EK t s o i) → Q (23, j) N) : v_X0_keyed (1, 0) (nI s) (t 55 o) N Q := by
  have e3 : N.2.1 1 0 11 = (30, 11) := h.W.1 11 (by decide) (by decide)
  have sz : N.1 (30, 11).1 (30, 11).2 0 = nI ne := (h.S (11, 17, 0) (by decide)).trans h17
  by_cases kp : t 55 o ≤ 0
  · -- no key
    have k0 : t 55 o = 0 := Int32.le_antisymm kp (Int32.not_lt.mp hk0)
    have none : ∀ i, i < ne → ¬ EK t s o i := fun i _ w => w.1 k0
    refine ⟨1, rfl, fun e1 ee1 => ?_⟩
    have q1 : e1 = (30, 11) := ee1.trans e3
    subst q1
    exact ⟨⟨by decide, by decide⟩, fun _ => hno none, fun _ => ⟨fun _ => hno none, fun y => absurd kp y⟩⟩
  · have L : ∀ r j, j + r = ne → (∀ i, i < j → ¬ EK t s o i) → v_X0_keyed_2 (r + 1) (1, 0) (nI s) (t 55 o) (nI j) N Q := by
      intro r
      induction r with
      | zero =>
        intro j hj hn
        refine ⟨rfl, fun e1 ee1 => ?_⟩
        have q1 : e1 = (30, 11) := ee1.trans e3
        subst q1
        refine ⟨⟨by decide, by decide⟩, fun _ => hno (fun i hi => hn i (by omega)), fun y => ?_⟩
        exact absurd (by rw [sz]; exact nI_le (by omega) (by omega)) y
      | succ r ih =>
        intro j hj hn
        exact v_key_s h h17 hne (by omega) kp (fun no => ih (j + 1) (by omega) (fun i hi => by
          by_cases e : i = j
          · rw [e]; exact no
          · exact hn i (by omega))) (fun w => hyes j (by omega) w hn)
    exact ⟨ne + 1, L ne 0 (by omega) (fun i hi => absurd hi (Nat.not_lt_zero _))⟩

theorem te_q {n : Nat} (hn : 80 ≤ n) {S : Nat → Prop} {X : Mem} {m : Nat} {N : Mem} {t : DB} (q : QS S X m N t) {c : Nat} (hc : c < cn t 61) (h0 : t 69 c = 0) (h65 : t 65 c = -1) : cq (n + 12) mX0_ends [.inr (1, 0), .inr (21, c)] N (fun r N' => r = none ∧ ∃ u t', (∀ K : DB → Prop, K u → w_tryEnds (nI c) t K) ∧ RUN u t' ∧ QS S X m N' t' ∧ TF t t' (RC ++ EC) ∧ cn t 61 ≤ cn t' 61) := by
  have q0 := q
  obtain ⟨hS, hW, hV, h88⟩ := q
  have hn61 := hS.1.nC
  have h8 : cn t 1 ≤ 8 := hS.iB.1.2
  have z65 := (hS.iZ c hc).2 h65
  have h75 : t 75 c = 0 := z65.2.2.1
  have hch : ∀ j, j < cn t 61 → t 64 j = nI c → t 69 j ≠ 0 := fun j hj e => absurd z65.1 (hS.1.inner hc hj e)
  have hD : SZ X m 60 [] c N t := hS.1.dying (fun y => by rw [h75] at y; exact absurd y (by decide))
  obtain ⟨o, s', ho, ho2, e62, e4, -, -, f1, f2, f3⟩ := hS.1.ord hc
  obtain ⟨-, -, ⟨a, ha, e53⟩, ⟨v, hv, e54⟩, k0⟩ := hS.iO o ho
  obtain ⟨s, hs, e66⟩ : ∃ s, s < cn t 1 ∧ t 66 c = nI s := by
    obtain ⟨o', T, hh', d, c1, c2, c3, c4, c5, c6, c7, c8, -, c10⟩ := hS.iC c hc
    rcases c10 with ⟨-, y⟩ | ⟨y1, y2, y3⟩
    · exact y
    · exfalso
      obtain ⟨h2, i1, i2, i3, -⟩ := hS.iT T (Or.inl c4)
      have h47 : cn t 47 ≤ 10 := hS.iB.2.2.2.2.1.2
      have h24 : cn t 30 ≤ 24 := hS.iB.2.2.2.1.2
      have : hh' = h2 := (nI_eq (by omega) (by omega)).mp (c5.symm.trans i2)
      subst this
      obtain ⟨g, hg, eg⟩ := i3 d y1
      rw [h65, eg] at y2
      exact nI_m1 (by omega) y2.symm
  have g2 : N.1 21 c 2 = nI s := (hS.I (21, 2, 66, 61) (by decide) c hc).trans e66
  have f4 : N.1 20 o 4 = t 55 o := hS.I (20, 4, 55, 50) (by decide) o ho
  have st2 : N.1 3 s 2 = t 2 s := hS.I (3, 2, 2, 1) (by decide) s hs
  have st0 : N.1 3 s 0 = t 3 s := hS.I (3, 0, 3, 1) (by decide) s hs
  have n0 : N.1 20 o 0 = nI o := hS.N (20, 50) (by decide) o ho
  obtain ⟨nf, hnf, h5⟩ : ∃ nf, nf ≤ 30 ∧ t 5 0 = nI nf := ⟨cn t 5, hS.iB.2.1.2, hS.iB.2.1.1⟩
  obtain ⟨ne, ene, hne, h17⟩ : ∃ ne, ne = cn t 17 ∧ ne ≤ 4020 ∧ t 17 0 = nI ne := ⟨cn t 17, rfl, hS.iB.2.2.2.2.2.2.2.2.1.2, hS.iB.2.2.2.2.2.2.2.2.1.1⟩
  have vc : vp_in (nI c) 4400 := vp_in_nI (by omega) (by decide)
  have cc : (nI c).toNatClampNeg = c := nI_clamp (by omega)
  have vo : vp_in (nI o) 60 := vp_in_nI (by omega) (by decide)
  have co : (nI o).toNatClampNeg = o := nI_clamp (by omega)
  have vs : vp_in (nI s) 8 := vp_in_nI (by omega) (by decide)
  have cs : (nI s).toNatClampNeg = s := nI_clamp (by omega)
  have slF : cn t 23 + 1 + sumTo (cn t 61) (undW t c) ≤ cn t 61 := hS.1.slack hc h0
  have slE : cn t 17 + 1 + sumTo (cn t 61) (undW t c) ≤ cn t 61 := by
    have := und_one h0 hc (by omega)
    have := hS.iU.2.2.1
    omega
  -- the model: after the faults' loop
  have mdl : ∀ (j1 : Nat) (K : DB → Prop), j1 ≤ nf → (∀ i, i < j1 → ¬ FC t s o i) → (∃ b, w_tryEnds_25 b (nI c) (nI s) (nI o) (t 53 o) (nI j1) t K) → w_tryEnds (nI c) t K := fun j1 K h1 h2 ⟨b, h3⟩ => by
    unfold w_tryEnds
    rw [cc, e66, e62]
    refine ⟨vc, fun x1 g1 => ⟨vc, fun x2 g2 => ⟨?_, fun x3 g3 => ⟨b + j1, ?_⟩⟩⟩⟩
    · rw [g2]; exact vo
    · rw [g2, co] at g3
      subst g1; subst g2; subst g3
      exact w_te25_l h5 hnf h1 h2 h3 j1 0 (by omega)
  have PQ := fun (N' : Mem) => ∃ u t', (∀ K : DB → Prop, K u → w_tryEnds (nI c) t K) ∧ RUN u t' ∧ QS S X m N' t' ∧ TF t t' (RC ++ EC) ∧ cn t 61 ≤ cn t' 61
  -- a failure of kind kd
  have failk : ∀ (kd : Nat), kd ≤ 15 → (∀ K : DB → Prop, w_fails (nI kd) (-1) (nI s) t (fun r t8 => w_add 1 (nI c) 2 r 0 t8 K) → w_tryEnds (nI c) t K) → v_X0_failed (1, 0) (nI kd) (-1) (nI s) N (fun e M => kt (1, 0).1 = 0 ∧ cq (n + 1 + 10) mX0_fails [.inr (1, 0), .inr (21, c), .inr e] M (fun r M' => r = none ∧ ∃ u t', (∀ K : DB → Prop, K u → w_tryEnds (nI c) t K) ∧ RUN u t' ∧ QS S X m M' t' ∧ TF t t' (RC ++ EC) ∧ cn t 61 ≤ cn t' 61)) := by
    intro kd hkd hm
    have hb := (nF_b hS.1).2
    have hF := hD.newF (k := kd) (g := -1) (s := nI s) hkd slF
    have ht : TF t (nFt t (cn t 23) (nI kd) (-1) (nI s)) [23, 24, 25, 26, 27, 28, 29] := nFt_TF
    have e23 : cn (nFt t (cn t 23) (nI kd) (-1) (nI s)) 23 = cn t 23 + 1 := by
      show (up _ 23 0 (nI (cn t 23 + 1)) 23 0).toNatClampNeg = _
      rw [up_s, nI_clamp (by omega)]
    have hq := (endq (n := n + 1) (by omega) q0 hc h0 hch hF ht (by decide)).2 (cn t 23) (by rw [e23]; omega)
    refine v_failed_s hS.1 ⟨rfl, hq.mono ?_⟩
    rintro r N' ⟨hr, t', b1, b2, b3⟩
    refine ⟨hr, _, t', fun K hK => hm K (w_fails_s hS.1 (w_add_s ?_ (by decide) hK)), b1, b2, b3⟩
    rw [ht 88 (by decide)]; exact h88
  have goodk : ∀ (val : Int32), (∀ K : DB → Prop, w_add 1 (nI c) 1 val 0 t K → w_tryEnds (nI c) t K) → cq (n + 1 + 10) mX0_good [.inr (1, 0), .inr (21, c), .inl val, .inl 0] N (fun r M' => r = none ∧ ∃ u t', (∀ K : DB → Prop, K u → w_tryEnds (nI c) t K) ∧ RUN u t' ∧ QS S X m M' t' ∧ TF t t' (RC ++ EC) ∧ cn t 61 ≤ cn t' 61) := by
    intro val hm
    refine ((endq (n := n + 1) (by omega) q0 hc h0 hch hD (TF.rf (C := [])) (by decide)).1 val 0 (Or.inl rfl)).mono ?_
    rintro r N' ⟨hr, t', b1, b2, b3⟩
    exact ⟨hr, _, t', fun K hK => hm K (w_add_s h88 (by decide) hK), b1, b2, b3⟩
  have movek : ∀ (l : Int32), (∀ K : DB → Prop, w_tryEnds_317 (nI c) (nI s) (nI o) (t 55 o) (nI v) l t K → w_tryEnds (nI c) t K) → cq (n + 1 + 10) mX0_moves [.inr (1, 0), .inr (21, c), .inr (3, s), .inl l] N (fun r M' => r = none ∧ ∃ u t', (∀ K : DB → Prop, K u → w_tryEnds (nI c) t K) ∧ RUN u t' ∧ QS S X m M' t' ∧ TF t t' (RC ++ EC) ∧ cn t 61 ≤ cn t' 61) := by
    intro l hm
    have hE := hD.newE (s := s) (e := cn t 17) (o := nI o) (k := t 55 o) (l := l) rfl hs slE
    have ht := tEf_TF (t := t) (e := cn t 17) (s := s) (o := nI o) (k := t 55 o) (l := l)
    have hq := (endq (n := n) (by omega) q0 hc h0 hch hE ht (by decide)).1 (nI v) 0 (Or.inl rfl)
    obtain ⟨rb1, rb2⟩ := rom_b hS.1
    have hEx : N.2.2.1 23 (cn t 17) = 0 := hS.E (23, 17) (by decide) _ (Nat.le_refl _)
    have e11 : N.2.1 1 0 11 = (30, 11) := hS.W.1 11 (by decide) (by decide)
    have s11 : N.1 30 11 0 = nI ne := (hS.S (11, 17, 0) (by decide)).trans h17
    have k4 : (nEf N (cn t 17) s (t 2 s + l) (nI o) (t 55 o) l (t 0 0)).2.1 21 c 4 = (20, o) := by rw [(nEf_NF 21 (by decide)).2.1]; exact e4
    have k3 : (nEf N (cn t 17) s (t 2 s + l) (nI o) (t 55 o) l (t 0 0)).1 20 o 3 = nI v := by rw [(nEf_NF 20 (by decide)).1]; exact f3.trans e54
    refine sv_X0_moves (d := n) (Q := fun M' => ∃ u t', (∀ K : DB → Prop, K u → w_tryEnds (nI c) t K) ∧ RUN u t' ∧ QS S X m M' t' ∧ TF t t' (RC ++ EC) ∧ cn t 61 ≤ cn t' 61) (fun N' w => ⟨rfl, w⟩) ⟨rfl, rfl, fun M1 g1 => ⟨rfl, fun e2 ee2 => ?_⟩⟩
    rw [show N.1 (3, s).1 (3, s).2 2 = t 2 s from st2] at g1
    subst g1
    have q2 : e2 = (30, 11) := ee2.trans e11
    subst q2
    refine ⟨⟨by show N.2.2.2.1 + 1 ≤ _; omega, by show N.2.2.2.2 + 5 ≤ _; omega⟩, cn t 17, hEx, fun M4 g4 => ⟨rfl, rfl, fun e5 ee5 => ?_⟩⟩
    subst g4
    have q5 : e5 = (20, o) := by
      rw [ee5]
      show (if 21 = 23 ∧ c = cn t 17 then ((0, 0) : Nat × Nat) else N.2.1 21 c 4) = _
      rw [if_neg (by omega)]
      exact e4
    subst q5
    have z : ∀ k i f, k ≠ 23 → k ≠ 3 → (sN (sI N 3 s 2 (t 2 s + l)) 23 (cn t 17) 0 5).1 k i f = N.1 k i f := fun k i f hk hk2 => by
      show (if k = 23 ∧ i = cn t 17 then (0 : Int32) else (sI N 3 s 2 (t 2 s + l)).1 k i f) = _
      rw [if_neg (fun y => hk y.1), sI_ne (fun y => hk2 y.1)]
    have w1 : (sN (sI N (3, s).1 (3, s).2 2 (t 2 s + l)) 23 (cn t 17) 0 5).1 (21, c).1 (21, c).2 2 = nI s := (z 21 c 2 (by decide) (by decide)).trans g2
    have w2 : (sN (sI N (3, s).1 (3, s).2 2 (t 2 s + l)) 23 (cn t 17) 0 5).1 (1, 0).1 (1, 0).2 0 = t 0 0 := (z 1 0 0 (by decide) (by decide)).trans hS.W.2.1
    rw [w1, w2]
    refine ⟨rfl, by decide, by show ¬ 23 = 0; decide, rfl, fun M1 g1 => ⟨rfl, rfl, fun M2 g2 => ⟨rfl, rfl, fun M3 g3 => ⟨rfl, fun M4 g4 => ⟨rfl, fun M5 g5 => ?_⟩⟩⟩⟩⟩
    subst g1
    have x0 : (sI (sN (sI N (3, s).1 (3, s).2 2 (t 2 s + l)) 23 (cn t 17) 0 5) (23, cn t 17).1 (23, cn t 17).2 0 (nI s)).1 (20, o).1 (20, o).2 0 = nI o := (sI_ne (by simp)).trans ((z 20 o 0 (by decide) (by decide)).trans n0)
    rw [x0] at g2
    subst g2
    have x4 : (sI (sI (sN (sI N (3, s).1 (3, s).2 2 (t 2 s + l)) 23 (cn t 17) 0 5) (23, cn t 17).1 (23, cn t 17).2 0 (nI s)) (23, cn t 17).1 (23, cn t 17).2 1 (nI o)).1 (20, o).1 (20, o).2 4 = t 55 o := (sI_ne (by simp)).trans ((sI_ne (by simp)).trans ((z 20 o 4 (by decide) (by decide)).trans f4))
    rw [x4] at g3
    subst g3; subst g4; subst g5
    refine ⟨⟨by decide, by decide⟩, rfl, ?_, ⟨by show N.2.2.2.1 + 1 + 1 ≤ _; omega, by show N.2.2.2.2 + 5 + 10 ≤ _; omega⟩, fun M8 g8 => ⟨rfl, fun e9 ee9 => ?_⟩⟩
    · rw [sI_ne (by simp), sI_ne (by simp), sI_ne (by simp), sI_ne (by simp), sI_ne (by simp)]
      show (sN (sI N 3 s 2 (t 2 s + l)) 23 (cn t 17) 0 5).1 30 11 0 < 10000
      rw [z 30 11 0 (by decide) (by decide), s11]
      exact nI_lt (b := 10000) (by omega) (by decide)
    have g8' : M8 = nEf N (cn t 17) s (t 2 s + l) (nI o) (t 55 o) l (t 0 0) := g8
    subst g8'
    have q9 : e9 = (20, o) := ee9.trans k4
    subst q9
    refine ⟨rfl, rfl, ?_⟩
    show cq (n + 10) mX0_good [.inr (1, 0), .inr (21, c), .inl ((nEf N (cn t 17) s (t 2 s + l) (nI o) (t 55 o) l (t 0 0)).1 20 o 3), .inl 0] _ _
    rw [k3]
    refine hq.mono ?_
    rintro r N' ⟨hr, t', b1, b2, b3⟩
    refine ⟨hr, _, t', fun K hK => hm K ?_, b1, b2, b3⟩
    -- the reference writes the effect down
    have ve : vp_in (nI ne) 4400 := vp_in_nI (by omega) (by decide)
    have ce : (nI ne).toNatClampNeg = ne := nI_clamp (by omega)
    unfold w_tryEnds_317
    rw [cs]
    refine ⟨vs, vs, fun t1 d1 => ?_⟩
    have y1 : t1 17 0 = nI ne := by rw [d1, up_f (by decide)]; exact h17
    have b0 : blk (up t 2 s (t 2 s + l)) ne (eV (nI s) (nI o) (t 55 o) l (t 0 0)) 18 18 = t1 := blk_0.trans d1.symm
    rw [y1, ce]
    refine ⟨ve, fun t2 d2 => ?_⟩
    have x2 : t2 = blk (up t 2 s (t 2 s + l)) ne (eV (nI s) (nI o) (t 55 o) l (t 0 0)) 18 19 := by rw [d2, ← b0]; exact blk_s (by decide) rfl
    have y2 : t2 17 0 = nI ne := by rw [d2, up_f (by decide)]; exact y1
    rw [y2, ce]
    refine ⟨ve, fun t3 d3 => ?_⟩
    have x3 : t3 = blk (up t 2 s (t 2 s + l)) ne (eV (nI s) (nI o) (t 55 o) l (t 0 0)) 18 20 := by rw [d3, x2]; exact blk_s (by decide) rfl
    have y3 : t3 17 0 = nI ne := by rw [d3, up_f (by decide)]; exact y2
    rw [y3, ce]
    refine ⟨ve, fun t4 d4 => ?_⟩
    have x4' : t4 = blk (up t 2 s (t 2 s + l)) ne (eV (nI s) (nI o) (t 55 o) l (t 0 0)) 18 21 := by rw [d4, x3]; exact blk_s (by decide) rfl
    have y4 : t4 17 0 = nI ne := by rw [d4, up_f (by decide)]; exact y3
    rw [y4, ce]
    refine ⟨ve, fun t5 d5 => ?_⟩
    have x5 : t5 = blk (up t 2 s (t 2 s + l)) ne (eV (nI s) (nI o) (t 55 o) l (t 0 0)) 18 22 := by rw [d5, x4']; exact blk_s (by decide) rfl
    have y5 : t5 17 0 = nI ne := by rw [d5, up_f (by decide)]; exact y4
    rw [y5, ce]
    refine ⟨ve, fun t6 d6 t7 d7 => ?_⟩
    have z5 : t5 0 0 = t 0 0 := by
      rw [x5]
      show (if 18 ≤ 0 ∧ 0 < 22 ∧ 0 = ne then _ else up t 2 s (t 2 s + l) 0 0) = _
      rw [if_neg (by omega), up_f (by decide)]
    have x6 : t6 = blk (up t 2 s (t 2 s + l)) ne (eV (nI s) (nI o) (t 55 o) l (t 0 0)) 18 23 := by rw [d6, z5, x5]; exact blk_s (by decide) rfl
    have y6 : t6 17 0 = nI ne := by rw [d6, up_f (by decide)]; exact y5
    have x7 : t7 = tEf t (cn t 17) s (nI o) (t 55 o) l := by
      rw [d7, y6, nI_1, x6, ene]
      rfl
    subst x7
    exact w_add_s (by rw [ht 88 (by decide)]; exact h88) (by decide) hK
  -- what follows the faults
  have after : (∀ i, i < nf → ¬ FC t s o i) → v_X0_ends_23 (n + 1) 1 (1, 0) (21, c) (20, o) (3, s) (nI nf) N (fun M' => ∃ u t', (∀ K : DB → Prop, K u → w_tryEnds (nI c) t K) ∧ RUN u t' ∧ QS S X m M' t' ∧ TF t t' (RC ++ EC) ∧ cn t 61 ≤ cn t' 61) := by
    intro nof
    have m25 : ∀ K : DB → Prop, (t 53 o = 0 → w_add 1 (nI c) 1 (t 2 s) 0 t K) → (¬ t 53 o = 0 → ∃ b, w_tryEnds_147 b (nI c) (nI s) (nI o) (t 53 o) (t 55 o) 0 t K) → w_tryEnds (nI c) t K := fun K k1 k2 => mdl nf K (Nat.le_refl _) nof ⟨1, by
      refine ⟨fun _ => ⟨fun y => ⟨vo, fun x1 g1 => ?_⟩, fun y => ⟨vs, ?_⟩⟩, fun y => ?_⟩
      · rw [co] at g1
        subst g1
        exact k2 y
      · rw [cs]; exact k1 y
      · exact absurd (by rw [h5]; exact nI_le (Nat.le_refl _) (by omega)) y⟩
    have sz : N.1 (30, 3).1 (30, 3).2 0 = nI nf := (hS.S (3, 5, 0) (by decide)).trans h5
    refine ⟨rfl, fun e1 ee1 => ?_⟩
    have q1 : e1 = (30, 3) := ee1.trans (hS.W.1 3 (by decide) (by decide))
    subst q1
    refine ⟨⟨by decide, by decide⟩, fun _ => ⟨rfl, fun y => ⟨rfl, rfl, rfl, ?_⟩, fun y => ?_⟩, fun y => ?_⟩
    rotate_left
    · have y0 : t 53 o = 0 := f2.symm.trans y
      refine ⟨rfl, fun w => absurd y w, fun _ => ⟨rfl, rfl, ?_⟩⟩
      show cq (n + 1 + 10) mX0_good [.inr (1, 0), .inr (21, c), .inl (N.1 3 s 2), .inl 0] N _
      rw [st2]
      exact goodk (t 2 s) (fun K hK => m25 K (fun _ => hK) (fun w => absurd y0 w))
    · exact absurd (by rw [sz]; exact nI_le (Nat.le_refl _) (by omega)) y
    have y0 : ¬ t 53 o = 0 := fun w => y (f2.trans w)
    have n20 : ¬ N.1 (20, o).1 (20, o).2 2 = 0 := y
    show v_X0_keyed (1, 0) (N.1 21 c 2) (N.1 20 o 4) N _
    rw [g2, f4]
    refine v_key hS.1 h17 hne k0 (fun none => ?_) (fun j hj hek hno => ?_)
    · -- no effect under the key
      have m147 : ∀ K : DB → Prop, ((¬ t 53 o = 1 → (t 2 s + nI v ≤ t 3 s → w_tryEnds_303 (nI c) (nI s) (nI o) (t 53 o) (t 55 o) (nI v) t K) ∧ (¬ t 2 s + nI v ≤ t 3 s → w_tryEnds_276 (nI c) (nI s) (t 53 o) t K)) ∧ (t 53 o = 1 → (nI v ≤ t 2 s → w_tryEnds_303 (nI c) (nI s) (nI o) (t 53 o) (t 55 o) (nI v) t K) ∧ (¬ nI v ≤ t 2 s → w_tryEnds_276 (nI c) (nI s) (t 53 o) t K))) → w_tryEnds (nI c) t K := fun K hK => m25 K (fun w => absurd w y0) (fun _ => ⟨1 + ne, w_te147_l h17 hne (Nat.le_refl _) none (by
        refine ⟨fun _ => ⟨vo, fun x1 g1 => ?_⟩, fun y => absurd (by rw [h17]; exact nI_le (Nat.le_refl _) (by omega)) y⟩
        rw [co, e54] at g1
        subst g1
        rw [cs]
        exact ⟨fun w => ⟨vs, vs, hK.1 w⟩, fun w => ⟨vs, hK.2 w⟩⟩) ne 0 (by omega)⟩)
      refine ⟨rfl, fun _ => ⟨fun _ => ⟨rfl, fun w => ?_, fun w => ⟨rfl, rfl, fun w2 => ?_, fun w2 => ⟨rfl, rfl, ?_⟩⟩⟩, fun w => absurd rfl w⟩, fun w => absurd w n20⟩
      · -- filled
        have a1 : ¬ t 53 o = 1 := fun w2 => w (f2.trans w2)
        have a2 : t 53 o = 2 := by
          have : a ≠ 0 := fun e => y0 (by rw [e53, e]; rfl)
          have : a ≠ 1 := fun e => a1 (by rw [e53, e]; rfl)
          rw [e53, show a = 2 from by omega]; rfl
        refine ⟨rfl, fun w2 => absurd (f2.trans a2) w2, fun _ => ⟨rfl, rfl, rfl, fun w3 => ⟨rfl, fun _ => ⟨rfl, rfl, ?_⟩, fun w4 => absurd w4 w⟩, fun w3 => ⟨rfl, rfl, ?_⟩⟩⟩
        · have w3' : t 2 s + nI v ≤ t 3 s := by
            have := w3
            rw [show N.1 (3, s).1 (3, s).2 2 = t 2 s from st2, show N.1 (20, o).1 (20, o).2 3 = nI v from f3.trans e54, show N.1 (3, s).1 (3, s).2 0 = t 3 s from st0] at this
            exact this
          show cq (n + 1 + 10) mX0_moves [.inr (1, 0), .inr (21, c), .inr (3, s), .inl (N.1 20 o 3)] N _
          rw [f3.trans e54]
          exact movek (nI v) (fun K hK => m147 K ⟨fun _ => ⟨fun _ => ⟨fun _ => hK, fun w => absurd w a1⟩, fun w => absurd w3' w⟩, fun w => absurd w a1⟩)
        · have w3' : ¬ t 2 s + nI v ≤ t 3 s := fun u => w3 (by rw [show N.1 (3, s).1 (3, s).2 2 = t 2 s from st2, show N.1 (20, o).1 (20, o).2 3 = nI v from f3.trans e54, show N.1 (3, s).1 (3, s).2 0 = t 3 s from st0]; exact u)
          show v_X0_failed (1, 0) 6 (-1) (N.1 21 c 2) N _
          rw [g2]
          exact failk 6 (by decide) (fun K hK => m147 K ⟨fun _ => ⟨fun w => absurd w w3', fun _ => ⟨fun _ => hK, fun w => absurd w a1⟩⟩, fun w => absurd w a1⟩)
      · -- drawn
        have a1 : t 53 o = 1 := f2.symm.trans w
        have w2' : nI v ≤ t 2 s := by
          have := w2
          rw [show N.1 (20, o).1 (20, o).2 3 = nI v from f3.trans e54, show N.1 (3, s).1 (3, s).2 2 = t 2 s from st2] at this
          exact this
        refine ⟨rfl, fun _ => ⟨rfl, fun w3 => absurd w w3, fun _ => ⟨rfl, rfl, ?_⟩⟩, fun w3 => absurd (f2.symm.trans w3) (by rw [a1]; decide)⟩
        show cq (n + 1 + 10) mX0_moves [.inr (1, 0), .inr (21, c), .inr (3, s), .inl (-(N.1 20 o 3))] N _
        rw [f3.trans e54]
        exact movek (-(nI v)) (fun K hK => m147 K ⟨fun w => absurd a1 w, fun _ => ⟨fun _ => ⟨fun w => absurd a1 w, fun _ => hK⟩, fun w => absurd w2' w⟩⟩)
      · have a1 : t 53 o = 1 := f2.symm.trans w
        have w2' : ¬ nI v ≤ t 2 s := fun u => w2 (by rw [show N.1 (20, o).1 (20, o).2 3 = nI v from f3.trans e54, show N.1 (3, s).1 (3, s).2 2 = t 2 s from st2]; exact u)
        show v_X0_failed (1, 0) 5 (-1) (N.1 21 c 2) N _
        rw [g2]
        exact failk 5 (by decide) (fun K hK => m147 K ⟨fun w => absurd a1 w, fun _ => ⟨fun w => absurd w w2', fun _ => ⟨fun w => absurd a1 w, fun _ => hK⟩⟩⟩)
    · -- an effect under the key
      have hjc : j < cn t 17 := by omega
      have h21 : N.1 23 j 3 = t 21 j := hS.I (23, 3, 21, 17) (by decide) j hjc
      refine ⟨rfl, fun _ => ⟨fun w => absurd (congrArg Prod.fst w) (by show ¬ 23 = 0; decide), fun _ => ⟨rfl, rfl, ?_⟩⟩, fun w => absurd w n20⟩
      show cq (n + 1 + 10) mX0_good [.inr (1, 0), .inr (21, c), .inl (if 0 ≤ N.1 23 j 3 then N.1 23 j 3 else 0 - N.1 23 j 3), .inl 0] N _
      rw [h21]
      refine goodk _ (fun K hK => m25 K (fun w => absurd w y0) (fun _ => ⟨1 + j, w_te147_l h17 hne (Nat.le_of_lt hj) hno (w_te147_s (a := 0) h17 hne hj (fun w => absurd hek w) (fun _ => ⟨fun w => ?_, fun w => ?_⟩)) j 0 (by omega)⟩))
      · rw [if_pos w] at hK; exact hK
      · rw [if_neg w, Int32.zero_sub] at hK; exact hK
  -- all together
  refine sv_X0_ends (d := n + 1) (Q := fun M' => ∃ u t', (∀ K : DB → Prop, K u → w_tryEnds (nI c) t K) ∧ RUN u t' ∧ QS S X m M' t' ∧ TF t t' (RC ++ EC) ∧ cn t 61 ≤ cn t' 61) (fun N' w => ⟨rfl, w⟩) ⟨rfl, fun e1 ee1 => ?_⟩
  have q1 : e1 = (20, o) := ee1.trans e4
  subst q1
  refine ⟨rfl, fun e2 ee2 => ?_⟩
  have q2 : e2 = (30, 2) := ee2.trans (hS.W.1 2 (by decide) (by decide))
  subst q2
  have sz1 : N.1 (30, 2).1 (30, 2).2 0 = nI (cn t 1) := (hS.S (2, 1, 0) (by decide)).trans hS.iB.1.1
  have g2' : N.1 (21, c).1 (21, c).2 2 = nI s := g2
  rw [g2', cs]
  refine ⟨rfl, ⟨by decide, by decide⟩, ⟨nI_pos (by omega), by rw [sz1]; exact nI_lt hs (by omega)⟩, fun e3 ee3 => ?_⟩
  have q3 : e3 = (3, s) := ee3.trans (hS.K (2, 3, 1) (by decide) s hs)
  subst q3
  refine ⟨rfl, ?_⟩
  by_cases ex : ∃ j, j < nf ∧ FC t s o j
  · -- the first fault that fits
    obtain ⟨j, hj, hfc, hno⟩ : ∃ j, j < nf ∧ FC t s o j ∧ ∀ i, i < j → ¬ FC t s o i := by
      obtain ⟨j0, h1, h2⟩ := ex
      have key : ∀ b, ∀ j, j ≤ b → j < nf → FC t s o j → ∃ j, j < nf ∧ FC t s o j ∧ ∀ i, i < j → ¬ FC t s o i := by
        intro b
        induction b with
        | zero => intro j h3 h4 h5'; exact ⟨j, h4, h5', fun i hi => by omega⟩
        | succ b ih =>
          intro j h3 h4 h5'
          by_cases y : ∃ i, i < j ∧ FC t s o i
          · obtain ⟨i, i1, i2⟩ := y
            exact ih i (by omega) (by omega) i2
          · exact ⟨j, h4, h5', fun i hi w => y ⟨i, hi, w⟩⟩
      exact key j0 j0 (Nat.le_refl _) h1 h2
    obtain ⟨kd, hkd, ekd⟩ := hS.iY.1 j (by show j < (t 5 0).toNatClampNeg; rw [h5, nI_clamp (by omega)]; exact hj)
    refine ⟨1 + j, v_te23_l hS.1 h5 hnf g2 f2 (Nat.le_of_lt hj) hno (v_te23_s (a := 0) hS.1 h5 hnf hj g2 f2 (fun w => absurd hfc w) (fun _ => ?_)) j 0 (by omega)⟩
    rw [ekd]
    refine failk kd hkd (fun K hK => mdl j K (Nat.le_of_lt hj) hno ⟨1, w_te25_s (a := 0) h5 hnf hj (fun w => absurd hfc w) (fun _ => ?_)⟩)
    rw [ekd]
    exact hK
  · have nof : ∀ i, i < nf → ¬ FC t s o i := fun i hi w => ex ⟨i, hi, w⟩
    exact ⟨1 + nf, v_te23_l hS.1 h5 hnf g2 f2 (Nat.le_refl _) nof (after nof) nf 0 (by omega)⟩
