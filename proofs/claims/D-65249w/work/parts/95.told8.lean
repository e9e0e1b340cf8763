set_option maxRecDepth 100000
/-! a join is told: its leader ends, then those that joined -/
theorem w_fj_sk {t : DB} {k j n a : Nat} {K : DB → Prop} (h61 : t 61 0 = nI n) (hn : n ≤ 4020) (hj : j ≤ n) (hK : w_freeJoined_4 a (nI k) (nI j) t K) : ∀ (r y : Nat), y + r = j → (∀ i, y ≤ i → i < j → ¬ (t 74 i = nI k ∧ t 69 i = 0)) → w_freeJoined_4 (a + r) (nI k) (nI y) t K := by
  intro r
  induction r with
  | zero =>
    intro y hy _
    have : y = j := by omega
    subst this
    exact hK
  | succ r ih =>
    intro y hy hno
    have nxt := ih (y + 1) (by omega) (fun i h1 h2 => hno i (by omega) h2)
    have vy : vp_in (nI y) 4400 := vp_in_nI (by omega) (by decide)
    have cy : (nI y).toNatClampNeg = y := nI_clamp (by omega)
    have hy2 := hno y (Nat.le_refl _) (by omega)
    show w_freeJoined_4 (a + r + 1) (nI k) (nI y) t K
    refine ⟨fun w => ?_, fun _ => ⟨vy, fun w x1 g1 => ?_, fun w => ⟨vy, fun w2 => ?_, fun w2 x6 g6 => ?_⟩⟩⟩
    · rw [h61] at w; exact absurd w (nI_ge (by omega) (by omega))
    · rw [nI_1] at g1; subst g1; exact nxt
    · rw [cy] at w w2; exact absurd ⟨w, w2⟩ hy2
    · rw [nI_1] at g6; subst g6; exact nxt
theorem w_fj_end {t : DB} {k n : Nat} {K : DB → Prop} (h61 : t 61 0 = nI n) (hn : n ≤ 4020) (hK : K t) {y : Nat} (hy2 : y ≤ 5000) (hno : ∀ i, y ≤ i → i < n → ¬ (t 74 i = nI k ∧ t 69 i = 0)) : ∃ a, w_freeJoined_4 a (nI k) (nI y) t K := by
  have fin : ∀ j, n ≤ j → j ≤ 5000 → w_freeJoined_4 1 (nI k) (nI j) t K := fun j h1 h2 => ⟨fun _ => hK, fun w => absurd (by rw [h61]; exact nI_le h1 (by omega)) w⟩
  by_cases q : n ≤ y
  · exact ⟨1, fin y q hy2⟩
  · exact ⟨_, w_fj_sk h61 hn (Nat.le_refl _) (fin n (Nat.le_refl _) (by omega)) (n - y) y (by omega) hno⟩
theorem w_fj_hit {X : Mem} {m z : Nat} {P : List Nat} {x : Nat} {N : Mem} {t : DB} (hS : SZ X m z P x N t) {k j n h : Nat} {K : DB → Prop} (h61 : t 61 0 = nI n) (hcn : cn t 61 = n) (hn : n ≤ 4020) (hj : j < n) (hk : k < n) (h88 : t 88 0 = nI h) (hh : h + 1 < 20000) (h74 : t 74 j = nI k) (h69 : t 69 j = 0) (hK : K (psh (psh t h 3 (nI k) (nI j) 0 0) (h + 1) 1 (nI j) (t 69 k) (t 70 k) (t 71 k))) {y : Nat} (hyj : y ≤ j) (hno : ∀ i, y ≤ i → i < j → ¬ (t 74 i = nI k ∧ t 69 i = 0)) : ∃ a, w_freeJoined_4 a (nI k) (nI y) t K := by
  have vj : vp_in (nI j) 4400 := vp_in_nI (by omega) (by decide)
  have cj : (nI j).toNatClampNeg = j := nI_clamp (by omega)
  refine ⟨_, w_fj_sk h61 hn (Nat.le_of_lt hj) (a := 1) ?_ (j - y) y (by omega) hno⟩
  refine ⟨fun w => ?_, fun _ => ⟨vj, fun w => ?_, fun _ => ⟨vj, fun _ => ?_, fun w => ?_⟩⟩⟩
  · rw [h61] at w; exact absurd w (nI_ge hj (by omega))
  · rw [cj] at w; exact absurd h74 w
  · have hS2 : SZ X m z P x N (psh t h 3 (nI k) (nI j) 0 0) := hS.tt (psh_TF.mono (by decide))
    refine w_add_s h88 (by omega) (w_al hS2 (c := k) (by rw [cn_fr (psh_TF 61 (by decide)), hcn]; exact hk) psh_88 hh ?_)
    rw [psh_f (by decide), psh_f (by decide), psh_f (by decide)]
    exact hK
  · rw [cj] at w; exact absurd h69 w
theorem free_l {n : Nat} (hE : CE 0 5 n) {X : Mem} {m z : Nat} {P : List Nat} {T0 u : DB} {h k c g : Nat} {va vb vc : Int32} {S : Int32 → Prop} {Q : Mem → Prop} (hh : h + 1 ≤ 10000 ∧ 60 ≤ z) (hk : k < cn T0 61) (h65 : T0 65 k = nI g) (hg : g < cn T0 30) (h31 : T0 31 g = 8) (hLf : LFr T0 k) (hSS : ∀ j, j < cn T0 61 → T0 69 j = 0 → T0 74 j = nI k → S (T0 62 j))
    (hcT : c < cn T0 61) (hva : va = 1 ∨ va = 2) (dk : DN T0 k va vb vc) (dc : DN T0 c va vb vc) (hQ : ∀ N t, SS X m z P 100000 N t → AC T0 u h S t → t 88 0 = nI h → Q N) :
    ∀ (r j : Nat), j + r = 4021 → ∀ (N : Mem) (t : DB) (y : Nat), SS X m z P 100000 N t → AC T0 u h S t → t 88 0 = nI (h + 1) → t 83 h = 3 → t 84 h = nI k → t 85 h + 1 = nI y → y ≤ j → (∀ i, y ≤ i → i < j → ¬ (t 74 i = nI k ∧ t 69 i = 0)) → v_X13_told_14 (n + 1) (r + 1) (18, g) (21, k) (21, c) (nI j) N Q := by
  have hva0 : va ≠ 0 := by rcases hva with q | q <;> rw [q] <;> decide
  intro r
  induction r with
  | zero =>
    intro j hj N t y hS hA h88 h83 h84 h85 hyj hno
    have hn := hS.1.nC
    have b61 := hS.iB.2.2.2.2.2.2.1.1
    obtain ⟨A1, A2, A3, A4, A5⟩ := hA
    have e30 : cn t 30 = cn T0 30 := A2.1.cn (by decide)
    have e31 : t 31 = T0 31 := A2.1 31 (by decide)
    obtain ⟨s', a1, a2, -, a4, -, -, -, -, -, a10, a11⟩ := hS.G g (by rw [e30]; exact hg)
    have es : s' = 8 := (nI_eq (by omega) (by omega)).mp (a2.symm.trans (by rw [e31, h31]; rfl))
    subst es
    refine ⟨rfl, fun e1 ee1 => ?_⟩
    have q1 : e1 = (1, 0) := ee1.trans a11
    subst q1
    refine ⟨rfl, fun e2 ee2 => ?_⟩
    have q2 : e2 = (30, 9) := ee2.trans (hS.W.1 9 (by decide) (by decide))
    subst q2
    have sz : N.1 (30, 9).1 (30, 9).2 0 = nI (cn t 61) := (hS.S (9, 61, 0) (by decide)).trans b61
    refine ⟨⟨by decide, by decide⟩, fun _ => ?_, fun w => ?_⟩
    · refine hQ N (pop t h) hS.pop ⟨A1.tr (run_st h88 (by omega) (fun K hK => Or.inr (Or.inr (Or.inr (Or.inl ⟨h83, ?_⟩))))), A2.tr MO.pop, fun f h1 h2 i hi => ?_, fun i hi hs => ?_, A5.tr WA.pop⟩ up_s
      · rw [h84]
        intro x1 g1
        rw [h85] at g1
        subst g1
        exact w_fj_end (n := cn t 61) ((up_f (by decide)).trans b61) hn hK (by omega) (fun i h1 h2 => by
          show ¬ (t 74 i = nI k ∧ t 69 i = 0)
          exact hno i h1 (by omega))
      · exact (up_f (by omega)).trans (A3 f h1 h2 i hi)
      · exact (up_f (by decide)).trans (A4 i hi hs)
    · rw [sz] at w
      exact absurd (nI_le (by omega) (by omega)) w
  | succ r ih =>
    intro j hj N t y hS hA h88 h83 h84 h85 hyj hno
    have hn := hS.1.nC
    have b61 := hS.iB.2.2.2.2.2.2.1.1
    have h24 : cn t 30 ≤ 24 := hS.iB.2.2.2.1.2
    have hA' := hA
    obtain ⟨A1, A2, A3, A4, A5⟩ := hA
    have e30 : cn t 30 = cn T0 30 := A2.1.cn (by decide)
    have e31 : t 31 = T0 31 := A2.1 31 (by decide)
    have hk61 : k < cn t 61 := Nat.lt_of_lt_of_le hk A2.2.1
    obtain ⟨s', a1, a2, -, a4, -, -, -, -, -, a10, a11⟩ := hS.G g (by rw [e30]; exact hg)
    have es : s' = 8 := (nI_eq (by omega) (by omega)).mp (a2.symm.trans (by rw [e31, h31]; rfl))
    subst es
    refine ⟨rfl, fun e1 ee1 => ?_⟩
    have q1 : e1 = (1, 0) := ee1.trans a11
    subst q1
    refine ⟨rfl, fun e2 ee2 => ?_⟩
    have q2 : e2 = (30, 9) := ee2.trans (hS.W.1 9 (by decide) (by decide))
    subst q2
    have sz : N.1 (30, 9).1 (30, 9).2 0 = nI (cn t 61) := (hS.S (9, 61, 0) (by decide)).trans b61
    refine ⟨⟨by decide, by decide⟩, fun w => ?_, fun w => ?_⟩
    · rw [sz] at w
      have hcj : cn t 61 ≤ j := (nI_leI (by omega) (by omega)).mp w
      refine hQ N (pop t h) hS.pop ⟨A1.tr (run_st h88 (by omega) (fun K hK => Or.inr (Or.inr (Or.inr (Or.inl ⟨h83, ?_⟩))))), A2.tr MO.pop, fun f h1 h2 i hi => ?_, fun i hi hs => ?_, A5.tr WA.pop⟩ up_s
      · rw [h84]
        intro x1 g1
        rw [h85] at g1
        subst g1
        exact w_fj_end (n := cn t 61) ((up_f (by decide)).trans b61) hn hK (by omega) (fun i h1 h2 => by
          show ¬ (t 74 i = nI k ∧ t 69 i = 0)
          exact hno i h1 (by omega))
      · exact (up_f (by omega)).trans (A3 f h1 h2 i hi)
      · exact (up_f (by decide)).trans (A4 i hi hs)
    rw [sz] at w
    have hjn : j < cn t 61 := Nat.lt_of_not_le fun y => w (nI_le y (by omega))
    have cj : (nI j).toNatClampNeg = j := nI_clamp (by omega)
    have inb : ¬ nI j < 0 ∧ nI j < N.1 (30, 9).1 (30, 9).2 0 := ⟨nI_pos (by omega), by rw [sz]; exact nI_lt hjn (by omega)⟩
    have ek : N.2.1 30 9 j = (21, j) := hS.K (9, 21, 61) (by decide) j hjn
    have e8 : N.2.1 21 j 8 = rn 21 (t 74 j) := hS.R (21, 8, 21, 74, 61) (by decide) j hjn
    have e11 : N.1 21 j 11 = t 69 j := hS.I (21, 11, 69, 61) (by decide) j hjn
    have skip : ¬ (t 74 j = nI k ∧ t 69 j = 0) → v_X13_told_14 (n + 1) (r + 1) (18, g) (21, k) (21, c) (nI j + 1) N Q := fun no => by
      rw [nI_1]
      exact ih (j + 1) (by omega) N t y hS hA' h88 h83 h84 h85 (by omega) (fun i h1 h2 => by
        by_cases e : i = j
        · subst e; exact no
        · exact hno i h1 (by omega))
    refine ⟨rfl, fun e3 ee3 => ?_⟩
    have q3 : e3 = (1, 0) := ee3.trans a11
    subst q3
    refine ⟨rfl, fun e4 ee4 => ?_⟩
    have q4 : e4 = (30, 9) := ee4.trans (hS.W.1 9 (by decide) (by decide))
    subst q4
    refine ⟨⟨by decide, by decide⟩, inb, fun e5 ee5 => ?_⟩
    rw [cj] at ee5
    have q5 : e5 = (21, j) := ee5.trans ek
    subst q5
    refine ⟨rfl, rfl, fun e6 ee6 => ?_⟩
    have q6 : e6 = rn 21 (t 74 j) := ee6.trans e8
    refine ⟨fun w x7 g7 => ?_, fun w => ?_⟩
    · subst g7
      refine skip (fun y => w ?_)
      rw [q6, y.1, rn_j (by omega)]
    have h74 : t 74 j = nI k := by
      rw [w] at q6
      by_cases lt : t 74 j < 0
      · rw [rn, if_pos lt] at q6
        exact (ne021 q6.symm).elim
      · rw [rn, if_neg lt] at q6
        obtain ⟨l, hl, el⟩ := nI_of lt
        rw [el, nI_clamp hl] at q6
        have : k = l := congrArg Prod.snd q6
        rw [el, this]
    refine ⟨rfl, fun e8' ee8 => ?_⟩
    have q8 : e8' = (1, 0) := ee8.trans a11
    subst q8
    refine ⟨rfl, fun e9 ee9 => ?_⟩
    have q9 : e9 = (30, 9) := ee9.trans (hS.W.1 9 (by decide) (by decide))
    subst q9
    refine ⟨⟨by decide, by decide⟩, inb, fun e10 ee10 => ?_⟩
    rw [cj] at ee10
    have q10 : e10 = (21, j) := ee10.trans ek
    subst q10
    refine ⟨rfl, rfl, rfl, fun y => ⟨fun _ x13 g13 => ?_, fun y => absurd rfl y⟩, fun y => ⟨fun y => absurd y (by decide), fun _ => ⟨rfl, fun e14 ee14 => ?_⟩⟩⟩
    · subst g13
      exact skip (fun v => y (e11.trans v.2))
    have h69 : t 69 j = 0 := e11.symm.trans y
    have q14 : e14 = (1, 0) := ee14.trans a11
    subst q14
    refine ⟨rfl, fun e15 ee15 => ?_⟩
    have q15 : e15 = (1, 0) := ee15.trans a11
    subst q15
    refine ⟨rfl, fun e16 ee16 => ?_⟩
    have q16 : e16 = (30, 9) := ee16.trans (hS.W.1 9 (by decide) (by decide))
    subst q16
    refine ⟨⟨by decide, by decide⟩, inb, fun e17 ee17 => ?_⟩
    rw [cj] at ee17
    have q17 : e17 = (21, j) := ee17.trans ek
    subst q17
    refine ⟨rfl, rfl, ?_⟩
    obtain ⟨j1, j2, j3, j4, j5, g', hg', j6, j7, j8, j9⟩ := hS.1.jn hjn (by omega) h74
    have jo : j < cn T0 61 := Nat.lt_of_not_le fun v => by
      have := (A2.2.2.2.1 j v hjn).2.2
      rw [h74] at this
      exact nI_m1 (by omega) this
    have k65 : t 65 k = T0 65 k := (A2.2.2.1 k hk).1 65 (by decide)
    have hLt := hLf.mo hk A2
    have nl : NL t j := fun l hl v1 v2 v3 => by
      exfalso
      obtain ⟨o, T, hh', d, c1, c2, c3, c4, c5, c6, c7, c8, -, c10⟩ := hS.iC l hl
      obtain ⟨zz, zn⟩ := hS.iZ l hl
      have n65 : t 65 l ≠ -1 := fun v => by
        have := (zn v).2.2.2.2.2.1
        rw [v3] at this
        exact absurd this (by decide)
      rcases c10 with ⟨v, -⟩ | ⟨cd, ce, -⟩
      · exact n65 v
      obtain ⟨hh2, f1, f2, f3, -⟩ := hS.iT T (Or.inl c4)
      have h47 : cn t 47 ≤ 10 := hS.iB.2.2.2.2.1.2
      have eh2 : hh' = hh2 := (nI_eq (by omega) (by omega)).mp (c5.symm.trans f2)
      subst eh2
      obtain ⟨gl, hgl, egl⟩ := f3 d cd
      have l65 : t 65 l = nI gl := ce.trans egl
      have s8 : t 31 gl = 8 := Classical.byContradiction fun v => by
        have := ((zz gl hgl l65).2.2.2.1 v).1
        rw [v3] at this
        exact absurd this (by decide)
      have := (hS.1.sg hl hjn v1 l65 hgl j7 hg' (s8.trans j6.symm)).1
      subst this
      refine hLt l hl v2 v3 (l65.trans j8.symm) (fun o' p ho' hp e1 e2 => ?_)
      exact j9 o' p ho' hp (v1.symm.trans e1) e2
    have eg : g = g' := ((nI_eq (by omega) (by omega)).mp (j8.symm.trans (k65.trans h65))).symm
    subst eg
    have depth : (t 63 j).toNatClampNeg ≤ 5 := by
      obtain ⟨o, T, hh', d, c1, c2, c3, c4, c5, c6, c7, c8, -⟩ := hS.iC j hjn
      rw [c8, nI_clamp (by omega)]; omega
    have jP : j ∉ P := fun v => by
      have := (hS.J j v).2
      rw [h69] at this
      exact absurd this (by decide)
    have hch : ∀ i, i < cn t 61 → t 64 i = nI j → t 69 i ≠ 0 := fun i hi e => absurd j3 (hS.1.inner hjn hi e)
    have dnk : t 69 k = va ∧ t 70 k = vb ∧ t 71 k = vc := by
      have x := (A2.2.2.1 k hk).2.1 (by rw [dk.1]; exact hva0)
      exact ⟨x.1.trans dk.1, x.2.1.trans dk.2.1, x.2.2.trans dk.2.2⟩
    have dnc : t 69 c = va ∧ t 70 c = vb ∧ t 71 c = vc := by
      have x := (A2.2.2.1 c hcT).2.1 (by rw [dc.1]; exact hva0)
      exact ⟨x.1.trans dc.1, x.2.1.trans dc.2.1, x.2.2.trans dc.2.2⟩
    have hct : c < cn t 61 := Nat.lt_of_lt_of_le hcT A2.2.1
    have zf : ∀ f i, f < 83 ∨ 88 < f → psh (pop t h) h 3 (nI k) (nI j) 0 0 f i = t f i := fun f i hf => by
      rw [psh_f hf]
      exact up_f (by omega)
    have hS2 : SS X m z P 100000 N (psh (pop t h) h 3 (nI k) (nI j) 0 0) := hS.pop.psh
    have hr2 : RUN t (psh (psh (pop t h) h 3 (nI k) (nI j) 0 0) (h + 1) 1 (nI j) va vb vc) := run_st h88 (by omega) (fun K hK => Or.inr (Or.inr (Or.inr (Or.inl ⟨h83, by
      rw [h84]
      intro x1 g1
      rw [h85] at g1
      subst g1
      have zk : ∀ f i, f ≠ 88 → pop t h f i = t f i := fun f i hf => up_f hf
      refine w_fj_hit hS.pop.1 (n := cn t 61) ((up_f (by decide)).trans b61) (cn_fr (pop_TF 61 (by decide))) hn hjn hk61 up_s (by omega) ((up_f (by decide)).trans h74) ((up_f (by decide)).trans h69) ?_ hyj (fun i h1 h2 => by
        show ¬ (t 74 i = nI k ∧ t 69 i = 0)
        exact hno i h1 h2)
      rw [zk 69 k (by decide), zk 70 k (by decide), zk 71 k (by decide), dnk.1, dnk.2.1, dnk.2.2]
      exact hK⟩))))
    have hlo2 : ∀ f, 83 ≤ f → f ≤ 87 → ∀ i, i < h → psh (pop t h) h 3 (nI k) (nI j) 0 0 f i = t f i := fun f h1 h2 i hi => by
      rw [psh_lo h1 h2 hi]
      exact up_f (by omega)
    have p83 : psh (pop t h) h 3 (nI k) (nI j) 0 0 83 h = 3 := psh_83
    have p84 : psh (pop t h) h 3 (nI k) (nI j) 0 0 84 h = nI k := psh_84
    have p85 : psh (pop t h) h 3 (nI k) (nI j) 0 0 85 h = nI j := psh_85
    have p88 : psh (pop t h) h 3 (nI k) (nI j) 0 0 88 0 = nI (h + 1) := psh_88
    have hM2 : MO t (psh (pop t h) h 3 (nI k) (nI j) 0 0) := MO.pop.tr MO.psh
    have hW2 : WA t (psh (pop t h) h 3 (nI k) (nI j) 0 0) := WA.pop.tr WA.psh
    generalize psh (pop t h) h 3 (nI k) (nI j) 0 0 = v at *
    have zc : ∀ f, f < 83 ∨ 88 < f → v f = t f := fun f hf => funext fun i => zf f i hf
    have zn : cn v 61 = cn t 61 := cn_fr (zc 61 (by decide))
    have hDy : SZ X m z P j N v := hS2.1.dying (fun y => by rw [zf 75 j (by decide), j4] at y; exact absurd y (by decide))
    have hR := (alike_c hE (h := h + 1) (p := j) (c := c) ⟨hDy, hS2.2⟩ ⟨by omega, hh.2⟩ (by rw [zn]; exact hjn) (by rw [zn]; exact hct) (by rw [zf 69 j (by decide)]; exact h69) jP (by rw [zn, zc 64 (by decide), zc 69 (by decide)]; exact hch) (by rw [zf 63 j (by decide)]; exact depth) (fun _ => by
      unfold NL
      rw [zn, zc 62 (by decide), zc 69 (by decide), zc 78 (by decide)]
      exact nl) p88 (by rw [zf 69 c (by decide), dnc.1]; exact hva)).2
    rw [zf 62 j (by decide), zf 69 c (by decide), zf 70 c (by decide), zf 71 c (by decide), dnc.1, dnc.2.1, dnc.2.2] at hR
    refine hR.mono ?_
    rintro rr N' ⟨hr, t', b1, b2, b3, b4, b5, b6⟩
    refine ⟨hr, fun x19 g19 => ?_⟩
    rw [nI_1] at g19
    subst g19
    have c62 : T0 62 j = t 62 j := ((A2.2.2.1 j jo).1 62 (by decide)).symm
    have c69 : T0 69 j = 0 := Classical.byContradiction fun q => q (((A2.2.2.1 j jo).2.1 q).1.symm.trans h69)
    have c74 : T0 74 j = nI k := ((A2.2.2.1 j jo).1 74 (by decide)).symm.trans h74
    refine ih (j + 1) (by omega) N' t' (j + 1) b3 ⟨(A1.tr hr2).tr b1, A2.tr (hM2.tr b4), fun f h1 h2 i hi => ?_, fun i hi hs => ?_, A5.tr (hW2.tr b6.wa)⟩ b2.1 ?_ ?_ ?_ (Nat.le_refl _) (fun i h1 h2 => absurd h1 (by omega))
    · rw [b2.2 f h1 h2 i (by omega), hlo2 f h1 h2 i hi, A3 f h1 h2 i hi]
    · have hit : i < cn t 61 := Nat.lt_of_lt_of_le hi A2.2.1
      have i62 : t 62 i = T0 62 i := (A2.2.2.1 i hi).1 62 (by decide)
      rw [b5 rfl i (by rw [zn]; exact hit) (fun q => hs ?_), zf 69 i (by decide), A4 i hi hs]
      rw [zf 62 i (by decide), i62, ← c62] at q
      rw [q]
      exact hSS j jo c69 c74
    · rw [b2.2 83 (by decide) (by decide) h (by omega), p83]
    · rw [b2.2 84 (by decide) (by decide) h (by omega), p84]
    · rw [b2.2 85 (by decide) (by decide) h (by omega), p85, nI_1]
theorem told_8 {b dp n : Nat} (hb1 : b ≤ 1) (hE0 : b ≠ 0 → CE 0 5 n) {X : Mem} {m z : Nat} {P : List Nat} {N : Mem} {t : DB} {h p c g : Nat} (q : CTP b dp X m z P N t h p c g 8) : CTG b (n + 2) X m z P N t h p c g 8 := by
  have F := q.F
  have hn := F.hn
  have hg2 := F.hg2
  have hp := F.hp
  have hc := F.hc
  have hg := F.hg
  have h31 : t 31 g = 8 := F.h31
  have hch := q.ch (by decide)
  have hlead : b = 0 → ∀ i, i < cn t 61 → t 62 i = t 62 p → t 69 i = 0 → t 78 i ≠ 1 := q.2.2.2.2.2.2.2.2.2.2.2.2.2.2.2.1
  have p78 : t 78 p = 1 := by
    obtain ⟨zz, -⟩ := F.hS.iZ p hp
    rcases (zz g hg F.h65).2.2.2.2 h31 with ⟨w, -⟩ | ⟨-, w, -⟩
    · exact w
    · exact absurd w (F.hS.inner hp hc F.h64)
  have hb : b ≠ 0 := fun e => hlead e p hp rfl F.h69 p78
  have eb : b = 1 := by omega
  subst eb
  have hE := hE0 (by decide)
  have hh1 : h + 1000 ≤ 10000 := by have := F.hh.1; omega
  have nl : N.2.1 18 g 7 = (1, 0) := F.nl
  have lead1 : ∀ l, l < cn t 61 → t 69 l = 0 → t 78 l = 1 → t 65 l = t 65 p → (∀ o o', o < cn t 50 → o' < cn t 50 → t 62 l = nI o → t 62 p = nI o' → t 52 o = t 52 o' ∧ t 53 o = t 53 o' ∧ t 54 o = t 54 o') → l = p := fun l hl a1 a2 a3 a4 => F.hS.iL l p hl hp a1 F.h69 a2 p78 a3 a4
  have nlp : NL t p := fun l hl u1 u2 u3 => by
    rcases F.hS.grd hl with w | ⟨gl, sl, hgl, w65, wsl, -⟩
    · have := ((F.hS.iZ l hl).2 w).2.2.2.2.2.1
      rw [u3] at this
      exact absurd this (by decide)
    have s8 : t 31 gl = 8 := Classical.byContradiction fun v => by
      have := (((F.hS.iZ l hl).1 gl hgl w65).2.2.2.1 v).1
      rw [u3] at this
      exact absurd this (by decide)
    have eg := (F.hS.sg hl hp u1 w65 hgl F.h65 hg (s8.trans h31.symm)).1
    refine lead1 l hl u2 u3 (by rw [w65, F.h65, eg]) (fun o o' ho ho' e1 e2 => ?_)
    have h50 : cn t 50 ≤ 60 := F.hS.iB.2.2.2.2.2.1.2
    have : o = o' := (nI_eq (by omega) (by omega)).mp (e1.symm.trans (u1.trans e2))
    subst this
    exact ⟨rfl, rfl, rfl⟩
  have depth : (t 63 p).toNatClampNeg ≤ 5 := by
    obtain ⟨o, T, hh', d, c1, c2, c3, c4, c5, c6, c7, c8, -⟩ := F.hS.iC p hp
    rw [c8, nI_clamp (by omega)]; omega
  have br : ∀ K : DB → Prop, K (psh (psh t h 3 (nI p) (-1) 0 0) (h + 1) 1 (nI p) (t 69 c) (t 70 c) (t 71 c)) → w_told (nI p) (nI c) t K := fun K hK =>
    w_told_br (by omega) (by omega) (by omega) F.h65 F.h31 F.hs (fun e => by omega) (fun e => by omega) (fun e => by omega) (fun e => by omega) (fun e => by omega) (fun e => by omega) (fun e => by omega) (fun e => by omega) (fun _ => w_add_s F.h88 (by omega) (w_al (F.hS.tt (psh_TF.mono (by decide))) (c := c) (by rw [cn_fr (psh_TF 61 (by decide))]; exact hc) psh_88 (by omega) (by rw [psh_f (by decide), psh_f (by decide), psh_f (by decide)]; exact hK))) (fun e => by omega)
  have za : ∀ f i, f < 83 ∨ 88 < f → psh t h 3 (nI p) (-1) 0 0 f i = t f i := fun f i hf => psh_f hf
  have aD : SZ X m z P p N (psh t h 3 (nI p) (-1) 0 0) := F.hD.tt (psh_TF.mono (by decide))
  have aP : I_P (psh t h 3 (nI p) (-1) 0 0) := (q.2.1.all hch).fr psh_TF (by decide)
  have aM : MO t (psh t h 3 (nI p) (-1) 0 0) := MO.psh
  have aW : WA t (psh t h 3 (nI p) (-1) 0 0) := WA.psh
  have a88 : psh t h 3 (nI p) (-1) 0 0 88 0 = nI (h + 1) := psh_88
  have a83 : psh t h 3 (nI p) (-1) 0 0 83 h = 3 := psh_83
  have a84 : psh t h 3 (nI p) (-1) 0 0 84 h = nI p := psh_84
  have a85 : psh t h 3 (nI p) (-1) 0 0 85 h = -1 := psh_85
  have alo : ∀ f, 83 ≤ f → f ≤ 87 → ∀ i, i < h → psh t h 3 (nI p) (-1) 0 0 f i = t f i := fun f h1 h2 i hi => psh_lo h1 h2 hi
  generalize psh t h 3 (nI p) (-1) 0 0 = ta at *
  have zc : ∀ f, f < 83 ∨ 88 < f → ta f = t f := fun f hf => funext fun i => za f i hf
  have zn : cn ta 61 = cn t 61 := cn_fr (zc 61 (by decide))
  have hA := (alike_e hE (h := h + 1) (p := p) (c := c) ⟨aD, aP⟩ ⟨by omega, F.hh.2⟩ (by rw [zn]; exact hp) (by rw [zn]; exact hc) (by rw [zc 69 (by decide)]; exact F.h69) F.hpP (by rw [zn, zc 64 (by decide), zc 69 (by decide)]; exact hch) (by rw [zc 63 (by decide)]; exact depth) (fun _ => by
    unfold NL
    rw [zn, zc 62 (by decide), zc 69 (by decide), zc 78 (by decide)]
    exact nlp) a88 (by rw [zc 69 (by decide)]; exact F.hhow)).2
  rw [zc 62 (by decide), zc 69 (by decide), zc 70 (by decide), zc 71 (by decide)] at hA
  show cq (n + 1 + 11) mX13_told [.inr (18, g), .inr (21, p), .inr (21, c)] N _
  refine sv_X13_told (d := n + 1) (Q := TG 1 X m z P t h p c) (fun N' w => ⟨rfl, w⟩) ⟨rfl, fun e1 ee1 => ?_⟩
  have q1 : e1 = (1, 0) := ee1.trans nl
  subst q1
  refine ⟨rfl, hA.mono ?_⟩
  rintro r N' ⟨hr, t1, ⟨r1, r2, r3, r4, -, r6⟩, dn⟩
  have hM : MO t t1 := aM.tr r4
  have hpt : p < cn t1 61 := Nat.lt_of_lt_of_le hp hM.2.1
  have hct : c < cn t1 61 := Nat.lt_of_lt_of_le hc hM.2.1
  have hw0 : t 69 c ≠ 0 := by rcases F.hhow with w | w <;> rw [w] <;> decide
  have dc : DN t1 c (t 69 c) (t 70 c) (t 71 c) := (hM.2.2.1 c hc).2.1 hw0
  have kc : ∀ f ∈ KC, ∀ i, i < cn t 61 → t1 f i = t f i := fun f hf i hi => (hM.2.2.1 i hi).1 f hf
  have hLf : LFr t1 p := fun l hl u1 u2 u3 u4 => by
    by_cases y : l < cn t 61
    · have : l = p := lead1 l y (Classical.byContradiction fun w => w (((hM.2.2.1 l y).2.1 w).1.symm.trans u1)) ((kc 78 (by decide) l y).symm.trans u2) (by rw [← kc 65 (by decide) l y, ← kc 65 (by decide) p hp]; exact u3) (by
        rw [← kc 62 (by decide) l y, ← kc 62 (by decide) p hp, ← hM.1 52 (by decide), ← hM.1 53 (by decide), ← hM.1 54 (by decide), ← hM.1.cn (f := 50) (by decide)]
        exact u4)
      subst this
      rw [dn.1] at u1
      exact hw0 u1
    · have := (hM.2.2.2.1 l (by omega) hl).2.1
      rw [u2] at this
      exact absurd this (by decide)
  refine ⟨hr, rfl, fun x4 g4 => ?_⟩
  have q4 : x4 = nI p := g4.trans (r3.1.N (21, 61) (by decide) p hpt)
  subst q4
  have hno : ∀ i, 0 ≤ i → i < p → ¬ (t1 74 i = nI p ∧ t1 69 i = 0) := fun i _ hik w => by
    have := (r3.1.jn (by omega) (by omega) w.1).1
    omega
  refine ⟨4021 - p + 1, free_l hE (T0 := t1) (u := t1) (h := h) (k := p) (c := c) (g := g) (va := t 69 c) (vb := t 70 c) (vc := t 71 c) (S := fun _ => True) ⟨by omega, F.hh.2⟩ hpt ((kc 65 (by decide) p hp).trans F.h65) (by rw [hM.1.cn (by decide)]; exact hg) (by rw [hM.1 31 (by decide)]; exact h31) hLf (fun _ _ _ _ => trivial) hct F.hhow dn dc (fun N2 t2 w1 w2 w3 => ?_) (4021 - p) p (by omega) N' t1 0 r3 ⟨RUN.rf, MO.rf, fun _ _ _ _ _ => rfl, fun _ _ _ => rfl, WA.rf⟩ r2.1 ?_ ?_ ?_ (Nat.zero_le _) hno⟩
  · obtain ⟨A1, A2, A3, -, A5⟩ := w2
    refine ⟨_, t2, br, r1.tr A1, ⟨w3, fun f h1 h2 i hi => ?_⟩, w1, hM.tr A2, fun y => absurd y (by decide), (r6.pre aW).post A5⟩
    rw [A3 f h1 h2 i hi, r2.2 f h1 h2 i (by omega), alo f h1 h2 i hi]
  · rw [r2.2 83 (by decide) (by decide) h (by omega), a83]
  · rw [r2.2 84 (by decide) (by decide) h (by omega), a84]
  · rw [r2.2 85 (by decide) (by decide) h (by omega), a85]; rfl
