set_option maxRecDepth 100000
/-! a leader was taken back: those that joined it are refused -/
/-- what a run did, from T0 (u: where the pile's run began) -/
def AC (T0 u : DB) (h : Nat) (S : Int32 → Prop) (t : DB) : Prop := RUN u t ∧ MO T0 t ∧ (∀ f, 83 ≤ f → f ≤ 87 → ∀ i, i < h → t f i = T0 f i) ∧ (∀ i, i < cn T0 61 → ¬ S (T0 62 i) → t 69 i = T0 69 i) ∧ WA T0 t
/-- two calls of an order whose guards are of one sort have the same guard -/
theorem SZ.sg {X : Mem} {m z : Nat} {P : List Nat} {x : Nat} {N : Mem} {t : DB} (h : SZ X m z P x N t) {k l g f : Nat} (hk : k < cn t 61) (hl : l < cn t 61) (e62 : t 62 k = t 62 l) (h65 : t 65 k = nI g) (hg : g < cn t 30) (h65' : t 65 l = nI f) (hf : f < cn t 30) (h31 : t 31 g = t 31 f) : g = f ∧ t 63 k = t 63 l := by
  have h24 : cn t 30 ≤ 24 := h.iB.2.2.2.1.2
  have h50 : cn t 50 ≤ 60 := h.iB.2.2.2.2.2.1.2
  have h47 : cn t 47 ≤ 10 := h.iB.2.2.2.2.1.2
  obtain ⟨o, T, hh, d, a1, a2, a3, a4, a5, a6, a7, a8, -, a10⟩ := h.iC k hk
  obtain ⟨o', T', hh', d', b1, b2, b3, b4, b5, b6, b7, b8, -, b10⟩ := h.iC l hl
  have eo : o = o' := (nI_eq (by omega) (by omega)).mp (a2.symm.trans (e62.trans b2))
  subst eo
  have eT : T = T' := (nI_eq (by omega) (by omega)).mp (a3.symm.trans b3)
  subst eT
  have eh : hh = hh' := (nI_eq (by omega) (by omega)).mp (a5.symm.trans b5)
  subst eh
  rcases a10 with ⟨w, -⟩ | ⟨ad, ae, -⟩
  · exact absurd (h65.symm.trans w) (nI_m1 (by omega))
  rcases b10 with ⟨w, -⟩ | ⟨bd, be, -⟩
  · exact absurd (h65'.symm.trans w) (nI_m1 (by omega))
  obtain ⟨hh2, c1, c2, c3, c4⟩ := h.iT T (Or.inl a4)
  have eh2 : hh = hh2 := (nI_eq (by omega) (by omega)).mp (a5.symm.trans c2)
  subst eh2
  by_cases ed : d = d'
  · subst ed
    exact ⟨(nI_eq (by omega) (by omega)).mp (h65.symm.trans (ae.trans (be.symm.trans h65'))), a8.trans b8.symm⟩
  · exact absurd h31 (c4 d d' g f ad bd ed hg hf (ae.symm.trans h65) (be.symm.trans h65'))
/-- what joined a call -/
theorem SZ.jn {X : Mem} {m z : Nat} {P : List Nat} {x : Nat} {N : Mem} {t : DB} (h : SZ X m z P x N t) {i k : Nat} (hi : i < cn t 61) (hk : k < 2 ^ 31) (h74 : t 74 i = nI k) : k < i ∧ t 78 i = 0 ∧ t 73 i = 0 ∧ t 75 i = 0 ∧ t 78 k = 1 ∧ ∃ g, g < cn t 30 ∧ t 31 g = 8 ∧ t 65 i = nI g ∧ t 65 k = nI g ∧ (∀ o p, o < cn t 50 → p < cn t 50 → t 62 i = nI o → t 62 k = nI p → t 52 o = t 52 p ∧ t 53 o = t 53 p ∧ t 54 o = t 54 p) := by
  have hn := h.nC
  obtain ⟨z1, z2⟩ := h.iZ i hi
  have n65 : t 65 i ≠ -1 := fun y => absurd (h74.symm.trans (z2 y).2.1) (nI_m1 hk)
  obtain ⟨o, T, hh, d, a1, a2, a3, a4, a5, a6, a7, a8, -, a10⟩ := h.iC i hi
  rcases a10 with ⟨w, -⟩ | ⟨ad, ae, -⟩
  · exact absurd w n65
  obtain ⟨hh2, c1, c2, c3, -⟩ := h.iT T (Or.inl a4)
  have eh2 : hh = hh2 := (nI_eq (by omega) (by omega)).mp (a5.symm.trans c2)
  subst eh2
  obtain ⟨g, hg, eg⟩ := c3 d ad
  have e65 : t 65 i = nI g := ae.trans eg
  obtain ⟨y0, y1, y4, y8, y8'⟩ := z1 g hg e65
  have s8 : t 31 g = 8 := Classical.byContradiction fun w => absurd (h74.symm.trans (y8 w).2) (nI_m1 hk)
  have y75 := (y1 (by rw [s8]; decide)).1
  rcases y8' s8 with ⟨-, w⟩ | ⟨w1, w2, l, w3, w4, w5, w6, w7⟩
  · exact absurd (h74.symm.trans w) (nI_m1 hk)
  · have ekl : k = l := (nI_eq hk (by omega)).mp (h74.symm.trans w4)
    subst ekl
    exact ⟨w3, w1, w2, y75, w6, g, hg, s8, e65, w5, w7⟩
/-- no leader under way that could stand for k -/
def LFr (t : DB) (k : Nat) : Prop := ∀ l, l < cn t 61 → t 69 l = 0 → t 78 l = 1 → t 65 l = t 65 k → ¬ (∀ o p, o < cn t 50 → p < cn t 50 → t 62 l = nI o → t 62 k = nI p → t 52 o = t 52 p ∧ t 53 o = t 53 p ∧ t 54 o = t 54 p)
theorem LFr.mo {T0 t : DB} {k : Nat} (h : LFr T0 k) (hk : k < cn T0 61) (hM : MO T0 t) : LFr t k := by
  obtain ⟨m1, m2, m3, m4, -⟩ := hM
  intro l hl a1 a2 a3 a4
  by_cases q : l < cn T0 61
  · refine h l q ?_ ?_ ?_ ?_
    · exact Classical.byContradiction fun w => w (((m3 l q).2.1 w).1.symm.trans a1)
    · rw [← (m3 l q).1 78 (by decide)]; exact a2
    · rw [← (m3 l q).1 65 (by decide), ← (m3 k hk).1 65 (by decide)]; exact a3
    · rw [← (m3 l q).1 62 (by decide), ← (m3 k hk).1 62 (by decide), ← m1 52 (by decide), ← m1 53 (by decide), ← m1 54 (by decide), ← m1.cn (f := 50) (by decide)]
      exact a4
  · have := (m4 l (by omega) hl).2.1
    rw [a2] at this
    exact absurd this (by decide)
theorem w_gone_sk {t : DB} {k j n a : Nat} {K : DB → Prop} (h61 : t 61 0 = nI n) (hn : n ≤ 4020) (hj : j ≤ n) (hK : w_gone_4 a (nI k) (nI j) t K) : ∀ (r y : Nat), y + r = j → (∀ i, y ≤ i → i < j → ¬ (t 74 i = nI k ∧ t 69 i = 0)) → w_gone_4 (a + r) (nI k) (nI y) t K := by
  intro r
  induction r with
  | zero =>
    intro y hy _
    have : y = j := by omega
    subst this
    exact hK
  | succ r ih =>
    intro y hy hno
    have nxt := ih (y + 1) (by omega) (fun i h1 h2 => hno i (by omega) h2)
    have vy : vp_in (nI y) 4400 := vp_in_nI (by omega) (by decide)
    have cy : (nI y).toNatClampNeg = y := nI_clamp (by omega)
    have hy2 := hno y (Nat.le_refl _) (by omega)
    show w_gone_4 (a + r + 1) (nI k) (nI y) t K
    refine ⟨fun w => ?_, fun _ => ⟨vy, fun w x1 g1 => ?_, fun w => ⟨vy, fun w2 => ?_, fun w2 x6 g6 => ?_⟩⟩⟩
    · rw [h61] at w; exact absurd w (nI_ge (by omega) (by omega))
    · rw [nI_1] at g1; subst g1; exact nxt
    · rw [cy] at w w2; exact absurd ⟨w, w2⟩ hy2
    · rw [nI_1] at g6; subst g6; exact nxt
theorem w_gone_end {t : DB} {k n : Nat} {K : DB → Prop} (h61 : t 61 0 = nI n) (hn : n ≤ 4020) (hK : K t) {y : Nat} (hy2 : y ≤ 5000) (hno : ∀ i, y ≤ i → i < n → ¬ (t 74 i = nI k ∧ t 69 i = 0)) : ∃ a, w_gone_4 a (nI k) (nI y) t K := by
  have fin : ∀ j, n ≤ j → j ≤ 5000 → w_gone_4 1 (nI k) (nI j) t K := fun j h1 h2 => ⟨fun _ => hK, fun w => absurd (by rw [h61]; exact nI_le h1 (by omega)) w⟩
  by_cases q : n ≤ y
  · exact ⟨1, fin y q hy2⟩
  · exact ⟨_, w_gone_sk h61 hn (Nat.le_refl _) (fin n (Nat.le_refl _) (by omega)) (n - y) y (by omega) hno⟩
theorem w_gone_hit {t : DB} {k j n h : Nat} {K : DB → Prop} (h61 : t 61 0 = nI n) (hn : n ≤ 4020) (hj : j < n) (h88 : t 88 0 = nI h) (hh : h + 1 < 20000) (h74 : t 74 j = nI k) (h69 : t 69 j = 0) (hK : K (psh (psh t h 5 (nI k) (nI j) 0 0) (h + 1) 2 (nI j) 13 0 0)) {y : Nat} (hyj : y ≤ j) (hno : ∀ i, y ≤ i → i < j → ¬ (t 74 i = nI k ∧ t 69 i = 0)) : ∃ a, w_gone_4 a (nI k) (nI y) t K := by
  have vj : vp_in (nI j) 4400 := vp_in_nI (by omega) (by decide)
  have cj : (nI j).toNatClampNeg = j := nI_clamp (by omega)
  refine ⟨_, w_gone_sk h61 hn (Nat.le_of_lt hj) (a := 1) ?_ (j - y) y (by omega) hno⟩
  refine ⟨fun w => ?_, fun _ => ⟨vj, fun w => ?_, fun _ => ⟨vj, fun _ => ?_, fun w => ?_⟩⟩⟩
  · rw [h61] at w; exact absurd w (nI_ge hj (by omega))
  · rw [cj] at w; exact absurd h74 w
  · exact w_add_s h88 (by omega) (w_add_s psh_88 hh hK)
  · rw [cj] at w; exact absurd h69 w
theorem gone_l {n : Nat} (hE : CE 0 5 n) {X : Mem} {m z : Nat} {P : List Nat} {T0 u : DB} {h k g : Nat} {S : Int32 → Prop} {Q : Mem → Prop} (hh : h + 1 ≤ 10000 ∧ 60 ≤ z) (hk : k < cn T0 61) (h65 : T0 65 k = nI g) (hg : g < cn T0 30) (h31 : T0 31 g = 8) (hLf : LFr T0 k) (hSS : ∀ j, j < cn T0 61 → T0 69 j = 0 → T0 74 j = nI k → S (T0 62 j))
    (hQ : ∀ N t, SS X m z P 100000 N t → AC T0 u h S t → t 88 0 = nI h → Q N) :
    ∀ (r j : Nat), j + r = 4021 → ∀ (N : Mem) (t : DB) (y : Nat), SS X m z P 100000 N t → AC T0 u h S t → t 88 0 = nI (h + 1) → t 83 h = 5 → t 84 h = nI k → t 85 h + 1 = nI y → y ≤ j → (∀ i, y ≤ i → i < j → ¬ (t 74 i = nI k ∧ t 69 i = 0)) → v_X13_takenBack_5 (n + 1) (r + 1) (18, g) (21, k) (nI j) N Q := by
  intro r
  induction r with
  | zero =>
    intro j hj N t y hS hA h88 h83 h84 h85 hyj hno
    have hn := hS.1.nC
    have b61 := hS.iB.2.2.2.2.2.2.1.1
    obtain ⟨A1, A2, A3, A4, A5⟩ := hA
    have e30 : cn t 30 = cn T0 30 := A2.1.cn (by decide)
    have e31 : t 31 = T0 31 := A2.1 31 (by decide)
    obtain ⟨s', a1, a2, -, a4, -, -, -, -, -, a10, a11⟩ := hS.G g (by rw [e30]; exact hg)
    have es : s' = 8 := (nI_eq (by omega) (by omega)).mp (a2.symm.trans (by rw [e31, h31]; rfl))
    subst es
    refine ⟨rfl, fun e1 ee1 => ?_⟩
    have q1 : e1 = (1, 0) := ee1.trans a11
    subst q1
    refine ⟨rfl, fun e2 ee2 => ?_⟩
    have q2 : e2 = (30, 9) := ee2.trans (hS.W.1 9 (by decide) (by decide))
    subst q2
    have sz : N.1 (30, 9).1 (30, 9).2 0 = nI (cn t 61) := (hS.S (9, 61, 0) (by decide)).trans b61
    refine ⟨⟨by decide, by decide⟩, fun _ => ?_, fun w => ?_⟩
    · refine hQ N (pop t h) hS.pop ⟨A1.tr (run_st h88 (by omega) (fun K hK => Or.inr (Or.inr (Or.inr (Or.inr (Or.inr ⟨h83, ?_⟩)))))), A2.tr MO.pop, fun f h1 h2 i hi => ?_, fun i hi hs => ?_, A5.tr WA.pop⟩ up_s
      · rw [h84]
        intro x1 g1
        rw [h85] at g1
        subst g1
        exact w_gone_end (n := cn t 61) ((up_f (by decide)).trans b61) hn hK (by omega) (fun i h1 h2 => by
          show ¬ (t 74 i = nI k ∧ t 69 i = 0)
          exact hno i h1 (by omega))
      · exact (up_f (by omega)).trans (A3 f h1 h2 i hi)
      · exact (up_f (by decide)).trans (A4 i hi hs)
    · rw [sz] at w
      exact absurd (nI_le (by omega) (by omega)) w
  | succ r ih =>
    intro j hj N t y hS hA h88 h83 h84 h85 hyj hno
    have hn := hS.1.nC
    have b61 := hS.iB.2.2.2.2.2.2.1.1
    have h24 : cn t 30 ≤ 24 := hS.iB.2.2.2.1.2
    have hA' := hA
    obtain ⟨A1, A2, A3, A4, A5⟩ := hA
    have e30 : cn t 30 = cn T0 30 := A2.1.cn (by decide)
    have e31 : t 31 = T0 31 := A2.1 31 (by decide)
    have hk61 : k < cn t 61 := Nat.lt_of_lt_of_le hk A2.2.1
    obtain ⟨s', a1, a2, -, a4, -, -, -, -, -, a10, a11⟩ := hS.G g (by rw [e30]; exact hg)
    have es : s' = 8 := (nI_eq (by omega) (by omega)).mp (a2.symm.trans (by rw [e31, h31]; rfl))
    subst es
    refine ⟨rfl, fun e1 ee1 => ?_⟩
    have q1 : e1 = (1, 0) := ee1.trans a11
    subst q1
    refine ⟨rfl, fun e2 ee2 => ?_⟩
    have q2 : e2 = (30, 9) := ee2.trans (hS.W.1 9 (by decide) (by decide))
    subst q2
    have sz : N.1 (30, 9).1 (30, 9).2 0 = nI (cn t 61) := (hS.S (9, 61, 0) (by decide)).trans b61
    refine ⟨⟨by decide, by decide⟩, fun w => ?_, fun w => ?_⟩
    · rw [sz] at w
      have hcj : cn t 61 ≤ j := (nI_leI (by omega) (by omega)).mp w
      refine hQ N (pop t h) hS.pop ⟨A1.tr (run_st h88 (by omega) (fun K hK => Or.inr (Or.inr (Or.inr (Or.inr (Or.inr ⟨h83, ?_⟩)))))), A2.tr MO.pop, fun f h1 h2 i hi => ?_, fun i hi hs => ?_, A5.tr WA.pop⟩ up_s
      · rw [h84]
        intro x1 g1
        rw [h85] at g1
        subst g1
        exact w_gone_end (n := cn t 61) ((up_f (by decide)).trans b61) hn hK (by omega) (fun i h1 h2 => by
          show ¬ (t 74 i = nI k ∧ t 69 i = 0)
          exact hno i h1 (by omega))
      · exact (up_f (by omega)).trans (A3 f h1 h2 i hi)
      · exact (up_f (by decide)).trans (A4 i hi hs)
    rw [sz] at w
    have hjn : j < cn t 61 := Nat.lt_of_not_le fun y => w (nI_le y (by omega))
    have cj : (nI j).toNatClampNeg = j := nI_clamp (by omega)
    have inb : ¬ nI j < 0 ∧ nI j < N.1 (30, 9).1 (30, 9).2 0 := ⟨nI_pos (by omega), by rw [sz]; exact nI_lt hjn (by omega)⟩
    have ek : N.2.1 30 9 j = (21, j) := hS.K (9, 21, 61) (by decide) j hjn
    have e8 : N.2.1 21 j 8 = rn 21 (t 74 j) := hS.R (21, 8, 21, 74, 61) (by decide) j hjn
    have e11 : N.1 21 j 11 = t 69 j := hS.I (21, 11, 69, 61) (by decide) j hjn
    have skip : ¬ (t 74 j = nI k ∧ t 69 j = 0) → v_X13_takenBack_5 (n + 1) (r + 1) (18, g) (21, k) (nI j + 1) N Q := fun no => by
      rw [nI_1]
      exact ih (j + 1) (by omega) N t y hS hA' h88 h83 h84 h85 (by omega) (fun i h1 h2 => by
        by_cases e : i = j
        · subst e; exact no
        · exact hno i h1 (by omega))
    refine ⟨rfl, fun e3 ee3 => ?_⟩
    have q3 : e3 = (1, 0) := ee3.trans a11
    subst q3
    refine ⟨rfl, fun e4 ee4 => ?_⟩
    have q4 : e4 = (30, 9) := ee4.trans (hS.W.1 9 (by decide) (by decide))
    subst q4
    refine ⟨⟨by decide, by decide⟩, inb, fun e5 ee5 => ?_⟩
    rw [cj] at ee5
    have q5 : e5 = (21, j) := ee5.trans ek
    subst q5
    refine ⟨rfl, rfl, fun e6 ee6 => ?_⟩
    have q6 : e6 = rn 21 (t 74 j) := ee6.trans e8
    refine ⟨fun w x7 g7 => ?_, fun w => ?_⟩
    · subst g7
      refine skip (fun y => w ?_)
      rw [q6, y.1, rn_j (by omega)]
    have h74 : t 74 j = nI k := by
      rw [w] at q6
      by_cases lt : t 74 j < 0
      · rw [rn, if_pos lt] at q6
        exact (ne021 q6.symm).elim
      · rw [rn, if_neg lt] at q6
        obtain ⟨l, hl, el⟩ := nI_of lt
        rw [el, nI_clamp hl] at q6
        have : k = l := congrArg Prod.snd q6
        rw [el, this]
    refine ⟨rfl, fun e8' ee8 => ?_⟩
    have q8 : e8' = (1, 0) := ee8.trans a11
    subst q8
    refine ⟨rfl, fun e9 ee9 => ?_⟩
    have q9 : e9 = (30, 9) := ee9.trans (hS.W.1 9 (by decide) (by decide))
    subst q9
    refine ⟨⟨by decide, by decide⟩, inb, fun e10 ee10 => ?_⟩
    rw [cj] at ee10
    have q10 : e10 = (21, j) := ee10.trans ek
    subst q10
    refine ⟨rfl, rfl, rfl, fun y => ⟨fun _ x13 g13 => ?_, fun y => absurd rfl y⟩, fun y => ⟨fun y => absurd y (by decide), fun _ => ⟨rfl, fun e14 ee14 => ?_⟩⟩⟩
    · subst g13
      exact skip (fun v => y (e11.trans v.2))
    have h69 : t 69 j = 0 := e11.symm.trans y
    have q14 : e14 = (1, 0) := ee14.trans a11
    subst q14
    refine ⟨rfl, fun e15 ee15 => ?_⟩
    have q15 : e15 = (30, 9) := ee15.trans (hS.W.1 9 (by decide) (by decide))
    subst q15
    refine ⟨⟨by decide, by decide⟩, inb, fun e16 ee16 => ?_⟩
    rw [cj] at ee16
    have q16 : e16 = (21, j) := ee16.trans ek
    subst q16
    refine ⟨rfl, rfl, ?_⟩
    obtain ⟨j1, j2, j3, j4, j5, g', hg', j6, j7, j8, j9⟩ := hS.1.jn hjn (by omega) h74
    have jo : j < cn T0 61 := Nat.lt_of_not_le fun v => by
      have := (A2.2.2.2.1 j v hjn).2.2
      rw [h74] at this
      exact nI_m1 (by omega) this
    have k65 : t 65 k = T0 65 k := (A2.2.2.1 k hk).1 65 (by decide)
    have hLt := hLf.mo hk A2
    have nl : NL t j := fun l hl v1 v2 v3 => by
      exfalso
      obtain ⟨o, T, hh', d, c1, c2, c3, c4, c5, c6, c7, c8, -, c10⟩ := hS.iC l hl
      obtain ⟨zz, zn⟩ := hS.iZ l hl
      have n65 : t 65 l ≠ -1 := fun v => by
        have := (zn v).2.2.2.2.2.1
        rw [v3] at this
        exact absurd this (by decide)
      rcases c10 with ⟨v, -⟩ | ⟨cd, ce, -⟩
      · exact n65 v
      obtain ⟨hh2, f1, f2, f3, -⟩ := hS.iT T (Or.inl c4)
      have h47 : cn t 47 ≤ 10 := hS.iB.2.2.2.2.1.2
      have eh2 : hh' = hh2 := (nI_eq (by omega) (by omega)).mp (c5.symm.trans f2)
      subst eh2
      obtain ⟨gl, hgl, egl⟩ := f3 d cd
      have l65 : t 65 l = nI gl := ce.trans egl
      have s8 : t 31 gl = 8 := Classical.byContradiction fun v => by
        have := ((zz gl hgl l65).2.2.2.1 v).1
        rw [v3] at this
        exact absurd this (by decide)
      have := (hS.1.sg hl hjn v1 l65 hgl j7 hg' (s8.trans j6.symm)).1
      subst this
      refine hLt l hl v2 v3 (l65.trans j8.symm) (fun o' p ho' hp e1 e2 => ?_)
      exact j9 o' p ho' hp (v1.symm.trans e1) e2
    have eg : g = g' := ((nI_eq (by omega) (by omega)).mp (j8.symm.trans (k65.trans h65))).symm
    subst eg
    have depth : (t 63 j).toNatClampNeg ≤ 5 := by
      obtain ⟨o, T, hh', d, c1, c2, c3, c4, c5, c6, c7, c8, -⟩ := hS.iC j hjn
      rw [c8, nI_clamp (by omega)]; omega
    have jP : j ∉ P := fun v => by
      have := (hS.J j v).2
      rw [h69] at this
      exact absurd this (by decide)
    have hch : ∀ i, i < cn t 61 → t 64 i = nI j → t 69 i ≠ 0 := fun i hi e => absurd j3 (hS.1.inner hjn hi e)
    have zf : ∀ f i, f < 83 ∨ 88 < f → psh (psh (pop t h) h 5 (nI k) (nI j) 0 0) (h + 1) 2 (nI j) 13 0 0 f i = t f i := fun f i hf => by
      rw [psh_f hf, psh_f hf]
      exact up_f (by omega)
    have hS2 : SS X m z P 100000 N (psh (psh (pop t h) h 5 (nI k) (nI j) 0 0) (h + 1) 2 (nI j) 13 0 0) := hS.pop.psh.psh
    have hr2 : RUN t (psh (psh (pop t h) h 5 (nI k) (nI j) 0 0) (h + 1) 2 (nI j) 13 0 0) := run_st h88 (by omega) (fun K hK => Or.inr (Or.inr (Or.inr (Or.inr (Or.inr ⟨h83, by
      rw [h84]
      intro x1 g1
      rw [h85] at g1
      subst g1
      exact w_gone_hit (n := cn t 61) ((up_f (by decide)).trans b61) hn hjn up_s (by omega) ((up_f (by decide)).trans h74) ((up_f (by decide)).trans h69) hK hyj (fun i h1 h2 => by
        show ¬ (t 74 i = nI k ∧ t 69 i = 0)
        exact hno i h1 h2)⟩)))))
    have hlo2 : ∀ f, 83 ≤ f → f ≤ 87 → ∀ i, i < h → psh (psh (pop t h) h 5 (nI k) (nI j) 0 0) (h + 1) 2 (nI j) 13 0 0 f i = t f i := fun f h1 h2 i hi => by
      rw [psh_lo h1 h2 (by omega), psh_lo h1 h2 hi]
      exact up_f (by omega)
    have p83 : psh (psh (pop t h) h 5 (nI k) (nI j) 0 0) (h + 1) 2 (nI j) 13 0 0 83 h = 5 := (psh_lo (by decide) (by decide) (by omega)).trans psh_83
    have p84 : psh (psh (pop t h) h 5 (nI k) (nI j) 0 0) (h + 1) 2 (nI j) 13 0 0 84 h = nI k := (psh_lo (by decide) (by decide) (by omega)).trans psh_84
    have p85 : psh (psh (pop t h) h 5 (nI k) (nI j) 0 0) (h + 1) 2 (nI j) 13 0 0 85 h = nI j := (psh_lo (by decide) (by decide) (by omega)).trans psh_85
    have p88 : psh (psh (pop t h) h 5 (nI k) (nI j) 0 0) (h + 1) 2 (nI j) 13 0 0 88 0 = nI (h + 1 + 1) := psh_88
    have r83 : psh (psh (pop t h) h 5 (nI k) (nI j) 0 0) (h + 1) 2 (nI j) 13 0 0 83 (h + 1) = 2 := psh_83
    have r84 : psh (psh (pop t h) h 5 (nI k) (nI j) 0 0) (h + 1) 2 (nI j) 13 0 0 84 (h + 1) = nI j := psh_84
    have r85 : psh (psh (pop t h) h 5 (nI k) (nI j) 0 0) (h + 1) 2 (nI j) 13 0 0 85 (h + 1) = nI 13 := psh_85
    have hW2 : WA t (psh (psh (pop t h) h 5 (nI k) (nI j) 0 0) (h + 1) 2 (nI j) 13 0 0) := (WA.pop.tr WA.psh).tr WA.psh
    have hM2 : MO t (psh (psh (pop t h) h 5 (nI k) (nI j) 0 0) (h + 1) 2 (nI j) 13 0 0) := (MO.pop.tr MO.psh).tr MO.psh
    generalize psh (psh (pop t h) h 5 (nI k) (nI j) 0 0) (h + 1) 2 (nI j) 13 0 0 = v at *
    have zc : ∀ f, f < 83 ∨ 88 < f → v f = t f := fun f hf => funext fun i => zf f i hf
    have zn : cn v 61 = cn t 61 := cn_fr (zc 61 (by decide))
    have hR := refuse_c hE (h := h + 1) (c := j) (g := g) (s := 8) (kd := 13) hS2 ⟨by omega, hh.2⟩ (by rw [zn]; exact hjn) (by rw [zf 69 j (by decide)]; exact h69) jP (by rw [zn, zc 64 (by decide), zc 69 (by decide)]; exact hch) (by rw [zf 63 j (by decide)]; exact depth) (fun _ => by
      unfold NL
      rw [zn, zc 62 (by decide), zc 69 (by decide), zc 78 (by decide)]
      exact nl) (fun y => by rw [zf 75 j (by decide), j4] at y; exact absurd y (by decide)) (by rw [zf 65 j (by decide)]; exact j7) (by rw [cn_fr (zc 30 (by decide))]; exact hg') (by rw [zf 31 g (by decide)]; exact j6) (by decide) (by decide) p88 r83 r84 r85
    rw [zf 62 j (by decide)] at hR
    refine hR.mono ?_
    rintro rr N' ⟨hr, t', b1, b2, b3, b4, b5, b6⟩
    refine ⟨hr, fun x19 g19 => ?_⟩
    rw [nI_1] at g19
    subst g19
    have c62 : T0 62 j = t 62 j := ((A2.2.2.1 j jo).1 62 (by decide)).symm
    have c69 : T0 69 j = 0 := Classical.byContradiction fun q => q (((A2.2.2.1 j jo).2.1 q).1.symm.trans h69)
    have c74 : T0 74 j = nI k := ((A2.2.2.1 j jo).1 74 (by decide)).symm.trans h74
    refine ih (j + 1) (by omega) N' t' (j + 1) b3 ⟨(A1.tr hr2).tr b1, A2.tr (hM2.tr b4), fun f h1 h2 i hi => ?_, fun i hi hs => ?_, A5.tr (hW2.tr b6.wa)⟩ b2.1 ?_ ?_ ?_ (Nat.le_refl _) (fun i h1 h2 => absurd h1 (by omega))
    · rw [b2.2 f h1 h2 i (by omega), hlo2 f h1 h2 i hi, A3 f h1 h2 i hi]
    · have hit : i < cn t 61 := Nat.lt_of_lt_of_le hi A2.2.1
      have i62 : t 62 i = T0 62 i := (A2.2.2.1 i hi).1 62 (by decide)
      rw [b5 rfl i (by rw [zn]; exact hit) (fun q => hs ?_), zf 69 i (by decide), A4 i hi hs]
      rw [zf 62 i (by decide), i62, ← c62] at q
      rw [q]
      exact hSS j jo c69 c74
    · rw [b2.2 83 (by decide) (by decide) h (by omega), p83]
    · rw [b2.2 84 (by decide) (by decide) h (by omega), p84]
    · rw [b2.2 85 (by decide) (by decide) h (by omega), p85, nI_1]
