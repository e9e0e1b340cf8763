set_option maxRecDepth 100000
/-! plans' loop; alarms -/
abbrev PC : List Nat := RC ++ OC ++ [98, 99, 100, 101]
theorem plans_l {n : Nat} (hn : 102 ≤ n) {X : Mem} {m : Nat} {T0 : DB} {S0 : Nat → Prop} {Q : Mem → Prop} {W0 : (DB → Prop) → Prop} {np : Nat} (hnp : np ≤ 12)
    (hQ : ∀ N t, QS S0 X m N t → TF T0 t PC → (∀ Qm, (∃ a, w_tick_409 a 0 t Qm) → W0 Qm) → ∃ k, v_X0_pass_226 (n + 4) k (1, 0) 0 N Q) :
    ∀ r j, j + r = np → ∀ N t, cn t 89 = np → QS S0 X m N t → TF T0 t PC → (∀ Qm, (∃ a, w_tick_388 a (nI j) t Qm) → W0 Qm) → v_X0_pass_193 (n + 4) (r + 1) (1, 0) (nI j) N Q := by
  intro r
  induction r with
  | zero =>
    intro j hj N t hc q hT hacc
    have b89 : t 89 0 = nI np := by rw [← hc]; exact q.1.iB.2.2.2.2.2.2.2.2.2.1.1
    have sz : N.1 (30, 12).1 (30, 12).2 0 = nI np := (q.1.S (12, 89, 0) (by decide)).trans b89
    refine ⟨rfl, fun e1 ee1 => ?_⟩
    have q1 : e1 = (30, 12) := ee1.trans (q.1.W.1 12 (by decide) (by decide))
    subst q1
    have ej : j = np := by omega
    refine ⟨⟨by decide, by decide⟩, fun _ => hQ N t q hT (fun Qm h => hacc Qm ⟨1, fun _ => h, fun y => ?_⟩), fun y => ?_⟩
    · exact absurd (by rw [b89]; exact nI_le (by omega) (by omega)) y
    · exact absurd (by rw [sz]; exact nI_le (by omega) (by omega)) y
  | succ r ih =>
    intro j hj N t hc q hT hacc
    have hjn : j < np := by omega
    have b89 : t 89 0 = nI np := by rw [← hc]; exact q.1.iB.2.2.2.2.2.2.2.2.2.1.1
    have sz : N.1 (30, 12).1 (30, 12).2 0 = nI np := (q.1.S (12, 89, 0) (by decide)).trans b89
    have e12 : N.2.1 1 0 12 = (30, 12) := q.1.W.1 12 (by decide) (by decide)
    have cj : (nI j).toNatClampNeg = j := nI_clamp (by omega)
    have hjc : j < cn t 89 := by rw [hc]; exact hjn
    refine ⟨rfl, fun e1 ee1 => ?_⟩
    have q1 : e1 = (30, 12) := ee1.trans e12
    subst q1
    refine ⟨⟨by decide, by decide⟩, fun y => ?_, fun _ => ⟨rfl, fun e2 ee2 => ?_⟩⟩
    · rw [sz] at y; exact absurd y (nI_ge hjn (by omega))
    have q2 : e2 = (30, 12) := ee2.trans e12
    subst q2
    refine ⟨⟨by decide, by decide⟩, ⟨nI_pos (by omega), by rw [sz]; exact nI_lt hjn (by omega)⟩, fun e3 ee3 => ?_⟩
    rw [cj] at ee3
    have q3 : e3 = (24, j) := ee3.trans (q.1.K (12, 24, 89) (by decide) j hjc)
    subst q3
    refine ⟨rfl, rfl, (plan_q hn q hjc).mono ?_⟩
    rintro rr N' ⟨hr, t', u1, u2, u3⟩
    refine ⟨hr, fun x6 e6 => ?_⟩
    rw [nI_1] at e6
    subst e6
    refine ih (j + 1) (by omega) N' t' (by rw [u2.cn (by decide)]; exact hc) u1 (fun f hf => (u2 f hf).trans (hT f hf)) (fun Qm ⟨a, ha⟩ => hacc Qm ⟨a + 1, fun y => absurd y (by rw [b89]; exact nI_ge hjn (by omega)), fun _ => u3 _ (fun x e => ?_)⟩)
    rw [nI_1] at e
    subst e
    exact ha
/-- what has come of an order -/
theorem outc_c {X : Mem} {m : Nat} {P : List Nat} {x : Nat} {N : Mem} {t : DB} (h : SZ X m 60 P x N t) {o : Nat} (ho : o < cn t 50) {Q : Int32 → Mem → Prop} (hQ : Q (t 58 o) N) : v_X15_outcome (20, o) N Q := by
  have h60 : cn t 50 ≤ 60 := h.iB.2.2.2.2.2.1.2
  obtain ⟨a1, c, c1, c2, c3, c4, c5⟩ := h.O o ho (by omega)
  have e11 : N.1 21 c 11 = t 69 c := h.I (21, 11, 69, 61) (by decide) c c1
  have e9 : N.1 21 c 9 = t 71 c := h.I (21, 9, 71, 61) (by decide) c c1
  refine ⟨rfl, fun y => ⟨rfl, fun e1 ee1 => ?_⟩, fun y => ?_⟩
  · have y' : N.1 20 o 8 = 0 := y
    have n4 : ¬ t 58 o = 4 := fun v => by rw [a1, if_pos v] at y'; exact absurd y' (by decide)
    have q1 : e1 = (21, c) := ee1.trans c2
    subst q1
    refine ⟨rfl, fun z1 => ⟨rfl, fun e2 ee2 => ?_⟩, fun z1 => ⟨rfl, fun e3 ee3 => ?_⟩⟩
    · have q2 : e2 = (21, c) := ee2.trans c2
      subst q2
      have z1' : ¬ t 69 c = 1 := fun v => z1 (e11.trans v)
      refine ⟨rfl, ?_⟩
      show Q (N.1 21 c 11) N
      rcases c5 with ⟨v, -⟩ | ⟨v1, v2⟩ | ⟨v1, -⟩ | ⟨v1, v2, -⟩
      · exact absurd v n4
      · rw [e11, v1, ← v2]; exact hQ
      · exact absurd v1 z1'
      · rw [e11, v1, ← v2]; exact hQ
    · have q3 : e3 = (21, c) := ee3.trans c2
      subst q3
      have z1' : t 69 c = 1 := e11.symm.trans z1
      have v2 : t 58 o = (if t 71 c = 1 then 3 else 1) := by
        rcases c5 with ⟨v, -⟩ | ⟨v1, -⟩ | ⟨-, v2, -⟩ | ⟨v1, -⟩
        · exact absurd v n4
        · exact absurd (v1.symm.trans z1') (by decide)
        · exact v2
        · exact absurd (v1.symm.trans z1') (by decide)
      obtain ⟨-, -, h71, -⟩ := h.iH c c1
      refine ⟨rfl, fun z2 => ⟨rfl, fun e4 ee4 => ?_⟩, fun z2 => ?_⟩
      · have q4 : e4 = (21, c) := ee4.trans c2
        subst q4
        refine ⟨rfl, ?_⟩
        show Q (N.1 21 c 11) N
        have z2' : t 71 c = 0 := e9.symm.trans z2
        rw [v2, if_neg (by rw [z2']; decide)] at hQ
        rw [e11, z1']; exact hQ
      · have z2' : ¬ t 71 c = 0 := fun v => z2 (e9.trans v)
        rw [v2, if_pos (h71.resolve_left z2')] at hQ
        exact hQ
  · have y' : ¬ N.1 20 o 8 = 0 := y
    have e4 : t 58 o = 4 := Classical.byContradiction fun v => y' (a1.trans (if_neg v))
    rw [e4] at hQ
    exact hQ
/-- is it so -/
def latO (t : DB) (a o : Nat) : Prop := t 58 o = 0 ∧ ¬ t 0 0 - t 56 o ≤ t 106 a
noncomputable def isV (t : DB) (a : Nat) : Int32 := if t 104 a = 0 then (if t 36 (t 105 a).toNatClampNeg = 1 then 1 else 0) else if t 104 a = 1 then (if t 106 a ≤ t 2 (t 105 a).toNatClampNeg then 0 else 1) else if t 104 a = 2 then (if t 40 (t 105 a).toNatClampNeg < t 106 a then 0 else 1) else @ite _ (∃ o, o < cn t 50 ∧ latO t a o) (Classical.propDecidable _) 1 0
theorem isV_01 {t : DB} {a : Nat} : isV t a = 0 ∨ isV t a = 1 := by
  unfold isV
  split
  · split
    · exact Or.inr rfl
    · exact Or.inl rfl
  · split
    · split
      · exact Or.inl rfl
      · exact Or.inr rfl
    · split
      · split
        · exact Or.inl rfl
        · exact Or.inr rfl
      · split
        · exact Or.inr rfl
        · exact Or.inl rfl
theorem is24_l {X : Mem} {m : Nat} {N : Mem} {t : DB} (h : SZ X m 60 [] 100000 N t) {a : Nat} (n4 : N.1 28 a 4 = t 106 a) (n5 : N.2.1 28 a 5 = (1, 0)) {Q : Int32 → Mem → Prop} (h1 : (∃ o, o < cn t 50 ∧ latO t a o) → Q 1 N) (h0 : ¬ (∃ o, o < cn t 50 ∧ latO t a o) → Q 0 N) : ∀ r j, j + r = cn t 50 → (∀ o, o < j → ¬ latO t a o) → v_X24_is_2 (r + 1) (28, a) (nI j) N Q := by
  have b50 := h.iB.2.2.2.2.2.1
  have b60 : cn t 50 ≤ 60 := b50.2
  have w8 : N.2.1 1 0 8 = (30, 8) := h.W.1 8 (by decide) (by decide)
  have s8 : N.1 30 8 0 = nI (cn t 50) := (h.S (8, 50, 0) (by decide)).trans b50.1
  have tm : N.1 1 0 0 = t 0 0 := h.W.2.1
  intro r
  induction r with
  | zero =>
    intro j hj hno
    refine ⟨rfl, fun e1 ee1 => ?_⟩
    have q1 : e1 = (1, 0) := ee1.trans n5
    subst q1
    refine ⟨rfl, fun e2 ee2 => ?_⟩
    have q2 : e2 = (30, 8) := ee2.trans w8
    subst q2
    refine ⟨⟨by decide, by decide⟩, fun _ => h0 (fun ⟨o, o1, o2⟩ => hno o (by omega) o2), fun y => ?_⟩
    exact absurd (by show N.1 30 8 0 ≤ nI j; rw [s8]; exact nI_le (by omega) (by omega)) y
  | succ r ih =>
    intro j hj hno
    have hjn : j < cn t 50 := by omega
    have cj : (nI j).toNatClampNeg = j := nI_clamp (by omega)
    have k8 : N.2.1 30 8 j = (20, j) := h.K (8, 20, 50) (by decide) j hjn
    have e5 : N.1 20 j 5 = t 56 j := h.I (20, 5, 56, 50) (by decide) j hjn
    refine ⟨rfl, fun e1 ee1 => ?_⟩
    have q1 : e1 = (1, 0) := ee1.trans n5
    subst q1
    refine ⟨rfl, fun e2 ee2 => ?_⟩
    have q2 : e2 = (30, 8) := ee2.trans w8
    subst q2
    have inb : ¬ nI j < 0 ∧ nI j < N.1 (30, 8).1 (30, 8).2 0 := ⟨nI_pos (by omega), by show nI j < N.1 30 8 0; rw [s8]; exact nI_lt hjn (by omega)⟩
    refine ⟨⟨by decide, by decide⟩, fun y => ?_, fun y => ⟨rfl, fun e3 ee3 => ?_⟩⟩
    · have : N.1 30 8 0 ≤ nI j := y
      rw [s8] at this
      exact absurd this (nI_ge hjn (by omega))
    have q3 : e3 = (1, 0) := ee3.trans n5
    subst q3
    refine ⟨rfl, fun e4 ee4 => ?_⟩
    have q4 : e4 = (30, 8) := ee4.trans w8
    subst q4
    refine ⟨⟨by decide, by decide⟩, inb, fun e5' ee5 => ?_⟩
    rw [cj] at ee5
    have q5 : e5' = (20, j) := ee5.trans k8
    subst q5
    have next : ¬ latO t a j → ∀ x, x = nI j + 1 → v_X24_is_2 (r + 1) (28, a) x N Q := fun hn x e => by
      rw [nI_1] at e
      subst e
      exact ih (j + 1) (by omega) (fun o ho => by
        rcases Nat.lt_or_ge o j with v | v
        · exact hno o v
        · have : o = j := by omega
          subst this
          exact hn)
    refine ⟨rfl, rfl, outc_c h hjn ⟨fun z1 => next (fun v => z1 v.1), fun z1 => ⟨rfl, fun e9 ee9 => ?_⟩⟩⟩
    have q9 : e9 = (1, 0) := ee9.trans n5
    subst q9
    refine ⟨rfl, rfl, fun e10 ee10 => ?_⟩
    have q10 : e10 = (1, 0) := ee10.trans n5
    subst q10
    refine ⟨rfl, fun e11 ee11 => ?_⟩
    have q11 : e11 = (30, 8) := ee11.trans w8
    subst q11
    refine ⟨⟨by decide, by decide⟩, inb, fun e12 ee12 => ?_⟩
    rw [cj] at ee12
    have q12 : e12 = (20, j) := ee12.trans k8
    subst q12
    refine ⟨rfl, rfl, rfl, fun z2 => next (fun v => v.2 ?_), fun z2 => h1 ⟨j, hjn, z1, fun v => z2 ?_⟩⟩
    · have z2' : N.1 1 0 0 - N.1 20 j 5 ≤ N.1 28 a 4 := z2
      rw [tm, e5, n4] at z2'
      exact z2'
    · show N.1 1 0 0 - N.1 20 j 5 ≤ N.1 28 a 4
      rw [tm, e5, n4]
      exact v
theorem is_c {X : Mem} {m : Nat} {N : Mem} {t : DB} (h : SZ X m 60 [] 100000 N t) {a s : Nat} (ha : a < cn t 103) (hs3 : s ≤ 3) (hs : t 104 a = nI s) {Q : Int32 → Mem → Prop} (hQ : Q (isV t a) N) : v_is (25 + s, a) N Q := by
  have h8 : cn t 1 ≤ 8 := h.iB.1.2
  have h24 : cn t 30 ≤ 24 := h.iB.2.2.2.1.2
  obtain ⟨s', a1, a2, a3, a4, a5, a6, a7, a8, b0, b1, b2, b3⟩ := h.A a ha
  have es : s' = s := (nI_eq (by omega) (by omega)).mp (a2.symm.trans hs)
  subst es
  refine ⟨fun e => ?_, fun e => ?_, fun e => ?_, fun e => ?_⟩
  · have e0 : s' = 0 := by have : 25 + s' = 25 := e; omega
    subst e0
    obtain ⟨g, g1, g2, g3, g4⟩ := b0 rfl
    have g7 : N.1 10 g 7 = t 36 g := (h.G0 g g1 g3).1
    unfold isV at hQ
    rw [if_pos (show t 104 a = 0 from hs), g2, nI_clamp (by omega)] at hQ
    refine ⟨rfl, fun e1 ee1 => ?_⟩
    have q1 : e1 = (10, g) := ee1.trans g4
    subst q1
    refine ⟨rfl, fun y => ?_, fun y => ?_⟩
    · rw [if_neg (fun v => y (g7.trans v))] at hQ; exact hQ
    · rw [if_pos (g7.symm.trans y)] at hQ; exact hQ
  · have e0 : s' = 1 := by have : 25 + s' = 26 := e; omega
    subst e0
    obtain ⟨i, i1, i2, i3, i4⟩ := b1 rfl
    have l2 : N.1 3 i 2 = t 2 i := h.I (3, 2, 2, 1) (by decide) i i1
    unfold isV at hQ
    rw [if_neg (by rw [hs]; decide), if_pos (show t 104 a = 1 from hs), i2, nI_clamp (by omega)] at hQ
    refine ⟨rfl, fun e1 ee1 => ?_⟩
    have q1 : e1 = (3, i) := ee1.trans i3
    subst q1
    have e5 : (N.1 26 a 5 ≤ N.1 3 i 2) = (t 106 a ≤ t 2 i) := by rw [i4, l2]
    refine ⟨rfl, rfl, fun y => ?_, fun y => ?_⟩
    · rw [if_pos (e5.mp y)] at hQ; exact hQ
    · rw [if_neg (fun v => y (e5.mpr v))] at hQ; exact hQ
  · have e0 : s' = 2 := by have : 25 + s' = 27 := e; omega
    subst e0
    obtain ⟨g, g1, g2, g3, g4, g5⟩ := b2 rfl
    obtain ⟨w7, -, -, nS, -⟩ := h.G1 g g1 g3
    unfold isV at hQ
    rw [if_neg (by rw [hs]; decide), if_neg (by rw [hs]; decide), if_pos (show t 104 a = 2 from hs), g2, nI_clamp (by omega)] at hQ
    refine ⟨rfl, fun e1 ee1 => ?_⟩
    have q1 : e1 = (11, g) := ee1.trans g4
    subst q1
    refine ⟨rfl, fun e2 ee2 => ?_⟩
    have q2 : e2 = (32, g) := ee2.trans w7
    subst q2
    have e5 : (N.1 32 g 0 < N.1 27 a 5) = (t 40 g < t 106 a) := by rw [nS, g5]
    have lk32 : lk 32 := ⟨by decide, by decide⟩
    refine ⟨lk32, rfl, fun y => ?_, fun y => ?_⟩
    · rw [if_pos (e5.mp y)] at hQ; exact hQ
    · rw [if_neg (fun v => y (e5.mpr v))] at hQ; exact hQ
  · have e0 : s' = 3 := by have : 25 + s' = 28 := e; omega
    subst e0
    obtain ⟨i1, i2⟩ := b3 rfl
    unfold isV at hQ
    rw [if_neg (by rw [hs]; decide), if_neg (by rw [hs]; decide), if_neg (by rw [hs]; decide)] at hQ
    refine ⟨cn t 50 + 1, is24_l h i1 i2 (fun v => ?_) (fun v => ?_) (cn t 50) 0 (by omega) (fun o ho => absurd ho (Nat.not_lt_zero _))⟩
    · rw [if_pos v] at hQ; exact hQ
    · rw [if_neg v] at hQ; exact hQ
theorem so_l {t : DB} {a : Nat} {Q : Int32 → DB → Prop} (va : vp_in (nI a) 10) (ca : (nI a).toNatClampNeg = a) (b50 : bnd t 50 60) (h1 : (∃ o, o < cn t 50 ∧ latO t a o) → Q 1 t) (h0 : ¬ (∃ o, o < cn t 50 ∧ latO t a o) → Q 0 t) : ∀ r j x, j + r = cn t 50 → ((x = 1 ∧ ∃ o, o < j ∧ latO t a o) ∨ (x = 0 ∧ ∀ o, o < j → ¬ latO t a o)) → w_isSo_103 (r + 1) (nI a) x (nI j) t Q := by
  obtain ⟨b1, b2⟩ := b50
  intro r
  induction r with
  | zero =>
    intro j x hj hx
    refine ⟨fun _ => ?_, fun y => ?_⟩
    · rcases hx with ⟨v, o, o1, o2⟩ | ⟨v, v2⟩
      · subst v; exact ⟨Or.inr rfl, h1 ⟨o, by omega, o2⟩⟩
      · subst v; exact ⟨Or.inl rfl, h0 (fun ⟨o, o1, o2⟩ => v2 o (by omega) o2)⟩
    · exact absurd (by rw [b1]; exact nI_le (by omega) (by omega)) y
  | succ r ih =>
    intro j x hj hx
    have hjn : j < cn t 50 := by omega
    have cj : (nI j).toNatClampNeg = j := nI_clamp (by omega)
    have vj : vp_in (nI j) 60 := vp_in_nI (by omega) (by decide)
    have stay : ¬ latO t a j → ∀ x_1, x_1 = x ||| 0 → ∀ x_2, x_2 = nI j + 1 → w_isSo_103 (r + 1) (nI a) x_1 x_2 t Q := fun hno x1 e1 x2 e2 => by
      rw [nI_1] at e2
      subst e2
      have ex : x1 = x := by rw [e1]; rcases hx with v | v <;> rw [v.1] <;> decide
      subst ex
      refine ih (j + 1) x1 (by omega) ?_
      rcases hx with ⟨v, o, o1, o2⟩ | ⟨v, v2⟩
      · exact Or.inl ⟨v, o, by omega, o2⟩
      · exact Or.inr ⟨v, fun o ho => by
          rcases Nat.lt_or_ge o j with w | w
          · exact v2 o w
          · have : o = j := by omega
            subst this
            exact hno⟩
    refine ⟨fun y => ?_, fun _ => ⟨vj, ?_⟩⟩
    · rw [b1] at y; exact absurd y (nI_ge hjn (by omega))
    rw [cj, ca]
    refine ⟨fun z1 => stay (fun v => z1 v.1), fun z1 => ⟨vj, va, fun z2 => stay (fun v => v.2 z2), fun z2 x1 e1 x2 e2 => ?_⟩⟩
    rw [nI_1] at e2
    subst e2
    have ex : x1 = 1 := by rw [e1]; rcases hx with v | v <;> rw [v.1] <;> decide
    subst ex
    exact ih (j + 1) 1 (by omega) (Or.inl ⟨rfl, j, by omega, z1, z2⟩)
theorem isW {X : Mem} {m : Nat} {N : Mem} {t : DB} (h : SZ X m 60 [] 100000 N t) {a : Nat} (ha : a < cn t 103) {Q : Int32 → DB → Prop} (hQ : Q (isV t a) t) : w_isSo (nI a) t Q := by
  have h8 : cn t 1 ≤ 8 := h.iB.1.2
  have h24 : cn t 30 ≤ 24 := h.iB.2.2.2.1.2
  have h10 : cn t 103 ≤ 10 := h.iB.2.2.2.2.2.2.2.2.2.2.1.2
  have va : vp_in (nI a) 10 := vp_in_nI (by omega) (by decide)
  have ca : (nI a).toNatClampNeg = a := nI_clamp (by omega)
  obtain ⟨s', a1, a2, a3, a4, a5, a6, a7, a8, b0, b1, b2, b3⟩ := h.A a ha
  unfold w_isSo
  rw [ca]
  refine ⟨va, fun x1 e1 => ⟨va, fun e => ?_, fun e => ?_, fun e => ?_, fun n0 n1 n2 => ?_⟩⟩
  · have e0 : s' = 0 := (nI_eq (by omega) (by omega)).mp (a2.symm.trans (show t 104 a = nI 0 from e))
    subst e0
    obtain ⟨g, g1, g2, g3, g4⟩ := b0 rfl
    unfold isV at hQ
    rw [if_pos e, g2, nI_clamp (by omega)] at hQ
    rw [g2] at e1
    subst e1
    rw [nI_clamp (by omega)]
    refine ⟨vp_in_nI (by omega) (by decide), fun y => ?_, fun y => ?_⟩
    · rw [if_neg y] at hQ; exact hQ
    · rw [if_pos y] at hQ; exact hQ
  · have e0 : s' = 1 := (nI_eq (by omega) (by omega)).mp (a2.symm.trans (show t 104 a = nI 1 from e))
    subst e0
    obtain ⟨g, g1, g2, -⟩ := b1 rfl
    unfold isV at hQ
    rw [if_neg (by rw [e]; decide), if_pos e, g2, nI_clamp (by omega)] at hQ
    rw [g2] at e1
    subst e1
    rw [nI_clamp (by omega)]
    refine ⟨vp_in_nI (by omega) (by decide), va, fun y => ?_, fun y => ?_⟩
    · rw [if_pos y] at hQ; exact hQ
    · rw [if_neg y] at hQ; exact hQ
  · have e0 : s' = 2 := (nI_eq (by omega) (by omega)).mp (a2.symm.trans (show t 104 a = nI 2 from e))
    subst e0
    obtain ⟨g, g1, g2, -⟩ := b2 rfl
    unfold isV at hQ
    rw [if_neg (by rw [e]; decide), if_neg (by rw [e]; decide), if_pos e, g2, nI_clamp (by omega)] at hQ
    rw [g2] at e1
    subst e1
    rw [nI_clamp (by omega)]
    refine ⟨vp_in_nI (by omega) (by decide), va, fun y => ?_, fun y => ?_⟩
    · rw [if_pos y] at hQ; exact hQ
    · rw [if_neg y] at hQ; exact hQ
  · unfold isV at hQ
    rw [if_neg n0, if_neg n1, if_neg n2] at hQ
    refine ⟨cn t 50 + 1, so_l va ca h.iB.2.2.2.2.2.1 (fun v => ?_) (fun v => ?_) (cn t 50) 0 0 (by omega) (Or.inr ⟨rfl, fun o ho => absurd ho (Nat.not_lt_zero _)⟩)⟩
    · rw [if_pos v] at hQ; exact hQ
    · rw [if_neg v] at hQ; exact hQ
