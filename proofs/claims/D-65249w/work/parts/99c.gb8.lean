set_option maxRecDepth 100000
/-! a join begins -/
/-- k leads for guard g and order o -/
def LD (t : DB) (c g o k : Nat) : Prop := k ≠ c ∧ t 69 k = 0 ∧ t 65 k = nI g ∧ t 78 k = 1 ∧ ∃ o', o' < 60 ∧ t 62 k = nI o' ∧ t 52 o' = t 52 o ∧ t 53 o' = t 53 o ∧ t 54 o' = t 54 o
theorem w_429_s {t : DB} {c g o j a : Nat} {Q : DB → Prop} (hj : j < 4400) (hc : c < 4400) (ho : o < 60) (hjo : ∃ o', o' < 60 ∧ t 62 j = nI o') (h78 : t 78 j = 0 ∨ t 78 j = 1) (h1 : ¬ LD t c g o j → w_entered_429 a (nI c) (nI g) (nI o) (nI j + (-1)) t Q) (h2 : LD t c g o j → w_entered_429 a (nI c) (nI g) (nI o) (nI j + (-1)) (up t 74 c (nI j)) Q) : w_entered_429 (a + 1) (nI c) (nI g) (nI o) (nI j) t Q := by
  have vj : vp_in (nI j) 4400 := vp_in_nI hj (by decide)
  have cj : (nI j).toNatClampNeg = j := nI_clamp (by omega)
  have vc : vp_in (nI c) 4400 := vp_in_nI hc (by decide)
  have cc : (nI c).toNatClampNeg = c := nI_clamp (by omega)
  obtain ⟨o', ho', e62⟩ := hjo
  have vo : vp_in (nI o') 60 := vp_in_nI ho' (by decide)
  have co : (nI o').toNatClampNeg = o' := nI_clamp (by omega)
  have vo2 : vp_in (nI o) 60 := vp_in_nI ho (by decide)
  have co2 : (nI o).toNatClampNeg = o := nI_clamp (by omega)
  have oo : ∀ o'', o'' < 60 → t 62 j = nI o'' → o'' = o' := fun o'' h e => (nI_eq (by omega) (by omega)).mp (e.symm.trans e62)
  refine ⟨fun y => absurd y (nI_pos (by omega)), fun _ => ⟨fun y x5 e5 => ?_, fun y => ⟨vj, fun y2 x6 e6 => ?_, fun y2 => ⟨vj, fun y3 x7 e7 => ?_, fun y3 => ⟨vj, fun y4 x8 e8 => ?_, fun y4 => ⟨vj, ?_⟩⟩⟩⟩⟩⟩
  · subst e5
    exact h1 (fun w => w.1 ((nI_eq (by omega) (by omega)).mp y))
  · subst e6
    rw [cj] at y2
    exact h1 (fun w => y2 w.2.1)
  · subst e7
    rw [cj] at y3
    exact h1 (fun w => y3 w.2.2.1)
  · subst e8
    rw [cj] at y4
    exact h1 (fun w => absurd (y4.symm.trans w.2.2.2.1) (by decide))
  · rw [cj] at y2 y3 y4
    rw [cj, e62]
    unfold w_isAlike
    rw [co, co2]
    have nol : ¬ (t 52 o' = t 52 o ∧ t 53 o' = t 53 o ∧ t 54 o' = t 54 o) → ∀ x11, x11 = nI j + (-1) → w_entered_429 a (nI c) (nI g) (nI o) x11 t Q := fun no x11 e11 => by
      subst e11
      refine h1 (fun w => ?_)
      obtain ⟨-, -, -, -, o'', w1, w2, w3⟩ := w
      rw [oo o'' w1 w2] at w3
      exact no w3
    refine ⟨vo, vo2, fun y5 => ⟨fun _ => nol (fun w => y5 w.1), fun w => absurd rfl w⟩, fun y5 => ⟨vo, vo2, fun y6 => ⟨fun _ => nol (fun w => y6 w.2.1), fun w => absurd rfl w⟩, fun y6 => ⟨vo, vo2, fun y7 => ⟨fun _ => nol (fun w => y7 w.2.2), fun w => absurd rfl w⟩, fun y7 => ⟨fun w => absurd w (by decide), fun _ => ⟨vc, fun t12 e12 x13 e13 => ?_⟩⟩⟩⟩⟩
    rw [cc] at e12
    subst e12; subst e13
    exact h2 ⟨fun e => y (by rw [e]), y2, y3, h78.resolve_left y4, o', ho', e62, y5, y6, y7⟩
/-- nobody leads: c does -/
theorem w_429_A {t : DB} {c g o n : Nat} {Q : DB → Prop} (hn : n ≤ 4021) (hc : c < 4400) (ho : o < 60) (hjo : ∀ j, j < n → (∃ o', o' < 60 ∧ t 62 j = nI o') ∧ (t 78 j = 0 ∨ t 78 j = 1)) (hno : ∀ j, j < n → ¬ LD t c g o j) (h74 : t 74 c = -1) (hQ : w_goesIn (nI c) (up t 78 c 1) Q) : ∀ j, j ≤ n → w_entered_429 (j + 1) (nI c) (nI g) (nI o) (nI j + (-1)) t Q := by
  have vc : vp_in (nI c) 4400 := vp_in_nI hc (by decide)
  have cc : (nI c).toNatClampNeg = c := nI_clamp (by omega)
  intro j
  induction j with
  | zero =>
    intro _
    refine ⟨fun _ => ⟨vc, fun _ => ⟨vc, fun t1 e1 => ?_⟩, fun y => ?_⟩, fun y => absurd (by decide) y⟩
    · rw [cc] at e1
      subst e1
      exact hQ
    · rw [cc, h74] at y
      exact absurd (by decide) y
  | succ j ih =>
    intro hj
    rw [pk_m1]
    exact w_429_s (by omega) hc ho (hjo j (by omega)).1 (hjo j (by omega)).2 (fun _ => ih (by omega)) (fun w => absurd w (hno j (by omega)))
/-- one leads: c joins it -/
theorem w_429_B {t : DB} {c g o n l : Nat} {Q : DB → Prop} (hn : n ≤ 4021) (hc : c < 4400) (ho : o < 60) (hjo : ∀ j, j < n → (∃ o', o' < 60 ∧ t 62 j = nI o') ∧ (t 78 j = 0 ∨ t 78 j = 1)) (hl : l < n) (hld : LD t c g o l) (hu : ∀ j, j < n → LD t c g o j → j = l) (hQ : Q (up t 74 c (nI l))) : ∀ j, j ≤ n → w_entered_429 (j + 1) (nI c) (nI g) (nI o) (nI j + (-1)) (if j ≤ l then up t 74 c (nI l) else t) Q := by
  have vc : vp_in (nI c) 4400 := vp_in_nI hc (by decide)
  have cc : (nI c).toNatClampNeg = c := nI_clamp (by omega)
  have sm : ∀ j, LD (up t 74 c (nI l)) c g o j ↔ LD t c g o j := fun j => Iff.rfl
  intro j
  induction j with
  | zero =>
    intro _
    rw [if_pos (Nat.zero_le _)]
    refine ⟨fun _ => ⟨vc, fun y => ?_, fun _ => hQ⟩, fun y => absurd (by decide) y⟩
    rw [cc, up_s] at y
    exact absurd y (nI_pos (by omega))
  | succ j ih =>
    intro hj
    have nx := ih (by omega)
    rw [pk_m1]
    by_cases q : j + 1 ≤ l
    · rw [if_pos q]
      rw [if_pos (by omega)] at nx
      refine w_429_s (by omega) hc ho (hjo j (by omega)).1 (hjo j (by omega)).2 (fun _ => nx) (fun w => ?_)
      have := hu j (by omega) ((sm j).mp w)
      omega
    · rw [if_neg q]
      refine w_429_s (by omega) hc ho (hjo j (by omega)).1 (hjo j (by omega)).2 (fun w => ?_) (fun w => ?_)
      · rw [if_neg (fun y => ?_)] at nx
        · exact nx
        · have : j = l := by omega
          rw [this] at w
          exact w hld
      · have := hu j (by omega) w
        subst this
        rw [if_pos (Nat.le_refl _)] at nx
        exact nx
/-- what the component reads of a call -/
def HK (N : Mem) (t : DB) (g k : Nat) : Prop := N.2.1 21 k 6 = gn t (t 65 k) ∧ N.1 21 k 11 = t 69 k ∧ N.2.1 21 k 8 = rn 21 (t 74 k) ∧ (∃ o', o' < 60 ∧ t 62 k = nI o' ∧ N.2.1 21 k 4 = (20, o') ∧ N.1 20 o' 1 = t 52 o' ∧ N.1 20 o' 2 = t 53 o' ∧ N.1 20 o' 3 = t 54 o') ∧ (t 65 k = nI g → (t 78 k = 1 ∧ t 74 k = -1) ∨ (t 78 k = 0 ∧ ∃ l, l < 4400 ∧ t 74 k = nI l))
theorem lead_st {N : Mem} {t : DB} {c g o j n a : Nat} {Q : Nat × Nat → Mem → Prop} (hn : n ≤ 4021) (hg : g < 24) (h31 : t 31 g = 8) (nl : N.2.1 18 g 7 = (1, 0)) (e9 : N.2.1 1 0 9 = (30, 9)) (eS : N.1 30 9 0 = nI n) (eK : ∀ k, k < n → N.2.1 30 9 k = (21, k)) (hc4 : N.2.1 21 c 4 = (20, o) ∧ N.1 20 o 1 = t 52 o ∧ N.1 20 o 2 = t 53 o ∧ N.1 20 o 3 = t 54 o) (hj : j < n) (hH : j ≠ c → HK N t g j)
    (h1 : ¬ LD t c g o j → v_X13_leader_2 a (18, g) (21, c) (nI (j + 1)) N Q) (h2 : LD t c g o j → Q (21, j) N) : v_X13_leader_2 (a + 1) (18, g) (21, c) (nI j) N Q := by
  have cj : (nI j).toNatClampNeg = j := nI_clamp (by omega)
  have sz : N.1 (30, 9).1 (30, 9).2 0 = nI n := eS
  have inb : ¬ nI j < 0 ∧ nI j < N.1 (30, 9).1 (30, 9).2 0 := ⟨nI_pos (by omega), by rw [sz]; exact nI_lt hj (by omega)⟩
  have sk : ¬ LD t c g o j → ∀ x, x = nI j + 1 → v_X13_leader_2 a (18, g) (21, c) x N Q := fun no x e => by
    rw [nI_1] at e
    subst e
    exact h1 no
  refine ⟨rfl, fun e1 ee1 => ?_⟩
  have q1 : e1 = (1, 0) := ee1.trans nl
  subst q1
  refine ⟨rfl, fun e2 ee2 => ?_⟩
  have q2 : e2 = (30, 9) := ee2.trans e9
  subst q2
  refine ⟨⟨by decide, by decide⟩, fun y => ?_, fun _ => ⟨rfl, fun e3 ee3 => ?_⟩⟩
  · rw [sz] at y; exact absurd y (nI_ge hj (by omega))
  have q3 : e3 = (1, 0) := ee3.trans nl
  subst q3
  refine ⟨rfl, fun e4 ee4 => ?_⟩
  have q4 : e4 = (30, 9) := ee4.trans e9
  subst q4
  refine ⟨⟨by decide, by decide⟩, inb, fun e5 ee5 => ?_⟩
  rw [cj] at ee5
  have q5 : e5 = (21, j) := ee5.trans (eK j hj)
  subst q5
  refine ⟨rfl, fun y => sk (fun w => w.1 (congrArg Prod.snd y)), fun y => ?_⟩
  have hjc : j ≠ c := fun e => y (by rw [e])
  obtain ⟨k1, k2, k3, ⟨o', k4, k5, k6, k7, k8, k9⟩, k10⟩ := hH hjc
  refine ⟨rfl, fun e7 ee7 => ?_⟩
  have q7 : e7 = gn t (t 65 j) := ee7.trans k1
  have geq : gn t (t 65 j) = (18, g) ↔ t 65 j = nI g := by
    unfold gn
    constructor
    · intro w
      by_cases lt : t 65 j < 0
      · rw [if_pos lt] at w
        exact absurd (congrArg Prod.fst w) (by show ¬ 0 = 18; decide)
      · rw [if_neg lt] at w
        obtain ⟨l, hl, el⟩ := nI_of lt
        rw [el, nI_clamp hl] at w
        have : l = g := congrArg Prod.snd w
        rw [el, this]
    · intro w
      rw [w, if_neg (nI_pos (by omega)), nI_clamp (by omega), h31]
      rfl
  refine ⟨fun w => sk (fun v => w ?_), fun w => ⟨rfl, rfl, fun y2 => ⟨fun _ => sk (fun v => y2 (k2.trans v.2.1)), fun v => absurd rfl v⟩, fun y2 => ⟨fun v => absurd v (by decide), fun _ => ⟨rfl, fun e12 ee12 => ?_⟩⟩⟩⟩
  · rw [q7]; exact geq.mpr v.2.2.1
  have e65 : t 65 j = nI g := geq.mp (q7.symm.trans w)
  have h69 : t 69 j = 0 := k2.symm.trans y2
  have q12 : e12 = rn 21 (t 74 j) := ee12.trans k3
  refine ⟨fun v => sk (fun u => v ?_), fun v => ⟨rfl, fun e14 ee14 => ⟨rfl, fun e15 ee15 => ?_⟩⟩⟩
  · rcases k10 e65 with ⟨-, r⟩ | ⟨r, -⟩
    · rw [q12, r]; rfl
    · exact absurd (r.symm.trans u.2.2.2.1) (by decide)
  have h78 : t 78 j = 1 := by
    rcases k10 e65 with ⟨r, -⟩ | ⟨-, l, r1, r2⟩
    · exact r
    · rw [v, r2, rn_j (by omega)] at q12
      exact (ne021 q12).elim
  have q14 : e14 = (20, o') := ee14.trans k6
  have q15 : e15 = (20, o) := ee15.trans hc4.1
  subst q14; subst q15
  have like : (t 52 o' = t 52 o ∧ t 53 o' = t 53 o ∧ t 54 o' = t 54 o) → LD t c g o j := fun u => ⟨hjc, h69, e65, h78, o', k4, k5, u⟩
  have nolike : ∀ (P : t 52 o' = t 52 o ∧ t 53 o' = t 53 o ∧ t 54 o' = t 54 o → False), ¬ LD t c g o j := fun P u => by
    obtain ⟨-, -, -, -, o'', u1, u2, u3⟩ := u
    have : o'' = o' := (nI_eq (by omega) (by omega)).mp (u2.symm.trans k5)
    rw [this] at u3
    exact P u3
  have z1 : N.1 (20, o').1 (20, o').2 1 = t 52 o' := k7
  have z2 : N.1 (20, o').1 (20, o').2 2 = t 53 o' := k8
  have z3 : N.1 (20, o').1 (20, o').2 3 = t 54 o' := k9
  have w1 : N.1 (20, o).1 (20, o).2 1 = t 52 o := hc4.2.1
  have w2 : N.1 (20, o).1 (20, o).2 2 = t 53 o := hc4.2.2.1
  have w3 : N.1 (20, o).1 (20, o).2 3 = t 54 o := hc4.2.2.2
  refine ⟨rfl, rfl, rfl, fun r => ⟨fun _ => sk (nolike fun u => r (by rw [z1, w1]; exact u.1)), fun u => absurd rfl u⟩, fun r => ⟨rfl, rfl, fun r2 => ⟨fun _ => sk (nolike fun u => r2 (by rw [z2, w2]; exact u.2.1)), fun u => absurd rfl u⟩, fun r2 => ⟨rfl, rfl, fun r3 => ⟨fun _ => sk (nolike fun u => r3 (by rw [z3, w3]; exact u.2.2)), fun u => absurd rfl u⟩, fun r3 => ⟨fun u => absurd u (by decide), fun _ => h2 (like ⟨?_, ?_, ?_⟩)⟩⟩⟩⟩
  · rw [z1, w1] at r; exact r
  · rw [z2, w2] at r2; exact r2
  · rw [z3, w3] at r3; exact r3
theorem lead_A {N : Mem} {t : DB} {c g o n : Nat} {Q : Nat × Nat → Mem → Prop} (hn : n ≤ 4021) (hg : g < 24) (h31 : t 31 g = 8) (nl : N.2.1 18 g 7 = (1, 0)) (e9 : N.2.1 1 0 9 = (30, 9)) (eS : N.1 30 9 0 = nI n) (eK : ∀ k, k < n → N.2.1 30 9 k = (21, k)) (hc4 : N.2.1 21 c 4 = (20, o) ∧ N.1 20 o 1 = t 52 o ∧ N.1 20 o 2 = t 53 o ∧ N.1 20 o 3 = t 54 o) (hH : ∀ j, j < n → j ≠ c → HK N t g j) (hno : ∀ j, j < n → ¬ LD t c g o j) (hQ : Q (0, 0) N) : ∀ r j, j + r = n → v_X13_leader_2 (r + 1) (18, g) (21, c) (nI j) N Q := by
  intro r
  induction r with
  | zero =>
    intro j hj
    refine ⟨rfl, fun e1 ee1 => ?_⟩
    have q1 : e1 = (1, 0) := ee1.trans nl
    subst q1
    refine ⟨rfl, fun e2 ee2 => ?_⟩
    have q2 : e2 = (30, 9) := ee2.trans e9
    subst q2
    have sz : N.1 (30, 9).1 (30, 9).2 0 = nI n := eS
    refine ⟨⟨by decide, by decide⟩, fun _ => hQ, fun y => ?_⟩
    rw [sz] at y
    exact absurd (nI_le (by omega) (by omega)) y
  | succ r ih =>
    intro j hj
    exact lead_st hn hg h31 nl e9 eS eK hc4 (by omega) (hH j (by omega)) (fun _ => ih (j + 1) (by omega)) (fun w => absurd w (hno j (by omega)))
theorem lead_B {N : Mem} {t : DB} {c g o n l : Nat} {Q : Nat × Nat → Mem → Prop} (hn : n ≤ 4021) (hg : g < 24) (h31 : t 31 g = 8) (nl : N.2.1 18 g 7 = (1, 0)) (e9 : N.2.1 1 0 9 = (30, 9)) (eS : N.1 30 9 0 = nI n) (eK : ∀ k, k < n → N.2.1 30 9 k = (21, k)) (hc4 : N.2.1 21 c 4 = (20, o) ∧ N.1 20 o 1 = t 52 o ∧ N.1 20 o 2 = t 53 o ∧ N.1 20 o 3 = t 54 o) (hH : ∀ j, j < n → j ≠ c → HK N t g j) (hl : l < n) (hld : LD t c g o l) (hu : ∀ j, j < n → LD t c g o j → j = l) (hQ : Q (21, l) N) : ∀ r j, j + r = l → v_X13_leader_2 (r + 1) (18, g) (21, c) (nI j) N Q := by
  intro r
  induction r with
  | zero =>
    intro j hj
    have : j = l := by omega
    subst this
    exact lead_st hn hg h31 nl e9 eS eK hc4 hl (hH j hl) (fun w => absurd hld w) (fun _ => hQ)
  | succ r ih =>
    intro j hj
    refine lead_st hn hg h31 nl e9 eS eK hc4 (by omega) (hH j (by omega)) (fun _ => ih (j + 1) (by omega)) (fun w => ?_)
    have := hu j (by omega) w
    omega
theorem NCt.lead {t t' : DB} {c o d p : Nat} {pb : Bool} {gv sv : Int32} (a : NCt t t' c o d pb p gv sv (-1) 0) : NCt t (up t' 78 c 1) c o d pb p gv sv (-1) 1 := by
  obtain ⟨a1, a2, a3⟩ := a
  refine ⟨a1.wu _ _ (by decide), a2, fun f h1 h2 i => ?_⟩
  by_cases e : f = 78
  · subst e
    by_cases ei : i = c
    · subst ei
      rw [up_s, if_pos rfl]; rfl
    · rw [up_n (fun y => ei y.2), a3 78 h1 h2, if_neg ei, if_neg ei]
  · rw [up_f e, a3 f h1 h2]
    by_cases ei : i = c
    · rw [if_pos ei, if_pos ei]
      unfold nV
      simp only [if_neg e]
    · rw [if_neg ei, if_neg ei]
theorem NCt.join {t t' : DB} {c o d p : Nat} {pb : Bool} {gv sv v : Int32} (a : NCt t t' c o d pb p gv sv (-1) 0) : NCt t (up t' 74 c v) c o d pb p gv sv v 0 := by
  obtain ⟨a1, a2, a3⟩ := a
  refine ⟨a1.wu _ _ (by decide), a2, fun f h1 h2 i => ?_⟩
  by_cases e : f = 74
  · subst e
    by_cases ei : i = c
    · subst ei
      rw [up_s, if_pos rfl]; rfl
    · rw [up_n (fun y => ei y.2), a3 74 h1 h2, if_neg ei, if_neg ei]
  · rw [up_f e, a3 f h1 h2]
    by_cases ei : i = c
    · rw [if_pos ei, if_pos ei]
      unfold nV
      simp only [if_neg e]
    · rw [if_neg ei, if_neg ei]

/-- what a join needs, ahead of the new call -/
def JBP (X : Mem) (m z : Nat) (P : List Nat) (N1 : Mem) (t0 : DB) (h c g o d p hT : Nat) (pb : Bool) : Prop := cn t0 61 = c ∧ c ≤ 4019 ∧ (pb = true → p < c) ∧ (∃ X0 z0 N0, SZ X0 m z0 P 100000 N0 t0) ∧
  (∀ jv lv t', NCt t0 t' c o d pb p (nI g) (-1) jv lv → ((lv = 1 ∧ jv = -1 ∧ ∀ k, k < c → t0 69 k = 0 → t0 78 k = 1 → t0 65 k = nI g → ∀ o', o' < cn t0 50 → t0 62 k = nI o' → ¬ (t0 52 o' = t0 52 o ∧ t0 53 o' = t0 53 o ∧ t0 54 o' = t0 54 o)) ∨ (lv = 0 ∧ ∃ l, l < c ∧ jv = nI l ∧ t0 65 l = nI g ∧ t0 78 l = 1 ∧ ∀ o', o' < cn t0 50 → t0 62 l = nI o' → t0 52 o = t0 52 o' ∧ t0 53 o = t0 53 o' ∧ t0 54 o = t0 54 o')) → SZ X m z P c (sR N1 21 c 8 (rn 21 jv)) t' ∧ I_P t') ∧
  N1.2.1 21 c 8 = (0, 0) ∧ N1.1 21 c 14 = 0 ∧ (h + 1100 ≤ 10000 ∧ 60 ≤ z) ∧ c ∉ P ∧ g < cn t0 30 ∧ t0 31 g = 8 ∧ o < cn t0 50 ∧ t0 88 0 = nI h ∧ (∃ T, t0 51 o = nI T ∧ T < cn t0 47 ∧ t0 48 T = nI hT ∧ hT ≤ 5 ∧ d < hT ∧ nI g = t0 49 (5 * T + d))
theorem gb_8 {k n : Nat} (hB : CB k n) {X : Mem} {m z : Nat} {P : List Nat} {N1 : Mem} {t0 : DB} {h c g o d p hT : Nat} {pb : Bool} (q : JBP X m z P N1 t0 h c g o d p hT pb) (hk : hT = d + 1 + k) : cq (n + 2 + 10) mX13_begins [.inr (18, g), .inr (21, c)] N1 (fun r N' => r = none ∧ ∃ u t', (∀ K : DB → Prop, K u → w_entered (nI c) (nI g) (nCm t0 c o d pb p (nI g) (-1)) K) ∧ PB c X m z P N' t' h (nCm t0 c o d pb p (nI g) (-1)) u) := by
  obtain ⟨hc, hc2, hpc, ⟨X0, z0, N0, hS0⟩, hmk, n8, n14, hh, hcP, hg, hs, ho, h88, ⟨T, hT1, hT2, hT3, hT4, hT5, hT6⟩⟩ := q
  have a := nCm_t (t := t0) (c := c) (o := o) (d := d) (p := p) (pb := pb) (gv := nI g) (sv := -1) hpc
  have newu := fun (jv lv : Int32) (t' : DB) (a' : NCt t0 t' c o d pb p (nI g) (-1) jv lv) => newU hc hc2 hS0.iU a'
  generalize nCm t0 c o d pb p (nI g) (-1) = t1 at *
  obtain ⟨ht, a61, av⟩ := a
  have a : NCt t0 t1 c o d pb p (nI g) (-1) (-1) 0 := ⟨ht, a61, av⟩
  have h24 : cn t0 30 ≤ 24 := hS0.iB.2.2.2.1.2
  have h50 : cn t0 50 ≤ 60 := hS0.iB.2.2.2.2.2.1.2
  have hn0 := hS0.nC
  have zz : ∀ f, f ∉ CC → t1 f = t0 f := fun f hf => ht f hf
  have vn : ∀ f, 62 ≤ f → f ≤ 79 → t1 f c = nV o d (if pb then nI p else -1) (nI g) (-1) (t0 0 0) (-1) 0 f := fun f h1 h2 => by rw [av f h1 h2, if_pos rfl]
  have vo : ∀ f, 62 ≤ f → f ≤ 79 → f ≠ 73 → ∀ i, i ≠ c → t1 f i = t0 f i := fun f h1 h2 h3 i hi => by rw [av f h1 h2, if_neg hi, if_neg (fun e => h3 e.1)]
  have t61 : t1 61 0 = nI (c + 1) := by rw [a61]; exact up_s
  have c61 : cn t1 61 = c + 1 := by unfold cn; rw [t61, nI_clamp (by omega)]
  have vc : vp_in (nI c) 4400 := vp_in_nI (by omega) (by decide)
  have cc : (nI c).toNatClampNeg = c := nI_clamp (by omega)
  have vg : vp_in (nI g) 24 := vp_in_nI (by omega) (by decide)
  have cg : (nI g).toNatClampNeg = g := nI_clamp (by omega)
  have hs1 : t1 31 g = 8 := by rw [zz 31 (by decide)]; exact hs
  have no : ∀ j, j ≤ 9 → j ≠ 8 → ¬ t1 31 g = nI j := fun j hj hne y => hne ((nI_eq (by omega) (by omega)).mp (y.symm.trans (show t1 31 g = nI 8 from hs1)))
  have e62c : t1 62 c = nI o := vn 62 (by decide) (by decide)
  have mdl : ∀ K : DB → Prop, w_entered_429 (c + 1 + 1) (nI c) (nI g) (nI o) (nI (c + 1) + (-1)) t1 K → w_entered (nI c) (nI g) t1 K := fun K hK => by
    unfold w_entered
    rw [cc, cg]
    refine ⟨vc, fun x1 e1 => ⟨vg, fun y => absurd y (no 0 (by decide) (by decide)), fun y => absurd y (no 1 (by decide) (by decide)), fun y => absurd y (no 2 (by decide) (by decide)), fun y => absurd y (no 3 (by decide) (by decide)), fun y => absurd y (no 4 (by decide) (by decide)), fun y => absurd y (no 5 (by decide) (by decide)), fun y => absurd y (no 6 (by decide) (by decide)), fun y => absurd y (no 7 (by decide) (by decide)), fun _ x34 e34 => ⟨c + 1 + 1, ?_⟩, fun y0 y1 y2 y3 y4 y5 y6 y7 y8 => absurd hs1 y8⟩⟩
    rw [e62c] at e1
    rw [t61, nI_pred] at e34
    subst e1; subst e34
    rw [pk_m1] at hK
    exact hK
  have ords : ∀ j, j < c + 1 → (∃ o', o' < 60 ∧ t1 62 j = nI o') ∧ (t1 78 j = 0 ∨ t1 78 j = 1) := fun j hj => by
    by_cases e : j = c
    · subst e
      exact ⟨⟨o, by omega, e62c⟩, Or.inl (vn 78 (by decide) (by decide))⟩
    · obtain ⟨o', s', b1, b2, b3, -⟩ := hS0.ord (p := j) (by omega)
      rw [vo 62 (by decide) (by decide) (by decide) j e, vo 78 (by decide) (by decide) (by decide) j e]
      exact ⟨⟨o', by omega, b3⟩, (hS0.iH j (by omega)).2.2.2.2.2.2.2.1⟩
  have h74c : t1 74 c = -1 := vn 74 (by decide) (by decide)
  -- who leads, in the old table
  have ldo : ∀ j, j < c + 1 → (LD t1 c g o j ↔ j < c ∧ t0 69 j = 0 ∧ t0 78 j = 1 ∧ t0 65 j = nI g ∧ ∃ o', o' < cn t0 50 ∧ t0 62 j = nI o' ∧ t0 52 o' = t0 52 o ∧ t0 53 o' = t0 53 o ∧ t0 54 o' = t0 54 o) := fun j hj => by
    unfold LD
    rw [zz 52 (by decide), zz 53 (by decide), zz 54 (by decide)]
    constructor
    · rintro ⟨u1, u2, u3, u4, o', u5, u6, u7⟩
      rw [vo 69 (by decide) (by decide) (by decide) j u1] at u2
      rw [vo 65 (by decide) (by decide) (by decide) j u1] at u3
      rw [vo 78 (by decide) (by decide) (by decide) j u1] at u4
      rw [vo 62 (by decide) (by decide) (by decide) j u1] at u6
      obtain ⟨o'', s', b1, b2, b3, -⟩ := hS0.ord (p := j) (by omega)
      have : o' = o'' := (nI_eq (by omega) (by omega)).mp (u6.symm.trans b3)
      exact ⟨by omega, u2, u4, u3, o', by omega, u6, u7⟩
    · rintro ⟨u1, u2, u3, u4, o', u5, u6, u7⟩
      have e : j ≠ c := by omega
      rw [vo 69 (by decide) (by decide) (by decide) j e, vo 65 (by decide) (by decide) (by decide) j e, vo 78 (by decide) (by decide) (by decide) j e, vo 62 (by decide) (by decide) (by decide) j e]
      exact ⟨e, u2, u4, u3, o', by omega, u6, u7⟩
  -- what the component reads
  have rd : ∀ (N' : Mem) (t' : DB), SZ X m z P c N' t' → TF t1 t' [74, 78] → (∀ i, i ≠ c → t' 74 i = t1 74 i ∧ t' 78 i = t1 78 i) → N'.1 = N1.1 → (∀ k i f, ¬ (k = 21 ∧ i = c ∧ f = 8) → N'.2.1 k i f = N1.2.1 k i f) → N1.2.1 18 g 7 = (1, 0) ∧ N1.2.1 1 0 9 = (30, 9) ∧ N1.1 30 9 0 = nI (c + 1) ∧ (∀ k, k < c + 1 → N1.2.1 30 9 k = (21, k)) ∧ (N1.2.1 21 c 4 = (20, o) ∧ N1.1 20 o 1 = t1 52 o ∧ N1.1 20 o 2 = t1 53 o ∧ N1.1 20 o 3 = t1 54 o) ∧ ∀ j, j < c + 1 → j ≠ c → HK N1 t1 g j := by
    intro N' t' hS' ht' h7 eI eR
    have z' : ∀ f, f ∉ [74, 78] → t' f = t1 f := fun f hf => ht' f hf
    have k61 : cn t' 61 = c + 1 := by rw [cn_fr (z' 61 (by decide))]; exact c61
    have k30 : cn t' 30 = cn t0 30 := by rw [cn_fr (z' 30 (by decide)), cn_fr (zz 30 (by decide))]
    have ordr : ∀ j, j < c + 1 → ∃ o', o' < 60 ∧ t1 62 j = nI o' ∧ N1.2.1 21 j 4 = (20, o') ∧ N1.1 20 o' 1 = t1 52 o' ∧ N1.1 20 o' 2 = t1 53 o' ∧ N1.1 20 o' 3 = t1 54 o' := fun j hj => by
      obtain ⟨o', s', b1, b2, b3, b4, b5, b6, b7, b8, b9⟩ := hS'.ord (p := j) (by rw [k61]; exact hj)
      rw [z' 62 (by decide)] at b3
      rw [z' 52 (by decide)] at b6
      rw [z' 53 (by decide)] at b8
      rw [z' 54 (by decide)] at b9
      rw [eI] at b7 b8 b9
      rw [eR 21 j 4 (by omega)] at b4
      exact ⟨o', by omega, b3, b4, b7.trans b6.symm, b8, b9⟩
    refine ⟨?_, ?_, ?_, fun k hk => ?_, ?_, fun j hj hjc => ?_⟩
    · obtain ⟨s', a1, a2, -, -, -, -, -, -, -, -, a11⟩ := hS'.G g (by rw [k30]; exact hg)
      have es : s' = 8 := (nI_eq (by omega) (by omega)).mp (a2.symm.trans (by rw [z' 31 (by decide)]; exact hs1))
      subst es
      rw [← eR 18 g 7 (by omega)]
      exact a11
    · rw [← eR 1 0 9 (by omega)]
      exact hS'.W.1 9 (by decide) (by decide)
    · rw [← eI]
      have := hS'.S (9, 61, 0) (by decide)
      exact this.trans (by show t' 61 0 = _; rw [z' 61 (by decide)]; exact t61)
    · rw [← eR 30 9 k (by omega)]
      exact hS'.K (9, 21, 61) (by decide) k (by show k < cn t' 61; rw [k61]; exact hk)
    · obtain ⟨o', b1, b2, b3, b4, b5, b6⟩ := ordr c (by omega)
      have : o' = o := (nI_eq (by omega) (by omega)).mp (b2.symm.trans e62c)
      subst this
      exact ⟨b3, b4, b5, b6⟩
    · have hj' : j < cn t' 61 := by rw [k61]; exact hj
      refine ⟨?_, ?_, ?_, ordr j hj, fun e65 => ?_⟩
      · rw [← eR 21 j 6 (by omega), (hS'.C j hj').1, z' 65 (by decide), gn_fr (z' 31 (by decide))]
      · rw [← eI]
        exact (hS'.I (21, 11, 69, 61) (by decide) j hj').trans (by show t' 69 j = t1 69 j; rw [z' 69 (by decide)])
      · rw [← eR 21 j 8 (fun y => hjc y.2.1), ← (h7 j hjc).1]
        exact hS'.R (21, 8, 21, 74, 61) (by decide) j hj'
      · rcases ((hS'.iZ j hj').1 g (by rw [k30]; exact hg) (by rw [z' 65 (by decide)]; exact e65)).2.2.2.2 (by rw [z' 31 (by decide)]; exact hs1) with ⟨w1, w2⟩ | ⟨w1, -, l, w3, w4, -⟩
        · exact Or.inl ⟨by rw [← (h7 j hjc).2]; exact w1, by rw [← (h7 j hjc).1]; exact w2⟩
        · exact Or.inr ⟨by rw [← (h7 j hjc).2]; exact w1, l, by omega, by rw [← (h7 j hjc).1]; exact w4⟩
  have t72 : ∀ (v : Int32) (f : Nat), f ≠ 72 → up t1 f c v 72 = t1 72 := fun v f hf => funext fun i => up_f (fun e => hf e.symm)
  by_cases ex : ∃ l, l < c + 1 ∧ LD t1 c g o l
  · -- joined
    obtain ⟨l, hl, hld⟩ := ex
    obtain ⟨l1, l2, l3, l4, lo, l5, l6, l7⟩ := (ldo l hl).mp hld
    have uq1 : ∀ j, j < c + 1 → LD t1 c g o j → j = l := fun j hj hjd => by
      obtain ⟨j1, j2, j3, j4, jo, j5, j6, j7⟩ := (ldo j hj).mp hjd
      refine hS0.iL j l (by omega) (by omega) j2 l2 j3 l3 (j4.trans l4.symm) (fun o1 o2 ho1 ho2 e1 e2 => ?_)
      have x1 : o1 = jo := (nI_eq (by omega) (by omega)).mp (e1.symm.trans j6)
      have x2 : o2 = lo := (nI_eq (by omega) (by omega)).mp (e2.symm.trans l6)
      subst x1; subst x2
      exact ⟨j7.1.trans l7.1.symm, j7.2.1.trans l7.2.1.symm, j7.2.2.trans l7.2.2.symm⟩
    obtain ⟨sz, ip⟩ := hmk (nI l) 0 (up t1 74 c (nI l)) a.join (Or.inr ⟨rfl, l, l1, rfl, l4, l3, fun o' ho' e => by
      have : o' = lo := (nI_eq (by omega) (by omega)).mp (e.symm.trans l6)
      subst this
      exact ⟨l7.1.symm, l7.2.1.symm, l7.2.2.symm⟩⟩)
    rw [rn_j (by omega)] at sz
    have ht' : TF t1 (up t1 74 c (nI l)) [74, 78] := TF.rf.wu _ _ (by decide)
    obtain ⟨d1, d2, d3, d4, d5, d6⟩ := rd _ _ sz ht' (fun i hi => ⟨up_n (fun y => hi y.2), up_f (by decide)⟩) rfl (fun k' i f hne => sR_ne hne)
    refine sv_X13_begins (d := n + 1) (Q := fun N' => ∃ u t', (∀ K : DB → Prop, K u → w_entered (nI c) (nI g) t1 K) ∧ PB c X m z P N' t' h t1 u) (fun N' w => ⟨rfl, w⟩) ⟨rfl, l + 1, lead_B (by omega) (by omega) hs1 d1 d2 d3 d4 d5 d6 hl hld uq1 ?_ l 0 (by omega)⟩
    refine ⟨rfl, fun M3 g3 => ⟨rfl, fun e4 ee4 => ?_⟩⟩
    have q4 : e4 = (21, l) := by
      rw [ee4, g3]
      exact if_pos ⟨rfl, rfl, rfl⟩
    refine ⟨fun _ => ⟨rfl, fun M5 g5 => ?_⟩, fun y => (ne021 (y.symm.trans q4)).elim⟩
    subst g3; subst g5
    have c74 : up t1 74 c (nI l) 74 c = nI l := up_s
    have nu := newu _ _ _ (a.join (v := nI l))
    have hL := (sz.f14 hcP (v := 3)).live nu (by
      rw [show (sI (sR N1 21 c 8 (21, l)) 21 c 14 3).1 21 c 14 = 3 from if_pos ⟨rfl, rfl, rfl⟩]
      unfold stOf
      rw [show up t1 74 c (nI l) 75 c = 0 from (up_f (by decide)).trans (vn 75 (by decide) (by decide)), show up t1 74 c (nI l) 76 c = 0 from (up_f (by decide)).trans (vn 76 (by decide) (by decide)), c74, if_neg (by decide), if_neg (by decide), if_neg (nI_pos (by omega))]) (fun g' e hg' => by
      have e65 : up t1 74 c (nI l) 65 c = nI g := (up_f (by decide)).trans (vn 65 (by decide) (by decide))
      have hg'' : g' < cn t0 30 := by
        rw [show cn (up t1 74 c (nI l)) 30 = cn t0 30 from cn_fr (zz 30 (by decide))] at hg'
        exact hg'
      have eg : g' = g := (nI_eq (by omega) (by omega)).mp (e.symm.trans e65)
      subst eg
      exact ⟨fun y => absurd (show t1 31 g' = nI 0 from y) (no 0 (by decide) (by decide)), fun y => absurd (show t1 31 g' = nI 1 from y) (no 1 (by decide) (by decide))⟩)
    refine ⟨up t1 74 c (nI l), up t1 74 c (nI l), fun K hK => mdl K ?_, RUN.rf, ⟨by rw [up_f (by decide), zz 88 (by decide)]; exact h88, fun f h1 h2 i _ => up_f (by omega)⟩, ⟨hL, ip⟩, MB.ofT (C := [74]) (TF.rf.wu _ _ (by decide)) (by decide) (fun i _ => up_f (by decide)), WA.of (C := [74]) (TF.rf.wu _ _ (by decide)) (by decide)⟩
    have := w_429_B (t := t1) (c := c) (g := g) (o := o) (n := c + 1) (l := l) (Q := K) (by omega) (by omega) (by omega) ords hl hld uq1 hK (c + 1) (Nat.le_refl _)
    rw [if_neg (by omega)] at this
    exact this
  · -- leads
    have hno : ∀ j, j < c + 1 → ¬ LD t1 c g o j := fun j hj w => ex ⟨j, hj, w⟩
    obtain ⟨sz, ip⟩ := hmk (-1) 1 (up t1 78 c 1) a.lead (Or.inl ⟨rfl, rfl, fun k' hk' w1 w2 w3 o' ho' w4 w5 => hno k' (by omega) ((ldo k' (by omega)).mpr ⟨hk', w1, w2, w3, o', ho', w4, w5⟩)⟩)
    rw [show rn 21 (-1) = (0, 0) from rfl, sR_id n8] at sz
    have ht' : TF t1 (up t1 78 c 1) [74, 78] := TF.rf.wu _ _ (by decide)
    obtain ⟨d1, d2, d3, d4, d5, d6⟩ := rd _ _ sz ht' (fun i hi => ⟨up_f (by decide), up_n (fun y => hi y.2)⟩) rfl (fun k' i f hne => rfl)
    have nu := newu _ _ _ a.lead
    have uf : ∀ f i, f ≠ 78 → up t1 78 c 1 f i = t1 f i := fun f i hf => up_f hf
    have uz : ∀ f, f ≠ 78 → f ∉ CC → up t1 78 c 1 f = t0 f := fun f hf hf2 => (funext fun i => up_f hf).trans (zz f hf2)
    have e65 : up t1 78 c 1 65 c = nI g := (uf 65 c (by decide)).trans (vn 65 (by decide) (by decide))
    have hL := sz.live nu (by
      rw [n14]
      unfold stOf
      rw [uf 75 c (by decide), uf 76 c (by decide), uf 74 c (by decide), vn 75 (by decide) (by decide), vn 76 (by decide) (by decide), h74c]
      rfl) (fun g' e hg' => by
      have hg'' : g' < cn t0 30 := by
        rw [show cn (up t1 78 c 1) 30 = cn t0 30 from cn_fr (zz 30 (by decide))] at hg'
        exact hg'
      have eg : g' = g := (nI_eq (by omega) (by omega)).mp (e.symm.trans e65)
      subst eg
      exact ⟨fun y => absurd (show t1 31 g' = nI 0 from y) (no 0 (by decide) (by decide)), fun y => absurd (show t1 31 g' = nI 1 from y) (no 1 (by decide) (by decide))⟩)
    have k61 : cn (up t1 78 c 1) 61 = c + 1 := c61
    have z73 : up t1 78 c 1 73 c = 0 := (uf 73 c (by decide)).trans (vn 73 (by decide) (by decide))
    obtain ⟨r1, r2⟩ := gi_c hB (h := h) (o := o) (d := d) (c := c) (g := g) (hT := hT) ⟨hL, ip⟩ hh (by rw [k61]; omega) ((uf 69 c (by decide)).trans (vn 69 (by decide) (by decide))) (by rw [cn_fr (uz 50 (by decide) (by decide))]; exact ho) ((uf 62 c (by decide)).trans e62c) ((uf 63 c (by decide)).trans (vn 63 (by decide) (by decide))) ⟨T, by rw [uz 51 (by decide) (by decide)]; exact hT1, by rw [cn_fr (uz 47 (by decide) (by decide))]; exact hT2, by rw [uz 48 (by decide) (by decide)]; exact hT3, hT4, hT5, by rw [e65, uz 49 (by decide) (by decide)]; exact hT6⟩ e65 (by rw [cn_fr (uz 30 (by decide) (by decide))]; exact hg) ((uf 75 c (by decide)).trans (vn 75 (by decide) (by decide))) ((uf 76 c (by decide)).trans (vn 76 (by decide) (by decide))) (fun _ => up_s) ⟨0, z73, by omega, fun _ => by omega, fun _ _ => by omega⟩ (fun j hj e => absurd z73 (hL.inner (by rw [k61]; omega) hj e)) (by rw [uz 88 (by decide) (by decide)]; exact h88) hk
    refine sv_X13_begins (d := n + 1) (Q := fun N' => ∃ u t', (∀ K : DB → Prop, K u → w_entered (nI c) (nI g) t1 K) ∧ PB c X m z P N' t' h t1 u) (fun N' w => ⟨rfl, w⟩) ⟨rfl, c + 1 + 1, lead_A (by omega) (by omega) hs1 d1 d2 d3 d4 d5 d6 hno ?_ (c + 1) 0 (by omega)⟩
    refine ⟨rfl, fun M3 g3 => ⟨rfl, fun e4 ee4 => ?_⟩⟩
    rw [show (21, c).1 = 21 from rfl, show (21, c).2 = c from rfl, sR_id n8] at g3
    subst g3
    have q4 : e4 = (0, 0) := ee4.trans n8
    refine ⟨fun y => absurd q4 y, fun _ => ⟨rfl, fun e6 ee6 => ?_⟩⟩
    have q6 : e6 = (1, 0) := ee6.trans d1
    subst q6
    refine ⟨rfl, r2.mono ?_⟩
    rintro r N' ⟨hr, t', b1, -⟩
    refine ⟨hr, _, t', fun K hK => mdl K ?_, b1.pre (MB.ofT (C := [78]) (TF.rf.wu _ _ (by decide)) (by decide) (fun i _ => up_f (by decide))) (k61.trans c61.symm) (WA.of (C := [78]) (TF.rf.wu _ _ (by decide)) (by decide)) (fun f h1 h2 i _ => up_f (by omega))⟩
    exact w_429_A (t := t1) (c := c) (g := g) (o := o) (n := c + 1) (Q := K) (by omega) (by omega) (by omega) ords hno h74c (r1 K hK) (c + 1) (Nat.le_refl _)
