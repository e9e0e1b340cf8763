set_option maxRecDepth 100000
/-! kinds of failures, and whether a guard names one -/
def und : Nat → Int32 → Int32 → Bool
  | 0, _, _ => false
  | n + 1, k, b => if k = -1 then false else if k = b then true else und n (aboveV k.toNatClampNeg) b
def rkN (j : Nat) : Nat := if j = 0 then 1 else if j = 1 ∨ j = 4 ∨ j = 8 ∨ j = 14 then 2 else 3
theorem above_lo (j : Nat) (hj : j ≤ 15) : (aboveV j = -1 ∧ j = 0) ∨ ∃ i, i ≤ 15 ∧ aboveV j = nI i ∧ rkN i < rkN j := by
  have key : ∀ j, j < 16 → (aboveV j = -1 ∧ j = 0) ∨ ((aboveV j).toNatClampNeg ≤ 15 ∧ aboveV j = nI (aboveV j).toNatClampNeg ∧ rkN (aboveV j).toNatClampNeg < rkN j) := by decide
  rcases key j (by omega) with h | ⟨h1, h2, h3⟩
  · exact Or.inl h
  · exact Or.inr ⟨_, h1, h2, h3⟩
theorem w_over_s {j : Nat} {t : DB} {Q : Int32 → DB → Prop} (hj : j ≤ 15) (h : Q (aboveV j) t) : w_over (nI j) t Q := by
  have hj' : j < 16 := by omega
  unfold w_over
  have d : ∀ a : Nat, a < 2 ^ 31 → (nI j = nI a ↔ j = a) := fun a ha => nI_eq (by omega) ha
  have l : ∀ a : Nat, a < 2 ^ 31 → (nI a ≤ nI j ↔ a ≤ j) := fun a ha => nI_leI ha (by omega)
  have d0 : nI j = 0 ↔ j = 0 := d 0 (by decide)
  have d1 : nI j = 1 ↔ j = 1 := d 1 (by decide)
  have d4 : nI j = 4 ↔ j = 4 := d 4 (by decide)
  have d8 : nI j = 8 ↔ j = 8 := d 8 (by decide)
  have d14 : nI j = 14 ↔ j = 14 := d 14 (by decide)
  have l4 : (4 : Int32) ≤ nI j ↔ 4 ≤ j := l 4 (by decide)
  have l8 : (8 : Int32) ≤ nI j ↔ 8 ≤ j := l 8 (by decide)
  have l14 : (14 : Int32) ≤ nI j ↔ 14 ≤ j := l 14 (by decide)
  rw [d0, d1, d4, d8, d14, l4, l8, l14]
  unfold aboveV at h
  refine ⟨fun a0 => ⟨fun a1 => ?_, fun a1 => ⟨fun a4 => ?_, fun a4 => ⟨fun a8 => ?_, fun a8 => ⟨fun a14 => ⟨fun c4 => ⟨fun c8 => ⟨fun c14 => ?_, fun c14 => ?_⟩, fun c8 => ?_⟩, fun c4 => ?_⟩, fun a14 => ?_⟩⟩⟩⟩, fun a0 => ?_⟩
  · rw [if_neg a0, if_pos (Or.inl a1)] at h; exact h
  · rw [if_neg a0, if_pos (by omega)] at h; exact h
  · rw [if_neg a0, if_pos (by omega)] at h; exact h
  · rw [if_neg a0, if_neg (by omega), if_neg (by omega), if_neg (by omega), if_neg (by omega)] at h; exact h
  · rw [if_neg a0, if_neg (by omega), if_neg (by omega), if_neg (by omega), if_pos (by omega)] at h; exact h
  · rw [if_neg a0, if_neg (by omega), if_neg (by omega), if_pos (by omega)] at h; exact h
  · rw [if_neg a0, if_neg (by omega), if_pos (by omega)] at h; exact h
  · rw [if_neg a0, if_pos (by omega)] at h; exact h
  · rw [if_pos a0] at h; exact h
theorem rk_lt (j : Nat) : rkN j < 5 := by unfold rkN; split <;> (try split) <;> omega
theorem w_isUnder_s {j b : Nat} {t : DB} {Q : Int32 → DB → Prop} (hj : j ≤ 15) (hb : b ≤ 15) (h : Q (if und 5 (nI j) (nI b) then 1 else 0) t) : w_isUnder (nI j) (nI b) t Q := by
  have lp : ∀ n (k : Int32), (k = -1 ∧ 1 ≤ n) ∨ (∃ i, i ≤ 15 ∧ k = nI i ∧ rkN i < n) → Q (if und n k (nI b) then 1 else 0) t → w_isUnder_2 n (nI b) k t Q := by
    intro n
    induction n with
    | zero =>
      intro k hk hQ
      rcases hk with ⟨-, e⟩ | ⟨i, h1, h2, h3⟩ <;> omega
    | succ n ih =>
      intro k hk hQ
      unfold und at hQ
      refine ⟨fun e => ?_, fun e => ⟨fun e2 => ?_, fun e2 => ?_⟩⟩
      · rw [if_pos e] at hQ
        refine ⟨fun _ => hQ, fun q => ?_⟩
        rw [e] at q
        exact absurd q.symm (nI_m1 (by omega))
      · rw [if_neg e, if_pos e2] at hQ
        exact ⟨fun q => absurd e2 q, fun _ => hQ⟩
      · rw [if_neg e, if_neg e2] at hQ
        rcases hk with ⟨q, -⟩ | ⟨i, h1, h2, h3⟩
        · exact absurd q e
        · subst h2
          rw [nI_clamp (by omega)] at hQ
          refine w_over_s h1 (ih _ ?_ hQ)
          rcases above_lo i h1 with ⟨q, q2⟩ | ⟨i', q1, q2, q3⟩
          · refine Or.inl ⟨q, ?_⟩
            subst q2
            have : rkN 0 = 1 := rfl
            omega
          · exact Or.inr ⟨i', q1, q2, by omega⟩
  exact ⟨5, lp 5 (nI j) (Or.inr ⟨j, hj, rfl, rk_lt j⟩) h⟩
theorem v_isUnder_s {j : Nat} {b : Int32} {N : Mem} {t : DB} {Q : Int32 → Mem → Prop} (hH : S_H N t) (hj : j ≤ 15) (h : Q (if und 5 (nI j) b then 1 else 0) N) : v_X0_isUnder (nI j) b N Q := by
  have lp : ∀ n (k : Int32), (k = -1 ∧ 1 ≤ n) ∨ (∃ i, i ≤ 15 ∧ k = nI i ∧ rkN i < n) → Q (if und n k b then 1 else 0) N → v_X0_isUnder_2 n b k N Q := by
    intro n
    induction n with
    | zero =>
      intro k hk hQ
      rcases hk with ⟨-, e⟩ | ⟨i, h1, h2, h3⟩ <;> omega
    | succ n ih =>
      intro k hk hQ
      unfold und at hQ
      refine ⟨fun e => ?_, fun e => ⟨fun e2 => ?_, fun e2 => ?_⟩⟩
      · rw [if_pos e] at hQ; exact hQ
      · rw [if_neg e, if_neg e2] at hQ
        rcases hk with ⟨q, -⟩ | ⟨i, h1, h2, h3⟩
        · exact absurd q e
        · subst h2
          have hcl : (nI i).toNatClampNeg = i := nI_clamp (by omega)
          rw [hcl] at hQ
          refine ⟨⟨by decide, rfl, by show N.2.2.1 44 0 ≠ 0; rw [hH.1]; decide, by show vp_in (nI i) (N.2.2.1 44 0 - 1); rw [hH.1]; exact vp_in_nI (by omega) (by decide)⟩, fun x1 ex1 => ?_⟩
          rw [hcl, hH.2 i (by omega)] at ex1
          rw [ex1]
          refine ih _ ?_ hQ
          rcases above_lo i h1 with ⟨q, q2⟩ | ⟨i', q1, q2, q3⟩
          · refine Or.inl ⟨q, ?_⟩
            subst q2
            have : rkN 0 = 1 := rfl
            omega
          · exact Or.inr ⟨i', q1, q2, by omega⟩
      · rw [if_neg e, if_pos e2] at hQ; exact hQ
  exact ⟨5, lp 5 (nI j) (Or.inr ⟨j, hj, rfl, rk_lt j⟩) h⟩
/-- whether guard g names what came of call c -/
def nmd (t : DB) (c g : Nat) : Bool := decide (t 69 c = 2) && und 5 (t 24 (t 70 c).toNatClampNeg) (t 35 g)
theorem w_isNamed_s {X : Mem} {m z : Nat} {P : List Nat} {x : Nat} {N : Mem} {t : DB} (h : SZ X m z P x N t) {c g : Nat} {Q : Int32 → DB → Prop} (hc : c < cn t 61) (hg : g < cn t 30) (hQ : Q (if nmd t c g then 1 else 0) t) : w_isNamed (nI c) (nI g) t Q := by
  have h61 := h.nC
  have h24 := h.iB.2.2.2.1.2
  have h23 := h.iB.2.2.2.2.2.2.2.1.2
  have hcl : (nI c).toNatClampNeg = c := nI_clamp (by omega)
  have hgl : (nI g).toNatClampNeg = g := nI_clamp (by omega)
  have hv : vp_in (nI c) 4400 := vp_in_nI (by omega) (by decide)
  unfold w_isNamed
  rw [hcl, hgl]
  refine ⟨hv, fun e => ?_, fun e => ⟨hv, ?_⟩⟩
  · unfold nmd at hQ
    rw [decide_eq_false e] at hQ
    exact hQ
  · obtain ⟨f, hf, ef⟩ := (h.iH c hc).2.1 e
    obtain ⟨⟨k, hk, ek⟩, -⟩ := h.iX f hf
    obtain ⟨s, -, -, ⟨mm, hm, em⟩, -⟩ := h.iG g hg
    have hfl : (nI f).toNatClampNeg = f := nI_clamp (by omega)
    unfold nmd at hQ
    rw [decide_eq_true e, ef, hfl, ek, em] at hQ
    rw [ef, hfl, ek, em]
    refine ⟨vp_in_nI (by omega) (by decide), vp_in_nI (by omega) (by decide), w_isUnder_s hk hm ?_⟩
    rw [Bool.true_and] at hQ
    by_cases q : und 5 (nI k) (nI mm) = true
    · rw [if_pos q] at hQ ⊢
      exact ⟨fun z => absurd z (by decide), fun _ => hQ⟩
    · rw [if_neg q] at hQ ⊢
      exact ⟨fun _ => hQ, fun z => absurd rfl z⟩
theorem v_names_s {X : Mem} {m z : Nat} {P : List Nat} {x : Nat} {N : Mem} {t : DB} (h : SZ X m z P x N t) {c g s : Nat} {Q : Int32 → Mem → Prop} (hc : c < cn t 61) (hg : g < cn t 30) (hs : t 31 g = nI s) (hs9 : s ≤ 9) (hQ : Q (if nmd t c g then 1 else 0) N) : v_X4_names (10 + s, g) (21, c) N Q := by
  have h61 := h.nC
  have h24 := h.iB.2.2.2.1.2
  have h23 := h.iB.2.2.2.2.2.2.2.1.2
  have e11 : N.1 21 c 11 = t 69 c := h.I (21, 11, 69, 61) (by decide) c hc
  refine ⟨rfl, fun e => ?_, fun e => ⟨rfl, fun e1 ee1 => ?_⟩⟩
  · have e' : ¬ t 69 c = 2 := by rw [← e11]; exact e
    unfold nmd at hQ
    rw [decide_eq_false e'] at hQ
    exact hQ
  · have e' : t 69 c = 2 := by rw [← e11]; exact e
    obtain ⟨f, hf, ef⟩ := (h.iH c hc).2.1 e'
    obtain ⟨⟨k, hk, ek⟩, -⟩ := h.iX f hf
    obtain ⟨s', q1, q2, ⟨mm, hm, em⟩, -⟩ := h.iG g hg
    have hss : s' = s := (nI_eq (by omega) (by omega)).mp (q2.symm.trans hs)
    obtain ⟨s2, u1, u2, -, -, -, -, -, -, u5, -⟩ := h.G g hg
    have hss2 : s2 = s := (nI_eq (by omega) (by omega)).mp (u2.symm.trans hs)
    subst hss2
    have hfl : (nI f).toNatClampNeg = f := nI_clamp (by omega)
    have e16 := (h.C c hc).2.2.2
    rw [if_pos e', ef, rn_j (by omega)] at e16
    have he1 : e1 = (22, f) := ee1.trans e16
    subst he1
    have ek2 : N.1 22 f 1 = nI k := (h.I (22, 1, 24, 23) (by decide) f hf).trans ek
    refine ⟨rfl, by show 10 ≤ 10 + s2 ∧ 10 + s2 ≤ 19; omega, ?_⟩
    show v_X0_isUnder (N.1 22 f 1) (N.1 (10 + s2) g 5) N _
    rw [ek2, u5, em]
    refine v_isUnder_s h.H hk ?_
    unfold nmd at hQ
    rw [decide_eq_true e', ef, hfl, ek, em, Bool.true_and] at hQ
    by_cases q : und 5 (nI k) (nI mm) = true
    · rw [if_pos q] at hQ ⊢
      exact ⟨fun z => absurd z (by decide), fun _ => hQ⟩
    · rw [if_neg q] at hQ ⊢
      exact ⟨fun _ => hQ, fun z => absurd rfl z⟩
