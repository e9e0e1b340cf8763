set_option maxRecDepth 100000
/-! the phases, one by one -/
theorem w95_end {t : DB} {x1 : Int32} {K88 : Int32 → DB → Prop} {Q : DB → Prop} {n : Nat} (h61 : t 61 0 = nI n) (hn : n ≤ 4020) (hK : ∀ x, x = x1 + 1 → K88 x t) : ∃ a, w_tick_95 a K88 x1 (nI n) t Q := ⟨1, fun _ => hK, fun y => absurd (by rw [h61]; exact nI_le (Nat.le_refl _) (by omega)) y⟩
theorem dueOf_c {n s : Nat} (hn : 100 ≤ n) {X : Mem} {m : Nat} {N : Mem} {t : DB} {x1 : Int32} (hx : (s = 3 ∧ x1 = 1) ∨ (s = 5 ∧ x1 = 2) ∨ (s = 4 ∧ x1 = 3)) {S0 : Nat → Prop} (hS0 : s = 5 → ∀ i, ¬ S0 i) (q : QS S0 X m N t) : cq (n + 15) mX0_dueOf [.inr (1, 0), .inl (nI s)] N (fun r N' => r = none ∧ ∃ t', QS (fun i => S0 i ∨ s = 5) X m N' t' ∧ TF t t' RC ∧ ∀ (K88 : Int32 → DB → Prop) (Q : DB → Prop), (∀ x, x = x1 + 1 → K88 x t') → ∃ a, w_tick_95 a K88 x1 (nI 0) t Q) := by
  refine sv_X0_dueOf (d := n + 4) (Q := fun N' => ∃ t', QS (fun i => S0 i ∨ s = 5) X m N' t' ∧ TF t t' RC ∧ ∀ (K88 : Int32 → DB → Prop) (Q : DB → Prop), (∀ x, x = x1 + 1 → K88 x t') → ∃ a, w_tick_95 a K88 x1 (nI 0) t Q) (fun N' w => ⟨rfl, w⟩) ⟨4021 + 1, dueOf_l hn hx hS0 (T0 := t) (fun N' t' h1 h2 h3 => ⟨t', h1, h2, fun K88 Q hK => h3 K88 Q (w95_end h1.1.iB.2.2.2.2.2.2.1.1 h1.1.1.nC hK)⟩) 4021 0 (by omega) N t (q.up (fun i y => Or.inl y)) TF.rf (fun _ _ h => h) (Nat.zero_le _)⟩
/-- the tries that end -/
theorem ph0_l {n : Nat} (hn : 100 ≤ n) {X : Mem} {m : Nat} {T0 : DB} {S0 : Nat → Prop} {Q : Mem → Prop}
    (hQ : ∀ N t, QS S0 X m N t → TF T0 t (RC ++ EC) → (∀ (K88 : Int32 → DB → Prop) (Q : DB → Prop), (∀ x, x = 0 + 1 → K88 x t) → ∃ a, w_tick_95 a K88 0 (nI 0) T0 Q) → kt (1, 0).1 = 0 ∧ (cq (n + 10) mX0_dueOf [.inr (1, 0), .inl 3] N (fun r_ M_2 => r_ = none ∧ (kt (1, 0).1 = 0 ∧ (cq (n + 10) mX0_dueOf [.inr (1, 0), .inl 5] M_2 (fun r_ M_4 => r_ = none ∧ (kt (1, 0).1 = 0 ∧ (cq (n + 10) mX0_dueOf [.inr (1, 0), .inl 4] M_4 (fun r_ M_6 => r_ = none ∧ (∃ k, v_X0_pass_149 n k (1, 0) 0 M_6 Q)))))))))) :
    ∀ r j, j + r = 4021 → ∀ N t, QS S0 X m N t → TF T0 t (RC ++ EC) → (∀ (K88 : Int32 → DB → Prop) (Q : DB → Prop), (∃ a, w_tick_95 a K88 0 (nI j) t Q) → ∃ a, w_tick_95 a K88 0 (nI 0) T0 Q) → j ≤ cn t 61 → v_X0_pass_45 n (r + 1) (1, 0) (nI j) N Q := by
  intro r
  induction r with
  | zero =>
    intro j hj N t q hT hacc hjc
    have := q.1.1.nC
    omega
  | succ r ih =>
    intro j hj N t q hT hacc hjc
    have q0 := q
    obtain ⟨hS, hW, hV, h88⟩ := q
    have hn61 := hS.1.nC
    have h24 : cn t 30 ≤ 24 := hS.iB.2.2.2.1.2
    have b61 := hS.iB.2.2.2.2.2.2.1.1
    have e9 : N.2.1 1 0 9 = (30, 9) := hS.W.1 9 (by decide) (by decide)
    have sz : N.1 (30, 9).1 (30, 9).2 0 = nI (cn t 61) := (hS.S (9, 61, 0) (by decide)).trans b61
    have cj : (nI j).toNatClampNeg = j := nI_clamp (by omega)
    refine ⟨rfl, fun e1 ee1 => ?_⟩
    have q1 : e1 = (30, 9) := ee1.trans e9
    subst q1
    refine ⟨⟨by decide, by decide⟩, fun y => ?_, fun y => ⟨rfl, fun e2 ee2 => ?_⟩⟩
    · rw [sz] at y
      have := (nI_leI (by omega) (by omega)).mp y
      have ej : j = cn t 61 := by omega
      subst ej
      exact hQ N t q0 hT (fun K88 Q' hK => hacc K88 Q' (w95_end b61 hn61 hK))
    rw [sz] at y
    have hjn : j < cn t 61 := Nat.lt_of_not_le fun w => y (nI_le w (by omega))
    have inb : ¬ nI j < 0 ∧ nI j < N.1 (30, 9).1 (30, 9).2 0 := ⟨nI_pos (by omega), by rw [sz]; exact nI_lt hjn (by omega)⟩
    have ek := hS.K (9, 21, 61) (by decide) j hjn
    have e11 : N.1 21 j 11 = t 69 j := hS.I (21, 11, 69, 61) (by decide) j hjn
    have e15 : N.1 21 j 15 = t 72 j := hS.I (21, 15, 72, 61) (by decide) j hjn
    have e6 : N.2.1 21 j 6 = gn t (t 65 j) := (hS.C j hjn).1
    have tm : N.1 1 0 0 = t 0 0 := hS.W.2.1
    have next : ∀ (N' : Mem) (t' : DB), QS S0 X m N' t' → TF t t' (RC ++ EC) → MS 0 j t t' → cn t 61 ≤ cn t' 61 → ∀ x, x = nI j + 1 → v_X0_pass_45 n (r + 1) (1, 0) x N' Q := fun N' t' h1 h2 h3 h4 x e => by
      rw [nI_1] at e
      subst e
      exact ih (j + 1) (by omega) N' t' h1 (fun f hf => (h2 f hf).trans (hT f hf)) (fun K88 Q' ⟨a, ha⟩ => hacc K88 Q' ⟨a + 1, h3 a K88 Q' ha⟩) (by omega)
    have skip : MS 0 j t t → ∀ x, x = nI j + 1 → v_X0_pass_45 n (r + 1) (1, 0) x N Q := fun h => next N t q0 TF.rf h (Nat.le_refl _)
    have q2 : e2 = (30, 9) := ee2.trans e9
    subst q2
    refine ⟨⟨by decide, by decide⟩, inb, fun e3 ee3 => ?_⟩
    rw [cj] at ee3
    have q3 : e3 = (21, j) := ee3.trans ek
    subst q3
    refine ⟨rfl, rfl, fun e10 ee10 => ?_⟩
    have q10 : e10 = gn t (t 65 j) := ee10.trans e6
    rcases hS.1.grd hjn with h65 | ⟨g, sg, hg, h65, hs, hs9⟩
    · have z10 : e10 = (0, 0) := by rw [q10, h65]; rfl
      refine ⟨fun w => absurd z10 w, fun _ => ⟨rfl, fun e12 ee12 => ?_⟩⟩
      have q12 : e12 = (30, 9) := ee12.trans e9
      subst q12
      refine ⟨⟨by decide, by decide⟩, inb, fun e13 ee13 => ?_⟩
      rw [cj] at ee13
      have q13 : e13 = (21, j) := ee13.trans ek
      subst q13
      refine ⟨rfl, rfl, rfl, fun y1 => ⟨fun _ => skip (MS.no b61 hn61 hjn (fun w => y1 (e11.trans w.1))), fun w => absurd rfl w⟩, fun y1 => ⟨fun w => absurd w (by decide), fun _ => ⟨rfl, fun e17 ee17 => ?_⟩⟩⟩
      have q17 : e17 = (30, 9) := ee17.trans e9
      subst q17
      refine ⟨⟨by decide, by decide⟩, inb, fun e18 ee18 => ?_⟩
      rw [cj] at ee18
      have q18 : e18 = (21, j) := ee18.trans ek
      subst q18
      refine ⟨rfl, rfl, rfl, fun y2 => skip (MS.no b61 hn61 hjn (fun w => y2 ?_)), fun y2 => ⟨rfl, fun e20 ee20 => ?_⟩⟩
      · show N.1 21 j 15 = N.1 1 0 0
        rw [e15, tm]; exact w.2
      have h69 : t 69 j = 0 := e11.symm.trans y1
      have h72 : t 72 j = t 0 0 := by
        have : N.1 21 j 15 = N.1 1 0 0 := y2
        rw [e15, tm] at this
        exact this
      have q20 : e20 = (30, 9) := ee20.trans e9
      subst q20
      refine ⟨⟨by decide, by decide⟩, inb, fun e21 ee21 => ?_⟩
      rw [cj] at ee21
      have q21 : e21 = (21, j) := ee21.trans ek
      subst q21
      refine ⟨rfl, rfl, ?_⟩
      obtain ⟨k, hk⟩ : ∃ k, n + 10 = k + 12 := ⟨n - 2, by omega⟩
      rw [hk]
      refine (te_q (n := k) (by omega) q0 hjn h69 h65).mono ?_
      rintro rr N' ⟨hr, u, t', u1, u2, u3, u4, u5⟩
      exact ⟨hr, next N' t' u3 u4 (MS.te b61 hn61 hjn h69 h72 h65 u1 u2 u3.2.2.2) u5⟩
    · rw [h65, gn_j (by omega) hs hs9] at q10
      have n10 : ¬ e10 = (0, 0) := fun w => absurd (congrArg Prod.fst (q10.symm.trans w)) (by show ¬ 10 + sg = 0; omega)
      refine ⟨fun _ => skip ?_, fun w => absurd w n10⟩
      by_cases hd : t 69 j = 0 ∧ t 72 j = t 0 0
      · refine MS.idle (s0 := t 31 g) b61 hn61 hjn hd.1 hd.2 (Or.inr ⟨g, by omega, h65, rfl⟩) h88 (fun _ w => ?_) (fun w => absurd w (by decide)) (fun w => absurd w (by decide)) (fun w => absurd w (by decide))
        rw [hs] at w
        exact nI_m1 (by omega) w
      · exact MS.no b61 hn61 hjn hd
