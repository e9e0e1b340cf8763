set_option maxRecDepth 100000
/-! a second goes by -/
theorem tick88 {t0 t1 t2 t3 t4 : DB} {Q : DB → Prop} {k : Nat}
    (h0 : ∀ (K88 : Int32 → DB → Prop) (Q : DB → Prop), (∀ x, x = 0 + 1 → K88 x t1) → ∃ a, w_tick_95 a K88 0 (nI 0) t0 Q)
    (h1 : ∀ (K88 : Int32 → DB → Prop) (Q : DB → Prop), (∀ x, x = 1 + 1 → K88 x t2) → ∃ a, w_tick_95 a K88 1 (nI 0) t1 Q)
    (h2 : ∀ (K88 : Int32 → DB → Prop) (Q : DB → Prop), (∀ x, x = 2 + 1 → K88 x t3) → ∃ a, w_tick_95 a K88 2 (nI 0) t2 Q)
    (h3 : ∀ (K88 : Int32 → DB → Prop) (Q : DB → Prop), (∀ x, x = 3 + 1 → K88 x t4) → ∃ a, w_tick_95 a K88 3 (nI 0) t3 Q)
    (h4 : w_tick_256 k (nI 0) t4 Q) : ∃ a, w_tick_88 a 0 t0 Q := by
  refine ⟨5, fun y => absurd y (by decide), fun _ => h0 _ _ (fun x e => ?_)⟩
  have ex : x = 1 := e
  subst ex
  refine ⟨fun y => absurd y (by decide), fun _ => h1 _ _ (fun x e => ?_)⟩
  have ex : x = 2 := e
  subst ex
  refine ⟨fun y => absurd y (by decide), fun _ => h2 _ _ (fun x e => ?_)⟩
  have ex : x = 3 := e
  subst ex
  refine ⟨fun y => absurd y (by decide), fun _ => h3 _ _ (fun x e => ?_)⟩
  have ex : x = 4 := e
  subst ex
  exact ⟨fun _ => ⟨k, h4⟩, fun y => absurd (by decide) y⟩
theorem pass_c {k : Nat} (hk : 102 ≤ k) {X : Mem} {m T : Nat} {N : Mem} {t : DB} (q : QS (fun _ => True) X m N t) (hT : t 0 0 = nI T) (hT1 : T + 1 ≤ 100 * m) : cq (k + 15) mX0_pass [.inr (1, 0)] N (fun r N' => r = none ∧ ∃ t', QS (fun _ => True) X m N' t' ∧ t' 0 0 = nI (T + 1) ∧ ∀ Q, Q t' → w_tick t Q) := by
  obtain ⟨hS, hW, hV, h88⟩ := q
  have hm : m ≤ 100 := by
    obtain ⟨-, -, -, hm⟩ := hS.iK
    exact hm
  have h24 : cn t 30 ≤ 24 := hS.iB.2.2.2.1.2
  have tm : N.1 1 0 0 = nI T := hS.W.2.1.trans hT
  have ht1 : TF t (up t 0 0 (nI (T + 1))) [0] := TF.rf.wu _ _ (by decide)
  have q1 : QS (fun _ => False) X m (sI N 1 0 0 (nI (T + 1))) (up t 0 0 (nI (T + 1))) := by
    refine ⟨⟨hS.1.time hT1, hS.2.fr ht1 (by decide)⟩, hW.fr ht1 (by decide), ?_, by rw [ht1 88 (by decide)]; exact h88⟩
    intro c hc g hg e
    rw [ht1.cn (by decide)] at hc hg
    rw [ht1 65 (by decide)] at e
    rw [ht1 31 (by decide), ht1 73 (by decide), ht1 72 (by decide), up_s]
    obtain ⟨v1, v2⟩ := hV c hc g hg e
    refine ⟨v1, fun e1 e2 => Or.inl ?_⟩
    have lt : nI T < nI (T + 1) := nI_lt (by omega) (by omega)
    rcases v2 e1 e2 with w | ⟨-, w⟩
    · rw [hT] at w
      exact Int32.lt_trans w lt
    · rw [w, hT]
      exact lt
  have c24 : cn (up t 0 0 (nI (T + 1))) 30 = cn t 30 := ht1.cn (by decide)
  have z1 : up t 0 0 (nI (T + 1)) 0 0 = nI (T + 1) := up_s
  have wt : ∀ Q, (∃ a, w_tick_12 a (nI 0) (up t 0 0 (nI (T + 1))) Q) → w_tick t Q := fun Q h t1 e1 => by
    rw [hT, nI_1] at e1
    subst e1
    exact h
  generalize up t 0 0 (nI (T + 1)) = t1 at *
  show cq (k + 4 + 11) mX0_pass [.inr (1, 0)] N _
  refine sv_X0_pass (d := k + 4) (Q := fun N' => ∃ t', QS (fun _ => True) X m N' t' ∧ t' 0 0 = nI (T + 1) ∧ ∀ Q, Q t' → w_tick t Q) (fun N' w => ⟨rfl, w⟩) ⟨rfl, rfl, fun M1 g1 => ⟨cn t 30 + 1, ?_⟩⟩
  have g1' : M1 = sI N 1 0 0 (nI (T + 1)) := by
    rw [g1]
    show sI N 1 0 0 (N.1 1 0 0 + 1) = _
    rw [tm, nI_1]
  subst g1'
  refine tok_l (n := k + 4) (T0 := t1) (W0 := fun Q => w_tick t Q) h24 ?_ (cn t 30) 0 (by omega) _ t1 c24 q1 TF.rf (fun Q h => wt Q h)
  intro N2 t2 q2 f2 acc2
  refine ⟨4021 + 1, ph0_l (n := k + 4) (by omega) (T0 := t2) ?_ 4021 0 (by omega) N2 t2 q2 TF.rf (fun _ _ h => h) (Nat.zero_le _)⟩
  intro N3 t3 q3 f3 h0
  obtain ⟨k', hk'⟩ : ∃ k', k + 4 + 10 = k' + 15 := ⟨k - 1, by omega⟩
  rw [hk']
  refine ⟨rfl, (dueOf_c (n := k') (s := 3) (x1 := 1) (by omega) (Or.inl ⟨rfl, rfl⟩) (fun e => absurd e (by decide)) q3).mono ?_⟩
  rintro r4 N4 ⟨hr4, t4, q4, f4, h1⟩
  have q4' : QS (fun _ => False) X m N4 t4 := q4.up (fun i y => y.elim id (fun e => absurd e (by decide)))
  refine ⟨hr4, rfl, (dueOf_c (n := k') (s := 5) (x1 := 2) (by omega) (Or.inr (Or.inl ⟨rfl, rfl⟩)) (fun _ _ y => y) q4').mono ?_⟩
  rintro r5 N5 ⟨hr5, t5, q5, f5, h2⟩
  have q5' : QS (fun _ => True) X m N5 t5 := q5.up (fun _ _ => trivial)
  refine ⟨hr5, rfl, (dueOf_c (n := k') (s := 4) (x1 := 3) (by omega) (Or.inr (Or.inr ⟨rfl, rfl⟩)) (fun e => absurd e (by decide)) q5').mono ?_⟩
  rintro r6 N6 ⟨hr6, t6, q6, f6, h3⟩
  have q6' : QS (fun _ => True) X m N6 t6 := q6.up (fun _ _ => trivial)
  have h24' : cn t6 30 ≤ 24 := q6'.1.iB.2.2.2.1.2
  refine ⟨hr6, cn t6 30 + 1, lets_l (n := k) (by omega) (T0 := t6) (W0 := fun Q => w_tick t Q) h24' ?_ (cn t6 30) 0 (by omega) N6 t6 rfl q6' TF.rf (fun Q hw => acc2 Q (tick88 h0 h1 h2 h3 hw))⟩
  intro N7 t7 q7 f7 acc7
  have h12 : cn t7 89 ≤ 12 := q7.1.iB.2.2.2.2.2.2.2.2.2.1.2
  refine ⟨cn t7 89 + 1, plans_l (n := k) hk (T0 := t7) (W0 := fun Q => w_tick t Q) h12 ?_ (cn t7 89) 0 (by omega) N7 t7 rfl q7 TF.rf acc7⟩
  intro N8 t8 q8 f8 acc8
  have h10 : cn t8 103 ≤ 10 := q8.1.iB.2.2.2.2.2.2.2.2.2.2.1.2
  refine ⟨cn t8 103 + 1, al_l (n := k + 4) (T0 := t8) (W0 := fun Q => w_tick t Q) h10 ?_ (cn t8 103) 0 (by omega) N8 t8 rfl q8 TF.rf acc8⟩
  intro N9 t9 q9 f9 acc9
  refine ⟨t9, q9, ?_, acc9⟩
  rw [f9 0 (by decide), f8 0 (by decide), f7 0 (by decide), f6 0 (by decide), f5 0 (by decide), f4 0 (by decide), f3 0 (by decide), f2 0 (by decide)]
  exact z1
theorem second_l {k : Nat} (hk : 102 ≤ k) {X : Mem} {m x : Nat} (hx : x ≤ 100) {Q : Int32 → Mem → Prop} {W0 : (Int32 → DB → Prop) → Prop}
    (hQ : ∀ N t, QS (fun _ => True) X m N t → (∀ Qm : Int32 → DB → Prop, Qm (t 60 0) t → W0 Qm) → Q (t 60 0) N) :
    ∀ r j, j + r = x → ∀ N t T, QS (fun _ => True) X m N t → t 0 0 = nI T → T + r ≤ 100 * m → (∀ Qm, w_second_21 (r + 1) (nI x) (nI j) t Qm → W0 Qm) → v_X0_second_20 (k + 5) (r + 1) (1, 0) (nI x) (nI j) N Q := by
  intro r
  induction r with
  | zero =>
    intro j hj N t T q hT hTm hacc
    refine ⟨fun _ => ⟨rfl, ?_⟩, fun y => absurd (nI_le (by omega) (by omega)) y⟩
    show Q (N.1 1 0 1) N
    rw [q.1.W.2.2]
    exact hQ N t q (fun Qm h => hacc Qm ⟨fun _ => h, fun y => absurd (nI_le (by omega) (by omega)) y⟩)
  | succ r ih =>
    intro j hj N t T q hT hTm hacc
    have nj : ¬ nI x ≤ nI j := nI_ge (by omega) (by omega)
    refine ⟨fun y => absurd y nj, fun _ => ⟨rfl, (pass_c hk q hT (by omega)).mono ?_⟩⟩
    rintro rr N' ⟨hr, t', u1, u2, u3⟩
    refine ⟨hr, fun x3 e3 => ?_⟩
    rw [nI_1] at e3
    subst e3
    refine ih (j + 1) (by omega) N' t' (T + 1) u1 u2 (by omega) (fun Qm hw => hacc Qm ⟨fun y => absurd y nj, fun _ => u3 _ (fun x3 e3 => ?_)⟩)
    rw [nI_1] at e3
    subst e3
    exact hw
/-- what is true between two calls of the law's -/
def ST (m : Nat) (N : Mem) (t : DB) : Prop := QS (fun _ => True) N m N t
