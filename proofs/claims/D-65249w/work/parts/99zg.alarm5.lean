set_option maxRecDepth 100000
/-! the law's call alarm -/
theorem win_c {t : DB} {x0 x1 x2 : Int32} {K : Int32 → DB → Prop} (hno : (x0 < x1 ∨ x2 < x0) → K 0 t) (hyes : ¬ x0 < x1 → ¬ x2 < x0 → K 1 t) : w_in x0 x1 x2 t K :=
  ⟨fun a => hno (Or.inl a), fun a => ⟨fun b => hno (Or.inr b), fun b => hyes a b⟩⟩
theorem al117_0 {t : DB} {x1 x2 x3 : Int32} {Q : Int32 → DB → Prop} (h : Q (-2) t) : w_alarm_117 x1 x2 x3 0 t Q := ⟨fun v => absurd rfl v, fun _ => h⟩
theorem ap_alarm (x1 x2 x3 : Int32) : AP mX0_alarm [.inl x1, .inl x2, .inl x3] (w_alarm x1 x2 x3) := by
  intro n X m N t hn hm q
  have q' := q.mup (Nat.le_succ m) hm
  have b30 := q.1.iB.2.2.2.1
  have b24 : cn t 30 ≤ 24 := b30.2
  have b8 := q.1.iB.1
  have b88 : cn t 1 ≤ 8 := b8.2
  have w2 : N.2.1 1 0 2 = (30, 2) := q.1.W.1 2 (by decide) (by decide)
  have s2 : N.1 30 2 0 = t 1 0 := q.1.S (2, 1, 0) (by decide)
  have w5 : N.2.1 1 0 5 = (30, 5) := q.1.W.1 5 (by decide) (by decide)
  have s5 : N.1 30 5 0 = t 30 0 := q.1.S (5, 30, 0) (by decide)
  have eK : ∀ j, j < cn t 30 → ∃ s, s ≤ 9 ∧ t 31 j = nI s ∧ N.2.1 30 5 j = (10 + s, j) := fun j hj => by
    obtain ⟨s, a1, a2, a3, -⟩ := q.1.G j hj
    exact ⟨s, a1, a2, a3⟩
  have iG := q.1.iG
  show cq (n + 11 + 9) mX0_alarm [.inr (1, 0), .inl x1, .inl x2, .inl x3] N _
  refine sv_X0_alarm (d := n + 11) (Q := fun v N' => ∃ t', QS (fun _ => True) X (m + 1) N' t' ∧ ∀ Q, Q v t' → w_alarm x1 x2 x3 t Q) (fun v N' ⟨t', a, b⟩ => ⟨v, t', rfl, a, b⟩) ?_
  by_cases e0 : x1 = nI 0
  · subst e0
    have W0 : ∀ Q : Int32 → DB → Prop, w_isGuard x2 (nI 0) t (fun r_2 t_1 => ((r_2 = 0) → (Q (-1) t_1)) ∧ ((¬ r_2 = 0) → (w_alarm_13 (nI 0) x2 x3 t_1 Q))) → w_alarm (nI 0) x2 x3 t Q := fun Q h => ⟨fun v => absurd rfl v, fun _ => h⟩
    have W1 : ∀ Q : Int32 → DB → Prop, isGd t x2 0 → (((¬ x3 = 0) → (w_alarm_117 (nI 0) x2 x3 0 t Q)) ∧ ((x3 = 0) → (w_alarm_117 (nI 0) x2 x3 1 t Q))) → w_alarm (nI 0) x2 x3 t Q := fun Q hg h => W0 Q (isG_c b30 iG (by decide) (fun v => absurd hg v) (fun _ => ⟨fun v => absurd v (by decide), fun _ => ⟨fun _ => ⟨fun _ => ⟨fun v => absurd rfl v, fun _ => h⟩, fun v => absurd v (by decide)⟩, fun v => absurd v (by decide)⟩⟩))
    refine ⟨fun v => absurd rfl v, fun _ => ⟨rfl, fuseOf_c b30 w5 s5 eK (fun no => ⟨fun _ => ⟨t, q', fun Q hQ => W0 Q (isG_c b30 iG (by decide) (fun _ => ⟨fun _ => hQ, fun v => absurd rfl v⟩) (fun v => absurd v no))⟩, fun v => absurd rfl v⟩) (fun j hj ej h31 => ⟨fun v => absurd (congrArg Prod.fst v) (by show ¬ 10 = 0; decide), fun _ => ⟨fun _ => ⟨fun _ => in_c (fun h => absurd h (by decide)) (fun _ _ => ⟨fun v => absurd v (by decide), fun _ => ⟨fun _ => ⟨fun v => absurd rfl v, fun _ => in_c (fun h => ⟨fun _ => ⟨t, q', fun Q hQ => W1 Q ⟨j, hj, ej, h31⟩ ⟨fun _ => al117_0 hQ, fun v => ?_⟩⟩, fun v => absurd rfl v⟩) (fun c1 c2 => ⟨fun v => absurd v (by decide), fun _ => ⟨fun _ => ?_, fun v => absurd v (by decide)⟩⟩)⟩, fun v => absurd v (by decide)⟩⟩), fun v => absurd v (by decide)⟩, fun v => absurd v (by decide)⟩⟩)⟩⟩
    · rw [v] at h
      exact absurd h (by decide)
    · subst ej
      have z3 : x3 = 0 := Int32.le_antisymm (Int32.not_lt.mp c2) (Int32.not_lt.mp c1)
      exact al_0 q hm hj h31 (fun Q h => W1 Q ⟨j, hj, rfl, h31⟩ ⟨fun v => absurd z3 v, fun _ => h⟩)
  by_cases e1 : x1 = nI 1
  · subst e1
    have W0 : ∀ Q : Int32 → DB → Prop, w_isStation x2 t (fun r_2 t_1 => ((r_2 = 0) → (Q (-1) t_1)) ∧ ((¬ r_2 = 0) → (w_alarm_26 (nI 1) x2 x3 t_1 Q))) → w_alarm (nI 1) x2 x3 t Q := fun Q h => ⟨fun _ => ⟨fun v => absurd rfl v, fun _ => h⟩, fun v => absurd v (by decide)⟩
    refine ⟨fun _ => ⟨fun v => absurd rfl v, fun _ => ⟨rfl, fun e1 ee1 => ?_⟩⟩, fun v => absurd v (by decide)⟩
    have q1 : e1 = (30, 2) := ee1.trans w2
    subst q1
    refine has_c s2 (fun h => ⟨fun _ => ⟨t, q', fun Q hQ => W0 Q (wst_c (fun _ => ⟨fun _ => hQ, fun v => absurd rfl v⟩) (fun a b => absurd (ab_or h a b) id))⟩, fun v => absurd rfl v⟩) (fun a1 a2 => ⟨fun v => absurd v (by decide), fun _ => ?_⟩)
    obtain ⟨j, hj, ej⟩ := rngL (x := x2) (n := cn t 1) (by omega) a1 (by rw [← b8.1]; exact a2)
    subst ej
    have W1 : ∀ Q : Int32 → DB → Prop, w_in x3 0 1000000 t (fun r_10 t_9 => w_alarm_117 (nI 1) (nI j) x3 r_10 t_9 Q) → w_alarm (nI 1) (nI j) x3 t Q := fun Q h => W0 Q (wst_c (fun h => absurd (ab_or h a1 a2) id) (fun _ _ => ⟨fun v => absurd v (by decide), fun _ => ⟨fun _ => ⟨fun _ => ⟨fun v => absurd rfl v, fun _ => h⟩, fun v => absurd v (by decide)⟩, fun v => absurd v (by decide)⟩⟩))
    refine ⟨fun _ => in_c (fun h => absurd h (by decide)) (fun _ _ => ⟨fun v => absurd v (by decide), fun _ => ⟨fun _ => ⟨fun _ => ⟨fun _ => in_c (fun h => ⟨fun _ => ⟨t, q', fun Q hQ => W1 Q (win_c (fun _ => al117_0 hQ) (fun a b => absurd h (fun h => h.elim a b)))⟩, fun v => absurd rfl v⟩) (fun c1 c2 => ⟨fun v => absurd v (by decide), fun _ => ⟨fun _ => ?_, fun v => absurd v (by decide)⟩⟩), fun v => absurd v (by decide)⟩, fun v => absurd v (by decide)⟩, fun v => absurd v (by decide)⟩⟩), fun v => absurd v (by decide)⟩
    exact al_1 q hm hj (fun Q h => W1 Q (win_c (fun h => absurd h (fun h => h.elim c1 c2)) (fun _ _ => h)))
  by_cases e2 : x1 = nI 2
  · subst e2
    have W0 : ∀ Q : Int32 → DB → Prop, w_isGuard x2 (nI 1) t (fun r_2 t_1 => ((¬ r_2 = 0) → (w_alarm_42 (nI 2) x2 x3 t_1 Q)) ∧ ((r_2 = 0) → (Q (-1) t_1))) → w_alarm (nI 2) x2 x3 t Q := fun Q h => ⟨fun _ => ⟨fun _ => ⟨fun v => absurd rfl v, fun _ => h⟩, fun v => absurd v (by decide)⟩, fun v => absurd v (by decide)⟩
    have W1 : ∀ Q : Int32 → DB → Prop, isGd t x2 1 → w_in x3 1 10 t (fun r_7 t_6 => w_alarm_117 (nI 2) x2 x3 r_7 t_6 Q) → w_alarm (nI 2) x2 x3 t Q := fun Q hg h => W0 Q (isG_c b30 iG (by decide) (fun v => absurd hg v) (fun _ => ⟨fun _ => ⟨fun _ => ⟨fun _ => ⟨fun v => absurd rfl v, fun _ => h⟩, fun v => absurd v (by decide)⟩, fun v => absurd v (by decide)⟩, fun v => absurd v (by decide)⟩))
    refine ⟨fun _ => ⟨fun _ => ⟨fun v => absurd rfl v, fun _ => ⟨rfl, bulkOf_c b30 w5 s5 eK (fun no => ⟨fun v => absurd rfl v, fun _ => ⟨t, q', fun Q hQ => W0 Q (isG_c b30 iG (by decide) (fun _ => ⟨fun v => absurd rfl v, fun _ => hQ⟩) (fun v => absurd v no))⟩⟩) (fun j hj ej h31 => ⟨fun _ => in_c (fun h => absurd h (by decide)) (fun _ _ => ⟨fun v => absurd v (by decide), fun _ => ⟨fun v => absurd rfl v, fun _ => ⟨fun _ => ⟨fun v => absurd rfl v, fun _ => in_c (fun h => ⟨fun _ => ⟨t, q', fun Q hQ => W1 Q ⟨j, hj, ej, h31⟩ (win_c (fun _ => al117_0 hQ) (fun a b => absurd h (fun h => h.elim a b)))⟩, fun v => absurd rfl v⟩) (fun c1 c2 => ⟨fun v => absurd v (by decide), fun _ => ⟨fun _ => ?_, fun v => absurd v (by decide)⟩⟩)⟩, fun v => absurd v (by decide)⟩⟩⟩), fun v => absurd (congrArg Prod.fst v) (by show ¬ 11 = 0; decide)⟩)⟩⟩, fun v => absurd v (by decide)⟩, fun v => absurd v (by decide)⟩
    subst ej
    exact al_2 q hm hj h31 (fun Q h => W1 Q ⟨j, hj, rfl, h31⟩ (win_c (fun h => absurd h (fun h => h.elim c1 c2)) (fun _ _ => h)))
  by_cases e3 : x1 = nI 3
  · subst e3
    have W0 : ∀ Q : Int32 → DB → Prop, (((¬ x2 = 0) → (w_alarm_117 (nI 3) x2 x3 0 t Q)) ∧ ((x2 = 0) → (w_in x3 0 1000000 t (fun r_2 t_1 => ((r_2 = 0) → (w_alarm_117 (nI 3) x2 x3 0 t_1 Q)) ∧ ((¬ r_2 = 0) → (w_alarm_117 (nI 3) x2 x3 1 t_1 Q)))))) → w_alarm (nI 3) x2 x3 t Q := fun Q h => ⟨fun _ => ⟨fun _ => ⟨fun _ => ⟨fun _ => ⟨fun _ => ⟨fun _ => ⟨fun v => absurd rfl v, fun _ => h⟩, fun v => absurd v (by decide)⟩, fun v => absurd v (by decide)⟩, fun v => absurd v (by decide)⟩, fun v => absurd v (by decide)⟩, fun v => absurd v (by decide)⟩, fun v => absurd v (by decide)⟩
    refine ⟨fun _ => ⟨fun _ => ⟨fun _ => in_c (fun h => absurd h (by decide)) (fun _ _ => ⟨fun v => absurd v (by decide), fun _ => ⟨fun _ => ⟨fun _ => ⟨fun _ => in_c (fun h => ⟨fun _ => ⟨t, q', fun Q hQ => W0 Q ⟨fun _ => al117_0 hQ, fun _ => win_c (fun _ => ⟨fun _ => al117_0 hQ, fun v => absurd rfl v⟩) (fun a b => absurd h (fun h => h.elim a b))⟩⟩, fun v => absurd rfl v⟩) (fun c1 c2 => ⟨fun v => absurd v (by decide), fun _ => ⟨fun v => absurd rfl v, fun _ => ⟨fun y => ?_, fun y => ⟨t, q', fun Q hQ => W0 Q ⟨fun _ => al117_0 hQ, fun v => absurd v y⟩⟩⟩⟩⟩), fun v => absurd v (by decide)⟩, fun v => absurd v (by decide)⟩, fun v => absurd v (by decide)⟩⟩), fun v => absurd v (by decide)⟩, fun v => absurd v (by decide)⟩, fun v => absurd v (by decide)⟩
    subst y
    exact al_3 q hm (fun Q h => W0 Q ⟨fun v => absurd rfl v, fun _ => win_c (fun h => absurd h (fun h => h.elim c1 c2)) (fun _ _ => ⟨fun v => absurd v (by decide), fun _ => h⟩)⟩)
  have W0 : ∀ Q : Int32 → DB → Prop, Q (-2) t → w_alarm x1 x2 x3 t Q := fun Q hQ => ⟨fun _ => ⟨fun _ => ⟨fun _ => ⟨fun _ => ⟨fun _ => ⟨fun _ => ⟨fun _ => al117_0 hQ, fun v => absurd v e3⟩, fun v => absurd v e2⟩, fun v => absurd v e1⟩, fun v => absurd v e0⟩, fun v => absurd v e2⟩, fun v => absurd v e1⟩, fun v => absurd v e0⟩
  refine ⟨fun _ => ⟨fun _ => ⟨fun _ => in_c (fun h => ⟨fun _ => ⟨t, q', W0⟩, fun v => absurd rfl v⟩) (fun c1 c2 => ?_), fun v => absurd v e2⟩, fun v => absurd v e1⟩, fun v => absurd v e0⟩
  obtain ⟨j, hj, ej⟩ := rng (x := x1) (n := 3) (by decide) c1 c2
  have : j = 0 ∨ j = 1 ∨ j = 2 ∨ j = 3 := by omega
  rcases this with e | e | e | e <;> subst e
  · exact absurd ej e0
  · exact absurd ej e1
  · exact absurd ej e2
  · exact absurd ej e3
