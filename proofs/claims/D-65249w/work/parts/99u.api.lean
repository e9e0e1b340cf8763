set_option maxRecDepth 100000
/-! the calls that the law makes: what each owes; a second, an order -/
theorem QS.mup {S : Nat → Prop} {X : Mem} {m m' : Nat} {N : Mem} {t : DB} (q : QS S X m N t) (h : m ≤ m') (h2 : m' ≤ 100) : QS S X m' N t := ⟨⟨q.1.1.mup h h2, q.1.2⟩, q.2⟩
def AP (f : zMt) (as : List AV) (w : DB → (Int32 → DB → Prop) → Prop) : Prop := ∀ (n : Nat) (X : Mem) (m : Nat) (N : Mem) (t : DB), 200 ≤ n → m + 1 ≤ 100 → QS (fun _ => True) X m N t → cq (n + 20) f (.inr (1, 0) :: as) N (fun r N' => ∃ v t', r = some (.inl v) ∧ QS (fun _ => True) X (m + 1) N' t' ∧ ∀ Q, Q v t' → w t Q)
theorem rngL {x : Int32} {n : Nat} (hn : n < 2 ^ 31) (h0 : ¬ x < 0) (h1 : ¬ nI n ≤ x) : ∃ j, j < n ∧ x = nI j := by
  rcases pk_ix x hn with h | h | h
  · exact absurd h h0
  · exact absurd h h1
  · exact h
theorem rng {x : Int32} {n : Nat} (hn : n + 1 < 2 ^ 31) (h0 : ¬ x < 0) (h1 : ¬ nI n < x) : ∃ j, j ≤ n ∧ x = nI j := by
  obtain ⟨j, hj, e⟩ := rngL (x := x) (n := n + 1) hn h0 (fun h => h1 (Int32.lt_of_lt_of_le (nI_lt (by omega) hn) h))
  exact ⟨j, by omega, e⟩
theorem has_c {N : Mem} {l : Nat} {x y : Int32} {K : Int32 → Mem → Prop} (sz : N.1 30 l 0 = y) (hno : (x < 0 ∨ y ≤ x) → K 0 N) (hyes : ¬ x < 0 → ¬ y ≤ x → K 1 N) : v_X0_has (30, l) x N K := by
  have lk30 : lk 30 := ⟨by decide, by decide⟩
  refine ⟨fun a => hno (Or.inl a), fun a => ⟨lk30, fun b => hno (Or.inr ?_), fun b => hyes a ?_⟩⟩
  · rw [← sz]; exact b
  · rw [← sz]; exact b
theorem in_c {M : Mem} {x0 x1 x2 : Int32} {K : Int32 → Mem → Prop} (hno : (x0 < x1 ∨ x2 < x0) → K 0 M) (hyes : ¬ x0 < x1 → ¬ x2 < x0 → K 1 M) : v_X0_in x0 x1 x2 M K :=
  ⟨fun a => hno (Or.inl a), fun a => ⟨fun b => hno (Or.inr b), fun b => hyes a b⟩⟩
theorem wst_c {t : DB} {x : Int32} {K : Int32 → DB → Prop} (hno : (x < 0 ∨ t 1 0 ≤ x) → K 0 t) (hyes : ¬ x < 0 → ¬ t 1 0 ≤ x → K 1 t) : w_isStation x t K :=
  ⟨fun a => hno (Or.inl a), fun a => ⟨fun b => hno (Or.inr b), fun b => hyes a b⟩⟩
theorem wto_c {t : DB} {x : Int32} {K : Int32 → DB → Prop} (hno : (x < 0 ∨ t 47 0 ≤ x) → K 0 t) (hyes : ¬ x < 0 → ¬ t 47 0 ≤ x → K 1 t) : w_isTower x t K :=
  ⟨fun a => hno (Or.inl a), fun a => ⟨fun b => hno (Or.inr b), fun b => hyes a b⟩⟩
theorem ab_or {x y : Int32} (h : x < 0 ∨ y ≤ x) (h0 : ¬ x < 0) (h1 : ¬ y ≤ x) : False := h.elim h0 h1
theorem ap_second (x : Int32) : AP mX0_second [.inl x] (w_second x) := by
  intro n X m N t hn hm q
  show cq (n + 9 + 11) mX0_second [.inr (1, 0), .inl x] N _
  refine sv_X0_second (d := n + 9) (Q := fun v N' => ∃ t', QS (fun _ => True) X (m + 1) N' t' ∧ ∀ Q, Q v t' → w_second x t Q) (fun v N' ⟨t', a, b⟩ => ⟨v, t', rfl, a, b⟩) ?_
  have q' := q.mup (Nat.le_succ m) hm
  refine in_c (fun h => ⟨fun v => absurd rfl v, fun _ => ⟨t, q', fun Q hQ => ⟨fun _ => hQ, fun a => ⟨fun b => absurd ?_ id, fun _ => hQ⟩⟩⟩⟩) (fun h0 h1 => ⟨fun _ => ⟨rfl, fun M3 g3 => ?_⟩, fun v => absurd v (by decide)⟩)
  · rcases h with h | h
    · exact absurd h a
    · exact absurd b (Int32.not_le.mpr h)
  obtain ⟨j, hj, e⟩ := rng (x := x) (n := 100) (by decide) (fun h => h0 (Int32.lt_trans h (by decide))) h1
  subst e
  have e60 := q'.tf (q'.1.1.e60 (v := 0)) (TF.rf.wu (C := [60]) _ _ (by decide)) (by decide)
  obtain ⟨T, hT, hTm, -⟩ := q.1.iK
  have g3' : M3 = sI N 1 0 1 0 := g3
  subst g3'
  refine ⟨j + 1, second_l (k := n + 4) (by omega) (X := X) (m := m + 1) hj (W0 := fun Q => w_second (nI j) t Q) (fun N' t' h1' h2 => ⟨t', h1', h2⟩) j 0 (by omega) _ (up t 60 0 0) T e60 (by rw [up_f (by decide)]; exact hT) (by omega) (fun Q hw => ⟨fun a => absurd a h0, fun _ => ⟨fun _ t1 e1 => ⟨j + 1, by subst e1; exact hw⟩, fun a => absurd (Int32.not_lt.mp h1) a⟩⟩)⟩
theorem ap_order (x1 x2 x3 x4 x5 : Int32) : AP mX0_order [.inl x1, .inl x2, .inl x3, .inl x4, .inl x5] (w_order x1 x2 x3 x4 x5) := by
  intro n X m N t hn hm q
  have q' := q.mup (Nat.le_succ m) hm
  have b47 := q.1.iB.2.2.2.2.1
  have b1 := q.1.iB.1
  have b50 := q.1.iB.2.2.2.2.2.1
  have b60 : cn t 50 ≤ 60 := b50.2
  have b10 : cn t 47 ≤ 10 := b47.2
  have b8 : cn t 1 ≤ 8 := b1.2
  have w7 : N.2.1 1 0 7 = (30, 7) := q.1.W.1 7 (by decide) (by decide)
  have w2 : N.2.1 1 0 2 = (30, 2) := q.1.W.1 2 (by decide) (by decide)
  have w8 : N.2.1 1 0 8 = (30, 8) := q.1.W.1 8 (by decide) (by decide)
  have s7 : N.1 30 7 0 = t 47 0 := q.1.S (7, 47, 0) (by decide)
  have s2 : N.1 30 2 0 = t 1 0 := q.1.S (2, 1, 0) (by decide)
  have s8 : N.1 30 8 0 = t 50 0 := q.1.S (8, 50, 0) (by decide)
  show cq (n + 9 + 11) mX0_order [.inr (1, 0), .inl x1, .inl x2, .inl x3, .inl x4, .inl x5] N _
  refine sv_X0_order (d := n + 9) (Q := fun v N' => ∃ t', QS (fun _ => True) X (m + 1) N' t' ∧ ∀ Q, Q v t' → w_order x1 x2 x3 x4 x5 t Q) (fun v N' ⟨t', a, b⟩ => ⟨v, t', rfl, a, b⟩) ⟨rfl, fun e1 ee1 => ?_⟩
  have q1 : e1 = (30, 7) := ee1.trans w7
  subst q1
  refine has_c s7 (fun h => ⟨fun _ => ⟨t, q', fun Q hQ => wto_c (fun _ => ⟨fun _ => hQ, fun v => absurd rfl v⟩) (fun a b => absurd (ab_or h a b) id)⟩, fun v => absurd rfl v⟩) (fun a1 a2 => ⟨fun v => absurd v (by decide), fun _ => ⟨rfl, fun e4 ee4 => ?_⟩⟩)
  have T1 : ∀ K : Int32 → DB → Prop, K 1 t → w_isTower x1 t K := fun K hK => wto_c (fun h => absurd (ab_or h a1 a2) id) (fun _ _ => hK)
  have q4 : e4 = (30, 2) := ee4.trans w2
  subst q4
  refine has_c s2 (fun h => ⟨fun v => absurd rfl v, fun _ => ⟨t, q', fun Q hQ => T1 _ ⟨fun v => absurd v (by decide), fun _ => wst_c (fun _ => ⟨fun v => absurd rfl v, fun _ => hQ⟩) (fun a b => absurd (ab_or h a b) id)⟩⟩⟩) (fun c1 c2 => ⟨fun _ => ?_, fun v => absurd v (by decide)⟩)
  have T2 : ∀ Q : Int32 → DB → Prop, w_isAct x3 t (fun r_6 t_5 => ((r_6 = 0) → (Q (-2) t_5)) ∧ ((¬ r_6 = 0) → (w_isAmount x3 x4 t_5 (fun r_8 t_7 => ((r_8 = 0) → (Q (-2) t_7)) ∧ ((¬ r_8 = 0) → (((0 ≤ x5) → (((¬ (t_7 50 0) = 60) → (w_made x1 x2 x3 x4 x5 t_7 (fun r_10 t_9 => Q r_10 t_9))) ∧ (((t_7 50 0) = 60) → (Q (-3) t_7)))) ∧ ((¬ 0 ≤ x5) → (Q (-2) t_7)))))))) → w_order x1 x2 x3 x4 x5 t Q := fun Q h => T1 _ ⟨fun v => absurd v (by decide), fun _ => wst_c (fun h => absurd (ab_or h c1 c2) id) (fun _ _ => ⟨fun _ => h, fun v => absurd v (by decide)⟩)⟩
  refine in_c (fun h => ⟨fun _ => ⟨t, q', fun Q hQ => T2 Q ⟨fun _ => ⟨fun _ => hQ, fun v => absurd rfl v⟩, fun a => ⟨fun _ => ⟨fun _ => hQ, fun v => absurd rfl v⟩, fun b => absurd h (fun h => h.elim a b)⟩⟩⟩, fun v => absurd rfl v⟩) (fun d1 d2 => ⟨fun v => absurd v (by decide), fun _ => ?_⟩)
  have T3 : ∀ Q : Int32 → DB → Prop, w_isAmount x3 x4 t (fun r_8 t_7 => ((r_8 = 0) → (Q (-2) t_7)) ∧ ((¬ r_8 = 0) → (((0 ≤ x5) → (((¬ (t_7 50 0) = 60) → (w_made x1 x2 x3 x4 x5 t_7 (fun r_10 t_9 => Q r_10 t_9))) ∧ (((t_7 50 0) = 60) → (Q (-3) t_7)))) ∧ ((¬ 0 ≤ x5) → (Q (-2) t_7))))) → w_order x1 x2 x3 x4 x5 t Q := fun Q h => T2 Q ⟨fun a => absurd a d1, fun _ => ⟨fun a => absurd a d2, fun _ => ⟨fun v => absurd v (by decide), fun _ => h⟩⟩⟩
  obtain ⟨i1, hi1, ei1⟩ := rngL (x := x1) (n := cn t 47) (by omega) a1 (by rw [← b47.1]; exact a2)
  obtain ⟨i2, hi2, ei2⟩ := rngL (x := x2) (n := cn t 1) (by omega) c1 (by rw [← b1.1]; exact c2)
  obtain ⟨i3, hi3, ei3⟩ := rng (x := x3) (n := 2) (by decide) d1 d2
  have main : ∀ b : Nat, b ≤ 1000000 → ((¬ x3 = 0 ∧ b = 1000000) ∨ (x3 = 0 ∧ b = 0)) → v_X0_order_47 (n + 9) (1, 0) x1 x2 x3 x4 x5 (nI b) 0 x4 N (fun v N' => ∃ t', QS (fun _ => True) X (m + 1) N' t' ∧ ∀ Q, Q v t' → w_order x1 x2 x3 x4 x5 t Q) := fun b hb hb2 => by
    have am : ∀ K : Int32 → DB → Prop, ((x4 < 0 ∨ nI b < x4) → K 0 t) → (¬ x4 < 0 → ¬ nI b < x4 → K 1 t) → w_isAmount x3 x4 t K := fun K k0 k1 => ⟨fun a => k0 (Or.inl a), fun a => by
      rcases hb2 with ⟨u1, u2⟩ | ⟨u1, u2⟩
      · subst u2
        exact ⟨fun _ => ⟨fun b => k0 (Or.inr b), fun b => k1 a b⟩, fun v => absurd v u1⟩
      · subst u2
        exact ⟨fun v => absurd u1 v, fun _ => ⟨fun b => k0 (Or.inr b), fun b => k1 a b⟩⟩⟩
    refine in_c (fun h => ⟨fun _ => ⟨t, q', fun Q hQ => T3 Q (am _ (fun _ => ⟨fun _ => hQ, fun v => absurd rfl v⟩) (fun a b => absurd h (fun h => h.elim a b)))⟩, fun v => absurd rfl v⟩) (fun f1 f2 => ⟨fun v => absurd v (by decide), fun _ => ⟨fun z5 => ⟨rfl, fun e3 ee3 => ?_⟩, fun z5 => ?_⟩⟩)
    rotate_left
    · exact ⟨t, q', fun Q hQ => T3 Q (am _ (fun h => absurd h (fun h => h.elim f1 f2)) (fun _ _ => ⟨fun v => absurd v (by decide), fun _ => ⟨fun a => absurd a z5, fun _ => hQ⟩⟩))⟩
    have q3 : e3 = (30, 8) := ee3.trans w8
    subst q3
    refine ⟨⟨by decide, by decide⟩, fun y => ⟨rfl, ?_⟩, fun y => ?_⟩
    · have y' : ¬ t 50 0 = 60 := fun v => y (s8.trans v)
      have h60 : cn t 50 < 60 := by
        rcases Nat.lt_or_ge (cn t 50) 60 with v | v
        · exact v
        · exact absurd (by rw [b50.1, show cn t 50 = 60 from Nat.le_antisymm b50.2 v]; rfl) y'
      obtain ⟨i4, hi4, ei4⟩ := rng (x := x4) (n := b) (by omega) f1 f2
      show cq (n + 4 + 15) mX0_begins _ N _
      rw [ei1, ei2, ei3, ei4]
      refine (made_c (n := n + 4) (by omega) q' hi1 hi2 hi3 (Nat.le_trans hi4 hb) (x5 := x5) (Int32.not_lt.mpr z5) h60).mono ?_
      rintro rr N' ⟨hr, t', u1, u2, u3⟩
      refine ⟨nI (cn t 50), hr, t', u1, fun Q hQ => ?_⟩
      have := T3 Q (am _ (fun h => absurd h (fun h => h.elim f1 f2)) (fun _ _ => ⟨fun v => absurd v (by decide), fun _ => ⟨fun _ => ⟨fun _ => by rw [ei1, ei2, ei3, ei4]; exact u3 _ hQ, fun v => absurd v y'⟩, fun v => absurd z5 v⟩⟩))
      rw [ei1, ei2, ei3, ei4] at this
      exact this
    · have y' : t 50 0 = 60 := s8.symm.trans y
      exact ⟨t, q', fun Q hQ => T3 Q (am _ (fun h => absurd h (fun h => h.elim f1 f2)) (fun _ _ => ⟨fun v => absurd v (by decide), fun _ => ⟨fun _ => ⟨fun v => absurd y' v, fun _ => hQ⟩, fun a => absurd z5 a⟩⟩))⟩
  exact ⟨fun y => main 1000000 (by decide) (Or.inl ⟨y, rfl⟩), fun y => main 0 (by decide) (Or.inr ⟨y, rfl⟩)⟩
