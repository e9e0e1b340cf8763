set_option maxRecDepth 100000
/-! A GUARD IS MADE: both programs' guard -/
theorem gdK {F : Mem} {e : Nat × Nat} {k : Nat} {Q : Int32 → Mem → Prop} (he : ekk e.1 = true) (h1 : (lAdd F (30, 5) e).1 30 5 0 = nI (k + 1)) (h2 : (lAdd F (30, 5) e).2.1 1 0 5 = (30, 5)) (h3 : F.1 30 5 0 < 10000) (h4 : rom F 10) (hQ : Q (nI k) (lAdd F (30, 5) e)) : lk ((30, 5) : Nat × Nat).1 ∧ ekk e.1 = true ∧ F.1 ((30, 5) : Nat × Nat).1 ((30, 5) : Nat × Nat).2 0 < 10000 ∧ rom F 10 ∧ (∀ M12 : Mem, M12 = lAdd F (30, 5) e → (kt ((1, 0) : Nat × Nat).1 = 0 ∧ (∀ e13 : Nat × Nat, e13 = M12.2.1 ((1, 0) : Nat × Nat).1 ((1, 0) : Nat × Nat).2 5 → (lk e13.1 ∧ (Q ((M12.1 e13.1 e13.2 0) - 1) M12))))) := by
  refine ⟨⟨by decide, by decide⟩, he, h3, h4, fun M g => ⟨rfl, fun e13 ee => ?_⟩⟩
  subst g
  have q : e13 = (30, 5) := ee.trans h2
  subst q
  refine ⟨⟨by decide, by decide⟩, ?_⟩
  show Q ((lAdd F (30, 5) e).1 30 5 0 - 1) (lAdd F (30, 5) e)
  rw [h1, nI_pred]
  exact hQ
theorem gmk {X : Mem} {m : Nat} {N : Mem} {t : DB} (q : QS (fun _ => True) X m N t) (hm : m + 1 ≤ 100) {k : Nat} (hk : cn t 30 = k) (hk8 : k < 24) {s : Nat} (hs : s ≤ 9) {x2 x3 x4 x5 : Int32} (hp : GPr t s x2 x3 x4) (hx5 : ∃ e, e ≤ 15 ∧ x5 = nI e) (h5 : s ≠ 0 → s ≠ 4 → s ≠ 6 → s ≠ 9 → x5 = 0) {i : Nat} {Q : Int32 → Mem → Prop} (hQ : ∀ N' y, ((¬ nI s = 2 ∧ y = 0) ∨ (nI s = 2 ∧ y = x2)) → QS (fun _ => True) X (m + 1) N' (tGd t k (nI s) x2 x3 x4 x5 y) → Q (nI k) N') : v_X0_made (1, 0) (nI s) (43, i) x5 (nAr N i x2 x3 x4) (fun e M => lk ((30, 5) : Nat × Nat).1 ∧ ekk e.1 = true ∧ M.1 ((30, 5) : Nat × Nat).1 ((30, 5) : Nat × Nat).2 0 < 10000 ∧ rom M 10 ∧ (∀ M12 : Mem, M12 = lAdd M (30, 5) e → (kt ((1, 0) : Nat × Nat).1 = 0 ∧ (∀ e13 : Nat × Nat, e13 = M12.2.1 ((1, 0) : Nat × Nat).1 ((1, 0) : Nat × Nat).2 5 → (lk e13.1 ∧ (Q ((M12.1 e13.1 e13.2 0) - 1) M12)))))) := by
  have w5 : N.2.1 1 0 5 = (30, 5) := q.1.W.1 5 (by decide) (by decide)
  have s5 : N.1 30 5 0 = nI k := (q.1.S (5, 30, 0) (by decide)).trans (by rw [← hk]; exact q.1.iB.2.2.2.1.1)
  obtain ⟨ra, rb⟩ := rom_a q.1.1
  have lek : cn t 30 ≤ k := Nat.le_of_eq hk
  have E32 : N.2.2.1 32 k = 0 := q.1.E (32, 30) (by decide) k lek
  have E46 : N.2.2.1 46 k = 0 := q.1.E (46, 30) (by decide) k lek
  have E47 : N.2.2.1 47 k = 0 := q.1.E (47, 30) (by decide) k lek
  have E48 : N.2.2.1 48 k = 0 := q.1.E (48, 30) (by decide) k lek
  have n2 : ∀ j, j ≤ 9 → j ≠ 2 → ¬ nI j = 2 := fun j a b e => b ((nI_eq (by omega) (by omega)).mp (show nI j = nI 2 from e))
  have hc : s = 0 ∨ s = 1 ∨ s = 2 ∨ s = 3 ∨ s = 4 ∨ s = 5 ∨ s = 6 ∨ s = 7 ∨ s = 8 ∨ s = 9 := by omega
  rcases hc with e | e | e | e | e | e | e | e | e | e <;> subst e
  · have E : N.2.2.1 10 k = 0 := q.1.E (10, 30) (by decide) k lek
    refine md_0 w5 s5 E E32 E46 E47 E48 ra rb ?_
    obtain ⟨a, b, c, d, f⟩ := fM0_fin q hm (i := i) hk hk8 hp hx5
    exact gdK rfl b c d f (hQ _ _ (Or.inl ⟨n2 0 (by decide) (by decide), rfl⟩) a)
  · have E : N.2.2.1 11 k = 0 := q.1.E (11, 30) (by decide) k lek
    refine md_1 w5 s5 E E32 E46 E47 E48 ra rb ?_
    obtain ⟨a, b, c, d, f⟩ := fM1_fin q hm (i := i) hk hk8 hp hx5 (h5 (by decide) (by decide) (by decide) (by decide))
    exact gdK rfl b c d f (hQ _ _ (Or.inl ⟨n2 1 (by decide) (by decide), rfl⟩) a)
  · have E : N.2.2.1 12 k = 0 := q.1.E (12, 30) (by decide) k lek
    refine md_2 w5 s5 E E32 E46 E47 E48 ra rb ?_
    obtain ⟨a, b, c, d, f⟩ := fM2_fin q hm (i := i) hk hk8 hp hx5 (h5 (by decide) (by decide) (by decide) (by decide))
    exact gdK rfl b c d f (hQ _ _ (Or.inr ⟨rfl, rfl⟩) a)
  · have E : N.2.2.1 13 k = 0 := q.1.E (13, 30) (by decide) k lek
    refine md_3 w5 s5 E E32 E46 E47 E48 ra rb ?_
    obtain ⟨a, b, c, d, f⟩ := fM3_fin q hm (i := i) hk hk8 hp hx5 (h5 (by decide) (by decide) (by decide) (by decide))
    exact gdK rfl b c d f (hQ _ _ (Or.inl ⟨n2 3 (by decide) (by decide), rfl⟩) a)
  · have E : N.2.2.1 14 k = 0 := q.1.E (14, 30) (by decide) k lek
    refine md_4 w5 s5 E E32 E46 E47 E48 ra rb ?_
    obtain ⟨a, b, c, d, f⟩ := fM4_fin q hm (i := i) hk hk8 hp hx5
    exact gdK rfl b c d f (hQ _ _ (Or.inl ⟨n2 4 (by decide) (by decide), rfl⟩) a)
  · have E : N.2.2.1 15 k = 0 := q.1.E (15, 30) (by decide) k lek
    refine md_5 w5 s5 E E32 E46 E47 E48 ra rb ?_
    obtain ⟨a, b, c, d, f⟩ := fM5_fin q hm (i := i) hk hk8 hp hx5 (h5 (by decide) (by decide) (by decide) (by decide))
    exact gdK rfl b c d f (hQ _ _ (Or.inl ⟨n2 5 (by decide) (by decide), rfl⟩) a)
  · have E : N.2.2.1 16 k = 0 := q.1.E (16, 30) (by decide) k lek
    refine md_6 w5 s5 E E32 E46 E47 E48 ra rb ?_
    obtain ⟨a, b, c, d, f⟩ := fM6_fin q hm (i := i) hk hk8 hp hx5
    exact gdK rfl b c d f (hQ _ _ (Or.inl ⟨n2 6 (by decide) (by decide), rfl⟩) a)
  · have E : N.2.2.1 17 k = 0 := q.1.E (17, 30) (by decide) k lek
    refine md_7 w5 s5 E E32 E46 E47 E48 ra rb ?_
    obtain ⟨a, b, c, d, f⟩ := fM7_fin q hm (i := i) hk hk8 hp hx5 (h5 (by decide) (by decide) (by decide) (by decide))
    exact gdK rfl b c d f (hQ _ _ (Or.inl ⟨n2 7 (by decide) (by decide), rfl⟩) a)
  · have E : N.2.2.1 18 k = 0 := q.1.E (18, 30) (by decide) k lek
    refine md_8 w5 s5 E E32 E46 E47 E48 ra rb (fun i2 _ _ => ?_)
    obtain ⟨a, b, c, d, f⟩ := fM8_fin q hm (i := i) i2 hk hk8 hp hx5 (h5 (by decide) (by decide) (by decide) (by decide))
    exact gdK rfl b c d f (hQ _ _ (Or.inl ⟨n2 8 (by decide) (by decide), rfl⟩) a)
  · have E : N.2.2.1 19 k = 0 := q.1.E (19, 30) (by decide) k lek
    refine md_9 w5 s5 E E32 E46 E47 E48 ra rb ?_
    obtain ⟨a, b, c, d, f⟩ := fM9_fin q hm (i := i) hk hk8 hp hx5
    exact gdK rfl b c d f (hQ _ _ (Or.inl ⟨n2 9 (by decide) (by decide), rfl⟩) a)
theorem in15 {x : Int32} (a : ¬ x < 0) (b : ¬ 15 < x) : ∃ e, e ≤ 15 ∧ x = nI e := rng (n := 15) (by decide) a b
theorem in0 {x : Int32} (a : ¬ x < 0) (b : ¬ 0 < x) : x = 0 := by
  obtain ⟨i, hi, e⟩ := rng (x := x) (n := 0) (by decide) a b
  have : i = 0 := by omega
  rw [e, this]; rfl
theorem g77 {X : Mem} {m : Nat} {N : Mem} {t : DB} (q : QS (fun _ => True) X m N t) (hm : m + 1 ≤ 100) {s : Nat} (hs : s ≤ 9) {x2 x3 x4 x5 hi : Int32} (hp : GPr t s x2 x3 x4) (hh : (hi = 15 ∧ (s = 0 ∨ s = 4 ∨ s = 6 ∨ s = 9)) ∨ hi = 0) {w : (Int32 → DB → Prop) → Prop} (hw : ∀ Q, w_guard_76 (nI s) x2 x3 x4 x5 hi 0 x5 t Q → w Q) : v_X0_guard_77 (1, 0) (nI s) x2 x3 x4 x5 hi 0 x5 N (fun v N' => ∃ t', QS (fun _ => True) X (m + 1) N' t' ∧ ∀ Q, Q v t' → w Q) := by
  have q' := q.mup (Nat.le_succ m) hm
  have b1 := q.1.iB.2.2.2.1
  have w5 : N.2.1 1 0 5 = (30, 5) := q.1.W.1 5 (by decide) (by decide)
  have s5 : N.1 30 5 0 = t 30 0 := q.1.S (5, 30, 0) (by decide)
  have lk30 : lk 30 := ⟨by decide, by decide⟩
  obtain ⟨ra, rb⟩ := rom_a q.1.1
  refine in_c (fun h => ⟨fun v => absurd rfl v, fun _ => ⟨t, q', fun Q hQ => hw Q (win_c (fun _ => ⟨fun v => absurd rfl v, fun _ => hQ⟩) (fun a b => absurd h (fun h => h.elim a b)))⟩⟩) (fun a1 a2 => ⟨fun _ => ⟨rfl, fun e3 ee3 => ?_⟩, fun v => absurd v (by decide)⟩)
  have q3 : e3 = (30, 5) := ee3.trans w5
  subst q3
  have W : ∀ Q : Int32 → DB → Prop, ((¬ (t 30 0) = 24) → (∀ x_3 : Int32, x_3 = t 30 0 → (vp_in x_3 24 ∧ (∀ t_4 : DB, t_4 = up t 31 x_3.toNatClampNeg (nI s) → (vp_in x_3 24 ∧ (∀ t_5 : DB, t_5 = up t_4 32 x_3.toNatClampNeg x2 → (vp_in x_3 24 ∧ (∀ t_6 : DB, t_6 = up t_5 33 x_3.toNatClampNeg x3 → (vp_in x_3 24 ∧ (∀ t_7 : DB, t_7 = up t_6 34 x_3.toNatClampNeg x4 → (vp_in x_3 24 ∧ (∀ t_8 : DB, t_8 = up t_7 35 x_3.toNatClampNeg x5 → (vp_in x_3 24 ∧ (∀ t_9 : DB, t_9 = up t_8 36 x_3.toNatClampNeg 0 → (vp_in x_3 24 ∧ (∀ t_10 : DB, t_10 = up t_9 37 x_3.toNatClampNeg 0 → (vp_in x_3 24 ∧ (∀ t_11 : DB, t_11 = up t_10 38 x_3.toNatClampNeg 0 → (vp_in x_3 24 ∧ (∀ t_12 : DB, t_12 = up t_11 39 x_3.toNatClampNeg 0 → (vp_in x_3 24 ∧ (∀ t_13 : DB, t_13 = up t_12 40 x_3.toNatClampNeg 0 → (vp_in x_3 24 ∧ (∀ t_14 : DB, t_14 = up t_13 41 x_3.toNatClampNeg 0 → (((¬ (nI s) = 2) → (vp_in x_3 24 ∧ (∀ t_15 : DB, t_15 = up t_14 42 x_3.toNatClampNeg 0 → (∃ n_, w_guard_213 n_ x_3 0 t_15 Q)))) ∧ (((nI s) = 2) → (vp_in x_3 24 ∧ (∀ t_16 : DB, t_16 = up t_14 42 x_3.toNatClampNeg x2 → (∃ n_, w_guard_213 n_ x_3 0 t_16 Q))))))))))))))))))))))))))))) → ((t 30 0) = 24 → Q (-3) t) → w Q := fun Q h h' => hw Q (win_c (fun v => absurd v (fun h => h.elim a1 a2)) (fun _ _ => ⟨fun _ => ⟨h, h'⟩, fun v => absurd v (by decide)⟩))
  refine ⟨lk30, fun y => ⟨rfl, fun e4 ee4 => ?_⟩, fun y => ⟨t, q', fun Q hQ => W Q (fun v => absurd (s5.symm.trans y) v) (fun _ => hQ)⟩⟩
  have q4 : e4 = (30, 5) := ee4.trans w5
  subst q4
  have y' : ¬ t 30 0 = 24 := fun v => y (s5.trans v)
  have hk8 : cn t 30 < 24 := by
    rcases Nat.lt_or_ge (cn t 30) 24 with v | v
    · exact v
    · exact absurd (by rw [b1.1, show cn t 30 = 24 from Nat.le_antisymm b1.2 v]; rfl) y'
  have hx5 : ∃ e, e ≤ 15 ∧ x5 = nI e := by
    rcases hh with ⟨e, -⟩ | e
    · rw [e] at a2
      exact in15 a1 a2
    · rw [e] at a2
      exact ⟨0, by decide, in0 a1 a2⟩
  have h5 : s ≠ 0 → s ≠ 4 → s ≠ 6 → s ≠ 9 → x5 = 0 := fun z0 z4 z6 z9 => by
    rcases hh with ⟨-, e⟩ | e
    · exact absurd e (by omega)
    · rw [e] at a2
      exact in0 a1 a2
  have c3 : (3 : Int32).toNatClampNeg = 3 := rfl
  rw [c3]
  refine ⟨by decide, by decide, ⟨by omega, by omega⟩, fun i hi M6 g6 => ?_⟩
  have L : ∀ M : Mem, M.2.2.1 43 i = 4 → ∀ j, j < 3 → arI M (43, i) 100 (nI j) ∧ stk 43 = false := fun M e j hj => ⟨⟨by show 43 ≠ 0; decide, rfl, by show M.2.2.1 43 i ≠ 0; rw [e]; decide, by show vp_in (nI j) (M.2.2.1 43 i - 1); rw [e]; exact vp_in_nI hj (by decide)⟩, rfl⟩
  refine ⟨L _ (by rw [g6]; simp [sN]) 0 (by decide), fun M7 g7 => ⟨L _ (by rw [g7, g6]; simp [sN, sI]) 1 (by decide), fun M8 g8 => ⟨L _ (by rw [g8, g7, g6]; simp [sN, sI]) 2 (by decide), fun M9 g9 => ⟨rfl, ?_⟩⟩⟩⟩
  have g9' : M9 = nAr N i x2 x3 x4 := by rw [g9, g8, g7, g6]; rfl
  subst g9'
  refine gmk q hm rfl hk8 hs hp hx5 h5 (fun N' y hy hN => ⟨_, hN, fun Q hQ => W Q (fun _ => w_gd_s b1.1 hk8 hy hQ) (fun v => absurd v y')⟩)
theorem ap_guard (x1 x2 x3 x4 x5 : Int32) : AP mX0_guard [.inl x1, .inl x2, .inl x3, .inl x4, .inl x5] (w_guard x1 x2 x3 x4 x5) := by
  intro n X m N t hn hm q
  have q' := q.mup (Nat.le_succ m) hm
  have b1 := q.1.iB.1
  have w2 : N.2.1 1 0 2 = (30, 2) := q.1.W.1 2 (by decide) (by decide)
  have s2 : N.1 30 2 0 = t 1 0 := q.1.S (2, 1, 0) (by decide)
  show cq (n + 11 + 9) mX0_guard [.inr (1, 0), .inl x1, .inl x2, .inl x3, .inl x4, .inl x5] N _
  refine sv_X0_guard (d := n + 11) (Q := fun v N' => ∃ t', QS (fun _ => True) X (m + 1) N' t' ∧ ∀ Q, Q v t' → w_guard x1 x2 x3 x4 x5 t Q) (fun v N' ⟨t', a, b⟩ => ⟨v, t', rfl, a, b⟩) ?_
  have g24 : (x1 = 6 → x2 = 1 → ∃ i, i < cn t 1 ∧ x3 = nI i) → (∀ Q, w_guard_21 x1 x2 x3 x4 x5 t Q → w_guard x1 x2 x3 x4 x5 t Q) → v_X0_guard_24 (1, 0) x1 x2 x3 x4 x5 N (fun v N' => ∃ t', QS (fun _ => True) X (m + 1) N' t' ∧ ∀ Q, Q v t' → w_guard x1 x2 x3 x4 x5 t Q) := by
    intro hst hW
    obtain ⟨r, hr, hv, hw, hg⟩ := fits_c (N := N) (t := t) x1 x2 x3 x4 b1.2 hst
    have g50 : ∀ s0 : Int32, (s0 = 1 ∧ (x1 = 0 ∨ x1 = 4 ∨ x1 = 6 ∨ x1 = 9)) ∨ s0 = 0 → (∀ Q, w_guard_47 x1 x2 x3 x4 x5 s0 t Q → w_guard_21 x1 x2 x3 x4 x5 t Q) → v_X0_guard_50 (1, 0) x1 x2 x3 x4 x5 s0 N (fun v N' => ∃ t', QS (fun _ => True) X (m + 1) N' t' ∧ ∀ Q, Q v t' → w_guard x1 x2 x3 x4 x5 t Q) := by
      intro s0 hs0 hW0
      refine hv _ ?_
      rcases hr with e | e
      · subst e
        exact ⟨fun _ => ⟨t, q', fun Q hQ => hW Q (hW0 Q (hw _ ⟨fun _ => hQ, fun v => absurd rfl v⟩))⟩, fun v => absurd rfl v⟩
      · subst e
        obtain ⟨s, hs9, es, hp⟩ := hg rfl
        refine ⟨fun v => absurd v (by decide), fun _ => ⟨fun z => ?_, fun z => ?_⟩⟩
        · rw [es]
          exact g77 q hm hs9 hp (Or.inr rfl) (fun Q h => hW Q (hW0 Q (hw _ ⟨fun v => absurd v (by decide), fun _ => ⟨fun _ => by rw [es]; exact h, fun v => absurd z v⟩⟩)))
        · have hc : s = 0 ∨ s = 4 ∨ s = 6 ∨ s = 9 := by
            rcases hs0 with ⟨-, h⟩ | h
            · rw [es] at h
              rcases h with h | h | h | h
              · exact Or.inl ((nI_eq (by omega) (by omega)).mp (show nI s = nI 0 from h))
              · exact Or.inr (Or.inl ((nI_eq (by omega) (by omega)).mp (show nI s = nI 4 from h)))
              · exact Or.inr (Or.inr (Or.inl ((nI_eq (by omega) (by omega)).mp (show nI s = nI 6 from h))))
              · exact Or.inr (Or.inr (Or.inr ((nI_eq (by omega) (by omega)).mp (show nI s = nI 9 from h))))
            · exact absurd h z
          rw [es]
          exact g77 q hm hs9 hp (Or.inl ⟨rfl, hc⟩) (fun Q h => hW Q (hW0 Q (hw _ ⟨fun v => absurd v (by decide), fun _ => ⟨fun v => absurd v z, fun _ => by rw [es]; exact h⟩⟩)))
    refine ⟨fun c0 => g50 1 (Or.inl ⟨rfl, Or.inl c0⟩) (fun Q h => ⟨fun _ => h, fun v => absurd c0 v⟩), fun c0 => ⟨fun c4 => g50 1 (Or.inl ⟨rfl, Or.inr (Or.inl c4)⟩) (fun Q h => ⟨fun v => absurd v c0, fun _ => ⟨fun _ => h, fun v => absurd c4 v⟩⟩), fun c4 => ⟨fun c6 => g50 1 (Or.inl ⟨rfl, Or.inr (Or.inr (Or.inl c6))⟩) (fun Q h => ⟨fun v => absurd v c0, fun _ => ⟨fun v => absurd v c4, fun _ => ⟨fun _ => h, fun v => absurd c6 v⟩⟩⟩), fun c6 => ⟨fun c9 => g50 0 (Or.inr rfl) (fun Q h => ⟨fun v => absurd v c0, fun _ => ⟨fun v => absurd v c4, fun _ => ⟨fun v => absurd v c6, fun _ => ⟨fun _ => h, fun v => absurd v c9⟩⟩⟩⟩), fun c9 => g50 1 (Or.inl ⟨rfl, Or.inr (Or.inr (Or.inr c9))⟩) (fun Q h => ⟨fun v => absurd v c0, fun _ => ⟨fun v => absurd v c4, fun _ => ⟨fun v => absurd v c6, fun _ => ⟨fun v => absurd c9 v, fun _ => h⟩⟩⟩⟩)⟩⟩⟩⟩
  refine ⟨fun c6 => g24 (fun v => absurd v c6) (fun Q h => ⟨fun _ => h, fun v => absurd v c6⟩), fun c6 => ⟨fun c1 => g24 (fun _ v => absurd v c1) (fun Q h => ⟨fun v => absurd c6 v, fun _ => ⟨fun _ => h, fun v => absurd v c1⟩⟩), fun c1 => ⟨rfl, fun e1 ee1 => ?_⟩⟩⟩
  have q1 : e1 = (30, 2) := ee1.trans w2
  subst q1
  refine has_c s2 (fun h => ⟨fun v => absurd rfl v, fun _ => ⟨t, q', fun Q hQ => ⟨fun v => absurd c6 v, fun _ => ⟨fun v => absurd c1 v, fun _ => wst_c (fun _ => ⟨fun v => absurd rfl v, fun _ => hQ⟩) (fun a b => absurd (ab_or h a b) id)⟩⟩⟩⟩) (fun a b => ⟨fun _ => ?_, fun v => absurd v (by decide)⟩)
  refine g24 (fun _ _ => rngL (n := cn t 1) (by have := b1.2; omega) a (by rw [← b1.1]; exact b)) (fun Q h => ⟨fun v => absurd c6 v, fun _ => ⟨fun v => absurd c1 v, fun _ => wst_c (fun v => absurd (ab_or v a b) id) (fun _ _ => ⟨fun _ => h, fun v => absurd v (by decide)⟩)⟩⟩)
