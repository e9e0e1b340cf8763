set_option maxRecDepth 100000
/-! alarms, sort by sort -/
theorem al_fin {X : Mem} {m : Nat} {N N1 : Mem} {t : DB} (q : QS (fun _ => True) X m N t) (hm : m + 1 ≤ 100) {k : Nat} (hk : cn t 103 = k) (hk8 : k < 10) {s : Nat} (hs3 : s ≤ 3) {x2 x3 : Int32} (hf0 : NF N N1 [25 + s]) (hold : ∀ i, i ≠ k → N1.1 (25 + s) i = N.1 (25 + s) i ∧ N1.2.1 (25 + s) i = N.2.1 (25 + s) i ∧ N1.2.2.1 (25 + s) i = N.2.2.1 (25 + s) i)
    (n0 : N1.1 (25 + s) k 0 = 0) (n1 : N1.1 (25 + s) k 1 = 0) (n2 : N1.1 (25 + s) k 2 = -1) (n3 : N1.2.1 (25 + s) k 3 = (1, 0))
    (h0 : s = 0 → ∃ g, g < cn t 30 ∧ x2 = nI g ∧ t 31 g = 0 ∧ N1.2.1 25 k 4 = (10, g)) (h1 : s = 1 → ∃ i, i < cn t 1 ∧ x2 = nI i ∧ N1.2.1 26 k 4 = (3, i) ∧ N1.1 26 k 5 = x3) (h2 : s = 2 → ∃ g, g < cn t 30 ∧ x2 = nI g ∧ t 31 g = 1 ∧ N1.2.1 27 k 4 = (11, g) ∧ N1.1 27 k 5 = x3) (h3 : s = 3 → N1.1 28 k 4 = x3 ∧ N1.2.1 28 k 5 = (1, 0))
    (hc1 : N1.2.2.2.1 = N.2.2.2.1 + 1) (hc2 : N1.2.2.2.2 ≤ N.2.2.2.2 + 7) :
    QS (fun _ => True) X (m + 1) (lAdd N1 (30, 13) (25 + s, k)) (tAl t k (nI s) x2 x3) ∧ (lAdd N1 (30, 13) (25 + s, k)).1 30 13 0 = nI (k + 1) ∧ (lAdd N1 (30, 13) (25 + s, k)).2.1 1 0 13 = (30, 13) ∧ N1.1 30 13 0 < 10000 ∧ rom N1 10 := by
  have hK : 25 + s ∈ [25, 26, 27, 28] := ak_mem hs3
  have b1 : t 103 0 = nI k := by rw [← hk]; exact q.1.iB.2.2.2.2.2.2.2.2.2.2.1.1
  have s13 : N.1 30 13 0 = nI k := (q.1.S (13, 103, 0) (by decide)).trans b1
  have hf1 : NF N N1 [25, 26, 27, 28] := fun kk hkk => hf0 kk (fun y => hkk (by rw [List.mem_singleton.mp y]; exact hK))
  have hf : NF N (lAdd N1 (30, 13) (25 + s, k)) [25, 26, 27, 28, 30] := (hf1.mono (by decide)).wA _ _ (by decide)
  have L : LA N (lAdd N1 (30, 13) (25 + s, k)) 13 k (25 + s, k) := LA.mk hf1 (by decide) s13 (by omega)
  have a1 : ∀ kk, kk ≠ 30 → (lAdd N1 (30, 13) (25 + s, k)).1 kk = N1.1 kk := fun kk hkk => by
    funext i f
    rw [lAdd_i, if_neg (fun y => hkk y.1)]
  have a2 : ∀ kk, kk ≠ 30 → (lAdd N1 (30, 13) (25 + s, k)).2.1 kk = N1.2.1 kk := fun kk hkk => by
    funext i f
    rw [lAdd_r, if_neg (fun y => hkk y.1)]
  have hold' : ∀ kk, 25 ≤ kk → kk ≤ 28 → ∀ i, i ≠ k → (lAdd N1 (30, 13) (25 + s, k)).1 kk i = N.1 kk i ∧ (lAdd N1 (30, 13) (25 + s, k)).2.1 kk i = N.2.1 kk i ∧ (lAdd N1 (30, 13) (25 + s, k)).2.2.1 kk i = N.2.2.1 kk i := fun kk h1 h2 i hi => by
    rw [a1 kk (by omega), a2 kk (by omega), show (lAdd N1 (30, 13) (25 + s, k)).2.2.1 = N1.2.2.1 from rfl]
    by_cases e : kk = 25 + s
    · rw [e]; exact hold i hi
    · have := hf0 kk (fun y => e (List.mem_singleton.mp y))
      rw [this.1, this.2.1, this.2.2]
      exact ⟨rfl, rfl, rfl⟩
  have e25 : 25 + s ≠ 30 := by omega
  obtain ⟨ra, rb⟩ := rom_a q.1.1
  have hS := q.1.1.alarm (N' := lAdd N1 (30, 13) (25 + s, k)) hm hk hk8 hs3 (x2 := x2) (x3 := x3) hf L hold' (by rw [a1 _ e25]; exact n0) (by rw [a1 _ e25]; exact n1) (by rw [a1 _ e25]; exact n2) (by rw [a2 _ e25]; exact n3) (by rw [a2 _ (by decide)]; exact h0) (by rw [a2 _ (by decide), a1 _ (by decide)]; exact h1) (by rw [a2 _ (by decide), a1 _ (by decide)]; exact h2) (by rw [a2 _ (by decide), a1 _ (by decide)]; exact h3) (by show N1.2.2.2.1 + 1 = _; omega) (by show N1.2.2.2.2 + 10 ≤ _; omega)
  refine ⟨(q.mup (Nat.le_succ m) hm).tf hS tAl_TF (by decide), (hS.S (13, 103, 0) (by decide)).trans up_s, hS.W.1 13 (by decide) (by decide), ?_, by omega, by omega⟩
  rw [(hf1 30 (by decide)).1, s13]
  show nI k < nI 10000
  exact nI_lt (by omega) (by decide)
theorem al_0 {X : Mem} {m : Nat} {N : Mem} {t : DB} (q : QS (fun _ => True) X m N t) (hm : m + 1 ≤ 100) {g : Nat} (hg : g < cn t 30) (h31 : t 31 g = 0) {x3 : Int32} (hw : ∀ Q : Int32 → DB → Prop, w_alarm_117 (nI 0) (nI g) x3 1 t Q → w_alarm (nI 0) (nI g) x3 t Q) : v_X0_alarm_102 (1, 0) (nI 0) (nI g) x3 N (fun v N' => ∃ t', QS (fun _ => True) X (m + 1) N' t' ∧ ∀ Q, Q v t' → w_alarm (nI 0) (nI g) x3 t Q) := by
  have q' := q.mup (Nat.le_succ m) hm
  have b103 := q.1.iB.2.2.2.2.2.2.2.2.2.2.1
  have b30 := q.1.iB.2.2.2.1
  have b24 : cn t 30 ≤ 24 := b30.2
  have b8 := q.1.iB.1
  have b88 : cn t 1 ≤ 8 := b8.2
  have w13 : N.2.1 1 0 13 = (30, 13) := q.1.W.1 13 (by decide) (by decide)
  have s13 : N.1 30 13 0 = t 103 0 := q.1.S (13, 103, 0) (by decide)
  obtain ⟨ra, rb⟩ := rom_a q.1.1
  have lk30 : lk 30 := ⟨by decide, by decide⟩
  refine ⟨rfl, fun e1 ee1 => ?_⟩
  have q1 : e1 = (30, 13) := ee1.trans w13
  subst q1
  refine ⟨lk30, fun y => ?_, fun y => ⟨t, q', fun Q hQ => hw Q (w_al_s b103 rfl (fun hk => absurd ((s13.symm.trans y).symm.trans b103.1) (fun e => absurd ((nI_eq (a := 10) (by omega) (by omega)).mp e) (by omega))) (fun _ => hQ))⟩⟩
  have y' : ¬ t 103 0 = 10 := fun v => y (s13.trans v)
  have hk8 : cn t 103 < 10 := by
    rcases Nat.lt_or_ge (cn t 103) 10 with v | v
    · exact v
    · exact absurd (by rw [b103.1, show cn t 103 = 10 from Nat.le_antisymm b103.2 v]; rfl) y'
  generalize hk : cn t 103 = k at *
  have hE : N.2.2.1 25 k = 0 := q.1.E (25, 103) (by decide) k (by show cn t 103 ≤ k; omega)
  have hh : 25 ∈ [25 + 0] := by decide
  obtain ⟨z1, z2, z3, z4, z5⟩ := al_fin q hm hk hk8 (s := 0) (by decide) (N1 := sR (sI (sR (sR (sN N 25 k 0 6) 25 k 5 (1, 0)) 25 k 3 (1, 0)) 25 k 2 (-1)) 25 k 4 (10, g)) (x2 := (nI g)) (x3 := x3) (((((NF.rf.wN _ _ _ hh).wR _ _ _ hh).wR _ _ _ hh).wI _ _ _ hh).wR _ _ _ hh) (fun i hi => ⟨by funext f; simp [sI, sR, sN, hi], by funext f; simp [sI, sR, sN, hi], by simp [sI, sR, sN, hi]⟩) (by simp [sI, sR, sN]) (by simp [sI, sR, sN]) (by simp [sI, sR, sN]) (by simp [sI, sR, sN]) (fun _ => ⟨g, hg, rfl, h31, by simp [sI, sR, sN]⟩) (fun e => absurd e (by decide)) (fun e => absurd e (by decide)) (fun e => absurd e (by decide)) rfl (by show N.2.2.2.2 + 6 ≤ _; omega)
  have fin : ∀ M7 : Mem, M7 = lAdd (sR (sI (sR (sR (sN N 25 k 0 6) 25 k 5 (1, 0)) 25 k 3 (1, 0)) 25 k 2 (-1)) 25 k 4 (10, g)) (30, 13) (25, k) → kt (1, 0).1 = 0 ∧ ∀ e_8 : Nat × Nat, e_8 = M7.2.1 (1, 0).1 (1, 0).2 13 → lk e_8.1 ∧ ∃ t', QS (fun _ => True) X (m + 1) M7 t' ∧ ∀ Q, Q (M7.1 e_8.1 e_8.2 0 - 1) t' → w_alarm (nI 0) (nI g) x3 t Q := fun M7 g7 => by
    subst g7
    refine ⟨rfl, fun e8 ee8 => ?_⟩
    have q8 : e8 = (30, 13) := ee8.trans z3
    subst q8
    refine ⟨lk30, ?_⟩
    show ∃ t', QS (fun _ => True) X (m + 1) (lAdd (sR (sI (sR (sR (sN N 25 k 0 6) 25 k 5 (1, 0)) 25 k 3 (1, 0)) 25 k 2 (-1)) 25 k 4 (10, g)) (30, 13) (25, k)) t' ∧ ∀ Q, Q ((lAdd (sR (sI (sR (sR (sN N 25 k 0 6) 25 k 5 (1, 0)) 25 k 3 (1, 0)) 25 k 2 (-1)) 25 k 4 (10, g)) (30, 13) (25, k)).1 30 13 0 - 1) t' → w_alarm (nI 0) (nI g) x3 t Q
    rw [show (lAdd (sR (sI (sR (sR (sN N 25 k 0 6) 25 k 5 (1, 0)) 25 k 3 (1, 0)) 25 k 2 (-1)) 25 k 4 (10, g)) (30, 13) (25, k)).1 30 13 0 = nI (k + 1) from z2, nI_pred]
    exact ⟨_, z1, fun Q hQ => hw Q (w_al_s b103 hk (fun _ => hQ) (fun v => absurd v y'))⟩
  refine ⟨fun v => absurd rfl v, fun _ => ⟨rfl, fun e2 ee2 => ?_⟩⟩
  have q2 : e2 = (30, 13) := ee2.trans w13
  subst q2
  refine ⟨⟨by omega, by omega⟩, k, hE, fun M4 g4 => ?_⟩
  subst g4
  have hak : ak 25 := ⟨by decide, by decide⟩
  have w5 : (sN N 25 k 0 6).2.1 1 0 5 = (30, 5) := by
    show (if 1 = 25 ∧ 0 = k then ((0, 0) : Nat × Nat) else N.2.1 1 0 5) = _
    rw [if_neg (fun y => absurd y.1 (by decide))]
    exact q.1.W.1 5 (by decide) (by decide)
  have s5 : (sN N 25 k 0 6).1 30 5 0 = t 30 0 := by
    show (if 30 = 25 ∧ 5 = k then (0 : Int32) else N.1 30 5 0) = _
    rw [if_neg (fun y => absurd y.1 (by decide))]
    exact q.1.S (5, 30, 0) (by decide)
  have eK : ∀ j, j < cn t 30 → ∃ s, s ≤ 9 ∧ t 31 j = nI s ∧ (sN N 25 k 0 6).2.1 30 5 j = (10 + s, j) := fun j hj => by
    obtain ⟨s, a1, a2, a3, -⟩ := q.1.G j hj
    refine ⟨s, a1, a2, ?_⟩
    show (if 30 = 25 ∧ 5 = k then ((0, 0) : Nat × Nat) else N.2.1 30 5 j) = _
    rw [if_neg (fun y => absurd y.1 (by decide))]
    exact a3
  refine ⟨rfl, fuseOf_c b30 w5 s5 eK (fun y => absurd ⟨g, hg, rfl, h31⟩ y) (fun j hj ej _ => ?_)⟩
  have ej' : g = j := (nI_eq (by omega) (by omega)).mp ej
  subst ej'
  refine ⟨by decide, rfl, fun M1 h1 => ⟨by show ¬ 25 = 0; decide, hak, fun M2 h2 => ⟨by show ¬ 25 = 0; decide, hak, fun M3 h3 => ⟨rfl, fun M4 h4 => ?_⟩⟩⟩⟩
  have eM : M4 = sR (sI (sR (sR (sN N 25 k 0 6) 25 k 5 (1, 0)) 25 k 3 (1, 0)) 25 k 2 (-1)) 25 k 4 (10, g) := by rw [h4, h3, h2, h1]
  subst eM
  exact ⟨lk30, rfl, z4, z5, fun M7 g7 => fin M7 g7⟩
theorem al_1 {X : Mem} {m : Nat} {N : Mem} {t : DB} (q : QS (fun _ => True) X m N t) (hm : m + 1 ≤ 100) {g : Nat} (hg : g < cn t 1) {x3 : Int32} (hw : ∀ Q : Int32 → DB → Prop, w_alarm_117 (nI 1) (nI g) x3 1 t Q → w_alarm (nI 1) (nI g) x3 t Q) : v_X0_alarm_102 (1, 0) (nI 1) (nI g) x3 N (fun v N' => ∃ t', QS (fun _ => True) X (m + 1) N' t' ∧ ∀ Q, Q v t' → w_alarm (nI 1) (nI g) x3 t Q) := by
  have q' := q.mup (Nat.le_succ m) hm
  have b103 := q.1.iB.2.2.2.2.2.2.2.2.2.2.1
  have b30 := q.1.iB.2.2.2.1
  have b24 : cn t 30 ≤ 24 := b30.2
  have b8 := q.1.iB.1
  have b88 : cn t 1 ≤ 8 := b8.2
  have w13 : N.2.1 1 0 13 = (30, 13) := q.1.W.1 13 (by decide) (by decide)
  have s13 : N.1 30 13 0 = t 103 0 := q.1.S (13, 103, 0) (by decide)
  obtain ⟨ra, rb⟩ := rom_a q.1.1
  have lk30 : lk 30 := ⟨by decide, by decide⟩
  refine ⟨rfl, fun e1 ee1 => ?_⟩
  have q1 : e1 = (30, 13) := ee1.trans w13
  subst q1
  refine ⟨lk30, fun y => ?_, fun y => ⟨t, q', fun Q hQ => hw Q (w_al_s b103 rfl (fun hk => absurd ((s13.symm.trans y).symm.trans b103.1) (fun e => absurd ((nI_eq (a := 10) (by omega) (by omega)).mp e) (by omega))) (fun _ => hQ))⟩⟩
  have y' : ¬ t 103 0 = 10 := fun v => y (s13.trans v)
  have hk8 : cn t 103 < 10 := by
    rcases Nat.lt_or_ge (cn t 103) 10 with v | v
    · exact v
    · exact absurd (by rw [b103.1, show cn t 103 = 10 from Nat.le_antisymm b103.2 v]; rfl) y'
  generalize hk : cn t 103 = k at *
  have hE : N.2.2.1 26 k = 0 := q.1.E (26, 103) (by decide) k (by show cn t 103 ≤ k; omega)
  have hh : 26 ∈ [25 + 1] := by decide
  obtain ⟨z1, z2, z3, z4, z5⟩ := al_fin q hm hk hk8 (s := 1) (by decide) (N1 := sI (sR (sI (sR (sR (sN N 26 k 0 7) 26 k 6 (1, 0)) 26 k 3 (1, 0)) 26 k 2 (-1)) 26 k 4 (3, g)) 26 k 5 x3) (x2 := (nI g)) (x3 := x3) ((((((NF.rf.wN _ _ _ hh).wR _ _ _ hh).wR _ _ _ hh).wI _ _ _ hh).wR _ _ _ hh).wI _ _ _ hh) (fun i hi => ⟨by funext f; simp [sI, sR, sN, hi], by funext f; simp [sI, sR, sN, hi], by simp [sI, sR, sN, hi]⟩) (by simp [sI, sR, sN]) (by simp [sI, sR, sN]) (by simp [sI, sR, sN]) (by simp [sI, sR, sN]) (fun e => absurd e (by decide)) (fun _ => ⟨g, hg, rfl, by simp [sI, sR, sN], by simp [sI, sR, sN]⟩) (fun e => absurd e (by decide)) (fun e => absurd e (by decide)) rfl (by show N.2.2.2.2 + 7 ≤ _; omega)
  have fin : ∀ M7 : Mem, M7 = lAdd (sI (sR (sI (sR (sR (sN N 26 k 0 7) 26 k 6 (1, 0)) 26 k 3 (1, 0)) 26 k 2 (-1)) 26 k 4 (3, g)) 26 k 5 x3) (30, 13) (26, k) → kt (1, 0).1 = 0 ∧ ∀ e_8 : Nat × Nat, e_8 = M7.2.1 (1, 0).1 (1, 0).2 13 → lk e_8.1 ∧ ∃ t', QS (fun _ => True) X (m + 1) M7 t' ∧ ∀ Q, Q (M7.1 e_8.1 e_8.2 0 - 1) t' → w_alarm (nI 1) (nI g) x3 t Q := fun M7 g7 => by
    subst g7
    refine ⟨rfl, fun e8 ee8 => ?_⟩
    have q8 : e8 = (30, 13) := ee8.trans z3
    subst q8
    refine ⟨lk30, ?_⟩
    show ∃ t', QS (fun _ => True) X (m + 1) (lAdd (sI (sR (sI (sR (sR (sN N 26 k 0 7) 26 k 6 (1, 0)) 26 k 3 (1, 0)) 26 k 2 (-1)) 26 k 4 (3, g)) 26 k 5 x3) (30, 13) (26, k)) t' ∧ ∀ Q, Q ((lAdd (sI (sR (sI (sR (sR (sN N 26 k 0 7) 26 k 6 (1, 0)) 26 k 3 (1, 0)) 26 k 2 (-1)) 26 k 4 (3, g)) 26 k 5 x3) (30, 13) (26, k)).1 30 13 0 - 1) t' → w_alarm (nI 1) (nI g) x3 t Q
    rw [show (lAdd (sI (sR (sI (sR (sR (sN N 26 k 0 7) 26 k 6 (1, 0)) 26 k 3 (1, 0)) 26 k 2 (-1)) 26 k 4 (3, g)) 26 k 5 x3) (30, 13) (26, k)).1 30 13 0 = nI (k + 1) from z2, nI_pred]
    exact ⟨_, z1, fun Q hQ => hw Q (w_al_s b103 hk (fun _ => hQ) (fun v => absurd v y'))⟩
  refine ⟨fun _ => ⟨fun v => absurd rfl v, fun _ => ⟨rfl, fun e2 ee2 => ?_⟩⟩, fun v => absurd v (by decide)⟩
  have q2 : e2 = (30, 13) := ee2.trans w13
  subst q2
  refine ⟨⟨by omega, by omega⟩, k, hE, fun M4 g4 => ?_⟩
  subst g4
  have hak : ak 26 := ⟨by decide, by decide⟩
  refine ⟨rfl, fun e22 ee22 => ?_⟩
  have q22 : e22 = (30, 2) := by
    rw [ee22]
    show (if 1 = 26 ∧ 0 = k then ((0, 0) : Nat × Nat) else N.2.1 1 0 2) = _
    rw [if_neg (fun y => absurd y.1 (by decide))]
    exact q.1.W.1 2 (by decide) (by decide)
  subst q22
  refine ⟨lk30, ⟨nI_pos (by omega), ?_⟩, fun e23 ee23 => ?_⟩
  · show nI g < (if 30 = 26 ∧ 2 = k then (0 : Int32) else N.1 30 2 0)
    rw [if_neg (fun y => absurd y.1 (by decide)), q.1.S (2, 1, 0) (by decide), b8.1]
    exact nI_lt hg (by omega)
  have q23 : e23 = (3, g) := by
    rw [ee23, nI_clamp (by omega)]
    show (if 30 = 26 ∧ 2 = k then ((0, 0) : Nat × Nat) else N.2.1 30 2 g) = _
    rw [if_neg (fun y => absurd y.1 (by decide))]
    exact q.1.K (2, 3, 1) (by decide) g hg
  subst q23
  refine ⟨rfl, by decide, rfl, fun M1 h1 => ⟨by show ¬ 26 = 0; decide, hak, fun M2 h2 => ⟨by show ¬ 26 = 0; decide, hak, fun M3 h3 => ⟨rfl, fun M4 h4 => ⟨rfl, fun M5 h5 => ?_⟩⟩⟩⟩⟩
  have eM : M5 = sI (sR (sI (sR (sR (sN N 26 k 0 7) 26 k 6 (1, 0)) 26 k 3 (1, 0)) 26 k 2 (-1)) 26 k 4 (3, g)) 26 k 5 x3 := by rw [h5, h4, h3, h2, h1]
  subst eM
  exact ⟨lk30, rfl, z4, z5, fun M7 g7 => fin M7 g7⟩
theorem al_2 {X : Mem} {m : Nat} {N : Mem} {t : DB} (q : QS (fun _ => True) X m N t) (hm : m + 1 ≤ 100) {g : Nat} (hg : g < cn t 30) (h31 : t 31 g = 1) {x3 : Int32} (hw : ∀ Q : Int32 → DB → Prop, w_alarm_117 (nI 2) (nI g) x3 1 t Q → w_alarm (nI 2) (nI g) x3 t Q) : v_X0_alarm_102 (1, 0) (nI 2) (nI g) x3 N (fun v N' => ∃ t', QS (fun _ => True) X (m + 1) N' t' ∧ ∀ Q, Q v t' → w_alarm (nI 2) (nI g) x3 t Q) := by
  have q' := q.mup (Nat.le_succ m) hm
  have b103 := q.1.iB.2.2.2.2.2.2.2.2.2.2.1
  have b30 := q.1.iB.2.2.2.1
  have b24 : cn t 30 ≤ 24 := b30.2
  have b8 := q.1.iB.1
  have b88 : cn t 1 ≤ 8 := b8.2
  have w13 : N.2.1 1 0 13 = (30, 13) := q.1.W.1 13 (by decide) (by decide)
  have s13 : N.1 30 13 0 = t 103 0 := q.1.S (13, 103, 0) (by decide)
  obtain ⟨ra, rb⟩ := rom_a q.1.1
  have lk30 : lk 30 := ⟨by decide, by decide⟩
  refine ⟨rfl, fun e1 ee1 => ?_⟩
  have q1 : e1 = (30, 13) := ee1.trans w13
  subst q1
  refine ⟨lk30, fun y => ?_, fun y => ⟨t, q', fun Q hQ => hw Q (w_al_s b103 rfl (fun hk => absurd ((s13.symm.trans y).symm.trans b103.1) (fun e => absurd ((nI_eq (a := 10) (by omega) (by omega)).mp e) (by omega))) (fun _ => hQ))⟩⟩
  have y' : ¬ t 103 0 = 10 := fun v => y (s13.trans v)
  have hk8 : cn t 103 < 10 := by
    rcases Nat.lt_or_ge (cn t 103) 10 with v | v
    · exact v
    · exact absurd (by rw [b103.1, show cn t 103 = 10 from Nat.le_antisymm b103.2 v]; rfl) y'
  generalize hk : cn t 103 = k at *
  have hE : N.2.2.1 27 k = 0 := q.1.E (27, 103) (by decide) k (by show cn t 103 ≤ k; omega)
  have hh : 27 ∈ [25 + 2] := by decide
  obtain ⟨z1, z2, z3, z4, z5⟩ := al_fin q hm hk hk8 (s := 2) (by decide) (N1 := sI (sR (sI (sR (sR (sN N 27 k 0 7) 27 k 6 (1, 0)) 27 k 3 (1, 0)) 27 k 2 (-1)) 27 k 4 (11, g)) 27 k 5 x3) (x2 := (nI g)) (x3 := x3) ((((((NF.rf.wN _ _ _ hh).wR _ _ _ hh).wR _ _ _ hh).wI _ _ _ hh).wR _ _ _ hh).wI _ _ _ hh) (fun i hi => ⟨by funext f; simp [sI, sR, sN, hi], by funext f; simp [sI, sR, sN, hi], by simp [sI, sR, sN, hi]⟩) (by simp [sI, sR, sN]) (by simp [sI, sR, sN]) (by simp [sI, sR, sN]) (by simp [sI, sR, sN]) (fun e => absurd e (by decide)) (fun e => absurd e (by decide)) (fun _ => ⟨g, hg, rfl, h31, by simp [sI, sR, sN], by simp [sI, sR, sN]⟩) (fun e => absurd e (by decide)) rfl (by show N.2.2.2.2 + 7 ≤ _; omega)
  have fin : ∀ M7 : Mem, M7 = lAdd (sI (sR (sI (sR (sR (sN N 27 k 0 7) 27 k 6 (1, 0)) 27 k 3 (1, 0)) 27 k 2 (-1)) 27 k 4 (11, g)) 27 k 5 x3) (30, 13) (27, k) → kt (1, 0).1 = 0 ∧ ∀ e_8 : Nat × Nat, e_8 = M7.2.1 (1, 0).1 (1, 0).2 13 → lk e_8.1 ∧ ∃ t', QS (fun _ => True) X (m + 1) M7 t' ∧ ∀ Q, Q (M7.1 e_8.1 e_8.2 0 - 1) t' → w_alarm (nI 2) (nI g) x3 t Q := fun M7 g7 => by
    subst g7
    refine ⟨rfl, fun e8 ee8 => ?_⟩
    have q8 : e8 = (30, 13) := ee8.trans z3
    subst q8
    refine ⟨lk30, ?_⟩
    show ∃ t', QS (fun _ => True) X (m + 1) (lAdd (sI (sR (sI (sR (sR (sN N 27 k 0 7) 27 k 6 (1, 0)) 27 k 3 (1, 0)) 27 k 2 (-1)) 27 k 4 (11, g)) 27 k 5 x3) (30, 13) (27, k)) t' ∧ ∀ Q, Q ((lAdd (sI (sR (sI (sR (sR (sN N 27 k 0 7) 27 k 6 (1, 0)) 27 k 3 (1, 0)) 27 k 2 (-1)) 27 k 4 (11, g)) 27 k 5 x3) (30, 13) (27, k)).1 30 13 0 - 1) t' → w_alarm (nI 2) (nI g) x3 t Q
    rw [show (lAdd (sI (sR (sI (sR (sR (sN N 27 k 0 7) 27 k 6 (1, 0)) 27 k 3 (1, 0)) 27 k 2 (-1)) 27 k 4 (11, g)) 27 k 5 x3) (30, 13) (27, k)).1 30 13 0 = nI (k + 1) from z2, nI_pred]
    exact ⟨_, z1, fun Q hQ => hw Q (w_al_s b103 hk (fun _ => hQ) (fun v => absurd v y'))⟩
  refine ⟨fun _ => ⟨fun _ => ⟨fun v => absurd rfl v, fun _ => ⟨rfl, fun e2 ee2 => ?_⟩⟩, fun v => absurd v (by decide)⟩, fun v => absurd v (by decide)⟩
  have q2 : e2 = (30, 13) := ee2.trans w13
  subst q2
  refine ⟨⟨by omega, by omega⟩, k, hE, fun M4 g4 => ?_⟩
  subst g4
  have hak : ak 27 := ⟨by decide, by decide⟩
  have w5 : (sN N 27 k 0 7).2.1 1 0 5 = (30, 5) := by
    show (if 1 = 27 ∧ 0 = k then ((0, 0) : Nat × Nat) else N.2.1 1 0 5) = _
    rw [if_neg (fun y => absurd y.1 (by decide))]
    exact q.1.W.1 5 (by decide) (by decide)
  have s5 : (sN N 27 k 0 7).1 30 5 0 = t 30 0 := by
    show (if 30 = 27 ∧ 5 = k then (0 : Int32) else N.1 30 5 0) = _
    rw [if_neg (fun y => absurd y.1 (by decide))]
    exact q.1.S (5, 30, 0) (by decide)
  have eK : ∀ j, j < cn t 30 → ∃ s, s ≤ 9 ∧ t 31 j = nI s ∧ (sN N 27 k 0 7).2.1 30 5 j = (10 + s, j) := fun j hj => by
    obtain ⟨s, a1, a2, a3, -⟩ := q.1.G j hj
    refine ⟨s, a1, a2, ?_⟩
    show (if 30 = 27 ∧ 5 = k then ((0, 0) : Nat × Nat) else N.2.1 30 5 j) = _
    rw [if_neg (fun y => absurd y.1 (by decide))]
    exact a3
  refine ⟨rfl, bulkOf_c b30 w5 s5 eK (fun y => absurd ⟨g, hg, rfl, h31⟩ y) (fun j hj ej _ => ?_)⟩
  have ej' : g = j := (nI_eq (by omega) (by omega)).mp ej
  subst ej'
  refine ⟨by decide, rfl, fun M1 h1 => ⟨by show ¬ 27 = 0; decide, hak, fun M2 h2 => ⟨by show ¬ 27 = 0; decide, hak, fun M3 h3 => ⟨rfl, fun M4 h4 => ⟨rfl, fun M5 h5 => ?_⟩⟩⟩⟩⟩
  have eM : M5 = sI (sR (sI (sR (sR (sN N 27 k 0 7) 27 k 6 (1, 0)) 27 k 3 (1, 0)) 27 k 2 (-1)) 27 k 4 (11, g)) 27 k 5 x3 := by rw [h5, h4, h3, h2, h1]
  subst eM
  exact ⟨lk30, rfl, z4, z5, fun M7 g7 => fin M7 g7⟩
theorem al_3 {X : Mem} {m : Nat} {N : Mem} {t : DB} (q : QS (fun _ => True) X m N t) (hm : m + 1 ≤ 100) {x3 : Int32} (hw : ∀ Q : Int32 → DB → Prop, w_alarm_117 (nI 3) 0 x3 1 t Q → w_alarm (nI 3) 0 x3 t Q) : v_X0_alarm_102 (1, 0) (nI 3) 0 x3 N (fun v N' => ∃ t', QS (fun _ => True) X (m + 1) N' t' ∧ ∀ Q, Q v t' → w_alarm (nI 3) 0 x3 t Q) := by
  have q' := q.mup (Nat.le_succ m) hm
  have b103 := q.1.iB.2.2.2.2.2.2.2.2.2.2.1
  have b30 := q.1.iB.2.2.2.1
  have b24 : cn t 30 ≤ 24 := b30.2
  have b8 := q.1.iB.1
  have b88 : cn t 1 ≤ 8 := b8.2
  have w13 : N.2.1 1 0 13 = (30, 13) := q.1.W.1 13 (by decide) (by decide)
  have s13 : N.1 30 13 0 = t 103 0 := q.1.S (13, 103, 0) (by decide)
  obtain ⟨ra, rb⟩ := rom_a q.1.1
  have lk30 : lk 30 := ⟨by decide, by decide⟩
  refine ⟨rfl, fun e1 ee1 => ?_⟩
  have q1 : e1 = (30, 13) := ee1.trans w13
  subst q1
  refine ⟨lk30, fun y => ?_, fun y => ⟨t, q', fun Q hQ => hw Q (w_al_s b103 rfl (fun hk => absurd ((s13.symm.trans y).symm.trans b103.1) (fun e => absurd ((nI_eq (a := 10) (by omega) (by omega)).mp e) (by omega))) (fun _ => hQ))⟩⟩
  have y' : ¬ t 103 0 = 10 := fun v => y (s13.trans v)
  have hk8 : cn t 103 < 10 := by
    rcases Nat.lt_or_ge (cn t 103) 10 with v | v
    · exact v
    · exact absurd (by rw [b103.1, show cn t 103 = 10 from Nat.le_antisymm b103.2 v]; rfl) y'
  generalize hk : cn t 103 = k at *
  have hE : N.2.2.1 28 k = 0 := q.1.E (28, 103) (by decide) k (by show cn t 103 ≤ k; omega)
  have hh : 28 ∈ [25 + 3] := by decide
  obtain ⟨z1, z2, z3, z4, z5⟩ := al_fin q hm hk hk8 (s := 3) (by decide) (N1 := sI (sI (sR (sR (sN N 28 k 0 6) 28 k 5 (1, 0)) 28 k 3 (1, 0)) 28 k 2 (-1)) 28 k 4 x3) (x2 := 0) (x3 := x3) (((((NF.rf.wN _ _ _ hh).wR _ _ _ hh).wR _ _ _ hh).wI _ _ _ hh).wI _ _ _ hh) (fun i hi => ⟨by funext f; simp [sI, sR, sN, hi], by funext f; simp [sI, sR, sN, hi], by simp [sI, sR, sN, hi]⟩) (by simp [sI, sR, sN]) (by simp [sI, sR, sN]) (by simp [sI, sR, sN]) (by simp [sI, sR, sN]) (fun e => absurd e (by decide)) (fun e => absurd e (by decide)) (fun e => absurd e (by decide)) (fun _ => ⟨by simp [sI, sR, sN], by simp [sI, sR, sN]⟩) rfl (by show N.2.2.2.2 + 6 ≤ _; omega)
  have fin : ∀ M7 : Mem, M7 = lAdd (sI (sI (sR (sR (sN N 28 k 0 6) 28 k 5 (1, 0)) 28 k 3 (1, 0)) 28 k 2 (-1)) 28 k 4 x3) (30, 13) (28, k) → kt (1, 0).1 = 0 ∧ ∀ e_8 : Nat × Nat, e_8 = M7.2.1 (1, 0).1 (1, 0).2 13 → lk e_8.1 ∧ ∃ t', QS (fun _ => True) X (m + 1) M7 t' ∧ ∀ Q, Q (M7.1 e_8.1 e_8.2 0 - 1) t' → w_alarm (nI 3) 0 x3 t Q := fun M7 g7 => by
    subst g7
    refine ⟨rfl, fun e8 ee8 => ?_⟩
    have q8 : e8 = (30, 13) := ee8.trans z3
    subst q8
    refine ⟨lk30, ?_⟩
    show ∃ t', QS (fun _ => True) X (m + 1) (lAdd (sI (sI (sR (sR (sN N 28 k 0 6) 28 k 5 (1, 0)) 28 k 3 (1, 0)) 28 k 2 (-1)) 28 k 4 x3) (30, 13) (28, k)) t' ∧ ∀ Q, Q ((lAdd (sI (sI (sR (sR (sN N 28 k 0 6) 28 k 5 (1, 0)) 28 k 3 (1, 0)) 28 k 2 (-1)) 28 k 4 x3) (30, 13) (28, k)).1 30 13 0 - 1) t' → w_alarm (nI 3) 0 x3 t Q
    rw [show (lAdd (sI (sI (sR (sR (sN N 28 k 0 6) 28 k 5 (1, 0)) 28 k 3 (1, 0)) 28 k 2 (-1)) 28 k 4 x3) (30, 13) (28, k)).1 30 13 0 = nI (k + 1) from z2, nI_pred]
    exact ⟨_, z1, fun Q hQ => hw Q (w_al_s b103 hk (fun _ => hQ) (fun v => absurd v y'))⟩
  refine ⟨fun _ => ⟨fun _ => ⟨fun _ => ⟨rfl, fun e2 ee2 => ?_⟩, fun v => absurd v (by decide)⟩, fun v => absurd v (by decide)⟩, fun v => absurd v (by decide)⟩
  have q2 : e2 = (30, 13) := ee2.trans w13
  subst q2
  refine ⟨⟨by omega, by omega⟩, k, hE, fun M4 g4 => ?_⟩
  subst g4
  have hak : ak 28 := ⟨by decide, by decide⟩
  refine ⟨by decide, rfl, fun M1 h1 => ⟨by show ¬ 28 = 0; decide, hak, fun M2 h2 => ⟨by show ¬ 28 = 0; decide, hak, fun M3 h3 => ⟨rfl, fun M4 h4 => ?_⟩⟩⟩⟩
  have eM : M4 = sI (sI (sR (sR (sN N 28 k 0 6) 28 k 5 (1, 0)) 28 k 3 (1, 0)) 28 k 2 (-1)) 28 k 4 x3 := by rw [h4, h3, h2, h1]
  subst eM
  exact ⟨lk30, rfl, z4, z5, fun M7 g7 => fin M7 g7⟩
