set_option maxRecDepth 100000
/-! bulkhead and memory begin -/

theorem gb_1 {k n : Nat} (hB : CB k n) (hE : CE 1 5 (n + 1)) {X : Mem} {m z : Nat} {P : List Nat} {N : Mem} {t : DB} {h c g o d hT : Nat} (q : GBP X m z P N t h c g 1 o d hT) (hk : hT = d + 1 + k) : GBG (n + 3) X m z P N t h c g 1 := by
  have q0 := q
  obtain ⟨hS, hP, hU, hM, hh, hc, h0, hcP, h65, hg, hs, hs9, h73, h75, h76, h77, h79, h14, h62, h63, ho, h88, ⟨T, hT1, hT2, hT3, hT4, hT5, hT6⟩, htr⟩ := q0
  have hn := hS.nC
  have h24 : cn t 30 ≤ 24 := hS.iB.2.2.2.1.2
  have vc : vp_in (nI c) 4400 := vp_in_nI (by omega) (by decide)
  have cc : (nI c).toNatClampNeg = c := nI_clamp (by omega)
  have vg : vp_in (nI g) 24 := vp_in_nI (by omega) (by decide)
  have cg : (nI g).toNatClampNeg = g := nI_clamp (by omega)
  have no : ∀ j, j ≤ 9 → j ≠ 1 → ¬ t 31 g = nI j := fun j hj hne y => hne ((nI_eq (by omega) (by omega)).mp (y.symm.trans hs))
  have tm : N.1 1 0 0 = t 0 0 := hS.W.2.1
  have gg : ∀ g', t 65 c = nI g' → g' < cn t 30 → g' = g := fun g' e hg' => (nI_eq (by omega) (by omega)).mp (e.symm.trans h65)
  obtain ⟨n0, n2, n3, n4, n6, nl⟩ := q.nf
  obtain ⟨w7, n8, n9, nS, nE⟩ := hS.G1 g hg hs
  have nl10 : N.2.1 11 g 10 = (1, 0) := nl
  have n2' : N.1 11 g 2 = t 32 g := n2
  have n3' : N.1 11 g 3 = t 33 g := n3
  have lk32 : lk 32 := ⟨by decide, by decide⟩
  obtain ⟨b, w, hb10, hb, hwb, hw⟩ : ∃ b w, b ≤ 10 ∧ t 33 g = nI b ∧ w ≤ b ∧ t 40 g = nI w := by
    obtain ⟨s', a1, a2, a3, -, a5, -⟩ := hS.iG g hg
    exact a5 ((nI_eq (by omega) (by omega)).mp (a2.symm.trans hs))
  obtain ⟨rb1, rb2⟩ := rom_b hS
  have m188 : ∀ K : DB → Prop, (t 32 g ≤ t 39 g ∨ ¬ t 40 g = 0) → w_entered_188 (nI c) (nI g) t K → w_entered (nI c) (nI g) t K := fun K hw' hK => by
    unfold w_entered
    rw [cc, cg]
    refine ⟨vc, fun x1 e1 => ⟨vg, fun y => absurd y (no 0 (by decide) (by decide)), fun _ => ?_, fun y => absurd y (no 2 (by decide) (by decide)), fun y => absurd y (no 3 (by decide) (by decide)), fun y => absurd y (no 4 (by decide) (by decide)), fun y => absurd y (no 5 (by decide) (by decide)), fun y => absurd y (no 6 (by decide) (by decide)), fun y => absurd y (no 7 (by decide) (by decide)), fun y => absurd y (no 8 (by decide) (by decide)), fun y0 y1 y2 y3 y4 y5 y6 y7 y8 => absurd hs y1⟩⟩
    refine ⟨vg, vg, fun _ => hK, fun y => ⟨vg, fun _ => hK, fun y2 => ?_⟩⟩
    rcases hw' with y3 | y3
    · exact absurd y3 y
    · exact absurd y2 y3
  have b29 : (t 32 g ≤ t 39 g ∨ ¬ t 40 g = 0) → v_X6_begins_29 (n + 2) (11, g) (21, c) N (fun N' => ∃ u t', (∀ K : DB → Prop, K u → w_entered (nI c) (nI g) t K) ∧ PB c X m z P N' t' h t u ∧ (1 = 3 ∨ 1 = 5 → t' 73 c = 1)) := fun hw' => by
    have s32 : N.1 (32, g).1 (32, g).2 0 = nI w := nS.trans hw
    have s3 : N.1 (11, g).1 (11, g).2 3 = nI b := n3'.trans hb
    refine ⟨rfl, fun e1 ee1 => ?_⟩
    have q1 : e1 = (32, g) := ee1.trans w7
    subst q1
    refine ⟨lk32, rfl, fun y => ⟨rfl, rfl, fun M2 g2 => ⟨rfl, ?_⟩⟩, fun y => ⟨rfl, fun M5 g5 => ⟨rfl, fun e6 ee6 => ?_⟩⟩⟩
    · rw [s32, s3] at y
      have ht : TF t (up t 41 g (t 41 g + 1)) [41] := TF.rf.wu _ _ (by decide)
      obtain ⟨r1, r2⟩ := gb_ref hE q (kd := 10) (by decide) (hS.b41 (g := g) (v := t 41 g + 1)) ht (by decide) (fun _ _ => rfl)
      rw [show N.1 (11, g).1 (11, g).2 9 = t 41 g from n9] at g2
      subst g2
      refine r2.mono ?_
      rintro r N' ⟨hr, t', b1⟩
      refine ⟨hr, _, t', fun K hK => m188 K hw' ?_, b1, fun w => absurd w (by decide)⟩
      unfold w_entered_188
      rw [cg]
      refine ⟨vg, vg, fun _ => ⟨vg, vg, fun t1 e1 => ?_⟩, fun y2 => ?_⟩
      · subst e1
        exact r1 K hK
      · rw [hb, hw] at y2
        exact absurd y y2
    · rw [s32, s3] at y
      have hlt : w < b := by
        by_cases y2 : w < b
        · exact y2
        · exact absurd (nI_le (by omega) (by omega)) y
      have q6 : e6 = (32, g) := by
        rw [ee6, g5]
        exact w7
      subst q6; subst g5
      have z32 : (sI N (21, c).1 (21, c).2 14 1).1 (32, g).1 (32, g).2 0 = nI w := (sI_ne (by simp)).trans (nS.trans hw)
      refine ⟨lk32, rfl, by rw [z32]; exact nI_lt (b := 10000) (by omega) (by decide), ⟨by show N.2.2.2.1 + 1 ≤ _; omega, by show N.2.2.2.2 + 10 ≤ _; omega⟩, fun M7 g7 => ?_⟩
      subst g7
      have hL := (hS.f14 hcP (v := 1)).qadd (g := g) (w := w) (b := b) hc hcP h0 hg hs hw hb hb10 hlt h65 h73 h77 (if_pos ⟨rfl, rfl, rfl⟩) (by show N.2.2.2.1 + 1 ≤ _; omega) hU
      have ht : TF t (tqa t c g w) [40, 43, 75] := ((TF.rf.wu _ _ (by decide)).wu _ _ (by decide)).wu _ _ (by decide)
      refine ⟨tqa t c g w, tqa t c g w, fun K hK => m188 K hw' ?_, ⟨RUN.rf, ⟨by rw [ht 88 (by decide)]; exact h88, fun f h1 h2 i _ => by rw [ht f (by simp; omega)]⟩, ⟨hL, hP.fr ht (by decide)⟩, MB.ofT ht (by decide) (fun _ _ => by rw [ht 72 (by decide)]), WA.of ht (by decide)⟩, fun w => absurd w (by decide)⟩
      unfold w_entered_188
      rw [cg, cc]
      refine ⟨vg, vg, fun y2 => ?_, fun _ => ⟨vc, fun t4 e4 => ?_⟩⟩
      · rw [hb, hw] at y2
        exact absurd y2 y
      · have z4 : t4 40 g = nI w := by rw [e4, up_f (by decide)]; exact hw
        have ei : 10 * nI g + nI w = nI (10 * g + w) := by rw [show (10 : Int32) = nI 10 from rfl, pk_mul, nI_add]
        rw [z4, ei, nI_clamp (by omega)]
        refine ⟨vg, vp_in_nI (by omega) (by decide), fun t5 e5 => ⟨vg, vg, fun t6 e6 => ?_⟩⟩
        have z5 : t5 40 g = nI w := by rw [e5, up_f (by decide)]; exact z4
        rw [z5, nI_1] at e6
        subst e4; subst e5; subst e6
        exact hK
  show cq (n + 2 + 11) mX6_begins [.inr (11, g), .inr (21, c)] N _
  refine sv_X6_begins (d := n + 2) (Q := fun N' => ∃ u t', (∀ K : DB → Prop, K u → w_entered (nI c) (nI g) t K) ∧ PB c X m z P N' t' h t u ∧ (1 = 3 ∨ 1 = 5 → t' 73 c = 1)) (fun N' w => ⟨rfl, w⟩) ⟨rfl, rfl, fun y => b29 (Or.inl ?_), fun y => ⟨rfl, fun e1 ee1 => ?_⟩⟩
  · rw [show N.1 (11, g).1 (11, g).2 2 = t 32 g from n2', show N.1 (11, g).1 (11, g).2 8 = t 39 g from n8] at y
    exact y
  have y' : ¬ t 32 g ≤ t 39 g := fun v => y (by rw [show N.1 (11, g).1 (11, g).2 2 = t 32 g from n2', show N.1 (11, g).1 (11, g).2 8 = t 39 g from n8]; exact v)
  have q1 : e1 = (32, g) := ee1.trans w7
  subst q1
  refine ⟨lk32, fun y2 => b29 (Or.inr (fun v => y2 (nS.trans v))), fun y2 => ⟨rfl, ?_⟩⟩
  have h40 : t 40 g = 0 := nS.symm.trans y2
  have ht : TF t (up (up t 77 c 1) 39 g (t 39 g + 1)) [39, 77] := (TF.rf.wu _ _ (by decide)).wu _ _ (by decide)
  have hS2 := (hS.t77 (p := c) (g := g) (w := 1) (Or.inr rfl) h65 hs hg (fun hl => by
    rcases hl with ⟨-, v⟩ | v
    · exact absurd rfl v
    · exact absurd v hcP)).b39 (g := g) (v := t 39 g + 1)
  have hL := gb_live q (by decide) hS2 ht (by decide) ((sI_ne (by simp)).trans h14) (fun g' e hg' => by
    have := gg g' e hg'
    subst this
    exact ⟨fun y => absurd y (no 0 (by decide) (by decide)), fun _ => Or.inr ⟨h75, (up_f (by decide)).trans up_s⟩⟩)
  obtain ⟨r1, r2⟩ := gb_in hB q hk (by decide) hL ht (by decide) (fun _ _ => rfl)
  refine sv_X6_works (d := n + 1) (Q := fun N' => ∃ u t', (∀ K : DB → Prop, K u → w_entered (nI c) (nI g) t K) ∧ PB c X m z P N' t' h t u ∧ (1 = 3 ∨ 1 = 5 → t' 73 c = 1)) (fun N' w => ⟨rfl, w⟩) ⟨rfl, rfl, fun M1 g1 => ⟨rfl, fun e2 ee2 => ?_⟩⟩
  rw [show N.1 (11, g).1 (11, g).2 8 = t 39 g from n8] at g1
  have q2 : e2 = (1, 0) := by
    rw [ee2, g1]
    exact nl10
  subst q2; subst g1
  refine ⟨rfl, r2.mono ?_⟩
  rintro r N' ⟨hr, t', b1, b2⟩
  refine ⟨hr, _, t', fun K hK => ?_, b1, b2⟩
  unfold w_entered
  rw [cc, cg]
  refine ⟨vc, fun x1 e1 => ⟨vg, fun y => absurd y (no 0 (by decide) (by decide)), fun _ => ?_, fun y => absurd y (no 2 (by decide) (by decide)), fun y => absurd y (no 3 (by decide) (by decide)), fun y => absurd y (no 4 (by decide) (by decide)), fun y => absurd y (no 5 (by decide) (by decide)), fun y => absurd y (no 6 (by decide) (by decide)), fun y => absurd y (no 7 (by decide) (by decide)), fun y => absurd y (no 8 (by decide) (by decide)), fun y0 y1 y2 y3 y4 y5 y6 y7 y8 => absurd hs y1⟩⟩
  refine ⟨vg, vg, fun v => absurd v y', fun _ => ⟨vg, fun v => absurd h40 v, fun _ => ?_⟩⟩
  unfold w_setToWork
  rw [cc, cg]
  refine ⟨vc, fun t1 e1 => ⟨vg, vg, fun t2 e2 => ?_⟩⟩
  rw [show t1 39 g = t 39 g by rw [e1, up_f (by decide)]] at e2
  subst e1; subst e2
  exact r1 _ hK

theorem gb_7 {k n : Nat} (hB : CB k n) (hE : CE 1 5 (n + 1)) {X : Mem} {m z : Nat} {P : List Nat} {N : Mem} {t : DB} {h c g o d hT : Nat} (q : GBP X m z P N t h c g 7 o d hT) (hk : hT = d + 1 + k) : GBG (n + 2) X m z P N t h c g 7 := by
  have q0 := q
  obtain ⟨hS, hP, hU, hM, hh, hc, h0, hcP, h65, hg, hs, hs9, h73, h75, h76, h77, h79, h14, h62, h63, ho, h88, ⟨T, hT1, hT2, hT3, hT4, hT5, hT6⟩, htr⟩ := q0
  have hn := hS.nC
  have h24 : cn t 30 ≤ 24 := hS.iB.2.2.2.1.2
  have vc : vp_in (nI c) 4400 := vp_in_nI (by omega) (by decide)
  have cc : (nI c).toNatClampNeg = c := nI_clamp (by omega)
  have vg : vp_in (nI g) 24 := vp_in_nI (by omega) (by decide)
  have cg : (nI g).toNatClampNeg = g := nI_clamp (by omega)
  have no : ∀ j, j ≤ 9 → j ≠ 7 → ¬ t 31 g = nI j := fun j hj hne y => hne ((nI_eq (by omega) (by omega)).mp (y.symm.trans hs))
  have tm : N.1 1 0 0 = t 0 0 := hS.W.2.1
  have gg : ∀ g', t 65 c = nI g' → g' < cn t 30 → g' = g := fun g' e hg' => (nI_eq (by omega) (by omega)).mp (e.symm.trans h65)
  obtain ⟨n0, n2, n3, n4, n6, nl⟩ := q.nf
  obtain ⟨m7, m8, m9, l46, l47, l48, mS⟩ := hS.G7 g hg hs
  have nl10 : N.2.1 17 g 10 = (1, 0) := nl
  have n2' : N.1 17 g 2 = t 32 g := n2
  obtain ⟨o', s, ho', ho2, e62, e4, hs8, f0, f1, f2, f3⟩ := hS.ord hc
  have eo : o' = o := (nI_eq (by omega) (by omega)).mp (e62.symm.trans h62)
  subst eo
  obtain ⟨mS1, mS2⟩ := mS s hs8
  have co : (nI o').toNatClampNeg = o' := nI_clamp (by omega)
  have vo : vp_in (nI o') 60 := vp_in_nI (by omega) (by decide)
  have cs : (nI s).toNatClampNeg = s := nI_clamp (by omega)
  have ek : 8 * nI g + nI s = nI (8 * g + s) := by rw [show (8 : Int32) = nI 8 from rfl, pk_mul, nI_add]
  have vk : vp_in (nI (8 * g + s)) 192 := vp_in_nI (by omega) (by decide)
  have ck : (nI (8 * g + s)).toNatClampNeg = 8 * g + s := nI_clamp (by omega)
  have ar : ∀ (k : Nat) (ty : Nat), k ≠ 0 → kt k = ty → N.2.2.1 k g = 9 → arI N (k, g) ty (nI s) := fun k ty h0 h1 h2 => ⟨h0, h1, by show N.2.2.1 k g ≠ 0; omega, by show vp_in (nI s) (N.2.2.1 k g - 1); rw [h2]; exact vp_in_nI (by omega) (by decide)⟩
  have hL := gb_live q (by decide) hS (TF.rf (C := [])) (by decide) h14 (fun g' e hg' => by
    have := gg g' e hg'
    subst this
    exact ⟨fun y => absurd y (no 0 (by decide) (by decide)), fun y => absurd y (no 1 (by decide) (by decide))⟩)
  obtain ⟨r1, r2⟩ := gb_in hB q hk (by decide) hL (TF.rf (C := [])) (by decide) (fun _ _ => rfl)
  have mdl : ∀ K : DB → Prop, ((¬ t 53 o' = 0 ∨ t 45 (8 * g + s) < 0 ∨ t 32 g < t 0 0 - t 45 (8 * g + s)) → w_goesIn (nI c) t K) → (¬ t 45 (8 * g + s) < 0 → (t 46 (8 * g + s) = 0 → w_add 1 (nI c) 1 (t 44 (8 * g + s)) 0 t K) ∧ (¬ t 46 (8 * g + s) = 0 → w_add 1 (nI c) 1 (t 44 (8 * g + s)) 1 t K)) → w_entered (nI c) (nI g) t K := fun K k1 k2 => by
    unfold w_entered
    rw [cc, cg]
    refine ⟨vc, fun x1 e1 => ⟨vg, fun y => absurd y (no 0 (by decide) (by decide)), fun y => absurd y (no 1 (by decide) (by decide)), fun y => absurd y (no 2 (by decide) (by decide)), fun y => absurd y (no 3 (by decide) (by decide)), fun y => absurd y (no 4 (by decide) (by decide)), fun y => absurd y (no 5 (by decide) (by decide)), fun y => absurd y (no 6 (by decide) (by decide)), fun _ => ?_, fun y => absurd y (no 8 (by decide) (by decide)), fun y0 y1 y2 y3 y4 y5 y6 y7 y8 => absurd hs y7⟩⟩
    rw [h62] at e1
    subst e1
    rw [co, f0]
    refine ⟨vo, fun x19 g19 => ?_⟩
    rw [ek] at g19
    subst g19
    rw [ck]
    refine ⟨vo, fun y => k1 (Or.inl y), fun _ => ⟨vk, fun y => k1 (Or.inr (Or.inl y)), fun y => ⟨vk, vg, fun y2 => k1 (Or.inr (Or.inr y2)), fun _ => ⟨vk, vk, (k2 y).1, (k2 y).2⟩⟩⟩⟩
  have goes : (¬ t 53 o' = 0 ∨ t 45 (8 * g + s) < 0 ∨ t 32 g < t 0 0 - t 45 (8 * g + s)) → cq (n + 1 + 10) mX0_goesIn [.inr (1, 0), .inr (21, c)] N (fun r N' => r = none ∧ ∃ u t', (∀ K : DB → Prop, K u → w_entered (nI c) (nI g) t K) ∧ PB c X m z P N' t' h t u ∧ (7 = 3 ∨ 7 = 5 → t' 73 c = 1)) := fun hw => by
    refine r2.mono ?_
    rintro r N' ⟨hr, t', b1, b2⟩
    refine ⟨hr, _, t', fun K hK => ?_, b1, b2⟩
    unfold w_entered
    rw [cc, cg]
    refine ⟨vc, fun x1 e1 => ⟨vg, fun y => absurd y (no 0 (by decide) (by decide)), fun y => absurd y (no 1 (by decide) (by decide)), fun y => absurd y (no 2 (by decide) (by decide)), fun y => absurd y (no 3 (by decide) (by decide)), fun y => absurd y (no 4 (by decide) (by decide)), fun y => absurd y (no 5 (by decide) (by decide)), fun y => absurd y (no 6 (by decide) (by decide)), fun _ => ?_, fun y => absurd y (no 8 (by decide) (by decide)), fun y0 y1 y2 y3 y4 y5 y6 y7 y8 => absurd hs y7⟩⟩
    rw [h62] at e1
    subst e1
    rw [co, f0]
    refine ⟨vo, fun x19 g19 => ?_⟩
    rw [ek] at g19
    subst g19
    rw [ck]
    refine ⟨vo, fun y => r1 _ hK, fun y => ⟨vk, fun y2 => r1 _ hK, fun y2 => ⟨vk, vg, fun y3 => r1 _ hK, fun y3 => ?_⟩⟩⟩
    rcases hw with v | v | v
    · exact absurd y v
    · exact absurd v y2
    · exact absurd v y3
  show cq (n + 1 + 11) mX12_begins [.inr (17, g), .inr (21, c)] N _
  refine sv_X12_begins (d := n + 1) (Q := fun N' => ∃ u t', (∀ K : DB → Prop, K u → w_entered (nI c) (nI g) t K) ∧ PB c X m z P N' t' h t u ∧ (7 = 3 ∨ 7 = 5 → t' 73 c = 1)) (fun N' w => ⟨rfl, w⟩) ⟨rfl, fun e1 ee1 => ?_⟩
  have q1 : e1 = (20, o') := ee1.trans e4
  subst q1
  refine ⟨rfl, fun x2 ex2 => ⟨rfl, fun e3 ee3 => ?_⟩⟩
  have q2 : x2 = nI s := ex2.trans f1
  subst q2
  have q3 : e3 = (20, o') := ee3.trans e4
  subst q3
  refine ⟨rfl, fun w => ⟨rfl, fun e5 ee5 => ?_⟩, fun w => ⟨rfl, fun e7 ee7 => ?_⟩⟩
  · have q5 : e5 = (1, 0) := ee5.trans nl10
    subst q5
    exact ⟨rfl, goes (Or.inl (fun y => w (f2.trans y)))⟩
  have w53 : t 53 o' = 0 := f2.symm.trans w
  have q7 : e7 = (47, g) := ee7.trans m8
  subst q7
  have a47 : N.1 (47, g).1 (47, g).2 (nI s).toNatClampNeg = t 45 (8 * g + s) := by rw [cs]; exact mS1
  refine ⟨ar 47 100 (by decide) rfl l47, fun w2 => ⟨rfl, fun e8 ee8 => ?_⟩, fun w2 => ⟨rfl, fun e11 ee11 => ?_⟩⟩
  · have q8 : e8 = (1, 0) := ee8.trans nl10
    subst q8
    rw [a47] at w2
    exact ⟨rfl, goes (Or.inr (Or.inl (by rw [w2]; decide)))⟩
  have q11 : e11 = (1, 0) := ee11.trans nl10
  subst q11
  have n45 : ¬ t 45 (8 * g + s) = -1 := fun y => w2 (a47.trans y)
  have pos : ¬ t 45 (8 * g + s) < 0 := by
    rcases mS2 with ⟨y, -⟩ | ⟨y, -⟩
    · exact absurd y n45
    · exact Int32.not_lt.mpr y
  obtain ⟨a46, a48, b48⟩ : N.1 46 g s = t 44 (8 * g + s) ∧ N.1 48 g s = t 46 (8 * g + s) ∧ (t 46 (8 * g + s) = 0 ∨ t 46 (8 * g + s) = 1) := by
    rcases mS2 with ⟨y, -⟩ | ⟨-, y⟩
    · exact absurd y n45
    · exact y
  refine ⟨rfl, rfl, fun e12 ee12 => ?_⟩
  have q12 : e12 = (47, g) := ee12.trans m8
  subst q12
  have w0 : N.1 (1, 0).1 (1, 0).2 0 = t 0 0 := tm
  have w2' : N.1 (17, g).1 (17, g).2 2 = t 32 g := n2'
  refine ⟨ar 47 100 (by decide) rfl l47, rfl, fun w3 => ⟨rfl, fun e13 ee13 => ?_⟩, fun w3 => ⟨rfl, fun e16 ee16 => ⟨rfl, fun e17 ee17 => ?_⟩⟩⟩
  · have q13 : e13 = (1, 0) := ee13.trans nl10
    subst q13
    rw [w0, w2', a47] at w3
    exact ⟨rfl, goes (Or.inr (Or.inr w3))⟩
  rw [w0, w2', a47] at w3
  have q16 : e16 = (1, 0) := ee16.trans nl10
  subst q16
  have q17 : e17 = (46, g) := ee17.trans m7
  subst q17
  refine ⟨ar 46 100 (by decide) rfl l46, rfl, fun e18 ee18 => ?_⟩
  have q18 : e18 = (48, g) := ee18.trans m9
  subst q18
  refine ⟨ar 48 101 (by decide) rfl l48, rfl, ?_⟩
  show cq (n + 1 + 10) mX0_good [.inr (1, 0), .inr (21, c), .inl (N.1 46 g (nI s).toNatClampNeg), .inl (N.1 48 g (nI s).toNatClampNeg)] N _
  rw [cs, a46, a48]
  have hA := (end_c hE (h := h) (how := 1) (val := t 44 (8 * g + s)) (by_ := t 46 (8 * g + s)) ⟨hS, hP⟩ ⟨by omega, hh.2⟩ hc h0 hcP (fun j hj e => absurd h73 (hS.inner hc hj e)) (by rw [h63, nI_clamp (by omega)]; omega) (fun y => absurd y (by decide)) h88).1 rfl b48
  refine hA.mono ?_
  rintro r N' ⟨hr, t', p⟩
  refine ⟨hr, _, t', fun K hK => mdl K (fun y => ?_) (fun _ => ⟨fun y => ?_, fun y => ?_⟩), p.pb h24, fun w => absurd w (by decide)⟩
  · exfalso
    rcases y with y | y | y
    · exact y w53
    · exact pos y
    · exact w3 y
  · rw [y] at hK
    exact w_add_s h88 (by omega) hK
  · rw [b48.resolve_left y] at hK
    exact w_add_s h88 (by omega) hK
