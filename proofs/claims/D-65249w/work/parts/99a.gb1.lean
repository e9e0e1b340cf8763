set_option maxRecDepth 100000
/-! the simple guards begin -/
theorem GBP.nf {X : Mem} {m z : Nat} {P : List Nat} {N : Mem} {t : DB} {h c g s o d hT : Nat} (q : GBP X m z P N t h c g s o d hT) : N.1 (10 + s) g 0 = nI g ∧ N.1 (10 + s) g 2 = t 32 g ∧ N.1 (10 + s) g 3 = t 33 g ∧ N.1 (10 + s) g 4 = t 34 g ∧ N.2.1 (10 + s) g 6 = (1, 0) ∧ N.2.1 (10 + s) g (lastf s) = (1, 0) := by
  obtain ⟨hS, hP, hU, hM, hh, hc, h0, hcP, h65, hg, hs, hs9, -⟩ := q
  obtain ⟨s', a1, a2, a3, a4, a5, a6, a7, a8, a9, a10, a11⟩ := hS.G g hg
  have es : s' = s := (nI_eq (by omega) (by omega)).mp (a2.symm.trans hs)
  subst es
  exact ⟨a4, a6, a7, a8, a10, a11⟩

theorem gb_4 {k n : Nat} (hB : CB k n) {X : Mem} {m z : Nat} {P : List Nat} {N : Mem} {t : DB} {h c g o d hT : Nat} (q : GBP X m z P N t h c g 4 o d hT) (hk : hT = d + 1 + k) : GBG (n + 2) X m z P N t h c g 4 := by
  have q0 := q
  obtain ⟨hS, hP, hU, hM, hh, hc, h0, hcP, h65, hg, hs, hs9, h73, h75, h76, h77, h79, h14, h62, h63, ho, h88, ⟨T, hT1, hT2, hT3, hT4, hT5, hT6⟩, htr⟩ := q0
  have hn := hS.nC
  have h24 : cn t 30 ≤ 24 := hS.iB.2.2.2.1.2
  have vc : vp_in (nI c) 4400 := vp_in_nI (by omega) (by decide)
  have cc : (nI c).toNatClampNeg = c := nI_clamp (by omega)
  have vg : vp_in (nI g) 24 := vp_in_nI (by omega) (by decide)
  have cg : (nI g).toNatClampNeg = g := nI_clamp (by omega)
  have no : ∀ j, j ≤ 9 → j ≠ 4 → ¬ t 31 g = nI j := fun j hj hne y => hne ((nI_eq (by omega) (by omega)).mp (y.symm.trans hs))
  have tm : N.1 1 0 0 = t 0 0 := hS.W.2.1
  have gg : ∀ g', t 65 c = nI g' → g' < cn t 30 → g' = g := fun g' e hg' => (nI_eq (by omega) (by omega)).mp (e.symm.trans h65)
  obtain ⟨n0, n2, n3, n4, n6, nl⟩ := q.nf
  have hL := gb_live q (by decide) hS (TF.rf (C := [])) (by decide) h14 (fun g' e hg' => by
    have := gg g' e hg'
    subst this
    exact ⟨fun y => absurd y (no 0 (by decide) (by decide)), fun y => absurd y (no 1 (by decide) (by decide))⟩)
  obtain ⟨r1, r2⟩ := gb_in hB q hk (by decide) hL (TF.rf (C := [])) (by decide) (fun _ _ => rfl)
  show cq (n + 1 + 11) mX4_begins [.inr (14, g), .inr (21, c)] N _
  refine sv_X4_begins (d := n + 1) (Q := fun N' => ∃ u t', (∀ K : DB → Prop, K u → w_entered (nI c) (nI g) t K) ∧ PB c X m z P N' t' h t u ∧ (4 = 3 ∨ 4 = 5 → t' 73 c = 1)) (fun N' w => ⟨rfl, w⟩) ⟨⟨by show 10 ≤ 14; decide, by show 14 ≤ 19; decide⟩, fun e1 ee1 => ?_⟩
  have q1 : e1 = (1, 0) := ee1.trans n6
  subst q1
  refine ⟨rfl, r2.mono ?_⟩
  rintro r N' ⟨hr, t', b1, b2⟩
  refine ⟨hr, _, t', fun K hK => ?_, b1, b2⟩
  unfold w_entered
  rw [cc, cg]
  refine ⟨vc, fun x1 e1 => ⟨vg, fun y => absurd y (no 0 (by decide) (by decide)), fun y => absurd y (no 1 (by decide) (by decide)), fun y => absurd y (no 2 (by decide) (by decide)), fun y => absurd y (no 3 (by decide) (by decide)), fun _ => ?_, fun y => absurd y (no 5 (by decide) (by decide)), fun y => absurd y (no 6 (by decide) (by decide)), fun y => absurd y (no 7 (by decide) (by decide)), fun y => absurd y (no 8 (by decide) (by decide)), fun y0 y1 y2 y3 y4 y5 y6 y7 y8 => absurd hs y4⟩⟩
  exact r1 _ hK

theorem gb_6 {k n : Nat} (hB : CB k n) {X : Mem} {m z : Nat} {P : List Nat} {N : Mem} {t : DB} {h c g o d hT : Nat} (q : GBP X m z P N t h c g 6 o d hT) (hk : hT = d + 1 + k) : GBG (n + 2) X m z P N t h c g 6 := by
  have q0 := q
  obtain ⟨hS, hP, hU, hM, hh, hc, h0, hcP, h65, hg, hs, hs9, h73, h75, h76, h77, h79, h14, h62, h63, ho, h88, ⟨T, hT1, hT2, hT3, hT4, hT5, hT6⟩, htr⟩ := q0
  have hn := hS.nC
  have h24 : cn t 30 ≤ 24 := hS.iB.2.2.2.1.2
  have vc : vp_in (nI c) 4400 := vp_in_nI (by omega) (by decide)
  have cc : (nI c).toNatClampNeg = c := nI_clamp (by omega)
  have vg : vp_in (nI g) 24 := vp_in_nI (by omega) (by decide)
  have cg : (nI g).toNatClampNeg = g := nI_clamp (by omega)
  have no : ∀ j, j ≤ 9 → j ≠ 6 → ¬ t 31 g = nI j := fun j hj hne y => hne ((nI_eq (by omega) (by omega)).mp (y.symm.trans hs))
  have tm : N.1 1 0 0 = t 0 0 := hS.W.2.1
  have gg : ∀ g', t 65 c = nI g' → g' < cn t 30 → g' = g := fun g' e hg' => (nI_eq (by omega) (by omega)).mp (e.symm.trans h65)
  obtain ⟨n0, n2, n3, n4, n6, nl⟩ := q.nf
  have hL := gb_live q (by decide) hS (TF.rf (C := [])) (by decide) h14 (fun g' e hg' => by
    have := gg g' e hg'
    subst this
    exact ⟨fun y => absurd y (no 0 (by decide) (by decide)), fun y => absurd y (no 1 (by decide) (by decide))⟩)
  obtain ⟨r1, r2⟩ := gb_in hB q hk (by decide) hL (TF.rf (C := [])) (by decide) (fun _ _ => rfl)
  show cq (n + 1 + 11) mX4_begins [.inr (16, g), .inr (21, c)] N _
  refine sv_X4_begins (d := n + 1) (Q := fun N' => ∃ u t', (∀ K : DB → Prop, K u → w_entered (nI c) (nI g) t K) ∧ PB c X m z P N' t' h t u ∧ (6 = 3 ∨ 6 = 5 → t' 73 c = 1)) (fun N' w => ⟨rfl, w⟩) ⟨⟨by show 10 ≤ 16; decide, by show 16 ≤ 19; decide⟩, fun e1 ee1 => ?_⟩
  have q1 : e1 = (1, 0) := ee1.trans n6
  subst q1
  refine ⟨rfl, r2.mono ?_⟩
  rintro r N' ⟨hr, t', b1, b2⟩
  refine ⟨hr, _, t', fun K hK => ?_, b1, b2⟩
  unfold w_entered
  rw [cc, cg]
  refine ⟨vc, fun x1 e1 => ⟨vg, fun y => absurd y (no 0 (by decide) (by decide)), fun y => absurd y (no 1 (by decide) (by decide)), fun y => absurd y (no 2 (by decide) (by decide)), fun y => absurd y (no 3 (by decide) (by decide)), fun y => absurd y (no 4 (by decide) (by decide)), fun y => absurd y (no 5 (by decide) (by decide)), fun _ => ?_, fun y => absurd y (no 7 (by decide) (by decide)), fun y => absurd y (no 8 (by decide) (by decide)), fun y0 y1 y2 y3 y4 y5 y6 y7 y8 => absurd hs y6⟩⟩
  exact r1 _ hK

theorem gb_9 {k n : Nat} (hB : CB k n) {X : Mem} {m z : Nat} {P : List Nat} {N : Mem} {t : DB} {h c g o d hT : Nat} (q : GBP X m z P N t h c g 9 o d hT) (hk : hT = d + 1 + k) : GBG (n + 2) X m z P N t h c g 9 := by
  have q0 := q
  obtain ⟨hS, hP, hU, hM, hh, hc, h0, hcP, h65, hg, hs, hs9, h73, h75, h76, h77, h79, h14, h62, h63, ho, h88, ⟨T, hT1, hT2, hT3, hT4, hT5, hT6⟩, htr⟩ := q0
  have hn := hS.nC
  have h24 : cn t 30 ≤ 24 := hS.iB.2.2.2.1.2
  have vc : vp_in (nI c) 4400 := vp_in_nI (by omega) (by decide)
  have cc : (nI c).toNatClampNeg = c := nI_clamp (by omega)
  have vg : vp_in (nI g) 24 := vp_in_nI (by omega) (by decide)
  have cg : (nI g).toNatClampNeg = g := nI_clamp (by omega)
  have no : ∀ j, j ≤ 9 → j ≠ 9 → ¬ t 31 g = nI j := fun j hj hne y => hne ((nI_eq (by omega) (by omega)).mp (y.symm.trans hs))
  have tm : N.1 1 0 0 = t 0 0 := hS.W.2.1
  have gg : ∀ g', t 65 c = nI g' → g' < cn t 30 → g' = g := fun g' e hg' => (nI_eq (by omega) (by omega)).mp (e.symm.trans h65)
  obtain ⟨n0, n2, n3, n4, n6, nl⟩ := q.nf
  have hL := gb_live q (by decide) hS (TF.rf (C := [])) (by decide) h14 (fun g' e hg' => by
    have := gg g' e hg'
    subst this
    exact ⟨fun y => absurd y (no 0 (by decide) (by decide)), fun y => absurd y (no 1 (by decide) (by decide))⟩)
  obtain ⟨r1, r2⟩ := gb_in hB q hk (by decide) hL (TF.rf (C := [])) (by decide) (fun _ _ => rfl)
  show cq (n + 1 + 11) mX4_begins [.inr (19, g), .inr (21, c)] N _
  refine sv_X4_begins (d := n + 1) (Q := fun N' => ∃ u t', (∀ K : DB → Prop, K u → w_entered (nI c) (nI g) t K) ∧ PB c X m z P N' t' h t u ∧ (9 = 3 ∨ 9 = 5 → t' 73 c = 1)) (fun N' w => ⟨rfl, w⟩) ⟨⟨by show 10 ≤ 19; decide, by show 19 ≤ 19; decide⟩, fun e1 ee1 => ?_⟩
  have q1 : e1 = (1, 0) := ee1.trans n6
  subst q1
  refine ⟨rfl, r2.mono ?_⟩
  rintro r N' ⟨hr, t', b1, b2⟩
  refine ⟨hr, _, t', fun K hK => ?_, b1, b2⟩
  unfold w_entered
  rw [cc, cg]
  refine ⟨vc, fun x1 e1 => ⟨vg, fun y => absurd y (no 0 (by decide) (by decide)), fun y => absurd y (no 1 (by decide) (by decide)), fun y => absurd y (no 2 (by decide) (by decide)), fun y => absurd y (no 3 (by decide) (by decide)), fun y => absurd y (no 4 (by decide) (by decide)), fun y => absurd y (no 5 (by decide) (by decide)), fun y => absurd y (no 6 (by decide) (by decide)), fun y => absurd y (no 7 (by decide) (by decide)), fun y => absurd y (no 8 (by decide) (by decide)), fun _ _ _ _ _ _ _ _ _ => ?_⟩⟩
  exact r1 _ hK

theorem gb_3 {k n : Nat} (hB : CB k n) {X : Mem} {m z : Nat} {P : List Nat} {N : Mem} {t : DB} {h c g o d hT : Nat} (q : GBP X m z P N t h c g 3 o d hT) (hk : hT = d + 1 + k) : GBG (n + 2) X m z P N t h c g 3 := by
  have q0 := q
  obtain ⟨hS, hP, hU, hM, hh, hc, h0, hcP, h65, hg, hs, hs9, h73, h75, h76, h77, h79, h14, h62, h63, ho, h88, ⟨T, hT1, hT2, hT3, hT4, hT5, hT6⟩, htr⟩ := q0
  have hn := hS.nC
  have h24 : cn t 30 ≤ 24 := hS.iB.2.2.2.1.2
  have vc : vp_in (nI c) 4400 := vp_in_nI (by omega) (by decide)
  have cc : (nI c).toNatClampNeg = c := nI_clamp (by omega)
  have vg : vp_in (nI g) 24 := vp_in_nI (by omega) (by decide)
  have cg : (nI g).toNatClampNeg = g := nI_clamp (by omega)
  have no : ∀ j, j ≤ 9 → j ≠ 3 → ¬ t 31 g = nI j := fun j hj hne y => hne ((nI_eq (by omega) (by omega)).mp (y.symm.trans hs))
  have tm : N.1 1 0 0 = t 0 0 := hS.W.2.1
  have gg : ∀ g', t 65 c = nI g' → g' < cn t 30 → g' = g := fun g' e hg' => (nI_eq (by omega) (by omega)).mp (e.symm.trans h65)
  obtain ⟨n0, n2, n3, n4, n6, nl⟩ := q.nf
  have ht : TF t (up t 72 c (t 0 0 + t 32 g)) [72] := TF.rf.wu _ _ (by decide)
  have hL := gb_live q (by decide) (hS.due (c := c) (v := t 0 0 + t 32 g)) ht (by decide) ((sI_ne (by simp)).trans h14) (fun g' e hg' => by
    have := gg g' e hg'
    subst this
    exact ⟨fun y => absurd y (no 0 (by decide) (by decide)), fun y => absurd y (no 1 (by decide) (by decide))⟩)
  obtain ⟨r1, r2⟩ := gb_in hB q hk (by decide) hL ht (by decide) (fun i hi => up_n (fun y => hi y.2))
  show cq (n + 1 + 11) mX8_begins [.inr (13, g), .inr (21, c)] N _
  refine sv_X8_begins (d := n + 1) (Q := fun N' => ∃ u t', (∀ K : DB → Prop, K u → w_entered (nI c) (nI g) t K) ∧ PB c X m z P N' t' h t u ∧ (3 = 3 ∨ 3 = 5 → t' 73 c = 1)) (fun N' w => ⟨rfl, w⟩) ⟨rfl, fun e1 ee1 => ?_⟩
  have q1 : e1 = (1, 0) := ee1.trans nl
  subst q1
  refine ⟨rfl, rfl, rfl, fun M2 g2 => ⟨rfl, fun e3 ee3 => ?_⟩⟩
  have w2 : N.1 (13, g).1 (13, g).2 2 = t 32 g := n2
  have w0 : N.1 (1, 0).1 (1, 0).2 0 = t 0 0 := tm
  rw [w0, w2] at g2
  have q3 : e3 = (1, 0) := by
    rw [ee3, g2]
    exact nl
  subst q3; subst g2
  refine ⟨rfl, r2.mono ?_⟩
  rintro r N' ⟨hr, t', b1, b2⟩
  refine ⟨hr, _, t', fun K hK => ?_, b1, b2⟩
  unfold w_entered
  rw [cc, cg]
  refine ⟨vc, fun x1 e1 => ⟨vg, fun y => absurd y (no 0 (by decide) (by decide)), fun y => absurd y (no 1 (by decide) (by decide)), fun y => absurd y (no 2 (by decide) (by decide)), fun _ => ?_, fun y => absurd y (no 4 (by decide) (by decide)), fun y => absurd y (no 5 (by decide) (by decide)), fun y => absurd y (no 6 (by decide) (by decide)), fun y => absurd y (no 7 (by decide) (by decide)), fun y => absurd y (no 8 (by decide) (by decide)), fun y0 y1 y2 y3 y4 y5 y6 y7 y8 => absurd hs y3⟩⟩
  unfold w_entered_303
  rw [cg, cc]
  refine ⟨vg, vc, fun t1 e1 => ?_⟩
  subst e1
  exact r1 _ hK

theorem gb_5 {k n : Nat} (hB : CB k n) {X : Mem} {m z : Nat} {P : List Nat} {N : Mem} {t : DB} {h c g o d hT : Nat} (q : GBP X m z P N t h c g 5 o d hT) (hk : hT = d + 1 + k) : GBG (n + 2) X m z P N t h c g 5 := by
  have q0 := q
  obtain ⟨hS, hP, hU, hM, hh, hc, h0, hcP, h65, hg, hs, hs9, h73, h75, h76, h77, h79, h14, h62, h63, ho, h88, ⟨T, hT1, hT2, hT3, hT4, hT5, hT6⟩, htr⟩ := q0
  have hn := hS.nC
  have h24 : cn t 30 ≤ 24 := hS.iB.2.2.2.1.2
  have vc : vp_in (nI c) 4400 := vp_in_nI (by omega) (by decide)
  have cc : (nI c).toNatClampNeg = c := nI_clamp (by omega)
  have vg : vp_in (nI g) 24 := vp_in_nI (by omega) (by decide)
  have cg : (nI g).toNatClampNeg = g := nI_clamp (by omega)
  have no : ∀ j, j ≤ 9 → j ≠ 5 → ¬ t 31 g = nI j := fun j hj hne y => hne ((nI_eq (by omega) (by omega)).mp (y.symm.trans hs))
  have tm : N.1 1 0 0 = t 0 0 := hS.W.2.1
  have gg : ∀ g', t 65 c = nI g' → g' < cn t 30 → g' = g := fun g' e hg' => (nI_eq (by omega) (by omega)).mp (e.symm.trans h65)
  obtain ⟨n0, n2, n3, n4, n6, nl⟩ := q.nf
  have ht : TF t (up t 72 c (t 0 0 + t 32 g)) [72] := TF.rf.wu _ _ (by decide)
  have hL := gb_live q (by decide) (hS.due (c := c) (v := t 0 0 + t 32 g)) ht (by decide) ((sI_ne (by simp)).trans h14) (fun g' e hg' => by
    have := gg g' e hg'
    subst this
    exact ⟨fun y => absurd y (no 0 (by decide) (by decide)), fun y => absurd y (no 1 (by decide) (by decide))⟩)
  obtain ⟨r1, r2⟩ := gb_in hB q hk (by decide) hL ht (by decide) (fun i hi => up_n (fun y => hi y.2))
  show cq (n + 1 + 11) mX10_begins [.inr (15, g), .inr (21, c)] N _
  refine sv_X10_begins (d := n + 1) (Q := fun N' => ∃ u t', (∀ K : DB → Prop, K u → w_entered (nI c) (nI g) t K) ∧ PB c X m z P N' t' h t u ∧ (5 = 3 ∨ 5 = 5 → t' 73 c = 1)) (fun N' w => ⟨rfl, w⟩) ⟨rfl, fun e1 ee1 => ?_⟩
  have q1 : e1 = (1, 0) := ee1.trans nl
  subst q1
  refine ⟨rfl, rfl, rfl, fun M2 g2 => ⟨rfl, fun e3 ee3 => ?_⟩⟩
  have w2 : N.1 (15, g).1 (15, g).2 2 = t 32 g := n2
  have w0 : N.1 (1, 0).1 (1, 0).2 0 = t 0 0 := tm
  rw [w0, w2] at g2
  have q3 : e3 = (1, 0) := by
    rw [ee3, g2]
    exact nl
  subst q3; subst g2
  refine ⟨rfl, r2.mono ?_⟩
  rintro r N' ⟨hr, t', b1, b2⟩
  refine ⟨hr, _, t', fun K hK => ?_, b1, b2⟩
  unfold w_entered
  rw [cc, cg]
  refine ⟨vc, fun x1 e1 => ⟨vg, fun y => absurd y (no 0 (by decide) (by decide)), fun y => absurd y (no 1 (by decide) (by decide)), fun y => absurd y (no 2 (by decide) (by decide)), fun y => absurd y (no 3 (by decide) (by decide)), fun y => absurd y (no 4 (by decide) (by decide)), fun _ => ?_, fun y => absurd y (no 6 (by decide) (by decide)), fun y => absurd y (no 7 (by decide) (by decide)), fun y => absurd y (no 8 (by decide) (by decide)), fun y0 y1 y2 y3 y4 y5 y6 y7 y8 => absurd hs y5⟩⟩
  unfold w_entered_303
  rw [cg, cc]
  refine ⟨vg, vc, fun t1 e1 => ?_⟩
  subst e1
  exact r1 _ hK

theorem gb_2 {k n : Nat} (hB : CB k n) (hE : CE 1 5 n) {X : Mem} {m z : Nat} {P : List Nat} {N : Mem} {t : DB} {h c g o d hT : Nat} (q : GBP X m z P N t h c g 2 o d hT) (hk : hT = d + 1 + k) : GBG (n + 2) X m z P N t h c g 2 := by
  have q0 := q
  obtain ⟨hS, hP, hU, hM, hh, hc, h0, hcP, h65, hg, hs, hs9, h73, h75, h76, h77, h79, h14, h62, h63, ho, h88, ⟨T, hT1, hT2, hT3, hT4, hT5, hT6⟩, htr⟩ := q0
  have hn := hS.nC
  have h24 : cn t 30 ≤ 24 := hS.iB.2.2.2.1.2
  have vc : vp_in (nI c) 4400 := vp_in_nI (by omega) (by decide)
  have cc : (nI c).toNatClampNeg = c := nI_clamp (by omega)
  have vg : vp_in (nI g) 24 := vp_in_nI (by omega) (by decide)
  have cg : (nI g).toNatClampNeg = g := nI_clamp (by omega)
  have no : ∀ j, j ≤ 9 → j ≠ 2 → ¬ t 31 g = nI j := fun j hj hne y => hne ((nI_eq (by omega) (by omega)).mp (y.symm.trans hs))
  have tm : N.1 1 0 0 = t 0 0 := hS.W.2.1
  have gg : ∀ g', t 65 c = nI g' → g' < cn t 30 → g' = g := fun g' e hg' => (nI_eq (by omega) (by omega)).mp (e.symm.trans h65)
  obtain ⟨n0, n2, n3, n4, n6, nl⟩ := q.nf
  have n7 : N.1 12 g 7 = t 42 g := hS.G2 g hg hs
  have nl8 : N.2.1 12 g 8 = (1, 0) := nl
  show cq (n + 1 + 11) mX7_begins [.inr (12, g), .inr (21, c)] N _
  refine sv_X7_begins (d := n + 1) (Q := fun N' => ∃ u t', (∀ K : DB → Prop, K u → w_entered (nI c) (nI g) t K) ∧ PB c X m z P N' t' h t u ∧ (2 = 3 ∨ 2 = 5 → t' 73 c = 1)) (fun N' w => ⟨rfl, w⟩) ⟨rfl, fun y => ⟨rfl, rfl, fun M1 g1 => ⟨rfl, fun e2 ee2 => ?_⟩⟩, fun y => ⟨rfl, ?_⟩⟩
  · have y' : ¬ t 42 g = 0 := fun w => y (n7.trans w)
    have ht : TF t (up t 42 g (t 42 g - 1)) [42] := TF.rf.wu _ _ (by decide)
    have hL := gb_live q (by decide) (hS.tok (g := g) (v := t 42 g - 1)) ht (by decide) ((sI_ne (by simp)).trans h14) (fun g' e hg' => by
      have := gg g' e hg'
      subst this
      exact ⟨fun y => absurd y (no 0 (by decide) (by decide)), fun y => absurd y (no 1 (by decide) (by decide))⟩)
    obtain ⟨r1, r2⟩ := gb_in hB q hk (by decide) hL ht (by decide) (fun i hi => rfl)
    rw [show N.1 (12, g).1 (12, g).2 7 = t 42 g from n7] at g1
    have q2 : e2 = (1, 0) := by
      rw [ee2, g1]
      exact nl8
    subst q2; subst g1
    refine ⟨rfl, r2.mono ?_⟩
    rintro r N' ⟨hr, t', b1, b2⟩
    refine ⟨hr, _, t', fun K hK => ?_, b1, b2⟩
    unfold w_entered
    rw [cc, cg]
    refine ⟨vc, fun x1 e1 => ⟨vg, fun y => absurd y (no 0 (by decide) (by decide)), fun y => absurd y (no 1 (by decide) (by decide)), fun _ => ?_, fun y => absurd y (no 3 (by decide) (by decide)), fun y => absurd y (no 4 (by decide) (by decide)), fun y => absurd y (no 5 (by decide) (by decide)), fun y => absurd y (no 6 (by decide) (by decide)), fun y => absurd y (no 7 (by decide) (by decide)), fun y => absurd y (no 8 (by decide) (by decide)), fun y0 y1 y2 y3 y4 y5 y6 y7 y8 => absurd hs y2⟩⟩
    refine ⟨vg, fun _ => ⟨vg, vg, fun t9 e9 => ?_⟩, fun w => absurd w y'⟩
    subst e9
    exact r1 _ hK
  · have y' : t 42 g = 0 := n7.symm.trans y
    obtain ⟨r1, r2⟩ := gb_ref hE q (kd := 11) (by decide) hS (TF.rf (C := [])) (by decide) (fun _ _ => rfl)
    refine r2.mono ?_
    rintro r N' ⟨hr, t', b1⟩
    refine ⟨hr, _, t', fun K hK => ?_, b1, fun w => absurd w (by decide)⟩
    unfold w_entered
    rw [cc, cg]
    refine ⟨vc, fun x1 e1 => ⟨vg, fun y => absurd y (no 0 (by decide) (by decide)), fun y => absurd y (no 1 (by decide) (by decide)), fun _ => ?_, fun y => absurd y (no 3 (by decide) (by decide)), fun y => absurd y (no 4 (by decide) (by decide)), fun y => absurd y (no 5 (by decide) (by decide)), fun y => absurd y (no 6 (by decide) (by decide)), fun y => absurd y (no 7 (by decide) (by decide)), fun y => absurd y (no 8 (by decide) (by decide)), fun y0 y1 y2 y3 y4 y5 y6 y7 y8 => absurd hs y2⟩⟩
    exact ⟨vg, fun w => absurd y' w, fun _ => r1 K hK⟩

theorem gb_0 {k n : Nat} (hB : CB k n) (hE : CE 1 5 n) {X : Mem} {m z : Nat} {P : List Nat} {N : Mem} {t : DB} {h c g o d hT : Nat} (q : GBP X m z P N t h c g 0 o d hT) (hk : hT = d + 1 + k) : GBG (n + 2) X m z P N t h c g 0 := by
  have q0 := q
  obtain ⟨hS, hP, hU, hM, hh, hc, h0, hcP, h65, hg, hs, hs9, h73, h75, h76, h77, h79, h14, h62, h63, ho, h88, ⟨T, hT1, hT2, hT3, hT4, hT5, hT6⟩, htr⟩ := q0
  have hn := hS.nC
  have h24 : cn t 30 ≤ 24 := hS.iB.2.2.2.1.2
  have vc : vp_in (nI c) 4400 := vp_in_nI (by omega) (by decide)
  have cc : (nI c).toNatClampNeg = c := nI_clamp (by omega)
  have vg : vp_in (nI g) 24 := vp_in_nI (by omega) (by decide)
  have cg : (nI g).toNatClampNeg = g := nI_clamp (by omega)
  have no : ∀ j, j ≤ 9 → j ≠ 0 → ¬ t 31 g = nI j := fun j hj hne y => hne ((nI_eq (by omega) (by omega)).mp (y.symm.trans hs))
  have tm : N.1 1 0 0 = t 0 0 := hS.W.2.1
  have gg : ∀ g', t 65 c = nI g' → g' < cn t 30 → g' = g := fun g' e hg' => (nI_eq (by omega) (by omega)).mp (e.symm.trans h65)
  obtain ⟨n0, n2, n3, n4, n6, nl⟩ := q.nf
  obtain ⟨n7, n8, n9⟩ := hS.G0 g hg hs
  have nl11 : N.2.1 10 g 11 = (1, 0) := nl
  have htr0 : N.2.1 10 g 10 ≠ (21, c) := htr g hg h65 hs
  have q36 : t 36 g = 0 ∨ t 36 g = 1 ∨ t 36 g = 2 := by
    obtain ⟨s', a1, a2, a3, a4, -⟩ := hS.iG g hg
    exact (a4 ((nI_eq (by omega) (by omega)).mp (a2.symm.trans hs))).1
  -- refused
  have ref : ∀ K : DB → Prop, (t 36 g = 2 ∨ (t 36 g = 1 ∧ ¬ t 38 g ≤ t 0 0)) → w_add 2 (nI c) 9 0 0 t K → w_entered (nI c) (nI g) t K := fun K hw hK => by
    unfold w_entered
    rw [cc, cg]
    refine ⟨vc, fun x1 e1 => ⟨vg, fun _ => ?_, fun y => absurd y (no 1 (by decide) (by decide)), fun y => absurd y (no 2 (by decide) (by decide)), fun y => absurd y (no 3 (by decide) (by decide)), fun y => absurd y (no 4 (by decide) (by decide)), fun y => absurd y (no 5 (by decide) (by decide)), fun y => absurd y (no 6 (by decide) (by decide)), fun y => absurd y (no 7 (by decide) (by decide)), fun y => absurd y (no 8 (by decide) (by decide)), fun y0 y1 y2 y3 y4 y5 y6 y7 y8 => absurd hs y0⟩⟩
    refine ⟨vg, fun _ => hK, fun w => ⟨vg, fun w2 => ?_, fun w2 => ⟨vg, fun w3 => ?_, fun _ => hK⟩⟩⟩
    · rcases hw with y | y
      · exact absurd y w
      · exact absurd y.1 w2
    · rcases hw with y | y
      · exact absurd y w
      · exact absurd w3 y.2
  have frf : (t 36 g = 2 ∨ (t 36 g = 1 ∧ ¬ t 38 g ≤ t 0 0)) → cq (n + 1 + 10) mX4_refuses [.inr (10, g), .inr (21, c), .inl 9] N (fun r N' => r = none ∧ ∃ u t', (∀ K : DB → Prop, K u → w_entered (nI c) (nI g) t K) ∧ PB c X m z P N' t' h t u ∧ (0 = 3 ∨ 0 = 5 → t' 73 c = 1)) := fun hw => by
    obtain ⟨r1, r2⟩ := gb_ref hE q (kd := 9) (by decide) hS (TF.rf (C := [])) (by decide) (fun _ _ => rfl)
    refine r2.mono ?_
    rintro r N' ⟨hr, t', b1⟩
    exact ⟨hr, _, t', fun K hK => ref K hw (r1 K hK), b1, fun w => absurd w (by decide)⟩
  have fin0 : t 36 g = 0 → cq (n + 1 + 10) mX0_goesIn [.inr (1, 0), .inr (21, c)] N (fun r N' => r = none ∧ ∃ u t', (∀ K : DB → Prop, K u → w_entered (nI c) (nI g) t K) ∧ PB c X m z P N' t' h t u ∧ (0 = 3 ∨ 0 = 5 → t' 73 c = 1)) := fun h36 => by
    have hL := gb_live q (by decide) hS (TF.rf (C := [])) (by decide) h14 (fun g' e hg' => by
      have := gg g' e hg'
      subst this
      refine ⟨fun y => ⟨fun w => ?_, fun w => ?_, fun w => absurd w htr0⟩, fun y => absurd y (no 1 (by decide) (by decide))⟩
      · rw [h79] at w; exact absurd w (by decide)
      · rw [h79] at w; exact absurd w (by decide))
    obtain ⟨r1, r2⟩ := gb_in hB q hk (by decide) hL (TF.rf (C := [])) (by decide) (fun _ _ => rfl)
    refine r2.mono ?_
    rintro r N' ⟨hr, t', b1, b2⟩
    refine ⟨hr, _, t', fun K hK => ?_, b1, b2⟩
    unfold w_entered
    rw [cc, cg]
    refine ⟨vc, fun x1 e1 => ⟨vg, fun _ => ?_, fun y => absurd y (no 1 (by decide) (by decide)), fun y => absurd y (no 2 (by decide) (by decide)), fun y => absurd y (no 3 (by decide) (by decide)), fun y => absurd y (no 4 (by decide) (by decide)), fun y => absurd y (no 5 (by decide) (by decide)), fun y => absurd y (no 6 (by decide) (by decide)), fun y => absurd y (no 7 (by decide) (by decide)), fun y => absurd y (no 8 (by decide) (by decide)), fun y0 y1 y2 y3 y4 y5 y6 y7 y8 => absurd hs y0⟩⟩
    refine ⟨vg, fun w => absurd (h36.symm.trans w) (by decide), fun _ => ⟨vg, fun _ => ⟨vg, fun _ => ?_, fun w => ?_⟩, fun w => absurd (h36.symm.trans w) (by decide)⟩⟩
    · refine ⟨Or.inl rfl, vc, fun t1 e1 => ⟨vc, fun _ => ?_, fun w => ?_⟩⟩
      · rw [cc, up_id h79] at e1
        subst e1
        exact r1 _ hK
      · rw [e1, cc, up_s] at w
        exact absurd rfl w
    · rw [cg] at w
      exact absurd (h36.symm.trans w) (by decide)
  show cq (n + 1 + 11) mX5_begins [.inr (10, g), .inr (21, c)] N _
  have b43 : (t 36 g ≠ 0 → (t 36 g = 2 ∨ (t 36 g = 1 ∧ ¬ t 38 g ≤ t 0 0))) → v_X5_begins_43 (n + 1) (10, g) (21, c) N (fun N' => ∃ u t', (∀ K : DB → Prop, K u → w_entered (nI c) (nI g) t K) ∧ PB c X m z P N' t' h t u ∧ (0 = 3 ∨ 0 = 5 → t' 73 c = 1)) := fun hw => by
    refine ⟨rfl, fun y => ⟨rfl, frf (hw (fun w => y (n7.trans w)))⟩, fun y => ⟨rfl, fun e3 ee3 => ?_⟩⟩
    have q3 : e3 = (1, 0) := ee3.trans nl11
    subst q3
    exact ⟨rfl, fin0 (n7.symm.trans y)⟩
  refine sv_X5_begins (d := n + 1) (Q := fun N' => ∃ u t', (∀ K : DB → Prop, K u → w_entered (nI c) (nI g) t K) ∧ PB c X m z P N' t' h t u ∧ (0 = 3 ∨ 0 = 5 → t' 73 c = 1)) (fun N' w => ⟨rfl, w⟩) ⟨rfl, fun y => b43 (fun w => ?_), fun y => ⟨rfl, fun e1 ee1 => ?_⟩⟩
  · rcases q36 with w2 | w2 | w2
    · exact absurd w2 w
    · exact absurd (n7.trans w2) y
    · exact Or.inl w2
  have h36 : t 36 g = 1 := n7.symm.trans y
  have q1 : e1 = (1, 0) := ee1.trans nl11
  subst q1
  have w0 : N.1 (1, 0).1 (1, 0).2 0 = t 0 0 := tm
  have w9 : N.1 (10, g).1 (10, g).2 9 = t 38 g := n9
  refine ⟨rfl, rfl, fun w => ?_, fun w => ⟨rfl, fun M2 g2 => ⟨rfl, fun M3 g3 => ⟨rfl, fun e4 ee4 => ?_⟩⟩⟩⟩
  · rw [w0, w9] at w
    exact b43 (fun _ => Or.inr ⟨h36, Int32.not_le.mpr w⟩)
  · rw [w0, w9] at w
    have le : t 38 g ≤ t 0 0 := Int32.not_lt.mp w
    have hS1 := hS.t79 hcP (w := 1) (Or.inr rfl) h65 hs hg
    have z79 : ∀ i, i ≠ c → up t 79 c 1 79 i = t 79 i := fun i hi => up_n (fun y => hi y.2)
    have hS2 := hS1.fuse (g := g) (s := 2) (c := t 37 g) (u := t 38 g) (r := (21, c)) (Or.inr (Or.inr rfl)) hs (fun k' hk' hl e => by
      have hkc : k' ≠ c := fun y => by
        rcases hl with ⟨-, w2⟩ | w2
        · exact w2 y
        · exact hcP (y ▸ w2)
      have old := ((hS.Q k' hk' hl).2 g e hg).1 hs
      have n79 : ¬ t 79 k' = 1 := fun y => by
        have := old.1 y
        rw [h36] at this
        exact absurd this (by decide)
      rw [z79 k' hkc]
      exact ⟨fun y => absurd y n79, fun y => absurd y n79, fun y => absurd (congrArg Prod.snd y).symm hkc⟩) hg (Or.inr ⟨c, hc, rfl⟩)
    have e8 : (sI N 10 g 7 2).1 10 g 8 = t 37 g := (sI_ne (by simp)).trans n8
    have e9 : (sI N 10 g 7 2).1 10 g 9 = t 38 g := (sI_ne (by simp)).trans n9
    rw [sI_id e8, sI_id e9, up_id (f := 37) (show (up (up t 79 c 1) 36 g 2) 37 g = t 37 g from rfl), up_id (f := 38) (show (up (up t 79 c 1) 36 g 2) 38 g = t 38 g from rfl)] at hS2
    have ht : TF t (up (up t 79 c 1) 36 g 2) [36, 79] := (TF.rf.wu _ _ (by decide)).wu _ _ (by decide)
    have x79 : up (up t 79 c 1) 36 g 2 79 c = 1 := (up_f (by decide)).trans up_s
    have hL := gb_live q (by decide) hS2 ht (by decide) (show (sI N 10 g 7 2).1 21 c 14 = 0 from (sI_ne (by simp)).trans h14) (fun g' e hg' => by
      have := gg g' e hg'
      subst this
      refine ⟨fun y => ⟨fun _ => up_s, fun _ => ?_, fun _ => x79⟩, fun y => absurd y (no 1 (by decide) (by decide))⟩
      exact if_pos ⟨rfl, rfl, rfl⟩)
    obtain ⟨r1, r2⟩ := gb_in hB q hk (by decide) hL ht (by decide) (fun _ _ => rfl)
    have q4 : e4 = (1, 0) := by
      rw [ee4, g3, g2]
      exact (sR_ne (by simp)).trans nl11
    subst q4; subst g2; subst g3
    refine ⟨rfl, r2.mono ?_⟩
    rintro r N' ⟨hr, t', b1, b2⟩
    refine ⟨hr, _, t', fun K hK => ?_, b1, b2⟩
    unfold w_entered
    rw [cc, cg]
    refine ⟨vc, fun x1 e1 => ⟨vg, fun _ => ?_, fun y => absurd y (no 1 (by decide) (by decide)), fun y => absurd y (no 2 (by decide) (by decide)), fun y => absurd y (no 3 (by decide) (by decide)), fun y => absurd y (no 4 (by decide) (by decide)), fun y => absurd y (no 5 (by decide) (by decide)), fun y => absurd y (no 6 (by decide) (by decide)), fun y => absurd y (no 7 (by decide) (by decide)), fun y => absurd y (no 8 (by decide) (by decide)), fun y0 y1 y2 y3 y4 y5 y6 y7 y8 => absurd hs y0⟩⟩
    refine ⟨vg, fun w => absurd (h36.symm.trans w) (by decide), fun _ => ⟨vg, fun w => absurd h36 w, fun _ => ⟨vg, fun _ => ⟨vg, fun w => ?_, fun _ => ?_⟩, fun w => absurd le w⟩⟩⟩
    · rw [cg] at w
      exact absurd h36 w
    · refine ⟨Or.inr rfl, vc, fun t1 e1 => ⟨vc, fun w => ?_, fun _ => ⟨vg, fun t4 e4 => ?_⟩⟩⟩
      · rw [e1, cc, up_s] at w
        exact absurd w (by decide)
      · rw [cc] at e1
        rw [cg] at e4
        subst e1; subst e4
        exact r1 _ hK
