set_option maxRecDepth 100000
/-! guards are made: both programs -/
theorem md_0 {N : Mem} {i k : Nat} {x2 x3 x4 x5 : Int32} (w5 : N.2.1 1 0 5 = (30, 5)) (s5 : N.1 30 5 0 = nI k) (hE : N.2.2.1 10 k = 0) (hE32 : N.2.2.1 32 k = 0) (hE46 : N.2.2.1 46 k = 0) (hE47 : N.2.2.1 47 k = 0) (hE48 : N.2.2.1 48 k = 0) (ra : N.2.2.2.1 + 1000 ≤ 600000) (rb : N.2.2.2.2 + 100000 ≤ 7302250) {K : Nat × Nat → Mem → Prop} (hK : K (10, k) (fM0 N i k x2 x3 x4 x5)) : v_X0_made (1, 0) 0 (43, i) x5 (nAr N i x2 x3 x4) K := by
  have hgk : gk 10 := ⟨by decide, by decide⟩
  refine ⟨fun _ => ?_, fun v => absurd v (by decide), fun v => absurd v (by decide), fun v => absurd v (by decide), fun v => absurd v (by decide), fun v => absurd v (by decide), fun v => absurd v (by decide), fun v => absurd v (by decide), fun v => absurd v (by decide), fun n0 _ _ _ _ _ _ _ _ => absurd rfl n0⟩
  refine ⟨⟨by simp [nAr, sI, sR, sN]; omega, by simp [nAr, sI, sR, sN]; omega⟩, k, by simp [nAr, sI, sR, sN, hE], fun M2 g2 => ⟨by decide, rfl, fun M1 g1 => ?_⟩⟩
  subst g2
  have g1' : M1 = sR (sN (nAr N i x2 x3 x4) 10 k 0 12) 10 k 11 (1, 0) := g1
  subst g1'
  refine ⟨by show ¬ 10 = 0; decide, x4_c hgk (a := x2) (b := x3) (c := x4) (by simp [nAr, sI, sR, sN, w5]) (by simp [nAr, sI, sR, sN, s5]) (by simp [nAr, sI, sR, sN]) (by simp [nAr, sI, sR, sN]) (by simp [nAr, sI, sR, sN]) (by simp [nAr, sI, sR, sN]) ?_⟩
  exact hK
theorem md_1 {N : Mem} {i k : Nat} {x2 x3 x4 x5 : Int32} (w5 : N.2.1 1 0 5 = (30, 5)) (s5 : N.1 30 5 0 = nI k) (hE : N.2.2.1 11 k = 0) (hE32 : N.2.2.1 32 k = 0) (hE46 : N.2.2.1 46 k = 0) (hE47 : N.2.2.1 47 k = 0) (hE48 : N.2.2.1 48 k = 0) (ra : N.2.2.2.1 + 1000 ≤ 600000) (rb : N.2.2.2.2 + 100000 ≤ 7302250) {K : Nat × Nat → Mem → Prop} (hK : K (11, k) (fM1 N i k x2 x3 x4 x5)) : v_X0_made (1, 0) 1 (43, i) x5 (nAr N i x2 x3 x4) K := by
  have hgk : gk 11 := ⟨by decide, by decide⟩
  refine ⟨fun v => absurd v (by decide), fun _ => ?_, fun v => absurd v (by decide), fun v => absurd v (by decide), fun v => absurd v (by decide), fun v => absurd v (by decide), fun v => absurd v (by decide), fun v => absurd v (by decide), fun v => absurd v (by decide), fun _ n1 _ _ _ _ _ _ _ => absurd rfl n1⟩
  refine ⟨⟨by simp [nAr, sI, sR, sN]; omega, by simp [nAr, sI, sR, sN]; omega⟩, k, by simp [nAr, sI, sR, sN, hE], fun M2 g2 => ⟨by decide, rfl, fun M1 g1 => ?_⟩⟩
  subst g2
  have g1' : M1 = sR (sN (nAr N i x2 x3 x4) 11 k 0 11) 11 k 10 (1, 0) := g1
  subst g1'
  refine ⟨by show ¬ 11 = 0; decide, x4_c hgk (a := x2) (b := x3) (c := x4) (by simp [nAr, sI, sR, sN, w5]) (by simp [nAr, sI, sR, sN, s5]) (by simp [nAr, sI, sR, sN]) (by simp [nAr, sI, sR, sN]) (by simp [nAr, sI, sR, sN]) (by simp [nAr, sI, sR, sN]) ?_⟩
  refine ⟨⟨by simp [x4m, nAr, sI, sR, sN]; omega, by simp [x4m, nAr, sI, sR, sN]; omega⟩, k, by simp [x4m, nAr, sI, sR, sN, hE32], fun M5 g5 => ⟨rfl, fun M6 g6 => ?_⟩⟩
  have g6' : M6 = fM1 N i k x2 x3 x4 x5 := by rw [g6, g5]; rfl
  rw [g6']
  exact hK
theorem md_2 {N : Mem} {i k : Nat} {x2 x3 x4 x5 : Int32} (w5 : N.2.1 1 0 5 = (30, 5)) (s5 : N.1 30 5 0 = nI k) (hE : N.2.2.1 12 k = 0) (hE32 : N.2.2.1 32 k = 0) (hE46 : N.2.2.1 46 k = 0) (hE47 : N.2.2.1 47 k = 0) (hE48 : N.2.2.1 48 k = 0) (ra : N.2.2.2.1 + 1000 ≤ 600000) (rb : N.2.2.2.2 + 100000 ≤ 7302250) {K : Nat × Nat → Mem → Prop} (hK : K (12, k) (fM2 N i k x2 x3 x4 x5)) : v_X0_made (1, 0) 2 (43, i) x5 (nAr N i x2 x3 x4) K := by
  have hgk : gk 12 := ⟨by decide, by decide⟩
  refine ⟨fun v => absurd v (by decide), fun v => absurd v (by decide), fun _ => ?_, fun v => absurd v (by decide), fun v => absurd v (by decide), fun v => absurd v (by decide), fun v => absurd v (by decide), fun v => absurd v (by decide), fun v => absurd v (by decide), fun _ _ n2 _ _ _ _ _ _ => absurd rfl n2⟩
  refine ⟨⟨by simp [nAr, sI, sR, sN]; omega, by simp [nAr, sI, sR, sN]; omega⟩, k, by simp [nAr, sI, sR, sN, hE], fun M2 g2 => ⟨by decide, rfl, fun M1 g1 => ?_⟩⟩
  subst g2
  have g1' : M1 = sR (sN (nAr N i x2 x3 x4) 12 k 0 9) 12 k 8 (1, 0) := g1
  subst g1'
  refine ⟨by show ¬ 12 = 0; decide, x4_c hgk (a := x2) (b := x3) (c := x4) (by simp [nAr, sI, sR, sN, w5]) (by simp [nAr, sI, sR, sN, s5]) (by simp [nAr, sI, sR, sN]) (by simp [nAr, sI, sR, sN]) (by simp [nAr, sI, sR, sN]) (by simp [nAr, sI, sR, sN]) ?_⟩
  refine ⟨rfl, rfl, fun M4 g4 => ?_⟩
  have g4' : M4 = fM2 N i k x2 x3 x4 x5 := by
    rw [g4]
    show sI _ 12 k 7 ((x4m (sR (sN (nAr N i x2 x3 x4) 12 k 0 9) 12 k 8 (1, 0)) 12 k 2 x2 x3 x4 0).1 12 k 2) = _
    rw [show (x4m (sR (sN (nAr N i x2 x3 x4) 12 k 0 9) 12 k 8 (1, 0)) 12 k 2 x2 x3 x4 0).1 12 k 2 = x2 from by simp [x4m, nAr, sI, sR, sN]]
    rfl
  rw [g4']
  exact hK
theorem md_3 {N : Mem} {i k : Nat} {x2 x3 x4 x5 : Int32} (w5 : N.2.1 1 0 5 = (30, 5)) (s5 : N.1 30 5 0 = nI k) (hE : N.2.2.1 13 k = 0) (hE32 : N.2.2.1 32 k = 0) (hE46 : N.2.2.1 46 k = 0) (hE47 : N.2.2.1 47 k = 0) (hE48 : N.2.2.1 48 k = 0) (ra : N.2.2.2.1 + 1000 ≤ 600000) (rb : N.2.2.2.2 + 100000 ≤ 7302250) {K : Nat × Nat → Mem → Prop} (hK : K (13, k) (fM3 N i k x2 x3 x4 x5)) : v_X0_made (1, 0) 3 (43, i) x5 (nAr N i x2 x3 x4) K := by
  have hgk : gk 13 := ⟨by decide, by decide⟩
  refine ⟨fun v => absurd v (by decide), fun v => absurd v (by decide), fun v => absurd v (by decide), fun _ => ?_, fun v => absurd v (by decide), fun v => absurd v (by decide), fun v => absurd v (by decide), fun v => absurd v (by decide), fun v => absurd v (by decide), fun _ _ _ n3 _ _ _ _ _ => absurd rfl n3⟩
  refine ⟨⟨by simp [nAr, sI, sR, sN]; omega, by simp [nAr, sI, sR, sN]; omega⟩, k, by simp [nAr, sI, sR, sN, hE], fun M2 g2 => ⟨by decide, rfl, fun M1 g1 => ?_⟩⟩
  subst g2
  have g1' : M1 = sR (sN (nAr N i x2 x3 x4) 13 k 0 8) 13 k 7 (1, 0) := g1
  subst g1'
  refine ⟨by show ¬ 13 = 0; decide, x4_c hgk (a := x2) (b := x3) (c := x4) (by simp [nAr, sI, sR, sN, w5]) (by simp [nAr, sI, sR, sN, s5]) (by simp [nAr, sI, sR, sN]) (by simp [nAr, sI, sR, sN]) (by simp [nAr, sI, sR, sN]) (by simp [nAr, sI, sR, sN]) ?_⟩
  exact hK
theorem md_4 {N : Mem} {i k : Nat} {x2 x3 x4 x5 : Int32} (w5 : N.2.1 1 0 5 = (30, 5)) (s5 : N.1 30 5 0 = nI k) (hE : N.2.2.1 14 k = 0) (hE32 : N.2.2.1 32 k = 0) (hE46 : N.2.2.1 46 k = 0) (hE47 : N.2.2.1 47 k = 0) (hE48 : N.2.2.1 48 k = 0) (ra : N.2.2.2.1 + 1000 ≤ 600000) (rb : N.2.2.2.2 + 100000 ≤ 7302250) {K : Nat × Nat → Mem → Prop} (hK : K (14, k) (fM4 N i k x2 x3 x4 x5)) : v_X0_made (1, 0) 4 (43, i) x5 (nAr N i x2 x3 x4) K := by
  have hgk : gk 14 := ⟨by decide, by decide⟩
  refine ⟨fun v => absurd v (by decide), fun v => absurd v (by decide), fun v => absurd v (by decide), fun v => absurd v (by decide), fun _ => ?_, fun v => absurd v (by decide), fun v => absurd v (by decide), fun v => absurd v (by decide), fun v => absurd v (by decide), fun _ _ _ _ n4 _ _ _ _ => absurd rfl n4⟩
  refine ⟨⟨by simp [nAr, sI, sR, sN]; omega, by simp [nAr, sI, sR, sN]; omega⟩, k, by simp [nAr, sI, sR, sN, hE], fun M2 g2 => ⟨by decide, rfl, fun M1 g1 => ?_⟩⟩
  subst g2
  have g1' : M1 = sR (sN (nAr N i x2 x3 x4) 14 k 0 8) 14 k 7 (1, 0) := g1
  subst g1'
  refine ⟨by show ¬ 14 = 0; decide, x4_c hgk (a := x2) (b := x3) (c := x4) (by simp [nAr, sI, sR, sN, w5]) (by simp [nAr, sI, sR, sN, s5]) (by simp [nAr, sI, sR, sN]) (by simp [nAr, sI, sR, sN]) (by simp [nAr, sI, sR, sN]) (by simp [nAr, sI, sR, sN]) ?_⟩
  exact hK
theorem md_5 {N : Mem} {i k : Nat} {x2 x3 x4 x5 : Int32} (w5 : N.2.1 1 0 5 = (30, 5)) (s5 : N.1 30 5 0 = nI k) (hE : N.2.2.1 15 k = 0) (hE32 : N.2.2.1 32 k = 0) (hE46 : N.2.2.1 46 k = 0) (hE47 : N.2.2.1 47 k = 0) (hE48 : N.2.2.1 48 k = 0) (ra : N.2.2.2.1 + 1000 ≤ 600000) (rb : N.2.2.2.2 + 100000 ≤ 7302250) {K : Nat × Nat → Mem → Prop} (hK : K (15, k) (fM5 N i k x2 x3 x4 x5)) : v_X0_made (1, 0) 5 (43, i) x5 (nAr N i x2 x3 x4) K := by
  have hgk : gk 15 := ⟨by decide, by decide⟩
  refine ⟨fun v => absurd v (by decide), fun v => absurd v (by decide), fun v => absurd v (by decide), fun v => absurd v (by decide), fun v => absurd v (by decide), fun _ => ?_, fun v => absurd v (by decide), fun v => absurd v (by decide), fun v => absurd v (by decide), fun _ _ _ _ _ n5 _ _ _ => absurd rfl n5⟩
  refine ⟨⟨by simp [nAr, sI, sR, sN]; omega, by simp [nAr, sI, sR, sN]; omega⟩, k, by simp [nAr, sI, sR, sN, hE], fun M2 g2 => ⟨by decide, rfl, fun M1 g1 => ?_⟩⟩
  subst g2
  have g1' : M1 = sR (sN (nAr N i x2 x3 x4) 15 k 0 8) 15 k 7 (1, 0) := g1
  subst g1'
  refine ⟨by show ¬ 15 = 0; decide, x4_c hgk (a := x2) (b := x3) (c := x4) (by simp [nAr, sI, sR, sN, w5]) (by simp [nAr, sI, sR, sN, s5]) (by simp [nAr, sI, sR, sN]) (by simp [nAr, sI, sR, sN]) (by simp [nAr, sI, sR, sN]) (by simp [nAr, sI, sR, sN]) ?_⟩
  exact hK
theorem md_6 {N : Mem} {i k : Nat} {x2 x3 x4 x5 : Int32} (w5 : N.2.1 1 0 5 = (30, 5)) (s5 : N.1 30 5 0 = nI k) (hE : N.2.2.1 16 k = 0) (hE32 : N.2.2.1 32 k = 0) (hE46 : N.2.2.1 46 k = 0) (hE47 : N.2.2.1 47 k = 0) (hE48 : N.2.2.1 48 k = 0) (ra : N.2.2.2.1 + 1000 ≤ 600000) (rb : N.2.2.2.2 + 100000 ≤ 7302250) {K : Nat × Nat → Mem → Prop} (hK : K (16, k) (fM6 N i k x2 x3 x4 x5)) : v_X0_made (1, 0) 6 (43, i) x5 (nAr N i x2 x3 x4) K := by
  have hgk : gk 16 := ⟨by decide, by decide⟩
  refine ⟨fun v => absurd v (by decide), fun v => absurd v (by decide), fun v => absurd v (by decide), fun v => absurd v (by decide), fun v => absurd v (by decide), fun v => absurd v (by decide), fun _ => ?_, fun v => absurd v (by decide), fun v => absurd v (by decide), fun _ _ _ _ _ _ n6 _ _ => absurd rfl n6⟩
  refine ⟨⟨by simp [nAr, sI, sR, sN]; omega, by simp [nAr, sI, sR, sN]; omega⟩, k, by simp [nAr, sI, sR, sN, hE], fun M2 g2 => ⟨by decide, rfl, fun M1 g1 => ?_⟩⟩
  subst g2
  have g1' : M1 = sR (sN (nAr N i x2 x3 x4) 16 k 0 8) 16 k 7 (1, 0) := g1
  subst g1'
  refine ⟨by show ¬ 16 = 0; decide, x4_c hgk (a := x2) (b := x3) (c := x4) (by simp [nAr, sI, sR, sN, w5]) (by simp [nAr, sI, sR, sN, s5]) (by simp [nAr, sI, sR, sN]) (by simp [nAr, sI, sR, sN]) (by simp [nAr, sI, sR, sN]) (by simp [nAr, sI, sR, sN]) ?_⟩
  exact hK
theorem md_7 {N : Mem} {i k : Nat} {x2 x3 x4 x5 : Int32} (w5 : N.2.1 1 0 5 = (30, 5)) (s5 : N.1 30 5 0 = nI k) (hE : N.2.2.1 17 k = 0) (hE32 : N.2.2.1 32 k = 0) (hE46 : N.2.2.1 46 k = 0) (hE47 : N.2.2.1 47 k = 0) (hE48 : N.2.2.1 48 k = 0) (ra : N.2.2.2.1 + 1000 ≤ 600000) (rb : N.2.2.2.2 + 100000 ≤ 7302250) {K : Nat × Nat → Mem → Prop} (hK : K (17, k) (fM7 N i k x2 x3 x4 x5)) : v_X0_made (1, 0) 7 (43, i) x5 (nAr N i x2 x3 x4) K := by
  have hgk : gk 17 := ⟨by decide, by decide⟩
  refine ⟨fun v => absurd v (by decide), fun v => absurd v (by decide), fun v => absurd v (by decide), fun v => absurd v (by decide), fun v => absurd v (by decide), fun v => absurd v (by decide), fun v => absurd v (by decide), fun _ => ?_, fun v => absurd v (by decide), fun _ _ _ _ _ _ _ n7 _ => absurd rfl n7⟩
  refine ⟨⟨by simp [nAr, sI, sR, sN]; omega, by simp [nAr, sI, sR, sN]; omega⟩, k, by simp [nAr, sI, sR, sN, hE], fun M2 g2 => ⟨by decide, rfl, fun M1 g1 => ?_⟩⟩
  subst g2
  have g1' : M1 = sR (sN (nAr N i x2 x3 x4) 17 k 0 11) 17 k 10 (1, 0) := g1
  subst g1'
  refine ⟨by show ¬ 17 = 0; decide, x4_c hgk (a := x2) (b := x3) (c := x4) (by simp [nAr, sI, sR, sN, w5]) (by simp [nAr, sI, sR, sN, s5]) (by simp [nAr, sI, sR, sN]) (by simp [nAr, sI, sR, sN]) (by simp [nAr, sI, sR, sN]) (by simp [nAr, sI, sR, sN]) ?_⟩
  refine ⟨by decide, by decide, ⟨by simp [x4m, nAr, sI, sR, sN]; omega, by simp [x4m, nAr, sI, sR, sN, show (8 : Int32).toNatClampNeg = 8 from rfl]; omega⟩, k, by simp [x4m, nAr, sI, sR, sN, hE46], fun M5 g5 => ⟨rfl, fun M6 g6 => ?_⟩⟩
  have g6' : M6 = sR (sN (x4m (sR (sN (nAr N i x2 x3 x4) 17 k 0 11) 17 k 10 (1, 0)) 17 k 7 x2 x3 x4 0) 46 k 8 8) 17 k 7 (46, k) := by rw [g6, g5]; rfl
  subst g6'
  refine ⟨by decide, by decide, ⟨by simp [x4m, nAr, sI, sR, sN]; omega, by simp [x4m, nAr, sI, sR, sN, show (8 : Int32).toNatClampNeg = 8 from rfl]; omega⟩, k, by simp [x4m, nAr, sI, sR, sN, hE47], fun M8 g8 => ⟨rfl, fun M9 g9 => ?_⟩⟩
  have g9' : M9 = sR (sN (sR (sN (x4m (sR (sN (nAr N i x2 x3 x4) 17 k 0 11) 17 k 10 (1, 0)) 17 k 7 x2 x3 x4 0) 46 k 8 8) 17 k 7 (46, k)) 47 k 8 8) 17 k 8 (47, k) := by rw [g9, g8]; rfl
  subst g9'
  refine ⟨by decide, by decide, ⟨by simp [x4m, nAr, sI, sR, sN]; omega, by simp [x4m, nAr, sI, sR, sN, show (8 : Int32).toNatClampNeg = 8 from rfl]; omega⟩, k, by simp [x4m, nAr, sI, sR, sN, hE48], fun M11 g11 => ⟨rfl, fun M12 g12 => ?_⟩⟩
  have g12' : M12 = sR (sN (sR (sN (sR (sN (x4m (sR (sN (nAr N i x2 x3 x4) 17 k 0 11) 17 k 10 (1, 0)) 17 k 7 x2 x3 x4 0) 46 k 8 8) 17 k 7 (46, k)) 47 k 8 8) 17 k 8 (47, k)) 48 k 8 8) 17 k 9 (48, k) := by rw [g12, g11]; rfl
  subst g12'
  exact ⟨8 + 1, m7_l (by simp [x4m, nAr, sI, sR, sN]) (by simp [x4m, nAr, sI, sR, sN]) (by simp [x4m, nAr, sI, sR, sN]) (by simp [x4m, nAr, sI, sR, sN]) hK 8 0 (by omega)⟩
theorem md_8 {N : Mem} {i k : Nat} {x2 x3 x4 x5 : Int32} (w5 : N.2.1 1 0 5 = (30, 5)) (s5 : N.1 30 5 0 = nI k) (hE : N.2.2.1 18 k = 0) (hE32 : N.2.2.1 32 k = 0) (hE46 : N.2.2.1 46 k = 0) (hE47 : N.2.2.1 47 k = 0) (hE48 : N.2.2.1 48 k = 0) (ra : N.2.2.2.1 + 1000 ≤ 600000) (rb : N.2.2.2.2 + 100000 ≤ 7302250) {K : Nat × Nat → Mem → Prop} (hK : ∀ i2, N.2.2.1 43 i2 = 0 → i2 ≠ i → K (18, k) (fM8 N i k i2 x2 x3 x4 x5)) : v_X0_made (1, 0) 8 (43, i) x5 (nAr N i x2 x3 x4) K := by
  have hgk : gk 18 := ⟨by decide, by decide⟩
  refine ⟨fun v => absurd v (by decide), fun v => absurd v (by decide), fun v => absurd v (by decide), fun v => absurd v (by decide), fun v => absurd v (by decide), fun v => absurd v (by decide), fun v => absurd v (by decide), fun v => absurd v (by decide), fun _ => ?_, fun _ _ _ _ _ _ _ _ n8 => absurd rfl n8⟩
  refine ⟨⟨by simp [nAr, sI, sR, sN]; omega, by simp [nAr, sI, sR, sN]; omega⟩, k, by simp [nAr, sI, sR, sN, hE], fun M2 g2 => ⟨by decide, rfl, fun M1 g1 => ?_⟩⟩
  subst g2
  have g1' : M1 = sR (sN (nAr N i x2 x3 x4) 18 k 0 8) 18 k 7 (1, 0) := g1
  subst g1'
  refine ⟨by decide, by decide, ⟨by simp [nAr, sI, sR, sN]; omega, by simp [nAr, sI, sR, sN]; omega⟩, fun i2 h2 M3 g3 => ⟨by show ¬ 18 = 0; decide, ?_⟩⟩
  have g3' : M3 = sN (sR (sN (nAr N i x2 x3 x4) 18 k 0 8) 18 k 7 (1, 0)) 43 i2 3 3 := g3
  subst g3'
  have h2i : i2 ≠ i := fun e => by
    subst e
    simp [nAr, sI, sR, sN] at h2
  have h2' : N.2.2.1 43 i2 = 0 := by
    simp [nAr, sI, sR, sN, h2i] at h2
    exact h2
  exact x4_c hgk (by simp [nAr, sI, sR, sN, w5]) (by simp [nAr, sI, sR, sN, s5]) (by simp [nAr, sI, sR, sN]) (by simp [nAr, sI, sR, sN]) (by simp [nAr, sI, sR, sN]) (by simp [nAr, sI, sR, sN]) (hK i2 h2' h2i)
theorem md_9 {N : Mem} {i k : Nat} {x2 x3 x4 x5 : Int32} (w5 : N.2.1 1 0 5 = (30, 5)) (s5 : N.1 30 5 0 = nI k) (hE : N.2.2.1 19 k = 0) (hE32 : N.2.2.1 32 k = 0) (hE46 : N.2.2.1 46 k = 0) (hE47 : N.2.2.1 47 k = 0) (hE48 : N.2.2.1 48 k = 0) (ra : N.2.2.2.1 + 1000 ≤ 600000) (rb : N.2.2.2.2 + 100000 ≤ 7302250) {K : Nat × Nat → Mem → Prop} (hK : K (19, k) (fM9 N i k x2 x3 x4 x5)) : v_X0_made (1, 0) 9 (43, i) x5 (nAr N i x2 x3 x4) K := by
  have hgk : gk 19 := ⟨by decide, by decide⟩
  refine ⟨fun v => absurd v (by decide), fun v => absurd v (by decide), fun v => absurd v (by decide), fun v => absurd v (by decide), fun v => absurd v (by decide), fun v => absurd v (by decide), fun v => absurd v (by decide), fun v => absurd v (by decide), fun v => absurd v (by decide), fun _ _ _ _ _ _ _ _ _ => ?_⟩
  refine ⟨⟨by simp [nAr, sI, sR, sN]; omega, by simp [nAr, sI, sR, sN]; omega⟩, k, by simp [nAr, sI, sR, sN, hE], fun M2 g2 => ⟨by decide, rfl, fun M1 g1 => ?_⟩⟩
  subst g2
  have g1' : M1 = sR (sN (nAr N i x2 x3 x4) 19 k 0 8) 19 k 7 (1, 0) := g1
  subst g1'
  refine ⟨by show ¬ 19 = 0; decide, x4_c hgk (a := x2) (b := x3) (c := x4) (by simp [nAr, sI, sR, sN, w5]) (by simp [nAr, sI, sR, sN, s5]) (by simp [nAr, sI, sR, sN]) (by simp [nAr, sI, sR, sN]) (by simp [nAr, sI, sR, sN]) (by simp [nAr, sI, sR, sN]) ?_⟩
  exact hK
theorem w213_l {t : DB} {k : Nat} {x1 x2 x3 x4 x5 y : Int32} (h30 : t 30 0 = nI k) (hk : k < 24) {Q : Int32 → DB → Prop} (hQ : Q (nI k) (tGd t k x1 x2 x3 x4 x5 y)) : ∀ r j, j + r = 8 → w_guard_213 (r + 1) (nI k) (nI j) (tGm t k x1 x2 x3 x4 x5 y j) Q := by
  have z30 : ∀ j, tGm t k x1 x2 x3 x4 x5 y j 30 0 = nI k := by
    intro j
    induction j with
    | zero =>
      show (if 31 ≤ 30 ∧ 30 < 43 ∧ 0 = k then gV x1 x2 x3 x4 x5 y 30 else t 30 0) = _
      rw [if_neg (by omega)]
      exact h30
    | succ j ih => exact (up_f (by decide)).trans ih
  intro r
  induction r with
  | zero =>
    intro j hj
    have ej : j = 8 := by omega
    subst ej
    refine ⟨fun _ t1 e1 => ?_, fun v => absurd (by decide) v⟩
    rw [z30, nI_1] at e1
    rw [e1]
    exact hQ
  | succ r ih =>
    intro j hj
    have hj8 : j < 8 := by omega
    have e8 : 8 * nI k + nI j = nI (8 * k + j) := by rw [show (8 : Int32) = nI 8 from rfl, pk_mul, nI_add]
    refine ⟨fun v => absurd (show nI 8 ≤ nI j from v) (nI_ge hj8 (by decide)), fun _ => ?_⟩
    rw [e8, nI_clamp (by omega)]
    refine ⟨vp_in_nI (by omega) (by decide), fun t2 e2 x3' e3 => ?_⟩
    rw [nI_1] at e3
    subst e3
    have e2' : t2 = tGm t k x1 x2 x3 x4 x5 y (j + 1) := e2
    subst e2'
    exact ih (j + 1) (by omega)
theorem w_gd_s {t : DB} {k : Nat} {x1 x2 x3 x4 x5 y : Int32} {Q : Int32 → DB → Prop} (h30 : t 30 0 = nI k) (hk : k < 24) (hy : (¬ x1 = 2 ∧ y = 0) ∨ (x1 = 2 ∧ y = x2)) (hQ : Q (nI k) (tGd t k x1 x2 x3 x4 x5 y)) : (∀ x_3 : Int32, x_3 = t 30 0 → (vp_in x_3 24 ∧ (∀ t_4 : DB, t_4 = up t 31 x_3.toNatClampNeg x1 → (vp_in x_3 24 ∧ (∀ t_5 : DB, t_5 = up t_4 32 x_3.toNatClampNeg x2 → (vp_in x_3 24 ∧ (∀ t_6 : DB, t_6 = up t_5 33 x_3.toNatClampNeg x3 → (vp_in x_3 24 ∧ (∀ t_7 : DB, t_7 = up t_6 34 x_3.toNatClampNeg x4 → (vp_in x_3 24 ∧ (∀ t_8 : DB, t_8 = up t_7 35 x_3.toNatClampNeg x5 → (vp_in x_3 24 ∧ (∀ t_9 : DB, t_9 = up t_8 36 x_3.toNatClampNeg 0 → (vp_in x_3 24 ∧ (∀ t_10 : DB, t_10 = up t_9 37 x_3.toNatClampNeg 0 → (vp_in x_3 24 ∧ (∀ t_11 : DB, t_11 = up t_10 38 x_3.toNatClampNeg 0 → (vp_in x_3 24 ∧ (∀ t_12 : DB, t_12 = up t_11 39 x_3.toNatClampNeg 0 → (vp_in x_3 24 ∧ (∀ t_13 : DB, t_13 = up t_12 40 x_3.toNatClampNeg 0 → (vp_in x_3 24 ∧ (∀ t_14 : DB, t_14 = up t_13 41 x_3.toNatClampNeg 0 → (((¬ x1 = 2) → (vp_in x_3 24 ∧ (∀ t_15 : DB, t_15 = up t_14 42 x_3.toNatClampNeg 0 → (∃ n_, w_guard_213 n_ x_3 0 t_15 Q)))) ∧ ((x1 = 2) → (vp_in x_3 24 ∧ (∀ t_16 : DB, t_16 = up t_14 42 x_3.toNatClampNeg x2 → (∃ n_, w_guard_213 n_ x_3 0 t_16 Q)))))))))))))))))))))))))))) := by
  intro z ez
  rw [h30] at ez
  subst ez
  have vo : vp_in (nI k) 24 := vp_in_nI hk (by decide)
  have co : (nI k).toNatClampNeg = k := nI_clamp (by omega)
  rw [co]
  have b0 : blk t k (gV x1 x2 x3 x4 x5 y) 31 31 = t := blk_0
  refine ⟨vo, fun t1 e1 => ⟨vo, fun t2 e2 => ⟨vo, fun t3 e3 => ⟨vo, fun t4 e4 => ⟨vo, fun t5 e5 => ⟨vo, fun t6 e6 => ⟨vo, fun t7 e7 => ⟨vo, fun t8 e8 => ⟨vo, fun t9 e9 => ⟨vo, fun t10 e10 => ⟨vo, fun t11 e11 => ?_⟩⟩⟩⟩⟩⟩⟩⟩⟩⟩⟩
  have f1 : t1 = blk t k (gV x1 x2 x3 x4 x5 y) 31 32 := by
    rw [e1]
    have := blk_s (t := t) (c := k) (V := gV x1 x2 x3 x4 x5 y) (a := 31) (b := 31) (v := x1) (Nat.le_refl _) rfl
    rw [b0] at this
    exact this
  have f2 : t2 = blk t k (gV x1 x2 x3 x4 x5 y) 31 33 := by rw [e2, f1]; exact blk_s (by decide) rfl
  have f3 : t3 = blk t k (gV x1 x2 x3 x4 x5 y) 31 34 := by rw [e3, f2]; exact blk_s (by decide) rfl
  have f4 : t4 = blk t k (gV x1 x2 x3 x4 x5 y) 31 35 := by rw [e4, f3]; exact blk_s (by decide) rfl
  have f5 : t5 = blk t k (gV x1 x2 x3 x4 x5 y) 31 36 := by rw [e5, f4]; exact blk_s (by decide) rfl
  have f6 : t6 = blk t k (gV x1 x2 x3 x4 x5 y) 31 37 := by rw [e6, f5]; exact blk_s (by decide) rfl
  have f7 : t7 = blk t k (gV x1 x2 x3 x4 x5 y) 31 38 := by rw [e7, f6]; exact blk_s (by decide) rfl
  have f8 : t8 = blk t k (gV x1 x2 x3 x4 x5 y) 31 39 := by rw [e8, f7]; exact blk_s (by decide) rfl
  have f9 : t9 = blk t k (gV x1 x2 x3 x4 x5 y) 31 40 := by rw [e9, f8]; exact blk_s (by decide) rfl
  have f10 : t10 = blk t k (gV x1 x2 x3 x4 x5 y) 31 41 := by rw [e10, f9]; exact blk_s (by decide) rfl
  have f11 : t11 = blk t k (gV x1 x2 x3 x4 x5 y) 31 42 := by rw [e11, f10]; exact blk_s (by decide) rfl
  refine ⟨fun n2 => ⟨vo, fun t12 e12 => ⟨8 + 1, ?_⟩⟩, fun n2 => ⟨vo, fun t12 e12 => ⟨8 + 1, ?_⟩⟩⟩
  · have hy0 : y = 0 := by
      rcases hy with ⟨-, v⟩ | ⟨v, -⟩
      · exact v
      · exact absurd v n2
    have f12 : t12 = tGm t k x1 x2 x3 x4 x5 y 0 := by
      rw [e12, f11]
      exact blk_s (by decide) (by rw [gV_42]; exact hy0)
    rw [f12]
    exact w213_l h30 hk hQ 8 0 (by omega)
  · have hy0 : y = x2 := by
      rcases hy with ⟨v, -⟩ | ⟨-, v⟩
      · exact absurd n2 v
      · exact v
    have f12 : t12 = tGm t k x1 x2 x3 x4 x5 y 0 := by
      rw [e12, f11]
      exact blk_s (by decide) (by rw [gV_42]; exact hy0)
    rw [f12]
    exact w213_l h30 hk hQ 8 0 (by omega)
