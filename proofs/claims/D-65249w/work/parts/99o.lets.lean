set_option maxRecDepth 100000
/-! time, tokens, and who is let in -/
theorem QS.tf {S : Nat → Prop} {X : Mem} {m : Nat} {N N' : Mem} {t t' : DB} {C : List Nat} (q : QS S X m N t) (hS : SZ X m 60 [] 100000 N' t') (ht : TF t t' C) (hC : ∀ c ∈ C, c ∉ [61, 69, 64, 65, 31, 30, 76, 73, 72, 0, 88]) : QS S X m N' t' := by
  obtain ⟨h1, h2, h3, h4⟩ := q
  have sub : ∀ L : List Nat, (∀ f ∈ L, f ∈ [61, 69, 64, 65, 31, 30, 76, 73, 72, 0, 88]) → ∀ c ∈ C, c ∉ L := fun L hL c hc y => hC c hc (hL c y)
  exact ⟨⟨hS, h1.2.fr ht (sub _ (by decide))⟩, h2.fr ht (sub _ (by decide)), h3.fr ht (sub _ (by decide)), by rw [ht 88 (fun y => hC 88 y (by decide))]; exact h4⟩
theorem SZ.time {X : Mem} {m z : Nat} {P : List Nat} {x : Nat} {N : Mem} {t : DB} (h : SZ X m z P x N t) {T : Nat} (hT : T ≤ 100 * m) : SZ X m z P x (sI N 1 0 0 (nI T)) (up t 0 0 (nI T)) := by
  have hf : NF N (sI N 1 0 0 (nI T)) [1] := NF.rf.wI _ _ _ (by decide)
  have ht : TF t (up t 0 0 (nI T)) [0] := TF.rf.wu _ _ (by decide)
  have hW : S_W (sI N 1 0 0 (nI T)) (up t 0 0 (nI T)) := by
    obtain ⟨a1, a2, a3⟩ := h.W
    refine ⟨a1, ?_, ?_⟩
    · rw [sI_self, up_s]
    · rw [sI_ne (by simp), up_f (by decide)]; exact a3
  have hK : I_K m (up t 0 0 (nI T)) := by
    obtain ⟨T', -, -, hm⟩ := h.iK
    exact ⟨T, up_s, hT, hm⟩
  exact ⟨h.I.fr hf (by decide) ht (by decide), h.R.fr hf (by decide) ht (by decide), h.N.fr hf (by decide) ht (by decide), h.K.fr hf (by decide) ht (by decide), h.S.fr hf (by decide) ht (by decide), h.E.fr rfl ht (by decide), hW, h.P1.fr hf (by decide) ht (by decide), h.P2.fr hf (by decide) ht (by decide), h.G.fr hf (by decide) ht (by decide), h.G0.fr hf (by decide) ht (by decide), h.G1.fr hf (by decide) ht (by decide), h.G2.fr hf (by decide) ht (by decide), h.G7.fr hf (by decide) ht (by decide), h.T.fr hf (by decide) ht (by decide), h.U.fr hf (by decide) ht (by decide), h.C.fr hf (by decide) ht (by decide), h.V.fr hf (by decide) ht (by decide), h.O.fr hf (by decide) ht (by decide), h.A.fr hf (by decide) ht (by decide), h.Y.fr hf (by decide) ht (by decide), h.Q.fr hf (by decide) ht (by decide), h.B.fr ht (by decide), h.F.fr hf (by decide), h.M.fr rfl ht (by decide), h.iB.fr ht (by decide), h.iG.fr ht (by decide), h.iT.fr ht (by decide), h.iO.fr ht (by decide), h.iC.fr ht (by decide), h.iH.fr ht (by decide), h.iZ.fr ht (by decide), h.iL.fr ht (by decide), h.iR.fr ht (by decide), h.iX.fr ht (by decide), h.iU.fr ht (by decide), h.iD.fr ht (by decide), hK, h.iY.fr ht (by decide), h.J.fr ht (by decide), h.GT.fr hf (by decide) ht (by decide), h.H.fr hf (by decide) ht (by decide)⟩
theorem SZ.e60 {X : Mem} {m z : Nat} {P : List Nat} {x : Nat} {N : Mem} {t : DB} (h : SZ X m z P x N t) {v : Int32} : SZ X m z P x (sI N 1 0 1 v) (up t 60 0 v) := by
  have hf : NF N (sI N 1 0 1 v) [1] := NF.rf.wI _ _ _ (by decide)
  have ht : TF t (up t 60 0 v) [60] := TF.rf.wu _ _ (by decide)
  have hW : S_W (sI N 1 0 1 v) (up t 60 0 v) := by
    obtain ⟨a1, a2, a3⟩ := h.W
    refine ⟨a1, ?_, ?_⟩
    · rw [sI_ne (by simp), up_f (by decide)]; exact a2
    · rw [sI_self, up_s]
  exact ⟨h.I.fr hf (by decide) ht (by decide), h.R.fr hf (by decide) ht (by decide), h.N.fr hf (by decide) ht (by decide), h.K.fr hf (by decide) ht (by decide), h.S.fr hf (by decide) ht (by decide), h.E.fr rfl ht (by decide), hW, h.P1.fr hf (by decide) ht (by decide), h.P2.fr hf (by decide) ht (by decide), h.G.fr hf (by decide) ht (by decide), h.G0.fr hf (by decide) ht (by decide), h.G1.fr hf (by decide) ht (by decide), h.G2.fr hf (by decide) ht (by decide), h.G7.fr hf (by decide) ht (by decide), h.T.fr hf (by decide) ht (by decide), h.U.fr hf (by decide) ht (by decide), h.C.fr hf (by decide) ht (by decide), h.V.fr hf (by decide) ht (by decide), h.O.fr hf (by decide) ht (by decide), h.A.fr hf (by decide) ht (by decide), h.Y.fr hf (by decide) ht (by decide), h.Q.fr hf (by decide) ht (by decide), h.B.fr ht (by decide), h.F.fr hf (by decide), h.M.fr rfl ht (by decide), h.iB.fr ht (by decide), h.iG.fr ht (by decide), h.iT.fr ht (by decide), h.iO.fr ht (by decide), h.iC.fr ht (by decide), h.iH.fr ht (by decide), h.iZ.fr ht (by decide), h.iL.fr ht (by decide), h.iR.fr ht (by decide), h.iX.fr ht (by decide), h.iU.fr ht (by decide), h.iD.fr ht (by decide), h.iK.fr ht (by decide), h.iY.fr ht (by decide), h.J.fr ht (by decide), h.GT.fr hf (by decide) ht (by decide), h.H.fr hf (by decide) ht (by decide)⟩
theorem SZ.mup {X : Mem} {m m' z : Nat} {P : List Nat} {x : Nat} {N : Mem} {t : DB} (h : SZ X m z P x N t) (hm : m ≤ m') (hm2 : m' ≤ 100) : SZ X m' z P x N t := by
  have hf : NF N N [] := NF.rf
  have ht : TF t t [] := TF.rf
  have hM : S_M m' N t := by
    obtain ⟨a1, a2⟩ := h.M
    exact ⟨by omega, a2⟩
  have hK : I_K m' t := by
    obtain ⟨T, e, hT, -⟩ := h.iK
    exact ⟨T, e, by omega, hm2⟩
  exact ⟨h.I.fr hf (by decide) ht (by decide), h.R.fr hf (by decide) ht (by decide), h.N.fr hf (by decide) ht (by decide), h.K.fr hf (by decide) ht (by decide), h.S.fr hf (by decide) ht (by decide), h.E.fr rfl ht (by decide), h.W.fr hf (by decide) ht (by decide), h.P1.fr hf (by decide) ht (by decide), h.P2.fr hf (by decide) ht (by decide), h.G.fr hf (by decide) ht (by decide), h.G0.fr hf (by decide) ht (by decide), h.G1.fr hf (by decide) ht (by decide), h.G2.fr hf (by decide) ht (by decide), h.G7.fr hf (by decide) ht (by decide), h.T.fr hf (by decide) ht (by decide), h.U.fr hf (by decide) ht (by decide), h.C.fr hf (by decide) ht (by decide), h.V.fr hf (by decide) ht (by decide), h.O.fr hf (by decide) ht (by decide), h.A.fr hf (by decide) ht (by decide), h.Y.fr hf (by decide) ht (by decide), h.Q.fr hf (by decide) ht (by decide), h.B.fr ht (by decide), h.F.fr hf (by decide), hM, h.iB.fr ht (by decide), h.iG.fr ht (by decide), h.iT.fr ht (by decide), h.iO.fr ht (by decide), h.iC.fr ht (by decide), h.iH.fr ht (by decide), h.iZ.fr ht (by decide), h.iL.fr ht (by decide), h.iR.fr ht (by decide), h.iX.fr ht (by decide), h.iU.fr ht (by decide), h.iD.fr ht (by decide), hK, h.iY.fr ht (by decide), h.J.fr ht (by decide), h.GT.fr hf (by decide) ht (by decide), h.H.fr hf (by decide) ht (by decide)⟩
/-- limits' tokens -/
theorem tok_l {n : Nat} {X : Mem} {m : Nat} {T0 : DB} {S0 : Nat → Prop} {Q : Mem → Prop} {W0 : (DB → Prop) → Prop} {ng : Nat} (hng : ng ≤ 24)
    (hQ : ∀ N t, QS S0 X m N t → TF T0 t [42] → (∀ Qm, (∃ a, w_tick_88 a 0 t Qm) → W0 Qm) → ∃ k, v_X0_pass_45 n k (1, 0) 0 N Q) :
    ∀ r j, j + r = ng → ∀ N t, cn t 30 = ng → QS S0 X m N t → TF T0 t [42] → (∀ Qm, (∃ a, w_tick_12 a (nI j) t Qm) → W0 Qm) → v_X0_pass_12 n (r + 1) (1, 0) (nI j) N Q := by
  intro r
  induction r with
  | zero =>
    intro j hj N t hc q hT hacc
    have b30 : t 30 0 = nI ng := by rw [← hc]; exact q.1.iB.2.2.2.1.1
    have sz : N.1 (30, 5).1 (30, 5).2 0 = nI ng := (q.1.S (5, 30, 0) (by decide)).trans b30
    refine ⟨rfl, fun e1 ee1 => ?_⟩
    have q1 : e1 = (30, 5) := ee1.trans (q.1.W.1 5 (by decide) (by decide))
    subst q1
    have ej : j = ng := by omega
    refine ⟨⟨by decide, by decide⟩, fun _ => hQ N t q hT (fun Qm ⟨a, ha⟩ => hacc Qm ⟨1, fun _ => ⟨a, ha⟩, fun y => ?_⟩), fun y => ?_⟩
    · exact absurd (by rw [b30]; exact nI_le (by omega) (by omega)) y
    · exact absurd (by rw [sz]; exact nI_le (by omega) (by omega)) y
  | succ r ih =>
    intro j hj N t hc q hT hacc
    have hjn : j < ng := by omega
    have b30 : t 30 0 = nI ng := by rw [← hc]; exact q.1.iB.2.2.2.1.1
    have e5 : N.2.1 1 0 5 = (30, 5) := q.1.W.1 5 (by decide) (by decide)
    have sz : N.1 (30, 5).1 (30, 5).2 0 = nI ng := (q.1.S (5, 30, 0) (by decide)).trans b30
    have cj : (nI j).toNatClampNeg = j := nI_clamp (by omega)
    have vj : vp_in (nI j) 24 := vp_in_nI (by omega) (by decide)
    obtain ⟨s, a1, a2, a3, a4, a5, a6, a7, a8, a9, a10, a11⟩ := q.1.G j (by rw [hc]; exact hjn)
    refine ⟨rfl, fun e1 ee1 => ?_⟩
    have q1 : e1 = (30, 5) := ee1.trans e5
    subst q1
    refine ⟨⟨by decide, by decide⟩, fun y => ?_, fun _ => ⟨rfl, fun e2 ee2 => ?_⟩⟩
    · rw [sz] at y; exact absurd y (nI_ge hjn (by omega))
    have q2 : e2 = (30, 5) := ee2.trans e5
    subst q2
    refine ⟨⟨by decide, by decide⟩, ⟨nI_pos (by omega), by rw [sz]; exact nI_lt hjn (by omega)⟩, fun e3 ee3 => ?_⟩
    rw [cj] at ee3
    have q3 : e3 = (10 + s, j) := ee3.trans a3
    subst q3
    have gks : gk (10 + s) := ⟨by omega, by omega⟩
    have mno : ¬ t 31 j = 2 → ∀ Qm, (∃ a, w_tick_12 a (nI (j + 1)) t Qm) → W0 Qm := fun no Qm ⟨a, ha⟩ => hacc Qm ⟨a + 1, fun y => absurd y (by rw [b30]; exact nI_ge hjn (by omega)), fun _ => ⟨vj, by
      rw [cj]
      exact ⟨fun _ x e => by rw [nI_1] at e; subst e; exact ha, fun y => absurd y no⟩⟩⟩
    refine ⟨gks, gks, fun y => ?_, fun y x6 e6 => ?_⟩
    · have s2 : s = 2 := by
        have : 10 + s = 12 := y
        omega
      subst s2
      have h31 : t 31 j = 2 := a2
      have g7 : N.1 12 j 7 = t 42 j := q.1.G2 j (by rw [hc]; exact hjn) h31
      have g2 : N.1 12 j 2 = t 32 j := a6
      have g3 : N.1 12 j 3 = t 33 j := a7
      refine ⟨rfl, rfl, rfl, rfl, fun M1 g1 x6 e6 => ?_⟩
      rw [show N.1 (12, j).1 (12, j).2 7 = t 42 j from g7, show N.1 (12, j).1 (12, j).2 3 = t 33 j from g3, show N.1 (12, j).1 (12, j).2 2 = t 32 j from g2] at g1
      rw [nI_1] at e6
      subst e6
      have hS2 := q.1.1.tok (g := j) (v := if t 42 j + t 33 j < t 32 j then t 42 j + t 33 j else t 32 j)
      have ht : TF t (up t 42 j (if t 42 j + t 33 j < t 32 j then t 42 j + t 33 j else t 32 j)) [42] := TF.rf.wu _ _ (by decide)
      have eM : M1 = sI N 12 j 7 (if t 42 j + t 33 j < t 32 j then t 42 j + t 33 j else t 32 j) := g1
      subst eM
      refine ih (j + 1) (by omega) _ _ (by rw [ht.cn (by decide)]; exact hc) (q.tf hS2 ht (by decide)) (fun f hf => (ht f hf).trans (hT f hf)) (fun Qm ⟨a, ha⟩ => hacc Qm ⟨a + 1, fun y => absurd y (by rw [b30]; exact nI_ge hjn (by omega)), fun _ => ⟨vj, ?_⟩⟩)
      rw [cj]
      refine ⟨fun y => absurd h31 y, fun _ => ⟨vj, vj, vj, fun y => ⟨vj, vj, fun t2 e2 x e => ?_⟩, fun y => ⟨vj, vj, vj, fun t2 e2 x e => ?_⟩⟩⟩
      · rw [nI_1] at e
        subst e; subst e2
        rw [if_neg (Int32.not_lt.mpr y)] at ha
        exact ha
      · rw [nI_1] at e
        subst e; subst e2
        rw [if_pos (Int32.not_le.mp y)] at ha
        exact ha
    · rw [nI_1] at e6
      subst e6
      have n2 : ¬ t 31 j = 2 := fun w => y (by
        have : s = 2 := (nI_eq (by omega) (by omega)).mp (a2.symm.trans (show t 31 j = nI 2 from w))
        show 10 + s = 12
        omega)
      exact ih (j + 1) (by omega) N t hc q hT (mno n2)
theorem w320_l {t : DB} {g c w : Nat} {K256 K264 : Int32 → DB → Prop} {Q : DB → Prop} (hg : g < 24) (hc : c < 4400) (hw : w ≤ 10) (hw0 : 0 < w) (h40 : t 40 g = nI (w - 1)) (hQ : w_setToWork (nI c) (nI g) (up (tsh t g 0 (w - 1)) 75 c 0) (fun t2 => w_work t2 (fun t4 => K264 (nI g) t4))) : ∀ (r i : Nat), i + r + 1 = w → w_tick_320 (r + 1) K256 K264 (nI g) (nI c) (nI i) (tsh t g 0 i) Q := by
  have vg : vp_in (nI g) 24 := vp_in_nI hg (by decide)
  have cg : (nI g).toNatClampNeg = g := nI_clamp (by omega)
  have vc : vp_in (nI c) 4400 := vp_in_nI hc (by decide)
  have cc : (nI c).toNatClampNeg = c := nI_clamp (by omega)
  have e40 : ∀ i, tsh t g 0 i 40 g = nI (w - 1) := fun i => (if_neg (fun y => absurd y.1 (by decide))).trans h40
  intro r
  induction r with
  | zero =>
    intro i hi
    have : i = w - 1 := by omega
    subst this
    refine ⟨vg, fun _ => ⟨vc, fun t1 e1 => ?_⟩, fun y => ?_⟩
    · rw [cc] at e1
      subst e1
      exact hQ
    · rw [cg, e40] at y
      exact absurd (nI_le (Nat.le_refl _) (by omega)) y
  | succ r ih =>
    intro i hi
    have nx := ih (i + 1) (by omega)
    have e1 : 10 * nI g + nI i = nI (10 * g + i) := by rw [show (10 : Int32) = nI 10 from rfl, pk_mul, nI_add]
    refine ⟨vg, fun y => ?_, fun _ => ?_⟩
    · rw [cg, e40] at y
      exact absurd y (nI_ge (by omega) (by omega))
    · rw [e1, nI_1, nI_clamp (by omega), nI_clamp (by omega)]
      refine ⟨vp_in_nI (by omega) (by decide), vp_in_nI (by omega) (by decide), fun t6 e6 x7 e7 => ?_⟩
      rw [nI_1] at e7
      subst e7
      rw [tsh_s (Nat.zero_le _)] at e6
      subst e6
      exact nx
/-- a bulkhead lets in who waits -/
theorem li_l {n : Nat} (hn : 100 ≤ n) {X : Mem} {m g : Nat} {T0 : DB} {S0 : Nat → Prop} {Q : Mem → Prop} {W0 : (Int32 → DB → Prop) → (DB → Prop) → Prop}
    (hQ : ∀ N t, QS S0 X m N t → TF T0 t RC → (∀ K256 Qm, (∀ x, x = nI g + 1 → K256 x t) → W0 K256 Qm) → Q N) :
    ∀ r N t, QS S0 X m N t → TF T0 t RC → g < cn t 30 → t 31 g = 1 → 4021 ≤ cn t 61 + r → (∀ K256 Qm, (∃ a, w_tick_264 a K256 (nI g) t Qm) → W0 K256 Qm) → v_X6_letsIn_0 (n + 3) (r + 1) (11, g) N Q := by
  intro r
  induction r with
  | zero =>
    intro N t q _ _ _ hr
    have := q.1.1.nC
    omega
  | succ r ih =>
    intro N t q hT hg h31 hr hacc
    have q0 := q
    obtain ⟨hS, hW, hV, h88⟩ := q
    have hn61 := hS.1.nC
    have h24 : cn t 30 ≤ 24 := hS.iB.2.2.2.1.2
    have vg : vp_in (nI g) 24 := vp_in_nI (by omega) (by decide)
    have cg : (nI g).toNatClampNeg = g := nI_clamp (by omega)
    obtain ⟨w7, n8, n9, nS, nE⟩ := hS.G1 g hg h31
    obtain ⟨b, w, hb10, hb, hwb, hw⟩ : ∃ b w, b ≤ 10 ∧ t 33 g = nI b ∧ w ≤ b ∧ t 40 g = nI w := by
      obtain ⟨s', a1, a2, a3, -, a5, -⟩ := hS.iG g hg
      exact a5 ((nI_eq (by omega) (by omega)).mp (a2.symm.trans (by rw [h31]; rfl)))
    have n2 : N.1 11 g 2 = t 32 g := by
      obtain ⟨s', a1, a2, a3, a4, a5, a6, -⟩ := hS.G g hg
      have es : s' = 1 := (nI_eq (by omega) (by omega)).mp (a2.symm.trans (by rw [h31]; rfl))
      subst es
      exact a6
    have nl10 : N.2.1 11 g 10 = (1, 0) := by
      obtain ⟨s', a1, a2, -, -, -, -, -, -, -, -, a11⟩ := hS.G g hg
      have es : s' = 1 := (nI_eq (by omega) (by omega)).mp (a2.symm.trans (by rw [h31]; rfl))
      subst es
      exact a11
    have lk32 : lk 32 := ⟨by decide, by decide⟩
    have stop : (t 32 g ≤ t 39 g ∨ t 40 g ≤ 0) → Q N := fun hst => hQ N t q0 hT (fun K256 Qm hK => hacc K256 Qm ⟨1, vg, by
      rw [cg]
      refine ⟨fun y => absurd h31 y, fun _ => ⟨vg, vg, fun _ => hK, fun y => ⟨vg, fun _ => hK, fun y2 => ?_⟩⟩⟩
      rcases hst with y3 | y3
      · exact absurd y3 y
      · exact absurd y3 y2⟩)
    have s32 : N.1 (32, g).1 (32, g).2 0 = nI w := nS.trans hw
    refine ⟨rfl, rfl, fun y => stop (Or.inl ?_), fun y => ⟨rfl, fun e1 ee1 => ?_⟩⟩
    · rw [show N.1 (11, g).1 (11, g).2 2 = t 32 g from n2, show N.1 (11, g).1 (11, g).2 8 = t 39 g from n8] at y
      exact y
    have y' : ¬ t 32 g ≤ t 39 g := fun v => y (by rw [show N.1 (11, g).1 (11, g).2 2 = t 32 g from n2, show N.1 (11, g).1 (11, g).2 8 = t 39 g from n8]; exact v)
    have q1 : e1 = (32, g) := ee1.trans w7
    subst q1
    refine ⟨lk32, fun y2 => stop (Or.inr (by rw [hw]; rw [s32] at y2; exact y2)), fun y2 => ⟨rfl, fun e2 ee2 => ?_⟩⟩
    rw [s32] at y2
    have hw0 : 0 < w := Nat.pos_of_ne_zero (fun e => y2 (by rw [e]; decide))
    have q2 : e2 = (32, g) := ee2.trans w7
    subst q2
    -- who waits longest
    obtain ⟨c, c1, c2, c3, c4, c5, c6, -⟩ := hS.B g hg h31 0 (by rw [hw, nI_clamp (by omega)]; exact hw0)
    have h0 : t 69 c = 0 := by
      rcases c6 with ⟨v, -⟩ | v
      · exact v
      · exact absurd v List.not_mem_nil
    have ce : N.2.1 32 g 0 = (21, c) := by
      rw [nE 0 (by rw [hw, nI_clamp (by omega)]; exact hw0), c2, rn_j (by omega)]
    obtain ⟨z0, z1, z4, z8, -⟩ := (hS.iZ c c1).1 g hg c3
    have h76 := z4 (by rw [h31]; decide)
    have h74 := (z8 (by rw [h31]; decide)).2
    refine ⟨lk32, ⟨by decide, by rw [s32]; exact nI_lt hw0 (by omega)⟩, fun e3 ee3 M4 g4 => ?_⟩
    have q3 : e3 = (21, c) := ee3.trans ce
    subst q3
    refine ⟨rfl, rfl, fun M5 g5 => ⟨rfl, ?_⟩⟩
    have g4' : M4 = lRem N (32, g) 0 := g4
    subst g4'; subst g5
    -- the table after it left the queue
    have htq : TF t (up (tsh (up t 40 g (nI (w - 1))) g 0 (w - 1)) 75 c 0) [40, 43, 75] := by
      intro f hf
      have f1 : f ≠ 40 ∧ f ≠ 43 ∧ f ≠ 75 := by simp at hf; omega
      funext i
      rw [up_f f1.2.2]
      exact (if_neg (fun y => f1.2.1 y.1)).trans (up_f f1.1)
    have hSq : SZ X m 60 [] c (lRem N (32, g) 0) (up (tsh (up t 40 g (nI (w - 1))) g 0 (w - 1)) 75 c 0) := by
      refine hS.1.qrem (k := c) (j := 0) (P' := []) (x' := c) hg h31 hw (by omega) hw0 c1 c2 c3 (fun i hi hl => ?_) (fun i hi hl hne => ?_) (fun _ y => y) htq (fun i => ?_) (fun i => ?_) (fun g' i hi => ?_)
      · rcases hl with ⟨v1, v2⟩ | v
        · exact ⟨Or.inl ⟨v1, by omega⟩, v2⟩
        · exact absurd v List.not_mem_nil
      · rcases hl with ⟨v1, -⟩ | v
        · exact Or.inl ⟨v1, hne⟩
        · exact absurd v List.not_mem_nil
      · rw [up_f (by decide)]
        show (if 40 = 43 ∧ _ then _ else up t 40 g (nI (w - 1)) 40 i) = _
        rw [if_neg (fun y => absurd y.1 (by decide)), up_at]
        by_cases e : i = g
        · rw [if_pos ⟨rfl, e⟩, if_pos e]
        · rw [if_neg (fun v => e v.2), if_neg e]
      · rw [up_at]
        by_cases e : i = c
        · rw [if_pos ⟨rfl, e⟩, if_pos e]
        · rw [if_neg (fun v => e v.2), if_neg e]
          exact (if_neg (fun y => absurd y.1 (by decide))).trans (up_f (by decide))
      · rw [up_f (by decide)]
        show (if 43 = 43 ∧ 10 * g + 0 ≤ 10 * g' + i ∧ 10 * g' + i < 10 * g + (w - 1) then up t 40 g (nI (w - 1)) 43 (10 * g' + i + 1) else up t 40 g (nI (w - 1)) 43 (10 * g' + i)) = _
        rw [up_f (by decide), up_f (by decide)]
        by_cases e : g' = g ∧ 0 ≤ i ∧ i + 1 < w
        · rw [if_pos ⟨rfl, by omega, by omega⟩, if_pos e, e.1]
        · rw [if_neg (fun v => e (by omega)), if_neg e]
    have cP : c ∉ ([] : List Nat) := List.not_mem_nil
    have hS1 := (hSq.f14 cP (v := 0))
    have x75 : up (tsh (up t 40 g (nI (w - 1))) g 0 (w - 1)) 75 c 0 75 c = 0 := up_s
    have x39 : up (tsh (up t 40 g (nI (w - 1))) g 0 (w - 1)) 75 c 0 39 g = t 39 g := by rw [htq 39 (by decide)]
    generalize eq3 : up (tsh (up t 40 g (nI (w - 1))) g 0 (w - 1)) 75 c 0 = tq at *
    have zq : ∀ f, f ∉ [40, 43, 75] → tq f = t f := fun f hf => htq f hf
    have hS2 := (hS1.t77 (p := c) (g := g) (w := 1) (Or.inr rfl) (by rw [zq 65 (by decide)]; exact c3) (by rw [zq 31 (by decide)]; exact h31) (by rw [cn_fr (zq 30 (by decide))]; exact hg) (fun hl => by
      rcases hl with ⟨-, v⟩ | v
      · exact absurd rfl v
      · exact absurd v cP)).b39 (g := g) (v := t 39 g + 1)
    have ht3 : TF t (up (up tq 77 c 1) 39 g (t 39 g + 1)) [40, 43, 75, 77, 39] := fun f hf => by
      have f1 : f ≠ 39 ∧ f ≠ 77 ∧ f ∉ [40, 43, 75] := by simp at hf ⊢; omega
      funext i
      rw [up_f f1.1, up_f f1.2.1, zq f f1.2.2]
    have x77 : up (up tq 77 c 1) 39 g (t 39 g + 1) 77 c = 1 := (up_f (by decide)).trans up_s
    have x75' : up (up tq 77 c 1) 39 g (t 39 g + 1) 75 c = 0 := (up_f (by decide)).trans ((up_f (by decide)).trans x75)
    have n14 : (sI (sI (lRem N (32, g) 0) 21 c 14 0) 11 g 8 (t 39 g + 1)).1 21 c 14 = 0 := (sI_ne (by simp)).trans (if_pos ⟨rfl, rfl, rfl⟩)
    generalize et3 : up (up tq 77 c 1) 39 g (t 39 g + 1) = t3 at *
    have z3 : ∀ f, f ∉ [40, 43, 75, 77, 39] → t3 f = t f := fun f hf => ht3 f hf
    have zn : ∀ f, f ∉ [40, 43, 75, 77, 39] → cn t3 f = cn t f := fun f hf => cn_fr (z3 f hf)
    have nu : cn t3 23 + sumTo (cn t3 61) (undW t3 c) + 1 ≤ cn t3 61 ∧ cn t3 17 + sumTo (cn t3 61) (undW t3 c) + 1 ≤ cn t3 61 ∧ cn t3 82 + sumTo (cn t3 61) (undW t3 c) + 1 ≤ cn t3 61 := by
      have eu : undW t3 c = undW t c := by
        funext i
        unfold undW
        rw [z3 69 (by decide)]
      have u1 := und_one h0 c1 (by omega)
      obtain ⟨-, u2, u3, u4⟩ := hS.iU
      rw [zn 23 (by decide), zn 17 (by decide), zn 82 (by decide), zn 61 (by decide), eu]
      omega
    have hL := hS2.live nu (by
      rw [n14]
      unfold stOf
      rw [x75', z3 76 (by decide), z3 74 (by decide), h76, h74]
      decide) (fun g' e hg' => by
      rw [z3 65 (by decide)] at e
      rw [zn 30 (by decide)] at hg'
      have eg : g' = g := (nI_eq (by omega) (by omega)).mp (e.symm.trans c3)
      subst eg
      rw [z3 31 (by decide)]
      exact ⟨fun v => absurd (h31.symm.trans v) (by decide), fun _ => Or.inr ⟨x75', x77⟩⟩)
    have q3 : QS S0 X m (sI (sI (lRem N (32, g) 0) 21 c 14 0) 11 g 8 (t 39 g + 1)) t3 := q0.tf hL ht3 (by decide)
    obtain ⟨o, d, hT', k, ho, h62, h63, hk, hk4, hTT⟩ := hL.stand (c := c) (g := g) (by rw [zn 61 (by decide)]; exact c1) (by rw [z3 65 (by decide)]; exact c3) (by rw [zn 30 (by decide)]; exact hg)
    have z73 : t3 73 c = 0 := by rw [z3 73 (by decide)]; exact c5
    obtain ⟨r1, r2⟩ := gi_c (CB_all k (n + 1) (by omega)) (h := 0) (c := c) (g := g) q3.1 ⟨by decide, Nat.le_refl _⟩ (by rw [zn 61 (by decide)]; exact c1) (by rw [z3 69 (by decide)]; exact h0) ho h62 h63 hTT (by rw [z3 65 (by decide)]; exact c3) (by rw [zn 30 (by decide)]; exact hg) x75' (by rw [z3 76 (by decide)]; exact h76) (fun v => by rw [z3 31 (by decide), h31] at v; exact absurd v (by decide)) ⟨0, z73, by decide, fun _ => by decide, fun _ _ => by decide⟩ (fun j hj e => absurd z73 (hL.inner (by rw [zn 61 (by decide)]; exact c1) hj e)) q3.2.2.2 hk
    have nl3 : (sI (lRem N (32, g) 0) 21 c 14 0).2.1 11 g 10 = (1, 0) := by
      show (lRem N (32, g) 0).2.1 11 g 10 = _
      rw [((NF.rf.wD _ _ (by show 32 ∈ [32]; decide) : NF N (lRem N (32, g) 0) [32]) 11 (by decide)).2.1]
      exact nl10
    have n83 : (sI (lRem N (32, g) 0) 21 c 14 0).1 11 g 8 = t 39 g := by
      rw [sI_ne (by simp), ((NF.rf.wD _ _ (by show 32 ∈ [32]; decide) : NF N (lRem N (32, g) 0) [32]) 11 (by decide)).1]
      exact n8
    show cq (n + 2 + 11) mX6_works [.inr (11, g), .inr (21, c)] (sI (lRem N (32, g) 0) 21 c 14 0) _
    refine sv_X6_works (d := n + 2) (Q := fun N' => v_X6_letsIn_0 (n + 3) (r + 1) (11, g) N' Q) (fun N' w => ⟨rfl, w⟩) ⟨rfl, rfl, fun M1 g1 => ⟨rfl, fun e2 ee2 => ?_⟩⟩
    rw [show (sI (lRem N (32, g) 0) 21 c 14 0).1 (11, g).1 (11, g).2 8 = t 39 g from n83] at g1
    have q2 : e2 = (1, 0) := by
      rw [ee2, g1]
      exact nl3
    subst q2; subst g1
    refine ⟨rfl, r2.mono ?_⟩
    rintro rr N' ⟨hrr, t', ⟨b1, b2, b3, b4, b5⟩, b6, b7⟩
    have e31' : t3 31 g = 1 := by rw [z3 31 (by decide)]; exact h31
    have k73 : t' 73 c = nI 1 := by rw [b6 (by rw [e31']; decide), z73]; rfl
    have hct : c < cn t' 61 := Nat.lt_of_lt_of_le (by rw [zn 61 (by decide)]; exact c1) b4.2.1
    obtain ⟨j, j1, -, j3, -⟩ := b3.1.one hct k73
    have hgrow : cn t 61 + 1 ≤ cn t' 61 := by
      by_cases y : j < cn t3 61
      · have : t3 64 j = nI c := ((b4.2.2.1 j y).1 64 (by decide)).symm.trans j3
        exact absurd z73 (hL.inner (by rw [zn 61 (by decide)]; exact c1) y this)
      · rw [zn 61 (by decide)] at y
        omega
    have hq' : QS S0 X m N' t' := ⟨b3, b5 _ q3.2.1, q3.2.2.1.mb b4 (fun _ g' hg' e => by
      rw [z3 65 (by decide)] at e
      rw [zn 30 (by decide)] at hg'
      have eg : g' = g := (nI_eq (by omega) (by omega)).mp (e.symm.trans c3)
      subst eg
      rw [e31']
      exact ⟨fun v => by rcases v with v | v <;> exact absurd v (by decide), fun v => absurd v (by decide)⟩), b2.1⟩
    refine ⟨hrr, ih N' t' hq' (fun f hf => ?_) (by rw [b4.1.cn (by decide), zn 30 (by decide)]; exact hg) (by rw [b4.1 31 (by decide)]; exact e31') (by omega) (fun K256 Qm ⟨a, ha⟩ => hacc K256 Qm ⟨a + 1, vg, ?_⟩)⟩
    · rw [b4.1 f hf, z3 f (fun y => hf ((by decide : ∀ f ∈ [40, 43, 75, 77, 39], f ∈ RC) f y))]
      exact hT f hf
    · have vc : vp_in (nI c) 4400 := vp_in_nI (by omega) (by decide)
      have cc : (nI c).toNatClampNeg = c := nI_clamp (by omega)
      have e10 : 10 * nI g = nI (10 * g) := by rw [show (10 : Int32) = nI 10 from rfl, pk_mul]
      rw [cg]
      refine ⟨fun y => absurd h31 y, fun _ => ⟨vg, vg, fun y => absurd y y', fun _ => ⟨vg, fun y => ?_, fun _ => ?_⟩⟩⟩
      · rw [hw] at y
        exact absurd y y2
      · rw [e10, nI_clamp (by omega)]
        refine ⟨vp_in_nI (by omega) (by decide), fun x4 e4 => ⟨vg, vg, fun t5 e5 => ⟨w - 1 + 1, ?_⟩⟩⟩
        rw [show t 43 (10 * g) = nI c from c2] at e4
        rw [hw, show nI w - 1 = nI (w - 1) from by rw [show w = (w - 1) + 1 from by omega, nI_pred]; rfl] at e5
        subst e4; subst e5
        have L := w320_l (t := up t 40 g (nI (w - 1))) (g := g) (c := c) (w := w) (K256 := K256) (K264 := fun z1 t => w_tick_264 a K256 z1 t Qm) (Q := Qm) (by omega) (by omega) (by omega) hw0 up_s (by
          rw [eq3]
          unfold w_setToWork
          rw [cc, cg]
          refine ⟨vc, fun t1 e1 => ⟨vg, vg, fun t2 e2 => ?_⟩⟩
          rw [show t1 39 g = t 39 g by rw [e1, up_f (by decide)]; exact x39] at e2
          subst e1
          rw [et3] at e2
          subst e2
          exact r1 _ (b1.work b2.1 ha)) (w - 1) 0 (by omega)
        rw [tsh_0] at L
        exact L
/-- all bulkheads -/
theorem kt6 {s : Nat} (hs : s ≤ 9) : kt (10 + s) = 6 ↔ s = 1 := by
  have : s = 0 ∨ s = 1 ∨ s = 2 ∨ s = 3 ∨ s = 4 ∨ s = 5 ∨ s = 6 ∨ s = 7 ∨ s = 8 ∨ s = 9 := by omega
  rcases this with e | e | e | e | e | e | e | e | e | e <;> subst e <;> decide
