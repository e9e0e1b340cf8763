set_option maxRecDepth 100000
/-! what falls due -/
theorem I_P.x {t : DB} (h : I_P t) (p : Nat) : IPx p t := fun k hk h0 q hq _ e => h k hk h0 q hq e
/-- the one inner call -/
theorem SZ.one {X : Mem} {m z : Nat} {P : List Nat} {x : Nat} {N : Mem} {t : DB} (h : SZ X m z P x N t) {p : Nat} (hp : p < cn t 61) (h73 : t 73 p = nI 1) : ∃ c, c < cn t 61 ∧ N.2.1 31 p 0 = (21, c) ∧ t 64 c = nI p ∧ ∀ j, j < cn t 61 → t 64 j = nI p → j = c := by
  obtain ⟨V1, V2, -, -⟩ := h.V p hp
  rw [h73, nI_clamp (by decide)] at V1 V2
  obtain ⟨c, c1, c2, c3⟩ := V1 0 (by decide)
  refine ⟨c, c1, c2, c3, fun j hj e => ?_⟩
  obtain ⟨a, ha, ea⟩ := V2 j hj e
  have : a = 0 := by omega
  subst this
  exact congrArg Prod.snd (ea.symm.trans c2)
theorem w_late_l {t : DB} {p c n : Nat} {K : DB → Prop} (h61 : t 61 0 = nI n) (hn : n ≤ 4020) (hc : c < n) (h64 : t 64 c = nI p) (h69 : t 69 c = 0) (hu : ∀ j, j < n → t 64 j = nI p → j = c) (hK : w_takeBack (nI c) (-1) t (fun _ => K)) : ∀ r j, j + r = c → w_late_12 (r + 1) (nI p) (nI j) t K := by
  intro r
  induction r with
  | zero =>
    intro j hj
    have : j = c := by omega
    subst this
    have vj : vp_in (nI j) 4400 := vp_in_nI (by omega) (by decide)
    have cj : (nI j).toNatClampNeg = j := nI_clamp (by omega)
    refine ⟨fun y => ?_, fun _ => ⟨vj, ?_⟩⟩
    · rw [h61] at y; exact absurd y (nI_ge hc (by omega))
    · rw [cj]
      exact ⟨fun y => absurd h64 y, fun _ => ⟨vj, fun _ => hK, fun y => absurd h69 y⟩⟩
  | succ r ih =>
    intro j hj
    have vj : vp_in (nI j) 4400 := vp_in_nI (by omega) (by decide)
    have cj : (nI j).toNatClampNeg = j := nI_clamp (by omega)
    have nx := ih (j + 1) (by omega)
    refine ⟨fun y => ?_, fun _ => ⟨vj, ?_⟩⟩
    · rw [h61] at y; exact absurd y (nI_ge (by omega) (by omega))
    · rw [cj]
      refine ⟨fun y x1 e1 => ?_, fun y => ?_⟩
      · rw [nI_1] at e1; subst e1; exact nx
      · have := hu j (by omega) y
        omega
theorem late_q {n : Nat} (hn : 80 ≤ n) {S : Nat → Prop} {X : Mem} {m : Nat} {N : Mem} {t : DB} (q : QS S X m N t) {p g : Nat} (hp : p < cn t 61) (h0 : t 69 p = 0) (h65 : t 65 p = nI g) (hg : g < cn t 30) (h31 : t 31 g = 3) : cq (n + 14) mX8_due [.inr (13, g), .inr (21, p)] N (fun r N' => r = none ∧ ∃ u t', (∀ K : DB → Prop, K u → w_late (nI p) t K) ∧ RUN u t' ∧ QS S X m N' t' ∧ TF t t' RC ∧ cn t 61 ≤ cn t' 61) := by
  obtain ⟨hS, hW, hV, h88⟩ := q
  have hn61 := hS.1.nC
  have h24 : cn t 30 ≤ 24 := hS.iB.2.2.2.1.2
  have b61 := hS.iB.2.2.2.2.2.2.1.1
  have h73 : t 73 p = nI 1 := by
    obtain ⟨nn, e1, -, -, e4, -⟩ := hS.iD p hp g hg h65
    have l1 := e4 (by rw [h31]; decide) (by rw [h31]; decide) (by rw [h31]; decide)
    have l0 := (hV p hp g hg h65).1 (Or.inl h31)
    rw [e1] at l0
    have : nn ≠ 0 := fun e => l0 (by rw [e]; rfl)
    rw [e1, show nn = 1 from by omega]
  obtain ⟨c, hc, n31, c64, only⟩ := hS.1.one hp h73
  have c69 : t 69 c = 0 := by
    rcases hW p hp h0 (fun y => y) g hg h65 c hc c64 with ⟨y, -⟩ | ⟨-, y⟩
    · exact y
    · rw [h31] at y
      rcases y with y | y | y <;> exact absurd y (by decide)
  have hpc : p < c := by
    rcases hS.1.par c hc with y | ⟨p', y1, y2⟩
    · exact absurd (c64.symm.trans y) (nI_m1 (by omega))
    · have : p = p' := (nI_eq (by omega) (by omega)).mp (c64.symm.trans y2)
      omega
  have nl : N.2.1 13 g 7 = (1, 0) := by
    obtain ⟨s', a1, a2, -, -, -, -, -, -, -, -, a11⟩ := hS.G g hg
    have es : s' = 3 := (nI_eq (by omega) (by omega)).mp (a2.symm.trans (by rw [h31]; rfl))
    subst es
    exact a11
  have w7 := (hS.C p hp).2.1
  have ws : N.1 31 p 0 = nI 1 := (hS.I (31, 0, 73, 61) (by decide) p hp).trans h73
  -- the pile has p's failure on it
  have za : ∀ f, f ∉ [83, 84, 85, 86, 87, 88] → psh t 0 2 (nI p) 12 0 0 f = t f := fun f hf => psh_TF f hf
  have a88 : psh t 0 2 (nI p) 12 0 0 88 0 = nI (0 + 1) := psh_88
  have a83 : psh t 0 2 (nI p) 12 0 0 83 0 = 2 := psh_83
  have a84 : psh t 0 2 (nI p) 12 0 0 84 0 = nI p := psh_84
  have a85 : psh t 0 2 (nI p) 12 0 0 85 0 = 12 := psh_85
  have aS : SS X m 60 [] 100000 N (psh t 0 2 (nI p) 12 0 0) := hS.psh
  have aM : MO t (psh t 0 2 (nI p) 12 0 0) := MO.psh
  have aW : WA t (psh t 0 2 (nI p) 12 0 0) := WA.psh
  have mdl : ∀ (K : DB → Prop), w_takeBack (nI c) (-1) (psh t 0 2 (nI p) 12 0 0) (fun _ => K) → w_late (nI p) t K := fun K hK => w_add_s h88 (by decide) ⟨c + 1, w_late_l (n := cn t 61) (by rw [za 61 (by decide)]; exact b61) hn61 hc (by rw [za 64 (by decide)]; exact c64) (by rw [za 69 (by decide)]; exact c69) (by rw [za 64 (by decide)]; exact only) hK c 0 (by omega)⟩
  generalize psh t 0 2 (nI p) 12 0 0 = ta at *
  have ca : cn ta 61 = cn t 61 := cn_fr (za 61 (by decide))
  have cta : c < cn ta 61 := by rw [ca]; exact hc
  have c64' : ta 64 c = nI p := by rw [za 64 (by decide)]; exact c64
  have only' : ∀ j, j < cn ta 61 → ta 64 j = nI p → j = c := by rw [ca, za 64 (by decide)]; exact only
  obtain ⟨len, m1, m2, m3⟩ := tb_all (n := n) (z' := 60) (h := 1) (c := c) (F := wi ta c) (x1 := nI c) (x2 := -1) aS.1 cta (by rw [za 69 (by decide)]; exact c69) a88 (by decide) (Nat.le_refl _) (wi_F aS.1 cta) (fun _ _ _ => rfl) (mk_O aS.1 (fun _ _ => rfl) (by rw [c64']; exact nI_m1 (by omega))) (mk_IP aS.1 (p := p) cta (aS.2.x p) (fun _ _ => rfl) (Or.inl ⟨c64', by rw [ca]; exact hp⟩) (fun j hj hjk e => by
      rw [c64'] at e
      exact absurd (only' j hj e) hjk)) (fun _ => ⟨CE05 (by omega), by decide⟩)
  have ht1 := tMk_TF (t := ta) (F := wi ta c) (j := cn ta 61)
  have e69 : ∀ i, tMk ta (wi ta c) (cn ta 61) 69 i = if i ∈ LF ta (wi ta c) (cn ta 61) then 3 else ta 69 i := fun i => tMk_69
  have cL : c ∈ LF ta (wi ta c) (cn ta 61) := LF_mem.mpr ⟨cta, wi_self aS.1 cta, by rw [za 69 (by decide)]; exact c69⟩
  have w1 : I_W (fun i => i = p) (tMk ta (wi ta c) (cn ta 61)) := mk_W aS.1 (fun _ _ => rfl) (fun p' hp' e' => (nI_eq (by rw [ca] at hp'; omega) (by omega)).mp (e'.symm.trans c64')) ((aW _ hW).sub (fun _ y => y.elim))
  refine sv_X8_due (d := n + 3) (Q := fun N' => ∃ u t', (∀ K : DB → Prop, K u → w_late (nI p) t K) ∧ RUN u t' ∧ QS S X m N' t' ∧ TF t t' RC ∧ cn t 61 ≤ cn t' 61) (fun N' w => ⟨rfl, w⟩) ⟨rfl, fun e1 ee1 => ?_⟩
  have q1 : e1 = (1, 0) := ee1.trans nl
  subst q1
  refine ⟨rfl, fun e2 ee2 => ?_⟩
  have q2 : e2 = (31, p) := ee2.trans w7
  subst q2
  refine ⟨lk31, ⟨by decide, by show (0 : Int32) < N.1 31 p 0; rw [ws]; decide⟩, fun e3 ee3 => ?_⟩
  have q3 : e3 = (21, c) := ee3.trans n31
  subst q3
  refine ⟨rfl, rfl, m3.mono ?_⟩
  rintro r N' ⟨hr, t', x1, ⟨A1, A2, A3, -, A5⟩, x3⟩
  refine ⟨nI len, hr, rfl, ?_⟩
  generalize LF ta (wi ta c) (cn ta 61) = L at *
  generalize eu : psh (tMk ta (wi ta c) (cn ta 61)) 1 4 (nI (cn ta 82)) (nI (cn ta 82 + len)) 0 0 = u at *
  generalize tMk ta (wi ta c) (cn ta 61) = T1 at *
  have hMt : MO t t' := (aM.tr m2).tr A2
  have hpt : p < cn t' 61 := Nat.lt_of_lt_of_le hp hMt.2.1
  have c1 : cn T1 61 = cn t 61 := by rw [ht1.cn (by decide)]; exact ca
  have kc : ∀ f ∈ KC, ∀ i, i < cn t 61 → t' f i = t f i := fun f hf i hi => (hMt.2.2.1 i hi).1 f hf
  have p73 : t' 73 p = nI 1 := (((hMt.2.2.1 p hp).2.2 g hg h65).1 (by rw [h31]; decide)).trans h73
  have c3 : t' 69 c ≠ 0 := by
    have y : T1 69 c = 3 := by rw [e69, if_pos cL]
    rw [((A2.2.2.1 c (by rw [c1]; exact hc)).2.1 (by rw [y]; decide)).1, y]
    decide
  have wt' : I_W (fun i => i = p) t' := A5 _ w1
  have t83 : t' 83 0 = 2 := (A3 83 (by decide) (by decide) 0 (by decide)).trans ((ht1 83 (by decide)).symm ▸ a83)
  have t84 : t' 84 0 = nI p := (A3 84 (by decide) (by decide) 0 (by decide)).trans ((ht1 84 (by decide)).symm ▸ a84)
  have t85 : t' 85 0 = 12 := (A3 85 (by decide) (by decide) 0 (by decide)).trans ((ht1 85 (by decide)).symm ▸ a85)
  have e11 : N'.1 21 p 11 = t' 69 p := x1.I (21, 11, 69, 61) (by decide) p hpt
  have V' : ∀ t'', MO t' t'' → QV S t'' := fun t'' hM => hV.mb (q := 100000) (MB.of (hMt.tr hM) h24) (fun y => by omega)
  refine ⟨rfl, fun y => ⟨fun _ => ?_, fun w => absurd rfl w⟩, fun y => ⟨fun w => absurd w (by decide), fun _ => ⟨rfl, ?_⟩⟩⟩
  · -- p is gone
    have y' : ¬ t' 69 p = 0 := fun w => y (e11.trans w)
    refine ⟨u, pop t' 0, fun K hK => mdl K (m1 (fun _ => K) hK), A1.tr (run_st x3 (by decide) (fun K hK => Or.inr (Or.inr (Or.inl ⟨t83, ?_⟩)))), ⟨x1.pop, ?_, V' _ MO.pop, up_s⟩, (hMt.tr MO.pop).1, (hMt.tr MO.pop).2.1⟩
    · rw [t84]
      have vp : vp_in (nI p) 4400 := vp_in_nI (by omega) (by decide)
      have cp : (nI p).toNatClampNeg = p := nI_clamp (by omega)
      unfold w_failsNow
      rw [cp]
      exact ⟨vp, fun _ => hK, fun w => absurd w y'⟩
    · refine WA.pop _ (fun i hi i0 _ => wt' i hi i0 (fun e => y' (by rw [← e]; exact i0)))
  · have y' : t' 69 p = 0 := e11.symm.trans y
    obtain ⟨c', hc', -, c64'', only2⟩ := x1.1.one hpt p73
    have ecc : c = c' := only2 c (Nat.lt_of_lt_of_le hc hMt.2.1) ((kc 64 (by decide) c hc).trans c64)
    subst ecc
    have h31' : t' 31 g = 3 := by rw [hMt.1 31 (by decide)]; exact h31
    have hg' : g < cn t' 30 := by rw [hMt.1.cn (by decide)]; exact hg
    have h65' : t' 65 p = nI g := (kc 65 (by decide) p hp).trans h65
    have depth : (t' 63 p).toNatClampNeg ≤ 5 := by
      obtain ⟨o, T, hh', d, d1, d2, d3, d4, d5, d6, d7, d8, -⟩ := x1.iC p hpt
      rw [d8, nI_clamp (by omega)]; omega
    have hR := refuse_c (CE1 (n := n + 2) (by omega)) (h := 0) (c := p) (g := g) (s := 3) (kd := 12) x1 ⟨by decide, Nat.le_refl _⟩ hpt y' List.not_mem_nil (fun j hj e => by rw [only2 j hj e]; exact c3) depth (fun w => absurd w (by decide)) (fun w => by
      have := (((x1.iZ p hpt).1 g hg' h65').2.1 (by rw [h31']; decide)).1
      rw [this] at w
      exact absurd w (by decide)) h65' hg' h31' (by decide) (by decide) x3 t83 t84 t85
    refine hR.mono ?_
    rintro r' N'' ⟨hr', t'', b1, b2, b3, b4, -, b6⟩
    exact ⟨hr', u, t'', fun K hK => mdl K (m1 (fun _ => K) hK), A1.tr b1, ⟨b3, b6 _ (wt'.sub (fun i e => Or.inr e)), V' _ b4, b2.1⟩, (hMt.tr b4).1, (hMt.tr b4).2.1⟩
/-- where a guarded call stands -/
theorem SZ.stand {X : Mem} {m z : Nat} {P : List Nat} {x : Nat} {N : Mem} {t : DB} (h : SZ X m z P x N t) {c g : Nat} (hc : c < cn t 61) (h65 : t 65 c = nI g) (hg : g < cn t 30) : ∃ o d hT k, o < cn t 50 ∧ t 62 c = nI o ∧ t 63 c = nI d ∧ hT = d + 1 + k ∧ k ≤ 4 ∧ ∃ T, t 51 o = nI T ∧ T < cn t 47 ∧ t 48 T = nI hT ∧ hT ≤ 5 ∧ d < hT ∧ t 65 c = t 49 (5 * T + d) := by
  have h24 : cn t 30 ≤ 24 := h.iB.2.2.2.1.2
  obtain ⟨o, T, hT, d, c1, c2, c3, c4, c5, c6, c7, c8, -, c10⟩ := h.iC c hc
  rcases c10 with ⟨y, -⟩ | ⟨y1, y2, -⟩
  · exact absurd (h65.symm.trans y) (nI_m1 (by omega))
  · exact ⟨o, d, hT, hT - d - 1, c1, c2, c8, by omega, by omega, T, c3, c4, c5, c6, y1, y2⟩
theorem hedge_q {n : Nat} (hn : 100 ≤ n) {S : Nat → Prop} {X : Mem} {m : Nat} {N : Mem} {t : DB} (q : QS S X m N t) {p g : Nat} (hp : p < cn t 61) (h0 : t 69 p = 0) (h65 : t 65 p = nI g) (hg : g < cn t 30) (h31 : t 31 g = 5) (hdue : t 72 p = t 0 0) (hSp : ¬ S p) : t 73 p = 1 ∧ cq (n + 12) mX10_due [.inr (15, g), .inr (21, p)] N (fun r N' => r = none ∧ ∃ u t', (∀ K : DB → Prop, K u → w_goesIn (nI p) t K) ∧ RUN u t' ∧ QS (fun i => S i ∨ i = p) X m N' t' ∧ TF t t' RC ∧ cn t 61 ≤ cn t' 61) := by
  obtain ⟨hS, hW, hV, h88⟩ := q
  have hn61 := hS.1.nC
  have h24 : cn t 30 ≤ 24 := hS.iB.2.2.2.1.2
  have h73 : t 73 p = nI 1 := by
    obtain ⟨nn, e1, -, e3, -, -⟩ := hS.iD p hp g hg h65
    have l2 := e3 (by rw [h31]; decide)
    obtain ⟨v1, v2⟩ := hV p hp g hg h65
    have l0 := v1 (Or.inr h31)
    rw [e1] at l0 v2
    have n0 : nn ≠ 0 := fun e => l0 (by rw [e]; rfl)
    have n2 : nn ≠ 2 := fun e => by
      rcases v2 h31 (by rw [e]; rfl) with y | ⟨y, -⟩
      · rw [hdue] at y
        exact (Int32.lt_irrefl y).elim
      · exact hSp y
    rw [e1, show nn = 1 from by omega]
  refine ⟨h73, ?_⟩
  obtain ⟨o, d, hT, k, ho, h62, h63, hk, hk4, hTT⟩ := hS.1.stand hp h65 hg
  obtain ⟨z0, z1, z4, z8, -⟩ := (hS.iZ p hp).1 g hg h65
  have h75 := (z1 (by rw [h31]; decide)).1
  have h76 := z4 (by rw [h31]; decide)
  obtain ⟨r1, r2⟩ := gi_c (CB_all k n (by omega)) (h := 0) hS ⟨by decide, Nat.le_refl _⟩ hp h0 ho h62 h63 hTT h65 hg h75 h76 (fun y => by rw [h31] at y; exact absurd y (by decide)) ⟨1, h73, by decide, fun _ => by decide, fun _ y => absurd h31 y⟩ (fun j hj e => by
    rcases hW p hp h0 (fun y => y) g hg h65 j hj e with ⟨y, -⟩ | ⟨y, -⟩
    · exact Or.inl ⟨h31, Or.inl y⟩
    · exact Or.inl ⟨h31, Or.inr y⟩) h88 hk
  have nl : N.2.1 15 g 7 = (1, 0) := by
    obtain ⟨s', a1, a2, -, -, -, -, -, -, -, -, a11⟩ := hS.G g hg
    have es : s' = 5 := (nI_eq (by omega) (by omega)).mp (a2.symm.trans (by rw [h31]; rfl))
    subst es
    exact a11
  refine sv_X10_due (d := n + 1) (Q := fun N' => ∃ u t', (∀ K : DB → Prop, K u → w_goesIn (nI p) t K) ∧ RUN u t' ∧ QS (fun i => S i ∨ i = p) X m N' t' ∧ TF t t' RC ∧ cn t 61 ≤ cn t' 61) (fun N' w => ⟨rfl, w⟩) ⟨rfl, fun e1 ee1 => ?_⟩
  have q1 : e1 = (1, 0) := ee1.trans nl
  subst q1
  refine ⟨rfl, r2.mono ?_⟩
  rintro r N' ⟨hr, t', ⟨b1, b2, b3, b4, b5⟩, b6, b7⟩
  have hV' : QV (fun i => S i ∨ i = p) t := fun c hc g' hg' e => ⟨(hV c hc g' hg' e).1, fun y y2 => by
    rcases (hV c hc g' hg' e).2 y y2 with w | ⟨w1, w2⟩
    · exact Or.inl w
    · exact Or.inr ⟨Or.inl w1, w2⟩⟩
  refine ⟨hr, _, t', r1, b1, ⟨b3, b5 _ hW, hV'.mb b4 (fun _ g' hg' e => ⟨fun _ => ?_, fun _ _ => Or.inr ⟨Or.inr rfl, ?_⟩⟩), b2.1⟩, b4.1, b4.2.1⟩
  · rw [b6 (by rw [h31]; decide), h73]; decide
  · rw [b7 (by rw [h31]; decide)]; exact hdue
theorem retry_q {n : Nat} (hn : 100 ≤ n) {S : Nat → Prop} {X : Mem} {m : Nat} {N : Mem} {t : DB} (q : QS S X m N t) {p g : Nat} (hp : p < cn t 61) (h0 : t 69 p = 0) (h65 : t 65 p = nI g) (hg : g < cn t 30) (h31 : t 31 g = 4) (h76 : t 76 p = 1) : cq (n + 12) mX9_due [.inr (14, g), .inr (21, p)] N (fun r N' => r = none ∧ ∃ u t', (∀ K : DB → Prop, K u → w_goesIn (nI p) (up t 76 p 0) K) ∧ RUN u t' ∧ QS S X m N' t' ∧ TF t t' RC ∧ cn t 61 ≤ cn t' 61) := by
  obtain ⟨hS, hW, hV, h88⟩ := q
  have hn61 := hS.1.nC
  have h24 : cn t 30 ≤ 24 := hS.iB.2.2.2.1.2
  obtain ⟨o, d, hT, k, ho, h62, h63, hk, hk4, hTT⟩ := hS.1.stand hp h65 hg
  obtain ⟨z0, z1, z4, z8, -⟩ := (hS.iZ p hp).1 g hg h65
  have h75 := (z1 (by rw [h31]; decide)).1
  obtain ⟨nn, e73, hn6, -, -, h6⟩ := hS.iD p hp g hg h65
  have ht : TF t (up t 76 p 0) [76] := TF.rf.wu _ _ (by decide)
  have hS2 : SS X m 60 [] 100000 (sI N 21 p 14 0) (up t 76 p 0) := ⟨hS.1.paus (Or.inr ⟨rfl, rfl⟩) hg h65 h31 hp (fun y => absurd y (by decide)), hS.2.fr ht (by decide)⟩
  have hW2 : I_W (fun _ => False) (up t 76 p 0) := fun i hi i0 hE g' hg' e j hj ej => by
    rcases hW i hi i0 hE g' hg' e j hj ej with ⟨y1, y2⟩ | y
    · refine Or.inl ⟨y1, ?_⟩
      rw [up_at]
      by_cases w : i = p
      · rw [if_pos ⟨rfl, w⟩]; decide
      · rw [if_neg (fun v => w v.2)]; exact y2
    · exact Or.inr y
  obtain ⟨r1, r2⟩ := gi_c (CB_all k n (by omega)) (h := 0) (c := p) (g := g) hS2 ⟨by decide, Nat.le_refl _⟩ hp h0 ho h62 h63 hTT h65 hg h75 up_s (fun y => absurd (h31.symm.trans y) (by decide)) ⟨nn, e73, h6 h76, fun y => absurd h31 y, fun y => absurd h31 y⟩ (fun j hj e => by
    rcases hW p hp h0 (fun y => y) g hg h65 j hj e with ⟨-, y⟩ | ⟨y, -⟩
    · exact absurd h76 y
    · exact Or.inr ⟨h31, y⟩) h88 hk
  have nl : N.2.1 14 g 7 = (1, 0) := by
    obtain ⟨s', a1, a2, -, -, -, -, -, -, -, -, a11⟩ := hS.G g hg
    have es : s' = 4 := (nI_eq (by omega) (by omega)).mp (a2.symm.trans (by rw [h31]; rfl))
    subst es
    exact a11
  refine sv_X9_due (d := n + 1) (Q := fun N' => ∃ u t', (∀ K : DB → Prop, K u → w_goesIn (nI p) (up t 76 p 0) K) ∧ RUN u t' ∧ QS S X m N' t' ∧ TF t t' RC ∧ cn t 61 ≤ cn t' 61) (fun N' w => ⟨rfl, w⟩) ⟨rfl, fun M1 g1 => ⟨rfl, fun e2 ee2 => ?_⟩⟩
  subst g1
  have q2 : e2 = (1, 0) := ee2.trans nl
  subst q2
  refine ⟨rfl, r2.mono ?_⟩
  rintro r N' ⟨hr, t', ⟨b1, b2, b3, b4, b5⟩, b6, b7⟩
  refine ⟨hr, _, t', r1, b1, ⟨b3, b5 _ hW2, (hV.fr ht (by decide)).mb b4 (fun _ g' hg' e => ?_), b2.1⟩, fun f hf => by rw [b4.1 f hf, ht f (fun y => hf ((by decide : ∀ f ∈ [76], f ∈ RC) f y))], b4.2.1⟩
  have eg : g' = g := (nI_eq (by have : g' < cn t 30 := hg'; omega) (by omega)).mp (e.symm.trans h65)
  subst eg
  refine ⟨fun y => ?_, fun y => ?_⟩
  · have y' : t 31 g' = 3 ∨ t 31 g' = 5 := y
    rw [h31] at y'
    rcases y' with y' | y' <;> exact absurd y' (by decide)
  · have y' : t 31 g' = 5 := y
    rw [h31] at y'
    exact absurd y' (by decide)
