set_option maxRecDepth 100000
/-! a hedge is told -/
theorem ot_st {N : Mem} {p c l j nn n : Nat} {Q : Nat × Nat → Mem → Prop} (w7 : N.2.1 21 p 7 = (31, p)) (ws : N.1 31 p 0 = nI nn) (hnn : nn ≤ 6) (hj : j < nn) (el : N.2.1 31 p j = (21, l)) (hs : l = c → v_X16_other_2 n (21, p) (21, c) (nI (j + 1)) N Q) (hh : l ≠ c → Q (21, l) N) : v_X16_other_2 (n + 1) (21, p) (21, c) (nI j) N Q := by
  have sz : N.1 (31, p).1 (31, p).2 0 = nI nn := ws
  have cj : (nI j).toNatClampNeg = j := nI_clamp (by omega)
  have inb : ¬ nI j < 0 ∧ nI j < N.1 (31, p).1 (31, p).2 0 := ⟨nI_pos (by omega), by rw [sz]; exact nI_lt hj (by omega)⟩
  refine ⟨rfl, fun e1 ee1 => ?_⟩
  have q1 : e1 = (31, p) := ee1.trans w7
  subst q1
  refine ⟨lk31, fun y => ?_, fun _ => ⟨rfl, fun e2 ee2 => ?_⟩⟩
  · rw [sz] at y; exact absurd y (nI_ge hj (by omega))
  have q2 : e2 = (31, p) := ee2.trans w7
  subst q2
  refine ⟨lk31, inb, fun e3 ee3 => ?_⟩
  rw [cj] at ee3
  have q3 : e3 = (21, l) := ee3.trans el
  subst q3
  refine ⟨fun y x4 g4 => ?_, fun y => ⟨rfl, fun e5 ee5 => ?_⟩⟩
  · rw [nI_1] at g4
    subst g4
    exact hs (congrArg Prod.snd y)
  · have q5 : e5 = (31, p) := ee5.trans w7
    subst q5
    refine ⟨lk31, inb, fun e6 ee6 => ?_⟩
    rw [cj] at ee6
    have q6 : e6 = (21, l) := ee6.trans el
    subst q6
    exact ⟨rfl, hh (fun e => y (by rw [e]))⟩
theorem ot_end {N : Mem} {p c nn n : Nat} {Q : Nat × Nat → Mem → Prop} (w7 : N.2.1 21 p 7 = (31, p)) (ws : N.1 31 p 0 = nI nn) (hnn : nn ≤ 6) (hQ : Q (0, 0) N) : v_X16_other_2 (n + 1) (21, p) (21, c) (nI nn) N Q := by
  have sz : N.1 (31, p).1 (31, p).2 0 = nI nn := ws
  refine ⟨rfl, fun e1 ee1 => ?_⟩
  have q1 : e1 = (31, p) := ee1.trans w7
  subst q1
  refine ⟨lk31, fun _ => hQ, fun y => ?_⟩
  exact absurd (by rw [sz]; exact nI_le (Nat.le_refl _) (by omega)) y
/-- the other inner call is taken back, then the hedge ends -/
theorem told_5t {b dp n : Nat} (hE : CE b dp (n + 2)) (hE0 : b ≠ 0 → CE 0 5 n) {X : Mem} {m z : Nat} {P : List Nat} {N : Mem} {t : DB} {h p c g k : Nat} (q : CTP b dp X m z P N t h p c g 5) (hk : k < cn t 61) (ek : t 64 k = nI p) (hkc : k ≠ c) (k0 : t 69 k = 0) :
    ∃ u, (∀ K : DB → Prop, K u → w_takeBack (nI k) (-1) (psh t h 1 (nI p) (t 69 c) (t 70 c) (t 71 c)) (fun _ => K)) ∧ ∃ len, cq (n + 13) mX0_takeBack [.inr (1, 0), .inr (21, k)] N (fun r N' => r = some (.inl (nI len)) ∧ N'.2.1 15 g 7 = (1, 0) ∧ cq (n + 13) mX0_alike [.inr (1, 0), .inr (21, p), .inr (21, c)] N' (fun r N'' => r = none ∧ ∃ t', PT b X m z P N'' t' h t u (t 62 p) p)) := by
  have F := q.F
  have hn := F.hn
  have hg2 := F.hg2
  have hp := F.hp
  have hc := F.hc
  have hg := F.hg
  have h31 : t 31 g = 5 := F.h31
  have hIx := q.2.1
  have hpk : p < k := by
    rcases F.hS.par k hk with w | ⟨p', w1, w2⟩
    · exact absurd (ek.symm.trans w) (nI_m1 (by omega))
    · have : p = p' := (nI_eq (by omega) (by omega)).mp (ek.symm.trans w2)
      omega
  obtain ⟨nn, e73, -, hnn, -, -⟩ := F.hS.iD p hp g hg F.h65
  have hnn2 := hnn (by rw [h31]; decide)
  have two := F.hS.two hp e73 hnn2 hc hk F.h64 ek hkc
  have hlead : b = 0 → ∀ i, i < cn t 61 → t 62 i = t 62 p → t 69 i = 0 → t 78 i ≠ 1 := q.2.2.2.2.2.2.2.2.2.2.2.2.2.2.2.1
  have hdp : (t 63 p).toNatClampNeg ≤ dp := q.2.2.2.2.2.2.2.2.2.2.2.2.2.2.1
  have k62 : t 62 k = t 62 p := by
    obtain ⟨o, T, hh, d', a1, a2, a3, a4, a5, a6, a7, a8, a9, -⟩ := F.hS.iC k hk
    rcases a9 with ⟨-, y⟩ | ⟨q', e', b1, b2, b3, b4, b5, b6, b7⟩
    · exact absurd (ek.symm.trans y) (nI_m1 (by omega))
    · have : p = q' := (nI_eq (by omega) (by omega)).mp (ek.symm.trans b2)
      subst this
      rw [a2, b3]
  -- the pile has p's end on it
  have za : ∀ f, f ∉ [83, 84, 85, 86, 87, 88] → psh t h 1 (nI p) (t 69 c) (t 70 c) (t 71 c) f = t f := fun f hf => psh_TF f hf
  have a88 : psh t h 1 (nI p) (t 69 c) (t 70 c) (t 71 c) 88 0 = nI (h + 1) := psh_88
  have a83 : psh t h 1 (nI p) (t 69 c) (t 70 c) (t 71 c) 83 h = 1 := psh_83
  have a84 : psh t h 1 (nI p) (t 69 c) (t 70 c) (t 71 c) 84 h = nI p := psh_84
  have a85 : psh t h 1 (nI p) (t 69 c) (t 70 c) (t 71 c) 85 h = t 69 c := psh_85
  have a86 : psh t h 1 (nI p) (t 69 c) (t 70 c) (t 71 c) 86 h = t 70 c := psh_86
  have a87 : psh t h 1 (nI p) (t 69 c) (t 70 c) (t 71 c) 87 h = t 71 c := psh_87
  have alo : ∀ f, 83 ≤ f → f ≤ 87 → ∀ i, i < h → psh t h 1 (nI p) (t 69 c) (t 70 c) (t 71 c) f i = t f i := fun f h1 h2 i hi => psh_lo h1 h2 hi
  have aS : SZ X m z P 100000 N (psh t h 1 (nI p) (t 69 c) (t 70 c) (t 71 c)) := F.hS.tt (psh_TF.mono (by decide))
  have aM : MO t (psh t h 1 (nI p) (t 69 c) (t 70 c) (t 71 c)) := MO.psh
  have aW : WA t (psh t h 1 (nI p) (t 69 c) (t 70 c) (t 71 c)) := WA.psh
  generalize psh t h 1 (nI p) (t 69 c) (t 70 c) (t 71 c) = ta at *
  have ca : cn ta 61 = cn t 61 := cn_fr (za 61 (by decide))
  have aI : IPx p ta := by
    unfold IPx
    rw [ca, cn_fr (za 30 (by decide)), za 69 (by decide), za 64 (by decide), za 65 (by decide), za 31 (by decide)]
    exact hIx
  have kta : k < cn ta 61 := by rw [ca]; exact hk
  have ek' : ta 64 k = nI p := by rw [za 64 (by decide)]; exact ek
  have two' : ∀ j, j < cn ta 61 → ta 64 j = nI p → j ≠ c → j = k := by rw [ca, za 64 (by decide)]; exact two
  have ca0 : ta 69 c ≠ 0 := by
    rw [za 69 (by decide)]
    rcases F.hhow with w | w <;> rw [w] <;> decide
  have lead' : ∀ i, i < cn ta 61 → wi ta k i = true → ta 69 i = 0 → ta 78 i = 1 → b ≠ 0 := fun i hi w1 w2 w3 hb => by
    have := (wi_62 aS kta i i (Nat.le_refl _) hi w1).1
    rw [za 62 (by decide)] at this
    rw [ca] at hi
    rw [za 69 (by decide)] at w2
    rw [za 78 (by decide)] at w3
    exact hlead hb i hi (this.trans k62) w2 w3
  obtain ⟨len, m1, m2, m3⟩ := tb_all (n := n) (z' := z) (h := h + 1) (c := k) (F := wi ta k) (x1 := nI k) (x2 := -1) aS kta (by rw [za 69 (by decide)]; exact k0) a88 (by have := F.hh.1; omega) F.hh.2 (wi_F aS kta) (fun _ _ _ => rfl) (mk_O aS (fun _ _ => rfl) (by rw [ek']; exact nI_m1 (by omega))) (mk_IP aS (p := p) kta aI (fun _ _ => rfl) (Or.inl ⟨ek', by rw [ca]; exact hp⟩) (fun j hj hjk e => by
      rw [ek'] at e
      by_cases ejc : j = c
      · rw [ejc]; exact ca0
      · exact absurd (two' j hj e ejc) hjk)) (fun ⟨i, i1, i2, i3, i4⟩ => ⟨hE0 (lead' i i1 i2 i3 i4), by
      have := F.hh.1
      have := Nat.mul_le_mul_left 1000 (Nat.pos_of_ne_zero (lead' i i1 i2 i3 i4))
      omega⟩)
  refine ⟨psh (tMk ta (wi ta k) (cn ta 61)) (h + 1) 4 (nI (cn ta 82)) (nI (cn ta 82 + len)) 0 0, fun K hK => m1 (fun _ => K) hK, len, m3.mono ?_⟩
  rintro r N' ⟨hr, t', w1, w2, w3⟩
  have ht1 := tMk_TF (t := ta) (F := wi ta k) (j := cn ta 61)
  have e69 : ∀ i, tMk ta (wi ta k) (cn ta 61) 69 i = if i ∈ LF ta (wi ta k) (cn ta 61) then 3 else ta 69 i := fun i => tMk_69
  have aW1 : ∀ E : Nat → Prop, (∀ p', p' < cn ta 61 → ta 64 k = nI p' → E p') → I_W E ta → I_W E (tMk ta (wi ta k) (cn ta 61)) := fun E hE hW => mk_W aS (fun _ _ => rfl) hE hW
  have hmem : ∀ i, i ∈ LF ta (wi ta k) (cn ta 61) ↔ i < cn ta 61 ∧ wi ta k i = true ∧ ta 69 i = 0 := fun i => LF_mem
  generalize LF ta (wi ta k) (cn ta 61) = L at *
  generalize hu : psh (tMk ta (wi ta k) (cn ta 61)) (h + 1) 4 (nI (cn ta 82)) (nI (cn ta 82 + len)) 0 0 = u at *
  generalize tMk ta (wi ta k) (cn ta 61) = T1 at *
  obtain ⟨A1, A2, A3, A4, A5⟩ := w2
  have z1 : ∀ f, f ∉ [68, 69, 80, 81, 82] → f ∉ [83, 84, 85, 86, 87, 88] → T1 f = t f := fun f h1 h2 => (ht1 f h1).trans (za f h2)
  have c1 : cn T1 61 = cn t 61 := cn_fr (z1 61 (by decide) (by decide))
  have hMt : MO t t' := (aM.tr m2).tr A2
  have kL : k ∈ L := (hmem k).mpr ⟨kta, wi_self aS kta, by rw [za 69 (by decide)]; exact k0⟩
  -- whoever joined lies in another order
  obtain ⟨o, T, hh', e, i1, i2, i3, i4, i5, i6, i7, i8, -⟩ := F.hS.iC p hp
  have noJ : ¬ JL ta T1 L (T1 62 p) := by
    rintro ⟨j, l, j1, j2, j3, j4, j5⟩
    obtain ⟨l1, l2, l3⟩ := (hmem l).mp j3
    obtain ⟨d1, d2, d3, d4, d5, g', hg', d6, d7, d8, d9⟩ := aS.jn j1 (by omega) j4
    have hj0 : t 69 j = 0 := by
      rw [e69] at j2
      by_cases y : j ∈ L
      · rw [if_pos y] at j2; exact absurd j2 (by decide)
      · rw [if_neg y, za 69 (by decide)] at j2; exact j2
    have jL : ¬ wi ta k j = true := fun y => by
      have : j ∈ L := (hmem j).mpr ⟨j1, y, by rw [za 69 (by decide)]; exact hj0⟩
      rw [e69, if_pos this] at j2
      exact absurd j2 (by decide)
    have l62 := wi_62 aS kta l l (Nat.le_refl _) l1 l2
    rw [z1 62 (by decide) (by decide)] at j5
    have jp : ta 62 j = ta 62 p := by rw [j5, za 62 (by decide)]
    have lj : ta 62 j = ta 62 l := by
      rw [l62.1, za 62 (by decide), k62]
      rw [za 62 (by decide)] at jp
      exact jp
    have d63 := (aS.sg j1 l1 lj d7 hg' d8 hg' rfl).2
    have p63 : ta 63 p = nI e := by rw [za 63 (by decide)]; exact i8
    have k63 : ta 63 k = nI (e + 1) := by
      obtain ⟨o', T', h'', d', a1, a2, a3, a4, a5, a6, a7, a8, a9, -⟩ := aS.iC k kta
      rcases a9 with ⟨-, y⟩ | ⟨q', e', b1, b2, b3, b4, b5, b6, b7⟩
      · exact absurd (ek'.symm.trans y) (nI_m1 (by omega))
      · have : p = q' := (nI_eq (by omega) (by omega)).mp (ek'.symm.trans b2)
        subst this
        have : e = e' := (nI_eq (by omega) (by omega)).mp (p63.symm.trans b5)
        rw [a8, b4, this]
    obtain ⟨o', T', h'', dj, a1, a2, a3, a4, a5, a6, a7, a8, a9, -⟩ := aS.iC j j1
    have : e + 1 ≤ dj := by
      have := l62.2
      rw [k63, ← d63, a8, nI_clamp (by omega), nI_clamp (by omega)] at this
      exact this
    obtain ⟨a, b', c1', c2', c3', c4', c5', c6', c7', c8'⟩ := anc aS aI (by rw [ca]; exact hp) (by rw [za 69 (by decide)]; exact F.h69) (by omega) p63 (dj - (e + 1)) j j1 (by rw [za 69 (by decide)]; exact hj0) jp (by rw [a8]; congr 1; omega) (by omega)
    have eap : a = p := uq aS aI (by rw [ca]; exact hp) (by rw [za 65 (by decide)]; exact F.h65) (by rw [cn_fr (za 30 (by decide))]; exact hg) (by rw [za 31 (by decide)]; exact h31) (by omega) p63 e a p (Nat.le_refl _) c1' (by rw [ca]; exact hp) c3' rfl c4' p63 c5' (by rw [za 69 (by decide)]; exact F.h69)
    subst eap
    by_cases ebc : b' = c
    · rw [ebc] at c7'; exact ca0 c7'
    · rw [two' b' c2' c6' ebc] at c8'
      exact jL c8'
  have p1 : T1 69 p = 0 := by
    rw [e69, if_neg (fun y => ?_), za 69 (by decide)]
    · exact F.h69
    · have := wi_ge aS p p (Nat.le_refl _) ((hmem p).mp y).1 ((hmem p).mp y).2.1
      omega
  have p0 : t' 69 p = 0 := (A4 p (by rw [c1]; exact hp) noJ).trans p1
  have hpt : p < cn t' 61 := Nat.lt_of_lt_of_le hp hMt.2.1
  have kc : ∀ f ∈ KC, ∀ i, i < cn t 61 → t' f i = t f i := fun f hf i hi => (hMt.2.2.1 i hi).1 f hf
  have p65 : t' 65 p = nI g := (kc 65 (by decide) p hp).trans F.h65
  have h31' : t' 31 = t 31 := hMt.1 31 (by decide)
  have c30' : cn t' 30 = cn t 30 := hMt.1.cn (by decide)
  have n15 : N'.2.1 15 g 7 = (1, 0) := by
    obtain ⟨s', a1, a2, -, -, -, -, -, -, -, -, a11⟩ := w1.G g (by rw [c30']; exact hg)
    have es : s' = 5 := (nI_eq (by omega) (by omega)).mp (a2.symm.trans (by rw [h31', h31]; rfl))
    subst es
    exact a11
  refine ⟨hr, n15, ?_⟩
  have p73 : t' 73 p = nI nn := (((hMt.2.2.1 p hp).2.2 g hg F.h65).1 (by rw [h31]; decide)).trans e73
  have cc' : t' 69 c = t 69 c ∧ t' 70 c = t 70 c ∧ t' 71 c = t 71 c := (hMt.2.2.1 c hc).2.1 (by rw [← za 69 (by decide)]; exact ca0)
  have k3 : t' 69 k ≠ 0 := by
    have : T1 69 k = 3 := by rw [e69, if_pos kL]
    rw [((A2.2.2.1 k (by rw [c1]; exact hk)).2.1 (by rw [this]; decide)).1, this]
    decide
  have two2 := w1.1.two hpt p73 hnn2 (Nat.lt_of_lt_of_le hc hMt.2.1) (Nat.lt_of_lt_of_le hk hMt.2.1) ((kc 64 (by decide) c hc).trans F.h64) ((kc 64 (by decide) k hk).trans ek) hkc
  have hch : ∀ i, i < cn t' 61 → t' 64 i = nI p → t' 69 i ≠ 0 := fun i hi e => by
    by_cases eic : i = c
    · rw [eic, cc'.1, ← za 69 (by decide)]; exact ca0
    · rw [two2 i hi e eic]; exact k3
  have t83 : t' 83 h = 1 := (A3 83 (by decide) (by decide) h (by omega)).trans ((ht1 83 (by decide)).symm ▸ a83)
  have t84 : t' 84 h = nI p := (A3 84 (by decide) (by decide) h (by omega)).trans ((ht1 84 (by decide)).symm ▸ a84)
  have t85 : t' 85 h = t 69 c := (A3 85 (by decide) (by decide) h (by omega)).trans ((ht1 85 (by decide)).symm ▸ a85)
  have t86 : t' 86 h = t 70 c := (A3 86 (by decide) (by decide) h (by omega)).trans ((ht1 86 (by decide)).symm ▸ a86)
  have t87 : t' 87 h = t 71 c := (A3 87 (by decide) (by decide) h (by omega)).trans ((ht1 87 (by decide)).symm ▸ a87)
  have tlo : ∀ f, 83 ≤ f → f ≤ 87 → ∀ i, i < h → t' f i = t f i := fun f h1 h2 i hi => by
    rw [A3 f h1 h2 i (by omega), ht1 f (by simp; omega), alo f h1 h2 i hi]
  have zp : ∀ f, f ∉ [83, 84, 85, 86, 87, 88] → pop t' h f = t' f := fun f hf => pop_TF f hf
  have hpp := psh_pop (t := t') (h := h) (a := 1) (b := nI p) (c := t 69 c) (d := t 70 c) (e := t 71 c) t83 t84 t85 t86 t87 w3
  have p88 : pop t' h 88 0 = nI h := up_s
  have plo : ∀ f, 83 ≤ f → f ≤ 87 → ∀ i, i < h → pop t' h f i = t f i := fun f h1 h2 i hi => (up_f (by omega)).trans (tlo f h1 h2 i hi)
  have pS : SS X m z P 100000 N' (pop t' h) := w1.pop
  have pM : MO t (pop t' h) := hMt.tr MO.pop
  have pW : WA t' (pop t' h) := WA.pop
  generalize pop t' h = tp at *
  have cp : cn tp 61 = cn t' 61 := cn_fr (zp 61 (by decide))
  have pD : SZ X m z P p N' tp := pS.1.dying (fun y => by
    have := (((pS.iZ p (by rw [cp]; exact hpt)).1 g (by rw [cn_fr (zp 30 (by decide)), c30']; exact hg) (by rw [zp 65 (by decide)]; exact p65)).2.1 (by rw [zp 31 (by decide), h31', h31]; decide)).1
    rw [this] at y
    exact absurd y (by decide))
  have o62 : tp 62 p = t 62 p := by rw [zp 62 (by decide)]; exact kc 62 (by decide) p hp
  have hA := (alike_c hE (c := c) (h := h) ⟨pD, pS.2⟩ F.hh (by rw [cp]; exact hpt) (by rw [cp]; exact Nat.lt_of_lt_of_le hc hMt.2.1) (by rw [zp 69 (by decide)]; exact p0) F.hpP (by rw [cp, zp 64 (by decide), zp 69 (by decide)]; exact hch) (by rw [zp 63 (by decide), kc 63 (by decide) p hp]; exact hdp) (fun hb i hi v1 v2 v3 => by
      rw [cp] at hi
      rw [o62] at v1
      rw [zp 62 (by decide)] at v1
      rw [zp 69 (by decide)] at v2
      rw [zp 78 (by decide)] at v3
      exfalso
      by_cases y : i < cn t 61
      · refine hlead hb i y ((kc 62 (by decide) i y).symm.trans v1) (Classical.byContradiction fun w => w (((hMt.2.2.1 i y).2.1 w).1.symm.trans v2)) ((kc 78 (by decide) i y).symm.trans v3)
      · have := (hMt.2.2.2.1 i (by omega) hi).2.1
        rw [v3] at this
        exact absurd this (by decide)) p88 (by rw [zp 69 (by decide), cc'.1]; exact F.hhow)).2
  rw [zp 69 (by decide), zp 70 (by decide), zp 71 (by decide), cc'.1, cc'.2.1, cc'.2.2, hpp, o62] at hA
  refine hA.mono ?_
  rintro r' N'' ⟨hr', t'', b1, b2, b3, b4, b5, b6⟩
  refine ⟨hr', t'', A1.tr b1, ⟨b2.1, fun f h1 h2 i hi => (b2.2 f h1 h2 i hi).trans (plo f h1 h2 i hi)⟩, b3, pM.tr b4, fun hb i hi hne => ?_, fun E hW => b6 E (pW _ (A5 _ (aW1 _ (fun p' hp' e' => ?_) (aW _ hW))))⟩
  have it : i < cn t' 61 := Nat.lt_of_lt_of_le hi hMt.2.1
  rw [b5 hb i (by rw [cp]; exact it) (by rw [zp 62 (by decide), kc 62 (by decide) i hi]; exact hne), zp 69 (by decide), A4 i (by rw [c1]; exact hi) ?_, e69, if_neg ?_, za 69 (by decide)]
  · intro y
    obtain ⟨y1, y2, y3⟩ := (hmem i).mp y
    have := (wi_62 aS kta i i (Nat.le_refl _) y1 y2).1
    rw [za 62 (by decide)] at this
    exact hne (this.trans k62)
  · rintro ⟨j, l, j1, j2, j3, j4, j5⟩
    obtain ⟨l1, l2, l3⟩ := (hmem l).mp j3
    have := (aS.jn j1 (by omega) j4).2.2.2.2.1
    exact lead' l l1 l2 l3 this hb
  · exact Or.inr ((nI_eq (by omega) (by omega)).mp (e'.symm.trans ek'))
theorem w_al {X : Mem} {m z : Nat} {P : List Nat} {x : Nat} {N : Mem} {t : DB} (hS : SZ X m z P x N t) {h p c : Nat} (hc : c < cn t 61) (h88 : t 88 0 = nI h) (hh : h < 20000) {K : DB → Prop} (hK : K (psh t h 1 (nI p) (t 69 c) (t 70 c) (t 71 c))) : w_alike (nI p) (nI c) t K := by
  have h61 := hS.nC
  have hcl : (nI c).toNatClampNeg = c := nI_clamp (by omega)
  have hv : vp_in (nI c) 4400 := vp_in_nI (by omega) (by decide)
  obtain ⟨-, -, iH3, -⟩ := hS.iH c hc
  unfold w_alike
  rw [hcl]
  refine ⟨hv, hv, hv, fun e => ?_, fun e => ?_⟩
  · rw [e] at hK; exact w_add_s h88 hh hK
  · rcases iH3 with q | q
    · exact absurd q e
    · rw [q] at hK; exact w_add_s h88 hh hK
theorem told_5 {b dp n : Nat} (hE : CE b dp (n + 2)) (hE0 : b ≠ 0 → CE 0 5 n) {X : Mem} {m z : Nat} {P : List Nat} {N : Mem} {t : DB} {h p c g : Nat} (q : CTP b dp X m z P N t h p c g 5) : CTG b (n + 4) X m z P N t h p c g 5 := by
  have F := q.F
  have hn := F.hn
  have hg2 := F.hg2
  have hp := F.hp
  have hc := F.hc
  have hg := F.hg
  have h31 : t 31 g = 5 := F.h31
  have hIx := q.2.1
  have hSB : SBc 5 p c t := q.2.2.2.2.2.2.2.2.2.2.2.2.2.1
  have hlead : b = 0 → ∀ i, i < cn t 61 → t 62 i = t 62 p → t 69 i = 0 → t 78 i ≠ 1 := q.2.2.2.2.2.2.2.2.2.2.2.2.2.2.2.1
  have hdp : (t 63 p).toNatClampNeg ≤ dp := q.2.2.2.2.2.2.2.2.2.2.2.2.2.2.1
  have c1 : (nI p).toNatClampNeg = p := nI_clamp (by omega)
  have c2 : (nI c).toNatClampNeg = c := nI_clamp (by omega)
  have v1 : vp_in (nI p) 4400 := vp_in_nI (by omega) (by decide)
  have v2 : vp_in (nI c) 4400 := vp_in_nI (by omega) (by decide)
  have nl : N.2.1 15 g 7 = (1, 0) := F.nl
  have e61 : t 61 0 = nI (cn t 61) := F.hS.iB.2.2.2.2.2.2.1.1
  obtain ⟨nn, e73, -, hnn, -, -⟩ := F.hS.iD p hp g hg F.h65
  have hnn2 := hnn (by rw [h31]; decide)
  have hnn0 : nn ≠ 0 := fun e => F.hS.inner hp hc F.h64 (by rw [e73, e]; rfl)
  have w7 := (F.hS.C p hp).2.1
  have ws : N.1 31 p 0 = nI nn := (F.hS.I (31, 0, 73, 61) (by decide) p hp).trans e73
  obtain ⟨V1, V2, V3, -⟩ := F.hS.V p hp
  rw [e73, nI_clamp (by omega)] at V1 V2 V3
  have e11 : N.1 21 c 11 = t 69 c := F.hS.I (21, 11, 69, 61) (by decide) c hc
  have h23 := (nF_b F.hS).2
  have br : ∀ K : DB → Prop, w_hedgeTold (nI p) (nI c) t K → w_told (nI p) (nI c) t K := fun K hK =>
    w_told_br (by omega) (by omega) (by omega) F.h65 F.h31 F.hs (fun e => by omega) (fun e => by omega) (fun e => by omega) (fun e => by omega) (fun e => by omega) (fun _ => hK) (fun e => by omega) (fun e => by omega) (fun e => by omega) (fun e => by omega)
  -- the end alike, when all within have ended
  have al : ∀ (N1 : Mem) (t1 : DB) (k : Nat), SZ X m z P p N1 t1 → TF t t1 [29] → k < cn t 61 → (t 69 k = 1 ∨ t 69 k = 2) → (∀ i, i < cn t 61 → t 64 i = nI p → t 69 i ≠ 0) → (∀ K : DB → Prop, K (psh t1 h 1 (nI p) (t 69 k) (t 70 k) (t 71 k)) → w_alike (nI p) (nI k) t1 K) ∧ cq (n + 13) mX0_alike [.inr (1, 0), .inr (21, p), .inr (21, k)] N1 (fun r N' => r = none ∧ ∃ t', PT b X m z P N' t' h t (psh t1 h 1 (nI p) (t 69 k) (t 70 k) (t 71 k)) (t 62 p) p) := by
    intro N1 t1 k hS1 ht hk hhow hch
    have e : ∀ f, f ≠ 29 → t1 f = t f := fun f hf => ht f (by simpa using hf)
    have k61 : cn t1 61 = cn t 61 := cn_fr (e 61 (by decide))
    have hP : I_P t1 := (hIx.all hch).fr ht (by decide)
    have hA := alike_c hE (c := k) (h := h) ⟨hS1, hP⟩ F.hh (by rw [k61]; exact hp) (by rw [k61]; exact hk) (by rw [e 69 (by decide)]; exact F.h69) F.hpP (by rw [k61, e 64 (by decide), e 69 (by decide)]; exact hch) (by rw [e 63 (by decide)]; exact hdp) (fun hb i hi u1 u2 u3 => by
      rw [k61] at hi
      rw [e 62 (by decide)] at u1
      rw [e 69 (by decide)] at u2
      rw [e 78 (by decide)] at u3
      exact absurd u3 (hlead hb i hi u1 u2)) (by rw [e 88 (by decide)]; exact F.h88) (by rw [e 69 (by decide)]; exact hhow)
    rw [e 69 (by decide), e 70 (by decide), e 71 (by decide), e 62 (by decide)] at hA
    refine ⟨hA.1, hA.2.mono ?_⟩
    rintro r N' ⟨hr, t', w⟩
    exact ⟨hr, t', w.pre (MO.of ht (by decide)) (e 69 (by decide)) (fun f h1 h2 i _ => by rw [e f (by omega)]) (WA.of ht (by decide))⟩
  show cq (n + 3 + 11) mX10_told [.inr (15, g), .inr (21, p), .inr (21, c)] N _
  obtain ⟨jc, hjc, ejc⟩ := V2 c hc F.h64
  refine sv_X10_told (Q := TG b X m z P t h p c) (fun N' w => ⟨rfl, w⟩) ⟨rfl, ?_⟩
  by_cases h1 : nn = 1
  · -- no other one
    subst h1
    have j0 : jc = 0 := by omega
    subst j0
    have only : ∀ j, j < cn t 61 → t 64 j = nI p → j = c := fun j hj e => by
      obtain ⟨a, ha, ea⟩ := V2 j hj e
      have : a = 0 := by omega
      subst this
      exact congrArg Prod.snd (ea.symm.trans ejc)
    have hch : ∀ i, i < cn t 61 → t 64 i = nI p → t 69 i ≠ 0 := fun i hi e => by
      rw [only i hi e]
      rcases F.hhow with w | w <;> rw [w] <;> decide
    obtain ⟨al1, al2⟩ := al N t c F.hD TF.rf hc F.hhow hch
    have mdl : ∀ K : DB → Prop, K (psh t h 1 (nI p) (t 69 c) (t 70 c) (t 71 c)) → w_told (nI p) (nI c) t K := fun K hK => by
      refine br K (w_otherOf_n e61 hn hc only ⟨v2, fun _ => ⟨fun _ => ⟨fun _ => al1 K hK, fun y => absurd (by decide) y⟩, fun y => absurd (by decide) y⟩, fun _ => al1 _ ⟨fun _ => hK, fun y => absurd (by decide) y⟩⟩)
    have fin := told_fin mdl al2
    refine ⟨3, ot_st w7 ws (by decide) (by decide) ejc (fun _ => ot_end w7 ws (by decide) ?_) (fun y => absurd rfl y)⟩
    refine ⟨rfl, fun y => ⟨fun y2 => absurd rfl y2, fun _ => ⟨rfl, fun e13 ee13 => ?_⟩⟩, fun y => ⟨fun _ => ⟨rfl, fun e1 ee1 => ?_⟩, fun y2 => absurd rfl y2⟩⟩
    · have q13 : e13 = (1, 0) := ee13.trans nl
      subst q13
      exact ⟨rfl, fin⟩
    · have q1 : e1 = (1, 0) := ee1.trans nl
      subst q1
      exact ⟨rfl, fin⟩
  · have h2 : nn = 2 := by omega
    subst h2
    -- the other one
    obtain ⟨k, hk, ek, k64, kc⟩ : ∃ k, k < cn t 61 ∧ N.2.1 31 p (1 - jc) = (21, k) ∧ t 64 k = nI p ∧ k ≠ c := by
      obtain ⟨k, a1, a2, a3⟩ := V1 (1 - jc) (by omega)
      refine ⟨k, a1, a2, a3, fun e => ?_⟩
      subst e
      by_cases y : jc = 0
      · subst y
        exact absurd (V3 0 1 k k (by omega) (by omega) ejc a2) (by omega)
      · have : jc = 1 := by omega
        subst this
        exact absurd (V3 0 1 k k (by omega) (by omega) a2 ejc) (by omega)
    have two := F.hS.two hp e73 (by omega) hc hk F.h64 k64 kc
    have vk : vp_in (nI k) 4400 := vp_in_nI (by omega) (by decide)
    have ck : (nI k).toNatClampNeg = k := nI_clamp (by omega)
    have npk : ¬ nI k < 0 := nI_pos (by omega)
    have e11k : N.1 21 k 11 = t 69 k := F.hS.I (21, 11, 69, 61) (by decide) k hk
    have khow : t 69 k = 0 ∨ t 69 k = 2 := by
      rcases hSB k hk kc k64 with ⟨-, w⟩ | ⟨w, -⟩
      · exact w
      · omega
    have e16c := (F.hS.C c hc).2.2.2
    have e16k := (F.hS.C k hk).2.2.2
    have oth : ∀ Q : Nat × Nat → Mem → Prop, Q (21, k) N → v_X16_other (21, p) (21, c) N Q := fun Q hQ => by
      by_cases y : jc = 0
      · subst y
        exact ⟨3, ot_st (j := 0) w7 ws (by decide) (by decide) ejc (fun _ => ot_st (j := 1) w7 ws (by decide) (by decide) ek (fun e => absurd e kc) (fun _ => hQ)) (fun e => absurd rfl e)⟩
      · have : jc = 1 := by omega
        subst this
        exact ⟨3, ot_st (j := 0) w7 ws (by decide) (by decide) ek (fun e => absurd e kc) (fun _ => hQ)⟩
    have hh0 := F.hh.1
    have mo : ∀ K : DB → Prop, (¬ t 69 c = 1 → (¬ t 69 k = 0 → w_hedgeTold_58 (nI p) (nI c) (nI k) t K) ∧ (t 69 k = 0 → K t)) → (t 69 c = 1 → (¬ t 69 k = 0 → K (psh t h 1 (nI p) (t 69 c) (t 70 c) (t 71 c))) ∧ (t 69 k = 0 → w_takeBack (nI k) (-1) (psh t h 1 (nI p) (t 69 c) (t 70 c) (t 71 c)) (fun _ => K))) → w_told (nI p) (nI c) t K := fun K k1 k2 => by
      refine br K (w_otherOf_s e61 hn hc hk k64 kc two ⟨v2, fun y => ⟨fun y2 => absurd y2 npk, fun _ => ⟨vk, ?_, ?_⟩⟩, fun y => ?_⟩)
      · rw [ck]; rw [c2] at y; exact (k1 y).1
      · rw [ck]; rw [c2] at y; exact (k1 y).2
      · rw [c2] at y
        refine w_al F.hS hc F.h88 (by omega) ⟨fun y2 => absurd y2 npk, fun _ => ⟨vk, ?_, ?_⟩⟩
        · rw [ck, psh_f (by decide)]; exact (k2 y).1
        · rw [ck, psh_f (by decide)]; exact (k2 y).2
    have hch : t 69 k = 2 → ∀ i, i < cn t 61 → t 64 i = nI p → t 69 i ≠ 0 := fun k2 i hi e => by
      by_cases eic : i = c
      · rw [eic]
        rcases F.hhow with w | w <;> rw [w] <;> decide
      · rw [two i hi e eic, k2]; decide
    refine oth _ ⟨rfl, fun y => ⟨fun _ => ⟨rfl, rfl, fun y2 => ⟨fun y3 => absurd rfl y3, fun _ => ?_⟩, fun y2 => ⟨fun _ => ?_, fun y3 => absurd y3 (by decide)⟩⟩, fun y2 => (ne021 y2.symm).elim⟩, fun y => ⟨fun y2 => (ne021 y2.symm).elim, fun _ => ⟨rfl, rfl, fun y2 => ⟨fun _ => ⟨rfl, fun e1 ee1 => ?_⟩, fun y3 => absurd rfl y3⟩, fun y2 => ⟨fun y3 => absurd y3 (by decide), fun _ => ⟨rfl, fun e19 ee19 => ?_⟩⟩⟩⟩⟩
    · -- both failed
      have kn : t 69 k = 2 := khow.resolve_left (fun w => y2 (e11k.trans w))
      have cn1 : ¬ t 69 c = 1 := fun w => y (e11.trans w)
      have cn2 : t 69 c = 2 := F.hhow.resolve_left cn1
      have nk0 : ¬ t 69 k = 0 := by rw [kn]; decide
      obtain ⟨fc, hfc, efc⟩ := (F.hS.iH c hc).2.1 cn2
      obtain ⟨fk', hfk, efk⟩ := (F.hS.iH k hk).2.1 kn
      have k71 : t 71 k = 0 := (F.hS.iH k hk).2.2.2.1 (by rw [kn]; decide)
      rw [if_pos cn2, efc, rn_j (by omega)] at e16c
      rw [if_pos kn, efk, rn_j (by omega)] at e16k
      have e6 : N.2.1 22 fc 6 = rn 22 (t 29 fc) := F.hS.R (22, 6, 22, 29, 23) (by decide) fc hfc
      have vf : vp_in (nI fc) 4400 := vp_in_nI (by omega) (by decide)
      have cf : (nI fc).toNatClampNeg = fc := nI_clamp (by omega)
      have m58 : ∀ K : DB → Prop, (fc = fk' ∨ ¬ t 29 fc = -1 → K (psh t h 1 (nI p) (t 69 k) (t 70 k) (t 71 k))) → (fc ≠ fk' → t 29 fc = -1 → K (psh (up t 29 fc (nI fk')) h 1 (nI p) (t 69 k) (t 70 k) (t 71 k))) → w_hedgeTold_58 (nI p) (nI c) (nI k) t K := fun K k1 k2 => by
        rw [kn, efk, k71] at k1 k2
        refine ⟨fun y3 => absurd y3 npk, fun _ => ⟨vk, fun _ => ⟨v2, fun x3 g3 => ⟨vk, fun x4 g4 => ?_⟩⟩, fun y3 => ?_⟩⟩
        · rw [c2, efc] at g3
          rw [ck, efk] at g4
          subst g3; subst g4
          refine ⟨fun y3 => ?_, fun y3 => ⟨vf, fun y4 => ?_, fun y4 => ⟨vf, fun t5 g5 => ?_⟩⟩⟩
          · exact w_add_s F.h88 (by omega) (k1 (Or.inl ((nI_eq (by omega) (by omega)).mp y3)))
          · rw [cf] at y4
            exact w_add_s F.h88 (by omega) (k1 (Or.inr y4))
          · rw [cf] at y4 g5
            subst g5
            exact w_add_s ((up_f (by decide)).trans F.h88) (by omega) (k2 (fun e => y3 (by rw [e])) y4)
        · rw [ck] at y3; exact absurd kn y3
      refine ⟨rfl, fun e5 ee5 => ⟨rfl, fun e6' ee6 => ?_⟩⟩
      have q5 : e5 = (22, fc) := ee5.trans e16c
      have q6 : e6' = (22, fk') := ee6.trans e16k
      subst q5; subst q6
      have same : (fc = fk' ∨ ¬ t 29 fc = -1) → ∀ e9, e9 = N.2.1 15 g 7 → kt e9.1 = 0 ∧ cq (n + 3 + 10) mX0_alike [.inr e9, .inr (21, p), .inr (21, k)] N (fun r N' => r = none ∧ TG b X m z P t h p c N') := fun hw e9 ee9 => by
        have q9 : e9 = (1, 0) := ee9.trans nl
        subst q9
        refine ⟨rfl, told_fin (fun K hK => mo K (fun _ => ⟨fun _ => m58 K (fun _ => hK) (fun a b => ?_), fun w => absurd w nk0⟩) (fun w => absurd w cn1)) (al N t k F.hD TF.rf hk (Or.inr kn) (hch kn)).2⟩
        rcases hw with w | w
        · exact absurd w a
        · exact absurd b w
      refine ⟨rfl, rfl, fun e1 ee1 => ?_⟩
      have q1 : e1 = rn 22 (t 29 fc) := ee1.trans e6
      refine ⟨fun w => ⟨rfl, same (Or.inr (fun w2 => w (by rw [q1, w2]; rfl)))⟩, fun w => ⟨fun w2 => ⟨rfl, same (Or.inl (congrArg Prod.snd w2).symm)⟩, fun w2 => ⟨rfl, fun M2 g2 => ⟨rfl, fun e9 ee9 => ?_⟩⟩⟩⟩
      have m1 : t 29 fc = -1 := by
        rcases (F.hS.iX fc hfc).2.2 with w3 | ⟨i, hi, w3⟩
        · exact w3
        · rw [w, w3, rn_j (by omega)] at q1
          exact absurd (congrArg Prod.fst q1) (by show ¬ 0 = 22; decide)
      have nfk : fc ≠ fk' := fun e => w2 (by rw [e])
      have q9 : e9 = (1, 0) := by
        rw [ee9, g2]
        exact (sR_ne (by simp)).trans nl
      subst q9; subst g2
      exact ⟨rfl, told_fin (fun K hK => mo K (fun _ => ⟨fun _ => m58 K (fun w3 => absurd w3 (fun w4 => w4.elim nfk (fun w5 => w5 m1))) (fun _ _ => hK), fun w => absurd w nk0⟩) (fun w => absurd w cn1)) (al _ _ k (F.hD.sup (f := fc) (v := fk') hfk) (TF.rf.wu _ _ (by decide)) hk (Or.inr kn) (hch kn)).2⟩
    · -- the other one is still under way
      have k0 : t 69 k = 0 := e11k.symm.trans y2
      have cn1 : ¬ t 69 c = 1 := fun w => y (e11.trans w)
      have cn2 : t 69 c = 2 := F.hhow.resolve_left cn1
      have hP : I_P t := by
        intro i hi h0 r hr e64
        by_cases er : r = p
        · subst er
          refine ⟨F.h69, fun g' hg' h65' j hj hji ej => Or.inl ?_⟩
          have eg : g' = g := (nI_eq (by omega) (by omega)).mp (h65'.symm.trans F.h65)
          subst eg
          refine ⟨h31, ?_⟩
          by_cases ejc' : j = c
          · rw [ejc']; exact Or.inr cn2
          · rw [two j hj ej ejc']; exact khow
        · exact hIx i hi h0 r hr er e64
      refine ⟨t, t, fun K hK => mo K (fun _ => ⟨fun w => absurd k0 w, fun _ => hK⟩) (fun w => absurd w cn1), RUN.rf, ⟨F.h88, fun _ _ _ _ _ => rfl⟩, ⟨F.hS, hP⟩, MO.rf, fun _ _ _ _ => rfl, fun E hW i hi h0 hE g' hg' h65' j hj ej => ?_⟩
      by_cases eip : i = p
      · subst eip
        have eg : g' = g := (nI_eq (by omega) (by omega)).mp (h65'.symm.trans F.h65)
        subst eg
        have p76 := ((F.hS.iZ i hp).1 g' hg F.h65).2.2.1 (by rw [h31]; decide)
        by_cases ejc' : j = c
        · rw [ejc']; exact Or.inr ⟨cn2, Or.inr (Or.inl h31)⟩
        · rw [two j hj ej ejc']; exact Or.inl ⟨k0, by rw [p76]; decide⟩
      · exact hW i hi h0 (fun y' => y'.elim hE eip) g' hg' h65' j hj ej
    · -- good, the other one has failed
      have kn : t 69 k = 2 := khow.resolve_left (fun w => y2 (e11k.trans w))
      have c1' : t 69 c = 1 := e11.symm.trans y
      have q1 : e1 = (1, 0) := ee1.trans nl
      subst q1
      exact ⟨rfl, told_fin (fun K hK => mo K (fun w => absurd c1' w) (fun _ => ⟨fun _ => hK, fun w => absurd (kn.symm.trans w) (by decide)⟩)) (al N t c F.hD TF.rf hc F.hhow (hch kn)).2⟩
    · -- good, the other one is taken back
      have k0 : t 69 k = 0 := e11k.symm.trans y2
      have c1' : t 69 c = 1 := e11.symm.trans y
      have q19 : e19 = (1, 0) := ee19.trans nl
      subst q19
      obtain ⟨u, u1, len, u2⟩ := told_5t hE hE0 q hk k64 kc k0
      refine ⟨rfl, u2.mono ?_⟩
      rintro r N' ⟨hr, n15, hA⟩
      refine ⟨nI len, hr, rfl, fun e1 ee1 => ?_⟩
      have q1 : e1 = (1, 0) := ee1.trans n15
      subst q1
      exact ⟨rfl, told_fin (fun K hK => mo K (fun w => absurd c1' w) (fun _ => ⟨fun w => absurd k0 w, fun _ => u1 K hK⟩)) hA⟩
