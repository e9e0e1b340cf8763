set_option maxRecDepth 100000
/-! an order's first call begins -/
theorem SZ.first {X : Mem} {m o : Nat} {P : List Nat} {x : Nat} {N : Mem} {t : DB} {c : Nat} (h : SZ X m o P x N t) (ho : o < cn t 50) (hc : c < cn t 61) (h62 : t 62 c = nI o) (h64 : t 64 c = -1) (h69 : t 69 c = 0) (h58 : t 58 o = 0) (h8 : N.1 20 o 8 = 0) : SZ X m 60 P x (sR N 20 o 7 (21, c)) t := by
  have hf : NF N (sR N 20 o 7 (21, c)) [20] := NF.rf.wR _ _ _ (by decide)
  have ht : TF t t [] := TF.rf
  have hI : S_I (sR N 20 o 7 (21, c)) t := h.I
  have hN : S_N (sR N 20 o 7 (21, c)) t := h.N
  have hR : S_R (sR N 20 o 7 (21, c)) t := by
    intro q hq i hi
    rw [sR_at, if_neg (fun y => absurd ⟨y.1, y.2.2⟩ ((by decide : ∀ q ∈ TR, ¬ (q.1 = 20 ∧ q.2.1 = 7)) q hq))]
    exact h.R q hq i hi
  have hO : S_O 60 (sR N 20 o 7 (21, c)) t := by
    intro o' ho' hne
    have e7 : (sR N 20 o 7 (21, c)).2.1 20 o' 7 = if o' = o then (21, c) else N.2.1 20 o' 7 := by
      show (if 20 = 20 ∧ o' = o ∧ 7 = 7 then (21, c) else N.2.1 20 o' 7) = _
      by_cases y : o' = o
      · rw [if_pos ⟨rfl, y, rfl⟩, if_pos y]
      · rw [if_neg (fun q => y q.2.1), if_neg y]
    rw [e7]
    by_cases e : o' = o
    · subst e
      rw [if_pos rfl]
      refine ⟨?_, c, hc, rfl, h62, h64, Or.inr (Or.inl ⟨h69, h58⟩)⟩
      show N.1 20 o' 8 = _
      rw [h8, h58, if_neg (by decide)]
    · have old := h.O o' ho' e
      rw [if_neg e]
      exact old
  exact ⟨hI, hR, hN, h.K.fr hf (by decide) ht (by decide), h.S.fr hf (by decide) ht (by decide), h.E.fr rfl ht (by decide), h.W.fr hf (by decide) ht (by decide), h.P1.fr hf (by decide) ht (by decide), h.P2.fr hf (by decide) ht (by decide), h.G.fr hf (by decide) ht (by decide), h.G0.fr hf (by decide) ht (by decide), h.G1.fr hf (by decide) ht (by decide), h.G2.fr hf (by decide) ht (by decide), h.G7.fr hf (by decide) ht (by decide), h.T.fr hf (by decide) ht (by decide), h.U.fr hf (by decide) ht (by decide), h.C.fr hf (by decide) ht (by decide), h.V.fr hf (by decide) ht (by decide), hO, h.A.fr hf (by decide) ht (by decide), h.Y.fr hf (by decide) ht (by decide), h.Q.fr hf (by decide) ht (by decide), h.B.fr ht (by decide), h.F.fr hf (by decide), h.M.fr rfl ht (by decide), h.iB.fr ht (by decide), h.iG.fr ht (by decide), h.iT.fr ht (by decide), h.iO.fr ht (by decide), h.iC.fr ht (by decide), h.iH.fr ht (by decide), h.iZ.fr ht (by decide), h.iL.fr ht (by decide), h.iR.fr ht (by decide), h.iX.fr ht (by decide), h.iU.fr ht (by decide), h.iD.fr ht (by decide), h.iK.fr ht (by decide), h.iY.fr ht (by decide), h.J.fr ht (by decide), h.GT.fr hf (by decide) ht (by decide), h.H.fr hf (by decide) ht (by decide)⟩
theorem sR_cm {N : Mem} {k i f k' i' f' : Nat} {a b : Nat × Nat} (hne : ¬ (k = k' ∧ i = i' ∧ f = f')) : sR (sR N k i f a) k' i' f' b = sR (sR N k' i' f' b) k i f a := by
  refine Prod.ext rfl (Prod.ext ?_ rfl)
  funext x y z
  show (if _ then _ else if _ then _ else _) = (if _ then _ else if _ then _ else _)
  by_cases q1 : x = k' ∧ y = i' ∧ z = f'
  · rw [if_pos q1, if_neg (fun q2 => hne ⟨q2.1.symm.trans q1.1, q2.2.1.symm.trans q1.2.1, q2.2.2.symm.trans q1.2.2⟩), if_pos q1]
  · rw [if_neg q1]
    by_cases q2 : x = k ∧ y = i ∧ z = f
    · rw [if_pos q2, if_pos q2]
    · rw [if_neg q2, if_neg q2, if_neg q1]
/-- what holds ahead of an order's first call -/
def RP0 (X : Mem) (m : Nat) (P : List Nat) (N : Mem) (t : DB) (h o T hT : Nat) : Prop := SZ X m o P 100000 N t ∧ I_P t ∧ h + 1100 ≤ 10000 ∧ o < cn t 50 ∧ (t 51 o = nI T ∧ T < cn t 47 ∧ t 48 T = nI hT ∧ hT ≤ 5) ∧ (∀ l, l < cn t 61 → t 62 l ≠ nI o) ∧ t 58 o = 0 ∧ N.1 20 o 8 = 0 ∧ sumTo (cn t 61) (remC t) + cn t 61 + 67 ≤ 67 * cn t 50 ∧ t 88 0 = nI h
theorem RP0.w {X : Mem} {m : Nat} {P : List Nat} {N : Mem} {t : DB} {h o T hT : Nat} {gv sv jv lv : Int32} (q : RP0 X m P N t h o T hT) (hgv : (gv = -1 ∧ ∃ s, s < cn t 1 ∧ sv = nI s) ∨ (0 < hT ∧ gv = t 49 (5 * T + 0) ∧ sv = -1)) (j1 : (gv = -1 ∨ ∃ g', g' < cn t 30 ∧ gv = nI g' ∧ t 31 g' ≠ 8) → jv = -1 ∧ lv = 0)
    (j2 : ∀ g', g' < cn t 30 → gv = nI g' → t 31 g' = 8 → (lv = 1 ∧ jv = -1 ∧ ∀ k, k < cn t 61 → t 69 k = 0 → t 78 k = 1 → t 65 k = gv → ∀ o', o' < cn t 50 → t 62 k = nI o' → ¬ (t 52 o' = t 52 o ∧ t 53 o' = t 53 o ∧ t 54 o' = t 54 o)) ∨ (lv = 0 ∧ ∃ l, l < cn t 61 ∧ jv = nI l ∧ t 65 l = gv ∧ t 78 l = 1 ∧ ∀ o', o' < cn t 50 → t 62 l = nI o' → t 52 o = t 52 o' ∧ t 53 o = t 53 o' ∧ t 54 o = t 54 o')) : NCp t (cn t 61) o 0 false 0 gv sv 0 jv lv := by
  obtain ⟨hS, hP, hh, ho, ⟨hT1, hT2, hT3, hT4⟩, hno, h58, h8, hcap, h88⟩ := q
  exact ⟨ho, ⟨T, hT, hT1, hT2, hT3, hT4, by omega, Or.inl ⟨rfl, rfl⟩, hgv⟩, fun _ l hl _ => hno l hl, fun y => absurd y (by decide), j1, j2⟩
theorem RP0.u {X : Mem} {m : Nat} {P : List Nat} {N : Mem} {t t1 : DB} {h o T hT : Nat} {gv sv jv lv : Int32} (q : RP0 X m P N t h o T hT) (hg : gv = -1 ∨ (0 < hT ∧ gv = t 49 (5 * T + 0) ∧ ¬ gv < 0)) (a : NCt t t1 (cn t 61) o 0 false 0 gv sv jv lv) : sumTo (cn t 61) (remC t1) + remC t1 (cn t 61) + cn t 61 + 1 ≤ 67 * cn t 50 := by
  obtain ⟨hS, hP, hh, ho, ⟨hT1, hT2, hT3, hT4⟩, hno, h58, h8, hcap, h88⟩ := q
  have h47 : cn t 47 ≤ 10 := hS.iB.2.2.2.2.1.2
  have h50 : cn t 50 ≤ 60 := hS.iB.2.2.2.2.2.1.2
  have r1 := rem_new (T := T) (h := hT) a (by omega) hT1 (by omega) hT3 hT4 (by omega) hg
  rw [List.drop_zero] at r1
  have r2 := cap_67 hS hT2 hT3 hT4
  have er : ∀ c, c < cn t 61 → remC t1 c = remC t c := fun c hc => by
    have ht := a.1
    have vo : ∀ f, 62 ≤ f → f ≤ 79 → t1 f c = t f c := fun f h1 h2 => by rw [a.2.2 f h1 h2, if_neg (by omega), if_neg (fun e => absurd e.2.1 (by decide))]
    unfold remC capD srt
    rw [vo 65 (by decide) (by decide), ht 31 (by decide), vo 73 (by decide) (by decide), ht 51 (by decide), vo 62 (by decide) (by decide), ht 48 (by decide), ht 49 (by decide), vo 63 (by decide) (by decide)]
  rw [sumTo_congr er]
  omega
theorem RP0.ip {X : Mem} {m : Nat} {P : List Nat} {N : Mem} {t t1 : DB} {h o T hT : Nat} {gv sv jv lv : Int32} (q : RP0 X m P N t h o T hT) (hc19 : cn t 61 ≤ 4019) (a : NCt t t1 (cn t 61) o 0 false 0 gv sv jv lv) : I_P t1 := by
  obtain ⟨hS, hP, hh, ho, -, hno, h58, h8, hcap, h88⟩ := q
  have ht := a.1
  have c61 : cn t1 61 = cn t 61 + 1 := by
    show (t1 61 0).toNatClampNeg = _
    rw [a.2.1, up_s, nI_clamp (by omega)]
  have vo : ∀ f, 62 ≤ f → f ≤ 79 → ∀ i, i ≠ cn t 61 → t1 f i = t f i := fun f h1 h2 i hi => by rw [a.2.2 f h1 h2, if_neg hi, if_neg (fun e => absurd e.2.1 (by decide))]
  have v64 : t1 64 (cn t 61) = -1 := by rw [a.2.2 64 (by decide) (by decide), if_pos rfl]; rfl
  intro k hk h0 p hp e
  rw [c61] at hk hp
  have hkc : k ≠ cn t 61 := fun y => by
    rw [y, v64] at e
    exact nI_m1 (by omega) e.symm
  rw [vo 64 (by decide) (by decide) k hkc] at e
  rw [vo 69 (by decide) (by decide) k hkc] at h0
  have hpk : p < k := by
    rcases hS.par k (by omega) with y | ⟨p', y1, y2⟩
    · exact absurd (e.symm.trans y) (nI_m1 (by omega))
    · have : p = p' := (nI_eq (by omega) (by omega)).mp (e.symm.trans y2)
      omega
  obtain ⟨i1, i2⟩ := hP k (by omega) h0 p (by omega) e
  refine ⟨by rw [vo 69 (by decide) (by decide) p (by omega)]; exact i1, fun g hg h65 j hj hjk ej => ?_⟩
  rw [ht.cn (by decide)] at hg
  rw [c61] at hj
  have hjc : j ≠ cn t 61 := fun y => by
    rw [y, v64] at ej
    exact nI_m1 (by omega) ej.symm
  rw [vo 65 (by decide) (by decide) p (by omega)] at h65
  rw [vo 64 (by decide) (by decide) j hjc] at ej
  rw [ht 31 (by decide), vo 69 (by decide) (by decide) j hjc]
  exact i2 g hg h65 j (by omega) hjk ej
theorem RT {n : Nat} (hn70 : 100 ≤ n) {X : Mem} {m : Nat} {P : List Nat} {N : Mem} {t : DB} {h o T hT : Nat} (q0 : RP0 X m P N (pop t h) h o T hT) (h88 : t 88 0 = nI (h + 1)) (h83 : t 83 h = 0) (h84 : t 84 h = nI o) (h85 : t 85 h = 0) (h86 : t 86 h = -1) (h87 : t 87 h = -1) : cq (n + 14) mX0_begin [.inr (1, 0), .inr (20, o), .inl 0, .inr (0, 0)] N (fun r N' => r = none ∧ ∃ t', PB (cn t 61) X m 60 P N' t' h t t) := by
  have zt : ∀ f, f ∉ [83, 84, 85, 86, 87, 88] → pop t h f = t f := fun f hf => pop_TF f hf
  have zW : WA t (pop t h) := WA.pop
  have zM : MO t (pop t h) := MO.pop
  have zlo : ∀ f, 83 ≤ f → f ≤ 87 → ∀ i, i < h → pop t h f i = t f i := fun f h1 h2 i _ => up_f (by omega)
  generalize ep : pop t h = t0 at *
  have q0' := q0
  obtain ⟨hS0, hP0, hh, ho0, ⟨hT1, hT2, hT3, hT4⟩, hno, h58, h8, hcap, h880⟩ := q0'
  have hn := hS0.nC
  have h24 : cn t0 30 ≤ 24 := hS0.iB.2.2.2.1.2
  have h50 : cn t0 50 ≤ 60 := hS0.iB.2.2.2.2.2.1.2
  have h47 : cn t0 47 ≤ 10 := hS0.iB.2.2.2.2.1.2
  have zn : ∀ f, f ∉ [83, 84, 85, 86, 87, 88] → cn t0 f = cn t f := fun f hf => cn_fr (zt f hf)
  have hc19 : cn t0 61 ≤ 4019 := by omega
  have c61 : t0 61 0 = nI (cn t0 61) := hS0.iB.2.2.2.2.2.2.1.1
  have eT : N.2.1 20 o 6 = (42, T) := by
    have := hS0.R (20, 6, 42, 51, 50) (by decide) o ho0
    rw [hT1, rn_j (by omega)] at this
    exact this
  obtain ⟨tl, te⟩ := hS0.T T hT2
  rw [hT3, nI_clamp (by omega)] at tl te
  have len : N.2.2.1 (42, T).1 (42, T).2 - 1 = hT := by
    show N.2.2.1 42 T - 1 = hT
    rw [tl]
    omega
  have nz : N.2.2.1 (42, T).1 (42, T).2 ≠ 0 := by show N.2.2.1 42 T ≠ 0; omega
  have b9 : N.1 30 9 0 = nI (cn t0 61) := (hS0.S (9, 61, 0) (by decide)).trans c61
  -- the run of the pile's first job
  have hw : ∀ (gv sv : Int32) (u : DB), ((0 < hT ∧ gv = t0 49 (5 * T + 0) ∧ ¬ gv < 0 ∧ sv = -1) ∨ (hT = 0 ∧ gv = -1 ∧ sv = t0 52 o)) → (∀ K : DB → Prop, K u → w_begins_219 (nI o) (nI (cn t0 61)) gv (nCm t0 (cn t0 61) o 0 false 0 gv sv) K) → RUN t u := fun gv sv u hgs hu => by
    refine run_st h88 (by omega) (fun K hK => Or.inl ⟨h83, ?_⟩)
    rw [h84, h85, h86, h87, ep]
    refine w_begins_s (pb := false) (p := 0) (d := 0) (gv := gv) (sv := sv) c61 (by omega) (by omega) (fun y => absurd y (by decide)) (Or.inr ⟨by decide, T, hT, by omega, hT4, hT1, hT3, ?_⟩) (hu K hK)
    rcases hgs with ⟨y1, y2, y3, y4⟩ | ⟨y1, y2, y3⟩
    · exact Or.inr ⟨y1, y2, y3, y4⟩
    · exact Or.inl ⟨by omega, by omega, y2, y3⟩
  have fin : ∀ (gv sv jv lv : Int32) (N' : Mem) (t1 u t' : DB), NCt t0 t1 (cn t0 61) o 0 false 0 gv sv jv lv → RUN t u → PB (cn t0 61) X m 60 P N' t' h t1 u → (∀ g, g < cn t0 30 → gv = nI g → (t0 31 g = 3 ∨ t0 31 g = 5) → t' 73 (cn t0 61) = 1) → PB (cn t 61) X m 60 P N' t' h t t := by
    intro gv sv jv lv N' t1 u t' a hr hb hs3
    obtain ⟨b1, b2, b3, b4, b5⟩ := hb
    have wa := WA.new hS0 rfl hc19 (fun y => absurd y (by decide)) (fun y => absurd y (by decide)) a
    obtain ⟨mb, -⟩ := MB.new (q := cn t 61) rfl hc19 (fun y => absurd y (by decide)) (fun y => absurd y (by decide)) a b4 hs3
    refine ⟨hr.tr b1, ⟨b2.1, fun f h1 h2 i hi => ?_⟩, b3, (MB.of zM (by rw [← zn 30 (by decide)]; exact h24)).tr mb (fun y1 y2 => by rw [zn 61 (by decide)] at y2; omega), zW.tr (wa.tr b5)⟩
    rw [b2.2 f h1 h2 i hi, a.1 f (by simp; omega)]
    exact zlo f h1 h2 i hi
  show cq (n + 3 + 11) mX0_begin [.inr (1, 0), .inr (20, o), .inl (nI 0), .inr (0, 0)] N _
  refine sv_X0_begin (d := n + 3) (Q := fun N' => ∃ t', PB (cn t 61) X m 60 P N' t' h t t) (fun N' w => ⟨rfl, w⟩) ⟨rfl, fun e2 ee2 => ?_⟩
  have q2 : e2 = (42, T) := ee2.trans eT
  subst q2
  refine ⟨⟨rfl, nz⟩, fun y => ⟨rfl, fun e3 ee3 => ?_⟩, fun y => ⟨rfl, rfl, ?_⟩⟩
  · -- guarded
    rw [len] at y
    have hd5 : 0 < hT := Nat.pos_of_ne_zero (fun e => y (by rw [e]))
    obtain ⟨gd, hgd, egd⟩ : ∃ gd, gd < cn t0 30 ∧ t0 49 (5 * T + 0) = nI gd := by
      obtain ⟨h', i1, i2, i3, -⟩ := hS0.iT T (Or.inl hT2)
      have : h' = hT := (nI_eq (by omega) (by omega)).mp (i2.symm.trans hT3)
      subst this
      exact i3 0 hd5
    obtain ⟨s, hs9, es, -⟩ := hS0.iG gd hgd
    have gvd : ¬ nI gd < 0 := nI_pos (by omega)
    have hgs : ∀ g', g' < cn t0 30 → nI gd = nI g' → g' = gd := fun g' hg' e => ((nI_eq (by omega) (by omega)).mp e).symm
    have a := nCm_t (t := t0) (c := cn t0 61) (o := o) (d := 0) (pb := false) (p := 0) (gv := nI gd) (sv := -1) (fun y => absurd y (by decide))
    have wg : (nI gd = -1 ∧ ∃ s, s < cn t0 1 ∧ (-1 : Int32) = nI s) ∨ (0 < hT ∧ nI gd = t0 49 (5 * T + 0) ∧ (-1 : Int32) = -1) := Or.inr ⟨hd5, egd.symm, rfl⟩
    have ug : nI gd = -1 ∨ (0 < hT ∧ nI gd = t0 49 (5 * T + 0) ∧ ¬ nI gd < 0) := Or.inr ⟨hd5, egd.symm, gvd⟩
    have hcP : cn t0 61 ∉ P := fun y => by
      have := (hS0.J _ y).1
      omega
    have eG : N.2.1 42 T 0 = (10 + s, gd) := by
      rw [te 0 hd5, egd, gn_j (by omega) es hs9]
    have gne : gn t0 (nI gd) = (10 + s, gd) := gn_j (by omega) es hs9
    have b := nC_n0 (N := N) (t := t0) (c := cn t0 61) (o := o) (d := 0) (p := 0) (gv := nI gd) (sv := -1) (fb := 0) b9 (by omega)
    have q3 : e3 = (42, T) := ee3.trans eT
    subst q3
    refine ⟨⟨rfl, nz, by rw [len]; exact vp_in_nI hd5 (by omega)⟩, fun e4 ee4 => ?_⟩
    rw [nI_clamp (by omega)] at ee4
    have q4 : e4 = gn t0 (nI gd) := ee4.trans (eG.trans gne.symm)
    subst q4
    refine ⟨rfl, v_add_s hS0 (Or.inl rfl) (fun _ => ?_) (fun p' _ y => (ne021 y).elim)⟩
    have s14 : (nCb N (cn t0 61) o 0 (0, 0) (gn t0 (nI gd)) (-1) (t0 0 0)).1 21 (cn t0 61) 14 = 0 := by
      rw [nCb_i21, if_pos rfl]; rfl
    have s6 : (nCb N (cn t0 61) o 0 (0, 0) (gn t0 (nI gd)) (-1) (t0 0 0)).2.1 21 (cn t0 61) 6 = (10 + s, gd) := by
      rw [b.2.2.2.1, if_pos rfl, ← gne]; rfl
    have s8' : (nCb N (cn t0 61) o 0 (0, 0) (gn t0 (nI gd)) (-1) (t0 0 0)).2.1 21 (cn t0 61) 8 = (0, 0) := by
      rw [b.2.2.2.1, if_pos rfl]; rfl
    have s20 : (nCb N (cn t0 61) o 0 (0, 0) (gn t0 (nI gd)) (-1) (t0 0 0)).1 20 o 8 = 0 := by
      rw [(b.1 20 (by decide)).1]; exact h8
    have sM := b.2.2.2.2.2.2.2.2.2.2.2.1
    have s10 := (b.1 10 (by decide)).2.1
    -- the relation with the first call set
    have hfs : ∀ jv lv t', NCt t0 t' (cn t0 61) o 0 false 0 (nI gd) (-1) jv lv → NCp t0 (cn t0 61) o 0 false 0 (nI gd) (-1) 0 jv lv → SZ X m 60 P (cn t0 61) (sR (sR (nCb N (cn t0 61) o 0 (0, 0) (gn t0 (nI gd)) (-1) (t0 0 0)) 20 o 7 (21, cn t0 61)) 21 (cn t0 61) 8 (rn 21 jv)) t' := fun jv lv t' a' w => by
      have z1 := hS0.newC rfl a' b.jn w (q0.u ug a')
      have k61 : cn t' 61 = cn t0 61 + 1 := by
        show (t' 61 0).toNatClampNeg = _
        rw [a'.2.1, up_s, nI_clamp (by omega)]
      have vn : ∀ f, 62 ≤ f → f ≤ 79 → t' f (cn t0 61) = nV o 0 (-1) (nI gd) (-1) (t0 0 0) jv lv f := fun f h1 h2 => by rw [a'.2.2 f h1 h2, if_pos rfl]; rfl
      have z2 := z1.first (c := cn t0 61) (by rw [a'.1.cn (by decide)]; exact ho0) (by rw [k61]; omega) (vn 62 (by decide) (by decide)) (vn 64 (by decide) (by decide)) (vn 69 (by decide) (by decide)) (by rw [a'.1 58 (by decide)]; exact h58) s20
      rw [sR_cm (fun y => absurd y.1 (by decide))] at z2
      exact z2
    refine ⟨fun y => absurd rfl y, fun _ => ⟨rfl, fun M9 g9 => ⟨rfl, fun e10 ee10 => ?_⟩⟩⟩
    have q10 : e10 = (10 + s, gd) := by
      rw [ee10, g9]
      exact (sR_ne (fun y => absurd y.1 (by show ¬ 21 = 20; decide))).trans s6
    subst q10; subst g9
    refine ⟨⟨by show 10 ≤ 10 + s; omega, by show 10 + s ≤ 19; omega⟩, ?_⟩
    have t14 : (sR (nCb N (cn t0 61) o 0 (0, 0) (gn t0 (nI gd)) (-1) (t0 0 0)) 20 o 7 (21, cn t0 61)).1 21 (cn t0 61) 14 = 0 := s14
    have t8 : (sR (nCb N (cn t0 61) o 0 (0, 0) (gn t0 (nI gd)) (-1) (t0 0 0)) 20 o 7 (21, cn t0 61)).2.1 21 (cn t0 61) 8 = (0, 0) := (sR_ne (fun y => absurd y.1 (by decide))).trans s8'
    obtain ⟨k, hk⟩ : ∃ k, hT = 0 + 1 + k := ⟨hT - 1, by omega⟩
    have hB : CB k n := CB_all k n (by omega)
    have hB1 : CB k (n + 1) := CB_all k (n + 1) (by omega)
    by_cases s8 : s = 8
    · subst s8
      have jb : JBP X m 60 P (sR (nCb N (cn t0 61) o 0 (0, 0) (gn t0 (nI gd)) (-1) (t0 0 0)) 20 o 7 (21, cn t0 61)) t0 h (cn t0 61) gd o 0 0 hT false := by
        refine ⟨rfl, hc19, fun y => absurd y (by decide), ⟨X, o, N, hS0⟩, fun jv lv t' a' hj => ?_, t8, t14, ⟨hh, Nat.le_refl _⟩, hcP, hgd, es, ho0, h880, ⟨T, hT1, hT2, hT3, hT4, hd5, egd.symm⟩⟩
        have w := q0.w (jv := jv) (lv := lv) wg (fun y => by
          exfalso
          rcases y with y | ⟨g', hg', e, y⟩
          · exact nI_m1 (by omega) y
          · rw [hgs g' hg' e] at y; exact y es) (fun _ _ _ _ => hj)
        exact ⟨hfs jv lv t' a' w, q0.ip hc19 a'⟩
      refine (gb_8 hB1 jb hk).mono ?_
      rintro r N' ⟨hr, u, t', hu, hb⟩
      refine ⟨hr, t', fin _ _ _ _ N' _ u t' a (hw (nI gd) (-1) u (Or.inl ⟨hd5, egd.symm, gvd, rfl⟩) (fun K hK => ⟨fun y => absurd y gvd, fun _ => hu K hK⟩)) hb (fun g' hg' e y => ?_)⟩
      rw [hgs g' hg' e, es] at y
      rcases y with y | y <;> exact absurd y (by decide)
    · have w := q0.w (jv := -1) (lv := 0) wg (fun _ => ⟨rfl, rfl⟩) (fun g' hg' e y => by
        rw [hgs g' hg' e, es] at y
        exact absurd ((nI_eq (by omega) (by omega)).mp (show nI s = nI 8 from y)) s8)
      have hS1 := hfs (-1) 0 _ a w
      rw [show rn 21 (-1) = (0, 0) from rfl, sR_id t8] at hS1
      have gp := GBP.mk (pb := false) (p := 0) (T := T) (fb := 0) hS0 rfl hc19 a hS1 (q0.ip hc19 a) sM t14 ((funext fun i => funext fun f => sR_ne (fun y => absurd y.1 (by decide))).trans s10) ⟨hh, Nat.le_refl _⟩ hcP hgd es hs9 ho0 h880 ⟨hT1, hT2, hT3, hT4, hd5, egd.symm⟩
      refine (gb_all (by omega) hB hB1 gp s8 hk).mono ?_
      rintro r N' ⟨hr, u, t', hu, hb, h3⟩
      refine ⟨hr, t', fin _ _ _ _ N' _ u t' a (hw (nI gd) (-1) u (Or.inl ⟨hd5, egd.symm, gvd, rfl⟩) (fun K hK => ⟨fun y => absurd y gvd, fun _ => hu K hK⟩)) hb (fun g' hg' e y => h3 ?_)⟩
      rw [hgs g' hg' e, es] at y
      rcases y with y | y
      · exact Or.inl ((nI_eq (by omega) (by omega)).mp (show nI s = nI 3 from y))
      · exact Or.inr ((nI_eq (by omega) (by omega)).mp (show nI s = nI 5 from y))
  · -- a bare try
    rw [len] at y
    have hT0 : hT = 0 := ((nI_eq (by omega) (by omega)).mp y).symm
    obtain ⟨-, ⟨s, hs, e52⟩, -⟩ := hS0.iO o ho0
    have w := q0.w (gv := -1) (sv := nI s) (jv := -1) (lv := 0) (Or.inl ⟨rfl, s, hs, rfl⟩) (fun _ => ⟨rfl, rfl⟩) (fun g' hg' y => absurd y.symm (nI_m1 (by omega)))
    have a := nCm_t (t := t0) (c := cn t0 61) (o := o) (d := 0) (pb := false) (p := 0) (gv := -1) (sv := nI s) (fun y => absurd y (by decide))
    obtain ⟨v, m1, m2⟩ := try_g hS0 rfl (fun y => absurd y (by decide)) w (fun y => absurd y (by decide)) (q0.u (Or.inl rfl) a) hs
    have e1 : N.1 20 o 1 = nI s := (hS0.I (20, 1, 52, 50) (by decide) o ho0).trans e52
    show v_X0_beginTry (1, 0) (20, o) (nI 0) (0, 0) (N.1 20 o 1) N _
    rw [e1]
    have tf72 : TF (nCm t0 (cn t0 61) o 0 false 0 (-1) (nI s)) (up (nCm t0 (cn t0 61) o 0 false 0 (-1) (nI s)) 72 (cn t0 61) v) [72] := TF.rf.wu _ _ (by decide)
    refine m2 _ (fun N' hN' h20 => ⟨fun y => absurd y (by decide), fun _ => ⟨up (nCm t0 (cn t0 61) o 0 false 0 (-1) (nI s)) 72 (cn t0 61) v, ?_⟩⟩)
    have k61 : cn (nCm t0 (cn t0 61) o 0 false 0 (-1) (nI s)) 61 = cn t0 61 + 1 := by
      show (nCm t0 (cn t0 61) o 0 false 0 (-1) (nI s) 61 0).toNatClampNeg = _
      rw [a.2.1, up_s, nI_clamp (by omega)]
    have vn : ∀ f, 62 ≤ f → f ≤ 79 → nCm t0 (cn t0 61) o 0 false 0 (-1) (nI s) f (cn t0 61) = nV o 0 (-1) (-1) (nI s) (t0 0 0) (-1) 0 f := fun f h1 h2 => by rw [a.2.2 f h1 h2, if_pos rfl]; rfl
    have e20 : N'.1 20 o 8 = 0 := h20.trans h8
    have hF := hN'.first (c := cn t0 61) (by rw [tf72.cn (by decide), a.1.cn (by decide)]; exact ho0) (by rw [tf72.cn (by decide), k61]; omega) (by rw [tf72 62 (by decide)]; exact vn 62 (by decide) (by decide)) (by rw [tf72 64 (by decide)]; exact vn 64 (by decide) (by decide)) (by rw [tf72 69 (by decide)]; exact vn 69 (by decide) (by decide)) (by rw [tf72 58 (by decide), a.1 58 (by decide)]; exact h58) e20
    refine fin _ _ _ _ _ _ _ _ a (hw (-1) (nI s) _ (Or.inr ⟨hT0, rfl, e52.symm⟩) m1) ⟨RUN.rf, ⟨by rw [tf72 88 (by decide), a.1 88 (by decide)]; exact h880, fun f h1 h2 i hi => by rw [tf72 f (by simp; omega)]⟩, ⟨hF, (q0.ip hc19 a).fr tf72 (by decide)⟩, MB.ofT tf72 (by decide) (fun i hi => up_n (fun y => hi y.2)), WA.of tf72 (by decide)⟩ (fun g' hg' y => absurd y.symm (nI_m1 (by omega)))
