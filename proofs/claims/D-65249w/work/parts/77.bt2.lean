set_option maxRecDepth 100000
/-! a fallback's try begins -/
theorem NCn.fb {N N' : Mem} {t : DB} {c o d p : Nat} {gv sv fb jv v : Int32} (hpc : p ≠ c) (b : NCn (sI N 21 p 10 v) N' t c o d true p gv sv fb jv) : NCn N N' t c o d true p gv sv fb jv := by
  obtain ⟨hf, i21, i14, r21, i31, r31, i30, r30, x21, x30, rm1, rm2, rm3⟩ := b
  have hf0 : NF N (sI N 21 p 10 v) [21, 30, 31] := NF.rf.wI _ _ _ (by decide)
  refine ⟨fun k hk => ?_, fun i f hf14 => ?_, fun i hi => ?_, r21, fun i => ?_, r31, fun i => ?_, r30, x21, x30, rm1, rm2, rm3⟩
  · obtain ⟨a1, a2, a3⟩ := hf k hk
    obtain ⟨b1, b2, b3⟩ := hf0 k hk
    exact ⟨a1.trans b1, a2.trans b2, a3.trans b3⟩
  · rw [i21 i f hf14]
    by_cases e : i = c
    · rw [if_pos e, if_pos e]
    · rw [if_neg e, if_neg e]
      by_cases y : f = 10 ∧ true = true ∧ i = p
      · rw [if_pos y, if_pos y]
      · rw [if_neg y, if_neg y, sI_ne (fun q => y ⟨q.2.2, rfl, q.2.1⟩)]
  · rw [i14 i hi, sI_ne (by simp)]
  · rw [i31 i, sI_ne (by simp), sI_ne (by simp)]
  · rw [i30 i, sI_ne (by simp)]
theorem iP_new {t t' : DB} {c o d p g : Nat} {gv sv jv lv : Int32} (hI : I_P t) (hC : I_C t) (hc : cn t 61 = c) (hc2 : c ≤ 4019) (a : NCt t t' c o d true p gv sv jv lv) (hpc : p < c) (hp0 : t 69 p = 0) (h65 : t 65 p = nI g) (hg : g < cn t 30) (h24 : cn t 30 ≤ 24) (hsib : ∀ j, j < c → t 64 j = nI p → (t 31 g = 5 ∧ (t 69 j = 0 ∨ t 69 j = 2)) ∨ ((t 31 g = 4 ∨ t 31 g = 6) ∧ t 69 j = 2)) : I_P t' := by
  obtain ⟨ht, a61, av⟩ := a
  have c61 : cn t' 61 = c + 1 := by
    unfold cn
    rw [a61, up_s, nI_clamp (by omega)]
  have vo : ∀ f, 62 ≤ f → f ≤ 79 → f ≠ 73 → ∀ i, i ≠ c → t' f i = t f i := fun f h1 h2 h3 i hi => by rw [av f h1 h2, if_neg hi, if_neg (fun e => h3 e.1)]
  have e64 : t' 64 c = nI p := by rw [av 64 (by decide) (by decide), if_pos rfl]; rfl
  have e69 : t' 69 c = 0 := by rw [av 69 (by decide) (by decide), if_pos rfl]; rfl
  have hpne : p ≠ c := by omega
  intro k hk k0 q hq e
  rw [c61] at hk hq ⊢
  rw [ht.cn (by decide), ht 31 (by decide)]
  by_cases ek : k = c
  · subst ek
    rw [e64] at e
    have eq : p = q := (nI_eq (by omega) (by omega)).mp e
    subst eq
    refine ⟨by rw [vo 69 (by decide) (by decide) (by decide) p hpne]; exact hp0, fun g' hg' e1 j hj hjk e2 => ?_⟩
    rw [vo 65 (by decide) (by decide) (by decide) p hpne] at e1
    have : g' = g := (nI_eq (by omega) (by omega)).mp (e1.symm.trans h65)
    subst this
    rw [vo 64 (by decide) (by decide) (by decide) j hjk] at e2
    rw [vo 69 (by decide) (by decide) (by decide) j hjk]
    rcases hsib j (by omega) e2 with w | ⟨w1, w2⟩
    · exact Or.inl w
    · exact Or.inr ⟨w1, by omega, w2⟩
  · rw [vo 69 (by decide) (by decide) (by decide) k ek] at k0
    rw [vo 64 (by decide) (by decide) (by decide) k ek] at e
    have hqc : q ≠ c := fun y => by
      obtain ⟨_, _, _, _, _, _, _, _, _, _, _, _, pp, _⟩ := hC k (by omega)
      rcases pp with ⟨-, pp⟩ | ⟨p', e', q1, q2, -⟩
      · exact nI_m1 (by omega) (e.symm.trans pp)
      · have := (nI_eq (by omega) (by omega)).mp (e.symm.trans q2)
        omega
    obtain ⟨i1, i2⟩ := hI k (by omega) k0 q (by omega) e
    refine ⟨by rw [vo 69 (by decide) (by decide) (by decide) q hqc]; exact i1, fun g' hg' e1 j hj hjk e2 => ?_⟩
    rw [vo 65 (by decide) (by decide) (by decide) q hqc] at e1
    by_cases ej : j = c
    · subst ej
      rw [e64] at e2
      have eq : p = q := (nI_eq (by omega) (by omega)).mp e2
      subst eq
      have : g' = g := (nI_eq (by omega) (by omega)).mp (e1.symm.trans h65)
      subst this
      rw [e69]
      rcases hsib k (by omega) e with ⟨w, -⟩ | ⟨-, w⟩
      · exact Or.inl ⟨w, Or.inl rfl⟩
      · exact absurd (k0.symm.trans w) (by decide)
    · rw [vo 64 (by decide) (by decide) (by decide) j ej] at e2
      rw [vo 69 (by decide) (by decide) (by decide) j ej]
      exact i2 g' hg' e1 j (by omega) hjk e2
theorem bt_in {X : Mem} {m z : Nat} {P : List Nat} {N : Mem} {t : DB} {h p o s g e : Nat} (hS : SZ X m z P 100000 N t) (hIP : I_P t) (hh : h + 1 < 20000) (h88 : t 88 0 = nI h) (hp : p < cn t 61) (hp0 : t 69 p = 0) (hch : ∀ k, k < cn t 61 → t 64 k = nI p → t 69 k = 2) (h65 : t 65 p = nI g) (hg : g < cn t 30) (h31 : t 31 g = 6) (h73 : t 73 p = 1) (ho : o < cn t 50) (h62 : t 62 p = nI o) (he : e ≤ 5) (h63 : t 63 p = nI e) (hs : s < cn t 1) :
    ∃ t', RUN (psh t h 0 (nI o) (nI e + 1) (nI p) (nI s)) t' ∧ pfr h t t' ∧ MO t t' ∧ (∀ k, k < cn t 61 → t' 69 k = t 69 k) ∧ WK p t t' ∧ ∀ Q : Mem → Prop, (∀ N', SS X m z P 100000 N' t' → Q N') → v_X0_beginTry (1, 0) (20, o) (nI e + 1) (21, p) (nI s) (sI N 21 p 10 1) Q := by
  have hn := hS.nC
  have h24 : cn t 30 ≤ 24 := hS.iB.2.2.2.1.2
  have h8 : cn t 1 ≤ 8 := hS.iB.1.2
  have h50 : cn t 50 ≤ 60 := hS.iB.2.2.2.2.2.1.2
  have h47 : cn t 47 ≤ 10 := hS.iB.2.2.2.2.1.2
  obtain ⟨n, en⟩ : ∃ n, n = cn t 11 := ⟨_, rfl⟩
  have hn11 : t 11 0 = nI n ∧ n ≤ 30 := by rw [en]; exact hS.iB.2.2.1
  obtain ⟨c, ec⟩ : ∃ c, c = cn t 61 := ⟨_, rfl⟩
  have hpop : ∀ t0, t0 = pop (psh t h 0 (nI o) (nI e + 1) (nI p) (nI s)) h → TF t t0 [83, 84, 85, 86, 87, 88] := fun t0 e0 => by
    rw [e0]
    exact (psh_TF.tr pop_TF).mono (by decide)
  obtain ⟨t0, e0⟩ : ∃ t0, t0 = pop (psh t h 0 (nI o) (nI e + 1) (nI p) (nI s)) h := ⟨_, rfl⟩
  have ht0 := hpop t0 e0
  have t088 : t0 88 0 = nI h := by rw [e0]; exact up_s
  have t0lo : ∀ f, 83 ≤ f → f ≤ 87 → ∀ i, i < h → t0 f i = t f i := fun f h1 h2 i hi => by
    rw [e0]
    show up _ 88 0 _ f i = _
    rw [up_f (by omega)]
    exact psh_lo h1 h2 hi
  have hS0 : SZ X m z P 100000 N t0 := hS.tt (ht0.mono (by decide))
  have hI0 : I_P t0 := hIP.fr ht0 (by decide)
  have z61 : cn t0 61 = c := by rw [ht0.cn (by decide), ec]
  have z610 : t0 61 0 = nI c := by rw [ht0 61 (by decide), ec]; exact hS.iB.2.2.2.2.2.2.1.1
  obtain ⟨o', T, hT, d', y1, y2, y3, y4, y5, y6, y7, y8, y9, y10⟩ := hS.iC p hp
  have eo : o' = o := (nI_eq (by omega) (by omega)).mp (y2.symm.trans h62)
  subst eo
  have ee : d' = e := (nI_eq (by omega) (by omega)).mp (y8.symm.trans h63)
  subst ee
  have hgd : d' < hT ∧ t 65 p = t 49 (5 * T + d') := by
    rcases y10 with ⟨q, -⟩ | ⟨q1, q2, -⟩
    · exact absurd (h65.symm.trans q) (nI_m1 (by omega))
    · exact ⟨q1, q2⟩
  have hpc : p < c := by omega
  obtain ⟨zz, -⟩ := hS.iZ p hp
  obtain ⟨-, z1, z4, -, -⟩ := zz g hg h65
  have h75 := (z1 (by rw [h31]; decide)).1
  have h76 := z4 (by rw [h31]; decide)
  have a := nCm_t (t := t0) (c := c) (o := o') (d := d' + 1) (pb := true) (p := p) (gv := -1) (sv := nI s) (fun _ => hpc)
  have w : NCp t0 c o' (d' + 1) true p (-1) (nI s) 1 (-1) 0 := by
    unfold NCp
    rw [ht0.cn (by decide), ht0.cn (by decide), ht0.cn (by decide), ht0.cn (by decide), ht0 51 (by decide), ht0 48 (by decide), ht0 62 (by decide), ht0 63 (by decide), ht0 65 (by decide), ht0 49 (by decide), ht0 75 (by decide), ht0 76 (by decide), ht0 31 (by decide), ht0 78 (by decide), ht0 73 (by decide)]
    refine ⟨y1, ⟨T, hT, y3, y4, y5, y6, by omega, Or.inr ⟨d', rfl, hpc, h62, rfl, h63, hgd.1, hgd.2⟩, Or.inl ⟨rfl, s, hs, rfl⟩⟩, fun q => absurd q (by decide), fun _ => ⟨h75, h76, fun g' hg' e1 => ?_⟩, fun _ => ⟨rfl, rfl⟩, fun g' hg' e1 => absurd e1.symm (nI_m1 (by omega))⟩
    have : g' = g := (nI_eq (by omega) (by omega)).mp (e1.symm.trans h65)
    subst this
    exact ⟨fun q => absurd (h31.symm.trans q) (by decide), 1, h73, by decide, fun _ => by decide, fun _ _ q => absurd h31 q, fun _ => rfl⟩
  have hU := rem_par hS0 z61 a w (fun _ _ _ _ _ => rfl)
  have hc19 : c ≤ 4019 := by
    rw [ht0.cn (f := 50) (by decide)] at hU
    omega
  obtain ⟨t1, e1⟩ : ∃ t1, t1 = nCm t0 c o' (d' + 1) true p (-1) (nI s) := ⟨_, rfl⟩
  rw [← e1] at a hU
  have ht1 := a.1
  have c61 : cn t1 61 = c + 1 := by
    unfold cn
    rw [a.2.1, up_s, nI_clamp (by omega)]
  have vo : ∀ f, 62 ≤ f → f ≤ 79 → f ≠ 73 → ∀ i, i ≠ c → t1 f i = t0 f i := fun f h1 h2 h3 i hi => by rw [a.2.2 f h1 h2, if_neg hi, if_neg (fun e => h3 e.1)]
  have vn : ∀ f, 62 ≤ f → f ≤ 79 → t1 f c = nV o' (d' + 1) (nI p) (-1) (nI s) (t0 0 0) (-1) 0 f := fun f h1 h2 => by rw [a.2.2 f h1 h2, if_pos rfl]; rfl
  have v73 : ∀ i, i ≠ c → i ≠ p → t1 73 i = t0 73 i := fun i hi hip => by rw [a.2.2 73 (by decide) (by decide), if_neg hi, if_neg (fun q => hip q.2.2)]
  have hv0 : t1 0 0 = t 0 0 := by rw [ht1 0 (by decide), ht0 0 (by decide)]
  obtain ⟨v, ev⟩ : ∃ v, v = teV t1 (nI s) (t1 53 o') (t 0 0 + t 4 s) n := ⟨_, rfl⟩
  have n11 : t1 11 0 = nI n := by rw [ht1 11 (by decide), ht0 11 (by decide)]; exact hn11.1
  have htf : TF t (up t1 72 c v) (CC ++ [83, 84, 85, 86, 87, 88]) := fun f hf => by
    have h1 : f ∉ CC := fun q => hf (List.mem_append_left _ q)
    have h2 : f ∉ [83, 84, 85, 86, 87, 88] := fun q => hf (List.mem_append_right _ q)
    rw [← ht0 f h2, ← ht1 f h1]
    funext i
    exact up_f (fun q => h1 (by rw [q]; decide))
  refine ⟨up t1 72 c v, ?_, ⟨?_, fun f h1 h2 i hi => ?_⟩, ?_, fun k hk => ?_, fun E hW i hi h0 hE g' hg' h65' j hj ej => ?_, fun Q hQ => ?_⟩
  · refine run_st psh_88 (by omega) (fun K hK => Or.inl ⟨psh_83, ?_⟩)
    rw [psh_84, psh_85, psh_86, psh_87, ← e0, nI_1]
    refine w_begins_s (pb := true) (gv := -1) (sv := nI s) z610 (by omega) (by omega) (fun _ => hpc) (Or.inl ⟨nI_pos (by omega), rfl, rfl⟩) ?_
    rw [← e1]
    have cc : (nI c).toNatClampNeg = c := nI_clamp (by omega)
    have co : (nI o').toNatClampNeg = o' := nI_clamp (by omega)
    have cs : (nI s).toNatClampNeg = s := nI_clamp (by omega)
    have vc : vp_in (nI c) 4400 := vp_in_nI (by omega) (by decide)
    refine ⟨fun _ => ⟨vc, vp_in_nI (by omega) (by decide), ?_⟩, fun y => absurd (by decide) y⟩
    rw [cc, co, show t1 66 c = nI s from vn 66 (by decide) (by decide)]
    refine ⟨vp_in_nI (by omega) (by decide), fun x1 ex1 => ⟨n + 1, ?_⟩⟩
    rw [cs, hv0, ht1 4 (by decide), ht0 4 (by decide)] at ex1
    subst ex1
    refine w_tryEnd_l (t := t1) (v := t 0 0 + t 4 s) n11 hn11.2 ⟨vc, fun t3 e3 => ?_⟩ n 0 (by omega)
    rw [e3, ← ev]
    exact hK
  · rw [up_f (by decide), ht1 88 (by decide)]; exact t088
  · rw [up_f (by omega), ht1 f (by simp; omega)]; exact t0lo f h1 h2 i hi
  · have c72 : cn (up t1 72 c v) 61 = c + 1 := c61
    refine ⟨htf.mono (by decide), by rw [c72]; omega, fun i hi => ⟨fun f hf => ?_, fun _ => ?_, fun g' hg' q => ⟨fun q6 => ?_, fun _ => ?_⟩⟩, fun i h1 h2 => ?_, by rw [htf.cn (by decide)]; exact Nat.le_refl _, MK.of htf (by decide) (by decide)⟩
    · have hf2 : 62 ≤ f ∧ f ≤ 79 ∧ f ≠ 73 ∧ f ≠ 72 := (by decide : ∀ f ∈ KC, 62 ≤ f ∧ f ≤ 79 ∧ f ≠ 73 ∧ f ≠ 72) f hf
      rw [up_f hf2.2.2.2, vo f hf2.1 hf2.2.1 hf2.2.2.1 i (by omega), ht0 f (by simp; omega)]
    · rw [up_f (by decide), up_f (by decide), up_f (by decide), vo 69 (by decide) (by decide) (by decide) i (by omega), vo 70 (by decide) (by decide) (by decide) i (by omega), vo 71 (by decide) (by decide) (by decide) i (by omega), ht0 69 (by decide), ht0 70 (by decide), ht0 71 (by decide)]
      exact ⟨rfl, rfl, rfl⟩
    · rw [up_f (by decide), v73 i (by omega) (fun y => by
        subst y
        have : g' = g := (nI_eq (by omega) (by omega)).mp (q.symm.trans h65)
        subst this
        exact q6 h31), ht0 73 (by decide)]
    · rw [up_n (by omega), vo 72 (by decide) (by decide) (by decide) i (by omega), ht0 72 (by decide)]
    · rw [c72] at h2
      have : i = c := by omega
      subst this
      exact ⟨vn 65 (by decide) (by decide), vn 78 (by decide) (by decide), vn 74 (by decide) (by decide)⟩
  · rw [up_f (by decide), vo 69 (by decide) (by decide) (by decide) k (by omega), ht0 69 (by decide)]
  · have c72 : cn (up t1 72 c v) 61 = c + 1 := c61
    rw [c72] at hi hj
    rw [htf.cn (by decide)] at hg'
    rw [up_f (by decide)] at h0 h65' ej
    rw [up_f (by decide), up_f (by decide), show up t1 72 c v 31 = t 31 from htf 31 (by decide)]
    have hic : i ≠ c := fun y => by
      rw [y, show t1 65 c = -1 from vn 65 (by decide) (by decide)] at h65'
      exact nI_m1 (by omega) h65'.symm
    have w65 : t1 65 i = t 65 i := by rw [vo 65 (by decide) (by decide) (by decide) i (by omega), ht0 65 (by decide)]
    have w69 : t1 69 i = t 69 i := by rw [vo 69 (by decide) (by decide) (by decide) i (by omega), ht0 69 (by decide)]
    have w76 : t1 76 i = t 76 i := by rw [vo 76 (by decide) (by decide) (by decide) i (by omega), ht0 76 (by decide)]
    rw [w65] at h65'
    rw [w69] at h0
    rw [w76]
    by_cases ejc : j = c
    · rw [ejc] at ej ⊢
      have x64 : t1 64 c = nI p := vn 64 (by decide) (by decide)
      have eip : i = p := (nI_eq (by omega) (by omega)).mp (ej.symm.trans x64)
      subst eip
      refine Or.inl ⟨vn 69 (by decide) (by decide), ?_⟩
      have := ((hS.iZ i hp).1 g hg h65).2.2.1 (by rw [h31]; decide)
      rw [this]; decide
    · have x64 : t1 64 j = t 64 j := by rw [vo 64 (by decide) (by decide) (by decide) j (by omega), ht0 64 (by decide)]
      have x69 : t1 69 j = t 69 j := by rw [vo 69 (by decide) (by decide) (by decide) j (by omega), ht0 69 (by decide)]
      rw [x64] at ej
      rw [x69]
      have hj2 : j < cn t 61 := by omega
      have hi2 : i < cn t 61 := by omega
      by_cases eip : i = p
      · subst eip
        have eg : g' = g := (nI_eq (by omega) (by omega)).mp (h65'.symm.trans h65)
        subst eg
        exact Or.inr ⟨hch j hj2 ej, Or.inr (Or.inr h31)⟩
      · exact hW i hi2 h0 (fun y => y.elim hE eip) g' hg' h65' j hj2 ej
  · have tm0 : (sI N 21 p 10 1).1 1 0 0 = t0 0 0 := by rw [sI_ne (by simp)]; exact hS0.W.2.1
    obtain ⟨r1, r2⟩ := rom_s hS0
    have h9 : (sI N 21 p 10 1).1 30 9 0 = nI c := by rw [sI_ne (by simp)]; exact (hS0.S (9, 61, 0) (by decide)).trans z610
    rw [nI_1]
    refine ⟨rfl, v_add_g (c := c) (tm0 := t0 0 0) (by omega) r1 r2 (hS0.E (21, 61) (by decide) c (by show cn t0 61 ≤ c; omega)) (hS0.E (31, 61) (by decide) c (by show cn t0 61 ≤ c; omega)) (hS0.W.1 9 (by decide) (by decide)) h9 tm0 (fun p' hp' => ?_) (Or.inr ⟨p, hpc, rfl⟩) (fun q => absurd (congrArg Prod.fst q) (by show ¬ 21 = 0; decide)) (fun p' hp' ep' => ?_)⟩
    · obtain ⟨nn, q1, q2, q3, q4⟩ := hS0.within (p := p') (by omega)
      exact ⟨q3, nn, q1, by rw [sI_ne (by simp)]; exact q4⟩
    · have : p = p' := congrArg Prod.snd ep'
      subst this
      have b0 := nC_n1 (N := sI N 21 p 10 1) (t := t0) (c := c) (o := o') (d := d' + 1) (p := p) (gv := -1) (sv := nI s) h9 (by omega) hpc
      rw [show (sI N 21 p 10 1).1 21 p 10 = 1 from if_pos ⟨rfl, rfl, rfl⟩] at b0
      rw [show gn t0 (-1) = (0, 0) from rfl] at b0
      have b := b0.fb (by omega)
      have hS1 := hS0.newC z61 a b w hU
      have s14 : (lAdd (nCb (sI N 21 p 10 1) c o' (d' + 1) (21, p) (0, 0) (nI s) (t0 0 0)) (31, p) (21, c)).1 21 c 14 = 0 := by
        rw [lAdd_i, if_neg (by simp), nCb_i21, if_pos rfl]; rfl
      generalize lAdd (nCb (sI N 21 p 10 1) c o' (d' + 1) (21, p) (0, 0) (nI s) (t0 0 0)) (31, p) (21, c) = M1 at hS1 s14 ⊢
      have k1 : M1.1 30 2 0 = nI (cn t 1) := (hS1.S (2, 1, 0) (by decide)).trans (by show t1 1 0 = _; rw [ht1 1 (by decide), ht0 1 (by decide)]; exact hS.iB.1.1)
      have k2 : M1.2.1 30 2 s = (3, s) := hS1.K (2, 3, 1) (by decide) s (by show s < cn t1 1; rw [ht1.cn (by decide), ht0.cn (by decide)]; exact hs)
      have k3 : M1.1 3 s 1 = t 4 s := (hS1.I (3, 1, 4, 1) (by decide) s (by show s < cn t1 1; rw [ht1.cn (by decide), ht0.cn (by decide)]; exact hs)).trans (by show t1 4 s = _; rw [ht1 4 (by decide), ht0 4 (by decide)])
      have k4 : M1.1 1 0 0 = t 0 0 := hS1.W.2.1.trans hv0
      refine ⟨rfl, rfl, fun e3 ee3 => ?_⟩
      have q3 : e3 = (30, 2) := ee3.trans (hS1.W.1 2 (by decide) (by decide))
      subst q3
      refine ⟨⟨by decide, by decide⟩, ⟨nI_pos (by omega), ?_⟩, fun e4 ee4 => ?_⟩
      · show nI s < M1.1 30 2 0
        rw [k1]; exact nI_lt hs (by omega)
      rw [nI_clamp (by omega)] at ee4
      have q4 : e4 = (3, s) := ee4.trans k2
      subst q4
      refine ⟨rfl, rfl, rfl, fun M5 g5 => ⟨n + 1, ?_⟩⟩
      have g5' : M5 = sI M1 21 c 15 (t 0 0 + t 4 s) := by
        rw [g5]
        show sI M1 21 c 15 (M1.1 1 0 0 + M1.1 3 s 1) = _
        rw [k4, k3]
      subst g5'
      have ho1 : o' < cn t1 50 := by rw [ht1.cn (by decide), ht0.cn (by decide)]; exact ho
      refine v_try_l (t := t1) (v := t 0 0 + t 4 s) (n := n) ho1 (by omega) n11 hn11.2 (fun q => absurd (congrArg Prod.fst q) (by show ¬ 21 = 0; decide)) (fun N' hN' h14 => ?_) n 0 (by omega) _ hS1.due (by rw [sI_ne (by simp)]; exact s14)
      rw [← ev] at hN'
      have t75 : t1 75 c = 0 := vn 75 (by decide) (by decide)
      have t76 : t1 76 c = 0 := vn 76 (by decide) (by decide)
      have t74 : t1 74 c = -1 := vn 74 (by decide) (by decide)
      have t65 : t1 65 c = -1 := vn 65 (by decide) (by decide)
      have hz : stOf (up t1 72 c v) c = 0 := by
        unfold stOf
        rw [up_f (by decide), up_f (by decide), up_f (by decide), t75, t76, t74, if_neg (by decide), if_neg (by decide), if_pos (by decide)]
      refine hQ N' ⟨hN'.live (by have nu := newU z61 hc19 hS0.iU a; exact nu) (h14.trans hz.symm) (fun g' q1 q2 => ?_), ?_⟩
      · rw [up_f (by decide), t65] at q1
        rw [show cn (up t1 72 c v) 30 = cn t1 30 from rfl, ht1.cn (by decide), ht0.cn (by decide)] at q2
        exact absurd q1.symm (nI_m1 (by omega))
      · have hP1 : I_P t1 := iP_new (g := g) hI0 hS0.iC z61 hc19 a hpc (by rw [ht0 69 (by decide)]; exact hp0) (by rw [ht0 65 (by decide)]; exact h65) (by rw [ht0.cn (by decide)]; exact hg) (by rw [ht0.cn (by decide)]; exact h24) (fun j hj q => by
          rw [ht0 64 (by decide)] at q
          rw [ht0 31 (by decide), ht0 69 (by decide)]
          exact Or.inr ⟨Or.inr h31, hch j (by omega) q⟩)
        exact hP1.fr (TF.rf.wu (c := 72) c v (by decide) : TF t1 (up t1 72 c v) [72]) (by decide)
