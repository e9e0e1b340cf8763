set_option maxRecDepth 100000
/-! a call begins -/
/-- a try begins -/
theorem try_g {X : Mem} {m z : Nat} {P : List Nat} {N : Mem} {t0 : DB} {c o d p s : Nat} {pb : Bool} {fb : Int32} (hS0 : SZ X m z P 100000 N t0) (hc : cn t0 61 = c) (hpc : pb = true → p < c) (w : NCp t0 c o d pb p (-1) (nI s) fb (-1) 0) (hfb : pb = true → N.1 21 p 10 = fb) (hU : sumTo c (remC (nCm t0 c o d pb p (-1) (nI s))) + remC (nCm t0 c o d pb p (-1) (nI s)) c + c + 1 ≤ 67 * cn t0 50) (hs : s < cn t0 1) :
    ∃ v, (∀ K : DB → Prop, K (up (nCm t0 c o d pb p (-1) (nI s)) 72 c v) → w_begins_219 (nI o) (nI c) (-1) (nCm t0 c o d pb p (-1) (nI s)) K) ∧ ∀ Q : Mem → Prop, (∀ N', SZ X m z P 100000 N' (up (nCm t0 c o d pb p (-1) (nI s)) 72 c v) → N'.1 20 o 8 = N.1 20 o 8 → (pb = true → Q N') ∧ (pb = false → Q (sR N' 20 o 7 (21, c)))) → v_X0_beginTry (1, 0) (20, o) (nI d) (if pb then (21, p) else (0, 0)) (nI s) N Q := by
  have hn := hS0.nC
  have h24 : cn t0 30 ≤ 24 := hS0.iB.2.2.2.1.2
  have h8 : cn t0 1 ≤ 8 := hS0.iB.1.2
  have h50 : cn t0 50 ≤ 60 := hS0.iB.2.2.2.2.2.1.2
  have ho : o < cn t0 50 := w.1
  obtain ⟨n, en⟩ : ∃ n, n = cn t0 11 := ⟨_, rfl⟩
  have hn11 : t0 11 0 = nI n ∧ n ≤ 30 := by rw [en]; exact hS0.iB.2.2.1
  have hc19 : c ≤ 4019 := by omega
  have a := nCm_t (t := t0) (c := c) (o := o) (d := d) (pb := pb) (p := p) (gv := -1) (sv := nI s) hpc
  generalize nCm t0 c o d pb p (-1) (nI s) = t1 at *
  have ht1 := a.1
  have c61 : cn t1 61 = c + 1 := by
    unfold cn
    rw [a.2.1, up_s, nI_clamp (by omega)]
  have vn : ∀ f, 62 ≤ f → f ≤ 79 → t1 f c = nV o d (if pb then nI p else -1) (-1) (nI s) (t0 0 0) (-1) 0 f := fun f h1 h2 => by rw [a.2.2 f h1 h2, if_pos rfl]
  have hv0 : t1 0 0 = t0 0 0 := by rw [ht1 0 (by decide)]
  have n11 : t1 11 0 = nI n := by rw [ht1 11 (by decide)]; exact hn11.1
  have t66 : t1 66 c = nI s := vn 66 (by decide) (by decide)
  have cc : (nI c).toNatClampNeg = c := nI_clamp (by omega)
  have co : (nI o).toNatClampNeg = o := nI_clamp (by omega)
  have cs : (nI s).toNatClampNeg = s := nI_clamp (by omega)
  have vc : vp_in (nI c) 4400 := vp_in_nI (by omega) (by decide)
  have nu := newU hc hc19 hS0.iU a
  refine ⟨teV t1 (nI s) (t1 53 o) (t0 0 0 + t0 4 s) n, fun K hK => ?_, fun Q hQ => ?_⟩
  · refine ⟨fun _ => ⟨vc, vp_in_nI (by omega) (by decide), ?_⟩, fun y => absurd (by decide) y⟩
    rw [cc, co, t66]
    refine ⟨vp_in_nI (by omega) (by decide), fun x1 ex1 => ⟨n + 1, ?_⟩⟩
    rw [cs, hv0, ht1 4 (by decide)] at ex1
    subst ex1
    refine w_tryEnd_l (t := t1) (v := t0 0 0 + t0 4 s) n11 hn11.2 ⟨vc, fun t3 e3 => ?_⟩ n 0 (by omega)
    rw [e3]
    exact hK
  · have b9 : N.1 30 9 0 = nI c := (hS0.S (9, 61, 0) (by decide)).trans (by rw [← hc]; exact hS0.iB.2.2.2.2.2.2.1.1)
    have fin : ∀ M1, NCn N M1 t0 c o d pb p (-1) (nI s) fb (-1) → M1.1 21 c 14 = 0 → kt (1, 0).1 = 0 ∧ (kt (1, 0).1 = 0 ∧ (∀ e_3 : Nat × Nat, e_3 = M1.2.1 1 0 2 → (lk e_3.1 ∧ (¬ nI s < 0 ∧ nI s < M1.1 e_3.1 e_3.2 0) ∧ (∀ e_4 : Nat × Nat, e_4 = M1.2.1 e_3.1 e_3.2 (nI s).toNatClampNeg → (kt e_4.1 = 2 ∧ (kt e_4.1 = 2 ∧ (kt (21, c).1 = 16 ∧ (∀ M_5 : Mem, M_5 = sI M1 21 c 15 ((M1.1 1 0 0) + (M1.1 e_4.1 e_4.2 1)) → (∃ n, v_X0_beginTry_40 n (1, 0) (20, o) (if pb then (21, p) else (0, 0)) (nI s) (21, c) 0 M_5 Q))))))))) := by
      intro M1 b s14
      have hS1 := hS0.newC hc a b w hU
      have k1 : M1.1 30 2 0 = nI (cn t0 1) := (hS1.S (2, 1, 0) (by decide)).trans (by show t1 1 0 = _; rw [ht1 1 (by decide)]; exact hS0.iB.1.1)
      have k2 : M1.2.1 30 2 s = (3, s) := hS1.K (2, 3, 1) (by decide) s (by show s < cn t1 1; rw [ht1.cn (by decide)]; exact hs)
      have k3 : M1.1 3 s 1 = t0 4 s := (hS1.I (3, 1, 4, 1) (by decide) s (by show s < cn t1 1; rw [ht1.cn (by decide)]; exact hs)).trans (by show t1 4 s = _; rw [ht1 4 (by decide)])
      have k4 : M1.1 1 0 0 = t0 0 0 := hS1.W.2.1.trans hv0
      refine ⟨rfl, rfl, fun e3 ee3 => ?_⟩
      have q3 : e3 = (30, 2) := ee3.trans (hS1.W.1 2 (by decide) (by decide))
      subst q3
      refine ⟨⟨by decide, by decide⟩, ⟨nI_pos (by omega), ?_⟩, fun e4 ee4 => ?_⟩
      · show nI s < M1.1 30 2 0
        rw [k1]; exact nI_lt hs (by omega)
      rw [cs] at ee4
      have q4 : e4 = (3, s) := ee4.trans k2
      subst q4
      refine ⟨rfl, rfl, rfl, fun M5 g5 => ⟨n + 1, ?_⟩⟩
      have g5' : M5 = sI M1 21 c 15 (t0 0 0 + t0 4 s) := by
        rw [g5]
        show sI M1 21 c 15 (M1.1 1 0 0 + M1.1 3 s 1) = _
        rw [k4, k3]
      subst g5'
      have ho1 : o < cn t1 50 := by rw [ht1.cn (by decide)]; exact ho
      refine v_try_g (t := t1) (v := t0 0 0 + t0 4 s) (w8 := N.1 20 o 8) (n := n) ho1 (by omega) n11 hn11.2 (fun N' hN' h14 => ?_) n 0 (by omega) _ hS1.due ⟨by rw [sI_ne (by simp)]; exact s14, by rw [sI_ne (by simp), (b.1 20 (by decide)).1]⟩
      have t75 : t1 75 c = 0 := vn 75 (by decide) (by decide)
      have t76 : t1 76 c = 0 := vn 76 (by decide) (by decide)
      have t74 : t1 74 c = -1 := vn 74 (by decide) (by decide)
      have t65 : t1 65 c = -1 := vn 65 (by decide) (by decide)
      generalize teV t1 (nI s) (t1 53 o) (t0 0 0 + t0 4 s) n = v at *
      have hz : stOf (up t1 72 c v) c = 0 := by
        unfold stOf
        rw [up_f (by decide), up_f (by decide), up_f (by decide), t75, t76, t74, if_neg (by decide), if_neg (by decide), if_pos (by decide)]
      have hL := hN'.live nu (h14.1.trans hz.symm) (fun g' q1 q2 => by
        rw [up_f (by decide), t65] at q1
        rw [show cn (up t1 72 c v) 30 = cn t1 30 from rfl, ht1.cn (by decide)] at q2
        exact absurd q1.symm (nI_m1 (by omega)))
      obtain ⟨r1, r2⟩ := hQ N' hL h14.2
      cases pb
      · exact ⟨fun y => absurd rfl y, fun _ => r2 rfl⟩
      · exact ⟨fun _ => r1 rfl, fun y => (ne021 y.symm).elim⟩
    subst hc
    cases pb
    · refine ⟨rfl, v_add_s hS0 (Or.inl rfl) (fun _ => ?_) (fun p' _ y => (ne021 y).elim)⟩
      have b := nC_n0 (N := N) (t := t0) (c := cn t0 61) (o := o) (d := d) (p := p) (gv := -1) (sv := nI s) (fb := fb) b9 (by omega)
      rw [show gn t0 (-1) = (0, 0) from rfl] at b
      have s14 : (nCb N (cn t0 61) o d (0, 0) (0, 0) (nI s) (t0 0 0)).1 21 (cn t0 61) 14 = 0 := by
        rw [nCb_i21, if_pos rfl]; rfl
      exact fin _ b s14
    · have hp' := hpc rfl
      refine ⟨rfl, v_add_s hS0 (Or.inr ⟨p, hp', rfl⟩) (fun y => (ne021 y.symm).elim) (fun p' _ y => ?_)⟩
      have : p = p' := congrArg Prod.snd y
      subst this
      have b := nC_n1 (N := N) (t := t0) (c := cn t0 61) (o := o) (d := d) (p := p) (gv := -1) (sv := nI s) b9 (by omega) hp'
      rw [hfb rfl, show gn t0 (-1) = (0, 0) from rfl] at b
      have s14 : (lAdd (nCb N (cn t0 61) o d (21, p) (0, 0) (nI s) (t0 0 0)) (31, p) (21, cn t0 61)).1 21 (cn t0 61) 14 = 0 := by
        rw [lAdd_i, if_neg (by simp), nCb_i21, if_pos rfl]; rfl
      exact fin _ b s14
theorem MB.new {q : Nat} {t t1 t' : DB} {c o d p : Nat} {pb : Bool} {gv sv jv lv : Int32} (hc : cn t 61 = c) (hc2 : c ≤ 4019) (hpq : pb = true → q = p) (hpc : pb = true → p < c) (a : NCt t t1 c o d pb p gv sv jv lv) (b : MB c t1 t') (hn : ∀ g, g < cn t 30 → gv = nI g → (t 31 g = 3 ∨ t 31 g = 5) → t' 73 c = 1) : MB q t t' ∧ (pb = true → ∀ g, g < cn t 30 → t 65 p = nI g → (t 31 g ≠ 6 → t' 73 p = t 73 p + 1) ∧ (t 31 g ≠ 4 → t' 72 p = t 72 p)) := by
  obtain ⟨b1, b2, b3, b4⟩ := b
  have c61 : cn t1 61 = c + 1 := by
    unfold cn
    rw [a.2.1, up_s, nI_clamp (by omega)]
  have ht := a.1
  have e30 : cn t1 30 = cn t 30 := ht.cn (by decide)
  have e31 : t1 31 = t 31 := ht 31 (by decide)
  have vo : ∀ f, 62 ≤ f → f ≤ 79 → f ≠ 73 → ∀ i, i ≠ c → t1 f i = t f i := fun f h1 h2 h3 i hi => by rw [a.2.2 f h1 h2, if_neg hi, if_neg (fun e => h3 e.1)]
  have v65 : t1 65 c = gv := by rw [a.2.2 65 (by decide) (by decide), if_pos rfl]; rfl
  have hs6 : ∀ g, (t 31 g = 3 ∨ t 31 g = 5) → t 31 g ≠ 6 := fun g y => by rcases y with y | y <;> rw [y] <;> decide
  refine ⟨⟨fun f hf => (b1 f hf).trans (ht f (fun m => hf ((by decide : ∀ f ∈ CC, f ∈ RC) f m))), by omega, fun i hi => ⟨fun f hf => ?_, fun h => ?_, fun hiq g hg h65 => ?_⟩, fun i h1 h2 g hg h65 hs => ?_⟩, fun hb g hg h65 => ?_⟩
  · have hf2 := (by decide : ∀ f ∈ [62, 63, 64, 65, 66, 67], 62 ≤ f ∧ f ≤ 79 ∧ f ≠ 73) f hf
    rw [(b3 i (by omega)).1 f hf, vo f hf2.1 hf2.2.1 hf2.2.2 i (by omega)]
  · have x := (b3 i (by omega)).2.1 (by rw [vo 69 (by decide) (by decide) (by decide) i (by omega)]; exact h)
    rw [x.1, x.2.1, x.2.2]
    exact ⟨vo 69 (by decide) (by decide) (by decide) i (by omega), vo 70 (by decide) (by decide) (by decide) i (by omega), vo 71 (by decide) (by decide) (by decide) i (by omega)⟩
  · have x := (b3 i (by omega)).2.2 (by omega) g (by rw [e30]; exact hg) (by rw [vo 65 (by decide) (by decide) (by decide) i (by omega)]; exact h65)
    rw [e31] at x
    refine ⟨fun y => ?_, fun y => ?_⟩
    · rw [x.1 y, a.2.2 73 (by decide) (by decide), if_neg (by omega), if_neg (fun e => hiq (e.2.2.trans (hpq e.2.1).symm))]
    · rw [x.2 y, vo 72 (by decide) (by decide) (by decide) i (by omega)]
  · by_cases e : i = c
    · subst e
      have : t1 65 i = nI g := ((b3 i (by omega)).1 65 (by decide)).symm.trans h65
      exact hn g hg (v65.symm.trans this) hs
    · exact b4 i (by omega) h2 g (by rw [e30]; exact hg) h65 (by rw [e31]; exact hs)
  · have hp := hpc hb
    have x := (b3 p (by omega)).2.2 (by omega) g (by rw [e30]; exact hg) (by rw [vo 65 (by decide) (by decide) (by decide) p (by omega)]; exact h65)
    rw [e31] at x
    refine ⟨fun y => ?_, fun y => ?_⟩
    · rw [x.1 y, a.2.2 73 (by decide) (by decide), if_neg (by omega), if_pos ⟨rfl, hb, rfl⟩]
    · rw [x.2 y, vo 72 (by decide) (by decide) (by decide) p (by omega)]
theorem WA.new {X : Mem} {m z : Nat} {P : List Nat} {x : Nat} {N : Mem} {t t1 : DB} {c o d p : Nat} {pb : Bool} {gv sv jv lv : Int32} (h : SZ X m z P x N t) (hc : cn t 61 = c) (hc2 : c ≤ 4019) (hpc : pb = true → p < c) (h76 : pb = true → t 76 p ≠ 1) (a : NCt t t1 c o d pb p gv sv jv lv) : WA t t1 := by
  have c61 : cn t1 61 = c + 1 := by
    unfold cn
    rw [a.2.1, up_s, nI_clamp (by omega)]
  have ht := a.1
  have e30 : cn t1 30 = cn t 30 := ht.cn (by decide)
  have e31 : t1 31 = t 31 := ht 31 (by decide)
  have vo : ∀ f, 62 ≤ f → f ≤ 79 → f ≠ 73 → ∀ i, i ≠ c → t1 f i = t f i := fun f h1 h2 h3 i hi => by rw [a.2.2 f h1 h2, if_neg hi, if_neg (fun e => h3 e.1)]
  have v64 : t1 64 c = if pb then nI p else -1 := by rw [a.2.2 64 (by decide) (by decide), if_pos rfl]; rfl
  have v69 : t1 69 c = 0 := by rw [a.2.2 69 (by decide) (by decide), if_pos rfl]; rfl
  intro E hW q hq h0 hE g hg h65 j hj ej
  rw [c61] at hq hj
  rw [e30] at hg
  rw [e31]
  by_cases ejc : j = c
  · subst ejc
    rw [v64] at ej
    cases pb
    · exact absurd ej.symm (nI_m1 (by omega))
    · have hp := hpc rfl
      have : p = q := (nI_eq (by omega) (by omega)).mp ej
      subst this
      refine Or.inl ⟨v69, ?_⟩
      rw [vo 76 (by decide) (by decide) (by decide) p (by omega)]
      exact h76 rfl
  · rw [vo 64 (by decide) (by decide) (by decide) j ejc] at ej
    have hqc : q ≠ c := fun e => by
      subst e
      rcases h.par j (by omega) with y | ⟨p', y1, y2⟩
      · exact nI_m1 (by omega) (ej.symm.trans y)
      · have : q = p' := (nI_eq (by omega) (by omega)).mp (ej.symm.trans y2)
        omega
    rw [vo 69 (by decide) (by decide) (by decide) q hqc] at h0
    rw [vo 65 (by decide) (by decide) (by decide) q hqc] at h65
    rw [vo 69 (by decide) (by decide) (by decide) j ejc, vo 76 (by decide) (by decide) (by decide) q hqc]
    exact hW q (by omega) h0 hE g hg h65 j (by omega) ej
theorem NCn.jn {N N' : Mem} {t : DB} {c o d p : Nat} {pb : Bool} {gv sv fb jv : Int32} (b : NCn N N' t c o d pb p gv sv fb (-1)) : NCn N (sR N' 21 c 8 (rn 21 jv)) t c o d pb p gv sv fb jv := by
  obtain ⟨b1, b2, b3, b4, b5, b6, b7, b8, b9, b10, b11⟩ := b
  refine ⟨b1.wR _ _ _ (by decide), b2, b3, fun i f => ?_, b5, fun i j hi => ?_, b7, fun i j => ?_, b9, b10, b11⟩
  · rw [sR_at, b4]
    by_cases e : i = c
    · subst e
      by_cases ef : f = 8
      · rw [if_pos ⟨rfl, rfl, ef⟩, if_pos rfl]
        unfold nR
        rw [if_pos ef]
      · rw [if_neg (fun y => ef y.2.2), if_pos rfl, if_pos rfl]
        unfold nR
        rw [if_neg ef, if_neg ef]
    · rw [if_neg (fun y => e y.2.1), if_neg e, if_neg e]
  · rw [sR_at, if_neg (fun y => absurd y.1 (by decide))]; exact b6 i j hi
  · rw [sR_at, if_neg (fun y => absurd y.1 (by decide))]; exact b8 i j
