set_option maxRecDepth 100000
/-! a guarded call begins within another -/
theorem gb_all {k n : Nat} (hn : 70 ≤ n) (hB : CB k n) (hB1 : CB k (n + 1)) {X : Mem} {m z : Nat} {P : List Nat} {N : Mem} {t : DB} {h c g s o d hT : Nat} (q : GBP X m z P N t h c g s o d hT) (hs8 : s ≠ 8) (hk : hT = d + 1 + k) : GBG (n + 3) X m z P N t h c g s := by
  have hs9 : s ≤ 9 := q.2.2.2.2.2.2.2.2.2.2.2.1
  have : s = 0 ∨ s = 1 ∨ s = 2 ∨ s = 3 ∨ s = 4 ∨ s = 5 ∨ s = 6 ∨ s = 7 ∨ s = 9 := by omega
  rcases this with e | e | e | e | e | e | e | e | e <;> subst e
  · exact gb_0 hB1 (CE1 (by omega)) q hk
  · exact gb_1 hB (CE1 (by omega)) q hk
  · exact gb_2 hB1 (CE1 (by omega)) q hk
  · exact gb_3 hB1 q hk
  · exact gb_4 hB1 q hk
  · exact gb_5 hB1 q hk
  · exact gb_6 hB1 q hk
  · exact gb_7 hB1 (CE1 (by omega)) q hk
  · exact gb_9 hB1 q hk
/-- what a guard finds of its new call -/
theorem GBP.mk {X : Mem} {m z z0 : Nat} {P : List Nat} {N N1 : Mem} {t t1 : DB} {h c g s o d p hT T : Nat} {pb : Bool} {fb : Int32} (hS0 : SZ X m z0 P 100000 N t) (hc : cn t 61 = c) (hc19 : c ≤ 4019) (a : NCt t t1 c o d pb p (nI g) (-1) (-1) 0) (hS1 : SZ X m z P c N1 t1) (hP1 : I_P t1) (hM : N1.2.2.2.1 ≤ N.2.2.2.1 + 4) (h14 : N1.1 21 c 14 = 0) (h10 : N1.2.1 10 = N.2.1 10) (hh : h + 1100 ≤ 10000 ∧ 60 ≤ z) (hcP : c ∉ P) (hg : g < cn t 30) (hs : t 31 g = nI s) (hs9 : s ≤ 9) (ho : o < cn t 50) (h88 : t 88 0 = nI h) (hT' : t 51 o = nI T ∧ T < cn t 47 ∧ t 48 T = nI hT ∧ hT ≤ 5 ∧ d < hT ∧ nI g = t 49 (5 * T + d)) : GBP X m z P N1 t1 h c g s o d hT := by
  have ht1 := a.1
  have c61 : cn t1 61 = c + 1 := by
    unfold cn
    rw [a.2.1, up_s, nI_clamp (by omega)]
  have vn : ∀ f, 62 ≤ f → f ≤ 79 → t1 f c = nV o d (if pb then nI p else -1) (nI g) (-1) (t 0 0) (-1) 0 f := fun f h1 h2 => by rw [a.2.2 f h1 h2, if_pos rfl]
  have zn : ∀ f, f ∉ CC → cn t1 f = cn t f := fun f hf => ht1.cn hf
  have e65 : t1 65 c = nI g := vn 65 (by decide) (by decide)
  have h24 : cn t 30 ≤ 24 := hS0.iB.2.2.2.1.2
  refine ⟨hS1, hP1, newU hc hc19 hS0.iU a, ?_, hh, by omega, vn 69 (by decide) (by decide), hcP, e65, by rw [zn 30 (by decide)]; exact hg, by rw [ht1 31 (by decide)]; exact hs, hs9, vn 73 (by decide) (by decide), vn 75 (by decide) (by decide), vn 76 (by decide) (by decide), vn 77 (by decide) (by decide), vn 79 (by decide) (by decide), h14, vn 62 (by decide) (by decide), vn 63 (by decide) (by decide), by rw [zn 50 (by decide)]; exact ho, by rw [ht1 88 (by decide)]; exact h88, ⟨T, by rw [ht1 51 (by decide)]; exact hT'.1, by rw [zn 47 (by decide)]; exact hT'.2.1, by rw [ht1 48 (by decide)]; exact hT'.2.2.1, hT'.2.2.2.1, hT'.2.2.2.2.1, by rw [e65, ht1 49 (by decide)]; exact hT'.2.2.2.2.2⟩, fun g' hg' e y w => ?_⟩
  · obtain ⟨v1, -⟩ := hS0.M
    rw [hc] at v1
    rw [c61, zn 23 (by decide), zn 17 (by decide), zn 82 (by decide), zn 50 (by decide)]
    omega
  · rw [zn 30 (by decide)] at hg'
    rw [ht1 31 (by decide)] at y
    rw [h10] at w
    rcases hS0.GT g' hg' y with v | ⟨k, v1, v2⟩
    · rw [v] at w; exact (ne021 w).elim
    · rw [v2] at w
      have : k = c := congrArg Prod.snd w
      omega
theorem CB_s {k n : Nat} (hn70 : 70 ≤ n) (hB : CB k n) (hB1 : CB k (n + 1)) : CB (k + 1) (n + 4) := by
  intro X m z P N t h o d p g hT q hk
  have q' := q
  obtain ⟨hS, hh, hp, h0, ho, h62, ⟨e, hd, h63, T', hT1', -⟩, h65, hg, h75, h76, h8, -, hsib, h88, h83, h84, h85, h86, h87⟩ := q'
  obtain ⟨T, nn, q0⟩ := q.c0
  have hn := hS.1.nC
  have h24 : cn t 30 ≤ 24 := hS.iB.2.2.2.1.2
  have h50 : cn t 50 ≤ 60 := hS.iB.2.2.2.2.2.1.2
  have h47 : cn t 47 ≤ 10 := hS.iB.2.2.2.2.1.2
  have zt : ∀ f, f ∉ [83, 84, 85, 86, 87, 88] → pop t h f = t f := fun f hf => pop_TF f hf
  have zW : WA t (pop t h) := WA.pop
  have zM : MO t (pop t h) := MO.pop
  have zlo : ∀ f, 83 ≤ f → f ≤ 87 → ∀ i, i < h → pop t h f i = t f i := fun f h1 h2 i _ => up_f (by omega)
  generalize ep : pop t h = t0 at *
  have q0' := q0
  obtain ⟨hS0, -, hp0, -, ho0, -, -, ⟨hT1, hT2, hT3, hT4⟩, h650, hg0, -, h760, -, ⟨h73, -⟩, -, h880⟩ := q0'
  have zn : ∀ f, f ∉ [83, 84, 85, 86, 87, 88] → cn t0 f = cn t f := fun f hf => cn_fr (zt f hf)
  have hd5 : d < hT := by omega
  obtain ⟨gd, hgd, egd⟩ : ∃ gd, gd < cn t0 30 ∧ t0 49 (5 * T + d) = nI gd := by
    obtain ⟨h', i1, i2, i3, -⟩ := hS0.iT T (Or.inl hT2)
    have : h' = hT := (nI_eq (by omega) (by omega)).mp (i2.symm.trans hT3)
    subst this
    exact i3 d hd5
  obtain ⟨s, hs9, es, -⟩ := hS0.iG gd hgd
  have hgd24 : gd < 24 := by rw [zn 30 (by decide)] at hgd; omega
  have gvd : ¬ nI gd < 0 := nI_pos (by omega)
  have hgs : ∀ g', g' < cn t0 30 → nI gd = nI g' → g' = gd := fun g' hg' e => ((nI_eq (by omega) (by rw [zn 30 (by decide)] at hg'; omega)).mp e).symm
  have a := nCm_t (t := t0) (c := cn t0 61) (o := o) (d := d) (pb := true) (p := p) (gv := nI gd) (sv := -1) (fun _ => hp0)
  have wg : (nI gd = -1 ∧ ∃ s, s < cn t0 1 ∧ (-1 : Int32) = nI s) ∨ (d < hT ∧ nI gd = t0 49 (5 * T + d) ∧ (-1 : Int32) = -1) := Or.inr ⟨hd5, egd.symm, rfl⟩
  have c61 : t0 61 0 = nI (cn t0 61) := hS0.iB.2.2.2.2.2.2.1.1
  have hc19 : cn t0 61 ≤ 4019 := by
    -- the potential bounds the calls, whatever joins
    have w1 : ∀ jv lv, NCp t0 (cn t0 61) o d true p (nI gd) (-1) (N.1 21 p 10) jv lv → cn t0 61 ≤ 4019 := fun jv lv w => by
      have a1 : NCt t0 (up (up (nCm t0 (cn t0 61) o d true p (nI gd) (-1)) 74 (cn t0 61) jv) 78 (cn t0 61) lv) (cn t0 61) o d true p (nI gd) (-1) jv lv := by
        refine ⟨(a.1.wu _ _ (by decide)).wu _ _ (by decide), a.2.1, fun f h1 h2 i => ?_⟩
        by_cases e8 : f = 78
        · subst e8
          by_cases ei : i = cn t0 61
          · subst ei
            rw [up_s, if_pos rfl]; rfl
          · rw [up_n (fun y => ei y.2), up_f (by decide), a.2.2 78 h1 h2, if_neg ei, if_neg ei]
        · rw [up_f e8]
          by_cases e4 : f = 74
          · subst e4
            by_cases ei : i = cn t0 61
            · subst ei
              rw [up_s, if_pos rfl]; rfl
            · rw [up_n (fun y => ei y.2), a.2.2 74 h1 h2, if_neg ei, if_neg ei]
          · rw [up_f e4, a.2.2 f h1 h2]
            by_cases ei : i = cn t0 61
            · rw [if_pos ei, if_pos ei]
              unfold nV
              simp only [if_neg e8, if_neg e4]
            · rw [if_neg ei, if_neg ei]
      have := q0.u a1 w
      rw [zn 50 (by decide)] at this
      omega
    by_cases s8 : t0 31 gd = 8
    · by_cases ex : ∃ l, l < cn t0 61 ∧ t0 69 l = 0 ∧ t0 78 l = 1 ∧ t0 65 l = nI gd ∧ ∃ o', o' < cn t0 50 ∧ t0 62 l = nI o' ∧ t0 52 o' = t0 52 o ∧ t0 53 o' = t0 53 o ∧ t0 54 o' = t0 54 o
      · obtain ⟨l, l1, l2, l3, l4, lo, l5, l6, l7, l8, l9⟩ := ex
        refine w1 (nI l) 0 (q0.w wg (fun y => ?_) (fun g' hg' e y => Or.inr ⟨rfl, l, l1, rfl, l4, l3, fun o' ho' e2 => ?_⟩))
        · exfalso
          rcases y with y | ⟨g', hg', e, y⟩
          · exact nI_m1 (by omega) y
          · rw [hgs g' hg' e] at y; exact y s8
        · have : o' = lo := (nI_eq (by rw [zn 50 (by decide)] at ho'; omega) (by rw [zn 50 (by decide)] at l5; omega)).mp (e2.symm.trans l6)
          subst this
          exact ⟨l7.symm, l8.symm, l9.symm⟩
      · refine w1 (-1) 1 (q0.w wg (fun y => ?_) (fun g' hg' e y => Or.inl ⟨rfl, rfl, fun k' k1 k2 k3 k4 o' ho' e2 y2 => ex ⟨k', k1, k2, k3, k4, o', ho', e2, y2⟩⟩))
        exfalso
        rcases y with y | ⟨g', hg', e, y⟩
        · exact nI_m1 (by omega) y
        · rw [hgs g' hg' e] at y; exact y s8
    · exact w1 (-1) 0 (q0.w wg (fun _ => ⟨rfl, rfl⟩) (fun g' hg' e y => by rw [hgs g' hg' e] at y; exact absurd y s8))
  have ht1 := a.1
  have wa := WA.new hS0.1 rfl hc19 (fun _ => hp0) (fun _ => by rw [h760]; decide) a
  have b9 : N.1 30 9 0 = nI (cn t0 61) := (hS0.S (9, 61, 0) (by decide)).trans c61
  have b := nC_n1 (N := N) (t := t0) (c := cn t0 61) (o := o) (d := d) (p := p) (gv := nI gd) (sv := -1) b9 (by omega) hp0
  have hw : ∀ (u : DB), (∀ K : DB → Prop, K u → w_entered (nI (cn t0 61)) (nI gd) (nCm t0 (cn t0 61) o d true p (nI gd) (-1)) K) → RUN t u := fun u hu => by
    refine run_st h88 (by omega) (fun K hK => Or.inl ⟨h83, ?_⟩)
    rw [h84, h85, h86, h87, ep]
    refine w_begins_s (pb := true) (p := p) (gv := nI gd) (sv := -1) c61 (by omega) (by omega) (fun _ => hp0) (Or.inr ⟨by decide, T, hT, by rw [zn 47 (by decide)] at hT2; omega, hT4, hT1, hT3, Or.inr ⟨hd5, egd.symm, gvd, rfl⟩⟩) ⟨fun y => absurd y gvd, fun _ => hu K hK⟩
  have hcP : cn t0 61 ∉ P := fun y => by
    have := (hS0.J _ y).1
    omega
  have eT : N.2.1 20 o 6 = (42, T) := by
    have := hS0.R (20, 6, 42, 51, 50) (by decide) o ho0
    rw [hT1, rn_j (by rw [zn 47 (by decide)] at hT2; omega)] at this
    exact this
  obtain ⟨tl, te⟩ := hS0.T T hT2
  rw [hT3, nI_clamp (by omega)] at tl te
  have eG : N.2.1 42 T d = (10 + s, gd) := by
    rw [te d hd5, egd, gn_j (by omega) es hs9]
  have gne : gn t0 (nI gd) = (10 + s, gd) := gn_j (by omega) es hs9
  have s14 : (lAdd (nCb N (cn t0 61) o d (21, p) (gn t0 (nI gd)) (-1) (t0 0 0)) (31, p) (21, cn t0 61)).1 21 (cn t0 61) 14 = 0 := by
    rw [lAdd_i, if_neg (by simp), nCb_i21, if_pos rfl]; rfl
  have s6 : (lAdd (nCb N (cn t0 61) o d (21, p) (gn t0 (nI gd)) (-1) (t0 0 0)) (31, p) (21, cn t0 61)).2.1 21 (cn t0 61) 6 = (10 + s, gd) := by
    rw [b.2.2.2.1, if_pos rfl, ← gne]; rfl
  have s8' : (lAdd (nCb N (cn t0 61) o d (21, p) (gn t0 (nI gd)) (-1) (t0 0 0)) (31, p) (21, cn t0 61)).2.1 21 (cn t0 61) 8 = (0, 0) := by
    rw [b.2.2.2.1, if_pos rfl]; rfl
  show cq (n + 3 + 11) mX0_begin [.inr (1, 0), .inr (20, o), .inl (nI d), .inr (21, p)] N _
  refine sv_X0_begin (d := n + 3) (Q := fun N' => ∃ t', PB p X m z P N' t' h t t ∧ (t 31 g ≠ 6 → t' 73 p = t 73 p + 1) ∧ (t 31 g ≠ 4 → t' 72 p = t 72 p)) (fun N' w => ⟨rfl, w⟩) ⟨rfl, fun e2 ee2 => ?_⟩
  have q2 : e2 = (42, T) := ee2.trans eT
  subst q2
  have len : N.2.2.1 (42, T).1 (42, T).2 - 1 = hT := by
    show N.2.2.1 42 T - 1 = hT
    rw [tl]
    omega
  have nz : N.2.2.1 (42, T).1 (42, T).2 ≠ 0 := by show N.2.2.1 42 T ≠ 0; omega
  refine ⟨⟨rfl, nz⟩, fun _ => ⟨rfl, fun e3 ee3 => ?_⟩, fun y => ?_⟩
  rotate_left
  · rw [len] at y
    have := (nI_eq (by omega) (by omega)).mp y
    omega
  have q3 : e3 = (42, T) := ee3.trans eT
  subst q3
  refine ⟨⟨rfl, nz, by rw [len]; exact vp_in_nI hd5 (by omega)⟩, fun e4 ee4 => ?_⟩
  rw [nI_clamp (by omega)] at ee4
  have q4 : e4 = gn t0 (nI gd) := ee4.trans (eG.trans gne.symm)
  subst q4
  refine ⟨rfl, v_add_s hS0.1 (Or.inr ⟨p, hp0, rfl⟩) (fun y => (ne021 y.symm).elim) (fun p' _ y => ?_)⟩
  have : p = p' := congrArg Prod.snd y
  subst this
  -- where all comes to
  have fin : ∀ (N' : Mem) (u t' : DB), (∀ K : DB → Prop, K u → w_entered (nI (cn t0 61)) (nI gd) (nCm t0 (cn t0 61) o d true p (nI gd) (-1)) K) → PB (cn t0 61) X m z P N' t' h (nCm t0 (cn t0 61) o d true p (nI gd) (-1)) u → (s = 3 ∨ s = 5 → t' 73 (cn t0 61) = 1) → ∃ t', PB p X m z P N' t' h t t ∧ (t 31 g ≠ 6 → t' 73 p = t 73 p + 1) ∧ (t 31 g ≠ 4 → t' 72 p = t 72 p) := by
    intro N' u t' hu hb hs3
    obtain ⟨b1, b2, b3, b4, b5⟩ := hb
    obtain ⟨mb, mp⟩ := MB.new (q := p) rfl hc19 (fun _ => rfl) (fun _ => hp0) a b4 (fun g' hg' e y => hs3 (by
      rw [hgs g' hg' e, es] at y
      rcases y with y | y
      · exact Or.inl ((nI_eq (by omega) (by omega)).mp (show nI s = nI 3 from y))
      · exact Or.inr ((nI_eq (by omega) (by omega)).mp (show nI s = nI 5 from y))))
    refine ⟨t', ⟨(hw u hu).tr b1, ⟨b2.1, fun f h1 h2 i hi => ?_⟩, b3, (MB.of zM h24).tr mb (fun y1 y2 => by rw [zn 61 (by decide)] at y2; omega), zW.tr (wa.tr b5)⟩, ?_⟩
    · rw [b2.2 f h1 h2 i hi, ht1 f (by simp; omega)]
      exact zlo f h1 h2 i hi
    · have := mp rfl g hg0 h650
      rw [zt 31 (by decide), zt 73 (by decide), zt 72 (by decide)] at this
      exact this
  refine ⟨fun _ => ⟨rfl, fun e6 ee6 => ?_⟩, fun y => (ne021 y.symm).elim⟩
  have q6 : e6 = (10 + s, gd) := ee6.trans s6
  subst q6
  refine ⟨⟨by show 10 ≤ 10 + s; omega, by show 10 + s ≤ 19; omega⟩, ?_⟩
  by_cases s8 : s = 8
  · subst s8
    have jb : JBP X m z P (lAdd (nCb N (cn t0 61) o d (21, p) (gn t0 (nI gd)) (-1) (t0 0 0)) (31, p) (21, cn t0 61)) t0 h (cn t0 61) gd o d p hT true := by
      refine ⟨rfl, hc19, fun _ => hp0, ⟨X, z, N, hS0.1⟩, fun jv lv t' a' hj => ?_, s8', s14, hh, hcP, hgd, es, ho0, h880, ⟨T, hT1, hT2, hT3, hT4, hd5, egd.symm⟩⟩
      have w := q0.w (jv := jv) (lv := lv) wg (fun y => by
        exfalso
        rcases y with y | ⟨g', hg', e, y⟩
        · exact nI_m1 (by omega) y
        · rw [hgs g' hg' e] at y; exact y es) (fun _ _ _ _ => hj)
      exact ⟨hS0.1.newC rfl a' b.jn w (q0.u a' w), q0.ip hc19 a'⟩
    refine (gb_8 hB1 jb (by omega)).mono ?_
    rintro r N' ⟨hr, u, t', hu, hb⟩
    exact ⟨hr, fin N' u t' hu hb (fun y => absurd y (by decide))⟩
  · have w := q0.w (jv := -1) (lv := 0) wg (fun _ => ⟨rfl, rfl⟩) (fun g' hg' e y => by
      rw [hgs g' hg' e, es] at y
      exact absurd ((nI_eq (by omega) (by omega)).mp (show nI s = nI 8 from y)) s8)
    have hS1 := hS0.1.newC rfl a b w (q0.u a w)
    have gp := GBP.mk (pb := true) (p := p) (T := T) (fb := 0) hS0.1 rfl hc19 a hS1 (q0.ip hc19 a) b.2.2.2.2.2.2.2.2.2.2.2.1 s14 (b.1 10 (by decide)).2.1 hh hcP hgd es hs9 ho0 h880 ⟨hT1, hT2, hT3, hT4, hd5, egd.symm⟩
    refine (gb_all hn70 hB hB1 gp s8 (by omega)).mono ?_
    rintro r N' ⟨hr, u, t', hu, hb, h3⟩
    exact ⟨hr, fin N' u t' hu hb h3⟩
theorem CB_all : ∀ k n, 80 + 4 * k ≤ n → CB k n := by
  intro k
  induction k with
  | zero =>
    intro n hn
    obtain ⟨j, rfl⟩ : ∃ j, n = j + 1 := ⟨n - 1, by omega⟩
    exact CB_0
  | succ k ih =>
    intro n hn
    obtain ⟨j, rfl⟩ : ∃ j, n = j + 4 := ⟨n - 4, by omega⟩
    exact CB_s (by omega) (ih j (by omega)) (ih (j + 1) (by omega))
