set_option maxRecDepth 100000
/-! a call begins within another -/
/-- what holds ahead of a new inner call -/
def CP0 (X : Mem) (m z : Nat) (P : List Nat) (N : Mem) (t : DB) (h o d p g hT T nn : Nat) : Prop := SS X m z P 100000 N t ∧ (h + 1100 ≤ 10000 ∧ 60 ≤ z) ∧ p < cn t 61 ∧ t 69 p = 0 ∧ o < cn t 50 ∧ t 62 p = nI o ∧ (∃ e, d = e + 1 ∧ t 63 p = nI e ∧ e < hT ∧ t 65 p = t 49 (5 * T + e)) ∧ (t 51 o = nI T ∧ T < cn t 47 ∧ t 48 T = nI hT ∧ hT ≤ 5) ∧ t 65 p = nI g ∧ g < cn t 30 ∧ t 75 p = 0 ∧ t 76 p = 0 ∧ (t 31 g = 8 → t 78 p = 1) ∧ (t 73 p = nI nn ∧ nn < 6 ∧ (t 31 g ≠ 4 → nn < 2) ∧ (t 31 g ≠ 4 → t 31 g ≠ 5 → nn < 1)) ∧ (∀ j, j < cn t 61 → t 64 j = nI p → (t 31 g = 5 ∧ (t 69 j = 0 ∨ t 69 j = 2)) ∨ (t 31 g = 4 ∧ t 69 j = 2)) ∧ t 88 0 = nI h
theorem CBP.c0 {X : Mem} {m z : Nat} {P : List Nat} {N : Mem} {t : DB} {h o d p g hT : Nat} (q : CBP X m z P N t h o d p g hT) : ∃ T nn, CP0 X m z P N (pop t h) h o d p g hT T nn := by
  obtain ⟨hS, hh, hp, h0, ho, h62, ⟨e, hd, h63, T, hT1, hT2, hT3, hT4, hT5, hT6⟩, h65, hg, h75, h76, h8, ⟨nn, h73, hn6, hn2, hn1⟩, hsib, h88, h83, h84, h85, h86, h87⟩ := q
  have hS0 : SS X m z P 100000 N (pop t h) := hS.pop
  have x88 : pop t h 88 0 = nI h := up_s
  have zt : ∀ f, f ∉ [83, 84, 85, 86, 87, 88] → pop t h f = t f := fun f hf => pop_TF f hf
  generalize pop t h = t0 at *
  have zn : ∀ f, f ∉ [83, 84, 85, 86, 87, 88] → cn t0 f = cn t f := fun f hf => cn_fr (zt f hf)
  refine ⟨T, nn, hS0, hh, by rw [zn 61 (by decide)]; exact hp, by rw [zt 69 (by decide)]; exact h0, by rw [zn 50 (by decide)]; exact ho, by rw [zt 62 (by decide)]; exact h62, ⟨e, hd, by rw [zt 63 (by decide)]; exact h63, hT5, by rw [zt 65 (by decide), zt 49 (by decide)]; exact hT6⟩, ⟨by rw [zt 51 (by decide)]; exact hT1, by rw [zn 47 (by decide)]; exact hT2, by rw [zt 48 (by decide)]; exact hT3, hT4⟩, by rw [zt 65 (by decide)]; exact h65, by rw [zn 30 (by decide)]; exact hg, by rw [zt 75 (by decide)]; exact h75, by rw [zt 76 (by decide)]; exact h76, by rw [zt 31 (by decide), zt 78 (by decide)]; exact h8, ⟨by rw [zt 73 (by decide)]; exact h73, hn6, by rw [zt 31 (by decide)]; exact hn2, by rw [zt 31 (by decide)]; exact hn1⟩, by rw [zn 61 (by decide), zt 64 (by decide), zt 31 (by decide), zt 69 (by decide)]; exact hsib, x88⟩
theorem CP0.w {X : Mem} {m z : Nat} {P : List Nat} {N : Mem} {t : DB} {h o d p g hT T nn : Nat} {gv sv jv lv : Int32} (q : CP0 X m z P N t h o d p g hT T nn) (hgv : (gv = -1 ∧ ∃ s, s < cn t 1 ∧ sv = nI s) ∨ (d < hT ∧ gv = t 49 (5 * T + d) ∧ sv = -1)) (j1 : (gv = -1 ∨ ∃ g', g' < cn t 30 ∧ gv = nI g' ∧ t 31 g' ≠ 8) → jv = -1 ∧ lv = 0)
    (j2 : ∀ g', g' < cn t 30 → gv = nI g' → t 31 g' = 8 → (lv = 1 ∧ jv = -1 ∧ ∀ k, k < cn t 61 → t 69 k = 0 → t 78 k = 1 → t 65 k = gv → ∀ o', o' < cn t 50 → t 62 k = nI o' → ¬ (t 52 o' = t 52 o ∧ t 53 o' = t 53 o ∧ t 54 o' = t 54 o)) ∨ (lv = 0 ∧ ∃ l, l < cn t 61 ∧ jv = nI l ∧ t 65 l = gv ∧ t 78 l = 1 ∧ ∀ o', o' < cn t 50 → t 62 l = nI o' → t 52 o = t 52 o' ∧ t 53 o = t 53 o' ∧ t 54 o = t 54 o')) : NCp t (cn t 61) o d true p gv sv (N.1 21 p 10) jv lv := by
  obtain ⟨hS, hh, hp, h0, ho, h62, ⟨e, hd, h63, hT5, hT6⟩, ⟨hT1, hT2, hT3, hT4⟩, h65, hg, h75, h76, h8, ⟨h73, hn6, hn2, hn1⟩, hsib, h88⟩ := q
  have h24 : cn t 30 ≤ 24 := hS.iB.2.2.2.1.2
  refine ⟨ho, ⟨T, hT, hT1, hT2, hT3, hT4, by omega, Or.inr ⟨e, rfl, hp, h62, hd, h63, hT5, hT6⟩, hgv⟩, fun y => absurd y (by decide), fun _ => ⟨h75, h76, fun g' hg' e1 => ?_⟩, j1, j2⟩
  have eg : g' = g := (nI_eq (by omega) (by omega)).mp (e1.symm.trans h65)
  subst eg
  refine ⟨h8, nn, h73, hn6, hn2, fun y1 y2 _ => hn1 y1 y2, fun y => ?_⟩
  have l0 : nn = 0 := by
    have := hn1 (by rw [y]; decide) (by rw [y]; decide)
    omega
  have := (hS.V p hp).2.2.2 g' hg h65 y
  rw [this, h73, l0, if_neg (by decide), if_neg (by decide)]
theorem CP0.u {X : Mem} {m z : Nat} {P : List Nat} {N : Mem} {t t1 : DB} {h o d p g hT T nn : Nat} {gv sv jv lv : Int32} (q : CP0 X m z P N t h o d p g hT T nn) (a : NCt t t1 (cn t 61) o d true p gv sv jv lv) (w : NCp t (cn t 61) o d true p gv sv (N.1 21 p 10) jv lv) : sumTo (cn t 61) (remC t1) + remC t1 (cn t 61) + cn t 61 + 1 ≤ 67 * cn t 50 := by
  obtain ⟨hS, hh, hp, h0, ho, h62, ⟨e, hd, h63, hT5, hT6⟩, ⟨hT1, hT2, hT3, hT4⟩, h65, hg, h75, h76, h8, ⟨h73, hn6, hn2, hn1⟩, hsib, h88⟩ := q
  have h24 : cn t 30 ≤ 24 := hS.iB.2.2.2.1.2
  refine rem_par hS.1 rfl a w (fun g' hg' e1 y1 y2 => ?_)
  have eg : g' = g := (nI_eq (by omega) (by omega)).mp (e1.symm.trans h65)
  subst eg
  have := hn1 (by rw [y1]; decide) (by rw [y1]; decide)
  rw [h73] at y2
  have := (nI_eq (by omega) (by omega)).mp (show nI nn = nI 1 from y2)
  omega
theorem CP0.ip {X : Mem} {m z : Nat} {P : List Nat} {N : Mem} {t t1 : DB} {h o d p g hT T nn : Nat} {gv sv jv lv : Int32} (q : CP0 X m z P N t h o d p g hT T nn) (hc19 : cn t 61 ≤ 4019) (a : NCt t t1 (cn t 61) o d true p gv sv jv lv) : I_P t1 := by
  obtain ⟨hS, hh, hp, h0, ho, h62, -, -, h65, hg, h75, h76, h8, -, hsib, h88⟩ := q
  have h24 : cn t 30 ≤ 24 := hS.iB.2.2.2.1.2
  refine iP_new (g := g) hS.2 hS.iC rfl hc19 a hp h0 h65 hg h24 (fun j hj e => ?_)
  rcases hsib j hj e with y | ⟨y1, y2⟩
  · exact Or.inl y
  · exact Or.inr ⟨Or.inl y1, y2⟩
/-- an inner try begins -/
theorem CB_0 {n : Nat} : CB 0 (n + 1) := by
  intro X m z P N t h o d p g hT q hk
  have q' := q
  obtain ⟨hS, hh, hp, h0, ho, h62, ⟨e, hd, h63, T', hT1', -⟩, h65, hg, h75, h76, h8, -, hsib, h88, h83, h84, h85, h86, h87⟩ := q'
  obtain ⟨T, nn, q0⟩ := q.c0
  obtain ⟨-, ⟨s, hs, e52⟩, -⟩ := hS.iO o ho
  have hn := hS.1.nC
  have h24 : cn t 30 ≤ 24 := hS.iB.2.2.2.1.2
  have h50 : cn t 50 ≤ 60 := hS.iB.2.2.2.2.2.1.2
  have h47 : cn t 47 ≤ 10 := hS.iB.2.2.2.2.1.2
  have h8' : cn t 1 ≤ 8 := hS.iB.1.2
  have zt : ∀ f, f ∉ [83, 84, 85, 86, 87, 88] → pop t h f = t f := fun f hf => pop_TF f hf
  have zW : WA t (pop t h) := WA.pop
  have zM : MO t (pop t h) := MO.pop
  have zlo : ∀ f, 83 ≤ f → f ≤ 87 → ∀ i, i < h → pop t h f i = t f i := fun f h1 h2 i _ => up_f (by omega)
  generalize ep : pop t h = t0 at *
  have q0' := q0
  obtain ⟨hS0, -, hp0, -, ho0, -, -, ⟨hT1, hT2, hT3, hT4⟩, h650, hg0, -, h760, -, ⟨h73, -⟩, -, h880⟩ := q0'
  have zn : ∀ f, f ∉ [83, 84, 85, 86, 87, 88] → cn t0 f = cn t f := fun f hf => cn_fr (zt f hf)
  have w := q0.w (gv := -1) (sv := nI s) (jv := -1) (lv := 0) (Or.inl ⟨rfl, s, by rw [zn 1 (by decide)]; exact hs, rfl⟩) (fun _ => ⟨rfl, rfl⟩) (fun g' hg' y => absurd y.symm (nI_m1 (by rw [zn 30 (by decide)] at hg'; omega)))
  have hc19 : cn t0 61 ≤ 4019 := by
    have a0 := nCm_t (t := t0) (c := cn t0 61) (o := o) (d := d) (pb := true) (p := p) (gv := -1) (sv := nI s) (fun _ => hp0)
    have := q0.u a0 w
    rw [zn 50 (by decide)] at this
    omega
  have a := nCm_t (t := t0) (c := cn t0 61) (o := o) (d := d) (pb := true) (p := p) (gv := -1) (sv := nI s) (fun _ => hp0)
  have hU := q0.u a w
  obtain ⟨v, m1, m2⟩ := try_g hS0.1 rfl (fun _ => hp0) w (fun _ => rfl) hU (by rw [zn 1 (by decide)]; exact hs)
  have hip := q0.ip hc19 a
  have c61 : t0 61 0 = nI (cn t0 61) := hS0.iB.2.2.2.2.2.2.1.1
  have hw : RUN t (up (nCm t0 (cn t0 61) o d true p (-1) (nI s)) 72 (cn t0 61) v) := by
    refine run_st h88 (by omega) (fun K hK => Or.inl ⟨h83, ?_⟩)
    rw [h84, h85, h86, h87, ep]
    refine w_begins_s (pb := true) (p := p) (gv := -1) (sv := nI s) c61 (by omega) (by omega) (fun _ => hp0) (Or.inr ⟨by decide, T, hT, by rw [zn 47 (by decide)] at hT2; omega, hT4, hT1, hT3, Or.inl ⟨by omega, by omega, rfl, by rw [zt 52 (by decide)]; exact e52.symm⟩⟩) (m1 K hK)
  have tf72 : TF (nCm t0 (cn t0 61) o d true p (-1) (nI s)) (up (nCm t0 (cn t0 61) o d true p (-1) (nI s)) 72 (cn t0 61) v) [72] := TF.rf.wu _ _ (by decide)
  have n72 : ∀ i, i ≠ cn t0 61 → up (nCm t0 (cn t0 61) o d true p (-1) (nI s)) 72 (cn t0 61) v 72 i = nCm t0 (cn t0 61) o d true p (-1) (nI s) 72 i := fun i hi => up_n (fun y => hi y.2)
  have ht1 := a.1
  have wa := WA.new hS0.1 rfl hc19 (fun _ => hp0) (fun _ => by rw [h760]; decide) a
  obtain ⟨mb, mp⟩ := MB.new (q := p) rfl hc19 (fun _ => rfl) (fun _ => hp0) a (MB.ofT tf72 (by decide) n72) (fun g' hg' y => absurd y.symm (nI_m1 (by rw [zn 30 (by decide)] at hg'; omega)))
  have ip2 := hip.fr tf72 (by decide)
  have wa2 : WA (nCm t0 (cn t0 61) o d true p (-1) (nI s)) (up (nCm t0 (cn t0 61) o d true p (-1) (nI s)) 72 (cn t0 61) v) := WA.of tf72 (by decide)
  generalize et : up (nCm t0 (cn t0 61) o d true p (-1) (nI s)) 72 (cn t0 61) v = t' at *
  have t88 : t' 88 0 = nI h := by
    rw [tf72 88 (by decide), ht1 88 (by decide)]; exact h880
  have tlo : ∀ f, 83 ≤ f → f ≤ 87 → ∀ i, i < h → t' f i = t f i := fun f h1 h2 i hi => by
    rw [tf72 f (by simp; omega), ht1 f (by simp; omega)]
    exact zlo f h1 h2 i hi
  have eT : N.2.1 20 o 6 = (42, T) := by
    have := hS0.R (20, 6, 42, 51, 50) (by decide) o ho0
    rw [hT1, rn_j (by rw [zn 47 (by decide)] at hT2; omega)] at this
    exact this
  obtain ⟨tl, -⟩ := hS0.T T hT2
  rw [hT3, nI_clamp (by omega)] at tl
  have e1 : N.1 20 o 1 = nI s := (hS.I (20, 1, 52, 50) (by decide) o ho).trans e52
  show cq (n + 11) mX0_begin [.inr (1, 0), .inr (20, o), .inl (nI d), .inr (21, p)] N _
  refine sv_X0_begin (d := n) (Q := fun N' => ∃ t', PB p X m z P N' t' h t t ∧ (t 31 g ≠ 6 → t' 73 p = t 73 p + 1) ∧ (t 31 g ≠ 4 → t' 72 p = t 72 p)) (fun N' w => ⟨rfl, w⟩) ⟨rfl, fun e2 ee2 => ?_⟩
  have q2 : e2 = (42, T) := ee2.trans eT
  subst q2
  have len : N.2.2.1 (42, T).1 (42, T).2 - 1 = d := by
    show N.2.2.1 42 T - 1 = d
    rw [tl]
    omega
  refine ⟨⟨rfl, by show N.2.2.1 42 T ≠ 0; omega⟩, fun y => absurd (by rw [len]) y, fun _ => ⟨rfl, rfl, ?_⟩⟩
  show v_X0_beginTry (1, 0) (20, o) (nI d) (21, p) (N.1 20 o 1) N _
  rw [e1]
  refine m2 _ (fun N' hN' _ => ⟨fun _ => ⟨t', ⟨hw, ⟨t88, tlo⟩, ⟨hN', ip2⟩, (MB.of zM h24).tr mb (fun y1 y2 => by rw [zn 61 (by decide)] at y2; omega), zW.tr (wa.tr wa2)⟩, ?_⟩, fun y => absurd y (by decide)⟩)
  have := mp rfl g hg0 h650
  rw [zt 31 (by decide), zt 73 (by decide), zt 72 (by decide)] at this
  exact this
