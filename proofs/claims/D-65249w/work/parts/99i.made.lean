set_option maxRecDepth 100000
/-! between two seconds; an order is made -/
/-- hedges and deadlines at rest (S: hedges whose second turn came at this very time) -/
def QV (S : Nat → Prop) (t : DB) : Prop := ∀ c, c < cn t 61 → ∀ g, g < cn t 30 → t 65 c = nI g → (t 31 g = 3 ∨ t 31 g = 5 → t 73 c ≠ 0) ∧ (t 31 g = 5 → t 73 c = 2 → t 72 c < t 0 0 ∨ (S c ∧ t 72 c = t 0 0))
def QS (S : Nat → Prop) (X : Mem) (m : Nat) (N : Mem) (t : DB) : Prop := SS X m 60 [] 100000 N t ∧ I_W (fun _ => False) t ∧ QV S t ∧ t 88 0 = nI 0
theorem QV.mb {S : Nat → Prop} {q : Nat} {t t' : DB} (h : QV S t) (hM : MB q t t') (hq : q < cn t 61 → ∀ g, g < cn t 30 → t 65 q = nI g → (t 31 g = 3 ∨ t 31 g = 5 → t' 73 q ≠ 0) ∧ (t 31 g = 5 → t' 73 q = 2 → t' 72 q < t 0 0 ∨ (S q ∧ t' 72 q = t 0 0))) : QV S t' := by
  obtain ⟨m1, m2, m3, m4⟩ := hM
  have e30 : cn t' 30 = cn t 30 := m1.cn (by decide)
  have e31 := m1 31 (by decide)
  have e0 := m1 0 (by decide)
  intro c hc g hg h65
  rw [e30] at hg
  rw [e31, e0]
  by_cases w : c < cn t 61
  · have h65' : t 65 c = nI g := ((m3 c w).1 65 (by decide)).symm.trans h65
    by_cases e : c = q
    · subst e
      exact hq w g hg h65'
    · obtain ⟨x1, x2⟩ := (m3 c w).2.2 e g hg h65'
      obtain ⟨y1, y2⟩ := h c w g hg h65'
      refine ⟨fun y => ?_, fun y => ?_⟩
      · rw [x1 (by rcases y with y | y <;> rw [y] <;> decide)]
        exact y1 y
      · rw [x1 (by rw [y]; decide), x2 (by rw [y]; decide)]
        exact y2 y
  · have x := m4 c (by omega) hc g hg h65
    refine ⟨fun y => by rw [x y]; decide, fun y y2 => ?_⟩
    rw [x (Or.inr y)] at y2
    exact absurd y2 (by decide)
theorem QV.fr {S : Nat → Prop} {t t' : DB} {C : List Nat} (h : QV S t) (ht : TF t t' C) (hC : ∀ c ∈ C, c ∉ [61, 30, 65, 31, 73, 72, 0]) : QV S t' := by
  have e : ∀ f ∈ [61, 30, 65, 31, 73, 72, 0], t' f = t f := fun f hf => ht f (fun m => hC f m hf)
  unfold QV
  rw [cn_fr (e 61 (by decide)), cn_fr (e 30 (by decide)), e 65 (by decide), e 31 (by decide), e 73 (by decide), e 72 (by decide), e 0 (by decide)]
  exact h
theorem tO_rem {X : Mem} {m z : Nat} {P : List Nat} {x : Nat} {N : Mem} {t : DB} (h : SZ X m z P x N t) {o : Nat} {x1 x2 x3 x4 x5 : Int32} (ho : cn t 50 = o) : ∀ c, c < cn t 61 → remC (tO t o x1 x2 x3 x4 x5) c = remC t c := fun c hc => by
  have ht := tO_TF (t := t) (o := o) (x1 := x1) (x2 := x2) (x3 := x3) (x4 := x4) (x5 := x5)
  have h50 : cn t 50 ≤ 60 := h.iB.2.2.2.2.2.1.2
  obtain ⟨o', T', h', d', y1, y2, y3, -⟩ := h.iC c hc
  have hne : o' ≠ o := by omega
  unfold remC capD srt
  rw [ht 65 (by decide), ht 31 (by decide), ht 73 (by decide), ht 62 (by decide), ht 48 (by decide), ht 49 (by decide), ht 63 (by decide), y2, nI_clamp (by omega), tO_f (by decide) (by decide), if_neg hne]
theorem w_made_s {t : DB} {o : Nat} {x1 x2 x3 x4 x5 : Int32} {Q : Int32 → DB → Prop} (h50 : t 50 0 = nI o) (ho : o < 60) (h88 : t 88 0 = nI 0) (hQ : w_work (psh (tO t o x1 x2 x3 x4 x5) 0 0 (nI o) 0 (-1) (-1)) (fun t' => Q (nI o) t')) : w_made x1 x2 x3 x4 x5 t Q := by
  have vo : vp_in (nI o) 60 := vp_in_nI ho (by decide)
  have co : (nI o).toNatClampNeg = o := nI_clamp (by omega)
  intro y ey
  rw [h50] at ey
  subst ey
  rw [co]
  have b0 : blk t o (oV x1 x2 x3 x4 x5 (t 0 0)) 51 51 = t := blk_0
  refine ⟨vo, fun t2 e2 => ⟨vo, fun t3 e3 => ⟨vo, fun t4 e4 => ⟨vo, fun t5 e5 => ⟨vo, fun t6 e6 => ⟨vo, fun t7 e7 => ⟨vo, fun t8 e8 => ⟨vo, fun t9 e9 => ⟨vo, fun t10 e10 t11 e11 => ?_⟩⟩⟩⟩⟩⟩⟩⟩⟩
  have f2 : t2 = blk t o (oV x1 x2 x3 x4 x5 (t 0 0)) 51 52 := by
    rw [e2]
    have := blk_s (t := t) (c := o) (V := oV x1 x2 x3 x4 x5 (t 0 0)) (a := 51) (b := 51) (v := x1) (Nat.le_refl _) rfl
    rw [b0] at this
    exact this
  have f3 : t3 = blk t o (oV x1 x2 x3 x4 x5 (t 0 0)) 51 53 := by rw [e3, f2]; exact blk_s (by decide) rfl
  have f4 : t4 = blk t o (oV x1 x2 x3 x4 x5 (t 0 0)) 51 54 := by rw [e4, f3]; exact blk_s (by decide) rfl
  have f5 : t5 = blk t o (oV x1 x2 x3 x4 x5 (t 0 0)) 51 55 := by rw [e5, f4]; exact blk_s (by decide) rfl
  have f6 : t6 = blk t o (oV x1 x2 x3 x4 x5 (t 0 0)) 51 56 := by rw [e6, f5]; exact blk_s (by decide) rfl
  have z6 : t6 0 0 = t 0 0 := by rw [f6]; exact if_neg (by omega)
  have f7 : t7 = blk t o (oV x1 x2 x3 x4 x5 (t 0 0)) 51 57 := by rw [e7, z6, f6]; exact blk_s (by decide) rfl
  have f8 : t8 = blk t o (oV x1 x2 x3 x4 x5 (t 0 0)) 51 58 := by rw [e8, f7]; exact blk_s (by decide) rfl
  have f9 : t9 = blk t o (oV x1 x2 x3 x4 x5 (t 0 0)) 51 59 := by rw [e9, f8]; exact blk_s (by decide) rfl
  have f10 : t10 = blk t o (oV x1 x2 x3 x4 x5 (t 0 0)) 51 60 := by rw [e10, f9]; exact blk_s (by decide) rfl
  have z10 : t10 50 0 = nI o := by rw [f10]; exact (if_neg (by omega)).trans h50
  have f11 : t11 = tO t o x1 x2 x3 x4 x5 := by rw [e11, z10, nI_1, f10]; rfl
  subst f11
  exact w_add_s (by rw [tO_TF 88 (by decide)]; exact h88) (by decide) hQ
theorem made_c {n : Nat} (hn : 100 ≤ n) {S : Nat → Prop} {X : Mem} {m : Nat} {N : Mem} {t : DB} {T s a v : Nat} {x5 : Int32} (q : QS S X m N t) (hT : T < cn t 47) (hs : s < cn t 1) (ha : a ≤ 2) (hv : v ≤ 1000000) (h5 : ¬ x5 < 0) (ho : cn t 50 < 60) :
    cq (n + 15) mX0_begins [.inr (1, 0), .inl (nI T), .inl (nI s), .inl (nI a), .inl (nI v), .inl x5] N (fun r N' => r = some (.inl (nI (cn t 50))) ∧ ∃ t', QS S X m N' t' ∧ TF t t' (RC ++ OC) ∧ ∀ Q : Int32 → DB → Prop, Q (nI (cn t 50)) t' → w_made (nI T) (nI s) (nI a) (nI v) x5 t Q) := by
  obtain ⟨hS, hW, hV, h88⟩ := q
  have hn61 := hS.1.nC
  have h47 : cn t 47 ≤ 10 := hS.iB.2.2.2.2.1.2
  have h24 : cn t 30 ≤ 24 := hS.iB.2.2.2.1.2
  have b50 : t 50 0 = nI (cn t 50) := hS.iB.2.2.2.2.2.1.1
  obtain ⟨rb1, rb2⟩ := rom_b hS.1
  have rem := tO_rem hS.1 (o := cn t 50) (x1 := nI T) (x2 := nI s) (x3 := nI a) (x4 := nI v) (x5 := x5) rfl
  have hcap0 := hS.iU.1
  obtain ⟨o, eo⟩ : ∃ o, o = cn t 50 := ⟨_, rfl⟩
  have hE : N.2.2.1 20 o = 0 := hS.E (20, 50) (by decide) o (by show cn t 50 ≤ o; omega)
  have h8 : N.1 30 8 0 = nI o := (hS.S (8, 50, 0) (by decide)).trans (by rw [eo]; exact b50)
  have hSO := hS.1.newO (T := T) (s := s) (a := a) (v := v) (x5 := x5) (Nat.le_refl _) eo.symm (by omega) hT hs ha hv h5
  have ht := tO_TF (t := t) (o := o) (x1 := nI T) (x2 := nI s) (x3 := nI a) (x4 := nI v) (x5 := x5)
  have hPO : I_P (tO t o (nI T) (nI s) (nI a) (nI v) x5) := hS.2.fr ht (by decide)
  have hWO : I_W (fun _ => False) (tO t o (nI T) (nI s) (nI a) (nI v) x5) := hW.fr ht (by decide)
  have hVO : QV S (tO t o (nI T) (nI s) (nI a) (nI v) x5) := hV.fr ht (by decide)
  obtain ⟨hT', i1, i2, -⟩ := hS.iT T (Or.inl hT)
  have c50 : cn (tO t o (nI T) (nI s) (nI a) (nI v) x5) 50 = o + 1 := by
    show (up _ 50 0 (nI (o + 1)) 50 0).toNatClampNeg = _
    rw [up_s, nI_clamp (by omega)]
  have o51 : tO t o (nI T) (nI s) (nI a) (nI v) x5 51 o = nI T := by rw [tO_f (by decide) (by decide), if_pos rfl]; rfl
  have o58 : tO t o (nI T) (nI s) (nI a) (nI v) x5 58 o = 0 := by rw [tO_f (by decide) (by decide), if_pos rfl]; rfl
  have n8 : (nO N o (42, T) (nI s) (nI a) (nI v) x5 (t 0 0)).1 20 o 8 = 0 := by rw [nO_i, if_pos rfl]; rfl
  have n0 : (nO N o (42, T) (nI s) (nI a) (nI v) x5 (t 0 0)).1 20 o 0 = nI o := by rw [nO_i, if_pos rfl]; rfl
  rw [← eo] at rem hcap0
  have mdl : ∀ t' : DB, RUN (psh (tO t o (nI T) (nI s) (nI a) (nI v) x5) 0 0 (nI o) 0 (-1) (-1)) t' → t' 88 0 = nI 0 → ∀ Q : Int32 → DB → Prop, Q (nI o) t' → w_made (nI T) (nI s) (nI a) (nI v) x5 t Q := fun t' hr h0 Q hQ => w_made_s (by rw [eo]; exact b50) (by omega) h88 (hr.work h0 hQ)
  have hnO : v_X0_begins (n + 4) (1, 0) (nI T) (nI s) (nI a) (nI v) x5 N (fun r N' => r = nI o ∧ ∃ t', QS S X m N' t' ∧ TF t t' (RC ++ OC) ∧ ∀ Q : Int32 → DB → Prop, Q (nI o) t' → w_made (nI T) (nI s) (nI a) (nI v) x5 t Q) := by
    have wW := hS.W.1
    have z : ∀ k i f, k ≠ 20 → (sN N 20 o 0 10).1 k i f = N.1 k i f := fun k i f hk => if_neg (fun y => hk y.1)
    have zr : ∀ k i f, k ≠ 20 → (sN N 20 o 0 10).2.1 k i f = N.2.1 k i f := fun k i f hk => if_neg (fun y => hk y.1)
    refine ⟨⟨by omega, by omega⟩, o, hE, fun M2 g2 => ⟨rfl, fun e3 ee3 => ?_⟩⟩
    subst g2
    have q3 : e3 = (30, 8) := ee3.trans ((zr 1 0 8 (by decide)).trans (wW 8 (by decide) (by decide)))
    subst q3
    refine ⟨⟨by decide, by decide⟩, rfl, fun e4 ee4 => ?_⟩
    have q4 : e4 = (30, 7) := ee4.trans ((zr 1 0 7 (by decide)).trans (wW 7 (by decide) (by decide)))
    subst q4
    have s7 : (sN N 20 o 0 10).1 (30, 7).1 (30, 7).2 0 = nI (cn t 47) := (z 30 7 0 (by decide)).trans ((hS.S (7, 47, 0) (by decide)).trans hS.iB.2.2.2.2.1.1)
    refine ⟨⟨by decide, by decide⟩, ⟨nI_pos (by omega), by rw [s7]; exact nI_lt hT (by omega)⟩, fun e5 ee5 => ?_⟩
    rw [nI_clamp (by omega)] at ee5
    have q5 : e5 = (42, T) := ee5.trans ((zr 30 7 T (by decide)).trans (hS.K (7, 42, 47) (by decide) T hT))
    subst q5
    have s8 : (sN N 20 o 0 10).1 (30, 8).1 (30, 8).2 0 = nI o := (z 30 8 0 (by decide)).trans h8
    have s0 : (sN N 20 o 0 10).1 (1, 0).1 (1, 0).2 0 = t 0 0 := (z 1 0 0 (by decide)).trans hS.W.2.1
    rw [s8, s0]
    refine ⟨rfl, rfl, by decide, by show ¬ 20 = 0; decide, rfl, fun M1 g1 => ⟨rfl, fun M2 g2 => ⟨rfl, fun M3 g3 => ⟨rfl, fun M4 g4 => ⟨rfl, fun M5 g5 => ⟨rfl, fun M6 g6 => ⟨rfl, fun M7 g7 => ⟨rfl, fun M8 g8 => ⟨rfl, fun e8 ee8 => ?_⟩⟩⟩⟩⟩⟩⟩⟩⟩
    subst g1; subst g2; subst g3; subst g4; subst g5; subst g6; subst g7; subst g8
    have q8 : e8 = (30, 8) := by
      rw [ee8]
      show (if 1 = 20 ∧ 0 = o ∧ 8 = 6 then (42, T) else if 1 = 20 ∧ 0 = o then ((0, 0) : Nat × Nat) else N.2.1 1 0 8) = _
      rw [if_neg (by omega), if_neg (by omega)]
      exact wW 8 (by decide) (by decide)
    subst q8
    refine ⟨⟨by decide, by decide⟩, rfl, ?_, ⟨by show N.2.2.2.1 + 1 + 1 ≤ _; omega, by show N.2.2.2.2 + 10 + 10 ≤ _; omega⟩, fun M9 g9 => ⟨rfl, ?_⟩⟩
    · show (sI (sI (sI (sI (sI (sR (sI (sI (sN N 20 o 0 10) 20 o 9 (-1)) 20 o 0 (nI o)) 20 o 6 (42, T)) 20 o 1 (nI s)) 20 o 2 (nI a)) 20 o 3 (nI v)) 20 o 4 x5) 20 o 5 (t 0 0)).1 30 8 0 < 10000
      rw [sI_ne (by simp), sI_ne (by simp), sI_ne (by simp), sI_ne (by simp), sI_ne (by simp)]
      show (sI (sI (sN N 20 o 0 10) 20 o 9 (-1)) 20 o 0 (nI o)).1 30 8 0 < 10000
      rw [sI_ne (by simp), sI_ne (by simp), z 30 8 0 (by decide), h8]
      exact nI_lt (b := 10000) (by omega) (by decide)
    have g9' : M9 = nO N o (42, T) (nI s) (nI a) (nI v) x5 (t 0 0) := g9
    subst g9'
    generalize nO N o (42, T) (nI s) (nI a) (nI v) x5 (t 0 0) = N2 at *
    generalize et : tO t o (nI T) (nI s) (nI a) (nI v) x5 = t2 at *
    have uS : SZ X m o [] 100000 N2 (psh t2 0 0 (nI o) 0 (-1) (-1)) := hSO.tt (psh_TF.mono (by decide))
    have uT : TF t2 (psh t2 0 0 (nI o) 0 (-1) (-1)) [83, 84, 85, 86, 87, 88] := psh_TF
    have uM : MO t2 (psh t2 0 0 (nI o) 0 (-1) (-1)) := MO.psh
    have p88 : psh t2 0 0 (nI o) 0 (-1) (-1) 88 0 = nI (0 + 1) := psh_88
    have p83 : psh t2 0 0 (nI o) 0 (-1) (-1) 83 0 = 0 := psh_83
    have p84 : psh t2 0 0 (nI o) 0 (-1) (-1) 84 0 = nI o := psh_84
    have p85 : psh t2 0 0 (nI o) 0 (-1) (-1) 85 0 = 0 := psh_85
    have p86 : psh t2 0 0 (nI o) 0 (-1) (-1) 86 0 = -1 := psh_86
    have p87 : psh t2 0 0 (nI o) 0 (-1) (-1) 87 0 = -1 := psh_87
    have uW : I_W (fun _ => False) (psh t2 0 0 (nI o) 0 (-1) (-1)) := hWO.fr uT (by decide)
    have uV : QV S (psh t2 0 0 (nI o) 0 (-1) (-1)) := hVO.fr uT (by decide)
    generalize eu : psh t2 0 0 (nI o) 0 (-1) (-1) = u at *
    have pT : TF t2 (pop u 0) ([83, 84, 85, 86, 87, 88] ++ [83, 84, 85, 86, 87, 88]) := uT.tr pop_TF
    have rp : RP0 X m [] N2 (pop u 0) 0 o T hT' := by
      refine ⟨hSO.tt (pT.mono (by decide)), hPO.fr pT (by decide), by decide, by rw [pT.cn (by decide), c50]; omega, ⟨by rw [pT 51 (by decide)]; exact o51, by rw [pT.cn (by decide), ht.cn (by decide)]; exact hT, by rw [pT 48 (by decide), ht 48 (by decide)]; exact i2, i1⟩, fun l hl y => ?_, by rw [pT 58 (by decide)]; exact o58, n8, ?_, up_s⟩
      · rw [pT.cn (by decide), ht.cn (by decide)] at hl
        rw [pT 62 (by decide), ht 62 (by decide)] at y
        obtain ⟨o', T', h', d', y1, y2, -⟩ := hS.iC l hl
        have : o = o' := (nI_eq (by omega) (by omega)).mp (y.symm.trans y2)
        omega
      · have er : ∀ c, c < cn t 61 → remC (pop u 0) c = remC t c := fun c hc => by
          rw [← rem c hc]
          unfold remC capD srt
          rw [pT 65 (by decide), pT 31 (by decide), pT 73 (by decide), pT 62 (by decide), pT 48 (by decide), pT 49 (by decide), pT 63 (by decide), pT 51 (by decide)]
        rw [pT.cn (by decide), pT.cn (by decide), c50, ht.cn (f := 61) (by decide), sumTo_congr er]
        omega
    refine (RT hn rp p88 p83 p84 p85 p86 p87).mono ?_
    rintro r N' ⟨hr, t', b1, b2, b3, b4, b5⟩
    refine ⟨hr, rfl, ?_, t', ⟨b3, b5 _ uW, uV.mb b4 (fun y => absurd y (by omega)), b2.1⟩, ?_, mdl t' b1 b2.1⟩
    · have k50 : cn t' 50 = o + 1 := by rw [b4.1.cn (by decide), uT.cn (by decide)]; exact c50
      exact b3.N (20, 50) (by decide) o (by show o < cn t' 50; omega)
    · intro f hf
      have f1 : f ∉ RC := fun y => hf (List.mem_append_left _ y)
      have f2 : f ∉ OC := fun y => hf (List.mem_append_right _ y)
      rw [b4.1 f f1, uT f (fun y => f1 ((by decide : ∀ f ∈ [83, 84, 85, 86, 87, 88], f ∈ RC) f y)), ht f f2]
  have := sv_X0_begins (d := n + 4) (P := fun r N' => r = some (.inl (nI o)) ∧ ∃ t', QS S X m N' t' ∧ TF t t' (RC ++ OC) ∧ ∀ Q : Int32 → DB → Prop, Q (nI o) t' → w_made (nI T) (nI s) (nI a) (nI v) x5 t Q) (fun r N' w => ⟨by rw [w.1], w.2⟩) hnO
  rw [eo] at this
  exact this
