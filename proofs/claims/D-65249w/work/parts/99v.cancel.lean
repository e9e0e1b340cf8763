set_option maxRecDepth 100000
/-! an order is cancelled -/
theorem SZ.canc {X : Mem} {m : Nat} {P : List Nat} {x : Nat} {N : Mem} {t : DB} (h : SZ X m 60 P x N t) {o : Nat} (ho : o < cn t 50) {T : Int32} : SZ X m o P x (sI (sI N 20 o 8 1) 20 o 9 T) (up (up t 58 o 4) 57 o T) := by
  have hf : NF N (sI (sI N 20 o 8 1) 20 o 9 T) [20] := (NF.rf.wI _ _ _ (by decide)).wI _ _ _ (by decide)
  have ht : TF t (up (up t 58 o 4) 57 o T) [57, 58] := (TF.rf.wu _ _ (by decide)).wu _ _ (by decide)
  have h60 : cn t 50 ≤ 60 := h.iB.2.2.2.2.2.1.2
  have hI : S_I (sI (sI N 20 o 8 1) 20 o 9 T) (up (up t 58 o 4) 57 o T) := ((h.I.wn 20 o 8 1 (by decide)).wt 58 o 4 (by decide)).wu (20, 9, 57, 50) (by decide) o T
  have hN := ((h.N.wn 20 o 8 1 (by decide)).wn 20 o 9 T (by decide)).fr (K := []) NF.rf (by decide) ht (by decide)
  have hR : S_R (sI (sI N 20 o 8 1) 20 o 9 T) (up (up t 58 o 4) 57 o T) := h.R.fr (K := []) (N' := N) NF.rf (by decide) ht (by decide)
  have hO : S_O o (sI (sI N 20 o 8 1) 20 o 9 T) (up (up t 58 o 4) 57 o T) := by
    intro i hi hne
    rw [ht.cn (by decide)] at hi
    have y := h.O i hi (by omega)
    rw [sI_ne (by simp), sI_ne (by simp [hne]), ht.cn (by decide), ht 59 (by decide), ht 62 (by decide), ht 64 (by decide), ht 69 (by decide), ht 70 (by decide), ht 71 (by decide), up_f (by decide), up_n (by simp [hne])]
    exact y
  exact ⟨hI, hR, hN, h.K.fr hf (by decide) ht (by decide), h.S.fr hf (by decide) ht (by decide), h.E.fr rfl ht (by decide), h.W.fr hf (by decide) ht (by decide), h.P1.fr hf (by decide) ht (by decide), h.P2.fr hf (by decide) ht (by decide), h.G.fr hf (by decide) ht (by decide), h.G0.fr hf (by decide) ht (by decide), h.G1.fr hf (by decide) ht (by decide), h.G2.fr hf (by decide) ht (by decide), h.G7.fr hf (by decide) ht (by decide), h.T.fr hf (by decide) ht (by decide), h.U.fr hf (by decide) ht (by decide), h.C.fr hf (by decide) ht (by decide), h.V.fr hf (by decide) ht (by decide), hO, h.A.fr hf (by decide) ht (by decide), h.Y.fr hf (by decide) ht (by decide), h.Q.fr hf (by decide) ht (by decide), h.B.fr ht (by decide), h.F.fr hf (by decide), h.M.fr rfl ht (by decide), h.iB.fr ht (by decide), h.iG.fr ht (by decide), h.iT.fr ht (by decide), h.iO.fr ht (by decide), h.iC.fr ht (by decide), h.iH.fr ht (by decide), h.iZ.fr ht (by decide), h.iL.fr ht (by decide), h.iR.fr ht (by decide), h.iX.fr ht (by decide), h.iU.fr ht (by decide), h.iD.fr ht (by decide), h.iK.fr ht (by decide), h.iY.fr ht (by decide), h.J.fr ht (by decide), h.GT.fr hf (by decide) ht (by decide), h.H.fr hf (by decide) ht (by decide)⟩
/-- all of an order's calls are within its first one -/
theorem all_in {X : Mem} {m z : Nat} {P : List Nat} {x : Nat} {N : Mem} {t : DB} (h : SZ X m z P x N t) {c o : Nat} (hc : c < cn t 61) (h62 : t 62 c = nI o) (h64 : t 64 c = -1) : ∀ n k, k ≤ n → k < cn t 61 → t 62 k = nI o → wi t c k = true := by
  intro n
  induction n with
  | zero =>
    intro k hk hk1 e
    obtain ⟨o', T, hh, d, a1, a2, a3, a4, a5, a6, a7, a8, a9, -⟩ := h.iC k hk1
    rcases a9 with ⟨-, y⟩ | ⟨p, e', b1, -⟩
    · have : k = c := h.iR k c hk1 hc y h64 (e.trans h62.symm)
      subst this
      exact wi_self h hc
    · omega
  | succ n ih =>
    intro k hk hk1 e
    obtain ⟨o', T, hh, d, a1, a2, a3, a4, a5, a6, a7, a8, a9, -⟩ := h.iC k hk1
    rcases a9 with ⟨-, y⟩ | ⟨p, e', b1, b2, b3, -⟩
    · have : k = c := h.iR k c hk1 hc y h64 (e.trans h62.symm)
      subst this
      exact wi_self h hc
    · have hn := h.nC
      exact wi_up h hk1 (by omega) b2 (ih p (by omega) (by omega) (b3.trans (a2.symm.trans e)))
theorem mk_IPr {X : Mem} {m z : Nat} {P : List Nat} {x : Nat} {N : Mem} {t : DB} (hS : SZ X m z P x N t) {c : Nat} {F : Nat → Bool} (hI : I_P t) (hF : ∀ k, k < cn t 61 → F k = wi t c k) (h64 : t 64 c = -1) : I_P (tMk t F (cn t 61)) := by
  have hn := hS.nC
  have ht1 := tMk_TF (t := t) (F := F) (j := cn t 61)
  intro k hk h0 p hp e
  rw [ht1.cn (by decide)] at hk hp
  rw [ht1 64 (by decide)] at e
  rw [tMk_69] at h0
  have hkL : k ∉ LF t F (cn t 61) := fun y => by rw [if_pos y] at h0; exact absurd h0 (by decide)
  rw [if_neg hkL] at h0
  have nwk : ¬ wi t c k = true := fun y => hkL (LF_mem.mpr ⟨hk, (hF k hk).trans y, h0⟩)
  have nwp : ¬ wi t c p = true := fun y => nwk (wi_up hS hk (by omega) e y)
  have nin : ∀ j, j < cn t 61 → t 64 j = nI p → j ∉ LF t F (cn t 61) := fun j hj ej y => by
    have w := (hF j hj).symm.trans (LF_mem.mp y).2.1
    rw [wi_s hS hj, ej, if_neg (nI_pos (by omega)), nI_clamp (by omega)] at w
    have hjc : j ≠ c := fun v => by rw [v, h64] at ej; exact nI_m1 (by omega) ej.symm
    have hkb : (j == c) = false := by simpa using hjc
    rw [hkb, Bool.false_or] at w
    exact nwp w
  obtain ⟨y1, y2⟩ := hI k hk h0 p hp e
  rw [tMk_69, if_neg (fun y => nwp ((hF p hp).symm.trans (LF_mem.mp y).2.1))]
  refine ⟨y1, fun g hg h65 j hj hjk ej => ?_⟩
  rw [ht1.cn (by decide)] at hg hj
  rw [ht1 65 (by decide)] at h65
  rw [ht1 64 (by decide)] at ej
  rw [ht1 31 (by decide), tMk_69, if_neg (nin j hj ej)]
  exact y2 g hg h65 j hj hjk ej
theorem mk_Or {X : Mem} {m o : Nat} {P : List Nat} {x : Nat} {N : Mem} {t : DB} (hS : SZ X m o P x N t) {c : Nat} {F : Nat → Bool} (hF : ∀ k, k < cn t 61 → F k = wi t c k) (hc : c < cn t 61) (h64 : t 64 c = -1) (h62 : t 62 c = nI o) (h69 : t 69 c = 0) (h58 : t 58 o = 4) (n8 : N.1 20 o 8 = 1) (n7 : N.2.1 20 o 7 = (21, c)) (ho : o < cn t 50) : ∀ N', NF N N' [21, 33] → S_O 60 N' (tMk t F (cn t 61)) := by
  intro N' hf i hi _
  have ht1 := tMk_TF (t := t) (F := F) (j := cn t 61)
  obtain ⟨f1, f2, -⟩ := hf 20 (by decide)
  have h60 : cn t 50 ≤ 60 := hS.iB.2.2.2.2.2.1.2
  rw [ht1.cn (by decide)] at hi
  rw [f1, f2, ht1.cn (by decide), ht1 58 (by decide), ht1 59 (by decide), ht1 62 (by decide), ht1 64 (by decide), ht1 70 (by decide), ht1 71 (by decide)]
  by_cases e : i = o
  · subst e
    refine ⟨by rw [n8, h58]; rfl, c, hc, n7, h62, h64, Or.inl ⟨h58, ?_⟩⟩
    rw [tMk_69, if_pos (LF_mem.mpr ⟨hc, (hF c hc).trans (wi_self hS hc), h69⟩)]
  · obtain ⟨a1, k, k1, k2, k3, k4, k5⟩ := hS.O i hi e
    have nk : k ∉ LF t F (cn t 61) := fun y => by
      have w := (wi_62 hS hc k k (Nat.le_refl _) k1 ((hF k k1).symm.trans (LF_mem.mp y).2.1)).1
      rw [k3, h62] at w
      exact e ((nI_eq (by omega) (by omega)).mp w)
    refine ⟨a1, k, k1, k2, k3, k4, ?_⟩
    rw [tMk_69, if_neg nk]
    exact k5
theorem ap_cancel (x : Int32) : AP mX0_cancel [.inl x] (w_cancel x) := by
  intro n X m N t hn hm q
  have q' := q.mup (Nat.le_succ m) hm
  have b50 := q.1.iB.2.2.2.2.2.1
  have b60 : cn t 50 ≤ 60 := b50.2
  have w8 : N.2.1 1 0 8 = (30, 8) := q.1.W.1 8 (by decide) (by decide)
  have s8 : N.1 30 8 0 = t 50 0 := q.1.S (8, 50, 0) (by decide)
  have tm : N.1 1 0 0 = t 0 0 := q.1.W.2.1
  show cq (n + 9 + 11) mX0_cancel [.inr (1, 0), .inl x] N _
  refine sv_X0_cancel (d := n + 9) (Q := fun v N' => ∃ t', QS (fun _ => True) X (m + 1) N' t' ∧ ∀ Q, Q v t' → w_cancel x t Q) (fun v N' ⟨t', a, b⟩ => ⟨v, t', rfl, a, b⟩) ⟨rfl, fun e1 ee1 => ?_⟩
  have q1 : e1 = (30, 8) := ee1.trans w8
  subst q1
  refine has_c s8 (fun h => ⟨fun v => absurd rfl v, fun _ => ⟨t, q', fun Q hQ => ⟨fun _ => hQ, fun a => ⟨fun b => absurd h (fun h => h.elim a (Int32.not_le.mpr b)), fun _ => hQ⟩⟩⟩⟩) (fun a1 a2 => ⟨fun _ => ⟨rfl, fun e4 ee4 => ?_⟩, fun v => absurd v (by decide)⟩)
  obtain ⟨o, ho, ei⟩ := rngL (x := x) (n := cn t 50) (by omega) a1 (by rw [← b50.1]; exact a2)
  subst ei
  have co : (nI o).toNatClampNeg = o := nI_clamp (by omega)
  have vo : vp_in (nI o) 60 := vp_in_nI (by omega) (by decide)
  have q4 : e4 = (30, 8) := ee4.trans w8
  subst q4
  refine ⟨⟨by decide, by decide⟩, ⟨a1, by show nI o < N.1 30 8 0; rw [s8]; exact Int32.not_le.mp a2⟩, fun e5 ee5 => ?_⟩
  rw [co] at ee5
  have q5 : e5 = (20, o) := ee5.trans (q.1.K (8, 20, 50) (by decide) o ho)
  subst q5
  have M1 : ∀ Q : Int32 → DB → Prop, ((t 58 o = 0 → vp_in (nI o) 60 ∧ ∀ t_1 : DB, t_1 = up t 58 o 4 → vp_in (nI o) 60 ∧ ∀ t_2 : DB, t_2 = up t_1 57 o (t_1 0 0) → w_takeBack (-1) (nI o) t_2 (fun r_4 t_3 => w_work t_3 (fun t_5 => Q r_4 t_5))) ∧ (¬ t 58 o = 0 → Q (-4) t)) → w_cancel (nI o) t Q := fun Q h => by
    unfold w_cancel
    rw [co]
    exact ⟨fun a => absurd a a1, fun _ => ⟨fun _ => ⟨vo, h⟩, fun a => absurd (Int32.not_le.mp a2) a⟩⟩
  refine ⟨rfl, rfl, outc_c q.1.1 ho ⟨fun y => ⟨rfl, fun M8 g8 => ⟨rfl, rfl, fun M9 g9 => ⟨rfl, fun e10 ee10 => ?_⟩⟩⟩, fun y => ⟨t, q', fun Q hQ => M1 Q ⟨fun v => absurd v y, fun _ => hQ⟩⟩⟩⟩
  obtain ⟨o8, c, c1, c2, c3, c4, c5⟩ := q.1.O o ho (by omega)
  have h69 : t 69 c = 0 := by
    rcases c5 with ⟨v, -⟩ | ⟨v, -⟩ | ⟨-, v, -⟩ | ⟨-, v, -⟩
    · rw [y] at v; exact absurd v (by decide)
    · exact v
    · rw [y] at v
      by_cases w : t 71 c = 1
      · rw [if_pos w] at v; exact absurd v (by decide)
      · rw [if_neg w] at v; exact absurd v (by decide)
    · rw [y] at v; exact absurd v (by decide)
  have g8' : M8 = sI N 20 o 8 1 := g8
  subst g8'
  have g9' : M9 = sI (sI N 20 o 8 1) 20 o 9 (t 0 0) := by
    rw [g9]
    show sI _ 20 o 9 ((sI N 20 o 8 1).1 1 0 0) = _
    rw [sI_ne (by simp), tm]
  subst g9'
  have q10 : e10 = (21, c) := ee10.trans c2
  subst q10
  obtain ⟨hS, hW, hV, h88⟩ := q'
  have aS := hS.1.canc ho (T := t 0 0)
  have ht : TF t (up (up t 58 o 4) 57 o (t 0 0)) [57, 58] := (TF.rf.wu _ _ (by decide)).wu _ _ (by decide)
  have n8 : (sI (sI N 20 o 8 1) 20 o 9 (t 0 0)).1 20 o 8 = 1 := by
    rw [sI_ne (by simp), sI_self]
  have h58 : up (up t 58 o 4) 57 o (t 0 0) 58 o = 4 := by
    rw [up_f (by decide), up_s]
  have M2 : ∀ Q : Int32 → DB → Prop, w_takeBack (-1) (nI o) (up (up t 58 o 4) 57 o (t 0 0)) (fun r_4 t_3 => w_work t_3 (fun t_5 => Q r_4 t_5)) → w_cancel (nI o) t Q := fun Q h => M1 Q ⟨fun _ => ⟨vo, fun t1 e1 => ⟨vo, fun t2 e2 => by
    subst e1
    rw [show up t 58 o 4 0 0 = t 0 0 from up_f (by decide)] at e2
    subst e2
    exact h⟩⟩, fun v => absurd y v⟩
  generalize up (up t 58 o 4) 57 o (t 0 0) = ta at *
  have n7 : (sI (sI N 20 o 8 1) 20 o 9 (t 0 0)).2.1 20 o 7 = (21, c) := c2
  generalize sI (sI N 20 o 8 1) 20 o 9 (t 0 0) = Na at *
  have za : ∀ f, f ∉ [57, 58] → ta f = t f := fun f hf => ht f hf
  have ca : cn ta 61 = cn t 61 := cn_fr (za 61 (by decide))
  have cta : c < cn ta 61 := by rw [ca]; exact c1
  have c3' : ta 62 c = nI o := by rw [za 62 (by decide)]; exact c3
  have c4' : ta 64 c = -1 := by rw [za 64 (by decide)]; exact c4
  have c69' : ta 69 c = 0 := by rw [za 69 (by decide)]; exact h69
  have hn61 := aS.nC
  have hFF : ∀ k, k < cn ta 61 → (wi ta c k = true ↔ (nI k = -1 ∨ (¬ nI o < 0 ∧ ta 62 k = nI o) ∨ ∃ p, p < k ∧ ta 64 k = nI p ∧ wi ta c p = true)) := fun k hk => by
    refine ⟨fun w => Or.inr (Or.inl ⟨a1, ((wi_62 aS cta k k (Nat.le_refl _) hk w).1).trans c3'⟩), fun w => ?_⟩
    rcases w with w | ⟨-, w⟩ | ⟨p, p1, p2, p3⟩
    · exact absurd w (nI_m1 (by omega))
    · exact all_in aS cta c3' c4' k k (Nat.le_refl _) hk w
    · exact wi_up aS hk (by omega) p2 p3
  obtain ⟨len, m1, m2, m3⟩ := tb_all (n := n + 6) (z' := 60) (h := 0) (c := c) (F := wi ta c) (x1 := -1) (x2 := nI o) aS cta c69' (by rw [za 88 (by decide)]; exact h88) (by decide) (Nat.le_refl _) hFF (fun _ _ _ => rfl) (mk_Or aS (fun _ _ => rfl) cta c4' c3' c69' h58 n8 n7 (by rw [cn_fr (za 50 (by decide))]; exact ho)) (mk_IPr aS (hS.2.fr ht (by decide)) (fun _ _ => rfl) c4') (fun _ => ⟨CE05 (by omega), by decide⟩)
  have w1 : I_W (fun _ => False) (tMk ta (wi ta c) (cn ta 61)) := mk_W aS (fun _ _ => rfl) (fun p' hp' e' => absurd (e'.symm.trans c4') (nI_m1 (by omega))) (hW.fr ht (by decide))
  refine ⟨rfl, m3.mono ?_⟩
  rintro r N' ⟨hr, t', x1, ⟨A1, A2, A3, -, A5⟩, x3⟩
  have hM : MO ta t' := m2.tr A2
  have hVa : QV (fun _ => True) ta := hV.fr ht (by decide)
  have h24 : cn ta 30 ≤ 24 := aS.iB.2.2.2.1.2
  exact ⟨nI len, hr, t', ⟨x1, A5 _ w1, hVa.mb (q := 100000) (MB.of hM h24) (fun y => by omega), x3⟩, fun Q hQ => M2 Q (m1 _ (A1.work x3 hQ))⟩
