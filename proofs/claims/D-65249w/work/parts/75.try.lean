set_option maxRecDepth 100000
/-! a try begins -/
/-- the new one is reckoned with -/
theorem SZ.live {X : Mem} {m z : Nat} {P : List Nat} {N : Mem} {t : DB} {c : Nat} (h : SZ X m z P c N t) (hU : cn t 23 + sumTo (cn t 61) (undW t c) + 1 ≤ cn t 61 ∧ cn t 17 + sumTo (cn t 61) (undW t c) + 1 ≤ cn t 61 ∧ cn t 82 + sumTo (cn t 61) (undW t c) + 1 ≤ cn t 61)
    (hq : N.1 21 c 14 = stOf t c) (hg : ∀ g, t 65 c = nI g → g < cn t 30 → (t 31 g = 0 → (t 79 c = 1 → t 36 g = 2) ∧ (t 79 c = 1 ↔ N.2.1 10 g 10 = (21, c))) ∧ (t 31 g = 1 → (t 75 c = 1 ∧ t 77 c = 0 ∧ ∃ j, j < (t 40 g).toNatClampNeg ∧ t 43 (10 * g + j) = nI c) ∨ (t 75 c = 0 ∧ t 77 c = 1))) : SZ X m z P 100000 N t := by
  have hf : NF N N [] := NF.rf
  have ht : TF t t [] := TF.rf
  have hn := h.nC
  have hQ : S_Q P 100000 N t := by
    intro k hk hl
    by_cases e : k = c
    · subst e; exact ⟨hq, hg⟩
    · refine h.Q k hk ?_
      rcases hl with ⟨q, -⟩ | q
      · exact Or.inl ⟨q, e⟩
      · exact Or.inr q
  have hB : S_B P 100000 t := by
    intro g hg' hs j hj
    obtain ⟨k, a1, a2, a3, a4, a5, a6, a7⟩ := h.B g hg' hs j hj
    refine ⟨k, a1, a2, a3, a4, a5, ?_, a7⟩
    rcases a6 with ⟨q, -⟩ | q
    · exact Or.inl ⟨q, by omega⟩
    · exact Or.inr q
  have le1 : ∀ n, n ≤ 100000 → sumTo n (undW t 100000) ≤ sumTo n (undW t c) + 1 := by
    intro n
    induction n with
    | zero => intro _; exact Nat.zero_le _
    | succ n ih =>
      intro hn'
      have := ih (by omega)
      show sumTo n (undW t 100000) + undW t 100000 n ≤ sumTo n (undW t c) + undW t c n + 1
      by_cases e : n = c
      · have e2 : sumTo n (undW t 100000) ≤ sumTo n (undW t c) := sumTo_le (fun i hi => by
          unfold undW
          by_cases y : t 69 i = 0 ∧ i ≠ 100000
          · rw [if_pos y, if_pos ⟨y.1, by omega⟩]; exact Nat.le_refl _
          · rw [if_neg y]; exact Nat.zero_le _)
        have e3 : undW t 100000 n ≤ 1 := by unfold undW; split <;> omega
        omega
      · have : undW t 100000 n ≤ undW t c n := by
          unfold undW
          by_cases y : t 69 n = 0 ∧ n ≠ 100000
          · rw [if_pos y, if_pos ⟨y.1, e⟩]; exact Nat.le_refl _
          · rw [if_neg y]; exact Nat.zero_le _
        omega
  have hIU : I_U 100000 t := by
    obtain ⟨u1, -⟩ := h.iU
    have := le1 (cn t 61) (by omega)
    exact ⟨u1, by omega, by omega, by omega⟩
  exact ⟨h.I.fr hf (by decide) ht (by decide), h.R.fr hf (by decide) ht (by decide), h.N.fr hf (by decide) ht (by decide), h.K.fr hf (by decide) ht (by decide), h.S.fr hf (by decide) ht (by decide), h.E.fr rfl ht (by decide), h.W.fr hf (by decide) ht (by decide), h.P1.fr hf (by decide) ht (by decide), h.P2.fr hf (by decide) ht (by decide), h.G.fr hf (by decide) ht (by decide), h.G0.fr hf (by decide) ht (by decide), h.G1.fr hf (by decide) ht (by decide), h.G2.fr hf (by decide) ht (by decide), h.G7.fr hf (by decide) ht (by decide), h.T.fr hf (by decide) ht (by decide), h.U.fr hf (by decide) ht (by decide), h.C.fr hf (by decide) ht (by decide), h.V.fr hf (by decide) ht (by decide), h.O.fr hf (by decide) ht (by decide), h.A.fr hf (by decide) ht (by decide), h.Y.fr hf (by decide) ht (by decide), hQ, hB, h.F.fr hf (by decide), h.M.fr rfl ht (by decide), h.iB.fr ht (by decide), h.iG.fr ht (by decide), h.iT.fr ht (by decide), h.iO.fr ht (by decide), h.iC.fr ht (by decide), h.iH.fr ht (by decide), h.iZ.fr ht (by decide), h.iL.fr ht (by decide), h.iR.fr ht (by decide), h.iX.fr ht (by decide), hIU, h.iD.fr ht (by decide), h.iK.fr ht (by decide), h.iY.fr ht (by decide), h.J.fr ht (by decide), h.GT.fr hf (by decide) ht (by decide), h.H.fr hf (by decide) ht (by decide)⟩
/-- the slack that the new one brings -/
theorem newU {t t' : DB} {c o d p : Nat} {pb : Bool} {gv sv jv lv : Int32} (hc : cn t 61 = c) (hc2 : c ≤ 4019) (hU : I_U 100000 t) (a : NCt t t' c o d pb p gv sv jv lv) : cn t' 23 + sumTo (cn t' 61) (undW t' c) + 1 ≤ cn t' 61 ∧ cn t' 17 + sumTo (cn t' 61) (undW t' c) + 1 ≤ cn t' 61 ∧ cn t' 82 + sumTo (cn t' 61) (undW t' c) + 1 ≤ cn t' 61 := by
  obtain ⟨ht, a61, av⟩ := a
  have c61 : cn t' 61 = c + 1 := by
    unfold cn
    rw [a61, up_s, nI_clamp (by omega)]
  obtain ⟨-, u2, u3, u4⟩ := hU
  rw [hc] at u2 u3 u4
  have e1 : sumTo c (undW t' c) ≤ sumTo c (undW t 100000) := sumTo_le (fun i hi => by
    have e69 : t' 69 i = t 69 i := by rw [av 69 (by decide) (by decide), if_neg (by omega), if_neg (fun q => absurd q.1 (by decide))]
    unfold undW
    rw [e69]
    by_cases y : t 69 i = 0 ∧ i ≠ c
    · rw [if_pos y, if_pos ⟨y.1, by omega⟩]; exact Nat.le_refl _
    · rw [if_neg y]; exact Nat.zero_le _)
  have e2 : sumTo (c + 1) (undW t' c) = sumTo c (undW t' c) := by
    show sumTo c (undW t' c) + undW t' c c = _
    have : undW t' c c = 0 := if_neg (fun y => y.2 rfl)
    omega
  rw [c61, e2, ht.cn (by decide), ht.cn (by decide), ht.cn (by decide)]
  omega
/-- seconds that a try takes -/
def teC (t : DB) (s a : Int32) (j : Nat) : Bool := decide (t 12 j = s ∧ t 13 j = a ∧ ¬ t 0 0 < t 14 j ∧ ¬ t 15 j < t 0 0)
def teV (t : DB) (s a v : Int32) : Nat → Int32
  | 0 => v
  | j + 1 => if teC t s a j then teV t s a v j + t 16 j else teV t s a v j
theorem w_tryEnd_l {t : DB} {s a v : Int32} {n : Nat} {Q : Int32 → DB → Prop} (hn : t 11 0 = nI n) (hn2 : n ≤ 30) (hQ : Q (teV t s a v n) t) : ∀ (r j : Nat), j + r = n → w_tryEnd_15 (r + 1) s a (teV t s a v j) (nI j) t Q := by
  intro r
  induction r with
  | zero =>
    intro j hj
    have : j = n := by omega
    subst this
    exact ⟨fun _ => hQ, fun y => absurd (by rw [hn]; exact nI_le (Nat.le_refl _) (by omega)) y⟩
  | succ r ih =>
    intro j hj
    have cj : (nI j).toNatClampNeg = j := nI_clamp (by omega)
    have vj : vp_in (nI j) 30 := vp_in_nI (by omega) (by decide)
    have no : ¬ (t 12 j = s ∧ t 13 j = a ∧ ¬ t 0 0 < t 14 j ∧ ¬ t 15 j < t 0 0) → ∀ x, x = nI j + 1 → w_tryEnd_15 (r + 1) s a (teV t s a v j) x t Q := fun y x ex => by
      have := ih (j + 1) (by omega)
      rw [show teV t s a v (j + 1) = teV t s a v j from if_neg (by unfold teC; rw [decide_eq_false y]; decide)] at this
      rw [ex, nI_1]; exact this
    refine ⟨fun y => absurd y (by rw [hn]; exact nI_ge (by omega) (by omega)), fun _ => ?_⟩
    rw [cj]
    refine ⟨vj, fun y => no (fun q => y q.1), fun y1 => ⟨vj, fun y => no (fun q => y q.2.1), fun y2 => ⟨vj, fun y => no (fun q => q.2.2.1 y), fun y3 => ⟨vj, fun y => no (fun q => q.2.2.2 y), fun y4 => ⟨vj, fun x5 e5 x6 e6 => ?_⟩⟩⟩⟩⟩
    have := ih (j + 1) (by omega)
    rw [show teV t s a v (j + 1) = teV t s a v j + t 16 j from if_pos (decide_eq_true ⟨y1, y2, y3, y4⟩)] at this
    rw [e6, nI_1, e5]; exact this
theorem v_fits_s {p : Nat} {x1 x2 x3 : Int32} {N : Mem} {Q : Int32 → Mem → Prop} (h1 : (x1 = N.1 4 p 0 ∧ x2 = N.1 4 p 1 ∧ ¬ x3 < N.1 4 p 2 ∧ ¬ N.1 4 p 3 < x3) → Q 1 N) (h0 : ¬ (x1 = N.1 4 p 0 ∧ x2 = N.1 4 p 1 ∧ ¬ x3 < N.1 4 p 2 ∧ ¬ N.1 4 p 3 < x3) → Q 0 N) : v_X3_fits (4, p) x1 x2 x3 N Q := by
  refine ⟨rfl, fun y => h0 (fun q => y q.1), fun y1 => ⟨rfl, fun y => h0 (fun q => y q.2.1), fun y2 => ⟨rfl, rfl, ?_⟩⟩⟩
  show v_X0_in x3 (N.1 4 p 2) (N.1 4 p 3) N _
  exact ⟨fun y => ⟨fun _ => h0 (fun q => q.2.2.1 y), fun z => absurd rfl z⟩, fun y => ⟨fun y3 => ⟨fun _ => h0 (fun q => q.2.2.2 y3), fun z => absurd rfl z⟩, fun y3 => ⟨fun z => absurd z (by decide), fun _ => h1 ⟨y1, y2, y, y3⟩⟩⟩⟩
/-- the component's reckoning of the try's end -/
theorem v_try_g {X : Mem} {m z : Nat} {P : List Nat} {t : DB} {c o s n : Nat} {r3 : Nat × Nat} {v w8 : Int32} {Q : Mem → Prop} (ho : o < cn t 50) (hc : c < cn t 61) (hn : t 11 0 = nI n) (hn2 : n ≤ 30)
    (hQ : ∀ N', SZ X m z P c N' (up t 72 c (teV t (nI s) (t 53 o) v n)) → (N'.1 21 c 14 = 0 ∧ N'.1 20 o 8 = w8) → (r3 ≠ (0, 0) → Q N') ∧ (r3 = (0, 0) → Q (sR N' 20 o 7 (21, c)))) : ∀ (r j : Nat), j + r = n → ∀ N, SZ X m z P c N (up t 72 c (teV t (nI s) (t 53 o) v j)) → (N.1 21 c 14 = 0 ∧ N.1 20 o 8 = w8) → v_X0_beginTry_40 (r + 1) (1, 0) (20, o) r3 (nI s) (21, c) (nI j) N Q := by
  have l4 : ∀ (N : Mem) (w : Int32), SZ X m z P c N (up t 72 c w) → N.2.1 1 0 4 = (30, 4) ∧ N.1 30 4 0 = nI n ∧ N.1 20 o 2 = t 53 o ∧ N.1 1 0 0 = t 0 0 ∧ N.1 21 c 15 = w := fun N w h => by
    refine ⟨h.W.1 4 (by decide) (by decide), (h.S (4, 11, 0) (by decide)).trans hn, h.I (20, 2, 53, 50) (by decide) o ho, h.W.2.1, ?_⟩
    exact (h.I (21, 15, 72, 61) (by decide) c hc).trans up_s
  have lk30 : lk 30 := ⟨by decide, by decide⟩
  intro r
  induction r with
  | zero =>
    intro j hj N h h14
    have : j = n := by omega
    subst this
    obtain ⟨a1, a2, a3, a4, a5⟩ := l4 N _ h
    refine ⟨rfl, fun e1 ee1 => ?_⟩
    have q1 : e1 = (30, 4) := ee1.trans a1
    subst q1
    refine ⟨lk30, fun _ => ⟨fun y => (hQ N h h14).1 y, fun y => ⟨rfl, fun M2 g2 => by subst g2; exact (hQ N h h14).2 y⟩⟩, fun y => absurd ?_ y⟩
    show N.1 30 4 0 ≤ nI j
    rw [a2]; exact nI_le (Nat.le_refl _) (by omega)
  | succ r ih =>
    intro j hj N h h14
    obtain ⟨a1, a2, a3, a4, a5⟩ := l4 N _ h
    have cj : (nI j).toNatClampNeg = j := nI_clamp (by omega)
    obtain ⟨pl, p1, p2, p3, p4, p5, p6, p7⟩ := h.P2 j (by show j < (t 11 0).toNatClampNeg; rw [hn, nI_clamp (by omega)]; omega)
    have p3' : N.1 4 pl 0 = t 12 j := p3
    have p4' : N.1 4 pl 1 = t 13 j := p4
    have p5' : N.1 4 pl 2 = t 14 j := p5
    have p6' : N.1 4 pl 3 = t 15 j := p6
    have p7' : N.1 4 pl 4 = t 16 j := p7
    have hb : ¬ nI j < 0 ∧ nI j < N.1 30 4 0 := ⟨nI_pos (by omega), by rw [a2]; exact nI_lt (by omega) (by omega)⟩
    refine ⟨rfl, fun e1 ee1 => ?_⟩
    have q1 : e1 = (30, 4) := ee1.trans a1
    subst q1
    refine ⟨lk30, fun y => absurd y ?_, fun _ => ⟨rfl, fun e4 ee4 => ?_⟩⟩
    · show ¬ N.1 30 4 0 ≤ nI j
      rw [a2]; exact nI_ge (by omega) (by omega)
    have q4 : e4 = (30, 4) := ee4.trans a1
    subst q4
    refine ⟨lk30, hb, fun e5 ee5 => ?_⟩
    rw [cj] at ee5
    have q5 : e5 = (4, pl) := ee5.trans p1
    subst q5
    refine ⟨rfl, rfl, rfl, rfl, ?_⟩
    show v_X3_fits (4, pl) (nI s) (N.1 20 o 2) (N.1 1 0 0) N _
    rw [a3, a4]
    refine v_fits_s (fun y => ⟨fun z => absurd z (by decide), fun _ => ⟨rfl, rfl, fun e9 ee9 => ?_⟩⟩) (fun y => ⟨fun _ => fun x8 e8 => ?_, fun z => absurd rfl z⟩)
    · have q9 : e9 = (30, 4) := ee9.trans a1
      subst q9
      refine ⟨lk30, hb, fun e10 ee10 => ?_⟩
      rw [cj] at ee10
      have q10 : e10 = (4, pl) := ee10.trans p1
      subst q10
      refine ⟨rfl, rfl, rfl, fun M11 g11 x12 e12 => ?_⟩
      rw [p3', p4', p5', p6'] at y
      have ev : teV t (nI s) (t 53 o) v (j + 1) = teV t (nI s) (t 53 o) v j + t 16 j := if_pos (decide_eq_true ⟨y.1.symm, y.2.1.symm, y.2.2.1, y.2.2.2⟩)
      have h2 := h.due (c := c) (v := teV t (nI s) (t 53 o) v j + t 16 j)
      rw [show up (up t 72 c (teV t (nI s) (t 53 o) v j)) 72 c (teV t (nI s) (t 53 o) v j + t 16 j) = up t 72 c (teV t (nI s) (t 53 o) v (j + 1)) from by
        rw [ev]
        funext f i
        unfold up
        split
        · rfl
        · rfl] at h2
      rw [e12, nI_1]
      refine ih (j + 1) (by omega) M11 ?_ ⟨by rw [g11, sI_ne (by simp)]; exact h14.1, by rw [g11, sI_ne (by simp)]; exact h14.2⟩
      rw [g11]
      show SZ X m z P c (sI N 21 c 15 (N.1 21 c 15 + N.1 4 pl 4)) _
      rw [a5, p7']
      exact h2
    · rw [p3', p4', p5', p6'] at y
      have ev : teV t (nI s) (t 53 o) v (j + 1) = teV t (nI s) (t 53 o) v j := if_neg (by unfold teC; rw [decide_eq_false (fun q => y ⟨q.1.symm, q.2.1.symm, q.2.2.1, q.2.2.2⟩)]; decide)
      rw [e8, nI_1]
      exact ih (j + 1) (by omega) N (by rw [ev]; exact h) h14
theorem v_try_l {X : Mem} {m z : Nat} {P : List Nat} {t : DB} {c o s n : Nat} {r3 : Nat × Nat} {v : Int32} {Q : Mem → Prop} (ho : o < cn t 50) (hc : c < cn t 61) (hn : t 11 0 = nI n) (hn2 : n ≤ 30) (hr3 : r3 ≠ (0, 0))
    (hQ : ∀ N', SZ X m z P c N' (up t 72 c (teV t (nI s) (t 53 o) v n)) → N'.1 21 c 14 = 0 → Q N') : ∀ (r j : Nat), j + r = n → ∀ N, SZ X m z P c N (up t 72 c (teV t (nI s) (t 53 o) v j)) → N.1 21 c 14 = 0 → v_X0_beginTry_40 (r + 1) (1, 0) (20, o) r3 (nI s) (21, c) (nI j) N Q :=
  fun r j hj N h h14 => v_try_g (w8 := N.1 20 o 8) ho hc hn hn2 (fun N' h1 h2 => ⟨fun _ => hQ N' h1 h2.1, fun y => absurd y hr3⟩) r j hj N h ⟨h14, rfl⟩
