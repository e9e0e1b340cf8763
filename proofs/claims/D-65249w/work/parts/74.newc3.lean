set_option maxRecDepth 100000
/-! the component makes the new call -/
def nCb (N : Mem) (c o d : Nat) (pr gr : Nat × Nat) (sv tm : Int32) : Mem := lAdd (sI (sI (sR (sR (sI (sR (sI (sI (sI (sI (sR (sN (sN N 21 c 0 17) 31 c 0 3) 21 c 7 (31, c)) 21 c 12 (-1)) 21 c 13 (-1)) 21 c 15 (-1)) 21 c 0 (nI c)) 21 c 4 (20, o)) 21 c 1 (nI d)) 21 c 5 pr) 21 c 6 gr) 21 c 2 sv) 21 c 3 tm) (30, 9) (21, c)
theorem nCb_i21 {N : Mem} {c o d : Nat} {pr gr : Nat × Nat} {sv tm : Int32} (i f : Nat) : (nCb N c o d pr gr sv tm).1 21 i f = if i = c then nW c d sv tm f else N.1 21 i f := by
  simp only [nCb, lAdd, sI, sN, sR]
  by_cases e : i = c
  · subst e
    rw [if_pos rfl]
    unfold nW
    by_cases e0 : f = 0
    · subst e0; simp
    by_cases e1 : f = 1
    · subst e1; simp
    by_cases e2 : f = 2
    · subst e2; simp
    by_cases e3 : f = 3
    · subst e3; simp
    by_cases e4 : f = 12
    · subst e4; simp
    by_cases e5 : f = 13
    · subst e5; simp
    by_cases e6 : f = 15
    · subst e6; simp
    simp [e0, e1, e2, e3, e4, e5, e6]
  · simp [e]
theorem nCb_r21 {N : Mem} {c o d : Nat} {pr gr : Nat × Nat} {sv tm : Int32} (i f : Nat) : (nCb N c o d pr gr sv tm).2.1 21 i f = if i = c then nR c o pr gr (0, 0) f else N.2.1 21 i f := by
  simp only [nCb, lAdd, sI, sN, sR]
  by_cases e : i = c
  · subst e
    rw [if_pos rfl]
    unfold nR
    by_cases e0 : f = 4
    · subst e0; simp
    by_cases e1 : f = 5
    · subst e1; simp
    by_cases e2 : f = 6
    · subst e2; simp
    by_cases e3 : f = 7
    · subst e3; simp
    simp [e0, e1, e2, e3]
  · simp [e]
theorem nCb_31 {N : Mem} {c o d : Nat} {pr gr : Nat × Nat} {sv tm : Int32} (i : Nat) : ((nCb N c o d pr gr sv tm).1 31 i 0 = if i = c then 0 else N.1 31 i 0) ∧ ∀ j, i ≠ c → (nCb N c o d pr gr sv tm).2.1 31 i j = N.2.1 31 i j := by
  simp only [nCb, lAdd, sI, sN, sR]
  constructor
  · by_cases e : i = c <;> simp [e]
  · intro j e
    simp [e]
theorem nCb_30 {N : Mem} {c o d : Nat} {pr gr : Nat × Nat} {sv tm : Int32} (h9 : N.1 30 9 0 = nI c) (hc : c < 2 ^ 31) (i : Nat) : ((nCb N c o d pr gr sv tm).1 30 i 0 = if i = 9 then nI (c + 1) else N.1 30 i 0) ∧ ∀ j, (nCb N c o d pr gr sv tm).2.1 30 i j = if i = 9 ∧ j = c then (21, c) else N.2.1 30 i j := by
  have hcl : (nI c).toNatClampNeg = c := nI_clamp hc
  constructor
  · have : (nCb N c o d pr gr sv tm).1 30 i 0 = if i = 9 then N.1 30 9 0 + 1 else N.1 30 i 0 := by
      simp [nCb, lAdd, sI, sN, sR]
    rw [this, h9, nI_1]
  · intro j
    have : (nCb N c o d pr gr sv tm).2.1 30 i j = if i = 9 ∧ j = (N.1 30 9 0).toNatClampNeg then (21, c) else N.2.1 30 i j := by
      simp [nCb, lAdd, sI, sN, sR]
    rw [this, h9, hcl]
theorem nCb_x {N : Mem} {c o d : Nat} {pr gr : Nat × Nat} {sv tm : Int32} : (∀ i, i ≠ c → (nCb N c o d pr gr sv tm).2.2.1 21 i = N.2.2.1 21 i ∧ (nCb N c o d pr gr sv tm).2.2.1 31 i = N.2.2.1 31 i) ∧ (nCb N c o d pr gr sv tm).2.2.1 30 = N.2.2.1 30 ∧ (nCb N c o d pr gr sv tm).2.2.2 = (N.2.2.2.1 + 3, N.2.2.2.2 + 30) := by
  simp only [nCb, lAdd, sI, sN, sR]
  refine ⟨fun i e => ?_, ?_, ?_⟩
  · simp [e]
  · funext i; simp
  · trivial
theorem nCb_NF {N : Mem} {c o d : Nat} {pr gr : Nat × Nat} {sv tm : Int32} : NF N (nCb N c o d pr gr sv tm) [21, 30, 31] :=
  (((((((((((((NF.rf.wN _ _ _ (by decide)).wN _ _ _ (by decide)).wR _ _ _ (by decide)).wI _ _ _ (by decide)).wI _ _ _ (by decide)).wI _ _ _ (by decide)).wI _ _ _ (by decide)).wR _ _ _ (by decide)).wI _ _ _ (by decide)).wR _ _ _ (by decide)).wR _ _ _ (by decide)).wI _ _ _ (by decide)).wI _ _ _ (by decide)).wA _ _ (by decide)
/-- with no call around it -/
theorem nC_n0 {N : Mem} {t : DB} {c o d p : Nat} {gv sv fb : Int32} (h9 : N.1 30 9 0 = nI c) (hc : c < 2 ^ 31) : NCn N (nCb N c o d (0, 0) (gn t gv) sv (t 0 0)) t c o d false p gv sv fb (-1) := by
  refine ⟨nCb_NF, fun i f _ => ?_, fun i hi => ?_, fun i f => ?_, fun i => ?_, fun i j hi => ?_, fun i => (nCb_30 h9 hc i).1, fun i j => (nCb_30 h9 hc i).2 j, nCb_x.1, nCb_x.2.1, ?_, ?_, ?_⟩
  · rw [nCb_i21]
    by_cases e : i = c
    · rw [if_pos e, if_pos e]
    · rw [if_neg e, if_neg e, if_neg (by simp)]
  · rw [nCb_i21, if_neg hi]
  · rw [nCb_r21]; rfl
  · rw [(nCb_31 i).1, if_neg (c := false = true ∧ i = p) (by simp)]
  · rw [(nCb_31 i).2 j hi, if_neg (by simp)]
  · rw [nCb_x.2.2]; show _ ≤ N.2.2.2.1 + 3; omega
  · rw [nCb_x.2.2]; show N.2.2.2.1 + 3 ≤ _; omega
  · rw [nCb_x.2.2]; show N.2.2.2.2 + 30 + _ ≤ _ + 20 * (N.2.2.2.1 + 3); omega
theorem lAdd_i {N : Mem} {k i : Nat} {v : Nat × Nat} (k' i' f : Nat) : (lAdd N (k, i) v).1 k' i' f = if k' = k ∧ i' = i ∧ f = 0 then N.1 k i 0 + 1 else N.1 k' i' f := rfl
theorem lAdd_r {N : Mem} {k i : Nat} {v : Nat × Nat} (k' i' f : Nat) : (lAdd N (k, i) v).2.1 k' i' f = if k' = k ∧ i' = i ∧ f = (N.1 k i 0).toNatClampNeg then v else N.2.1 k' i' f := rfl
/-- within p -/
theorem nC_n1 {N : Mem} {t : DB} {c o d p : Nat} {gv sv : Int32} (h9 : N.1 30 9 0 = nI c) (hc : c < 2 ^ 31) (hp : p < c) : NCn N (lAdd (nCb N c o d (21, p) (gn t gv) sv (t 0 0)) (31, p) (21, c)) t c o d true p gv sv (N.1 21 p 10) (-1) := by
  have hpc : p ≠ c := by omega
  have l31 : (nCb N c o d (21, p) (gn t gv) sv (t 0 0)).1 31 p 0 = N.1 31 p 0 := by rw [(nCb_31 p).1, if_neg hpc]
  have hx := nCb_x (N := N) (c := c) (o := o) (d := d) (pr := (21, p)) (gr := gn t gv) (sv := sv) (tm := t 0 0)
  refine ⟨nCb_NF.wA _ _ (by show 31 ∈ [21, 30, 31]; decide), fun i f _ => ?_, fun i hi => ?_, fun i f => ?_, fun i => ?_, fun i j hi => ?_, fun i => ?_, fun i j => ?_, hx.1, hx.2.1, ?_, ?_, ?_⟩
  · rw [lAdd_i, if_neg (by simp), nCb_i21]
    by_cases e : i = c
    · rw [if_pos e, if_pos e]
    · rw [if_neg e, if_neg e]
      by_cases y : f = 10 ∧ true = true ∧ i = p
      · rw [if_pos y, y.1, y.2.2]
      · rw [if_neg y]
  · rw [lAdd_i, if_neg (by simp), nCb_i21, if_neg hi]
  · rw [lAdd_r, if_neg (by simp), nCb_r21]; rfl
  · rw [lAdd_i, l31, (nCb_31 i).1]
    by_cases e : i = c
    · rw [if_neg (by omega), if_pos e, if_pos e]
    · rw [if_neg e, if_neg e]
      by_cases y : i = p
      · rw [if_pos ⟨rfl, y, rfl⟩, if_pos ⟨rfl, y⟩]
      · rw [if_neg (fun q => y q.2.1), if_neg (fun q => y q.2)]
  · rw [lAdd_r, l31, (nCb_31 i).2 j hi]
    by_cases y : i = p ∧ j = (N.1 31 p 0).toNatClampNeg
    · rw [if_pos ⟨rfl, y⟩, if_pos ⟨rfl, y⟩]
    · rw [if_neg (fun q => y q.2), if_neg (fun q => y q.2)]
  · rw [lAdd_i, if_neg (by simp), (nCb_30 h9 hc i).1]
  · rw [lAdd_r, if_neg (by simp), (nCb_30 h9 hc i).2 j]
  · show _ ≤ (nCb N c o d (21, p) (gn t gv) sv (t 0 0)).2.2.2.1 + 1
    rw [nCb_x.2.2]; show _ ≤ N.2.2.2.1 + 3 + 1; omega
  · show (nCb N c o d (21, p) (gn t gv) sv (t 0 0)).2.2.2.1 + 1 ≤ _
    rw [nCb_x.2.2]; show N.2.2.2.1 + 3 + 1 ≤ _; omega
  · show (nCb N c o d (21, p) (gn t gv) sv (t 0 0)).2.2.2.2 + 10 + _ ≤ _ + 20 * ((nCb N c o d (21, p) (gn t gv) sv (t 0 0)).2.2.2.1 + 1)
    rw [nCb_x.2.2]; show N.2.2.2.2 + 30 + 10 + _ ≤ _ + 20 * (N.2.2.2.1 + 3 + 1); omega
theorem v_add_g {N : Mem} {tm0 : Int32} {c o d : Nat} {pr gr : Nat × Nat} {sv : Int32} {Q : Nat × Nat → Mem → Prop} (b2 : c ≤ 4020) (r1 : N.2.2.2.1 + 1000 ≤ 600000) (r2 : N.2.2.2.2 + 10000 ≤ 7302250) (hE21 : N.2.2.1 21 c = 0) (hE31 : N.2.2.1 31 c = 0) (e9 : N.2.1 1 0 9 = (30, 9)) (eS : N.1 30 9 0 = nI c) (tm : N.1 1 0 0 = tm0)
    (w7 : ∀ p, p < c → N.2.1 21 p 7 = (31, p) ∧ ∃ n, n ≤ 6 ∧ N.1 31 p 0 = nI n) (hp : pr = (0, 0) ∨ ∃ p, p < c ∧ pr = (21, p))
    (hQ0 : pr = (0, 0) → Q (21, c) (nCb N c o d pr gr sv tm0))
    (hQ1 : ∀ p, p < c → pr = (21, p) → Q (21, c) (lAdd (nCb N c o d pr gr sv tm0) (31, p) (21, c))) : v_X0_add (1, 0) (20, o) (nI d) pr gr sv N Q := by
  have s1 : (sN N 21 c 0 17).2.1 1 0 9 = (30, 9) := by
    show (if 1 = 21 ∧ 0 = c then ((0, 0) : Nat × Nat) else N.2.1 1 0 9) = _
    rw [if_neg (by simp)]; exact e9
  have s2 : (sN N 21 c 0 17).1 30 9 0 = nI c := by
    show (if 30 = 21 ∧ 9 = c then (0 : Int32) else N.1 30 9 0) = _
    rw [if_neg (by simp)]; exact eS
  have s3 : (sN N 21 c 0 17).1 1 0 0 = tm0 := by
    show (if 1 = 21 ∧ 0 = c then (0 : Int32) else N.1 1 0 0) = _
    rw [if_neg (by simp)]; exact tm
  have lk30 : lk 30 := ⟨by decide, by decide⟩
  refine ⟨⟨by omega, by omega⟩, c, hE21, fun M2 eM2 => ⟨rfl, fun e3 ee3 => ?_⟩⟩
  subst eM2
  have q3 : e3 = (30, 9) := ee3.trans s1
  subst q3
  refine ⟨lk30, rfl, by decide, by show ¬ 21 = 0; decide, ⟨by show N.2.2.2.1 + 1 + 1 ≤ _; omega, by show N.2.2.2.2 + 17 + 3 ≤ _; omega⟩, c, ?_, fun M2 g2 => ⟨rfl, fun M3 g3 => ⟨rfl, fun M4 g4 => ⟨rfl, fun M5 g5 => ⟨rfl, fun M6 g6 => ⟨rfl, fun M7 g7 => ⟨rfl, fun M8 g8 => ⟨rfl, fun M9 g9 => ⟨rfl, fun M10 g10 => ⟨rfl, fun M11 g11 => ⟨rfl, fun M12 g12 => ⟨rfl, fun M13 g13 => ⟨rfl, fun e6 ee6 => ?_⟩⟩⟩⟩⟩⟩⟩⟩⟩⟩⟩⟩⟩
  · show (if 31 = 21 ∧ c = c then 0 + 1 else N.2.2.1 31 c) = 0
    rw [if_neg (by simp)]; exact hE31
  rw [show (sN N 21 c 0 17).1 (30, 9).1 (30, 9).2 0 = nI c from s2] at g7
  rw [show (sN N 21 c 0 17).1 (1, 0).1 (1, 0).2 0 = tm0 from s3] at g13
  subst g2; subst g3; subst g4; subst g5; subst g6; subst g7; subst g8; subst g9; subst g10; subst g11; subst g12; subst g13
  have q6 : e6 = (30, 9) := by
    rw [ee6]
    have : (nCb N c o d pr gr sv tm0).2.1 1 0 9 = (30, 9) := by rw [(nCb_NF 1 (by decide)).2.1]; exact e9
    simp only [nCb, lAdd] at this
    rw [if_neg (by simp)] at this
    exact this
  subst q6
  refine ⟨lk30, rfl, ?_, ⟨?_, ?_⟩, fun M7 g7 => ?_⟩
  · simp only [sI, sR, sN]
    simp
    rw [eS]
    exact nI_lt (b := 10000) (by omega) (by decide)
  · show N.2.2.2.1 + 1 + 1 + 1 ≤ _; omega
  · show N.2.2.2.2 + 17 + 3 + 10 ≤ _; omega
  have g8 : M7 = nCb N c o d pr gr sv tm0 := g7
  subst g8
  rcases hp with y | ⟨p, y1, rfl⟩
  · exact ⟨fun _ => hQ0 y, fun w => absurd y w⟩
  · refine ⟨fun w => absurd w (fun q => absurd (congrArg Prod.fst q) (by show ¬ 21 = 0; decide)), fun _ => ?_⟩
    obtain ⟨a1, n, a2, a3⟩ := w7 p y1
    have hpc : p ≠ c := by omega
    refine ⟨rfl, fun e8 ee8 => ?_⟩
    have q8 : e8 = (31, p) := ee8.trans (by show (nCb N c o d (21, p) gr sv tm0).2.1 21 p 7 = _; rw [nCb_r21, if_neg hpc]; exact a1)
    subst q8
    refine ⟨lk31, rfl, ?_, ⟨?_, ?_⟩, fun M9 g9 => ?_⟩
    · show (nCb N c o d (21, p) gr sv tm0).1 31 p 0 < 10000
      rw [(nCb_31 p).1, if_neg hpc, a3]
      exact nI_lt (b := 10000) (by omega) (by decide)
    · rw [nCb_x.2.2]; show N.2.2.2.1 + 3 + 1 ≤ _; omega
    · rw [nCb_x.2.2]; show N.2.2.2.2 + 30 + 10 ≤ _; omega
    · subst g9
      exact hQ1 p y1 rfl
theorem v_add_s {X : Mem} {m z : Nat} {P : List Nat} {x : Nat} {N : Mem} {t : DB} (h : SZ X m z P x N t) {o d : Nat} {pr gr : Nat × Nat} {sv : Int32} {Q : Nat × Nat → Mem → Prop} (hp : pr = (0, 0) ∨ ∃ p, p < cn t 61 ∧ pr = (21, p))
    (hQ0 : pr = (0, 0) → Q (21, cn t 61) (nCb N (cn t 61) o d pr gr sv (t 0 0)))
    (hQ1 : ∀ p, p < cn t 61 → pr = (21, p) → Q (21, cn t 61) (lAdd (nCb N (cn t 61) o d pr gr sv (t 0 0)) (31, p) (21, cn t 61))) : v_X0_add (1, 0) (20, o) (nI d) pr gr sv N Q := by
  obtain ⟨b1, b2⟩ := h.iB.2.2.2.2.2.2.1
  obtain ⟨r1, r2⟩ := rom_s h
  refine v_add_g b2 r1 r2 (h.E (21, 61) (by decide) _ (Nat.le_refl _)) (h.E (31, 61) (by decide) _ (Nat.le_refl _)) (h.W.1 9 (by decide) (by decide)) ((h.S (9, 61, 0) (by decide)).trans b1) h.W.2.1 (fun p hp => ?_) hp hQ0 hQ1
  obtain ⟨nn, q1, q2, q3, q4⟩ := h.within hp
  exact ⟨q3, nn, q1, q4⟩
