set_option maxRecDepth 100000
/-! taking back: the component collects and marks -/
theorem rom_b {X : Mem} {m z : Nat} {P : List Nat} {x : Nat} {N : Mem} {t : DB} (h : SZ X m z P x N t) : N.2.2.2.1 + 5000 ≤ 600000 ∧ N.2.2.2.2 + 50000 ≤ 7302250 := by
  obtain ⟨h1, h2⟩ := h.M
  obtain ⟨T, -, -, hm⟩ := h.iK
  obtain ⟨-, -, -, -, -, ⟨-, b0⟩, ⟨-, b1⟩, ⟨-, b2⟩, ⟨-, b3⟩, -, -, ⟨-, b4⟩⟩ := h.iB
  omega
theorem lk33 : lk 33 := ⟨by decide, by decide⟩
/-- the list of those that are to be taken back -/
def nKj (N : Mem) (t : DB) (F : Nat → Bool) (i : Nat) : Nat → Mem
  | 0 => sN N 33 i 0 3
  | j + 1 => if F j = true ∧ t 69 j = 0 then lAdd (nKj N t F i j) (33, i) (21, j) else nKj N t F i j
theorem nKj_s1 {N : Mem} {t : DB} {F : Nat → Bool} {i j : Nat} (h : F j = true ∧ t 69 j = 0) : nKj N t F i (j + 1) = lAdd (nKj N t F i j) (33, i) (21, j) := if_pos h
theorem nKj_s0 {N : Mem} {t : DB} {F : Nat → Bool} {i j : Nat} (h : ¬ (F j = true ∧ t 69 j = 0)) : nKj N t F i (j + 1) = nKj N t F i j := if_neg h
theorem nKj_NF {N : Mem} {t : DB} {F : Nat → Bool} {i : Nat} : ∀ {j : Nat}, NF N (nKj N t F i j) [33]
  | 0 => NF.rf.wN _ _ _ (by decide)
  | j + 1 => by
    have ih := nKj_NF (N := N) (t := t) (F := F) (i := i) (j := j)
    by_cases q : F j = true ∧ t 69 j = 0
    · rw [nKj_s1 q]; exact ih.wA _ _ (by show 33 ∈ [33]; decide)
    · rw [nKj_s0 q]; exact ih
theorem nKj_o {N : Mem} {t : DB} {F : Nat → Bool} {i i' : Nat} (hi : i' ≠ i) : ∀ {j : Nat}, (nKj N t F i j).1 33 i' = N.1 33 i' ∧ (nKj N t F i j).2.1 33 i' = N.2.1 33 i' ∧ (nKj N t F i j).2.2.1 33 i' = N.2.2.1 33 i'
  | 0 => ⟨by funext f; exact if_neg (fun y => hi y.2), by funext f; exact if_neg (fun y => hi y.2), if_neg (fun y => hi y.2)⟩
  | j + 1 => by
    have ih := nKj_o (N := N) (t := t) (F := F) hi (j := j)
    by_cases q : F j = true ∧ t 69 j = 0
    · rw [nKj_s1 q]
      refine ⟨?_, ?_, ih.2.2⟩
      · rw [← ih.1]; funext f; exact if_neg (fun y => hi y.2.1)
      · rw [← ih.2.1]; funext f; exact if_neg (fun y => hi y.2.1)
    · rw [nKj_s0 q]; exact ih
theorem nKj_i {N : Mem} {t : DB} {F : Nat → Bool} {i : Nat} : ∀ {j : Nat}, j ≤ 4020 → (nKj N t F i j).1 33 i 0 = nI (LF t F j).length ∧ (∀ a k, (LF t F j)[a]? = some k → (nKj N t F i j).2.1 33 i a = (21, k)) ∧ (nKj N t F i j).2.2.2 = (N.2.2.2.1 + 1 + (LF t F j).length, N.2.2.2.2 + 3 + 10 * (LF t F j).length) ∧ (LF t F j).length ≤ j
  | 0, _ => ⟨if_pos ⟨rfl, rfl⟩, fun a k h => by simp [LF] at h, rfl, Nat.le_refl _⟩
  | j + 1, hj => by
    obtain ⟨i1, i2, i3, i4⟩ := nKj_i (N := N) (t := t) (F := F) (i := i) (j := j) (by omega)
    by_cases q : F j = true ∧ t 69 j = 0
    · have cl : (nI (LF t F j).length).toNatClampNeg = (LF t F j).length := nI_clamp (by omega)
      rw [nKj_s1 q, LF_s1 q]
      refine ⟨?_, fun a k h => ?_, ?_, ?_⟩
      · rw [lAdd_i, if_pos ⟨rfl, rfl, rfl⟩, i1, nI_1, List.length_append]; rfl
      · rw [lAdd_r, i1, cl]
        by_cases e : a < (LF t F j).length
        · rw [List.getElem?_append_left e] at h
          rw [if_neg (fun y => by have := y.2.2; omega)]
          exact i2 a k h
        · rw [List.getElem?_append_right (by omega)] at h
          have e2 : a - (LF t F j).length = 0 := by
            by_cases e3 : a - (LF t F j).length = 0
            · exact e3
            · rw [List.getElem?_eq_none (by simp; omega)] at h; cases h
          rw [e2] at h
          have hk : j = k := by simpa using h
          rw [if_pos ⟨rfl, rfl, by omega⟩, hk]
      · show ((nKj N t F i j).2.2.2.1 + 1, (nKj N t F i j).2.2.2.2 + 10) = _
        rw [i3, List.length_append]
        show (N.2.2.2.1 + 1 + (LF t F j).length + 1, N.2.2.2.2 + 3 + 10 * (LF t F j).length + 10) = (N.2.2.2.1 + 1 + ((LF t F j).length + 1), N.2.2.2.2 + 3 + 10 * ((LF t F j).length + 1))
        rw [Nat.mul_add, Nat.add_assoc, Nat.add_assoc (N.2.2.2.2 + 3)]
      · rw [List.length_append]
        show (LF t F j).length + 1 ≤ j + 1
        omega
    · rw [nKj_s0 q, LF_s0 q]; exact ⟨i1, i2, i3, by omega⟩
/-- whether a call lies within another -/
theorem v_wi {X : Mem} {m z : Nat} {P : List Nat} {x : Nat} {N M : Mem} {t : DB} (h : SZ X m z P x N t) (h21 : M.2.1 21 = N.2.1 21) {c : Nat} {Q : Int32 → Mem → Prop} : ∀ (n k : Nat), k < cn t 61 → k ≤ n → (wi t c k = true → Q 1 M) → (wi t c k = false → Q 0 M) → v_X16_isWithin_2 (n + 2) (21, c) (21, k) M Q := by
  have hn := h.nC
  intro n
  induction n with
  | zero =>
    intro k hk hkn q1 q0
    refine ⟨fun y => (ne021 y.symm).elim, fun _ => ⟨fun y => ⟨rfl, fun e1 ee1 => ?_⟩, fun y => q1 ?_⟩⟩
    · have e5 : N.2.1 21 k 5 = rn 21 (t 64 k) := h.R (21, 5, 21, 64, 61) (by decide) k hk
      have hkc : ¬ k = c := fun e => y (by rw [e])
      rcases h.par k hk with w | ⟨p, w1, -⟩
      · rw [show M.2.1 (21, k).1 (21, k).2 5 = M.2.1 21 k 5 from rfl, h21, e5, w] at ee1
        have ee : e1 = (0, 0) := ee1.trans rfl
        subst ee
        refine ⟨fun _ => q0 ?_, fun y => absurd rfl y⟩
        rw [wi_s h hk, w, if_pos (by decide), Bool.or_false]
        simpa using hkc
      · omega
    · have e : k = c := congrArg Prod.snd y
      rw [wi_s h hk, e]; simp
  | succ n ih =>
    intro k hk hkn q1 q0
    refine ⟨fun y => (ne021 y.symm).elim, fun _ => ⟨fun y => ⟨rfl, fun e1 ee1 => ?_⟩, fun y => q1 ?_⟩⟩
    · have e5 : N.2.1 21 k 5 = rn 21 (t 64 k) := h.R (21, 5, 21, 64, 61) (by decide) k hk
      have hkc : ¬ k = c := fun e => y (by rw [e])
      have hkb : (k == c) = false := by simpa using hkc
      rw [show M.2.1 (21, k).1 (21, k).2 5 = M.2.1 21 k 5 from rfl, h21, e5] at ee1
      rw [wi_s h hk, hkb, Bool.false_or] at q1 q0
      rcases h.par k hk with w | ⟨p, w1, w2⟩
      · rw [w] at ee1 q1 q0
        have ee : e1 = (0, 0) := ee1.trans rfl
        subst ee
        exact ⟨fun _ => q0 (if_pos (by decide)), fun y => absurd rfl y⟩
      · rw [w2] at ee1 q1 q0
        rw [rn_j (by omega)] at ee1
        rw [if_neg (nI_pos (by omega)), nI_clamp (by omega)] at q1 q0
        subst ee1
        exact ih p (by omega) (by omega) q1 q0
    · have e : k = c := congrArg Prod.snd y
      rw [wi_s h hk, e]; simp
/-- the component looks through all calls from c on -/
theorem v_tb13 {d : Nat} {X : Mem} {m z : Nat} {P : List Nat} {N : Mem} {t : DB} (h : SZ X m z P 100000 N t) {F : Nat → Bool} {c i n : Nat} {Q : Int32 → Mem → Prop} (hnc : cn t 61 = n) (hF : ∀ k, k < n → t 69 k = 0 → (F k = wi t c k))
    (hQ : ∃ a, v_X0_takeBack_83 d a (1, 0) (33, i) 0 (nKj N t F i n) Q) : ∀ (r j : Nat), j + r = n → v_X0_takeBack_13 d (r + 1) (1, 0) (21, c) (33, i) (nI j) (nKj N t F i j) Q := by
  have hn := h.nC
  rw [hnc] at hn
  obtain ⟨rb1, rb2⟩ := rom_b h
  have b61 : t 61 0 = nI n := by rw [← hnc]; exact h.iB.2.2.2.2.2.2.1.1
  have e9 : ∀ j, (nKj N t F i j).2.1 1 0 9 = (30, 9) := fun j => by
    rw [(nKj_NF 1 (by decide)).2.1]; exact h.W.1 9 (by decide) (by decide)
  have eS : ∀ j, (nKj N t F i j).1 30 9 0 = nI n := fun j => by
    rw [(nKj_NF 30 (by decide)).1]; exact (h.S (9, 61, 0) (by decide)).trans b61
  have eK : ∀ j k, k < n → (nKj N t F i j).2.1 30 9 k = (21, k) := fun j k hk => by
    rw [(nKj_NF 30 (by decide)).2.1]; exact h.K (9, 21, 61) (by decide) k (by rw [hnc]; exact hk)
  have e11 : ∀ j k, k < n → (nKj N t F i j).1 21 k 11 = t 69 k := fun j k hk => by
    rw [(nKj_NF 21 (by decide)).1]; exact h.I (21, 11, 69, 61) (by decide) k (by rw [hnc]; exact hk)
  intro r
  induction r with
  | zero =>
    intro j hj
    have : j = n := by omega
    subst this
    refine ⟨rfl, fun e1 ee1 => ?_⟩
    have q1 : e1 = (30, 9) := ee1.trans (e9 j)
    subst q1
    refine ⟨⟨by decide, by decide⟩, fun _ => hQ, fun y => ?_⟩
    exact absurd (by rw [show (nKj N t F i j).1 (30, 9).1 (30, 9).2 0 = nI j from eS j]; exact nI_le (Nat.le_refl _) (by omega)) y
  | succ r ih =>
    intro j hj
    have hjn : j < n := by omega
    have nxt := ih (j + 1) (by omega)
    have cj : (nI j).toNatClampNeg = j := nI_clamp (by omega)
    obtain ⟨k1, k2, k3, k4⟩ := nKj_i (N := N) (t := t) (F := F) (i := i) (j := j) (by omega)
    refine ⟨rfl, fun e1 ee1 => ?_⟩
    have q1 : e1 = (30, 9) := ee1.trans (e9 j)
    subst q1
    have sz : (nKj N t F i j).1 (30, 9).1 (30, 9).2 0 = nI n := eS j
    refine ⟨⟨by decide, by decide⟩, fun y => ?_, fun _ => ⟨rfl, fun e2 ee2 => ?_⟩⟩
    · rw [sz] at y; exact absurd y (nI_ge hjn (by omega))
    have q2 : e2 = (30, 9) := ee2.trans (e9 j)
    subst q2
    refine ⟨⟨by decide, by decide⟩, ⟨nI_pos (by omega), by rw [sz]; exact nI_lt hjn (by omega)⟩, fun e3 ee3 => ?_⟩
    rw [cj] at ee3
    have q3 : e3 = (21, j) := ee3.trans (eK j j hjn)
    subst q3
    refine ⟨rfl, rfl, rfl, fun y => ⟨fun _ x6 g6 => ?_, fun y => absurd rfl y⟩, fun y => ⟨fun y => absurd y (by decide), fun _ => ⟨rfl, fun e7 ee7 => ?_⟩⟩⟩
    · have h69 : ¬ t 69 j = 0 := fun w => y ((e11 j j hjn).trans w)
      rw [nI_1] at g6
      subst g6
      rw [nKj_s0 (fun w => h69 w.2)] at nxt
      exact nxt
    have h69 : t 69 j = 0 := (e11 j j hjn).symm.trans y
    have q7 : e7 = (30, 9) := ee7.trans (e9 j)
    subst q7
    refine ⟨⟨by decide, by decide⟩, ⟨nI_pos (by omega), by rw [sz]; exact nI_lt hjn (by omega)⟩, fun e8 ee8 => ?_⟩
    rw [cj] at ee8
    have q8 : e8 = (21, j) := ee8.trans (eK j j hjn)
    subst q8
    refine ⟨rfl, rfl, j + 2, v_wi h (nKj_NF 21 (by decide)).2.1 j j (by rw [hnc]; exact hjn) (Nat.le_refl _) (fun y => ⟨fun y => absurd y (by decide), fun _ => ⟨rfl, fun e12 ee12 => ?_⟩⟩) (fun y => ⟨fun _ x11 g11 => ?_, fun y => absurd rfl y⟩)⟩
    · have q12 : e12 = (30, 9) := ee12.trans (e9 j)
      subst q12
      refine ⟨⟨by decide, by decide⟩, ⟨nI_pos (by omega), by rw [sz]; exact nI_lt hjn (by omega)⟩, fun e13 ee13 => ?_⟩
      rw [cj] at ee13
      have q13 : e13 = (21, j) := ee13.trans (eK j j hjn)
      subst q13
      have r1 : (nKj N t F i j).2.2.2.1 = N.2.2.2.1 + 1 + (LF t F j).length := congrArg Prod.fst k3
      have r2 : (nKj N t F i j).2.2.2.2 = N.2.2.2.2 + 3 + 10 * (LF t F j).length := congrArg Prod.snd k3
      refine ⟨rfl, lk33, rfl, ?_, ⟨?_, ?_⟩, fun M14 g14 x15 g15 => ?_⟩
      · show (nKj N t F i j).1 33 i 0 < 10000
        rw [k1]
        exact nI_lt (b := 10000) (by omega) (by decide)
      · rw [r1]; omega
      · rw [r2]; omega
      · rw [nI_1] at g15
        subst g14; subst g15
        rw [nKj_s1 ⟨(hF j hjn h69).trans y, h69⟩] at nxt
        exact nxt
    · rw [nI_1] at g11
      subst g11
      rw [nKj_s0 (fun w => by rw [hF j hjn h69, y] at w; exact absurd w.1 (by decide))] at nxt
      exact nxt
/-- marking -/
def nMa (N : Mem) (L : List Nat) (T : Int32) : Nat → Mem
  | 0 => N
  | a + 1 => match L[a]? with
    | some k => sI (sI (nMa N L T a) 21 k 11 3) 21 k 13 T
    | none => nMa N L T a
theorem nMa_s {N : Mem} {L : List Nat} {T : Int32} {a k : Nat} (h : L[a]? = some k) : nMa N L T (a + 1) = sI (sI (nMa N L T a) 21 k 11 3) 21 k 13 T := by
  show (match L[a]? with | some k => sI (sI (nMa N L T a) 21 k 11 3) 21 k 13 T | none => nMa N L T a) = _
  rw [h]
theorem nMa_p {N : Mem} {L : List Nat} {T : Int32} : ∀ {a : Nat}, a ≤ L.length → NF N (nMa N L T a) [21] ∧ (nMa N L T a).2 = N.2 ∧ ∀ i f, (nMa N L T a).1 21 i f = if f = 11 ∧ i ∈ L.take a then 3 else if f = 13 ∧ i ∈ L.take a then T else N.1 21 i f
  | 0, _ => ⟨NF.rf, rfl, fun i f => by
      show N.1 21 i f = _
      rw [List.take_zero, if_neg (fun y => absurd y.2 List.not_mem_nil), if_neg (fun y => absurd y.2 List.not_mem_nil)]⟩
  | a + 1, ha => by
    obtain ⟨i1, i2, i3⟩ := nMa_p (N := N) (L := L) (T := T) (a := a) (by omega)
    have hk : L[a]? = some L[a] := List.getElem?_eq_getElem (by omega)
    generalize L[a] = k at hk
    rw [nMa_s hk]
    refine ⟨(i1.wI _ _ _ (by decide)).wI _ _ _ (by decide), i2, fun i f => ?_⟩
    have hm : (i ∈ L.take (a + 1)) = (i ∈ L.take a ∨ i = k) := by
      rw [List.take_succ, hk, List.mem_append]
      exact propext ⟨fun w => w.elim Or.inl (fun w => Or.inr (by simpa using w)), fun w => w.elim Or.inl (fun w => Or.inr (by simpa using w))⟩
    simp only [hm]
    rw [sI_at, sI_at, i3]
    by_cases e : i = k
    · subst e
      by_cases e11 : f = 11
      · subst e11
        rw [if_neg (fun y => absurd y.2.2 (by decide)), if_pos ⟨rfl, rfl, rfl⟩, if_pos ⟨rfl, Or.inr rfl⟩]
      · rw [if_neg (fun y : f = 11 ∧ (i ∈ List.take a L ∨ i = i) => e11 y.1)]
        by_cases e13 : f = 13
        · subst e13
          rw [if_pos ⟨rfl, rfl, rfl⟩, if_pos ⟨rfl, Or.inr rfl⟩]
        · rw [if_neg (fun y => e13 y.2.2), if_neg (fun y => e11 y.2.2), if_neg (fun y => e11 y.1), if_neg (fun y => e13 y.1), if_neg (fun y => e13 y.1)]
    · rw [if_neg (fun y => e y.2.1), if_neg (fun y => e y.2.1)]
      have : (i ∈ List.take a L ∨ i = k) = (i ∈ List.take a L) := propext ⟨fun w => w.resolve_right e, Or.inl⟩
      simp only [this]
theorem v_tb83 {d i : Nat} {N : Mem} {L : List Nat} {T : Int32} {Q : Int32 → Mem → Prop} (hl : L.length ≤ 4020) (hs : N.1 33 i 0 = nI L.length) (he : ∀ a k, L[a]? = some k → N.2.1 33 i a = (21, k)) (hT : N.1 1 0 0 = T)
    (hQ : ∃ a, v_X0_takeBack_126 d a (33, i) 0 (nMa N L T L.length) Q) : ∀ (r a : Nat), a + r = L.length → v_X0_takeBack_83 d (r + 1) (1, 0) (33, i) (nI a) (nMa N L T a) Q := by
  have hp : ∀ a, a ≤ L.length → (nMa N L T a).1 33 i 0 = nI L.length ∧ (nMa N L T a).2.1 = N.2.1 ∧ (nMa N L T a).1 1 0 0 = T := fun a ha => by
    obtain ⟨p1, p2, -⟩ := nMa_p (N := N) (L := L) (T := T) ha
    exact ⟨by rw [(p1 33 (by decide)).1]; exact hs, by rw [p2], by rw [(p1 1 (by decide)).1]; exact hT⟩
  intro r
  induction r with
  | zero =>
    intro a ha
    have : a = L.length := by omega
    subst this
    refine ⟨lk33, fun _ => hQ, fun y => ?_⟩
    exact absurd (by rw [show (nMa N L T L.length).1 (33, i).1 (33, i).2 0 = nI L.length from (hp _ (Nat.le_refl _)).1]; exact nI_le (Nat.le_refl _) (by omega)) y
  | succ r ih =>
    intro a ha
    have hal : a < L.length := by omega
    have nxt := ih (a + 1) (by omega)
    have hk : L[a]? = some L[a] := List.getElem?_eq_getElem hal
    generalize L[a] = k at hk
    have ca : (nI a).toNatClampNeg = a := nI_clamp (by omega)
    obtain ⟨p1, p2, p3⟩ := hp a (by omega)
    have sz : (nMa N L T a).1 (33, i).1 (33, i).2 0 = nI L.length := p1
    refine ⟨lk33, fun y => ?_, fun _ => ⟨lk33, ⟨nI_pos (by omega), by rw [sz]; exact nI_lt hal (by omega)⟩, fun e1 ee1 => ?_⟩⟩
    · rw [sz] at y; exact absurd y (nI_ge hal (by omega))
    rw [ca, p2] at ee1
    have q1 : e1 = (21, k) := ee1.trans (he a k hk)
    subst q1
    refine ⟨rfl, rfl, fun M2 g2 => ?_⟩
    have z33 : M2.1 (33, i).1 (33, i).2 0 = nI L.length := by rw [g2, sI_ne (by simp)]; exact p1
    have z1 : M2.1 (1, 0).1 (1, 0).2 0 = T := by rw [g2, sI_ne (by simp)]; exact p3
    have zr : M2.2.1 = N.2.1 := by rw [g2]; exact p2
    refine ⟨lk33, ⟨nI_pos (by omega), by rw [z33]; exact nI_lt hal (by omega)⟩, fun e3 ee3 => ?_⟩
    rw [ca, zr] at ee3
    have q3 : e3 = (21, k) := ee3.trans (he a k hk)
    subst q3
    refine ⟨rfl, rfl, rfl, fun M4 g4 x5 g5 => ?_⟩
    rw [nI_1] at g5
    rw [z1] at g4
    rw [nMa_s hk] at nxt
    subst g2; subst g4; subst g5
    exact nxt
