set_option maxRecDepth 100000
/-! LISTS: a second memory N in which an ArrayList (kinds 30..33) is size (int 0) and elements (references 0, 1, ..); arrays under lists (kind 40) are hidden; each add costs one cell and ten slots -/
def sumTo : Nat → (Nat → Nat) → Nat
  | 0, _ => 0
  | n + 1, f => sumTo n f + f n
theorem sumTo_congr {f g : Nat → Nat} : ∀ {n : Nat}, (∀ i, i < n → f i = g i) → sumTo n f = sumTo n g
  | 0, _ => rfl
  | n + 1, h => by
    show sumTo n f + f n = sumTo n g + g n
    rw [sumTo_congr (n := n) (fun i hi => h i (by omega)), h n (by omega)]
theorem sumTo_upd {f g : Nat → Nat} {i : Nat} : ∀ {n : Nat}, i < n → (∀ x, x ≠ i → g x = f x) → sumTo n g + f i = sumTo n f + g i
  | 0, h, _ => absurd h (by omega)
  | n + 1, h, hx => by
    show sumTo n g + g n + f i = sumTo n f + f n + g i
    by_cases e : i = n
    · subst e
      rw [sumTo_congr (f := g) (g := f) (n := i) (fun j hj => hx j (by omega))]
      omega
    · have := sumTo_upd (n := n) (f := f) (g := g) (i := i) (by omega) hx
      rw [hx n (by omega)]
      omega
theorem sumTo_ext {f : Nat → Nat} {n : Nat} : ∀ {m : Nat}, n ≤ m → (∀ i, n ≤ i → f i = 0) → sumTo m f = sumTo n f
  | 0, h, _ => by rw [show n = 0 by omega]
  | m + 1, h, hz => by
    by_cases e : n = m + 1
    · rw [e]
    · show sumTo m f + f m = sumTo n f
      rw [sumTo_ext (m := m) (n := n) (by omega) hz, hz m (by omega)]
      omega
def zLS (own : Nat → Nat × Nat) (cred : Nat → Nat → Nat) (M N : Mem) (k i : Nat) : Prop :=
  ∃ n c : Nat, M.1 k i 2 = nI n ∧ N.1 k i 0 = nI n ∧ n ≤ c ∧ c ≤ 15000 ∧ 10 * n ≤ cred k i + 4 * c ∧ (∀ q, q < n → ekk (N.2.1 k i q).1 = true) ∧
    ((c = 0 ∧ M.2.1 k i 1 = (41, 0)) ∨ (10 ≤ c ∧ ∃ j, M.2.1 k i 1 = (40, j) ∧ M.2.2.1 40 j = c + 1 ∧ own j = (k, i) ∧ ∀ q, q < n → M.2.1 40 j q = N.2.1 k i q))
def AbsLx (own : Nat → Nat × Nat) (cred : Nat → Nat → Nat) (b : Nat) (M N : Mem) : Prop :=
  (∀ k, k ≠ 40 → ¬ lk k → N.1 k = M.1 k ∧ N.2.1 k = M.2.1 k ∧ N.2.2.1 k = M.2.2.1 k) ∧
  (∀ k, lk k → N.2.2.1 k = M.2.2.1 k) ∧
  (∀ k i, lk k → M.2.2.1 k i ≠ 0 → zLS own cred M N k i) ∧
  M.2.2.1 41 0 = 1 ∧
  (∀ k i, b ≤ i → M.2.2.1 k i = 0 ∧ cred k i = 0) ∧
  M.2.2.2.1 ≤ N.2.2.2.1 ∧
  sumTo b (fun i => cred 30 i + cred 31 i + cred 32 i + cred 33 i) + M.2.2.2.2 ≤ N.2.2.2.2
def AbsL (M N : Mem) : Prop := ∃ own cred b, AbsLx own cred b M N
theorem AbsL.same {M N : Mem} (A : AbsL M N) {k : Nat} (h1 : k ≠ 40) (h2 : ¬ lk k) : N.1 k = M.1 k ∧ N.2.1 k = M.2.1 k ∧ N.2.2.1 k = M.2.2.1 k := by
  obtain ⟨own, cred, b, A⟩ := A
  exact A.1 k h1 h2
theorem AbsL.ex {M N : Mem} (A : AbsL M N) {k : Nat} (h1 : k ≠ 40) : N.2.2.1 k = M.2.2.1 k := by
  obtain ⟨own, cred, b, A⟩ := A
  by_cases h : lk k
  · exact A.2.1 k h
  · exact (A.1 k h1 h).2.2
theorem AbsL.room {M N : Mem} (A : AbsL M N) {w : Nat} (h : rom N w) : rom M w := by
  obtain ⟨own, cred, b, A⟩ := A
  have h1 := A.2.2.2.2.2.1
  have h2 := A.2.2.2.2.2.2
  unfold rom at h ⊢
  omega
theorem AbsL.fresh {M N : Mem} (A : AbsL M N) (k : Nat) : ∃ i, M.2.2.1 k i = 0 := by
  obtain ⟨own, cred, b, A⟩ := A
  exact ⟨b, (A.2.2.2.2.1 k b (Nat.le_refl _)).1⟩
theorem zLS.kept {own : Nat → Nat × Nat} {cred : Nat → Nat → Nat} {M N M' N' : Mem} {k i : Nat} (h : zLS own cred M N k i) (h1 : M'.1 k i = M.1 k i) (h2 : M'.2.1 k i = M.2.1 k i) (h3 : N'.1 k i = N.1 k i) (h4 : N'.2.1 k i = N.2.1 k i) (h5 : ∀ j, M.2.2.1 40 j ≠ 0 → M'.2.2.1 40 j = M.2.2.1 40 j ∧ M'.2.1 40 j = M.2.1 40 j) : zLS own cred M' N' k i := by
  obtain ⟨n, c, a1, a2, a3, a4, a5, a6, a7⟩ := h
  refine ⟨n, c, by rw [h1]; exact a1, by rw [h3]; exact a2, a3, a4, a5, by rw [h4]; exact a6, ?_⟩
  rcases a7 with ⟨b1, b2⟩ | ⟨b1, j, b2, b3, b4, b5⟩
  · exact Or.inl ⟨b1, by rw [h2]; exact b2⟩
  · have h6 := h5 j (by rw [b3]; exact Nat.succ_ne_zero _)
    exact Or.inr ⟨b1, j, by rw [h2]; exact b2, by rw [h6.1]; exact b3, b4, by rw [h6.2, h4]; exact b5⟩
theorem AbsL.wI {M N : Mem} (A : AbsL M N) {k : Nat} (h1 : k ≠ 40) (h2 : ¬ lk k) (i f : Nat) (v : Int32) : AbsL (sI M k i f v) (sI N k i f v) := by
  obtain ⟨own, cred, b, A⟩ := A
  refine ⟨own, cred, b, fun k' g1 g2 => ?_, A.2.1, fun k' i' g1 g2 => ?_, A.2.2.2⟩
  · obtain ⟨a1, a2, a3⟩ := A.1 k' g1 g2
    refine ⟨?_, a2, a3⟩
    funext i' f'
    show (if _ then _ else _) = (if _ then _ else _)
    rw [a1]
  · have hne : k' ≠ k := fun e => h2 (e ▸ g1)
    refine (A.2.2.1 k' i' g1 g2).kept ?_ rfl ?_ rfl (fun j _ => ⟨rfl, rfl⟩)
    · funext f'; exact if_neg (fun e => hne e.1)
    · funext f'; exact if_neg (fun e => hne e.1)
theorem AbsL.wR {M N : Mem} (A : AbsL M N) {k : Nat} (h1 : k ≠ 40) (h2 : ¬ lk k) (i f : Nat) (v : Nat × Nat) : AbsL (sR M k i f v) (sR N k i f v) := by
  obtain ⟨own, cred, b, A⟩ := A
  refine ⟨own, cred, b, fun k' g1 g2 => ?_, A.2.1, fun k' i' g1 g2 => ?_, A.2.2.2⟩
  · obtain ⟨a1, a2, a3⟩ := A.1 k' g1 g2
    refine ⟨a1, ?_, a3⟩
    funext i' f'
    show (if _ then _ else _) = (if _ then _ else _)
    rw [a2]
  · have hne : k' ≠ k := fun e => h2 (e ▸ g1)
    refine (A.2.2.1 k' i' g1 g2).kept rfl ?_ rfl ?_ (fun j _ => ⟨rfl, ?_⟩)
    · funext f'; exact if_neg (fun e => hne e.1)
    · funext f'; exact if_neg (fun e => hne e.1)
    · funext f'; exact if_neg (fun e => h1 e.1.symm)
theorem AbsL.wN {M N : Mem} (A : AbsL M N) {k i : Nat} (h1 : k ≠ 40) (h2 : ¬ lk k) (hf : M.2.2.1 k i = 0) (n w : Nat) : AbsL (sN M k i n w) (sN N k i n w) := by
  obtain ⟨own, cred, b, A⟩ := A
  refine ⟨own, cred, max b (i + 1), fun k' g1 g2 => ?_, fun k' g1 => ?_, fun k' i' g1 g2 => ?_, ?_, fun k' i' g => ?_, ?_, ?_⟩
  · obtain ⟨a1, a2, a3⟩ := A.1 k' g1 g2
    refine ⟨?_, ?_, ?_⟩
    · funext i' f'
      show (if _ then _ else _) = (if _ then _ else _)
      rw [a1]
    · funext i' f'
      show (if _ then _ else _) = (if _ then _ else _)
      rw [a2]
    · funext i'
      show (if _ then _ else _) = (if _ then _ else _)
      rw [a3]
  · funext i'
    show (if _ then _ else _) = (if _ then _ else _)
    rw [A.2.1 k' g1]
  · have hne : k' ≠ k := fun e => h2 (e ▸ g1)
    have g3 : M.2.2.1 k' i' ≠ 0 := by
      have : (sN M k i n w).2.2.1 k' i' = M.2.2.1 k' i' := if_neg (fun e => hne e.1)
      rw [← this]; exact g2
    refine (A.2.2.1 k' i' g1 g3).kept ?_ ?_ ?_ ?_ (fun j _ => ⟨?_, ?_⟩)
    · funext f'; exact if_neg (fun e => hne e.1)
    · funext f'; exact if_neg (fun e => hne e.1)
    · funext f'; exact if_neg (fun e => hne e.1)
    · funext f'; exact if_neg (fun e => hne e.1)
    · exact if_neg (fun e => h1 e.1.symm)
    · funext f'; exact if_neg (fun e => h1 e.1.symm)
  · have : ¬ (41 = k ∧ 0 = i) := fun e => by
      rw [← e.1, ← e.2, A.2.2.2.1] at hf
      cases hf
    show (if _ then _ else _) = _
    rw [if_neg this]
    exact A.2.2.2.1
  · have h3 := A.2.2.2.2.1 k' i' (by omega)
    refine ⟨?_, h3.2⟩
    show (if _ then _ else _) = _
    rw [if_neg (by omega)]
    exact h3.1
  · have := A.2.2.2.2.2.1
    show _ + 1 ≤ _ + 1
    omega
  · have h3 := A.2.2.2.2.2.2
    rw [sumTo_ext (n := b) (by omega) (fun j hj => by rw [(A.2.2.2.2.1 30 j hj).2, (A.2.2.2.2.1 31 j hj).2, (A.2.2.2.2.1 32 j hj).2, (A.2.2.2.2.1 33 j hj).2])]
    show _ + (_ + w) ≤ _ + w
    omega
/-- a list and its array change; the array may be a new one -/
theorem AbsLx.upd {own : Nat → Nat × Nat} {cred : Nat → Nat → Nat} {b : Nat} {M N M' N' : Mem} {k i j n' c' cr' : Nat} (A : AbsLx own cred b M N) (hk : lk k) (hl : M.2.2.1 k i ≠ 0)
    (hM : ∀ k' i', ¬ (k' = k ∧ i' = i) → ¬ (k' = 40 ∧ i' = j) → M'.1 k' i' = M.1 k' i' ∧ M'.2.1 k' i' = M.2.1 k' i')
    (hj : own j = (k, i) ∨ M.2.2.1 40 j = 0) (hE : ∀ k' i', ¬ (k' = 40 ∧ i' = j) → M'.2.2.1 k' i' = M.2.2.1 k' i')
    (hN : ∀ k' i', ¬ (k' = k ∧ i' = i) → N'.1 k' i' = N.1 k' i' ∧ N'.2.1 k' i' = N.2.1 k' i') (hNE : N'.2.2.1 = N.2.2.1)
    (f1 : M'.1 k i 2 = nI n') (f2 : N'.1 k i 0 = nI n') (f3 : n' ≤ c') (f4 : c' ≤ 15000) (f5 : 10 * n' ≤ cr' + 4 * c') (f6 : ∀ q, q < n' → ekk (N'.2.1 k i q).1 = true) (f7 : 10 ≤ c') (f8 : M'.2.1 k i 1 = (40, j)) (f9 : M'.2.2.1 40 j = c' + 1) (f10 : ∀ q, q < n' → M'.2.1 40 j q = N'.2.1 k i q)
    (g1 : M'.2.2.2.1 + N.2.2.2.1 ≤ N'.2.2.2.1 + M.2.2.2.1) (g2 : M'.2.2.2.2 + cr' + N.2.2.2.2 ≤ M.2.2.2.2 + cred k i + N'.2.2.2.2) : AbsL M' N' := by
  obtain ⟨a1, a2, a3, a4, a5, a6, a7⟩ := A
  have hib : i < b := by
    rcases Nat.lt_or_ge i b with h | h
    · exact h
    · exact absurd (a5 k i h).1 hl
  have hk40 : k ≠ 40 := by unfold lk at hk; omega
  refine ⟨fun j' => if j' = j then (k, i) else own j', fun k' i' => if k' = k ∧ i' = i then cr' else cred k' i', max b (j + 1), fun k' q1 q2 => ?_, fun k' q1 => ?_, fun k' i' q1 q2 => ?_, ?_, fun k' i' q1 => ?_, by omega, ?_⟩
  · have hne : k' ≠ k := fun e => q2 (e ▸ hk)
    obtain ⟨b1, b2, b3⟩ := a1 k' q1 q2
    refine ⟨funext fun i' => ?_, funext fun i' => ?_, funext fun i' => ?_⟩
    · rw [(hN k' i' (fun e => hne e.1)).1, (hM k' i' (fun e => hne e.1) (fun e => q1 e.1)).1, b1]
    · rw [(hN k' i' (fun e => hne e.1)).2, (hM k' i' (fun e => hne e.1) (fun e => q1 e.1)).2, b2]
    · rw [hNE, hE k' i' (fun e => q1 e.1), b3]
  · funext i'
    have : k' ≠ 40 := by unfold lk at q1; omega
    rw [hNE, hE k' i' (fun e => this e.1), a2 k' q1]
  · have q1' : k' ≠ 40 := by unfold lk at q1; omega
    rw [hE k' i' (fun e => q1' e.1)] at q2
    by_cases he : k' = k ∧ i' = i
    · obtain ⟨rfl, rfl⟩ := he
      refine ⟨n', c', f1, f2, f3, f4, ?_, f6, Or.inr ⟨f7, j, f8, f9, if_pos rfl, f10⟩⟩
      show _ ≤ (if _ then _ else _) + _
      rw [if_pos ⟨rfl, rfl⟩]; exact f5
    · obtain ⟨n, c, c1, c2, c3, c4, c5, c6, c7⟩ := a3 k' i' q1 q2
      have m1 := hM k' i' he (fun e => q1' e.1)
      have m2 := hN k' i' he
      refine ⟨n, c, by rw [m1.1]; exact c1, by rw [m2.1]; exact c2, c3, c4, ?_, by rw [m2.2]; exact c6, ?_⟩
      · show _ ≤ (if _ then _ else _) + _
        rw [if_neg he]; exact c5
      · rcases c7 with ⟨d1, d2⟩ | ⟨d1, j', d2, d3, d4, d5⟩
        · exact Or.inl ⟨d1, by rw [m1.2]; exact d2⟩
        · have hjj : j' ≠ j := by
            intro e
            subst e
            rcases hj with h | h
            · rw [h] at d4
              exact he ⟨(congrArg Prod.fst d4).symm, (congrArg Prod.snd d4).symm⟩
            · rw [h] at d3; cases d3
          have m3 := hM 40 j' (fun e => hk40 e.1.symm) (fun e => hjj e.2)
          refine Or.inr ⟨d1, j', by rw [m1.2]; exact d2, by rw [hE 40 j' (fun e => hjj e.2)]; exact d3, ?_, by rw [m3.2, m2.2]; exact d5⟩
          show (if _ then _ else _) = _
          rw [if_neg hjj]; exact d4
  · rw [hE 41 0 (fun e => by omega)]; exact a4
  · have h3 := a5 k' i' (by omega)
    refine ⟨?_, ?_⟩
    · rw [hE k' i' (by omega)]; exact h3.1
    · show (if _ then _ else _) = _
      rw [if_neg (fun e => by omega)]; exact h3.2
  · show sumTo (max b (j + 1)) (fun i' => (if 30 = k ∧ i' = i then cr' else cred 30 i') + (if 31 = k ∧ i' = i then cr' else cred 31 i') + (if 32 = k ∧ i' = i then cr' else cred 32 i') + (if 33 = k ∧ i' = i then cr' else cred 33 i')) + M'.2.2.2.2 ≤ N'.2.2.2.2
    rw [sumTo_ext (n := b) (by omega) (fun j' hj' => by
      have e30 := (a5 30 j' hj').2
      have e31 := (a5 31 j' hj').2
      have e32 := (a5 32 j' hj').2
      have e33 := (a5 33 j' hj').2
      rw [if_neg (by omega), if_neg (by omega), if_neg (by omega), if_neg (by omega), e30, e31, e32, e33])]
    have hs := sumTo_upd (n := b) (i := i) (f := fun i => cred 30 i + cred 31 i + cred 32 i + cred 33 i) (g := fun i' => (if 30 = k ∧ i' = i then cr' else cred 30 i') + (if 31 = k ∧ i' = i then cr' else cred 31 i') + (if 32 = k ∧ i' = i then cr' else cred 32 i') + (if 33 = k ∧ i' = i then cr' else cred 33 i')) hib (fun x hx => by
      rw [if_neg (fun e => hx e.2), if_neg (fun e => hx e.2), if_neg (fun e => hx e.2), if_neg (fun e => hx e.2)])
    have hd : (if 30 = k ∧ i = i then cr' else cred 30 i) + (if 31 = k ∧ i = i then cr' else cred 31 i) + (if 32 = k ∧ i = i then cr' else cred 32 i) + (if 33 = k ∧ i = i then cr' else cred 33 i) + cred k i = cred 30 i + cred 31 i + cred 32 i + cred 33 i + cr' := by
      rcases lkc hk with e | e | e | e <;> subst e <;> simp <;> omega
    omega
/-! the judgements over N -/
def QQ (Q : Option AV → Mem → Prop) : Option AV → Mem → Prop := fun r M' => ∃ N', AbsL M' N' ∧ Q r N'
def wq (d : Nat) (mt : zMt) (pc : Nat) (lv : List (Nat × AV)) (st : List AV) (N : Mem) (Q : Option AV → Mem → Prop) : Prop := ∀ M, AbsL M N → wp d mt pc lv st M (QQ Q)
def cq (d : Nat) (mt : zMt) (as : List AV) (N : Mem) (Q : Option AV → Mem → Prop) : Prop := ∀ M, AbsL M N → ct d mt as M (QQ Q)
theorem cq.mono {d : Nat} {mt : zMt} {as : List AV} {M : Mem} {Q Q' : Option AV → Mem → Prop} (h : cq d mt as M Q) (hq : ∀ r M', Q r M' → Q' r M') : cq d mt as M Q' := fun M0 A => (h M0 A).mono fun r M' ⟨N', a, b⟩ => ⟨N', a, hq r N' b⟩
theorem cq_of {d : Nat} {mt : zMt} {as : List AV} {M : Mem} {Q : Option AV → Mem → Prop} (hy : plainName mt.1.cls = true) (hn : as.length ≤ mt.2.2.1) (h : wq d mt 0 (zA 0 as) [] M Q) : cq d mt as M Q := fun M0 A => ct_of hy hn (h M0 A)
theorem a_live {d : Nat} {mt : zMt} {pc : Nat} {lv : List (Nat × AV)} {st : List AV} {M : Mem} {Q : Option AV → Mem → Prop} {e : Nat × Nat} (hm : .inr e ∈ st) (hnz : e.1 ≠ 0) (k : M.2.2.1 e.1 e.2 ≠ 0 → wp d mt pc lv st M Q) : wp d mt pc lv st M Q := by
  intro p l en s m args below meth c H locs G lc lc0 M0 ls C R E B L S
  refine k ?_ p l en s m args below meth c H locs G lc lc0 M0 ls C R E B L S
  rcases S _ hm with h | h
  · exact absurd (by rw [h]) hnz
  · exact h.2
theorem kt_nl {k ci : Nat} (hc : ci < 25) (h : kt k = ci) : k ≠ 40 ∧ ¬ lk k := by
  constructor
  · intro e; rw [e] at h; have : kt 40 = 102 := rfl; omega
  · intro e; have := lk_kt e; omega
theorem gk_nl {k : Nat} (h : gk k) : k ≠ 40 ∧ ¬ lk k := by unfold gk at h; unfold lk; omega
theorem ak_nl {k : Nat} (h : ak k) : k ≠ 40 ∧ ¬ lk k := by unfold ak at h; unfold lk; omega
