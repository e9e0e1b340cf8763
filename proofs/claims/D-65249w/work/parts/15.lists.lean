set_option maxRecDepth 100000
/-! ArrayList's members over N -/
def lAdd (M : Mem) (e v : Nat × Nat) : Mem := (fun k i f => if k = e.1 ∧ i = e.2 ∧ f = 0 then M.1 e.1 e.2 0 + 1 else M.1 k i f, fun k i f => if k = e.1 ∧ i = e.2 ∧ f = (M.1 e.1 e.2 0).toNatClampNeg then v else M.2.1 k i f, M.2.2.1, M.2.2.2.1 + 1, M.2.2.2.2 + 10)
def lRem (M : Mem) (e : Nat × Nat) (j : Nat) : Mem := (fun k i f => if k = e.1 ∧ i = e.2 ∧ f = 0 then M.1 e.1 e.2 0 - 1 else M.1 k i f, fun k i f => if (k = e.1 ∧ i = e.2) ∧ j ≤ f then M.2.1 e.1 e.2 (f + 1) else M.2.1 k i f, M.2.2)
theorem sumTo_ge {f : Nat → Nat} {i : Nat} : ∀ {n : Nat}, i < n → f i ≤ sumTo n f
  | 0, h => absurd h (by omega)
  | n + 1, h => by
    show f i ≤ sumTo n f + f n
    by_cases e : i = n
    · subst e; omega
    · have := sumTo_ge (f := f) (n := n) (i := i) (by omega)
      omega
theorem AbsLx.cred {own : Nat → Nat × Nat} {cred : Nat → Nat → Nat} {b : Nat} {M N : Mem} (A : AbsLx own cred b M N) {k i : Nat} (hk : lk k) (hl : M.2.2.1 k i ≠ 0) : M.2.2.2.2 + cred k i ≤ N.2.2.2.2 := by
  have hib : i < b := by
    rcases Nat.lt_or_ge i b with h | h
    · exact h
    · exact absurd (A.2.2.2.2.1 k i h).1 hl
  have h1 := A.2.2.2.2.2.2
  have h2 := sumTo_ge (f := fun i => cred 30 i + cred 31 i + cred 32 i + cred 33 i) hib
  rcases lkc hk with e | e | e | e <;> subst e <;> omega
theorem arL40 {M : Mem} {j : Nat} (h : M.2.2.1 40 j ≠ 0) : arL M (40, j) := ⟨Nat.succ_ne_zero 39, (by decide : 100 ≤ kt 40 ∧ kt 40 ≤ 103), h⟩
theorem lk40 {k : Nat} (h : lk k) : k ≠ 40 := by unfold lk at h; omega
theorem L_fin {own : Nat → Nat × Nat} {cred : Nat → Nat → Nat} {b : Nat} {M N M1 : Mem} {k i j n c' cr' : Nat} {v : Nat × Nat} {Q : Mem → Prop} (A : AbsLx own cred b M N) (hk : lk k) (hl : M.2.2.1 k i ≠ 0) (hv : ekk v.1 = true)
    (hM : ∀ k' i', ¬ (k' = k ∧ i' = i) → ¬ (k' = 40 ∧ i' = j) → M1.1 k' i' = M.1 k' i' ∧ M1.2.1 k' i' = M.2.1 k' i')
    (hj : own j = (k, i) ∨ M.2.2.1 40 j = 0) (hE : ∀ k' i', ¬ (k' = 40 ∧ i' = j) → M1.2.2.1 k' i' = M.2.2.1 k' i')
    (f1 : M1.1 k i 2 = nI n) (f2 : N.1 k i 0 = nI n) (f3 : n < c') (f4 : c' ≤ 15000) (f5 : 10 * (n + 1) ≤ cr' + 4 * c') (f6 : ∀ q, q < n → ekk (N.2.1 k i q).1 = true) (f7 : 10 ≤ c') (f8 : M1.2.1 k i 1 = (40, j)) (f9 : M1.2.2.1 40 j = c' + 1) (f10 : ∀ q, q < n → M1.2.1 40 j q = N.2.1 k i q)
    (g1 : M1.2.2.2.1 ≤ M.2.2.2.1 + 1) (g2 : M1.2.2.2.2 + cr' ≤ M.2.2.2.2 + cred k i + 10) (h : ∀ M', AbsL M' (lAdd N (k, i) v) → Q M') : v_J2_add_2_11 (k, i) v (40, j) (nI n) M1 Q := by
  have hn : (nI n).toNatClampNeg = n := nI_clamp (by omega)
  have hk40 := lk40 hk
  refine ⟨⟨rfl, rfl, ?_, ?_, Or.inr hv⟩, fun Ma ea => ⟨lk_kt hk, fun Mb eb => h Mb ?_⟩⟩
  · show M1.2.2.1 40 j ≠ 0
    rw [f9]; omega
  · show vp_in (nI n) (M1.2.2.1 40 j - 1)
    rw [f9]; exact vp_in_nI (by omega) (by omega)
  · subst ea eb
    rw [hn]
    refine A.upd (j := j) (n' := n + 1) (c' := c') (cr' := cr') hk hl ?_ hj hE ?_ rfl ?_ ?_ (by omega) f4 f5 ?_ f7 ?_ f9 ?_ ?_ ?_
    · intro k' i' h1 h2
      refine ⟨?_, ?_⟩
      · funext f
        show (if _ then _ else _) = _
        rw [if_neg (fun e => h1 ⟨e.1, e.2.1⟩)]
        exact congrFun (hM k' i' h1 h2).1 f
      · funext f
        show (if _ then _ else _) = _
        rw [if_neg (fun e => h2 ⟨e.1, e.2.1⟩)]
        exact congrFun (hM k' i' h1 h2).2 f
    · intro k' i' h1
      refine ⟨?_, ?_⟩
      · funext f
        show (if _ then _ else _) = _
        rw [if_neg (fun e => h1 ⟨e.1, e.2.1⟩)]
      · funext f
        show (if _ then _ else _) = _
        rw [if_neg (fun e => h1 ⟨e.1, e.2.1⟩)]
    · show (if _ then _ else _) = _
      rw [if_pos ⟨rfl, rfl, rfl⟩, nI_1]
    · show (if _ then _ else _) = _
      rw [if_pos ⟨rfl, rfl, rfl⟩]
      show N.1 k i 0 + 1 = _
      rw [f2, nI_1]
    · intro q hq
      show ekk (if _ then _ else _ : Nat × Nat).1 = true
      dsimp only
      rw [f2, hn]
      by_cases e : q = n
      · rw [if_pos ⟨rfl, rfl, e⟩]; exact hv
      · rw [if_neg (fun z => e z.2.2)]; exact f6 q (by omega)
    · show (if _ then _ else _) = _
      rw [if_neg (fun e => hk40 e.1)]; exact f8
    · intro q hq
      show (if _ then _ else _) = (if _ then _ else _)
      dsimp only
      rw [f2, hn]
      by_cases e : q = n
      · rw [if_pos ⟨rfl, rfl, e⟩, if_pos ⟨rfl, rfl, e⟩]
      · rw [if_neg (fun z => e z.2.2), if_neg (fun z => e z.2.2)]; exact f10 q (by omega)
    · show M1.2.2.2.1 + N.2.2.2.1 ≤ N.2.2.2.1 + 1 + M.2.2.2.1
      omega
    · show M1.2.2.2.2 + cr' + N.2.2.2.2 ≤ M.2.2.2.2 + cred k i + (N.2.2.2.2 + 10)
      omega
set_option maxHeartbeats 1000000 in
theorem L_add {M N : Mem} {k i : Nat} {v : Nat × Nat} {Q : Int32 → Mem → Prop} (A : AbsL M N) (hk : lk k) (hl : M.2.2.1 k i ≠ 0) (hv : ekk v.1 = true) (hs : N.1 k i 0 < 10000) (hr : rom N 10) (h : ∀ M', AbsL M' (lAdd N (k, i) v) → Q 1 M') : v_J2_add (k, i) v M Q := by
  obtain ⟨own, cred, b, A⟩ := A
  obtain ⟨n, c, a1, a2, a3, a4, a5, a6, a7⟩ := A.2.2.1 k i hk hl
  have hcr := A.cred hk hl
  have hcells := A.2.2.2.2.2.1
  have hkt := lk_kt hk
  have hk40 := lk40 hk
  have hk41 : k ≠ 41 := by unfold lk at hk; omega
  have hn : n < 10000 := by
    rw [a2] at hs
    exact (nI_ltI (by omega) (by decide)).mp hs
  unfold rom at hr
  refine ⟨hkt, hkt, fun Ms es => ⟨hkt, fun ar ea => ⟨hkt, hkt, ?_⟩⟩⟩
  have hMs : Ms.2 = M.2 := by rw [es]; rfl
  have hMi : ∀ k' i', ¬ (k' = k ∧ i' = i) → Ms.1 k' i' = M.1 k' i' := by
    intro k' i' hne
    rw [es]
    funext f
    exact if_neg (fun e => hne ⟨e.1, e.2.1⟩)
  have hM2 : Ms.1 k i 2 = nI n := by
    rw [es]
    show (if _ then _ else _) = _
    rw [if_neg (by omega)]
    exact a1
  clear es
  rw [hMs] at ea
  show v_J2_add_2 (k, i) v ar (Ms.1 k i 2) Ms _
  rw [hM2]
  rcases a7 with ⟨b1, b2⟩ | ⟨b1, j, b2, b3, b4, b5⟩
  · -- the first of all
    have hn0 : n = 0 := by omega
    subst hn0
    have ear : ar = (41, 0) := ea.trans b2
    subst ear
    have h41 : Ms.2.2.1 41 0 = 1 := by rw [hMs]; exact A.2.2.2.1
    refine ⟨⟨by decide, by decide, by show Ms.2.2.1 41 0 ≠ 0; rw [h41]; decide⟩, fun hne => absurd (by show nI 0 = nI (Ms.2.2.1 41 0 - 1); rw [h41]) hne, fun _ => ⟨hkt, hkt, hkt, hkt, fun e1 ee1 => ?_⟩⟩
    have he1 : e1 = (41, 0) := by rw [ee1, hMs]; exact b2
    subst he1
    refine ⟨⟨by decide, by decide, by show Ms.2.2.1 41 0 ≠ 0; rw [h41]; decide⟩, fun x2 ex2 => ?_⟩
    have hx2 : x2 = 0 := by rw [ex2]; show nI (Ms.2.2.1 41 0 - 1) = 0; rw [h41]; rfl
    subst hx2
    refine ⟨fun hlt => absurd hlt (by decide), fun _ => ⟨hkt, fun e3 ee3 => ⟨fun _ => ?_, fun hne => absurd (by rw [ee3, hMs]; exact b2) hne⟩⟩⟩
    have hx1 : (if (10 : Int32) < Ms.1 k i 2 + 1 then Ms.1 k i 2 + 1 else 10) = nI 10 := by rw [hM2]; decide
    show ¬ (if (10 : Int32) < Ms.1 k i 2 + 1 then Ms.1 k i 2 + 1 else 10) < 0 ∧ _
    dsimp only
    rw [hx1]
    have hcl : (nI 10).toNatClampNeg = 10 := by decide
    rw [hcl]
    refine ⟨by decide, by decide, ⟨by rw [hMs]; omega, by rw [hMs]; omega⟩, ?_⟩
    obtain ⟨j, hj⟩ : ∃ j, M.2.2.1 40 j = 0 := ⟨b, (A.2.2.2.2.1 40 b (Nat.le_refl _)).1⟩
    refine ⟨j, by rw [hMs]; exact hj, fun M5 e5 => ⟨hkt, fun M6 e6 => ?_⟩⟩
    subst e5 e6
    refine L_fin (n := 0) (c' := 10) (cr' := cred k i) A hk hl hv ?_ (Or.inr hj) ?_ ?_ a2 (by decide) (by decide) (by omega) (fun q hq => absurd hq (by omega)) (by decide) ?_ ?_ (fun q hq => absurd hq (by omega)) ?_ ?_ h
    · intro k' i' h1 h2
      refine ⟨?_, ?_⟩
      · funext f
        show (if _ then _ else _) = _
        rw [if_neg h2]
        exact congrFun (hMi k' i' h1) f
      · funext f
        show (if _ then _ else if _ then _ else _) = _
        rw [if_neg (fun e => h1 ⟨e.1, e.2.1⟩), if_neg h2, hMs]
    · intro k' i' h2
      show (if _ then _ else _) = _
      rw [if_neg h2, hMs]
    · show (if _ then _ else _) = _
      rw [if_neg (fun e => hk40 e.1)]; exact hM2
    · show (if _ then _ else _) = _
      rw [if_pos ⟨rfl, rfl, rfl⟩]
    · show (if _ then _ else _) = _
      rw [if_pos ⟨rfl, rfl⟩]
    · show Ms.2.2.2.1 + 1 ≤ _
      rw [hMs]; omega
    · show Ms.2.2.2.2 + 10 + _ ≤ _
      rw [hMs]; omega
  · have ear : ar = (40, j) := ea.trans b2
    subst ear
    have hj : Ms.2.2.1 40 j = c + 1 := by rw [hMs]; exact b3
    have hj0 : Ms.2.2.1 40 j ≠ 0 := by rw [hj]; omega
    refine ⟨arL40 hj0, fun hne => ?_, fun heq => ?_⟩
    · -- room is there
      have hnc : n < c := by
        rcases Nat.lt_or_ge n c with q | q
        · exact q
        · exact absurd (by show nI n = nI (Ms.2.2.1 40 j - 1); rw [hj, show n = c by omega]; rfl) hne
      refine L_fin (c' := c) (cr' := cred k i + 10) A hk hl hv ?_ (Or.inl b4) ?_ hM2 a2 hnc a4 (by omega) a6 b1 ?_ hj ?_ ?_ ?_ h
      · intro k' i' h1 h2
        exact ⟨hMi k' i' h1, by rw [hMs]⟩
      · intro k' i' h2
        rw [hMs]
      · rw [hMs]; exact b2
      · intro q hq; rw [hMs]; exact b5 q hq
      · rw [hMs]; omega
      · rw [hMs]; omega
    · -- full: a new array
      have hnc : n = c := by
        have : nI n = nI (Ms.2.2.1 40 j - 1) := heq
        rw [hj, Nat.add_sub_cancel] at this
        exact (nI_eq (by omega) (by omega)).mp this
      refine ⟨hkt, hkt, hkt, hkt, fun e1 ee1 => ?_⟩
      have he1 : e1 = (40, j) := by rw [ee1, hMs]; exact b2
      subst he1
      refine ⟨arL40 hj0, fun x2 ex2 => ?_⟩
      have hx2 : x2 = nI c := by rw [ex2]; show nI (Ms.2.2.1 40 j - 1) = nI c; rw [hj]; rfl
      subst hx2
      refine ⟨fun _ => ?_, fun hlt => absurd (show nI 0 < nI c from nI_lt (by omega) (by omega)) hlt⟩
      have es : nI c >>> ((1 : Int32) &&& 31) = nI (c / 2) := by
        have k := pk_shrN (n := c) (by omega) ((1 : Int32) &&& 31) 1 (by decide)
        rw [Nat.pow_one] at k
        exact k
      have ed : nI n + 1 - nI c = nI 1 := by
        rw [nI_1, hnc]
        have k := pk_sub (a := c + 1) (b := c) (by omega)
        rw [Nat.add_sub_cancel_left] at k
        exact k
      have el : nI c + (if nI 1 < nI (c / 2) then nI (c / 2) else nI 1) = nI (c + c / 2) := by
        rw [if_pos (nI_lt (by omega) (by omega))]
        exact nI_add c (c / 2)
      have hcl : (nI (c + c / 2)).toNatClampNeg = c + c / 2 := nI_clamp (by omega)
      have hcc : (nI c).toNatClampNeg = c := nI_clamp (by omega)
      show v_J3_newLength (nI c) (Ms.1 k i 2 + 1 - nI c) (nI c >>> ((1 : Int32) &&& 31)) Ms _
      rw [hM2, ed, es]
      intro x3 ex3
      rw [el] at ex3
      subst ex3
      refine ⟨fun hz => absurd hz (nI_nle (by omega) (by omega)), fun _ => ⟨fun hz => absurd hz (show ¬ nI 2147483639 < nI (c + c / 2) from nI_nlt (by omega) (by decide)), fun _ => ⟨hkt, fun e3 ee3 => ?_⟩⟩⟩
      have he3 : e3 = (40, j) := by rw [ee3, hMs]; exact b2
      subst he3
      refine ⟨rfl, hj0, nI_pos (by omega), by rw [hcl]; omega, ?_, ?_⟩
      · rw [hcl]
        exact ⟨by rw [hMs]; omega, by rw [hMs]; omega⟩
      · obtain ⟨j', hj'⟩ : ∃ j', M.2.2.1 40 j' = 0 := ⟨b, (A.2.2.2.2.1 40 b (Nat.le_refl _)).1⟩
        have hjj : j ≠ j' := fun e => hj0 (by rw [e, hMs]; exact hj')
        refine ⟨j', by rw [hMs]; exact hj', fun M2 e2 => ?_⟩
        rw [hcl] at e2
        have hlen : M2.2.2.1 40 j = c + 1 := by
          rw [e2]
          show (if _ then _ else _) = _
          rw [if_neg (fun e => hjj e.2)]; exact hj
        have hlen' : M2.2.2.1 40 j' = c + c / 2 + 1 := by
          rw [e2]
          show (if _ then _ else _) = _
          rw [if_pos ⟨rfl, rfl⟩]
        have hif : (if nI (c + c / 2) < nI (M2.2.2.1 40 j - 1) then nI (c + c / 2) else nI (M2.2.2.1 40 j - 1)) = nI c := by
          rw [hlen, Nat.add_sub_cancel, if_neg (nI_nlt (by omega) (by omega))]
        have hel : ∀ q, q < c → M2.2.1 40 j q = N.2.1 k i q := by
          intro q hq
          rw [e2]
          show (if _ then _ else _) = _
          rw [if_neg (fun e => hjj e.2), hMs]
          exact b5 q (by omega)
        show arL M2 (40, j) ∧ arC M2 (40, j) 0 (40, j') 0 (if nI (c + c / 2) < nI (M2.2.2.1 40 j - 1) then nI (c + c / 2) else nI (M2.2.2.1 40 j - 1)) ∧ _
        dsimp only
        rw [hif, hcc]
        refine ⟨arL40 (by rw [hlen]; omega), ⟨rfl, rfl, by show M2.2.2.1 40 j ≠ 0; rw [hlen]; omega, by show M2.2.2.1 40 j' ≠ 0; rw [hlen']; omega, by decide, by decide, nI_pos (by omega), ?_, ?_, ?_⟩, ?_⟩
        · show 0 + _ ≤ M2.2.2.1 40 j - 1
          rw [hcc, hlen]; omega
        · show 0 + _ ≤ M2.2.2.1 40 j' - 1
          rw [hcc, hlen']; omega
        · intro q hq
          rw [hcc] at hq
          right
          show ekk (M2.2.1 40 j (0 + q)).1 = true
          rw [Nat.zero_add, hel q hq]
          exact a6 q (by omega)
        · intro M3 e3 
          refine ⟨hkt, fun M6 e6 => ?_⟩
          have h0 : (0 : Int32).toNatClampNeg = 0 := by decide
          rw [h0] at e3
          refine L_fin (n := n) (c' := c + c / 2) (cr' := cred k i + 10 - (c + c / 2)) A hk hl hv ?_ (Or.inr hj') ?_ ?_ a2 (by omega) (by omega) (by omega) a6 (by omega) ?_ ?_ ?_ ?_ ?_ h
          · intro k' i' h1 h2
            refine ⟨?_, ?_⟩
            · funext f
              rw [e6, e3, e2]
              show (if _ then _ else _) = _
              rw [if_neg h2]
              exact congrFun (hMi k' i' h1) f
            · funext f
              rw [e6]
              show (if _ then _ else _) = _
              rw [if_neg (fun e => h1 ⟨e.1, e.2.1⟩), e3]
              show (if _ then _ else _) = _
              rw [if_neg h2, e2]
              show (if _ then _ else _) = _
              rw [if_neg h2, hMs]
          · intro k' i' h2
            rw [e6, e3, e2]
            show (if _ then _ else _) = _
            rw [if_neg h2, hMs]
          · rw [e6, e3, e2]
            show (if _ then _ else _) = _
            rw [if_neg (fun e => hk40 e.1)]; exact hM2
          · rw [e6]
            show (if _ then _ else _) = _
            rw [if_pos ⟨rfl, rfl, rfl⟩]
          · rw [e6, e3]
            exact hlen'
          · intro q hq
            rw [e6]
            show (if _ then _ else _) = _
            rw [if_neg (fun e => hk40 e.1.symm), e3]
            show (if _ then _ else _) = _
            rw [if_pos ⟨rfl, rfl⟩, if_pos (by omega)]
            show M2.2.1 40 j (0 + (q - 0)) = _
            rw [Nat.zero_add, Nat.sub_zero]
            exact hel q (by omega)
          · rw [e6, e3, e2]
            show Ms.2.2.2.1 + 1 ≤ _
            rw [hMs]; omega
          · rw [e6, e3, e2]
            show Ms.2.2.2.2 + (c + c / 2) + _ ≤ _
            rw [hMs]; omega
theorem L_get {M N : Mem} {k i : Nat} {x : Int32} {Q : Nat × Nat → Mem → Prop} (A : AbsL M N) (hk : lk k) (hl : M.2.2.1 k i ≠ 0) (hx : ¬ x < 0 ∧ x < N.1 k i 0) (h : Q (N.2.1 k i x.toNatClampNeg) M) : v_J2_get (k, i) x M Q := by
  obtain ⟨own, cred, b, A⟩ := A
  obtain ⟨n, c, a1, a2, a3, a4, a5, a6, a7⟩ := A.2.2.1 k i hk hl
  have hkt := lk_kt hk
  obtain ⟨q, hq, rfl⟩ := nI_of hx.1
  have hqn : q < n := by
    have h2 := hx.2
    rw [a2] at h2
    exact (nI_ltI hq (by omega)).mp h2
  have hcl : (nI q).toNatClampNeg = q := nI_clamp hq
  rw [hcl] at h
  rcases a7 with ⟨b1, b2⟩ | ⟨b1, j, b2, b3, b4, b5⟩
  · omega
  · refine ⟨hkt, ⟨fun hz => absurd hz hx.1, fun _ => ⟨fun _ => ⟨hkt, hkt, fun e1 ee1 => ?_⟩, fun hz => absurd (by show nI q < M.1 k i 2; rw [a1]; exact nI_lt hqn (by omega)) hz⟩⟩⟩
    have he1 : e1 = (40, j) := ee1.trans b2
    subst he1
    refine ⟨⟨Or.inl rfl, by show M.2.2.1 40 j ≠ 0; rw [b3]; omega, by show vp_in (nI q) (M.2.2.1 40 j - 1); rw [b3]; exact vp_in_nI (by omega) (by omega)⟩, fun e2 ee2 => ?_⟩
    have he2 : e2 = N.2.1 k i q := by
      rw [ee2, hcl]
      exact b5 q hqn
    rw [he2]
    exact h
theorem L_fr {own : Nat → Nat × Nat} {cred : Nat → Nat → Nat} {b : Nat} {M N : Mem} {k i j n : Nat} {Q : Mem → Prop} (A : AbsLx own cred b M N) (hk : lk k) (hl : M.2.2.1 k i ≠ 0) (hn : N.1 k i 0 = nI n) (hn2 : n < 2 ^ 31) (hj : j < n) (h : ∀ M', AbsL M' (lRem N (k, i) j) → Q M') : v_J2_fastRemove (k, i) (M.2.1 k i 1) (nI j) M Q := by
  obtain ⟨n', c, a1, a2, a3, a4, a5, a6, a7⟩ := A.2.2.1 k i hk hl
  have hkt := lk_kt hk
  have hk40 := lk40 hk
  have hnn : n' = n := (nI_eq (by omega) hn2).mp (a2.symm.trans hn)
  subst hnn
  rcases a7 with ⟨b1, b2⟩ | ⟨b1, a, b2, b3, b4, b5⟩
  · omega
  rw [b2]
  -- the end of it, over any memory whose array has been shifted
  have fin : ∀ Mc : Mem, (∀ k' i', ¬ (k' = k ∧ i' = i) → ¬ (k' = 40 ∧ i' = a) → Mc.1 k' i' = M.1 k' i' ∧ Mc.2.1 k' i' = M.2.1 k' i') → Mc.2.2 = M.2.2 → Mc.2.1 k i = M.2.1 k i → (∀ q, q < n' - 1 → Mc.2.1 40 a q = if j ≤ q then M.2.1 40 a (q + 1) else M.2.1 40 a q) → v_J2_fastRemove_34 (k, i) (40, a) (nI (n' - 1)) Mc Q := by
    intro Mc h1 h2 h3 h4
    have hcl : (nI (n' - 1)).toNatClampNeg = n' - 1 := nI_clamp (by omega)
    refine ⟨hkt, fun M1 e1 => ⟨⟨rfl, rfl, ?_, ?_, Or.inl rfl⟩, fun M2 e2 => h M2 ?_⟩⟩
    · rw [e1]; show Mc.2.2.1 40 a ≠ 0; rw [h2, b3]; omega
    · rw [e1]; show vp_in _ (Mc.2.2.1 40 a - 1); rw [h2, b3]; exact vp_in_nI (by omega) (by omega)
    · rw [hcl] at e2
      refine A.upd (j := a) (n' := n' - 1) (c' := c) (cr' := cred k i) hk hl ?_ (Or.inl b4) ?_ ?_ rfl ?_ ?_ (by omega) a4 (by omega) ?_ b1 ?_ ?_ ?_ ?_ ?_
      · intro k' i' g1 g2
        refine ⟨?_, ?_⟩
        · rw [e2, e1]
          funext f
          show (if _ then _ else _) = _
          rw [if_neg (fun e => g1 ⟨e.1, e.2.1⟩)]
          exact congrFun (h1 k' i' g1 g2).1 f
        · rw [e2, e1]
          funext f
          show (if _ then _ else _) = _
          rw [if_neg (fun e => g2 ⟨e.1, e.2.1⟩)]
          exact congrFun (h1 k' i' g1 g2).2 f
      · intro k' i' g2
        rw [e2, e1]
        show Mc.2.2.1 k' i' = _
        rw [h2]
      · intro k' i' g1
        refine ⟨?_, ?_⟩
        · funext f
          show (if _ then _ else _) = _
          rw [if_neg (fun e => g1 ⟨e.1, e.2.1⟩)]
        · funext f
          show (if _ then _ else _) = _
          rw [if_neg (fun e => g1 e.1)]
      · rw [e2, e1]
        show (if _ then _ else _) = _
        rw [if_pos ⟨rfl, rfl, rfl⟩]
      · show (if _ then _ else _) = _
        rw [if_pos ⟨rfl, rfl, rfl⟩]
        show N.1 k i 0 - 1 = _
        rw [a2]
        obtain ⟨m, hm⟩ : ∃ m, n' = m + 1 := ⟨n' - 1, by omega⟩
        rw [hm, nI_pred, Nat.add_sub_cancel]
      · intro q hq
        show ekk (if _ then _ else _ : Nat × Nat).1 = true
        by_cases e : j ≤ q
        · rw [if_pos ⟨⟨rfl, rfl⟩, e⟩]; exact a6 (q + 1) (by omega)
        · rw [if_neg (fun z => e z.2)]; exact a6 q (by omega)
      · rw [e2, e1]
        show (if _ then _ else _) = _
        rw [if_neg (fun e => hk40 e.1)]
        show Mc.2.1 k i 1 = _
        rw [h3]; exact b2
      · rw [e2, e1]
        show Mc.2.2.1 40 a = _
        rw [h2]; exact b3
      · intro q hq
        rw [e2, e1]
        show (if _ then _ else _) = (if _ then _ else _)
        rw [if_neg (fun e => by omega)]
        show Mc.2.1 40 a q = _
        rw [h4 q hq]
        by_cases e : j ≤ q
        · rw [if_pos e, if_pos ⟨⟨rfl, rfl⟩, e⟩]; exact b5 (q + 1) (by omega)
        · rw [if_neg e, if_neg (fun z => e z.2)]; exact b5 q (by omega)
      · rw [e2, e1]
        show Mc.2.2.2.1 + N.2.2.2.1 ≤ N.2.2.2.1 + _
        rw [h2]; omega
      · rw [e2, e1]
        show Mc.2.2.2.2 + _ + N.2.2.2.2 ≤ _ + _ + N.2.2.2.2
        rw [h2]; omega
  refine ⟨hkt, hkt, fun Ms es => ⟨hkt, fun x2 ex2 => ?_⟩⟩
  have hM2 : Ms.1 k i 2 = nI n' := by
    rw [es]
    show (if _ then _ else _) = _
    rw [if_neg (by omega)]; exact a1
  have hMs : Ms.2 = M.2 := by rw [es]; rfl
  have hMi : ∀ k' i', ¬ (k' = k ∧ i' = i) → Ms.1 k' i' = M.1 k' i' := by
    intro k' i' hne
    rw [es]
    funext f
    exact if_neg (fun e => hne ⟨e.1, e.2.1⟩)
  clear es
  have hsub : nI n' - 1 = nI (n' - 1) := by
    obtain ⟨m, hm⟩ : ∃ m, n' = m + 1 := ⟨n' - 1, by omega⟩
    rw [hm, nI_pred, Nat.add_sub_cancel]
  have hx2 : x2 = nI (n' - 1) := by
    rw [ex2]
    show Ms.1 k i 2 - 1 = _
    rw [hM2, hsub]
  subst hx2
  refine ⟨fun hle => ?_, fun hle => ?_⟩
  · have hle' : nI (n' - 1) ≤ nI j := by
      have : Ms.1 k i 2 - 1 ≤ nI j := hle
      rw [hM2, hsub] at this
      exact this
    have := (nI_leI (by omega) (by omega)).mp hle'
    refine fin Ms (fun k' i' g1 g2 => ⟨hMi k' i' g1, by rw [hMs]⟩) (by rw [hMs]) (by rw [hMs]) (fun q hq => ?_)
    rw [if_neg (by omega), hMs]
  · have hlt : j < n' - 1 := by
      rcases Nat.lt_or_ge j (n' - 1) with q | q
      · exact q
      · refine absurd ?_ hle
        show Ms.1 k i 2 - 1 ≤ nI j
        rw [hM2, hsub]
        exact nI_le q (by omega)
    have e1 : (nI j + 1).toNatClampNeg = j + 1 := by rw [nI_1]; exact nI_clamp (by omega)
    have e2 : (nI j).toNatClampNeg = j := nI_clamp (by omega)
    have e3 : nI (n' - 1) - nI j = nI (n' - 1 - j) := pk_sub (by omega)
    have e4 : (nI (n' - 1 - j)).toNatClampNeg = n' - 1 - j := nI_clamp (by omega)
    have hlen : Ms.2.2.1 40 a = c + 1 := by rw [hMs]; exact b3
    rw [e3]
    refine ⟨⟨rfl, rfl, by show Ms.2.2.1 40 a ≠ 0; rw [hlen]; omega, by show Ms.2.2.1 40 a ≠ 0; rw [hlen]; omega, by rw [nI_1]; exact nI_pos (by omega), nI_pos (by omega), nI_pos (by omega), ?_, ?_, ?_⟩, fun M3 eM3 => ?_⟩
    · rw [e1, e4]; show _ ≤ Ms.2.2.1 40 a - 1; rw [hlen]; omega
    · rw [e2, e4]; show _ ≤ Ms.2.2.1 40 a - 1; rw [hlen]; omega
    · intro q hq
      rw [e4] at hq
      right
      show ekk (Ms.2.1 40 a (_ + q)).1 = true
      rw [e1, hMs, b5 _ (by omega)]
      exact a6 _ (by omega)
    · rw [e1, e2, e4] at eM3
      refine fin M3 (fun k' i' g1 g2 => ?_) (by rw [eM3]; show Ms.2.2 = _; rw [hMs]) ?_ (fun q hq => ?_)
      · refine ⟨by rw [eM3]; exact hMi k' i' g1, ?_⟩
        rw [eM3]
        funext f
        show (if _ then _ else _) = _
        rw [if_neg g2, hMs]
      · rw [eM3]
        funext f
        show (if _ then _ else _) = _
        rw [if_neg (fun e => hk40 e.1), hMs]
      · rw [eM3]
        show (if _ then (if _ then _ else _) else _) = _
        rw [if_pos ⟨rfl, rfl⟩]
        by_cases e : j ≤ q
        · rw [if_pos ⟨e, by omega⟩, if_pos e, hMs, show j + 1 + (q - j) = q + 1 by omega]
        · rw [if_neg (fun z => e z.1), if_neg e, hMs]
theorem L_rem {M N : Mem} {k i : Nat} {x : Int32} {Q : Nat × Nat → Mem → Prop} (A : AbsL M N) (hk : lk k) (hl : M.2.2.1 k i ≠ 0) (hx : ¬ x < 0 ∧ x < N.1 k i 0) (h : ∀ M', AbsL M' (lRem N (k, i) x.toNatClampNeg) → Q (N.2.1 k i x.toNatClampNeg) M') : v_J2_remove_2 (k, i) x M Q := by
  obtain ⟨own, cred, b, A⟩ := A
  obtain ⟨n, c, a1, a2, a3, a4, a5, a6, a7⟩ := A.2.2.1 k i hk hl
  have hkt := lk_kt hk
  obtain ⟨q, hq, rfl⟩ := nI_of hx.1
  have hqn : q < n := by
    have h2 := hx.2
    rw [a2] at h2
    exact (nI_ltI hq (by omega)).mp h2
  have hcl : (nI q).toNatClampNeg = q := nI_clamp hq
  rw [hcl] at h
  rcases a7 with ⟨b1, b2⟩ | ⟨b1, j, b2, b3, b4, b5⟩
  · omega
  · refine ⟨hkt, ⟨fun hz => absurd hz hx.1, fun _ => ⟨fun _ => ⟨hkt, fun e1 ee1 => ?_⟩, fun hz => absurd (by show nI q < M.1 k i 2; rw [a1]; exact nI_lt hqn (by omega)) hz⟩⟩⟩
    have he1 : e1 = (40, j) := ee1.trans b2
    refine ⟨by rw [he1]; exact ⟨Or.inl rfl, by show M.2.2.1 40 j ≠ 0; rw [b3]; omega, by show vp_in (nI q) (M.2.2.1 40 j - 1); rw [b3]; exact vp_in_nI (by omega) (by omega)⟩, fun e2 ee2 => ⟨hkt, ?_⟩⟩
    have he2 : e2 = N.2.1 k i q := by
      rw [ee2, he1, hcl]
      exact b5 q hqn
    rw [he2, ee1]
    exact L_fr A hk hl a2 (by omega) hqn h
theorem L_remO {M N : Mem} {k i j : Nat} {v : Nat × Nat} {Q : Int32 → Mem → Prop} (A : AbsL M N) (hk : lk k) (hl : M.2.2.1 k i ≠ 0) (h1 : ∀ q, q < j → ¬ N.2.1 k i q = v) (h2 : N.2.1 k i j = v) (h3 : j < (N.1 k i 0).toNatClampNeg) (h4 : kt v.1 = 16) (h : ∀ M', AbsL M' (lRem N (k, i) j) → Q 1 M') : v_J2_remove (k, i) v M Q := by
  obtain ⟨own, cred, b, A⟩ := A
  obtain ⟨n, c, a1, a2, a3, a4, a5, a6, a7⟩ := A.2.2.1 k i hk hl
  have hkt := lk_kt hk
  have hjn : j < n := by
    rw [a2, nI_clamp (by omega)] at h3
    exact h3
  have hvz : ¬ v = (0, 0) := fun e => kt_nz (r := (RX16, TX16, 17)) rfl h4 (by rw [e])
  rcases a7 with ⟨b1, b2⟩ | ⟨b1, a, b2, b3, b4, b5⟩
  · omega
  refine ⟨hkt, fun e1 ee1 => ⟨hkt, fun x2 ex2 => ⟨fun _ => ?_, fun hz => absurd hz hvz⟩⟩⟩
  have he1 : e1 = (40, a) := ee1.trans b2
  have hx2 : x2 = nI n := ex2.trans a1
  rw [hx2]
  have loop : ∀ f m, m + f = j → v_J2_remove_39 (f + 1) (k, i) v e1 (nI n) (nI m) M Q := by
    intro f
    induction f with
    | zero =>
      intro m hm
      have hm' : m = j := by omega
      subst hm'
      have hcl : (nI m).toNatClampNeg = m := nI_clamp (by omega)
      refine ⟨fun hz => absurd hz (nI_ge hjn (by omega)), fun _ => ⟨by rw [he1]; exact ⟨Or.inl rfl, by show M.2.2.1 40 a ≠ 0; rw [b3]; omega, by show vp_in _ (M.2.2.1 40 a - 1); rw [b3]; exact vp_in_nI (by omega) (by omega)⟩, fun e2 ee2 => ⟨h4, fun _ => ⟨hkt, ?_⟩, fun hne => ?_⟩⟩⟩
      · rw [ee1]
        exact L_fr A hk hl a2 (by omega) hjn h
      · refine absurd ?_ hne
        rw [ee2, he1, hcl]
        show v = M.2.1 40 a m
        rw [b5 m hjn, h2]
    | succ f ih =>
      intro m hm
      have hcl : (nI m).toNatClampNeg = m := nI_clamp (by omega)
      have hmn : m < n := by omega
      refine ⟨fun hz => absurd hz (nI_ge hmn (by omega)), fun _ => ⟨by rw [he1]; exact ⟨Or.inl rfl, by show M.2.2.1 40 a ≠ 0; rw [b3]; omega, by show vp_in _ (M.2.2.1 40 a - 1); rw [b3]; exact vp_in_nI (by omega) (by omega)⟩, fun e2 ee2 => ⟨h4, fun heq => ?_, fun hne x6 ex6 => ?_⟩⟩⟩
      · refine absurd ?_ (h1 m (by omega))
        rw [heq, ee2, he1, hcl]
        show _ = M.2.1 40 a m
        rw [b5 m hmn]
      · rw [nI_1] at ex6
        subst ex6
        exact ih (m + 1) (by omega)
  exact ⟨j + 1, loop j 0 (by omega)⟩
theorem L_clr {M N : Mem} {k i : Nat} {Q : Mem → Prop} (A : AbsL M N) (hk : lk k) (hl : M.2.2.1 k i ≠ 0) (h : ∀ M', AbsL M' (sI N k i 0 0) → Q M') : v_J2_clear (k, i) M Q := by
  obtain ⟨own, cred, b, A⟩ := A
  obtain ⟨n, c, a1, a2, a3, a4, a5, a6, a7⟩ := A.2.2.1 k i hk hl
  have hkt := lk_kt hk
  have hk40 := lk40 hk
  refine ⟨hkt, hkt, fun Ms es => ⟨hkt, fun e1 ee1 => ⟨hkt, fun x3 ex3 => ⟨hkt, fun M4 e4 => ?_⟩⟩⟩⟩
  have hx3 : x3 = nI n := by
    rw [ex3, es]
    show (if _ then _ else _) = _
    rw [if_neg (by omega)]; exact a1
  have hM4 : M4.2 = M.2 := by rw [e4, es]; rfl
  have hMi : ∀ k' i', ¬ (k' = k ∧ i' = i) → M4.1 k' i' = M.1 k' i' := by
    intro k' i' hne
    rw [e4, es]
    funext f
    show (if _ then _ else if _ then _ else _) = _
    rw [if_neg (fun e => hne ⟨e.1, e.2.1⟩), if_neg (fun e => hne ⟨e.1, e.2.1⟩)]
  have hM42 : M4.1 k i 2 = nI 0 := by
    rw [e4]
    show (if _ then _ else _) = _
    rw [if_pos ⟨rfl, rfl, rfl⟩]; rfl
  have he1 : e1 = M.2.1 k i 1 := by rw [ee1, es]; rfl
  clear e4 es ee1 ex3
  rw [hx3]
  rcases a7 with ⟨b1, b2⟩ | ⟨b1, a, b2, b3, b4, b5⟩
  · have hn0 : n = 0 := by omega
    subst hn0
    refine ⟨1, fun _ => h M4 ?_, fun hz => absurd (by decide) hz⟩
    refine ⟨own, cred, b, fun k' g1 g2 => ?_, ?_, fun k' i' g1 g2 => ?_, by rw [hM4]; exact A.2.2.2.1, fun k' i' g => by rw [hM4]; exact A.2.2.2.2.1 k' i' g, by rw [hM4]; exact A.2.2.2.2.2.1, by rw [hM4]; exact A.2.2.2.2.2.2⟩
    · have hne : k' ≠ k := fun e => g2 (e ▸ hk)
      obtain ⟨c1, c2, c3⟩ := A.1 k' g1 g2
      refine ⟨?_, by rw [hM4]; exact c2, by rw [hM4]; exact c3⟩
      funext i' f
      show (if _ then _ else _) = _
      rw [if_neg (fun e => hne e.1), c1, hMi k' i' (fun e => hne e.1)]
    · intro k' g1; rw [hM4]; exact A.2.1 k' g1
    · rw [hM4] at g2
      by_cases he : k' = k ∧ i' = i
      · obtain ⟨rfl, rfl⟩ := he
        refine ⟨0, c, hM42, ?_, by omega, a4, by omega, fun q hq => absurd hq (by omega), Or.inl ⟨b1, by rw [hM4]; exact b2⟩⟩
        show (if _ then _ else _) = _
        rw [if_pos ⟨rfl, rfl, rfl⟩]; rfl
      · refine (A.2.2.1 k' i' g1 g2).kept (hMi k' i' he) (by rw [hM4]) ?_ rfl (fun j _ => ⟨by rw [hM4], by rw [hM4]⟩)
        funext f
        exact if_neg (fun e => he ⟨e.1, e.2.1⟩)
  · have he1' : e1 = (40, a) := he1.trans b2
    rw [he1']
    -- the array's places are struck out one by one
    have loop : ∀ f m (Mc : Mem), m + f = n → (∀ k' i', ¬ (k' = 40 ∧ i' = a) → Mc.1 k' i' = M4.1 k' i' ∧ Mc.2.1 k' i' = M4.2.1 k' i') → Mc.2.2 = M4.2.2 → v_J2_clear_27 (f + 1) (40, a) (nI n) (nI m) Mc Q := by
      intro f
      induction f with
      | zero =>
        intro m Mc hm g1 g2
        refine ⟨fun _ => h Mc ?_, fun hz => absurd (nI_le (by omega) (by omega)) hz⟩
        have m0 := g1 k i (fun e => hk40 e.1)
        refine A.upd (j := a) (n' := 0) (c' := c) (cr' := cred k i) hk hl ?_ (Or.inl b4) ?_ ?_ rfl ?_ ?_ (by omega) a4 (by omega) (fun q hq => absurd hq (by omega)) b1 ?_ ?_ (fun q hq => absurd hq (by omega)) ?_ ?_
        · intro k' i' q1 q2
          have m1 := g1 k' i' q2
          exact ⟨m1.1.trans (hMi k' i' q1), by rw [m1.2, hM4]⟩
        · intro k' i' q2; rw [g2, hM4]
        · intro k' i' q1
          refine ⟨?_, rfl⟩
          funext f
          exact if_neg (fun e => q1 ⟨e.1, e.2.1⟩)
        · rw [m0.1]; exact hM42
        · show (if _ then _ else _) = _
          rw [if_pos ⟨rfl, rfl, rfl⟩]; rfl
        · rw [m0.2, hM4]; exact b2
        · rw [g2, hM4]; exact b3
        · rw [g2, hM4]; show _ + N.2.2.2.1 ≤ N.2.2.2.1 + _; omega
        · rw [g2, hM4]; show _ + _ + N.2.2.2.2 ≤ _ + _ + N.2.2.2.2; omega
      | succ f ih =>
        intro m Mc hm g1 g2
        have hcl : (nI m).toNatClampNeg = m := nI_clamp (by omega)
        refine ⟨fun hz => absurd hz (nI_ge (by omega) (by omega)), fun _ => ⟨⟨rfl, rfl, by show Mc.2.2.1 40 a ≠ 0; rw [g2, hM4, b3]; omega, by show vp_in _ (Mc.2.2.1 40 a - 1); rw [g2, hM4, b3]; exact vp_in_nI (by omega) (by omega), Or.inl rfl⟩, fun M1 eM1 x2 ex2 => ?_⟩⟩
        rw [nI_1] at ex2
        subst ex2
        refine ih (m + 1) M1 (by omega) (fun k' i' q => ?_) (by rw [eM1]; exact g2)
        refine ⟨by rw [eM1]; exact (g1 k' i' q).1, ?_⟩
        rw [eM1]
        funext f'
        show (if _ then _ else _) = _
        rw [if_neg (fun e => q ⟨e.1, e.2.1⟩)]
        exact congrFun (g1 k' i' q).2 f'
    exact ⟨n + 1, loop n 0 M4 (by omega) (fun _ _ _ => ⟨rfl, rfl⟩) rfl⟩
/-- a new list -/
theorem AbsL.newL {M N : Mem} (A : AbsL M N) {k i : Nat} (hk : lk k) (hf : M.2.2.1 k i = 0) {M' : Mem} (h1 : ∀ k' i', ¬ (k' = k ∧ i' = i) → M'.1 k' i' = M.1 k' i' ∧ M'.2.1 k' i' = M.2.1 k' i') (h2 : M'.2.2 = (sN M k i 0 3).2.2) (h3 : M'.1 k i 2 = 0) (h4 : M'.2.1 k i 1 = (41, 0)) : AbsL M' (sN N k i 0 3) := by
  obtain ⟨own, cred, b, A⟩ := A
  have hk40 := lk40 hk
  have hE : ∀ k' i', ¬ (k' = k ∧ i' = i) → M'.2.2.1 k' i' = M.2.2.1 k' i' := by
    intro k' i' h
    rw [h2]
    exact if_neg h
  refine ⟨own, cred, max b (i + 1), fun k' g1 g2 => ?_, fun k' g1 => ?_, fun k' i' g1 g2 => ?_, ?_, fun k' i' g => ?_, ?_, ?_⟩
  · have hne : k' ≠ k := fun e => g2 (e ▸ hk)
    obtain ⟨a1, a2, a3⟩ := A.1 k' g1 g2
    refine ⟨?_, ?_, ?_⟩
    · funext i'
      rw [(h1 k' i' (fun e => hne e.1)).1, ← a1]
      funext f
      exact if_neg (fun e => hne e.1)
    · funext i'
      rw [(h1 k' i' (fun e => hne e.1)).2, ← a2]
      funext f
      exact if_neg (fun e => hne e.1)
    · funext i'
      rw [hE k' i' (fun e => hne e.1), ← a3]
      exact if_neg (fun e => hne e.1)
  · funext i'
    show (if _ then _ else _) = _
    by_cases he : k' = k ∧ i' = i
    · rw [if_pos he, h2]
      exact (if_pos he).symm
    · rw [if_neg he, hE k' i' he, A.2.1 k' g1]
  · by_cases he : k' = k ∧ i' = i
    · obtain ⟨rfl, rfl⟩ := he
      refine ⟨0, 0, h3, if_pos ⟨rfl, rfl⟩, by omega, by omega, by omega, fun q hq => absurd hq (by omega), Or.inl ⟨rfl, h4⟩⟩
    · rw [hE k' i' he] at g2
      refine (A.2.2.1 k' i' g1 g2).kept (h1 k' i' he).1 (h1 k' i' he).2 ?_ ?_ (fun j _ => ⟨hE 40 j (fun e => hk40 e.1.symm), (h1 40 j (fun e => hk40 e.1.symm)).2⟩)
      · funext f; exact if_neg he
      · funext f; exact if_neg he
  · rw [hE 41 0 (fun e => by unfold lk at hk; omega)]; exact A.2.2.2.1
  · have h5 := A.2.2.2.2.1 k' i' (by omega)
    refine ⟨?_, h5.2⟩
    rw [hE k' i' (by omega)]; exact h5.1
  · have := A.2.2.2.2.2.1
    rw [h2]
    show _ + 1 ≤ _ + 1
    omega
  · have h5 := A.2.2.2.2.2.2
    rw [sumTo_ext (n := b) (by omega) (fun j hj => by rw [(A.2.2.2.2.1 30 j hj).2, (A.2.2.2.2.1 31 j hj).2, (A.2.2.2.2.1 32 j hj).2, (A.2.2.2.2.1 33 j hj).2]), h2]
    show _ + (_ + 3) ≤ _ + 3
    omega
section ListRows
variable {d : Nat} {mt : zMt} {pc : Nat} {lv : List (Nat × AV)} {st : List AV} {M : Mem} {Q : Option AV → Mem → Prop}
theorem lk_nz {k : Nat} (h : lk k) : k ≠ 0 := by unfold lk at h; omega
theorem b_lsize {e : Nat × Nat} {index : Nat} (h : lk e.1) (hlink : zml mt.1.cls index yJ2_size) (hst : st.length ≤ 8) (hd : decode mt.2.1 pc = .ok (.invokevirtual index, 3)) (kk : wq (d + 1) mt (pc + 3) lv (.inl (M.1 e.1 e.2 0) :: st) M Q) : wq (d + 1) mt pc lv (.inr e :: st) M Q := by
  intro M0 A
  refine a_live (e := e) List.mem_cons_self (lk_nz h) fun hl => ?_
  have A' := A
  obtain ⟨own, cred, b, A'⟩ := A'
  obtain ⟨n, c, a1, a2, -⟩ := A'.2.2.1 e.1 e.2 h hl
  have h2 := kk M0 A
  rw [a2, ← a1] at h2
  exact a_cvo (y := mJ2_size) (ci := 25) (r := (RJ2, TJ2, 3)) (e := e) (as := []) (st := st) (n := 0) rfl (lk_kt h) hlink q203 q202 q72 q204 zmh_J2_size rfl (by decide) hst hd (sv_J2_size (Q := fun r M' => r = M0.1 e.1 e.2 2 ∧ M' = M0) (fun r M' hq => by rw [hq.1, hq.2]; exact h2) ⟨lk_kt h, rfl, rfl⟩)
theorem b_lget {e : Nat × Nat} {index : Nat} {x : Int32} (h : lk e.1) (hx : ¬ x < 0 ∧ x < M.1 e.1 e.2 0) (hlink : zml mt.1.cls index yJ2_get) (hst : st.length ≤ 8) (hd : decode mt.2.1 pc = .ok (.invokevirtual index, 3)) (kk : wq (d + 3) mt (pc + 3) lv (.inr (M.2.1 e.1 e.2 x.toNatClampNeg) :: st) M Q) : wq (d + 3) mt pc lv (.inl x :: .inr e :: st) M Q := by
  intro M0 A
  refine a_live (e := e) (List.mem_cons_of_mem _ List.mem_cons_self) (lk_nz h) fun hl => ?_
  exact a_cvo (y := mJ2_get) (ci := 25) (r := (RJ2, TJ2, 3)) (e := e) (as := [.inl x]) (st := st) (n := 1) rfl (lk_kt h) hlink q626 q625 q72 q627 zmh_J2_get rfl (by decide) hst hd (sv_J2_get (Q := fun r M' => r = M.2.1 e.1 e.2 x.toNatClampNeg ∧ M' = M0) (fun r M' hq => by rw [hq.1, hq.2]; exact kk M0 A) (L_get (k := e.1) (i := e.2) A h hl hx ⟨rfl, rfl⟩))
theorem b_ladd {e v : Nat × Nat} {index : Nat} (h : lk e.1) (hv : ekk v.1 = true) (hs : M.1 e.1 e.2 0 < 10000) (hr : rom M 10) (hlink : zml mt.1.cls index yJ2_add) (hst : st.length ≤ 8) (hd : decode mt.2.1 pc = .ok (.invokevirtual index, 3)) (kk : wq (d + 8) mt (pc + 3) lv (.inl 1 :: st) (lAdd M e v) Q) : wq (d + 8) mt pc lv (.inr v :: .inr e :: st) M Q := by
  intro M0 A
  refine a_live (e := e) (List.mem_cons_of_mem _ List.mem_cons_self) (lk_nz h) fun hl => ?_
  exact a_cvo (y := mJ2_add) (ci := 25) (r := (RJ2, TJ2, 3)) (e := e) (as := [.inr v]) (st := st) (n := 1) rfl (lk_kt h) hlink q228 q227 q72 q229 zmh_J2_add rfl (by decide) hst hd (sv_J2_add (Q := fun r M' => r = 1 ∧ AbsL M' (lAdd M e v)) (fun r M' hq => by rw [hq.1]; exact kk M' hq.2) (L_add (k := e.1) (i := e.2) A h hl hv hs hr (fun M' hM => ⟨rfl, hM⟩)))
theorem b_lclr {e : Nat × Nat} {index : Nat} (h : lk e.1) (hlink : zml mt.1.cls index yJ2_clear) (hst : st.length ≤ 8) (hd : decode mt.2.1 pc = .ok (.invokevirtual index, 3)) (kk : wq (d + 1) mt (pc + 3) lv st (sI M e.1 e.2 0 0) Q) : wq (d + 1) mt pc lv (.inr e :: st) M Q := by
  intro M0 A
  refine a_live (e := e) List.mem_cons_self (lk_nz h) fun hl => ?_
  exact a_cvo (y := mJ2_clear) (ci := 25) (r := (RJ2, TJ2, 3)) (e := e) (as := []) (st := st) (n := 0) rfl (lk_kt h) hlink q646 q645 q72 q647 zmh_J2_clear rfl (by decide) hst hd (sv_J2_clear (Q := fun M' => AbsL M' (sI M e.1 e.2 0 0)) (fun M' hq => kk M' hq) (L_clr (k := e.1) (i := e.2) A h hl (fun M' hM => hM)))
theorem b_lrem {e : Nat × Nat} {index : Nat} {x : Int32} (h : lk e.1) (hx : ¬ x < 0 ∧ x < M.1 e.1 e.2 0) (hlink : zml mt.1.cls index yJ2_remove_2) (hst : st.length ≤ 8) (hd : decode mt.2.1 pc = .ok (.invokevirtual index, 3)) (kk : wq (d + 3) mt (pc + 3) lv (.inr (M.2.1 e.1 e.2 x.toNatClampNeg) :: st) (lRem M e x.toNatClampNeg) Q) : wq (d + 3) mt pc lv (.inl x :: .inr e :: st) M Q := by
  intro M0 A
  refine a_live (e := e) (List.mem_cons_of_mem _ List.mem_cons_self) (lk_nz h) fun hl => ?_
  exact a_cvo (y := mJ2_remove_2) (ci := 25) (r := (RJ2, TJ2, 3)) (e := e) (as := [.inl x]) (st := st) (n := 1) rfl (lk_kt h) hlink q1231 q1230 q72 q1232 zmh_J2_remove_2 rfl (by decide) hst hd (sv_J2_remove_2 (Q := fun r M' => r = M.2.1 e.1 e.2 x.toNatClampNeg ∧ AbsL M' (lRem M e x.toNatClampNeg)) (fun r M' hq => by rw [hq.1]; exact kk M' hq.2) (L_rem (k := e.1) (i := e.2) A h hl hx (fun M' hM => ⟨rfl, hM⟩)))
theorem b_lremO {e v : Nat × Nat} {index j : Nat} (h : lk e.1) (h1 : ∀ q, q < j → ¬ M.2.1 e.1 e.2 q = v) (h2 : M.2.1 e.1 e.2 j = v) (h3 : j < (M.1 e.1 e.2 0).toNatClampNeg) (h4 : kt v.1 = 16) (hlink : zml mt.1.cls index yJ2_remove) (hst : st.length ≤ 8) (hd : decode mt.2.1 pc = .ok (.invokevirtual index, 3)) (kk : wq (d + 3) mt (pc + 3) lv (.inl 1 :: st) (lRem M e j) Q) : wq (d + 3) mt pc lv (.inr v :: .inr e :: st) M Q := by
  intro M0 A
  refine a_live (e := e) (List.mem_cons_of_mem _ List.mem_cons_self) (lk_nz h) fun hl => ?_
  exact a_cvo (y := mJ2_remove) (ci := 25) (r := (RJ2, TJ2, 3)) (e := e) (as := [.inr v]) (st := st) (n := 1) rfl (lk_kt h) hlink q980 q979 q72 q981 zmh_J2_remove rfl (by decide) hst hd (sv_J2_remove (Q := fun r M' => r = 1 ∧ AbsL M' (lRem M e j)) (fun r M' hq => by rw [hq.1]; exact kk M' hq.2) (L_remO (k := e.1) (i := e.2) A h hl h1 h2 h3 h4 (fun M' hM => ⟨rfl, hM⟩)))
theorem b_nwl {k i index index2 : Nat} (hk : k ≠ 0) (hk2 : 30 ≤ k ∧ k ≤ 33) (hr : rom M 3) (hf : M.2.2.1 k i = 0) (w1 : Cond.classLink mt.1.cls index RJ2 ∈ lw_all) (hlink : zml mt.1.cls index2 yJ2_init) (hd : decode mt.2.1 pc = .ok (.new index, 3)) (hd2 : decode mt.2.1 (pc + 3) = .ok (.dup, 1)) (hd3 : decode mt.2.1 (pc + 3 + 1) = .ok (.invokespecial index2, 3)) (hst : st.length ≤ 7) (kk : wq (d + 4) mt (pc + 3 + 1 + 3) lv (.inr (k, i) :: st) (sN M k i 0 3) Q) : wq (d + 4) mt pc lv st M Q := by
  intro M0 A
  have hl : lk k := hk2
  have hf' : M0.2.2.1 k i = 0 := by rw [← A.ex (lk40 hl)]; exact hf
  refine a_nwo (k := k) (i := i) (r := (RJ2, TJ2, 3)) hk (by rw [lk_kt hl]; rfl) (A.room hr) hf' w1 q112 q72 hd ?_
  refine a_dup hd2 ?_
  refine a_ci (y := mJ2_init) (k := k) (i := i) (as := []) (st := .inr (k, i) :: st) (n := 0) hk rfl rfl hlink q114 q72 q115 zmh_J2_init rfl (by decide) (by simp; omega) hd3 (sv_J2_init (Q := fun M' => AbsL M' (sN M k i 0 3)) (fun M' hq => kk M' hq) ?_)
  refine ⟨hk, hk, hk, lk_kt hl, fun M3 e3 => ⟨lk_kt hl, fun M4 e4 => ?_⟩⟩
  refine A.newL hl hf' (fun k' i' h => ?_) ?_ ?_ ?_
  · rw [e4, e3]
    refine ⟨?_, ?_⟩
    · funext f
      show (if _ then _ else if _ then _ else _) = _
      rw [if_neg (fun e => h ⟨e.1, e.2.1⟩), if_neg h]
    · funext f
      show (if _ then _ else if _ then _ else _) = _
      rw [if_neg (fun e => h ⟨e.1, e.2.1⟩), if_neg h]
  · rw [e4, e3]; rfl
  · rw [e4, e3]
    show (if _ then _ else if _ then _ else _) = _
    rw [if_neg (by omega), if_pos ⟨rfl, rfl⟩]
  · rw [e4]
    show (if _ then _ else _) = _
    rw [if_pos ⟨rfl, rfl, rfl⟩]
theorem b_nwlD {k index index2 : Nat} (hk : k ≠ 0) (hk2 : 30 ≤ k ∧ k ≤ 33) (hr : rom M 3) (w1 : Cond.classLink mt.1.cls index RJ2 ∈ lw_all) (hlink : zml mt.1.cls index2 yJ2_init) (hd : decode mt.2.1 pc = .ok (.new index, 3)) (hd2 : decode mt.2.1 (pc + 3) = .ok (.dup, 1)) (hd3 : decode mt.2.1 (pc + 3 + 1) = .ok (.invokespecial index2, 3)) (hst : st.length ≤ 7) (kk : ∀ i, M.2.2.1 k i = 0 → wq (d + 4) mt (pc + 3 + 1 + 3) lv (.inr (k, i) :: st) (sN M k i 0 3) Q) : wq (d + 4) mt pc lv st M Q := by
  intro M0 A
  obtain ⟨i, hi⟩ := A.fresh k
  have hf : M.2.2.1 k i = 0 := by rw [A.ex (lk40 hk2)]; exact hi
  exact b_nwl hk hk2 hr hf w1 hlink hd hd2 hd3 hst (kk i hf) M0 A
end ListRows
