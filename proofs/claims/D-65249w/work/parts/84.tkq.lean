set_option maxRecDepth 100000
/-! a bulkhead's call that waited was taken back -/
def tsh (t : DB) (g j i : Nat) : DB := fun f a => if f = 43 ∧ 10 * g + j ≤ a ∧ a < 10 * g + i then t 43 (a + 1) else t f a
theorem tsh_0 {t : DB} {g j : Nat} : tsh t g j j = t := by
  funext f a
  exact if_neg (by omega)
theorem tsh_s {t : DB} {g j i : Nat} (hji : j ≤ i) : up (tsh t g j i) 43 (10 * g + i) (tsh t g j i 43 (10 * g + i + 1)) = tsh t g j (i + 1) := by
  funext f a
  have e : tsh t g j i 43 (10 * g + i + 1) = t 43 (10 * g + i + 1) := if_neg (by omega)
  rw [e]
  show (if _ then _ else if _ then _ else _) = if _ then _ else _
  by_cases y : f = 43 ∧ a = 10 * g + i
  · rw [if_pos y, if_pos (by omega), y.2]
  · rw [if_neg y]
    by_cases w : f = 43 ∧ 10 * g + j ≤ a ∧ a < 10 * g + i
    · rw [if_pos w, if_pos (by omega)]
    · rw [if_neg w, if_neg (by omega)]
theorem w_tk131 {t : DB} {k g j w : Nat} {Q : DB → Prop} (hg : g < 24) (hw : t 40 g = nI w) (hw10 : w ≤ 10) (hQ : w_takenBack_190 (nI k) (up (tsh t g j (w - 1)) 40 g (nI (w - 1))) Q) : ∀ (r i : Nat), i + r + 1 = w → j ≤ i → w_takenBack_131 (r + 1) (nI k) (nI g) (nI i) (tsh t g j i) Q := by
  have vg : vp_in (nI g) 24 := vp_in_nI hg (by decide)
  have cg : (nI g).toNatClampNeg = g := nI_clamp (by omega)
  have e40 : ∀ i, tsh t g j i 40 g = nI w := fun i => (if_neg (by omega)).trans hw
  intro r
  induction r with
  | zero =>
    intro i hi hji
    refine ⟨vg, fun _ => ⟨vg, vg, fun t1 e1 => ?_⟩, fun y => absurd ?_ y⟩
    · rw [cg, e40, show nI w - 1 = nI (w - 1) from by rw [show w = (w - 1) + 1 from by omega, nI_pred]; rfl, show i = w - 1 from by omega] at e1
      subst e1
      exact hQ
    · rw [cg, e40, nI_1]; exact nI_le (by omega) (by omega)
  | succ r ih =>
    intro i hi hji
    have e1 : 10 * nI g + nI i = nI (10 * g + i) := by rw [show (10 : Int32) = nI 10 from rfl, pk_mul, nI_add]
    refine ⟨vg, fun y => absurd y ?_, fun _ => ?_⟩
    · rw [cg, e40, nI_1]; exact nI_ge (by omega) (by omega)
    · rw [e1, nI_1, nI_clamp (by omega), nI_clamp (by omega)]
      refine ⟨vp_in_nI (by omega) (by decide), vp_in_nI (by omega) (by decide), fun t2 e2 x ex => ?_⟩
      rw [tsh_s hji] at e2
      rw [ex, e2, nI_1]
      exact ih (i + 1) (by omega) (by omega)
theorem w_tk104 {t : DB} {k g j : Nat} {Q : DB → Prop} (hg : g < 24) (hj : j < 10) (h43 : t 43 (10 * g + j) = nI k) (hu : ∀ i, i < j → t 43 (10 * g + i) ≠ nI k) (hQ : ∃ n, w_takenBack_131 n (nI k) (nI g) (nI j) t Q) : ∀ (r i : Nat), i + r = j → w_takenBack_104 (r + 1) (nI k) (nI g) (nI i) t Q := by
  intro r
  induction r with
  | zero =>
    intro i hi
    have : i = j := by omega
    subst this
    have e1 : 10 * nI g + nI i = nI (10 * g + i) := by rw [show (10 : Int32) = nI 10 from rfl, pk_mul, nI_add]
    unfold w_takenBack_104
    rw [e1, nI_clamp (by omega)]
    exact ⟨vp_in_nI (by omega) (by decide), fun _ => hQ, fun y => absurd h43 y⟩
  | succ r ih =>
    intro i hi
    have e1 : 10 * nI g + nI i = nI (10 * g + i) := by rw [show (10 : Int32) = nI 10 from rfl, pk_mul, nI_add]
    unfold w_takenBack_104
    rw [e1, nI_clamp (by omega)]
    exact ⟨vp_in_nI (by omega) (by decide), fun y => absurd y (hu i (by omega)), fun _ x ex => by rw [ex, nI_1]; exact ih (i + 1) (by omega)⟩
theorem tk_q {n : Nat} {X : Mem} {m z : Nat} {P : List Nat} {N : Mem} {t : DB} {i k g : Nat} (h : SS X m z (k :: P) 100000 N t) (hkP : k ∉ P) (hk : k < cn t 61) (hi : i < 4400) (h81 : t 81 i = nI k) (h65 : t 65 k = nI g) (hg : g < cn t 30) (hs : t 31 g = 1) (hw : t 75 k = 1) :
    ∃ t', (∀ K : DB → Prop, K t' → w_takenBack_18 (nI i) t K) ∧ TF t t' [40, 43, 75] ∧ cq (n + 11) mX6_takenBack [.inr (11, g), .inr (21, k)] N (fun r N' => r = none ∧ SS X m z P 100000 N' t') := by
  have hn := h.1.nC
  have h24 : cn t 30 ≤ 24 := h.iB.2.2.2.1.2
  have vi : vp_in (nI i) 4400 := vp_in_nI hi (by decide)
  have ci : (nI i).toNatClampNeg = i := nI_clamp (by omega)
  have vk : vp_in (nI k) 4400 := vp_in_nI (by omega) (by decide)
  have ck : (nI k).toNatClampNeg = k := nI_clamp (by omega)
  obtain ⟨zz, -⟩ := h.iZ k hk
  obtain ⟨z0, z1, z4, z8, -⟩ := zz g hg h65
  have h79 := z0 (by rw [hs]; decide)
  obtain ⟨h78, h74⟩ := z8 (by rw [hs]; decide)
  obtain ⟨Q1, Q2⟩ := h.Q k hk (Or.inr (List.mem_cons_self ..))
  obtain ⟨h77, j, hj, h43⟩ : t 77 k = 0 ∧ ∃ j, j < (t 40 g).toNatClampNeg ∧ t 43 (10 * g + j) = nI k := by
    rcases (Q2 g h65 hg).2 hs with ⟨-, q1, q2⟩ | ⟨q, -⟩
    · exact ⟨q1, q2⟩
    · rw [hw] at q; exact absurd q (by decide)
  have hst : N.1 21 k 14 = 1 := by
    rw [Q1]
    unfold stOf
    rw [hw, if_pos rfl]
  have h3 := (h.J k (List.mem_cons_self ..)).2
  obtain ⟨w, hw10, ew⟩ : ∃ v, v ≤ 10 ∧ t 40 g = nI v := by
    obtain ⟨s', a1, a2, a3, -, a5, -⟩ := h.iG g hg
    obtain ⟨b, v, b1, b2, b3, b4⟩ := a5 ((nI_eq (by omega) (by omega)).mp (a2.symm.trans (hs.trans (show (1 : Int32) = nI 1 from rfl))))
    exact ⟨v, Nat.le_trans b3 b1, b4⟩
  rw [ew, nI_clamp (by omega)] at hj
  have hu : ∀ a, a < j → t 43 (10 * g + a) ≠ nI k := by
    obtain ⟨c', d1, d2, -, -, -, -, d7⟩ := h.B g hg hs j (by rw [ew, nI_clamp (by omega)]; exact hj)
    have : c' = k := (nI_eq (by omega) (by omega)).mp (d2.symm.trans h43)
    subst this
    exact d7
  have ht : TF t (up (tsh (up t 75 k 0) g j (w - 1)) 40 g (nI (w - 1))) [40, 43, 75] := fun f hf => by
    funext a
    have hf' : f ≠ 40 ∧ f ≠ 43 ∧ f ≠ 75 := by simp only [List.mem_cons, List.not_mem_nil, or_false, not_or] at hf; exact hf
    rw [up_f hf'.1]
    exact (if_neg (fun q => hf'.2.1 q.1)).trans (up_f hf'.2.2)
  have hS1 : SZ X m z P 100000 (lRem N (32, g) j) (up (tsh (up t 75 k 0) g j (w - 1)) 40 g (nI (w - 1))) := by
    refine h.1.qrem hg hs ew hw10 hj hk h43 h65 (fun a ha hl => ?_) (fun a ha hl hne => ?_) (fun c hc => List.mem_cons_of_mem _ hc) ht (fun a => ?_) (fun a => ?_) (fun g' a ha => ?_)
    · rcases hl with ⟨q1, q2⟩ | q
      · exact ⟨Or.inl ⟨q1, q2⟩, fun e => by rw [e, h3] at q1; exact absurd q1 (by decide)⟩
      · exact ⟨Or.inr (List.mem_cons_of_mem _ q), fun e => hkP (e ▸ q)⟩
    · rcases hl with q | q
      · exact Or.inl q
      · rcases List.mem_cons.mp q with u | u
        · exact absurd u hne
        · exact Or.inr u
    · by_cases e : a = g
      · rw [e, up_s, if_pos rfl]
      · rw [up_n (fun q => e q.2), if_neg e]
        exact (if_neg (by omega)).trans (up_f (by decide))
    · rw [up_f (by decide)]
      have : tsh (up t 75 k 0) g j (w - 1) 75 a = up t 75 k 0 75 a := if_neg (by omega)
      rw [this]
      by_cases e : a = k
      · rw [e, up_s, if_pos rfl]
      · rw [up_n (fun q => e q.2), if_neg e]
    · rw [up_f (by decide)]
      show (if 43 = 43 ∧ 10 * g + j ≤ 10 * g' + a ∧ 10 * g' + a < 10 * g + (w - 1) then up t 75 k 0 43 (10 * g' + a + 1) else up t 75 k 0 43 (10 * g' + a)) = _
      rw [up_f (by decide), up_f (by decide)]
      by_cases e : g' = g ∧ j ≤ a ∧ a + 1 < w
      · rw [if_pos (by omega), if_pos e, e.1]
      · rw [if_neg (by omega), if_neg e]
  refine ⟨_, fun K hK => ?_, ht, ?_⟩
  · unfold w_takenBack_18
    rw [ci]
    refine ⟨vi, fun x1 e1 => ?_⟩
    rw [h81] at e1
    subst e1
    rw [ck]
    refine ⟨vk, fun x2 e2 => ?_⟩
    rw [h65] at e2
    subst e2
    refine ⟨fun _ => ⟨vk, fun _ => ?_, fun y => absurd h79 y⟩, fun y => absurd (nI_pos' (by omega)) y⟩
    unfold w_takenBack_58
    rw [ck]
    refine ⟨vk, fun _ => ?_, fun y => absurd h77 y⟩
    unfold w_takenBack_85
    rw [ck]
    refine ⟨vk, fun y => absurd (hw.symm.trans y) (by decide), fun _ => ⟨vk, fun t1 g1 => ⟨j + 1, ?_⟩⟩⟩
    subst g1
    refine w_tk104 (t := up t 75 k 0) (k := k) (g := g) (j := j) (by omega) (by omega) (by rw [up_f (by decide)]; exact h43) (fun a ha => by rw [up_f (by decide)]; exact hu a ha) ⟨w - 1 - j + 1, ?_⟩ j 0 (by omega)
    have L := w_tk131 (t := up t 75 k 0) (k := k) (g := g) (j := j) (w := w) (Q := K) (by omega) (by rw [up_f (by decide)]; exact ew) hw10 (by
      unfold w_takenBack_190
      rw [ck]
      refine ⟨vk, fun _ => hK, fun y => absurd ?_ y⟩
      rw [ht 78 (by decide)]; exact h78) (w - 1 - j) j (by omega) (Nat.le_refl _)
    rw [tsh_0] at L
    exact L
  · have q7 : N.2.1 11 g 7 = (32, g) := (h.G1 g hg hs).1
    obtain ⟨-, -, -, a4, a5⟩ := h.G1 g hg hs
    rw [ew, nI_clamp (by omega)] at a5
    refine sv_X6_takenBack (Q := fun N' => SS X m z P 100000 N' (up (tsh (up t 75 k 0) g j (w - 1)) 40 g (nI (w - 1)))) (fun N' w => ⟨rfl, w⟩) ⟨rfl, fun y => absurd hst y, fun _ => ⟨rfl, fun e2 ee2 => ?_⟩⟩
    have w2 : e2 = (32, g) := ee2.trans q7
    subst w2
    refine ⟨⟨by show 30 ≤ 32; decide, by show 32 ≤ 33; decide⟩, j, fun a ha y => ?_, ?_, ?_, rfl, fun M3 g3 => ?_⟩
    · have y' : N.2.1 32 g a = (21, k) := y
      obtain ⟨c', d1, d2, -⟩ := h.B g hg hs a (by rw [ew, nI_clamp (by omega)]; omega)
      rw [a5 a (by omega), d2, rn_j (by omega)] at y'
      have : c' = k := congrArg Prod.snd y'
      exact hu a ha (by rw [d2, this])
    · show N.2.1 32 g j = (21, k)
      rw [a5 j hj, h43, rn_j (by omega)]
    · show j < (N.1 32 g 0).toNatClampNeg
      rw [a4, ew, nI_clamp (by omega)]; exact hj
    · subst g3
      exact ⟨hS1, h.2.fr ht (by decide)⟩
