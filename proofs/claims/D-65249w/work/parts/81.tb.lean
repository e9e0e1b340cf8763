set_option maxRecDepth 100000
/-! taking back: who is within a call -/
/-- k lies within c (fuel n) -/
def wF (t : DB) (c : Nat) : Nat → Nat → Bool
  | 0, k => k == c
  | n + 1, k => k == c || (if t 64 k < 0 then false else wF t c n (t 64 k).toNatClampNeg)
abbrev wi (t : DB) (c k : Nat) : Bool := wF t c 4400 k
theorem wF_st {t : DB} {c : Nat} (hC : ∀ k, k < cn t 61 → t 64 k = -1 ∨ ∃ p, p < k ∧ t 64 k = nI p) (hn : cn t 61 ≤ 4020) : ∀ (n k : Nat), k < cn t 61 → k ≤ n → ∀ n', k ≤ n' → wF t c n k = wF t c n' k := by
  intro n
  induction n with
  | zero =>
    intro k hk hkn n' hn'
    have : k = 0 := by omega
    subst this
    cases n' with
    | zero => rfl
    | succ n' =>
      show (0 == c) = ((0 == c) || (if t 64 0 < 0 then false else wF t c n' (t 64 0).toNatClampNeg))
      rcases hC 0 hk with q | ⟨p, q, -⟩
      · rw [q, if_pos (by decide), Bool.or_false]
      · omega
  | succ n ih =>
    intro k hk hkn n' hn'
    have key : ∀ n', k ≤ n' + 1 → wF t c (n' + 1) k = (k == c || (if t 64 k < 0 then false else wF t c n' (t 64 k).toNatClampNeg)) := fun n' _ => rfl
    cases n' with
    | zero =>
      have : k = 0 := by omega
      subst this
      show ((0 == c) || (if t 64 0 < 0 then false else wF t c n (t 64 0).toNatClampNeg)) = (0 == c)
      rcases hC 0 hk with q | ⟨p, q, -⟩
      · rw [q, if_pos (by decide), Bool.or_false]
      · omega
    | succ n' =>
      rw [key n hkn, key n' hn']
      rcases hC k hk with q | ⟨p, q1, q2⟩
      · rw [q, if_pos (by decide), if_pos (by decide)]
      · rw [q2, if_neg (nI_pos (by omega)), if_neg (nI_pos (by omega)), nI_clamp (by omega), ih p (by omega) (by omega) n' (by omega)]
theorem SZ.par {X : Mem} {m z : Nat} {P : List Nat} {x : Nat} {N : Mem} {t : DB} (h : SZ X m z P x N t) : ∀ k, k < cn t 61 → t 64 k = -1 ∨ ∃ p, p < k ∧ t 64 k = nI p := fun k hk => by
  rcases par_c h hk with q | ⟨-, p, q1, q2⟩
  · exact Or.inl q
  · exact Or.inr ⟨p, q2, q1⟩
/-- within, by its parent -/
theorem wi_s {X : Mem} {m z : Nat} {P : List Nat} {x : Nat} {N : Mem} {t : DB} (h : SZ X m z P x N t) {c k : Nat} (hk : k < cn t 61) : wi t c k = (k == c || (if t 64 k < 0 then false else wi t c (t 64 k).toNatClampNeg)) := by
  have hn := h.nC
  show wF t c (4399 + 1) k = _
  show (k == c || (if t 64 k < 0 then false else wF t c 4399 (t 64 k).toNatClampNeg)) = _
  rcases h.par k hk with q | ⟨p, q1, q2⟩
  · rw [q, if_pos (by decide), if_pos (by decide)]
  · rw [q2, if_neg (nI_pos (by omega)), if_neg (nI_pos (by omega)), nI_clamp (by omega), wF_st h.par hn 4399 p (by omega) (by omega) 4400 (by omega)]
/-- one that was taken back and has nothing of its own to undo is told -/
theorem SZ.tkn {X : Mem} {m z : Nat} {P : List Nat} {k : Nat} {N : Mem} {t : DB} (h : SZ X m z (k :: P) 100000 N t) (hk : ∀ g, g < cn t 30 → t 65 k = nI g → t 31 g ≠ 1) : SZ X m z P 100000 N t := by
  refine h.sub (fun j hj hl => ?_) (fun g j i hg hs hj hi e1 e2 e3 e4 hl => ?_) (fun c hc => List.mem_cons_of_mem _ hc)
  · rcases hl with q | q
    · exact Or.inl q
    · exact Or.inr (List.mem_cons_of_mem _ q)
  · rcases hl with q | q
    · exact Or.inl q
    · rcases List.mem_cons.mp q with w | w
      · subst w; exact absurd hs (hk g hg e2)
      · exact Or.inr w
theorem w_tk58 {t : DB} {k : Nat} {x4 : Int32} {Q : DB → Prop} (hk : k < 4400) (h77 : t 77 k = 0) (h75 : t 75 k = 0) (h78 : t 78 k = 0) (hQ : Q t) : w_takenBack_58 (nI k) x4 t Q := by
  have vk : vp_in (nI k) 4400 := vp_in_nI hk (by decide)
  have ck : (nI k).toNatClampNeg = k := nI_clamp (by omega)
  unfold w_takenBack_58 w_takenBack_85 w_takenBack_190
  rw [ck]
  exact ⟨vk, fun _ => ⟨vk, fun _ => ⟨vk, fun _ => hQ, fun y => absurd h78 y⟩, fun y => absurd h75 y⟩, fun y => absurd h77 y⟩
/-- one that was taken back is told: no bulkhead's, no leader -/
theorem tk_e {n : Nat} {X : Mem} {m z : Nat} {P : List Nat} {N : Mem} {t : DB} {i k g s : Nat} (h : SS X m z (k :: P) 100000 N t) (hkP : k ∉ P) (hk : k < cn t 61) (hi : i < 4400) (h81 : t 81 i = nI k) (h65 : t 65 k = nI g) (hg : g < cn t 30) (hs : t 31 g = nI s) (hs9 : s ≤ 9) (hs1 : s ≠ 1) (hs8 : t 78 k = 0) :
    ∃ t', (∀ K : DB → Prop, K t' → w_takenBack_18 (nI i) t K) ∧ TF t t' [36, 38] ∧ (s ≠ 8 → cq (n + 11) (vt_takenBack (10 + s)) [.inr (10 + s, g), .inr (21, k)] N (fun r N' => r = none ∧ SS X m z P 100000 N' t')) ∧ (s = 8 → t' = t ∧ SS X m z P 100000 N t) := by
  have hn := h.1.nC
  have h24 : cn t 30 ≤ 24 := h.iB.2.2.2.1.2
  have vi : vp_in (nI i) 4400 := vp_in_nI hi (by decide)
  have ci : (nI i).toNatClampNeg = i := nI_clamp (by omega)
  have vk : vp_in (nI k) 4400 := vp_in_nI (by omega) (by decide)
  have ck : (nI k).toNatClampNeg = k := nI_clamp (by omega)
  have vg : vp_in (nI g) 24 := vp_in_nI (by omega) (by decide)
  have cg : (nI g).toNatClampNeg = g := nI_clamp (by omega)
  have e : ∀ j : Nat, j ≤ 9 → (nI s = nI j ↔ s = j) := fun j hj => nI_eq (by omega) (by omega)
  obtain ⟨zz, -⟩ := h.iZ k hk
  obtain ⟨z0, z1, z4, z8, -⟩ := zz g hg h65
  rw [hs] at z0 z1
  obtain ⟨h75, h77⟩ := z1 (fun y => hs1 ((e 1 (by decide)).mp y))
  have h79 := (h.iH k hk).2.2.2.2.2.2.2.2.1
  have hT : SZ X m z P 100000 N t := h.1.tkn (fun g' hg' q => by
    have : g' = g := (nI_eq (by omega) (by omega)).mp (q.symm.trans h65)
    subst this
    rw [hs]
    exact fun y => hs1 ((e 1 (by decide)).mp y))
  have mdl : ∀ (K : DB → Prop), (t 79 k = 0 → K t) → (t 79 k = 1 → K (up (up t 36 g 1) 38 g (t 0 0))) → w_takenBack_18 (nI i) t K := by
    intro K k0 k1
    unfold w_takenBack_18
    rw [ci]
    refine ⟨vi, fun x1 e1 => ?_⟩
    rw [h81] at e1
    subst e1
    rw [ck]
    refine ⟨vk, fun x2 e2 => ?_⟩
    rw [h65] at e2
    subst e2
    refine ⟨fun _ => ⟨vk, fun y => w_tk58 (by omega) h77 h75 hs8 (k0 y), fun y => ⟨vg, fun t1 g1 => ⟨vg, fun t2 g2 => ?_⟩⟩⟩, fun y => absurd (nI_pos' (by omega)) y⟩
    rw [cg] at g1 g2
    subst g1; subst g2
    exact w_tk58 (by omega) h77 h75 hs8 (k1 (h79.resolve_left y))
  by_cases q0 : s = 0
  · subst q0
    have hs0 : t 31 g = 0 := hs
    obtain ⟨g7, g8, g9⟩ := h.G0 g hg hs0
    have hQ := ((h.Q k hk (Or.inr (List.mem_cons_self ..))).2 g h65 hg).1 hs0
    have nl : N.2.1 10 g 11 = (1, 0) := by
      obtain ⟨s', a1, a2, -, -, -, -, -, -, -, -, a11⟩ := h.G g hg
      have : s' = 0 := (nI_eq (by omega) (by omega)).mp (a2.symm.trans hs)
      subst this
      exact a11
    rcases h79 with q | q
    · refine ⟨t, fun K hK => mdl K (fun _ => hK) (fun y => absurd (q.symm.trans y) (by decide)), TF.rf, fun _ => ?_, fun y => absurd y (by decide)⟩
      refine sv_X5_takenBack (Q := fun N' => SS X m z P 100000 N' t) (fun N' w => ⟨rfl, w⟩) ⟨rfl, fun e1 ee1 => ⟨fun _ => ⟨hT, h.2⟩, fun y => ?_⟩⟩
      have := hQ.2.mpr (ee1.symm.trans y.symm)
      rw [q] at this
      exact absurd this (by decide)
    · have htr := hQ.2.mp q
      have hq1 : ∀ j, j < cn t 61 → lvv t P 100000 j → t 65 j = nI g → (t 79 j = 1 → (1 : Int32) = 2) ∧ (t 79 j = 1 ↔ ((0, 0) : Nat × Nat) = (21, j)) := fun j hj hl e65 => by
        have no : t 79 j ≠ 1 := fun w => by
          have hl' : lvv t (k :: P) 100000 j := by
            rcases hl with u | u
            · exact Or.inl u
            · exact Or.inr (List.mem_cons_of_mem _ u)
          have := (((h.Q j hj hl').2 g e65 hg).1 hs0).2.mp w
          rw [htr] at this
          have ejk : k = j := congrArg Prod.snd this
          subst ejk
          rcases hl with ⟨u, -⟩ | u
          · have := (h.J k (List.mem_cons_self ..)).2
            rw [u] at this
            exact absurd this (by decide)
          · exact hkP u
        exact ⟨fun w => absurd w no, fun w => absurd w no, fun w => (ne021 w).elim⟩
      have hS1 := hT.fuse (g := g) (s := 1) (c := t 37 g) (u := t 0 0) (r := (0, 0)) (Or.inr (Or.inl rfl)) hs0 hq1 hg (Or.inl rfl)
      have e10 : (sI N 10 g 7 1).1 10 g 8 = t 37 g := (sI_ne (by simp)).trans g8
      rw [sI_id e10, up_id (f := 37) (show (up t 36 g 1) 37 g = t 37 g from rfl)] at hS1
      have ht : TF t (up (up t 36 g 1) 38 g (t 0 0)) [36, 38] := (TF.rf.wu _ _ (by decide)).wu _ _ (by decide)
      refine ⟨up (up t 36 g 1) 38 g (t 0 0), fun K hK => mdl K (fun y => absurd (q.symm.trans y) (by decide)) (fun _ => hK), ht, fun _ => ?_, fun y => absurd y (by decide)⟩
      refine sv_X5_takenBack (Q := fun N' => SS X m z P 100000 N' (up (up t 36 g 1) 38 g (t 0 0))) (fun N' w => ⟨rfl, w⟩) ⟨rfl, fun e1 ee1 => ⟨fun y => absurd (htr.symm.trans ee1.symm) y, fun _ => ⟨rfl, fun e2 ee2 => ?_⟩⟩⟩
      have w2 : e2 = (1, 0) := ee2.trans nl
      subst w2
      refine ⟨rfl, rfl, rfl, fun M1 g1 => ⟨rfl, fun M2 g2 => ⟨rfl, fun M3 g3 => ?_⟩⟩⟩
      rw [show N.1 (1, 0).1 (1, 0).2 0 = t 0 0 from h.W.2.1] at g2
      subst g1; subst g2; subst g3
      exact ⟨hS1, h.2.fr ht (by decide)⟩
  · have q79 : t 79 k = 0 := z0 (fun y => q0 ((e 0 (by decide)).mp y))
    refine ⟨t, fun K hK => mdl K (fun _ => hK) (fun y => absurd (q79.symm.trans y) (by decide)), TF.rf, fun h8 => ?_, fun _ => ⟨rfl, hT, h.2⟩⟩
    have key : cq (n + 11) mX4_takenBack [.inr (10 + s, g), .inr (21, k)] N (fun r N' => r = none ∧ SS X m z P 100000 N' t) :=
      sv_X4_takenBack (Q := fun N' => SS X m z P 100000 N' t) (fun N' w => ⟨rfl, w⟩) ⟨hT, h.2⟩
    have : s = 2 ∨ s = 3 ∨ s = 4 ∨ s = 5 ∨ s = 6 ∨ s = 7 ∨ s = 9 := by omega
    rcases this with q | q | q | q | q | q | q <;> subst q <;> exact key
