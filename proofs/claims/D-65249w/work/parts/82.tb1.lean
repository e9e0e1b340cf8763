set_option maxRecDepth 100000
/-! a bulkhead's call that was taken back is told: it was at work -/
theorem tk_w {n : Nat} {X : Mem} {m z : Nat} {P : List Nat} {N : Mem} {t : DB} {i k g : Nat} (h : SS X m z (k :: P) 100000 N t) (hkP : k ∉ P) (hk : k < cn t 61) (hi : i < 4400) (h81 : t 81 i = nI k) (h65 : t 65 k = nI g) (hg : g < cn t 30) (hs : t 31 g = 1) (hw : t 75 k = 0) :
    ∃ t', (∀ K : DB → Prop, K t' → w_takenBack_18 (nI i) t K) ∧ TF t t' [77, 39] ∧ cq (n + 11) mX6_takenBack [.inr (11, g), .inr (21, k)] N (fun r N' => r = none ∧ SS X m z P 100000 N' t') := by
  have hn := h.1.nC
  have h24 : cn t 30 ≤ 24 := h.iB.2.2.2.1.2
  have vi : vp_in (nI i) 4400 := vp_in_nI hi (by decide)
  have ci : (nI i).toNatClampNeg = i := nI_clamp (by omega)
  have vk : vp_in (nI k) 4400 := vp_in_nI (by omega) (by decide)
  have ck : (nI k).toNatClampNeg = k := nI_clamp (by omega)
  have vg : vp_in (nI g) 24 := vp_in_nI (by omega) (by decide)
  have cg : (nI g).toNatClampNeg = g := nI_clamp (by omega)
  obtain ⟨zz, -⟩ := h.iZ k hk
  obtain ⟨z0, z1, z4, z8, -⟩ := zz g hg h65
  have h79 := z0 (by rw [hs]; decide)
  have h76 := z4 (by rw [hs]; decide)
  obtain ⟨h78, h74⟩ := z8 (by rw [hs]; decide)
  obtain ⟨Q1, Q2⟩ := h.Q k hk (Or.inr (List.mem_cons_self ..))
  have h77 : t 77 k = 1 := by
    rcases (Q2 g h65 hg).2 hs with ⟨q, -⟩ | ⟨-, q⟩
    · rw [hw] at q; exact absurd q (by decide)
    · exact q
  have hst : N.1 21 k 14 = 0 := by
    rw [Q1]
    unfold stOf
    rw [hw, h76, h74, if_neg (by decide), if_neg (by decide), if_pos (by decide)]
  have h3 := (h.J k (List.mem_cons_self ..)).2
  have hT : SZ X m z P 100000 N t := h.1.sub (fun j hj hl => by
    rcases hl with q | q
    · exact Or.inl q
    · exact Or.inr (List.mem_cons_of_mem _ q)) (fun g' j a hg' hs' hj ha e1 e2 e3 e4 hl => by
    rcases hl with q | q
    · exact Or.inl q
    · rcases List.mem_cons.mp q with w | w
      · subst w; rw [hw] at e3; exact absurd e3 (by decide)
      · exact Or.inr w) (fun c hc => List.mem_cons_of_mem _ hc)
  have hS1 : SZ X m z P 100000 (sI N 11 g 8 (t 39 g - 1)) (up (up t 77 k 0) 39 g (t 39 g - 1)) := (hT.t77 (Or.inl rfl) h65 hs hg (fun hl => by
    rcases hl with ⟨q, -⟩ | q
    · rw [h3] at q; exact absurd q (by decide)
    · exact absurd q hkP)).b39
  have ht : TF t (up (up t 77 k 0) 39 g (t 39 g - 1)) [77, 39] := (TF.rf.wu _ _ (by decide)).wu _ _ (by decide)
  have e8 : N.1 11 g 8 = t 39 g := (h.G1 g hg hs).2.1
  refine ⟨_, fun K hK => ?_, ht, ?_⟩
  · unfold w_takenBack_18
    rw [ci]
    refine ⟨vi, fun x1 e1 => ?_⟩
    rw [h81] at e1
    subst e1
    rw [ck]
    refine ⟨vk, fun x2 e2 => ?_⟩
    rw [h65] at e2
    subst e2
    refine ⟨fun _ => ⟨vk, fun _ => ?_, fun y => absurd h79 y⟩, fun y => absurd (nI_pos' (by omega)) y⟩
    unfold w_takenBack_58
    rw [ck]
    refine ⟨vk, fun y => absurd (h77.symm.trans y) (by decide), fun _ => ⟨vk, fun t1 g1 => ⟨vg, vg, fun t2 g2 => ?_⟩⟩⟩
    rw [cg] at g2
    subst g1; subst g2
    unfold w_takenBack_85 w_takenBack_190
    rw [ck]
    exact ⟨vk, fun _ => ⟨vk, fun _ => hK, fun y => absurd h78 y⟩, fun y => absurd hw y⟩
  · refine sv_X6_takenBack (Q := fun N' => SS X m z P 100000 N' (up (up t 77 k 0) 39 g (t 39 g - 1))) (fun N' w => ⟨rfl, w⟩) ⟨rfl, fun _ => ⟨rfl, rfl, fun M1 g1 => ?_⟩, fun y => absurd (hst.symm.trans y) (by decide)⟩
    rw [show N.1 (11, g).1 (11, g).2 8 = t 39 g from e8] at g1
    subst g1
    exact ⟨hS1, h.2.fr ht (by decide)⟩
