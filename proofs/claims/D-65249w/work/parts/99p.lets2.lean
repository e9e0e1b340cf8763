set_option maxRecDepth 100000
/-! all bulkheads let in -/
theorem lets_l {n : Nat} (hn : 100 ≤ n) {X : Mem} {m : Nat} {T0 : DB} {S0 : Nat → Prop} {Q : Mem → Prop} {W0 : (DB → Prop) → Prop} {ng : Nat} (hng : ng ≤ 24)
    (hQ : ∀ N t, QS S0 X m N t → TF T0 t RC → (∀ Qm, (∃ a, w_tick_388 a 0 t Qm) → W0 Qm) → ∃ k, v_X0_pass_193 (n + 4) k (1, 0) 0 N Q) :
    ∀ r j, j + r = ng → ∀ N t, cn t 30 = ng → QS S0 X m N t → TF T0 t RC → (∀ Qm, w_tick_256 (r + 1) (nI j) t Qm → W0 Qm) → v_X0_pass_149 (n + 4) (r + 1) (1, 0) (nI j) N Q := by
  intro r
  induction r with
  | zero =>
    intro j hj N t hc q hT hacc
    have b30 : t 30 0 = nI ng := by rw [← hc]; exact q.1.iB.2.2.2.1.1
    have sz : N.1 (30, 5).1 (30, 5).2 0 = nI ng := (q.1.S (5, 30, 0) (by decide)).trans b30
    refine ⟨rfl, fun e1 ee1 => ?_⟩
    have q1 : e1 = (30, 5) := ee1.trans (q.1.W.1 5 (by decide) (by decide))
    subst q1
    have ej : j = ng := by omega
    refine ⟨⟨by decide, by decide⟩, fun _ => hQ N t q hT (fun Qm h => hacc Qm ⟨fun _ => h, fun y => ?_⟩), fun y => ?_⟩
    · exact absurd (by rw [b30]; exact nI_le (by omega) (by omega)) y
    · exact absurd (by rw [sz]; exact nI_le (by omega) (by omega)) y
  | succ r ih =>
    intro j hj N t hc q hT hacc
    have hjn : j < ng := by omega
    have b30 : t 30 0 = nI ng := by rw [← hc]; exact q.1.iB.2.2.2.1.1
    have e5 : N.2.1 1 0 5 = (30, 5) := q.1.W.1 5 (by decide) (by decide)
    have sz : N.1 (30, 5).1 (30, 5).2 0 = nI ng := (q.1.S (5, 30, 0) (by decide)).trans b30
    have cj : (nI j).toNatClampNeg = j := nI_clamp (by omega)
    have vj : vp_in (nI j) 24 := vp_in_nI (by omega) (by decide)
    obtain ⟨s, a1, a2, a3, -⟩ := q.1.G j (by rw [hc]; exact hjn)
    have no30 : ¬ t 30 0 ≤ nI j := by rw [b30]; exact nI_ge hjn (by omega)
    refine ⟨rfl, fun e1 ee1 => ?_⟩
    have q1 : e1 = (30, 5) := ee1.trans e5
    subst q1
    refine ⟨⟨by decide, by decide⟩, fun y => ?_, fun _ => ⟨rfl, fun e2 ee2 => ?_⟩⟩
    · rw [sz] at y; exact absurd y (nI_ge hjn (by omega))
    have q2 : e2 = (30, 5) := ee2.trans e5
    subst q2
    refine ⟨⟨by decide, by decide⟩, ⟨nI_pos (by omega), by rw [sz]; exact nI_lt hjn (by omega)⟩, fun e3 ee3 => ?_⟩
    rw [cj] at ee3
    have q3 : e3 = (10 + s, j) := ee3.trans a3
    subst q3
    have gks : gk (10 + s) := ⟨by omega, by omega⟩
    refine ⟨gks, fun y => ?_, fun y x6 e6 => ?_⟩
    · have s1 : s = 1 := (kt6 a1).mp y
      subst s1
      refine ⟨rfl, rfl, ?_⟩
      show cq (n + 3 + 11) mX6_letsIn [.inr (11, j)] N _
      refine sv_X6_letsIn (d := n + 3) (Q := fun N' => ∀ x_7 : Int32, x_7 = nI j + 1 → v_X0_pass_149 (n + 4) (r + 1) (1, 0) x_7 N' Q) (fun N' w => ⟨rfl, w⟩) ⟨4021 + 1, ?_⟩
      refine li_l hn (T0 := T0) (S0 := S0) (W0 := fun K Qm => K = (fun z1 t => w_tick_256 (r + 1) z1 t Qm) → W0 Qm) (fun N' t' h1 h2 h3 x e => ?_) 4021 N t q hT (by rw [hc]; exact hjn) a2 (by omega) (fun K Qm h eK => hacc Qm ⟨fun y => absurd y no30, fun _ => by subst eK; exact h⟩)
      rw [nI_1] at e
      subst e
      have c30 : cn t' 30 = ng := by
        rw [h2.cn (by decide), ← hT.cn (by decide)]
        exact hc
      exact ih (j + 1) (by omega) N' t' c30 h1 h2 (fun Qm hw => h3 (fun z1 t => w_tick_256 (r + 1) z1 t Qm) Qm (fun x e => by rw [nI_1] at e; subst e; exact hw) rfl)
    · rw [nI_1] at e6
      subst e6
      have n1 : ¬ t 31 j = 1 := fun w => y ((kt6 a1).mpr ((nI_eq (by omega) (by omega)).mp (a2.symm.trans (show t 31 j = nI 1 from w))))
      exact ih (j + 1) (by omega) N t hc q hT (fun Qm hw => hacc Qm ⟨fun y => absurd y no30, fun _ => ⟨1, vj, by
        rw [cj]
        exact ⟨fun _ x e => by rw [nI_1] at e; subst e; exact hw, fun w => absurd w n1⟩⟩⟩)
