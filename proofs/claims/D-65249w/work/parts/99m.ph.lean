set_option maxRecDepth 100000
/-! the phases of a second -/
/-- one call's turn in a phase of the reference -/
def MS (x1 : Int32) (j : Nat) (t t' : DB) : Prop := ∀ (a : Nat) (K88 : Int32 → DB → Prop) (Q : DB → Prop), w_tick_95 a K88 x1 (nI (j + 1)) t' Q → w_tick_95 (a + 1) K88 x1 (nI j) t Q
theorem w207_idle {K88 : Int32 → DB → Prop} {K95 : Int32 → Int32 → DB → Prop} {x1 x3 : Int32} {j : Nat} {t : DB} {Q : DB → Prop} (hj : j < 4400) (h88 : t 88 0 = nI 0) (h3 : x1 = 3 → x3 = 4 → t 76 j = 0) (hK : ∀ x, x = nI j + 1 → K95 x1 x t) : w_tick_207 K88 K95 x1 (nI j) x3 t Q := by
  have vj : vp_in (nI j) 4400 := vp_in_nI hj (by decide)
  have cj : (nI j).toNatClampNeg = j := nI_clamp (by omega)
  have wk : w_work t (fun t1 => ∀ x, x = nI j + 1 → K95 x1 x t1) := run_0 h88 hK
  refine ⟨fun _ => wk, fun y => ⟨fun _ => wk, fun y2 => ⟨vj, ?_⟩⟩⟩
  rw [cj]
  exact ⟨fun _ => wk, fun w => absurd (h3 y y2) w⟩
theorem w207_run {K88 : Int32 → DB → Prop} {K95 : Int32 → Int32 → DB → Prop} {x1 x3 : Int32} {j : Nat} {t t' : DB} {Q : DB → Prop} (h3 : x1 ≠ 3) (hr : RUN t t') (h88 : t' 88 0 = nI 0) (hK : ∀ x, x = nI j + 1 → K95 x1 x t') : w_tick_207 K88 K95 x1 (nI j) x3 t Q := ⟨fun _ => hr.work h88 hK, fun y => absurd y h3⟩
theorem MS.no {x1 : Int32} {j n : Nat} {t : DB} (h61 : t 61 0 = nI n) (hn : n ≤ 4020) (hj : j < n) (h : ¬ (t 69 j = 0 ∧ t 72 j = t 0 0)) : MS x1 j t t := by
  intro a K88 Q hK
  have vj : vp_in (nI j) 4400 := vp_in_nI (by omega) (by decide)
  have cj : (nI j).toNatClampNeg = j := nI_clamp (by omega)
  refine ⟨fun y => ?_, fun _ => ⟨vj, ?_⟩⟩
  · rw [h61] at y; exact absurd y (nI_ge hj (by omega))
  rw [cj]
  refine ⟨fun _ x e => ?_, fun y => ⟨vj, fun y2 => absurd ⟨y, y2⟩ h, fun _ x e => ?_⟩⟩
  · rw [nI_1] at e; subst e; exact hK
  · rw [nI_1] at e; subst e; exact hK
/-- a call that is due: its guard's sort, or -1 -/
theorem MS.due {x1 : Int32} {j n : Nat} {t t' : DB} {s0 : Int32} (h61 : t 61 0 = nI n) (hn : n ≤ 4020) (hj : j < n) (h69 : t 69 j = 0) (h72 : t 72 j = t 0 0) (hs0 : (t 65 j = -1 ∧ s0 = -1) ∨ ∃ g, g < 24 ∧ t 65 j = nI g ∧ s0 = t 31 g) (hw : ∀ (K88 : Int32 → DB → Prop) (K95 : Int32 → Int32 → DB → Prop) (Q : DB → Prop), K95 x1 (nI (j + 1)) t' → w_tick_152 K88 K95 x1 (nI j) s0 t Q) : MS x1 j t t' := by
  intro a K88 Q hK
  have vj : vp_in (nI j) 4400 := vp_in_nI (by omega) (by decide)
  have cj : (nI j).toNatClampNeg = j := nI_clamp (by omega)
  refine ⟨fun y => ?_, fun _ => ⟨vj, ?_⟩⟩
  · rw [h61] at y; exact absurd y (nI_ge hj (by omega))
  rw [cj]
  refine ⟨fun y => absurd h69 y, fun _ => ⟨vj, fun _ => ⟨vj, fun y => ?_, fun y => ?_⟩, fun y => absurd h72 y⟩⟩
  · rcases hs0 with ⟨w, -⟩ | ⟨g, hg, w, ws⟩
    · rw [w] at y; exact absurd y (by decide)
    · rw [w, nI_clamp (by omega), ← ws]
      exact ⟨vj, vp_in_nI hg (by decide), hw K88 (fun z1 z2 t => w_tick_95 a K88 z1 z2 t Q) Q hK⟩
  · rcases hs0 with ⟨-, w⟩ | ⟨g, hg, w, -⟩
    · rw [← w]
      exact hw K88 (fun z1 z2 t => w_tick_95 a K88 z1 z2 t Q) Q hK
    · rw [w] at y
      exact absurd (nI_pos' (by omega)) y
theorem MS.idle {x1 : Int32} {j n : Nat} {t : DB} {s0 : Int32} (h61 : t 61 0 = nI n) (hn : n ≤ 4020) (hj : j < n) (h69 : t 69 j = 0) (h72 : t 72 j = t 0 0) (hs0 : (t 65 j = -1 ∧ s0 = -1) ∨ ∃ g, g < 24 ∧ t 65 j = nI g ∧ s0 = t 31 g) (h88 : t 88 0 = nI 0) (n0 : x1 = 0 → s0 ≠ -1) (n1 : x1 = 1 → s0 ≠ 3) (n2 : x1 = 2 → s0 = 5 → ¬ t 73 j = 1) (n3 : x1 = 3 → s0 = 4 → t 76 j = 0) : MS x1 j t t := by
  refine MS.due h61 hn hj h69 h72 hs0 (fun K88 K95 Q hK => ?_)
  have vj : vp_in (nI j) 4400 := vp_in_nI (by omega) (by decide)
  have cj : (nI j).toNatClampNeg = j := nI_clamp (by omega)
  have l207 : w_tick_207 K88 K95 x1 (nI j) s0 t Q := w207_idle (by omega) h88 n3 (fun x e => by rw [nI_1] at e; subst e; exact hK)
  have l182 : w_tick_182 K88 K95 x1 (nI j) s0 t Q := ⟨fun _ => l207, fun y => ⟨fun _ => l207, fun y2 => ⟨vj, by
    rw [cj]
    exact ⟨fun _ => l207, fun w => absurd w (n2 y y2)⟩⟩⟩⟩
  have l167 : w_tick_167 K88 K95 x1 (nI j) s0 t Q := ⟨fun _ => l182, fun y => ⟨fun _ => l182, fun y2 => absurd y2 (n1 y)⟩⟩
  exact ⟨fun _ => l167, fun y => ⟨fun _ => l167, fun y2 => absurd y2 (n0 y)⟩⟩
theorem MS.te {j n : Nat} {t u t' : DB} (h61 : t 61 0 = nI n) (hn : n ≤ 4020) (hj : j < n) (h69 : t 69 j = 0) (h72 : t 72 j = t 0 0) (h65 : t 65 j = -1) (hu : ∀ K : DB → Prop, K u → w_tryEnds (nI j) t K) (hr : RUN u t') (h88 : t' 88 0 = nI 0) : MS 0 j t t' := by
  refine MS.due (s0 := -1) h61 hn hj h69 h72 (Or.inl ⟨h65, rfl⟩) (fun K88 K95 Q hK => ?_)
  refine ⟨fun y => absurd rfl y, fun _ => ⟨fun y => absurd rfl y, fun _ => hu _ ?_⟩⟩
  refine ⟨fun _ => ⟨fun _ => ?_, fun y => absurd y (by decide)⟩, fun y => absurd y (by decide)⟩
  exact w207_run (by decide) hr h88 (fun x e => by rw [nI_1] at e; subst e; exact hK)
theorem MS.late {j n g : Nat} {t u t' : DB} (h61 : t 61 0 = nI n) (hn : n ≤ 4020) (hj : j < n) (h69 : t 69 j = 0) (h72 : t 72 j = t 0 0) (hg : g < 24) (h65 : t 65 j = nI g) (h31 : t 31 g = 3) (hu : ∀ K : DB → Prop, K u → w_late (nI j) t K) (hr : RUN u t') (h88 : t' 88 0 = nI 0) : MS 1 j t t' := by
  refine MS.due (s0 := 3) h61 hn hj h69 h72 (Or.inr ⟨g, hg, h65, h31.symm⟩) (fun K88 K95 Q hK => ?_)
  refine ⟨fun _ => ?_, fun y => absurd y (by decide)⟩
  refine ⟨fun y => absurd rfl y, fun _ => ⟨fun y => absurd rfl y, fun _ => hu _ ?_⟩⟩
  refine ⟨fun _ => ?_, fun y => absurd y (by decide)⟩
  exact w207_run (by decide) hr h88 (fun x e => by rw [nI_1] at e; subst e; exact hK)
theorem MS.hedge {j n g : Nat} {t u t' : DB} (h61 : t 61 0 = nI n) (hn : n ≤ 4020) (hj : j < n) (h69 : t 69 j = 0) (h72 : t 72 j = t 0 0) (hg : g < 24) (h65 : t 65 j = nI g) (h31 : t 31 g = 5) (h73 : t 73 j = 1) (hu : ∀ K : DB → Prop, K u → w_goesIn (nI j) t K) (hr : RUN u t') (h88 : t' 88 0 = nI 0) : MS 2 j t t' := by
  have vj : vp_in (nI j) 4400 := vp_in_nI (by omega) (by decide)
  have cj : (nI j).toNatClampNeg = j := nI_clamp (by omega)
  refine MS.due (s0 := 5) h61 hn hj h69 h72 (Or.inr ⟨g, hg, h65, h31.symm⟩) (fun K88 K95 Q hK => ?_)
  refine ⟨fun _ => ⟨fun _ => ?_, fun y => absurd y (by decide)⟩, fun y => absurd y (by decide)⟩
  refine ⟨fun y => absurd rfl y, fun _ => ⟨fun y => absurd rfl y, fun _ => ⟨vj, ?_⟩⟩⟩
  rw [cj]
  refine ⟨fun y => absurd h73 y, fun _ => hu _ ?_⟩
  exact w207_run (by decide) hr h88 (fun x e => by rw [nI_1] at e; subst e; exact hK)
theorem MS.retry {j n g : Nat} {t u t' : DB} (h61 : t 61 0 = nI n) (hn : n ≤ 4020) (hj : j < n) (h69 : t 69 j = 0) (h72 : t 72 j = t 0 0) (hg : g < 24) (h65 : t 65 j = nI g) (h31 : t 31 g = 4) (h76 : t 76 j = 1) (hu : ∀ K : DB → Prop, K u → w_goesIn (nI j) (up t 76 j 0) K) (hr : RUN u t') (h88 : t' 88 0 = nI 0) : MS 3 j t t' := by
  have vj : vp_in (nI j) 4400 := vp_in_nI (by omega) (by decide)
  have cj : (nI j).toNatClampNeg = j := nI_clamp (by omega)
  refine MS.due (s0 := 4) h61 hn hj h69 h72 (Or.inr ⟨g, hg, h65, h31.symm⟩) (fun K88 K95 Q hK => ?_)
  refine ⟨fun _ => ⟨fun _ => ⟨fun _ => ?_, fun y => absurd y (by decide)⟩, fun y => absurd y (by decide)⟩, fun y => absurd y (by decide)⟩
  refine ⟨fun y => absurd rfl y, fun _ => ⟨fun y => absurd rfl y, fun _ => ⟨vj, ?_⟩⟩⟩
  rw [cj]
  refine ⟨fun y => absurd y (by rw [h76]; decide), fun _ => ⟨vj, fun t10 e10 => ?_⟩⟩
  subst e10
  exact hu _ (hr.work h88 (fun x e => by rw [nI_1] at e; subst e; exact hK))
theorem QV.up {S S' : Nat → Prop} {t : DB} (h : QV S t) (hs : ∀ i, S i → S' i) : QV S' t := fun c hc g hg e => ⟨(h c hc g hg e).1, fun y y2 => by
  rcases (h c hc g hg e).2 y y2 with w | ⟨w1, w2⟩
  · exact Or.inl w
  · exact Or.inr ⟨hs c w1, w2⟩⟩
theorem QS.up {S S' : Nat → Prop} {X : Mem} {m : Nat} {N : Mem} {t : DB} (h : QS S X m N t) (hs : ∀ i, S i → S' i) : QS S' X m N t := ⟨h.1, h.2.1, h.2.2.1.up hs, h.2.2.2⟩
/-- deadlines, hedges, retries that are due -/
theorem dueOf_l {n s : Nat} (hn : 100 ≤ n) {X : Mem} {m : Nat} {T0 : DB} {x1 : Int32} (hx : (s = 3 ∧ x1 = 1) ∨ (s = 5 ∧ x1 = 2) ∨ (s = 4 ∧ x1 = 3)) {Q : Mem → Prop} {S0 : Nat → Prop} (hS0 : s = 5 → ∀ i, ¬ S0 i)
    (hQ : ∀ N t, QS (fun i => S0 i ∨ s = 5) X m N t → TF T0 t RC → (∀ (K88 : Int32 → DB → Prop) (Q : DB → Prop), (∃ a, w_tick_95 a K88 x1 (nI (cn t 61)) t Q) → ∃ a, w_tick_95 a K88 x1 (nI 0) T0 Q) → Q N) :
    ∀ r j, j + r = 4021 → ∀ N t, QS (fun i => S0 i ∨ (s = 5 ∧ i < j)) X m N t → TF T0 t RC → (∀ (K88 : Int32 → DB → Prop) (Q : DB → Prop), (∃ a, w_tick_95 a K88 x1 (nI j) t Q) → ∃ a, w_tick_95 a K88 x1 (nI 0) T0 Q) → j ≤ cn t 61 → v_X0_dueOf_2 (n + 4) (r + 1) (1, 0) (nI s) (nI j) N Q := by
  have fin : ∀ (j : Nat) (N : Mem) (t : DB), QS (fun i => S0 i ∨ (s = 5 ∧ i < j)) X m N t → TF T0 t RC → (∀ (K88 : Int32 → DB → Prop) (Q : DB → Prop), (∃ a, w_tick_95 a K88 x1 (nI j) t Q) → ∃ a, w_tick_95 a K88 x1 (nI 0) T0 Q) → j = cn t 61 → Q N := fun j N t h1 h2 h3 h4 => by
    subst h4
    exact hQ N t (h1.up (fun i y => y.elim Or.inl (fun w => Or.inr w.1))) h2 h3
  intro r
  induction r with
  | zero =>
    intro j hj N t q hT hacc hjc
    have := q.1.1.nC
    omega
  | succ r ih =>
    intro j hj N t q hT hacc hjc
    have q0 := q
    obtain ⟨hS, hW, hV, h88⟩ := q
    have hn61 := hS.1.nC
    have h24 : cn t 30 ≤ 24 := hS.iB.2.2.2.1.2
    have b61 := hS.iB.2.2.2.2.2.2.1.1
    have e9 : N.2.1 1 0 9 = (30, 9) := hS.W.1 9 (by decide) (by decide)
    have sz : N.1 (30, 9).1 (30, 9).2 0 = nI (cn t 61) := (hS.S (9, 61, 0) (by decide)).trans b61
    have cj : (nI j).toNatClampNeg = j := nI_clamp (by omega)
    refine ⟨rfl, fun e1 ee1 => ?_⟩
    have q1 : e1 = (30, 9) := ee1.trans e9
    subst q1
    refine ⟨⟨by decide, by decide⟩, fun y => ?_, fun y => ⟨rfl, fun e2 ee2 => ?_⟩⟩
    · rw [sz] at y
      have := (nI_leI (by omega) (by omega)).mp y
      exact fin j N t q0 hT hacc (by omega)
    rw [sz] at y
    have hjn : j < cn t 61 := Nat.lt_of_not_le fun w => y (nI_le w (by omega))
    have q2 : e2 = (30, 9) := ee2.trans e9
    subst q2
    refine ⟨⟨by decide, by decide⟩, ⟨nI_pos (by omega), by rw [sz]; exact nI_lt hjn (by omega)⟩, fun e3 ee3 => ?_⟩
    rw [cj] at ee3
    have q3 : e3 = (21, j) := ee3.trans (hS.K (9, 21, 61) (by decide) j hjn)
    subst q3
    have e11 : N.1 21 j 11 = t 69 j := hS.I (21, 11, 69, 61) (by decide) j hjn
    have e15 : N.1 21 j 15 = t 72 j := hS.I (21, 15, 72, 61) (by decide) j hjn
    have e6 : N.2.1 21 j 6 = gn t (t 65 j) := (hS.C j hjn).1
    have tm : N.1 1 0 0 = t 0 0 := hS.W.2.1
    -- the loop goes on from t'
    have next : ∀ (N' : Mem) (t' : DB), QS (fun i => S0 i ∨ (s = 5 ∧ i < j + 1)) X m N' t' → TF t t' RC → MS x1 j t t' → cn t 61 ≤ cn t' 61 → ∀ x, x = nI j + 1 → v_X0_dueOf_2 (n + 4) (r + 1) (1, 0) (nI s) x N' Q := fun N' t' h1 h2 h3 h4 x e => by
      rw [nI_1] at e
      subst e
      exact ih (j + 1) (by omega) N' t' h1 (fun f hf => (h2 f hf).trans (hT f hf)) (fun K88 Q' ⟨a, ha⟩ => hacc K88 Q' ⟨a + 1, h3 a K88 Q' ha⟩) (by omega)
    have qw : QS (fun i => S0 i ∨ (s = 5 ∧ i < j + 1)) X m N t := q0.up (fun i y => y.elim Or.inl (fun w => Or.inr ⟨w.1, by omega⟩))
    have skip : MS x1 j t t → ∀ x, x = nI j + 1 → v_X0_dueOf_2 (n + 4) (r + 1) (1, 0) (nI s) x N Q := fun h => next N t qw TF.rf h (Nat.le_refl _)
    refine ⟨rfl, rfl, rfl, fun y1 => ⟨fun _ => skip (MS.no b61 hn61 hjn (fun w => y1 (e11.trans w.1))), fun w => absurd rfl w⟩, fun y1 => ⟨fun w => absurd w (by decide), fun _ => ⟨rfl, rfl, fun y2 => skip (MS.no b61 hn61 hjn (fun w => y2 ?_)), fun y2 => ⟨rfl, fun e8 ee8 => ?_⟩⟩⟩⟩
    · show N.1 21 j 15 = N.1 1 0 0
      rw [e15, tm]; exact w.2
    have h69 : t 69 j = 0 := e11.symm.trans y1
    have h72 : t 72 j = t 0 0 := by
      have : N.1 21 j 15 = N.1 1 0 0 := y2
      rw [e15, tm] at this
      exact this
    have q8 : e8 = gn t (t 65 j) := ee8.trans e6
    rcases hS.1.grd hjn with h65 | ⟨g, sg, hg, h65, hs, hs9⟩
    · have z8 : e8 = (0, 0) := by rw [q8, h65]; rfl
      refine ⟨fun _ => skip (MS.idle (s0 := -1) b61 hn61 hjn h69 h72 (Or.inl ⟨h65, rfl⟩) h88 ?_ (fun _ => by decide) (fun _ w => absurd w (by decide)) (fun _ w => absurd w (by decide))), fun w => absurd z8 w⟩
      intro w
      rcases hx with ⟨-, v⟩ | ⟨-, v⟩ | ⟨-, v⟩ <;> rw [v] at w <;> exact absurd w (by decide)
    rw [h65, gn_j (by omega) hs hs9] at q8
    rw [h65, gn_j (by omega) hs hs9] at e6
    subst q8
    refine ⟨fun w => absurd (congrArg Prod.fst w) (by show ¬ 10 + sg = 0; omega), fun _ => ⟨rfl, fun e10 ee10 => ?_⟩⟩
    have q10 : e10 = (10 + sg, g) := ee10.trans e6
    subst q10
    have gks : gk (10 + sg) := ⟨by omega, by omega⟩
    have n1 : N.1 (10 + sg) g 1 = nI sg := by
      obtain ⟨s', a1, a2, a3, a4, a5, -⟩ := hS.G g hg
      have es : s' = sg := (nI_eq (by omega) (by omega)).mp (a2.symm.trans hs)
      subst es
      exact a5.trans hs
    have n1' : N.1 (10 + sg, g).1 (10 + sg, g).2 1 = nI sg := n1
    have hs5 : s ≤ 9 := by omega
    rw [n1']
    have h31s : s ≠ sg → MS x1 j t t := fun hne => MS.idle (s0 := t 31 g) b61 hn61 hjn h69 h72 (Or.inr ⟨g, by omega, h65, rfl⟩) h88 (fun w => by
        rcases hx with ⟨-, v⟩ | ⟨-, v⟩ | ⟨-, v⟩ <;> rw [v] at w <;> exact absurd w (by decide)) (fun w v => by
        rcases hx with ⟨a1, a2⟩ | ⟨a1, a2⟩ | ⟨a1, a2⟩
        · exact hne (a1.trans ((nI_eq (by omega) (by omega)).mp (hs.symm.trans (show t 31 g = nI 3 from v))).symm)
        · rw [a2] at w; exact absurd w (by decide)
        · rw [a2] at w; exact absurd w (by decide)) (fun w v => by
        rcases hx with ⟨a1, a2⟩ | ⟨a1, a2⟩ | ⟨a1, a2⟩
        · rw [a2] at w; exact absurd w (by decide)
        · exact absurd (a1.trans ((nI_eq (by omega) (by omega)).mp (hs.symm.trans (show t 31 g = nI 5 from v))).symm) hne
        · rw [a2] at w; exact absurd w (by decide)) (fun w v => by
        rcases hx with ⟨a1, a2⟩ | ⟨a1, a2⟩ | ⟨a1, a2⟩
        · rw [a2] at w; exact absurd w (by decide)
        · rw [a2] at w; exact absurd w (by decide)
        · exact absurd (a1.trans ((nI_eq (by omega) (by omega)).mp (hs.symm.trans (show t 31 g = nI 4 from v))).symm) hne)
    refine ⟨gks, fun y3 => ?_, fun y3 => skip (h31s (fun e => y3 (by rw [e])))⟩
    have es : sg = s := (nI_eq (by omega) (by omega)).mp y3
    subst es
    rcases hx with ⟨a1, a2⟩ | ⟨a1, a2⟩ | ⟨a1, a2⟩
    · subst a1; subst a2
      have h31 : t 31 g = 3 := hs
      refine ⟨fun _ => ⟨rfl, fun e1' ee1' => ?_⟩, fun w => absurd w (by decide)⟩
      have q1' : e1' = (13, g) := ee1'.trans e6
      subst q1'
      refine ⟨gks, ?_⟩
      refine (late_q (n := n) (by omega) q0 hjn h69 h65 hg h31).mono ?_
      rintro rr N' ⟨hr, u, t', u1, u2, u3, u4, u5⟩
      exact ⟨hr, next N' t' (u3.up (fun i y => y.elim Or.inl (fun w => Or.inr ⟨w.1, by omega⟩))) u4 (MS.late b61 hn61 hjn h69 h72 (by omega) h65 h31 u1 u2 u3.2.2.2) u5⟩
    · subst a1; subst a2
      have h31 : t 31 g = 5 := hs
      refine ⟨fun _ => ⟨rfl, fun e1' ee1' => ?_⟩, fun w => absurd w (by decide)⟩
      have q1' : e1' = (15, g) := ee1'.trans e6
      subst q1'
      refine ⟨gks, ?_⟩
      obtain ⟨v1, v2⟩ := hedge_q (n := n + 2) (by omega) q0 hjn h69 h65 hg h31 h72 (fun y => by
        rcases y with y | ⟨-, y⟩
        · exact hS0 rfl j y
        · omega)
      refine v2.mono ?_
      rintro rr N' ⟨hr, u, t', u1, u2, u3, u4, u5⟩
      exact ⟨hr, next N' t' (u3.up (fun i y => by
        rcases y with (y | y) | y
        · exact Or.inl y
        · exact Or.inr ⟨y.1, by omega⟩
        · exact Or.inr ⟨rfl, by omega⟩)) u4 (MS.hedge b61 hn61 hjn h69 h72 (by omega) h65 h31 v1 u1 u2 u3.2.2.2) u5⟩
    · subst a1; subst a2
      have h31 : t 31 g = 4 := hs
      have st := (hS.Q j hjn (Or.inl ⟨h69, by omega⟩)).1
      obtain ⟨z0, z1, z4, z8, -⟩ := (hS.iZ j hjn).1 g hg h65
      have h75 := (z1 (by rw [h31]; decide)).1
      have h74 := (z8 (by rw [h31]; decide)).2
      have s14 : N.1 21 j 14 = if t 76 j = 1 then 2 else 0 := by
        rw [st]
        unfold stOf
        rw [h75, h74, if_neg (by decide), if_pos (by decide : (-1 : Int32) < 0)]
      have h76 := (hS.iH j hjn).2.2.2.2.2.1
      refine ⟨fun w => absurd rfl w, fun _ => ⟨rfl, fun y4 => ?_, fun y4 => ⟨rfl, fun e1' ee1' => ?_⟩⟩⟩
      · have n76 : t 76 j = 0 := by
          rcases h76 with w | w
          · exact w
          · exact absurd (s14.trans (if_pos w)) y4
        exact skip (MS.idle (s0 := 4) b61 hn61 hjn h69 h72 (Or.inr ⟨g, by omega, h65, h31.symm⟩) h88 (fun w => absurd w (by decide)) (fun w => absurd w (by decide)) (fun w => absurd w (by decide)) (fun _ _ => n76))
      · have h761 : t 76 j = 1 := by
          rcases h76 with w | w
          · have : N.1 21 j 14 = 2 := y4
            rw [s14, w, if_neg (by decide)] at this
            exact absurd this (by decide)
          · exact w
        have q1' : e1' = (14, g) := ee1'.trans e6
        subst q1'
        refine ⟨gks, ?_⟩
        refine (retry_q (n := n + 2) (by omega) q0 hjn h69 h65 hg h31 h761).mono ?_
        rintro rr N' ⟨hr, u, t', u1, u2, u3, u4, u5⟩
        exact ⟨hr, next N' t' (u3.up (fun i y => y.elim Or.inl (fun w => Or.inr ⟨w.1, by omega⟩))) u4 (MS.retry b61 hn61 hjn h69 h72 (by omega) h65 h31 h761 u1 u2 u3.2.2.2) u5⟩
