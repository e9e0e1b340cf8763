set_option maxRecDepth 100000
/-! queries: joined, count -/
theorem SZ.j74 {X : Mem} {m z : Nat} {P : List Nat} {x : Nat} {N : Mem} {t : DB} (h : SZ X m z P x N t) {k : Nat} (hk : k < cn t 61) : t 74 k = -1 ∨ ∃ l, l < k ∧ t 74 k = nI l := by
  obtain ⟨z1, z2⟩ := h.iZ k hk
  rcases h.grd hk with y | ⟨g, s, hg, y, -⟩
  · exact Or.inl (z2 y).2.1
  · obtain ⟨-, -, -, z8, z9⟩ := z1 g hg y
    by_cases e : t 31 g = 8
    · rcases z9 e with ⟨-, w⟩ | ⟨-, -, l, l1, l2, -⟩
      · exact Or.inl w
      · exact Or.inr ⟨l, l1, l2⟩
    · exact Or.inl (z8 e).2
theorem joined_l {X : Mem} {m : Nat} {N : Mem} {t : DB} (h : SS X m 60 [] 100000 N t) {c b : Nat} (hc : c < cn t 61) (hb : b < 2 ^ 31) : ∀ r k a, k + r = cn t 61 → a ≤ b → ∃ v, (∀ Q : Int32 → DB → Prop, Q v t → w_joined_23 (r + 1) (nI c) (nI (b - a)) (nI k) t Q) ∧ (∀ Q : Int32 → Mem → Prop, Q v N → v_X0_joined_22 (r + 1) (1, 0) (nI c) (nI b) (nI a) (nI k) N Q) := by
  have hn := h.1.nC
  have b61 := h.iB.2.2.2.2.2.2.1.1
  have e9 : N.2.1 1 0 9 = (30, 9) := h.W.1 9 (by decide) (by decide)
  have sz : N.1 30 9 0 = nI (cn t 61) := (h.S (9, 61, 0) (by decide)).trans b61
  have lk30 : lk 30 := ⟨by decide, by decide⟩
  have cc : (nI c).toNatClampNeg = c := nI_clamp (by omega)
  intro r
  induction r with
  | zero =>
    intro k a hk ha
    refine ⟨-1, fun Q hQ => ⟨fun _ => hQ, fun y => absurd (by rw [b61]; exact nI_le (by omega) (by omega)) y⟩, fun Q hQ => ⟨rfl, fun e1 ee1 => ?_⟩⟩
    have q1 : e1 = (30, 9) := ee1.trans e9
    subst q1
    exact ⟨lk30, fun _ => hQ, fun y => absurd (by show N.1 30 9 0 ≤ nI k; rw [sz]; exact nI_le (by omega) (by omega)) y⟩
  | succ r ih =>
    intro k a hk ha
    have hkn : k < cn t 61 := by omega
    have ck : (nI k).toNatClampNeg = k := nI_clamp (by omega)
    have vk : vp_in (nI k) 4400 := vp_in_nI (by omega) (by decide)
    have n61 : ¬ t 61 0 ≤ nI k := by rw [b61]; exact nI_ge hkn (by omega)
    have nsz : ¬ N.1 30 9 0 ≤ nI k := by rw [sz]; exact nI_ge hkn (by omega)
    have ik : ¬ nI k < 0 ∧ nI k < N.1 30 9 0 := ⟨nI_pos (by omega), by rw [sz]; exact nI_lt hkn (by omega)⟩
    have ic : ¬ nI c < 0 ∧ nI c < N.1 30 9 0 := ⟨nI_pos (by omega), by rw [sz]; exact nI_lt hc (by omega)⟩
    have ek : N.2.1 30 9 k = (21, k) := h.K (9, 21, 61) (by decide) k hkn
    have ec : N.2.1 30 9 c = (21, c) := h.K (9, 21, 61) (by decide) c hc
    have e8 : N.2.1 21 k 8 = rn 21 (t 74 k) := h.R (21, 8, 21, 74, 61) (by decide) k hkn
    have e11 : N.1 21 k 11 = t 69 k := h.I (21, 11, 69, 61) (by decide) k hkn
    have iff1 : rn 21 (t 74 k) = (21, c) ↔ t 74 k = nI c := by
      rcases h.1.j74 hkn with y | ⟨l, l1, y⟩
      · rw [y, rn_m]
        exact ⟨fun v => absurd (congrArg Prod.fst v) (by show ¬ 0 = 21; decide), fun v => absurd v.symm (nI_m1 (by omega))⟩
      · rw [y, rn_j (by omega)]
        refine ⟨fun v => by rw [show l = c from congrArg Prod.snd v], fun v => by rw [(nI_eq (by omega) (by omega)).mp v]⟩
    -- the component's row
    have row : ∀ Q : Int32 → Mem → Prop, (¬ t 74 k = nI c → v_X0_joined_22 (r + 1) (1, 0) (nI c) (nI b) (nI a) (nI (k + 1)) N Q) → (t 74 k = nI c → ((t 69 k = 0 → ((¬ nI a = nI b → v_X0_joined_22 (r + 1) (1, 0) (nI c) (nI b) (nI (a + 1)) (nI (k + 1)) N Q) ∧ (nI a = nI b → Q (nI k) N))) ∧ (¬ t 69 k = 0 → v_X0_joined_22 (r + 1) (1, 0) (nI c) (nI b) (nI a) (nI (k + 1)) N Q))) → v_X0_joined_22 (r + 1 + 1) (1, 0) (nI c) (nI b) (nI a) (nI k) N Q := fun Q hno hyes => by
      refine ⟨rfl, fun e1 ee1 => ?_⟩
      have q1 : e1 = (30, 9) := ee1.trans e9
      subst q1
      refine ⟨lk30, fun y => absurd y nsz, fun _ => ⟨rfl, fun e2 ee2 => ?_⟩⟩
      have q2 : e2 = (30, 9) := ee2.trans e9
      subst q2
      refine ⟨lk30, ik, fun e3 ee3 => ?_⟩
      rw [ck] at ee3
      have q3 : e3 = (21, k) := ee3.trans ek
      subst q3
      refine ⟨rfl, rfl, fun e4 ee4 => ⟨rfl, fun e5 ee5 => ?_⟩⟩
      have q5 : e5 = (30, 9) := ee5.trans e9
      subst q5
      refine ⟨lk30, ic, fun e6 ee6 => ?_⟩
      rw [cc] at ee6
      have q6 : e6 = (21, c) := ee6.trans ec
      have q4 : e4 = rn 21 (t 74 k) := ee4.trans e8
      subst q6; subst q4
      refine ⟨fun y x7 e7 => ?_, fun y => ⟨rfl, fun e8' ee8 => ?_⟩⟩
      · rw [nI_1] at e7
        subst e7
        exact hno (fun v => y (iff1.mpr v))
      · have q8 : e8' = (30, 9) := ee8.trans e9
        subst q8
        refine ⟨lk30, ik, fun e9' ee9 => ?_⟩
        rw [ck] at ee9
        have q9 : e9' = (21, k) := ee9.trans ek
        subst q9
        obtain ⟨y1, y2⟩ := hyes (iff1.mp y)
        refine ⟨rfl, rfl, rfl, fun z => ⟨fun v => absurd rfl v, fun _ x15 e15 => ?_⟩, fun z => ⟨fun _ => ⟨fun z2 x12 e12 x13 e13 => ?_, fun z2 => ?_⟩, fun v => absurd v (by decide)⟩⟩
        · rw [nI_1] at e15
          subst e15
          exact y2 (fun v => z (e11.trans v))
        · rw [nI_1] at e12 e13
          subst e12; subst e13
          exact (y1 (e11.symm.trans z)).1 z2
        · exact (y1 (e11.symm.trans z)).2 z2
    by_cases w1 : t 74 k = nI c
    · by_cases w2 : t 69 k = 0
      · by_cases w3 : a = b
        · subst w3
          refine ⟨nI k, fun Q hQ => ⟨fun y => absurd y n61, fun _ => ⟨vk, ?_⟩⟩, fun Q hQ => row Q (fun v => absurd w1 v) (fun _ => ⟨fun _ => ⟨fun v => absurd rfl v, fun _ => hQ⟩, fun v => absurd w2 v⟩)⟩
          rw [ck]
          exact ⟨fun v => absurd w1 v, fun _ => ⟨vk, fun _ => ⟨fun v => absurd (by rw [Nat.sub_self]; rfl) v, fun _ => hQ⟩, fun v => absurd w2 v⟩⟩
        · obtain ⟨v, v1, v2⟩ := ih (k + 1) (a + 1) (by omega) (by omega)
          have nab : ¬ nI a = nI b := fun e => w3 ((nI_eq (by omega) (by omega)).mp e)
          have ep : nI (b - a) + (-1) = nI (b - (a + 1)) := by
            rw [show b - a = (b - (a + 1)) + 1 from by omega, ← nI_1, Int32.add_assoc]
            rw [show (1 : Int32) + (-1) = 0 from by decide, Int32.add_zero]
          have n0 : ¬ nI (b - a) = 0 := fun e => by
            have := (nI_eq (a := b - a) (b := 0) (by omega) (by omega)).mp e
            omega
          refine ⟨v, fun Q hQ => ⟨fun y => absurd y n61, fun _ => ⟨vk, ?_⟩⟩, fun Q hQ => row Q (fun v => absurd w1 v) (fun _ => ⟨fun _ => ⟨fun _ => v2 Q hQ, fun v => absurd v nab⟩, fun v => absurd w2 v⟩)⟩
          rw [ck]
          refine ⟨fun v => absurd w1 v, fun _ => ⟨vk, fun _ => ⟨fun _ x2 e2 x3 e3 => ?_, fun v => absurd v n0⟩, fun v => absurd w2 v⟩⟩
          rw [ep] at e2
          rw [nI_1] at e3
          subst e2; subst e3
          exact v1 Q hQ
      · obtain ⟨v, v1, v2⟩ := ih (k + 1) a (by omega) ha
        refine ⟨v, fun Q hQ => ⟨fun y => absurd y n61, fun _ => ⟨vk, ?_⟩⟩, fun Q hQ => row Q (fun v => absurd w1 v) (fun _ => ⟨fun v => absurd v w2, fun _ => v2 Q hQ⟩)⟩
        rw [ck]
        refine ⟨fun v => absurd w1 v, fun _ => ⟨vk, fun v => absurd v w2, fun _ x5 e5 => ?_⟩⟩
        rw [nI_1] at e5
        subst e5
        exact v1 Q hQ
    · obtain ⟨v, v1, v2⟩ := ih (k + 1) a (by omega) ha
      refine ⟨v, fun Q hQ => ⟨fun y => absurd y n61, fun _ => ⟨vk, ?_⟩⟩, fun Q hQ => row Q (fun _ => v2 Q hQ) (fun v => absurd v w1)⟩
      rw [ck]
      refine ⟨fun _ x1 e1 => ?_, fun v => absurd v w1⟩
      rw [nI_1] at e1
      subst e1
      exact v1 Q hQ
theorem ap_joined {X : Mem} {m : Nat} {N : Mem} {t : DB} (h : SS X m 60 [] 100000 N t) (x1 x2 : Int32) : APQ (w_joined x1 x2 t) (v_X0_joined (1, 0) x1 x2 N) N t := by
  have hL : N.2.1 1 0 9 = (30, 9) := h.W.1 9 (by decide) (by decide)
  have hs : N.1 30 9 0 = t 61 0 := h.S (9, 61, 0) (by decide)
  obtain ⟨hb, hb2⟩ := h.iB.2.2.2.2.2.2.1
  rcases ix3 x1 (n := cn t 61) (by omega) with hx | ⟨hx0, hx1, hx2, hx3⟩ | ⟨j, hj, rfl, h0, h1, h2, h3, hcl⟩
  · exact ⟨-1, fun Q hQ => by simp [w_joined, hx, hQ], fun Q hQ => by simp [v_X0_joined, v_X0_has, hL, hx, hQ, kt]⟩
  · exact ⟨-1, fun Q hQ => by simp [w_joined, hx0, hb, hx1, hx2, hx3, hQ], fun Q hQ => by simp [v_X0_joined, v_X0_has, hL, hs, hb, hx0, hx1, hx2, hx3, hQ, kt, lk]⟩
  have n61 : ¬ t 61 0 ≤ nI j := by rw [hb]; exact h2
  have hv : ∀ (Q : Int32 → Mem → Prop), ((0 ≤ x2 → ∃ n, v_X0_joined_22 n (1, 0) (nI j) x2 0 0 N Q) ∧ (¬ 0 ≤ x2 → Q (-1) N)) → v_X0_joined (1, 0) (nI j) x2 N Q := fun Q hQ => by
    refine ⟨rfl, fun e1 ee1 => ?_⟩
    have q1 : e1 = (30, 9) := ee1.trans hL
    subst q1
    exact has_c hs (fun v => absurd v (fun v => v.elim h0 n61)) (fun _ _ => ⟨fun v => absurd v (by decide), fun _ => hQ⟩)
  by_cases y : 0 ≤ x2
  · obtain ⟨b, hb31, eb⟩ : ∃ b, b < 2 ^ 31 ∧ x2 = nI b := by
      rcases pk_ix x2 (n := 2 ^ 31 - 1) (by decide) with e | e | ⟨b, b1, b2⟩
      · exact absurd y (Int32.not_le.mpr e)
      · refine ⟨2 ^ 31 - 1, by decide, Int32.le_antisymm ?_ e⟩
        show x2 ≤ Int32.ofNat (2 ^ 31 - 1)
        exact Int32.le_maxValue x2
      · exact ⟨b, by omega, b2⟩
    subst eb
    obtain ⟨v, v1, v2⟩ := joined_l h hj hb31 (cn t 61) 0 0 (by omega) (Nat.zero_le _)
    exact ⟨v, fun Q hQ => ⟨fun v => absurd v h0, fun _ => ⟨fun v => absurd v n61, fun _ => ⟨fun _ => ⟨_, v1 Q hQ⟩, fun v => absurd y v⟩⟩⟩, fun Q hQ => hv Q ⟨fun _ => ⟨_, v2 Q hQ⟩, fun v => absurd y v⟩⟩
  · exact ⟨-1, fun Q hQ => ⟨fun v => absurd v h0, fun _ => ⟨fun v => absurd v n61, fun _ => ⟨fun v => absurd v y, fun _ => hQ⟩⟩⟩, fun Q hQ => hv Q ⟨fun v => absurd v y, fun _ => hQ⟩⟩
theorem cnt9_l {X : Mem} {m : Nat} {N : Mem} {t : DB} (h : SS X m 60 [] 100000 N t) {x1 : Int32} : ∀ r k (a : Int32), k + r = cn t 61 → ∃ v, (∀ Q : Int32 → DB → Prop, Q v t → w_count_123 (r + 1) x1 a (nI k) t Q) ∧ (∀ Q : Int32 → Mem → Prop, Q v N → v_X0_count_150 (r + 1) (1, 0) x1 a (nI k) N Q) := by
  have hn := h.1.nC
  have b61 := h.iB.2.2.2.2.2.2.1.1
  have e9 : N.2.1 1 0 9 = (30, 9) := h.W.1 9 (by decide) (by decide)
  have sz : N.1 30 9 0 = nI (cn t 61) := (h.S (9, 61, 0) (by decide)).trans b61
  have lk30 : lk 30 := ⟨by decide, by decide⟩
  intro r
  induction r with
  | zero =>
    intro k a hk
    refine ⟨a, fun Q hQ => ⟨fun _ => hQ, fun y => absurd (by rw [b61]; exact nI_le (by omega) (by omega)) y⟩, fun Q hQ => ⟨rfl, fun e1 ee1 => ?_⟩⟩
    have q1 : e1 = (30, 9) := ee1.trans e9
    subst q1
    exact ⟨lk30, fun _ => hQ, fun y => absurd (by show N.1 30 9 0 ≤ nI k; rw [sz]; exact nI_le (by omega) (by omega)) y⟩
  | succ r ih =>
    intro k a hk
    have hkn : k < cn t 61 := by omega
    have ck : (nI k).toNatClampNeg = k := nI_clamp (by omega)
    have vk : vp_in (nI k) 4400 := vp_in_nI (by omega) (by decide)
    have n61 : ¬ t 61 0 ≤ nI k := by rw [b61]; exact nI_ge hkn (by omega)
    have nsz : ¬ N.1 30 9 0 ≤ nI k := by rw [sz]; exact nI_ge hkn (by omega)
    have ik : ¬ nI k < 0 ∧ nI k < N.1 30 9 0 := ⟨nI_pos (by omega), by rw [sz]; exact nI_lt hkn (by omega)⟩
    have ek : N.2.1 30 9 k = (21, k) := h.K (9, 21, 61) (by decide) k hkn
    have e6 : N.2.1 21 k 6 = gn t (t 65 k) := (h.C k hkn).1
    have e11 : N.1 21 k 11 = t 69 k := h.I (21, 11, 69, 61) (by decide) k hkn
    have iff1 : gn t (t 65 k) = (0, 0) ↔ ¬ 0 ≤ t 65 k := by
      rcases h.1.grd hkn with y | ⟨g, s, hg, y, hs', hs9⟩
      · rw [y]; exact ⟨fun _ => by decide, fun _ => rfl⟩
      · have h24 : cn t 30 ≤ 24 := h.iB.2.2.2.1.2
        rw [y, gn_j (by omega) hs' hs9]
        exact ⟨fun v => absurd (congrArg Prod.fst v) (by show ¬ 10 + s = 0; omega), fun v => absurd (nI_pos' (by omega)) v⟩
    have row : ∀ (b : Int32) (Q : Int32 → Mem → Prop), ((¬ t 69 k = 0 ∨ (t 69 k = 0 ∧ ¬ x1 = 9 ∧ 0 ≤ t 65 k)) ∧ b = a) ∨ ((t 69 k = 0 ∧ (x1 = 9 ∨ ¬ 0 ≤ t 65 k)) ∧ b = a + 1) → v_X0_count_150 (r + 1) (1, 0) x1 b (nI (k + 1)) N Q → v_X0_count_150 (r + 1 + 1) (1, 0) x1 a (nI k) N Q := fun b Q hb hn => by
      refine ⟨rfl, fun e1 ee1 => ?_⟩
      have q1 : e1 = (30, 9) := ee1.trans e9
      subst q1
      refine ⟨lk30, fun y => absurd y nsz, fun _ => ⟨rfl, fun e2 ee2 => ?_⟩⟩
      have q2 : e2 = (30, 9) := ee2.trans e9
      subst q2
      refine ⟨lk30, ik, fun e3 ee3 => ?_⟩
      rw [ck] at ee3
      have q3 : e3 = (21, k) := ee3.trans ek
      subst q3
      refine ⟨rfl, rfl, rfl, fun z => ⟨fun _ x6 e6' => ?_, fun v => absurd rfl v⟩, fun z => ⟨fun v => absurd v (by decide), fun _ => ⟨fun z2 x7 e7 x8 e8 => ?_, fun z2 => ⟨rfl, fun e9' ee9 => ?_⟩⟩⟩⟩
      · have z' : ¬ t 69 k = 0 := fun v => z (e11.trans v)
        rw [nI_1] at e6'
        subst e6'
        rcases hb with ⟨-, w⟩ | ⟨⟨w, -⟩, -⟩
        · rw [← w]; exact hn
        · exact absurd w z'
      · have z' : t 69 k = 0 := e11.symm.trans z
        rw [nI_1] at e8
        subst e7; subst e8
        rcases hb with ⟨w | ⟨-, w, -⟩, -⟩ | ⟨-, w⟩
        · exact absurd z' w
        · exact absurd z2 w
        · rw [← w]; exact hn
      · have z' : t 69 k = 0 := e11.symm.trans z
        have q9 : e9' = (30, 9) := ee9.trans e9
        subst q9
        refine ⟨lk30, ik, fun e10 ee10 => ?_⟩
        rw [ck] at ee10
        have q10 : e10 = (21, k) := ee10.trans ek
        subst q10
        refine ⟨rfl, rfl, fun e11' ee11 => ?_⟩
        have q11 : e11' = gn t (t 65 k) := ee11.trans e6
        subst q11
        refine ⟨fun z3 x12 e12 => ?_, fun z3 x13 e13 x14 e14 => ?_⟩
        · rw [nI_1] at e12
          subst e12
          have z3' : 0 ≤ t 65 k := Classical.byContradiction fun v => z3 (iff1.mpr v)
          rcases hb with ⟨-, w⟩ | ⟨⟨-, w | w⟩, -⟩
          · rw [← w]; exact hn
          · exact absurd w z2
          · exact absurd z3' w
        · rw [nI_1] at e14
          subst e13; subst e14
          have z3' := iff1.mp z3
          rcases hb with ⟨w | ⟨-, -, w⟩, -⟩ | ⟨-, w⟩
          · exact absurd z' w
          · exact absurd w z3'
          · rw [← w]; exact hn
    by_cases w1 : t 69 k = 0
    · by_cases w2 : x1 = 9 ∨ ¬ 0 ≤ t 65 k
      · obtain ⟨v, v1, v2⟩ := ih (k + 1) (a + 1) (by omega)
        refine ⟨v, fun Q hQ => ⟨fun y => absurd y n61, fun _ => ⟨vk, ?_⟩⟩, fun Q hQ => row (a + 1) Q (Or.inr ⟨⟨w1, w2⟩, rfl⟩) (v2 Q hQ)⟩
        have nx : w_count_156 (fun z1 z2 z3 t => w_count_123 (r + 1) z1 z2 z3 t Q) x1 (nI k) a t Q := fun x1' e1 x2 e2 => by
          rw [nI_1] at e2
          subst e1; subst e2
          exact v1 Q hQ
        rw [ck]
        refine ⟨fun v => absurd w1 v, fun _ => ⟨fun _ => nx, fun w3 => ⟨vk, fun w4 => ?_, fun _ => nx⟩⟩⟩
        rcases w2 with w2 | w2
        · exact absurd w2 w3
        · exact absurd w4 w2
      · have w3 : ¬ x1 = 9 := fun v => w2 (Or.inl v)
        have w4 : 0 ≤ t 65 k := Classical.byContradiction fun v => w2 (Or.inr v)
        obtain ⟨v, v1, v2⟩ := ih (k + 1) a (by omega)
        refine ⟨v, fun Q hQ => ⟨fun y => absurd y n61, fun _ => ⟨vk, ?_⟩⟩, fun Q hQ => row a Q (Or.inl ⟨Or.inr ⟨w1, w3, w4⟩, rfl⟩) (v2 Q hQ)⟩
        rw [ck]
        refine ⟨fun v => absurd w1 v, fun _ => ⟨fun v => absurd v w3, fun _ => ⟨vk, fun _ x3 e3 x4 e4 => ?_, fun v => absurd w4 v⟩⟩⟩
        rw [Int32.add_zero] at e3
        rw [nI_1] at e4
        subst e3; subst e4
        exact v1 Q hQ
    · obtain ⟨v, v1, v2⟩ := ih (k + 1) a (by omega)
      refine ⟨v, fun Q hQ => ⟨fun y => absurd y n61, fun _ => ⟨vk, ?_⟩⟩, fun Q hQ => row a Q (Or.inl ⟨Or.inl w1, rfl⟩) (v2 Q hQ)⟩
      rw [ck]
      refine ⟨fun _ x3 e3 x4 e4 => ?_, fun v => absurd v w1⟩
      rw [Int32.add_zero] at e3
      rw [nI_1] at e4
      subst e3; subst e4
      exact v1 Q hQ
theorem cnt11_l {X : Mem} {m : Nat} {N : Mem} {t : DB} (h : SS X m 60 [] 100000 N t) : ∀ r k (a : Int32), k + r = cn t 50 → ∃ v, (∀ Q : Int32 → DB → Prop, Q v t → w_count_173 (r + 1) a (nI k) t Q) ∧ (∀ Q : Int32 → Mem → Prop, Q v N → v_X0_count_214 (r + 1) (1, 0) a (nI k) N Q) := by
  obtain ⟨b50, hn⟩ := h.iB.2.2.2.2.2.1
  have e9 : N.2.1 1 0 8 = (30, 8) := h.W.1 8 (by decide) (by decide)
  have sz : N.1 30 8 0 = nI (cn t 50) := (h.S (8, 50, 0) (by decide)).trans b50
  have lk30 : lk 30 := ⟨by decide, by decide⟩
  intro r
  induction r with
  | zero =>
    intro k a hk
    refine ⟨a, fun Q hQ => ⟨fun _ => hQ, fun y => absurd (by rw [b50]; exact nI_le (by omega) (by omega)) y⟩, fun Q hQ => ⟨rfl, fun e1 ee1 => ?_⟩⟩
    have q1 : e1 = (30, 8) := ee1.trans e9
    subst q1
    exact ⟨lk30, fun _ => hQ, fun y => absurd (by show N.1 30 8 0 ≤ nI k; rw [sz]; exact nI_le (by omega) (by omega)) y⟩
  | succ r ih =>
    intro k a hk
    have hkn : k < cn t 50 := by omega
    have ck : (nI k).toNatClampNeg = k := nI_clamp (by omega)
    have vk : vp_in (nI k) 60 := vp_in_nI (by omega) (by decide)
    have n61 : ¬ t 50 0 ≤ nI k := by rw [b50]; exact nI_ge hkn (by omega)
    have nsz : ¬ N.1 30 8 0 ≤ nI k := by rw [sz]; exact nI_ge hkn (by omega)
    have ik : ¬ nI k < 0 ∧ nI k < N.1 30 8 0 := ⟨nI_pos (by omega), by rw [sz]; exact nI_lt hkn (by omega)⟩
    have ek : N.2.1 30 8 k = (20, k) := h.K (8, 20, 50) (by decide) k hkn
    have row : ∀ (b : Int32) (Q : Int32 → Mem → Prop), (¬ t 58 k = 0 ∧ b = a) ∨ (t 58 k = 0 ∧ b = a + 1) → v_X0_count_214 (r + 1) (1, 0) b (nI (k + 1)) N Q → v_X0_count_214 (r + 1 + 1) (1, 0) a (nI k) N Q := fun b Q hb hn => by
      refine ⟨rfl, fun e1 ee1 => ?_⟩
      have q1 : e1 = (30, 8) := ee1.trans e9
      subst q1
      refine ⟨lk30, fun y => absurd y nsz, fun _ => ⟨rfl, fun e2 ee2 => ?_⟩⟩
      have q2 : e2 = (30, 8) := ee2.trans e9
      subst q2
      refine ⟨lk30, ik, fun e3 ee3 => ?_⟩
      rw [ck] at ee3
      have q3 : e3 = (20, k) := ee3.trans ek
      subst q3
      refine ⟨rfl, rfl, outc_c h.1 hkn ⟨fun z x6 e6 => ?_, fun z x7 e7 x8 e8 => ?_⟩⟩
      · rw [nI_1] at e6
        subst e6
        rcases hb with ⟨-, w⟩ | ⟨w, -⟩
        · rw [← w]; exact hn
        · exact absurd w z
      · rw [nI_1] at e8
        subst e7; subst e8
        rcases hb with ⟨w, -⟩ | ⟨-, w⟩
        · exact absurd z w
        · rw [← w]; exact hn
    by_cases w1 : t 58 k = 0
    · obtain ⟨v, v1, v2⟩ := ih (k + 1) (a + 1) (by omega)
      refine ⟨v, fun Q hQ => ⟨fun y => absurd y n61, fun _ => ⟨vk, ?_⟩⟩, fun Q hQ => row (a + 1) Q (Or.inr ⟨w1, rfl⟩) (v2 Q hQ)⟩
      rw [ck]
      refine ⟨fun v => absurd w1 v, fun _ x3 e3 x4 e4 => ?_⟩
      rw [nI_1] at e4
      subst e3; subst e4
      exact v1 Q hQ
    · obtain ⟨v, v1, v2⟩ := ih (k + 1) a (by omega)
      refine ⟨v, fun Q hQ => ⟨fun y => absurd y n61, fun _ => ⟨vk, ?_⟩⟩, fun Q hQ => row a Q (Or.inl ⟨w1, rfl⟩) (v2 Q hQ)⟩
      rw [ck]
      refine ⟨fun _ x3 e3 x4 e4 => ?_, fun v => absurd v w1⟩
      rw [Int32.add_zero] at e3
      rw [nI_1] at e4
      subst e3; subst e4
      exact v1 Q hQ
theorem cnt14_l {X : Mem} {m : Nat} {N : Mem} {t : DB} (h : SS X m 60 [] 100000 N t) : ∀ r k (a : Int32), k + r = cn t 103 → ∃ v, (∀ Q : Int32 → DB → Prop, Q v t → w_count_221 (r + 1) a (nI k) t Q) ∧ (∀ Q : Int32 → Mem → Prop, Q v N → v_X0_count_271 (r + 1) (1, 0) a (nI k) N Q) := by
  obtain ⟨b103, hn⟩ := h.iB.2.2.2.2.2.2.2.2.2.2.1
  have e9 : N.2.1 1 0 13 = (30, 13) := h.W.1 13 (by decide) (by decide)
  have sz : N.1 30 13 0 = nI (cn t 103) := (h.S (13, 103, 0) (by decide)).trans b103
  have lk30 : lk 30 := ⟨by decide, by decide⟩
  intro r
  induction r with
  | zero =>
    intro k a hk
    refine ⟨a, fun Q hQ => ⟨fun _ => hQ, fun y => absurd (by rw [b103]; exact nI_le (by omega) (by omega)) y⟩, fun Q hQ => ⟨rfl, fun e1 ee1 => ?_⟩⟩
    have q1 : e1 = (30, 13) := ee1.trans e9
    subst q1
    exact ⟨lk30, fun _ => hQ, fun y => absurd (by show N.1 30 13 0 ≤ nI k; rw [sz]; exact nI_le (by omega) (by omega)) y⟩
  | succ r ih =>
    intro k a hk
    have hkn : k < cn t 103 := by omega
    have ck : (nI k).toNatClampNeg = k := nI_clamp (by omega)
    have vk : vp_in (nI k) 10 := vp_in_nI (by omega) (by decide)
    have n61 : ¬ t 103 0 ≤ nI k := by rw [b103]; exact nI_ge hkn (by omega)
    have nsz : ¬ N.1 30 13 0 ≤ nI k := by rw [sz]; exact nI_ge hkn (by omega)
    have ik : ¬ nI k < 0 ∧ nI k < N.1 30 13 0 := ⟨nI_pos (by omega), by rw [sz]; exact nI_lt hkn (by omega)⟩
    obtain ⟨s, a1, a2, ek, a4, -⟩ := h.A k hkn
    have hak : ak (25 + s) := ⟨by omega, by omega⟩
    have row : ∀ (b : Int32) (Q : Int32 → Mem → Prop), (t 109 k = 0 ∧ b = a) ∨ (¬ t 109 k = 0 ∧ b = a + 1) → v_X0_count_271 (r + 1) (1, 0) b (nI (k + 1)) N Q → v_X0_count_271 (r + 1 + 1) (1, 0) a (nI k) N Q := fun b Q hb hn => by
      refine ⟨rfl, fun e1 ee1 => ?_⟩
      have q1 : e1 = (30, 13) := ee1.trans e9
      subst q1
      refine ⟨lk30, fun y => absurd y nsz, fun _ => ⟨rfl, fun e2 ee2 => ?_⟩⟩
      have q2 : e2 = (30, 13) := ee2.trans e9
      subst q2
      refine ⟨lk30, ik, fun e3 ee3 => ?_⟩
      rw [ck] at ee3
      have q3 : e3 = (25 + s, k) := ee3.trans ek
      subst q3
      refine ⟨hak, hak, fun z x6 e6 => ?_, fun z x7 e7 x8 e8 => ?_⟩
      · have z' : t 109 k = 0 := a4.symm.trans z
        rw [nI_1] at e6
        subst e6
        rcases hb with ⟨-, w⟩ | ⟨w, -⟩
        · rw [← w]; exact hn
        · exact absurd z' w
      · have z' : ¬ t 109 k = 0 := fun v => z (a4.trans v)
        rw [nI_1] at e8
        subst e7; subst e8
        rcases hb with ⟨w, -⟩ | ⟨-, w⟩
        · exact absurd w z'
        · rw [← w]; exact hn
    by_cases w1 : t 109 k = 0
    · obtain ⟨v, v1, v2⟩ := ih (k + 1) a (by omega)
      refine ⟨v, fun Q hQ => ⟨fun y => absurd y n61, fun _ => ⟨vk, ?_⟩⟩, fun Q hQ => row a Q (Or.inl ⟨w1, rfl⟩) (v2 Q hQ)⟩
      rw [ck]
      refine ⟨fun _ x3 e3 x4 e4 => ?_, fun v => absurd w1 v⟩
      rw [Int32.add_zero] at e3
      rw [nI_1] at e4
      subst e3; subst e4
      exact v1 Q hQ
    · obtain ⟨v, v1, v2⟩ := ih (k + 1) (a + 1) (by omega)
      refine ⟨v, fun Q hQ => ⟨fun y => absurd y n61, fun _ => ⟨vk, ?_⟩⟩, fun Q hQ => row (a + 1) Q (Or.inr ⟨w1, rfl⟩) (v2 Q hQ)⟩
      rw [ck]
      refine ⟨fun v => absurd v w1, fun _ x3 e3 x4 e4 => ?_⟩
      rw [nI_1] at e4
      subst e3; subst e4
      exact v1 Q hQ
