set_option maxRecDepth 100000
/-! a retry is told -/
noncomputable def supT (t : DB) (S : Nat → Prop) (v : Nat) : DB := fun f i => @ite _ (f = 29 ∧ S i ∧ i ≠ v ∧ t 29 i = -1) (Classical.propDecidable _) (nI v) (t f i)
theorem supT_TF {t : DB} {S : Nat → Prop} {v : Nat} : TF t (supT t S v) [29] := fun f hf => by
  funext i
  exact if_neg (fun e => hf (by rw [e.1]; decide))
theorem supT_0 {t : DB} {S : Nat → Prop} {v : Nat} (h : ∀ i, ¬ S i) : supT t S v = t := by
  funext f i
  exact if_neg (fun e => h i e.2.1)
theorem supT_c {t : DB} {S S' : Nat → Prop} {v : Nat} (h : ∀ i, S i ↔ S' i) : supT t S v = supT t S' v := by
  have : S = S' := funext (fun i => propext (h i))
  rw [this]
theorem supT_1 {t : DB} {S : Nat → Prop} {v f : Nat} (hv : v < 2 ^ 31) (hf : f ≠ v) (h : supT t S v 29 f = -1) : up (supT t S v) 29 f (nI v) = supT t (fun i => S i ∨ i = f) v := by
  have h29 : t 29 f = -1 := by
    unfold supT at h
    split at h
    · exact absurd h (nI_m1 hv)
    · exact h
  funext c i
  unfold up
  by_cases e : c = 29 ∧ i = f
  · rw [if_pos e]
    obtain ⟨rfl, rfl⟩ := e
    exact (if_pos ⟨rfl, Or.inr rfl, hf, h29⟩).symm
  · rw [if_neg e]
    unfold supT
    by_cases y : c = 29 ∧ S i ∧ i ≠ v ∧ t 29 i = -1
    · rw [if_pos y, if_pos ⟨y.1, Or.inl y.2.1, y.2.2⟩]
    · rw [if_neg y, if_neg (fun w => by
        rcases w.2.1 with w1 | w1
        · exact y ⟨w.1, w1, w.2.2⟩
        · exact e ⟨w.1, w1⟩)]
theorem supT_2 {t : DB} {S : Nat → Prop} {v f : Nat} (h : f = v ∨ supT t S v 29 f ≠ -1) : supT t (fun i => S i ∨ i = f) v = supT t S v := by
  funext c i
  unfold supT
  by_cases y : c = 29 ∧ S i ∧ i ≠ v ∧ t 29 i = -1
  · rw [if_pos y, if_pos ⟨y.1, Or.inl y.2.1, y.2.2⟩]
  · rw [if_neg y]
    by_cases w : c = 29 ∧ (S i ∨ i = f) ∧ i ≠ v ∧ t 29 i = -1
    · exfalso
      obtain ⟨w1, w2, w3, w4⟩ := w
      rcases w2 with w2 | w2
      · exact y ⟨w1, w2, w3, w4⟩
      · subst w2
        rcases h with h | h
        · exact w3 h
        · apply h
          unfold supT
          rw [if_neg (fun z => y ⟨w1, z.2.1, z.2.2⟩)]
          exact w4
    · rw [if_neg w]
/-- one failure is suppressed by another, or not -/
theorem sup_step {X : Mem} {m z : Nat} {P : List Nat} {x : Nat} {N : Mem} {t : DB} {S : Nat → Prop} {v f : Nat} (h : SZ X m z P x N (supT t S v)) (hv : v < cn t 23) (hf : f < cn t 23) {Q : Mem → Prop} (hQ : ∀ N', SZ X m z P x N' (supT t (fun i => S i ∨ i = f) v) → N'.2.1 31 = N.2.1 31 → Q N') : v_X17_suppressed (22, f) (22, v) N Q := by
  have hb := (nF_b h).2
  have h23 : cn (supT t S v) 23 = cn t 23 := supT_TF.cn (by decide)
  rw [h23] at hb
  have e6 : N.2.1 22 f 6 = rn 22 (supT t S v 29 f) := h.R (22, 6, 22, 29, 23) (by decide) f (by rw [h23]; exact hf)
  have hx := (h.iX f (by rw [h23]; exact hf)).2.2
  refine ⟨rfl, fun e1 ee1 => ⟨fun w => ?_, fun w => ⟨fun w2 => ?_, fun w2 => ⟨rfl, fun M2 g2 => ?_⟩⟩⟩⟩
  · have : supT t S v 29 f ≠ -1 := fun y => w (by rw [ee1]; exact e6.trans (by rw [y]; rfl))
    exact hQ N (by rw [supT_2 (Or.inr this)]; exact h) rfl
  · have : f = v := (congrArg Prod.snd w2).symm
    exact hQ N (by rw [supT_2 (Or.inl this)]; exact h) rfl
  · subst g2
    have hm : supT t S v 29 f = -1 := by
      rcases hx with y | ⟨i, hi, y⟩
      · exact y
      · exfalso
        rw [h23] at hi
        rw [w] at ee1
        have := ee1.trans e6
        rw [y, rn_j (by omega)] at this
        exact absurd (congrArg Prod.fst this) (by show ¬ (0 = 22); decide)
    have hne : f ≠ v := fun y => w2 (by rw [y])
    have := h.sup (f := f) (v := v) (by rw [h23]; exact hv)
    rw [supT_1 (by omega) hne hm] at this
    exact hQ _ this (by funext i' f'; exact sR_ne (by simp))
theorem SZ.within {X : Mem} {m z : Nat} {P : List Nat} {x : Nat} {N : Mem} {t : DB} (h : SZ X m z P x N t) {p : Nat} (hp : p < cn t 61) : ∃ nn, nn ≤ 6 ∧ t 73 p = nI nn ∧ N.2.1 21 p 7 = (31, p) ∧ N.1 31 p 0 = nI nn := by
  obtain ⟨nn, h1, h2⟩ := (h.iH p hp).2.2.2.2.2.2.2.2.2
  exact ⟨nn, h1, h2, (h.C p hp).2.1, (h.I (31, 0, 73, 61) (by decide) p hp).trans h2⟩
theorem lk31 : lk 31 := ⟨by decide, by decide⟩
theorem told_4 {b dp n : Nat} (hE : CE b dp n) {X : Mem} {m z : Nat} {P : List Nat} {N : Mem} {t : DB} {h p c g : Nat} (q : CTP b dp X m z P N t h p c g 4) : CTG b (n + 2) X m z P N t h p c g 4 := by
  have F := q.F
  have hn := F.hn
  have hg2 := F.hg2
  have hp := F.hp
  have hc := F.hc
  have hg := F.hg
  have hch := q.ch (by decide)
  have hSB : SBc 4 p c t := q.2.2.2.2.2.2.2.2.2.2.2.2.2.1
  have c1 : (nI p).toNatClampNeg = p := nI_clamp (by omega)
  have c2 : (nI c).toNatClampNeg = c := nI_clamp (by omega)
  have c3 : (nI g).toNatClampNeg = g := nI_clamp (by omega)
  have v1 : vp_in (nI p) 4400 := vp_in_nI (by omega) (by decide)
  have v2 : vp_in (nI c) 4400 := vp_in_nI (by omega) (by decide)
  have v3 : vp_in (nI g) 24 := vp_in_nI (by omega) (by decide)
  have nl : N.2.1 14 g 7 = (1, 0) := F.nl
  have n2 : N.1 14 g 2 = t 32 g := F.n2
  have n3 : N.1 14 g 3 = t 33 g := F.n3
  have n4 : N.1 14 g 4 = t 34 g := F.n4
  have tm : N.1 1 0 0 = t 0 0 := F.hS.W.2.1
  obtain ⟨a, ha1, ha2, ha3, ha4⟩ : ∃ a, 2 ≤ a ∧ a ≤ 6 ∧ t 32 g = nI a ∧ (t 34 g = 0 ∨ t 34 g = 1) := by
    obtain ⟨s', a1, a2, a3, -, -, -, a4, -⟩ := F.hS.iG g hg
    exact a4 ((nI_eq (by omega) (by omega)).mp (a2.symm.trans F.h31))
  obtain ⟨nn, hnn, e73, w7, ws⟩ := F.hS.within hp
  have hnn0 : nn ≠ 0 := fun e => F.hS.inner hp hc F.h64 (by rw [e73, e]; rfl)
  obtain ⟨V1, V2, V3, -⟩ := F.hS.V p hp
  rw [e73, nI_clamp (by omega)] at V1 V2 V3
  -- c lies last
  obtain ⟨jc, hjc, ejc⟩ := V2 c hc F.h64
  have hlast : jc = nn - 1 := by
    by_cases y : jc < nn - 1
    · exfalso
      obtain ⟨k, hk, e1, e2⟩ := V1 (nn - 1) (by omega)
      have := V3 jc (nn - 1) c k y (by omega) ejc e1
      rcases hSB k hk (by omega) e2 with ⟨w, -⟩ | ⟨-, w, -⟩
      · exact absurd w (by decide)
      · omega
    · omega
  have br : ∀ K : DB → Prop, w_retryTold (nI p) (nI c) (nI g) t K → w_told (nI p) (nI c) t K := fun K hK =>
    w_told_br (by omega) (by omega) (by omega) F.h65 F.h31 F.hs (fun e => by omega) (fun e => by omega) (fun e => by omega) (fun e => by omega) (fun _ => hK) (fun e => by omega) (fun e => by omega) (fun e => by omega) (fun e => by omega) (fun e => by omega)
  have e61 : t 61 0 = nI (cn t 61) := F.hS.iB.2.2.2.2.2.2.1.1
  -- the loops
  have LP : ∀ (K0 : (DB → Prop) → Prop), (∀ K : DB → Prop, (∃ n_, w_retryTold_80 n_ (nI p) (nI c) 0 t K) → K0 K → w_retryTold (nI p) (nI c) (nI g) t K) → (∀ K, K0 K) → ∃ n_, v_X9_told_67 (n + 1) n_ (14, g) (21, p) (21, c) (nI nn) 0 N (TG b X m z P t h p c) := by
    intro K0 hK0 hK1
    by_cases w2 : t 69 c = 2
    · obtain ⟨v, hv, ev⟩ := (F.hS.iH c hc).2.1 w2
      have hF := (nF_b F.hS).2
      have cv : (t 70 c).toNatClampNeg = v := by rw [ev]; exact nI_clamp (by omega)
      -- the reference's loop
      have ML : ∀ (r j : Nat), j + r = cn t 61 → ∀ K : DB → Prop, w_alike (nI p) (nI c) (supT t (fun i => ∃ k, k < cn t 61 ∧ t 64 k = nI p ∧ k ≠ c ∧ i < 5000 ∧ t 70 k = nI i) v) K → w_retryTold_80 (r + 1) (nI p) (nI c) (nI j) (supT t (fun i => ∃ k, k < j ∧ t 64 k = nI p ∧ k ≠ c ∧ i < 5000 ∧ t 70 k = nI i) v) K := by
        intro r
        induction r with
        | zero =>
          intro j hj K hK
          have : j = cn t 61 := by omega
          subst this
          refine ⟨fun _ => hK, fun y => absurd ?_ y⟩
          rw [supT_TF 61 (by decide), e61]
          exact nI_le (Nat.le_refl _) (by omega)
        | succ r ih =>
          intro j hj K hK
          have hjl : j < cn t 61 := by omega
          have cj : (nI j).toNatClampNeg = j := nI_clamp (by omega)
          have vj : vp_in (nI j) 4400 := vp_in_nI (by omega) (by decide)
          have IH := ih (j + 1) (by omega) K hK
          have nx : ∀ x : Int32, x = nI j + 1 → x = nI (j + 1) := fun x e => e.trans (nI_1 j)
          have same : ∀ S' : Nat → Prop, (∀ i, S' i ↔ ∃ k, k < j + 1 ∧ t 64 k = nI p ∧ k ≠ c ∧ i < 5000 ∧ t 70 k = nI i) → w_retryTold_80 (r + 1) (nI p) (nI c) (nI (j + 1)) (supT t S' v) K := fun S' hS' => by rw [supT_c hS']; exact IH
          refine ⟨fun y => absurd y ?_, fun _ => ⟨v2, ?_⟩⟩
          · rw [supT_TF 61 (by decide), e61]
            exact nI_ge hjl (by omega)
          rw [supT_TF 69 (by decide), supT_TF 70 (by decide), supT_TF 64 (by decide), c2, cj]
          refine ⟨fun y => absurd w2 y, fun _ => ⟨vj, fun y => fun x ex => ?_, fun y => ⟨fun y2 => fun x ex => ?_, fun y2 => ⟨vj, fun y3 => ⟨vj, fun x7 ex7 => ⟨v2, ?_⟩⟩, fun y3 => fun x ex => ?_⟩⟩⟩⟩
          · rw [nx x ex]
            refine same _ (fun i => ⟨fun ⟨k, h1, h2⟩ => ⟨k, by omega, h2⟩, fun ⟨k, h1, h2, h3⟩ => ?_⟩)
            by_cases e : k = j
            · subst e; exact absurd h2 y
            · exact ⟨k, by omega, h2, h3⟩
          · rw [nx x ex]
            refine same _ (fun i => ⟨fun ⟨k, h1, h2⟩ => ⟨k, by omega, h2⟩, fun ⟨k, h1, h2, h3, h4⟩ => ?_⟩)
            by_cases e : k = j
            · subst e; exact absurd ((nI_eq (by omega) (by omega)).mp y2) h3
            · exact ⟨k, by omega, h2, h3, h4⟩
          · have hjc' : j ≠ c := fun e => y2 (by rw [e])
            obtain ⟨f, hf, ef⟩ := (F.hS.iH j hjl).2.1 y3
            have q7 : x7 = nI f := ex7.trans ef
            subst q7
            have cf : (nI f).toNatClampNeg = f := nI_clamp (by omega)
            have vf : vp_in (nI f) 4400 := vp_in_nI (by omega) (by decide)
            have hst : ∀ i, ((∃ k, k < j ∧ t 64 k = nI p ∧ k ≠ c ∧ i < 5000 ∧ t 70 k = nI i) ∨ i = f) ↔ ∃ k, k < j + 1 ∧ t 64 k = nI p ∧ k ≠ c ∧ i < 5000 ∧ t 70 k = nI i := by
              intro i
              constructor
              · rintro (⟨k, h1, h2⟩ | e)
                · exact ⟨k, by omega, h2⟩
                · subst e; exact ⟨j, by omega, y, hjc', by omega, ef⟩
              · rintro ⟨k, h1, h2, h3, h4⟩
                by_cases e : k = j
                · subst e
                  exact Or.inr ((nI_eq (by omega) (by omega)).mp (h4.2.symm.trans ef))
                · exact Or.inl ⟨k, by omega, h2, h3, h4⟩
            rw [cf]
            refine ⟨fun y4 x ex => ?_, fun y4 => ⟨vf, fun y5 x ex => ?_, fun y5 => ⟨v2, vf, fun t10 e10 x ex => ?_⟩⟩⟩
            · rw [nx x ex, ← supT_2 (f := f) (Or.inl ((nI_eq (by omega) (by omega)).mp (y4.trans ev)))]
              exact same _ hst
            · rw [nx x ex, ← supT_2 (f := f) (Or.inr y5)]
              exact same _ hst
            · rw [nx x ex]
              rw [ev, supT_1 (by omega) (fun e => y4 (by rw [e, ev])) y5] at e10
              subst e10
              exact same _ hst
          · have : t 69 j ≠ 2 := y3
            rw [nx x ex]
            refine same _ (fun i => ⟨fun ⟨k, h1, h2⟩ => ⟨k, by omega, h2⟩, fun ⟨k, h1, h2, h3, h4⟩ => ?_⟩)
            by_cases e : k = j
            · subst e
              rcases hSB k hjl h3 h2 with ⟨w, -⟩ | ⟨-, -, w⟩
              · exact absurd w (by decide)
              · exact absurd w this
            · exact ⟨k, by omega, h2, h3, h4⟩
      -- the component's loop
      have CL : ∀ (r j : Nat), j + r = nn - 1 → ∀ N1, SZ X m z P p N1 (supT t (fun i => ∃ l k, l < j ∧ k < cn t 61 ∧ N.2.1 31 p l = (21, k) ∧ i < 5000 ∧ t 70 k = nI i) v) → N1.2.1 31 = N.2.1 31 → v_X9_told_67 (n + 1) (r + 1) (14, g) (21, p) (21, c) (nI nn) (nI j) N1 (TG b X m z P t h p c) := by
        intro r
        induction r with
        | zero =>
          intro j hj N1 hS1 hN1
          have e1 : supT t (fun i => ∃ l k, l < j ∧ k < cn t 61 ∧ N.2.1 31 p l = (21, k) ∧ i < 5000 ∧ t 70 k = nI i) v = supT t (fun i => ∃ k, k < cn t 61 ∧ t 64 k = nI p ∧ k ≠ c ∧ i < 5000 ∧ t 70 k = nI i) v := by
            refine supT_c (fun i => ⟨fun ⟨l, k, h1, h2, h3, h4⟩ => ⟨k, h2, ?_, ?_, h4⟩, fun ⟨k, h2, h3, h4, h5⟩ => ?_⟩)
            · obtain ⟨k', hk', e1, e2⟩ := V1 l (by omega)
              have : k = k' := congrArg Prod.snd (h3.symm.trans e1)
              rw [this]; exact e2
            · intro e
              subst e
              have := V3 l jc k k (by omega) hjc h3 ejc
              omega
            · obtain ⟨l, hl, el⟩ := V2 k h2 h3
              refine ⟨l, k, ?_, h2, el, h5⟩
              by_cases y : l = jc
              · subst y
                exact absurd (congrArg Prod.snd (el.symm.trans ejc)) h4
              · omega
          rw [e1] at hS1
          have hA := told_al hE q (by decide) hS1 supT_TF (MO.of supT_TF (by decide)) (by decide)
          have nl1 : N1.2.1 14 g 7 = (1, 0) := by
            obtain ⟨s', a1, a2, -, -, -, -, -, -, -, -, a11⟩ := hS1.G g (by rw [supT_TF.cn (by decide)]; exact hg)
            rw [supT_TF 31 (by decide)] at a2
            have : s' = 4 := (nI_eq (by omega) (by omega)).mp (a2.symm.trans F.h31)
            subst this
            exact a11
          refine ⟨fun _ => ⟨rfl, fun e ee => ?_⟩, fun y => absurd ?_ y⟩
          · have : e = (1, 0) := ee.trans nl1
            subst this
            refine ⟨rfl, told_fin (fun K hK => br K (hK0 K ⟨cn t 61 + 1, ?_⟩ (hK1 K))) hA.2⟩
            have := ML (cn t 61) 0 (by omega) K (hA.1 K hK)
            rw [supT_0 (fun i ⟨k, hk, _⟩ => absurd hk (Nat.not_lt_zero _))] at this
            exact this
          · rw [show nI nn - 1 = nI (nn - 1) from by
              rw [show nn = (nn - 1) + 1 from by omega, nI_pred]; rfl]
            exact nI_le (by omega) (by omega)
        | succ r ih =>
          intro j hj N1 hS1 hN1
          have cj : (nI j).toNatClampNeg = j := nI_clamp (by omega)
          have e61' : cn (supT t (fun i => ∃ l k, l < j ∧ k < cn t 61 ∧ N.2.1 31 p l = (21, k) ∧ i < 5000 ∧ t 70 k = nI i) v) 61 = cn t 61 := supT_TF.cn (by decide)
          obtain ⟨k, hk, ek, ek2⟩ := V1 j (by omega)
          have hkc : k ≠ c := fun e => by
            subst e
            have := V3 j jc k k (by omega) hjc ek ejc
            omega
          have h2k : t 69 k = 2 := by
            rcases hSB k hk hkc ek2 with ⟨w, -⟩ | ⟨-, -, w⟩
            · exact absurd w (by decide)
            · exact w
          obtain ⟨f, hf, ef⟩ := (F.hS.iH k hk).2.1 h2k
          have C1 := hS1.C p (by rw [e61']; exact hp)
          have Cc := hS1.C c (by rw [e61']; exact hc)
          have Ck := hS1.C k (by rw [e61']; exact hk)
          have e11 : N1.1 21 c 11 = 2 := (hS1.I (21, 11, 69, 61) (by decide) c (by rw [e61']; exact hc)).trans (by show supT _ _ _ 69 c = 2; rw [supT_TF 69 (by decide)]; exact w2)
          have ws1 : N1.1 31 p 0 = nI nn := (hS1.I (31, 0, 73, 61) (by decide) p (by rw [e61']; exact hp)).trans (by show supT _ _ _ 73 p = _; rw [supT_TF 73 (by decide)]; exact e73)
          have ecc := Cc.2.2.2
          rw [supT_TF 69 (by decide), supT_TF 70 (by decide), if_pos w2, ev, rn_j (by omega)] at ecc
          have eck := Ck.2.2.2
          rw [supT_TF 69 (by decide), supT_TF 70 (by decide), if_pos h2k, ef, rn_j (by omega)] at eck
          refine ⟨fun y => absurd y ?_, fun _ => ⟨rfl, fun y => absurd e11 y, fun _ => ⟨rfl, fun e7 ee7 => ?_⟩⟩⟩
          · rw [show nI nn - 1 = nI (nn - 1) from by
              rw [show nn = (nn - 1) + 1 from by omega, nI_pred]; rfl]
            exact nI_ge (by omega) (by omega)
          · have : e7 = (31, p) := ee7.trans C1.2.1
            subst this
            refine ⟨lk31, ⟨nI_pos (by omega), ?_⟩, fun e8 ee8 => ?_⟩
            · show nI j < N1.1 31 p 0
              rw [ws1]; exact nI_lt (by omega) (by omega)
            rw [cj] at ee8
            have : e8 = (21, k) := ee8.trans (by show N1.2.1 31 p j = _; rw [hN1]; exact ek)
            subst this
            refine ⟨rfl, rfl, fun e9 ee9 => ⟨rfl, fun e10 ee10 => ?_⟩⟩
            have : e9 = (22, f) := ee9.trans eck
            subst this
            have : e10 = (22, v) := ee10.trans ecc
            subst this
            refine ⟨rfl, sup_step hS1 hv hf (fun N2 hS2 hN2 => fun x ex => ?_)⟩
            rw [ex, nI_1]
            refine ih (j + 1) (by omega) N2 ?_ (hN2.trans hN1)
            rw [supT_c (S' := fun i => (∃ l k, l < j ∧ k < cn t 61 ∧ N.2.1 31 p l = (21, k) ∧ i < 5000 ∧ t 70 k = nI i) ∨ i = f) (fun i => ?_)]
            · exact hS2
            · constructor
              · rintro ⟨l, k', h1, h2, h3, h4⟩
                by_cases y : l = j
                · subst y
                  have : k' = k := congrArg Prod.snd (h3.symm.trans ek)
                  subst this
                  exact Or.inr ((nI_eq (by omega) (by omega)).mp (h4.2.symm.trans ef))
                · exact Or.inl ⟨l, k', by omega, h2, h3, h4⟩
              · rintro (⟨l, k', h1, h2⟩ | y)
                · exact ⟨l, k', by omega, h2⟩
                · subst y
                  exact ⟨j, k, by omega, hk, ek, by omega, ef⟩
      refine ⟨nn - 1 + 1, CL (nn - 1) 0 (by omega) N ?_ rfl⟩
      rw [supT_0 (fun i ⟨l, k, hl, _⟩ => absurd hl (Nat.not_lt_zero _))]
      exact F.hD
    · have e11 : N.1 21 c 11 = t 69 c := F.hS.I (21, 11, 69, 61) (by decide) c hc
      have hA := told_al hE q (by decide) F.hD (TF.rf (C := [])) MO.rf (by decide)
      have fin : cq (n + 1 + 10) mX0_alike [.inr (1, 0), .inr (21, p), .inr (21, c)] N (fun r N' => r = none ∧ TG b X m z P t h p c N') := by
        refine told_fin (fun K hK => br K (hK0 K ⟨1, ?_⟩ (hK1 K))) hA.2
        refine ⟨fun _ => hA.1 K hK, fun _ => ⟨v2, fun _ => hA.1 K hK, fun y => absurd ?_ w2⟩⟩
        rw [c2] at y
        exact y
      refine ⟨1, fun _ => ⟨rfl, fun e ee => ?_⟩, fun _ => ⟨rfl, fun _ => ⟨rfl, fun e ee => ?_⟩, fun y => absurd (e11.symm.trans y) w2⟩⟩
      · have : e = (1, 0) := ee.trans nl
        subst this
        exact ⟨rfl, fin⟩
      · have : e = (1, 0) := ee.trans nl
        subst this
        exact ⟨rfl, fin⟩
  show cq (n + 1 + 11) mX9_told [.inr (14, g), .inr (21, p), .inr (21, c)] N _
  refine sv_X9_told (Q := TG b X m z P t h p c) (fun N' w => ⟨rfl, w⟩) ⟨rfl, fun e1 ee1 => ?_⟩
  have : e1 = (31, p) := ee1.trans w7
  subst this
  refine ⟨lk31, fun x2 ex2 => ⟨rfl, v_names_s (s := 4) F.hS hc hg F.h31 (by decide) ?_⟩⟩
  have : x2 = nI nn := ex2.trans ws
  subst this
  refine ⟨fun w => ?_, fun w => ⟨rfl, fun y => ?_, fun y => ⟨rfl, fun M5 g5 => ⟨rfl, fun e6 ee6 => ?_⟩⟩⟩⟩
  · exact LP (fun _ => True) (fun K hK _ => w_isNamed_s F.hS hc hg ⟨fun _ => hK, fun y => absurd w y⟩) (fun _ => trivial)
  · refine LP (fun _ => True) (fun K hK _ => w_isNamed_s F.hS hc hg ⟨fun _ => hK, fun _ => ⟨v1, v3, fun _ => hK, fun y2 => absurd ?_ y2⟩⟩) (fun _ => trivial)
    rw [c1, c3, e73]
    rw [show N.1 (14, g).1 (14, g).2 2 = t 32 g from n2] at y
    exact y
  · subst g5
    have : e6 = (1, 0) := ee6.trans nl
    subst this
    rw [show N.1 (14, g).1 (14, g).2 2 = t 32 g from n2, ha3] at y
    have hlt : nn < a := by
      by_cases e : nn < a
      · exact e
      · exact absurd (nI_le (by omega) (by omega)) y
    have m4 : (sI N (21, p).1 (21, p).2 14 2).1 (14, g).1 (14, g).2 4 = t 34 g := by rw [sI_ne (by simp)]; exact n4
    have m3 : (sI N (21, p).1 (21, p).2 14 2).1 (14, g).1 (14, g).2 3 = t 33 g := by rw [sI_ne (by simp)]; exact n3
    have m0 : (sI N (21, p).1 (21, p).2 14 2).1 (1, 0).1 (1, 0).2 0 = t 0 0 := by rw [sI_ne (by simp)]; exact tm
    have hSB : SBc 4 p c t := q.2.2.2.2.2.2.2.2.2.2.2.2.2.1
    have hc2 : t 69 c = 2 := nmd_2 (by
      cases hbn : nmd t c g
      · rw [hbn] at w; exact absurd rfl w
      · rfl)
    have hfin : ∀ v : Int32, (∀ K : DB → Prop, K (up (up t 76 p 1) 72 p v) → w_told (nI p) (nI c) t K) → TG b X m z P t h p c (sI (sI N 21 p 14 2) 21 p 15 v) := by
      intro v hv
      have ht : TF t (up (up t 76 p 1) 72 p v) [76, 72] := (TF.rf.wu _ _ (by decide)).wu _ _ (by decide)
      refine ⟨_, _, hv, RUN.rf, ⟨?_, fun f h1 h2 i hi => ?_⟩, ⟨(F.hS.paus (Or.inl ⟨rfl, rfl⟩) hg F.h65 F.h31 hp (fun _ => ⟨nn, e73, by omega⟩)).due, (q.2.1.all hch).fr ht (by decide)⟩, ?_, fun _ k _ _ => rfl, fun E hW i hi h0 hE g' hg' h65' j hj ej => ?_⟩
      · rw [ht 88 (by decide)]; exact F.h88
      · rw [ht f (by simp; omega)]
      · exact (MO.of (TF.rf.wu (c := 76) p 1 (by decide) : TF t (up t 76 p 1) [76]) (by decide)).tr (MO.of72 hg hg2 F.h65 F.h31)
      · rw [ht.cn (by decide)] at hi hj hg'
        rw [ht 69 (by decide)] at h0
        rw [ht 65 (by decide)] at h65'
        rw [ht 64 (by decide)] at ej
        rw [ht 69 (by decide), ht 31 (by decide)]
        by_cases eip : i = p
        · subst eip
          have eg : g' = g := (nI_eq (by omega) (by omega)).mp (h65'.symm.trans F.h65)
          subst eg
          refine Or.inr ⟨?_, Or.inl F.h31⟩
          by_cases ejc : j = c
          · rw [ejc]; exact hc2
          · rcases hSB j hj ejc ej with ⟨y', -⟩ | ⟨-, -, y'⟩
            · exact absurd y' (by decide)
            · exact y'
        · rw [show up (up t 76 p 1) 72 p v 76 i = t 76 i from (up_f (by decide)).trans (up_n (fun y' => eip y'.2))]
          exact hW i hi h0 (fun y' => y'.elim hE eip) g' hg' h65' j hj ej
    have mdl : ∀ (K : DB → Prop), (¬ t 34 g = 1 → K (up (up t 76 p 1) 72 p (t 0 0 + t 33 g))) → (t 34 g = 1 → K (up (up t 76 p 1) 72 p (t 0 0 + (t 33 g <<< ((nI nn - 1) &&& 31))))) → w_told (nI p) (nI c) t K := by
      intro K k1 k2
      refine br K (w_isNamed_s F.hS hc hg ⟨fun y => absurd y w, fun _ => ⟨v1, v3, fun y2 => absurd ?_ y, fun _ => ⟨v1, fun t3 et3 => ⟨v3, fun y2 => ⟨v3, v1, fun t4 et4 => ?_⟩, fun y2 => ⟨v3, v1, v1, fun t5 et5 => ?_⟩⟩⟩⟩⟩)
      · rw [c1, c3, e73, ha3] at y2; exact y2
      · rw [c1] at et3 et4
        rw [c3] at et4 y2
        subst et3
        subst et4
        exact k1 y2
      · rw [c1] at et3 et5
        rw [c3] at et5 y2
        subst et3
        rw [show (up t 76 p 1) 73 p = nI nn from e73] at et5
        subst et5
        exact k2 y2
    refine ⟨rfl, rfl, fun y2 => ⟨rfl, rfl, fun M7 g7 => ?_⟩, fun y2 => ⟨rfl, rfl, fun M8 g8 => ?_⟩⟩
    · rw [m0, m3] at g7
      rw [m4] at y2
      subst g7
      have y3 : t 34 g = 1 := ha4.resolve_left y2
      exact hfin _ (fun K hK => mdl K (fun y4 => absurd y3 y4) (fun _ => hK))
    · rw [m0, m3] at g8
      rw [m4] at y2
      subst g8
      have y3 : ¬ t 34 g = 1 := fun e => absurd (y2.symm.trans e) (by decide)
      exact hfin _ (fun K hK => mdl K (fun _ => hK) (fun y4 => absurd y4 y3))
