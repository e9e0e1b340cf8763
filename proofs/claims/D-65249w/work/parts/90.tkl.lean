set_option maxRecDepth 100000
/-! those that were taken back are told, one after the other -/
/-- orders of those that joined k -/
def JS (t : DB) (k : Nat) : Int32 → Prop := fun o => ∃ j, j < cn t 61 ∧ t 69 j = 0 ∧ t 74 j = nI k ∧ t 62 j = o
theorem AC.of {t t' : DB} {h : Nat} {S : Int32 → Prop} {C : List Nat} (ht : TF t t' C) (hC : ∀ c ∈ C, (c ∈ RC ∧ c ∉ KC ∧ c ∉ [69, 70, 71, 61, 23, 72, 73, 81, 82]) ∧ c ∉ [83, 84, 85, 86, 87, 76, 30, 31]) : AC t t' h S t' :=
  ⟨RUN.rf, MO.of ht (fun c hc => (hC c hc).1), fun f h1 h2 i _ => by rw [ht f (fun m => (hC f m).2 (by simp; omega))], fun i _ _ => by rw [ht 69 (fun m => (hC 69 m).1.2.2 (by decide))], WA.of ht (fun c m y => by
    obtain ⟨⟨-, u2, u3⟩, u4⟩ := hC c m
    have hy : c = 61 ∨ c = 69 ∨ c = 30 ∨ c = 65 ∨ c = 64 ∨ c = 76 ∨ c = 31 := by simpa using y
    rcases hy with e | e | e | e | e | e | e <;> subst e <;> first | exact u2 (by decide) | exact u3 (by decide) | exact u4 (by decide))⟩
theorem AC.tr {T0 u t tb t2 t' : DB} {h h' : Nat} {S S' : Int32 → Prop} (A : AC T0 u h S t) (hr : RUN t t2) (hM : MO t tb) (hW : WA t tb) (h69 : tb 69 = t 69) (hlo : ∀ f, 83 ≤ f → f ≤ 87 → ∀ i, i < h → tb f i = t f i) (B : AC tb t2 h' S' t') (hh : h ≤ h') (hS : ∀ i, i < cn T0 61 → S' (tb 62 i) → S (T0 62 i)) : AC T0 u h S t' := by
  obtain ⟨A1, A2, A3, A4, A5⟩ := A
  obtain ⟨B1, B2, B3, B4, B5⟩ := B
  refine ⟨(A1.tr hr).tr B1, (A2.tr hM).tr B2, fun f h1 h2 i hi => ?_, fun i hi hs => ?_, (A5.tr hW).tr B5⟩
  · rw [B3 f h1 h2 i (by omega), hlo f h1 h2 i hi, A3 f h1 h2 i hi]
  · rw [B4 i (Nat.lt_of_lt_of_le hi (A2.tr hM).2.1) (fun q => hs (hS i hi q)), h69, A4 i hi hs]
/-- nobody joined: nothing happens -/
theorem gone_0 {d : Nat} {X : Mem} {m z : Nat} {P : List Nat} {N : Mem} {t : DB} {k g : Nat} {Q : Mem → Prop} (hS : SS X m z P 100000 N t) (hk : k < cn t 61) (hg : g < cn t 30) (h31 : t 31 g = 8) (hno : ∀ j, j < cn t 61 → t 74 j ≠ nI k) (hQ : Q N) : ∀ (r j : Nat), j + r = cn t 61 → v_X13_takenBack_5 d (r + 1) (18, g) (21, k) (nI j) N Q := by
  have hn := hS.1.nC
  have b61 := hS.iB.2.2.2.2.2.2.1.1
  obtain ⟨s', a1, a2, -, a4, -, -, -, -, -, a10, a11⟩ := hS.G g hg
  have es : s' = 8 := (nI_eq (by omega) (by omega)).mp (a2.symm.trans (by rw [h31]; rfl))
  subst es
  have sz : N.1 (30, 9).1 (30, 9).2 0 = nI (cn t 61) := (hS.S (9, 61, 0) (by decide)).trans b61
  intro r
  induction r with
  | zero =>
    intro j hj
    refine ⟨rfl, fun e1 ee1 => ?_⟩
    have q1 : e1 = (1, 0) := ee1.trans a11
    subst q1
    refine ⟨rfl, fun e2 ee2 => ?_⟩
    have q2 : e2 = (30, 9) := ee2.trans (hS.W.1 9 (by decide) (by decide))
    subst q2
    refine ⟨⟨by decide, by decide⟩, fun _ => hQ, fun w => ?_⟩
    rw [sz] at w
    exact absurd (nI_le (by omega) (by omega)) w
  | succ r ih =>
    intro j hj
    have hjn : j < cn t 61 := by omega
    have nxt := ih (j + 1) (by omega)
    have cj : (nI j).toNatClampNeg = j := nI_clamp (by omega)
    have inb : ¬ nI j < 0 ∧ nI j < N.1 (30, 9).1 (30, 9).2 0 := ⟨nI_pos (by omega), by rw [sz]; exact nI_lt hjn (by omega)⟩
    have ek : N.2.1 30 9 j = (21, j) := hS.K (9, 21, 61) (by decide) j hjn
    have e8 : N.2.1 21 j 8 = rn 21 (t 74 j) := hS.R (21, 8, 21, 74, 61) (by decide) j hjn
    refine ⟨rfl, fun e1 ee1 => ?_⟩
    have q1 : e1 = (1, 0) := ee1.trans a11
    subst q1
    refine ⟨rfl, fun e2 ee2 => ?_⟩
    have q2 : e2 = (30, 9) := ee2.trans (hS.W.1 9 (by decide) (by decide))
    subst q2
    refine ⟨⟨by decide, by decide⟩, fun w => ?_, fun _ => ⟨rfl, fun e3 ee3 => ?_⟩⟩
    · rw [sz] at w; exact absurd w (nI_ge hjn (by omega))
    have q3 : e3 = (1, 0) := ee3.trans a11
    subst q3
    refine ⟨rfl, fun e4 ee4 => ?_⟩
    have q4 : e4 = (30, 9) := ee4.trans (hS.W.1 9 (by decide) (by decide))
    subst q4
    refine ⟨⟨by decide, by decide⟩, inb, fun e5 ee5 => ?_⟩
    rw [cj] at ee5
    have q5 : e5 = (21, j) := ee5.trans ek
    subst q5
    refine ⟨rfl, rfl, fun e6 ee6 => ?_⟩
    have q6 : e6 = rn 21 (t 74 j) := ee6.trans e8
    refine ⟨fun w x7 g7 => ?_, fun w => ?_⟩
    · rw [nI_1] at g7; subst g7; exact nxt
    · exfalso
      rw [w] at q6
      by_cases lt : t 74 j < 0
      · rw [rn, if_pos lt] at q6
        exact (ne021 q6.symm).elim
      · rw [rn, if_neg lt] at q6
        obtain ⟨l, hl, el⟩ := nI_of lt
        rw [el, nI_clamp hl] at q6
        have : k = l := congrArg Prod.snd q6
        exact hno j hjn (by rw [el, this])
/-- a call's guard, or none -/
theorem SZ.grd {X : Mem} {m z : Nat} {P : List Nat} {x : Nat} {N : Mem} {t : DB} (h : SZ X m z P x N t) {c : Nat} (hc : c < cn t 61) : t 65 c = -1 ∨ ∃ g s, g < cn t 30 ∧ t 65 c = nI g ∧ t 31 g = nI s ∧ s ≤ 9 := by
  obtain ⟨o, T, hh, d, a1, a2, a3, a4, a5, a6, a7, a8, -, a10⟩ := h.iC c hc
  have h47 : cn t 47 ≤ 10 := h.iB.2.2.2.2.1.2
  rcases a10 with ⟨w, -⟩ | ⟨ad, ae, -⟩
  · exact Or.inl w
  obtain ⟨hh2, c1, c2, c3, -⟩ := h.iT T (Or.inl a4)
  have eh2 : hh = hh2 := (nI_eq (by omega) (by omega)).mp (a5.symm.trans c2)
  subst eh2
  obtain ⟨g, hg, eg⟩ := c3 d ad
  obtain ⟨s, hs, es, -⟩ := h.iG g hg
  exact Or.inr ⟨g, s, hg, ae.trans eg, es, hs⟩
theorem tk_step {n : Nat} {X : Mem} {m z : Nat} {P : List Nat} {N : Mem} {t : DB} {i k h : Nat} (hE : t 78 k = 1 → CE 0 5 n ∧ h + 1 ≤ 10000) (hS : SS X m z (k :: P) 100000 N t) (hkP : k ∉ P) (hk : k < cn t 61) (hi : i < 4400) (h81 : t 81 i = nI k) (h88 : t 88 0 = nI h) (hh : h ≤ 16000 ∧ 60 ≤ z) (hLf : t 78 k = 1 → LFr t k) :
    ∃ t2, (∀ K : DB → Prop, K t2 → w_takenBack_18 (nI i) t K) ∧ (t 65 k = -1 → t2 = t ∧ SS X m z P 100000 N t) ∧ ∀ g s, t 65 k = nI g → g < cn t 30 → t 31 g = nI s → s ≤ 9 → cq (n + 1 + 11) (vt_takenBack (10 + s)) [.inr (10 + s, g), .inr (21, k)] N (fun r N' => r = none ∧ ∃ t', SS X m z P 100000 N' t' ∧ AC t t2 h (JS t k) t' ∧ t' 88 0 = nI h) := by
  have hn := hS.1.nC
  have h24 : cn t 30 ≤ 24 := hS.iB.2.2.2.1.2
  have vi : vp_in (nI i) 4400 := vp_in_nI hi (by decide)
  have ci : (nI i).toNatClampNeg = i := nI_clamp (by omega)
  have vk : vp_in (nI k) 4400 := vp_in_nI (by omega) (by decide)
  have ck : (nI k).toNatClampNeg = k := nI_clamp (by omega)
  rcases hS.1.grd hk with h65 | ⟨g, s, hg, h65, hs, hs9⟩
  · have hT : SZ X m z P 100000 N t := hS.1.tkn (fun g' hg' q => absurd (q.symm.trans h65) (nI_m1 (by omega)))
    refine ⟨t, fun K hK => ?_, fun _ => ⟨rfl, hT, hS.2⟩, fun g s e hg _ _ => absurd (e.symm.trans h65) (nI_m1 (by omega))⟩
    unfold w_takenBack_18
    rw [ci]
    refine ⟨vi, fun x1 e1 => ?_⟩
    rw [h81] at e1
    subst e1
    rw [ck]
    refine ⟨vk, fun x2 e2 => ?_⟩
    rw [h65] at e2
    subst e2
    exact ⟨fun y => absurd y (by decide), fun _ => hK⟩
  · have n65 : ¬ t 65 k = -1 := fun y => nI_m1 (by omega) (h65.symm.trans y)
    have one : ∀ g' s', t 65 k = nI g' → g' < cn t 30 → t 31 g' = nI s' → s' ≤ 9 → g' = g ∧ s' = s := fun g' s' a b c d => by
      have e1 : g' = g := (nI_eq (by omega) (by omega)).mp (a.symm.trans h65)
      subst e1
      exact ⟨rfl, (nI_eq (by omega) (by omega)).mp (c.symm.trans hs)⟩
    have wrap : ∀ (t' : DB) (C : List Nat), TF t t' C → (∀ c ∈ C, (c ∈ RC ∧ c ∉ KC ∧ c ∉ [69, 70, 71, 61, 23, 72, 73, 81, 82]) ∧ c ∉ [83, 84, 85, 86, 87, 76, 30, 31]) → 88 ∉ C → (∀ r N', (r = (none : Option AV) ∧ SS X m z P 100000 N' t') → (r = none ∧ ∃ t'', SS X m z P 100000 N' t'' ∧ AC t t' h (JS t k) t'' ∧ t'' 88 0 = nI h)) := fun t' C ht hC h8 r N' w => ⟨w.1, t', w.2, AC.of ht hC, by rw [ht 88 h8]; exact h88⟩
    by_cases s1 : s = 1
    · subst s1
      have h31 : t 31 g = 1 := hs
      have h75 := (hS.iH k hk).2.2.2.2.1
      rcases h75 with w | w
      · obtain ⟨t', q1, q2, q3⟩ := tk_w (n := n + 1) hS hkP hk hi h81 h65 hg h31 w
        refine ⟨t', q1, fun y => absurd y n65, fun g' s' a b c d => ?_⟩
        obtain ⟨e1, e2⟩ := one g' s' a b c d
        subst e1; subst e2
        exact q3.mono (wrap t' _ q2 (by decide) (by decide))
      · obtain ⟨t', q1, q2, q3⟩ := tk_q (n := n + 1) hS hkP hk hi h81 h65 hg h31 w
        refine ⟨t', q1, fun y => absurd y n65, fun g' s' a b c d => ?_⟩
        obtain ⟨e1, e2⟩ := one g' s' a b c d
        subst e1; subst e2
        exact q3.mono (wrap t' _ q2 (by decide) (by decide))
    · by_cases h78 : t 78 k = 0
      · obtain ⟨t', q1, q2, q3, q4⟩ := tk_e (n := n + 1) hS hkP hk hi h81 h65 hg hs hs9 s1 h78
        refine ⟨t', q1, fun y => absurd y n65, fun g' s' a b c d => ?_⟩
        obtain ⟨e1, e2⟩ := one g' s' a b c d
        subst e1; subst e2
        by_cases s8 : s' = 8
        · subst s8
          obtain ⟨et, hSt⟩ := q4 rfl
          subst et
          refine sv_X13_takenBack (d := n + 1) (Q := fun N' => ∃ t'', SS X m z P 100000 N' t'' ∧ AC t' t' h (JS t' k) t'' ∧ t'' 88 0 = nI h) (fun N' w => ⟨rfl, w⟩) ⟨rfl, fun x1 e1 => ?_⟩
          have q0 : x1 = nI k := e1.trans (hSt.1.N (21, 61) (by decide) k hk)
          subst q0
          exact ⟨_, gone_0 hSt hk hg hs (fun j hj y => by
            have := (hSt.1.jn hj (by omega) y).2.2.2.2.1
            rw [h78] at this
            exact absurd this (by decide)) ⟨t', hSt, AC.of (TF.rf (C := [])) (by decide), h88⟩ (cn t' 61 - k) k (by omega)⟩
        · exact (q3 s8).mono (wrap t' _ q2 (by decide) (by decide))
      · have h781 : t 78 k = 1 := (hS.iH k hk).2.2.2.2.2.2.2.1.resolve_left h78
        obtain ⟨zz, -⟩ := hS.iZ k hk
        obtain ⟨z0, z1, z4, z8, -⟩ := zz g hg h65
        have s8 : t 31 g = 8 := Classical.byContradiction fun v => h78 (z8 v).1
        have es8 : s = 8 := (nI_eq (by omega) (by omega)).mp (hs.symm.trans s8)
        subst es8
        have h79 := z0 (by rw [s8]; decide)
        obtain ⟨h75, h77⟩ := z1 (by rw [s8]; decide)
        have hT : SZ X m z P 100000 N t := hS.1.tkn (fun g' hg' q => by
          have : g' = g := (nI_eq (by omega) (by omega)).mp (q.symm.trans h65)
          subst this
          rw [s8]; decide)
        refine ⟨psh t h 5 (nI k) (-1) 0 0, fun K hK => ?_, fun y => absurd y n65, fun g' s' a b c d => ?_⟩
        · unfold w_takenBack_18
          rw [ci]
          refine ⟨vi, fun x1 e1 => ?_⟩
          rw [h81] at e1
          subst e1
          rw [ck]
          refine ⟨vk, fun x2 e2 => ?_⟩
          rw [h65] at e2
          subst e2
          refine ⟨fun _ => ⟨vk, fun _ => ?_, fun y => absurd h79 y⟩, fun y => absurd (nI_pos' (by omega)) y⟩
          unfold w_takenBack_58 w_takenBack_85 w_takenBack_190
          rw [ck]
          exact ⟨vk, fun _ => ⟨vk, fun _ => ⟨vk, fun y => absurd y h78, fun _ => w_add_s h88 (by omega) hK⟩, fun y => absurd h75 y⟩, fun y => absurd h77 y⟩
        · obtain ⟨e1, e2⟩ := one g' s' a b c d
          subst e1; subst e2
          have hSp : SS X m z P 100000 N (psh t h 5 (nI k) (-1) 0 0) := SS.psh ⟨hT, hS.2⟩
          have zf : ∀ f i, f < 83 ∨ 88 < f → psh t h 5 (nI k) (-1) 0 0 f i = t f i := fun f i hf => psh_f hf
          have p88 : psh t h 5 (nI k) (-1) 0 0 88 0 = nI (h + 1) := psh_88
          have p83 : psh t h 5 (nI k) (-1) 0 0 83 h = 5 := psh_83
          have p84 : psh t h 5 (nI k) (-1) 0 0 84 h = nI k := psh_84
          have p85 : psh t h 5 (nI k) (-1) 0 0 85 h = -1 := psh_85
          have hlo : ∀ f, 83 ≤ f → f ≤ 87 → ∀ i, i < h → psh t h 5 (nI k) (-1) 0 0 f i = t f i := fun f h1 h2 i hi => psh_lo h1 h2 hi
          have hMp : MO t (psh t h 5 (nI k) (-1) 0 0) := MO.psh
          have hWp : WA t (psh t h 5 (nI k) (-1) 0 0) := WA.psh
          generalize psh t h 5 (nI k) (-1) 0 0 = v at *
          have hno : ∀ i, 0 ≤ i → i < k → ¬ (v 74 i = nI k ∧ v 69 i = 0) := fun i _ hik w => by
            have := (hSp.1.jn (by rw [show cn v 61 = cn t 61 from cn_fr (funext fun i => zf 61 i (by decide))]; omega) (by omega) w.1).1
            omega
          refine sv_X13_takenBack (d := n + 1) (Q := fun N' => ∃ t'', SS X m z P 100000 N' t'' ∧ AC t v h (JS t k) t'' ∧ t'' 88 0 = nI h) (fun N' w => ⟨rfl, w⟩) ⟨rfl, fun x1 e1 => ?_⟩
          have q0 : x1 = nI k := e1.trans (hT.N (21, 61) (by decide) k hk)
          subst q0
          exact ⟨4021 - k + 1, gone_l (hE h781).1 (T0 := t) (u := v) (h := h) (S := JS t k) ⟨(hE h781).2, hh.2⟩ hk h65 hg s8 (hLf h781) (fun j j1 j2 j3 => ⟨j, j1, j2, j3, rfl⟩) (fun N' t'' w1 w2 w3 => ⟨t'', w1, w2, w3⟩) (4021 - k) k (by omega) N v 0 hSp ⟨RUN.rf, hMp, hlo, fun i _ _ => zf 69 i (by decide), hWp⟩ p88 p83 p84 (by rw [p85]; rfl) (Nat.zero_le _) hno⟩
