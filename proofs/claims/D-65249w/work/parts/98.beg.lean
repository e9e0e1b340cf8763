set_option maxRecDepth 100000
/-! beginning: the contracts -/
/-- what a beginning changes: as MO, but for the call q; new calls may have guards -/
def MB (q : Nat) (t t' : DB) : Prop := TF t t' RC ∧ cn t 61 ≤ cn t' 61 ∧ (∀ c, c < cn t 61 → (∀ f ∈ [62, 63, 64, 65, 66, 67], t' f c = t f c) ∧ (t 69 c ≠ 0 → t' 69 c = t 69 c ∧ t' 70 c = t 70 c ∧ t' 71 c = t 71 c) ∧ (c ≠ q → ∀ g, g < cn t 30 → t 65 c = nI g → (t 31 g ≠ 6 → t' 73 c = t 73 c) ∧ (t 31 g ≠ 4 → t' 72 c = t 72 c))) ∧ (∀ c, cn t 61 ≤ c → c < cn t' 61 → ∀ g, g < cn t 30 → t' 65 c = nI g → (t 31 g = 3 ∨ t 31 g = 5) → t' 73 c = 1)
theorem MB.of {q : Nat} {t t' : DB} (h : MO t t') (h30 : cn t 30 ≤ 24) : MB q t t' := by
  obtain ⟨a1, a2, a3, a4, -⟩ := h
  refine ⟨a1, a2, fun c hc => ⟨fun f hf => (a3 c hc).1 f ((by decide : ∀ f ∈ [62, 63, 64, 65, 66, 67], f ∈ KC) f hf), (a3 c hc).2.1, fun _ => (a3 c hc).2.2⟩, fun c h1 h2 g hg e => ?_⟩
  rw [(a4 c h1 h2).1] at e
  exact absurd e.symm (nI_m1 (by omega))
theorem MB.tr {q : Nat} {t u v : DB} (a : MB q t u) (b : MB q u v) (hq : cn t 61 ≤ q → q < cn u 61 → ∀ g, g < cn t 30 → u 65 q = nI g → (t 31 g = 3 ∨ t 31 g = 5) → v 73 q = 1) : MB q t v := by
  obtain ⟨a1, a2, a3, a4⟩ := a
  obtain ⟨b1, b2, b3, b4⟩ := b
  have e31 := a1 31 (by decide)
  have e30 : cn u 30 = cn t 30 := a1.cn (by decide)
  refine ⟨fun f hf => (b1 f hf).trans (a1 f hf), Nat.le_trans a2 b2, fun c hc => ⟨fun f hf => ((b3 c (by omega)).1 f hf).trans ((a3 c hc).1 f hf), fun h => ?_, fun hcq g hg h65 => ?_⟩, fun c h1 h2 g hg h65 hs => ?_⟩
  · have e := (a3 c hc).2.1 h
    have e2 := (b3 c (by omega)).2.1 (by rw [e.1]; exact h)
    exact ⟨e2.1.trans e.1, e2.2.1.trans e.2.1, e2.2.2.trans e.2.2⟩
  · have e := (a3 c hc).2.2 hcq g hg h65
    have e2 := (b3 c (by omega)).2.2 hcq g (by rw [e30]; exact hg) (((a3 c hc).1 65 (by decide)).trans h65)
    rw [e31] at e2
    exact ⟨fun q => (e2.1 q).trans (e.1 q), fun q => (e2.2 q).trans (e.2 q)⟩
  · by_cases w : c < cn u 61
    · have h65' : u 65 c = nI g := ((b3 c w).1 65 (by decide)).symm.trans h65
      by_cases e : c = q
      · subst e
        exact hq h1 w g hg h65' hs
      · have e1 := a4 c h1 w g hg h65' hs
        rw [((b3 c w).2.2 e g (by rw [e30]; exact hg) h65').1 (by rw [e31]; rcases hs with y | y <;> rw [y] <;> decide)]
        exact e1
    · exact b4 c (by omega) h2 g (by rw [e30]; exact hg) h65 (by rw [e31]; exact hs)
/-- a call was made and its guard is to begin it -/
def GBP (X : Mem) (m z : Nat) (P : List Nat) (N : Mem) (t : DB) (h c g s o d hT : Nat) : Prop := SZ X m z P c N t ∧ I_P t ∧ (cn t 23 + sumTo (cn t 61) (undW t c) + 1 ≤ cn t 61 ∧ cn t 17 + sumTo (cn t 61) (undW t c) + 1 ≤ cn t 61 ∧ cn t 82 + sumTo (cn t 61) (undW t c) + 1 ≤ cn t 61) ∧ N.2.2.2.1 + 10 ≤ 2000 + 100 * m + 20 * (cn t 61 + cn t 23 + cn t 17 + cn t 82 + cn t 50) ∧
  (h + 1100 ≤ 10000 ∧ 60 ≤ z) ∧ c < cn t 61 ∧ t 69 c = 0 ∧ c ∉ P ∧ t 65 c = nI g ∧ g < cn t 30 ∧ t 31 g = nI s ∧ s ≤ 9 ∧ t 73 c = 0 ∧ t 75 c = 0 ∧ t 76 c = 0 ∧ t 77 c = 0 ∧ t 79 c = 0 ∧ N.1 21 c 14 = 0 ∧ t 62 c = nI o ∧ t 63 c = nI d ∧ o < cn t 50 ∧ t 88 0 = nI h ∧ (∃ T, t 51 o = nI T ∧ T < cn t 47 ∧ t 48 T = nI hT ∧ hT ≤ 5 ∧ d < hT ∧ t 65 c = t 49 (5 * T + d)) ∧ (∀ g', g' < cn t 30 → t 65 c = nI g' → t 31 g' = 0 → N.2.1 10 g' 10 ≠ (21, c))
/-- where a beginning comes to -/
def PB (q : Nat) (X : Mem) (m z : Nat) (P : List Nat) (N' : Mem) (t' : DB) (h : Nat) (t u : DB) : Prop := RUN u t' ∧ pfr h t t' ∧ SS X m z P 100000 N' t' ∧ MB q t t' ∧ WA t t'
def GBG (n : Nat) (X : Mem) (m z : Nat) (P : List Nat) (N : Mem) (t : DB) (h c g s : Nat) : Prop := cq (n + 10) (vt_begins (10 + s)) [.inr (10 + s, g), .inr (21, c)] N (fun r N' => r = none ∧ ∃ u t', (∀ K : DB → Prop, K u → w_entered (nI c) (nI g) t K) ∧ PB c X m z P N' t' h t u ∧ (s = 3 ∨ s = 5 → t' 73 c = 1))
/-- an inner call is to begin in p -/
def CBP (X : Mem) (m z : Nat) (P : List Nat) (N : Mem) (t : DB) (h o d p g hT : Nat) : Prop := SS X m z P 100000 N t ∧ (h + 1100 ≤ 10000 ∧ 60 ≤ z) ∧ p < cn t 61 ∧ t 69 p = 0 ∧ o < cn t 50 ∧ t 62 p = nI o ∧ (∃ e, d = e + 1 ∧ t 63 p = nI e ∧ ∃ T, t 51 o = nI T ∧ T < cn t 47 ∧ t 48 T = nI hT ∧ hT ≤ 5 ∧ e < hT ∧ t 65 p = t 49 (5 * T + e)) ∧ t 65 p = nI g ∧ g < cn t 30 ∧ t 75 p = 0 ∧ t 76 p = 0 ∧ (t 31 g = 8 → t 78 p = 1) ∧ (∃ n, t 73 p = nI n ∧ n < 6 ∧ (t 31 g ≠ 4 → n < 2) ∧ (t 31 g ≠ 4 → t 31 g ≠ 5 → n < 1)) ∧ (∀ j, j < cn t 61 → t 64 j = nI p → (t 31 g = 5 ∧ (t 69 j = 0 ∨ t 69 j = 2)) ∨ (t 31 g = 4 ∧ t 69 j = 2)) ∧ t 88 0 = nI (h + 1) ∧ t 83 h = 0 ∧ t 84 h = nI o ∧ t 85 h = nI d ∧ t 86 h = nI p ∧ t 87 h = -1
def CB (k n : Nat) : Prop := ∀ (X : Mem) (m z : Nat) (P : List Nat) (N : Mem) (t : DB) (h o d p g hT : Nat), CBP X m z P N t h o d p g hT → hT = d + k → cq (n + 10) mX0_begin [.inr (1, 0), .inr (20, o), .inl (nI d), .inr (21, p)] N (fun r N' => r = none ∧ ∃ t', PB p X m z P N' t' h t t ∧ (t 31 g ≠ 6 → t' 73 p = t 73 p + 1) ∧ (t 31 g ≠ 4 → t' 72 p = t 72 p))
/-- c goes in: an inner call begins in it -/
theorem gi_c {k n : Nat} (hB : CB k n) {X : Mem} {m z : Nat} {P : List Nat} {N : Mem} {t : DB} {h o d c g hT : Nat} (hS : SS X m z P 100000 N t) (hh : h + 1100 ≤ 10000 ∧ 60 ≤ z) (hc : c < cn t 61) (h0 : t 69 c = 0) (ho : o < cn t 50) (h62 : t 62 c = nI o) (h63 : t 63 c = nI d) (hT' : ∃ T, t 51 o = nI T ∧ T < cn t 47 ∧ t 48 T = nI hT ∧ hT ≤ 5 ∧ d < hT ∧ t 65 c = t 49 (5 * T + d)) (h65 : t 65 c = nI g) (hg : g < cn t 30) (h75 : t 75 c = 0) (h76 : t 76 c = 0) (h8 : t 31 g = 8 → t 78 c = 1)
    (h73 : ∃ n, t 73 c = nI n ∧ n < 6 ∧ (t 31 g ≠ 4 → n < 2) ∧ (t 31 g ≠ 4 → t 31 g ≠ 5 → n < 1)) (hsib : ∀ j, j < cn t 61 → t 64 j = nI c → (t 31 g = 5 ∧ (t 69 j = 0 ∨ t 69 j = 2)) ∨ (t 31 g = 4 ∧ t 69 j = 2)) (h88 : t 88 0 = nI h) (hk : hT = d + 1 + k) :
    (∀ K : DB → Prop, K (psh t h 0 (nI o) (nI (d + 1)) (nI c) (-1)) → w_goesIn (nI c) t K) ∧ cq (n + 1 + 10) mX0_goesIn [.inr (1, 0), .inr (21, c)] N (fun r N' => r = none ∧ ∃ t', PB c X m z P N' t' h t (psh t h 0 (nI o) (nI (d + 1)) (nI c) (-1)) ∧ (t 31 g ≠ 6 → t' 73 c = t 73 c + 1) ∧ (t 31 g ≠ 4 → t' 72 c = t 72 c)) := by
  have hn := hS.1.nC
  have vc : vp_in (nI c) 4400 := vp_in_nI (by omega) (by decide)
  have cc : (nI c).toNatClampNeg = c := nI_clamp (by omega)
  have h50 : cn t 50 ≤ 60 := hS.iB.2.2.2.2.2.1.2
  have h24 : cn t 30 ≤ 24 := hS.iB.2.2.2.1.2
  refine ⟨fun K hK => ?_, ?_⟩
  · unfold w_goesIn
    rw [cc, h62, h63, nI_1]
    exact ⟨vc, vc, w_add_s h88 (by omega) hK⟩
  · have zf : ∀ f i, f < 83 ∨ 88 < f → psh t h 0 (nI o) (nI (d + 1)) (nI c) (-1) f i = t f i := fun f i hf => psh_f hf
    have p88 : psh t h 0 (nI o) (nI (d + 1)) (nI c) (-1) 88 0 = nI (h + 1) := psh_88
    have p83 : psh t h 0 (nI o) (nI (d + 1)) (nI c) (-1) 83 h = 0 := psh_83
    have p84 : psh t h 0 (nI o) (nI (d + 1)) (nI c) (-1) 84 h = nI o := psh_84
    have p85 : psh t h 0 (nI o) (nI (d + 1)) (nI c) (-1) 85 h = nI (d + 1) := psh_85
    have p86 : psh t h 0 (nI o) (nI (d + 1)) (nI c) (-1) 86 h = nI c := psh_86
    have p87 : psh t h 0 (nI o) (nI (d + 1)) (nI c) (-1) 87 h = -1 := psh_87
    have hlo : ∀ f, 83 ≤ f → f ≤ 87 → ∀ i, i < h → psh t h 0 (nI o) (nI (d + 1)) (nI c) (-1) f i = t f i := fun f h1 h2 i hi => psh_lo h1 h2 hi
    have pS : SS X m z P 100000 N (psh t h 0 (nI o) (nI (d + 1)) (nI c) (-1)) := hS.psh
    have pM : MO t (psh t h 0 (nI o) (nI (d + 1)) (nI c) (-1)) := MO.psh
    have pW : WA t (psh t h 0 (nI o) (nI (d + 1)) (nI c) (-1)) := WA.psh
    generalize psh t h 0 (nI o) (nI (d + 1)) (nI c) (-1) = v at *
    have zc : ∀ f, f < 83 ∨ 88 < f → v f = t f := fun f hf => funext fun i => zf f i hf
    have zn : ∀ f, f < 83 ∨ 88 < f → cn v f = cn t f := fun f hf => cn_fr (zc f hf)
    obtain ⟨T, q1, q2, q3, q4, q5, q6⟩ := hT'
    have hb := hB X m z P N v h o (d + 1) c g hT ⟨pS, hh, by rw [zn 61 (by decide)]; exact hc, by rw [zc 69 (by decide)]; exact h0, by rw [zn 50 (by decide)]; exact ho, by rw [zc 62 (by decide)]; exact h62, ⟨d, rfl, by rw [zc 63 (by decide)]; exact h63, T, by rw [zc 51 (by decide)]; exact q1, by rw [zn 47 (by decide)]; exact q2, by rw [zc 48 (by decide)]; exact q3, q4, q5, by rw [zc 65 (by decide), zc 49 (by decide)]; exact q6⟩, by rw [zc 65 (by decide)]; exact h65, by rw [zn 30 (by decide)]; exact hg, by rw [zc 75 (by decide)]; exact h75, by rw [zc 76 (by decide)]; exact h76, by rw [zc 31 (by decide), zc 78 (by decide)]; exact h8, by rw [zc 73 (by decide), zc 31 (by decide)]; exact h73, by rw [zn 61 (by decide), zc 64 (by decide), zc 31 (by decide), zc 69 (by decide)]; exact hsib, p88, p83, p84, p85, p86, p87⟩ hk
    rw [zc 31 (by decide), zc 73 (by decide), zc 72 (by decide)] at hb
    have e4 : N.2.1 21 c 4 = (20, o) := by
      have := hS.R (21, 4, 20, 62, 61) (by decide) c hc
      rw [h62, rn_j (by omega)] at this
      exact this
    have e1 : N.1 21 c 1 = nI d := (hS.I (21, 1, 63, 61) (by decide) c hc).trans h63
    refine sv_X0_goesIn (d := n) (Q := fun N' => ∃ t', PB c X m z P N' t' h t v ∧ (t 31 g ≠ 6 → t' 73 c = t 73 c + 1) ∧ (t 31 g ≠ 4 → t' 72 c = t 72 c)) (fun N' w => ⟨rfl, w⟩) ⟨rfl, fun e ee => ?_⟩
    have q : e = (20, o) := ee.trans e4
    subst q
    refine ⟨rfl, rfl, ?_⟩
    show cq _ mX0_begin [.inr (1, 0), .inr (20, o), .inl (N.1 21 c 1 + 1), .inr (21, c)] N _
    rw [e1, nI_1]
    refine hb.mono ?_
    rintro r N' ⟨hr, t', ⟨b1, b2, b3, b4, b5⟩, b6, b7⟩
    refine ⟨hr, t', ⟨b1, ⟨b2.1, fun f h1 h2 i hi => (b2.2 f h1 h2 i hi).trans (hlo f h1 h2 i hi)⟩, b3, (MB.of pM h24).tr b4 (fun y1 y2 => ?_), pW.tr b5⟩, b6, b7⟩
    rw [zn 61 (by decide)] at y2
    omega
