set_option maxRecDepth 100000
/-! the ring's contracts -/
def RC : List Nat := [23, 24, 25, 26, 27, 28, 29, 36, 37, 38, 39, 40, 41, 42, 43, 44, 45, 46, 57, 58, 59, 60, 61, 62, 63, 64, 65, 66, 67, 68, 69, 70, 71, 72, 73, 74, 75, 76, 77, 78, 79, 80, 81, 82, 83, 84, 85, 86, 87, 88]
def KC : List Nat := [62, 63, 64, 65, 66, 67, 74, 78, 79]
/-- the list of those taken back only grows -/
def MK (t t' : DB) : Prop := cn t 82 ≤ cn t' 82 ∧ ∀ i, i < cn t 82 → t' 81 i = t 81 i
theorem MK.rf {t : DB} : MK t t := ⟨Nat.le_refl _, fun _ _ => rfl⟩
theorem MK.tr {t u v : DB} (a : MK t u) (b : MK u v) : MK t v := ⟨Nat.le_trans a.1 b.1, fun i hi => (b.2 i (Nat.lt_of_lt_of_le hi a.1)).trans (a.2 i hi)⟩
theorem MK.of {t t' : DB} {C : List Nat} (h : TF t t' C) (h1 : 81 ∉ C) (h2 : 82 ∉ C) : MK t t' := ⟨by rw [h.cn h2]; exact Nat.le_refl _, fun i _ => by rw [h 81 h1]⟩
/-- what only grows -/
def MO (t t' : DB) : Prop := TF t t' RC ∧ cn t 61 ≤ cn t' 61 ∧ (∀ c, c < cn t 61 → (∀ f ∈ KC, t' f c = t f c) ∧ (t 69 c ≠ 0 → t' 69 c = t 69 c ∧ t' 70 c = t 70 c ∧ t' 71 c = t 71 c) ∧ (∀ g, g < cn t 30 → t 65 c = nI g → (t 31 g ≠ 6 → t' 73 c = t 73 c) ∧ (t 31 g ≠ 4 → t' 72 c = t 72 c))) ∧ (∀ c, cn t 61 ≤ c → c < cn t' 61 → t' 65 c = -1 ∧ t' 78 c = 0 ∧ t' 74 c = -1) ∧ cn t 23 ≤ cn t' 23 ∧ MK t t'
theorem MO.rf {t : DB} : MO t t := ⟨TF.rf, Nat.le_refl _, fun _ _ => ⟨fun _ _ => rfl, fun _ => ⟨rfl, rfl, rfl⟩, fun _ _ _ => ⟨fun _ => rfl, fun _ => rfl⟩⟩, fun c h1 h2 => absurd h2 (by omega), Nat.le_refl _, MK.rf⟩
theorem MO.tr {t u v : DB} (a : MO t u) (b : MO u v) : MO t v := by
  obtain ⟨a1, a2, a3, a4, a5, a6⟩ := a
  obtain ⟨b1, b2, b3, b4, b5, b6⟩ := b
  have e31 := a1 31 (by decide)
  have e30 : cn u 30 = cn t 30 := a1.cn (by decide)
  refine ⟨fun f hf => (b1 f hf).trans (a1 f hf), Nat.le_trans a2 b2, fun c hc => ⟨fun f hf => ((b3 c (by omega)).1 f hf).trans ((a3 c hc).1 f hf), fun h => ?_, fun g hg h65 => ?_⟩, fun c h1 h2 => ?_, Nat.le_trans a5 b5, a6.tr b6⟩
  · have e := (a3 c hc).2.1 h
    have e2 := (b3 c (by omega)).2.1 (by rw [e.1]; exact h)
    exact ⟨e2.1.trans e.1, e2.2.1.trans e.2.1, e2.2.2.trans e.2.2⟩
  · have e := (a3 c hc).2.2 g hg h65
    have e2 := (b3 c (by omega)).2.2 g (by rw [e30]; exact hg) (((a3 c hc).1 65 (by decide)).trans h65)
    rw [e31] at e2
    exact ⟨fun q => (e2.1 q).trans (e.1 q), fun q => (e2.2 q).trans (e.2 q)⟩
  · by_cases q : c < cn u 61
    · have e := a4 c h1 q
      have e2 := (b3 c q).1
      exact ⟨(e2 65 (by decide)).trans e.1, (e2 78 (by decide)).trans e.2.1, (e2 74 (by decide)).trans e.2.2⟩
    · exact b4 c (by omega) h2
/-- changes that touch none of what is kept of calls -/
theorem MO.of {t t' : DB} {C : List Nat} (ht : TF t t' C) (hC : ∀ c ∈ C, c ∈ RC ∧ c ∉ KC ∧ c ∉ [69, 70, 71, 61, 23, 72, 73, 81, 82]) : MO t t' := by
  have e : ∀ f, f ∈ KC ∨ f ∈ [69, 70, 71, 61, 23, 72, 73, 81, 82] → t' f = t f := fun f hf => ht f (fun m => by
    have := hC f m
    rcases hf with q | q
    · exact this.2.1 q
    · exact this.2.2 q)
  refine ⟨ht.mono (fun c hc => (hC c hc).1), ?_, fun c hc => ⟨fun f hf => by rw [e f (Or.inl hf)], fun _ => ⟨by rw [e 69 (Or.inr (by decide))], by rw [e 70 (Or.inr (by decide))], by rw [e 71 (Or.inr (by decide))]⟩, fun _ _ _ => ⟨fun _ => by rw [e 73 (Or.inr (by decide))], fun _ => by rw [e 72 (Or.inr (by decide))]⟩⟩, fun c h1 h2 => ?_, ?_, ⟨by rw [cn_fr (e 82 (Or.inr (by decide)))]; exact Nat.le_refl _, fun i _ => by rw [e 81 (Or.inr (by decide))]⟩⟩
  · rw [cn_fr (e 61 (Or.inr (by decide)))]; exact Nat.le_refl _
  · rw [cn_fr (e 61 (Or.inr (by decide)))] at h2; omega
  · rw [cn_fr (e 23 (Or.inr (by decide)))]; exact Nat.le_refl _
theorem MO.psh {t : DB} {h : Nat} {a b c d e : Int32} : MO t (psh t h a b c d e) := MO.of psh_TF (by decide)
theorem MO.pop {t : DB} {h : Nat} : MO t (pop t h) := MO.of pop_TF (by decide)
theorem MO.ofE {t : DB} {c : Nat} {how val b : Int32} (h : t 69 c = 0) : MO t (tE t c how val b) := by
  have ht : TF t (tE t c how val b) [68, 69, 70, 71] := tE_TF
  refine ⟨ht.mono (by decide), ?_, fun i hi => ⟨fun f hf => ?_, fun q => ?_, fun _ _ _ => ⟨fun _ => ?_, fun _ => ?_⟩⟩, fun i h1 h2 => ?_, ?_, MK.of ht (by decide) (by decide)⟩
  · rw [ht.cn (by decide)]; exact Nat.le_refl _
  · rw [ht f ((by decide : ∀ f ∈ KC, f ∉ [68, 69, 70, 71]) f hf)]
  · have hne : i ≠ c := fun e => q (e ▸ h)
    rw [tE_69, tE_70, tE_71, if_neg hne, if_neg hne, if_neg hne]
    exact ⟨rfl, rfl, rfl⟩
  · rw [ht 73 (by decide)]
  · rw [ht 72 (by decide)]
  · rw [ht.cn (by decide)] at h2; omega
  · rw [ht.cn (by decide)]; exact Nat.le_refl _
/-- the end of a retry's pause is set -/
theorem MO.of72 {t : DB} {p g : Nat} {v : Int32} (hg : g < cn t 30) (hg2 : cn t 30 ≤ 24) (h65 : t 65 p = nI g) (h31 : t 31 g = 4) : MO t (up t 72 p v) := by
  have ht : TF t (up t 72 p v) [72] := TF.rf.wu _ _ (by decide)
  refine ⟨ht.mono (by decide), ?_, fun i hi => ⟨fun f hf => ?_, fun q => ⟨rfl, rfl, rfl⟩, fun g' hg' h65' => ⟨fun _ => rfl, fun q => ?_⟩⟩, fun i h1 h2 => ?_, ?_, MK.of ht (by decide) (by decide)⟩
  · rw [ht.cn (by decide)]; exact Nat.le_refl _
  · rw [ht f ((by decide : ∀ f ∈ KC, f ∉ [72]) f hf)]
  · by_cases e : i = p
    · subst e
      have := (nI_eq (by omega) (by omega)).mp (h65.symm.trans h65')
      subst this
      exact absurd h31 q
    · exact up_n (fun y => e y.2)
  · rw [ht.cn (by decide)] at h2; omega
  · rw [ht.cn (by decide)]; exact Nat.le_refl _
/-- no leader of c's order is under way, but perhaps c -/
def NL (t : DB) (c : Nat) : Prop := ∀ k, k < cn t 61 → t 62 k = t 62 c → t 69 k = 0 → t 78 k = 1 → k = c
/-- a call under way, and what began in it; but for E -/
def I_W (E : Nat → Prop) (t : DB) : Prop := ∀ p, p < cn t 61 → t 69 p = 0 → ¬ E p → ∀ g, g < cn t 30 → t 65 p = nI g → ∀ j, j < cn t 61 → t 64 j = nI p → (t 69 j = 0 ∧ t 76 p ≠ 1) ∨ (t 69 j = 2 ∧ (t 31 g = 4 ∨ t 31 g = 5 ∨ t 31 g = 6))
theorem I_W.fr {E : Nat → Prop} {t t' : DB} {C : List Nat} (h : I_W E t) (ht : TF t t' C) (hC : ∀ c ∈ C, c ∉ [61, 69, 30, 65, 64, 76, 31]) : I_W E t' := by
  have e : ∀ f ∈ [61, 69, 30, 65, 64, 76, 31], t' f = t f := fun f hf => ht f (fun m => hC f m hf)
  unfold I_W
  rw [cn_fr (e 61 (by decide)), cn_fr (e 30 (by decide)), e 69 (by decide), e 65 (by decide), e 64 (by decide), e 76 (by decide), e 31 (by decide)]
  exact h
theorem I_W.sub {E E' : Nat → Prop} {t : DB} (h : I_W E t) (hE : ∀ i, E i → E' i) : I_W E' t := fun p h1 h2 h3 => h p h1 h2 (fun y => h3 (hE p y))
def WK (q : Nat) (t t' : DB) : Prop := ∀ E : Nat → Prop, I_W (fun i => E i ∨ i = q) t → I_W E t'
def WA (t t' : DB) : Prop := ∀ E : Nat → Prop, I_W E t → I_W E t'
theorem WA.rf {t : DB} : WA t t := fun _ h => h
theorem WA.tr {t u v : DB} (a : WA t u) (b : WA u v) : WA t v := fun E h => b E (a E h)
theorem WA.of {t t' : DB} {C : List Nat} (ht : TF t t' C) (hC : ∀ c ∈ C, c ∉ [61, 69, 30, 65, 64, 76, 31]) : WA t t' := fun _ h => h.fr ht hC
theorem WA.psh {t : DB} {h : Nat} {a b c d e : Int32} : WA t (psh t h a b c d e) := WA.of psh_TF (by decide)
theorem WA.pop {t : DB} {h : Nat} : WA t (pop t h) := WA.of pop_TF (by decide)
theorem WK.pre {q : Nat} {t t1 t' : DB} (h : WK q t1 t') (hw : WA t t1) : WK q t t' := fun E hE => h E (hw _ hE)
theorem WK.post {q : Nat} {t t1 t' : DB} (h : WK q t t1) (hw : WA t1 t') : WK q t t' := fun E hE => hw E (h E hE)
theorem WK.wa {q : Nat} {t t' : DB} (h : WK q t t') : WA t t' := fun E hE => h E (hE.sub (fun _ y => Or.inl y))
/-- where a run of the pile comes to -/
def PT (b : Nat) (X : Mem) (m z : Nat) (P : List Nat) (N' : Mem) (t' : DB) (h : Nat) (t u : DB) (O : Int32) (q : Nat) : Prop := RUN u t' ∧ pfr h t t' ∧ SS X m z P 100000 N' t' ∧ MO t t' ∧ (b = 0 → ∀ k, k < cn t 61 → t 62 k ≠ O → t' 69 k = t 69 k) ∧ WK q t t'
/-- how a call ended -/
def DN (t : DB) (c : Nat) (a v y : Int32) : Prop := t 69 c = a ∧ t 70 c = v ∧ t 71 c = y
/-- a call ends, good or with a failure -/
def CE (b dp n : Nat) : Prop := ∀ (X : Mem) (m z : Nat) (P : List Nat) (N : Mem) (t : DB) (h c : Nat) (val by_ : Int32),
  SS X m z P c N t → (h + 1000 * b ≤ 10000 ∧ 60 ≤ z) → c < cn t 61 → t 69 c = 0 → c ∉ P → (∀ k, k < cn t 61 → t 64 k = nI c → t 69 k ≠ 0) → (t 63 c).toNatClampNeg ≤ dp → (b = 0 → NL t c) →
  t 88 0 = nI (h + 1) → t 83 h = 1 → t 84 h = nI c → t 86 h = val → t 87 h = by_ →
  (t 85 h = 1 → (by_ = 0 ∨ by_ = 1) → cq (n + 10) mX0_good [.inr (1, 0), .inr (21, c), .inl val, .inl by_] N (fun r N' => r = none ∧ ∃ t', PT b X m z P N' t' h t t (t 62 c) c ∧ DN t' c 1 val by_)) ∧
  (t 85 h = 2 → by_ = 0 → ∀ f, f < cn t 23 → val = nI f → cq (n + 10) mX0_fails [.inr (1, 0), .inr (21, c), .inr (22, f)] N (fun r N' => r = none ∧ ∃ t', PT b X m z P N' t' h t t (t 62 c) c ∧ DN t' c 2 val by_))
/-- as I_P, but for those within p -/
def IPx (p : Nat) (t : DB) : Prop := ∀ k, k < cn t 61 → t 69 k = 0 → ∀ q, q < cn t 61 → q ≠ p → t 64 k = nI q → t 69 q = 0 ∧ ∀ g, g < cn t 30 → t 65 q = nI g → ∀ j, j < cn t 61 → j ≠ k → t 64 j = nI q → (t 31 g = 5 ∧ (t 69 j = 0 ∨ t 69 j = 2)) ∨ ((t 31 g = 4 ∨ t 31 g = 6) ∧ j < k ∧ t 69 j = 2)
theorem IPx.all {p : Nat} {t : DB} (h : IPx p t) (hc : ∀ k, k < cn t 61 → t 64 k = nI p → t 69 k ≠ 0) : I_P t := by
  intro k hk h0 q hq hq2
  by_cases e : q = p
  · subst e; exact absurd h0 (hc k hk hq2)
  · exact h k hk h0 q hq e hq2
/-- those beside c within p -/
def SBc (s p c : Nat) (t : DB) : Prop := ∀ j, j < cn t 61 → j ≠ c → t 64 j = nI p → (s = 5 ∧ (t 69 j = 0 ∨ t 69 j = 2)) ∨ ((s = 4 ∨ s = 6) ∧ j < c ∧ t 69 j = 2)
/-- an inner call ended: its guard is told -/
def CTP (b dp : Nat) (X : Mem) (m z : Nat) (P : List Nat) (N : Mem) (t : DB) (h p c g s : Nat) : Prop := SZ X m z P 100000 N t ∧ IPx p t ∧ (h + 1000 * b ≤ 10000 ∧ 60 ≤ z) ∧ p < c ∧ c < cn t 61 ∧ t 64 c = nI p ∧ t 69 p = 0 ∧ p ∉ P ∧ (t 69 c = 1 ∨ t 69 c = 2) ∧ t 65 p = nI g ∧ g < cn t 30 ∧ t 31 g = nI s ∧ s ≤ 9 ∧ SBc s p c t ∧ (t 63 p).toNatClampNeg ≤ dp ∧ (b = 0 → ∀ k, k < cn t 61 → t 62 k = t 62 p → t 69 k = 0 → t 78 k ≠ 1) ∧ t 88 0 = nI h ∧ (∀ k, k < cn t 61 → t 64 k = nI c → t 69 k ≠ 0)
def CTG (b n : Nat) (X : Mem) (m z : Nat) (P : List Nat) (N : Mem) (t : DB) (h p c g s : Nat) : Prop := cq (n + 10) (vt_told (10 + s)) [.inr (10 + s, g), .inr (21, p), .inr (21, c)] N (fun r N' => r = none ∧ ∃ u t', (∀ K : DB → Prop, K u → w_told (nI p) (nI c) t K) ∧ PT b X m z P N' t' h t u (t 62 p) p)
def CT (b dp n : Nat) : Prop := ∀ (X : Mem) (m z : Nat) (P : List Nat) (N : Mem) (t : DB) (h p c g s : Nat), CTP b dp X m z P N t h p c g s → CTG b n X m z P N t h p c g s
/-- a call is about to end: it is no more reckoned with -/
theorem SZ.dying {X : Mem} {m z : Nat} {P : List Nat} {N : Mem} {t : DB} {p : Nat} (h : SZ X m z P 100000 N t) (hq : t 75 p = 1 → t 73 p ≠ 0) : SZ X m z P p N t := by
  have h61 := h.nC
  refine h.sub (fun k hk hl => ?_) (fun g j k hg hs hj hk e1 e2 e3 e4 hl => ?_) (fun c hc => hc)
  · rcases hl with ⟨q, -⟩ | q
    · exact Or.inl ⟨q, by omega⟩
    · exact Or.inr q
  · rcases hl with ⟨q, -⟩ | q
    · refine Or.inl ⟨q, fun e => ?_⟩
      subst e
      exact hq e3 e4
    · exact Or.inr q
theorem SZ.inner {X : Mem} {m z : Nat} {P : List Nat} {x : Nat} {N : Mem} {t : DB} (h : SZ X m z P x N t) {p c : Nat} (hp : p < cn t 61) (hc : c < cn t 61) (h64 : t 64 c = nI p) : t 73 p ≠ 0 := by
  obtain ⟨j, hj, -⟩ := (h.V p hp).2.1 c hc h64
  intro e
  rw [e] at hj
  exact absurd hj (Nat.not_lt_zero _)
/-- 'alike': the outer one ends as the inner one did -/
theorem alike_e {b dp n : Nat} (hE : CE b dp n) {X : Mem} {m z : Nat} {P : List Nat} {N : Mem} {t : DB} {h p c : Nat} (hS : SS X m z P p N t) (hh : (h + 1000 * b ≤ 10000 ∧ 60 ≤ z)) (hp : p < cn t 61) (hc : c < cn t 61) (hp0 : t 69 p = 0) (hpP : p ∉ P) (hch : ∀ k, k < cn t 61 → t 64 k = nI p → t 69 k ≠ 0) (hd : (t 63 p).toNatClampNeg ≤ dp) (hNL : b = 0 → NL t p) (h88 : t 88 0 = nI h) (hhow : t 69 c = 1 ∨ t 69 c = 2) :
    (∀ K : DB → Prop, K (psh t h 1 (nI p) (t 69 c) (t 70 c) (t 71 c)) → w_alike (nI p) (nI c) t K) ∧ cq (n + 1 + 10) mX0_alike [.inr (1, 0), .inr (21, p), .inr (21, c)] N (fun r N' => r = none ∧ ∃ t', PT b X m z P N' t' h t (psh t h 1 (nI p) (t 69 c) (t 70 c) (t 71 c)) (t 62 p) p ∧ DN t' p (t 69 c) (t 70 c) (t 71 c)) := by
  have h61 := hS.1.nC
  have hcl : (nI c).toNatClampNeg = c := nI_clamp (by omega)
  have hv : vp_in (nI c) 4400 := vp_in_nI (by omega) (by decide)
  obtain ⟨-, iH2, iH3, iH4, -⟩ := hS.iH c hc
  refine ⟨fun K hK => ?_, ?_⟩
  · unfold w_alike
    rw [hcl]
    refine ⟨hv, hv, hv, fun e => ?_, fun e => ?_⟩
    · rw [e] at hK; exact w_add_s h88 (by omega) hK
    · rcases iH3 with q | q
      · exact absurd q e
      · rw [q] at hK; exact w_add_s h88 (by omega) hK
  · have hft : ∀ f i, f < 83 ∨ 88 < f → psh t h 1 (nI p) (t 69 c) (t 70 c) (t 71 c) f i = t f i := fun f i hf => psh_f hf
    have hcn : ∀ f, f < 83 ∨ 88 < f → cn (psh t h 1 (nI p) (t 69 c) (t 70 c) (t 71 c)) f = cn t f := fun f hf => by unfold cn; rw [hft f 0 hf]
    generalize hu : psh t h 1 (nI p) (t 69 c) (t 70 c) (t 71 c) = u at *
    have u88 : u 88 0 = nI (h + 1) := by rw [← hu]; exact psh_88
    have u83 : u 83 h = 1 := by rw [← hu]; exact psh_83
    have u84 : u 84 h = nI p := by rw [← hu]; exact psh_84
    have u85 : u 85 h = t 69 c := by rw [← hu]; exact psh_85
    have u86 : u 86 h = t 70 c := by rw [← hu]; exact psh_86
    have u87 : u 87 h = t 71 c := by rw [← hu]; exact psh_87
    have hSu : SS X m z P p N u := by rw [← hu]; exact hS.psh
    have hMu : MO t u := by rw [← hu]; exact MO.psh
    have hWu : WA t u := by rw [← hu]; exact WA.psh
    have hlo : ∀ f, 83 ≤ f → f ≤ 87 → ∀ i, i < h → u f i = t f i := fun f h1 h2 i hi => by rw [← hu]; exact psh_lo h1 h2 hi
    have hCE := hE X m z P N u h p (t 70 c) (t 71 c) hSu hh (by rw [hcn 61 (by decide)]; exact hp) (by rw [hft 69 p (by decide)]; exact hp0) hpP (fun k hk e => by
        rw [hcn 61 (by decide)] at hk
        rw [hft 64 k (by decide)] at e
        rw [hft 69 k (by decide)]
        exact hch k hk e) (by rw [hft 63 p (by decide)]; exact hd) (fun hb k hk => by
        rw [hcn 61 (by decide)] at hk
        rw [hft 62 k (by decide), hft 62 p (by decide), hft 69 k (by decide), hft 78 k (by decide)]
        exact hNL hb k hk) u88 u83 u84 u86 u87
    rw [u85, hft 62 p (by decide), hcn 23 (by decide)] at hCE
    have post : ∀ a : Int32, t 69 c = a → ∀ (r : Option AV) (N' : Mem), (r = none ∧ ∃ t', PT b X m z P N' t' h u u (t 62 p) p ∧ DN t' p a (t 70 c) (t 71 c)) → (r = none ∧ ∃ t', PT b X m z P N' t' h t u (t 62 p) p ∧ DN t' p (t 69 c) (t 70 c) (t 71 c)) := by
      rintro a ea r N' ⟨hr, t', ⟨q1, q2, q3, q4, q5, q6⟩, dn⟩
      refine ⟨hr, t', ⟨q1, ⟨q2.1, fun f h1 h2 i hi => (q2.2 f h1 h2 i hi).trans (hlo f h1 h2 i hi)⟩, q3, hMu.tr q4, fun hb k hk hne => ?_, q6.pre hWu⟩, by rw [ea]; exact dn⟩
      rw [q5 hb k (by rw [hcn 61 (by decide)]; exact hk) (by rw [hft 62 k (by decide)]; exact hne), hft 69 k (by decide)]
    have e11 : N.1 21 c 11 = t 69 c := hS.I (21, 11, 69, 61) (by decide) c hc
    have e9 : N.1 21 c 9 = t 71 c := hS.I (21, 9, 71, 61) (by decide) c hc
    obtain ⟨-, -, e12, e16⟩ := hS.C c hc
    refine sv_X0_alike (Q := fun N' => ∃ t', PT b X m z P N' t' h t u (t 62 p) p ∧ DN t' p (t 69 c) (t 70 c) (t 71 c)) (fun N' hq => ⟨rfl, hq⟩) ?_
    refine ⟨rfl, fun q => ⟨rfl, fun e1 ee1 => ⟨rfl, ?_⟩⟩, fun q => ⟨rfl, rfl, rfl, ?_⟩⟩
    · have q2 : t 69 c = 2 := by
        rcases hhow with w | w
        · exact absurd (e11.trans w) q
        · exact w
      obtain ⟨f, hf, ef⟩ := iH2 q2
      have h23 := hS.iB.2.2.2.2.2.2.2.1.2
      rw [if_pos q2, ef, rn_j (by omega)] at e16
      have he1 : e1 = (22, f) := ee1.trans e16
      subst he1
      have hby : t 71 c = 0 := iH4 (by rw [q2]; decide)
      exact (hCE.2 q2 hby f hf ef).mono (post 2 q2)
    · have q1 : t 69 c = 1 := e11.symm.trans q
      rw [if_pos q1] at e12
      show cq _ mX0_good [.inr (1, 0), .inr (21, p), .inl (N.1 21 c 12), .inl (N.1 21 c 9)] N _
      rw [e12, e9]
      exact (hCE.1 q1 iH3).mono (post 1 q1)
theorem alike_c {b dp n : Nat} (hE : CE b dp n) {X : Mem} {m z : Nat} {P : List Nat} {N : Mem} {t : DB} {h p c : Nat} (hS : SS X m z P p N t) (hh : (h + 1000 * b ≤ 10000 ∧ 60 ≤ z)) (hp : p < cn t 61) (hc : c < cn t 61) (hp0 : t 69 p = 0) (hpP : p ∉ P) (hch : ∀ k, k < cn t 61 → t 64 k = nI p → t 69 k ≠ 0) (hd : (t 63 p).toNatClampNeg ≤ dp) (hNL : b = 0 → NL t p) (h88 : t 88 0 = nI h) (hhow : t 69 c = 1 ∨ t 69 c = 2) :
    (∀ K : DB → Prop, K (psh t h 1 (nI p) (t 69 c) (t 70 c) (t 71 c)) → w_alike (nI p) (nI c) t K) ∧ cq (n + 1 + 10) mX0_alike [.inr (1, 0), .inr (21, p), .inr (21, c)] N (fun r N' => r = none ∧ ∃ t', PT b X m z P N' t' h t (psh t h 1 (nI p) (t 69 c) (t 70 c) (t 71 c)) (t 62 p) p) := by
  obtain ⟨a1, a2⟩ := alike_e hE hS hh hp hc hp0 hpP hch hd hNL h88 hhow
  exact ⟨a1, a2.mono (fun r N' ⟨w1, t', w2, _⟩ => ⟨w1, t', w2⟩)⟩
theorem PT.pre {b : Nat} {X : Mem} {m z : Nat} {P : List Nat} {N' : Mem} {t' : DB} {h : Nat} {t t1 u : DB} {O : Int32} {e : Nat} (q : PT b X m z P N' t' h t1 u O e) (hM : MO t t1) (h69 : t1 69 = t 69) (hl : ∀ f, 83 ≤ f → f ≤ 87 → ∀ i, i < h → t1 f i = t f i) (hw : WA t t1) : PT b X m z P N' t' h t u O e := by
  obtain ⟨q1, q2, q3, q4, q5, q6⟩ := q
  refine ⟨q1, ⟨q2.1, fun f h1 h2 i hi => (q2.2 f h1 h2 i hi).trans (hl f h1 h2 i hi)⟩, q3, hM.tr q4, fun hb k hk hne => ?_, q6.pre hw⟩
  rw [← h69]
  exact q5 hb k (Nat.lt_of_lt_of_le hk hM.2.1) (by rw [(hM.2.2.1 k hk).1 62 (by decide)]; exact hne)
/-- all within p has ended -/
theorem CTP.ch {b dp : Nat} {X : Mem} {m z : Nat} {P : List Nat} {N : Mem} {t : DB} {h p c g s : Nat} (q : CTP b dp X m z P N t h p c g s) (hs : s ≠ 5) : ∀ k, k < cn t 61 → t 64 k = nI p → t 69 k ≠ 0 := by
  obtain ⟨q1, q2, q3, q4, q5, q6, q7, q8, q9, q10, q11, q12, q13, q14, -⟩ := q
  intro k hk e
  by_cases ec : k = c
  · subst ec
    rcases q9 with w | w <;> rw [w] <;> decide
  · rcases q14 k hk ec e with ⟨w, -⟩ | ⟨-, -, w⟩
    · exact absurd w hs
    · rw [w]; decide
/-- the guard did something of its own (t to t1), then 'alike' -/
theorem told_al {b dp n : Nat} (hE : CE b dp n) {X : Mem} {m z : Nat} {P : List Nat} {N N1 : Mem} {t t1 : DB} {h p c g s : Nat} (q : CTP b dp X m z P N t h p c g s) (hs : s ≠ 5) {C : List Nat} (hS : SZ X m z P p N1 t1) (ht : TF t t1 C) (hM : MO t t1) (hC : ∀ f ∈ C, f ∉ [61, 30, 31, 62, 63, 64, 65, 69, 70, 71, 76, 78, 83, 84, 85, 86, 87, 88, 23]) :
    (∀ K : DB → Prop, K (psh t1 h 1 (nI p) (t 69 c) (t 70 c) (t 71 c)) → w_alike (nI p) (nI c) t1 K) ∧ cq (n + 1 + 10) mX0_alike [.inr (1, 0), .inr (21, p), .inr (21, c)] N1 (fun r N' => r = none ∧ ∃ t', PT b X m z P N' t' h t (psh t1 h 1 (nI p) (t 69 c) (t 70 c) (t 71 c)) (t 62 p) p) := by
  have hch := q.ch hs
  obtain ⟨q1, q2, q3, q4, q5, q6, q7, q8, q9, q10, q11, q12, q13, q14, q15, q16, q17, -⟩ := q
  have e : ∀ f ∈ [61, 30, 31, 62, 63, 64, 65, 69, 70, 71, 76, 78, 83, 84, 85, 86, 87, 88, 23], t1 f = t f := fun f hf => ht f (fun m => hC f m hf)
  have e61 : cn t1 61 = cn t 61 := cn_fr (e 61 (by decide))
  have hP : I_P t1 := (q2.all hch).fr ht (fun f hf m => hC f hf ((by decide : ∀ f ∈ [61, 69, 64, 65, 31, 30], f ∈ [61, 30, 31, 62, 63, 64, 65, 69, 70, 71, 76, 78, 83, 84, 85, 86, 87, 88, 23]) f m))
  have hA := alike_c hE (c := c) (h := h) ⟨hS, hP⟩ q3 (by rw [e61]; omega) (by rw [e61]; exact q5) (by rw [e 69 (by decide)]; exact q7) q8 (by rw [e61, e 64 (by decide), e 69 (by decide)]; exact hch) (by rw [e 63 (by decide)]; exact q15) (fun hb k hk h1 h2 h3 => by
      rw [e61] at hk
      rw [e 62 (by decide)] at h1
      rw [e 69 (by decide)] at h2
      rw [e 78 (by decide)] at h3
      exact absurd h3 (q16 hb k hk h1 h2)) (by rw [e 88 (by decide)]; exact q17) (by rw [e 69 (by decide)]; exact q9)
  rw [e 69 (by decide), e 70 (by decide), e 71 (by decide), e 62 (by decide)] at hA
  refine ⟨hA.1, hA.2.mono ?_⟩
  rintro r N' ⟨hr, t', w⟩
  exact ⟨hr, t', w.pre hM (e 69 (by decide)) (fun f h1 h2 i _ => by rw [e f (by simp; omega)]) (WA.of ht (fun f hf m => hC f hf ((by decide : ∀ f ∈ [61, 69, 30, 65, 64, 76, 31], f ∈ [61, 30, 31, 62, 63, 64, 65, 69, 70, 71, 76, 78, 83, 84, 85, 86, 87, 88, 23]) f m)))⟩
