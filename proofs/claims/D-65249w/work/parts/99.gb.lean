set_option maxRecDepth 100000
/-! the guards begin -/
theorem MB.ofT {q : Nat} {t t' : DB} {C : List Nat} (ht : TF t t' C) (hC : ∀ c ∈ C, c ∈ RC ∧ c ∉ [61, 62, 63, 64, 65, 66, 67, 69, 70, 71, 73]) (h72 : ∀ i, i ≠ q → t' 72 i = t 72 i) : MB q t t' := by
  have e : ∀ f ∈ [61, 62, 63, 64, 65, 66, 67, 69, 70, 71, 73], t' f = t f := fun f hf => ht f (fun m => (hC f m).2 hf)
  have k61 : cn t' 61 = cn t 61 := cn_fr (e 61 (by decide))
  refine ⟨ht.mono (fun c hc => (hC c hc).1), by rw [k61]; exact Nat.le_refl _, fun c hc => ⟨fun f hf => by rw [e f ((by decide : ∀ f ∈ [62, 63, 64, 65, 66, 67], f ∈ [61, 62, 63, 64, 65, 66, 67, 69, 70, 71, 73]) f hf)], fun _ => ⟨by rw [e 69 (by decide)], by rw [e 70 (by decide)], by rw [e 71 (by decide)]⟩, fun hcq g _ _ => ⟨fun _ => by rw [e 73 (by decide)], fun _ => h72 c hcq⟩⟩, fun c h1 h2 => ?_⟩
  rw [k61] at h2
  omega
theorem PB.pre {q : Nat} {X : Mem} {m z : Nat} {P : List Nat} {N' : Mem} {t' : DB} {h : Nat} {t t2 u : DB} (b : PB q X m z P N' t' h t2 u) (hM : MB q t t2) (hn : cn t2 61 = cn t 61) (hw : WA t t2) (hl : ∀ f, 83 ≤ f → f ≤ 87 → ∀ i, i < h → t2 f i = t f i) : PB q X m z P N' t' h t u := by
  obtain ⟨b1, b2, b3, b4, b5⟩ := b
  exact ⟨b1, ⟨b2.1, fun f h1 h2 i hi => (b2.2 f h1 h2 i hi).trans (hl f h1 h2 i hi)⟩, b3, hM.tr b4 (fun y1 y2 => by omega), hw.tr b5⟩
theorem PT.pb {X : Mem} {m z : Nat} {P : List Nat} {N' : Mem} {t' : DB} {h c : Nat} {t u : DB} {O : Int32} (p : PT 1 X m z P N' t' h t u O c) (h30 : cn t 30 ≤ 24) : PB c X m z P N' t' h t u := ⟨p.1, p.2.1, p.2.2.1, MB.of p.2.2.2.1 h30, p.2.2.2.2.2.wa⟩
abbrev GC : List Nat := [36, 37, 38, 39, 40, 41, 42, 43, 72, 77, 79]
theorem gb_tf {t t2 : DB} {C : List Nat} {c : Nat} (ht : TF t t2 C) (hC : ∀ f ∈ C, f ∈ GC) (h72 : ∀ i, i ≠ c → t2 72 i = t 72 i) : MB c t t2 ∧ WA t t2 ∧ (∀ f, f ∉ GC → t2 f = t f) :=
  ⟨MB.ofT ht (fun f hf => (by decide : ∀ f ∈ GC, f ∈ RC ∧ f ∉ [61, 62, 63, 64, 65, 66, 67, 69, 70, 71, 73]) f (hC f hf)) h72, WA.of ht (fun f hf => (by decide : ∀ f ∈ GC, f ∉ [61, 69, 30, 65, 64, 76, 31]) f (hC f hf)), fun f hf => ht f (fun m => hf (hC f m))⟩
theorem gb_live {X : Mem} {m z : Nat} {P : List Nat} {N : Mem} {t : DB} {h c g s o d hT : Nat} (q : GBP X m z P N t h c g s o d hT) (hs8 : s ≠ 8) {N2 : Mem} {t2 : DB} {C : List Nat} (hL : SZ X m z P c N2 t2) (ht : TF t t2 C) (hC : ∀ f ∈ C, f ∈ GC) (h14 : N2.1 21 c 14 = 0)
    (hq : ∀ g', t2 65 c = nI g' → g' < cn t2 30 → (t2 31 g' = 0 → (t2 79 c = 1 → t2 36 g' = 2) ∧ (t2 79 c = 1 ↔ N2.2.1 10 g' 10 = (21, c))) ∧ (t2 31 g' = 1 → (t2 75 c = 1 ∧ t2 77 c = 0 ∧ ∃ j, j < (t2 40 g').toNatClampNeg ∧ t2 43 (10 * g' + j) = nI c) ∨ (t2 75 c = 0 ∧ t2 77 c = 1))) : SZ X m z P 100000 N2 t2 := by
  obtain ⟨hS, hP, hU, hM, hh, hc, h0, hcP, h65, hg, hs, hs9, h73, h75, h76, h77, h79, -, h62, h63, ho, h88, hT', htr⟩ := q
  have zt : ∀ f, f ∉ GC → t2 f = t f := fun f hf => ht f (fun m => hf (hC f m))
  have eu : undW t2 c = undW t c := by
    funext i
    unfold undW
    rw [zt 69 (by decide)]
  refine hL.live ?_ ?_ hq
  · rw [eu, cn_fr (zt 23 (by decide)), cn_fr (zt 17 (by decide)), cn_fr (zt 82 (by decide)), cn_fr (zt 61 (by decide))]
    exact hU
  · have h74 : t 74 c = -1 := (((hS.iZ c hc).1 g hg h65).2.2.2.1 (fun y => hs8 ((nI_eq (by omega) (by omega)).mp (hs.symm.trans (show t 31 g = nI 8 from y))))).2
    rw [h14]
    unfold stOf
    rw [zt 75 (by decide), zt 76 (by decide), zt 74 (by decide), h75, h76, h74]
    decide
theorem gb_in {k n : Nat} (hB : CB k n) {X : Mem} {m z : Nat} {P : List Nat} {N : Mem} {t : DB} {h c g s o d hT : Nat} (q : GBP X m z P N t h c g s o d hT) (hk : hT = d + 1 + k) (hs8 : s ≠ 8) {N2 : Mem} {t2 : DB} {C : List Nat} (hL : SZ X m z P 100000 N2 t2) (ht : TF t t2 C) (hC : ∀ f ∈ C, f ∈ GC) (h72 : ∀ i, i ≠ c → t2 72 i = t 72 i) :
    (∀ K : DB → Prop, K (psh t2 h 0 (nI o) (nI (d + 1)) (nI c) (-1)) → w_goesIn (nI c) t2 K) ∧ cq (n + 1 + 10) mX0_goesIn [.inr (1, 0), .inr (21, c)] N2 (fun r N' => r = none ∧ ∃ t', PB c X m z P N' t' h t (psh t2 h 0 (nI o) (nI (d + 1)) (nI c) (-1)) ∧ (s = 3 ∨ s = 5 → t' 73 c = 1)) := by
  obtain ⟨hS, hP, hU, hM, hh, hc, h0, hcP, h65, hg, hs, hs9, h73, h75, h76, h77, h79, h14, h62, h63, ho, h88, ⟨T, hT1, hT2, hT3, hT4, hT5, hT6⟩, htr⟩ := q
  obtain ⟨m1, m2, zt⟩ := gb_tf ht hC h72
  have zn : ∀ f, f ∉ GC → cn t2 f = cn t f := fun f hf => cn_fr (zt f hf)
  have hP2 : I_P t2 := hP.fr ht (fun f hf => (by decide : ∀ f ∈ GC, f ∉ [61, 69, 64, 65, 31, 30]) f (hC f hf))
  have hS2 : SS X m z P 100000 N2 t2 := ⟨hL, hP2⟩
  have z73 : t2 73 c = 0 := by rw [zt 73 (by decide)]; exact h73
  obtain ⟨r1, r2⟩ := gi_c hB (h := h) (o := o) (d := d) (c := c) (g := g) (hT := hT) hS2 hh (by rw [zn 61 (by decide)]; exact hc) (by rw [zt 69 (by decide)]; exact h0) (by rw [zn 50 (by decide)]; exact ho) (by rw [zt 62 (by decide)]; exact h62) (by rw [zt 63 (by decide)]; exact h63) ⟨T, by rw [zt 51 (by decide)]; exact hT1, by rw [zn 47 (by decide)]; exact hT2, by rw [zt 48 (by decide)]; exact hT3, hT4, hT5, by rw [zt 65 (by decide), zt 49 (by decide)]; exact hT6⟩ (by rw [zt 65 (by decide)]; exact h65) (by rw [zn 30 (by decide)]; exact hg) (by rw [zt 75 (by decide)]; exact h75) (by rw [zt 76 (by decide)]; exact h76) (fun y => by
      rw [zt 31 (by decide), hs] at y
      exact absurd ((nI_eq (by omega) (by omega)).mp (show nI s = nI 8 from y)) hs8) ⟨0, z73, by omega, fun _ => by omega, fun _ _ => by omega⟩ (fun j hj e => absurd z73 (hL.inner (by rw [zn 61 (by decide)]; exact hc) hj e)) (by rw [zt 88 (by decide)]; exact h88) hk
  refine ⟨r1, r2.mono ?_⟩
  rintro r N' ⟨hr, t', b1, b2, -⟩
  refine ⟨hr, t', b1.pre m1 (zn 61 (by decide)) m2 (fun f h1 h2 i _ => by rw [zt f (by simp; omega)]), fun y => ?_⟩
  rw [b2 (by rw [zt 31 (by decide), hs]; rcases y with e | e <;> subst e <;> decide), z73]
  rfl
/-- a new call is refused -/
theorem gb_ref {n : Nat} (hE : CE 1 5 n) {X : Mem} {m z : Nat} {P : List Nat} {N : Mem} {t : DB} {h c g s o d hT kd : Nat} (q : GBP X m z P N t h c g s o d hT) (hk : kd ≤ 15) {N2 : Mem} {t2 : DB} {C : List Nat} (hL : SZ X m z P c N2 t2) (ht : TF t t2 C) (hC : ∀ f ∈ C, f ∈ GC) (h72 : ∀ i, i ≠ c → t2 72 i = t 72 i) :
    (∀ K : DB → Prop, K (psh t2 h 2 (nI c) (nI kd) 0 0) → w_add 2 (nI c) (nI kd) 0 0 t2 K) ∧ cq (n + 1 + 10) mX4_refuses [.inr (10 + s, g), .inr (21, c), .inl (nI kd)] N2 (fun r N' => r = none ∧ ∃ t', PB c X m z P N' t' h t (psh t2 h 2 (nI c) (nI kd) 0 0)) := by
  obtain ⟨hS, hP, hU, hM, hh, hc, h0, hcP, h65, hg, hs, hs9, h73, h75, h76, h77, h79, h14, h62, h63, ho, h88, ⟨T, hT1, hT2, hT3, hT4, hT5, hT6⟩, htr⟩ := q
  obtain ⟨m1, m2, zt⟩ := gb_tf ht hC h72
  have zn : ∀ f, f ∉ GC → cn t2 f = cn t f := fun f hf => cn_fr (zt f hf)
  have h24 : cn t 30 ≤ 24 := hS.iB.2.2.2.1.2
  have z88 : t2 88 0 = nI h := by rw [zt 88 (by decide)]; exact h88
  refine ⟨fun K hK => w_add_s z88 (by omega) hK, ?_⟩
  have hP2 : I_P t2 := hP.fr ht (fun f hf => (by decide : ∀ f ∈ GC, f ∉ [61, 69, 64, 65, 31, 30]) f (hC f hf))
  have z73 : t2 73 c = 0 := by rw [zt 73 (by decide)]; exact h73
  have hc2 : c < cn t2 61 := by rw [zn 61 (by decide)]; exact hc
  have eu : undW t2 c = undW t c := by
    funext i
    unfold undW
    rw [zt 69 (by decide)]
  have hsl : cn t2 23 + 1 + sumTo (cn t2 61) (undW t2 c) ≤ cn t2 61 := by
    rw [eu, zn 23 (by decide), zn 61 (by decide)]
    omega
  have pS : SS X m z P c N2 (psh t2 h 2 (nI c) (nI kd) 0 0) := SS.psh ⟨hL, hP2⟩
  have p88 : psh t2 h 2 (nI c) (nI kd) 0 0 88 0 = nI (h + 1) := psh_88
  have p83 : psh t2 h 2 (nI c) (nI kd) 0 0 83 h = 2 := psh_83
  have p84 : psh t2 h 2 (nI c) (nI kd) 0 0 84 h = nI c := psh_84
  have p85 : psh t2 h 2 (nI c) (nI kd) 0 0 85 h = nI kd := psh_85
  have plo : ∀ f, 83 ≤ f → f ≤ 87 → ∀ i, i < h → psh t2 h 2 (nI c) (nI kd) 0 0 f i = t2 f i := fun f h1 h2 i hi => psh_lo h1 h2 hi
  have pM : MO t2 (psh t2 h 2 (nI c) (nI kd) 0 0) := MO.psh
  have pW : WA t2 (psh t2 h 2 (nI c) (nI kd) 0 0) := WA.psh
  have pf : ∀ f i, f < 83 ∨ 88 < f → psh t2 h 2 (nI c) (nI kd) 0 0 f i = t2 f i := fun f i hf => psh_f hf
  generalize psh t2 h 2 (nI c) (nI kd) 0 0 = v at *
  have zc : ∀ f, f < 83 ∨ 88 < f → v f = t2 f := fun f hf => funext fun i => pf f i hf
  have en : ∀ f, f < 83 ∨ 88 < f → cn v f = cn t2 f := fun f hf => cn_fr (zc f hf)
  have eu2 : undW v c = undW t2 c := by
    funext i
    unfold undW
    rw [zc 69 (by decide)]
  have hR := refuse_x hE (h := h) (c := c) (g := g) (s := s) (kd := kd) pS (by rw [eu2, en 23 (by decide), en 61 (by decide)]; exact hsl) ⟨by omega, hh.2⟩ (by rw [en 61 (by decide)]; exact hc2) (by rw [zc 69 (by decide), zt 69 (by decide)]; exact h0) hcP (fun j hj e => by
      rw [en 61 (by decide)] at hj
      rw [zc 64 (by decide)] at e
      exact absurd z73 (hL.inner hc2 hj e)) (by rw [zc 63 (by decide), zt 63 (by decide), h63, nI_clamp (by omega)]; omega) (fun y => absurd y (by decide)) (by rw [zc 65 (by decide), zt 65 (by decide)]; exact h65) (by rw [en 30 (by decide), zn 30 (by decide)]; exact hg) (by rw [zc 31 (by decide), zt 31 (by decide)]; exact hs) hs9 hk p88 p83 p84 p85
  refine hR.mono ?_
  rintro r N' ⟨hr, t', w⟩
  refine ⟨hr, t', ?_⟩
  have pb : PB c X m z P N' t' h v v := w.pb (by rw [en 30 (by decide), zn 30 (by decide)]; exact h24)
  exact (pb.pre (MB.of pM (by rw [zn 30 (by decide)]; exact h24)) (en 61 (by decide)) pW plo).pre m1 (zn 61 (by decide)) m2 (fun f h1 h2 i _ => by rw [zt f (by simp; omega)])
