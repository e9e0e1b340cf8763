set_option maxRecDepth 100000
/-! a call ends: what is done to it, and its guard around is told -/
def mG (N : Mem) (c : Nat) (val b tm : Int32) : Mem := sI (sI (sI (sI N 21 c 11 1) 21 c 12 val) 21 c 9 b) 21 c 13 tm
def mF (N : Mem) (c f : Nat) (tm : Int32) : Mem := sI (sR (sI N 21 c 11 2) 21 c 16 (22, f)) 21 c 13 tm
/-- what SZ_end wants of the memory after -/
def EN (N N' : Mem) (t : DB) (c : Nat) (how val b : Int32) : Prop := NF N N' [21] ∧ N'.2.2 = N.2.2 ∧ S_I N' (tE t c how val b) ∧ S_R N' t ∧ S_N N' t ∧
    (∀ i, N'.2.1 21 i 6 = N.2.1 21 i 6 ∧ N'.2.1 21 i 7 = N.2.1 21 i 7 ∧ N'.1 21 i 10 = N.1 21 i 10 ∧ N'.1 21 i 14 = N.1 21 i 14) ∧
    (∀ i, i ≠ c → N'.1 21 i 12 = N.1 21 i 12 ∧ N'.2.1 21 i 16 = N.2.1 21 i 16) ∧ (N'.1 21 c 12 = if how = 1 then val else -1) ∧ (N'.2.1 21 c 16 = if how = 2 then rn 22 val else (0, 0))
theorem EN_G {X : Mem} {m z : Nat} {P : List Nat} {x : Nat} {N : Mem} {t : DB} {c : Nat} {val b : Int32} (h : SZ X m z P x N t) (hc : c < cn t 61) (h0 : t 69 c = 0) : EN N (mG N c val b (t 0 0)) t c 1 val b := by
  have e16 := (h.C c hc).2.2.2
  rw [h0, if_neg (by decide)] at e16
  refine ⟨(((NF.rf.wI _ _ _ (by decide)).wI _ _ _ (by decide)).wI _ _ _ (by decide)).wI _ _ _ (by decide), rfl, ?_, h.R, ?_, fun i => ⟨rfl, rfl, ?_, ?_⟩, fun i hi => ⟨?_, rfl⟩, ?_, ?_⟩
  · exact ((((h.I.wu (21, 11, 69, 61) (by decide) c 1).wn 21 c 12 val (by decide)).wt 70 c val (by decide)).wu (21, 9, 71, 61) (by decide) c b).wu (21, 13, 68, 61) (by decide) c (t 0 0)
  · exact (((h.N.wn 21 c 11 1 (by decide)).wn 21 c 12 val (by decide)).wn 21 c 9 b (by decide)).wn 21 c 13 (t 0 0) (by decide)
  · unfold mG; rw [sI_ne (by simp), sI_ne (by simp), sI_ne (by simp), sI_ne (by simp)]
  · unfold mG; rw [sI_ne (by simp), sI_ne (by simp), sI_ne (by simp), sI_ne (by simp)]
  · unfold mG; rw [sI_ne (by simp), sI_ne (by simp), sI_ne (by simp [hi]), sI_ne (by simp)]
  · unfold mG; rw [sI_ne (by simp), sI_ne (by simp), if_pos rfl]; exact if_pos ⟨rfl, rfl, rfl⟩
  · rw [if_neg (by decide)]; exact e16
theorem EN_F {X : Mem} {m z : Nat} {P : List Nat} {x : Nat} {N : Mem} {t : DB} {c f : Nat} (h : SZ X m z P x N t) (hc : c < cn t 61) (h0 : t 69 c = 0) (hf : f < cn t 23) : EN N (mF N c f (t 0 0)) t c 2 (nI f) 0 := by
  have e12 := (h.C c hc).2.2.1
  rw [h0, if_neg (by decide)] at e12
  have h71 : t 71 c = 0 := (h.iH c hc).2.2.2.1 (by rw [h0]; decide)
  have hF := (nF_b h).2
  have eT : tE t c 2 (nI f) 0 = up (up (up t 69 c 2) 70 c (nI f)) 68 c (t 0 0) := by
    unfold tE
    rw [up_id (f := 71) (i := c) (v := 0) (show (up (up t 69 c 2) 70 c (nI f)) 71 c = 0 from h71)]
  refine ⟨((NF.rf.wI _ _ _ (by decide)).wR _ _ _ (by decide)).wI _ _ _ (by decide), rfl, ?_, h.R.wn 21 c 16 (22, f) (by decide), ?_, fun i => ⟨?_, ?_, ?_, ?_⟩, fun i hi => ⟨?_, ?_⟩, ?_, ?_⟩
  · rw [eT]
    exact ((h.I.wu (21, 11, 69, 61) (by decide) c 2).wt 70 c (nI f) (by decide)).wu (21, 13, 68, 61) (by decide) c (t 0 0)
  · exact (h.N.wn 21 c 11 2 (by decide)).wn 21 c 13 (t 0 0) (by decide)
  · exact sR_ne (by simp)
  · exact sR_ne (by simp)
  · unfold mF; rw [sI_ne (by simp)]; exact sI_ne (by simp)
  · unfold mF; rw [sI_ne (by simp)]; exact sI_ne (by simp)
  · unfold mF; rw [sI_ne (by simp)]; exact sI_ne (by simp)
  · exact sR_ne (by simp [hi])
  · unfold mF; rw [if_neg (by decide), sI_ne (by simp)]; exact (sI_ne (by simp)).trans e12
  · rw [if_pos rfl, rn_j (by omega)]; exact if_pos ⟨rfl, rfl, rfl⟩
theorem SZ.endN {X : Mem} {m z : Nat} {P : List Nat} {N N' : Mem} {t : DB} {c : Nat} {how val b : Int32} (h : SZ X m z P c N t) (hc : c < cn t 61) (hcP : c ∉ P) (hhow : how = 1 ∨ how = 2) (hval : how = 2 → ∃ f, f < cn t 23 ∧ val = nI f) (hb : b = 0 ∨ b = 1) (hb2 : how ≠ 1 → b = 0) (hp : t 64 c ≠ -1) (e : EN N N' t c how val b) : SZ X m z P 100000 N' (tE t c how val b) := by
  obtain ⟨e1, e2, e3, e4, e5, e6, e7, e8, e9⟩ := e
  exact SZ_end h hc hcP hhow hval hb hb2 hp e1 e2 e3 e4 e5 e6 e7 e8 e9
/-- the reference's end of a call within p -/
theorem w_ends_s {t : DB} {c p : Nat} {how val b x4 : Int32} {K : DB → Prop} (hc : c < 4400) (hp : p < 2 ^ 31) (h0 : t 69 c = 0) (h64 : t 64 c = nI p) (hx : (x4 = 0 ∨ how ≠ 1) → b = 0) (hx1 : x4 ≠ 0 → how = 1 → b = 1) (hK : w_told (nI p) (nI c) (tE t c how val b) K) : w_ends (nI c) how val x4 t K := by
  have vc : vp_in (nI c) 4400 := vp_in_nI hc (by decide)
  have cc : (nI c).toNatClampNeg = c := nI_clamp (by omega)
  have k44 : (b = 0 ∨ b = 1) → w_ends_44 (nI c) how val x4 b (nI c) (up (up t 69 c how) 70 c val) K := by
    intro hb
    unfold w_ends_44
    rw [cc]
    refine ⟨hb, vc, fun t1 e1 => ⟨vc, fun t2 e2 => ⟨vc, fun x3 e3 => ?_⟩⟩⟩
    subst e1
    have e2' : t2 = tE t c how val b := e2
    subst e2'
    have : x3 = nI p := by rw [e3, tE_TF 64 (by decide)]; exact h64
    subst this
    exact ⟨fun y => absurd y (nI_pos hp), fun _ => hK⟩
  unfold w_ends
  rw [cc]
  refine ⟨vc, fun _ => ⟨vc, fun t1 e1 => ⟨vc, fun t2 e2 => ?_⟩⟩, fun y => absurd h0 y⟩
  subst e1; subst e2
  refine ⟨fun y => ?_, fun y => ⟨fun y2 => ?_, fun y2 => ?_⟩⟩
  · have := hx (Or.inl y); subst this; exact k44 (Or.inl rfl)
  · have := hx (Or.inr y2); subst this; exact k44 (Or.inl rfl)
  · have := hx1 y y2; subst this; exact k44 (Or.inr rfl)
/-- the guard around is told: both sides -/
theorem ended_c {b dp n : Nat} (hT : CT b dp n) {X : Mem} {m zz : Nat} {P : List Nat} {N N3 : Mem} {t : DB} {h c p : Nat} {how val by_ : Int32} (hS : SS X m zz P c N t) (hh : (h + 1000 * b ≤ 10000 ∧ 60 ≤ zz)) (hc : c < cn t 61) (h0 : t 69 c = 0) (hcP : c ∉ P) (hch : ∀ k, k < cn t 61 → t 64 k = nI c → t 69 k ≠ 0) (hd : (t 63 c).toNatClampNeg ≤ dp + 1) (hNL : b = 0 → NL t c)
    (h88 : t 88 0 = nI (h + 1)) (h83 : t 83 h = 1) (h84 : t 84 h = nI c) (h85 : t 85 h = how) (h86 : t 86 h = val) (h87 : t 87 h = by_) (hp : t 64 c = nI p) (hpc : p < c)
    (hhow : how = 1 ∨ how = 2) (hval : how = 2 → ∃ f, f < cn t 23 ∧ val = nI f) (hb : by_ = 0 ∨ by_ = 1) (hb2 : how ≠ 1 → by_ = 0) (tm : N3.1 1 0 0 = t 0 0) (e : EN N (sI N3 21 c 13 (t 0 0)) (pop t h) c how val by_) :
    cq (n + 1 + 10) mX0_ended [.inr (1, 0), .inr (21, c)] N3 (fun r N'' => r = none ∧ ∃ t', PT b X m zz P N'' t' h t t (t 62 c) c ∧ DN t' c how val by_) := by
  have hn := hS.1.nC
  have h24 : cn t 30 ≤ 24 := hS.iB.2.2.2.1.2
  have h50 : cn t 50 ≤ 60 := hS.iB.2.2.2.2.2.1.2
  have h47 : cn t 47 ≤ 10 := hS.iB.2.2.2.2.1.2
  have hS0 : SS X m zz P c N (pop t h) := hS.pop
  have ht0 : TF t (pop t h) [88] := TF.rf.wu _ _ (by decide)
  have hM0 : MO t (pop t h) := MO.pop
  have hlo0 : ∀ f, 83 ≤ f → f ≤ 87 → ∀ i, i < h → pop t h f i = t f i := fun f h1 h2 i _ => up_f (by omega)
  have p88 : pop t h 88 0 = nI h := up_s
  generalize ht0d : pop t h = t0 at *
  have z : ∀ f, f ≠ 88 → t0 f = t f := fun f hf => ht0 f (by simp; exact hf)
  have zc : ∀ f, f ≠ 88 → cn t0 f = cn t f := fun f hf => cn_fr (z f hf)
  have hne : t0 64 c ≠ -1 := by rw [z 64 (by decide), hp]; exact nI_m1 (by omega)
  have hS1 := hS0.1.endN (by rw [zc 61 (by decide)]; exact hc) hcP hhow (by rw [zc 23 (by decide)]; exact hval) hb hb2 hne e
  have htE : TF t0 (tE t0 c how val by_) [68, 69, 70, 71] := tE_TF
  have hM1 : MO t0 (tE t0 c how val by_) := MO.ofE (by rw [z 69 (by decide)]; exact h0)
  have x70 : tE t0 c how val by_ 70 c = val := by rw [tE_70, if_pos rfl]
  have x71 : tE t0 c how val by_ 71 c = by_ := by rw [tE_71, if_pos rfl]
  have x69 : ∀ i, tE t0 c how val by_ 69 i = if i = c then how else t 69 i := fun i => by rw [tE_69, z 69 (by decide)]
  generalize ht1d : tE t0 c how val by_ = t1 at *
  have y : ∀ f, f ∉ [68, 69, 70, 71, 88] → t1 f = t f := fun f hf => by
    rw [htE f (fun q => hf (by revert q; simp; omega)), z f (fun q => hf (by simp [q]))]
  have yc : ∀ f, f ∉ [68, 69, 70, 71, 88] → cn t1 f = cn t f := fun f hf => cn_fr (y f hf)
  have hpl : p < cn t 61 := by omega
  have hn0 : how ≠ 0 := by rcases hhow with q | q <;> rw [q] <;> decide
  obtain ⟨pp0, psib⟩ := hS.iP c hc h0 p hpl hp
  obtain ⟨o, T, hT', d, y1, y2, y3, y4, y5, y6, y7, y8, y9, -⟩ := hS.iC c hc
  obtain ⟨ed, q1, q2, q3, q4, q5⟩ : ∃ e', t 62 p = nI o ∧ d = e' + 1 ∧ t 63 p = nI e' ∧ e' < hT' ∧ t 65 p = t 49 (5 * T + e') := by
    rcases y9 with ⟨-, q⟩ | ⟨p', e', w1, w2, w3, w4, w5, w6, w7⟩
    · exact absurd (hp.symm.trans q) (nI_m1 (by omega))
    · have : p = p' := (nI_eq (by omega) (by omega)).mp (hp.symm.trans w2)
      subst this
      exact ⟨e', w3, w4, w5, w6, w7⟩
  obtain ⟨g, hg, eg⟩ : ∃ g, g < cn t 30 ∧ t 65 p = nI g := by
    obtain ⟨h', i1, i2, i3, -⟩ := hS.iT T (Or.inl y4)
    have : h' = hT' := (nI_eq (by omega) (by omega)).mp (i2.symm.trans y5)
    subst this
    obtain ⟨g, w1, w2⟩ := i3 ed q4
    exact ⟨g, w1, q5.trans w2⟩
  obtain ⟨s, hs9, es, -⟩ := hS.iG g hg
  have hpP : p ∉ P := fun q => by
    have := (hS.J p q).2
    rw [pp0] at this
    exact absurd this (by decide)
  have hpne : p ≠ c := by omega
  have e62 : t 62 p = t 62 c := q1.trans y2.symm
  have hP : CTP b dp X m zz P (sI N3 21 c 13 (t 0 0)) t1 h p c g s := by
    refine ⟨hS1, fun k hk k0 q hq hqp eq => ?_, hh, hpc, by rw [yc 61 (by decide)]; exact hc, by rw [y 64 (by decide)]; exact hp, by rw [x69, if_neg hpne]; exact pp0, hpP, by rw [x69, if_pos rfl]; exact hhow, by rw [y 65 (by decide)]; exact eg, by rw [yc 30 (by decide)]; exact hg, by rw [y 31 (by decide)]; exact es, hs9, fun j hj hjc ej => ?_, ?_, fun hb0 k hk e1 e2 e3 => ?_, ?_, fun k hk e1 => ?_⟩
    · rw [yc 61 (by decide)] at hk hq
      rw [x69] at k0
      have hkc : k ≠ c := fun q => by rw [if_pos q] at k0; exact hn0 k0
      rw [if_neg hkc] at k0
      rw [y 64 (by decide)] at eq
      obtain ⟨i1, i2⟩ := hS.iP k hk k0 q hq eq
      have hqc : q ≠ c := fun w => hch k hk (w ▸ eq) k0
      refine ⟨by rw [x69, if_neg hqc]; exact i1, ?_⟩
      rw [yc 30 (by decide), y 65 (by decide), yc 61 (by decide), y 64 (by decide), y 31 (by decide)]
      intro g' hg' e1 j hj hjk ej
      have hjc : j ≠ c := fun w => by
        rw [w, hp] at ej
        exact hqp ((nI_eq (by omega) (by omega)).mp ej).symm
      rw [x69, if_neg hjc]
      exact i2 g' hg' e1 j hj hjk ej
    · rw [yc 61 (by decide)] at hj
      rw [y 64 (by decide)] at ej
      rw [x69, if_neg hjc]
      have := psib g hg eg j hj hjc ej
      rw [es] at this
      rcases this with ⟨w1, w2⟩ | ⟨w1, w2⟩
      · exact Or.inl ⟨(nI_eq (by omega) (by omega)).mp (show nI s = nI 5 from w1), w2⟩
      · refine Or.inr ⟨?_, w2⟩
        rcases w1 with w | w
        · exact Or.inl ((nI_eq (by omega) (by omega)).mp (show nI s = nI 4 from w))
        · exact Or.inr ((nI_eq (by omega) (by omega)).mp (show nI s = nI 6 from w))
    · rw [y 63 (by decide), q3, nI_clamp (by omega)]
      rw [y8, nI_clamp (by omega)] at hd
      omega
    · rw [yc 61 (by decide)] at hk
      rw [y 62 (by decide), e62] at e1
      rw [y 78 (by decide)] at e3
      rw [x69] at e2
      have hkc : k ≠ c := fun q => by rw [if_pos q] at e2; exact hn0 e2
      rw [if_neg hkc] at e2
      exact hkc (hNL hb0 k hk e1 e2 e3)
    · rw [htE 88 (by decide)]; exact p88
    · rw [yc 61 (by decide)] at hk
      rw [y 64 (by decide)] at e1
      rw [x69]
      by_cases w : k = c
      · rw [if_pos w]; exact hn0
      · rw [if_neg w]; exact hch k hk e1
  have hCT := hT X m zz P (sI N3 21 c 13 (t 0 0)) t1 h p c g s hP
  have e5 : (sI N3 21 c 13 (t 0 0)).2.1 21 c 5 = (21, p) := by
    have : (sI N3 21 c 13 (t 0 0)).2.1 21 c 5 = rn 21 (t1 64 c) := hS1.R (21, 5, 21, 64, 61) (by decide) c (by show c < cn t1 61; rw [yc 61 (by decide)]; exact hc)
    rw [this, y 64 (by decide), hp, rn_j (by omega)]
  have e6 : (sI N3 21 c 13 (t 0 0)).2.1 21 p 6 = (10 + s, g) := by
    rw [(hS1.C p (by rw [yc 61 (by decide)]; exact hpl)).1, y 65 (by decide), eg]
    unfold gn
    rw [if_neg (nI_pos (by omega)), nI_clamp (by omega), y 31 (by decide), es, nI_clamp (by omega)]
  refine sv_X0_ended (d := n) (Q := fun N'' => ∃ t', PT b X m zz P N'' t' h t t (t 62 c) c ∧ DN t' c how val by_) (fun N'' w => ⟨rfl, w⟩) ⟨rfl, rfl, fun M1 g1 => ?_⟩
  rw [show N3.1 (1, 0).1 (1, 0).2 0 = t 0 0 from tm] at g1
  subst g1
  refine ⟨rfl, fun e2 ee2 => ?_⟩
  have w2 : e2 = (21, p) := ee2.trans e5
  subst w2
  refine ⟨fun w => absurd (congrArg Prod.fst w) (by show ¬ 21 = 0; decide), fun _ => ⟨rfl, fun e6' ee6 => ?_⟩⟩
  have w6 : e6' = (21, p) := ee6.trans e5
  subst w6
  refine ⟨rfl, fun e7 ee7 => ⟨rfl, fun e8 ee8 => ?_⟩⟩
  have w7 : e7 = (10 + s, g) := ee7.trans e6
  subst w7
  have w8 : e8 = (21, p) := ee8.trans e5
  subst w8
  refine ⟨⟨by show 10 ≤ 10 + s; omega, by show 10 + s ≤ 19; omega⟩, ?_⟩
  refine cq.mono hCT ?_
  rintro r N'' ⟨hr, u, t', hu, r1, r2, r3, r4, r5, r6⟩
  have dn : DN t' c how val by_ := by
    have x := (r4.2.2.1 c (by rw [yc 61 (by decide)]; exact hc)).2.1 (by rw [x69, if_pos rfl]; exact hn0)
    exact ⟨x.1.trans (by rw [x69, if_pos rfl]), x.2.1.trans x70, x.2.2.trans x71⟩
  refine ⟨hr, t', ⟨?_, ⟨r2.1, fun f h1 h2 i hi => ?_⟩, r3, hM0.tr (hM1.tr r4), fun hb0 k hk hko => ?_, fun E hW => r6 E (fun i hi i0 hE g' hg' h65' j hj ej => ?_)⟩, dn⟩
  · refine RUN.tr (u := u) (run_st h88 (by omega) (fun K hK => Or.inr (Or.inl ⟨h83, ?_⟩))) r1
    rw [h84, h85, h86, h87, ht0d]
    refine w_ends_s (p := p) (b := by_) (by omega) (by omega) (by rw [z 69 (by decide)]; exact h0) (by rw [z 64 (by decide)]; exact hp) (fun w => ?_) (fun w w2 => ?_) (by rw [ht1d]; exact hu K hK)
    · rcases w with w | w
      · rcases hb with q | q
        · exact q
        · rw [q, if_neg (by decide)] at w; exact absurd w (by decide)
      · exact hb2 w
    · rcases hb with q | q
      · rw [q, if_pos (by decide)] at w; exact absurd rfl w
      · exact q
  · rw [r2.2 f h1 h2 i hi, htE f (by simp; omega)]
    exact hlo0 f h1 h2 i hi
  · rw [r5 hb0 k (by rw [yc 61 (by decide)]; exact hk) (by rw [y 62 (by decide), e62]; exact hko), x69, if_neg (fun w => hko (by rw [w]))]
  · rw [yc 61 (by decide)] at hi hj
    rw [yc 30 (by decide)] at hg'
    rw [y 65 (by decide)] at h65'
    rw [y 64 (by decide)] at ej
    rw [x69] at i0
    have hic : i ≠ c := fun w => by rw [if_pos w] at i0; exact hn0 i0
    rw [if_neg hic] at i0
    rw [x69, y 76 (by decide), y 31 (by decide)]
    have hjc : j ≠ c := fun w => by
      rw [w, hp] at ej
      exact hE (Or.inr ((nI_eq (by omega) (by omega)).mp ej).symm)
    rw [if_neg hjc]
    exact hW i hi i0 (fun w => w.elim (fun w2 => hE (Or.inl w2)) hic) g' hg' h65' j hj ej
