set_option maxRecDepth 100000
/-! an order's first call ends; a call ends (CE) out of what its guard is told (CT) -/
theorem sI_self {N : Mem} {k i f : Nat} {v : Int32} : (sI N k i f v).1 k i f = v := if_pos ⟨rfl, rfl, rfl⟩
def x58 (how b : Int32) : Int32 := if how = 1 then (if b = 1 then 3 else 1) else 2
def tR (t : DB) (c o : Nat) (how val b : Int32) : DB := up (up (up (up (tE t c how val b) 58 o (x58 how b)) 59 o val) 57 o (t 0 0)) 60 0 (t 60 0 + 1)
theorem tR_TF {t : DB} {c o : Nat} {how val b : Int32} : TF (tE t c how val b) (tR t c o how val b) [57, 58, 59, 60] := (((TF.rf.wu _ _ (by decide)).wu _ _ (by decide)).wu _ _ (by decide)).wu _ _ (by decide)
theorem x58_4 {how b : Int32} : x58 how b ≠ 4 := by
  unfold x58
  split
  · split <;> decide
  · decide
theorem SZ_endR {X : Mem} {m z : Nat} {P : List Nat} {N N' : Mem} {t : DB} {c o : Nat} {how val b : Int32} (h : SZ X m z P c N t) (hz : 60 ≤ z) (hc : c < cn t 61) (hcP : c ∉ P) (h0 : t 69 c = 0) (hhow : how = 1 ∨ how = 2) (hval : how = 2 → ∃ f, f < cn t 23 ∧ val = nI f) (hb : b = 0 ∨ b = 1) (hb2 : how ≠ 1 → b = 0) (hroot : t 64 c = -1) (ho : o < cn t 50) (e62 : t 62 c = nI o) (e : EN N N' t c how val b) :
    SZ X m z P 100000 (sI (sI N' 20 o 9 (t 0 0)) 1 0 1 (t 60 0 + 1)) (tR t c o how val b) := by
  have h50 : cn t 50 ≤ 60 := h.iB.2.2.2.2.2.1.2
  have hE : TF t (tE t c how val b) [68, 69, 70, 71] := tE_TF
  have eN := e
  obtain ⟨e1, e2, e3, e4, e5, e6, e7, e8, e9⟩ := e
  have q20 := e1 20 (by decide)
  -- its own order's row before
  obtain ⟨f8, c', c1, c2, c3, c4, c5⟩ := h.O o ho (by omega)
  have hcc : c' = c := h.iR c' c c1 hc c4 hroot (by rw [c3, e62])
  subst hcc
  have h58 : t 58 o = 0 := by
    rcases c5 with ⟨-, q⟩ | ⟨-, q⟩ | ⟨q, -⟩ | ⟨q, -⟩
    · rw [h0] at q; exact absurd q (by decide)
    · exact q
    · rw [h0] at q; exact absurd q (by decide)
    · rw [h0] at q; exact absurd q (by decide)
  rw [h58, if_neg (by decide)] at f8
  have hO1 : S_O o N' (tE t c' how val b) := by
    intro o' ho' hoo
    rw [hE.cn (by decide)] at ho'
    obtain ⟨a1, k, a2, a3, a4, a5, a6⟩ := h.O o' ho' (by omega)
    have hne : k ≠ c' := fun q => by
      rw [q, e62] at a4
      exact hoo ((nI_eq (by omega) (by omega)).mp a4).symm
    rw [q20.1, q20.2.1, hE.cn (by decide), hE 58 (by decide), hE 59 (by decide), hE 62 (by decide), hE 64 (by decide)]
    refine ⟨a1, k, a2, a3, a4, a5, ?_⟩
    rw [tE_69, tE_70, tE_71, if_neg hne, if_neg hne, if_neg hne]
    exact a6
  have h1 := SZ_endX (z' := o) h hc hcP hhow hval hb hb2 e1 e2 e3 e4 e5 e6 e7 e8 e9 hO1
  have ht : TF (tE t c' how val b) (tR t c' o how val b) [57, 58, 59, 60] := tR_TF
  have hf : NF N' (sI (sI N' 20 o 9 (t 0 0)) 1 0 1 (t 60 0 + 1)) [20, 1] := (NF.rf.wI _ _ _ (by decide)).wI _ _ _ (by decide)
  have t60 : tE t c' how val b 60 0 = t 60 0 := by rw [hE 60 (by decide)]
  have t00 : tE t c' how val b 0 0 = t 0 0 := by rw [hE 0 (by decide)]
  have hI : S_I (sI (sI N' 20 o 9 (t 0 0)) 1 0 1 (t 60 0 + 1)) (tR t c' o how val b) :=
    ((((h1.I.wt 58 o (x58 how b) (by decide)).wt 59 o val (by decide)).wu (20, 9, 57, 50) (by decide) o (t 0 0)).wn 1 0 1 (t 60 0 + 1) (by decide)).wt 60 0 (t 60 0 + 1) (by decide)
  have hN := ((h1.N.wn 20 o 9 (t 0 0) (by decide)).wn 1 0 1 (t 60 0 + 1) (by decide)).fr (K := []) NF.rf (by decide) ht (by decide)
  have hR : S_R (sI (sI N' 20 o 9 (t 0 0)) 1 0 1 (t 60 0 + 1)) (tR t c' o how val b) := h1.R.fr (K := []) (N' := N') NF.rf (by decide) ht (by decide)
  have hW : S_W (sI (sI N' 20 o 9 (t 0 0)) 1 0 1 (t 60 0 + 1)) (tR t c' o how val b) := by
    refine ⟨h1.W.1, ?_, ?_⟩
    · rw [sI_ne (by simp), sI_ne (by simp), ht 0 (by decide)]; exact h1.W.2.1
    · rw [show tR t c' o how val b 60 0 = t 60 0 + 1 from up_s]
      exact sI_self
  have hO : S_O z (sI (sI N' 20 o 9 (t 0 0)) 1 0 1 (t 60 0 + 1)) (tR t c' o how val b) := by
    intro o' ho' hoz
    rw [ht.cn (by decide)] at ho'
    rw [sI_ne (by simp), sI_ne (by simp), ht.cn (by decide), ht 62 (by decide), ht 64 (by decide), ht 69 (by decide), ht 70 (by decide), ht 71 (by decide)]
    have r58 : tR t c' o how val b 58 o' = if o' = o then x58 how b else t 58 o' := by
      unfold tR
      rw [up_f (by decide), up_f (by decide), up_f (by decide)]
      by_cases q : o' = o
      · rw [q, up_s, if_pos rfl]
      · rw [up_n (fun w => q w.2), if_neg q, hE 58 (by decide)]
    have r59 : tR t c' o how val b 59 o' = if o' = o then val else t 59 o' := by
      unfold tR
      rw [up_f (by decide), up_f (by decide)]
      by_cases q : o' = o
      · rw [q, up_s, if_pos rfl]
      · rw [up_n (fun w => q w.2), if_neg q, up_f (by decide), hE 59 (by decide)]
    rw [r58, r59]
    by_cases q : o' = o
    · subst q
      rw [if_pos rfl, if_pos rfl, if_neg x58_4]
      refine ⟨by rw [q20.1]; exact f8, c', by rw [hE.cn (by decide)]; exact hc, by show N'.2.1 20 o' 7 = _; rw [q20.2.1]; exact c2, by rw [hE 62 (by decide)]; exact e62, by rw [hE 64 (by decide)]; exact hroot, Or.inr ?_⟩
      rw [tE_69, tE_70, tE_71, if_pos rfl, if_pos rfl, if_pos rfl]
      rcases hhow with w | w
      · subst w
        exact Or.inr (Or.inl ⟨rfl, by unfold x58; rw [if_pos rfl], rfl⟩)
      · subst w
        exact Or.inr (Or.inr ⟨rfl, by unfold x58; rw [if_neg (by decide)], rfl⟩)
    · rw [if_neg q, if_neg q]
      have := h1.O o' ho' q
      rw [hE 58 (by decide), hE 59 (by decide)] at this
      exact this
  exact ⟨hI, hR, hN, h1.K.fr hf (by decide) ht (by decide), h1.S.fr hf (by decide) ht (by decide), h1.E.fr rfl ht (by decide), hW, h1.P1.fr hf (by decide) ht (by decide), h1.P2.fr hf (by decide) ht (by decide), h1.G.fr hf (by decide) ht (by decide), h1.G0.fr hf (by decide) ht (by decide), h1.G1.fr hf (by decide) ht (by decide), h1.G2.fr hf (by decide) ht (by decide), h1.G7.fr hf (by decide) ht (by decide), h1.T.fr hf (by decide) ht (by decide), h1.U.fr hf (by decide) ht (by decide), h1.C.fr hf (by decide) ht (by decide), h1.V.fr hf (by decide) ht (by decide), hO, h1.A.fr hf (by decide) ht (by decide), h1.Y.fr hf (by decide) ht (by decide), h1.Q.fr hf (by decide) ht (by decide), h1.B.fr ht (by decide), h1.F.fr hf (by decide), h1.M.fr rfl ht (by decide), h1.iB.fr ht (by decide), h1.iG.fr ht (by decide), h1.iT.fr ht (by decide), h1.iO.fr ht (by decide), h1.iC.fr ht (by decide), h1.iH.fr ht (by decide), h1.iZ.fr ht (by decide), h1.iL.fr ht (by decide), h1.iR.fr ht (by decide), h1.iX.fr ht (by decide), h1.iU.fr ht (by decide), h1.iD.fr ht (by decide), h1.iK.fr ht (by decide), h1.iY.fr ht (by decide), h1.J.fr ht (by decide), h1.GT.fr hf (by decide) ht (by decide), h1.H.fr hf (by decide) ht (by decide)⟩
theorem w_endsR_s {t : DB} {c o : Nat} {how val b x4 : Int32} {K : DB → Prop} (hc : c < 4400) (ho : o < 60) (h0 : t 69 c = 0) (h64 : t 64 c = -1) (h62 : t 62 c = nI o) (hhow : how = 1 ∨ how = 2) (hx : (x4 = 0 ∨ how ≠ 1) → b = 0) (hx1 : x4 ≠ 0 → how = 1 → b = 1) (hK : K (tR t c o how val b)) : w_ends (nI c) how val x4 t K := by
  have vc : vp_in (nI c) 4400 := vp_in_nI hc (by decide)
  have cc : (nI c).toNatClampNeg = c := nI_clamp (by omega)
  have vo : vp_in (nI o) 60 := vp_in_nI ho (by decide)
  have co : (nI o).toNatClampNeg = o := nI_clamp (by omega)
  have k109 : ∀ v, v = x58 how b → w_ends_109 val (nI o) v (nI o) (tE t c how val b) K := fun v ev => by
    unfold w_ends_109
    rw [co]
    refine ⟨vo, fun t1 e1 => ⟨vo, fun t2 e2 => ⟨vo, fun t3 e3 t4 e4 => ?_⟩⟩⟩
    subst e1; subst e2; subst e3; subst e4; subst ev
    exact hK
  have k44 : (b = 0 ∨ b = 1) → w_ends_44 (nI c) how val x4 b (nI c) (up (up t 69 c how) 70 c val) K := by
    intro hb
    unfold w_ends_44
    rw [cc]
    refine ⟨hb, vc, fun t1 e1 => ⟨vc, fun t2 e2 => ⟨vc, fun x3 e3 => ?_⟩⟩⟩
    subst e1
    have e2' : t2 = tE t c how val b := e2
    subst e2'
    have : x3 = -1 := by rw [e3, tE_TF 64 (by decide)]; exact h64
    subst this
    refine ⟨fun _ => ⟨vc, fun x4' e4 => ?_⟩, fun y => absurd (by decide) y⟩
    have : x4' = nI o := by rw [e4, tE_TF 62 (by decide)]; exact h62
    subst this
    refine ⟨fun y => k109 2 ?_, fun y => ⟨fun y2 => k109 1 ?_, fun y2 => k109 3 ?_⟩⟩
    · unfold x58; rw [if_neg y]
    · unfold x58; rw [if_pos y, hx (Or.inl y2), if_neg (by decide)]
    · unfold x58; rw [if_pos y, hx1 y2 y, if_pos rfl]
  unfold w_ends
  rw [cc]
  refine ⟨vc, fun _ => ⟨vc, fun t1 e1 => ⟨vc, fun t2 e2 => ?_⟩⟩, fun y => absurd h0 y⟩
  subst e1; subst e2
  refine ⟨fun y => ?_, fun y => ⟨fun y2 => ?_, fun y2 => ?_⟩⟩
  · have := hx (Or.inl y); subst this; exact k44 (Or.inl rfl)
  · have := hx (Or.inr y2); subst this; exact k44 (Or.inl rfl)
  · have := hx1 y y2; subst this; exact k44 (Or.inr rfl)
theorem endedR_c {b n : Nat} {X : Mem} {m zz : Nat} {P : List Nat} {N N3 : Mem} {t : DB} {h c : Nat} {how val by_ : Int32} (hS : SS X m zz P c N t) (hh : (h + 1000 * b ≤ 10000 ∧ 60 ≤ zz)) (hc : c < cn t 61) (h0 : t 69 c = 0) (hcP : c ∉ P) (hch : ∀ k, k < cn t 61 → t 64 k = nI c → t 69 k ≠ 0)
    (h88 : t 88 0 = nI (h + 1)) (h83 : t 83 h = 1) (h84 : t 84 h = nI c) (h85 : t 85 h = how) (h86 : t 86 h = val) (h87 : t 87 h = by_) (hp : t 64 c = -1)
    (hhow : how = 1 ∨ how = 2) (hval : how = 2 → ∃ f, f < cn t 23 ∧ val = nI f) (hb : by_ = 0 ∨ by_ = 1) (hb2 : how ≠ 1 → by_ = 0) (tm : N3.1 1 0 0 = t 0 0) (en : N3.1 1 0 1 = t 60 0) (e : EN N (sI N3 21 c 13 (t 0 0)) (pop t h) c how val by_) :
    cq (n + 1 + 10) mX0_ended [.inr (1, 0), .inr (21, c)] N3 (fun r N'' => r = none ∧ ∃ t', PT b X m zz P N'' t' h t t (t 62 c) c ∧ DN t' c how val by_) := by
  have hn := hS.1.nC
  have h50 : cn t 50 ≤ 60 := hS.iB.2.2.2.2.2.1.2
  obtain ⟨o, T, hT', d, y1, y2, -⟩ := hS.iC c hc
  have hS0 : SS X m zz P c N (pop t h) := hS.pop
  have ht0 : TF t (pop t h) [88] := TF.rf.wu _ _ (by decide)
  have hM0 : MO t (pop t h) := MO.pop
  have hlo0 : ∀ f, 83 ≤ f → f ≤ 87 → ∀ i, i < h → pop t h f i = t f i := fun f h1 h2 i _ => up_f (by omega)
  have p88 : pop t h 88 0 = nI h := up_s
  generalize ht0d : pop t h = t0 at *
  have z : ∀ f, f ≠ 88 → t0 f = t f := fun f hf => ht0 f (by simp; exact hf)
  have zc : ∀ f, f ≠ 88 → cn t0 f = cn t f := fun f hf => cn_fr (z f hf)
  have hn0 : how ≠ 0 := by rcases hhow with q | q <;> rw [q] <;> decide
  have hS1 := SZ_endR (o := o) hS0.1 hh.2 (by rw [zc 61 (by decide)]; exact hc) hcP (by rw [z 69 (by decide)]; exact h0) hhow (by rw [zc 23 (by decide)]; exact hval) hb hb2 (by rw [z 64 (by decide)]; exact hp) (by rw [zc 50 (by decide)]; exact y1) (by rw [z 62 (by decide)]; exact y2) e
  have htE : TF t0 (tE t0 c how val by_) [68, 69, 70, 71] := tE_TF
  have htR : TF (tE t0 c how val by_) (tR t0 c o how val by_) [57, 58, 59, 60] := tR_TF
  have hM1 : MO t0 (tE t0 c how val by_) := MO.ofE (by rw [z 69 (by decide)]; exact h0)
  have hM2 : MO (tE t0 c how val by_) (tR t0 c o how val by_) := MO.of htR (by decide)
  have hP1 : I_P (tE t0 c how val by_) := iP_end hS0.2 (by rw [z 69 (by decide)]; exact h0) (by rw [zc 61 (by decide), z 64 (by decide), z 69 (by decide)]; exact hch) (by
    rcases hhow with q | q
    · refine Or.inr ⟨q, fun p k hpl w hk _ _ => ?_⟩
      rw [z 64 (by decide), hp] at w
      rw [zc 61 (by decide)] at hpl
      exact absurd w.symm (nI_m1 (by omega))
    · exact Or.inl q) (by rw [zc 61 (by decide)]; exact hc)
  have hP2 : I_P (tR t0 c o how val by_) := hP1.fr htR (by decide)
  have e5 : (sI N3 21 c 13 (t 0 0)).2.1 21 c 5 = (0, 0) := by
    have : (sI N3 21 c 13 (t 0 0)).2.1 21 c 5 = rn 21 (t0 64 c) := e.2.2.2.1 (21, 5, 21, 64, 61) (by decide) c (by show c < cn t0 61; rw [zc 61 (by decide)]; exact hc)
    rw [this, z 64 (by decide), hp]; rfl
  have e4 : (sI N3 21 c 13 (t 0 0)).2.1 21 c 4 = (20, o) := by
    have : (sI N3 21 c 13 (t 0 0)).2.1 21 c 4 = rn 20 (t0 62 c) := e.2.2.2.1 (21, 4, 20, 62, 61) (by decide) c (by show c < cn t0 61; rw [zc 61 (by decide)]; exact hc)
    rw [this, z 62 (by decide), y2, rn_j (by omega)]
  refine sv_X0_ended (d := n) (Q := fun N'' => ∃ t', PT b X m zz P N'' t' h t t (t 62 c) c ∧ DN t' c how val by_) (fun N'' w => ⟨rfl, w⟩) ⟨rfl, rfl, fun M1 g1 => ?_⟩
  rw [show N3.1 (1, 0).1 (1, 0).2 0 = t 0 0 from tm] at g1
  subst g1
  refine ⟨rfl, fun e2 ee2 => ?_⟩
  have w2 : e2 = (0, 0) := ee2.trans e5
  refine ⟨fun _ => ⟨rfl, fun e3 ee3 => ?_⟩, fun w => absurd w2 w⟩
  have w3 : e3 = (20, o) := ee3.trans e4
  subst w3
  refine ⟨rfl, rfl, fun M4 g4 => ⟨rfl, rfl, fun M5 g5 => ?_⟩⟩
  rw [show (sI N3 (21, c).1 (21, c).2 13 (t 0 0)).1 (1, 0).1 (1, 0).2 0 = t 0 0 from (sI_ne (by simp)).trans tm] at g4
  subst g4
  rw [show (sI (sI N3 (21, c).1 (21, c).2 13 (t 0 0)) (20, o).1 (20, o).2 9 (t 0 0)).1 (1, 0).1 (1, 0).2 1 = t 60 0 from (sI_ne (by simp)).trans ((sI_ne (by simp)).trans en)] at g5
  subst g5
  rw [z 0 (by decide), z 60 (by decide)] at hS1
  refine ⟨tR t0 c o how val by_, ⟨?_, ⟨?_, fun f h1 h2 i hi => ?_⟩, ⟨hS1, hP2⟩, hM0.tr (hM1.tr hM2), fun _ k hk hko => ?_, fun E hW i hi i0 hE g' hg' h65' j hj ej => ?_⟩, by rw [htR 69 (by decide), tE_69, if_pos rfl], by rw [htR 70 (by decide), tE_70, if_pos rfl], by rw [htR 71 (by decide), tE_71, if_pos rfl]⟩
  · refine run_st h88 (by omega) (fun K hK => Or.inr (Or.inl ⟨h83, ?_⟩))
    rw [h84, h85, h86, h87, ht0d]
    refine w_endsR_s (o := o) (b := by_) (by omega) (by omega) (by rw [z 69 (by decide)]; exact h0) (by rw [z 64 (by decide)]; exact hp) (by rw [z 62 (by decide)]; exact y2) hhow (fun w => ?_) (fun w w2 => ?_) hK
    · rcases w with w | w
      · rcases hb with q | q
        · exact q
        · rw [q, if_neg (by decide)] at w; exact absurd w (by decide)
      · exact hb2 w
    · rcases hb with q | q
      · rw [q, if_pos (by decide)] at w; exact absurd rfl w
      · exact q
  · rw [htR 88 (by decide), htE 88 (by decide)]; exact p88
  · rw [htR f (by simp; omega), htE f (by simp; omega)]; exact hlo0 f h1 h2 i hi
  · rw [htR 69 (by decide), tE_69, if_neg (fun w => hko (by rw [w])), z 69 (by decide)]
  · have zz' : ∀ f, f ∉ [57, 58, 59, 60, 68, 69, 70, 71, 88] → tR t0 c o how val by_ f = t f := fun f hf => by
      rw [htR f (fun w => hf (by revert w; simp; omega)), htE f (fun w => hf (by revert w; simp; omega)), z f (fun w => hf (by simp [w]))]
    rw [cn_fr (zz' 61 (by decide))] at hi hj
    rw [cn_fr (zz' 30 (by decide))] at hg'
    rw [zz' 65 (by decide)] at h65'
    rw [zz' 64 (by decide)] at ej
    rw [htR 69 (by decide), tE_69, z 69 (by decide)] at i0
    have hic : i ≠ c := fun w => by rw [if_pos w] at i0; exact hn0 i0
    rw [if_neg hic] at i0
    rw [htR 69 (by decide), tE_69, z 69 (by decide), zz' 76 (by decide), zz' 31 (by decide)]
    have hjc : j ≠ c := fun w => by
      rw [w, hp] at ej
      exact nI_m1 (by omega) ej.symm
    rw [if_neg hjc]
    exact hW i hi i0 (fun w => w.elim hE hic) g' hg' h65' j hj ej
/-- CE out of ended -/
theorem CE_core {b dp n : Nat} (hEd : ∀ (X : Mem) (m zz : Nat) (P : List Nat) (N N3 : Mem) (t : DB) (h c : Nat) (how val by_ : Int32), SS X m zz P c N t → (h + 1000 * b ≤ 10000 ∧ 60 ≤ zz) → c < cn t 61 → t 69 c = 0 → c ∉ P → (∀ k, k < cn t 61 → t 64 k = nI c → t 69 k ≠ 0) → (t 63 c).toNatClampNeg ≤ dp → (b = 0 → NL t c) → t 88 0 = nI (h + 1) → t 83 h = 1 → t 84 h = nI c → t 85 h = how → t 86 h = val → t 87 h = by_ → (how = 1 ∨ how = 2) → (how = 2 → ∃ f, f < cn t 23 ∧ val = nI f) → (by_ = 0 ∨ by_ = 1) → (how ≠ 1 → by_ = 0) → N3.1 1 0 0 = t 0 0 → N3.1 1 0 1 = t 60 0 → EN N (sI N3 21 c 13 (t 0 0)) (pop t h) c how val by_ →
    cq (n + 1 + 10) mX0_ended [.inr (1, 0), .inr (21, c)] N3 (fun r N'' => r = none ∧ ∃ t', PT b X m zz P N'' t' h t t (t 62 c) c ∧ DN t' c how val by_)) : CE b dp (n + 2) := by
  intro X m zz P N t h c val by_ hS hh hc h0 hcP hch hd hNL h88 h83 h84 h86 h87
  have hS0 : SS X m zz P c N (pop t h) := hS.pop
  have tm : N.1 1 0 0 = t 0 0 := hS.W.2.1
  have en : N.1 1 0 1 = t 60 0 := hS.W.2.2
  refine ⟨fun h85 hb => ?_, fun h85 hb f hf ef => ?_⟩
  · have hh1 := hEd X m zz P N (sI (sI (sI N 21 c 11 1) 21 c 12 val) 21 c 9 by_) t h c 1 val by_ hS hh hc h0 hcP hch hd hNL h88 h83 h84 h85 h86 h87 (Or.inl rfl) (fun q => absurd q (by decide)) hb (fun q => absurd rfl q) (by rw [sI_ne (by simp), sI_ne (by simp), sI_ne (by simp)]; exact tm) (by rw [sI_ne (by simp), sI_ne (by simp), sI_ne (by simp)]; exact en) (EN_G hS0.1 hc h0)
    refine sv_X0_good (d := n + 1) (Q := fun N'' => ∃ t', PT b X m zz P N'' t' h t t (t 62 c) c ∧ DN t' c 1 val by_) (fun N'' w => ⟨rfl, w⟩) ⟨rfl, fun M1 g1 => ⟨rfl, fun M2 g2 => ⟨hb, rfl, fun M3 g3 => ⟨rfl, ?_⟩⟩⟩⟩
    subst g1; subst g2; subst g3
    exact hh1
  · subst ef
    subst hb
    have hh1 := hEd X m zz P N (sR (sI N 21 c 11 2) 21 c 16 (22, f)) t h c 2 (nI f) 0 hS hh hc h0 hcP hch hd hNL h88 h83 h84 h85 h86 h87 (Or.inr rfl) (fun _ => ⟨f, hf, rfl⟩) (Or.inl rfl) (fun _ => rfl) (by show (sI N 21 c 11 2).1 1 0 0 = _; rw [sI_ne (by simp)]; exact tm) (by show (sI N 21 c 11 2).1 1 0 1 = _; rw [sI_ne (by simp)]; exact en) (EN_F hS0.1 hc h0 hf)
    refine sv_X0_fails (d := n + 1) (Q := fun N'' => ∃ t', PT b X m zz P N'' t' h t t (t 62 c) c ∧ DN t' c 2 (nI f) 0) (fun N'' w => ⟨rfl, w⟩) ⟨rfl, fun M1 g1 => ⟨rfl, fun M2 g2 => ⟨rfl, ?_⟩⟩⟩
    subst g1; subst g2
    exact hh1
theorem par_c {X : Mem} {m z : Nat} {P : List Nat} {x : Nat} {N : Mem} {t : DB} (h : SZ X m z P x N t) {c : Nat} (hc : c < cn t 61) : (t 64 c = -1) ∨ ((t 63 c).toNatClampNeg ≠ 0 ∧ ∃ p, t 64 c = nI p ∧ p < c) := by
  obtain ⟨o, T, hT', d, y1, y2, y3, y4, y5, y6, y7, y8, y9, -⟩ := h.iC c hc
  rcases y9 with ⟨-, q⟩ | ⟨p', e', w1, w2, w3, w4, -⟩
  · exact Or.inl q
  · exact Or.inr ⟨by rw [y8, nI_clamp (by omega)]; omega, p', w2, w1⟩
theorem CE_0 {b n : Nat} : CE b 0 (n + 2) := CE_core (fun X m zz P N N3 t h c how val by_ hS hh hc h0 hcP hch hd hNL h88 h83 h84 h85 h86 h87 hhow hval hb hb2 tm en e => by
  rcases par_c hS.1 hc with q | ⟨q, -⟩
  · exact endedR_c hS hh hc h0 hcP hch h88 h83 h84 h85 h86 h87 q hhow hval hb hb2 tm en e
  · omega)
theorem CE_s {b dp n : Nat} (hT : CT b dp n) : CE b (dp + 1) (n + 2) := CE_core (fun X m zz P N N3 t h c how val by_ hS hh hc h0 hcP hch hd hNL h88 h83 h84 h85 h86 h87 hhow hval hb hb2 tm en e => by
  rcases par_c hS.1 hc with q | ⟨-, p, q1, q2⟩
  · exact endedR_c hS hh hc h0 hcP hch h88 h83 h84 h85 h86 h87 q hhow hval hb hb2 tm en e
  · exact ended_c hT hS hh hc h0 hcP hch hd hNL h88 h83 h84 h85 h86 h87 q1 q2 hhow hval hb hb2 tm e)
