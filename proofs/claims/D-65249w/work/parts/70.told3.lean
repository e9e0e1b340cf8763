set_option maxRecDepth 100000
/-! memory, translator, retry are told -/
theorem SZ.ord {X : Mem} {m z : Nat} {P : List Nat} {x : Nat} {N : Mem} {t : DB} (h : SZ X m z P x N t) {p : Nat} (hp : p < cn t 61) : ∃ o s, o < cn t 50 ∧ cn t 50 ≤ 60 ∧ t 62 p = nI o ∧ N.2.1 21 p 4 = (20, o) ∧ s < 8 ∧ t 52 o = nI s ∧ N.1 20 o 1 = nI s ∧ N.1 20 o 2 = t 53 o ∧ N.1 20 o 3 = t 54 o := by
  obtain ⟨o, T, hh, d, a1, a2, -⟩ := h.iC p hp
  have hb : cn t 50 ≤ 60 := h.iB.2.2.2.2.2.1.2
  have h8 : cn t 1 ≤ 8 := h.iB.1.2
  obtain ⟨-, ⟨s, b1, b2⟩, -⟩ := h.iO o a1
  have e := h.R (21, 4, 20, 62, 61) (by decide) p hp
  refine ⟨o, s, a1, hb, a2, ?_, by omega, b2, ?_, h.I (20, 2, 53, 50) (by decide) o a1, h.I (20, 3, 54, 50) (by decide) o a1⟩
  · show N.2.1 21 p 4 = _
    rw [show N.2.1 21 p 4 = rn 20 (t 62 p) from e, a2, rn_j (by omega)]
  · exact (h.I (20, 1, 52, 50) (by decide) o a1).trans b2
theorem told_7 {b dp n : Nat} (hE : CE b dp n) {X : Mem} {m z : Nat} {P : List Nat} {N : Mem} {t : DB} {h p c g : Nat} (q : CTP b dp X m z P N t h p c g 7) : CTG b (n + 2) X m z P N t h p c g 7 := by
  have F := q.F
  have hn := F.hn
  have hg2 := F.hg2
  have hp := F.hp
  have hc := F.hc
  have hg := F.hg
  obtain ⟨o, s, ho, ho2, e62, e4, hs8, e52, f1, f2, -⟩ := F.hS.ord hp
  have co : (t 62 p).toNatClampNeg = o := by rw [e62]; exact nI_clamp (by omega)
  have vo : vp_in (t 62 p) 60 := by rw [e62]; exact vp_in_nI (by omega) (by decide)
  obtain ⟨T, hT, hT2, hm⟩ := F.hS.iK
  have e11 : N.1 21 c 11 = t 69 c := F.hS.I (21, 11, 69, 61) (by decide) c hc
  have e9 : N.1 21 c 9 = t 71 c := F.hS.I (21, 9, 71, 61) (by decide) c hc
  have e12 := (F.hS.C c hc).2.2.1
  have h71 := (F.hS.iH c hc).2.2.1
  have nl : N.2.1 17 g 10 = (1, 0) := F.nl
  have tm : N.1 1 0 0 = t 0 0 := F.hS.W.2.1
  obtain ⟨m7, m8, m9, l46, l47, l48, -⟩ := F.hS.G7 g hg F.h31
  have ek : 8 * nI g + t 52 (t 62 p).toNatClampNeg = nI (8 * g + s) := by
    rw [co, e52, show (8 : Int32) = nI 8 from rfl, pk_mul, nI_add]
  have fin : ∀ (N1 : Mem) (t1 : DB), SZ X m z P p N1 t1 → TF t t1 [44, 45, 46] → (∀ K : DB → Prop, w_alike (nI p) (nI c) t1 K → w_told (nI p) (nI c) t K) → cq (n + 1 + 10) mX0_alike [.inr (1, 0), .inr (21, p), .inr (21, c)] N1 (fun r N' => r = none ∧ TG b X m z P t h p c N') := by
    intro N1 t1 hS1 ht hf
    have hA := told_al hE q (by decide) hS1 ht (MO.of ht (by decide)) (by decide)
    exact told_fin (fun K hK => hf K (hA.1 K hK)) hA.2
  have br : ∀ K : DB → Prop, ((¬ t 69 c = 1 → w_alike (nI p) (nI c) t K) ∧ (t 69 c = 1 → vp_in (t 62 p) 60 ∧ (¬ t 53 (t 62 p).toNatClampNeg = 0 → w_alike (nI p) (nI c) t K) ∧ (t 53 (t 62 p).toNatClampNeg = 0 → ∃ k, k < 192 ∧ 8 * nI g + t 52 (t 62 p).toNatClampNeg = nI k ∧ (t 71 c = 0 ∨ t 71 c = 1) ∧ w_alike (nI p) (nI c) (up (up (up t 44 k (t 70 c)) 45 k (t 0 0)) 46 k (t 71 c)) K))) → w_told (nI p) (nI c) t K := fun K hK =>
    w_told_br (by omega) (by omega) (by omega) F.h65 F.h31 F.hs (fun e => by omega) (fun e => by omega) (fun e => by omega) (fun e => by omega) (fun e => by omega) (fun e => by omega) (fun e => by omega) (fun _ => hK) (fun e => by omega) (fun e => by omega)
  show cq (n + 1 + 11) mX12_told [.inr (17, g), .inr (21, p), .inr (21, c)] N _
  refine sv_X12_told (Q := TG b X m z P t h p c) (fun N' w => ⟨rfl, w⟩) ⟨rfl, fun e1 ee1 => ?_⟩
  have q1 : e1 = (20, o) := ee1.trans e4
  subst q1
  refine ⟨rfl, fun x2 ex2 => ⟨rfl, fun e3 ee3 => ?_⟩⟩
  have q2 : x2 = nI s := ex2.trans f1
  subst q2
  have q3 : e3 = (20, o) := ee3.trans e4
  subst q3
  refine ⟨rfl, fun w => ⟨rfl, fun e4 ee4 => ?_⟩, fun w => ⟨rfl, fun w2 => ⟨rfl, fun e7 ee7 => ?_⟩, fun w2 => ⟨rfl, fun e10 ee10 => ?_⟩⟩⟩
  · have q4 : e4 = (1, 0) := ee4.trans nl
    subst q4
    have w' : ¬ t 53 o = 0 := fun y => w (f2.trans y)
    exact ⟨rfl, fin N t F.hD TF.rf (fun K hK => br K ⟨fun _ => hK, fun _ => ⟨vo, fun _ => hK, fun y => absurd (by rw [← co]; exact y) w'⟩⟩)⟩
  · have q4 : e7 = (1, 0) := ee7.trans nl
    subst q4
    have w' : ¬ t 69 c = 1 := fun y => w2 (e11.trans y)
    exact ⟨rfl, fin N t F.hD TF.rf (fun K hK => br K ⟨fun _ => hK, fun y => absurd y w'⟩)⟩
  · have q4 : e10 = (46, g) := ee10.trans m7
    subst q4
    have w1 : t 69 c = 1 := e11.symm.trans w2
    have w0 : t 53 (t 62 p).toNatClampNeg = 0 := by rw [co]; exact f2.symm.trans w
    rw [if_pos w1] at e12
    have cs : (nI s).toNatClampNeg = s := nI_clamp (by omega)
    have ar : ∀ (M : Mem) (k : Nat) (ty : Nat), k ≠ 0 → kt k = ty → M.2.2.1 k g = 9 → arI M (k, g) ty (nI s) := fun M k ty h0 h1 h2 => ⟨h0, h1, by show M.2.2.1 k g ≠ 0; omega, by show vp_in (nI s) (M.2.2.1 k g - 1); rw [h2]; exact vp_in_nI (by omega) (by decide)⟩
    refine ⟨rfl, ⟨ar N 46 100 (by decide) rfl l46, rfl⟩, fun M11 g11 => ?_⟩
    rw [cs, show N.1 (21, c).1 (21, c).2 12 = t 70 c from e12] at g11
    subst g11
    refine ⟨rfl, fun e12' ee12 => ⟨rfl, fun e13 ee13 => ?_⟩⟩
    have q5 : e12' = (47, g) := ee12.trans m8
    subst q5
    have q6 : e13 = (1, 0) := ee13.trans nl
    subst q6
    refine ⟨rfl, ⟨ar _ 47 100 (by decide) rfl l47, rfl⟩, fun M14 g14 => ?_⟩
    rw [cs, sI_ne (by simp), show N.1 (1, 0).1 (1, 0).2 0 = t 0 0 from tm] at g14
    subst g14
    refine ⟨rfl, fun e15 ee15 => ?_⟩
    have q7 : e15 = (48, g) := ee15.trans m9
    subst q7
    have e9' : (sI (sI N (46, g).1 (46, g).2 s (t 70 c)) (47, g).1 (47, g).2 s (t 0 0)).1 (21, c).1 (21, c).2 9 = t 71 c := by
      rw [sI_ne (by simp), sI_ne (by simp)]; exact e9
    refine ⟨rfl, by rw [e9']; exact h71, ⟨ar _ 48 101 (by decide) rfl l48, rfl⟩, fun M16 g16 => ?_⟩
    rw [cs, e9'] at g16
    subst g16
    refine ⟨rfl, fun e17 ee17 => ?_⟩
    have q8 : e17 = (1, 0) := ee17.trans nl
    subst q8
    have hS1 := F.hD.memo (g := g) (s := s) (a := t 70 c) (b := t 71 c) (tm := t 0 0) hg hs8 h71 (by rw [hT]; exact nI_pos' (by omega))
    exact ⟨rfl, fin _ _ hS1 (((TF.rf.wu _ _ (by decide)).wu _ _ (by decide)).wu _ _ (by decide)) (fun K hK => br K ⟨fun y => absurd w1 y, fun _ => ⟨vo, fun y => absurd w0 y, fun _ => ⟨8 * g + s, by omega, ek, h71, hK⟩⟩⟩)⟩
theorem nmd_2 {t : DB} {c g : Nat} (h : nmd t c g = true) : t 69 c = 2 := by
  unfold nmd at h
  by_cases e : t 69 c = 2
  · exact e
  · rw [decide_eq_false e] at h; exact absurd h (by simp)
theorem told_9 {b dp n : Nat} (hE : CE b dp n) (hE1 : CE b dp (n + 1)) {X : Mem} {m z : Nat} {P : List Nat} {N : Mem} {t : DB} {h p c g : Nat} (q : CTP b dp X m z P N t h p c g 9) : CTG b (n + 2) X m z P N t h p c g 9 := by
  have F := q.F
  have hn := F.hn
  have hg2 := F.hg2
  have hp := F.hp
  have hc := F.hc
  have hg := F.hg
  have c3 : (nI g).toNatClampNeg = g := nI_clamp (by omega)
  have v3 : vp_in (nI g) 24 := vp_in_nI (by omega) (by decide)
  have vc : vp_in (nI c) 4400 := vp_in_nI (by omega) (by decide)
  have nl : N.2.1 19 g 7 = (1, 0) := F.nl
  have n3 : N.1 19 g 3 = t 33 g := F.n3
  have n0 : N.1 19 g 0 = nI g := F.n0
  obtain ⟨k, hk, ek⟩ : ∃ b, b ≤ 15 ∧ t 33 g = nI b := by
    obtain ⟨s', a1, a2, a3, -, -, -, -, -, a9⟩ := F.hS.iG g hg
    exact a9 ((nI_eq (by omega) (by omega)).mp (a2.symm.trans F.h31))
  have br : ∀ K : DB → Prop, w_isNamed (nI c) (nI g) t (fun r u => (r = 0 → w_alike (nI p) (nI c) u K) ∧ (¬ r = 0 → vp_in (nI g) 24 ∧ w_fails (u 33 g) (nI g) (-1) u (fun f v => vp_in (nI c) 4400 ∧ vp_in f 4400 ∧ ∀ t1, t1 = up v 28 f.toNatClampNeg (v 70 c) → w_add 1 (nI p) 2 f 0 t1 K))) → w_told (nI p) (nI c) t K := fun K hK =>
    w_told_br (by omega) (by omega) (by omega) F.h65 F.h31 F.hs (fun e => by omega) (fun e => by omega) (fun e => by omega) (fun e => by omega) (fun e => by omega) (fun e => by omega) (fun e => by omega) (fun e => by omega) (fun e => by omega) (fun _ => hK)
  show cq (n + 1 + 11) mX14_told [.inr (19, g), .inr (21, p), .inr (21, c)] N _
  refine sv_X14_told (Q := TG b X m z P t h p c) (fun N' w => ⟨rfl, w⟩) ⟨rfl, v_names_s (s := 9) F.hS hc hg F.h31 (by decide) ?_⟩
  refine ⟨fun w => ⟨rfl, fun e3 ee3 => ?_⟩, fun w => ⟨rfl, fun e11 ee11 => ?_⟩⟩
  · have hf : nmd t c g = true := by
      cases hb : nmd t c g
      · rw [hb] at w; exact absurd rfl w
      · rfl
    have w2 : t 69 c = 2 := nmd_2 hf
    obtain ⟨fv, hfv, efv⟩ := (F.hS.iH c hc).2.1 w2
    obtain ⟨e0, hF⟩ := nF_b F.hS
    have q3 : e3 = (1, 0) := ee3.trans nl
    subst q3
    have hU : cn t 23 + 1 + sumTo (cn t 61) (undW t p) ≤ cn t 61 := by
      have a1 := F.hS.iU.2.1
      have a2 := und_one F.h69 hp (by omega)
      omega
    have hS1 := F.hD.newF (k := k) (g := nI g) (s := -1) hk hU
    refine ⟨rfl, rfl, rfl, ?_⟩
    rw [show N.1 (19, g).1 (19, g).2 3 = nI k from n3.trans ek, show N.1 (19, g).1 (19, g).2 0 = nI g from n0]
    refine v_failed_s F.hS ⟨rfl, fun e6 ee6 => ?_⟩
    have e16 := (hS1.C c (by rw [nFt_TF.cn (by decide)]; exact hc)).2.2.2
    rw [nFt_TF 69 (by decide), nFt_TF 70 (by decide), if_pos w2, efv, rn_j (by omega)] at e16
    have q6 : e6 = (22, fv) := ee6.trans e16
    subst q6
    have h23 : cn (nFt t (cn t 23) (nI k) (nI g) (-1)) 23 = cn t 23 + 1 := by
      show (nI (cn t 23 + 1)).toNatClampNeg = _
      exact nI_clamp (by omega)
    have hS2 := hS1.cau (f := cn t 23) (v := fv) (by rw [h23]; omega)
    have ht2 : TF t (up (nFt t (cn t 23) (nI k) (nI g) (-1)) 28 (cn t 23) (nI fv)) [23, 24, 25, 26, 27, 28, 29] := nFt_TF.wu _ _ (by decide)
    have h23' : cn (up (nFt t (cn t 23) (nI k) (nI g) (-1)) 28 (cn t 23) (nI fv)) 23 = cn t 23 + 1 := h23
    have hM2 : MO t (up (nFt t (cn t 23) (nI k) (nI g) (-1)) 28 (cn t 23) (nI fv)) := by
      refine ⟨ht2.mono (by decide), ?_, fun i hi => ⟨fun f hf => ?_, fun y => ?_, fun _ _ _ => ⟨fun _ => ?_, fun _ => ?_⟩⟩, fun i h1 h2 => ?_, ?_, MK.of ht2 (by decide) (by decide)⟩
      · rw [ht2.cn (by decide)]; exact Nat.le_refl _
      · rw [ht2 f ((by decide : ∀ f ∈ KC, f ∉ [23, 24, 25, 26, 27, 28, 29]) f hf)]
      · rw [ht2 69 (by decide), ht2 70 (by decide), ht2 71 (by decide)]; exact ⟨rfl, rfl, rfl⟩
      · rw [ht2 73 (by decide)]
      · rw [ht2 72 (by decide)]
      · rw [ht2.cn (by decide)] at h2; omega
      · rw [h23']; omega
    refine ⟨rfl, fun M7 g7 => ⟨rfl, fun e8 ee8 => ?_⟩⟩
    subst g7
    have q8 : e8 = (1, 0) := by
      rw [ee8, sR_ne (by simp)]
      have := (hS1.G g (by rw [nFt_TF.cn (by decide)]; exact hg))
      obtain ⟨s', a1, a2, -, -, -, -, -, -, -, -, a11⟩ := this
      rw [nFt_TF 31 (by decide)] at a2
      have : s' = 9 := (nI_eq (by omega) (by omega)).mp (a2.symm.trans F.h31)
      subst this
      exact a11
    subst q8
    have hA := (told_end hE1 (how := 2) (val := nI (cn t 23)) (by_ := 0) q (by decide) hS2 ht2 hM2 (by decide)).2 rfl rfl (cn t 23) (by rw [h23']; omega) rfl
    refine ⟨rfl, told_fin (fun K hK => br K (w_isNamed_s F.hS hc hg ⟨fun y => absurd y w, fun _ => ⟨v3, ?_⟩⟩)) hA⟩
    rw [ek]
    refine w_fails_s F.hS ⟨vc, vp_in_nI (by omega) (by decide), fun t1 et1 => ?_⟩
    rw [nI_clamp (by omega), nFt_TF 70 (by decide), efv] at et1
    subst et1
    exact w_add_s (by rw [ht2 88 (by decide)]; exact F.h88) (by have := F.hh; omega) hK
  · have q4 : e11 = (1, 0) := ee11.trans nl
    subst q4
    have hA := told_al hE q (by decide) F.hD (TF.rf (C := [])) MO.rf (by decide)
    exact ⟨rfl, told_fin (fun K hK => br K (w_isNamed_s F.hS hc hg ⟨fun _ => hA.1 K hK, fun y => absurd w y⟩)) hA.2⟩
