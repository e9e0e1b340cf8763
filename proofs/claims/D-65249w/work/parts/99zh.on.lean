set_option maxRecDepth 100000
/-! a guard is put into the row -/
theorem remC_gw {X : Mem} {m z : Nat} {P : List Nat} {x : Nat} {N : Mem} {t t' : DB} (h : SZ X m z P x N t) (h65 : t' 65 = t 65) (h73 : t' 73 = t 73) (h51 : t' 51 = t 51) (h62 : t' 62 = t 62) (h63 : t' 63 = t 63) (h48 : ∀ T, T < cn t 47 → t' 48 T = t 48 T ∧ ∀ d, d < 5 → t' 49 (5 * T + d) = t 49 (5 * T + d)) (h31 : ∀ g, g < cn t 30 → t' 31 g = t 31 g) : ∀ c, c < cn t 61 → remC t' c = remC t c := by
  intro c hc
  have h47 : cn t 47 ≤ 10 := h.iB.2.2.2.2.1.2
  have h24 : cn t 30 ≤ 24 := h.iB.2.2.2.1.2
  have h60 : cn t 50 ≤ 60 := h.iB.2.2.2.2.2.1.2
  obtain ⟨o, T, hh, d, a1, a2, a3, a4, a5, a6, -⟩ := h.iC c hc
  have ec : capD t' c = capD t c := by
    unfold capD
    rw [h62, h51, h63, a2, nI_clamp (by omega), a3, nI_clamp (by omega), (h48 T a4).1, a5, nI_clamp (by omega)]
    have : srt t' T hh = srt t T hh := by
      unfold srt
      refine List.map_congr_left (fun d hd => ?_)
      have hd' : d < hh := List.mem_range.mp hd
      obtain ⟨h', i1, i2, i3, -⟩ := h.iT T (Or.inl a4)
      have e' : h' = hh := (nI_eq (by omega) (by omega)).mp (i2.symm.trans a5)
      subst e'
      obtain ⟨g, g1, g2⟩ := i3 d hd'
      rw [(h48 T a4).2 d (by omega), g2, nI_clamp (by omega), h31 g g1]
    rw [this]
  unfold remC
  rw [h65, h73, ec]
  rcases h.grd hc with y | ⟨g, s, hg, y, -⟩
  · rw [y, if_pos (by decide), if_pos (by decide)]
  · rw [y, if_neg (nI_pos (by omega)), if_neg (nI_pos (by omega)), nI_clamp (by omega), h31 g hg]
theorem I_U.gw {X : Mem} {m z : Nat} {P : List Nat} {x : Nat} {N : Mem} {t t' : DB} {C : List Nat} (h : SZ X m z P x N t) (ht : TF t t' C) (hC : ∀ c ∈ C, c ∉ [61, 65, 73, 51, 62, 63, 69, 50, 23, 17, 82]) (h48 : ∀ T, T < cn t 47 → t' 48 T = t 48 T ∧ ∀ d, d < 5 → t' 49 (5 * T + d) = t 49 (5 * T + d)) (h31 : ∀ g, g < cn t 30 → t' 31 g = t 31 g) : I_U x t' := by
  have e : ∀ f ∈ [61, 65, 73, 51, 62, 63, 69, 50, 23, 17, 82], t' f = t f := fun f hf => ht f (fun y => hC f y hf)
  have er := remC_gw h (e 65 (by decide)) (e 73 (by decide)) (e 51 (by decide)) (e 62 (by decide)) (e 63 (by decide)) h48 h31
  have eu : undW t' x = undW t x := by
    funext i
    unfold undW
    rw [e 69 (by decide)]
  have u := h.iU
  unfold I_U at u ⊢
  rw [cn_fr (e 61 (by decide)), sumTo_congr er, cn_fr (e 50 (by decide)), eu, cn_fr (e 23 (by decide)), cn_fr (e 17 (by decide)), cn_fr (e 82 (by decide))]
  exact u
def tOn (t : DB) (w g : Nat) : DB := up (up t 49 (50 + w) (nI g)) 48 10 (nI (w + 1))
theorem tOn_TF {t : DB} {w g : Nat} : TF t (tOn t w g) [48, 49] := (TF.rf.wu _ _ (by decide)).wu _ _ (by decide)
theorem SZ.on {X : Mem} {m : Nat} {N : Mem} {t : DB} (h : SZ X m 60 [] 100000 N t) (hm : m + 1 ≤ 100) {w g s : Nat} (hw : t 48 10 = nI w) (hw5 : w < 5) (hg : g < cn t 30) (hs : t 31 g = nI s) (hs9 : s ≤ 9) (hno : ∀ d g', d < w → t 49 (50 + d) = nI g' → g' < cn t 30 → t 31 g' ≠ t 31 g) : SZ X (m + 1) 60 [] 100000 (lAdd N (30, 6) (10 + s, g)) (tOn t w g) := by
  have h47 : cn t 47 ≤ 10 := h.iB.2.2.2.2.1.2
  have h24 : cn t 30 ≤ 24 := h.iB.2.2.2.1.2
  have hf : NF N (lAdd N (30, 6) (10 + s, g)) [30] := NF.rf.wA _ _ (by decide)
  have ht := tOn_TF (t := t) (w := w) (g := g)
  have L : LA N (lAdd N (30, 6) (10 + s, g)) 6 w (10 + s, g) := LA.mk (K := []) NF.rf (by decide) ((h.S (6, 48, 10) (by decide)).trans hw) (by omega)
  have v48 : ∀ T, tOn t w g 48 T = if T = 10 then nI (w + 1) else t 48 T := fun T => by
    unfold tOn
    rw [up_at]
    by_cases e : T = 10
    · rw [if_pos ⟨rfl, e⟩, if_pos e]
    · rw [if_neg (fun y => e y.2), if_neg e, up_f (by decide)]
  have v49 : ∀ i, tOn t w g 49 i = if i = 50 + w then nI g else t 49 i := fun i => by
    unfold tOn
    rw [up_f (by decide), up_at]
    by_cases e : i = 50 + w
    · rw [if_pos ⟨rfl, e⟩, if_pos e]
    · rw [if_neg (fun y => e y.2), if_neg e]
  have nx2 : (lAdd N (30, 6) (10 + s, g)).2.2.2 = (N.2.2.2.1 + 1, N.2.2.2.2 + 10) := rfl
  have nx1 : (lAdd N (30, 6) (10 + s, g)).2.2.1 = N.2.2.1 := rfl
  generalize lAdd N (30, 6) (10 + s, g) = N' at *
  generalize tOn t w g = t' at *
  have h48 : ∀ T, T < cn t 47 → t' 48 T = t 48 T ∧ ∀ d, d < 5 → t' 49 (5 * T + d) = t 49 (5 * T + d) := fun T hT => ⟨by rw [v48, if_neg (by omega)], fun d hd => by rw [v49, if_neg (by omega)]⟩
  have hK : S_K N' t' := fun q hq i hi => by
    have hq3 := (by decide : ∀ q ∈ TK, q.1 ≠ 6 ∧ q.2.2 ∉ [48, 49]) q hq
    rw [ht.cn hq3.2] at hi
    rw [L.ne hq3.1]
    exact h.K q hq i hi
  have hSS : S_S N' t' := h.S.la L (fun q hq => by
    by_cases e : q.1 = 6
    · have : q = (6, 48, 10) := (by decide : ∀ q ∈ TS, q.1 = 6 → q = (6, 48, 10)) q hq e
      subst this
      exact Or.inl ⟨rfl, by show t' 48 10 = _; rw [v48, if_pos rfl]⟩
    · exact Or.inr ⟨e, by rw [ht _ ((by decide : ∀ q ∈ TS, q.1 ≠ 6 → q.2.1 ∉ [48, 49]) q hq e)]⟩)
  have hM : S_M (m + 1) N' t' := h.M.up ht (by decide) (by rw [nx2]; dsimp only; omega) (by rw [nx2]; dsimp only; omega)
  have gne : ∀ y, gn t' y = gn t y := fun y => by unfold gn; rw [ht 31 (by decide)]
  have hU : S_U N' t' := by
    intro d hd
    rw [v48, if_pos rfl, nI_clamp (by omega)] at hd
    rw [gne, v49, L.2]
    by_cases e : d = w
    · rw [if_pos ⟨rfl, e⟩, if_pos (by omega), gn_j (by omega) hs hs9]
    · rw [if_neg (fun y => e y.2), if_neg (by omega)]
      exact h.U d (by rw [hw, nI_clamp (by omega)]; omega)
  have hT : S_T N' t' := by
    intro T hT
    rw [ht.cn (by decide)] at hT
    obtain ⟨y1, y2⟩ := h48 T hT
    obtain ⟨h', i1, i2, -⟩ := h.iT T (Or.inl hT)
    obtain ⟨z1, z2⟩ := h.T T hT
    rw [y1, nx1, (hf 42 (by decide)).2.1]
    refine ⟨z1, fun d hd => ?_⟩
    rw [gne, y2 d (by rw [i2, nI_clamp (by omega)] at hd; omega)]
    exact z2 d hd
  have hIT : I_T t' := by
    intro T hT
    rw [ht.cn (by decide)] at hT
    rw [ht.cn (by decide), ht 31 (by decide)]
    obtain ⟨h', i1, i2, i3, i4⟩ := h.iT T hT
    by_cases e : T = 10
    · subst e
      have e' : h' = w := (nI_eq (by omega) (by omega)).mp (i2.symm.trans hw)
      subst e'
      refine ⟨h' + 1, by omega, by rw [v48, if_pos rfl], fun d hd => ?_, fun d e g1 g2 hd he hne hg1 hg2 e1 e2 => ?_⟩
      · rw [v49]
        by_cases ed : d = h'
        · rw [if_pos (by omega)]; exact ⟨g, hg, rfl⟩
        · rw [if_neg (by omega)]; exact i3 d (by omega)
      · rw [v49] at e1 e2
        by_cases ed : d = h'
        · rw [if_pos (by omega)] at e1
          rw [if_neg (by omega)] at e2
          have eg : g1 = g := ((nI_eq (by omega) (by omega)).mp e1).symm
          subst eg
          exact fun y => hno e g2 (by omega) e2 hg2 y.symm
        · rw [if_neg (by omega)] at e1
          by_cases ee : e = h'
          · rw [if_pos (by omega)] at e2
            have eg : g2 = g := ((nI_eq (by omega) (by omega)).mp e2).symm
            subst eg
            exact hno d g1 (by omega) e1 hg1
          · rw [if_neg (by omega)] at e2
            exact i4 d e g1 g2 (by omega) (by omega) hne hg1 hg2 e1 e2
    · have hT' : T < cn t 47 := by omega
      obtain ⟨y1, y2⟩ := h48 T hT'
      refine ⟨h', i1, by rw [y1]; exact i2, fun d hd => by rw [y2 d (by omega)]; exact i3 d hd, fun d e g1 g2 hd he hne hg1 hg2 e1 e2 => ?_⟩
      rw [y2 d (by omega)] at e1
      rw [y2 e (by omega)] at e2
      exact i4 d e g1 g2 hd he hne hg1 hg2 e1 e2
  have n4 := hf 4 (by decide)
  have le1 : cn t 1 ≤ cn t' 1 := Nat.le_of_eq (ht.cn (by decide)).symm
  have le47 : cn t 47 ≤ cn t' 47 := Nat.le_of_eq (ht.cn (by decide)).symm
  have hE : S_E N' t' := h.E.fr nx1 ht (by decide)
  have h' := h.mup (Nat.le_succ m) hm
  have hKK : I_K (m + 1) t' := h'.iK.fr ht (by decide)
  exact ⟨h.I.fr hf (by decide) ht (by decide), h.R.fr hf (by decide) ht (by decide), h.N.fr hf (by decide) ht (by decide), hK, hSS, hE, h.W.fr hf (by decide) ht (by decide), h.P1.fl ⟨n4.1, n4.2.2⟩ (L.ne (by decide)) ht (by decide), h.P2.fl ⟨n4.1, n4.2.2⟩ (L.ne (by decide)) ht (by decide), h.G.fl hf (by decide) (L.ne (by decide)) ht (by decide), h.G0.fr hf (by decide) ht (by decide), h.G1.fr hf (by decide) ht (by decide), h.G2.fr hf (by decide) ht (by decide), h.G7.fr hf (by decide) ht (by decide), hT, hU, h.C.fr hf (by decide) ht (by decide), h.V.fr hf (by decide) ht (by decide), h.O.fr hf (by decide) ht (by decide), h.A.fl hf (by decide) (L.ne (by decide)) ht (by decide), h.Y.fr hf (by decide) ht (by decide), h.Q.fr hf (by decide) ht (by decide), h.B.fr ht (by decide), h.F.fr hf (by decide), hM, h.iB.fr ht (by decide), h.iG.fr ht (by decide), hIT, h.iO.fr ht (by decide), h.iC.gw ht (by decide) le1 le47 h48, h.iH.fr ht (by decide), h.iZ.fr ht (by decide), h.iL.fr ht (by decide), h.iR.fr ht (by decide), h.iX.fr ht (by decide), I_U.gw h ht (by decide) h48 (fun g _ => by rw [ht 31 (by decide)]), h.iD.fr ht (by decide), hKK, h.iY.fr ht (by decide), h.J.fr ht (by decide), h.GT.fr hf (by decide) ht (by decide), h.H.fr hf (by decide) ht (by decide)⟩
theorem on_l {X : Mem} {m : Nat} {N : Mem} {t : DB} (q : QS (fun _ => True) X m N t) (hm : m + 1 ≤ 100) {w g : Nat} (hw : t 48 10 = nI w) (hw5 : w ≤ 5) (hg : g < cn t 30) {W0 : (Int32 → DB → Prop) → Prop} {Q : Int32 → Mem → Prop} (hQ : ∀ v N' t', QS (fun _ => True) X (m + 1) N' t' → (∀ Qm : Int32 → DB → Prop, Qm v t' → W0 Qm) → Q v N') : ∀ r j, j + r = w → (∀ d g', d < j → t 49 (50 + d) = nI g' → g' < cn t 30 → t 31 g' ≠ t 31 g) → (∀ Qm, w_on_16 (r + 1) (nI g) (nI j) t Qm → W0 Qm) → v_X0_on_15 (r + 1) (1, 0) (nI g) (nI j) N Q := by
  have q' := q.mup (Nat.le_succ m) hm
  have h24 : cn t 30 ≤ 24 := q.1.iB.2.2.2.1.2
  have b30 := q.1.iB.2.2.2.1.1
  have w5 : N.2.1 1 0 5 = (30, 5) := q.1.W.1 5 (by decide) (by decide)
  have w6 : N.2.1 1 0 6 = (30, 6) := q.1.W.1 6 (by decide) (by decide)
  have s5 : N.1 30 5 0 = nI (cn t 30) := (q.1.S (5, 30, 0) (by decide)).trans b30
  have s6 : N.1 30 6 0 = nI w := (q.1.S (6, 48, 10) (by decide)).trans hw
  have lk30 : lk 30 := ⟨by decide, by decide⟩
  have cg : (nI g).toNatClampNeg = g := nI_clamp (by omega)
  have vg : vp_in (nI g) 24 := vp_in_nI (by omega) (by decide)
  have v10 : vp_in 10 11 := by show vp_in (nI 10) 11; exact vp_in_nI (by decide) (by decide)
  have c10 : (10 : Int32).toNatClampNeg = 10 := rfl
  have ig : ¬ nI g < 0 ∧ nI g < N.1 30 5 0 := ⟨nI_pos (by omega), by rw [s5]; exact nI_lt hg (by omega)⟩
  obtain ⟨s, a1, a2, a3, a4, a5, -⟩ := q.1.G g hg
  have hgk : gk (10 + s) := ⟨by omega, by omega⟩
  obtain ⟨ra, rb⟩ := rom_a q.1.1
  intro r
  induction r with
  | zero =>
    intro j hj hno hacc
    have ej : j = w := by omega
    subst ej
    have wle : t 48 10 ≤ nI j := by rw [hw]; exact nI_le (Nat.le_refl _) (by omega)
    refine ⟨rfl, fun e1 ee1 => ?_⟩
    have q1 : e1 = (30, 6) := ee1.trans w6
    subst q1
    refine ⟨lk30, fun _ => ⟨rfl, fun e2 ee2 => ?_⟩, fun y => absurd (by show N.1 30 6 0 ≤ nI j; rw [s6]; exact nI_le (Nat.le_refl _) (by omega)) y⟩
    have q2 : e2 = (30, 6) := ee2.trans w6
    subst q2
    refine ⟨lk30, fun y => ⟨rfl, fun e3 ee3 => ⟨rfl, fun e4 ee4 => ?_⟩⟩, fun y => hQ (-3) N t q' (fun Qm h => hacc Qm ⟨v10, fun _ => ⟨v10, fun v => absurd (s6.symm.trans y) (fun z => v (by rw [c10, hw]; exact z)), fun _ => h⟩, fun v => absurd wle v⟩)⟩
    have q3 : e3 = (30, 6) := ee3.trans w6
    have q4 : e4 = (30, 5) := ee4.trans w5
    subst q3; subst q4
    have y' : ¬ nI j = 5 := fun v => y (s6.trans v)
    have hj5 : j < 5 := by
      rcases Nat.lt_or_ge j 5 with v | v
      · exact v
      · exact absurd (by rw [show j = 5 from Nat.le_antisymm hw5 v]; rfl) y'
    refine ⟨lk30, ig, fun e5 ee5 => ?_⟩
    rw [cg] at ee5
    have q5 : e5 = (10 + s, g) := ee5.trans a3
    subst q5
    have hS := q.1.1.on hm hw hj5 hg a2 a1 hno
    have hek : ekk (10 + s) = true := by
      have : s = 0 ∨ s = 1 ∨ s = 2 ∨ s = 3 ∨ s = 4 ∨ s = 5 ∨ s = 6 ∨ s = 7 ∨ s = 8 ∨ s = 9 := by omega
      rcases this with e | e | e | e | e | e | e | e | e | e <;> subst e <;> rfl
    refine ⟨hgk, lk30, hek, ?_, ⟨by omega, by omega⟩, fun M6 g6 => ⟨rfl, fun e7 ee7 => ?_⟩⟩
    · show N.1 30 6 0 < nI 10000
      rw [s6]
      exact nI_lt (by omega) (by decide)
    · have g6' : M6 = lAdd N (30, 6) (10 + s, g) := g6
      subst g6'
      have q7 : e7 = (30, 6) := ee7.trans (hS.W.1 6 (by decide) (by decide))
      subst q7
      refine ⟨lk30, ?_⟩
      show Q ((lAdd N (30, 6) (10 + s, g)).1 30 6 0) _
      have z48 : tOn t j g 48 10 = nI (j + 1) := up_s
      rw [show (lAdd N (30, 6) (10 + s, g)).1 30 6 0 = nI (j + 1) from (hS.S (6, 48, 10) (by decide)).trans z48]
      refine hQ _ _ _ (q'.tf hS tOn_TF (by decide)) (fun Qm h => hacc Qm ⟨v10, fun _ => ⟨v10, fun _ => ⟨v10, ?_⟩, fun v => absurd (show nI j = 5 from by rw [← hw]; exact v) y'⟩, fun v => absurd wle v⟩)
      rw [c10, hw]
      have e50 : 50 + nI j = nI (50 + j) := by rw [show (50 : Int32) = nI 50 from rfl, nI_add]
      rw [e50, nI_clamp (by omega)]
      refine ⟨vp_in_nI (by omega) (by decide), fun t1 e1 => ⟨v10, v10, fun t2 e2 => ⟨v10, ?_⟩⟩⟩
      have z1 : t1 48 10 = nI j := by rw [e1, up_f (by decide)]; exact hw
      rw [z1, nI_1] at e2
      have e2' : t2 = tOn t j g := by rw [e2, e1]; rfl
      subst e2'
      rw [z48]
      exact h
  | succ r ih =>
    intro j hj hno hacc
    have hjw : j < w := by omega
    have cj : (nI j).toNatClampNeg = j := nI_clamp (by omega)
    have wle : ¬ t 48 10 ≤ nI j := by rw [hw]; exact nI_ge hjw (by omega)
    obtain ⟨h', i1, i2, i3, -⟩ := q.1.iT 10 (Or.inr rfl)
    have e' : h' = w := (nI_eq (by omega) (by omega)).mp (i2.symm.trans hw)
    subst e'
    obtain ⟨g', g1, g2⟩ := i3 j hjw
    have g2' : t 49 (50 + j) = nI g' := g2
    obtain ⟨s', c1, c2, c3, c4, c5, -⟩ := q.1.G g' g1
    have hgk' : gk (10 + s') := ⟨by omega, by omega⟩
    have e6 : N.2.1 30 6 j = (10 + s', g') := by rw [q.1.U j (by rw [hw, nI_clamp (by omega)]; exact hjw), g2', gn_j (by omega) c2 c1]
    have e50 : 50 + nI j = nI (50 + j) := by rw [show (50 : Int32) = nI 50 from rfl, nI_add]
    refine ⟨rfl, fun e1 ee1 => ?_⟩
    have q1 : e1 = (30, 6) := ee1.trans w6
    subst q1
    refine ⟨lk30, fun y => absurd (show N.1 30 6 0 ≤ nI j from y) (by rw [s6]; exact nI_ge hjw (by omega)), fun _ => ⟨rfl, fun e9 ee9 => ?_⟩⟩
    have q9 : e9 = (30, 6) := ee9.trans w6
    subst q9
    refine ⟨lk30, ⟨nI_pos (by omega), by show nI j < N.1 30 6 0; rw [s6]; exact nI_lt hjw (by omega)⟩, fun e10 ee10 => ?_⟩
    rw [cj] at ee10
    have q10 : e10 = (10 + s', g') := ee10.trans e6
    subst q10
    refine ⟨hgk', hgk', rfl, fun e11 ee11 => ?_⟩
    have q11 : e11 = (30, 5) := ee11.trans w5
    subst q11
    refine ⟨lk30, ig, fun e12 ee12 => ?_⟩
    rw [cg] at ee12
    have q12 : e12 = (10 + s, g) := ee12.trans a3
    subst q12
    have vg' : vp_in (nI g') 24 := vp_in_nI (by omega) (by decide)
    have row : ∀ Qm : Int32 → DB → Prop, ((¬ t 31 g' = t 31 g → w_on_16 (r + 1) (nI g) (nI (j + 1)) t Qm) ∧ (t 31 g' = t 31 g → Qm (-2) t)) → W0 Qm := fun Qm h => hacc Qm ⟨v10, fun v => absurd v wle, fun _ => by
      rw [e50, nI_clamp (by omega), g2', nI_clamp (by omega), cg]
      exact ⟨vp_in_nI (by omega) (by decide), vg', vg, fun y x4 e4 => by rw [nI_1] at e4; subst e4; exact h.1 y, h.2⟩⟩
    refine ⟨hgk, hgk, fun y x13 e13 => ?_, fun y => ?_⟩
    · rw [nI_1] at e13
      subst e13
      have y' : ¬ t 31 g' = t 31 g := fun v => y (by show N.1 (10 + s') g' 1 = N.1 (10 + s) g 1; rw [c5, a5]; exact v)
      refine ih (j + 1) (by omega) (fun d g'' hd e hg'' => ?_) (fun Qm h => row Qm ⟨fun _ => h, fun v => absurd v y'⟩)
      by_cases ed : d = j
      · subst ed
        have : g'' = g' := (nI_eq (by omega) (by omega)).mp (e.symm.trans g2')
        subst this
        exact y'
      · exact hno d g'' (by omega) e hg''
    · have y' : t 31 g' = t 31 g := by
        have : N.1 (10 + s') g' 1 = N.1 (10 + s) g 1 := y
        rw [c5, a5] at this
        exact this
      exact hQ (-2) N t q' (fun Qm h => row Qm ⟨fun v => absurd y' v, fun _ => h⟩)
theorem ap_on (x : Int32) : AP mX0_on [.inl x] (w_on x) := by
  intro n X m N t hn hm q
  have q' := q.mup (Nat.le_succ m) hm
  have b30 := q.1.iB.2.2.2.1
  have b24 : cn t 30 ≤ 24 := b30.2
  have w5 : N.2.1 1 0 5 = (30, 5) := q.1.W.1 5 (by decide) (by decide)
  have s5 : N.1 30 5 0 = t 30 0 := q.1.S (5, 30, 0) (by decide)
  show cq (n + 11 + 9) mX0_on [.inr (1, 0), .inl x] N _
  refine sv_X0_on (d := n + 11) (Q := fun v N' => ∃ t', QS (fun _ => True) X (m + 1) N' t' ∧ ∀ Q, Q v t' → w_on x t Q) (fun v N' ⟨t', a, b⟩ => ⟨v, t', rfl, a, b⟩) ⟨rfl, fun e1 ee1 => ?_⟩
  have q1 : e1 = (30, 5) := ee1.trans w5
  subst q1
  refine has_c s5 (fun h => ⟨fun v => absurd rfl v, fun _ => ⟨t, q', fun Q hQ => ⟨fun _ => hQ, fun a => ⟨fun b => absurd h (fun h => h.elim a (Int32.not_le.mpr b)), fun _ => hQ⟩⟩⟩⟩) (fun a1 a2 => ⟨fun _ => ?_, fun v => absurd v (by decide)⟩)
  obtain ⟨g, hg, ei⟩ := rngL (x := x) (n := cn t 30) (by omega) a1 (by rw [← b30.1]; exact a2)
  subst ei
  obtain ⟨w, hw5, hw, -⟩ := q.1.iT 10 (Or.inr rfl)
  exact ⟨w + 1, on_l q hm hw hw5 hg (W0 := fun Q => w_on (nI g) t Q) (fun v N' t' h1 h2 => ⟨t', h1, h2⟩) w 0 (by omega) (fun d _ hd => absurd hd (Nat.not_lt_zero _)) (fun Qm h => ⟨fun a => absurd a a1, fun _ => ⟨fun _ => ⟨w + 1, h⟩, fun a => absurd (Int32.not_le.mp a2) a⟩⟩)⟩
