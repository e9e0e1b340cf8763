set_option maxRecDepth 100000
/-! updates of a call that is not yet reckoned with -/
theorem SZ.f14 {X : Mem} {m z : Nat} {P : List Nat} {c : Nat} {N : Mem} {t : DB} (h : SZ X m z P c N t) (hcP : c ∉ P) {v : Int32} : SZ X m z P c (sI N 21 c 14 v) t := by
  have hf : NF N (sI N 21 c 14 v) [21] := NF.rf.wI _ _ _ (by decide)
  have ht : TF t t [] := TF.rf
  have hI : S_I (sI N 21 c 14 v) t := h.I.wn 21 c 14 v (by decide)
  have hN := h.N.wn 21 c 14 v (by decide)
  have hR : S_R (sI N 21 c 14 v) t := h.R
  have hC : S_C (sI N 21 c 14 v) t := by
    intro i hi
    obtain ⟨a1, a2, a3, a4⟩ := h.C i hi
    refine ⟨a1, a2, ?_, a4⟩
    rw [sI_at, if_neg (by omega)]; exact a3
  have hV : S_V (sI N 21 c 14 v) t := by
    intro i hi
    obtain ⟨a1, a2, a3, a4⟩ := h.V i hi
    refine ⟨a1, a2, a3, ?_⟩
    rw [sI_at, if_neg (by omega)]; exact a4
  have hQ : S_Q P c (sI N 21 c 14 v) t := by
    intro k hk hl
    have a := h.Q k hk hl
    refine ⟨?_, a.2⟩
    have e : k ≠ c := fun e => by
      rcases hl with ⟨-, q⟩ | q
      · exact q e
      · exact hcP (e ▸ q)
    rw [sI_at, if_neg (fun q => e q.2.1)]; exact a.1
  exact ⟨hI, hR, hN, h.K.fr hf (by decide) ht (by decide), h.S.fr hf (by decide) ht (by decide), h.E.fr rfl ht (by decide), h.W.fr hf (by decide) ht (by decide), h.P1.fr hf (by decide) ht (by decide), h.P2.fr hf (by decide) ht (by decide), h.G.fr hf (by decide) ht (by decide), h.G0.fr hf (by decide) ht (by decide), h.G1.fr hf (by decide) ht (by decide), h.G2.fr hf (by decide) ht (by decide), h.G7.fr hf (by decide) ht (by decide), h.T.fr hf (by decide) ht (by decide), h.U.fr hf (by decide) ht (by decide), hC, hV, h.O.fr hf (by decide) ht (by decide), h.A.fr hf (by decide) ht (by decide), h.Y.fr hf (by decide) ht (by decide), hQ, h.B.fr ht (by decide), h.F.fr hf (by decide), h.M.fr rfl ht (by decide), h.iB.fr ht (by decide), h.iG.fr ht (by decide), h.iT.fr ht (by decide), h.iO.fr ht (by decide), h.iC.fr ht (by decide), h.iH.fr ht (by decide), h.iZ.fr ht (by decide), h.iL.fr ht (by decide), h.iR.fr ht (by decide), h.iX.fr ht (by decide), h.iU.fr ht (by decide), h.iD.fr ht (by decide), h.iK.fr ht (by decide), h.iY.fr ht (by decide), h.J.fr ht (by decide), h.GT.fr hf (by decide) ht (by decide), h.H.fr hf (by decide) ht (by decide)⟩
theorem SZ.t79 {X : Mem} {m z : Nat} {P : List Nat} {c : Nat} {N : Mem} {t : DB} (h : SZ X m z P c N t) (hcP : c ∉ P) {g : Nat} {w : Int32} (hw : w = 0 ∨ w = 1) (hg : t 65 c = nI g) (hs : t 31 g = 0) (hg2 : g < cn t 30) : SZ X m z P c N (up t 79 c w) := by
  have h24 := h.iB.2.2.2.1.2
  have hf : NF N N [] := NF.rf
  have ht : TF t (up t 79 c w) [79] := TF.rf.wu _ _ (by decide)
  have hQ : S_Q P c N (up t 79 c w) := by
    intro k hk hl
    have a := h.Q k hk hl
    have e : k ≠ c := fun e => by
      rcases hl with ⟨-, q⟩ | q
      · exact q e
      · exact hcP (e ▸ q)
    have e79 : up t 79 c w 79 k = t 79 k := up_n (fun q => e q.2)
    refine ⟨a.1, fun g' e1 e2 => ?_⟩
    rw [e79]
    exact a.2 g' e1 e2
  have hH : I_H (up t 79 c w) := by
    intro i hi
    obtain ⟨a1, a2, a3, a4, a5, a6, a7, a8, a9, a10⟩ := h.iH i hi
    refine ⟨a1, a2, a3, a4, a5, a6, a7, a8, ?_, a10⟩
    rw [up_at]
    by_cases e : i = c
    · rw [if_pos ⟨rfl, e⟩]; exact hw
    · rw [if_neg (fun q => e q.2)]; exact a9
  have hZ : I_Z (up t 79 c w) := by
    intro i hi
    obtain ⟨a1, a2⟩ := h.iZ i hi
    refine ⟨fun g' hg' e => ?_, fun e => ?_⟩
    · obtain ⟨b1, b2⟩ := a1 g' hg' e
      refine ⟨fun q => ?_, b2⟩
      rw [up_at]
      by_cases y : i = c
      · subst y
        have : g' = g := (nI_eq (by have : g' < cn t 30 := hg'; omega) (by omega)).mp (e.symm.trans hg)
        subst this
        exact absurd hs q
      · rw [if_neg (fun q => y q.2)]; exact b1 q
    · obtain ⟨b1, b2, b3, b4, b5, b6, b7⟩ := a2 e
      refine ⟨b1, b2, b3, b4, b5, b6, ?_⟩
      rw [up_at]
      by_cases y : i = c
      · subst y
        exact absurd (hg.symm.trans e) (nI_m1 (by omega))
      · rw [if_neg (fun q => y q.2)]; exact b7
  exact ⟨h.I.fr hf (by decide) ht (by decide), h.R.fr hf (by decide) ht (by decide), h.N.fr hf (by decide) ht (by decide), h.K.fr hf (by decide) ht (by decide), h.S.fr hf (by decide) ht (by decide), h.E.fr rfl ht (by decide), h.W.fr hf (by decide) ht (by decide), h.P1.fr hf (by decide) ht (by decide), h.P2.fr hf (by decide) ht (by decide), h.G.fr hf (by decide) ht (by decide), h.G0.fr hf (by decide) ht (by decide), h.G1.fr hf (by decide) ht (by decide), h.G2.fr hf (by decide) ht (by decide), h.G7.fr hf (by decide) ht (by decide), h.T.fr hf (by decide) ht (by decide), h.U.fr hf (by decide) ht (by decide), h.C.fr hf (by decide) ht (by decide), h.V.fr hf (by decide) ht (by decide), h.O.fr hf (by decide) ht (by decide), h.A.fr hf (by decide) ht (by decide), h.Y.fr hf (by decide) ht (by decide), hQ, h.B.fr ht (by decide), h.F.fr hf (by decide), h.M.fr rfl ht (by decide), h.iB.fr ht (by decide), h.iG.fr ht (by decide), h.iT.fr ht (by decide), h.iO.fr ht (by decide), h.iC.fr ht (by decide), hH, hZ, h.iL.fr ht (by decide), h.iR.fr ht (by decide), h.iX.fr ht (by decide), h.iU.fr ht (by decide), h.iD.fr ht (by decide), h.iK.fr ht (by decide), h.iY.fr ht (by decide), h.J.fr ht (by decide), h.GT.fr hf (by decide) ht (by decide), h.H.fr hf (by decide) ht (by decide)⟩
theorem sum_live {t : DB} {c : Nat} : ∀ n, n ≤ 100000 → sumTo n (undW t 100000) ≤ sumTo n (undW t c) + 1 := by
  intro n
  induction n with
  | zero => intro _; exact Nat.zero_le _
  | succ n ih =>
    intro hn'
    have := ih (by omega)
    show sumTo n (undW t 100000) + undW t 100000 n ≤ sumTo n (undW t c) + undW t c n + 1
    by_cases e : n = c
    · have e2 : sumTo n (undW t 100000) ≤ sumTo n (undW t c) := sumTo_le (fun i hi => by
        unfold undW
        by_cases y : t 69 i = 0 ∧ i ≠ 100000
        · rw [if_pos y, if_pos ⟨y.1, by omega⟩]; exact Nat.le_refl _
        · rw [if_neg y]; exact Nat.zero_le _)
      have e3 : undW t 100000 n ≤ 1 := by unfold undW; split <;> omega
      omega
    · have : undW t 100000 n ≤ undW t c n := by
        unfold undW
        by_cases y : t 69 n = 0 ∧ n ≠ 100000
        · rw [if_pos y, if_pos ⟨y.1, e⟩]; exact Nat.le_refl _
        · rw [if_neg y]; exact Nat.zero_le _
      omega
/-- a call waits at the end of a bulkhead's queue -/
def tqa (t : DB) (c g w : Nat) : DB := up (up (up t 75 c 1) 43 (10 * g + w) (nI c)) 40 g (nI (w + 1))
theorem SZ.qadd {X : Mem} {m z : Nat} {P : List Nat} {N : Mem} {t : DB} {c g w b : Nat} (h : SZ X m z P c N t) (hc : c < cn t 61) (hcP : c ∉ P) (h69 : t 69 c = 0) (hg : g < cn t 30) (hs : t 31 g = 1) (hw : t 40 g = nI w) (hb : t 33 g = nI b) (hb10 : b ≤ 10) (hwb : w < b) (h65 : t 65 c = nI g) (h73 : t 73 c = 0) (h77 : t 77 c = 0) (h14 : N.1 21 c 14 = 1)
    (hM : N.2.2.2.1 + 1 ≤ 2000 + 100 * m + 20 * (cn t 61 + cn t 23 + cn t 17 + cn t 82 + cn t 50))
    (hUU : cn t 23 + sumTo (cn t 61) (undW t c) + 1 ≤ cn t 61 ∧ cn t 17 + sumTo (cn t 61) (undW t c) + 1 ≤ cn t 61 ∧ cn t 82 + sumTo (cn t 61) (undW t c) + 1 ≤ cn t 61) : SZ X m z P 100000 (lAdd N (32, g) (21, c)) (tqa t c g w) := by
  have h24 : cn t 30 ≤ 24 := h.iB.2.2.2.1.2
  have hn := h.nC
  have ht : TF t (tqa t c g w) [40, 43, 75] := ((TF.rf.wu _ _ (by decide)).wu _ _ (by decide)).wu _ _ (by decide)
  have t40 : ∀ i, tqa t c g w 40 i = if i = g then nI (w + 1) else t 40 i := fun i => by
    unfold tqa
    rw [up_at]
    by_cases e : i = g
    · rw [if_pos ⟨rfl, e⟩, if_pos e]
    · rw [if_neg (fun q => e q.2), if_neg e, up_f (by decide), up_f (by decide)]
  have t75 : ∀ i, tqa t c g w 75 i = if i = c then 1 else t 75 i := fun i => by
    unfold tqa
    rw [up_f (by decide), up_f (by decide), up_at]
    by_cases e : i = c
    · rw [if_pos ⟨rfl, e⟩, if_pos e]
    · rw [if_neg (fun q => e q.2), if_neg e]
  have t43 : ∀ a, tqa t c g w 43 a = if a = 10 * g + w then nI c else t 43 a := fun a => by
    unfold tqa
    rw [up_f (by decide), up_at]
    by_cases e : a = 10 * g + w
    · rw [if_pos ⟨rfl, e⟩, if_pos e]
    · rw [if_neg (fun q => e q.2), if_neg e, up_f (by decide)]
  have w10 : ∀ g', g' < cn t 30 → t 31 g' = 1 → ∃ v, v ≤ 10 ∧ t 40 g' = nI v := fun g' hg' hs' => by
    obtain ⟨s', a1, a2, a3, -, a5, -⟩ := h.iG g' hg'
    obtain ⟨b, v, b1, b2, b3, b4⟩ := a5 ((nI_eq (by omega) (by omega)).mp (a2.symm.trans (hs'.trans (show (1 : Int32) = nI 1 from rfl))))
    exact ⟨v, by omega, b4⟩
  have cw : (nI w).toNatClampNeg = w := nI_clamp (by omega)
  have cw1 : (nI (w + 1)).toNatClampNeg = w + 1 := nI_clamp (by omega)
  have hf : NF N (lAdd N (32, g) (21, c)) [32] := NF.rf.wA _ _ (by show 32 ∈ [32]; decide)
  generalize tqa t c g w = t' at *
  have e30 : cn t' 30 = cn t 30 := ht.cn (by decide)
  have e31 := ht 31 (by decide)
  have e61 : cn t' 61 = cn t 61 := ht.cn (by decide)
  have e65 := ht 65 (by decide)
  obtain ⟨g1, g2, g3, g4, g5⟩ := h.G1 g hg hs
  have g4' : N.1 32 g 0 = nI w := g4.trans hw
  have lo : ∀ i, i < cn t 61 → lvv t' P 100000 i → i ≠ c → lvv t P c i := fun i hi hl e => by
    unfold lvv at hl
    rw [ht 69 (by decide)] at hl
    rcases hl with ⟨q, -⟩ | q
    · exact Or.inl ⟨q, e⟩
    · exact Or.inr q
  have lo2 : ∀ i, i < cn t 61 → lvv t P c i → lvv t' P 100000 i := fun i hi hl => by
    unfold lvv
    rw [ht 69 (by decide)]
    rcases hl with ⟨q, -⟩ | q
    · exact Or.inl ⟨q, by omega⟩
    · exact Or.inr q
  have hG1 : S_G1 (lAdd N (32, g) (21, c)) t' := by
    intro g' hg' hs'
    rw [e30] at hg'
    rw [e31] at hs'
    obtain ⟨a1, a2, a3, a4, a5⟩ := h.G1 g' hg' hs'
    have q11 := hf 11 (by decide)
    rw [q11.1, q11.2.1, ht 39 (by decide), ht 41 (by decide), lAdd_i, t40]
    by_cases e : g' = g
    · subst e
      rw [if_pos ⟨rfl, rfl, rfl⟩, if_pos rfl, g4', nI_1]
      refine ⟨a1, a2, a3, rfl, fun i hi => ?_⟩
      rw [cw1] at hi
      rw [lAdd_r, g4', cw, t43]
      by_cases y : i = w
      · rw [if_pos ⟨rfl, rfl, y⟩, if_pos (by omega), rn_j (by omega)]
      · rw [if_neg (fun q => y q.2.2), if_neg (by omega)]
        exact a5 i (by rw [hw, cw]; omega)
    · rw [if_neg (fun q => e q.2.1), if_neg e]
      obtain ⟨v, hv, ev⟩ := w10 g' hg' hs'
      refine ⟨a1, a2, a3, a4, fun i hi => ?_⟩
      have hi' := hi
      rw [ev, nI_clamp (by omega)] at hi'
      rw [lAdd_r, if_neg (fun q => e q.2.1), t43, if_neg (by omega)]
      exact a5 i hi
  have hQ : S_Q P 100000 (lAdd N (32, g) (21, c)) t' := by
    intro i hi hlv
    rw [e61] at hi
    have q21 := hf 21 (by decide)
    have q10 := hf 10 (by decide)
    rw [q21.1, q10.2.1, e65, e30, e31, ht 79 (by decide), ht 36 (by decide), t75, ht 77 (by decide)]
    by_cases e : i = c
    · subst e
      rw [if_pos rfl]
      refine ⟨?_, fun g' e1 hg' => ?_⟩
      · rw [h14]
        unfold stOf
        rw [t75, if_pos rfl]
        exact (if_pos rfl).symm
      · have eg : g' = g := (nI_eq (by omega) (by omega)).mp (e1.symm.trans h65)
        subst eg
        refine ⟨fun q => ?_, fun _ => Or.inl ⟨rfl, h77, w, ?_, ?_⟩⟩
        · rw [hs] at q; exact absurd q (by decide)
        · rw [t40, if_pos rfl, cw1]; omega
        · rw [t43, if_pos rfl]
    · rw [if_neg e]
      obtain ⟨q1, q2⟩ := h.Q i hi (lo i hi hlv e)
      refine ⟨?_, fun g' e1 hg' => ?_⟩
      · rw [q1]
        unfold stOf
        rw [t75, if_neg e, ht 76 (by decide), ht 74 (by decide)]
      · obtain ⟨r1, r2⟩ := q2 g' e1 hg'
        refine ⟨r1, fun hs' => ?_⟩
        rcases r2 hs' with ⟨u1, u2, j', u3, u4⟩ | u
        · obtain ⟨v, hv, ev⟩ := w10 g' hg' hs'
          have u3' := u3
          rw [ev, nI_clamp (by omega)] at u3'
          refine Or.inl ⟨u1, u2, j', ?_, ?_⟩
          · rw [t40]
            by_cases y : g' = g
            · subst y
              rw [if_pos rfl, cw1]
              rw [hw, cw] at u3
              omega
            · rw [if_neg y]; exact u3
          · rw [t43, if_neg (fun q => ?_)]
            · exact u4
            · by_cases y : g' = g
              · subst y
                rw [hw, cw] at u3
                omega
              · omega
        · exact Or.inr u
  have hB : S_B P 100000 t' := by
    intro g' hg' hs' i hi
    rw [e30] at hg'
    rw [e31] at hs'
    rw [e61, e65, ht 73 (by decide)]
    rw [t40] at hi
    have old : ∀ i, i < (t 40 g').toNatClampNeg → i < 10 → (g' = g → i < w) → ∃ k, k < cn t 61 ∧ t' 43 (10 * g' + i) = nI k ∧ t 65 k = nI g' ∧ t' 75 k = 1 ∧ t 73 k = 0 ∧ lvv t' P 100000 k ∧ k ≠ c ∧ ∀ a, a < i → t' 43 (10 * g' + a) ≠ nI k := fun i hi hi10 hig => by
      obtain ⟨k, b1, b2, b3, b4, b5, b6, b7⟩ := h.B g' hg' hs' i hi
      have hkc : k ≠ c := fun q => by
        subst q
        rcases b6 with ⟨-, q⟩ | q
        · exact q rfl
        · exact hcP q
      have n43 : ∀ a, a ≤ i → t' 43 (10 * g' + a) = t 43 (10 * g' + a) := fun a ha => by
        rw [t43, if_neg (fun q => ?_)]
        by_cases y : g' = g
        · have := hig y
          subst y
          omega
        · omega
      exact ⟨k, b1, by rw [n43 i (Nat.le_refl _)]; exact b2, b3, by rw [t75, if_neg hkc]; exact b4, b5, lo2 k b1 b6, hkc, fun a ha => by rw [n43 a (by omega)]; exact b7 a ha⟩
    by_cases e : g' = g
    · subst e
      rw [if_pos rfl, cw1] at hi
      by_cases y : i = w
      · subst y
        refine ⟨c, hc, by rw [t43, if_pos rfl], h65, by rw [t75, if_pos rfl], h73, Or.inl ⟨by rw [ht 69 (by decide)]; exact h69, by omega⟩, fun a ha q => ?_⟩
        obtain ⟨k, b1, b2, -, -, -, -, b7, -⟩ := old a (by rw [hw, cw]; omega) (by omega) (fun _ => ha)
        rw [q] at b2
        exact b7 ((nI_eq (by omega) (by omega)).mp b2).symm
      · obtain ⟨k, b1, b2, b3, b4, b5, b6, b7, b8⟩ := old i (by rw [hw, cw]; omega) (by omega) (fun _ => by omega)
        exact ⟨k, b1, b2, b3, b4, b5, b6, b8⟩
    · rw [if_neg e] at hi
      obtain ⟨v, hv, ev⟩ := w10 g' hg' hs'
      have hi' := hi
      rw [ev, nI_clamp (by omega)] at hi'
      obtain ⟨k, b1, b2, b3, b4, b5, b6, b7, b8⟩ := old i hi (by omega) (fun q => absurd q e)
      exact ⟨k, b1, b2, b3, b4, b5, b6, b8⟩
  have hGI : I_G t' := by
    intro g' hg'
    rw [e30] at hg'
    obtain ⟨s', a1, a2, a3, a4, a5, a6⟩ := h.iG g' hg'
    rw [e31, ht 35 (by decide), ht 36 (by decide), ht 32 (by decide), ht 33 (by decide), ht 34 (by decide), ht.cn (f := 1) (by decide)]
    refine ⟨s', a1, a2, a3, a4, fun q => ?_, a6⟩
    rw [t40]
    by_cases e : g' = g
    · subst e
      rw [if_pos rfl]
      exact ⟨b, w + 1, hb10, hb, by omega, rfl⟩
    · rw [if_neg e]; exact a5 q
  have hH : I_H t' := by
    intro i hi
    rw [e61] at hi
    obtain ⟨a1, a2, a3, a4, a5, a6⟩ := h.iH i hi
    rw [ht 69 (by decide), ht 70 (by decide), ht 71 (by decide), ht 76 (by decide), ht 77 (by decide), ht 78 (by decide), ht 79 (by decide), ht 73 (by decide), ht.cn (f := 23) (by decide), t75]
    refine ⟨a1, a2, a3, a4, ?_, a6⟩
    by_cases e : i = c
    · rw [if_pos e]; exact Or.inr rfl
    · rw [if_neg e]; exact a5
  have hZ : I_Z t' := by
    intro i hi
    rw [e61] at hi
    obtain ⟨a1, a2⟩ := h.iZ i hi
    rw [e30, e31, e65, ht 79 (by decide), ht 77 (by decide), ht 76 (by decide), ht 78 (by decide), ht 74 (by decide), ht 73 (by decide), ht 62 (by decide), ht 52 (by decide), ht 53 (by decide), ht 54 (by decide), ht.cn (f := 50) (by decide), t75]
    refine ⟨fun g' hg' e => ?_, fun e => ?_⟩
    · obtain ⟨b1, b2, b3⟩ := a1 g' hg' e
      refine ⟨b1, fun q => ⟨?_, (b2 q).2⟩, b3⟩
      by_cases y : i = c
      · subst y
        have : g' = g := (nI_eq (by omega) (by omega)).mp (e.symm.trans h65)
        subst this
        exact absurd hs q
      · rw [if_neg y]; exact (b2 q).1
    · obtain ⟨b1, b2, b3, b4⟩ := a2 e
      refine ⟨b1, b2, ?_, b4⟩
      by_cases y : i = c
      · subst y
        exact absurd (h65.symm.trans e) (nI_m1 (by omega))
      · rw [if_neg y]; exact b3
  have hU : I_U 100000 t' := by
    obtain ⟨u1, -⟩ := h.iU
    have hle := sum_live (t := t) (c := c) (cn t 61) (by omega)
    have eu : undW t' 100000 = undW t 100000 := by
      funext i
      unfold undW
      rw [ht 69 (by decide)]
    have er : remC t' = remC t := by
      funext i
      unfold remC capD srt
      rw [e65, e31, ht 73 (by decide), ht 51 (by decide), ht 62 (by decide), ht 48 (by decide), ht 49 (by decide), ht 63 (by decide)]
    unfold I_U
    rw [e61, er, eu, ht.cn (f := 50) (by decide), ht.cn (f := 23) (by decide), ht.cn (f := 17) (by decide), ht.cn (f := 82) (by decide)]
    exact ⟨u1, by omega, by omega, by omega⟩
  have hMm : S_M m (lAdd N (32, g) (21, c)) t' := by
    obtain ⟨v1, v2⟩ := h.M
    unfold S_M
    rw [e61, ht.cn (f := 23) (by decide), ht.cn (f := 17) (by decide), ht.cn (f := 82) (by decide), ht.cn (f := 50) (by decide)]
    show N.2.2.2.1 + 1 ≤ _ ∧ N.2.2.2.2 + 10 ≤ 300000 + 20 * (N.2.2.2.1 + 1)
    omega
  exact ⟨h.I.fr hf (by decide) ht (by decide), h.R.fr hf (by decide) ht (by decide), h.N.fr hf (by decide) ht (by decide), h.K.fr hf (by decide) ht (by decide), h.S.fr hf (by decide) ht (by decide), h.E.fr rfl ht (by decide), h.W.fr hf (by decide) ht (by decide), h.P1.fr hf (by decide) ht (by decide), h.P2.fr hf (by decide) ht (by decide), h.G.fr hf (by decide) ht (by decide), h.G0.fr hf (by decide) ht (by decide), hG1, h.G2.fr hf (by decide) ht (by decide), h.G7.fr hf (by decide) ht (by decide), h.T.fr hf (by decide) ht (by decide), h.U.fr hf (by decide) ht (by decide), h.C.fr hf (by decide) ht (by decide), h.V.fr hf (by decide) ht (by decide), h.O.fr hf (by decide) ht (by decide), h.A.fr hf (by decide) ht (by decide), h.Y.fr hf (by decide) ht (by decide), hQ, hB, h.F.fr hf (by decide), hMm, h.iB.fr ht (by decide), hGI, h.iT.fr ht (by decide), h.iO.fr ht (by decide), h.iC.fr ht (by decide), hH, hZ, h.iL.fr ht (by decide), h.iR.fr ht (by decide), h.iX.fr ht (by decide), hU, h.iD.fr ht (by decide), h.iK.fr ht (by decide), h.iY.fr ht (by decide), h.J.fr ht (by decide), h.GT.fr hf (by decide) ht (by decide), h.H.fr hf (by decide) ht (by decide)⟩
