set_option maxRecDepth 100000
/-! a call ends -/
theorem up_id {t : DB} {f i : Nat} {v : Int32} (h : t f i = v) : up t f i v = t := by
  funext g j
  unfold up
  split
  · rename_i e; rw [e.1, e.2, h]
  · rfl
theorem gn_fr {t t' : DB} (h : t' 31 = t 31) (x : Int32) : gn t' x = gn t x := by unfold gn; rw [h]
theorem cn_fr {t t' : DB} {f : Nat} (h : t' f = t f) : cn t' f = cn t f := by unfold cn; rw [h]
def tE (t : DB) (c : Nat) (how val b : Int32) : DB := up (up (up (up t 69 c how) 70 c val) 71 c b) 68 c (t 0 0)
theorem tE_TF {t : DB} {c : Nat} {how val b : Int32} : TF t (tE t c how val b) [68, 69, 70, 71] := (((TF.rf.wu _ _ (by decide)).wu _ _ (by decide)).wu _ _ (by decide)).wu _ _ (by decide)
theorem tE_69 {t : DB} {c i : Nat} {how val b : Int32} : tE t c how val b 69 i = if i = c then how else t 69 i := by simp [tE, up]
theorem tE_70 {t : DB} {c i : Nat} {how val b : Int32} : tE t c how val b 70 i = if i = c then val else t 70 i := by simp [tE, up]
theorem tE_71 {t : DB} {c i : Nat} {how val b : Int32} : tE t c how val b 71 i = if i = c then b else t 71 i := by simp [tE, up]
theorem SZ.nC {X : Mem} {m z : Nat} {P : List Nat} {x : Nat} {N : Mem} {t : DB} (h : SZ X m z P x N t) : cn t 61 ≤ 4020 := h.iB.2.2.2.2.2.2.1.2
theorem SZ_endX {X : Mem} {m z z' : Nat} {P : List Nat} {N N' : Mem} {t : DB} {c : Nat} {how val b : Int32} (h : SZ X m z P c N t) (hc : c < cn t 61) (hcP : c ∉ P)
    (hhow : how = 1 ∨ how = 2) (hval : how = 2 → ∃ f, f < cn t 23 ∧ val = nI f) (hb : b = 0 ∨ b = 1) (hb2 : how ≠ 1 → b = 0)
    (hf : NF N N' [21]) (hE : N'.2.2 = N.2.2) (hI : S_I N' (tE t c how val b)) (hR : S_R N' t) (hN : S_N N' t)
    (n6 : ∀ i, N'.2.1 21 i 6 = N.2.1 21 i 6 ∧ N'.2.1 21 i 7 = N.2.1 21 i 7 ∧ N'.1 21 i 10 = N.1 21 i 10 ∧ N'.1 21 i 14 = N.1 21 i 14)
    (n12 : ∀ i, i ≠ c → N'.1 21 i 12 = N.1 21 i 12 ∧ N'.2.1 21 i 16 = N.2.1 21 i 16)
    (v12 : N'.1 21 c 12 = if how = 1 then val else -1) (v16 : N'.2.1 21 c 16 = if how = 2 then rn 22 val else (0, 0)) (hO : S_O z' N' (tE t c how val b)) : SZ X m z' P 100000 N' (tE t c how val b) := by
  have ht : TF t (tE t c how val b) [68, 69, 70, 71] := tE_TF
  have hcn : ∀ f, f ∉ [68, 69, 70, 71] → cn (tE t c how val b) f = cn t f := fun f hf => ht.cn hf
  have h61 := hcn 61 (by decide)
  have h23 := hcn 23 (by decide)
  have e65 := ht 65 (by decide)
  have e64 := ht 64 (by decide)
  have e62 := ht 62 (by decide)
  have e31 := ht 31 (by decide)
  have e30 := hcn 30 (by decide)
  have hn0 : how ≠ 0 := by rcases hhow with e | e <;> rw [e] <;> decide
  have hlt := h.nC
  have lv1 : ∀ k, k < cn t 61 → (lvv (tE t c how val b) P 100000 k ↔ lvv t P c k) := by
    intro k hk
    unfold lvv
    rw [tE_69]
    by_cases e : k = c
    · subst e
      rw [if_pos rfl]
      constructor
      · rintro (⟨q, -⟩ | q)
        · exact absurd q hn0
        · exact Or.inr q
      · rintro (⟨-, q⟩ | q)
        · exact absurd rfl q
        · exact Or.inr q
    · rw [if_neg e]
      constructor
      · rintro (⟨q, -⟩ | q)
        · exact Or.inl ⟨q, e⟩
        · exact Or.inr q
      · rintro (⟨q, -⟩ | q)
        · exact Or.inl ⟨q, by omega⟩
        · exact Or.inr q
  have nw69 : ∀ k, tE t c how val b 69 k = 0 → t 69 k = 0 ∧ k ≠ c := by
    intro k hk
    rw [tE_69] at hk
    by_cases e : k = c
    · rw [if_pos e] at hk; exact absurd hk hn0
    · rw [if_neg e] at hk; exact ⟨hk, e⟩
  have hC : S_C N' (tE t c how val b) := by
    intro i hi
    rw [h61] at hi
    obtain ⟨a1, a2, a3, a4⟩ := h.C i hi
    obtain ⟨m6, m7, -, -⟩ := n6 i
    rw [m6, m7, e65, gn_fr e31, tE_69, tE_70]
    by_cases e : i = c
    · rw [if_pos e, if_pos e, e]
      exact ⟨by rw [← e]; exact a1, by rw [← e]; exact a2, v12, v16⟩
    · rw [if_neg e, if_neg e, (n12 i e).1, (n12 i e).2]
      exact ⟨a1, a2, a3, a4⟩
  have hV : S_V N' (tE t c how val b) := by
    have q31 := hf 31 (by decide)
    have hV0 := h.V
    unfold S_V at hV0 ⊢
    rw [h61, e30, ht 73 (by decide), e64, e65, e31, q31.2.1]
    intro i hi
    obtain ⟨a1, a2, a3, a4⟩ := hV0 i hi
    refine ⟨a1, a2, a3, ?_⟩
    rw [(n6 i).2.2.1]
    exact a4
  have hQ : S_Q P 100000 N' (tE t c how val b) := by
    intro k hk hl
    rw [h61] at hk
    have hs := h.Q k hk ((lv1 k hk).mp hl)
    have q10 := hf 10 (by decide)
    rw [(n6 k).2.2.2, e65, e30, e31, ht 79 (by decide), ht 36 (by decide), ht 75 (by decide), ht 77 (by decide), ht 40 (by decide), ht 43 (by decide), q10.2.1]
    refine ⟨?_, hs.2⟩
    rw [hs.1]
    unfold stOf
    rw [ht 75 (by decide), ht 76 (by decide), ht 74 (by decide)]
  have hB : S_B P 100000 (tE t c how val b) := by
    intro g hg hs j hj
    rw [e30] at hg
    rw [e31] at hs
    rw [ht 40 (by decide)] at hj
    obtain ⟨k, a1, a2, a3, a4, a5, a6, a7⟩ := h.B g hg hs j hj
    rw [h61, ht 43 (by decide), e65, ht 75 (by decide), ht 73 (by decide)]
    exact ⟨k, a1, a2, a3, a4, a5, (lv1 k a1).mpr a6, a7⟩
  have hH : I_H (tE t c how val b) := by
    intro i hi
    rw [h61] at hi
    have a := h.iH i hi
    rw [tE_69, tE_70, tE_71, h23, ht 75 (by decide), ht 76 (by decide), ht 77 (by decide), ht 78 (by decide), ht 79 (by decide), ht 73 (by decide)]
    by_cases e : i = c
    · rw [if_pos e, if_pos e, if_pos e]
      exact ⟨by rcases hhow with q | q <;> simp [q], hval, hb, hb2, a.2.2.2.2⟩
    · rw [if_neg e, if_neg e, if_neg e]
      exact a
  have hL : I_L (tE t c how val b) := by
    intro k l hk hl u1 u2 u3 u4 u5 u6
    rw [h61] at hk hl
    rw [ht 78 (by decide)] at u3 u4
    rw [e65] at u5
    rw [e62, hcn 50 (by decide), ht 52 (by decide), ht 53 (by decide), ht 54 (by decide)] at u6
    exact h.iL k l hk hl (nw69 k u1).1 (nw69 l u2).1 u3 u4 u5 u6
  have hU : I_U 100000 (tE t c how val b) := by
    have e1 : sumTo (cn (tE t c how val b) 61) (undW (tE t c how val b) 100000) = sumTo (cn t 61) (undW t c) := by
      rw [h61]
      refine sumTo_congr fun k hk => ?_
      unfold undW
      rw [tE_69]
      by_cases e : k = c
      · rw [if_pos e, if_neg (fun q => hn0 q.1), if_neg (fun q => q.2 e)]
      · rw [if_neg e]
        by_cases q : t 69 k = 0
        · rw [if_pos ⟨q, by omega⟩, if_pos ⟨q, e⟩]
        · rw [if_neg (fun z => q z.1), if_neg (fun z => q z.1)]
    have e2 : remC (tE t c how val b) = remC t := by
      funext k
      unfold remC capD srt
      rw [e65, e31, ht 73 (by decide), ht 51 (by decide), e62, ht 48 (by decide), ht 49 (by decide), ht 63 (by decide)]
    have a := h.iU
    unfold I_U at a ⊢
    rw [e1, e2, h61, h23, hcn 50 (by decide), hcn 17 (by decide), hcn 82 (by decide)]
    exact a
  have hJ : I_J P (tE t c how val b) := by
    intro k hk
    have a := h.J k hk
    have hne : k ≠ c := fun e => hcP (e ▸ hk)
    rw [h61, tE_69, if_neg hne]
    exact a
  exact ⟨hI, hR.fr (K := []) NF.rf (by decide) ht (by decide), hN.fr (K := []) NF.rf (by decide) ht (by decide), h.K.fr hf (by decide) ht (by decide), h.S.fr hf (by decide) ht (by decide), h.E.fr (congrArg Prod.fst hE) ht (by decide), h.W.fr hf (by decide) ht (by decide), h.P1.fr hf (by decide) ht (by decide), h.P2.fr hf (by decide) ht (by decide), h.G.fr hf (by decide) ht (by decide), h.G0.fr hf (by decide) ht (by decide), h.G1.fr hf (by decide) ht (by decide), h.G2.fr hf (by decide) ht (by decide), h.G7.fr hf (by decide) ht (by decide), h.T.fr hf (by decide) ht (by decide), h.U.fr hf (by decide) ht (by decide), hC, hV, hO, h.A.fr hf (by decide) ht (by decide), h.Y.fr hf (by decide) ht (by decide), hQ, hB, h.F.fr hf (by decide), h.M.fr (congrArg Prod.snd hE) ht (by decide), h.iB.fr ht (by decide), h.iG.fr ht (by decide), h.iT.fr ht (by decide), h.iO.fr ht (by decide), h.iC.fr ht (by decide), hH, h.iZ.fr ht (by decide), hL, h.iR.fr ht (by decide), h.iX.fr ht (by decide), hU, h.iD.fr ht (by decide), h.iK.fr ht (by decide), h.iY.fr ht (by decide), hJ, h.GT.fr hf (by decide) ht (by decide), h.H.fr hf (by decide) ht (by decide)⟩
theorem SZ_end {X : Mem} {m z : Nat} {P : List Nat} {N N' : Mem} {t : DB} {c : Nat} {how val b : Int32} (h : SZ X m z P c N t) (hc : c < cn t 61) (hcP : c ∉ P)
    (hhow : how = 1 ∨ how = 2) (hval : how = 2 → ∃ f, f < cn t 23 ∧ val = nI f) (hb : b = 0 ∨ b = 1) (hb2 : how ≠ 1 → b = 0) (hp : t 64 c ≠ -1)
    (hf : NF N N' [21]) (hE : N'.2.2 = N.2.2) (hI : S_I N' (tE t c how val b)) (hR : S_R N' t) (hN : S_N N' t)
    (n6 : ∀ i, N'.2.1 21 i 6 = N.2.1 21 i 6 ∧ N'.2.1 21 i 7 = N.2.1 21 i 7 ∧ N'.1 21 i 10 = N.1 21 i 10 ∧ N'.1 21 i 14 = N.1 21 i 14)
    (n12 : ∀ i, i ≠ c → N'.1 21 i 12 = N.1 21 i 12 ∧ N'.2.1 21 i 16 = N.2.1 21 i 16)
    (v12 : N'.1 21 c 12 = if how = 1 then val else -1) (v16 : N'.2.1 21 c 16 = if how = 2 then rn 22 val else (0, 0)) : SZ X m z P 100000 N' (tE t c how val b) := by
  have ht : TF t (tE t c how val b) [68, 69, 70, 71] := tE_TF
  have hcn : ∀ f, f ∉ [68, 69, 70, 71] → cn (tE t c how val b) f = cn t f := fun f hf => ht.cn hf
  have h61 := hcn 61 (by decide)
  have e64 := ht 64 (by decide)
  have e62 := ht 62 (by decide)
  have hO : S_O z N' (tE t c how val b) := by
    have q20 := hf 20 (by decide)
    intro o ho hz
    rw [hcn 50 (by decide)] at ho
    obtain ⟨a1, c', a2, a3, a4, a5, a6⟩ := h.O o ho hz
    have hne : c' ≠ c := fun e => hp (e ▸ a5)
    rw [q20.1, q20.2.1, h61, ht 58 (by decide), ht 59 (by decide), e62, e64]
    refine ⟨a1, c', a2, a3, a4, a5, ?_⟩
    rw [tE_69, tE_70, tE_71, if_neg hne, if_neg hne, if_neg hne]
    exact a6
  exact SZ_endX h hc hcP hhow hval hb hb2 hf hE hI hR hN n6 n12 v12 v16 hO
theorem iP_end {t : DB} {c : Nat} {how val b : Int32} (h : I_P t) (h69 : t 69 c = 0) (hch : ∀ k, k < cn t 61 → t 64 k = nI c → t 69 k ≠ 0) (hhow : how = 2 ∨ (how = 1 ∧ ∀ p k, p < cn t 61 → t 64 c = nI p → k < cn t 61 → k ≠ c → t 64 k = nI p → t 69 k ≠ 0)) (hc : c < cn t 61) : I_P (tE t c how val b) := by
  have ht : TF t (tE t c how val b) [68, 69, 70, 71] := tE_TF
  have hn0 : how ≠ 0 := by rcases hhow with e | ⟨e, -⟩ <;> rw [e] <;> decide
  intro k hk hk0 p hpl hp
  rw [ht.cn (by decide)] at hk hpl
  rw [ht 64 (by decide)] at hp
  rw [tE_69] at hk0
  have hkc : k ≠ c := fun e => by rw [if_pos e] at hk0; exact hn0 hk0
  rw [if_neg hkc] at hk0
  obtain ⟨a1, a2⟩ := h k hk hk0 p hpl hp
  have hpc : p ≠ c := fun e => hch k hk (e ▸ hp) hk0
  refine ⟨by rw [tE_69, if_neg hpc]; exact a1, ?_⟩
  rw [ht 65 (by decide), ht 31 (by decide), ht.cn (f := 61) (by decide), ht.cn (f := 30) (by decide), ht 64 (by decide)]
  intro g hgl hg j hj hjk hjp
  have a3 := a2 g hgl hg j hj hjk hjp
  rw [tE_69]
  by_cases e : j = c
  · rw [if_pos e]
    rw [e, h69] at a3
    rcases a3 with ⟨q, -⟩ | ⟨-, -, q⟩
    · rcases hhow with w | ⟨w, ww⟩
      · exact Or.inl ⟨q, Or.inr w⟩
      · exact absurd hk0 (ww p k hpl (e ▸ hjp) hk (fun z => hkc z) hp)
    · exact absurd q (by decide)
  · rw [if_neg e]; exact a3
