set_option maxRecDepth 100000
/-! taking back, the whole of it -/
theorem wi_ge {X : Mem} {m z : Nat} {P : List Nat} {x : Nat} {N : Mem} {t : DB} (h : SZ X m z P x N t) {c : Nat} : ∀ (n k : Nat), k ≤ n → k < cn t 61 → wi t c k = true → c ≤ k := by
  have hn := h.nC
  intro n
  induction n with
  | zero =>
    intro k hkn hk w
    rw [wi_s h hk] at w
    rcases h.par k hk with q | ⟨p, q1, -⟩
    · rw [q, if_pos (by decide), Bool.or_false] at w
      have : k = c := by simpa using w
      omega
    · omega
  | succ n ih =>
    intro k hkn hk w
    rw [wi_s h hk] at w
    rcases h.par k hk with q | ⟨p, q1, q2⟩
    · rw [q, if_pos (by decide), Bool.or_false] at w
      have : k = c := by simpa using w
      omega
    · rw [q2, if_neg (nI_pos (by omega)), nI_clamp (by omega)] at w
      by_cases e : k = c
      · omega
      · have hkb : (k == c) = false := by simpa using e
        rw [hkb, Bool.false_or] at w
        have := ih p (by omega) (by omega) w
        omega
theorem nKj_low {N : Mem} {t : DB} {F : Nat → Bool} {i : Nat} : ∀ {c : Nat}, (∀ k, k < c → ¬ (F k = true ∧ t 69 k = 0)) → nKj N t F i c = sN N 33 i 0 3
  | 0, _ => rfl
  | c + 1, h => by rw [nKj_s0 (h c (Nat.lt_succ_self _))]; exact nKj_low (fun k hk => h k (by omega))
theorem nKj_x {N : Mem} {t : DB} {F : Nat → Bool} {i : Nat} : ∀ {j : Nat}, (nKj N t F i j).2.2.1 33 i ≠ 0
  | 0 => by
    show (if 33 = 33 ∧ i = i then 0 + 1 else N.2.2.1 33 i) ≠ 0
    rw [if_pos ⟨rfl, rfl⟩]; decide
  | j + 1 => by
    have ih := nKj_x (N := N) (t := t) (F := F) (i := i) (j := j)
    by_cases q : F j = true ∧ t 69 j = 0
    · rw [nKj_s1 q]; exact ih
    · rw [nKj_s0 q]; exact ih
theorem LF_und {t t' : DB} {F : Nat → Bool} {n : Nat} (hn : n ≤ 4020) (h69 : ∀ i, t' 69 i = if i ∈ LF t F n then 3 else t 69 i) : ∀ {j : Nat}, j ≤ n → sumTo j (undW t' 100000) + (LF t F j).length = sumTo j (undW t 100000)
  | 0, _ => rfl
  | j + 1, hj => by
    have ih := LF_und hn h69 (j := j) (by omega)
    show sumTo j (undW t' 100000) + undW t' 100000 j + _ = sumTo j (undW t 100000) + undW t 100000 j
    by_cases q : F j = true ∧ t 69 j = 0
    · have a1 : undW t' 100000 j = 0 := by
        unfold undW
        rw [h69, if_pos (LF_mem.mpr ⟨by omega, q⟩), if_neg (fun y => absurd y.1 (by decide))]
      have a2 : undW t 100000 j = 1 := if_pos ⟨q.2, by omega⟩
      rw [a1, a2, LF_s1 q, List.length_append]
      show _ + 0 + ((LF t F j).length + 1) = _
      omega
    · have a1 : undW t' 100000 j = undW t 100000 j := by
        unfold undW
        rw [h69, if_neg (fun y => q (LF_mem.mp y).2)]
      rw [a1, LF_s0 q]
      omega
theorem SZ.chX {X X' : Mem} {m z : Nat} {P : List Nat} {x : Nat} {N : Mem} {t : DB} (h : SZ X m z P x N t) (hF : S_F X' N) : SZ X' m z P x N t := by
  have hf : NF N N [] := NF.rf
  have ht : TF t t [] := TF.rf
  exact ⟨h.I.fr hf (by decide) ht (by decide), h.R.fr hf (by decide) ht (by decide), h.N.fr hf (by decide) ht (by decide), h.K.fr hf (by decide) ht (by decide), h.S.fr hf (by decide) ht (by decide), h.E.fr rfl ht (by decide), h.W.fr hf (by decide) ht (by decide), h.P1.fr hf (by decide) ht (by decide), h.P2.fr hf (by decide) ht (by decide), h.G.fr hf (by decide) ht (by decide), h.G0.fr hf (by decide) ht (by decide), h.G1.fr hf (by decide) ht (by decide), h.G2.fr hf (by decide) ht (by decide), h.G7.fr hf (by decide) ht (by decide), h.T.fr hf (by decide) ht (by decide), h.U.fr hf (by decide) ht (by decide), h.C.fr hf (by decide) ht (by decide), h.V.fr hf (by decide) ht (by decide), h.O.fr hf (by decide) ht (by decide), h.A.fr hf (by decide) ht (by decide), h.Y.fr hf (by decide) ht (by decide), h.Q.fr hf (by decide) ht (by decide), h.B.fr ht (by decide), hF, h.M.fr rfl ht (by decide), h.iB.fr ht (by decide), h.iG.fr ht (by decide), h.iT.fr ht (by decide), h.iO.fr ht (by decide), h.iC.fr ht (by decide), h.iH.fr ht (by decide), h.iZ.fr ht (by decide), h.iL.fr ht (by decide), h.iR.fr ht (by decide), h.iX.fr ht (by decide), h.iU.fr ht (by decide), h.iD.fr ht (by decide), h.iK.fr ht (by decide), h.iY.fr ht (by decide), h.J.fr ht (by decide), h.GT.fr hf (by decide) ht (by decide), h.H.fr hf (by decide) ht (by decide)⟩
/-- X with the lists of taking back as they stand -/
def x33 (X N : Mem) : Mem := (fun k => if k = 33 then N.1 33 else X.1 k, fun k => if k = 33 then N.2.1 33 else X.2.1 k, fun k => if k = 33 then N.2.2.1 33 else X.2.2.1 k, X.2.2.2)
theorem fk33 {k : Nat} (h : fk k) : k ≠ 33 := by
  unfold fk at h
  omega
theorem x33_to {X N : Mem} (h : S_F X N) : S_F (x33 X N) N := by
  refine ⟨fun k hk => ?_, fun i _ => ⟨rfl, rfl, rfl⟩⟩
  have e := fk33 hk
  obtain ⟨a, b, c⟩ := h.1 k hk
  exact ⟨a.trans (if_neg e).symm, b.trans (if_neg e).symm, c.trans (if_neg e).symm⟩
theorem x33_of {X N N' : Mem} (h : S_F X N) (h' : S_F (x33 X N) N') : S_F X N' := by
  refine ⟨fun k hk => ?_, fun i hi => ?_⟩
  · have e := fk33 hk
    obtain ⟨a, b, c⟩ := h'.1 k hk
    exact ⟨a.trans (if_neg e), b.trans (if_neg e), c.trans (if_neg e)⟩
  · obtain ⟨a, b, c⟩ := h.2 i hi
    obtain ⟨a', b', c'⟩ := h'.2 i (show N.2.2.1 33 i ≠ 0 by rw [c]; exact hi)
    exact ⟨a'.trans a, b'.trans b, c'.trans c⟩
/-- orders of those that joined one of L, after the marking -/
def JL (t t1 : DB) (L : List Nat) : Int32 → Prop := fun o => ∃ j k, j < cn t 61 ∧ t1 69 j = 0 ∧ k ∈ L ∧ t 74 j = nI k ∧ t 62 j = o
theorem MO.mk {X : Mem} {m z : Nat} {P : List Nat} {x : Nat} {N : Mem} {t : DB} (h : SZ X m z P x N t) {F : Nat → Bool} {n : Nat} (hl : cn t 82 + (LF t F n).length ≤ 4020) : MO t (tMk t F n) := by
  have ht := tMk_TF (t := t) (F := F) (j := n)
  have b82 : t 82 0 = nI (cn t 82) := h.iB.2.2.2.2.2.2.2.2.2.2.2.1
  refine ⟨ht.mono (by decide), by rw [ht.cn (by decide)]; exact Nat.le_refl _, fun c hc => ⟨fun f hf => ?_, fun q => ?_, fun g _ _ => ⟨fun _ => ?_, fun _ => ?_⟩⟩, fun c h1 h2 => ?_, by rw [ht.cn (by decide)]; exact Nat.le_refl _, ?_, (tMk_81 (t := t) (F := F) (j := n)).1⟩
  · rw [ht f ((by decide : ∀ f ∈ KC, f ∉ [68, 69, 80, 81, 82]) f hf)]
  · rw [tMk_69, if_neg (fun y => q (LF_mem.mp y).2.2), ht 70 (by decide), ht 71 (by decide)]
    exact ⟨rfl, rfl, rfl⟩
  · rw [ht 73 (by decide)]
  · rw [ht 72 (by decide)]
  · rw [ht.cn (by decide)] at h2; omega
  · show cn t 82 ≤ (tMk t F n 82 0).toNatClampNeg
    rw [tMk_82 b82, nI_clamp (by omega)]
    omega
theorem tb_all {n : Nat} {X : Mem} {m z z' : Nat} {P : List Nat} {N : Mem} {t : DB} {h c : Nat} {F : Nat → Bool} {x1 x2 : Int32} (hS : SZ X m z P 100000 N t) (hc : c < cn t 61) (hc0 : t 69 c = 0) (h88 : t 88 0 = nI h) (hh : h ≤ 15000) (hz : 60 ≤ z')
    (hF : ∀ k, k < cn t 61 → (F k = true ↔ (nI k = x1 ∨ (¬ x2 < 0 ∧ t 62 k = x2) ∨ ∃ p, p < k ∧ t 64 k = nI p ∧ F p = true))) (hFw : ∀ k, k < cn t 61 → t 69 k = 0 → F k = wi t c k)
    (hO : ∀ N', NF N N' [21, 33] → S_O z' N' (tMk t F (cn t 61))) (hP : I_P (tMk t F (cn t 61))) (hE : (∃ k, k < cn t 61 ∧ F k = true ∧ t 69 k = 0 ∧ t 78 k = 1) → CE 0 5 n ∧ h + 2 ≤ 10000) :
    ∃ len, (∀ Q : Int32 → DB → Prop, Q (nI len) (psh (tMk t F (cn t 61)) h 4 (nI (cn t 82)) (nI (cn t 82 + len)) 0 0) → w_takeBack x1 x2 t Q) ∧ MO t (tMk t F (cn t 61)) ∧
      cq (n + 13) mX0_takeBack [.inr (1, 0), .inr (21, c)] N (fun r N' => r = some (.inl (nI len)) ∧ ∃ t', SS X m z' P 100000 N' t' ∧ AC (tMk t F (cn t 61)) (psh (tMk t F (cn t 61)) h 4 (nI (cn t 82)) (nI (cn t 82 + len)) 0 0) h (JL t (tMk t F (cn t 61)) (LF t F (cn t 61))) t' ∧ t' 88 0 = nI h) := by
  have hn := hS.nC
  have b61 : t 61 0 = nI (cn t 61) := hS.iB.2.2.2.2.2.2.1.1
  have b82 : t 82 0 = nI (cn t 82) := hS.iB.2.2.2.2.2.2.2.2.2.2.2.1
  obtain ⟨rb1, rb2⟩ := rom_b hS
  have hU := LF_und (t := t) (F := F) (t' := tMk t F (cn t 61)) hn (fun i => tMk_69) (Nat.le_refl _)
  have hiU := hS.iU.2.2.2
  have hlen : cn t 82 + (LF t F (cn t 61)).length ≤ 4020 := by omega
  have hcL : c ∈ LF t F (cn t 61) := LF_mem.mpr ⟨hc, by rw [hFw c hc hc0, wi_s hS hc]; simp, hc0⟩
  have hne : LF t F (cn t 61) ≠ [] := fun e => by rw [e] at hcL; exact absurd hcL List.not_mem_nil
  have hl1 : 1 ≤ (LF t F (cn t 61)).length := List.length_pos_iff.mpr hne
  have hMO : MO t (tMk t F (cn t 61)) := MO.mk hS hlen
  refine ⟨(LF t F (cn t 61)).length, fun Q hQ => w_tb b61 hn b82 hlen hne h88 (by omega) hS.par hF hQ, hMO, ?_⟩
  have hlow : ∀ k, k < c → ¬ (F k = true ∧ t 69 k = 0) := fun k hk w => by
    have := wi_ge hS k k (Nat.le_refl _) (by omega) ((hFw k (by omega) w.2).symm.trans w.1)
    omega
  have ht1 := tMk_TF (t := t) (F := F) (j := cn t 61)
  have k61 : cn (tMk t F (cn t 61)) 61 = cn t 61 := ht1.cn (by decide)
  have k50 : cn (tMk t F (cn t 61)) 50 = cn t 50 := ht1.cn (by decide)
  have e69 : ∀ i, tMk t F (cn t 61) 69 i = if i ∈ LF t F (cn t 61) then 3 else t 69 i := fun i => tMk_69
  have e68 : ∀ i, tMk t F (cn t 61) 68 i = if i ∈ LF t F (cn t 61) then t 0 0 else t 68 i := fun i => tMk_68
  have e82 := tMk_82 (F := F) b82 (j := cn t 61)
  have e81 := (tMk_81 (t := t) (F := F) (j := cn t 61)).2
  have c82 : cn (tMk t F (cn t 61)) 82 = cn t 82 + (LF t F (cn t 61)).length := by
    show (tMk t F (cn t 61) 82 0).toNatClampNeg = _
    rw [e82, nI_clamp (by omega)]
  have hnd := LF_nd (t := t) (F := F) (j := cn t 61)
  have hmem : ∀ k, k ∈ LF t F (cn t 61) ↔ k < cn t 61 ∧ F k = true ∧ t 69 k = 0 := fun k => LF_mem
  refine sv_X0_takeBack (d := n + 2) (Q := fun v N' => v = nI (LF t F (cn t 61)).length ∧ ∃ t', SS X m z' P 100000 N' t' ∧ AC (tMk t F (cn t 61)) (psh (tMk t F (cn t 61)) h 4 (nI (cn t 82)) (nI (cn t 82 + (LF t F (cn t 61)).length)) 0 0) h (JL t (tMk t F (cn t 61)) (LF t F (cn t 61))) t' ∧ t' 88 0 = nI h) (fun v N' w => ⟨by rw [w.1], w.2⟩) ⟨⟨by omega, by omega⟩, fun i hi M2 gM2 => ⟨rfl, fun x3 g3 => ?_⟩⟩
  subst gM2
  have q3 : x3 = nI c := by
    rw [g3]
    show (if 21 = 33 ∧ c = i then (0 : Int32) else N.1 21 c 0) = nI c
    rw [if_neg (fun y => absurd y.1 (by decide))]
    exact hS.N (21, 61) (by decide) c hc
  subst q3
  obtain ⟨s1, s2, s3, s4⟩ := nKj_i (N := N) (t := t) (F := F) (i := i) (j := cn t 61) hn
  have sNF := nKj_NF (N := N) (t := t) (F := F) (i := i) (j := cn t 61)
  have sT : (nKj N t F i (cn t 61)).1 1 0 0 = t 0 0 := by rw [(sNF 1 (by decide)).1]; exact hS.W.2.1
  obtain ⟨p1, p2, p3⟩ := nMa_p (N := nKj N t F i (cn t 61)) (L := LF t F (cn t 61)) (T := t 0 0) (Nat.le_refl _)
  have s5 := nKj_x (N := N) (t := t) (F := F) (i := i) (j := cn t 61)
  have so := fun i' (hne : i' ≠ i) => nKj_o (N := N) (t := t) (F := F) hne (j := cn t 61)
  have start := v_tb13 (d := n + 2) hS (F := F) (c := c) (i := i) (n := cn t 61) (Q := fun v N' => v = nI (LF t F (cn t 61)).length ∧ ∃ t', SS X m z' P 100000 N' t' ∧ AC (tMk t F (cn t 61)) (psh (tMk t F (cn t 61)) h 4 (nI (cn t 82)) (nI (cn t 82 + (LF t F (cn t 61)).length)) 0 0) h (JL t (tMk t F (cn t 61)) (LF t F (cn t 61))) t' ∧ t' 88 0 = nI h) rfl hFw ?_ (cn t 61 - c) c (by omega)
  · rw [nKj_low hlow] at start
    exact ⟨_, start⟩
  refine ⟨_, v_tb83 (Nat.le_trans s4 hn) s1 s2 sT ?_ (LF t F (cn t 61)).length 0 (by omega)⟩
  generalize hL : LF t F (cn t 61) = L at *
  generalize hN2 : nMa (nKj N t F i (cn t 61)) L (t 0 0) L.length = N2 at *
  generalize hT1 : tMk t F (cn t 61) = T1 at *
  have r33 : N2.1 33 = (nKj N t F i (cn t 61)).1 33 := (p1 33 (by decide)).1
  have hf2 : NF N N2 [21, 33] := fun k hk => by
    have a := p1 k (fun y => hk (by simp at y; simp [y]))
    have b := sNF k (fun y => hk (by simp at y; simp [y]))
    exact ⟨a.1.trans b.1, a.2.1.trans b.2.1, a.2.2.trans b.2.2⟩
  have hF2 : S_F X N2 := by
    refine ⟨fun k hk => ?_, fun i' hi' => ?_⟩
    · have hk2 : k ∉ [21, 33] := by
        unfold fk at hk
        simp
        omega
      have a := hf2 k hk2
      have b := hS.F.1 k hk
      exact ⟨a.1.trans b.1, a.2.1.trans b.2.1, a.2.2.trans b.2.2⟩
    · have b := hS.F.2 i' hi'
      have hne' : i' ≠ i := fun e => by
        rw [e] at b hi'
        rw [hi] at b
        exact hi' b.2.2.symm
      have a := so i' hne'
      rw [r33, p2]
      exact ⟨a.1.trans b.1, a.2.1.trans b.2.1, a.2.2.trans b.2.2⟩
  have hMm : S_M m N2 T1 := by
    obtain ⟨v1, v2⟩ := hS.M
    unfold S_M
    have w1 : N2.2.2.2.1 = N.2.2.2.1 + 1 + L.length := by rw [p2]; exact congrArg Prod.fst s3
    have w2 : N2.2.2.2.2 = N.2.2.2.2 + 3 + 10 * L.length := by rw [p2]; exact congrArg Prod.snd s3
    rw [w1, w2, k61, c82, ht1.cn (f := 23) (by decide), ht1.cn (f := 17) (by decide), k50]
    omega
  have hmk := hS.mark (z' := z') (L := L) (N' := N2) (t' := T1) (fun k hk => ⟨((hmem k).mp hk).1, ((hmem k).mp hk).2.2⟩) (Nat.le_of_eq hU) hlen ht1 e69 e68 e82 hf2 (fun j f => by
      rw [p3, List.take_length, (sNF 21 (by decide)).1]) (by rw [p2]; exact (sNF 21 (by decide)).2.1) (by rw [p2]; exact (sNF 21 (by decide)).2.2) hF2 hMm (hO N2 hf2)
  have hx : N2.2.2.1 33 i ≠ 0 := by
    rw [p2]
    exact s5
  have hSX : SS (x33 X N2) m z' (L ++ P) 100000 N2 T1 := ⟨hmk.chX (x33_to hF2), hP⟩
  refine ⟨_, tk_l (n := n) (X := x33 X N2) (m := m) (z := z') (P := P) (L := L) (T0 := T1) (u := psh T1 h 4 (nI (cn t 82)) (nI (cn t 82 + L.length)) 0 0) (h := h) (s := cn t 82) (i := i) (S := JL t T1 L) ?_ ⟨hh, hz⟩ hx ?_ ?_ e81 hlen (Nat.le_of_eq c82.symm) ?_ hnd ?_ ?_ ?_ ?_ L.length 0 (by omega) N2 (psh T1 h 4 (nI (cn t 82)) (nI (cn t 82 + L.length)) 0 0) (hSX.psh) ⟨RUN.rf, MO.psh, fun f h1 h2 j hj => psh_lo h1 h2 hj, fun j _ _ => psh_f (by decide), WA.psh⟩ (fun _ => ⟨psh_88, psh_83, psh_84, psh_85⟩) (fun e => by omega)⟩
  · rintro ⟨k, hk, e⟩
    refine hE ⟨k, ((hmem k).mp hk).1, ((hmem k).mp hk).2.1, ((hmem k).mp hk).2.2, ?_⟩
    rw [← ht1 78 (by decide)]; exact e
  · show N2.1 33 i 0 = _
    rw [r33]; exact s1
  · intro a k e
    show N2.2.1 33 i a = _
    rw [p2]; exact s2 a k e
  · intro k hk
    rw [k61, e69, if_pos hk]
    exact ⟨((hmem k).mp hk).1, rfl⟩
  · intro k hk y
    have := (hS.J k y).2
    rw [((hmem k).mp hk).2.2] at this
    exact absurd this (by decide)
  · intro k hk e l hl a1 a2 a3 a4
    rw [k61] at hl
    rw [ht1 78 (by decide)] at a2 e
    rw [ht1 65 (by decide)] at a3
    rw [k50, ht1 62 (by decide), ht1 52 (by decide), ht1 53 (by decide), ht1 54 (by decide)] at a4
    have l0 : t 69 l = 0 := by
      rw [e69] at a1
      by_cases q : l ∈ L
      · rw [if_pos q] at a1; exact absurd a1 (by decide)
      · rw [if_neg q] at a1; exact a1
    have elk : l = k := hS.iL l k hl ((hmem k).mp hk).1 l0 ((hmem k).mp hk).2.2 a2 e a3 a4
    subst elk
    rw [e69, if_pos hk] at a1
    exact absurd a1 (by decide)
  · intro j k hj e0 hk e74
    rw [k61] at hj
    rw [ht1 74 (by decide)] at e74
    rw [ht1 62 (by decide)]
    exact ⟨j, k, hj, e0, hk, e74, rfl⟩
  · intro N' t' w1 w2 w3
    exact ⟨rfl, t', ⟨w1.1.chX (x33_of hF2 w1.1.F), w1.2⟩, w2, w3⟩
