set_option maxRecDepth 100000
/-! a new effect -/
def eV (s o k l tm : Int32) (f : Nat) : Int32 := if f = 18 then s else if f = 19 then o else if f = 20 then k else if f = 21 then l else tm
def tEf (t : DB) (e s : Nat) (o k l : Int32) : DB := up (blk (up t 2 s (t 2 s + l)) e (eV (nI s) o k l (t 0 0)) 18 23) 17 0 (nI (e + 1))
abbrev EC : List Nat := [2, 17, 18, 19, 20, 21, 22]
theorem tEf_TF {t : DB} {e s : Nat} {o k l : Int32} : TF t (tEf t e s o k l) EC := fun f hf => by
  funext i
  have : f ≠ 2 ∧ (f < 17 ∨ 22 < f) := by simp at hf; omega
  unfold tEf blk
  rw [up_f (by omega), if_neg (by omega), up_f this.1]
theorem tEf_f {t : DB} {e s : Nat} {o k l : Int32} {f i : Nat} (h1 : 18 ≤ f) (h2 : f ≤ 22) : tEf t e s o k l f i = if i = e then eV (nI s) o k l (t 0 0) f else t f i := by
  unfold tEf blk
  rw [up_f (by omega)]
  by_cases y : i = e
  · rw [if_pos (by omega), if_pos y]
  · rw [if_neg (by omega), if_neg y, up_f (by omega)]
theorem tEf_2 {t : DB} {e s : Nat} {o k l : Int32} {i : Nat} : tEf t e s o k l 2 i = if i = s then t 2 s + l else t 2 i := by
  unfold tEf blk
  rw [up_f (by decide), if_neg (by omega)]
  by_cases y : i = s
  · rw [y, up_s, if_pos rfl]
  · rw [up_n (fun q => y q.2), if_neg y]
def eW (s o k l tm : Int32) (f : Nat) : Int32 := if f = 4 then tm else if f = 3 then l else if f = 2 then k else if f = 1 then o else if f = 0 then s else 0
def nEf (N : Mem) (e s : Nat) (v o k l tm : Int32) : Mem := lAdd (sI (sI (sI (sI (sI (sN (sI N 3 s 2 v) 23 e 0 5) 23 e 0 (nI s)) 23 e 1 o) 23 e 2 k) 23 e 3 l) 23 e 4 tm) (30, 11) (23, e)
theorem nEf_23 {N : Mem} {e s : Nat} {v o k l tm : Int32} (i f : Nat) : (nEf N e s v o k l tm).1 23 i f = if i = e then eW (nI s) o k l tm f else N.1 23 i f := by
  unfold nEf eW
  rw [lAdd_i, if_neg (by simp)]
  by_cases y : i = e
  · subst y
    rw [if_pos rfl]
    show (if 23 = 23 ∧ i = i ∧ f = 4 then _ else if 23 = 23 ∧ i = i ∧ f = 3 then _ else if 23 = 23 ∧ i = i ∧ f = 2 then _ else if 23 = 23 ∧ i = i ∧ f = 1 then _ else if 23 = 23 ∧ i = i ∧ f = 0 then _ else if 23 = 23 ∧ i = i then _ else _) = _
    simp
  · rw [if_neg y, sI_ne (by simp [y]), sI_ne (by simp [y]), sI_ne (by simp [y]), sI_ne (by simp [y]), sI_ne (by simp [y])]
    show (if 23 = 23 ∧ i = e then (0 : Int32) else (sI N 3 s 2 v).1 23 i f) = _
    rw [if_neg (fun q => y q.2), sI_ne (by simp)]
theorem nEf_3 {N : Mem} {e s : Nat} {v o k l tm : Int32} (i f : Nat) : (nEf N e s v o k l tm).1 3 i f = if i = s ∧ f = 2 then v else N.1 3 i f := by
  unfold nEf
  rw [lAdd_i, if_neg (by simp), sI_ne (by simp), sI_ne (by simp), sI_ne (by simp), sI_ne (by simp), sI_ne (by simp)]
  show (if 3 = 23 ∧ i = e then (0 : Int32) else (sI N 3 s 2 v).1 3 i f) = _
  rw [if_neg (by omega), sI_at]
  by_cases y : i = s ∧ f = 2
  · rw [if_pos ⟨rfl, y⟩, if_pos y]
  · rw [if_neg (fun q => y q.2), if_neg y]
theorem nEf_30 {N : Mem} {e s : Nat} {v o k l tm : Int32} (h11 : N.1 30 11 0 = nI e) (he : e < 2 ^ 31) (i : Nat) : ((nEf N e s v o k l tm).1 30 i 0 = if i = 11 then nI (e + 1) else N.1 30 i 0) ∧ ∀ j, (nEf N e s v o k l tm).2.1 30 i j = if i = 11 ∧ j = e then (23, e) else N.2.1 30 i j := by
  unfold nEf
  have z : ∀ i f, (sI (sI (sI (sI (sI (sN (sI N 3 s 2 v) 23 e 0 5) 23 e 0 (nI s)) 23 e 1 o) 23 e 2 k) 23 e 3 l) 23 e 4 tm).1 30 i f = N.1 30 i f := fun i f => by
    rw [sI_ne (by simp), sI_ne (by simp), sI_ne (by simp), sI_ne (by simp), sI_ne (by simp)]
    show (if 30 = 23 ∧ i = e then (0 : Int32) else (sI N 3 s 2 v).1 30 i f) = _
    rw [if_neg (by omega), sI_ne (by simp)]
  have zr : ∀ i f, (sI (sI (sI (sI (sI (sN (sI N 3 s 2 v) 23 e 0 5) 23 e 0 (nI s)) 23 e 1 o) 23 e 2 k) 23 e 3 l) 23 e 4 tm).2.1 30 i f = N.2.1 30 i f := fun i f => by
    show (if 30 = 23 ∧ i = e then ((0, 0) : Nat × Nat) else N.2.1 30 i f) = _
    rw [if_neg (by omega)]
  refine ⟨?_, fun j => ?_⟩
  · rw [lAdd_i, z, z, h11, nI_1]
    by_cases y : i = 11
    · rw [if_pos ⟨rfl, y, rfl⟩, if_pos y]
    · rw [if_neg (fun q => y q.2.1), if_neg y]
  · rw [lAdd_r, z, zr, h11, nI_clamp he]
    by_cases y : i = 11 ∧ j = e
    · rw [if_pos ⟨rfl, y.1, y.2⟩, if_pos y]
    · rw [if_neg (fun q => y ⟨q.2.1, q.2.2⟩), if_neg y]
theorem nEf_NF {N : Mem} {e s : Nat} {v o k l tm : Int32} : NF N (nEf N e s v o k l tm) [3, 23, 30] :=
  (((((((NF.rf.wI _ _ _ (by decide)).wN _ _ _ (by decide)).wI _ _ _ (by decide)).wI _ _ _ (by decide)).wI _ _ _ (by decide)).wI _ _ _ (by decide)).wI _ _ _ (by decide)).wA _ _ (by decide)
theorem nEf_x {N : Mem} {e s : Nat} {v o k l tm : Int32} : (∀ i, i ≠ e → (nEf N e s v o k l tm).2.2.1 23 i = N.2.2.1 23 i) ∧ (nEf N e s v o k l tm).2.2.1 3 = N.2.2.1 3 ∧ (nEf N e s v o k l tm).2.1 3 = N.2.1 3 ∧ (nEf N e s v o k l tm).2.2.2 = (N.2.2.2.1 + 2, N.2.2.2.2 + 15) := by
  refine ⟨fun i hi => ?_, ?_, ?_, rfl⟩
  · show (if 23 = 23 ∧ i = e then 0 + 1 else N.2.2.1 23 i) = _
    rw [if_neg (fun y => hi y.2)]
  · funext i
    show (if 3 = 23 ∧ i = e then 0 + 1 else N.2.2.1 3 i) = _
    rw [if_neg (by omega)]
  · funext i f
    unfold nEf
    rw [lAdd_r, if_neg (by simp)]
    show (if 3 = 23 ∧ i = e then ((0, 0) : Nat × Nat) else N.2.1 3 i f) = _
    rw [if_neg (by omega)]
theorem TI_23 : ∀ q ∈ TI, q.1 = 23 → q.2.2.1 = q.2.1 + 18 ∧ q.2.1 ≤ 4 := by decide
theorem SZ.newE {X : Mem} {m z : Nat} {P : List Nat} {x : Nat} {N : Mem} {t : DB} {s e : Nat} {o k l : Int32} (h : SZ X m z P x N t) (hed : cn t 17 = e) (hs : s < cn t 1) (hU : cn t 17 + 1 + sumTo (cn t 61) (undW t x) ≤ cn t 61) : SZ X m z P x (nEf N e s (t 2 s + l) o k l (t 0 0)) (tEf t e s o k l) := by
  have ht := tEf_TF (t := t) (e := e) (s := s) (o := o) (k := k) (l := l)
  have tv := fun f i => tEf_f (t := t) (e := e) (s := s) (o := o) (k := k) (l := l) (f := f) (i := i)
  have t2 := fun i => tEf_2 (t := t) (e := e) (s := s) (o := o) (k := k) (l := l) (i := i)
  have t17 : tEf t e s o k l 17 0 = nI (e + 1) := up_s
  have hn := h.nC
  have h8 : cn t 1 ≤ 8 := h.iB.1.2
  have b17 : t 17 0 = nI e := by rw [← hed]; exact h.iB.2.2.2.2.2.2.2.2.1.1
  have h11 : N.1 30 11 0 = nI e := (h.S (11, 17, 0) (by decide)).trans b17
  have he : e < 4020 := by omega
  have n23 := nEf_23 (N := N) (e := e) (s := s) (v := t 2 s + l) (o := o) (k := k) (l := l) (tm := t 0 0)
  have n3 := nEf_3 (N := N) (e := e) (s := s) (v := t 2 s + l) (o := o) (k := k) (l := l) (tm := t 0 0)
  have n30 := nEf_30 (N := N) (e := e) (s := s) (v := t 2 s + l) (o := o) (k := k) (l := l) (tm := t 0 0) h11 (by omega)
  have hf := nEf_NF (N := N) (e := e) (s := s) (v := t 2 s + l) (o := o) (k := k) (l := l) (tm := t 0 0)
  obtain ⟨nx, nx3, nr3, nx2⟩ := nEf_x (N := N) (e := e) (s := s) (v := t 2 s + l) (o := o) (k := k) (l := l) (tm := t 0 0)
  generalize nEf N e s (t 2 s + l) o k l (t 0 0) = N' at *
  generalize tEf t e s o k l = t' at *
  have c17 : cn t' 17 = e + 1 := by unfold cn; rw [t17, nI_clamp (by omega)]
  have hcn : ∀ q, q ∉ EC → cn t' q = cn t q := fun q hq => ht.cn hq
  have hl : ∀ l, l ≠ 11 → N'.2.1 30 l = N.2.1 30 l := fun l hl => funext fun j => by rw [(n30 l).2, if_neg (fun e => hl e.1)]
  have hI : S_I N' t' := by
    intro q hq i hi
    by_cases e3 : q.1 = 3
    · have hq2 := (by decide : ∀ q ∈ TI, q.1 = 3 → q.2.2.2 = 1 ∧ ((q.2.1 = 2 ∧ q.2.2.1 = 2) ∨ (q.2.1 ≠ 2 ∧ q.2.2.1 ∉ EC))) q hq e3
      have hi1 : i < cn t 1 := by rw [hq2.1, hcn 1 (by decide)] at hi; exact hi
      have old := h.I q hq i (by rw [hq2.1]; exact hi1)
      rw [e3] at old ⊢
      rw [n3]
      rcases hq2.2 with ⟨y1, y2⟩ | ⟨y1, y2⟩
      · rw [y1, y2] at old
        rw [y1, y2, t2]
        by_cases ei : i = s
        · rw [if_pos ⟨ei, rfl⟩, if_pos ei]
        · rw [if_neg (fun q => ei q.1), if_neg ei]; exact old
      · rw [if_neg (fun q => y1 q.2), ht _ y2]; exact old
    · by_cases e23 : q.1 = 23
      · have hq2 := (by decide : ∀ q ∈ TI, q.1 = 23 → q.2.2.2 = 17 ∧ 18 ≤ q.2.2.1 ∧ q.2.2.1 ≤ 22) q hq e23
        obtain ⟨z1, z2, z3⟩ := hq2
        rw [z1, c17] at hi
        rw [e23, n23, tv _ _ z2 z3]
        by_cases ei : i = e
        · rw [if_pos ei, if_pos ei]
          obtain ⟨w1, w2⟩ := TI_23 q hq e23
          rw [w1]
          have : q.2.1 = 0 ∨ q.2.1 = 1 ∨ q.2.1 = 2 ∨ q.2.1 = 3 ∨ q.2.1 = 4 := by omega
          rcases this with y | y | y | y | y <;> rw [y] <;> rfl
        · rw [if_neg ei, if_neg ei]
          have := h.I q hq i (by rw [z1, hed]; omega)
          rw [e23] at this
          exact this
      · have hq3 := (by decide : ∀ q ∈ TI, q.1 ≠ 3 → q.1 ≠ 23 → q.1 ∉ [3, 23, 30] ∧ q.2.2.1 ∉ EC ∧ q.2.2.2 ∉ EC) q hq e3 e23
        rw [hcn _ hq3.2.2] at hi
        rw [(hf q.1 hq3.1).1, ht _ hq3.2.1]
        exact h.I q hq i hi
  have hK : S_K N' t' := by
    intro q hq i hi
    by_cases y : q.1 = 11
    · have : q = (11, 23, 17) := (by decide : ∀ q ∈ TK, q.1 = 11 → q = (11, 23, 17)) q hq y
      subst this
      have hi' : i < cn t' 17 := hi
      rw [c17] at hi'
      show N'.2.1 30 11 i = (23, i)
      rw [(n30 11).2]
      by_cases ei : i = e
      · rw [if_pos ⟨rfl, ei⟩, ei]
      · rw [if_neg (fun y => ei y.2)]; exact h.K (11, 23, 17) hq i (by show i < cn t 17; omega)
    · have hq3 := (by decide : ∀ q ∈ TK, q.1 ≠ 11 → q.2.2 ∉ EC) q hq y
      rw [hcn _ hq3] at hi
      rw [hl _ y]
      exact h.K q hq i hi
  have hSS : S_S N' t' := by
    intro q hq
    rw [(n30 q.1).1]
    by_cases y : q.1 = 11
    · have : q = (11, 17, 0) := (by decide : ∀ q ∈ TS, q.1 = 11 → q = (11, 17, 0)) q hq y
      subst this
      rw [if_pos rfl]
      exact t17.symm
    · have hq3 := (by decide : ∀ q ∈ TS, q.1 ≠ 11 → q.2.1 ∉ EC) q hq y
      rw [if_neg y, ht _ hq3]
      exact h.S q hq
  have hE : S_E N' t' := by
    intro q hq i hi
    by_cases y : q.1 = 23
    · have : q = (23, 17) := (by decide : ∀ q ∈ TE, q.1 = 23 → q = (23, 17)) q hq y
      subst this
      have hi' : cn t' 17 ≤ i := hi
      rw [c17] at hi'
      show N'.2.2.1 23 i = 0
      rw [nx i (by omega)]
      exact h.E (23, 17) hq i (by show cn t 17 ≤ i; omega)
    · have hq3 := (by decide : ∀ q ∈ TE, q.1 ≠ 23 → q.2 ∉ EC ∧ (q.1 = 3 ∨ q.1 ∉ [3, 23, 30])) q hq y
      rw [hcn _ hq3.1] at hi
      rcases hq3.2 with y3 | y3
      · rw [y3, nx3]
        have := h.E q hq i hi
        rw [y3] at this
        exact this
      · rw [(hf q.1 y3).2.2]
        exact h.E q hq i hi
  have hM : S_M m N' t' := by
    obtain ⟨v1, v2⟩ := h.M
    unfold S_M
    rw [nx2, c17, hcn 61 (by decide), hcn 23 (by decide), hcn 50 (by decide), hcn 82 (by decide)]
    rw [hed] at v1
    dsimp only
    omega
  have hB : I_B t' := by
    obtain ⟨a1, a2, a3, a4, a5, a6, a7, a8, a9, a10, a11, a12⟩ := h.iB
    have hb : ∀ q mx, q ∉ EC → bnd t q mx → bnd t' q mx := by
      intro q mx hq hb
      unfold bnd at hb ⊢
      rw [hcn q hq, ht q hq]; exact hb
    refine ⟨hb _ _ (by decide) a1, hb _ _ (by decide) a2, hb _ _ (by decide) a3, hb _ _ (by decide) a4, hb _ _ (by decide) a5, hb _ _ (by decide) a6, hb _ _ (by decide) a7, hb _ _ (by decide) a8, ⟨by rw [c17]; exact t17, by rw [c17]; omega⟩, hb _ _ (by decide) a10, hb _ _ (by decide) a11, hb _ _ (by decide) a12⟩
  have hUU : I_U x t' := by
    obtain ⟨u1, u2, u3, u4⟩ := h.iU
    have er : remC t' = remC t := by
      funext i
      unfold remC capD srt
      rw [ht 65 (by decide), ht 31 (by decide), ht 73 (by decide), ht 51 (by decide), ht 62 (by decide), ht 48 (by decide), ht 49 (by decide), ht 63 (by decide)]
    have eu : undW t' x = undW t x := by
      funext i
      unfold undW
      rw [ht 69 (by decide)]
    unfold I_U
    rw [hcn 61 (by decide), er, hcn 50 (by decide), eu, hcn 23 (by decide), c17, hcn 82 (by decide)]
    exact ⟨u1, u2, by omega, u4⟩
  have n4 := hf 4 (by decide)
  have hR : S_R N' t' := by
    intro q hq i hi
    have hq3 := (by decide : ∀ q ∈ TR, q.1 ∉ [3, 23, 30] ∧ q.2.2.2.1 ∉ EC ∧ q.2.2.2.2 ∉ EC) q hq
    rw [hcn _ hq3.2.2] at hi
    rw [(hf q.1 hq3.1).2.1, ht _ hq3.2.1]
    exact h.R q hq i hi
  have hN : S_N N' t' := by
    intro q hq i hi
    have hq3 := (by decide : ∀ q ∈ TN, q.1 ∉ [3, 23, 30] ∧ q.2 ∉ EC) q hq
    rw [hcn _ hq3.2] at hi
    rw [(hf q.1 hq3.1).1]
    exact h.N q hq i hi
  exact ⟨hI, hR, hN, hK, hSS, hE, h.W.fr hf (by decide) ht (by decide), h.P1.fl ⟨n4.1, n4.2.2⟩ (hl 3 (by decide)) ht (by decide), h.P2.fl ⟨n4.1, n4.2.2⟩ (hl 4 (by decide)) ht (by decide), h.G.fl hf (by decide) (hl 5 (by decide)) ht (by decide), h.G0.fr hf (by decide) ht (by decide), h.G1.fr hf (by decide) ht (by decide), h.G2.fr hf (by decide) ht (by decide), h.G7.fr hf (by decide) ht (by decide), h.T.fr hf (by decide) ht (by decide), h.U.fl (hl 6 (by decide)) ht (by decide), h.C.fr hf (by decide) ht (by decide), h.V.fr hf (by decide) ht (by decide), h.O.fr hf (by decide) ht (by decide), h.A.fl hf (by decide) (hl 13 (by decide)) ht (by decide), h.Y.fr hf (by decide) ht (by decide), h.Q.fr hf (by decide) ht (by decide), h.B.fr ht (by decide), h.F.fr hf (by decide), hM, hB, h.iG.fr ht (by decide), h.iT.fr ht (by decide), h.iO.fr ht (by decide), h.iC.fr ht (by decide), h.iH.fr ht (by decide), h.iZ.fr ht (by decide), h.iL.fr ht (by decide), h.iR.fr ht (by decide), h.iX.fr ht (by decide), hUU, h.iD.fr ht (by decide), h.iK.fr ht (by decide), h.iY.fr ht (by decide), h.J.fr ht (by decide), h.GT.fr hf (by decide) ht (by decide), h.H.fr hf (by decide) ht (by decide)⟩
