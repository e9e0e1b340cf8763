set_option maxRecDepth 100000
/-! a new order -/
def mx : Nat → Bool → Bool → Bool → Nat
  | 0, _, _, _ => 1
  | n + 1, a, b, c => max (1 + mx n a b c) (max (if a then 1 + 6 * mx n false b c else 0) (max (if b then 1 + 2 * mx n a false c else 0) (if c then 2 + mx n a b false else 0)))
theorem mx_1 : ∀ n a b c, 1 ≤ mx n a b c
  | 0, _, _, _ => Nat.le_refl _
  | n + 1, a, b, c => by
    have := mx_1 n a b c
    unfold mx
    have : 1 + mx n a b c ≤ max (1 + mx n a b c) (max (if a then 1 + 6 * mx n false b c else 0) (max (if b then 1 + 2 * mx n a false c else 0) (if c then 2 + mx n a b false else 0))) := Nat.le_max_left _ _
    omega
theorem capL_mx : ∀ (l : List Nat) (n : Nat) (a b c : Bool), l.length ≤ n → l.Nodup → (4 ∈ l → a = true) → (5 ∈ l → b = true) → (6 ∈ l → c = true) → capL l ≤ mx n a b c
  | [], n, a, b, c, _, _, _, _, _ => mx_1 n a b c
  | s :: l, 0, a, b, c, h, _, _, _, _ => absurd h (by simp)
  | s :: l, n + 1, a, b, c, h, hd, h4, h5, h6 => by
    have hl : l.length ≤ n := by simpa using h
    obtain ⟨d1, d2⟩ := List.nodup_cons.mp hd
    have t4 : 4 ∈ l → a = true := fun y => h4 (List.mem_cons_of_mem _ y)
    have t5 : 5 ∈ l → b = true := fun y => h5 (List.mem_cons_of_mem _ y)
    have t6 : 6 ∈ l → c = true := fun y => h6 (List.mem_cons_of_mem _ y)
    unfold mx
    show 1 + (if s = 4 then 6 * capL l else if s = 5 then 2 * capL l else if s = 6 then capL l + 1 else capL l) ≤ _
    by_cases e4 : s = 4
    · have ha := h4 (by rw [e4]; exact List.mem_cons_self ..)
      have ih := capL_mx l n false b c hl d2 (fun y => absurd (e4 ▸ y) d1) t5 t6
      rw [if_pos e4, if_pos ha]
      refine Nat.le_trans ?_ (Nat.le_trans (Nat.le_max_left _ _) (Nat.le_max_right _ _))
      omega
    · rw [if_neg e4]
      by_cases e5 : s = 5
      · have hb := h5 (by rw [e5]; exact List.mem_cons_self ..)
        have ih := capL_mx l n a false c hl d2 t4 (fun y => absurd (e5 ▸ y) d1) t6
        rw [if_pos e5, if_pos hb]
        refine Nat.le_trans ?_ (Nat.le_trans (Nat.le_max_left _ _) (Nat.le_trans (Nat.le_max_right _ _) (Nat.le_max_right _ _)))
        omega
      · rw [if_neg e5]
        by_cases e6 : s = 6
        · have hc := h6 (by rw [e6]; exact List.mem_cons_self ..)
          have ih := capL_mx l n a b false hl d2 t4 t5 (fun y => absurd (e6 ▸ y) d1)
          rw [if_pos e6, if_pos hc]
          refine Nat.le_trans ?_ (Nat.le_trans (Nat.le_max_right _ _) (Nat.le_trans (Nat.le_max_right _ _) (Nat.le_max_right _ _)))
          omega
        · rw [if_neg e6]
          have ih := capL_mx l n a b c hl d2 t4 t5 t6
          exact Nat.le_trans (by omega) (Nat.le_max_left _ _)
theorem cap_67 {X : Mem} {m z : Nat} {P : List Nat} {x : Nat} {N : Mem} {t : DB} (h : SZ X m z P x N t) {T hT : Nat} (hT1 : T < cn t 47) (hT2 : t 48 T = nI hT) (hT3 : hT ≤ 5) : capL (srt t T hT) ≤ 67 := by
  have h24 : cn t 30 ≤ 24 := h.iB.2.2.2.1.2
  obtain ⟨h', i1, i2, i3, i4⟩ := h.iT T (Or.inl hT1)
  have : h' = hT := (nI_eq (by omega) (by omega)).mp (i2.symm.trans hT2)
  subst this
  have nd : (srt t T h').Nodup := by
    unfold srt
    rw [List.nodup_iff_pairwise_ne, List.pairwise_map]
    have key : ∀ d e, d < h' → e < h' → d ≠ e → (t 31 (t 49 (5 * T + d)).toNatClampNeg).toNatClampNeg ≠ (t 31 (t 49 (5 * T + e)).toNatClampNeg).toNatClampNeg := fun d e hd he hne => by
      obtain ⟨g, hg, eg⟩ := i3 d hd
      obtain ⟨f, hf, ef⟩ := i3 e he
      obtain ⟨s, hs, es, -⟩ := h.iG g hg
      obtain ⟨r, hr, er, -⟩ := h.iG f hf
      rw [eg, ef, nI_clamp (by omega), nI_clamp (by omega), es, er, nI_clamp (by omega), nI_clamp (by omega)]
      intro y
      exact i4 d e g f hd he hne hg hf eg ef (by rw [es, er, y])
    refine List.Pairwise.imp_of_mem ?_ (List.nodup_iff_pairwise_ne.mp List.nodup_range)
    intro d e hd he hne
    exact key d e (List.mem_range.mp hd) (List.mem_range.mp he) hne
  refine Nat.le_trans (capL_mx (srt t T h') 5 true true true (by unfold srt; simp; omega) nd (fun _ => rfl) (fun _ => rfl) (fun _ => rfl)) ?_
  decide
def oV (x1 x2 x3 x4 x5 tm : Int32) (f : Nat) : Int32 := if f = 51 then x1 else if f = 52 then x2 else if f = 53 then x3 else if f = 54 then x4 else if f = 55 then x5 else if f = 56 then tm else if f = 58 then 0 else -1
def tO (t : DB) (o : Nat) (x1 x2 x3 x4 x5 : Int32) : DB := up (blk t o (oV x1 x2 x3 x4 x5 (t 0 0)) 51 60) 50 0 (nI (o + 1))
theorem tO_f {t : DB} {o : Nat} {x1 x2 x3 x4 x5 : Int32} {f i : Nat} (h1 : 51 ≤ f) (h2 : f ≤ 59) : tO t o x1 x2 x3 x4 x5 f i = if i = o then oV x1 x2 x3 x4 x5 (t 0 0) f else t f i := by
  unfold tO blk
  rw [up_f (by omega)]
  by_cases e : i = o
  · rw [if_pos (by omega), if_pos e]
  · rw [if_neg (by omega), if_neg e]
abbrev OC : List Nat := [50, 51, 52, 53, 54, 55, 56, 57, 58, 59]
theorem tO_TF {t : DB} {o : Nat} {x1 x2 x3 x4 x5 : Int32} : TF t (tO t o x1 x2 x3 x4 x5) OC := fun f hf => by
  funext i
  have : f < 50 ∨ 59 < f := by simp at hf; omega
  unfold tO blk
  rw [up_f (by omega), if_neg (by omega)]
def nO (N : Mem) (o : Nat) (r : Nat × Nat) (x2 x3 x4 x5 tm : Int32) : Mem := lAdd (sI (sI (sI (sI (sI (sR (sI (sI (sN N 20 o 0 10) 20 o 9 (-1)) 20 o 0 (nI o)) 20 o 6 r) 20 o 1 x2) 20 o 2 x3) 20 o 3 x4) 20 o 4 x5) 20 o 5 tm) (30, 8) (20, o)
def oW (o : Nat) (x2 x3 x4 x5 tm : Int32) (f : Nat) : Int32 := if f = 5 then tm else if f = 4 then x5 else if f = 3 then x4 else if f = 2 then x3 else if f = 1 then x2 else if f = 0 then nI o else if f = 9 then -1 else 0
theorem nO_i {N : Mem} {o : Nat} {r : Nat × Nat} {x2 x3 x4 x5 tm : Int32} (i f : Nat) : (nO N o r x2 x3 x4 x5 tm).1 20 i f = if i = o then oW o x2 x3 x4 x5 tm f else N.1 20 i f := by
  unfold nO oW
  rw [lAdd_i, if_neg (by simp)]
  by_cases e : i = o
  · subst e
    rw [if_pos rfl]
    show (if 20 = 20 ∧ i = i ∧ f = 5 then _ else if 20 = 20 ∧ i = i ∧ f = 4 then _ else if 20 = 20 ∧ i = i ∧ f = 3 then _ else if 20 = 20 ∧ i = i ∧ f = 2 then _ else if 20 = 20 ∧ i = i ∧ f = 1 then _ else if 20 = 20 ∧ i = i ∧ f = 0 then _ else if 20 = 20 ∧ i = i ∧ f = 9 then _ else if 20 = 20 ∧ i = i then _ else _) = _
    simp
  · rw [if_neg e, sI_ne (by simp [e]), sI_ne (by simp [e]), sI_ne (by simp [e]), sI_ne (by simp [e]), sI_ne (by simp [e])]
    show (sI (sI (sN N 20 o 0 10) 20 o 9 (-1)) 20 o 0 (nI o)).1 20 i f = _
    rw [sI_ne (by simp [e]), sI_ne (by simp [e])]
    exact if_neg (fun y => e y.2)
theorem nO_r {N : Mem} {o : Nat} {r : Nat × Nat} {x2 x3 x4 x5 tm : Int32} (i f : Nat) : (nO N o r x2 x3 x4 x5 tm).2.1 20 i f = if i = o then (if f = 6 then r else (0, 0)) else N.2.1 20 i f := by
  unfold nO
  rw [lAdd_r, if_neg (by simp)]
  show (if 20 = 20 ∧ i = o ∧ f = 6 then r else if 20 = 20 ∧ i = o then ((0, 0) : Nat × Nat) else N.2.1 20 i f) = _
  by_cases e : i = o
  · subst e
    rw [if_pos rfl]
    by_cases ef : f = 6
    · rw [if_pos ⟨rfl, rfl, ef⟩, if_pos ef]
    · rw [if_neg (fun y => ef y.2.2), if_pos ⟨rfl, rfl⟩, if_neg ef]
  · rw [if_neg (fun y => e y.2.1), if_neg (fun y => e y.2), if_neg e]
theorem nO_30 {N : Mem} {o : Nat} {r : Nat × Nat} {x2 x3 x4 x5 tm : Int32} (h8 : N.1 30 8 0 = nI o) (ho : o < 2 ^ 31) (i : Nat) : ((nO N o r x2 x3 x4 x5 tm).1 30 i 0 = if i = 8 then nI (o + 1) else N.1 30 i 0) ∧ ∀ j, (nO N o r x2 x3 x4 x5 tm).2.1 30 i j = if i = 8 ∧ j = o then (20, o) else N.2.1 30 i j := by
  unfold nO
  have z : ∀ i f, (sI (sI (sI (sI (sI (sR (sI (sI (sN N 20 o 0 10) 20 o 9 (-1)) 20 o 0 (nI o)) 20 o 6 r) 20 o 1 x2) 20 o 2 x3) 20 o 3 x4) 20 o 4 x5) 20 o 5 tm).1 30 i f = N.1 30 i f := fun i f => by
    rw [sI_ne (by simp), sI_ne (by simp), sI_ne (by simp), sI_ne (by simp), sI_ne (by simp)]
    show (sI (sI (sN N 20 o 0 10) 20 o 9 (-1)) 20 o 0 (nI o)).1 30 i f = _
    rw [sI_ne (by simp), sI_ne (by simp)]
    show (if 30 = 20 ∧ i = o then (0 : Int32) else N.1 30 i f) = _
    rw [if_neg (fun y => absurd y.1 (by decide))]
  have zr : ∀ i f, (sI (sI (sI (sI (sI (sR (sI (sI (sN N 20 o 0 10) 20 o 9 (-1)) 20 o 0 (nI o)) 20 o 6 r) 20 o 1 x2) 20 o 2 x3) 20 o 3 x4) 20 o 4 x5) 20 o 5 tm).2.1 30 i f = N.2.1 30 i f := fun i f => by
    show (if 30 = 20 ∧ i = o ∧ f = 6 then r else if 30 = 20 ∧ i = o then ((0, 0) : Nat × Nat) else N.2.1 30 i f) = _
    rw [if_neg (fun y => absurd y.1 (by decide)), if_neg (fun y => absurd y.1 (by decide))]
  refine ⟨?_, fun j => ?_⟩
  · rw [lAdd_i, z, z, h8, nI_1]
    by_cases e : i = 8
    · rw [if_pos ⟨rfl, e, rfl⟩, if_pos e]
    · rw [if_neg (fun y => e y.2.1), if_neg e]
  · rw [lAdd_r, z, zr, h8, nI_clamp ho]
    by_cases e : i = 8 ∧ j = o
    · rw [if_pos ⟨rfl, e.1, e.2⟩, if_pos e]
    · rw [if_neg (fun y => e ⟨y.2.1, y.2.2⟩), if_neg e]
theorem nO_NF {N : Mem} {o : Nat} {r : Nat × Nat} {x2 x3 x4 x5 tm : Int32} : NF N (nO N o r x2 x3 x4 x5 tm) [20, 30] :=
  (((((((((NF.rf.wN _ _ _ (by decide)).wI _ _ _ (by decide)).wI _ _ _ (by decide)).wR _ _ _ (by decide)).wI _ _ _ (by decide)).wI _ _ _ (by decide)).wI _ _ _ (by decide)).wI _ _ _ (by decide)).wI _ _ _ (by decide)).wA _ _ (by decide)
theorem nO_x {N : Mem} {o : Nat} {r : Nat × Nat} {x2 x3 x4 x5 tm : Int32} : (∀ i, i ≠ o → (nO N o r x2 x3 x4 x5 tm).2.2.1 20 i = N.2.2.1 20 i) ∧ (nO N o r x2 x3 x4 x5 tm).2.2.1 30 = N.2.2.1 30 ∧ (nO N o r x2 x3 x4 x5 tm).2.2.2 = (N.2.2.2.1 + 2, N.2.2.2.2 + 20) := by
  refine ⟨fun i hi => ?_, ?_, rfl⟩
  · show (if 20 = 20 ∧ i = o then 0 + 1 else N.2.2.1 20 i) = _
    rw [if_neg (fun y => hi y.2)]
  · funext i
    show (if 30 = 20 ∧ i = o then 0 + 1 else N.2.2.1 30 i) = _
    rw [if_neg (fun y => absurd y.1 (by decide))]
theorem SZ.newO {X : Mem} {m z : Nat} {N : Mem} {t : DB} {T s a v : Nat} {P : List Nat} {o : Nat} {x5 : Int32} (h : SZ X m z P 100000 N t) (hz : 60 ≤ z) (hod : cn t 50 = o) (ho : o < 60) (hT : T < cn t 47) (hs : s < cn t 1) (ha : a ≤ 2) (hv : v ≤ 1000000) (h5 : ¬ x5 < 0) : SZ X m o P 100000 (nO N o (42, T) (nI s) (nI a) (nI v) x5 (t 0 0)) (tO t o (nI T) (nI s) (nI a) (nI v) x5) := by
  have ht := tO_TF (t := t) (o := o) (x1 := nI T) (x2 := nI s) (x3 := nI a) (x4 := nI v) (x5 := x5)
  have tv := fun f i => tO_f (t := t) (o := o) (x1 := nI T) (x2 := nI s) (x3 := nI a) (x4 := nI v) (x5 := x5) (f := f) (i := i)
  have t50 : tO t o (nI T) (nI s) (nI a) (nI v) x5 50 0 = nI (o + 1) := up_s
  have b50 : t 50 0 = nI o := by rw [← hod]; exact h.iB.2.2.2.2.2.1.1
  have h8 : N.1 30 8 0 = nI o := (h.S (8, 50, 0) (by decide)).trans b50
  have ni := nO_i (N := N) (o := o) (r := (42, T)) (x2 := nI s) (x3 := nI a) (x4 := nI v) (x5 := x5) (tm := t 0 0)
  have nr := nO_r (N := N) (o := o) (r := (42, T)) (x2 := nI s) (x3 := nI a) (x4 := nI v) (x5 := x5) (tm := t 0 0)
  have n30 := nO_30 (N := N) (o := o) (r := (42, T)) (x2 := nI s) (x3 := nI a) (x4 := nI v) (x5 := x5) (tm := t 0 0) h8 (by omega)
  have hf := nO_NF (N := N) (o := o) (r := (42, T)) (x2 := nI s) (x3 := nI a) (x4 := nI v) (x5 := x5) (tm := t 0 0)
  obtain ⟨nx, nx30, nx2⟩ := nO_x (N := N) (o := o) (r := (42, T)) (x2 := nI s) (x3 := nI a) (x4 := nI v) (x5 := x5) (tm := t 0 0)
  generalize nO N o (42, T) (nI s) (nI a) (nI v) x5 (t 0 0) = N' at *
  generalize tO t o (nI T) (nI s) (nI a) (nI v) x5 = t' at *
  have h47 : cn t 47 ≤ 10 := h.iB.2.2.2.2.1.2
  have c50 : cn t' 50 = o + 1 := by unfold cn; rw [t50, nI_clamp (by omega)]
  have hcn : ∀ q, q ∉ OC → cn t' q = cn t q := fun q hq => ht.cn hq
  have hl : ∀ l, l ≠ 8 → N'.2.1 30 l = N.2.1 30 l := fun l hl => funext fun j => by rw [(n30 l).2, if_neg (fun e => hl e.1)]
  have hI : S_I N' t' := by
    intro q hq i hi
    by_cases e : q.1 = 20
    · have hq2 := (by decide : ∀ q ∈ TI, q.1 = 20 → q.2.2.2 = 50 ∧ 51 ≤ q.2.2.1 ∧ q.2.2.1 ≤ 59) q hq e
      obtain ⟨z1, z2, z3⟩ := hq2
      rw [z1, c50] at hi
      rw [e, ni, tv _ _ z2 z3]
      by_cases ei : i = o
      · rw [if_pos ei, if_pos ei]
        have : q = (20, 1, 52, 50) ∨ q = (20, 2, 53, 50) ∨ q = (20, 3, 54, 50) ∨ q = (20, 4, 55, 50) ∨ q = (20, 5, 56, 50) ∨ q = (20, 9, 57, 50) := (by decide : ∀ q ∈ TI, q.1 = 20 → q = (20, 1, 52, 50) ∨ q = (20, 2, 53, 50) ∨ q = (20, 3, 54, 50) ∨ q = (20, 4, 55, 50) ∨ q = (20, 5, 56, 50) ∨ q = (20, 9, 57, 50)) q hq e
        rcases this with y | y | y | y | y | y <;> rw [y] <;> rfl
      · rw [if_neg ei, if_neg ei]
        have := h.I q hq i (by rw [z1, hod]; omega)
        rw [e] at this
        exact this
    · have hq3 := (by decide : ∀ q ∈ TI, q.1 ≠ 20 → q.1 ∉ [20, 30] ∧ q.2.2.1 ∉ OC ∧ q.2.2.2 ∉ OC) q hq e
      rw [hcn _ hq3.2.2] at hi
      rw [(hf q.1 hq3.1).1, ht _ hq3.2.1]
      exact h.I q hq i hi
  have hR : S_R N' t' := by
    intro q hq i hi
    by_cases e : q.1 = 20
    · have : q = (20, 6, 42, 51, 50) := (by decide : ∀ q ∈ TR, q.1 = 20 → q = (20, 6, 42, 51, 50)) q hq e
      subst this
      have hi' : i < cn t' 50 := hi
      rw [c50] at hi'
      show N'.2.1 20 i 6 = rn 42 (t' 51 i)
      rw [nr, tv 51 i (by decide) (by decide)]
      by_cases ei : i = o
      · rw [if_pos ei, if_pos ei, if_pos rfl]
        show (42, T) = rn 42 (nI T)
        rw [rn_j (by omega)]
      · rw [if_neg ei, if_neg ei]
        exact h.R (20, 6, 42, 51, 50) hq i (by show i < cn t 50; omega)
    · have hq3 := (by decide : ∀ q ∈ TR, q.1 ≠ 20 → q.1 ∉ [20, 30] ∧ q.2.2.2.1 ∉ OC ∧ q.2.2.2.2 ∉ OC) q hq e
      rw [hcn _ hq3.2.2] at hi
      rw [(hf q.1 hq3.1).2.1, ht _ hq3.2.1]
      exact h.R q hq i hi
  have hN : S_N N' t' := by
    intro q hq i hi
    by_cases e : q.1 = 20
    · have : q = (20, 50) := (by decide : ∀ q ∈ TN, q.1 = 20 → q = (20, 50)) q hq e
      subst this
      have hi' : i < cn t' 50 := hi
      rw [c50] at hi'
      show N'.1 20 i 0 = nI i
      rw [ni]
      by_cases ei : i = o
      · rw [if_pos ei, ei]; rfl
      · rw [if_neg ei]; exact h.N (20, 50) hq i (by show i < cn t 50; omega)
    · have hq3 := (by decide : ∀ q ∈ TN, q.1 ≠ 20 → q.1 ∉ [20, 30] ∧ q.2 ∉ OC) q hq e
      rw [hcn _ hq3.2] at hi
      rw [(hf q.1 hq3.1).1]
      exact h.N q hq i hi
  have hK : S_K N' t' := by
    intro q hq i hi
    by_cases e : q.1 = 8
    · have : q = (8, 20, 50) := (by decide : ∀ q ∈ TK, q.1 = 8 → q = (8, 20, 50)) q hq e
      subst this
      have hi' : i < cn t' 50 := hi
      rw [c50] at hi'
      show N'.2.1 30 8 i = (20, i)
      rw [(n30 8).2]
      by_cases ei : i = o
      · rw [if_pos ⟨rfl, ei⟩, ei]
      · rw [if_neg (fun y => ei y.2)]; exact h.K (8, 20, 50) hq i (by show i < cn t 50; omega)
    · have hq3 := (by decide : ∀ q ∈ TK, q.1 ≠ 8 → q.2.2 ∉ OC) q hq e
      rw [hcn _ hq3] at hi
      rw [hl _ e]
      exact h.K q hq i hi
  have hSS : S_S N' t' := by
    intro q hq
    rw [(n30 q.1).1]
    by_cases e : q.1 = 8
    · have : q = (8, 50, 0) := (by decide : ∀ q ∈ TS, q.1 = 8 → q = (8, 50, 0)) q hq e
      subst this
      rw [if_pos rfl]
      exact t50.symm
    · have hq3 := (by decide : ∀ q ∈ TS, q.1 ≠ 8 → q.2.1 ∉ OC) q hq e
      rw [if_neg e, ht _ hq3]
      exact h.S q hq
  have hE : S_E N' t' := by
    intro q hq i hi
    by_cases e : q.1 = 20
    · have : q = (20, 50) := (by decide : ∀ q ∈ TE, q.1 = 20 → q = (20, 50)) q hq e
      subst this
      have hi' : cn t' 50 ≤ i := hi
      rw [c50] at hi'
      show N'.2.2.1 20 i = 0
      rw [nx i (by omega)]
      exact h.E (20, 50) hq i (by show cn t 50 ≤ i; omega)
    · have hq3 := (by decide : ∀ q ∈ TE, q.1 ≠ 20 → q.1 ∉ [20, 30] ∧ q.2 ∉ OC) q hq e
      rw [hcn _ hq3.2] at hi
      rw [(hf q.1 hq3.1).2.2]
      exact h.E q hq i hi
  have old : ∀ c, c < cn t 61 → t 62 c ≠ nI o := fun c hc y => by
    obtain ⟨o', T', h', d', y1, y2, -⟩ := h.iC c hc
    have : o = o' := (nI_eq (by omega) (by omega)).mp (y.symm.trans y2)
    omega
  have hO : S_O o N' t' := by
    intro o' ho' hne
    rw [c50] at ho'
    obtain ⟨a1, k, a2, a3, a4, a5, a6⟩ := h.O o' (by omega) (by omega)
    rw [ni, if_neg hne, nr, if_neg hne, hcn 61 (by decide), tv 58 o' (by decide) (by decide), if_neg hne, tv 59 o' (by decide) (by decide), if_neg hne, ht 62 (by decide), ht 64 (by decide), ht 69 (by decide), ht 70 (by decide), ht 71 (by decide)]
    exact ⟨a1, k, a2, a3, a4, a5, a6⟩
  have hM : S_M m N' t' := by
    obtain ⟨v1, v2⟩ := h.M
    unfold S_M
    rw [nx2, c50, hcn 61 (by decide), hcn 23 (by decide), hcn 17 (by decide), hcn 82 (by decide)]
    rw [hod] at v1
    dsimp only
    omega
  have hB : I_B t' := by
    obtain ⟨a1, a2, a3, a4, a5, a6, a7, a8, a9, a10, a11, a12⟩ := h.iB
    have hb : ∀ q mx, q ∉ OC → bnd t q mx → bnd t' q mx := by
      intro q mx hq hb
      unfold bnd at hb ⊢
      rw [hcn q hq, ht q hq]; exact hb
    refine ⟨hb _ _ (by decide) a1, hb _ _ (by decide) a2, hb _ _ (by decide) a3, hb _ _ (by decide) a4, hb _ _ (by decide) a5, ⟨by rw [c50]; exact t50, by rw [c50]; omega⟩, hb _ _ (by decide) a7, hb _ _ (by decide) a8, hb _ _ (by decide) a9, hb _ _ (by decide) a10, hb _ _ (by decide) a11, hb _ _ (by decide) a12⟩
  have hIO : I_O t' := by
    intro o' ho'
    rw [c50] at ho'
    rw [hcn 47 (by decide), hcn 1 (by decide), tv 51 o' (by decide) (by decide), tv 52 o' (by decide) (by decide), tv 53 o' (by decide) (by decide), tv 54 o' (by decide) (by decide), tv 55 o' (by decide) (by decide)]
    by_cases e : o' = o
    · rw [if_pos e, if_pos e, if_pos e, if_pos e, if_pos e]
      exact ⟨⟨T, hT, rfl⟩, ⟨s, hs, rfl⟩, ⟨a, ha, rfl⟩, ⟨v, hv, rfl⟩, h5⟩
    · rw [if_neg e, if_neg e, if_neg e, if_neg e, if_neg e]
      exact h.iO o' (by omega)
  have hIC : I_C t' := by
    intro c hc
    rw [hcn 61 (by decide)] at hc
    obtain ⟨o', T', h', d', y1, y2, y3, y4, y5, y6, y7, y8, y9, y10⟩ := h.iC c hc
    have hne : o' ≠ o := by omega
    rw [hcn 47 (by decide), hcn 1 (by decide), ht 62 (by decide), ht 48 (by decide), ht 63 (by decide), ht 64 (by decide), ht 65 (by decide), ht 49 (by decide), ht 66 (by decide)]
    exact ⟨o', T', h', d', by omega, y2, by rw [tv 51 o' (by decide) (by decide), if_neg hne]; exact y3, y4, y5, y6, y7, y8, y9, y10⟩
  have lk : ∀ c, c < cn t 61 → ∀ o', o' < o + 1 → t 62 c = nI o' → o' < cn t 50 ∧ t' 52 o' = t 52 o' ∧ t' 53 o' = t 53 o' ∧ t' 54 o' = t 54 o' := fun c hc o' ho' e => by
    have hne : o' ≠ o := fun y => old c hc (by rw [← y]; exact e)
    exact ⟨by omega, by rw [tv 52 o' (by decide) (by decide), if_neg hne], by rw [tv 53 o' (by decide) (by decide), if_neg hne], by rw [tv 54 o' (by decide) (by decide), if_neg hne]⟩
  have hZ : I_Z t' := by
    intro c hc
    rw [hcn 61 (by decide)] at hc
    obtain ⟨a1, a2⟩ := h.iZ c hc
    rw [hcn 30 (by decide), c50, ht 65 (by decide), ht 31 (by decide), ht 79 (by decide), ht 75 (by decide), ht 77 (by decide), ht 76 (by decide), ht 78 (by decide), ht 74 (by decide), ht 73 (by decide), ht 62 (by decide)]
    refine ⟨fun g' hg' e => ?_, a2⟩
    obtain ⟨b1, b2, b3, b4, b5⟩ := a1 g' hg' e
    refine ⟨b1, b2, b3, b4, fun y => ?_⟩
    rcases b5 y with w | ⟨w1, w2, l, w3, w4, w5, w6, w7⟩
    · exact Or.inl w
    · refine Or.inr ⟨w1, w2, l, w3, w4, w5, w6, fun o1 o2 ho1 ho2 e1 e2 => ?_⟩
      obtain ⟨c1, c2, c3, c4⟩ := lk c hc o1 ho1 e1
      obtain ⟨d1, d2, d3, d4⟩ := lk l (by omega) o2 ho2 e2
      rw [c2, c3, c4, d2, d3, d4]
      exact w7 o1 o2 c1 d1 e1 e2
  have hL : I_L t' := by
    intro k l hk hl' u1 u2 u3 u4 u5 u6
    rw [hcn 61 (by decide)] at hk hl'
    rw [ht 69 (by decide)] at u1 u2
    rw [ht 78 (by decide)] at u3 u4
    rw [ht 65 (by decide)] at u5
    refine h.iL k l hk hl' u1 u2 u3 u4 u5 (fun o1 o2 ho1 ho2 e1 e2 => ?_)
    have := u6 o1 o2 (by omega) (by omega) (by rw [ht 62 (by decide)]; exact e1) (by rw [ht 62 (by decide)]; exact e2)
    obtain ⟨c1, c2, c3, c4⟩ := lk k hk o1 (by omega) e1
    obtain ⟨d1, d2, d3, d4⟩ := lk l hl' o2 (by omega) e2
    rw [c2, c3, c4, d2, d3, d4] at this
    exact this
  have hU : I_U 100000 t' := by
    obtain ⟨u1, u2⟩ := h.iU
    have er : ∀ c, c < cn t 61 → remC t' c = remC t c := fun c hc => by
      obtain ⟨o', T', h', d', y1, y2, y3, -⟩ := h.iC c hc
      have hne : o' ≠ o := by omega
      unfold remC capD srt
      rw [ht 65 (by decide), ht 31 (by decide), ht 73 (by decide), ht 62 (by decide), ht 48 (by decide), ht 49 (by decide), ht 63 (by decide), y2, nI_clamp (by omega), tv 51 o' (by decide) (by decide), if_neg hne]
    have eu : undW t' 100000 = undW t 100000 := by
      funext i
      unfold undW
      rw [ht 69 (by decide)]
    unfold I_U
    rw [hcn 61 (by decide), sumTo_congr er, c50, eu, hcn 23 (by decide), hcn 17 (by decide), hcn 82 (by decide)]
    rw [hod] at u1
    exact ⟨by omega, u2⟩
  have n4 := hf 4 (by decide)
  exact ⟨hI, hR, hN, hK, hSS, hE, h.W.fr hf (by decide) ht (by decide), h.P1.fl ⟨n4.1, n4.2.2⟩ (hl 3 (by decide)) ht (by decide), h.P2.fl ⟨n4.1, n4.2.2⟩ (hl 4 (by decide)) ht (by decide), h.G.fl hf (by decide) (hl 5 (by decide)) ht (by decide), h.G0.fr hf (by decide) ht (by decide), h.G1.fr hf (by decide) ht (by decide), h.G2.fr hf (by decide) ht (by decide), h.G7.fr hf (by decide) ht (by decide), h.T.fr hf (by decide) ht (by decide), h.U.fl (hl 6 (by decide)) ht (by decide), h.C.fr hf (by decide) ht (by decide), h.V.fr hf (by decide) ht (by decide), hO, h.A.fl hf (by decide) (hl 13 (by decide)) ht (by decide), h.Y.fr hf (by decide) ht (by decide), h.Q.fr hf (by decide) ht (by decide), h.B.fr ht (by decide), h.F.fr hf (by decide), hM, hB, h.iG.fr ht (by decide), h.iT.fr ht (by decide), hIO, hIC, h.iH.fr ht (by decide), hZ, hL, h.iR.fr ht (by decide), h.iX.fr ht (by decide), hU, h.iD.fr ht (by decide), h.iK.fr ht (by decide), h.iY.fr ht (by decide), h.J.fr ht (by decide), h.GT.fr hf (by decide) ht (by decide), h.H.fr hf (by decide) ht (by decide)⟩
