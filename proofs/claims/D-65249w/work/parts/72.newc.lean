set_option maxRecDepth 100000
/-! a new call -/
abbrev CC : List Nat := [61, 62, 63, 64, 65, 66, 67, 68, 69, 70, 71, 72, 73, 74, 75, 76, 77, 78, 79]
def nV (o d : Nat) (pv gv sv tm jv lv : Int32) (f : Nat) : Int32 := if f = 62 then nI o else if f = 63 then nI d else if f = 64 then pv else if f = 65 then gv else if f = 66 then sv else if f = 67 then tm else if f = 74 then jv else if f = 78 then lv else if f = 68 ∨ f = 70 ∨ f = 72 then -1 else 0
def nW (c d : Nat) (sv tm : Int32) (f : Nat) : Int32 := if f = 0 then nI c else if f = 1 then nI d else if f = 2 then sv else if f = 3 then tm else if f = 12 ∨ f = 13 ∨ f = 15 then -1 else 0
def nR (c o : Nat) (pr gr jr : Nat × Nat) (f : Nat) : Nat × Nat := if f = 8 then jr else if f = 4 then (20, o) else if f = 5 then pr else if f = 6 then gr else if f = 7 then (31, c) else (0, 0)
/-- how the table is with the new call in it -/
def NCt (t t' : DB) (c o d : Nat) (pb : Bool) (p : Nat) (gv sv jv lv : Int32) : Prop := TF t t' CC ∧ t' 61 = up t 61 0 (nI (c + 1)) 61 ∧ ∀ f, 62 ≤ f → f ≤ 79 → ∀ i, t' f i = if i = c then nV o d (if pb then nI p else -1) gv sv (t 0 0) jv lv f else if f = 73 ∧ pb = true ∧ i = p then t 73 p + 1 else t f i
/-- how the memory is with the new call in it -/
def NCn (N N' : Mem) (t : DB) (c o d : Nat) (pb : Bool) (p : Nat) (gv sv fb jv : Int32) : Prop := NF N N' [21, 30, 31] ∧
  (∀ i f, f ≠ 14 → N'.1 21 i f = if i = c then nW c d sv (t 0 0) f else if f = 10 ∧ pb = true ∧ i = p then fb else N.1 21 i f) ∧
  (∀ i, i ≠ c → N'.1 21 i 14 = N.1 21 i 14) ∧
  (∀ i f, N'.2.1 21 i f = if i = c then nR c o (if pb then (21, p) else (0, 0)) (gn t gv) (rn 21 jv) f else N.2.1 21 i f) ∧
  (∀ i, N'.1 31 i 0 = if i = c then 0 else if pb = true ∧ i = p then N.1 31 p 0 + 1 else N.1 31 i 0) ∧
  (∀ i j, i ≠ c → N'.2.1 31 i j = if pb = true ∧ i = p ∧ j = (N.1 31 p 0).toNatClampNeg then (21, c) else N.2.1 31 i j) ∧
  (∀ i, N'.1 30 i 0 = if i = 9 then nI (c + 1) else N.1 30 i 0) ∧ (∀ i j, N'.2.1 30 i j = if i = 9 ∧ j = c then (21, c) else N.2.1 30 i j) ∧
  (∀ i, i ≠ c → N'.2.2.1 21 i = N.2.2.1 21 i ∧ N'.2.2.1 31 i = N.2.2.1 31 i) ∧ N'.2.2.1 30 = N.2.2.1 30 ∧ N.2.2.2.1 ≤ N'.2.2.2.1 ∧ N'.2.2.2.1 ≤ N.2.2.2.1 + 4 ∧ N'.2.2.2.2 + 20 * N.2.2.2.1 ≤ N.2.2.2.2 + 20 * N'.2.2.2.1
/-- what must be so of the call it begins in, and of its place -/
def NCp (t : DB) (c o d : Nat) (pb : Bool) (p : Nat) (gv sv fb jv lv : Int32) : Prop := o < cn t 50 ∧ (∃ T h, t 51 o = nI T ∧ T < cn t 47 ∧ t 48 T = nI h ∧ h ≤ 5 ∧ d ≤ h ∧
    ((d = 0 ∧ pb = false) ∨ (∃ e, pb = true ∧ p < c ∧ t 62 p = nI o ∧ d = e + 1 ∧ t 63 p = nI e ∧ e < h ∧ t 65 p = t 49 (5 * T + e))) ∧
    ((gv = -1 ∧ ∃ s, s < cn t 1 ∧ sv = nI s) ∨ (d < h ∧ gv = t 49 (5 * T + d) ∧ sv = -1))) ∧
  (pb = false → ∀ l, l < c → t 64 l = -1 → t 62 l ≠ nI o) ∧
  (pb = true → t 75 p = 0 ∧ t 76 p = 0 ∧ ∀ g, g < cn t 30 → t 65 p = nI g → (t 31 g = 8 → t 78 p = 1) ∧ ∃ n, t 73 p = nI n ∧ n < 6 ∧ (t 31 g ≠ 4 → n < 2) ∧ (t 31 g ≠ 4 → t 31 g ≠ 5 → t 31 g ≠ 6 → n < 1) ∧ (t 31 g = 6 → fb = if n = 1 then 1 else 0)) ∧
  ((gv = -1 ∨ ∃ g, g < cn t 30 ∧ gv = nI g ∧ t 31 g ≠ 8) → jv = -1 ∧ lv = 0) ∧
  (∀ g, g < cn t 30 → gv = nI g → t 31 g = 8 → (lv = 1 ∧ jv = -1 ∧ ∀ k, k < c → t 69 k = 0 → t 78 k = 1 → t 65 k = gv → ∀ o', o' < cn t 50 → t 62 k = nI o' → ¬ (t 52 o' = t 52 o ∧ t 53 o' = t 53 o ∧ t 54 o' = t 54 o)) ∨
    (lv = 0 ∧ ∃ l, l < c ∧ jv = nI l ∧ t 65 l = gv ∧ t 78 l = 1 ∧ ∀ o', o' < cn t 50 → t 62 l = nI o' → t 52 o = t 52 o' ∧ t 53 o = t 53 o' ∧ t 54 o = t 54 o'))
theorem newC_A {X : Mem} {m z : Nat} {P : List Nat} {N N' : Mem} {t t' : DB} {c o d p : Nat} {pb : Bool} {gv sv fb jv lv : Int32} (h : SZ X m z P 100000 N t) (hcd : cn t 61 = c) (a : NCt t t' c o d pb p gv sv jv lv) (b : NCn N N' t c o d pb p gv sv fb jv) (w : NCp t c o d pb p gv sv fb jv lv) (hU : sumTo c (remC t') + remC t' c + c + 1 ≤ 67 * cn t 50) : S_I N' t' ∧ S_R N' t' ∧ S_N N' t' := by
  obtain ⟨ht, a61, av⟩ := a
  obtain ⟨hf, i21', i14, r21, i31, r31, i30, r30, x21, x30, rm1, rm2, rm3⟩ := b
  obtain ⟨wo, ⟨T, hh, wT1, wT2, wT3, wT4, wd, wpar, wg⟩, wroot, wp, wj1, wj2⟩ := w
  have i21 : ∀ i f, f ≠ 14 → N'.1 21 i f = if i = c then nW c d sv (t 0 0) f else if f = 10 ∧ pb = true ∧ i = p then fb else N.1 21 i f := i21'
  have h50 : cn t 50 ≤ 60 := h.iB.2.2.2.2.2.1.2
  have hc : c ≤ 4019 := by omega
  have hcl : (nI c).toNatClampNeg = c := nI_clamp (by omega)
  have hcl1 : (nI (c + 1)).toNatClampNeg = c + 1 := nI_clamp (by omega)
  have t61 : t' 61 0 = nI (c + 1) := by rw [a61]; exact up_s
  have c61 : cn t' 61 = c + 1 := by unfold cn; rw [t61, hcl1]
  have hcn : ∀ q, q ∉ CC → cn t' q = cn t q := fun q hq => ht.cn hq
  have hg24 : cn t 30 ≤ 24 := h.iB.2.2.2.1.2
  have e30 : cn t' 30 = cn t 30 := hcn 30 (by decide)
  have e31 := ht 31 (by decide)
  -- the table's values
  have vn : ∀ f, 62 ≤ f → f ≤ 79 → t' f c = nV o d (if pb then nI p else -1) gv sv (t 0 0) jv lv f := fun f h1 h2 => by rw [av f h1 h2, if_pos rfl]
  have vo : ∀ f, 62 ≤ f → f ≤ 79 → f ≠ 73 → ∀ i, i ≠ c → t' f i = t f i := fun f h1 h2 h3 i hi => by rw [av f h1 h2, if_neg hi, if_neg (fun e => h3 e.1)]
  have v73 : ∀ i, i ≠ c → t' 73 i = if pb = true ∧ i = p then t 73 p + 1 else t 73 i := fun i hi => by
    rw [av 73 (by decide) (by decide), if_neg hi]
    by_cases y : pb = true ∧ i = p
    · rw [if_pos y, if_pos ⟨rfl, y⟩]
    · rw [if_neg y, if_neg (fun e => y e.2)]
  have v73n : ∀ i, i ≠ c → ¬ (pb = true ∧ i = p) → t' 73 i = t 73 i := fun i hi hn => by rw [v73 i hi, if_neg hn]
  have hpc : pb = true → p < c := fun y => by
    rcases wpar with ⟨-, e⟩ | ⟨e, -, q, -⟩
    · rw [y] at e; exact absurd e (by decide)
    · exact q
  -- the parent's guard and count
  have hpg : pb = true → ∃ g n, g < cn t 30 ∧ t 65 p = nI g ∧ t 73 p = nI n ∧ n < 6 ∧ (t 31 g = 8 → t 78 p = 1) ∧ (t 31 g ≠ 4 → n < 2) ∧ (t 31 g ≠ 4 → t 31 g ≠ 5 → t 31 g ≠ 6 → n < 1) ∧ (t 31 g = 6 → fb = if n = 1 then 1 else 0) := fun y => by
    rcases wpar with ⟨-, e⟩ | ⟨e, -, q1, q2, q3, q4, q5, q6⟩
    · rw [y] at e; exact absurd e (by decide)
    · obtain ⟨h', i1, i2, i3, -⟩ := h.iT T (Or.inl wT2)
      have : h' = hh := (nI_eq (by omega) (by omega)).mp (i2.symm.trans wT3)
      subst this
      obtain ⟨g, hg, eg⟩ := i3 e q5
      have e65 := q6.trans eg
      obtain ⟨u1, n, u2, u3, u4, u5, u6⟩ := (wp y).2.2 g hg e65
      exact ⟨g, n, hg, e65, u2, u3, u1, u4, u5, u6⟩
  have p31 : pb = true → ∃ n, t 73 p = nI n ∧ n < 6 ∧ N.1 31 p 0 = nI n := fun y => by
    obtain ⟨g, n, -, -, q1, q2, -⟩ := hpg y
    exact ⟨n, q1, q2, (h.I (31, 0, 73, 61) (by decide) p (by rw [hcd]; exact hpc y)).trans q1⟩
  have hI : S_I N' t' := by
    intro q hq i hi
    by_cases e : q.1 = 21 ∨ q.1 = 31
    · have hq2 : q.2.2.2 = 61 ∧ 62 ≤ q.2.2.1 ∧ q.2.2.1 ≤ 79 ∧ (q.1 = 21 → q.2.2.1 ≠ 73 ∧ q.2.1 ≠ 10 ∧ q.2.1 ≠ 14) ∧ (q.1 = 31 → q.2.2.1 = 73 ∧ q.2.1 = 0) := (by decide : ∀ q ∈ TI, q.1 = 21 ∨ q.1 = 31 → q.2.2.2 = 61 ∧ 62 ≤ q.2.2.1 ∧ q.2.2.1 ≤ 79 ∧ (q.1 = 21 → q.2.2.1 ≠ 73 ∧ q.2.1 ≠ 10 ∧ q.2.1 ≠ 14) ∧ (q.1 = 31 → q.2.2.1 = 73 ∧ q.2.1 = 0)) q hq e
      obtain ⟨z1, z2, z3, z4, z5⟩ := hq2
      rw [z1, c61] at hi
      have hold : i ≠ c → N.1 q.1 i q.2.1 = t q.2.2.1 i := fun hne => h.I q hq i (by rw [z1, hcd]; omega)
      rcases e with e | e
      · rw [e, i21 _ _ (z4 e).2.2]
        by_cases ei : i = c
        · rw [if_pos ei, ei, vn _ z2 z3]
          have hq3 : (q.2.1 = 1 ∧ q.2.2.1 = 63) ∨ (q.2.1 = 2 ∧ q.2.2.1 = 66) ∨ (q.2.1 = 3 ∧ q.2.2.1 = 67) ∨ (q.2.1 = 9 ∧ q.2.2.1 = 71) ∨ (q.2.1 = 11 ∧ q.2.2.1 = 69) ∨ (q.2.1 = 13 ∧ q.2.2.1 = 68) ∨ (q.2.1 = 15 ∧ q.2.2.1 = 72) := (by decide : ∀ q ∈ TI, q.1 = 21 → (q.2.1 = 1 ∧ q.2.2.1 = 63) ∨ (q.2.1 = 2 ∧ q.2.2.1 = 66) ∨ (q.2.1 = 3 ∧ q.2.2.1 = 67) ∨ (q.2.1 = 9 ∧ q.2.2.1 = 71) ∨ (q.2.1 = 11 ∧ q.2.2.1 = 69) ∨ (q.2.1 = 13 ∧ q.2.2.1 = 68) ∨ (q.2.1 = 15 ∧ q.2.2.1 = 72)) q hq e
          rcases hq3 with ⟨y1, y2⟩ | ⟨y1, y2⟩ | ⟨y1, y2⟩ | ⟨y1, y2⟩ | ⟨y1, y2⟩ | ⟨y1, y2⟩ | ⟨y1, y2⟩ <;> rw [y1, y2] <;> rfl
        · rw [if_neg ei, if_neg (fun y => (z4 e).2.1 y.1), vo _ z2 z3 (z4 e).1 i ei, ← e]
          exact hold ei
      · obtain ⟨y1, y2⟩ := z5 e
        rw [e, y1, y2, i31]
        rw [e, y1, y2] at hold
        by_cases ei : i = c
        · rw [if_pos ei, ei, vn 73 (by decide) (by decide)]; rfl
        · rw [if_neg ei, v73 i ei]
          by_cases y : pb = true ∧ i = p
          · rw [if_pos y, if_pos y, y.2.symm, hold ei]
          · rw [if_neg y, if_neg y]; exact hold ei
    · have hq3 : q.1 ≠ 30 ∧ q.2.2.1 ∉ CC ∧ q.2.2.2 ∉ CC := (by decide : ∀ q ∈ TI, ¬ (q.1 = 21 ∨ q.1 = 31) → q.1 ≠ 30 ∧ q.2.2.1 ∉ CC ∧ q.2.2.2 ∉ CC) q hq e
      rw [hcn _ hq3.2.2] at hi
      rw [(hf q.1 (by simp; omega)).1, ht _ hq3.2.1]
      exact h.I q hq i hi
  have hR : S_R N' t' := by
    intro q hq i hi
    by_cases e : q.1 = 21
    · have hq2 : q = (21, 4, 20, 62, 61) ∨ q = (21, 5, 21, 64, 61) ∨ q = (21, 8, 21, 74, 61) := (by decide : ∀ q ∈ TR, q.1 = 21 → q = (21, 4, 20, 62, 61) ∨ q = (21, 5, 21, 64, 61) ∨ q = (21, 8, 21, 74, 61)) q hq e
      have key : ∀ fd k col, (21, fd, k, col, 61) ∈ TR → i < c → N.2.1 21 i fd = rn k (t col i) := fun fd k col hm hi2 => h.R (21, fd, k, col, 61) hm i (by show i < cn t 61; omega)
      rcases hq2 with e2 | e2 | e2 <;> subst e2 <;> dsimp only at hi ⊢ <;> rw [c61] at hi <;> rw [r21] <;> by_cases ei : i = c
      · rw [if_pos ei, ei, vn 62 (by decide) (by decide)]
        show (20, o) = rn 20 (nI o)
        rw [rn_j (by omega)]
      · rw [if_neg ei, vo 62 (by decide) (by decide) (by decide) i ei]; exact key _ _ _ (by decide) (by omega)
      · rw [if_pos ei, ei, vn 64 (by decide) (by decide)]
        show (if pb then (21, p) else (0, 0)) = rn 21 (if pb then nI p else -1)
        cases pb
        · rfl
        · have := hpc rfl
          show (21, p) = rn 21 (nI p)
          rw [rn_j (by omega)]
      · rw [if_neg ei, vo 64 (by decide) (by decide) (by decide) i ei]; exact key _ _ _ (by decide) (by omega)
      · rw [if_pos ei, ei, vn 74 (by decide) (by decide)]; rfl
      · rw [if_neg ei, vo 74 (by decide) (by decide) (by decide) i ei]; exact key _ _ _ (by decide) (by omega)
    · have hq3 : q.1 ≠ 30 ∧ q.1 ≠ 31 ∧ q.2.2.2.1 ∉ CC ∧ q.2.2.2.2 ∉ CC := (by decide : ∀ q ∈ TR, q.1 ≠ 21 → q.1 ≠ 30 ∧ q.1 ≠ 31 ∧ q.2.2.2.1 ∉ CC ∧ q.2.2.2.2 ∉ CC) q hq e
      rw [hcn _ hq3.2.2.2] at hi
      rw [(hf q.1 (by simp; omega)).2.1, ht _ hq3.2.2.1]
      exact h.R q hq i hi
  have hN : S_N N' t' := by
    intro q hq i hi
    by_cases e : q.1 = 21
    · have hq2 : q = (21, 61) := (by decide : ∀ q ∈ TN, q.1 = 21 → q = (21, 61)) q hq e
      subst hq2
      dsimp only at hi ⊢
      rw [c61] at hi
      rw [i21 _ _ (by decide)]
      by_cases ei : i = c
      · rw [if_pos ei, ei]; rfl
      · rw [if_neg ei, if_neg (fun y => absurd y.1 (by decide))]; exact h.N (21, 61) (by decide) i (by show i < cn t 61; omega)
    · have hq3 : q.1 ≠ 30 ∧ q.1 ≠ 31 ∧ q.2 ∉ CC := (by decide : ∀ q ∈ TN, q.1 ≠ 21 → q.1 ≠ 30 ∧ q.1 ≠ 31 ∧ q.2 ∉ CC) q hq e
      rw [hcn _ hq3.2.2] at hi
      rw [(hf q.1 (by simp; omega)).1]
      exact h.N q hq i hi
  exact ⟨hI, hR, hN⟩
theorem newC_A2 {X : Mem} {m z : Nat} {P : List Nat} {N N' : Mem} {t t' : DB} {c o d p : Nat} {pb : Bool} {gv sv fb jv lv : Int32} (h : SZ X m z P 100000 N t) (hcd : cn t 61 = c) (a : NCt t t' c o d pb p gv sv jv lv) (b : NCn N N' t c o d pb p gv sv fb jv) (w : NCp t c o d pb p gv sv fb jv lv) (hU : sumTo c (remC t') + remC t' c + c + 1 ≤ 67 * cn t 50) : (∀ l, l ≠ 9 → N'.2.1 30 l = N.2.1 30 l) ∧ S_K N' t' ∧ S_S N' t' ∧ S_E N' t' ∧ S_C N' t' := by
  obtain ⟨ht, a61, av⟩ := a
  obtain ⟨hf, i21', i14, r21, i31, r31, i30, r30, x21, x30, rm1, rm2, rm3⟩ := b
  obtain ⟨wo, ⟨T, hh, wT1, wT2, wT3, wT4, wd, wpar, wg⟩, wroot, wp, wj1, wj2⟩ := w
  have i21 : ∀ i f, f ≠ 14 → N'.1 21 i f = if i = c then nW c d sv (t 0 0) f else if f = 10 ∧ pb = true ∧ i = p then fb else N.1 21 i f := i21'
  have h50 : cn t 50 ≤ 60 := h.iB.2.2.2.2.2.1.2
  have hc : c ≤ 4019 := by omega
  have hcl : (nI c).toNatClampNeg = c := nI_clamp (by omega)
  have hcl1 : (nI (c + 1)).toNatClampNeg = c + 1 := nI_clamp (by omega)
  have t61 : t' 61 0 = nI (c + 1) := by rw [a61]; exact up_s
  have c61 : cn t' 61 = c + 1 := by unfold cn; rw [t61, hcl1]
  have hcn : ∀ q, q ∉ CC → cn t' q = cn t q := fun q hq => ht.cn hq
  have hg24 : cn t 30 ≤ 24 := h.iB.2.2.2.1.2
  have e30 : cn t' 30 = cn t 30 := hcn 30 (by decide)
  have e31 := ht 31 (by decide)
  -- the table's values
  have vn : ∀ f, 62 ≤ f → f ≤ 79 → t' f c = nV o d (if pb then nI p else -1) gv sv (t 0 0) jv lv f := fun f h1 h2 => by rw [av f h1 h2, if_pos rfl]
  have vo : ∀ f, 62 ≤ f → f ≤ 79 → f ≠ 73 → ∀ i, i ≠ c → t' f i = t f i := fun f h1 h2 h3 i hi => by rw [av f h1 h2, if_neg hi, if_neg (fun e => h3 e.1)]
  have v73 : ∀ i, i ≠ c → t' 73 i = if pb = true ∧ i = p then t 73 p + 1 else t 73 i := fun i hi => by
    rw [av 73 (by decide) (by decide), if_neg hi]
    by_cases y : pb = true ∧ i = p
    · rw [if_pos y, if_pos ⟨rfl, y⟩]
    · rw [if_neg y, if_neg (fun e => y e.2)]
  have v73n : ∀ i, i ≠ c → ¬ (pb = true ∧ i = p) → t' 73 i = t 73 i := fun i hi hn => by rw [v73 i hi, if_neg hn]
  have hpc : pb = true → p < c := fun y => by
    rcases wpar with ⟨-, e⟩ | ⟨e, -, q, -⟩
    · rw [y] at e; exact absurd e (by decide)
    · exact q
  -- the parent's guard and count
  have hpg : pb = true → ∃ g n, g < cn t 30 ∧ t 65 p = nI g ∧ t 73 p = nI n ∧ n < 6 ∧ (t 31 g = 8 → t 78 p = 1) ∧ (t 31 g ≠ 4 → n < 2) ∧ (t 31 g ≠ 4 → t 31 g ≠ 5 → t 31 g ≠ 6 → n < 1) ∧ (t 31 g = 6 → fb = if n = 1 then 1 else 0) := fun y => by
    rcases wpar with ⟨-, e⟩ | ⟨e, -, q1, q2, q3, q4, q5, q6⟩
    · rw [y] at e; exact absurd e (by decide)
    · obtain ⟨h', i1, i2, i3, -⟩ := h.iT T (Or.inl wT2)
      have : h' = hh := (nI_eq (by omega) (by omega)).mp (i2.symm.trans wT3)
      subst this
      obtain ⟨g, hg, eg⟩ := i3 e q5
      have e65 := q6.trans eg
      obtain ⟨u1, n, u2, u3, u4, u5, u6⟩ := (wp y).2.2 g hg e65
      exact ⟨g, n, hg, e65, u2, u3, u1, u4, u5, u6⟩
  have p31 : pb = true → ∃ n, t 73 p = nI n ∧ n < 6 ∧ N.1 31 p 0 = nI n := fun y => by
    obtain ⟨g, n, -, -, q1, q2, -⟩ := hpg y
    exact ⟨n, q1, q2, (h.I (31, 0, 73, 61) (by decide) p (by rw [hcd]; exact hpc y)).trans q1⟩
  have hl : ∀ l, l ≠ 9 → N'.2.1 30 l = N.2.1 30 l := fun l hl => funext fun j => by rw [r30, if_neg (fun e => hl e.1)]
  have hK : S_K N' t' := h.K.ad (9, 21, 61) (by decide) hl (fun i hi => by
      have hi' : i < cn t 61 := hi
      rw [r30, if_neg (by omega)]) (by
      show N'.2.1 30 9 (cn t 61) = (21, cn t 61)
      rw [hcd, r30, if_pos ⟨rfl, rfl⟩]) (fun r hr hne => hcn _ ((by decide : ∀ r ∈ TK, r.2.2 ≠ 61 → r.2.2 ∉ CC) r hr hne)) (by show cn t' 61 = cn t 61 + 1; rw [c61, hcd])
  have hS : S_S N' t' := h.S.ad (9, 61, 0) (fun l hl => by rw [i30, if_neg hl]) (by
      show N'.1 30 9 0 = t' 61 0
      rw [i30, if_pos rfl, t61]) (fun r hr hne => by rw [ht _ ((by decide : ∀ r ∈ TS, r.1 ≠ 9 → r.2.1 ∉ CC) r hr hne)]) (by decide)
  have hE : S_E N' t' := by
    intro q hq i hi
    by_cases e : q.1 = 21 ∨ q.1 = 31
    · have hq2 : q.2 = 61 := (by decide : ∀ q ∈ TE, q.1 = 21 ∨ q.1 = 31 → q.2 = 61) q hq e
      rw [hq2, c61] at hi
      have := h.E q hq i (by rw [hq2]; omega)
      rcases e with e | e
      · rw [e] at this ⊢; rw [(x21 i (by omega)).1]; exact this
      · rw [e] at this ⊢; rw [(x21 i (by omega)).2]; exact this
    · have hq3 : q.1 ≠ 30 ∧ q.2 ∉ CC := (by decide : ∀ q ∈ TE, ¬ (q.1 = 21 ∨ q.1 = 31) → q.1 ≠ 30 ∧ q.2 ∉ CC) q hq e
      rw [hcn _ hq3.2] at hi
      rw [(hf q.1 (by simp; omega)).2.2]
      exact h.E q hq i hi
  have hC : S_C N' t' := by
    intro i hi
    rw [c61] at hi
    rw [r21, r21, r21, i21 _ _ (by decide), gn_fr e31]
    by_cases ei : i = c
    · rw [if_pos ei, if_pos ei, if_pos ei, if_pos ei, ei, vn 65 (by decide) (by decide), vn 69 (by decide) (by decide)]
      refine ⟨rfl, rfl, ?_, ?_⟩
      · show (-1 : Int32) = if (0 : Int32) = 1 then _ else -1
        rw [if_neg (by decide)]
      · show ((0, 0) : Nat × Nat) = if (0 : Int32) = 2 then _ else (0, 0)
        rw [if_neg (by decide)]
    · rw [if_neg ei, if_neg ei, if_neg ei, if_neg ei, if_neg (fun y => absurd y.1 (by decide)), vo 65 (by decide) (by decide) (by decide) i ei, vo 69 (by decide) (by decide) (by decide) i ei, vo 70 (by decide) (by decide) (by decide) i ei]
      exact h.C i (by omega)
  exact ⟨hl, hK, hS, hE, hC⟩
theorem newC_B {X : Mem} {m z : Nat} {P : List Nat} {N N' : Mem} {t t' : DB} {c o d p : Nat} {pb : Bool} {gv sv fb jv lv : Int32} (h : SZ X m z P 100000 N t) (hcd : cn t 61 = c) (a : NCt t t' c o d pb p gv sv jv lv) (b : NCn N N' t c o d pb p gv sv fb jv) (w : NCp t c o d pb p gv sv fb jv lv) (hU : sumTo c (remC t') + remC t' c + c + 1 ≤ 67 * cn t 50) : S_V N' t' := by
  obtain ⟨ht, a61, av⟩ := a
  obtain ⟨hf, i21', i14, r21, i31, r31, i30, r30, x21, x30, rm1, rm2, rm3⟩ := b
  obtain ⟨wo, ⟨T, hh, wT1, wT2, wT3, wT4, wd, wpar, wg⟩, wroot, wp, wj1, wj2⟩ := w
  have i21 : ∀ i f, f ≠ 14 → N'.1 21 i f = if i = c then nW c d sv (t 0 0) f else if f = 10 ∧ pb = true ∧ i = p then fb else N.1 21 i f := i21'
  have h50 : cn t 50 ≤ 60 := h.iB.2.2.2.2.2.1.2
  have hc : c ≤ 4019 := by omega
  have hcl : (nI c).toNatClampNeg = c := nI_clamp (by omega)
  have hcl1 : (nI (c + 1)).toNatClampNeg = c + 1 := nI_clamp (by omega)
  have t61 : t' 61 0 = nI (c + 1) := by rw [a61]; exact up_s
  have c61 : cn t' 61 = c + 1 := by unfold cn; rw [t61, hcl1]
  have hcn : ∀ q, q ∉ CC → cn t' q = cn t q := fun q hq => ht.cn hq
  have hg24 : cn t 30 ≤ 24 := h.iB.2.2.2.1.2
  have e30 : cn t' 30 = cn t 30 := hcn 30 (by decide)
  have e31 := ht 31 (by decide)
  -- the table's values
  have vn : ∀ f, 62 ≤ f → f ≤ 79 → t' f c = nV o d (if pb then nI p else -1) gv sv (t 0 0) jv lv f := fun f h1 h2 => by rw [av f h1 h2, if_pos rfl]
  have vo : ∀ f, 62 ≤ f → f ≤ 79 → f ≠ 73 → ∀ i, i ≠ c → t' f i = t f i := fun f h1 h2 h3 i hi => by rw [av f h1 h2, if_neg hi, if_neg (fun e => h3 e.1)]
  have v73 : ∀ i, i ≠ c → t' 73 i = if pb = true ∧ i = p then t 73 p + 1 else t 73 i := fun i hi => by
    rw [av 73 (by decide) (by decide), if_neg hi]
    by_cases y : pb = true ∧ i = p
    · rw [if_pos y, if_pos ⟨rfl, y⟩]
    · rw [if_neg y, if_neg (fun e => y e.2)]
  have v73n : ∀ i, i ≠ c → ¬ (pb = true ∧ i = p) → t' 73 i = t 73 i := fun i hi hn => by rw [v73 i hi, if_neg hn]
  have hpc : pb = true → p < c := fun y => by
    rcases wpar with ⟨-, e⟩ | ⟨e, -, q, -⟩
    · rw [y] at e; exact absurd e (by decide)
    · exact q
  -- the parent's guard and count
  have hpg : pb = true → ∃ g n, g < cn t 30 ∧ t 65 p = nI g ∧ t 73 p = nI n ∧ n < 6 ∧ (t 31 g = 8 → t 78 p = 1) ∧ (t 31 g ≠ 4 → n < 2) ∧ (t 31 g ≠ 4 → t 31 g ≠ 5 → t 31 g ≠ 6 → n < 1) ∧ (t 31 g = 6 → fb = if n = 1 then 1 else 0) := fun y => by
    rcases wpar with ⟨-, e⟩ | ⟨e, -, q1, q2, q3, q4, q5, q6⟩
    · rw [y] at e; exact absurd e (by decide)
    · obtain ⟨h', i1, i2, i3, -⟩ := h.iT T (Or.inl wT2)
      have : h' = hh := (nI_eq (by omega) (by omega)).mp (i2.symm.trans wT3)
      subst this
      obtain ⟨g, hg, eg⟩ := i3 e q5
      have e65 := q6.trans eg
      obtain ⟨u1, n, u2, u3, u4, u5, u6⟩ := (wp y).2.2 g hg e65
      exact ⟨g, n, hg, e65, u2, u3, u1, u4, u5, u6⟩
  have p31 : pb = true → ∃ n, t 73 p = nI n ∧ n < 6 ∧ N.1 31 p 0 = nI n := fun y => by
    obtain ⟨g, n, -, -, q1, q2, -⟩ := hpg y
    exact ⟨n, q1, q2, (h.I (31, 0, 73, 61) (by decide) p (by rw [hcd]; exact hpc y)).trans q1⟩
  have hV : S_V N' t' := by
    intro i hi
    rw [c61] at hi ⊢
    rw [e30, e31]
    by_cases ei : i = c
    · subst ei
      have hno : ∀ k, k < i + 1 → t' 64 k ≠ nI i := fun k hk e => by
        by_cases ek : k = i
        · subst ek
          rw [vn 64 (by decide) (by decide)] at e
          have e' : (if pb then nI p else -1) = nI k := e
          cases pb
          · exact nI_m1 (by omega) e'.symm
          · have e2 : nI p = nI k := e'
            have := hpc rfl
            have := (nI_eq (by omega) (by omega)).mp e2
            omega
        · rw [vo 64 (by decide) (by decide) (by decide) k ek] at e
          obtain ⟨_, _, _, _, _, _, _, _, _, _, _, _, pp, -⟩ := h.iC k (by omega)
          rcases pp with ⟨-, pp⟩ | ⟨p', e', q1, q2, -⟩
          · exact nI_m1 (by omega) (e.symm.trans pp)
          · have := (nI_eq (by omega) (by omega)).mp (e.symm.trans q2)
            omega
      rw [vn 73 (by decide) (by decide), vn 65 (by decide) (by decide)]
      have z73 : (nV o d (if pb then nI p else -1) gv sv (t 0 0) jv lv 73).toNatClampNeg = 0 := rfl
      rw [z73]
      refine ⟨fun j hj => absurd hj (Nat.not_lt_zero _), fun k hk e => absurd e (hno k hk), fun _ j _ _ _ hj => absurd hj (Nat.not_lt_zero _), fun g hg e1 e2 => ?_⟩
      rw [i21 _ _ (by decide), if_pos rfl]; rfl
    · obtain ⟨a1, a2, a3, a4⟩ := h.V i (by omega)
      rw [hcd] at a1 a2
      rw [v73 i ei, vo 65 (by decide) (by decide) (by decide) i ei, i21 _ _ (by decide), if_neg ei]
      by_cases y : pb = true ∧ i = p
      · obtain ⟨y1, y2⟩ := y
        subst y2
        obtain ⟨g, n, hg, e65, q1, q2, -, -, -, q6⟩ := hpg y1
        have l31 : N.1 31 i 0 = nI n := (h.I (31, 0, 73, 61) (by decide) i (by rw [hcd]; omega)).trans q1
        have cl1 : (nI (n + 1)).toNatClampNeg = n + 1 := nI_clamp (by omega)
        have cl0 : (nI n).toNatClampNeg = n := nI_clamp (by omega)
        have r31' : ∀ j, N'.2.1 31 i j = if j = n then (21, c) else N.2.1 31 i j := fun j => by
          rw [r31 i j ei, l31, cl0]
          by_cases e : j = n
          · rw [if_pos ⟨y1, rfl, e⟩, if_pos e]
          · rw [if_neg (fun q => e q.2.2), if_neg e]
        rw [if_pos ⟨y1, rfl⟩, if_pos ⟨rfl, y1, rfl⟩, q1, nI_1, cl1]
        rw [q1, cl0] at a1 a2 a3
        have pc : t' 64 c = nI i := by
          rw [vn 64 (by decide) (by decide)]
          show (if pb then nI i else -1) = _
          rw [y1]; rfl
        refine ⟨fun j hj => ?_, fun k hk e => ?_, fun j1 j2 k l h1 h2 e1 e2 => ?_, fun g' hg' e1 e2 => ?_⟩
        · rw [r31']
          by_cases e : j = n
          · rw [if_pos e]; exact ⟨c, by omega, rfl, pc⟩
          · rw [if_neg e]
            obtain ⟨k, k1, k2, k3⟩ := a1 j (by omega)
            exact ⟨k, by omega, k2, by rw [vo 64 (by decide) (by decide) (by decide) k (by omega)]; exact k3⟩
        · by_cases ek : k = c
          · exact ⟨n, by omega, by rw [r31', if_pos rfl, ek]⟩
          · rw [vo 64 (by decide) (by decide) (by decide) k ek] at e
            obtain ⟨j, j1, j2⟩ := a2 k (by omega) e
            exact ⟨j, by omega, by rw [r31', if_neg (by omega)]; exact j2⟩
        · rw [r31'] at e1 e2
          rw [if_neg (by omega)] at e1
          by_cases e : j2 = n
          · rw [if_pos e] at e2
            have el : c = l := congrArg Prod.snd e2
            obtain ⟨k', k1, k2, -⟩ := a1 j1 (by omega)
            have : k = k' := congrArg Prod.snd (e1.symm.trans k2)
            omega
          · rw [if_neg e] at e2
            exact a3 j1 j2 k l h1 (by omega) e1 e2
        · have : g' = g := (nI_eq (by omega) (by omega)).mp (e1.symm.trans e65)
          subst this
          rw [q6 e2]
          by_cases e : n = 1
          · rw [if_pos e, e]; rfl
          · rw [if_neg e, if_neg (fun q => e (by
              have : n + 1 = 2 := (nI_eq (by omega) (by omega)).mp q
              omega))]
      · rw [if_neg y, if_neg (fun q => y q.2)]
        have r31' : ∀ j, N'.2.1 31 i j = N.2.1 31 i j := fun j => by rw [r31 i j ei, if_neg (fun q => y ⟨q.1, q.2.1⟩)]
        refine ⟨fun j hj => ?_, fun k hk e => ?_, fun j1 j2 k l h1 h2 e1 e2 => ?_, a4⟩
        · rw [r31']
          obtain ⟨k, k1, k2, k3⟩ := a1 j hj
          exact ⟨k, by omega, k2, by rw [vo 64 (by decide) (by decide) (by decide) k (by omega)]; exact k3⟩
        · by_cases ek : k = c
          · exfalso
            rw [ek, vn 64 (by decide) (by decide)] at e
            have e' : (if pb then nI p else -1) = nI i := e
            cases hpb : pb
            · rw [hpb] at e'; exact nI_m1 (by omega) e'.symm
            · rw [hpb] at e'
              have e2 : nI p = nI i := e'
              have := hpc hpb
              exact y ⟨hpb, ((nI_eq (by omega) (by omega)).mp e2).symm⟩
          · rw [vo 64 (by decide) (by decide) (by decide) k ek] at e
            obtain ⟨j, j1, j2⟩ := a2 k (by omega) e
            exact ⟨j, j1, by rw [r31']; exact j2⟩
        · rw [r31'] at e1 e2
          exact a3 j1 j2 k l h1 h2 e1 e2
  exact hV
theorem newC_C {X : Mem} {m z : Nat} {P : List Nat} {N N' : Mem} {t t' : DB} {c o d p : Nat} {pb : Bool} {gv sv fb jv lv : Int32} (h : SZ X m z P 100000 N t) (hcd : cn t 61 = c) (a : NCt t t' c o d pb p gv sv jv lv) (b : NCn N N' t c o d pb p gv sv fb jv) (w : NCp t c o d pb p gv sv fb jv lv) (hU : sumTo c (remC t') + remC t' c + c + 1 ≤ 67 * cn t 50) : S_O z N' t' ∧ S_Q P c N' t' ∧ S_B P c t' ∧ S_M m N' t' ∧ I_B t' := by
  obtain ⟨ht, a61, av⟩ := a
  obtain ⟨hf, i21', i14, r21, i31, r31, i30, r30, x21, x30, rm1, rm2, rm3⟩ := b
  obtain ⟨wo, ⟨T, hh, wT1, wT2, wT3, wT4, wd, wpar, wg⟩, wroot, wp, wj1, wj2⟩ := w
  have i21 : ∀ i f, f ≠ 14 → N'.1 21 i f = if i = c then nW c d sv (t 0 0) f else if f = 10 ∧ pb = true ∧ i = p then fb else N.1 21 i f := i21'
  have h50 : cn t 50 ≤ 60 := h.iB.2.2.2.2.2.1.2
  have hc : c ≤ 4019 := by omega
  have hcl : (nI c).toNatClampNeg = c := nI_clamp (by omega)
  have hcl1 : (nI (c + 1)).toNatClampNeg = c + 1 := nI_clamp (by omega)
  have t61 : t' 61 0 = nI (c + 1) := by rw [a61]; exact up_s
  have c61 : cn t' 61 = c + 1 := by unfold cn; rw [t61, hcl1]
  have hcn : ∀ q, q ∉ CC → cn t' q = cn t q := fun q hq => ht.cn hq
  have hg24 : cn t 30 ≤ 24 := h.iB.2.2.2.1.2
  have e30 : cn t' 30 = cn t 30 := hcn 30 (by decide)
  have e31 := ht 31 (by decide)
  -- the table's values
  have vn : ∀ f, 62 ≤ f → f ≤ 79 → t' f c = nV o d (if pb then nI p else -1) gv sv (t 0 0) jv lv f := fun f h1 h2 => by rw [av f h1 h2, if_pos rfl]
  have vo : ∀ f, 62 ≤ f → f ≤ 79 → f ≠ 73 → ∀ i, i ≠ c → t' f i = t f i := fun f h1 h2 h3 i hi => by rw [av f h1 h2, if_neg hi, if_neg (fun e => h3 e.1)]
  have v73 : ∀ i, i ≠ c → t' 73 i = if pb = true ∧ i = p then t 73 p + 1 else t 73 i := fun i hi => by
    rw [av 73 (by decide) (by decide), if_neg hi]
    by_cases y : pb = true ∧ i = p
    · rw [if_pos y, if_pos ⟨rfl, y⟩]
    · rw [if_neg y, if_neg (fun e => y e.2)]
  have v73n : ∀ i, i ≠ c → ¬ (pb = true ∧ i = p) → t' 73 i = t 73 i := fun i hi hn => by rw [v73 i hi, if_neg hn]
  have hpc : pb = true → p < c := fun y => by
    rcases wpar with ⟨-, e⟩ | ⟨e, -, q, -⟩
    · rw [y] at e; exact absurd e (by decide)
    · exact q
  -- the parent's guard and count
  have hpg : pb = true → ∃ g n, g < cn t 30 ∧ t 65 p = nI g ∧ t 73 p = nI n ∧ n < 6 ∧ (t 31 g = 8 → t 78 p = 1) ∧ (t 31 g ≠ 4 → n < 2) ∧ (t 31 g ≠ 4 → t 31 g ≠ 5 → t 31 g ≠ 6 → n < 1) ∧ (t 31 g = 6 → fb = if n = 1 then 1 else 0) := fun y => by
    rcases wpar with ⟨-, e⟩ | ⟨e, -, q1, q2, q3, q4, q5, q6⟩
    · rw [y] at e; exact absurd e (by decide)
    · obtain ⟨h', i1, i2, i3, -⟩ := h.iT T (Or.inl wT2)
      have : h' = hh := (nI_eq (by omega) (by omega)).mp (i2.symm.trans wT3)
      subst this
      obtain ⟨g, hg, eg⟩ := i3 e q5
      have e65 := q6.trans eg
      obtain ⟨u1, n, u2, u3, u4, u5, u6⟩ := (wp y).2.2 g hg e65
      exact ⟨g, n, hg, e65, u2, u3, u1, u4, u5, u6⟩
  have p31 : pb = true → ∃ n, t 73 p = nI n ∧ n < 6 ∧ N.1 31 p 0 = nI n := fun y => by
    obtain ⟨g, n, -, -, q1, q2, -⟩ := hpg y
    exact ⟨n, q1, q2, (h.I (31, 0, 73, 61) (by decide) p (by rw [hcd]; exact hpc y)).trans q1⟩
  have hO : S_O z N' t' := by
    have q20 := hf 20 (by decide)
    intro o' ho' hz
    rw [hcn 50 (by decide)] at ho'
    obtain ⟨a1, c', a2, a3, a4, a5, a6⟩ := h.O o' ho' hz
    have hne : c' ≠ c := by omega
    rw [q20.1, q20.2.1, c61, ht 58 (by decide), ht 59 (by decide)]
    refine ⟨a1, c', by omega, a3, ?_, ?_, ?_⟩
    · rw [vo 62 (by decide) (by decide) (by decide) c' hne]; exact a4
    · rw [vo 64 (by decide) (by decide) (by decide) c' hne]; exact a5
    · rw [vo 69 (by decide) (by decide) (by decide) c' hne, vo 70 (by decide) (by decide) (by decide) c' hne, vo 71 (by decide) (by decide) (by decide) c' hne]
      exact a6
  have lvk : ∀ k, k < c + 1 → lvv t' P c k → k < c ∧ lvv t P 100000 k := fun k hk hl => by
    have hk' : k ≠ c := fun e => by
      rcases hl with ⟨-, q⟩ | q
      · exact q e
      · have := (h.J k q).1; omega
    refine ⟨by omega, ?_⟩
    rcases hl with ⟨q, -⟩ | q
    · rw [vo 69 (by decide) (by decide) (by decide) k hk'] at q
      exact Or.inl ⟨q, by omega⟩
    · exact Or.inr q
  have hQ : S_Q P c N' t' := by
    intro k hk hl
    rw [c61] at hk
    obtain ⟨hk2, hl2⟩ := lvk k hk hl
    have hkc : k ≠ c := by omega
    obtain ⟨s1, s2⟩ := h.Q k (by omega) hl2
    have q10 := hf 10 (by decide)
    rw [i14 k hkc, vo 65 (by decide) (by decide) (by decide) k hkc, e30, e31, vo 79 (by decide) (by decide) (by decide) k hkc, ht 36 (by decide), vo 75 (by decide) (by decide) (by decide) k hkc, vo 77 (by decide) (by decide) (by decide) k hkc, ht 40 (by decide), ht 43 (by decide), q10.2.1]
    refine ⟨?_, s2⟩
    rw [s1]
    unfold stOf
    rw [vo 75 (by decide) (by decide) (by decide) k hkc, vo 76 (by decide) (by decide) (by decide) k hkc, vo 74 (by decide) (by decide) (by decide) k hkc]
  have hB : S_B P c t' := by
    intro g hg hs j hj
    rw [e30] at hg
    rw [e31] at hs
    rw [ht 40 (by decide)] at hj
    obtain ⟨k, a1, a2, a3, a4, a5, a6, a7⟩ := h.B g hg hs j hj
    have hkc : k ≠ c := by omega
    rw [c61, ht 43 (by decide)]
    refine ⟨k, by omega, a2, ?_, ?_, ?_, ?_, a7⟩
    · rw [vo 65 (by decide) (by decide) (by decide) k hkc]; exact a3
    · rw [vo 75 (by decide) (by decide) (by decide) k hkc]; exact a4
    · rw [v73n k hkc (fun y => by
        have := (wp y.1).1
        rw [← y.2, a4] at this
        exact absurd this (by decide))]
      exact a5
    · rcases a6 with ⟨q, -⟩ | q
      · exact Or.inl ⟨by rw [vo 69 (by decide) (by decide) (by decide) k hkc]; exact q, hkc⟩
      · exact Or.inr q
  have hM : S_M m N' t' := by
    obtain ⟨b1, b2⟩ := h.M
    unfold S_M
    rw [c61, hcn 23 (by decide), hcn 17 (by decide), hcn 82 (by decide), hcn 50 (by decide)]
    rw [hcd] at b1
    omega
  have hBd : I_B t' := by
    obtain ⟨a1, a2, a3, a4, a5, a6, a7, a8, a9, a10, a11, a12⟩ := h.iB
    have hb : ∀ q mx, q ∉ CC → bnd t q mx → bnd t' q mx := by
      intro q mx hq hb
      unfold bnd at hb ⊢
      rw [hcn q hq, ht q hq]; exact hb
    refine ⟨hb _ _ (by decide) a1, hb _ _ (by decide) a2, hb _ _ (by decide) a3, hb _ _ (by decide) a4, hb _ _ (by decide) a5, hb _ _ (by decide) a6, ⟨?_, ?_⟩, hb _ _ (by decide) a8, hb _ _ (by decide) a9, hb _ _ (by decide) a10, hb _ _ (by decide) a11, hb _ _ (by decide) a12⟩
    · rw [c61]; exact t61
    · rw [c61]; omega
  exact ⟨hO, hQ, hB, hM, hBd⟩
theorem newC_D {X : Mem} {m z : Nat} {P : List Nat} {N N' : Mem} {t t' : DB} {c o d p : Nat} {pb : Bool} {gv sv fb jv lv : Int32} (h : SZ X m z P 100000 N t) (hcd : cn t 61 = c) (a : NCt t t' c o d pb p gv sv jv lv) (b : NCn N N' t c o d pb p gv sv fb jv) (w : NCp t c o d pb p gv sv fb jv lv) (hU : sumTo c (remC t') + remC t' c + c + 1 ≤ 67 * cn t 50) : I_C t' ∧ I_H t' ∧ ((gv = -1 ∨ ∃ g, g < cn t 30 ∧ gv = nI g) ∧ (lv = 0 ∨ lv = 1) ∧ (lv = 1 → ∃ g, g < cn t 30 ∧ gv = nI g ∧ t 31 g = 8)) := by
  obtain ⟨ht, a61, av⟩ := a
  obtain ⟨hf, i21', i14, r21, i31, r31, i30, r30, x21, x30, rm1, rm2, rm3⟩ := b
  obtain ⟨wo, ⟨T, hh, wT1, wT2, wT3, wT4, wd, wpar, wg⟩, wroot, wp, wj1, wj2⟩ := w
  have i21 : ∀ i f, f ≠ 14 → N'.1 21 i f = if i = c then nW c d sv (t 0 0) f else if f = 10 ∧ pb = true ∧ i = p then fb else N.1 21 i f := i21'
  have h50 : cn t 50 ≤ 60 := h.iB.2.2.2.2.2.1.2
  have hc : c ≤ 4019 := by omega
  have hcl : (nI c).toNatClampNeg = c := nI_clamp (by omega)
  have hcl1 : (nI (c + 1)).toNatClampNeg = c + 1 := nI_clamp (by omega)
  have t61 : t' 61 0 = nI (c + 1) := by rw [a61]; exact up_s
  have c61 : cn t' 61 = c + 1 := by unfold cn; rw [t61, hcl1]
  have hcn : ∀ q, q ∉ CC → cn t' q = cn t q := fun q hq => ht.cn hq
  have hg24 : cn t 30 ≤ 24 := h.iB.2.2.2.1.2
  have e30 : cn t' 30 = cn t 30 := hcn 30 (by decide)
  have e31 := ht 31 (by decide)
  -- the table's values
  have vn : ∀ f, 62 ≤ f → f ≤ 79 → t' f c = nV o d (if pb then nI p else -1) gv sv (t 0 0) jv lv f := fun f h1 h2 => by rw [av f h1 h2, if_pos rfl]
  have vo : ∀ f, 62 ≤ f → f ≤ 79 → f ≠ 73 → ∀ i, i ≠ c → t' f i = t f i := fun f h1 h2 h3 i hi => by rw [av f h1 h2, if_neg hi, if_neg (fun e => h3 e.1)]
  have v73 : ∀ i, i ≠ c → t' 73 i = if pb = true ∧ i = p then t 73 p + 1 else t 73 i := fun i hi => by
    rw [av 73 (by decide) (by decide), if_neg hi]
    by_cases y : pb = true ∧ i = p
    · rw [if_pos y, if_pos ⟨rfl, y⟩]
    · rw [if_neg y, if_neg (fun e => y e.2)]
  have v73n : ∀ i, i ≠ c → ¬ (pb = true ∧ i = p) → t' 73 i = t 73 i := fun i hi hn => by rw [v73 i hi, if_neg hn]
  have hpc : pb = true → p < c := fun y => by
    rcases wpar with ⟨-, e⟩ | ⟨e, -, q, -⟩
    · rw [y] at e; exact absurd e (by decide)
    · exact q
  -- the parent's guard and count
  have hpg : pb = true → ∃ g n, g < cn t 30 ∧ t 65 p = nI g ∧ t 73 p = nI n ∧ n < 6 ∧ (t 31 g = 8 → t 78 p = 1) ∧ (t 31 g ≠ 4 → n < 2) ∧ (t 31 g ≠ 4 → t 31 g ≠ 5 → t 31 g ≠ 6 → n < 1) ∧ (t 31 g = 6 → fb = if n = 1 then 1 else 0) := fun y => by
    rcases wpar with ⟨-, e⟩ | ⟨e, -, q1, q2, q3, q4, q5, q6⟩
    · rw [y] at e; exact absurd e (by decide)
    · obtain ⟨h', i1, i2, i3, -⟩ := h.iT T (Or.inl wT2)
      have : h' = hh := (nI_eq (by omega) (by omega)).mp (i2.symm.trans wT3)
      subst this
      obtain ⟨g, hg, eg⟩ := i3 e q5
      have e65 := q6.trans eg
      obtain ⟨u1, n, u2, u3, u4, u5, u6⟩ := (wp y).2.2 g hg e65
      exact ⟨g, n, hg, e65, u2, u3, u1, u4, u5, u6⟩
  have p31 : pb = true → ∃ n, t 73 p = nI n ∧ n < 6 ∧ N.1 31 p 0 = nI n := fun y => by
    obtain ⟨g, n, -, -, q1, q2, -⟩ := hpg y
    exact ⟨n, q1, q2, (h.I (31, 0, 73, 61) (by decide) p (by rw [hcd]; exact hpc y)).trans q1⟩
  have hCC : I_C t' := by
    intro i hi
    rw [c61] at hi
    rw [hcn 50 (by decide), ht 51 (by decide), hcn 47 (by decide), ht 48 (by decide), ht 49 (by decide), hcn 1 (by decide)]
    by_cases ei : i = c
    · rw [ei, vn 62 (by decide) (by decide), vn 63 (by decide) (by decide), vn 64 (by decide) (by decide), vn 65 (by decide) (by decide), vn 66 (by decide) (by decide)]
      refine ⟨o, T, hh, d, wo, rfl, wT1, wT2, wT3, wT4, wd, rfl, ?_, wg⟩
      rcases wpar with ⟨y1, y2⟩ | ⟨e, y1, y2, y3, y4, y5, y6, y7⟩
      · exact Or.inl ⟨y1, by rw [y2]; rfl⟩
      · have hne : p ≠ c := by omega
        refine Or.inr ⟨p, e, y2, by rw [y1]; rfl, ?_, y4, ?_, y6, ?_⟩
        · rw [vo 62 (by decide) (by decide) (by decide) p hne]; exact y3
        · rw [vo 63 (by decide) (by decide) (by decide) p hne]; exact y5
        · rw [vo 65 (by decide) (by decide) (by decide) p hne]; exact y7
    · obtain ⟨o', T', h', d', y1, y2, y3, y4, y5, y6, y7, y8, y9, y10⟩ := h.iC i (by omega)
      rw [vo 62 (by decide) (by decide) (by decide) i ei, vo 63 (by decide) (by decide) (by decide) i ei, vo 64 (by decide) (by decide) (by decide) i ei, vo 65 (by decide) (by decide) (by decide) i ei, vo 66 (by decide) (by decide) (by decide) i ei]
      refine ⟨o', T', h', d', y1, y2, y3, y4, y5, y6, y7, y8, ?_, y10⟩
      rcases y9 with y | ⟨p', e', z1, z2, z3, z4, z5, z6, z7⟩
      · exact Or.inl y
      · have hne : p' ≠ c := by omega
        refine Or.inr ⟨p', e', z1, z2, ?_, z4, ?_, z6, ?_⟩
        · rw [vo 62 (by decide) (by decide) (by decide) p' hne]; exact z3
        · rw [vo 63 (by decide) (by decide) (by decide) p' hne]; exact z5
        · rw [vo 65 (by decide) (by decide) (by decide) p' hne]; exact z7
  have hgv : gv = -1 ∨ ∃ g, g < cn t 30 ∧ gv = nI g := by
    rcases wg with ⟨y, -⟩ | ⟨y1, y2, -⟩
    · exact Or.inl y
    · obtain ⟨h', i1, i2, i3, -⟩ := h.iT T (Or.inl wT2)
      have : h' = hh := (nI_eq (by omega) (by omega)).mp (i2.symm.trans wT3)
      subst this
      obtain ⟨g, hg, eg⟩ := i3 d y1
      exact Or.inr ⟨g, hg, y2.trans eg⟩
  have hlv : (lv = 0 ∨ lv = 1) ∧ (lv = 1 → ∃ g, g < cn t 30 ∧ gv = nI g ∧ t 31 g = 8) := by
    rcases hgv with y | ⟨g, hg, eg⟩
    · have := (wj1 (Or.inl y)).2
      exact ⟨Or.inl this, fun q => absurd (this.symm.trans q) (by decide)⟩
    · by_cases y : t 31 g = 8
      · refine ⟨?_, fun _ => ⟨g, hg, eg, y⟩⟩
        rcases wj2 g hg eg y with ⟨q, -⟩ | ⟨q, -⟩
        · exact Or.inr q
        · exact Or.inl q
      · have := (wj1 (Or.inr ⟨g, hg, eg, y⟩)).2
        exact ⟨Or.inl this, fun q => absurd (this.symm.trans q) (by decide)⟩
  have hH : I_H t' := by
    intro i hi
    rw [c61] at hi
    rw [hcn 23 (by decide)]
    by_cases ei : i = c
    · rw [ei, vn 69 (by decide) (by decide), vn 70 (by decide) (by decide), vn 71 (by decide) (by decide), vn 73 (by decide) (by decide), vn 75 (by decide) (by decide), vn 76 (by decide) (by decide), vn 77 (by decide) (by decide), vn 78 (by decide) (by decide), vn 79 (by decide) (by decide)]
      exact ⟨Or.inl rfl, fun q => absurd (show (0 : Int32) = 2 from q) (by decide), Or.inl rfl, fun _ => rfl, Or.inl rfl, Or.inl rfl, Or.inl rfl, hlv.1, Or.inl rfl, 0, by decide, rfl⟩
    · obtain ⟨y1, y2, y3, y4, y5, y6, y7, y8, y9, n, y10, y11⟩ := h.iH i (by omega)
      rw [vo 69 (by decide) (by decide) (by decide) i ei, vo 70 (by decide) (by decide) (by decide) i ei, vo 71 (by decide) (by decide) (by decide) i ei, vo 75 (by decide) (by decide) (by decide) i ei, vo 76 (by decide) (by decide) (by decide) i ei, vo 77 (by decide) (by decide) (by decide) i ei, vo 78 (by decide) (by decide) (by decide) i ei, vo 79 (by decide) (by decide) (by decide) i ei, v73 i ei]
      refine ⟨y1, y2, y3, y4, y5, y6, y7, y8, y9, ?_⟩
      by_cases y : pb = true ∧ i = p
      · obtain ⟨g, n', -, -, q1, q2, -⟩ := hpg y.1
        rw [if_pos y, q1, nI_1]
        exact ⟨n' + 1, by omega, rfl⟩
      · rw [if_neg y]; exact ⟨n, y10, y11⟩
  exact ⟨hCC, hH, hgv, hlv⟩
theorem newC_E {X : Mem} {m z : Nat} {P : List Nat} {N N' : Mem} {t t' : DB} {c o d p : Nat} {pb : Bool} {gv sv fb jv lv : Int32} (h : SZ X m z P 100000 N t) (hcd : cn t 61 = c) (a : NCt t t' c o d pb p gv sv jv lv) (b : NCn N N' t c o d pb p gv sv fb jv) (w : NCp t c o d pb p gv sv fb jv lv) (hU : sumTo c (remC t') + remC t' c + c + 1 ≤ 67 * cn t 50) : I_Z t' := by
  obtain ⟨ht, a61, av⟩ := a
  obtain ⟨hf, i21', i14, r21, i31, r31, i30, r30, x21, x30, rm1, rm2, rm3⟩ := b
  obtain ⟨wo, ⟨T, hh, wT1, wT2, wT3, wT4, wd, wpar, wg⟩, wroot, wp, wj1, wj2⟩ := w
  have i21 : ∀ i f, f ≠ 14 → N'.1 21 i f = if i = c then nW c d sv (t 0 0) f else if f = 10 ∧ pb = true ∧ i = p then fb else N.1 21 i f := i21'
  have h50 : cn t 50 ≤ 60 := h.iB.2.2.2.2.2.1.2
  have hc : c ≤ 4019 := by omega
  have hcl : (nI c).toNatClampNeg = c := nI_clamp (by omega)
  have hcl1 : (nI (c + 1)).toNatClampNeg = c + 1 := nI_clamp (by omega)
  have t61 : t' 61 0 = nI (c + 1) := by rw [a61]; exact up_s
  have c61 : cn t' 61 = c + 1 := by unfold cn; rw [t61, hcl1]
  have hcn : ∀ q, q ∉ CC → cn t' q = cn t q := fun q hq => ht.cn hq
  have hg24 : cn t 30 ≤ 24 := h.iB.2.2.2.1.2
  have e30 : cn t' 30 = cn t 30 := hcn 30 (by decide)
  have e31 := ht 31 (by decide)
  -- the table's values
  have vn : ∀ f, 62 ≤ f → f ≤ 79 → t' f c = nV o d (if pb then nI p else -1) gv sv (t 0 0) jv lv f := fun f h1 h2 => by rw [av f h1 h2, if_pos rfl]
  have vo : ∀ f, 62 ≤ f → f ≤ 79 → f ≠ 73 → ∀ i, i ≠ c → t' f i = t f i := fun f h1 h2 h3 i hi => by rw [av f h1 h2, if_neg hi, if_neg (fun e => h3 e.1)]
  have v73 : ∀ i, i ≠ c → t' 73 i = if pb = true ∧ i = p then t 73 p + 1 else t 73 i := fun i hi => by
    rw [av 73 (by decide) (by decide), if_neg hi]
    by_cases y : pb = true ∧ i = p
    · rw [if_pos y, if_pos ⟨rfl, y⟩]
    · rw [if_neg y, if_neg (fun e => y e.2)]
  have v73n : ∀ i, i ≠ c → ¬ (pb = true ∧ i = p) → t' 73 i = t 73 i := fun i hi hn => by rw [v73 i hi, if_neg hn]
  have hpc : pb = true → p < c := fun y => by
    rcases wpar with ⟨-, e⟩ | ⟨e, -, q, -⟩
    · rw [y] at e; exact absurd e (by decide)
    · exact q
  -- the parent's guard and count
  have hpg : pb = true → ∃ g n, g < cn t 30 ∧ t 65 p = nI g ∧ t 73 p = nI n ∧ n < 6 ∧ (t 31 g = 8 → t 78 p = 1) ∧ (t 31 g ≠ 4 → n < 2) ∧ (t 31 g ≠ 4 → t 31 g ≠ 5 → t 31 g ≠ 6 → n < 1) ∧ (t 31 g = 6 → fb = if n = 1 then 1 else 0) := fun y => by
    rcases wpar with ⟨-, e⟩ | ⟨e, -, q1, q2, q3, q4, q5, q6⟩
    · rw [y] at e; exact absurd e (by decide)
    · obtain ⟨h', i1, i2, i3, -⟩ := h.iT T (Or.inl wT2)
      have : h' = hh := (nI_eq (by omega) (by omega)).mp (i2.symm.trans wT3)
      subst this
      obtain ⟨g, hg, eg⟩ := i3 e q5
      have e65 := q6.trans eg
      obtain ⟨u1, n, u2, u3, u4, u5, u6⟩ := (wp y).2.2 g hg e65
      exact ⟨g, n, hg, e65, u2, u3, u1, u4, u5, u6⟩
  have p31 : pb = true → ∃ n, t 73 p = nI n ∧ n < 6 ∧ N.1 31 p 0 = nI n := fun y => by
    obtain ⟨g, n, -, -, q1, q2, -⟩ := hpg y
    exact ⟨n, q1, q2, (h.I (31, 0, 73, 61) (by decide) p (by rw [hcd]; exact hpc y)).trans q1⟩
  have hZ : I_Z t' := by
    intro i hi
    rw [c61] at hi
    rw [e30, hcn 50 (by decide), e31, ht 52 (by decide), ht 53 (by decide), ht 54 (by decide)]
    by_cases ei : i = c
    · rw [ei, vn 65 (by decide) (by decide), vn 73 (by decide) (by decide), vn 74 (by decide) (by decide), vn 75 (by decide) (by decide), vn 76 (by decide) (by decide), vn 77 (by decide) (by decide), vn 78 (by decide) (by decide), vn 79 (by decide) (by decide), vn 62 (by decide) (by decide)]
      refine ⟨fun g hg e => ⟨fun _ => rfl, fun _ => ⟨rfl, rfl⟩, fun _ => rfl, fun y => ?_, fun y => ?_⟩, fun e => ?_⟩
      · obtain ⟨j1, j2⟩ := wj1 (Or.inr ⟨g, hg, e, y⟩)
        exact ⟨j2, j1⟩
      · rcases wj2 g hg e y with ⟨j1, j2, -⟩ | ⟨j1, l, j2, j3, j4, j5, j6⟩
        · exact Or.inl ⟨j1, j2⟩
        · have hne : l ≠ c := by omega
          refine Or.inr ⟨j1, rfl, l, j2, j3, ?_, ?_, fun o1 o2 ho1 ho2 e1 e2 => ?_⟩
          · rw [vo 65 (by decide) (by decide) (by decide) l hne]; exact j4.trans e
          · rw [vo 78 (by decide) (by decide) (by decide) l hne]; exact j5
          · rw [vo 62 (by decide) (by decide) (by decide) l hne] at e2
            have e1' : nI o = nI o1 := e1
            have : o = o1 := (nI_eq (by omega) (by omega)).mp e1'
            subst this
            exact j6 o2 ho2 e2
      · obtain ⟨j1, j2⟩ := wj1 (Or.inl e)
        exact ⟨rfl, j1, rfl, rfl, rfl, j2, rfl⟩
    · obtain ⟨y1, y2⟩ := h.iZ i (by omega)
      rw [vo 65 (by decide) (by decide) (by decide) i ei, vo 74 (by decide) (by decide) (by decide) i ei, vo 75 (by decide) (by decide) (by decide) i ei, vo 76 (by decide) (by decide) (by decide) i ei, vo 77 (by decide) (by decide) (by decide) i ei, vo 78 (by decide) (by decide) (by decide) i ei, vo 79 (by decide) (by decide) (by decide) i ei, vo 62 (by decide) (by decide) (by decide) i ei]
      refine ⟨fun g hg e => ?_, fun e => ?_⟩
      · obtain ⟨x1, x2, x3, x4, x5⟩ := y1 g hg e
        refine ⟨x1, x2, x3, x4, fun x6 => ?_⟩
        rcases x5 x6 with x7 | ⟨k1, k2, l, k3, k4, k5, k6, k7⟩
        · exact Or.inl x7
        · have hne : l ≠ c := by omega
          refine Or.inr ⟨k1, ?_, l, k3, k4, ?_, ?_, fun o1 o2 ho1 ho2 e1 e2 => ?_⟩
          · rw [v73n i ei (fun y => by
              obtain ⟨g', n', q0, q1, -, -, q2, -⟩ := hpg y.1
              rw [← y.2] at q1 q2
              have : g = g' := (nI_eq (by omega) (by omega)).mp (e.symm.trans q1)
              subst this
              exact absurd (k1.symm.trans (q2 x6)) (by decide))]
            exact k2
          · rw [vo 65 (by decide) (by decide) (by decide) l hne]; exact k5
          · rw [vo 78 (by decide) (by decide) (by decide) l hne]; exact k6
          · rw [vo 62 (by decide) (by decide) (by decide) l hne] at e2
            exact k7 o1 o2 ho1 ho2 e1 e2
      · obtain ⟨x1, x2⟩ := y2 e
        refine ⟨?_, x2⟩
        rw [v73n i ei (fun y => by
          obtain ⟨g', n', q0, q1, -⟩ := hpg y.1
          rw [← y.2] at q1
          exact nI_m1 (by omega) (q1.symm.trans e))]
        exact x1
  exact hZ
theorem newC_F {X : Mem} {m z : Nat} {P : List Nat} {N N' : Mem} {t t' : DB} {c o d p : Nat} {pb : Bool} {gv sv fb jv lv : Int32} (h : SZ X m z P 100000 N t) (hcd : cn t 61 = c) (a : NCt t t' c o d pb p gv sv jv lv) (b : NCn N N' t c o d pb p gv sv fb jv) (w : NCp t c o d pb p gv sv fb jv lv) (hU : sumTo c (remC t') + remC t' c + c + 1 ≤ 67 * cn t 50) : I_L t' ∧ I_R t' := by
  obtain ⟨-, -, hgv, hlv⟩ := newC_D h hcd a b w hU
  obtain ⟨ht, a61, av⟩ := a
  obtain ⟨hf, i21', i14, r21, i31, r31, i30, r30, x21, x30, rm1, rm2, rm3⟩ := b
  obtain ⟨wo, ⟨T, hh, wT1, wT2, wT3, wT4, wd, wpar, wg⟩, wroot, wp, wj1, wj2⟩ := w
  have i21 : ∀ i f, f ≠ 14 → N'.1 21 i f = if i = c then nW c d sv (t 0 0) f else if f = 10 ∧ pb = true ∧ i = p then fb else N.1 21 i f := i21'
  have h50 : cn t 50 ≤ 60 := h.iB.2.2.2.2.2.1.2
  have hc : c ≤ 4019 := by omega
  have hcl : (nI c).toNatClampNeg = c := nI_clamp (by omega)
  have hcl1 : (nI (c + 1)).toNatClampNeg = c + 1 := nI_clamp (by omega)
  have t61 : t' 61 0 = nI (c + 1) := by rw [a61]; exact up_s
  have c61 : cn t' 61 = c + 1 := by unfold cn; rw [t61, hcl1]
  have hcn : ∀ q, q ∉ CC → cn t' q = cn t q := fun q hq => ht.cn hq
  have hg24 : cn t 30 ≤ 24 := h.iB.2.2.2.1.2
  have e30 : cn t' 30 = cn t 30 := hcn 30 (by decide)
  have e31 := ht 31 (by decide)
  -- the table's values
  have vn : ∀ f, 62 ≤ f → f ≤ 79 → t' f c = nV o d (if pb then nI p else -1) gv sv (t 0 0) jv lv f := fun f h1 h2 => by rw [av f h1 h2, if_pos rfl]
  have vo : ∀ f, 62 ≤ f → f ≤ 79 → f ≠ 73 → ∀ i, i ≠ c → t' f i = t f i := fun f h1 h2 h3 i hi => by rw [av f h1 h2, if_neg hi, if_neg (fun e => h3 e.1)]
  have v73 : ∀ i, i ≠ c → t' 73 i = if pb = true ∧ i = p then t 73 p + 1 else t 73 i := fun i hi => by
    rw [av 73 (by decide) (by decide), if_neg hi]
    by_cases y : pb = true ∧ i = p
    · rw [if_pos y, if_pos ⟨rfl, y⟩]
    · rw [if_neg y, if_neg (fun e => y e.2)]
  have v73n : ∀ i, i ≠ c → ¬ (pb = true ∧ i = p) → t' 73 i = t 73 i := fun i hi hn => by rw [v73 i hi, if_neg hn]
  have hpc : pb = true → p < c := fun y => by
    rcases wpar with ⟨-, e⟩ | ⟨e, -, q, -⟩
    · rw [y] at e; exact absurd e (by decide)
    · exact q
  -- the parent's guard and count
  have hpg : pb = true → ∃ g n, g < cn t 30 ∧ t 65 p = nI g ∧ t 73 p = nI n ∧ n < 6 ∧ (t 31 g = 8 → t 78 p = 1) ∧ (t 31 g ≠ 4 → n < 2) ∧ (t 31 g ≠ 4 → t 31 g ≠ 5 → t 31 g ≠ 6 → n < 1) ∧ (t 31 g = 6 → fb = if n = 1 then 1 else 0) := fun y => by
    rcases wpar with ⟨-, e⟩ | ⟨e, -, q1, q2, q3, q4, q5, q6⟩
    · rw [y] at e; exact absurd e (by decide)
    · obtain ⟨h', i1, i2, i3, -⟩ := h.iT T (Or.inl wT2)
      have : h' = hh := (nI_eq (by omega) (by omega)).mp (i2.symm.trans wT3)
      subst this
      obtain ⟨g, hg, eg⟩ := i3 e q5
      have e65 := q6.trans eg
      obtain ⟨u1, n, u2, u3, u4, u5, u6⟩ := (wp y).2.2 g hg e65
      exact ⟨g, n, hg, e65, u2, u3, u1, u4, u5, u6⟩
  have p31 : pb = true → ∃ n, t 73 p = nI n ∧ n < 6 ∧ N.1 31 p 0 = nI n := fun y => by
    obtain ⟨g, n, -, -, q1, q2, -⟩ := hpg y
    exact ⟨n, q1, q2, (h.I (31, 0, 73, 61) (by decide) p (by rw [hcd]; exact hpc y)).trans q1⟩
  have hL : I_L t' := by
    have one : ∀ k, k < c → t 69 k = 0 → t 78 k = 1 → lv = 1 → t 65 k = gv → (∀ o1 o2, o1 < cn t 50 → o2 < cn t 50 → t 62 k = nI o1 → nI o = nI o2 → t 52 o1 = t 52 o2 ∧ t 53 o1 = t 53 o2 ∧ t 54 o1 = t 54 o2) → False := by
      intro k hk e1 e2 e3 e4 e5
      obtain ⟨g, hg, eg, y⟩ := hlv.2 e3
      rcases wj2 g hg eg y with ⟨-, -, q⟩ | ⟨q, -⟩
      · obtain ⟨o1, -, -, -, ho1, eo1, -⟩ := h.iC k (by omega)
        exact q k hk e1 e2 e4 o1 ho1 eo1 (e5 o1 o ho1 wo eo1 rfl)
      · exact absurd (q.symm.trans e3) (by decide)
    intro k l hk hl k0 l0 k1 l1 e65 hlk
    rw [c61] at hk hl
    rw [hcn 50 (by decide), ht 52 (by decide), ht 53 (by decide), ht 54 (by decide)] at hlk
    by_cases ek : k = c
    · by_cases el : l = c
      · rw [ek, el]
      · exfalso
        subst ek
        rw [vn 78 (by decide) (by decide)] at k1
        rw [vn 65 (by decide) (by decide), vo 65 (by decide) (by decide) (by decide) l el] at e65
        rw [vo 69 (by decide) (by decide) (by decide) l el] at l0
        rw [vo 78 (by decide) (by decide) (by decide) l el] at l1
        rw [vn 62 (by decide) (by decide), vo 62 (by decide) (by decide) (by decide) l el] at hlk
        exact one l (by omega) l0 l1 k1 e65.symm (fun o1 o2 h1 h2 e1 e2 => by
          obtain ⟨u1, u2, u3⟩ := hlk o2 o1 h2 h1 e2 e1
          exact ⟨u1.symm, u2.symm, u3.symm⟩)
    · by_cases el : l = c
      · exfalso
        subst el
        rw [vn 78 (by decide) (by decide)] at l1
        rw [vn 65 (by decide) (by decide), vo 65 (by decide) (by decide) (by decide) k ek] at e65
        rw [vo 69 (by decide) (by decide) (by decide) k ek] at k0
        rw [vo 78 (by decide) (by decide) (by decide) k ek] at k1
        rw [vn 62 (by decide) (by decide), vo 62 (by decide) (by decide) (by decide) k ek] at hlk
        exact one k (by omega) k0 k1 l1 e65 hlk
      · rw [vo 69 (by decide) (by decide) (by decide) k ek] at k0
        rw [vo 69 (by decide) (by decide) (by decide) l el] at l0
        rw [vo 78 (by decide) (by decide) (by decide) k ek] at k1
        rw [vo 78 (by decide) (by decide) (by decide) l el] at l1
        rw [vo 65 (by decide) (by decide) (by decide) k ek, vo 65 (by decide) (by decide) (by decide) l el] at e65
        rw [vo 62 (by decide) (by decide) (by decide) k ek, vo 62 (by decide) (by decide) (by decide) l el] at hlk
        exact h.iL k l (by omega) (by omega) k0 l0 k1 l1 e65 hlk
  have hRR : I_R t' := by
    have one : ∀ l, l < c → t 64 l = -1 → (if pb then nI p else -1) = (-1 : Int32) → nI o = t 62 l → False := by
      intro l hl e1 e2 e3
      cases hpb : pb
      · exact wroot hpb l hl e1 e3.symm
      · rw [hpb] at e2
        have := hpc hpb
        exact nI_m1 (by omega) e2
    intro k l hk hl k0 l0 e
    rw [c61] at hk hl
    by_cases ek : k = c
    · by_cases el : l = c
      · rw [ek, el]
      · exfalso
        subst ek
        rw [vn 64 (by decide) (by decide)] at k0
        rw [vn 62 (by decide) (by decide), vo 62 (by decide) (by decide) (by decide) l el] at e
        rw [vo 64 (by decide) (by decide) (by decide) l el] at l0
        exact one l (by omega) l0 k0 e
    · by_cases el : l = c
      · exfalso
        subst el
        rw [vn 64 (by decide) (by decide)] at l0
        rw [vn 62 (by decide) (by decide), vo 62 (by decide) (by decide) (by decide) k ek] at e
        rw [vo 64 (by decide) (by decide) (by decide) k ek] at k0
        exact one k (by omega) k0 l0 e.symm
      · rw [vo 64 (by decide) (by decide) (by decide) k ek] at k0
        rw [vo 64 (by decide) (by decide) (by decide) l el] at l0
        rw [vo 62 (by decide) (by decide) (by decide) k ek, vo 62 (by decide) (by decide) (by decide) l el] at e
        exact h.iR k l (by omega) (by omega) k0 l0 e
  exact ⟨hL, hRR⟩
theorem newC_G {X : Mem} {m z : Nat} {P : List Nat} {N N' : Mem} {t t' : DB} {c o d p : Nat} {pb : Bool} {gv sv fb jv lv : Int32} (h : SZ X m z P 100000 N t) (hcd : cn t 61 = c) (a : NCt t t' c o d pb p gv sv jv lv) (b : NCn N N' t c o d pb p gv sv fb jv) (w : NCp t c o d pb p gv sv fb jv lv) (hU : sumTo c (remC t') + remC t' c + c + 1 ≤ 67 * cn t 50) : I_U c t' ∧ I_D t' ∧ I_J P t' := by
  obtain ⟨ht, a61, av⟩ := a
  obtain ⟨hf, i21', i14, r21, i31, r31, i30, r30, x21, x30, rm1, rm2, rm3⟩ := b
  obtain ⟨wo, ⟨T, hh, wT1, wT2, wT3, wT4, wd, wpar, wg⟩, wroot, wp, wj1, wj2⟩ := w
  have i21 : ∀ i f, f ≠ 14 → N'.1 21 i f = if i = c then nW c d sv (t 0 0) f else if f = 10 ∧ pb = true ∧ i = p then fb else N.1 21 i f := i21'
  have h50 : cn t 50 ≤ 60 := h.iB.2.2.2.2.2.1.2
  have hc : c ≤ 4019 := by omega
  have hcl : (nI c).toNatClampNeg = c := nI_clamp (by omega)
  have hcl1 : (nI (c + 1)).toNatClampNeg = c + 1 := nI_clamp (by omega)
  have t61 : t' 61 0 = nI (c + 1) := by rw [a61]; exact up_s
  have c61 : cn t' 61 = c + 1 := by unfold cn; rw [t61, hcl1]
  have hcn : ∀ q, q ∉ CC → cn t' q = cn t q := fun q hq => ht.cn hq
  have hg24 : cn t 30 ≤ 24 := h.iB.2.2.2.1.2
  have e30 : cn t' 30 = cn t 30 := hcn 30 (by decide)
  have e31 := ht 31 (by decide)
  -- the table's values
  have vn : ∀ f, 62 ≤ f → f ≤ 79 → t' f c = nV o d (if pb then nI p else -1) gv sv (t 0 0) jv lv f := fun f h1 h2 => by rw [av f h1 h2, if_pos rfl]
  have vo : ∀ f, 62 ≤ f → f ≤ 79 → f ≠ 73 → ∀ i, i ≠ c → t' f i = t f i := fun f h1 h2 h3 i hi => by rw [av f h1 h2, if_neg hi, if_neg (fun e => h3 e.1)]
  have v73 : ∀ i, i ≠ c → t' 73 i = if pb = true ∧ i = p then t 73 p + 1 else t 73 i := fun i hi => by
    rw [av 73 (by decide) (by decide), if_neg hi]
    by_cases y : pb = true ∧ i = p
    · rw [if_pos y, if_pos ⟨rfl, y⟩]
    · rw [if_neg y, if_neg (fun e => y e.2)]
  have v73n : ∀ i, i ≠ c → ¬ (pb = true ∧ i = p) → t' 73 i = t 73 i := fun i hi hn => by rw [v73 i hi, if_neg hn]
  have hpc : pb = true → p < c := fun y => by
    rcases wpar with ⟨-, e⟩ | ⟨e, -, q, -⟩
    · rw [y] at e; exact absurd e (by decide)
    · exact q
  -- the parent's guard and count
  have hpg : pb = true → ∃ g n, g < cn t 30 ∧ t 65 p = nI g ∧ t 73 p = nI n ∧ n < 6 ∧ (t 31 g = 8 → t 78 p = 1) ∧ (t 31 g ≠ 4 → n < 2) ∧ (t 31 g ≠ 4 → t 31 g ≠ 5 → t 31 g ≠ 6 → n < 1) ∧ (t 31 g = 6 → fb = if n = 1 then 1 else 0) := fun y => by
    rcases wpar with ⟨-, e⟩ | ⟨e, -, q1, q2, q3, q4, q5, q6⟩
    · rw [y] at e; exact absurd e (by decide)
    · obtain ⟨h', i1, i2, i3, -⟩ := h.iT T (Or.inl wT2)
      have : h' = hh := (nI_eq (by omega) (by omega)).mp (i2.symm.trans wT3)
      subst this
      obtain ⟨g, hg, eg⟩ := i3 e q5
      have e65 := q6.trans eg
      obtain ⟨u1, n, u2, u3, u4, u5, u6⟩ := (wp y).2.2 g hg e65
      exact ⟨g, n, hg, e65, u2, u3, u1, u4, u5, u6⟩
  have p31 : pb = true → ∃ n, t 73 p = nI n ∧ n < 6 ∧ N.1 31 p 0 = nI n := fun y => by
    obtain ⟨g, n, -, -, q1, q2, -⟩ := hpg y
    exact ⟨n, q1, q2, (h.I (31, 0, 73, 61) (by decide) p (by rw [hcd]; exact hpc y)).trans q1⟩
  have hIU : I_U c t' := by
    obtain ⟨u1, u2, u3, u4⟩ := h.iU
    rw [hcd] at u1 u2 u3 u4
    have e1 : sumTo c (undW t' c) ≤ sumTo c (undW t 100000) := sumTo_le (fun i hi => by
      unfold undW
      by_cases y : t' 69 i = 0 ∧ i ≠ c
      · rw [vo 69 (by decide) (by decide) (by decide) i (by omega)] at y
        rw [vo 69 (by decide) (by decide) (by decide) i (by omega), if_pos y, if_pos ⟨y.1, by omega⟩]
        exact Nat.le_refl _
      · rw [if_neg y]; exact Nat.zero_le _)
    have e2 : sumTo (c + 1) (undW t' c) = sumTo c (undW t' c) := by
      show sumTo c (undW t' c) + undW t' c c = _
      have : undW t' c c = 0 := if_neg (fun y => y.2 rfl)
      omega
    have e3 : sumTo (c + 1) (remC t') = sumTo c (remC t') + remC t' c := rfl
    unfold I_U
    rw [c61, e2, e3, hcn 50 (by decide), hcn 23 (by decide), hcn 17 (by decide), hcn 82 (by decide)]
    omega
  have hD : I_D t' := by
    intro i hi g hg e
    rw [c61] at hi
    rw [e30] at hg
    rw [e31]
    by_cases ei : i = c
    · rw [ei, vn 73 (by decide) (by decide), vn 76 (by decide) (by decide)]
      exact ⟨0, rfl, by decide, fun _ => by decide, fun _ _ _ => by decide, fun _ => by decide⟩
    · rw [vo 65 (by decide) (by decide) (by decide) i ei] at e
      rw [vo 76 (by decide) (by decide) (by decide) i ei, v73 i ei]
      by_cases y : pb = true ∧ i = p
      · obtain ⟨g', n', q0, q1, q2, q3, -, q5, q6, -⟩ := hpg y.1
        rw [← y.2] at q1
        have : g = g' := (nI_eq (by omega) (by omega)).mp (e.symm.trans q1)
        subst this
        have h76 := (wp y.1).2.1
        rw [if_pos y, q2, nI_1, y.2, h76]
        exact ⟨n' + 1, rfl, by omega, fun z1 => by have := q5 z1; omega, fun z1 z2 z3 => by have := q6 z1 z2 z3; omega, fun z1 => absurd z1 (by decide)⟩
      · rw [if_neg y]
        exact h.iD i (by omega) g hg e
  have hJ : I_J P t' := by
    intro k hk
    obtain ⟨j1, j2⟩ := h.J k hk
    rw [c61, vo 69 (by decide) (by decide) (by decide) k (by omega)]
    exact ⟨by omega, j2⟩
  exact ⟨hIU, hD, hJ⟩
theorem SZ.newC {X : Mem} {m z : Nat} {P : List Nat} {N N' : Mem} {t t' : DB} {c o d p : Nat} {pb : Bool} {gv sv fb jv lv : Int32} (h : SZ X m z P 100000 N t) (hcd : cn t 61 = c) (a : NCt t t' c o d pb p gv sv jv lv) (b : NCn N N' t c o d pb p gv sv fb jv) (w : NCp t c o d pb p gv sv fb jv lv) (hU : sumTo c (remC t') + remC t' c + c + 1 ≤ 67 * cn t 50) : SZ X m z P c N' t' := by
  obtain ⟨hI, hR, hN⟩ := newC_A h hcd a b w hU
  obtain ⟨hl, hK, hS, hE, hC⟩ := newC_A2 h hcd a b w hU
  have hV := newC_B h hcd a b w hU
  obtain ⟨hO, hQ, hB, hM, hBd⟩ := newC_C h hcd a b w hU
  obtain ⟨hCC, hH, -, -⟩ := newC_D h hcd a b w hU
  have hZ := newC_E h hcd a b w hU
  obtain ⟨hL, hRR⟩ := newC_F h hcd a b w hU
  obtain ⟨hIU, hD, hJ⟩ := newC_G h hcd a b w hU
  have ht := a.1
  have hf := b.1
  have n4 := hf 4 (by decide)
  have hGT : S_GT N' t' := by
    intro g' hg' hs'
    rw [ht.cn (by decide)] at hg'
    rw [ht 31 (by decide)] at hs'
    have h50 : cn t 50 ≤ 60 := h.iB.2.2.2.2.2.1.2
    have c61 : cn t' 61 = c + 1 := by
      unfold cn
      rw [a.2.1, up_s, nI_clamp (by omega)]
    rw [(hf 10 (by decide)).2.1, c61]
    rcases h.GT g' hg' hs' with q | ⟨k, q1, q2⟩
    · exact Or.inl q
    · exact Or.inr ⟨k, by omega, q2⟩
  exact ⟨hI, hR, hN, hK, hS, hE, h.W.fr hf (by decide) ht (by decide), h.P1.fl ⟨n4.1, n4.2.2⟩ (hl 3 (by decide)) ht (by decide), h.P2.fl ⟨n4.1, n4.2.2⟩ (hl 4 (by decide)) ht (by decide), h.G.fl hf (by decide) (hl 5 (by decide)) ht (by decide), h.G0.fr hf (by decide) ht (by decide), h.G1.fr hf (by decide) ht (by decide), h.G2.fr hf (by decide) ht (by decide), h.G7.fr hf (by decide) ht (by decide), h.T.fr hf (by decide) ht (by decide), h.U.fl (hl 6 (by decide)) ht (by decide), hC, hV, hO, h.A.fl hf (by decide) (hl 13 (by decide)) ht (by decide), h.Y.fr hf (by decide) ht (by decide), hQ, hB, h.F.fr hf (by decide), hM, hBd, h.iG.fr ht (by decide), h.iT.fr ht (by decide), h.iO.fr ht (by decide), hCC, hH, hZ, hL, hRR, h.iX.fr ht (by decide), hIU, hD, h.iK.fr ht (by decide), h.iY.fr ht (by decide), hJ, hGT, h.H.fr hf (by decide) ht (by decide)⟩
