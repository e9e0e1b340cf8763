set_option maxRecDepth 100000
/-! THE RELATION between the component's memory N and the reference's table t -/
def cn (t : DB) (f : Nat) : Nat := (t f 0).toNatClampNeg
def rn (k : Nat) (x : Int32) : Nat × Nat := if x < 0 then (0, 0) else (k, x.toNatClampNeg)
def gn (t : DB) (x : Int32) : Nat × Nat := if x < 0 then (0, 0) else (10 + (t 31 x.toNatClampNeg).toNatClampNeg, x.toNatClampNeg)
def fk (k : Nat) : Prop := k = 2 ∨ k = 41 ∨ k = 44 ∨ k = 45 ∨ 100 ≤ k
/-- plain int fields: kind, field, column, counting column -/
def TI : List (Nat × Nat × Nat × Nat) := [(3, 0, 3, 1), (3, 1, 4, 1), (3, 2, 2, 1), (20, 1, 52, 50), (20, 2, 53, 50), (20, 3, 54, 50), (20, 4, 55, 50), (20, 5, 56, 50), (20, 9, 57, 50),
  (21, 1, 63, 61), (21, 2, 66, 61), (21, 3, 67, 61), (21, 9, 71, 61), (21, 11, 69, 61), (21, 13, 68, 61), (21, 15, 72, 61), (31, 0, 73, 61), (22, 1, 24, 23), (22, 2, 25, 23), (22, 3, 26, 23), (22, 4, 27, 23),
  (23, 0, 18, 17), (23, 1, 19, 17), (23, 2, 20, 17), (23, 3, 21, 17), (23, 4, 22, 17),
  (24, 0, 90, 89), (24, 1, 91, 89), (24, 2, 92, 89), (24, 3, 93, 89), (24, 4, 94, 89), (24, 5, 95, 89), (24, 6, 96, 89), (24, 7, 97, 89), (24, 8, 98, 89), (24, 9, 99, 89), (24, 10, 100, 89), (24, 11, 101, 89), (24, 12, 102, 89)]
/-- plain references: kind, field, kind referred to, column, counting column -/
def TR : List (Nat × Nat × Nat × Nat × Nat) := [(20, 6, 42, 51, 50), (21, 4, 20, 62, 61), (21, 5, 21, 64, 61), (21, 8, 21, 74, 61), (22, 5, 22, 28, 23), (22, 6, 22, 29, 23)]
/-- an object's own number: kind, counting column (field 0) -/
def TN : List (Nat × Nat) := [(20, 50), (21, 61), (22, 23)]
/-- lists whose i-th element is the i-th object: list, kind, counting column -/
def TK : List (Nat × Nat × Nat) := [(2, 3, 1), (7, 42, 47), (8, 20, 50), (9, 21, 61), (10, 22, 23), (11, 23, 17), (12, 24, 89)]
/-- lists' sizes: list, column, place -/
def TS : List (Nat × Nat × Nat) := [(2, 1, 0), (3, 5, 0), (4, 11, 0), (5, 30, 0), (6, 48, 10), (7, 47, 0), (8, 50, 0), (9, 61, 0), (10, 23, 0), (11, 17, 0), (12, 89, 0), (13, 103, 0)]
/-- from its count on, no object of a kind is there: kind, counting column -/
def TE : List (Nat × Nat) := [(3, 1), (42, 47), (20, 50), (21, 61), (31, 61), (22, 23), (23, 17), (24, 89), (10, 30), (11, 30), (12, 30), (13, 30), (14, 30), (15, 30), (16, 30), (17, 30), (18, 30), (19, 30), (32, 30), (46, 30), (47, 30), (48, 30), (25, 103), (26, 103), (27, 103), (28, 103)]
/-- counting columns -/
def TC : List Nat := [1, 50, 61, 23, 17, 89, 47, 30, 103]
def S_I (N : Mem) (t : DB) : Prop := ∀ q ∈ TI, ∀ i, i < cn t q.2.2.2 → N.1 q.1 i q.2.1 = t q.2.2.1 i
def S_R (N : Mem) (t : DB) : Prop := ∀ q ∈ TR, ∀ i, i < cn t q.2.2.2.2 → N.2.1 q.1 i q.2.1 = rn q.2.2.1 (t q.2.2.2.1 i)
def S_N (N : Mem) (t : DB) : Prop := ∀ q ∈ TN, ∀ i, i < cn t q.2 → N.1 q.1 i 0 = nI i
def S_K (N : Mem) (t : DB) : Prop := ∀ q ∈ TK, ∀ i, i < cn t q.2.2 → N.2.1 30 q.1 i = (q.2.1, i)
def S_S (N : Mem) (t : DB) : Prop := ∀ q ∈ TS, N.1 30 q.1 0 = t q.2.1 q.2.2
def S_E (N : Mem) (t : DB) : Prop := ∀ q ∈ TE, ∀ i, cn t q.2 ≤ i → N.2.2.1 q.1 i = 0
def S_W (N : Mem) (t : DB) : Prop := (∀ f, 2 ≤ f → f ≤ 13 → N.2.1 1 0 f = (30, f)) ∧ N.1 1 0 0 = t 0 0 ∧ N.1 1 0 1 = t 60 0
/-- faults and slowness: the list (column of its count), the first of its columns -/
def S_P (N : Mem) (t : DB) (l c b : Nat) : Prop := ∀ i, i < cn t c → ∃ p, N.2.1 30 l i = (4, p) ∧ N.2.2.1 4 p ≠ 0 ∧ N.1 4 p 0 = t b i ∧ N.1 4 p 1 = t (b + 1) i ∧ N.1 4 p 2 = t (b + 2) i ∧ N.1 4 p 3 = t (b + 3) i ∧ N.1 4 p 4 = t (b + 4) i
def lastf (s : Nat) : Nat := match s with
  | 0 => 11 | 1 => 10 | 2 => 8 | 7 => 10 | _ => 7
/-- guards -/
def S_G (N : Mem) (t : DB) : Prop := ∀ g, g < cn t 30 → ∃ s, s ≤ 9 ∧ t 31 g = nI s ∧ N.2.1 30 5 g = (10 + s, g) ∧ N.1 (10 + s) g 0 = nI g ∧ N.1 (10 + s) g 1 = t 31 g ∧ N.1 (10 + s) g 2 = t 32 g ∧ N.1 (10 + s) g 3 = t 33 g ∧ N.1 (10 + s) g 4 = t 34 g ∧ N.1 (10 + s) g 5 = t 35 g ∧ N.2.1 (10 + s) g 6 = (1, 0) ∧ N.2.1 (10 + s) g (lastf s) = (1, 0)
def S_G0 (N : Mem) (t : DB) : Prop := ∀ g, g < cn t 30 → t 31 g = 0 → N.1 10 g 7 = t 36 g ∧ N.1 10 g 8 = t 37 g ∧ N.1 10 g 9 = t 38 g
/-- a fuse's trial is a call that is there, or none -/
def S_GT (N : Mem) (t : DB) : Prop := ∀ g, g < cn t 30 → t 31 g = 0 → N.2.1 10 g 10 = (0, 0) ∨ ∃ k, k < cn t 61 ∧ N.2.1 10 g 10 = (21, k)
def S_G1 (N : Mem) (t : DB) : Prop := ∀ g, g < cn t 30 → t 31 g = 1 → N.2.1 11 g 7 = (32, g) ∧ N.1 11 g 8 = t 39 g ∧ N.1 11 g 9 = t 41 g ∧ N.1 32 g 0 = t 40 g ∧ ∀ j, j < (t 40 g).toNatClampNeg → N.2.1 32 g j = rn 21 (t 43 (10 * g + j))
def S_G2 (N : Mem) (t : DB) : Prop := ∀ g, g < cn t 30 → t 31 g = 2 → N.1 12 g 7 = t 42 g
def S_G7 (N : Mem) (t : DB) : Prop := ∀ g, g < cn t 30 → t 31 g = 7 → N.2.1 17 g 7 = (46, g) ∧ N.2.1 17 g 8 = (47, g) ∧ N.2.1 17 g 9 = (48, g) ∧ N.2.2.1 46 g = 9 ∧ N.2.2.1 47 g = 9 ∧ N.2.2.1 48 g = 9 ∧ ∀ s, s < 8 → N.1 47 g s = t 45 (8 * g + s) ∧ ((t 45 (8 * g + s) = -1 ∧ N.1 46 g s = -1) ∨ (0 ≤ t 45 (8 * g + s) ∧ N.1 46 g s = t 44 (8 * g + s) ∧ N.1 48 g s = t 46 (8 * g + s) ∧ (t 46 (8 * g + s) = 0 ∨ t 46 (8 * g + s) = 1)))
/-- towers, and the row -/
def S_T (N : Mem) (t : DB) : Prop := ∀ T, T < cn t 47 → N.2.2.1 42 T = (t 48 T).toNatClampNeg + 1 ∧ ∀ d, d < (t 48 T).toNatClampNeg → N.2.1 42 T d = gn t (t 49 (5 * T + d))
def S_U (N : Mem) (t : DB) : Prop := ∀ d, d < (t 48 10).toNatClampNeg → N.2.1 30 6 d = gn t (t 49 (50 + d))
/-- calls: guard, inner list, what came of it -/
def S_C (N : Mem) (t : DB) : Prop := ∀ c, c < cn t 61 → N.2.1 21 c 6 = gn t (t 65 c) ∧ N.2.1 21 c 7 = (31, c) ∧ N.1 21 c 12 = (if t 69 c = 1 then t 70 c else -1) ∧ N.2.1 21 c 16 = (if t 69 c = 2 then rn 22 (t 70 c) else (0, 0))
/-- inner calls, in order -/
def S_V (N : Mem) (t : DB) : Prop := ∀ c, c < cn t 61 → (∀ j, j < (t 73 c).toNatClampNeg → ∃ k, k < cn t 61 ∧ N.2.1 31 c j = (21, k) ∧ t 64 k = nI c) ∧ (∀ k, k < cn t 61 → t 64 k = nI c → ∃ j, j < (t 73 c).toNatClampNeg ∧ N.2.1 31 c j = (21, k)) ∧ (∀ i j k l, i < j → j < (t 73 c).toNatClampNeg → N.2.1 31 c i = (21, k) → N.2.1 31 c j = (21, l) → k < l) ∧ (∀ g, g < cn t 30 → t 65 c = nI g → t 31 g = 6 → N.1 21 c 10 = (if t 73 c = 2 then 1 else 0))
/-- orders but for z: their first call, whether cancelled -/
def S_O (z : Nat) (N : Mem) (t : DB) : Prop := ∀ o, o < cn t 50 → o ≠ z → N.1 20 o 8 = (if t 58 o = 4 then 1 else 0) ∧ ∃ c, c < cn t 61 ∧ N.2.1 20 o 7 = (21, c) ∧ t 62 c = nI o ∧ t 64 c = -1 ∧ ((t 58 o = 4 ∧ t 69 c = 3) ∨ ((t 69 c = 0 ∧ t 58 o = 0) ∨ (t 69 c = 1 ∧ t 58 o = (if t 71 c = 1 then 3 else 1) ∧ t 59 o = t 70 c) ∨ (t 69 c = 2 ∧ t 58 o = 2 ∧ t 59 o = t 70 c)))
def S_A (N : Mem) (t : DB) : Prop := ∀ a, a < cn t 103 → ∃ s, s ≤ 3 ∧ t 104 a = nI s ∧ N.2.1 30 13 a = (25 + s, a) ∧ N.1 (25 + s) a 0 = t 109 a ∧ N.1 (25 + s) a 1 = t 107 a ∧ N.1 (25 + s) a 2 = t 108 a ∧ N.2.1 (25 + s) a 3 = (1, 0) ∧ (t 109 a = 0 ∨ t 109 a = 1) ∧
  (s = 0 → ∃ g, g < cn t 30 ∧ t 105 a = nI g ∧ t 31 g = 0 ∧ N.2.1 25 a 4 = (10, g)) ∧ (s = 1 → ∃ i, i < cn t 1 ∧ t 105 a = nI i ∧ N.2.1 26 a 4 = (3, i) ∧ N.1 26 a 5 = t 106 a) ∧ (s = 2 → ∃ g, g < cn t 30 ∧ t 105 a = nI g ∧ t 31 g = 1 ∧ N.2.1 27 a 4 = (11, g) ∧ N.1 27 a 5 = t 106 a) ∧ (s = 3 → N.1 28 a 4 = t 106 a ∧ N.2.1 28 a 5 = (1, 0))
def S_Y (N : Mem) (t : DB) : Prop := ∀ p, p < cn t 89 → N.2.1 24 p 13 = (1, 0)
/-- who is still to be reckoned with: under way but for x, or taken back and not yet told -/
def lvv (t : DB) (P : List Nat) (x c : Nat) : Prop := (t 69 c = 0 ∧ c ≠ x) ∨ c ∈ P
def stOf (t : DB) (c : Nat) : Int32 := if t 75 c = 1 then 1 else if t 76 c = 1 then 2 else if t 74 c < 0 then 0 else 3
def S_Q (P : List Nat) (x : Nat) (N : Mem) (t : DB) : Prop := ∀ c, c < cn t 61 → lvv t P x c → N.1 21 c 14 = stOf t c ∧ ∀ g, t 65 c = nI g → g < cn t 30 →
  (t 31 g = 0 → (t 79 c = 1 → t 36 g = 2) ∧ (t 79 c = 1 ↔ N.2.1 10 g 10 = (21, c))) ∧
  (t 31 g = 1 → (t 75 c = 1 ∧ t 77 c = 0 ∧ ∃ j, j < (t 40 g).toNatClampNeg ∧ t 43 (10 * g + j) = nI c) ∨ (t 75 c = 0 ∧ t 77 c = 1))
/-- queues hold calls that wait, each once -/
def S_B (P : List Nat) (x : Nat) (t : DB) : Prop := ∀ g, g < cn t 30 → t 31 g = 1 → ∀ j, j < (t 40 g).toNatClampNeg → ∃ c, c < cn t 61 ∧ t 43 (10 * g + j) = nI c ∧ t 65 c = nI g ∧ t 75 c = 1 ∧ t 73 c = 0 ∧ lvv t P x c ∧ ∀ i, i < j → t 43 (10 * g + i) ≠ nI c
/-- what is not ours to change: the script and the reference's, and lists of a taking back that is under way -/
def S_F (X N : Mem) : Prop := (∀ k, fk k → N.1 k = X.1 k ∧ N.2.1 k = X.2.1 k ∧ N.2.2.1 k = X.2.2.1 k) ∧ ∀ i, X.2.2.1 33 i ≠ 0 → N.1 33 i = X.1 33 i ∧ N.2.1 33 i = X.2.1 33 i ∧ N.2.2.1 33 i = X.2.2.1 33 i
/-- the room: m calls of the law's so far -/
def S_M (m : Nat) (N : Mem) (t : DB) : Prop := N.2.2.2.1 ≤ 2000 + 100 * m + 20 * (cn t 61 + cn t 23 + cn t 17 + cn t 82 + cn t 50) ∧ N.2.2.2.2 ≤ 300000 + 20 * N.2.2.2.1
theorem TI_u : ∀ q ∈ TI, ∀ r ∈ TI, ((q.1 = r.1 ∧ q.2.1 = r.2.1) ↔ q.2.2.1 = r.2.2.1) := by decide
theorem TI_c : ∀ q ∈ TI, ∀ r ∈ TI, q.2.2.1 ≠ r.2.2.2 := by decide
theorem TR_u : ∀ q ∈ TR, ∀ r ∈ TR, ((q.1 = r.1 ∧ q.2.1 = r.2.1) ↔ q.2.2.2.1 = r.2.2.2.1) := by decide
theorem TR_c : ∀ q ∈ TR, ∀ r ∈ TR, q.2.2.2.1 ≠ r.2.2.2.2 := by decide
theorem cn_up {t : DB} {f i g : Nat} {v : Int32} (h : f ≠ g) : cn (up t f i v) g = cn t g := by
  unfold cn; rw [up_f (fun e => h e.symm)]
theorem S_I.wu {N : Mem} {t : DB} (h : S_I N t) (q : Nat × Nat × Nat × Nat) (hq : q ∈ TI) (i : Nat) (v : Int32) : S_I (sI N q.1 i q.2.1 v) (up t q.2.2.1 i v) := by
  intro r hr j hj
  rw [cn_up (TI_c q hq r hr)] at hj
  have hu := TI_u r hr q hq
  show (if _ then _ else _) = _
  by_cases e : r.2.2.1 = q.2.2.1
  · have e2 := hu.mpr e
    by_cases e3 : j = i
    · rw [if_pos ⟨e2.1, e3, e2.2⟩, e, e3, up_s]
    · rw [if_neg (fun z => e3 z.2.1), up_n (fun z => e3 z.2)]
      exact h r hr j hj
  · rw [if_neg (fun z => e (hu.mp ⟨z.1, z.2.2⟩)), up_f e]
    exact h r hr j hj
theorem S_I.wn {N : Mem} {t : DB} (h : S_I N t) (k i f : Nat) (v : Int32) (hn : ∀ q ∈ TI, ¬ (q.1 = k ∧ q.2.1 = f)) : S_I (sI N k i f v) t := by
  intro r hr j hj
  show (if _ then _ else _) = _
  rw [if_neg (fun z => hn r hr ⟨z.1, z.2.2⟩)]
  exact h r hr j hj
theorem S_I.wt {N : Mem} {t : DB} (h : S_I N t) (c i : Nat) (v : Int32) (hn : ∀ q ∈ TI, q.2.2.1 ≠ c ∧ q.2.2.2 ≠ c) : S_I N (up t c i v) := by
  intro r hr j hj
  rw [cn_up (fun e => (hn r hr).2 e.symm)] at hj
  rw [up_f (hn r hr).1]
  exact h r hr j hj
/-- what each kind of failure is right under -/
def aboveV (j : Nat) : Int32 := if j = 0 then -1 else if j = 1 ∨ j = 4 ∨ j = 8 ∨ j = 14 then 0 else if j < 4 then 1 else if j < 8 then 4 else if j < 14 then 8 else 14
def S_H (N : Mem) (_t : DB) : Prop := N.2.2.1 44 0 = 17 ∧ ∀ j, j < 16 → N.1 44 0 j = aboveV j
