set_option maxRecDepth 100000
/-! what always holds of the reference's table -/
def bnd (t : DB) (f m : Nat) : Prop := t f 0 = nI (cn t f) ∧ cn t f ≤ m
def I_B (t : DB) : Prop := bnd t 1 8 ∧ bnd t 5 30 ∧ bnd t 11 30 ∧ bnd t 30 24 ∧ bnd t 47 10 ∧ bnd t 50 60 ∧ bnd t 61 4020 ∧ bnd t 23 4020 ∧ bnd t 17 4020 ∧ bnd t 89 12 ∧ bnd t 103 10 ∧ bnd t 82 4020
/-- guards: sort, kind named, numbers -/
def I_G (t : DB) : Prop := ∀ g, g < cn t 30 → ∃ s, s ≤ 9 ∧ t 31 g = nI s ∧ (∃ m, m ≤ 15 ∧ t 35 g = nI m) ∧
  (s = 0 → (t 36 g = 0 ∨ t 36 g = 1 ∨ t 36 g = 2) ∧ ∃ a, 1 ≤ a ∧ a ≤ 20 ∧ t 32 g = nI a) ∧ (s = 1 → (∃ b w, b ≤ 10 ∧ t 33 g = nI b ∧ w ≤ b ∧ t 40 g = nI w)) ∧
  (s = 3 ∨ s = 5 → ∃ a, 1 ≤ a ∧ a ≤ 1000 ∧ t 32 g = nI a) ∧ (s = 4 → ∃ a, 2 ≤ a ∧ a ≤ 6 ∧ t 32 g = nI a ∧ (t 34 g = 0 ∨ t 34 g = 1)) ∧
  (s = 6 → t 32 g = 0 ∨ (t 32 g = 1 ∧ ∃ i, i < cn t 1 ∧ t 33 g = nI i)) ∧ (s = 9 → ∃ b, b ≤ 15 ∧ t 33 g = nI b)
/-- towers (and the row, as the tenth): height, guards, no sort twice -/
def I_T (t : DB) : Prop := ∀ T, T < cn t 47 ∨ T = 10 → ∃ h, h ≤ 5 ∧ t 48 T = nI h ∧ (∀ d, d < h → ∃ g, g < cn t 30 ∧ t 49 (5 * T + d) = nI g) ∧ ∀ d e g f, d < h → e < h → d ≠ e → g < cn t 30 → f < cn t 30 → t 49 (5 * T + d) = nI g → t 49 (5 * T + e) = nI f → t 31 g ≠ t 31 f
def I_O (t : DB) : Prop := ∀ o, o < cn t 50 → (∃ T, T < cn t 47 ∧ t 51 o = nI T) ∧ (∃ s, s < cn t 1 ∧ t 52 o = nI s) ∧ (∃ a, a ≤ 2 ∧ t 53 o = nI a) ∧ (∃ v, v ≤ 1000000 ∧ t 54 o = nI v) ∧ ¬ t 55 o < 0
/-- calls: order, depth, the call they began in, guard or station -/
def I_C (t : DB) : Prop := ∀ c, c < cn t 61 → ∃ o T h d, o < cn t 50 ∧ t 62 c = nI o ∧ t 51 o = nI T ∧ T < cn t 47 ∧ t 48 T = nI h ∧ h ≤ 5 ∧ d ≤ h ∧ t 63 c = nI d ∧
  ((d = 0 ∧ t 64 c = -1) ∨ (∃ p e, p < c ∧ t 64 c = nI p ∧ t 62 p = nI o ∧ d = e + 1 ∧ t 63 p = nI e ∧ e < h ∧ t 65 p = t 49 (5 * T + e))) ∧
  ((t 65 c = -1 ∧ ∃ s, s < cn t 1 ∧ t 66 c = nI s) ∨ (d < h ∧ t 65 c = t 49 (5 * T + d) ∧ t 66 c = -1))
/-- calls: how they stand -/
def I_H (t : DB) : Prop := ∀ c, c < cn t 61 → (t 69 c = 0 ∨ t 69 c = 1 ∨ t 69 c = 2 ∨ t 69 c = 3) ∧ (t 69 c = 2 → ∃ f, f < cn t 23 ∧ t 70 c = nI f) ∧ (t 71 c = 0 ∨ t 71 c = 1) ∧ (t 69 c ≠ 1 → t 71 c = 0) ∧
  (t 75 c = 0 ∨ t 75 c = 1) ∧ (t 76 c = 0 ∨ t 76 c = 1) ∧ (t 77 c = 0 ∨ t 77 c = 1) ∧ (t 78 c = 0 ∨ t 78 c = 1) ∧ (t 79 c = 0 ∨ t 79 c = 1) ∧ (∃ n, n ≤ 6 ∧ t 73 c = nI n)
/-- what sorts of guards alone have -/
def I_Z (t : DB) : Prop := ∀ c, c < cn t 61 → (∀ g, g < cn t 30 → t 65 c = nI g → (t 31 g ≠ 0 → t 79 c = 0) ∧ (t 31 g ≠ 1 → t 75 c = 0 ∧ t 77 c = 0) ∧ (t 31 g ≠ 4 → t 76 c = 0) ∧ (t 31 g ≠ 8 → t 78 c = 0 ∧ t 74 c = -1) ∧
  (t 31 g = 8 → (t 78 c = 1 ∧ t 74 c = -1) ∨ (t 78 c = 0 ∧ t 73 c = 0 ∧ ∃ l, l < c ∧ t 74 c = nI l ∧ t 65 l = nI g ∧ t 78 l = 1 ∧ (∀ o p, o < cn t 50 → p < cn t 50 → t 62 c = nI o → t 62 l = nI p → t 52 o = t 52 p ∧ t 53 o = t 53 p ∧ t 54 o = t 54 p)))) ∧
  (t 65 c = -1 → t 73 c = 0 ∧ t 74 c = -1 ∧ t 75 c = 0 ∧ t 76 c = 0 ∧ t 77 c = 0 ∧ t 78 c = 0 ∧ t 79 c = 0)
/-- one leader under way for a guard and like orders -/
def I_L (t : DB) : Prop := ∀ k l, k < cn t 61 → l < cn t 61 → t 69 k = 0 → t 69 l = 0 → t 78 k = 1 → t 78 l = 1 → t 65 k = t 65 l → (∀ o p, o < cn t 50 → p < cn t 50 → t 62 k = nI o → t 62 l = nI p → t 52 o = t 52 p ∧ t 53 o = t 53 p ∧ t 54 o = t 54 p) → k = l
/-- a call under way: the one it began in is, too; and those beside it -/
def I_P (t : DB) : Prop := ∀ k, k < cn t 61 → t 69 k = 0 → ∀ p, p < cn t 61 → t 64 k = nI p → t 69 p = 0 ∧ ∀ g, g < cn t 30 → t 65 p = nI g → ∀ j, j < cn t 61 → j ≠ k → t 64 j = nI p → (t 31 g = 5 ∧ (t 69 j = 0 ∨ t 69 j = 2)) ∨ ((t 31 g = 4 ∨ t 31 g = 6) ∧ j < k ∧ t 69 j = 2)
/-- one first call an order -/
def I_R (t : DB) : Prop := ∀ k l, k < cn t 61 → l < cn t 61 → t 64 k = -1 → t 64 l = -1 → t 62 k = t 62 l → k = l
def I_X (t : DB) : Prop := ∀ f, f < cn t 23 → (∃ k, k ≤ 15 ∧ t 24 f = nI k) ∧ (t 28 f = -1 ∨ ∃ i, i < cn t 23 ∧ t 28 f = nI i) ∧ (t 29 f = -1 ∨ ∃ i, i < cn t 23 ∧ t 29 f = nI i)
/-- how many calls a tower may come to -/
def capL : List Nat → Nat
  | [] => 1
  | s :: l => 1 + (if s = 4 then 6 * capL l else if s = 5 then 2 * capL l else if s = 6 then capL l + 1 else capL l)
def srt (t : DB) (T h : Nat) : List Nat := (List.range h).map fun d => (t 31 (t 49 (5 * T + d)).toNatClampNeg).toNatClampNeg
def capD (t : DB) (c : Nat) : Nat := capL ((srt t (t 51 (t 62 c).toNatClampNeg).toNatClampNeg (t 48 (t 51 (t 62 c).toNatClampNeg).toNatClampNeg).toNatClampNeg).drop ((t 63 c).toNatClampNeg + 1))
def remC (t : DB) (c : Nat) : Nat := if t 65 c < 0 then 0 else
  let s := (t 31 (t 65 c).toNatClampNeg).toNatClampNeg
  let n := (t 73 c).toNatClampNeg
  if s = 4 then (6 - n) * capD t c else if s = 5 then (2 - n) * capD t c else if s = 6 then (if n = 0 then capD t c + 1 else if n = 1 then 1 else 0) else (1 - n) * capD t c
def undW (t : DB) (x c : Nat) : Nat := if t 69 c = 0 ∧ c ≠ x then 1 else 0
def I_U (x : Nat) (t : DB) : Prop := sumTo (cn t 61) (remC t) + cn t 61 ≤ 67 * cn t 50 ∧ cn t 23 + sumTo (cn t 61) (undW t x) ≤ cn t 61 ∧ cn t 17 + sumTo (cn t 61) (undW t x) ≤ cn t 61 ∧ cn t 82 + sumTo (cn t 61) (undW t x) ≤ cn t 61
/-- faults, slowness, plans, alarms, time -/
def I_Y (t : DB) : Prop := (∀ i, i < cn t 5 → ∃ k, k ≤ 15 ∧ t 10 i = nI k) ∧ (∀ p, p < cn t 89 → (∃ T, T < cn t 47 ∧ t 90 p = nI T) ∧ (∃ s, s < cn t 1 ∧ t 91 p = nI s) ∧ (∃ a, a ≤ 2 ∧ t 92 p = nI a) ∧ (∃ v, v ≤ 1000000 ∧ t 93 p = nI v) ∧ (∃ e, 1 ≤ e ∧ e ≤ 1000 ∧ t 94 p = nI e) ∧ (t 102 p = 0 ∨ t 102 p = 1))
/-- those taken back and not yet told -/
def I_J (P : List Nat) (t : DB) : Prop := ∀ c ∈ P, c < cn t 61 ∧ t 69 c = 3
/-- how many began within a call, by the sort of its guard -/
def I_D (t : DB) : Prop := ∀ c, c < cn t 61 → ∀ g, g < cn t 30 → t 65 c = nI g → ∃ n, t 73 c = nI n ∧ n ≤ 6 ∧ (t 31 g ≠ 4 → n ≤ 2) ∧ (t 31 g ≠ 4 → t 31 g ≠ 5 → t 31 g ≠ 6 → n ≤ 1) ∧ (t 76 c = 1 → n < 6)
/-- the time -/
def I_K (m : Nat) (t : DB) : Prop := ∃ T, t 0 0 = nI T ∧ T ≤ 100 * m ∧ m ≤ 100
