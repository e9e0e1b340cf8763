set_option maxRecDepth 100000
/-! how both make the new call -/
def blk (t : DB) (c : Nat) (V : Nat → Int32) (a b : Nat) : DB := fun f i => if a ≤ f ∧ f < b ∧ i = c then V f else t f i
theorem blk_0 {t : DB} {c : Nat} {V : Nat → Int32} {a : Nat} : blk t c V a a = t := by
  funext f i
  exact if_neg (by omega)
theorem blk_s {t : DB} {c : Nat} {V : Nat → Int32} {a b : Nat} {v : Int32} (hab : a ≤ b) (hv : V b = v) : up (blk t c V a b) b c v = blk t c V a (b + 1) := by
  funext f i
  show (if _ then _ else if _ then _ else _) = if _ then _ else _
  by_cases e : f = b ∧ i = c
  · rw [if_pos e, if_pos (by omega), e.1, hv]
  · rw [if_neg e]
    by_cases y : a ≤ f ∧ f < b ∧ i = c
    · rw [if_pos y, if_pos (by omega)]
    · rw [if_neg y, if_neg (by omega)]
def nCm (t : DB) (c o d : Nat) (pb : Bool) (p : Nat) (gv sv : Int32) : DB := if pb then up (blk (up t 61 0 (nI (c + 1))) c (nV o d (nI p) gv sv (t 0 0) (-1) 0) 62 80) 73 p (t 73 p + 1) else blk (up t 61 0 (nI (c + 1))) c (nV o d (-1) gv sv (t 0 0) (-1) 0) 62 80
theorem nCm_t {t : DB} {c o d p : Nat} {pb : Bool} {gv sv : Int32} (hp : pb = true → p < c) : NCt t (nCm t c o d pb p gv sv) c o d pb p gv sv (-1) 0 := by
  cases pb
  · refine ⟨fun f hf => ?_, ?_, fun f h1 h2 i => ?_⟩
    · funext i
      have : ¬ (62 ≤ f ∧ f < 80) ∧ f ≠ 61 := by simp only [CC, List.mem_cons, List.not_mem_nil, or_false, not_or] at hf; omega
      show (if _ then _ else up t 61 0 _ f i) = t f i
      rw [if_neg (by omega), up_f this.2]
    · funext i
      have : ∀ V, blk (up t 61 0 (nI (c + 1))) c V 62 80 61 i = up t 61 0 (nI (c + 1)) 61 i := fun V => if_neg (by omega)
      exact this (nV o d (-1) gv sv (t 0 0) (-1) 0)
    · show (if 62 ≤ f ∧ f < 80 ∧ i = c then _ else up t 61 0 _ f i) = _
      by_cases e : i = c
      · rw [if_pos (by omega), if_pos e]; rfl
      · rw [if_neg (by omega), if_neg e, if_neg (by simp), up_f (by omega)]
  · have hpc := hp rfl
    refine ⟨fun f hf => ?_, ?_, fun f h1 h2 i => ?_⟩
    · funext i
      have : ¬ (62 ≤ f ∧ f < 80) ∧ f ≠ 61 ∧ f ≠ 73 := by simp only [CC, List.mem_cons, List.not_mem_nil, or_false, not_or] at hf; omega
      show (if _ then _ else if _ then _ else up t 61 0 _ f i) = t f i
      rw [if_neg (by omega), if_neg (by omega), up_f this.2.1]
    · funext i
      have : ∀ V, blk (up t 61 0 (nI (c + 1))) c V 62 80 61 i = up t 61 0 (nI (c + 1)) 61 i := fun V => if_neg (by omega)
      show up (blk (up t 61 0 (nI (c + 1))) c (nV o d (nI p) gv sv (t 0 0) (-1) 0) 62 80) 73 p (t 73 p + 1) 61 i = _
      rw [up_f (by decide)]
      exact this (nV o d (nI p) gv sv (t 0 0) (-1) 0)
    · show (if f = 73 ∧ i = p then _ else if 62 ≤ f ∧ f < 80 ∧ i = c then _ else up t 61 0 _ f i) = _
      by_cases e : i = c
      · rw [if_neg (by omega), if_pos (by omega), if_pos e]; rfl
      · rw [if_neg e]
        by_cases y : f = 73 ∧ i = p
        · rw [if_pos y, if_pos ⟨y.1, rfl, y.2⟩]
        · rw [if_neg y, if_neg (by omega), if_neg (fun q => y ⟨q.1, q.2.2⟩), up_f (by omega)]
theorem w_beg97 {t : DB} {T0 : DB} {c o d p : Nat} {pb : Bool} {gv sv : Int32} {Q : DB → Prop} (hT : T0 = up t 61 0 (nI (c + 1))) (hc : c < 4400) (hp : pb = true → p < c)
    (h : w_begins_219 (nI o) (nI c) gv (nCm t c o d pb p gv sv) Q) : w_begins_97 (nI o) (if pb then nI p else -1) (nI c) gv sv (nI c) (blk T0 c (nV o d (if pb then nI p else -1) gv sv (t 0 0) (-1) 0) 62 66) Q := by
  have vc : vp_in (nI c) 4400 := vp_in_nI hc (by decide)
  have cc : (nI c).toNatClampNeg = c := nI_clamp (by omega)
  have z0 : ∀ b, b ≤ 80 → ∀ V, blk T0 c V 62 b 0 0 = t 0 0 := fun b hb V => by
    show (if _ then _ else T0 0 0) = _
    rw [if_neg (by omega), hT]; rfl
  unfold w_begins_97
  rw [cc]
  refine ⟨vc, fun t1 e1 => ?_⟩
  replace e1 := e1.trans (blk_s (by decide) rfl)
  subst e1
  rw [z0 67 (by decide)]
  refine ⟨vc, fun t1 e1 => ?_⟩
  replace e1 := e1.trans (blk_s (by decide) rfl)
  subst e1
  refine ⟨vc, fun t1 e1 => ?_⟩
  replace e1 := e1.trans (blk_s (by decide) rfl)
  subst e1
  refine ⟨vc, fun t1 e1 => ?_⟩
  replace e1 := e1.trans (blk_s (by decide) rfl)
  subst e1
  refine ⟨vc, fun t1 e1 => ?_⟩
  replace e1 := e1.trans (blk_s (by decide) rfl)
  subst e1
  refine ⟨vc, fun t1 e1 => ?_⟩
  replace e1 := e1.trans (blk_s (by decide) rfl)
  subst e1
  refine ⟨vc, fun t1 e1 => ?_⟩
  replace e1 := e1.trans (blk_s (by decide) rfl)
  subst e1
  refine ⟨vc, fun t1 e1 => ?_⟩
  replace e1 := e1.trans (blk_s (by decide) rfl)
  subst e1
  refine ⟨vc, fun t1 e1 => ?_⟩
  replace e1 := e1.trans (blk_s (by decide) rfl)
  subst e1
  refine ⟨vc, fun t1 e1 => ?_⟩
  replace e1 := e1.trans (blk_s (by decide) rfl)
  subst e1
  refine ⟨vc, fun t1 e1 => ?_⟩
  replace e1 := e1.trans (blk_s (by decide) rfl)
  subst e1
  refine ⟨vc, fun t1 e1 => ?_⟩
  replace e1 := e1.trans (blk_s (by decide) rfl)
  subst e1
  refine ⟨vc, fun t1 e1 => ?_⟩
  replace e1 := e1.trans (blk_s (by decide) rfl)
  subst e1
  refine ⟨vc, fun t1 e1 => ?_⟩
  replace e1 := e1.trans (blk_s (by decide) rfl)
  subst e1
  subst hT
  cases pb
  · exact ⟨fun _ => h, fun y => absurd (show (-1 : Int32) < 0 by decide) y⟩
  · have hpc := hp rfl
    have vp : vp_in (nI p) 4400 := vp_in_nI (by omega) (by decide)
    have cp : (nI p).toNatClampNeg = p := nI_clamp (by omega)
    refine ⟨fun y => absurd y (nI_pos (by omega)), fun _ => ⟨vp, vp, fun t1 e1 => ?_⟩⟩
    subst e1
    have e73 : (blk (up t 61 0 (nI (c + 1))) c (nV o d (nI p) gv sv (t 0 0) (-1) 0) 62 80) 73 p = t 73 p := by
      show (if _ then _ else up t 61 0 _ 73 p) = _
      rw [if_neg (by omega), up_f (by decide)]
    show w_begins_219 _ _ _ (up (blk (up t 61 0 (nI (c + 1))) c (nV o d (nI p) gv sv (t 0 0) (-1) 0) 62 80) 73 (nI p).toNatClampNeg ((blk (up t 61 0 (nI (c + 1))) c (nV o d (nI p) gv sv (t 0 0) (-1) 0) 62 80) 73 (nI p).toNatClampNeg + 1)) Q
    rw [cp, e73]
    exact h
theorem w_begins_s {t : DB} {c o d p : Nat} {pb : Bool} {at_ gv sv : Int32} {Q : DB → Prop} (h61 : t 61 0 = nI c) (hc : c < 4400) (ho : o < 60) (hp : pb = true → p < c)
    (hg : (¬ at_ < 0 ∧ gv = -1 ∧ sv = at_) ∨ (at_ < 0 ∧ ∃ T h, T < 10 ∧ h ≤ 5 ∧ t 51 o = nI T ∧ t 48 T = nI h ∧ ((h ≤ d ∧ d < 2 ^ 31 ∧ gv = -1 ∧ sv = t 52 o) ∨ (d < h ∧ gv = t 49 (5 * T + d) ∧ ¬ gv < 0 ∧ sv = -1))))
    (h : w_begins_219 (nI o) (nI c) gv (nCm t c o d pb p gv sv) Q) : w_begins (nI o) (nI d) (if pb then nI p else -1) at_ t Q := by
  have vc : vp_in (nI c) 4400 := vp_in_nI hc (by decide)
  have cc : (nI c).toNatClampNeg = c := nI_clamp (by omega)
  have vo : vp_in (nI o) 60 := vp_in_nI ho (by decide)
  have co : (nI o).toNatClampNeg = o := nI_clamp (by omega)
  have m1 : (-1 : Int32) < 0 := by decide
  have key : ((gv < 0 → (at_ < 0 → sv = t 52 o) ∧ (¬ at_ < 0 → sv = at_)) ∧ (¬ gv < 0 → sv = -1)) → w_begins_31 (nI o) (nI d) (if pb then nI p else -1) at_ (nI c) gv (up t 61 0 (nI (c + 1))) Q := by
    intro hk
    have e97 := w_beg97 (T0 := up t 61 0 (nI (c + 1))) rfl hc hp h
    unfold w_begins_31
    rw [cc]
    rw [← blk_0 (t := up t 61 0 (nI (c + 1))) (c := c) (V := nV o d (if pb then nI p else -1) gv sv (t 0 0) (-1) 0) (a := 62)]
    refine ⟨vc, fun t1 e1 => ?_⟩
    replace e1 := e1.trans (blk_s (by decide) rfl)
    subst e1
    refine ⟨vc, fun t1 e1 => ?_⟩
    replace e1 := e1.trans (blk_s (by decide) rfl)
    subst e1
    refine ⟨vc, fun t1 e1 => ?_⟩
    replace e1 := e1.trans (blk_s (by decide) rfl)
    subst e1
    refine ⟨vc, fun t1 e1 => ?_⟩
    replace e1 := e1.trans (blk_s (by decide) rfl)
    subst e1
    have z52 : (blk (up t 61 0 (nI (c + 1))) c (nV o d (if pb then nI p else -1) gv sv (t 0 0) (-1) 0) 62 66) 52 (nI o).toNatClampNeg = t 52 o := by
      rw [co]
      show (if _ then _ else up t 61 0 _ 52 o) = _
      rw [if_neg (by omega), up_f (by decide)]
    refine ⟨fun y => ⟨fun y2 => ⟨vo, ?_⟩, fun y2 => ?_⟩, fun y => ?_⟩
    · rw [z52, ← (hk.1 y).1 y2]; exact e97
    · rw [← (hk.1 y).2 y2]; exact e97
    · have hs := hk.2 y
      subst hs
      exact e97
  intro x1 ex1 t2 et2
  rw [h61] at ex1
  rw [h61, nI_1] at et2
  subst ex1; subst et2
  rcases hg with ⟨g1, g2, g3⟩ | ⟨g1, T, hh, hT, hh5, e51, e48, g2⟩
  · refine ⟨fun y => absurd y g1, fun _ => ?_⟩
    subst g2
    exact key ⟨fun _ => ⟨fun y => absurd y g1, fun _ => g3⟩, fun y => absurd m1 y⟩
  · refine ⟨fun _ => ?_, fun y => absurd g1 y⟩
    have vT : vp_in (nI T) 11 := vp_in_nI (by omega) (by decide)
    have cT : (nI T).toNatClampNeg = T := nI_clamp (by omega)
    refine ⟨vo, ?_⟩
    rw [co, show (up t 61 0 (nI (c + 1))) 51 o = nI T from e51, cT, show (up t 61 0 (nI (c + 1))) 48 T = nI hh from e48]
    refine ⟨vT, fun y => ?_, fun y => ?_⟩
    · rcases g2 with ⟨q1, q2, q3, q4⟩ | ⟨q1, q2, q3, q4⟩
      · subst q3
        exact key ⟨fun _ => ⟨fun _ => q4, fun y => absurd g1 y⟩, fun y => absurd m1 y⟩
      · exact absurd y (nI_ge q1 (by omega))
    · rcases g2 with ⟨q1, q2, q3, q4⟩ | ⟨q1, q2, q3, q4⟩
      · exact absurd (nI_le q1 (by omega)) y
      · have e5 : 5 * nI T + nI d = nI (5 * T + d) := by rw [show (5 : Int32) = nI 5 from rfl, pk_mul, nI_add]
        rw [e5, nI_clamp (by omega)]
        refine ⟨vo, vp_in_nI (by omega) (by decide), ?_⟩
        rw [show (up t 61 0 (nI (c + 1))) 49 (5 * T + d) = gv from q2.symm]
        exact key ⟨fun y => absurd y q3, fun _ => q4⟩
