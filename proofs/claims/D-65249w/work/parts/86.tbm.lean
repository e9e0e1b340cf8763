set_option maxRecDepth 100000
/-! taking back: the reference marks -/
/-- those under way below j that F names -/
def LF (t : DB) (F : Nat → Bool) : Nat → List Nat
  | 0 => []
  | j + 1 => if F j = true ∧ t 69 j = 0 then LF t F j ++ [j] else LF t F j
def tMk (t : DB) (F : Nat → Bool) : Nat → DB
  | 0 => t
  | j + 1 => if F j = true then (if t 69 j = 0 then up (up (up (up (up (tMk t F j) 80 j 1) 69 j 3) 68 j (t 0 0)) 81 (cn t 82 + (LF t F j).length) (nI j)) 82 0 (nI (cn t 82 + (LF t F j).length + 1)) else up (tMk t F j) 80 j 1) else up (tMk t F j) 80 j 0
theorem LF_s1 {t : DB} {F : Nat → Bool} {j : Nat} (h : F j = true ∧ t 69 j = 0) : LF t F (j + 1) = LF t F j ++ [j] := if_pos h
theorem LF_s0 {t : DB} {F : Nat → Bool} {j : Nat} (h : ¬ (F j = true ∧ t 69 j = 0)) : LF t F (j + 1) = LF t F j := if_neg h
theorem LF_mem {t : DB} {F : Nat → Bool} {k : Nat} : ∀ {j : Nat}, k ∈ LF t F j ↔ k < j ∧ F k = true ∧ t 69 k = 0
  | 0 => ⟨fun h => absurd h List.not_mem_nil, fun h => absurd h.1 (Nat.not_lt_zero _)⟩
  | j + 1 => by
    have ih := LF_mem (t := t) (F := F) (k := k) (j := j)
    by_cases q : F j = true ∧ t 69 j = 0
    · rw [LF_s1 q, List.mem_append, ih, List.mem_singleton]
      constructor
      · rintro (⟨a, b⟩ | a)
        · exact ⟨by omega, b⟩
        · subst a; exact ⟨by omega, q⟩
      · rintro ⟨a, b⟩
        by_cases e : k = j
        · exact Or.inr e
        · exact Or.inl ⟨by omega, b⟩
    · rw [LF_s0 q, ih]
      constructor
      · rintro ⟨a, b⟩; exact ⟨by omega, b⟩
      · rintro ⟨a, b⟩
        refine ⟨?_, b⟩
        by_cases e : k = j
        · subst e; exact absurd b q
        · omega
theorem LF_len {t : DB} {F : Nat → Bool} : ∀ {j n : Nat}, j ≤ n → (LF t F j).length ≤ (LF t F n).length
  | j, 0, h => by rw [show j = 0 from by omega]; exact Nat.le_refl _
  | j, n + 1, h => by
    by_cases e : j = n + 1
    · subst e; exact Nat.le_refl _
    · have ih := LF_len (t := t) (F := F) (j := j) (n := n) (by omega)
      by_cases q : F n = true ∧ t 69 n = 0
      · rw [LF_s1 q, List.length_append]; omega
      · rw [LF_s0 q]; exact ih
theorem LF_nd {t : DB} {F : Nat → Bool} : ∀ {j : Nat}, (LF t F j).Nodup
  | 0 => List.nodup_nil
  | j + 1 => by
    have ih := LF_nd (t := t) (F := F) (j := j)
    by_cases q : F j = true ∧ t 69 j = 0
    · rw [LF_s1 q, List.nodup_append]
      refine ⟨ih, by simp, ?_⟩
      intro a ha b hb e
      rw [List.mem_singleton] at hb
      have := (LF_mem.mp ha).1
      omega
    · rw [LF_s0 q]; exact ih
theorem tMk_TF {t : DB} {F : Nat → Bool} : ∀ {j : Nat}, TF t (tMk t F j) [68, 69, 80, 81, 82]
  | 0 => TF.rf
  | j + 1 => by
    have ih := tMk_TF (t := t) (F := F) (j := j)
    unfold tMk
    by_cases q : F j = true
    · rw [if_pos q]
      by_cases q2 : t 69 j = 0
      · rw [if_pos q2]
        exact ((((ih.wu _ _ (by decide)).wu _ _ (by decide)).wu _ _ (by decide)).wu _ _ (by decide)).wu _ _ (by decide)
      · rw [if_neg q2]; exact ih.wu _ _ (by decide)
    · rw [if_neg q]; exact ih.wu _ _ (by decide)
theorem tMk_80 {t : DB} {F : Nat → Bool} {i : Nat} : ∀ {j : Nat}, tMk t F j 80 i = if i < j then (if F i = true then 1 else 0) else t 80 i
  | 0 => rfl
  | j + 1 => by
    have ih := tMk_80 (t := t) (F := F) (i := i) (j := j)
    unfold tMk
    by_cases e : i = j
    · subst e
      rw [if_pos (Nat.lt_succ_self _)]
      by_cases q : F i = true
      · rw [if_pos q, if_pos q]
        by_cases q2 : t 69 i = 0
        · rw [if_pos q2, up_f (by decide), up_f (by decide), up_f (by decide), up_f (by decide), up_s]
        · rw [if_neg q2, up_s]
      · rw [if_neg q, if_neg q, up_s]
    · have hh : (i < j + 1) = (i < j) := propext ⟨fun h => by omega, fun h => by omega⟩
      simp only [hh]
      rw [← ih]
      by_cases q : F j = true
      · rw [if_pos q]
        by_cases q2 : t 69 j = 0
        · rw [if_pos q2, up_f (by decide), up_f (by decide), up_f (by decide), up_f (by decide), up_n (fun y => e y.2)]
        · rw [if_neg q2, up_n (fun y => e y.2)]
      · rw [if_neg q, up_n (fun y => e y.2)]
theorem tMk_69 {t : DB} {F : Nat → Bool} {i : Nat} : ∀ {j : Nat}, tMk t F j 69 i = if i ∈ LF t F j then 3 else t 69 i
  | 0 => (if_neg List.not_mem_nil).symm
  | j + 1 => by
    have ih := tMk_69 (t := t) (F := F) (i := i) (j := j)
    unfold tMk
    by_cases q : F j = true
    · rw [if_pos q]
      by_cases q2 : t 69 j = 0
      · rw [if_pos q2, up_f (by decide), up_f (by decide), up_f (by decide), LF_s1 ⟨q, q2⟩]
        by_cases e : i = j
        · subst e
          rw [up_s, if_pos (List.mem_append_right _ (List.mem_singleton.mpr rfl))]
        · rw [up_n (fun y => e y.2), up_f (by decide), ih]
          have : (i ∈ LF t F j ++ [j]) = (i ∈ LF t F j) := propext ⟨fun h => (List.mem_append.mp h).resolve_right (fun y => e (List.mem_singleton.mp y)), fun h => List.mem_append_left _ h⟩
          simp only [this]
      · rw [if_neg q2, up_f (by decide), LF_s0 (fun y => q2 y.2), ih]
    · rw [if_neg q, up_f (by decide), LF_s0 (fun y => q y.1), ih]
theorem tMk_68 {t : DB} {F : Nat → Bool} {i : Nat} : ∀ {j : Nat}, tMk t F j 68 i = if i ∈ LF t F j then t 0 0 else t 68 i
  | 0 => (if_neg List.not_mem_nil).symm
  | j + 1 => by
    have ih := tMk_68 (t := t) (F := F) (i := i) (j := j)
    unfold tMk
    by_cases q : F j = true
    · rw [if_pos q]
      by_cases q2 : t 69 j = 0
      · rw [if_pos q2, up_f (by decide), up_f (by decide), LF_s1 ⟨q, q2⟩]
        by_cases e : i = j
        · subst e
          rw [up_s, if_pos (List.mem_append_right _ (List.mem_singleton.mpr rfl))]
        · rw [up_n (fun y => e y.2), up_f (by decide), up_f (by decide), ih]
          have : (i ∈ LF t F j ++ [j]) = (i ∈ LF t F j) := propext ⟨fun h => (List.mem_append.mp h).resolve_right (fun y => e (List.mem_singleton.mp y)), fun h => List.mem_append_left _ h⟩
          simp only [this]
      · rw [if_neg q2, up_f (by decide), LF_s0 (fun y => q2 y.2), ih]
    · rw [if_neg q, up_f (by decide), LF_s0 (fun y => q y.1), ih]
theorem tMk_82 {t : DB} {F : Nat → Bool} (h : t 82 0 = nI (cn t 82)) : ∀ {j : Nat}, tMk t F j 82 0 = nI (cn t 82 + (LF t F j).length)
  | 0 => h
  | j + 1 => by
    have ih := tMk_82 h (F := F) (j := j)
    unfold tMk
    by_cases q : F j = true
    · rw [if_pos q]
      by_cases q2 : t 69 j = 0
      · rw [if_pos q2, up_s, LF_s1 ⟨q, q2⟩, List.length_append]; rfl
      · rw [if_neg q2, up_f (by decide), LF_s0 (fun y => q2 y.2), ih]
    · rw [if_neg q, up_f (by decide), LF_s0 (fun y => q y.1), ih]
theorem tMk_81 {t : DB} {F : Nat → Bool} : ∀ {j : Nat}, (∀ i, i < cn t 82 → tMk t F j 81 i = t 81 i) ∧ ∀ i k, (LF t F j)[i]? = some k → tMk t F j 81 (cn t 82 + i) = nI k
  | 0 => ⟨fun _ _ => rfl, fun i k h => by simp [LF] at h⟩
  | j + 1 => by
    have ih := tMk_81 (t := t) (F := F) (j := j)
    unfold tMk
    by_cases q : F j = true
    · rw [if_pos q]
      by_cases q2 : t 69 j = 0
      · rw [if_pos q2, LF_s1 ⟨q, q2⟩]
        refine ⟨fun i hi => ?_, fun i k h => ?_⟩
        · rw [up_f (by decide), up_n (fun y => by have := y.2; omega), up_f (by decide), up_f (by decide), up_f (by decide)]
          exact ih.1 i hi
        · rw [up_f (by decide)]
          by_cases e : i < (LF t F j).length
          · rw [List.getElem?_append_left e] at h
            rw [up_n (fun y => by have := y.2; omega), up_f (by decide), up_f (by decide), up_f (by decide)]
            exact ih.2 i k h
          · rw [List.getElem?_append_right (by omega)] at h
            have e2 : i - (LF t F j).length = 0 := by
              by_cases e3 : i - (LF t F j).length = 0
              · exact e3
              · rw [List.getElem?_eq_none (by simp; omega)] at h; cases h
            rw [e2] at h
            have hk : j = k := by simpa using h
            rw [show i = (LF t F j).length from by omega, up_s, hk]
      · rw [if_neg q2, LF_s0 (fun y => q2 y.2)]
        exact ⟨fun i hi => (up_f (by decide)).trans (ih.1 i hi), fun i k h => (up_f (by decide)).trans (ih.2 i k h)⟩
    · rw [if_neg q, LF_s0 (fun y => q y.1)]
      exact ⟨fun i hi => (up_f (by decide)).trans (ih.1 i hi), fun i k h => (up_f (by decide)).trans (ih.2 i k h)⟩
/-- one call is looked at -/
theorem w_tb74 {t : DB} {F : Nat → Bool} {K8 : Int32 → Int32 → Int32 → Int32 → DB → Prop} {x1 x2 x3 s0 : Int32} {Q : Int32 → DB → Prop} {j n : Nat} (hj : j < n) (hn : n ≤ 4020) (h82 : t 82 0 = nI (cn t 82)) (hlen : cn t 82 + (LF t F n).length ≤ 4020) (hs : s0 = if F j = true then 1 else 0) (hK : K8 x1 x2 x3 (nI (j + 1)) (tMk t F (j + 1))) : w_takeBack_74 K8 x1 x2 x3 (nI j) s0 (nI j) (tMk t F j) Q := by
  have vj : vp_in (nI j) 4400 := vp_in_nI (by omega) (by decide)
  have cj : (nI j).toNatClampNeg = j := nI_clamp (by omega)
  have e69 : tMk t F j 69 j = t 69 j := by rw [tMk_69, if_neg (fun y => by have := (LF_mem.mp y).1; omega)]
  have e82 := tMk_82 h82 (F := F) (j := j)
  have e0 : tMk t F j 0 0 = t 0 0 := by rw [tMk_TF 0 (by decide)]
  unfold tMk at hK
  unfold w_takeBack_74
  rw [cj]
  by_cases q : F j = true
  · rw [if_pos q] at hK hs
    refine ⟨Or.inr hs, vj, fun t1 g1 => ⟨vj, fun y => ?_, fun _ => ⟨vj, fun y => ?_, fun y => ?_⟩⟩⟩
    · rw [g1, up_s, hs] at y; exact absurd y (by decide)
    · rw [g1, up_f (by decide), e69] at y
      rw [if_pos y] at hK
      have hl : cn t 82 + (LF t F j).length + 1 ≤ 4020 := by
        have := LF_len (t := t) (F := F) (j := j + 1) (n := n) (by omega)
        rw [LF_s1 ⟨q, y⟩, List.length_append] at this
        have : (LF t F j).length + 1 ≤ (LF t F n).length := this
        omega
      have c82 : (nI (cn t 82 + (LF t F j).length)).toNatClampNeg = cn t 82 + (LF t F j).length := nI_clamp (by omega)
      refine ⟨vj, fun t3 g3 => ⟨vj, fun t4 g4 => ?_⟩⟩
      have z4 : t4 82 0 = nI (cn t 82 + (LF t F j).length) := by rw [g4, g3, g1, up_f (by decide), up_f (by decide), up_f (by decide), e82]
      rw [z4, c82]
      refine ⟨vp_in_nI (by omega) (by decide), fun t5 g5 t6 g6 x7 g7 => ?_⟩
      have z5 : t5 82 0 = nI (cn t 82 + (LF t F j).length) := by rw [g5, up_f (by decide), z4]
      have z3 : t3 0 0 = t 0 0 := by rw [g3, g1, up_f (by decide), up_f (by decide), e0]
      rw [z5, nI_1] at g6
      rw [z3] at g4
      rw [nI_1] at g7
      subst g1; subst g3; subst g4; subst g5; subst g6; subst g7
      rw [hs]
      exact hK
    · rw [g1, up_f (by decide), e69] at y
      rw [if_neg y] at hK
      intro x8 g8
      rw [nI_1] at g8
      subst g8; subst g1
      rw [hs]
      exact hK
  · rw [if_neg q] at hK hs
    refine ⟨Or.inl hs, vj, fun t1 g1 => ⟨vj, fun _ => ?_, fun y => ?_⟩⟩
    · intro x2' g2
      rw [nI_1] at g2
      subst g2; subst g1
      rw [hs]
      exact hK
    · rw [g1, up_s] at y; exact absurd hs y
theorem w_tb8 {t : DB} {F : Nat → Bool} {x1 x2 : Int32} {Q : Int32 → DB → Prop} {n h : Nat} (h61 : t 61 0 = nI n) (hn : n ≤ 4020) (h82 : t 82 0 = nI (cn t 82)) (hlen : cn t 82 + (LF t F n).length ≤ 4020) (hne : LF t F n ≠ []) (h88 : t 88 0 = nI h) (hh : h < 20000)
    (hpar : ∀ k, k < n → t 64 k = -1 ∨ ∃ p, p < k ∧ t 64 k = nI p)
    (hF : ∀ k, k < n → (F k = true ↔ (nI k = x1 ∨ (¬ x2 < 0 ∧ t 62 k = x2) ∨ ∃ p, p < k ∧ t 64 k = nI p ∧ F p = true)))
    (hQ : Q (nI (LF t F n).length) (psh (tMk t F n) h 4 (nI (cn t 82)) (nI (cn t 82 + (LF t F n).length)) 0 0)) :
    ∀ (r j : Nat), j + r = n → w_takeBack_8 (r + 1) x1 x2 (nI (cn t 82)) (nI j) (tMk t F j) Q := by
  intro r
  induction r with
  | zero =>
    intro j hj
    have : j = n := by omega
    subst this
    have e61 : tMk t F j 61 0 = nI j := by rw [tMk_TF 61 (by decide), h61]
    have e88 : tMk t F j 88 0 = nI h := by rw [tMk_TF 88 (by decide), h88]
    have e82 := tMk_82 h82 (F := F) (j := j)
    have hl : 0 < (LF t F j).length := List.length_pos_iff.mpr hne
    refine ⟨fun _ => ⟨fun y => ?_, fun _ => ?_⟩, fun y => ?_⟩
    · rw [e82] at y
      exact absurd y (nI_ge (by omega) (by omega))
    · refine w_add_s e88 hh ?_
      rw [psh_f (by decide), e82, pk_sub (by omega), Nat.add_sub_cancel_left]
      exact hQ
    · rw [e61] at y
      exact absurd (nI_le (Nat.le_refl _) (by omega)) y
  | succ r ih =>
    intro j hj
    have hjn : j < n := by omega
    have e61 : tMk t F j 61 0 = nI n := by rw [tMk_TF 61 (by decide), h61]
    have e62 : tMk t F j 62 = t 62 := tMk_TF 62 (by decide)
    have e64 : tMk t F j 64 = t 64 := tMk_TF 64 (by decide)
    have vj : vp_in (nI j) 4400 := vp_in_nI (by omega) (by decide)
    have cj : (nI j).toNatClampNeg = j := nI_clamp (by omega)
    have nxt := ih (j + 1) (by omega)
    have one : F j = true → w_takeBack_74 (fun z1 z2 z3 z4 t => w_takeBack_8 (r + 1) z1 z2 z3 z4 t Q) x1 x2 (nI (cn t 82)) (nI j) 1 (nI j) (tMk t F j) Q := fun y => w_tb74 hjn hn h82 hlen (by rw [if_pos y]) nxt
    have nul : ¬ F j = true → w_takeBack_74 (fun z1 z2 z3 z4 t => w_takeBack_8 (r + 1) z1 z2 z3 z4 t Q) x1 x2 (nI (cn t 82)) (nI j) 0 (nI j) (tMk t F j) Q := fun y => w_tb74 hjn hn h82 hlen (by rw [if_neg y]) nxt
    have fj := hF j hjn
    have ff : ¬ nI j = x1 → ¬ (¬ x2 < 0 ∧ t 62 j = x2) → w_takeBack_44 (fun z1 z2 z3 z4 t => w_takeBack_8 (r + 1) z1 z2 z3 z4 t Q) x1 x2 (nI (cn t 82)) (nI j) (nI j) (tMk t F j) Q := by
      intro y1 y2
      unfold w_takeBack_44
      rw [cj, e64]
      refine ⟨vj, fun y => ?_, fun y => ?_⟩
      · refine nul (fun w => ?_)
        rcases fj.mp w with w | w | ⟨p, w1, w2, -⟩
        · exact y1 w
        · exact y2 w
        · rw [w2] at y; exact nI_pos (by omega) y
      · rcases hpar j hjn with w | ⟨p, w1, w2⟩
        · exact absurd (by rw [w]; decide) y
        · rw [w2, nI_clamp (by omega)]
          have e80 : tMk t F j 80 p = if F p = true then 1 else 0 := by rw [tMk_80, if_pos w1]
          rw [e80]
          refine ⟨vj, vp_in_nI (by omega) (by decide), fun u => ?_, fun u => ?_⟩
          · refine nul (fun w => ?_)
            rcases fj.mp w with w | w | ⟨p', w3, w4, w5⟩
            · exact y1 w
            · exact y2 w
            · have : p = p' := (nI_eq (by omega) (by omega)).mp (w2.symm.trans w4)
              subst this
              rw [if_pos w5] at u
              exact absurd u (by decide)
          · refine one (fj.mpr (Or.inr (Or.inr ⟨p, w1, w2, ?_⟩)))
            by_cases w5 : F p = true
            · exact w5
            · rw [if_neg w5] at u; exact absurd rfl u
    refine ⟨fun y => ?_, fun _ => ⟨fun y => ?_, fun y => ⟨fun y2 => ?_, fun y2 => ⟨?_, fun y3 => ?_, fun y3 => ?_⟩⟩⟩⟩
    · rw [e61] at y
      exact absurd y (nI_ge hjn (by omega))
    · exact one (fj.mpr (Or.inl y))
    · exact ff y (fun w => w.1 y2)
    · exact vj
    · rw [cj, e62] at y3
      exact one (fj.mpr (Or.inr (Or.inl ⟨y2, y3⟩)))
    · rw [cj, e62] at y3
      exact ff y (fun w => y3 w.2)
theorem w_tb {t : DB} {F : Nat → Bool} {x1 x2 : Int32} {Q : Int32 → DB → Prop} {n h : Nat} (h61 : t 61 0 = nI n) (hn : n ≤ 4020) (h82 : t 82 0 = nI (cn t 82)) (hlen : cn t 82 + (LF t F n).length ≤ 4020) (hne : LF t F n ≠ []) (h88 : t 88 0 = nI h) (hh : h < 20000)
    (hpar : ∀ k, k < n → t 64 k = -1 ∨ ∃ p, p < k ∧ t 64 k = nI p)
    (hF : ∀ k, k < n → (F k = true ↔ (nI k = x1 ∨ (¬ x2 < 0 ∧ t 62 k = x2) ∨ ∃ p, p < k ∧ t 64 k = nI p ∧ F p = true)))
    (hQ : Q (nI (LF t F n).length) (psh (tMk t F n) h 4 (nI (cn t 82)) (nI (cn t 82 + (LF t F n).length)) 0 0)) : w_takeBack x1 x2 t Q := by
  intro x e
  rw [h82] at e
  subst e
  exact ⟨n + 1, w_tb8 h61 hn h82 hlen hne h88 hh hpar hF hQ n 0 (by omega)⟩
