set_option maxRecDepth 100000
/-! the reference (WaterWorksModel): its state is a table of numbers: column f (the field's number), place i -/
abbrev DB : Type := Nat → Nat → Int32
def up (t : DB) (f i : Nat) (v : Int32) : DB := fun f' i' => if f' = f ∧ i' = i then v else t f' i'
theorem up_s {t : DB} {f i : Nat} {v : Int32} : up t f i v f i = v := if_pos ⟨rfl, rfl⟩
theorem up_n {t : DB} {f i g j : Nat} {v : Int32} (h : ¬ (g = f ∧ j = i)) : up t f i v g j = t g j := if_neg h
theorem up_f {t : DB} {f i g j : Nat} {v : Int32} (h : g ≠ f) : up t f i v g j = t g j := if_neg fun e => h e.1
def tlen (f : Nat) : Nat := match f with
  | 0 => 0 | 1 => 0 | 2 => 8 | 3 => 8 | 4 => 8 | 5 => 0 | 6 => 30 | 7 => 30 | 8 => 30 | 9 => 30 | 10 => 30 | 11 => 0 | 12 => 30 | 13 => 30 | 14 => 30 | 15 => 30 | 16 => 30
  | 17 => 0 | 18 => 4400 | 19 => 4400 | 20 => 4400 | 21 => 4400 | 22 => 4400 | 23 => 0 | 24 => 4400 | 25 => 4400 | 26 => 4400 | 27 => 4400 | 28 => 4400 | 29 => 4400
  | 30 => 0 | 31 => 24 | 32 => 24 | 33 => 24 | 34 => 24 | 35 => 24 | 36 => 24 | 37 => 24 | 38 => 24 | 39 => 24 | 40 => 24 | 41 => 24 | 42 => 24 | 43 => 240 | 44 => 192 | 45 => 192 | 46 => 192
  | 47 => 0 | 48 => 11 | 49 => 55 | 50 => 0 | 51 => 60 | 52 => 60 | 53 => 60 | 54 => 60 | 55 => 60 | 56 => 60 | 57 => 60 | 58 => 60 | 59 => 60 | 60 => 0 | 61 => 0
  | 62 => 4400 | 63 => 4400 | 64 => 4400 | 65 => 4400 | 66 => 4400 | 67 => 4400 | 68 => 4400 | 69 => 4400 | 70 => 4400 | 71 => 4400 | 72 => 4400 | 73 => 4400 | 74 => 4400 | 75 => 4400 | 76 => 4400 | 77 => 4400 | 78 => 4400 | 79 => 4400 | 80 => 4400 | 81 => 4400 | 82 => 0
  | 83 => 20000 | 84 => 20000 | 85 => 20000 | 86 => 20000 | 87 => 20000 | 88 => 0 | 89 => 0 | 90 => 12 | 91 => 12 | 92 => 12 | 93 => 12 | 94 => 12 | 95 => 12 | 96 => 12 | 97 => 12 | 98 => 12 | 99 => 12 | 100 => 12 | 101 => 12 | 102 => 12
  | 103 => 0 | 104 => 10 | 105 => 10 | 106 => 10 | 107 => 10 | 108 => 10 | 109 => 10 | _ => 0
/-- the memory with the reference's table in it -/
def tput (M : Mem) (t : DB) : Mem := (fun k i f => if (k = 2 ∧ i = 0) ∧ tlen f = 0 then t f 0 else if ((100 ≤ k ∧ k < 210) ∧ i = 0) ∧ tlen (k - 100) ≠ 0 then t (k - 100) f else M.1 k i f, M.2)
/-- the reference's object and arrays stand -/
def TW (M : Mem) : Prop := M.2.2.1 2 0 ≠ 0 ∧ ∀ f, f < 110 → tlen f ≠ 0 → M.2.1 2 0 f = (100 + f, 0) ∧ M.2.2.1 (100 + f) 0 = tlen f + 1
theorem tput_s {M : Mem} {t : DB} {f : Nat} (h : tlen f = 0) : (tput M t).1 2 0 f = t f 0 := if_pos ⟨⟨rfl, rfl⟩, h⟩
theorem tput_a {M : Mem} {t : DB} {f i : Nat} (hf : f < 110) (h : tlen f ≠ 0) : (tput M t).1 (100 + f) 0 i = t f i := by
  have e : 100 + f - 100 = f := by omega
  show (if _ then _ else _) = _
  rw [if_neg (by omega), if_pos (by rw [e]; exact ⟨⟨by omega, rfl⟩, h⟩), e]
theorem tput_up_s {M : Mem} {t : DB} {f : Nat} {v : Int32} (h : tlen f = 0) : sI (tput M t) 2 0 f v = tput M (up t f 0 v) := by
  unfold sI tput
  dsimp only
  congr 1
  funext k i g
  by_cases h1 : k = 2 ∧ i = 0
  · obtain ⟨rfl, rfl⟩ := h1
    by_cases h2 : g = f
    · subst h2
      rw [if_pos ⟨rfl, rfl, rfl⟩, if_pos ⟨⟨rfl, rfl⟩, h⟩, up_s]
    · rw [if_neg (fun e => h2 e.2.2)]
      by_cases h3 : tlen g = 0
      · rw [if_pos ⟨⟨rfl, rfl⟩, h3⟩, if_pos ⟨⟨rfl, rfl⟩, h3⟩, up_f h2]
      · have hA : ¬ (((2 : Nat) = 2 ∧ (0 : Nat) = 0) ∧ tlen g = 0) := fun e => h3 e.2
        have hB : ¬ (((100 ≤ 2 ∧ 2 < 210) ∧ (0 : Nat) = 0) ∧ tlen (2 - 100) ≠ 0) := by omega
        rw [if_neg hA, if_neg hA, if_neg hB, if_neg hB]
  · have hA : ¬ ((k = 2 ∧ i = 0) ∧ tlen g = 0) := fun e => h1 e.1
    rw [if_neg (fun e => h1 ⟨e.1, e.2.1⟩), if_neg hA, if_neg hA]
    by_cases h2 : ((100 ≤ k ∧ k < 210) ∧ i = 0) ∧ tlen (k - 100) ≠ 0
    · rw [if_pos h2, if_pos h2, up_f (fun e => h2.2 (by rw [e]; exact h))]
    · rw [if_neg h2, if_neg h2]
theorem tput_up_a {M : Mem} {t : DB} {f j : Nat} {v : Int32} (hf : f < 110) (h : tlen f ≠ 0) : sI (tput M t) (100 + f) 0 j v = tput M (up t f j v) := by
  unfold sI tput
  dsimp only
  congr 1
  funext k i g
  by_cases h1 : (k = 2 ∧ i = 0) ∧ tlen g = 0
  · rw [if_neg (by omega), if_pos h1, if_pos h1, up_f (fun e => h (by rw [← e]; exact h1.2))]
  · rw [if_neg h1, if_neg h1]
    by_cases h2 : ((100 ≤ k ∧ k < 210) ∧ i = 0) ∧ tlen (k - 100) ≠ 0
    · rw [if_pos h2, if_pos h2]
      by_cases h3 : k = 100 + f ∧ g = j
      · obtain ⟨rfl, rfl⟩ := h3
        rw [if_pos ⟨rfl, h2.1.2, rfl⟩, show 100 + f - 100 = f by omega, up_s]
      · rw [if_neg (fun e => h3 ⟨e.1, e.2.2⟩), up_n (fun e => h3 ⟨by omega, e.2⟩)]
    · rw [if_neg h2, if_neg h2, if_neg]
      intro e
      apply h2
      rw [e.1, show 100 + f - 100 = f by omega]
      exact ⟨⟨by omega, e.2.1⟩, h⟩
section TRows
variable {d : Nat} {mt : zMt} {pc : Nat} {lv : List (Nat × AV)} {st : List AV} {M : Mem} {t : DB} {Q : Option AV → Mem → Prop}
theorem t_gi {index : Nat} (f : Nat) (hz : tlen f = 0 ∧ zIsR (tyX1 f) = false ∧ f < 110) (w : Cond.fieldLink mt.1.cls index RX1 (TX1 f).2.1 (TX1 f).2.2.1 ∈ lw_all) (hs : RX1 = (TX1 f).1) (hd : decode mt.2.1 pc = .ok (.getfield index, 3)) (kk : wp d mt (pc + 3) lv (.inl (t f 0) :: st) (tput M t) Q) : wp d mt pc lv (.inr (2, 0) :: st) (tput M t) Q := by
  refine a_get (r := (RX1, TX1, 110)) (by decide) rfl hz.2.2 (Or.inl w) (Or.inl hs) (v := .inl (t f 0)) ?_ hd kk
  show _ = if zIsR (tyX1 f) = true then _ else _
  rw [hz.2.1, tput_s hz.1]
  rfl
theorem t_ga {index : Nat} (f : Nat) (hT : TW M) (hz : tlen f ≠ 0 ∧ zIsR (tyX1 f) = true ∧ f < 110) (w : Cond.fieldLink mt.1.cls index RX1 (TX1 f).2.1 (TX1 f).2.2.1 ∈ lw_all) (hs : RX1 = (TX1 f).1) (hd : decode mt.2.1 pc = .ok (.getfield index, 3)) (kk : wp d mt (pc + 3) lv (.inr (100 + f, 0) :: st) (tput M t) Q) : wp d mt pc lv (.inr (2, 0) :: st) (tput M t) Q := by
  refine a_get (r := (RX1, TX1, 110)) (by decide) rfl hz.2.2 (Or.inl w) (Or.inl hs) (v := .inr (100 + f, 0)) ?_ hd kk
  show _ = if zIsR (tyX1 f) = true then _ else _
  rw [hz.2.1, if_pos rfl]
  exact congrArg Sum.inr (hT.2 f hz.2.2 hz.1).1.symm
theorem t_ia {f k : Nat} {x : Int32} (hk : k = 100 + f) (hT : TW M) (hz : tlen f ≠ 0 ∧ kt (100 + f) = 100 ∧ f < 110) (hin : vp_in x (tlen f)) (hd : decode mt.2.1 pc = .ok (.iaload, 1)) (kk : wp d mt (pc + 1) lv (.inl (t f x.toNatClampNeg) :: st) (tput M t) Q) : wp d mt pc lv (.inl x :: .inr (k, 0) :: st) (tput M t) Q := by
  subst hk
  refine a_iald (by omega) hz.2.1 (hT.2 f hz.2.2 hz.1).2 hin hd ?_
  rw [tput_a hz.2.2 hz.1]
  exact kk
theorem t_za {f k : Nat} {x : Int32} (hk : k = 100 + f) (hT : TW M) (hz : tlen f ≠ 0 ∧ kt (100 + f) = 101 ∧ f < 110) (hin : vp_in x (tlen f)) (hd : decode mt.2.1 pc = .ok (.baload, 1)) (kk : wp d mt (pc + 1) lv (.inl (t f x.toNatClampNeg) :: st) (tput M t) Q) : wp d mt pc lv (.inl x :: .inr (k, 0) :: st) (tput M t) Q := by
  subst hk
  refine a_zald (by omega) hz.2.1 (hT.2 f hz.2.2 hz.1).2 hin hd ?_
  rw [tput_a hz.2.2 hz.1]
  exact kk
theorem stk_t (f : Nat) : stk (100 + f) = false := by
  have h1 : (100 + f == 41) = false := by simp; omega
  have h2 : (100 + f == 44) = false := by simp; omega
  have h3 : (100 + f == 45) = false := by simp; omega
  unfold stk
  rw [h1, h2, h3]; rfl
theorem t_is {f k : Nat} {x v : Int32} (hk : k = 100 + f) (hT : TW M) (hz : tlen f ≠ 0 ∧ kt (100 + f) = 100 ∧ f < 110) (hin : vp_in x (tlen f)) (hd : decode mt.2.1 pc = .ok (.iastore, 1)) (kk : wp d mt (pc + 1) lv st (tput M (up t f x.toNatClampNeg v)) Q) : wp d mt pc lv (.inl v :: .inl x :: .inr (k, 0) :: st) (tput M t) Q := by
  subst hk
  refine a_iast (by omega) (stk_t f) hz.2.1 (hT.2 f hz.2.2 hz.1).2 hin hd ?_
  rw [tput_up_a hz.2.2 hz.1]
  exact kk
theorem t_zs {f k : Nat} {x v : Int32} (hk : k = 100 + f) (hT : TW M) (hz : tlen f ≠ 0 ∧ kt (100 + f) = 101 ∧ f < 110) (hv : v = 0 ∨ v = 1) (hin : vp_in x (tlen f)) (hd : decode mt.2.1 pc = .ok (.bastore, 1)) (kk : wp d mt (pc + 1) lv st (tput M (up t f x.toNatClampNeg v)) Q) : wp d mt pc lv (.inl v :: .inl x :: .inr (k, 0) :: st) (tput M t) Q := by
  subst hk
  refine a_zast (by omega) (stk_t f) hz.2.1 hv (hT.2 f hz.2.2 hz.1).2 hin hd ?_
  rw [tput_up_a hz.2.2 hz.1]
  exact kk
theorem t_pi {index : Nat} {v : Int32} (f : Nat) (hz : tlen f = 0 ∧ tyX1 f = .int ∧ f < 110) (w : Cond.fieldLink mt.1.cls index RX1 (TX1 f).2.1 (TX1 f).2.2.1 ∈ lw_all) (hs : RX1 = (TX1 f).1) (hfin : (TX1 f).2.2.2 = false) (hd : decode mt.2.1 pc = .ok (.putfield index, 3)) (kk : wp d mt (pc + 3) lv st (tput M (up t f 0 v)) Q) : wp d mt pc lv (.inl v :: .inr (2, 0) :: st) (tput M t) Q := by
  refine a_put (k := 2) (v := .inl v) (r := (RX1, TX1, 110)) (by decide) rfl rfl hz.2.2 (Or.inl w) (Or.inl hs) hfin (Or.inl hz.2.1) hd ?_
  show wp d mt (pc + 3) lv st (sI (tput M t) 2 0 f v) Q
  rw [tput_up_s hz.1]
  exact kk
theorem wp_sub {lv' : List (Nat × AV)} {M : Mem} (hs : ∀ q ∈ lv', q ∈ lv) (k : wp d mt pc lv' st M Q) : wp d mt pc lv st M Q := by
  intro p l e s m args below meth c H locs G lc lc0 M0 ls C R E B L S
  exact k p l e s m args below meth c H locs G lc lc0 M0 ls C R E B (L.sub hs) S
end TRows
section TTop
variable {d : Nat} {mt : zMt} {pc : Nat} {lv : List (Nat × AV)} {st : List AV} {M : Mem} {Q : Option AV → Mem → Prop}
theorem a_topt {e : DB} (k : ∀ t : DB, t = e → wp d mt pc lv st (tput M t) Q) : wp d mt pc lv st (tput M e) Q := k e rfl
end TTop
