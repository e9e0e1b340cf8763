set_option maxRecDepth 100000
/-! rows over a reference e : Nat × Nat, whatever its kind, by its class; and words of arrays -/
def gk (k : Nat) : Prop := 10 ≤ k ∧ k ≤ 19
def ak (k : Nat) : Prop := 25 ≤ k ∧ k ≤ 28
def lk (k : Nat) : Prop := 30 ≤ k ∧ k ≤ 33
/-- kinds whose objects lie in lists -/
def ekk (k : Nat) : Bool := (3 ≤ k && k ≤ 6) || (10 ≤ k && k ≤ 28) || k == 42
def rom (M : Mem) (w : Nat) : Prop := M.2.2.2.1 + 1 ≤ 600000 ∧ M.2.2.2.2 + w ≤ 7302250
def arI (M : Mem) (e : Nat × Nat) (t : Nat) (x : Int32) : Prop := e.1 ≠ 0 ∧ kt e.1 = t ∧ M.2.2.1 e.1 e.2 ≠ 0 ∧ vp_in x (M.2.2.1 e.1 e.2 - 1)
def arR (M : Mem) (e : Nat × Nat) (x : Int32) : Prop := (kt e.1 = 102 ∨ kt e.1 = 103) ∧ M.2.2.1 e.1 e.2 ≠ 0 ∧ vp_in x (M.2.2.1 e.1 e.2 - 1)
def arL (M : Mem) (e : Nat × Nat) : Prop := e.1 ≠ 0 ∧ (100 ≤ kt e.1 ∧ kt e.1 ≤ 103) ∧ M.2.2.1 e.1 e.2 ≠ 0
def arSM (M : Mem) (e : Nat × Nat) (x : Int32) (v : Nat × Nat) : Prop := kt e.1 = 102 ∧ stk e.1 = false ∧ M.2.2.1 e.1 e.2 ≠ 0 ∧ vp_in x (M.2.2.1 e.1 e.2 - 1) ∧ (v = (0, 0) ∨ ekk v.1 = true)
def arSN (M : Mem) (e : Nat × Nat) (x : Int32) (v : Nat × Nat) : Prop := kt e.1 = 103 ∧ M.2.2.1 e.1 e.2 ≠ 0 ∧ vp_in x (M.2.2.1 e.1 e.2 - 1) ∧ gk v.1
def arC (M : Mem) (e0 : Nat × Nat) (sp : Int32) (e1 : Nat × Nat) (dp n : Int32) : Prop := e0.1 = 40 ∧ e1.1 = 40 ∧ M.2.2.1 40 e0.2 ≠ 0 ∧ M.2.2.1 40 e1.2 ≠ 0 ∧ ¬ sp < 0 ∧ ¬ dp < 0 ∧ ¬ n < 0 ∧ sp.toNatClampNeg + n.toNatClampNeg ≤ M.2.2.1 40 e0.2 - 1 ∧ dp.toNatClampNeg + n.toNatClampNeg ≤ M.2.2.1 40 e1.2 - 1 ∧ ∀ q, q < n.toNatClampNeg → (M.2.1 40 e0.2 (sp.toNatClampNeg + q) = (0, 0) ∨ ekk (M.2.1 40 e0.2 (sp.toNatClampNeg + q)).1 = true)
def sC (M : Mem) (i0 i1 a b n : Nat) : Mem := (M.1, fun k i f => if k = 40 ∧ i = i1 then (if b ≤ f ∧ f < b + n then M.2.1 40 i0 (a + (f - b)) else M.2.1 40 i1 f) else M.2.1 k i f, M.2.2)
theorem kt0 : kt 0 = 100 := rfl
theorem kt_nz {k ci : Nat} {r : vw_C} (hr : zCl[ci]? = some r) (h : kt k = ci) : k ≠ 0 := by
  intro e
  rw [e, kt0] at h
  have := zlt hr
  omega
theorem kt_nz2 {k : Nat} (h : kt k = 102 ∨ kt k = 103) : k ≠ 0 := by
  intro e
  rw [e, kt0] at h
  omega
theorem kt_stk {k ci : Nat} {r : vw_C} (hr : zCl[ci]? = some r) (h : kt k = ci) : stk k = false := by
  have h1 := zlt hr
  cases hs : stk k with
  | false => rfl
  | true =>
    unfold stk at hs
    simp only [Bool.or_eq_true, beq_iff_eq] at hs
    rcases hs with (e | e) | e <;> subst e <;> simp [kt] at h <;> omega
theorem zname_of {k ci : Nat} {r : vw_C} (hr : zCl[ci]? = some r) (h : kt k = ci) : zname k = r.1 := by
  have h1 := zlt hr
  unfold zname
  rw [if_neg (by omega), if_neg (by omega), if_neg (by omega), if_neg (by omega), h, hr]
  rfl
theorem gkc {k : Nat} (h : gk k) : k = 10 ∨ k = 11 ∨ k = 12 ∨ k = 13 ∨ k = 14 ∨ k = 15 ∨ k = 16 ∨ k = 17 ∨ k = 18 ∨ k = 19 := by
  unfold gk at h; omega
theorem akc {k : Nat} (h : ak k) : k = 25 ∨ k = 26 ∨ k = 27 ∨ k = 28 := by
  unfold ak at h; omega
theorem lkc {k : Nat} (h : lk k) : k = 30 ∨ k = 31 ∨ k = 32 ∨ k = 33 := by
  unfold lk at h; omega
theorem lk_kt {k : Nat} (h : lk k) : kt k = 25 := by
  rcases lkc h with e | e | e | e <;> subst e <;> rfl
theorem gT6 : ∀ f, f < 7 → TX6 f = TX5 f ∧ tyX6 f = tyX5 f := by decide
theorem gT7 : ∀ f, f < 7 → TX7 f = TX5 f ∧ tyX7 f = tyX5 f := by decide
theorem gT8 : ∀ f, f < 7 → TX8 f = TX5 f ∧ tyX8 f = tyX5 f := by decide
theorem gT9 : ∀ f, f < 7 → TX9 f = TX5 f ∧ tyX9 f = tyX5 f := by decide
theorem gT10 : ∀ f, f < 7 → TX10 f = TX5 f ∧ tyX10 f = tyX5 f := by decide
theorem gT11 : ∀ f, f < 7 → TX11 f = TX5 f ∧ tyX11 f = tyX5 f := by decide
theorem gT12 : ∀ f, f < 7 → TX12 f = TX5 f ∧ tyX12 f = tyX5 f := by decide
theorem gT13 : ∀ f, f < 7 → TX13 f = TX5 f ∧ tyX13 f = tyX5 f := by decide
theorem gT14 : ∀ f, f < 7 → TX14 f = TX5 f ∧ tyX14 f = tyX5 f := by decide
theorem aT22 : ∀ f, f < 4 → TX22 f = TX21 f ∧ tyX22 f = tyX21 f := by decide
theorem aT23 : ∀ f, f < 4 → TX23 f = TX21 f ∧ tyX23 f = tyX21 f := by decide
theorem aT24 : ∀ f, f < 4 → TX24 f = TX21 f ∧ tyX24 f = tyX21 f := by decide
theorem gCl {k f : Nat} (h : gk k) (hf : f < 7) : ∃ r : vw_C, zCl[kt k]? = some r ∧ f < r.2.2 ∧ r.2.1 f = TX5 f ∧ zTy (kt k) f = tyX5 f := by
  rcases gkc h with e | e | e | e | e | e | e | e | e | e <;> subst e
  · exact ⟨(RX5, TX5, 12), rfl, by show f < 12; omega, rfl, rfl⟩
  · exact ⟨(RX6, TX6, 11), rfl, by show f < 11; omega, (gT6 f hf).1, (gT6 f hf).2⟩
  · exact ⟨(RX7, TX7, 9), rfl, by show f < 9; omega, (gT7 f hf).1, (gT7 f hf).2⟩
  · exact ⟨(RX8, TX8, 8), rfl, by show f < 8; omega, (gT8 f hf).1, (gT8 f hf).2⟩
  · exact ⟨(RX9, TX9, 8), rfl, by show f < 8; omega, (gT9 f hf).1, (gT9 f hf).2⟩
  · exact ⟨(RX10, TX10, 8), rfl, by show f < 8; omega, (gT10 f hf).1, (gT10 f hf).2⟩
  · exact ⟨(RX11, TX11, 8), rfl, by show f < 8; omega, (gT11 f hf).1, (gT11 f hf).2⟩
  · exact ⟨(RX12, TX12, 11), rfl, by show f < 11; omega, (gT12 f hf).1, (gT12 f hf).2⟩
  · exact ⟨(RX13, TX13, 8), rfl, by show f < 8; omega, (gT13 f hf).1, (gT13 f hf).2⟩
  · exact ⟨(RX14, TX14, 8), rfl, by show f < 8; omega, (gT14 f hf).1, (gT14 f hf).2⟩
theorem aCl {k f : Nat} (h : ak k) (hf : f < 4) : ∃ r : vw_C, zCl[kt k]? = some r ∧ f < r.2.2 ∧ r.2.1 f = TX21 f ∧ zTy (kt k) f = tyX21 f := by
  rcases akc h with e | e | e | e <;> subst e
  · exact ⟨(RX21, TX21, 6), rfl, by show f < 6; omega, rfl, rfl⟩
  · exact ⟨(RX22, TX22, 7), rfl, by show f < 7; omega, (aT22 f hf).1, (aT22 f hf).2⟩
  · exact ⟨(RX23, TX23, 7), rfl, by show f < 7; omega, (aT23 f hf).1, (aT23 f hf).2⟩
  · exact ⟨(RX24, TX24, 6), rfl, by show f < 6; omega, (aT24 f hf).1, (aT24 f hf).2⟩
theorem ekkc {k : Nat} (h : ekk k = true) : k = 3 ∨ k = 4 ∨ k = 5 ∨ k = 6 ∨ gk k ∨ k = 20 ∨ k = 21 ∨ k = 22 ∨ k = 23 ∨ k = 24 ∨ ak k ∨ k = 42 := by
  unfold ekk at h
  simp only [Bool.or_eq_true, Bool.and_eq_true, decide_eq_true_eq, beq_iff_eq] at h
  unfold gk ak; omega
theorem ekk_nz {k : Nat} (h : ekk k = true) : k ≠ 0 := by
  rcases ekkc h with e | e | e | e | e | e | e | e | e | e | e | e
  all_goals (first | omega | (unfold gk at e; omega) | (unfold ak at e; omega))
section DRows
variable {d : Nat} {mt : zMt} {pc : Nat} {lv : List (Nat × AV)} {st : List AV} {M : Mem} {Q : Option AV → Mem → Prop}
theorem a_sub {lv' : List (Nat × AV)} {M : Mem} (hs : ∀ q ∈ lv', q ∈ lv) (k : wp d mt pc lv' st M Q) : wp d mt pc lv st M Q := by
  intro p l e s m args below meth c H locs G lc lc0 M0 ls C R E B L S
  exact k p l e s m args below meth c H locs G lc lc0 M0 ls C R E B (L.sub hs) S
theorem a_topi {e : Int32} (k : ∀ x : Int32, x = e → wp d mt pc lv (.inl x :: st) M Q) : wp d mt pc lv (.inl e :: st) M Q := k e rfl
theorem a_topr {e : Nat × Nat} (k : ∀ x : Nat × Nat, x = e → wp d mt pc lv (.inr x :: st) M Q) : wp d mt pc lv (.inr e :: st) M Q := k e rfl
theorem a_topm {e : Mem} (k : ∀ x : Mem, x = e → wp d mt pc lv st x Q) : wp d mt pc lv st e Q := k e rfl
theorem a_gI {e : Nat × Nat} {f index ci : Nat} {ref : String} {r : vw_C} (hr : zCl[ci]? = some r) (hf : f < r.2.2) (hz : zIsR (zTy ci f) = false) (hlink : zlk mt.1.cls index ref (r.2.1 f).2.1 (r.2.1 f).2.2.1) (hsame : zsm ref (r.2.1 f).1 (r.2.1 f).2.1 (r.2.1 f).2.2.1) (hk : kt e.1 = ci) (hd : decode mt.2.1 pc = .ok (.getfield index, 3))
    (kk : wp d mt (pc + 3) lv (.inl (M.1 e.1 e.2 f) :: st) M Q) : wp d mt pc lv (.inr e :: st) M Q :=
  a_get (k := e.1) (i := e.2) (kt_nz hr hk) (by rw [hk]; exact hr) hf hlink hsame (by rw [hk, hz]; rfl) hd kk
theorem a_gR {e : Nat × Nat} {f index ci : Nat} {ref : String} {r : vw_C} (hr : zCl[ci]? = some r) (hf : f < r.2.2) (hz : zIsR (zTy ci f) = true) (hlink : zlk mt.1.cls index ref (r.2.1 f).2.1 (r.2.1 f).2.2.1) (hsame : zsm ref (r.2.1 f).1 (r.2.1 f).2.1 (r.2.1 f).2.2.1) (hk : kt e.1 = ci) (hd : decode mt.2.1 pc = .ok (.getfield index, 3))
    (kk : wp d mt (pc + 3) lv (.inr (M.2.1 e.1 e.2 f) :: st) M Q) : wp d mt pc lv (.inr e :: st) M Q :=
  a_get (k := e.1) (i := e.2) (kt_nz hr hk) (by rw [hk]; exact hr) hf hlink hsame (by rw [hk, hz]; rfl) hd kk
theorem gk_nz {k : Nat} (h : gk k) : k ≠ 0 := by unfold gk at h; omega
theorem ak_nz {k : Nat} (h : ak k) : k ≠ 0 := by unfold ak at h; omega
theorem gk_stk {k : Nat} (h : gk k) : stk k = false := by rcases gkc h with e | e | e | e | e | e | e | e | e | e <;> subst e <;> rfl
theorem ak_stk {k : Nat} (h : ak k) : stk k = false := by rcases akc h with e | e | e | e <;> subst e <;> rfl
theorem a_gIg {e : Nat × Nat} {f index : Nat} {ref : String} (hf : f < 7 ∧ zIsR (tyX5 f) = false) (hlink : zlk mt.1.cls index ref (TX5 f).2.1 (TX5 f).2.2.1) (hsame : zsm ref (TX5 f).1 (TX5 f).2.1 (TX5 f).2.2.1) (hk : gk e.1) (hd : decode mt.2.1 pc = .ok (.getfield index, 3))
    (kk : wp d mt (pc + 3) lv (.inl (M.1 e.1 e.2 f) :: st) M Q) : wp d mt pc lv (.inr e :: st) M Q := by
  obtain ⟨r, h1, h2, h3, h4⟩ := gCl hk hf.1
  exact a_get (k := e.1) (i := e.2) (gk_nz hk) h1 h2 (by rw [h3]; exact hlink) (by rw [h3]; exact hsame) (by rw [h4, hf.2]; rfl) hd kk
theorem a_gRg {e : Nat × Nat} {f index : Nat} {ref : String} (hf : f < 7 ∧ zIsR (tyX5 f) = true) (hlink : zlk mt.1.cls index ref (TX5 f).2.1 (TX5 f).2.2.1) (hsame : zsm ref (TX5 f).1 (TX5 f).2.1 (TX5 f).2.2.1) (hk : gk e.1) (hd : decode mt.2.1 pc = .ok (.getfield index, 3))
    (kk : wp d mt (pc + 3) lv (.inr (M.2.1 e.1 e.2 f) :: st) M Q) : wp d mt pc lv (.inr e :: st) M Q := by
  obtain ⟨r, h1, h2, h3, h4⟩ := gCl hk hf.1
  exact a_get (k := e.1) (i := e.2) (gk_nz hk) h1 h2 (by rw [h3]; exact hlink) (by rw [h3]; exact hsame) (by rw [h4, hf.2]; rfl) hd kk
theorem a_gIk {e : Nat × Nat} {f index : Nat} {ref : String} (hf : f < 4 ∧ zIsR (tyX21 f) = false) (hlink : zlk mt.1.cls index ref (TX21 f).2.1 (TX21 f).2.2.1) (hsame : zsm ref (TX21 f).1 (TX21 f).2.1 (TX21 f).2.2.1) (hk : ak e.1) (hd : decode mt.2.1 pc = .ok (.getfield index, 3))
    (kk : wp d mt (pc + 3) lv (.inl (M.1 e.1 e.2 f) :: st) M Q) : wp d mt pc lv (.inr e :: st) M Q := by
  obtain ⟨r, h1, h2, h3, h4⟩ := aCl hk hf.1
  exact a_get (k := e.1) (i := e.2) (ak_nz hk) h1 h2 (by rw [h3]; exact hlink) (by rw [h3]; exact hsame) (by rw [h4, hf.2]; rfl) hd kk
theorem a_gRk {e : Nat × Nat} {f index : Nat} {ref : String} (hf : f < 4 ∧ zIsR (tyX21 f) = true) (hlink : zlk mt.1.cls index ref (TX21 f).2.1 (TX21 f).2.2.1) (hsame : zsm ref (TX21 f).1 (TX21 f).2.1 (TX21 f).2.2.1) (hk : ak e.1) (hd : decode mt.2.1 pc = .ok (.getfield index, 3))
    (kk : wp d mt (pc + 3) lv (.inr (M.2.1 e.1 e.2 f) :: st) M Q) : wp d mt pc lv (.inr e :: st) M Q := by
  obtain ⟨r, h1, h2, h3, h4⟩ := aCl hk hf.1
  exact a_get (k := e.1) (i := e.2) (ak_nz hk) h1 h2 (by rw [h3]; exact hlink) (by rw [h3]; exact hsame) (by rw [h4, hf.2]; rfl) hd kk
theorem a_pI {e : Nat × Nat} {f index ci : Nat} {ref : String} {r : vw_C} {v : Int32} (hr : zCl[ci]? = some r) (hf : f < r.2.2) (hlink : zlk mt.1.cls index ref (r.2.1 f).2.1 (r.2.1 f).2.2.1) (hsame : zsm ref (r.2.1 f).1 (r.2.1 f).2.1 (r.2.1 f).2.2.1) (hfin : (r.2.1 f).2.2.2 = false) (hz : zTy ci f = .int ∨ (zTy ci f = .boolean ∧ (v = 0 ∨ v = 1))) (hk : kt e.1 = ci) (hd : decode mt.2.1 pc = .ok (.putfield index, 3))
    (kk : wp d mt (pc + 3) lv st (sI M e.1 e.2 f v) Q) : wp d mt pc lv (.inl v :: .inr e :: st) M Q :=
  a_put (k := e.1) (i := e.2) (v := .inl v) (kt_nz hr hk) (kt_stk hr hk) (by rw [hk]; exact hr) hf hlink hsame hfin (by rw [hk]; exact hz) hd kk
theorem a_pR {e v : Nat × Nat} {f index ci : Nat} {ref : String} {r : vw_C} (hr : zCl[ci]? = some r) (hf : f < r.2.2) (hlink : zlk mt.1.cls index ref (r.2.1 f).2.1 (r.2.1 f).2.2.1) (hsame : zsm ref (r.2.1 f).1 (r.2.1 f).2.1 (r.2.1 f).2.2.1) (hfin : (r.2.1 f).2.2.2 = false) (hz : zIsR (zTy ci f) = true) (hk : kt e.1 = ci) (hd : decode mt.2.1 pc = .ok (.putfield index, 3))
    (kk : wp d mt (pc + 3) lv st (sR M e.1 e.2 f v) Q) : wp d mt pc lv (.inr v :: .inr e :: st) M Q :=
  a_put (k := e.1) (i := e.2) (v := .inr v) (kt_nz hr hk) (kt_stk hr hk) (by rw [hk]; exact hr) hf hlink hsame hfin (by rw [hk]; exact hz) hd kk
theorem a_fI {e : Nat × Nat} {f index ci : Nat} {ref : String} {r : vw_C} {v : Int32} (hr : zCl[ci]? = some r) (hf : f < r.2.2) (hlink : Cond.fieldLink mt.1.cls index ref (r.2.1 f).2.1 (r.2.1 f).2.2.1 ∈ lw_all) (hsame : zsm ref (r.2.1 f).1 (r.2.1 f).2.1 (r.2.1 f).2.2.1) (hfin : (r.2.1 f).2.2.2 = true) (hin : mt.1.name = "<init>") (hdecl : (r.2.1 f).1 = mt.1.cls) (hz : zTy ci f = .int ∨ (zTy ci f = .boolean ∧ (v = 0 ∨ v = 1))) (hk : kt e.1 = ci) (hd : decode mt.2.1 pc = .ok (.putfield index, 3))
    (kk : wp d mt (pc + 3) lv st (sI M e.1 e.2 f v) Q) : wp d mt pc lv (.inl v :: .inr e :: st) M Q :=
  a_putF (k := e.1) (i := e.2) (v := .inl v) (kt_nz hr hk) (kt_stk hr hk) (by rw [hk]; exact hr) hf hlink hsame hfin hin hdecl (by rw [hk]; exact hz) hd kk
theorem a_fR {e v : Nat × Nat} {f index ci : Nat} {ref : String} {r : vw_C} (hr : zCl[ci]? = some r) (hf : f < r.2.2) (hlink : Cond.fieldLink mt.1.cls index ref (r.2.1 f).2.1 (r.2.1 f).2.2.1 ∈ lw_all) (hsame : zsm ref (r.2.1 f).1 (r.2.1 f).2.1 (r.2.1 f).2.2.1) (hfin : (r.2.1 f).2.2.2 = true) (hin : mt.1.name = "<init>") (hdecl : (r.2.1 f).1 = mt.1.cls) (hz : zIsR (zTy ci f) = true) (hk : kt e.1 = ci) (hd : decode mt.2.1 pc = .ok (.putfield index, 3))
    (kk : wp d mt (pc + 3) lv st (sR M e.1 e.2 f v) Q) : wp d mt pc lv (.inr v :: .inr e :: st) M Q :=
  a_putF (k := e.1) (i := e.2) (v := .inr v) (kt_nz hr hk) (kt_stk hr hk) (by rw [hk]; exact hr) hf hlink hsame hfin hin hdecl (by rw [hk]; exact hz) hd kk
theorem a_fIg {e : Nat × Nat} {f index : Nat} {ref : String} {v : Int32} (hf : f < 7) (hlink : Cond.fieldLink mt.1.cls index ref (TX5 f).2.1 (TX5 f).2.2.1 ∈ lw_all) (hsame : zsm ref (TX5 f).1 (TX5 f).2.1 (TX5 f).2.2.1) (hfin : (TX5 f).2.2.2 = true) (hin : mt.1.name = "<init>") (hdecl : (TX5 f).1 = mt.1.cls) (hz : tyX5 f = .int ∨ (tyX5 f = .boolean ∧ (v = 0 ∨ v = 1))) (hk : gk e.1) (hd : decode mt.2.1 pc = .ok (.putfield index, 3))
    (kk : wp d mt (pc + 3) lv st (sI M e.1 e.2 f v) Q) : wp d mt pc lv (.inl v :: .inr e :: st) M Q := by
  obtain ⟨r, h1, h2, h3, h4⟩ := gCl hk hf
  exact a_putF (k := e.1) (i := e.2) (v := .inl v) (gk_nz hk) (gk_stk hk) h1 h2 (by rw [h3]; exact hlink) (by rw [h3]; exact hsame) (by rw [h3]; exact hfin) hin (by rw [h3]; exact hdecl) (by rw [h4]; exact hz) hd kk
theorem a_fRg {e v : Nat × Nat} {f index : Nat} {ref : String} (hf : f < 7) (hlink : Cond.fieldLink mt.1.cls index ref (TX5 f).2.1 (TX5 f).2.2.1 ∈ lw_all) (hsame : zsm ref (TX5 f).1 (TX5 f).2.1 (TX5 f).2.2.1) (hfin : (TX5 f).2.2.2 = true) (hin : mt.1.name = "<init>") (hdecl : (TX5 f).1 = mt.1.cls) (hz : zIsR (tyX5 f) = true) (hk : gk e.1) (hd : decode mt.2.1 pc = .ok (.putfield index, 3))
    (kk : wp d mt (pc + 3) lv st (sR M e.1 e.2 f v) Q) : wp d mt pc lv (.inr v :: .inr e :: st) M Q := by
  obtain ⟨r, h1, h2, h3, h4⟩ := gCl hk hf
  exact a_putF (k := e.1) (i := e.2) (v := .inr v) (gk_nz hk) (gk_stk hk) h1 h2 (by rw [h3]; exact hlink) (by rw [h3]; exact hsame) (by rw [h3]; exact hfin) hin (by rw [h3]; exact hdecl) (by rw [h4]; exact hz) hd kk
theorem a_fRk {e v : Nat × Nat} {f index : Nat} {ref : String} (hf : f < 4) (hlink : Cond.fieldLink mt.1.cls index ref (TX21 f).2.1 (TX21 f).2.2.1 ∈ lw_all) (hsame : zsm ref (TX21 f).1 (TX21 f).2.1 (TX21 f).2.2.1) (hfin : (TX21 f).2.2.2 = true) (hin : mt.1.name = "<init>") (hdecl : (TX21 f).1 = mt.1.cls) (hz : zIsR (tyX21 f) = true) (hk : ak e.1) (hd : decode mt.2.1 pc = .ok (.putfield index, 3))
    (kk : wp d mt (pc + 3) lv st (sR M e.1 e.2 f v) Q) : wp d mt pc lv (.inr v :: .inr e :: st) M Q := by
  obtain ⟨r, h1, h2, h3, h4⟩ := aCl hk hf
  exact a_putF (k := e.1) (i := e.2) (v := .inr v) (ak_nz hk) (ak_stk hk) h1 h2 (by rw [h3]; exact hlink) (by rw [h3]; exact hsame) (by rw [h3]; exact hfin) hin (by rw [h3]; exact hdecl) (by rw [h4]; exact hz) hd kk
theorem a_pIk {e : Nat × Nat} {f index : Nat} {ref : String} {v : Int32} (hf : f < 4) (hlink : zlk mt.1.cls index ref (TX21 f).2.1 (TX21 f).2.2.1) (hsame : zsm ref (TX21 f).1 (TX21 f).2.1 (TX21 f).2.2.1) (hfin : (TX21 f).2.2.2 = false) (hz : tyX21 f = .int ∨ (tyX21 f = .boolean ∧ (v = 0 ∨ v = 1))) (hk : ak e.1) (hd : decode mt.2.1 pc = .ok (.putfield index, 3))
    (kk : wp d mt (pc + 3) lv st (sI M e.1 e.2 f v) Q) : wp d mt pc lv (.inl v :: .inr e :: st) M Q := by
  obtain ⟨r, h1, h2, h3, h4⟩ := aCl hk hf
  exact a_put (k := e.1) (i := e.2) (v := .inl v) (ak_nz hk) (ak_stk hk) h1 h2 (by rw [h3]; exact hlink) (by rw [h3]; exact hsame) (by rw [h3]; exact hfin) (by rw [h4]; exact hz) hd kk
theorem ln_of {n : Nat} (h : n ≠ 0) : n = n - 1 + 1 := by omega
theorem a_xiald {e : Nat × Nat} {x : Int32} (h : arI M e 100 x) (hd : decode mt.2.1 pc = .ok (.iaload, 1)) (kk : wp d mt (pc + 1) lv (.inl (M.1 e.1 e.2 x.toNatClampNeg) :: st) M Q) : wp d mt pc lv (.inl x :: .inr e :: st) M Q :=
  a_iald (k := e.1) (i := e.2) h.1 h.2.1 (ln_of h.2.2.1) h.2.2.2 hd kk
theorem a_xzald {e : Nat × Nat} {x : Int32} (h : arI M e 101 x) (hd : decode mt.2.1 pc = .ok (.baload, 1)) (kk : wp d mt (pc + 1) lv (.inl (M.1 e.1 e.2 x.toNatClampNeg) :: st) M Q) : wp d mt pc lv (.inl x :: .inr e :: st) M Q :=
  a_zald (k := e.1) (i := e.2) h.1 h.2.1 (ln_of h.2.2.1) h.2.2.2 hd kk
theorem a_xaald {e : Nat × Nat} {x : Int32} (h : arR M e x) (hd : decode mt.2.1 pc = .ok (.aaload, 1)) (kk : wp d mt (pc + 1) lv (.inr (M.2.1 e.1 e.2 x.toNatClampNeg) :: st) M Q) : wp d mt pc lv (.inl x :: .inr e :: st) M Q :=
  a_aald (k := e.1) (i := e.2) (kt_nz2 h.1) h.1 (ln_of h.2.1) h.2.2 hd kk
theorem a_xalen {e : Nat × Nat} (h : arL M e) (hd : decode mt.2.1 pc = .ok (.arraylength, 1)) (kk : wp d mt (pc + 1) lv (.inl (nI (M.2.2.1 e.1 e.2 - 1)) :: st) M Q) : wp d mt pc lv (.inr e :: st) M Q :=
  a_alen (k := e.1) (i := e.2) h.1 h.2.1 (ln_of h.2.2) hd kk
theorem a_xiast {e : Nat × Nat} {x v : Int32} (h : arI M e 100 x ∧ stk e.1 = false) (hd : decode mt.2.1 pc = .ok (.iastore, 1)) (kk : wp d mt (pc + 1) lv st (sI M e.1 e.2 x.toNatClampNeg v) Q) : wp d mt pc lv (.inl v :: .inl x :: .inr e :: st) M Q :=
  a_iast (k := e.1) (i := e.2) h.1.1 h.2 h.1.2.1 (ln_of h.1.2.2.1) h.1.2.2.2 hd kk
theorem a_xzast {e : Nat × Nat} {x v : Int32} (h : arI M e 101 x ∧ stk e.1 = false) (hv : v = 0 ∨ v = 1) (hd : decode mt.2.1 pc = .ok (.bastore, 1)) (kk : wp d mt (pc + 1) lv st (sI M e.1 e.2 x.toNatClampNeg v) Q) : wp d mt pc lv (.inl v :: .inl x :: .inr e :: st) M Q :=
  a_zast (k := e.1) (i := e.2) h.1.1 h.2 h.1.2.1 hv (ln_of h.1.2.2.1) h.1.2.2.2 hd kk
theorem a_nwr {k i index : Nat} {E0 : String} {x : Int32} (hk : k ≠ 0) (ht : kt k = 102 ∨ kt k = 103) (hE : zel (kt k) = .object E0) (hx : ¬ x < 0) (hb : x.toNatClampNeg ≤ 100000) (hr : rom M x.toNatClampNeg) (hf : M.2.2.1 k i = 0) (w1 : Cond.classLink mt.1.cls index E0 ∈ lw_all) (hd : decode mt.2.1 pc = .ok (.anewarray index, 3))
    (kk : wp d mt (pc + 3) lv (.inr (k, i) :: st) (sN M k i x.toNatClampNeg x.toNatClampNeg) Q) : wp d mt pc lv (.inl x :: st) M Q :=
  a_anew hk ht hE hf hx rfl hb hr.1 hr.2 w1 hd kk
theorem a_nwa {k i : Nat} {atype : ArrayType} {x : Int32} (hk : k ≠ 0) (ht : kt k = 100 ∨ kt k = 101) (hty : newarray.typeOf atype = zel (kt k)) (hx : ¬ x < 0) (hb : x.toNatClampNeg ≤ 100000) (hr : rom M x.toNatClampNeg) (hf : M.2.2.1 k i = 0) (w1 : Cond.arrayClass (zel (kt k)) ∈ lw_all) (hd : decode mt.2.1 pc = .ok (.newarray atype, 2))
    (kk : wp d mt (pc + 2) lv (.inr (k, i) :: st) (sN M k i x.toNatClampNeg x.toNatClampNeg) Q) : wp d mt pc lv (.inl x :: st) M Q :=
  a_newa hk ht hty hf hx rfl hb hr.1 hr.2 w1 hd kk
theorem a_nwo {k i index : Nat} {r : vw_C} (hk : k ≠ 0) (hr : zCl[kt k]? = some r) (hm : rom M r.2.2) (hf : M.2.2.1 k i = 0) (w1 : Cond.classLink mt.1.cls index r.1 ∈ lw_all) (w2 : Cond.instantiable r.1 r.2.2 ∈ lw_all) (w3 : Cond.initialized r.1 ∈ lw_all) (hd : decode mt.2.1 pc = .ok (.new index, 3))
    (kk : wp d mt (pc + 3) lv (.inr (k, i) :: st) (sN M k i 0 r.2.2) Q) : wp d mt pc lv st M Q :=
  a_new hk hr hf hm.1 hm.2 w1 w2 w3 hd kk
theorem a_ck {x : Nat × Nat} {index ci : Nat} {r : vw_C} (hr : zCl[ci]? = some r) (hlink : Cond.classLink mt.1.cls index r.1 ∈ lw_all) (hk : kt x.1 = ci) (hd : decode mt.2.1 pc = .ok (.checkcast index, 3)) (kk : wp d mt (pc + 3) lv (.inr x :: st) M Q) : wp d mt pc lv (.inr x :: st) M Q :=
  a_cast hlink (Or.inr (Or.inl (zname_of hr hk))) hd kk
theorem a_cka {x : Nat × Nat} {index : Nat} (hlink : Cond.classLink mt.1.cls index "[LWaterWorks$Guard;" ∈ lw_all) (hk : kt x.1 = 103) (hd : decode mt.2.1 pc = .ok (.checkcast index, 3)) (kk : wp d mt (pc + 3) lv (.inr x :: st) M Q) : wp d mt pc lv (.inr x :: st) M Q :=
  a_cast hlink (Or.inr (Or.inl (by unfold zname; rw [hk]; rfl))) hd kk
theorem zNo_ok : ∀ a ∈ ([5, 6, 7, 8, 9, 10, 11, 12, 13, 14] : List Nat), ∀ b ∈ ([5, 6, 7, 12] : List Nat), a ≠ b → (((zCl[a]?).getD (RX0, TX0, 14)).1, ((zCl[b]?).getD (RX0, TX0, 14)).1) ∈ zNo := by
  intro a ha b hb hab
  unfold zNo
  refine List.mem_map.mpr ⟨(a, b), List.mem_flatMap.mpr ⟨a, ha, List.mem_filterMap.mpr ⟨b, hb, ?_⟩⟩, rfl⟩
  rw [if_neg hab]
theorem gk_ci {k : Nat} (h : gk k) : kt k ∈ ([5, 6, 7, 8, 9, 10, 11, 12, 13, 14] : List Nat) := by
  rcases gkc h with e | e | e | e | e | e | e | e | e | e <;> subst e <;> decide
theorem a_iso {e : Nat × Nat} {index ci : Nat} {r : vw_C} (hr : zCl[ci]? = some r) (hb : ci ∈ ([5, 6, 7, 12] : List Nat)) (hlink : Cond.classLink mt.1.cls index r.1 ∈ lw_all) (hg : gk e.1) (hd : decode mt.2.1 pc = .ok (.instanceof index, 3)) (ky : kt e.1 = ci → wp d mt (pc + 3) lv (.inl 1 :: st) M Q) (kn : ¬ kt e.1 = ci → wp d mt (pc + 3) lv (.inl 0 :: st) M Q) : wp d mt pc lv (.inr e :: st) M Q := by
  have hx : e ≠ (0, 0) := fun q => gk_nz hg (by rw [q])
  by_cases h : kt e.1 = ci
  · exact a_instY hx hlink (zname_of hr h) hd (ky h)
  · refine a_instNo hx hlink ?_ hd (kn h)
    obtain ⟨r', h1, -⟩ := gCl hg (f := 0) (by decide)
    have h3 := zNo_ok _ (gk_ci hg) ci hb h
    rw [h1, hr] at h3
    rw [zname_of h1 rfl]
    exact h3
theorem a_cvo {y : zMt} {ci : Nat} {r : vw_C} {e : Nat × Nat} {as : List AV} {index n : Nat} (hr : zCl[ci]? = some r) (hk : kt e.1 = ci) (hlink : zml mt.1.cls index y.1) (w0 : Cond.selects r.1 y.1 y.1 ∈ lw_all) (w1 : Cond.instanceMethod y.1 ∈ lw_all) (w2 : Cond.initialized y.1.cls ∈ lw_all) (w3 : Cond.code y.1 y.2.1 y.2.2.1 y.2.2.2 ∈ lw_all) (hy : zmh y.1 n) (hn : as.length = n) (hm : y.2.2.1 ≤ 22) (hst : st.length ≤ 8) (hd : decode mt.2.1 pc = .ok (.invokevirtual index, 3))
    (h : ct d y (.inr e :: as) M (fun r M' => wp (d + 1) mt (pc + 3) lv (r.toList ++ st) M' Q)) : wp (d + 1) mt pc lv (as.reverse ++ .inr e :: st) M Q :=
  a_cv (k := e.1) (i := e.2) (kt_nz hr hk) hlink (by rw [zname_of hr hk]; exact w0) w1 w2 w3 hy hn hm hst hd h
end DRows
