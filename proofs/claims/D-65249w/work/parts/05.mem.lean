set_option maxRecDepth 100000
/-! changes of the memory -/
def sI (M : Mem) (k i f : Nat) (v : Int32) : Mem := (fun k' i' f' => if k' = k ∧ i' = i ∧ f' = f then v else M.1 k' i' f', M.2)
def sR (M : Mem) (k i f : Nat) (v : Nat × Nat) : Mem := (M.1, fun k' i' f' => if k' = k ∧ i' = i ∧ f' = f then v else M.2.1 k' i' f', M.2.2)
/-- a new object or array, of n places, blank -/
def sN (M : Mem) (k i n w : Nat) : Mem := (fun k' i' f' => if k' = k ∧ i' = i then 0 else M.1 k' i' f', fun k' i' f' => if k' = k ∧ i' = i then (0, 0) else M.2.1 k' i' f', fun k' i' => if k' = k ∧ i' = i then n + 1 else M.2.2.1 k' i', M.2.2.2.1 + 1, M.2.2.2.2 + w)
theorem zSum_congr {A B : Heap} {a : Nat} (h : ∀ q : Nat, (A[q]?).map (·.slots.size) = (B[q]?).map (·.slots.size)) : zSum A a = zSum B a := by
  unfold zSum
  congr 1
  apply List.ext_getElem?
  intro i
  have := h (a + i)
  simpa using this
theorem zIn : ∀ (ci : Nat) (r : vw_C), zCl[ci]? = some r → ∀ w ∈ u_ws r.1 r.2.1 r.2.2, w ∈ lw_all := by
  intro ci r hr
  match ci, hr with
  | 0, hr => cases hr; exact in_X0
  | 1, hr => cases hr; exact in_X1
  | 2, hr => cases hr; exact in_X2
  | 3, hr => cases hr; exact in_X3
  | 4, hr => cases hr; exact in_X0
  | 5, hr => cases hr; exact in_X5
  | 6, hr => cases hr; exact in_X6
  | 7, hr => cases hr; exact in_X7
  | 8, hr => cases hr; exact in_X8
  | 9, hr => cases hr; exact in_X9
  | 10, hr => cases hr; exact in_X10
  | 11, hr => cases hr; exact in_X11
  | 12, hr => cases hr; exact in_X12
  | 13, hr => cases hr; exact in_X13
  | 14, hr => cases hr; exact in_X14
  | 15, hr => cases hr; exact in_X15
  | 16, hr => cases hr; exact in_X16
  | 17, hr => cases hr; exact in_X17
  | 18, hr => cases hr; exact in_X18
  | 19, hr => cases hr; exact in_X19
  | 20, hr => cases hr; exact in_X0
  | 21, hr => cases hr; exact in_X21
  | 22, hr => cases hr; exact in_X22
  | 23, hr => cases hr; exact in_X23
  | 24, hr => cases hr; exact in_X24
  | 25, hr => cases hr; exact in_J2
  | n + 26, hr => simp [zCl] at hr
theorem zTy_ok : ∀ (ci : Nat) (r : vw_C), zCl[ci]? = some r → ∀ k, k < r.2.2 → parseFieldDescriptor (r.2.1 k).2.2.1 = some (zTy ci k) := by
  intro ci r hr
  match ci, hr with
  | 0, hr => cases hr; exact tyX0_ok
  | 1, hr => cases hr; exact tyX1_ok
  | 2, hr => cases hr; exact tyX2_ok
  | 3, hr => cases hr; exact tyX3_ok
  | 4, hr => cases hr; exact tyX0_ok
  | 5, hr => cases hr; exact tyX5_ok
  | 6, hr => cases hr; exact tyX6_ok
  | 7, hr => cases hr; exact tyX7_ok
  | 8, hr => cases hr; exact tyX8_ok
  | 9, hr => cases hr; exact tyX9_ok
  | 10, hr => cases hr; exact tyX10_ok
  | 11, hr => cases hr; exact tyX11_ok
  | 12, hr => cases hr; exact tyX12_ok
  | 13, hr => cases hr; exact tyX13_ok
  | 14, hr => cases hr; exact tyX14_ok
  | 15, hr => cases hr; exact tyX15_ok
  | 16, hr => cases hr; exact tyX16_ok
  | 17, hr => cases hr; exact tyX17_ok
  | 18, hr => cases hr; exact tyX18_ok
  | 19, hr => cases hr; exact tyX19_ok
  | 20, hr => cases hr; exact tyX0_ok
  | 21, hr => cases hr; exact tyX21_ok
  | 22, hr => cases hr; exact tyX22_ok
  | 23, hr => cases hr; exact tyX23_ok
  | 24, hr => cases hr; exact tyX24_ok
  | 25, hr => cases hr; exact tyJ2_ok
  | n + 26, hr => simp [zCl] at hr
/-- no two fields of a class have both owner and name alike -/
def zdif (r : vw_C) : Bool := (List.range r.2.2).all fun a => (List.range r.2.2).all fun b => a == b || !((r.2.1 a).1 == (r.2.1 b).1 && (r.2.1 a).2.1 == (r.2.1 b).2.1)
theorem zdif_all : zCl.all zdif = true := by decide +kernel
theorem zdif_of {ci : Nat} {r : vw_C} (hr : zCl[ci]? = some r) {a b : Nat} (ha : a < r.2.2) (hb : b < r.2.2) (hne : a ≠ b) : ¬ ((r.2.1 a).1 = (r.2.1 b).1 ∧ (r.2.1 a).2.1 = (r.2.1 b).2.1) := by
  have h := List.all_eq_true.mp zdif_all r (List.mem_of_getElem? hr)
  have h1 := List.all_eq_true.mp (List.all_eq_true.mp h a (List.mem_range.mpr ha)) b (List.mem_range.mpr hb)
  simp only [Bool.or_eq_true, beq_iff_eq, Bool.not_eq_true', Bool.and_eq_false_iff] at h1
  rcases h1 with h1 | h1 | h1
  · exact absurd h1 hne
  · exact fun h => by simp [h.1] at h1
  · exact fun h => by simp [h.2] at h1
theorem zfind_name {vm : Vm} {C : String} {c : ClassId} {k : Class} (h : vm.findClass C = some c) (hk : vm.classes[c]? = some k) : k.name = C := by
  unfold Vm.findClass at h
  obtain ⟨hlt, h1, -⟩ := Array.findIdx?_eq_some_iff_getElem.mp h
  rw [Array.getElem?_eq_getElem hlt] at hk
  cases hk
  simp only [Bool.and_eq_true, beq_iff_eq] at h1
  exact h1.1.1.1
theorem zlaid {args : Array Value} {s : State} {C O f d : String} (h : (Cond.lays C O f d).before args s = true ∨ (Cond.laysFinal C O f d).before args s = true) {cf kf fi fd} (hi : s.fieldFound? O f d = some (cf, kf, fi, fd)) : ∃ a d', s.vm.findClass C = some a ∧ Jmm.declares? s.vm fd.slot (a + 1) a = some d' ∧ d'.2.name = fd.name ∧ d'.1.name = O := by
  have key : ∃ a d', s.vm.findClass C = some a ∧ Jmm.declares? s.vm fd.slot (a + 1) a = some d' ∧ d'.2.name = fd.name ∧ d'.1.name = kf.name ∧ s.vm.findClass O = some cf := by
    rcases h with h | h
    · have h0 := h
      obtain ⟨c, k, c', k', i, f2, hc, hk, hf, -, -, -, -, d', hd, hn1, hn2, -⟩ := Cond.lays_spec h
      cases hi.symm.trans hf
      refine ⟨c, d', hc, hd, hn2, hn1, ?_⟩
      simp only [Cond.before, Cond.holds, Cond.value] at h0
      rw [hc, hi] at h0
      simp [hk] at h0
      exact h0.1.1.2
    · obtain ⟨c, k, c', k', i, f2, hc, hk, hf, -, -, -, ho, -, d', hd, hn1, hn2, -⟩ := Cond.laysFinal_spec h
      cases hi.symm.trans hf
      exact ⟨c, d', hc, hd, hn2, hn1, ho⟩
  obtain ⟨a, d', h1, h2, h3, h4, h5⟩ := key
  refine ⟨a, d', h1, h2, h3, h4.trans ?_⟩
  have hk : s.vm.classes[cf]? = some kf := by
    unfold State.fieldFound? at hi
    simp only [Option.bind_eq_bind, Option.bind_eq_some_iff, Option.pure_def, Option.some.injEq, Prod.exists, Prod.mk.injEq] at hi
    obtain ⟨_, _, _, _, _, _, _, _, hk, _, _, rfl, rfl, _⟩ := hi
    exact hk
  exact zfind_name h5 hk
theorem zApart {G : zG} {s : State} (hK : Kst G s) {ci : Nat} {r : vw_C} (hr : zCl[ci]? = some r) : ∀ a b, a < r.2.2 → b < r.2.2 → a ≠ b → G.1.2 ci a ≠ G.1.2 ci b := by
  intro a b ha hb hne
  obtain ⟨hS, -⟩ := hK.1.1 ci _ hr
  obtain ⟨_, _, _, fa, hia, ea⟩ := hS a ha
  obtain ⟨_, _, _, fb, hib, eb⟩ := hS b hb
  have hts : ∀ w ∈ lw_all, w.before #[] s = true := fun w hw => hK.2.1 w hw _
  rw [← ea, ← eb]
  obtain ⟨x, d, h1, h2, h3, h4⟩ := zlaid (u_lays hts (zIn ci r hr) ha) hia
  obtain ⟨x', d', h1', h2', h3', h4'⟩ := zlaid (u_lays hts (zIn ci r hr) hb) hib
  cases h1.symm.trans h1'
  intro e
  rw [e] at h2
  cases h2.symm.trans h2'
  refine zdif_of hr ha hb hne ⟨h4.symm.trans h4', ?_⟩
  have n1 := (State.fieldFound?_type hia (zTy_ok ci r hr a ha)).1
  have n2 := (State.fieldFound?_type hib (zTy_ok ci r hr b hb)).1
  rw [← n1, ← n2, ← h3, ← h3']
theorem zAt.kept {G : zG} {lc lc' : Nat → Nat → Nat} {M M' : Mem} {k i : Nat} {H H1 : Heap} (h : zAt G lc M k i H) (hL : M'.2.2.1 k i = M.2.2.1 k i) (hI : ∀ f, M'.1 k i f = M.1 k i f) (hR : ∀ f, M'.2.1 k i f = M.2.1 k i f) (hlc : lc' k i = lc k i) (hcv : ∀ f, cv lc' (.inr (M.2.1 k i f)) = cv lc (.inr (M.2.1 k i f))) (hH : H1[lc k i]? = H[lc k i]?) : zAt G lc' M' k i H1 := by
  have e1 : (fun j => Value.int (M'.1 k i j)) = fun j => .int (M.1 k i j) := funext fun j => by rw [hI]
  have e2 : (fun j => cv lc' (.inr (M'.2.1 k i j))) = fun j => cv lc (.inr (M.2.1 k i j)) := funext fun j => by rw [hR, hcv]
  have e3 : zV lc' M' k i (kt k) = zV lc M k i (kt k) := by
    funext f
    unfold zV
    rw [hI, hR, hcv]
  unfold zAt at h ⊢
  rw [hL, hlc, hH, e1, e2, e3]
  by_cases c0 : kt k = 100
  · rw [if_pos c0] at h ⊢; exact h
  rw [if_neg c0] at h ⊢
  by_cases c1 : kt k = 101
  · rw [if_pos c1] at h ⊢; exact h
  rw [if_neg c1] at h ⊢
  by_cases c2 : kt k = 102
  · rw [if_pos c2] at h ⊢; exact h
  rw [if_neg c2] at h ⊢
  by_cases c3 : kt k = 103
  · rw [if_pos c3] at h ⊢; exact h
  rw [if_neg c3] at h ⊢
  obtain ⟨r, h1, h2⟩ := h
  exact ⟨r, h1, h2.kept hH⟩
theorem Rep.upd {G : zG} {lc : Nat → Nat → Nat} {M M' : Mem} {U : State} {H H1 : Heap} (R : Rep G lc M U H) {k i : Nat} (hk : k ≠ 0) (hl : M.2.2.1 k i ≠ 0) (hs : stk k = false) (hM : M'.2.2 = M.2.2) (h1 : ∀ k' i' f, ¬ (k' = k ∧ i' = i) → M'.1 k' i' f = M.1 k' i' f ∧ M'.2.1 k' i' f = M.2.1 k' i' f) (h2 : ∀ f, okk M (M'.2.1 k i f)) (ho : ∀ q : Nat, q ≠ lc k i → H1[q]? = H[q]?) (hz : (H1[lc k i]?).map (·.slots.size) = (H[lc k i]?).map (·.slots.size)) (hH : H1.size = H.size) (hat : zAt G lc M' k i H1) : Rep G lc M' U H1 := by
  obtain ⟨r1, r2, r3, r4, r5, r6, r7, r8, r9⟩ := R
  have hb := (r1 k i hk hl).2 hs
  refine ⟨fun k' i' hk' hl' => ?_, fun a b c d h3 h4 h5 h6 h7 => ?_, fun a b f h3 h4 => ?_, ?_, ?_, ?_, by rw [hM]; exact r7, by rw [hM]; exact r8, by rw [hM]; exact r9⟩
  · rw [hM] at hl'
    by_cases he : k' = k ∧ i' = i
    · obtain ⟨rfl, rfl⟩ := he
      exact ⟨hat, (r1 _ _ hk' hl').2⟩
    · refine ⟨(r1 _ _ hk' hl').1.kept (by rw [hM]) (fun f => (h1 k' i' f he).1) (fun f => (h1 k' i' f he).2) rfl (fun _ => rfl) (ho _ fun q => he ?_), (r1 _ _ hk' hl').2⟩
      exact r2 k' i' k i hk' hk hl' hl q
  · rw [hM] at h5 h6
    exact r2 a b c d h3 h4 h5 h6 h7
  · rw [hM] at h4
    by_cases he : a = k ∧ b = i
    · obtain ⟨rfl, rfl⟩ := he
      have := h2 f
      unfold okk at this ⊢
      rw [hM]; exact this
    · rw [(h1 a b f he).2]
      have := r3 a b f h3 h4
      unfold okk at this ⊢
      rw [hM]; exact this
  · rw [hH, hM]; exact r4
  · rw [hM, ← r5]
    refine zSum_congr fun q => ?_
    by_cases hq : q = lc k i
    · rw [hq]; exact hz
    · rw [ho q hq]
  · exact ⟨va_Z.kept r6.1 (fun a _ h => ho a fun e => h (by rw [e]; exact hb)), va_Z.kept r6.2 (fun a _ h => ho a fun e => h (by rw [e]; exact hb))⟩
theorem zlt {ci : Nat} {r : vw_C} (hr : zCl[ci]? = some r) : ci < 26 := by
  have := (List.getElem?_eq_some_iff.mp hr).1
  exact this
theorem zAt.obj {G : zG} {lc : Nat → Nat → Nat} {M : Mem} {k i : Nat} {H : Heap} {r : vw_C} (hr : zCl[kt k]? = some r) : zAt G lc M k i H ↔ t_OB (lc k i) (G.1.1 (kt k)) r.2.2 (G.1.2 (kt k)) H (zV lc M k i (kt k)) := by
  have h := zlt hr
  unfold zAt
  rw [if_neg (by omega), if_neg (by omega), if_neg (by omega), if_neg (by omega)]
  constructor
  · rintro ⟨r', h1, h2⟩
    cases hr.symm.trans h1
    exact h2
  · exact fun h => ⟨r, hr, h⟩
def zlk (own : String) (index : Nat) (ref name desc : String) : Prop := Cond.fieldLink own index ref name desc ∈ lw_all ∨ ∃ host, Cond.fieldLinkNest own index ref name desc host ∈ lw_tbl
def zsm (ref owner name desc : String) : Prop := ref = owner ∨ Cond.sameField ref owner name desc ∈ lw_all
theorem zsm.use {ref owner name desc : String} (h : zsm ref owner name desc) {G : zG} {s : State} (hK : Kst G s) : ∀ x, s.fieldFound? owner name desc = some x → s.fieldFound? ref name desc = some x := by
  intro x hx
  rcases h with h | h
  · rw [h]; exact hx
  · exact u_same (hK.2.1 _ h #[]) x hx
def zfit (ty : FieldType) (v : AV) : Prop := match v with
  | .inl x => ty = .int ∨ (ty = .boolean ∧ (x = 0 ∨ x = 1))
  | .inr _ => zIsR ty = true
def sV (M : Mem) (k i f : Nat) (v : AV) : Mem := match v with
  | .inl x => sI M k i f x
  | .inr y => sR M k i f y
theorem zfit.n {ty : FieldType} {v : AV} (h : zfit ty v) (lc : Nat → Nat → Nat) : narrow ty (cv lc v) = cv lc v ∧ fits ty (cv lc v) = true := by
  cases v with
  | inl x =>
    rcases h with h | ⟨h, h2⟩
    · rw [h]; exact ⟨rfl, rfl⟩
    · rw [h]
      rcases h2 with h2 | h2 <;> rw [h2] <;> exact ⟨rfl, rfl⟩
  | inr y =>
    have h' : zIsR ty = true := h
    unfold zIsR at h'
    split at h'
    · rcases cv_ref lc y with e | ⟨a, e⟩ <;> rw [e] <;> exact ⟨rfl, rfl⟩
    · rcases cv_ref lc y with e | ⟨a, e⟩ <;> rw [e] <;> exact ⟨rfl, rfl⟩
    · cases h'
theorem zfit.r {ty : FieldType} {v : AV} (h : zfit ty v) {lc : Nat → Nat → Nat} {M : Mem} {k i ci f : Nat} (e : zTy ci f = ty) : zV lc (sV M k i f v) k i ci f = cv lc v := by
  unfold zV
  rw [e]
  cases v with
  | inl x =>
    have h0 : zIsR ty = false := by
      rcases h with h | ⟨h, -⟩ <;> rw [h] <;> rfl
    rw [h0]
    simp [sV, sI, cv]
  | inr y =>
    rw [show zIsR ty = true from h]
    simp [sV, sR, cv]
theorem zV.ne {lc : Nat → Nat → Nat} {M : Mem} {k i ci f g : Nat} {v : AV} (h : g ≠ f) : zV lc (sV M k i f v) k i ci g = zV lc M k i ci g := by
  unfold zV
  cases v with
  | inl x => simp [sV, sI, h]
  | inr y => simp [sV, sR, h]
theorem sV.mm (M : Mem) (k i f : Nat) (v : AV) : (sV M k i f v).2.2 = M.2.2 := by cases v <;> rfl
theorem sV.off {M : Mem} {k i f : Nat} {v : AV} {k' i' f' : Nat} (h : ¬ (k' = k ∧ i' = i)) : (sV M k i f v).1 k' i' f' = M.1 k' i' f' ∧ (sV M k i f v).2.1 k' i' f' = M.2.1 k' i' f' := by
  cases v with
  | inl x => exact ⟨if_neg (fun e => h ⟨e.1, e.2.1⟩), rfl⟩
  | inr y => exact ⟨rfl, if_neg (fun e => h ⟨e.1, e.2.1⟩)⟩
theorem sV.ok {M : Mem} {k i f : Nat} {v : AV} (hv : okv M v) (h : ∀ f, okk M (M.2.1 k i f)) (g : Nat) : okk M ((sV M k i f v).2.1 k i g) := by
  cases v with
  | inl x => exact h g
  | inr y =>
    show okk M (if _ then _ else _)
    split
    · exact hv
    · exact h g
theorem Ext.mm {M M' : Mem} {lc : Nat → Nat → Nat} (h : M'.2.2 = M.2.2) : Ext M lc M' lc := ⟨fun k i _ hl => ⟨rfl, by rw [h]; exact hl⟩, by rw [h]; exact Nat.le_refl _, by rw [h]; exact Nat.le_refl _⟩
theorem live_of {M : Mem} {k i : Nat} (h : okv M (.inr (k, i))) (hk : k ≠ 0) : M.2.2.1 k i ≠ 0 := by
  rcases h with h | h
  · exact absurd (congrArg Prod.fst h) hk
  · exact h.2
section MemRows
variable {d : Nat} {mt : zMt} {pc : Nat} {lv : List (Nat × AV)} {st : List AV} {M : Mem} {Q : Option AV → Mem → Prop}
theorem a_get {k i f index : Nat} {ref : String} {r : vw_C} (hk : k ≠ 0) (hr : zCl[kt k]? = some r) (hf : f < r.2.2) (hlink : zlk mt.1.cls index ref (r.2.1 f).2.1 (r.2.1 f).2.2.1) (hsame : zsm ref (r.2.1 f).1 (r.2.1 f).2.1 (r.2.1 f).2.2.1) {v : AV} (hv : v = (if zIsR (zTy (kt k) f) then .inr (M.2.1 k i f) else .inl (M.1 k i f))) (hd : decode mt.2.1 pc = .ok (.getfield index, 3))
    (kk : wp d mt (pc + 3) lv (v :: st) M Q) : wp d mt pc lv (.inr (k, i) :: st) M Q := by
  intro p l e s m args below meth c H locs G lc lc0 M0 ls C R E B L S
  have hl := live_of S.h hk
  have hK := C.2.2.2.2.2.2.2.1
  obtain ⟨cell, q1, q2, q3, q4⟩ := (zAt.obj hr).mp (R.1 k i hk hl).1
  obtain ⟨hS, hfc, kC, hkC, hkind⟩ := hK.1.1 (kt k) _ hr
  obtain ⟨cf, kf, fi, fd, hi, hsl⟩ := hS f hf
  have hts : ∀ w ∈ lw_all, w.before args s = true := fun w hw => hK.2.1 w hw _
  have hov : okv M v := by
    rw [hv]; split
    · exact R.2.2.1 k i f hk hl
    · trivial
  have hcv : cell.slots[fd.slot]? = some (cv lc v) := by
    rw [hsl, q4 f hf, hv]
    unfold zV
    split <;> rfl
  have h2 := kk p l e s m args below meth c H locs G lc lc0 M0 ls C R E B L (S.t.c hov)
  have hst := (u_facts hfc hkC (u_lays hts (zIn _ r hr) hf) hi).1
  rw [List.map_cons, cv_nn (show (k, i).1 ≠ 0 from hk)]
  rcases hlink with hlink | ⟨host, hlink⟩
  · exact W.getf C.1 C.2.1 C.2.2.2.2.2.1 (hts _ hlink) (hsame.use hK _ hi) hst q1 (by rw [q3]; exact fun h => by cases h) hcv rfl rfl hd h2
  · exact va_Wgetf C.1 C.2.1 C.2.2.2.2.2.1 (va_Nw.use rfl (hK.2.2.1 _ hlink rfl)) (hsame.use hK _ hi) hst q1 (by rw [q3]; exact fun h => by cases h) hcv rfl rfl hd h2
theorem zput {G : zG} {lc : Nat → Nat → Nat} {s : State} {H H1 : Heap} (hK : Kst G s) (R : Rep G lc M s H) {k i f : Nat} {r : vw_C} {v : AV} (hk : k ≠ 0) (hs : stk k = false) (hr : zCl[kt k]? = some r) (hf : f < r.2.2) (hz : zfit (zTy (kt k) f) v) (hl : M.2.2.1 k i ≠ 0) (hv : okv M v) {cell : Cell} (q1 : H[lc k i]? = some cell) (q2 : cell.cls = G.1.1 (kt k)) (q3 : cell.vm = .none) (q4 : ∀ j, j < r.2.2 → cell.slots[G.1.2 (kt k) j]? = some (zV lc M k i (kt k) j))
    (e1 : H1[lc k i]? = some (cell.setSlot (G.1.2 (kt k) f) (cv lc v))) (e2 : H1.size = H.size) (e3 : ∀ q, q ≠ lc k i → H1[q]? = H[q]?) : Rep G lc (sV M k i f v) s H1 := by
  refine R.upd hk hl hs (sV.mm ..) (fun k' i' f' h => sV.off h) (sV.ok hv fun g => R.2.2.1 k i g hk hl) e3 ?_ e2 ?_
  · rw [e1, q1]
    simp [Cell.setSlot]
  · refine (zAt.obj hr).mpr (t_OB.to (V := updV (zV lc M k i (kt k)) f (cv lc v)) ⟨_, e1, q2, q3, t_set q4 (zApart hK hr) hf _⟩ fun j hj => ?_)
    unfold updV
    split
    · rename_i e
      rw [e, hz.r rfl]
    · rename_i e
      rw [zV.ne e]
theorem a_put {k i f index : Nat} {ref : String} {r : vw_C} {v : AV} (hk : k ≠ 0) (hs : stk k = false) (hr : zCl[kt k]? = some r) (hf : f < r.2.2) (hlink : zlk mt.1.cls index ref (r.2.1 f).2.1 (r.2.1 f).2.2.1) (hsame : zsm ref (r.2.1 f).1 (r.2.1 f).2.1 (r.2.1 f).2.2.1) (hfin : (r.2.1 f).2.2.2 = false) (hz : zfit (zTy (kt k) f) v) (hd : decode mt.2.1 pc = .ok (.putfield index, 3))
    (kk : wp d mt (pc + 3) lv st (sV M k i f v) Q) : wp d mt pc lv (v :: .inr (k, i) :: st) M Q := by
  intro p l e s m args below meth c H locs G lc lc0 M0 ls C R E B L S
  have hl := live_of S.t.h hk
  have hK := C.2.2.2.2.2.2.2.1
  obtain ⟨cell, q1, q2, q3, q4⟩ := (zAt.obj hr).mp (R.1 k i hk hl).1
  obtain ⟨hS, hfc, kC, hkC, hkind⟩ := hK.1.1 (kt k) _ hr
  obtain ⟨cf, kf, fi, fd, hi, hsl⟩ := hS f hf
  have hts : ∀ w ∈ lw_all, w.before args s = true := fun w hw => hK.2.1 w hw _
  have hlay := hts _ (zIn _ r hr _ (u_in_lay hf))
  unfold u_lay at hlay
  rw [if_neg (by rw [hfin]; decide)] at hlay
  have hst := (u_facts hfc hkC (u_lays hts (zIn _ r hr) hf) hi).1
  have h6 := u_store hfc hkC hkind hlay hi (zTy_ok _ r hr f hf) (hz.n lc).1 (hz.n lc).2
  have h2 := fun (H1 : Heap) (e1 : H1[lc k i]? = some (cell.setSlot (G.1.2 (kt k) f) (cv lc v))) (e2 : H1.size = H.size) (e3 : ∀ q, q ≠ lc k i → H1[q]? = H[q]?) =>
    kk p l e s m args below meth c H1 (locs ++ [⟨lc k i, G.1.2 (kt k) f⟩]) G lc lc0 M0 ls C (zput hK R hk hs hr hf hz hl S.h q1 q2 q3 q4 e1 e2 e3) (E.tr (Ext.mm (sV.mm ..))) (fun q hq => by
      rcases List.mem_append.mp hq with h | h
      · exact B q h
      · rw [List.mem_singleton.mp h]; exact (R.1 k i hk hl).2 hs) (L.ext (Ext.mm (sV.mm ..))) (Sok.ext (Ext.mm (lc := lc) (sV.mm ..)) S.t.t)
  rw [← hsl] at h2
  rw [List.map_cons, List.map_cons, cv_nn (show (k, i).1 ≠ 0 from hk)]
  rcases hlink with hlink | ⟨host, hlink⟩
  · exact W.putK C.1 C.2.1 (f := fd) ⟨C.2.2.2.2.2.1, hts _ hlink, ⟨_, _, _, hsame.use hK _ hi⟩, hst⟩ (by rw [q2]; exact h6) q1 q3 (by rw [hsl]; exact k2_hasslot (q4 f hf)) rfl rfl hd h2
  · exact va_WputK C.1 C.2.1 (f := fd) C.2.2.2.2.2.1 (va_Nw.use rfl (hK.2.2.1 _ hlink rfl)) (hsame.use hK _ hi) hst (by rw [q2]; exact h6) q1 q3 (by rw [hsl]; exact k2_hasslot (q4 f hf)) rfl rfl hd h2
theorem a_putF {k i f index : Nat} {ref : String} {r : vw_C} {v : AV} (hk : k ≠ 0) (hs : stk k = false) (hr : zCl[kt k]? = some r) (hf : f < r.2.2) (hlink : Cond.fieldLink mt.1.cls index ref (r.2.1 f).2.1 (r.2.1 f).2.2.1 ∈ lw_all) (hsame : zsm ref (r.2.1 f).1 (r.2.1 f).2.1 (r.2.1 f).2.2.1) (hfin : (r.2.1 f).2.2.2 = true) (hin : mt.1.name = "<init>") (hdecl : (r.2.1 f).1 = mt.1.cls) (hz : zfit (zTy (kt k) f) v) (hd : decode mt.2.1 pc = .ok (.putfield index, 3))
    (kk : wp d mt (pc + 3) lv st (sV M k i f v) Q) : wp d mt pc lv (v :: .inr (k, i) :: st) M Q := by
  intro p l e s m args below meth c H locs G lc lc0 M0 ls C R E B L S
  have hl := live_of S.t.h hk
  have hK := C.2.2.2.2.2.2.2.1
  have hown := C.2.2.2.2.2.1
  obtain ⟨cell, q1, q2, q3, q4⟩ := (zAt.obj hr).mp (R.1 k i hk hl).1
  obtain ⟨hS, hfc, kC, hkC, hkind⟩ := hK.1.1 (kt k) _ hr
  obtain ⟨cf, kf, fi, fd, hi, hsl⟩ := hS f hf
  have hts : ∀ w ∈ lw_all, w.before args s = true := fun w hw => hK.2.1 w hw _
  have hlay := hts _ (zIn _ r hr _ (u_in_lay hf))
  unfold u_lay at hlay
  rw [if_pos hfin] at hlay
  have hst := (u_facts hfc hkC (u_lays hts (zIn _ r hr) hf) hi).1
  have hcf : m.cls = cf := by
    obtain ⟨_, _, c', _, _, _, -, -, hf', -, -, -, hown2, -⟩ := Cond.laysFinal_spec hlay
    have e1 : c' = cf := by have := hi.symm.trans hf'; simp at this; exact this.1.symm
    rw [hdecl] at hown2
    rw [← e1]; exact Option.some.inj (hown.symm.trans hown2)
  have h6 := u_fits hfc hkC hkind (Or.inr hlay) hi (zTy_ok _ r hr f hf) (hz.n lc).1 (hz.n lc).2
  have h2 := fun (H1 : Heap) (e1 : H1[lc k i]? = some (cell.setSlot (G.1.2 (kt k) f) (cv lc v))) (e2 : H1.size = H.size) (e3 : ∀ q, q ≠ lc k i → H1[q]? = H[q]?) =>
    kk p l e s m args below meth c H1 (locs ++ [⟨lc k i, G.1.2 (kt k) f⟩]) G lc lc0 M0 ls C (zput hK R hk hs hr hf hz hl S.h q1 q2 q3 q4 e1 e2 e3) (E.tr (Ext.mm (sV.mm ..))) (fun q hq => by
      rcases List.mem_append.mp hq with h | h
      · exact B q h
      · rw [List.mem_singleton.mp h]; exact (R.1 k i hk hl).2 hs) (L.ext (Ext.mm (sV.mm ..))) (Sok.ext (Ext.mm (lc := lc) (sV.mm ..)) S.t.t)
  rw [← hsl] at h2
  rw [List.map_cons, List.map_cons, cv_nn (show (k, i).1 ≠ 0 from hk)]
  exact W.putFinK C.1 C.2.1 hown (hts _ hlink) (hsame.use hK _ hi) hst hcf (C.2.2.2.2.2.2.1.trans hin) (by rw [q2]; exact h6) q1 q3 (by rw [hsl]; exact k2_hasslot (q4 f hf)) rfl rfl hd h2
end MemRows
