set_option maxRecDepth 100000
theorem zSum_push {H H1 : Heap} {a w : Nat} {cell : Cell} (ha : a ≤ H.size) (z : H1.size = H.size + 1) (e : H1[H.size]? = some cell) (hw : cell.slots.size = w) (o : ∀ q : Nat, q < H.size → H1[q]? = H[q]?) : zSum H1 a = zSum H a + w := by
  have h := zSum_split (A := H1) (B := H) (a := a) (b := H.size) ha rfl (fun q hq => by rw [o q hq]) (by omega)
  rw [h]
  congr 1
  unfold zSum
  have : H1.toList.drop H.size = [cell] := by
    apply List.ext_getElem?
    intro i
    rw [List.getElem?_drop]
    cases i with
    | zero => simpa using e
    | succ i =>
      have : H1.toList[H.size + (i + 1)]? = none := by rw [List.getElem?_eq_none_iff]; simp; omega
      rw [this]; rfl
  rw [this]
  simp [hw]
def lcu (lc : Nat → Nat → Nat) (k i a : Nat) : Nat → Nat → Nat := fun k' i' => if k' = k ∧ i' = i then a else lc k' i'
theorem lcu_s {lc : Nat → Nat → Nat} {k i a : Nat} : lcu lc k i a k i = a := if_pos ⟨rfl, rfl⟩
theorem Ext.new {M : Mem} {lc : Nat → Nat → Nat} {k i n w a : Nat} (hf : M.2.2.1 k i = 0) : Ext M lc (sN M k i n w) (lcu lc k i a) := by
  refine ⟨fun k' i' _ hl => ?_, Nat.le_succ _, Nat.le_add_right _ _⟩
  have hne : ¬ (k' = k ∧ i' = i) := fun h => hl (by rw [h.1, h.2]; exact hf)
  exact ⟨if_neg hne, by show (if _ then _ else _) ≠ 0; rw [if_neg hne]; exact hl⟩
theorem Rep.new {G : zG} {lc : Nat → Nat → Nat} {M : Mem} {U : State} {H H1 : Heap} (R : Rep G lc M U H) {k i n w : Nat} {cell : Cell} (hf : M.2.2.1 k i = 0) (z : H1.size = H.size + 1) (e : H1[H.size]? = some cell) (hw : cell.slots.size = w) (hcc : M.2.2.2.1 + 1 ≤ 600000) (hss : M.2.2.2.2 + w ≤ 7302250) (o : ∀ q : Nat, q < H.size → H1[q]? = H[q]?) (hat : zAt G (lcu lc k i H.size) (sN M k i n w) k i H1) : Rep G (lcu lc k i H.size) (sN M k i n w) U H1 := by
  obtain ⟨r1, r2, r3, r4, r5, r6, r7, r8, r9⟩ := R
  have hE : Ext M lc (sN M k i n w) (lcu lc k i H.size) := Ext.new hf
  have hlt : ∀ k' i', k' ≠ 0 → M.2.2.1 k' i' ≠ 0 → lc k' i' < H.size := by
    intro k' i' hk hl
    have h := (r1 k' i' hk hl).1
    unfold zAt at h
    split at h
    · exact (Array.getElem?_eq_some_iff.mp h).1
    · split at h
      · exact (Array.getElem?_eq_some_iff.mp h).1
      · split at h
        · exact (Array.getElem?_eq_some_iff.mp h).1
        · split at h
          · exact (Array.getElem?_eq_some_iff.mp h).1
          · obtain ⟨r, _, cell, h2, -⟩ := h
            exact (Array.getElem?_eq_some_iff.mp h2).1
  have hold : ∀ k' i', ¬ (k' = k ∧ i' = i) → (sN M k i n w).2.2.1 k' i' = M.2.2.1 k' i' := fun k' i' h => if_neg h
  have hstat : ∀ a : Nat, a < H.size → ¬ G.2.2 ≤ a → H1[a]? = H[a]? := fun a h _ => o a h
  refine ⟨fun k' i' hk' hl' => ?_, fun a b c d h3 h4 h5 h6 h7 => ?_, fun a b f h3 h4 => ?_, ?_, ?_, ?_, (hE.1 44 0 (by decide) r7).2, (hE.1 41 0 (by decide) r8).2, hcc, hss⟩
  · by_cases he : k' = k ∧ i' = i
    · obtain ⟨rfl, rfl⟩ := he
      exact ⟨hat, fun _ => by rw [lcu_s, r4]; exact Nat.le_add_right _ _⟩
    · rw [hold _ _ he] at hl'
      have h := r1 k' i' hk' hl'
      refine ⟨h.1.kept (hold _ _ he) (fun f => if_neg he) (fun f => if_neg he) (if_neg he) (fun f => cv.ext hE (v := .inr _) (r3 k' i' f hk' hl')) (o _ (hlt _ _ hk' hl')), fun hs => ?_⟩
      rw [show lcu lc k i H.size k' i' = lc k' i' from if_neg he]
      exact h.2 hs
  · by_cases he : a = k ∧ b = i
    · obtain ⟨rfl, rfl⟩ := he
      by_cases he2 : c = a ∧ d = b
      · obtain ⟨rfl, rfl⟩ := he2; exact ⟨rfl, rfl⟩
      · rw [hold _ _ he2] at h6
        rw [lcu_s, show lcu lc a b H.size c d = lc c d from if_neg he2] at h7
        exact absurd h7 (Nat.ne_of_gt (hlt _ _ h4 h6))
    · rw [hold _ _ he] at h5
      rw [show lcu lc k i H.size a b = lc a b from if_neg he] at h7
      by_cases he2 : c = k ∧ d = i
      · obtain ⟨rfl, rfl⟩ := he2
        rw [lcu_s] at h7
        exact absurd h7 (Nat.ne_of_lt (hlt _ _ h3 h5))
      · rw [hold _ _ he2] at h6
        rw [show lcu lc k i H.size c d = lc c d from if_neg he2] at h7
        exact r2 a b c d h3 h4 h5 h6 h7
  · by_cases he : a = k ∧ b = i
    · exact Or.inl (if_pos he)
    · rw [hold _ _ he] at h4
      rw [show (sN M k i n w).2.1 a b f = M.2.1 a b f from if_neg he]
      exact okk.ext hE (r3 a b f h3 h4)
  · rw [z, r4]; rfl
  · rw [zSum_push (by omega) z e hw o, r5]; rfl
  · rw [zStat, (hE.1 44 0 (by decide) r7).1, (hE.1 41 0 (by decide) r8).1]
    exact ⟨va_Z.kept r6.1 hstat, va_Z.kept r6.2 hstat⟩
/-- before an instruction that makes a cell: the count as the heap has it -/
theorem wexact {p : Program} {l : Launch} {e : Env} {R0 : Room} {s : State} {m : MethodId} {args : Array Value} {below : List Frame} {meth : Method} {c : Code} {H : Heap} {locs : List Loc} {cells slots : Nat} {Q : State → Prop} {g : JFrame} {mt : zMt} {G : zG} {lc : Nat → Nat → Nat} {M0 M : Mem} (C : Cx p s m meth c mt G M0) (R : Rep G lc M s H)
    (w : W p l e R0 s m args below meth c H locs (M.2.2.2.1 - M0.2.2.2.1) (M.2.2.2.2 - M0.2.2.2.2) Q g) : W p l e R0 s m args below meth c H locs cells slots Q g := by
  have h1 := C.2.2.2.2.2.2.2.2.1
  have h2 := C.2.2.2.2.2.2.2.2.2
  refine W_narrow (a := G.2.2) (by omega) ?_ ?_ w
  · rw [R.2.2.2.1, h1]; omega
  · rw [R.2.2.2.2.1, h2]; omega
theorem zCl_len : zCl.all (fun r => decide (r.2.2 ≤ 110)) = true := by decide +kernel
theorem zTy3b : ((List.range 26).all fun ci => (List.range 110).all fun f => decide (zTy ci f = .int) || decide (zTy ci f = .boolean) || zIsR (zTy ci f)) = true := by decide +kernel
theorem zTy3 {ci f : Nat} {r : vw_C} (hr : zCl[ci]? = some r) (hf : f < r.2.2) : zTy ci f = .int ∨ zTy ci f = .boolean ∨ zIsR (zTy ci f) = true := by
  have h1 := List.all_eq_true.mp zCl_len r (List.mem_of_getElem? hr)
  simp only [decide_eq_true_eq] at h1
  have h := List.all_eq_true.mp (List.all_eq_true.mp zTy3b ci (List.mem_range.mpr (zlt hr))) f (List.mem_range.mpr (by omega))
  simp only [Bool.or_eq_true, decide_eq_true_eq] at h
  rcases h with (h | h) | h
  · exact Or.inl h
  · exact Or.inr (Or.inl h)
  · exact Or.inr (Or.inr h)
section NewRows
variable {d : Nat} {mt : zMt} {pc : Nat} {lv : List (Nat × AV)} {st : List AV} {M : Mem} {Q : Option AV → Mem → Prop}
theorem a_new {k i index : Nat} {r : vw_C} (hk : k ≠ 0) (hr : zCl[kt k]? = some r) (hf : M.2.2.1 k i = 0) (hc : M.2.2.2.1 + 1 ≤ 600000) (hs : M.2.2.2.2 + r.2.2 ≤ 7302250) (w1 : Cond.classLink mt.1.cls index r.1 ∈ lw_all) (w2 : Cond.instantiable r.1 r.2.2 ∈ lw_all) (w3 : Cond.initialized r.1 ∈ lw_all) (hd : decode mt.2.1 pc = .ok (.new index, 3))
    (kk : wp d mt (pc + 3) lv (.inr (k, i) :: st) (sN M k i 0 r.2.2) Q) : wp d mt pc lv st M Q := by
  intro p l e s m args below meth c H locs G lc lc0 M0 ls C R E B L S
  have hK := C.2.2.2.2.2.2.2.1
  have hts : ∀ w ∈ lw_all, w.before args s = true := fun w hw => hK.2.1 w hw _
  have hKn := hK.1.1 (kt k) _ hr
  refine wexact C R ?_
  refine W.newc C.1 C.2.1 C.2.2.2.2.2.1 (hts _ w1) (hts _ w2) (hts _ w3) rfl hd (by show _ ≤ 600000 - _; have := E.2.1; omega) (by show _ ≤ 7302250 - _; have := E.2.2; omega) fun cC kC f1 f2 f3 f4 => ?_
  refine W.widen (k := cB M0) (n := sB M0) (by show _ ≤ 600000 - _; have := E.2.1; omega) (by show _ ≤ 7302250 - _; have := E.2.2; omega) ?_
  have hcC : cC = G.1.1 (kt k) := Option.some.inj (f1.symm.trans hKn.2.1)
  subst hcC
  generalize hH1 : H.push (blank (G.1.1 (kt k)) kC) = H1
  have z1 : H1.size = H.size + 1 := by rw [← hH1, Array.size_push]
  have e1 : H1[H.size]? = some (blank (G.1.1 (kt k)) kC) := by rw [← hH1, Array.getElem?_push_size]
  have o1 : ∀ q : Nat, q < H.size → H1[q]? = H[q]? := fun q hq => by rw [← hH1, Array.getElem?_push, if_neg (Nat.ne_of_lt hq)]
  have hE : Ext M lc (sN M k i 0 r.2.2) (lcu lc k i H.size) := Ext.new hf
  have hR : Rep G (lcu lc k i H.size) (sN M k i 0 r.2.2) s H1 := by
    refine R.new hf z1 e1 (by simp [blank, f4]) hc hs o1 ((zAt.obj hr).mpr ?_)
    have hb := u_born (zTy (kt k)) hts (zIn _ r hr) hKn f2 e1 (zTy_ok _ r hr)
    rw [lcu_s]
    refine hb.to fun f hf => ?_
    have h1 : (sN M k i 0 r.2.2).1 k i f = 0 := if_pos ⟨rfl, rfl⟩
    have h2 : (sN M k i 0 r.2.2).2.1 k i f = (0, 0) := if_pos ⟨rfl, rfl⟩
    unfold zV
    rw [h1, h2]
    have hty := zTy3 hr hf
    rcases hty with h | h | h
    · rw [h]; rfl
    · rw [h]; rfl
    · rw [h, if_pos rfl]
      unfold zIsR at h
      split at h
      · rename_i e; rw [e]; rfl
      · rename_i e; rw [e]; rfl
      · cases h
  have h2 := kk p l e s m args below meth c H1 locs G (lcu lc k i H.size) lc0 M0 ls C hR (E.tr hE) B (L.ext hE) ((S.ext hE).c (Or.inr ⟨hk, by show (if _ then _ else _) ≠ 0; rw [if_pos ⟨rfl, rfl⟩]; exact Nat.succ_ne_zero _⟩))
  rw [List.map_cons, cv_nn (show (k, i).1 ≠ 0 from hk), cvs.ext hE S] at h2
  rw [show lcu lc k i H.size (k, i).1 (k, i).2 = H.size from lcu_s] at h2
  subst hH1
  exact h2
theorem zarr_new {G : zG} {lc : Nat → Nat → Nat} {k i n : Nat} {H1 : Heap} {a : Nat} {dv : Value} (ht : 100 ≤ kt k ∧ kt k ≤ 103) (hdv : dv = if kt k = 100 ∨ kt k = 101 then .int 0 else .null) (e1 : H1[a]? = some (arrV (G.2.1 (kt k - 100)) n (fun _ => dv))) : zAt G (lcu lc k i a) (sN M k i n n) k i H1 := by
  refine (zAt.arr ht).mpr ?_
  rw [lcu_s, e1, show (sN M k i n n).2.2.1 k i = n + 1 from if_pos ⟨rfl, rfl⟩, Nat.add_sub_cancel]
  congr 2
  funext j
  unfold zVA
  rw [hdv, show (sN M k i n n).1 k i j = 0 from if_pos ⟨rfl, rfl⟩, show (sN M k i n n).2.1 k i j = (0, 0) from if_pos ⟨rfl, rfl⟩]
  rfl
theorem a_newa {k i : Nat} {atype : ArrayType} {x : Int32} {n : Nat} (hk : k ≠ 0) (ht : kt k = 100 ∨ kt k = 101) (hty : newarray.typeOf atype = zel (kt k)) (hf : M.2.2.1 k i = 0) (hx : ¬ x < 0) (hn : x.toNatClampNeg = n) (hb : n ≤ 100000) (hc : M.2.2.2.1 + 1 ≤ 600000) (hs : M.2.2.2.2 + n ≤ 7302250) (w1 : Cond.arrayClass (zel (kt k)) ∈ lw_all) (hd : decode mt.2.1 pc = .ok (.newarray atype, 2))
    (kk : wp d mt (pc + 2) lv (.inr (k, i) :: st) (sN M k i n n) Q) : wp d mt pc lv (.inl x :: st) M Q := by
  intro p l e s m args below meth c H locs G lc lc0 M0 ls C R E B L S
  have hK := C.2.2.2.2.2.2.2.1
  have hA := (hK.arr (t := kt k) (by omega)).2
  refine wexact C R ?_
  rw [List.map_cons]
  refine va_newaK C.1 C.2.1 (by rw [hty]; exact hK.2.1 _ w1 _) rfl hd rfl hx hn ?_ (by show _ ≤ 600000 - _; have := E.2.1; omega) (by show _ ≤ 7302250 - _; have := E.2.2; omega) rfl fun H1 cA e1 z1 o1 hAr hNm => ?_
  · rw [hty]
    rcases ht with h | h <;> rw [h] <;> show n * _ ≤ _ <;> simp [zel, componentBytes] <;> omega
  refine W.widen (k := cB M0) (n := sB M0) (by show _ ≤ 600000 - _; have := E.2.1; omega) (by show _ ≤ 7302250 - _; have := E.2.2; omega) ?_
  have hcA : cA = G.2.1 (kt k - 100) := by
    rw [hty] at hNm
    rcases ht with h | h
    · rw [h] at hNm hA ⊢; exact Option.some.inj (hNm.symm.trans hA)
    · rw [h] at hNm hA ⊢; exact Option.some.inj (hNm.symm.trans hA)
  subst hcA
  have hE : Ext M lc (sN M k i n n) (lcu lc k i H.size) := Ext.new hf
  have hR : Rep G (lcu lc k i H.size) (sN M k i n n) s H1 := by
    refine R.new hf z1 e1 (arrV_size ..) hc hs o1 (zarr_new (by omega) ?_ e1)
    rw [hty, if_pos ht]
    rcases ht with h | h <;> rw [h] <;> rfl
  have h2 := kk p l e s m args below meth c H1 locs G (lcu lc k i H.size) lc0 M0 ls C hR (E.tr hE) B (L.ext hE) ((S.t.ext hE).c (Or.inr ⟨hk, by show (if _ then _ else _) ≠ 0; rw [if_pos ⟨rfl, rfl⟩]; exact Nat.succ_ne_zero _⟩))
  rw [List.map_cons, cv_nn (show (k, i).1 ≠ 0 from hk), cvs.ext hE S.t] at h2
  rw [show lcu lc k i H.size (k, i).1 (k, i).2 = H.size from lcu_s] at h2
  exact h2
theorem a_anew {k i index : Nat} {E0 : String} {x : Int32} {n : Nat} (hk : k ≠ 0) (ht : kt k = 102 ∨ kt k = 103) (hE0 : zel (kt k) = .object E0) (hf : M.2.2.1 k i = 0) (hx : ¬ x < 0) (hn : x.toNatClampNeg = n) (hb : n ≤ 100000) (hc : M.2.2.2.1 + 1 ≤ 600000) (hs : M.2.2.2.2 + n ≤ 7302250) (w1 : Cond.classLink mt.1.cls index E0 ∈ lw_all) (hd : decode mt.2.1 pc = .ok (.anewarray index, 3))
    (kk : wp d mt (pc + 3) lv (.inr (k, i) :: st) (sN M k i n n) Q) : wp d mt pc lv (.inl x :: st) M Q := by
  intro p l e s m args below meth c H locs G lc lc0 M0 ls C R E B L S
  have hK := C.2.2.2.2.2.2.2.1
  have hA := (hK.arr (t := kt k) (by omega)).2
  rw [hE0] at hA
  have hAO : va_AO E0 s := by
    rcases ht with h | h
    · rw [h] at hE0; cases hE0; exact hK.2.2.2.1
    · rw [h] at hE0; cases hE0; exact hK.2.2.2.2.1
  refine wexact C R ?_
  rw [List.map_cons]
  subst hn
  refine W.anew C.1 C.2.1 C.2.2.2.2.2.1 (hK.2.1 _ w1 _) (va_AO.use hAO) rfl hd rfl hx (by omega) (by show _ ≤ 600000 - _; have := E.2.1; omega) (by show _ ≤ 7302250 - _; have := E.2.2; omega) fun cA kA comp f1 f2 f3 f4 => ?_
  refine W.widen (k := cB M0) (n := sB M0) (by show _ ≤ 600000 - _; have := E.2.1; omega) (by show _ ≤ 7302250 - _; have := E.2.2; omega) ?_
  obtain ⟨_, _, _, _, _, g6⟩ := hA
  have hcA : cA = G.2.1 (kt k - 100) := Option.some.inj (f1.symm.trans g6)
  subst hcA
  generalize hH1 : H.push ({ cls := G.2.1 (kt k - 100), slots := Array.replicate x.toNatClampNeg .null, vm := .none } : Cell) = H1
  have z1 : H1.size = H.size + 1 := by rw [← hH1, Array.size_push]
  have e1 : H1[H.size]? = some (arrV (G.2.1 (kt k - 100)) x.toNatClampNeg (fun _ => .null)) := by rw [← hH1, Array.getElem?_push_size, ← arrV_new]
  have o1 : ∀ q : Nat, q < H.size → H1[q]? = H[q]? := fun q hq => by rw [← hH1, Array.getElem?_push, if_neg (Nat.ne_of_lt hq)]
  have hE : Ext M lc (sN M k i x.toNatClampNeg x.toNatClampNeg) (lcu lc k i H.size) := Ext.new hf
  have hR : Rep G (lcu lc k i H.size) (sN M k i x.toNatClampNeg x.toNatClampNeg) s H1 := R.new hf z1 e1 (arrV_size ..) hc hs o1 (zarr_new (by omega) (by rw [if_neg (by omega)]) e1)
  have h2 := kk p l e s m args below meth c H1 locs G (lcu lc k i H.size) lc0 M0 ls C hR (E.tr hE) B (L.ext hE) ((S.t.ext hE).c (Or.inr ⟨hk, by show (if _ then _ else _) ≠ 0; rw [if_pos ⟨rfl, rfl⟩]; exact Nat.succ_ne_zero _⟩))
  rw [List.map_cons, cv_nn (show (k, i).1 ≠ 0 from hk), cvs.ext hE S.t] at h2
  rw [show lcu lc k i H.size (k, i).1 (k, i).2 = H.size from lcu_s] at h2
  subst hH1
  exact h2
end NewRows
