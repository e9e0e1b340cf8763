set_option maxRecDepth 100000
theorem Sok.c {M : Mem} {v : AV} {st : List AV} (h1 : okv M v) (h : Sok M st) : Sok M (v :: st) := fun x hx => by
  rcases List.mem_cons.mp hx with e | e
  · rw [e]; exact h1
  · exact h x e
theorem Sok.h {M : Mem} {v : AV} {st : List AV} (h : Sok M (v :: st)) : okv M v := h v List.mem_cons_self
theorem Sok.t {M : Mem} {v : AV} {st : List AV} (h : Sok M (v :: st)) : Sok M st := fun x hx => h x (List.mem_cons_of_mem _ hx)
section SimpleRows
variable {d : Nat} {mt : zMt} {pc : Nat} {lv : List (Nat × AV)} {st : List AV} {M : Mem} {Q : Option AV → Mem → Prop}
theorem a_iconst {n : Int} {v : Int32} (hd : decode mt.2.1 pc = .ok (.iconst n, 1)) (hv : Int32.ofInt n = v) (k : wp d mt (pc + 1) lv (.inl v :: st) M Q) : wp d mt pc lv (st) M Q := by
  intro p l e s m args below meth c H locs G lc lc0 M0 ls C R E B L S
  exact lv_iconst C.1 C.2.1 hd hv (k p l e s m args below meth c H locs G lc lc0 M0 ls C R E B L (S.c trivial))
theorem a_bipush {n : Int} {v : Int32} (hd : decode mt.2.1 pc = .ok (.bipush n, 2)) (hv : (Int8.ofInt n).toInt32 = v) (k : wp d mt (pc + 2) lv (.inl v :: st) M Q) : wp d mt pc lv (st) M Q := by
  intro p l e s m args below meth c H locs G lc lc0 M0 ls C R E B L S
  exact lv_bipush C.1 C.2.1 hd hv (k p l e s m args below meth c H locs G lc lc0 M0 ls C R E B L (S.c trivial))
theorem a_sipush {n : Int} {v : Int32} (hd : decode mt.2.1 pc = .ok (.sipush n, 3)) (hv : (Int16.ofInt n).toInt32 = v) (k : wp d mt (pc + 3) lv (.inl v :: st) M Q) : wp d mt pc lv (st) M Q := by
  intro p l e s m args below meth c H locs G lc lc0 M0 ls C R E B L S
  exact lv_sipush C.1 C.2.1 hd hv (k p l e s m args below meth c H locs G lc lc0 M0 ls C R E B L (S.c trivial))
theorem a_ldc {index : Nat} {v : Int32} (hd : decode mt.2.1 pc = .ok (.ldc index, 2)) (hw : Cond.constant mt.1.cls index v ∈ lw_all) (k : wp d mt (pc + 2) lv (.inl v :: st) M Q) : wp d mt pc lv (st) M Q := by
  intro p l e s m args below meth c H locs G lc lc0 M0 ls C R E B L S
  exact lv_ldc C.1 C.2.1 C.2.2.2.2.2.1 (C.2.2.2.2.2.2.2.1.2.1 _ hw _) hd (k p l e s m args below meth c H locs G lc lc0 M0 ls C R E B L (S.c trivial))
theorem a_ldcw {index : Nat} {v : Int32} (hd : decode mt.2.1 pc = .ok (.ldc_w index, 3)) (hw : Cond.constant mt.1.cls index v ∈ lw_all) (k : wp d mt (pc + 3) lv (.inl v :: st) M Q) : wp d mt pc lv (st) M Q := by
  intro p l e s m args below meth c H locs G lc lc0 M0 ls C R E B L S
  exact lv_ldcw C.1 C.2.1 C.2.2.2.2.2.1 (C.2.2.2.2.2.2.2.1.2.1 _ hw _) hd (k p l e s m args below meth c H locs G lc lc0 M0 ls C R E B L (S.c trivial))
theorem a_null (hd : decode mt.2.1 pc = .ok (.aconst_null, 1)) (k : wp d mt (pc + 1) lv (.inr (0, 0) :: st) M Q) : wp d mt pc lv (st) M Q := by
  intro p l e s m args below meth c H locs G lc lc0 M0 ls C R E B L S
  exact lv_null C.1 C.2.1 hd (k p l e s m args below meth c H locs G lc lc0 M0 ls C R E B L (S.c (Or.inl rfl)))
theorem a_iadd {x y : Int32} (hd : decode mt.2.1 pc = .ok (.iadd, 1)) (k : wp d mt (pc + 1) lv (.inl (x + y) :: st) M Q) : wp d mt pc lv (.inl y :: .inl x :: st) M Q := by
  intro p l e s m args below meth c H locs G lc lc0 M0 ls C R E B L S
  exact lv_iadd C.1 C.2.1 hd (k p l e s m args below meth c H locs G lc lc0 M0 ls C R E B L (S.t.t.c trivial))
theorem a_isub {x y : Int32} (hd : decode mt.2.1 pc = .ok (.isub, 1)) (k : wp d mt (pc + 1) lv (.inl (x - y) :: st) M Q) : wp d mt pc lv (.inl y :: .inl x :: st) M Q := by
  intro p l e s m args below meth c H locs G lc lc0 M0 ls C R E B L S
  exact lv_isub C.1 C.2.1 hd (k p l e s m args below meth c H locs G lc lc0 M0 ls C R E B L (S.t.t.c trivial))
theorem a_imul {x y : Int32} (hd : decode mt.2.1 pc = .ok (.imul, 1)) (k : wp d mt (pc + 1) lv (.inl (x * y) :: st) M Q) : wp d mt pc lv (.inl y :: .inl x :: st) M Q := by
  intro p l e s m args below meth c H locs G lc lc0 M0 ls C R E B L S
  exact lv_imul C.1 C.2.1 hd (k p l e s m args below meth c H locs G lc lc0 M0 ls C R E B L (S.t.t.c trivial))
theorem a_iand {x y : Int32} (hd : decode mt.2.1 pc = .ok (.iand, 1)) (k : wp d mt (pc + 1) lv (.inl (x &&& y) :: st) M Q) : wp d mt pc lv (.inl y :: .inl x :: st) M Q := by
  intro p l e s m args below meth c H locs G lc lc0 M0 ls C R E B L S
  exact lv_iand C.1 C.2.1 hd (k p l e s m args below meth c H locs G lc lc0 M0 ls C R E B L (S.t.t.c trivial))
theorem a_ior {x y : Int32} (hd : decode mt.2.1 pc = .ok (.ior, 1)) (k : wp d mt (pc + 1) lv (.inl (x ||| y) :: st) M Q) : wp d mt pc lv (.inl y :: .inl x :: st) M Q := by
  intro p l e s m args below meth c H locs G lc lc0 M0 ls C R E B L S
  exact lv_ior C.1 C.2.1 hd (k p l e s m args below meth c H locs G lc lc0 M0 ls C R E B L (S.t.t.c trivial))
theorem a_ishl {x y : Int32} (hd : decode mt.2.1 pc = .ok (.ishl, 1)) (k : wp d mt (pc + 1) lv (.inl (x <<< (y &&& 31)) :: st) M Q) : wp d mt pc lv (.inl y :: .inl x :: st) M Q := by
  intro p l e s m args below meth c H locs G lc lc0 M0 ls C R E B L S
  exact lv_ishl C.1 C.2.1 hd (k p l e s m args below meth c H locs G lc lc0 M0 ls C R E B L (S.t.t.c trivial))
theorem a_ishr {x y : Int32} (hd : decode mt.2.1 pc = .ok (.ishr, 1)) (k : wp d mt (pc + 1) lv (.inl (x >>> (y &&& 31)) :: st) M Q) : wp d mt pc lv (.inl y :: .inl x :: st) M Q := by
  intro p l e s m args below meth c H locs G lc lc0 M0 ls C R E B L S
  exact lv_ishr C.1 C.2.1 hd (k p l e s m args below meth c H locs G lc lc0 M0 ls C R E B L (S.t.t.c trivial))
theorem a_irem {x y : Int32} (hd : decode mt.2.1 pc = .ok (.irem, 1)) (hne : ¬ y = 0) (k : wp d mt (pc + 1) lv (.inl (x - x / y * y) :: st) M Q) : wp d mt pc lv (.inl y :: .inl x :: st) M Q := by
  intro p l e s m args below meth c H locs G lc lc0 M0 ls C R E B L S
  exact lv_irem C.1 C.2.1 hd hne (k p l e s m args below meth c H locs G lc lc0 M0 ls C R E B L (S.t.t.c trivial))
theorem a_ineg {x : Int32} (hd : decode mt.2.1 pc = .ok (.ineg, 1)) (k : wp d mt (pc + 1) lv (.inl (-x) :: st) M Q) : wp d mt pc lv (.inl x :: st) M Q := by
  intro p l e s m args below meth c H locs G lc lc0 M0 ls C R E B L S
  exact lv_ineg C.1 C.2.1 hd (k p l e s m args below meth c H locs G lc lc0 M0 ls C R E B L (S.t.c trivial))
theorem a_dup {v : AV} (hd : decode mt.2.1 pc = .ok (.dup, 1)) (k : wp d mt (pc + 1) lv (v :: v :: st) M Q) : wp d mt pc lv (v :: st) M Q := by
  intro p l e s m args below meth c H locs G lc lc0 M0 ls C R E B L S
  exact lv_dup C.1 C.2.1 hd (cv_cat lc v) (k p l e s m args below meth c H locs G lc lc0 M0 ls C R E B L (S.c S.h))
theorem a_pop {v : AV} (hd : decode mt.2.1 pc = .ok (.pop, 1)) (k : wp d mt (pc + 1) lv (st) M Q) : wp d mt pc lv (v :: st) M Q := by
  intro p l e s m args below meth c H locs G lc lc0 M0 ls C R E B L S
  exact lv_pop C.1 C.2.1 hd (cv_cat lc v) (k p l e s m args below meth c H locs G lc lc0 M0 ls C R E B L S.t)
theorem a_dup_x1 {v w : AV} (hd : decode mt.2.1 pc = .ok (.dup_x1, 1)) (k : wp d mt (pc + 1) lv (v :: w :: v :: st) M Q) : wp d mt pc lv (v :: w :: st) M Q := by
  intro p l e s m args below meth c H locs G lc lc0 M0 ls C R E B L S
  exact lv_dup_x1 C.1 C.2.1 hd (cv_cat lc v) (cv_cat lc w) (k p l e s m args below meth c H locs G lc lc0 M0 ls C R E B L (((S.t.t.c S.h).c S.t.h).c S.h))
theorem a_dup2 {v w : AV} (hd : decode mt.2.1 pc = .ok (.dup2, 1)) (k : wp d mt (pc + 1) lv (v :: w :: v :: w :: st) M Q) : wp d mt pc lv (v :: w :: st) M Q := by
  intro p l e s m args below meth c H locs G lc lc0 M0 ls C R E B L S
  exact lv_dup2_11 C.1 C.2.1 hd (cv_cat lc v) (cv_cat lc w) (k p l e s m args below meth c H locs G lc lc0 M0 ls C R E B L ((S.c S.t.h).c S.h))
theorem a_iload_n {q : Fin 4} {i : Nat} {x : Int32} (j : Nat) (hd : decode mt.2.1 pc = .ok (.iload_n q, 1)) (hi : (q : Nat) = i) (hl : lv[j]? = some (i, .inl x)) (k : wp d mt (pc + 1) lv (.inl x :: st) M Q) : wp d mt pc lv st M Q := by
  intro p l e s m args below meth c H locs G lc lc0 M0 ls C R E B L S
  exact lv_iload_n C.1 C.2.1 hd hi (L.at j hl) (k p l e s m args below meth c H locs G lc lc0 M0 ls C R E B L (S.c trivial))
theorem a_iload {i : Nat} {x : Int32} (j : Nat) (hd : decode mt.2.1 pc = .ok (.iload i, 2)) (hl : lv[j]? = some (i, .inl x)) (k : wp d mt (pc + 2) lv (.inl x :: st) M Q) : wp d mt pc lv st M Q := by
  intro p l e s m args below meth c H locs G lc lc0 M0 ls C R E B L S
  exact lv_iload C.1 C.2.1 hd (L.at j hl) (k p l e s m args below meth c H locs G lc lc0 M0 ls C R E B L (S.c trivial))
theorem cv_ref (lc : Nat → Nat → Nat) (k : Nat × Nat) : cv lc (.inr k) = .null ∨ ∃ a, cv lc (.inr k) = .ref a := by
  unfold cv; dsimp only; split
  · exact Or.inl rfl
  · exact Or.inr ⟨_, rfl⟩
theorem a_aload_n {q : Fin 4} {i : Nat} {x : Nat × Nat} (j : Nat) (hd : decode mt.2.1 pc = .ok (.aload_n q, 1)) (hi : (q : Nat) = i) (hl : lv[j]? = some (i, .inr x)) (k : wp d mt (pc + 1) lv (.inr x :: st) M Q) : wp d mt pc lv st M Q := by
  intro p l e s m args below meth c H locs G lc lc0 M0 ls C R E B L S
  have h1 := L.at j hl
  have h2 := (k p l e s m args below meth c H locs G lc lc0 M0 ls C R E B L (S.c (L.ok j hl)))
  rw [List.map_cons] at h2
  rcases cv_ref lc x with h3 | ⟨a, h3⟩
  · rw [h3] at h1 h2
    exact lv_aload_nN C.1 C.2.1 hd hi h1 h2
  · rw [h3] at h1 h2
    exact lv_aload_n C.1 C.2.1 hd hi h1 h2
theorem a_aload {i : Nat} {x : Nat × Nat} (j : Nat) (hd : decode mt.2.1 pc = .ok (.aload i, 2)) (hl : lv[j]? = some (i, .inr x)) (k : wp d mt (pc + 2) lv (.inr x :: st) M Q) : wp d mt pc lv st M Q := by
  intro p l e s m args below meth c H locs G lc lc0 M0 ls C R E B L S
  have h1 := L.at j hl
  have h2 := (k p l e s m args below meth c H locs G lc lc0 M0 ls C R E B L (S.c (L.ok j hl)))
  rw [List.map_cons] at h2
  rcases cv_ref lc x with h3 | ⟨a, h3⟩
  · rw [h3] at h1 h2
    exact lv_aloadN C.1 C.2.1 hd h1 h2
  · rw [h3] at h1 h2
    exact lv_aload C.1 C.2.1 hd h1 h2
theorem Lok.put {lc : Nat → Nat → Nat} {ls : Array Slot} {n i : Nat} {v : AV} {lv' : List (Nat × AV)} (ho : okv M v) (L : ∀ q ∈ lv, okv M q.2) (hl : (i, v) :: lv.filter (fun q => !(q.1 == i)) = lv') (h : lv_has ls n ((i, cv lc v) :: (lv.map fun q => (q.1, cv lc q.2)).filter (fun q => !(q.1 == i) && !(q.1 + 1 == i && q.2.category == 2)))) : Lok lc M ls n lv' := by
  subst hl
  refine ⟨⟨h.1, h.2.1, fun q hq => ?_⟩, fun q hq => ?_⟩
  · refine h.2.2 q ?_
    rcases List.mem_cons.mp hq with e | e
    · rw [e]; exact List.mem_cons_self
    · obtain ⟨x, hx, rfl⟩ := List.mem_map.mp e
      obtain ⟨h1, h2⟩ := List.mem_filter.mp hx
      refine List.mem_cons_of_mem _ (List.mem_filter.mpr ⟨List.mem_map.mpr ⟨x, h1, rfl⟩, ?_⟩)
      simp only [cv_cat] at h2 ⊢
      simpa using h2
  · rcases List.mem_cons.mp hq with e | e
    · rw [e]; exact ho
    · exact L q (List.mem_filter.mp e).1
theorem a_istore_n {q : Fin 4} {i : Nat} {x : Int32} {lv' : List (Nat × AV)} (hd : decode mt.2.1 pc = .ok (.istore_n q, 1)) (hi : (q : Nat) = i) (hn : i < mt.2.2.1) (hl : (i, .inl x) :: lv.filter (fun q => !(q.1 == i)) = lv') (k : wp d mt (pc + 1) lv' st M Q) : wp d mt pc lv (.inl x :: st) M Q := by
  intro p l e s m args below meth c H locs G lc lc0 M0 ls C R E B L S
  exact lv_istore_n C.1 C.2.1 hd hi L.1 hn rfl fun ls hl2 => (k p l e s m args below meth c H locs G lc lc0 M0 ls C R E B (Lok.put S.h L.2 hl hl2) S.t)
theorem a_istore {i : Nat} {x : Int32} {lv' : List (Nat × AV)} (hd : decode mt.2.1 pc = .ok (.istore i, 2)) (hn : i < mt.2.2.1) (hl : (i, .inl x) :: lv.filter (fun q => !(q.1 == i)) = lv') (k : wp d mt (pc + 2) lv' st M Q) : wp d mt pc lv (.inl x :: st) M Q := by
  intro p l e s m args below meth c H locs G lc lc0 M0 ls C R E B L S
  exact lv_istore C.1 C.2.1 hd L.1 hn rfl fun ls hl2 => (k p l e s m args below meth c H locs G lc lc0 M0 ls C R E B (Lok.put S.h L.2 hl hl2) S.t)
theorem a_astore_n {q : Fin 4} {i : Nat} {x : Nat × Nat} {lv' : List (Nat × AV)} (hd : decode mt.2.1 pc = .ok (.astore_n q, 1)) (hi : (q : Nat) = i) (hn : i < mt.2.2.1) (hl : (i, .inr x) :: lv.filter (fun q => !(q.1 == i)) = lv') (k : wp d mt (pc + 1) lv' st M Q) : wp d mt pc lv (.inr x :: st) M Q := by
  intro p l e s m args below meth c H locs G lc lc0 M0 ls C R E B L S
  have h2 := fun (ls : Array Slot) (hl2 : lv_has ls mt.2.2.1 ((i, cv lc (.inr x)) :: (lv.map fun q => (q.1, cv lc q.2)).filter (fun q => !(q.1 == i) && !(q.1 + 1 == i && q.2.category == 2)))) => (k p l e s m args below meth c H locs G lc lc0 M0 ls C R E B (Lok.put (v := .inr x) S.h L.2 hl hl2) S.t)
  rw [List.map_cons]
  rcases cv_ref lc x with h3 | ⟨a, h3⟩
  · rw [h3] at h2 ⊢
    exact lv_astore_nN C.1 C.2.1 hd hi L.1 hn rfl h2
  · rw [h3] at h2 ⊢
    exact lv_astore_n C.1 C.2.1 hd hi L.1 hn rfl h2
theorem a_astore {i : Nat} {x : Nat × Nat} {lv' : List (Nat × AV)} (hd : decode mt.2.1 pc = .ok (.astore i, 2)) (hn : i < mt.2.2.1) (hl : (i, .inr x) :: lv.filter (fun q => !(q.1 == i)) = lv') (k : wp d mt (pc + 2) lv' st M Q) : wp d mt pc lv (.inr x :: st) M Q := by
  intro p l e s m args below meth c H locs G lc lc0 M0 ls C R E B L S
  have h2 := fun (ls : Array Slot) (hl2 : lv_has ls mt.2.2.1 ((i, cv lc (.inr x)) :: (lv.map fun q => (q.1, cv lc q.2)).filter (fun q => !(q.1 == i) && !(q.1 + 1 == i && q.2.category == 2)))) => (k p l e s m args below meth c H locs G lc lc0 M0 ls C R E B (Lok.put (v := .inr x) S.h L.2 hl hl2) S.t)
  rw [List.map_cons]
  rcases cv_ref lc x with h3 | ⟨a, h3⟩
  · rw [h3] at h2 ⊢
    exact lv_astoreN C.1 C.2.1 hd L.1 hn rfl h2
  · rw [h3] at h2 ⊢
    exact lv_astore C.1 C.2.1 hd L.1 hn rfl h2
theorem a_iinc {i : Nat} {n : Int} {x v : Int32} {lv' : List (Nat × AV)} (j : Nat) (hd : decode mt.2.1 pc = .ok (.iinc i n, 3)) (hj : lv[j]? = some (i, .inl x)) (hv : x + Int32.ofInt n = v) (hn : i < mt.2.2.1) (hl : (i, .inl v) :: lv.filter (fun q => !(q.1 == i)) = lv') (k : wp d mt (pc + 3) lv' st M Q) : wp d mt pc lv st M Q := by
  intro p l e s m args below meth c H locs G lc lc0 M0 ls C R E B L S
  exact lv_iinc (k := j) C.1 C.2.1 hd L.1 (by rw [List.getElem?_map, hj]; rfl) hv hn rfl fun ls hl2 => (k p l e s m args below meth c H locs G lc lc0 M0 ls C R E B (Lok.put (v := .inl v) trivial L.2 hl hl2) S)
theorem a_if_eq {x : Int32} {off : Int} {tgt : Nat} (hd : decode mt.2.1 pc = .ok (.ifCond .eq off, 3)) (ht : (pc : Int) + off = (tgt : Int)) (kt : x = 0 → wp d mt tgt lv st M Q) (kf : ¬ x = 0 → wp d mt (pc + 3) lv st M Q) : wp d mt pc lv (.inl x :: st) M Q := by
  intro p l e s m args below meth c H locs G lc lc0 M0 ls C R E B L S
  exact lv_if_eq C.1 C.2.1 hd ht (fun h => (kt h p l e s m args below meth c H locs G lc lc0 M0 ls C R E B L S.t)) (fun h => (kf h p l e s m args below meth c H locs G lc lc0 M0 ls C R E B L S.t))
theorem a_icmp_eq {x y : Int32} {off : Int} {tgt : Nat} (hd : decode mt.2.1 pc = .ok (.if_icmp .eq off, 3)) (ht : (pc : Int) + off = (tgt : Int)) (kt : x = y → wp d mt tgt lv st M Q) (kf : ¬ x = y → wp d mt (pc + 3) lv st M Q) : wp d mt pc lv (.inl y :: .inl x :: st) M Q := by
  intro p l e s m args below meth c H locs G lc lc0 M0 ls C R E B L S
  exact lv_icmp_eq C.1 C.2.1 hd ht (fun h => (kt h p l e s m args below meth c H locs G lc lc0 M0 ls C R E B L S.t.t)) (fun h => (kf h p l e s m args below meth c H locs G lc lc0 M0 ls C R E B L S.t.t))
theorem a_if_ne {x : Int32} {off : Int} {tgt : Nat} (hd : decode mt.2.1 pc = .ok (.ifCond .ne off, 3)) (ht : (pc : Int) + off = (tgt : Int)) (kt : ¬ x = 0 → wp d mt tgt lv st M Q) (kf : x = 0 → wp d mt (pc + 3) lv st M Q) : wp d mt pc lv (.inl x :: st) M Q := by
  intro p l e s m args below meth c H locs G lc lc0 M0 ls C R E B L S
  exact lv_if_ne C.1 C.2.1 hd ht (fun h => (kt h p l e s m args below meth c H locs G lc lc0 M0 ls C R E B L S.t)) (fun h => (kf h p l e s m args below meth c H locs G lc lc0 M0 ls C R E B L S.t))
theorem a_icmp_ne {x y : Int32} {off : Int} {tgt : Nat} (hd : decode mt.2.1 pc = .ok (.if_icmp .ne off, 3)) (ht : (pc : Int) + off = (tgt : Int)) (kt : ¬ x = y → wp d mt tgt lv st M Q) (kf : x = y → wp d mt (pc + 3) lv st M Q) : wp d mt pc lv (.inl y :: .inl x :: st) M Q := by
  intro p l e s m args below meth c H locs G lc lc0 M0 ls C R E B L S
  exact lv_icmp_ne C.1 C.2.1 hd ht (fun h => (kt h p l e s m args below meth c H locs G lc lc0 M0 ls C R E B L S.t.t)) (fun h => (kf h p l e s m args below meth c H locs G lc lc0 M0 ls C R E B L S.t.t))
theorem a_if_lt {x : Int32} {off : Int} {tgt : Nat} (hd : decode mt.2.1 pc = .ok (.ifCond .lt off, 3)) (ht : (pc : Int) + off = (tgt : Int)) (kt : x < 0 → wp d mt tgt lv st M Q) (kf : ¬ x < 0 → wp d mt (pc + 3) lv st M Q) : wp d mt pc lv (.inl x :: st) M Q := by
  intro p l e s m args below meth c H locs G lc lc0 M0 ls C R E B L S
  exact lv_if_lt C.1 C.2.1 hd ht (fun h => (kt h p l e s m args below meth c H locs G lc lc0 M0 ls C R E B L S.t)) (fun h => (kf h p l e s m args below meth c H locs G lc lc0 M0 ls C R E B L S.t))
theorem a_icmp_lt {x y : Int32} {off : Int} {tgt : Nat} (hd : decode mt.2.1 pc = .ok (.if_icmp .lt off, 3)) (ht : (pc : Int) + off = (tgt : Int)) (kt : x < y → wp d mt tgt lv st M Q) (kf : ¬ x < y → wp d mt (pc + 3) lv st M Q) : wp d mt pc lv (.inl y :: .inl x :: st) M Q := by
  intro p l e s m args below meth c H locs G lc lc0 M0 ls C R E B L S
  exact lv_icmp_lt C.1 C.2.1 hd ht (fun h => (kt h p l e s m args below meth c H locs G lc lc0 M0 ls C R E B L S.t.t)) (fun h => (kf h p l e s m args below meth c H locs G lc lc0 M0 ls C R E B L S.t.t))
theorem a_if_ge {x : Int32} {off : Int} {tgt : Nat} (hd : decode mt.2.1 pc = .ok (.ifCond .ge off, 3)) (ht : (pc : Int) + off = (tgt : Int)) (kt : 0 ≤ x → wp d mt tgt lv st M Q) (kf : ¬ 0 ≤ x → wp d mt (pc + 3) lv st M Q) : wp d mt pc lv (.inl x :: st) M Q := by
  intro p l e s m args below meth c H locs G lc lc0 M0 ls C R E B L S
  exact lv_if_ge C.1 C.2.1 hd ht (fun h => (kt h p l e s m args below meth c H locs G lc lc0 M0 ls C R E B L S.t)) (fun h => (kf h p l e s m args below meth c H locs G lc lc0 M0 ls C R E B L S.t))
theorem a_icmp_ge {x y : Int32} {off : Int} {tgt : Nat} (hd : decode mt.2.1 pc = .ok (.if_icmp .ge off, 3)) (ht : (pc : Int) + off = (tgt : Int)) (kt : y ≤ x → wp d mt tgt lv st M Q) (kf : ¬ y ≤ x → wp d mt (pc + 3) lv st M Q) : wp d mt pc lv (.inl y :: .inl x :: st) M Q := by
  intro p l e s m args below meth c H locs G lc lc0 M0 ls C R E B L S
  exact lv_icmp_ge C.1 C.2.1 hd ht (fun h => (kt h p l e s m args below meth c H locs G lc lc0 M0 ls C R E B L S.t.t)) (fun h => (kf h p l e s m args below meth c H locs G lc lc0 M0 ls C R E B L S.t.t))
theorem a_if_gt {x : Int32} {off : Int} {tgt : Nat} (hd : decode mt.2.1 pc = .ok (.ifCond .gt off, 3)) (ht : (pc : Int) + off = (tgt : Int)) (kt : 0 < x → wp d mt tgt lv st M Q) (kf : ¬ 0 < x → wp d mt (pc + 3) lv st M Q) : wp d mt pc lv (.inl x :: st) M Q := by
  intro p l e s m args below meth c H locs G lc lc0 M0 ls C R E B L S
  exact lv_if_gt C.1 C.2.1 hd ht (fun h => (kt h p l e s m args below meth c H locs G lc lc0 M0 ls C R E B L S.t)) (fun h => (kf h p l e s m args below meth c H locs G lc lc0 M0 ls C R E B L S.t))
theorem a_icmp_gt {x y : Int32} {off : Int} {tgt : Nat} (hd : decode mt.2.1 pc = .ok (.if_icmp .gt off, 3)) (ht : (pc : Int) + off = (tgt : Int)) (kt : y < x → wp d mt tgt lv st M Q) (kf : ¬ y < x → wp d mt (pc + 3) lv st M Q) : wp d mt pc lv (.inl y :: .inl x :: st) M Q := by
  intro p l e s m args below meth c H locs G lc lc0 M0 ls C R E B L S
  exact lv_icmp_gt C.1 C.2.1 hd ht (fun h => (kt h p l e s m args below meth c H locs G lc lc0 M0 ls C R E B L S.t.t)) (fun h => (kf h p l e s m args below meth c H locs G lc lc0 M0 ls C R E B L S.t.t))
theorem a_if_le {x : Int32} {off : Int} {tgt : Nat} (hd : decode mt.2.1 pc = .ok (.ifCond .le off, 3)) (ht : (pc : Int) + off = (tgt : Int)) (kt : x ≤ 0 → wp d mt tgt lv st M Q) (kf : ¬ x ≤ 0 → wp d mt (pc + 3) lv st M Q) : wp d mt pc lv (.inl x :: st) M Q := by
  intro p l e s m args below meth c H locs G lc lc0 M0 ls C R E B L S
  exact lv_if_le C.1 C.2.1 hd ht (fun h => (kt h p l e s m args below meth c H locs G lc lc0 M0 ls C R E B L S.t)) (fun h => (kf h p l e s m args below meth c H locs G lc lc0 M0 ls C R E B L S.t))
theorem a_icmp_le {x y : Int32} {off : Int} {tgt : Nat} (hd : decode mt.2.1 pc = .ok (.if_icmp .le off, 3)) (ht : (pc : Int) + off = (tgt : Int)) (kt : x ≤ y → wp d mt tgt lv st M Q) (kf : ¬ x ≤ y → wp d mt (pc + 3) lv st M Q) : wp d mt pc lv (.inl y :: .inl x :: st) M Q := by
  intro p l e s m args below meth c H locs G lc lc0 M0 ls C R E B L S
  exact lv_icmp_le C.1 C.2.1 hd ht (fun h => (kt h p l e s m args below meth c H locs G lc lc0 M0 ls C R E B L S.t.t)) (fun h => (kf h p l e s m args below meth c H locs G lc lc0 M0 ls C R E B L S.t.t))
theorem a_goto {off : Int} {tgt : Nat} (hd : decode mt.2.1 pc = .ok (.goto off, 3)) (ht : (pc : Int) + off = (tgt : Int)) (k : wp d mt tgt lv st M Q) : wp d mt pc lv st M Q := by
  intro p l e s m args below meth c H locs G lc lc0 M0 ls C R E B L S
  exact lv_goto C.1 C.2.1 hd ht (k p l e s m args below meth c H locs G lc lc0 M0 ls C R E B L S)
theorem cv_nn {lc : Nat → Nat → Nat} {k : Nat × Nat} (h : k.1 ≠ 0) : cv lc (.inr k) = .ref (lc k.1 k.2) := by simp [cv, h]
theorem a_ifnull {x : Nat × Nat} {off : Int} {tgt : Nat} (hd : decode mt.2.1 pc = .ok (.ifnull off, 3)) (ht : (pc : Int) + off = (tgt : Int)) (kt : x = (0, 0) → wp d mt tgt lv st M Q) (kf : ¬ x = (0, 0) → wp d mt (pc + 3) lv st M Q) : wp d mt pc lv (.inr x :: st) M Q := by
  intro p l e s m args below meth c H locs G lc lc0 M0 ls C R E B L S
  rcases S.h with h | ⟨h1, h2⟩
  · subst h
    exact lv_ifnullN C.1 C.2.1 hd ht (kt rfl p l e s m args below meth c H locs G lc lc0 M0 ls C R E B L S.t)
  · rw [List.map_cons, cv_nn h1]
    exact lv_ifnull C.1 C.2.1 hd (kf (fun h => h1 (by rw [h])) p l e s m args below meth c H locs G lc lc0 M0 ls C R E B L S.t)
theorem a_ifnonnull {x : Nat × Nat} {off : Int} {tgt : Nat} (hd : decode mt.2.1 pc = .ok (.ifnonnull off, 3)) (ht : (pc : Int) + off = (tgt : Int)) (kt : ¬ x = (0, 0) → wp d mt tgt lv st M Q) (kf : x = (0, 0) → wp d mt (pc + 3) lv st M Q) : wp d mt pc lv (.inr x :: st) M Q := by
  intro p l e s m args below meth c H locs G lc lc0 M0 ls C R E B L S
  rcases S.h with h | ⟨h1, h2⟩
  · subst h
    exact lv_ifnonnullN C.1 C.2.1 hd (kf rfl p l e s m args below meth c H locs G lc lc0 M0 ls C R E B L S.t)
  · rw [List.map_cons, cv_nn h1]
    exact lv_ifnonnull C.1 C.2.1 hd ht (kt (fun h => h1 (by rw [h])) p l e s m args below meth c H locs G lc lc0 M0 ls C R E B L S.t)
theorem zrf {lc : Nat → Nat → Nat} (k : Nat × Nat) : cv lc (.inr k) = va_rf (if k.1 = 0 then none else some (lc k.1 k.2)) := by
  unfold cv; dsimp only; split <;> rfl
theorem zinj {G : zG} {lc : Nat → Nat → Nat} {U : State} {H : Heap} (R : Rep G lc M U H) {x y : Nat × Nat} (hx : okk M x) (hy : okk M y) (h : (if x.1 = 0 then none else some (lc x.1 x.2)) = (if y.1 = 0 then none else some (lc y.1 y.2))) : x = y := by
  rcases hx with hx | ⟨x1, x2⟩ <;> rcases hy with hy | ⟨y1, y2⟩
  · rw [hx, hy]
  · subst hx; simp [y1] at h
  · subst hy; simp [x1] at h
  · rw [if_neg x1, if_neg y1] at h
    have := R.2.1 x.1 x.2 y.1 y.2 x1 y1 x2 y2 (Option.some.inj h)
    exact Prod.ext this.1 this.2
theorem a_acmp_eq {x y : Nat × Nat} {off : Int} {tgt : Nat} (hd : decode mt.2.1 pc = .ok (.if_acmp .eq off, 3)) (ht : (pc : Int) + off = (tgt : Int)) (kt : x = y → wp d mt tgt lv st M Q) (kf : ¬ x = y → wp d mt (pc + 3) lv st M Q) : wp d mt pc lv (.inr y :: .inr x :: st) M Q := by
  intro p l e s m args below meth c H locs G lc lc0 M0 ls C R E B L S
  rw [List.map_cons, List.map_cons, zrf, zrf]
  exact lv_acmp_eq C.1 C.2.1 hd ht (fun h => (kt (zinj R S.t.h S.h h) p l e s m args below meth c H locs G lc lc0 M0 ls C R E B L S.t.t)) (fun h => (kf (fun e => h (by rw [e])) p l e s m args below meth c H locs G lc lc0 M0 ls C R E B L S.t.t))
theorem a_acmp_ne {x y : Nat × Nat} {off : Int} {tgt : Nat} (hd : decode mt.2.1 pc = .ok (.if_acmp .ne off, 3)) (ht : (pc : Int) + off = (tgt : Int)) (kt : ¬ x = y → wp d mt tgt lv st M Q) (kf : x = y → wp d mt (pc + 3) lv st M Q) : wp d mt pc lv (.inr y :: .inr x :: st) M Q := by
  intro p l e s m args below meth c H locs G lc lc0 M0 ls C R E B L S
  rw [List.map_cons, List.map_cons, zrf, zrf]
  exact lv_acmp_ne C.1 C.2.1 hd ht (fun h => (kt (fun e => h (by rw [e])) p l e s m args below meth c H locs G lc lc0 M0 ls C R E B L S.t.t)) (fun h => (kf (zinj R S.t.h S.h h) p l e s m args below meth c H locs G lc lc0 M0 ls C R E B L S.t.t))
theorem a_tsw {dflt hi : Int} {offs : Array Int} {len n tD : Nat} {x : Int32} (tg : Nat → Nat) (hd : decode mt.2.1 pc = .ok (.tableswitch dflt 0 hi offs, len)) (hn : hi + 1 = (n : Int)) (hD : (pc : Int) + dflt = (tD : Int)) (ho : ∀ j, j < n → (offs[j]?).map (fun o => (pc : Int) + o) = some (tg j : Int)) (hnb : n < 2 ^ 31)
    (kt : ∀ j, j < n → x = nI j → wp d mt (tg j) lv st M Q) (kf : (∀ j, j < n → ¬ x = nI j) → wp d mt tD lv st M Q) : wp d mt pc lv (.inl x :: st) M Q := by
  intro p l e s m args below meth c H locs G lc lc0 M0 ls C R E B L S
  by_cases h1 : x.toInt < 0
  · refine lv_tableOut C.1 C.2.1 hd (Or.inl h1) hD (kf (fun j hj e => ?_) p l e s m args below meth c H locs G lc lc0 M0 ls C R E B L S.t)
    rw [e, nI_toInt (by omega)] at h1
    omega
  · by_cases h2 : hi < x.toInt
    · refine lv_tableOut C.1 C.2.1 hd (Or.inr h2) hD (kf (fun j hj e => ?_) p l e s m args below meth c H locs G lc lc0 M0 ls C R E B L S.t)
      rw [e, nI_toInt (by omega)] at h2
      omega
    · have hj : x.toInt.toNat < n := by omega
      have h3 := ho _ hj
      cases ho2 : offs[x.toInt.toNat]? with
      | none => rw [ho2] at h3; cases h3
      | some off =>
        rw [ho2] at h3
        have ex : x = nI x.toInt.toNat := Int32.toInt_inj.mp (by rw [nI_toInt (by omega)]; omega)
        exact lv_tableIn C.1 C.2.1 hd h1 h2 (by rw [Int.sub_zero]; exact ho2) (Option.some.inj h3) (kt _ hj ex p l e s m args below meth c H locs G lc lc0 M0 ls C R E B L S.t)
theorem a_iret {v : Int32} (hr : mt.2.2.2 = some .int) (hd : decode mt.2.1 pc = .ok (.ireturn, 1)) (k : Q (some (.inl v)) M) : wp d mt pc lv [.inl v] M Q := by
  intro p l e s m args below meth c H locs G lc lc0 M0 ls C R E B L S
  exact W.iret C.1 C.2.1 (C.2.2.1.trans hr) (fun t ht hW => ⟨lc, M, some (.inl v), rfl, E, by rw [ht]; exact R.same hW.alike, fun w h => by cases h; trivial, k⟩) B hd C.2.2.2.1
theorem a_zret {v : Int32} (hr : mt.2.2.2 = some .boolean) (hv : v = 0 ∨ v = 1) (hd : decode mt.2.1 pc = .ok (.ireturn, 1)) (k : Q (some (.inl v)) M) : wp d mt pc lv [.inl v] M Q := by
  intro p l e s m args below meth c H locs G lc lc0 M0 ls C R E B L S
  exact W.zret C.1 C.2.1 (C.2.2.1.trans hr) (by rcases hv with h | h <;> subst h <;> decide +kernel) (fun t ht hW => ⟨lc, M, some (.inl v), rfl, E, by rw [ht]; exact R.same hW.alike, fun w h => by cases h; trivial, k⟩) B hd C.2.2.2.1
theorem a_vret (hr : mt.2.2.2 = none) (hd : decode mt.2.1 pc = .ok (.return_, 1)) (k : Q none M) : wp d mt pc lv [] M Q := by
  intro p l e s m args below meth c H locs G lc lc0 M0 ls C R E B L S
  exact W.vret C.1 C.2.1 (C.2.2.1.trans hr) (fun t ht hW => ⟨lc, M, none, rfl, E, by rw [ht]; exact R.same hW.alike, (fun w h => by cases h), k⟩) B hd C.2.2.2.1
theorem a_aret {v : Nat × Nat} {rt : FieldType} (hr : mt.2.2.2 = some rt) (hrt : (∃ n, rt = .object n) ∨ ∃ t, rt = .array t) (hd : decode mt.2.1 pc = .ok (.areturn, 1)) (k : Q (some (.inr v)) M) : wp d mt pc lv [.inr v] M Q := by
  intro p l e s m args below meth c H locs G lc lc0 M0 ls C R E B L S
  exact W.aret C.1 C.2.1 (C.2.2.1.trans hr) hrt (cv_ref lc v) (fun t ht hW => ⟨lc, M, some (.inr v), rfl, E, by rw [ht]; exact R.same hW.alike, (fun w h => by cases h; exact S.h), k⟩) B hd C.2.2.2.1
end SimpleRows
