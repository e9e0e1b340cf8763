set_option maxRecDepth 100000
section Lift
variable {d : Nat} {mt : zMt} {pc : Nat} {lv : List (Nat × AV)} {st : List AV} {M : Mem} {Q : Option AV → Mem → Prop}
theorem b_iconst {n : Int} {v : Int32} (hd : decode mt.2.1 pc = .ok (.iconst n, 1)) (hv : Int32.ofInt n = v) (k : wq d mt (pc + 1) lv (.inl v :: st) M Q) : wq d mt pc lv (st) M Q := fun M0 A => a_iconst hd hv (k M0 A)
theorem b_bipush {n : Int} {v : Int32} (hd : decode mt.2.1 pc = .ok (.bipush n, 2)) (hv : (Int8.ofInt n).toInt32 = v) (k : wq d mt (pc + 2) lv (.inl v :: st) M Q) : wq d mt pc lv (st) M Q := fun M0 A => a_bipush hd hv (k M0 A)
theorem b_sipush {n : Int} {v : Int32} (hd : decode mt.2.1 pc = .ok (.sipush n, 3)) (hv : (Int16.ofInt n).toInt32 = v) (k : wq d mt (pc + 3) lv (.inl v :: st) M Q) : wq d mt pc lv (st) M Q := fun M0 A => a_sipush hd hv (k M0 A)
theorem b_ldc {index : Nat} {v : Int32} (hd : decode mt.2.1 pc = .ok (.ldc index, 2)) (hw : Cond.constant mt.1.cls index v ∈ lw_all) (k : wq d mt (pc + 2) lv (.inl v :: st) M Q) : wq d mt pc lv (st) M Q := fun M0 A => a_ldc hd hw (k M0 A)
theorem b_ldcw {index : Nat} {v : Int32} (hd : decode mt.2.1 pc = .ok (.ldc_w index, 3)) (hw : Cond.constant mt.1.cls index v ∈ lw_all) (k : wq d mt (pc + 3) lv (.inl v :: st) M Q) : wq d mt pc lv (st) M Q := fun M0 A => a_ldcw hd hw (k M0 A)
theorem b_null (hd : decode mt.2.1 pc = .ok (.aconst_null, 1)) (k : wq d mt (pc + 1) lv (.inr (0, 0) :: st) M Q) : wq d mt pc lv (st) M Q := fun M0 A => a_null hd (k M0 A)
theorem b_iadd {x y : Int32} (hd : decode mt.2.1 pc = .ok (.iadd, 1)) (k : wq d mt (pc + 1) lv (.inl (x + y) :: st) M Q) : wq d mt pc lv (.inl y :: .inl x :: st) M Q := fun M0 A => a_iadd hd (k M0 A)
theorem b_isub {x y : Int32} (hd : decode mt.2.1 pc = .ok (.isub, 1)) (k : wq d mt (pc + 1) lv (.inl (x - y) :: st) M Q) : wq d mt pc lv (.inl y :: .inl x :: st) M Q := fun M0 A => a_isub hd (k M0 A)
theorem b_imul {x y : Int32} (hd : decode mt.2.1 pc = .ok (.imul, 1)) (k : wq d mt (pc + 1) lv (.inl (x * y) :: st) M Q) : wq d mt pc lv (.inl y :: .inl x :: st) M Q := fun M0 A => a_imul hd (k M0 A)
theorem b_iand {x y : Int32} (hd : decode mt.2.1 pc = .ok (.iand, 1)) (k : wq d mt (pc + 1) lv (.inl (x &&& y) :: st) M Q) : wq d mt pc lv (.inl y :: .inl x :: st) M Q := fun M0 A => a_iand hd (k M0 A)
theorem b_ior {x y : Int32} (hd : decode mt.2.1 pc = .ok (.ior, 1)) (k : wq d mt (pc + 1) lv (.inl (x ||| y) :: st) M Q) : wq d mt pc lv (.inl y :: .inl x :: st) M Q := fun M0 A => a_ior hd (k M0 A)
theorem b_ishl {x y : Int32} (hd : decode mt.2.1 pc = .ok (.ishl, 1)) (k : wq d mt (pc + 1) lv (.inl (x <<< (y &&& 31)) :: st) M Q) : wq d mt pc lv (.inl y :: .inl x :: st) M Q := fun M0 A => a_ishl hd (k M0 A)
theorem b_ishr {x y : Int32} (hd : decode mt.2.1 pc = .ok (.ishr, 1)) (k : wq d mt (pc + 1) lv (.inl (x >>> (y &&& 31)) :: st) M Q) : wq d mt pc lv (.inl y :: .inl x :: st) M Q := fun M0 A => a_ishr hd (k M0 A)
theorem b_irem {x y : Int32} (hd : decode mt.2.1 pc = .ok (.irem, 1)) (hne : ¬ y = 0) (k : wq d mt (pc + 1) lv (.inl (x - x / y * y) :: st) M Q) : wq d mt pc lv (.inl y :: .inl x :: st) M Q := fun M0 A => a_irem hd hne (k M0 A)
theorem b_ineg {x : Int32} (hd : decode mt.2.1 pc = .ok (.ineg, 1)) (k : wq d mt (pc + 1) lv (.inl (-x) :: st) M Q) : wq d mt pc lv (.inl x :: st) M Q := fun M0 A => a_ineg hd (k M0 A)
theorem b_dup {v : AV} (hd : decode mt.2.1 pc = .ok (.dup, 1)) (k : wq d mt (pc + 1) lv (v :: v :: st) M Q) : wq d mt pc lv (v :: st) M Q := fun M0 A => a_dup hd (k M0 A)
theorem b_pop {v : AV} (hd : decode mt.2.1 pc = .ok (.pop, 1)) (k : wq d mt (pc + 1) lv (st) M Q) : wq d mt pc lv (v :: st) M Q := fun M0 A => a_pop hd (k M0 A)
theorem b_dup_x1 {v w : AV} (hd : decode mt.2.1 pc = .ok (.dup_x1, 1)) (k : wq d mt (pc + 1) lv (v :: w :: v :: st) M Q) : wq d mt pc lv (v :: w :: st) M Q := fun M0 A => a_dup_x1 hd (k M0 A)
theorem b_dup2 {v w : AV} (hd : decode mt.2.1 pc = .ok (.dup2, 1)) (k : wq d mt (pc + 1) lv (v :: w :: v :: w :: st) M Q) : wq d mt pc lv (v :: w :: st) M Q := fun M0 A => a_dup2 hd (k M0 A)
theorem b_iload_n {q : Fin 4} {i : Nat} {x : Int32} (j : Nat) (hd : decode mt.2.1 pc = .ok (.iload_n q, 1)) (hi : (q : Nat) = i) (hl : lv[j]? = some (i, .inl x)) (k : wq d mt (pc + 1) lv (.inl x :: st) M Q) : wq d mt pc lv st M Q := fun M0 A => a_iload_n j hd hi hl (k M0 A)
theorem b_iload {i : Nat} {x : Int32} (j : Nat) (hd : decode mt.2.1 pc = .ok (.iload i, 2)) (hl : lv[j]? = some (i, .inl x)) (k : wq d mt (pc + 2) lv (.inl x :: st) M Q) : wq d mt pc lv st M Q := fun M0 A => a_iload j hd hl (k M0 A)
theorem b_aload_n {q : Fin 4} {i : Nat} {x : Nat × Nat} (j : Nat) (hd : decode mt.2.1 pc = .ok (.aload_n q, 1)) (hi : (q : Nat) = i) (hl : lv[j]? = some (i, .inr x)) (k : wq d mt (pc + 1) lv (.inr x :: st) M Q) : wq d mt pc lv st M Q := fun M0 A => a_aload_n j hd hi hl (k M0 A)
theorem b_aload {i : Nat} {x : Nat × Nat} (j : Nat) (hd : decode mt.2.1 pc = .ok (.aload i, 2)) (hl : lv[j]? = some (i, .inr x)) (k : wq d mt (pc + 2) lv (.inr x :: st) M Q) : wq d mt pc lv st M Q := fun M0 A => a_aload j hd hl (k M0 A)
theorem b_istore_n {q : Fin 4} {i : Nat} {x : Int32} {lv' : List (Nat × AV)} (hd : decode mt.2.1 pc = .ok (.istore_n q, 1)) (hi : (q : Nat) = i) (hn : i < mt.2.2.1) (hl : (i, .inl x) :: lv.filter (fun q => !(q.1 == i)) = lv') (k : wq d mt (pc + 1) lv' st M Q) : wq d mt pc lv (.inl x :: st) M Q := fun M0 A => a_istore_n hd hi hn hl (k M0 A)
theorem b_istore {i : Nat} {x : Int32} {lv' : List (Nat × AV)} (hd : decode mt.2.1 pc = .ok (.istore i, 2)) (hn : i < mt.2.2.1) (hl : (i, .inl x) :: lv.filter (fun q => !(q.1 == i)) = lv') (k : wq d mt (pc + 2) lv' st M Q) : wq d mt pc lv (.inl x :: st) M Q := fun M0 A => a_istore hd hn hl (k M0 A)
theorem b_astore_n {q : Fin 4} {i : Nat} {x : Nat × Nat} {lv' : List (Nat × AV)} (hd : decode mt.2.1 pc = .ok (.astore_n q, 1)) (hi : (q : Nat) = i) (hn : i < mt.2.2.1) (hl : (i, .inr x) :: lv.filter (fun q => !(q.1 == i)) = lv') (k : wq d mt (pc + 1) lv' st M Q) : wq d mt pc lv (.inr x :: st) M Q := fun M0 A => a_astore_n hd hi hn hl (k M0 A)
theorem b_astore {i : Nat} {x : Nat × Nat} {lv' : List (Nat × AV)} (hd : decode mt.2.1 pc = .ok (.astore i, 2)) (hn : i < mt.2.2.1) (hl : (i, .inr x) :: lv.filter (fun q => !(q.1 == i)) = lv') (k : wq d mt (pc + 2) lv' st M Q) : wq d mt pc lv (.inr x :: st) M Q := fun M0 A => a_astore hd hn hl (k M0 A)
theorem b_iinc {i : Nat} {n : Int} {x v : Int32} {lv' : List (Nat × AV)} (j : Nat) (hd : decode mt.2.1 pc = .ok (.iinc i n, 3)) (hj : lv[j]? = some (i, .inl x)) (hv : x + Int32.ofInt n = v) (hn : i < mt.2.2.1) (hl : (i, .inl v) :: lv.filter (fun q => !(q.1 == i)) = lv') (k : wq d mt (pc + 3) lv' st M Q) : wq d mt pc lv st M Q := fun M0 A => a_iinc j hd hj hv hn hl (k M0 A)
theorem b_if_eq {x : Int32} {off : Int} {tgt : Nat} (hd : decode mt.2.1 pc = .ok (.ifCond .eq off, 3)) (ht : (pc : Int) + off = (tgt : Int)) (kt : x = 0 → wq d mt tgt lv st M Q) (kf : ¬ x = 0 → wq d mt (pc + 3) lv st M Q) : wq d mt pc lv (.inl x :: st) M Q := fun M0 A => a_if_eq hd ht (fun c => kt c M0 A) (fun c => kf c M0 A)
theorem b_if_ne {x : Int32} {off : Int} {tgt : Nat} (hd : decode mt.2.1 pc = .ok (.ifCond .ne off, 3)) (ht : (pc : Int) + off = (tgt : Int)) (kt : ¬ x = 0 → wq d mt tgt lv st M Q) (kf : x = 0 → wq d mt (pc + 3) lv st M Q) : wq d mt pc lv (.inl x :: st) M Q := fun M0 A => a_if_ne hd ht (fun c => kt c M0 A) (fun c => kf c M0 A)
theorem b_if_lt {x : Int32} {off : Int} {tgt : Nat} (hd : decode mt.2.1 pc = .ok (.ifCond .lt off, 3)) (ht : (pc : Int) + off = (tgt : Int)) (kt : x < 0 → wq d mt tgt lv st M Q) (kf : ¬ x < 0 → wq d mt (pc + 3) lv st M Q) : wq d mt pc lv (.inl x :: st) M Q := fun M0 A => a_if_lt hd ht (fun c => kt c M0 A) (fun c => kf c M0 A)
theorem b_if_ge {x : Int32} {off : Int} {tgt : Nat} (hd : decode mt.2.1 pc = .ok (.ifCond .ge off, 3)) (ht : (pc : Int) + off = (tgt : Int)) (kt : 0 ≤ x → wq d mt tgt lv st M Q) (kf : ¬ 0 ≤ x → wq d mt (pc + 3) lv st M Q) : wq d mt pc lv (.inl x :: st) M Q := fun M0 A => a_if_ge hd ht (fun c => kt c M0 A) (fun c => kf c M0 A)
theorem b_if_gt {x : Int32} {off : Int} {tgt : Nat} (hd : decode mt.2.1 pc = .ok (.ifCond .gt off, 3)) (ht : (pc : Int) + off = (tgt : Int)) (kt : 0 < x → wq d mt tgt lv st M Q) (kf : ¬ 0 < x → wq d mt (pc + 3) lv st M Q) : wq d mt pc lv (.inl x :: st) M Q := fun M0 A => a_if_gt hd ht (fun c => kt c M0 A) (fun c => kf c M0 A)
theorem b_if_le {x : Int32} {off : Int} {tgt : Nat} (hd : decode mt.2.1 pc = .ok (.ifCond .le off, 3)) (ht : (pc : Int) + off = (tgt : Int)) (kt : x ≤ 0 → wq d mt tgt lv st M Q) (kf : ¬ x ≤ 0 → wq d mt (pc + 3) lv st M Q) : wq d mt pc lv (.inl x :: st) M Q := fun M0 A => a_if_le hd ht (fun c => kt c M0 A) (fun c => kf c M0 A)
theorem b_icmp_eq {x y : Int32} {off : Int} {tgt : Nat} (hd : decode mt.2.1 pc = .ok (.if_icmp .eq off, 3)) (ht : (pc : Int) + off = (tgt : Int)) (kt : x = y → wq d mt tgt lv st M Q) (kf : ¬ x = y → wq d mt (pc + 3) lv st M Q) : wq d mt pc lv (.inl y :: .inl x :: st) M Q := fun M0 A => a_icmp_eq hd ht (fun c => kt c M0 A) (fun c => kf c M0 A)
theorem b_icmp_ne {x y : Int32} {off : Int} {tgt : Nat} (hd : decode mt.2.1 pc = .ok (.if_icmp .ne off, 3)) (ht : (pc : Int) + off = (tgt : Int)) (kt : ¬ x = y → wq d mt tgt lv st M Q) (kf : x = y → wq d mt (pc + 3) lv st M Q) : wq d mt pc lv (.inl y :: .inl x :: st) M Q := fun M0 A => a_icmp_ne hd ht (fun c => kt c M0 A) (fun c => kf c M0 A)
theorem b_icmp_lt {x y : Int32} {off : Int} {tgt : Nat} (hd : decode mt.2.1 pc = .ok (.if_icmp .lt off, 3)) (ht : (pc : Int) + off = (tgt : Int)) (kt : x < y → wq d mt tgt lv st M Q) (kf : ¬ x < y → wq d mt (pc + 3) lv st M Q) : wq d mt pc lv (.inl y :: .inl x :: st) M Q := fun M0 A => a_icmp_lt hd ht (fun c => kt c M0 A) (fun c => kf c M0 A)
theorem b_icmp_ge {x y : Int32} {off : Int} {tgt : Nat} (hd : decode mt.2.1 pc = .ok (.if_icmp .ge off, 3)) (ht : (pc : Int) + off = (tgt : Int)) (kt : y ≤ x → wq d mt tgt lv st M Q) (kf : ¬ y ≤ x → wq d mt (pc + 3) lv st M Q) : wq d mt pc lv (.inl y :: .inl x :: st) M Q := fun M0 A => a_icmp_ge hd ht (fun c => kt c M0 A) (fun c => kf c M0 A)
theorem b_icmp_gt {x y : Int32} {off : Int} {tgt : Nat} (hd : decode mt.2.1 pc = .ok (.if_icmp .gt off, 3)) (ht : (pc : Int) + off = (tgt : Int)) (kt : y < x → wq d mt tgt lv st M Q) (kf : ¬ y < x → wq d mt (pc + 3) lv st M Q) : wq d mt pc lv (.inl y :: .inl x :: st) M Q := fun M0 A => a_icmp_gt hd ht (fun c => kt c M0 A) (fun c => kf c M0 A)
theorem b_icmp_le {x y : Int32} {off : Int} {tgt : Nat} (hd : decode mt.2.1 pc = .ok (.if_icmp .le off, 3)) (ht : (pc : Int) + off = (tgt : Int)) (kt : x ≤ y → wq d mt tgt lv st M Q) (kf : ¬ x ≤ y → wq d mt (pc + 3) lv st M Q) : wq d mt pc lv (.inl y :: .inl x :: st) M Q := fun M0 A => a_icmp_le hd ht (fun c => kt c M0 A) (fun c => kf c M0 A)
theorem b_goto {off : Int} {tgt : Nat} (hd : decode mt.2.1 pc = .ok (.goto off, 3)) (ht : (pc : Int) + off = (tgt : Int)) (k : wq d mt tgt lv st M Q) : wq d mt pc lv st M Q := fun M0 A => a_goto hd ht (k M0 A)
theorem b_ifnull {x : Nat × Nat} {off : Int} {tgt : Nat} (hd : decode mt.2.1 pc = .ok (.ifnull off, 3)) (ht : (pc : Int) + off = (tgt : Int)) (kt : x = (0, 0) → wq d mt tgt lv st M Q) (kf : ¬ x = (0, 0) → wq d mt (pc + 3) lv st M Q) : wq d mt pc lv (.inr x :: st) M Q := fun M0 A => a_ifnull hd ht (fun c => kt c M0 A) (fun c => kf c M0 A)
theorem b_ifnonnull {x : Nat × Nat} {off : Int} {tgt : Nat} (hd : decode mt.2.1 pc = .ok (.ifnonnull off, 3)) (ht : (pc : Int) + off = (tgt : Int)) (kt : ¬ x = (0, 0) → wq d mt tgt lv st M Q) (kf : x = (0, 0) → wq d mt (pc + 3) lv st M Q) : wq d mt pc lv (.inr x :: st) M Q := fun M0 A => a_ifnonnull hd ht (fun c => kt c M0 A) (fun c => kf c M0 A)
theorem b_acmp_eq {x y : Nat × Nat} {off : Int} {tgt : Nat} (hd : decode mt.2.1 pc = .ok (.if_acmp .eq off, 3)) (ht : (pc : Int) + off = (tgt : Int)) (kt : x = y → wq d mt tgt lv st M Q) (kf : ¬ x = y → wq d mt (pc + 3) lv st M Q) : wq d mt pc lv (.inr y :: .inr x :: st) M Q := fun M0 A => a_acmp_eq hd ht (fun c => kt c M0 A) (fun c => kf c M0 A)
theorem b_acmp_ne {x y : Nat × Nat} {off : Int} {tgt : Nat} (hd : decode mt.2.1 pc = .ok (.if_acmp .ne off, 3)) (ht : (pc : Int) + off = (tgt : Int)) (kt : ¬ x = y → wq d mt tgt lv st M Q) (kf : x = y → wq d mt (pc + 3) lv st M Q) : wq d mt pc lv (.inr y :: .inr x :: st) M Q := fun M0 A => a_acmp_ne hd ht (fun c => kt c M0 A) (fun c => kf c M0 A)
theorem b_tsw {dflt hi : Int} {offs : Array Int} {len n tD : Nat} {x : Int32} (tg : Nat → Nat) (hd : decode mt.2.1 pc = .ok (.tableswitch dflt 0 hi offs, len)) (hn : hi + 1 = (n : Int)) (hD : (pc : Int) + dflt = (tD : Int)) (ho : ∀ j, j < n → (offs[j]?).map (fun o => (pc : Int) + o) = some (tg j : Int)) (hnb : n < 2 ^ 31)     (kt : ∀ j, j < n → x = nI j → wq d mt (tg j) lv st M Q) (kf : (∀ j, j < n → ¬ x = nI j) → wq d mt tD lv st M Q) : wq d mt pc lv (.inl x :: st) M Q := fun M0 A => a_tsw tg hd hn hD ho hnb (fun j hj e => kt j hj e M0 A) (fun e => kf e M0 A)
theorem b_above {index : Nat} (hlink : Cond.fieldLink mt.1.cls index RX0 "ABOVE" "[I" ∈ lw_all) (hd : decode mt.2.1 pc = .ok (.getstatic index, 3)) (kk : wq d mt (pc + 3) lv (.inr (44, 0) :: st) M Q) : wq d mt pc lv st M Q := fun M0 A => a_above hlink hd (kk M0 A)
theorem b_obj {index : Nat} {x : Nat × Nat} (hx : x.1 ≠ 0) (hlink : Cond.methodLink mt.1.cls index objectInit ∈ lw_all) (w1 : Cond.instanceMethod objectInit ∈ lw_all) (w2 : Cond.code objectInit ⟨#[0xb1]⟩ 1 none ∈ lw_all) (hst : st.length ≤ 8) (hd : decode mt.2.1 pc = .ok (.invokespecial index, 3)) (kk : wq (d + 1) mt (pc + 3) lv st M Q) : wq (d + 1) mt pc lv (.inr x :: st) M Q := fun M0 A => a_obj hx hlink w1 w2 hst hd (kk M0 A)
theorem b_mmin {index : Nat} {x y : Int32} (hlink : Cond.methodLink mt.1.cls index yJ4_min ∈ lw_all) (hst : st.length ≤ 8) (hd : decode mt.2.1 pc = .ok (.invokestatic index, 3)) (kk : wq (d + 1) mt (pc + 3) lv (.inl (if y < x then y else x) :: st) M Q) : wq (d + 1) mt pc lv (.inl y :: .inl x :: st) M Q := fun M0 A => a_mmin hlink hst hd (kk M0 A)
theorem b_mabs {index : Nat} {x : Int32} (hlink : Cond.methodLink mt.1.cls index yJ4_abs ∈ lw_all) (hst : st.length ≤ 8) (hd : decode mt.2.1 pc = .ok (.invokestatic index, 3)) (kk : wq (d + 1) mt (pc + 3) lv (.inl (if 0 ≤ x then x else 0 - x) :: st) M Q) : wq (d + 1) mt pc lv (.inl x :: st) M Q := fun M0 A => a_mabs hlink hst hd (kk M0 A)
theorem b_mmax {index : Nat} {x y : Int32} (hlink : Cond.methodLink mt.1.cls index yJ4_max ∈ lw_all) (hst : st.length ≤ 8) (hd : decode mt.2.1 pc = .ok (.invokestatic index, 3)) (kk : wq (d + 1) mt (pc + 3) lv (.inl (if x < y then y else x) :: st) M Q) : wq (d + 1) mt pc lv (.inl y :: .inl x :: st) M Q := fun M0 A => a_mmax hlink hst hd (kk M0 A)
theorem b_ck {x : Nat × Nat} {index ci : Nat} {r : vw_C} (hr : zCl[ci]? = some r) (hlink : Cond.classLink mt.1.cls index r.1 ∈ lw_all) (hk : kt x.1 = ci) (hd : decode mt.2.1 pc = .ok (.checkcast index, 3)) (kk : wq d mt (pc + 3) lv (.inr x :: st) M Q) : wq d mt pc lv (.inr x :: st) M Q := fun M0 A => a_ck hr hlink hk hd (kk M0 A)
theorem b_ckg {x : Nat × Nat} {index : Nat} (hlink : Cond.classLink mt.1.cls index "WaterWorks$Guard" ∈ lw_all) (hk : gk x.1) (hd : decode mt.2.1 pc = .ok (.checkcast index, 3)) (kk : wq d mt (pc + 3) lv (.inr x :: st) M Q) : wq d mt pc lv (.inr x :: st) M Q := fun M0 A => a_ckg hlink hk hd (kk M0 A)
theorem b_ckk {x : Nat × Nat} {index : Nat} (hlink : Cond.classLink mt.1.cls index "WaterWorks$Alarm" ∈ lw_all) (hk : ak x.1) (hd : decode mt.2.1 pc = .ok (.checkcast index, 3)) (kk : wq d mt (pc + 3) lv (.inr x :: st) M Q) : wq d mt pc lv (.inr x :: st) M Q := fun M0 A => a_ckk hlink hk hd (kk M0 A)
theorem b_cka {x : Nat × Nat} {index : Nat} (hlink : Cond.classLink mt.1.cls index "[LWaterWorks$Guard;" ∈ lw_all) (hk : kt x.1 = 103) (hd : decode mt.2.1 pc = .ok (.checkcast index, 3)) (kk : wq d mt (pc + 3) lv (.inr x :: st) M Q) : wq d mt pc lv (.inr x :: st) M Q := fun M0 A => a_cka hlink hk hd (kk M0 A)
theorem b_iso {e : Nat × Nat} {index ci : Nat} {r : vw_C} (hr : zCl[ci]? = some r) (hb : ci ∈ ([5, 6, 7, 12] : List Nat)) (hlink : Cond.classLink mt.1.cls index r.1 ∈ lw_all) (hg : gk e.1) (hd : decode mt.2.1 pc = .ok (.instanceof index, 3)) (ky : kt e.1 = ci → wq d mt (pc + 3) lv (.inl 1 :: st) M Q) (kn : ¬ kt e.1 = ci → wq d mt (pc + 3) lv (.inl 0 :: st) M Q) : wq d mt pc lv (.inr e :: st) M Q := fun M0 A => a_iso hr hb hlink hg hd (fun c => ky c M0 A) (fun c => kn c M0 A)
theorem b_sub {lv' : List (Nat × AV)} (hs : ∀ q ∈ lv', q ∈ lv) (k : wq d mt pc lv' st M Q) : wq d mt pc lv st M Q := fun M0 A => a_sub hs (k M0 A)
theorem b_topi {e : Int32} (k : ∀ x : Int32, x = e → wq d mt pc lv (.inl x :: st) M Q) : wq d mt pc lv (.inl e :: st) M Q := fun M0 A => a_topi (fun x e => k x e M0 A)
theorem b_topr {e : Nat × Nat} (k : ∀ x : Nat × Nat, x = e → wq d mt pc lv (.inr x :: st) M Q) : wq d mt pc lv (.inr e :: st) M Q := fun M0 A => a_topr (fun x e => k x e M0 A)
theorem b_iret {v : Int32} (hr : mt.2.2.2 = some .int) (hd : decode mt.2.1 pc = .ok (.ireturn, 1)) (k : Q (some (.inl v)) M) : wq d mt pc lv [.inl v] M Q := fun M0 A => a_iret hr hd ⟨_, A, k⟩
theorem b_zret {v : Int32} (hr : mt.2.2.2 = some .boolean) (hv : v = 0 ∨ v = 1) (hd : decode mt.2.1 pc = .ok (.ireturn, 1)) (k : Q (some (.inl v)) M) : wq d mt pc lv [.inl v] M Q := fun M0 A => a_zret hr hv hd ⟨_, A, k⟩
theorem b_vret (hr : mt.2.2.2 = none) (hd : decode mt.2.1 pc = .ok (.return_, 1)) (k : Q none M) : wq d mt pc lv [] M Q := fun M0 A => a_vret hr hd ⟨_, A, k⟩
theorem b_aret {v : Nat × Nat} {rt : FieldType} (hr : mt.2.2.2 = some rt) (hrt : (∃ n, rt = .object n) ∨ ∃ t, rt = .array t) (hd : decode mt.2.1 pc = .ok (.areturn, 1)) (k : Q (some (.inr v)) M) : wq d mt pc lv [.inr v] M Q := fun M0 A => a_aret hr hrt hd ⟨_, A, k⟩
theorem b_cs {y : zMt} {as : List AV} {index n : Nat} (hlink : zml mt.1.cls index y.1) (w1 : Cond.static y.1 ∈ lw_all) (w2 : Cond.initialized y.1.cls ∈ lw_all) (w3 : Cond.code y.1 y.2.1 y.2.2.1 y.2.2.2 ∈ lw_all) (hy : zmh y.1 n) (hn : as.length = n) (hm : y.2.2.1 ≤ 22) (hst : st.length ≤ 8) (hd : decode mt.2.1 pc = .ok (.invokestatic index, 3))     (h : cq d y as M (fun r M' => wq (d + 1) mt (pc + 3) lv (r.toList ++ st) M' Q)) : wq (d + 1) mt pc lv (as.reverse ++ st) M Q := fun M0 A => a_cs hlink w1 w2 w3 hy hn hm hst hd ((h M0 A).mono fun r M' ⟨_, A', hw⟩ => hw M' A')
theorem b_ci {y : zMt} {k i : Nat} {as : List AV} {index n : Nat} (hk : k ≠ 0) (hret : y.2.2.2 = none) (hnm : y.1.name = "<init>") (hlink : zml mt.1.cls index y.1) (w1 : Cond.instanceMethod y.1 ∈ lw_all) (w2 : Cond.initialized y.1.cls ∈ lw_all) (w3 : Cond.code y.1 y.2.1 y.2.2.1 y.2.2.2 ∈ lw_all) (hy : zmh y.1 n) (hn : as.length = n) (hm : y.2.2.1 ≤ 22) (hst : st.length ≤ 8) (hd : decode mt.2.1 pc = .ok (.invokespecial index, 3))     (h : cq d y (.inr (k, i) :: as) M (fun r M' => wq (d + 1) mt (pc + 3) lv (r.toList ++ st) M' Q)) : wq (d + 1) mt pc lv (as.reverse ++ .inr (k, i) :: st) M Q := fun M0 A => a_ci hk hret hnm hlink w1 w2 w3 hy hn hm hst hd ((h M0 A).mono fun r M' ⟨_, A', hw⟩ => hw M' A')
theorem b_cvo {y : zMt} {ci : Nat} {r : vw_C} {e : Nat × Nat} {as : List AV} {index n : Nat} (hr : zCl[ci]? = some r) (hk : kt e.1 = ci) (hlink : zml mt.1.cls index y.1) (w0 : Cond.selects r.1 y.1 y.1 ∈ lw_all) (w1 : Cond.instanceMethod y.1 ∈ lw_all) (w2 : Cond.initialized y.1.cls ∈ lw_all) (w3 : Cond.code y.1 y.2.1 y.2.2.1 y.2.2.2 ∈ lw_all) (hy : zmh y.1 n) (hn : as.length = n) (hm : y.2.2.1 ≤ 22) (hst : st.length ≤ 8) (hd : decode mt.2.1 pc = .ok (.invokevirtual index, 3))     (h : cq d y (.inr e :: as) M (fun r M' => wq (d + 1) mt (pc + 3) lv (r.toList ++ st) M' Q)) : wq (d + 1) mt pc lv (as.reverse ++ .inr e :: st) M Q := fun M0 A => a_cvo hr hk hlink w0 w1 w2 w3 hy hn hm hst hd ((h M0 A).mono fun r M' ⟨_, A', hw⟩ => hw M' A')
theorem b_topm {e : Mem} (k : ∀ x : Mem, x = e → wq d mt pc lv st x Q) : wq d mt pc lv st e Q := k e rfl
theorem b_gI {e : Nat × Nat} {f index ci : Nat} {ref : String} {r : vw_C} (hn : ci < 25) (hr : zCl[ci]? = some r) (hf : f < r.2.2) (hz : zIsR (zTy ci f) = false) (hlink : zlk mt.1.cls index ref (r.2.1 f).2.1 (r.2.1 f).2.2.1) (hsame : zsm ref (r.2.1 f).1 (r.2.1 f).2.1 (r.2.1 f).2.2.1) (hk : kt e.1 = ci) (hd : decode mt.2.1 pc = .ok (.getfield index, 3))
    (kk : wq d mt (pc + 3) lv (.inl (M.1 e.1 e.2 f) :: st) M Q) : wq d mt pc lv (.inr e :: st) M Q :=
  fun M0 A => a_gI hr hf hz hlink hsame hk hd (by have h := kk M0 A; rw [(A.same (kt_nl hn hk).1 (kt_nl hn hk).2).1] at h; exact h)
theorem b_gR {e : Nat × Nat} {f index ci : Nat} {ref : String} {r : vw_C} (hn : ci < 25) (hr : zCl[ci]? = some r) (hf : f < r.2.2) (hz : zIsR (zTy ci f) = true) (hlink : zlk mt.1.cls index ref (r.2.1 f).2.1 (r.2.1 f).2.2.1) (hsame : zsm ref (r.2.1 f).1 (r.2.1 f).2.1 (r.2.1 f).2.2.1) (hk : kt e.1 = ci) (hd : decode mt.2.1 pc = .ok (.getfield index, 3))
    (kk : wq d mt (pc + 3) lv (.inr (M.2.1 e.1 e.2 f) :: st) M Q) : wq d mt pc lv (.inr e :: st) M Q :=
  fun M0 A => a_gR hr hf hz hlink hsame hk hd (by have h := kk M0 A; rw [(A.same (kt_nl hn hk).1 (kt_nl hn hk).2).2.1] at h; exact h)
theorem b_gIg {e : Nat × Nat} {f index : Nat} {ref : String} (hf : f < 7 ∧ zIsR (tyX5 f) = false) (hlink : zlk mt.1.cls index ref (TX5 f).2.1 (TX5 f).2.2.1) (hsame : zsm ref (TX5 f).1 (TX5 f).2.1 (TX5 f).2.2.1) (hk : gk e.1) (hd : decode mt.2.1 pc = .ok (.getfield index, 3))
    (kk : wq d mt (pc + 3) lv (.inl (M.1 e.1 e.2 f) :: st) M Q) : wq d mt pc lv (.inr e :: st) M Q :=
  fun M0 A => a_gIg hf hlink hsame hk hd (by have h := kk M0 A; rw [(A.same (gk_nl hk).1 (gk_nl hk).2).1] at h; exact h)
theorem b_gRg {e : Nat × Nat} {f index : Nat} {ref : String} (hf : f < 7 ∧ zIsR (tyX5 f) = true) (hlink : zlk mt.1.cls index ref (TX5 f).2.1 (TX5 f).2.2.1) (hsame : zsm ref (TX5 f).1 (TX5 f).2.1 (TX5 f).2.2.1) (hk : gk e.1) (hd : decode mt.2.1 pc = .ok (.getfield index, 3))
    (kk : wq d mt (pc + 3) lv (.inr (M.2.1 e.1 e.2 f) :: st) M Q) : wq d mt pc lv (.inr e :: st) M Q :=
  fun M0 A => a_gRg hf hlink hsame hk hd (by have h := kk M0 A; rw [(A.same (gk_nl hk).1 (gk_nl hk).2).2.1] at h; exact h)
theorem b_gIk {e : Nat × Nat} {f index : Nat} {ref : String} (hf : f < 4 ∧ zIsR (tyX21 f) = false) (hlink : zlk mt.1.cls index ref (TX21 f).2.1 (TX21 f).2.2.1) (hsame : zsm ref (TX21 f).1 (TX21 f).2.1 (TX21 f).2.2.1) (hk : ak e.1) (hd : decode mt.2.1 pc = .ok (.getfield index, 3))
    (kk : wq d mt (pc + 3) lv (.inl (M.1 e.1 e.2 f) :: st) M Q) : wq d mt pc lv (.inr e :: st) M Q :=
  fun M0 A => a_gIk hf hlink hsame hk hd (by have h := kk M0 A; rw [(A.same (ak_nl hk).1 (ak_nl hk).2).1] at h; exact h)
theorem b_gRk {e : Nat × Nat} {f index : Nat} {ref : String} (hf : f < 4 ∧ zIsR (tyX21 f) = true) (hlink : zlk mt.1.cls index ref (TX21 f).2.1 (TX21 f).2.2.1) (hsame : zsm ref (TX21 f).1 (TX21 f).2.1 (TX21 f).2.2.1) (hk : ak e.1) (hd : decode mt.2.1 pc = .ok (.getfield index, 3))
    (kk : wq d mt (pc + 3) lv (.inr (M.2.1 e.1 e.2 f) :: st) M Q) : wq d mt pc lv (.inr e :: st) M Q :=
  fun M0 A => a_gRk hf hlink hsame hk hd (by have h := kk M0 A; rw [(A.same (ak_nl hk).1 (ak_nl hk).2).2.1] at h; exact h)
theorem b_pI {e : Nat × Nat} {f index ci : Nat} {ref : String} {r : vw_C} {v : Int32} (hn : ci < 25) (hr : zCl[ci]? = some r) (hf : f < r.2.2) (hlink : zlk mt.1.cls index ref (r.2.1 f).2.1 (r.2.1 f).2.2.1) (hsame : zsm ref (r.2.1 f).1 (r.2.1 f).2.1 (r.2.1 f).2.2.1) (hfin : (r.2.1 f).2.2.2 = false) (hz : zTy ci f = .int ∨ (zTy ci f = .boolean ∧ (v = 0 ∨ v = 1))) (hk : kt e.1 = ci) (hd : decode mt.2.1 pc = .ok (.putfield index, 3))
    (kk : wq d mt (pc + 3) lv st (sI M e.1 e.2 f v) Q) : wq d mt pc lv (.inl v :: .inr e :: st) M Q :=
  fun M0 A => a_pI hr hf hlink hsame hfin hz hk hd (kk _ (A.wI (kt_nl hn hk).1 (kt_nl hn hk).2 _ _ _))
theorem b_pR {e v : Nat × Nat} {f index ci : Nat} {ref : String} {r : vw_C} (hn : ci < 25) (hr : zCl[ci]? = some r) (hf : f < r.2.2) (hlink : zlk mt.1.cls index ref (r.2.1 f).2.1 (r.2.1 f).2.2.1) (hsame : zsm ref (r.2.1 f).1 (r.2.1 f).2.1 (r.2.1 f).2.2.1) (hfin : (r.2.1 f).2.2.2 = false) (hz : zIsR (zTy ci f) = true) (hk : kt e.1 = ci) (hd : decode mt.2.1 pc = .ok (.putfield index, 3))
    (kk : wq d mt (pc + 3) lv st (sR M e.1 e.2 f v) Q) : wq d mt pc lv (.inr v :: .inr e :: st) M Q :=
  fun M0 A => a_pR hr hf hlink hsame hfin hz hk hd (kk _ (A.wR (kt_nl hn hk).1 (kt_nl hn hk).2 _ _ _))
theorem b_fI {e : Nat × Nat} {f index ci : Nat} {ref : String} {r : vw_C} {v : Int32} (hn : ci < 25) (hr : zCl[ci]? = some r) (hf : f < r.2.2) (hlink : Cond.fieldLink mt.1.cls index ref (r.2.1 f).2.1 (r.2.1 f).2.2.1 ∈ lw_all) (hsame : zsm ref (r.2.1 f).1 (r.2.1 f).2.1 (r.2.1 f).2.2.1) (hfin : (r.2.1 f).2.2.2 = true) (hin : mt.1.name = "<init>") (hdecl : (r.2.1 f).1 = mt.1.cls) (hz : zTy ci f = .int ∨ (zTy ci f = .boolean ∧ (v = 0 ∨ v = 1))) (hk : kt e.1 = ci) (hd : decode mt.2.1 pc = .ok (.putfield index, 3))
    (kk : wq d mt (pc + 3) lv st (sI M e.1 e.2 f v) Q) : wq d mt pc lv (.inl v :: .inr e :: st) M Q :=
  fun M0 A => a_fI hr hf hlink hsame hfin hin hdecl hz hk hd (kk _ (A.wI (kt_nl hn hk).1 (kt_nl hn hk).2 _ _ _))
theorem b_fR {e v : Nat × Nat} {f index ci : Nat} {ref : String} {r : vw_C} (hn : ci < 25) (hr : zCl[ci]? = some r) (hf : f < r.2.2) (hlink : Cond.fieldLink mt.1.cls index ref (r.2.1 f).2.1 (r.2.1 f).2.2.1 ∈ lw_all) (hsame : zsm ref (r.2.1 f).1 (r.2.1 f).2.1 (r.2.1 f).2.2.1) (hfin : (r.2.1 f).2.2.2 = true) (hin : mt.1.name = "<init>") (hdecl : (r.2.1 f).1 = mt.1.cls) (hz : zIsR (zTy ci f) = true) (hk : kt e.1 = ci) (hd : decode mt.2.1 pc = .ok (.putfield index, 3))
    (kk : wq d mt (pc + 3) lv st (sR M e.1 e.2 f v) Q) : wq d mt pc lv (.inr v :: .inr e :: st) M Q :=
  fun M0 A => a_fR hr hf hlink hsame hfin hin hdecl hz hk hd (kk _ (A.wR (kt_nl hn hk).1 (kt_nl hn hk).2 _ _ _))
theorem b_fIg {e : Nat × Nat} {f index : Nat} {ref : String} {v : Int32} (hf : f < 7) (hlink : Cond.fieldLink mt.1.cls index ref (TX5 f).2.1 (TX5 f).2.2.1 ∈ lw_all) (hsame : zsm ref (TX5 f).1 (TX5 f).2.1 (TX5 f).2.2.1) (hfin : (TX5 f).2.2.2 = true) (hin : mt.1.name = "<init>") (hdecl : (TX5 f).1 = mt.1.cls) (hz : tyX5 f = .int ∨ (tyX5 f = .boolean ∧ (v = 0 ∨ v = 1))) (hk : gk e.1) (hd : decode mt.2.1 pc = .ok (.putfield index, 3))
    (kk : wq d mt (pc + 3) lv st (sI M e.1 e.2 f v) Q) : wq d mt pc lv (.inl v :: .inr e :: st) M Q :=
  fun M0 A => a_fIg hf hlink hsame hfin hin hdecl hz hk hd (kk _ (A.wI (gk_nl hk).1 (gk_nl hk).2 _ _ _))
theorem b_fRg {e v : Nat × Nat} {f index : Nat} {ref : String} (hf : f < 7) (hlink : Cond.fieldLink mt.1.cls index ref (TX5 f).2.1 (TX5 f).2.2.1 ∈ lw_all) (hsame : zsm ref (TX5 f).1 (TX5 f).2.1 (TX5 f).2.2.1) (hfin : (TX5 f).2.2.2 = true) (hin : mt.1.name = "<init>") (hdecl : (TX5 f).1 = mt.1.cls) (hz : zIsR (tyX5 f) = true) (hk : gk e.1) (hd : decode mt.2.1 pc = .ok (.putfield index, 3))
    (kk : wq d mt (pc + 3) lv st (sR M e.1 e.2 f v) Q) : wq d mt pc lv (.inr v :: .inr e :: st) M Q :=
  fun M0 A => a_fRg hf hlink hsame hfin hin hdecl hz hk hd (kk _ (A.wR (gk_nl hk).1 (gk_nl hk).2 _ _ _))
theorem b_fRk {e v : Nat × Nat} {f index : Nat} {ref : String} (hf : f < 4) (hlink : Cond.fieldLink mt.1.cls index ref (TX21 f).2.1 (TX21 f).2.2.1 ∈ lw_all) (hsame : zsm ref (TX21 f).1 (TX21 f).2.1 (TX21 f).2.2.1) (hfin : (TX21 f).2.2.2 = true) (hin : mt.1.name = "<init>") (hdecl : (TX21 f).1 = mt.1.cls) (hz : zIsR (tyX21 f) = true) (hk : ak e.1) (hd : decode mt.2.1 pc = .ok (.putfield index, 3))
    (kk : wq d mt (pc + 3) lv st (sR M e.1 e.2 f v) Q) : wq d mt pc lv (.inr v :: .inr e :: st) M Q :=
  fun M0 A => a_fRk hf hlink hsame hfin hin hdecl hz hk hd (kk _ (A.wR (ak_nl hk).1 (ak_nl hk).2 _ _ _))
theorem b_pIk {e : Nat × Nat} {f index : Nat} {ref : String} {v : Int32} (hf : f < 4) (hlink : zlk mt.1.cls index ref (TX21 f).2.1 (TX21 f).2.2.1) (hsame : zsm ref (TX21 f).1 (TX21 f).2.1 (TX21 f).2.2.1) (hfin : (TX21 f).2.2.2 = false) (hz : tyX21 f = .int ∨ (tyX21 f = .boolean ∧ (v = 0 ∨ v = 1))) (hk : ak e.1) (hd : decode mt.2.1 pc = .ok (.putfield index, 3))
    (kk : wq d mt (pc + 3) lv st (sI M e.1 e.2 f v) Q) : wq d mt pc lv (.inl v :: .inr e :: st) M Q :=
  fun M0 A => a_pIk hf hlink hsame hfin hz hk hd (kk _ (A.wI (ak_nl hk).1 (ak_nl hk).2 _ _ _))
theorem kt_nlA {k : Nat} (h : kt k = 100 ∨ kt k = 101 ∨ kt k = 103) : k ≠ 40 ∧ ¬ lk k := by
  constructor
  · intro e; rw [e] at h; have : kt 40 = 102 := rfl; omega
  · intro e; have := lk_kt e; omega
theorem arI.to {M0 M : Mem} (A : AbsL M0 M) {e : Nat × Nat} {t : Nat} {x : Int32} (ht : t = 100 ∨ t = 101) (h : arI M e t x) : arI M0 e t x := by
  have hn := kt_nlA (k := e.1) (by rw [h.2.1]; omega)
  unfold arI at h ⊢
  rw [(A.same hn.1 hn.2).2.2] at h
  exact h
def arG (M : Mem) (e : Nat × Nat) (x : Int32) : Prop := kt e.1 = 103 ∧ M.2.2.1 e.1 e.2 ≠ 0 ∧ vp_in x (M.2.2.1 e.1 e.2 - 1)
def arLN (M : Mem) (e : Nat × Nat) : Prop := kt e.1 = 103 ∧ M.2.2.1 e.1 e.2 ≠ 0
theorem b_xiald {e : Nat × Nat} {x : Int32} (h : arI M e 100 x) (hd : decode mt.2.1 pc = .ok (.iaload, 1)) (kk : wq d mt (pc + 1) lv (.inl (M.1 e.1 e.2 x.toNatClampNeg) :: st) M Q) : wq d mt pc lv (.inl x :: .inr e :: st) M Q :=
  fun M0 A => a_xiald (h.to A (Or.inl rfl)) hd (by
    have h2 := kk M0 A
    have hn := kt_nlA (k := e.1) (by rw [h.2.1]; omega)
    rw [(A.same hn.1 hn.2).1] at h2; exact h2)
theorem b_xzald {e : Nat × Nat} {x : Int32} (h : arI M e 101 x) (hd : decode mt.2.1 pc = .ok (.baload, 1)) (kk : wq d mt (pc + 1) lv (.inl (M.1 e.1 e.2 x.toNatClampNeg) :: st) M Q) : wq d mt pc lv (.inl x :: .inr e :: st) M Q :=
  fun M0 A => a_xzald (h.to A (Or.inr rfl)) hd (by
    have h2 := kk M0 A
    have hn := kt_nlA (k := e.1) (by rw [h.2.1]; omega)
    rw [(A.same hn.1 hn.2).1] at h2; exact h2)
theorem b_xaald {e : Nat × Nat} {x : Int32} (h : arG M e x) (hd : decode mt.2.1 pc = .ok (.aaload, 1)) (kk : wq d mt (pc + 1) lv (.inr (M.2.1 e.1 e.2 x.toNatClampNeg) :: st) M Q) : wq d mt pc lv (.inl x :: .inr e :: st) M Q :=
  fun M0 A => by
    have hn := kt_nlA (k := e.1) (Or.inr (Or.inr h.1))
    have hs := A.same hn.1 hn.2
    have h2 := kk M0 A
    rw [hs.2.1] at h2
    have h3 := h.2
    rw [hs.2.2] at h3
    exact a_xaald ⟨Or.inr h.1, h3⟩ hd h2
theorem b_xalen {e : Nat × Nat} (h : arLN M e) (hd : decode mt.2.1 pc = .ok (.arraylength, 1)) (kk : wq d mt (pc + 1) lv (.inl (nI (M.2.2.1 e.1 e.2 - 1)) :: st) M Q) : wq d mt pc lv (.inr e :: st) M Q :=
  fun M0 A => by
    have hn := kt_nlA (k := e.1) (Or.inr (Or.inr h.1))
    have hs := A.same hn.1 hn.2
    have h2 := kk M0 A
    rw [hs.2.2] at h2
    have h3 := h.2
    rw [hs.2.2] at h3
    exact a_xalen ⟨kt_nz2 (Or.inr h.1), by rw [h.1]; omega, h3⟩ hd h2
theorem b_xiast {e : Nat × Nat} {x v : Int32} (h : arI M e 100 x ∧ stk e.1 = false) (hd : decode mt.2.1 pc = .ok (.iastore, 1)) (kk : wq d mt (pc + 1) lv st (sI M e.1 e.2 x.toNatClampNeg v) Q) : wq d mt pc lv (.inl v :: .inl x :: .inr e :: st) M Q :=
  fun M0 A => by
    have hn := kt_nlA (k := e.1) (by rw [h.1.2.1]; omega)
    exact a_xiast ⟨h.1.to A (Or.inl rfl), h.2⟩ hd (kk _ (A.wI hn.1 hn.2 _ _ _))
theorem b_xzast {e : Nat × Nat} {x v : Int32} (h : arI M e 101 x ∧ stk e.1 = false) (hv : v = 0 ∨ v = 1) (hd : decode mt.2.1 pc = .ok (.bastore, 1)) (kk : wq d mt (pc + 1) lv st (sI M e.1 e.2 x.toNatClampNeg v) Q) : wq d mt pc lv (.inl v :: .inl x :: .inr e :: st) M Q :=
  fun M0 A => by
    have hn := kt_nlA (k := e.1) (by rw [h.1.2.1]; omega)
    exact a_xzast ⟨h.1.to A (Or.inr rfl), h.2⟩ hv hd (kk _ (A.wI hn.1 hn.2 _ _ _))
theorem stk_103 {k : Nat} (h : kt k = 103) : stk k = false := by
  cases hs : stk k with
  | false => rfl
  | true =>
    unfold stk at hs
    simp only [Bool.or_eq_true, beq_iff_eq] at hs
    rcases hs with (e | e) | e <;> subst e <;> simp [kt] at h
theorem b_xaast {e v : Nat × Nat} {x : Int32} (h : arSN M e x v) (hd : decode mt.2.1 pc = .ok (.aastore, 1)) (kk : wq d mt (pc + 1) lv st (sR M e.1 e.2 x.toNatClampNeg v) Q) : wq d mt pc lv (.inr v :: .inl x :: .inr e :: st) M Q :=
  fun M0 A => by
    have hn := kt_nlA (k := e.1) (Or.inr (Or.inr h.1))
    have hs := A.same hn.1 hn.2
    have h3 := h.2
    rw [hs.2.2] at h3
    exact a_xaastG ⟨h.1, h3⟩ (stk_103 h.1) hd (kk _ (A.wR hn.1 hn.2 _ _ _))
def nwk (k : Nat) : Prop := k ≠ 0 ∧ k ≠ 40 ∧ ¬ (30 ≤ k ∧ k ≤ 33)
theorem b_nwo {k i index : Nat} {r : vw_C} (hk : k ≠ 0 ∧ k ≠ 40 ∧ ¬ (30 ≤ k ∧ k ≤ 33)) (hr : zCl[kt k]? = some r) (hm : rom M r.2.2) (hf : M.2.2.1 k i = 0) (w1 : Cond.classLink mt.1.cls index r.1 ∈ lw_all) (w2 : Cond.instantiable r.1 r.2.2 ∈ lw_all) (w3 : Cond.initialized r.1 ∈ lw_all) (hd : decode mt.2.1 pc = .ok (.new index, 3))
    (kk : wq d mt (pc + 3) lv (.inr (k, i) :: st) (sN M k i 0 r.2.2) Q) : wq d mt pc lv st M Q :=
  fun M0 A => by
    have hf' : M0.2.2.1 k i = 0 := by rw [← (A.same hk.2.1 hk.2.2).2.2]; exact hf
    exact a_nwo hk.1 hr (A.room hm) hf' w1 w2 w3 hd (kk _ (A.wN hk.2.1 hk.2.2 hf' _ _))
theorem b_nwoD {k index : Nat} {r : vw_C} (hk : k ≠ 0 ∧ k ≠ 40 ∧ ¬ (30 ≤ k ∧ k ≤ 33)) (hr : zCl[kt k]? = some r) (hm : rom M r.2.2) (w1 : Cond.classLink mt.1.cls index r.1 ∈ lw_all) (w2 : Cond.instantiable r.1 r.2.2 ∈ lw_all) (w3 : Cond.initialized r.1 ∈ lw_all) (hd : decode mt.2.1 pc = .ok (.new index, 3))
    (kk : ∀ i, M.2.2.1 k i = 0 → wq d mt (pc + 3) lv (.inr (k, i) :: st) (sN M k i 0 r.2.2) Q) : wq d mt pc lv st M Q :=
  fun M0 A => by
    obtain ⟨i, hi⟩ := A.fresh k
    have hf : M.2.2.1 k i = 0 := by rw [(A.same hk.2.1 hk.2.2).2.2]; exact hi
    exact b_nwo hk hr hm hf w1 w2 w3 hd (kk i hf) M0 A
theorem b_nwa {k i : Nat} {atype : ArrayType} {x : Int32} (hk : k ≠ 0 ∧ k ≠ 40 ∧ ¬ (30 ≤ k ∧ k ≤ 33)) (ht : kt k = 100 ∨ kt k = 101) (hty : newarray.typeOf atype = zel (kt k)) (hx : ¬ x < 0) (hb : x.toNatClampNeg ≤ 100000) (hr : rom M x.toNatClampNeg) (hf : M.2.2.1 k i = 0) (w1 : Cond.arrayClass (zel (kt k)) ∈ lw_all) (hd : decode mt.2.1 pc = .ok (.newarray atype, 2))
    (kk : wq d mt (pc + 2) lv (.inr (k, i) :: st) (sN M k i x.toNatClampNeg x.toNatClampNeg) Q) : wq d mt pc lv (.inl x :: st) M Q :=
  fun M0 A => by
    have hf' : M0.2.2.1 k i = 0 := by rw [← (A.same hk.2.1 hk.2.2).2.2]; exact hf
    exact a_nwa hk.1 ht hty hx hb (A.room hr) hf' w1 hd (kk _ (A.wN hk.2.1 hk.2.2 hf' _ _))
theorem b_nwaD {k : Nat} {atype : ArrayType} {x : Int32} (hk : k ≠ 0 ∧ k ≠ 40 ∧ ¬ (30 ≤ k ∧ k ≤ 33)) (ht : kt k = 100 ∨ kt k = 101) (hty : newarray.typeOf atype = zel (kt k)) (hx : ¬ x < 0) (hb : x.toNatClampNeg ≤ 100000) (hr : rom M x.toNatClampNeg) (w1 : Cond.arrayClass (zel (kt k)) ∈ lw_all) (hd : decode mt.2.1 pc = .ok (.newarray atype, 2))
    (kk : ∀ i, M.2.2.1 k i = 0 → wq d mt (pc + 2) lv (.inr (k, i) :: st) (sN M k i x.toNatClampNeg x.toNatClampNeg) Q) : wq d mt pc lv (.inl x :: st) M Q :=
  fun M0 A => by
    obtain ⟨i, hi⟩ := A.fresh k
    have hf : M.2.2.1 k i = 0 := by rw [(A.same hk.2.1 hk.2.2).2.2]; exact hi
    exact b_nwa hk ht hty hx hb hr hf w1 hd (kk i hf) M0 A
theorem b_nwr {k i index : Nat} {E0 : String} {x : Int32} (hk : k ≠ 0 ∧ k ≠ 40 ∧ ¬ (30 ≤ k ∧ k ≤ 33)) (ht : kt k = 102 ∨ kt k = 103) (hE : zel (kt k) = .object E0) (hx : ¬ x < 0) (hb : x.toNatClampNeg ≤ 1000) (hr : rom M x.toNatClampNeg) (hf : M.2.2.1 k i = 0) (w1 : Cond.classLink mt.1.cls index E0 ∈ lw_all) (hd : decode mt.2.1 pc = .ok (.anewarray index, 3))
    (kk : wq d mt (pc + 3) lv (.inr (k, i) :: st) (sN M k i x.toNatClampNeg x.toNatClampNeg) Q) : wq d mt pc lv (.inl x :: st) M Q :=
  fun M0 A => by
    have hf' : M0.2.2.1 k i = 0 := by rw [← (A.same hk.2.1 hk.2.2).2.2]; exact hf
    exact a_nwr hk.1 ht hE hx (by omega) (A.room hr) hf' w1 hd (kk _ (A.wN hk.2.1 hk.2.2 hf' _ _))
end Lift

