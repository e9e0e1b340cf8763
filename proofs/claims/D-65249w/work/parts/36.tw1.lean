set_option maxRecDepth 100000
abbrev mX1_isAmount : zMt := (yX1_isAmount, cX1_isAmount, 3, some .boolean)
def w_isAmount (x1 x2 : Int32) (t : DB) (Q : Int32 → DB → Prop) : Prop := ((x2 < 0) → (Q 0 t)) ∧ ((¬ x2 < 0) → (((¬ x1 = 0) → (((1000000 < x2) → (Q 0 t)) ∧ ((¬ 1000000 < x2) → (Q 1 t)))) ∧ ((x1 = 0) → (((0 < x2) → (Q 0 t)) ∧ ((¬ 0 < x2) → (Q 1 t))))))
set_option maxHeartbeats 4000000 in
theorem sd_isAmount {d : Nat} {M : Mem} {P : Option AV → Mem → Prop} {Q : Int32 → DB → Prop} {x1 x2 : Int32} {t : DB} (hP : ∀ r t, Q r t → P (some (.inl r)) (tput M t)) (hT : TW M) (h : w_isAmount x1 x2 t Q) : ct d mX1_isAmount [.inr (2, 0), .inl x1, .inl x2] (tput M t) P := by
  refine ct_of (by decide) (Nat.le_of_ble_eq_true rfl) ?_
  show wp d mX1_isAmount 0 [(0, .inr (2, 0)), (1, .inl x1), (2, .inl x2)] [] (tput M t) P
  unfold w_isAmount at h
  refine a_iload_n 2 dX1_isAmount_0 rfl rfl ?_
  refine a_if_lt (tgt := 23) dX1_isAmount_1 (by decide) (fun c_4 => ?_) (fun c_4 => ?_)
  · replace h := h.1 c_4
    refine a_iconst (v := 0) dX1_isAmount_23 (by decide) ?_
    exact a_zret rfl (by decide) dX1_isAmount_24 (hP _ _ h)
  · replace h := h.2 c_4
    refine a_iload_n 2 dX1_isAmount_4 rfl rfl ?_
    refine a_iload_n 1 dX1_isAmount_5 rfl rfl ?_
    refine a_if_ne (tgt := 13) dX1_isAmount_6 (by decide) (fun c_3 => ?_) (fun c_3 => ?_)
    · replace h := h.1 c_3
      refine a_ldcw (v := 1000000) dX1_isAmount_13 q1847 ?_
      refine a_icmp_gt (tgt := 23) dX1_isAmount_16 (by decide) (fun c_1 => ?_) (fun c_1 => ?_)
      · replace h := h.1 c_1
        refine a_iconst (v := 0) dX1_isAmount_23 (by decide) ?_
        exact a_zret rfl (by decide) dX1_isAmount_24 (hP _ _ h)
      · replace h := h.2 c_1
        refine a_iconst (v := 1) dX1_isAmount_19 (by decide) ?_
        refine a_goto (tgt := 24) dX1_isAmount_20 (by decide) ?_
        exact a_zret rfl (by decide) dX1_isAmount_24 (hP _ _ h)
    · replace h := h.2 c_3
      refine a_iconst (v := 0) dX1_isAmount_9 (by decide) ?_
      refine a_goto (tgt := 16) dX1_isAmount_10 (by decide) ?_
      refine a_icmp_gt (tgt := 23) dX1_isAmount_16 (by decide) (fun c_2 => ?_) (fun c_2 => ?_)
      · replace h := h.1 c_2
        refine a_iconst (v := 0) dX1_isAmount_23 (by decide) ?_
        exact a_zret rfl (by decide) dX1_isAmount_24 (hP _ _ h)
      · replace h := h.2 c_2
        refine a_iconst (v := 1) dX1_isAmount_19 (by decide) ?_
        refine a_goto (tgt := 24) dX1_isAmount_20 (by decide) ?_
        exact a_zret rfl (by decide) dX1_isAmount_24 (hP _ _ h)
theorem zmh_isAmount : zmh yX1_isAmount 2 := ⟨⟨by decide +kernel, by decide +kernel⟩, by decide +kernel⟩
abbrev mX1_isTower : zMt := (yX1_isTower, cX1_isTower, 2, some .boolean)
def w_isTower (x1 : Int32) (t : DB) (Q : Int32 → DB → Prop) : Prop := ((x1 < 0) → (Q 0 t)) ∧ ((¬ x1 < 0) → ((((t 47 0) ≤ x1) → (Q 0 t)) ∧ ((¬ (t 47 0) ≤ x1) → (Q 1 t))))
set_option maxHeartbeats 4000000 in
theorem sd_isTower {d : Nat} {M : Mem} {P : Option AV → Mem → Prop} {Q : Int32 → DB → Prop} {x1 : Int32} {t : DB} (hP : ∀ r t, Q r t → P (some (.inl r)) (tput M t)) (hT : TW M) (h : w_isTower x1 t Q) : ct d mX1_isTower [.inr (2, 0), .inl x1] (tput M t) P := by
  refine ct_of (by decide) (Nat.le_of_ble_eq_true rfl) ?_
  show wp d mX1_isTower 0 [(0, .inr (2, 0)), (1, .inl x1)] [] (tput M t) P
  unfold w_isTower at h
  refine a_iload_n 1 dX1_isTower_0 rfl rfl ?_
  refine a_if_lt (tgt := 16) dX1_isTower_1 (by decide) (fun c_2 => ?_) (fun c_2 => ?_)
  · replace h := h.1 c_2
    refine a_iconst (v := 0) dX1_isTower_16 (by decide) ?_
    exact a_zret rfl (by decide) dX1_isTower_17 (hP _ _ h)
  · replace h := h.2 c_2
    refine a_iload_n 1 dX1_isTower_4 rfl rfl ?_
    refine a_aload_n 0 dX1_isTower_5 rfl rfl ?_
    refine t_gi 47 (by decide) q1559 rfl dX1_isTower_6 ?_
    refine a_icmp_ge (tgt := 16) dX1_isTower_9 (by decide) (fun c_1 => ?_) (fun c_1 => ?_)
    · replace h := h.1 c_1
      refine a_iconst (v := 0) dX1_isTower_16 (by decide) ?_
      exact a_zret rfl (by decide) dX1_isTower_17 (hP _ _ h)
    · replace h := h.2 c_1
      refine a_iconst (v := 1) dX1_isTower_12 (by decide) ?_
      refine a_goto (tgt := 17) dX1_isTower_13 (by decide) ?_
      exact a_zret rfl (by decide) dX1_isTower_17 (hP _ _ h)
theorem zmh_isTower : zmh yX1_isTower 1 := ⟨⟨by decide +kernel, by decide +kernel⟩, by decide +kernel⟩
abbrev mX1_add : zMt := (yX1_add, cX1_add, 6, none)
def w_add (x1 x2 x3 x4 x5 : Int32) (t : DB) (Q : DB → Prop) : Prop := vp_in (t 88 0) 20000 ∧ (∀ t_1 : DB, t_1 = up t 83 (t 88 0).toNatClampNeg x1 → (vp_in (t_1 88 0) 20000 ∧ (∀ t_2 : DB, t_2 = up t_1 84 (t_1 88 0).toNatClampNeg x2 → (vp_in (t_2 88 0) 20000 ∧ (∀ t_3 : DB, t_3 = up t_2 85 (t_2 88 0).toNatClampNeg x3 → (vp_in (t_3 88 0) 20000 ∧ (∀ t_4 : DB, t_4 = up t_3 86 (t_3 88 0).toNatClampNeg x4 → (vp_in (t_4 88 0) 20000 ∧ (∀ t_5 : DB, t_5 = up t_4 87 (t_4 88 0).toNatClampNeg x5 → (∀ t_6 : DB, t_6 = up t_5 88 0 ((t_5 88 0) + 1) → (Q t_6)))))))))))
set_option maxHeartbeats 4000000 in
theorem sd_add {d : Nat} {M : Mem} {P : Option AV → Mem → Prop} {Q : DB → Prop} {x1 x2 x3 x4 x5 : Int32} {t : DB} (hP : ∀ t, Q t → P none (tput M t)) (hT : TW M) (h : w_add x1 x2 x3 x4 x5 t Q) : ct d mX1_add [.inr (2, 0), .inl x1, .inl x2, .inl x3, .inl x4, .inl x5] (tput M t) P := by
  refine ct_of (by decide) (Nat.le_of_ble_eq_true rfl) ?_
  show wp d mX1_add 0 [(0, .inr (2, 0)), (1, .inl x1), (2, .inl x2), (3, .inl x3), (4, .inl x4), (5, .inl x5)] [] (tput M t) P
  unfold w_add at h
  refine a_aload_n 0 dX1_add_0 rfl rfl ?_
  refine t_ga 83 hT (by decide) q1595 rfl dX1_add_1 ?_
  refine a_aload_n 0 dX1_add_4 rfl rfl ?_
  refine t_gi 88 (by decide) q1600 rfl dX1_add_5 ?_
  refine a_iload_n 1 dX1_add_8 rfl rfl ?_
  refine t_is (f := 83) rfl hT (by decide) h.1 dX1_add_9 ?_
  replace h := h.2
  refine a_topt (fun t_1 et_1 => ?_)
  replace h := h t_1 et_1
  refine a_aload_n 0 dX1_add_10 rfl rfl ?_
  refine t_ga 84 hT (by decide) q1596 rfl dX1_add_11 ?_
  refine a_aload_n 0 dX1_add_14 rfl rfl ?_
  refine t_gi 88 (by decide) q1600 rfl dX1_add_15 ?_
  refine a_iload_n 2 dX1_add_18 rfl rfl ?_
  refine t_is (f := 84) rfl hT (by decide) h.1 dX1_add_19 ?_
  replace h := h.2
  refine a_topt (fun t_2 et_2 => ?_)
  replace h := h t_2 et_2
  refine a_aload_n 0 dX1_add_20 rfl rfl ?_
  refine t_ga 85 hT (by decide) q1597 rfl dX1_add_21 ?_
  refine a_aload_n 0 dX1_add_24 rfl rfl ?_
  refine t_gi 88 (by decide) q1600 rfl dX1_add_25 ?_
  refine a_iload_n 3 dX1_add_28 rfl rfl ?_
  refine t_is (f := 85) rfl hT (by decide) h.1 dX1_add_29 ?_
  replace h := h.2
  refine a_topt (fun t_3 et_3 => ?_)
  replace h := h t_3 et_3
  refine a_aload_n 0 dX1_add_30 rfl rfl ?_
  refine t_ga 86 hT (by decide) q1598 rfl dX1_add_31 ?_
  refine a_aload_n 0 dX1_add_34 rfl rfl ?_
  refine t_gi 88 (by decide) q1600 rfl dX1_add_35 ?_
  refine a_iload 4 dX1_add_38 rfl ?_
  refine t_is (f := 86) rfl hT (by decide) h.1 dX1_add_40 ?_
  replace h := h.2
  refine a_topt (fun t_4 et_4 => ?_)
  replace h := h t_4 et_4
  refine a_aload_n 0 dX1_add_41 rfl rfl ?_
  refine t_ga 87 hT (by decide) q1599 rfl dX1_add_42 ?_
  refine a_aload_n 0 dX1_add_45 rfl rfl ?_
  refine t_gi 88 (by decide) q1600 rfl dX1_add_46 ?_
  refine a_iload 5 dX1_add_49 rfl ?_
  refine t_is (f := 87) rfl hT (by decide) h.1 dX1_add_51 ?_
  replace h := h.2
  refine a_topt (fun t_5 et_5 => ?_)
  replace h := h t_5 et_5
  refine a_aload_n 0 dX1_add_52 rfl rfl ?_
  refine a_dup dX1_add_53 ?_
  refine t_gi 88 (by decide) q1600 rfl dX1_add_54 ?_
  refine a_iconst (v := 1) dX1_add_57 (by decide) ?_
  refine a_iadd dX1_add_58 ?_
  refine t_pi 88 (by decide) q1600 rfl rfl dX1_add_59 ?_
  refine a_topt (fun t_6 et_6 => ?_)
  replace h := h t_6 et_6
  exact a_vret rfl dX1_add_62 (hP _ h)
theorem zmh_add : zmh yX1_add 5 := ⟨⟨by decide +kernel, by decide +kernel⟩, by decide +kernel⟩
abbrev mX1_goesIn : zMt := (yX1_goesIn, cX1_goesIn, 2, none)
def w_goesIn (x1 : Int32) (t : DB) (Q : DB → Prop) : Prop := vp_in x1 4400 ∧ (vp_in x1 4400 ∧ (w_add 0 (t 62 x1.toNatClampNeg) ((t 63 x1.toNatClampNeg) + 1) x1 (-1) t (fun t_1 => Q t_1)))
set_option maxHeartbeats 4000000 in
theorem sd_goesIn {d : Nat} {M : Mem} {P : Option AV → Mem → Prop} {Q : DB → Prop} {x1 : Int32} {t : DB} (hP : ∀ t, Q t → P none (tput M t)) (hT : TW M) (h : w_goesIn x1 t Q) : ct (d + 1) mX1_goesIn [.inr (2, 0), .inl x1] (tput M t) P := by
  refine ct_of (by decide) (Nat.le_of_ble_eq_true rfl) ?_
  show wp (d + 1) mX1_goesIn 0 [(0, .inr (2, 0)), (1, .inl x1)] [] (tput M t) P
  unfold w_goesIn at h
  refine a_aload_n 0 dX1_goesIn_0 rfl rfl ?_
  refine a_iconst (v := 0) dX1_goesIn_1 (by decide) ?_
  refine a_aload_n 0 dX1_goesIn_2 rfl rfl ?_
  refine t_ga 62 hT (by decide) q1574 rfl dX1_goesIn_3 ?_
  refine a_iload_n 1 dX1_goesIn_6 rfl rfl ?_
  refine t_ia (f := 62) rfl hT (by decide) h.1 dX1_goesIn_7 ?_
  replace h := h.2
  refine a_aload_n 0 dX1_goesIn_8 rfl rfl ?_
  refine t_ga 63 hT (by decide) q1575 rfl dX1_goesIn_9 ?_
  refine a_iload_n 1 dX1_goesIn_12 rfl rfl ?_
  refine t_ia (f := 63) rfl hT (by decide) h.1 dX1_goesIn_13 ?_
  replace h := h.2
  refine a_iconst (v := 1) dX1_goesIn_14 (by decide) ?_
  refine a_iadd dX1_goesIn_15 ?_
  refine a_iload_n 1 dX1_goesIn_16 rfl rfl ?_
  refine a_iconst (v := (-1)) dX1_goesIn_17 (by decide) ?_
  refine a_cv (y := mX1_add) (k := 2) (i := 0) (as := [.inl 0, .inl (t 62 x1.toNatClampNeg), .inl ((t 63 x1.toNatClampNeg) + 1), .inl x1, .inl (-1)]) (st := []) (n := 5) (by decide) (Or.inl q1916) qs37 q1918 q73 q1919 zmh_add rfl (Nat.le_of_ble_eq_true rfl) (Nat.le_of_ble_eq_true rfl) dX1_goesIn_18 (sd_add (fun t_1 h => ?_) hT h)
  show wp (d + 1) mX1_goesIn 21 [(0, .inr (2, 0)), (1, .inl x1)] [] (tput M t_1) P
  exact a_vret rfl dX1_goesIn_21 (hP _ h)
theorem zmh_goesIn : zmh yX1_goesIn 1 := ⟨⟨by decide +kernel, by decide +kernel⟩, by decide +kernel⟩
abbrev mX1_isAlike : zMt := (yX1_isAlike, cX1_isAlike, 3, some .boolean)
def w_isAlike (x1 x2 : Int32) (t : DB) (Q : Int32 → DB → Prop) : Prop := vp_in x1 60 ∧ (vp_in x2 60 ∧ (((¬ (t 52 x1.toNatClampNeg) = (t 52 x2.toNatClampNeg)) → (Q 0 t)) ∧ (((t 52 x1.toNatClampNeg) = (t 52 x2.toNatClampNeg)) → (vp_in x1 60 ∧ (vp_in x2 60 ∧ (((¬ (t 53 x1.toNatClampNeg) = (t 53 x2.toNatClampNeg)) → (Q 0 t)) ∧ (((t 53 x1.toNatClampNeg) = (t 53 x2.toNatClampNeg)) → (vp_in x1 60 ∧ (vp_in x2 60 ∧ (((¬ (t 54 x1.toNatClampNeg) = (t 54 x2.toNatClampNeg)) → (Q 0 t)) ∧ (((t 54 x1.toNatClampNeg) = (t 54 x2.toNatClampNeg)) → (Q 1 t))))))))))))
set_option maxHeartbeats 4000000 in
theorem sd_isAlike {d : Nat} {M : Mem} {P : Option AV → Mem → Prop} {Q : Int32 → DB → Prop} {x1 x2 : Int32} {t : DB} (hP : ∀ r t, Q r t → P (some (.inl r)) (tput M t)) (hT : TW M) (h : w_isAlike x1 x2 t Q) : ct d mX1_isAlike [.inr (2, 0), .inl x1, .inl x2] (tput M t) P := by
  refine ct_of (by decide) (Nat.le_of_ble_eq_true rfl) ?_
  show wp d mX1_isAlike 0 [(0, .inr (2, 0)), (1, .inl x1), (2, .inl x2)] [] (tput M t) P
  unfold w_isAlike at h
  refine a_aload_n 0 dX1_isAlike_0 rfl rfl ?_
  refine t_ga 52 hT (by decide) q1564 rfl dX1_isAlike_1 ?_
  refine a_iload_n 1 dX1_isAlike_4 rfl rfl ?_
  refine t_ia (f := 52) rfl hT (by decide) h.1 dX1_isAlike_5 ?_
  replace h := h.2
  refine a_aload_n 0 dX1_isAlike_6 rfl rfl ?_
  refine t_ga 52 hT (by decide) q1564 rfl dX1_isAlike_7 ?_
  refine a_iload_n 2 dX1_isAlike_10 rfl rfl ?_
  refine t_ia (f := 52) rfl hT (by decide) h.1 dX1_isAlike_11 ?_
  replace h := h.2
  refine a_icmp_ne (tgt := 49) dX1_isAlike_12 (by decide) (fun c_3 => ?_) (fun c_3 => ?_)
  · replace h := h.1 c_3
    refine a_iconst (v := 0) dX1_isAlike_49 (by decide) ?_
    exact a_zret rfl (by decide) dX1_isAlike_50 (hP _ _ h)
  · replace h := h.2 c_3
    refine a_aload_n 0 dX1_isAlike_15 rfl rfl ?_
    refine t_ga 53 hT (by decide) q1565 rfl dX1_isAlike_16 ?_
    refine a_iload_n 1 dX1_isAlike_19 rfl rfl ?_
    refine t_ia (f := 53) rfl hT (by decide) h.1 dX1_isAlike_20 ?_
    replace h := h.2
    refine a_aload_n 0 dX1_isAlike_21 rfl rfl ?_
    refine t_ga 53 hT (by decide) q1565 rfl dX1_isAlike_22 ?_
    refine a_iload_n 2 dX1_isAlike_25 rfl rfl ?_
    refine t_ia (f := 53) rfl hT (by decide) h.1 dX1_isAlike_26 ?_
    replace h := h.2
    refine a_icmp_ne (tgt := 49) dX1_isAlike_27 (by decide) (fun c_2 => ?_) (fun c_2 => ?_)
    · replace h := h.1 c_2
      refine a_iconst (v := 0) dX1_isAlike_49 (by decide) ?_
      exact a_zret rfl (by decide) dX1_isAlike_50 (hP _ _ h)
    · replace h := h.2 c_2
      refine a_aload_n 0 dX1_isAlike_30 rfl rfl ?_
      refine t_ga 54 hT (by decide) q1566 rfl dX1_isAlike_31 ?_
      refine a_iload_n 1 dX1_isAlike_34 rfl rfl ?_
      refine t_ia (f := 54) rfl hT (by decide) h.1 dX1_isAlike_35 ?_
      replace h := h.2
      refine a_aload_n 0 dX1_isAlike_36 rfl rfl ?_
      refine t_ga 54 hT (by decide) q1566 rfl dX1_isAlike_37 ?_
      refine a_iload_n 2 dX1_isAlike_40 rfl rfl ?_
      refine t_ia (f := 54) rfl hT (by decide) h.1 dX1_isAlike_41 ?_
      replace h := h.2
      refine a_icmp_ne (tgt := 49) dX1_isAlike_42 (by decide) (fun c_1 => ?_) (fun c_1 => ?_)
      · replace h := h.1 c_1
        refine a_iconst (v := 0) dX1_isAlike_49 (by decide) ?_
        exact a_zret rfl (by decide) dX1_isAlike_50 (hP _ _ h)
      · replace h := h.2 c_1
        refine a_iconst (v := 1) dX1_isAlike_45 (by decide) ?_
        refine a_goto (tgt := 50) dX1_isAlike_46 (by decide) ?_
        exact a_zret rfl (by decide) dX1_isAlike_50 (hP _ _ h)
theorem zmh_isAlike : zmh yX1_isAlike 2 := ⟨⟨by decide +kernel, by decide +kernel⟩, by decide +kernel⟩
abbrev mX1_setToWork : zMt := (yX1_setToWork, cX1_setToWork, 3, none)
def w_setToWork (x1 x2 : Int32) (t : DB) (Q : DB → Prop) : Prop := vp_in x1 4400 ∧ (∀ t_1 : DB, t_1 = up t 77 x1.toNatClampNeg 1 → (vp_in x2 24 ∧ (vp_in x2 24 ∧ (∀ t_2 : DB, t_2 = up t_1 39 x2.toNatClampNeg ((t_1 39 x2.toNatClampNeg) + 1) → (w_goesIn x1 t_2 (fun t_3 => Q t_3))))))
set_option maxHeartbeats 4000000 in
theorem sd_setToWork {d : Nat} {M : Mem} {P : Option AV → Mem → Prop} {Q : DB → Prop} {x1 x2 : Int32} {t : DB} (hP : ∀ t, Q t → P none (tput M t)) (hT : TW M) (h : w_setToWork x1 x2 t Q) : ct (d + 2) mX1_setToWork [.inr (2, 0), .inl x1, .inl x2] (tput M t) P := by
  refine ct_of (by decide) (Nat.le_of_ble_eq_true rfl) ?_
  show wp (d + 2) mX1_setToWork 0 [(0, .inr (2, 0)), (1, .inl x1), (2, .inl x2)] [] (tput M t) P
  unfold w_setToWork at h
  refine a_aload_n 0 dX1_setToWork_0 rfl rfl ?_
  refine t_ga 77 hT (by decide) q1589 rfl dX1_setToWork_1 ?_
  refine a_iload_n 1 dX1_setToWork_4 rfl rfl ?_
  refine a_iconst (v := 1) dX1_setToWork_5 (by decide) ?_
  refine t_zs (f := 77) rfl hT (by decide) (by decide) h.1 dX1_setToWork_6 ?_
  replace h := h.2
  refine a_topt (fun t_1 et_1 => ?_)
  replace h := h t_1 et_1
  refine a_aload_n 0 dX1_setToWork_7 rfl rfl ?_
  refine t_ga 39 hT (by decide) q1551 rfl dX1_setToWork_8 ?_
  refine a_iload_n 2 dX1_setToWork_11 rfl rfl ?_
  refine a_dup2 dX1_setToWork_12 ?_
  refine t_ia (f := 39) rfl hT (by decide) h.1 dX1_setToWork_13 ?_
  replace h := h.2
  refine a_iconst (v := 1) dX1_setToWork_14 (by decide) ?_
  refine a_iadd dX1_setToWork_15 ?_
  refine t_is (f := 39) rfl hT (by decide) h.1 dX1_setToWork_16 ?_
  replace h := h.2
  refine a_topt (fun t_2 et_2 => ?_)
  replace h := h t_2 et_2
  refine a_aload_n 0 dX1_setToWork_17 rfl rfl ?_
  refine a_iload_n 1 dX1_setToWork_18 rfl rfl ?_
  refine a_cv (y := mX1_goesIn) (k := 2) (i := 0) (as := [.inl x1]) (st := []) (n := 1) (by decide) (Or.inl q1936) qs42 q1938 q73 q1939 zmh_goesIn rfl (Nat.le_of_ble_eq_true rfl) (Nat.le_of_ble_eq_true rfl) dX1_setToWork_19 (sd_goesIn (fun t_3 h => ?_) hT h)
  show wp (d + 2) mX1_setToWork 22 [(0, .inr (2, 0)), (1, .inl x1), (2, .inl x2)] [] (tput M t_3) P
  exact a_vret rfl dX1_setToWork_22 (hP _ h)
theorem zmh_setToWork : zmh yX1_setToWork 2 := ⟨⟨by decide +kernel, by decide +kernel⟩, by decide +kernel⟩
abbrev mX1_entered : zMt := (yX1_entered, cX1_entered, 5, none)
def w_entered_429 : Nat → Int32 → Int32 → Int32 → Int32 → DB → (DB → Prop) → Prop
  | 0, _, _, _, _, _, _ => False
  | n + 1, x1, x2, x3, x4, t, Q => ((x4 < 0) → (vp_in x1 4400 ∧ ((((t 74 x1.toNatClampNeg) < 0) → (vp_in x1 4400 ∧ (∀ t_1 : DB, t_1 = up t 78 x1.toNatClampNeg 1 → (w_goesIn x1 t_1 (fun t_2 => Q t_2))))) ∧ ((¬ (t 74 x1.toNatClampNeg) < 0) → (Q t))))) ∧ ((¬ x4 < 0) → (((x4 = x1) → (∀ x_5 : Int32, x_5 = x4 + (-1) → (w_entered_429 n x1 x2 x3 x_5 t Q))) ∧ ((¬ x4 = x1) → (vp_in x4 4400 ∧ (((¬ (t 69 x4.toNatClampNeg) = 0) → (∀ x_6 : Int32, x_6 = x4 + (-1) → (w_entered_429 n x1 x2 x3 x_6 t Q))) ∧ (((t 69 x4.toNatClampNeg) = 0) → (vp_in x4 4400 ∧ (((¬ (t 65 x4.toNatClampNeg) = x2) → (∀ x_7 : Int32, x_7 = x4 + (-1) → (w_entered_429 n x1 x2 x3 x_7 t Q))) ∧ (((t 65 x4.toNatClampNeg) = x2) → (vp_in x4 4400 ∧ ((((t 78 x4.toNatClampNeg) = 0) → (∀ x_8 : Int32, x_8 = x4 + (-1) → (w_entered_429 n x1 x2 x3 x_8 t Q))) ∧ ((¬ (t 78 x4.toNatClampNeg) = 0) → (vp_in x4 4400 ∧ (w_isAlike (t 62 x4.toNatClampNeg) x3 t (fun r_10 t_9 => ((r_10 = 0) → (∀ x_11 : Int32, x_11 = x4 + (-1) → (w_entered_429 n x1 x2 x3 x_11 t_9 Q))) ∧ ((¬ r_10 = 0) → (vp_in x1 4400 ∧ (∀ t_12 : DB, t_12 = up t_9 74 x1.toNatClampNeg x4 → (∀ x_13 : Int32, x_13 = x4 + (-1) → (w_entered_429 n x1 x2 x3 x_13 t_12 Q))))))))))))))))))))
set_option maxHeartbeats 4000000 in
theorem sd_entered_429 {d : Nat} {M : Mem} {P : Option AV → Mem → Prop} {Q : DB → Prop} (hP : ∀ t, Q t → P none (tput M t)) (hT : TW M) : ∀ (n : Nat) (x1 x2 x3 x4 : Int32) (t : DB), w_entered_429 n x1 x2 x3 x4 t Q → wp (d + 3) mX1_entered 429 [(0, .inr (2, 0)), (1, .inl x1), (2, .inl x2), (3, .inl x3), (4, .inl x4)] [] (tput M t) P := by
  intro n
  induction n with
  | zero => intro x1 x2 x3 x4 t h; exact False.elim h
  | succ n ih =>
    intro x1 x2 x3 x4 t h
    rw [w_entered_429] at h
    refine a_iload 4 dX1_entered_429 rfl ?_
    refine a_if_lt (tgt := 500) dX1_entered_431 (by decide) (fun c_19 => ?_) (fun c_19 => ?_)
    · replace h := h.1 c_19
      refine a_aload_n 0 dX1_entered_500 rfl rfl ?_
      refine t_ga 74 hT (by decide) q1586 rfl dX1_entered_501 ?_
      refine a_iload_n 1 dX1_entered_504 rfl rfl ?_
      refine t_ia (f := 74) rfl hT (by decide) h.1 dX1_entered_505 ?_
      replace h := h.2
      refine a_if_lt (tgt := 512) dX1_entered_506 (by decide) (fun c_4 => ?_) (fun c_4 => ?_)
      · replace h := h.1 c_4
        refine a_aload_n 0 dX1_entered_512 rfl rfl ?_
        refine t_ga 78 hT (by decide) q1590 rfl dX1_entered_513 ?_
        refine a_iload_n 1 dX1_entered_516 rfl rfl ?_
        refine a_iconst (v := 1) dX1_entered_517 (by decide) ?_
        refine t_zs (f := 78) rfl hT (by decide) (by decide) h.1 dX1_entered_518 ?_
        replace h := h.2
        refine a_topt (fun t_1 et_1 => ?_)
        replace h := h t_1 et_1
        refine a_aload_n 0 dX1_entered_519 rfl rfl ?_
        refine a_iload_n 1 dX1_entered_520 rfl rfl ?_
        refine a_cv (y := mX1_goesIn) (k := 2) (i := 0) (as := [.inl x1]) (st := []) (n := 1) (by decide) (Or.inl q1936) qs42 q1938 q73 q1939 zmh_goesIn rfl (Nat.le_of_ble_eq_true rfl) (Nat.le_of_ble_eq_true rfl) dX1_entered_521 (sd_goesIn (fun t_2 h => ?_) hT h)
        show wp (d + 3) mX1_entered 524 [(0, .inr (2, 0)), (1, .inl x1), (2, .inl x2), (3, .inl x3), (4, .inl x4)] [] (tput M t_2) P
        refine a_goto (tgt := 532) dX1_entered_524 (by decide) ?_
        exact a_vret rfl dX1_entered_532 (hP _ h)
      · replace h := h.2 c_4
        refine a_goto (tgt := 532) dX1_entered_509 (by decide) ?_
        exact a_vret rfl dX1_entered_532 (hP _ h)
    · replace h := h.2 c_19
      refine a_iload 4 dX1_entered_434 rfl ?_
      refine a_iload_n 1 dX1_entered_436 rfl rfl ?_
      refine a_icmp_eq (tgt := 494) dX1_entered_437 (by decide) (fun c_18 => ?_) (fun c_18 => ?_)
      · replace h := h.1 c_18
        obtain ⟨x_5, ex_5⟩ : ∃ y : Int32, y = x4 + (-1) := ⟨_, rfl⟩
        replace h := h x_5 ex_5
        refine a_iinc (v := x_5) (lv' := [(4, .inl x_5), (0, .inr (2, 0)), (1, .inl x1), (2, .inl x2), (3, .inl x3)]) 4 dX1_entered_494 rfl (by rw [ex_5]; rfl) (Nat.le_of_ble_eq_true rfl) rfl ?_
        refine a_goto (tgt := 429) dX1_entered_497 (by decide) ?_
        exact wp_sub (by simp) (ih x1 x2 x3 x_5 t h)
      · replace h := h.2 c_18
        refine a_aload_n 0 dX1_entered_440 rfl rfl ?_
        refine t_ga 69 hT (by decide) q1581 rfl dX1_entered_441 ?_
        refine a_iload 4 dX1_entered_444 rfl ?_
        refine t_ia (f := 69) rfl hT (by decide) h.1 dX1_entered_446 ?_
        replace h := h.2
        refine a_if_ne (tgt := 494) dX1_entered_447 (by decide) (fun c_17 => ?_) (fun c_17 => ?_)
        · replace h := h.1 c_17
          obtain ⟨x_6, ex_6⟩ : ∃ y : Int32, y = x4 + (-1) := ⟨_, rfl⟩
          replace h := h x_6 ex_6
          refine a_iinc (v := x_6) (lv' := [(4, .inl x_6), (0, .inr (2, 0)), (1, .inl x1), (2, .inl x2), (3, .inl x3)]) 4 dX1_entered_494 rfl (by rw [ex_6]; rfl) (Nat.le_of_ble_eq_true rfl) rfl ?_
          refine a_goto (tgt := 429) dX1_entered_497 (by decide) ?_
          exact wp_sub (by simp) (ih x1 x2 x3 x_6 t h)
        · replace h := h.2 c_17
          refine a_aload_n 0 dX1_entered_450 rfl rfl ?_
          refine t_ga 65 hT (by decide) q1577 rfl dX1_entered_451 ?_
          refine a_iload 4 dX1_entered_454 rfl ?_
          refine t_ia (f := 65) rfl hT (by decide) h.1 dX1_entered_456 ?_
          replace h := h.2
          refine a_iload_n 2 dX1_entered_457 rfl rfl ?_
          refine a_icmp_ne (tgt := 494) dX1_entered_458 (by decide) (fun c_16 => ?_) (fun c_16 => ?_)
          · replace h := h.1 c_16
            obtain ⟨x_7, ex_7⟩ : ∃ y : Int32, y = x4 + (-1) := ⟨_, rfl⟩
            replace h := h x_7 ex_7
            refine a_iinc (v := x_7) (lv' := [(4, .inl x_7), (0, .inr (2, 0)), (1, .inl x1), (2, .inl x2), (3, .inl x3)]) 4 dX1_entered_494 rfl (by rw [ex_7]; rfl) (Nat.le_of_ble_eq_true rfl) rfl ?_
            refine a_goto (tgt := 429) dX1_entered_497 (by decide) ?_
            exact wp_sub (by simp) (ih x1 x2 x3 x_7 t h)
          · replace h := h.2 c_16
            refine a_aload_n 0 dX1_entered_461 rfl rfl ?_
            refine t_ga 78 hT (by decide) q1590 rfl dX1_entered_462 ?_
            refine a_iload 4 dX1_entered_465 rfl ?_
            refine t_za (f := 78) rfl hT (by decide) h.1 dX1_entered_467 ?_
            replace h := h.2
            refine a_if_eq (tgt := 494) dX1_entered_468 (by decide) (fun c_15 => ?_) (fun c_15 => ?_)
            · replace h := h.1 c_15
              obtain ⟨x_8, ex_8⟩ : ∃ y : Int32, y = x4 + (-1) := ⟨_, rfl⟩
              replace h := h x_8 ex_8
              refine a_iinc (v := x_8) (lv' := [(4, .inl x_8), (0, .inr (2, 0)), (1, .inl x1), (2, .inl x2), (3, .inl x3)]) 4 dX1_entered_494 rfl (by rw [ex_8]; rfl) (Nat.le_of_ble_eq_true rfl) rfl ?_
              refine a_goto (tgt := 429) dX1_entered_497 (by decide) ?_
              exact wp_sub (by simp) (ih x1 x2 x3 x_8 t h)
            · replace h := h.2 c_15
              refine a_aload_n 0 dX1_entered_471 rfl rfl ?_
              refine a_aload_n 0 dX1_entered_472 rfl rfl ?_
              refine t_ga 62 hT (by decide) q1574 rfl dX1_entered_473 ?_
              refine a_iload 4 dX1_entered_476 rfl ?_
              refine t_ia (f := 62) rfl hT (by decide) h.1 dX1_entered_478 ?_
              replace h := h.2
              refine a_iload_n 3 dX1_entered_479 rfl rfl ?_
              refine a_cv (y := mX1_isAlike) (k := 2) (i := 0) (as := [.inl (t 62 x4.toNatClampNeg), .inl x3]) (st := []) (n := 2) (by decide) (Or.inl q1944) qs44 q1946 q73 q1947 zmh_isAlike rfl (Nat.le_of_ble_eq_true rfl) (Nat.le_of_ble_eq_true rfl) dX1_entered_480 (sd_isAlike (fun r_10 t_9 h => ?_) hT h)
              show wp (d + 3) mX1_entered 483 [(0, .inr (2, 0)), (1, .inl x1), (2, .inl x2), (3, .inl x3), (4, .inl x4)] [.inl r_10] (tput M t_9) P
              refine a_if_eq (tgt := 494) dX1_entered_483 (by decide) (fun c_14 => ?_) (fun c_14 => ?_)
              · replace h := h.1 c_14
                obtain ⟨x_11, ex_11⟩ : ∃ y : Int32, y = x4 + (-1) := ⟨_, rfl⟩
                replace h := h x_11 ex_11
                refine a_iinc (v := x_11) (lv' := [(4, .inl x_11), (0, .inr (2, 0)), (1, .inl x1), (2, .inl x2), (3, .inl x3)]) 4 dX1_entered_494 rfl (by rw [ex_11]; rfl) (Nat.le_of_ble_eq_true rfl) rfl ?_
                refine a_goto (tgt := 429) dX1_entered_497 (by decide) ?_
                exact wp_sub (by simp) (ih x1 x2 x3 x_11 t_9 h)
              · replace h := h.2 c_14
                refine a_aload_n 0 dX1_entered_486 rfl rfl ?_
                refine t_ga 74 hT (by decide) q1586 rfl dX1_entered_487 ?_
                refine a_iload_n 1 dX1_entered_490 rfl rfl ?_
                refine a_iload 4 dX1_entered_491 rfl ?_
                refine t_is (f := 74) rfl hT (by decide) h.1 dX1_entered_493 ?_
                replace h := h.2
                refine a_topt (fun t_12 et_12 => ?_)
                replace h := h t_12 et_12
                obtain ⟨x_13, ex_13⟩ : ∃ y : Int32, y = x4 + (-1) := ⟨_, rfl⟩
                replace h := h x_13 ex_13
                refine a_iinc (v := x_13) (lv' := [(4, .inl x_13), (0, .inr (2, 0)), (1, .inl x1), (2, .inl x2), (3, .inl x3)]) 4 dX1_entered_494 rfl (by rw [ex_13]; rfl) (Nat.le_of_ble_eq_true rfl) rfl ?_
                refine a_goto (tgt := 429) dX1_entered_497 (by decide) ?_
                exact wp_sub (by simp) (ih x1 x2 x3 x_13 t_12 h)
def w_entered_303 (x1 x2 : Int32) (t : DB) (Q : DB → Prop) : Prop := vp_in x2 24 ∧ (vp_in x1 4400 ∧ (∀ t_1 : DB, t_1 = up t 72 x1.toNatClampNeg ((t 0 0) + (t 32 x2.toNatClampNeg)) → (w_goesIn x1 t_1 (fun t_2 => Q t_2))))
set_option maxHeartbeats 4000000 in
theorem sd_entered_303 {d : Nat} {M : Mem} {P : Option AV → Mem → Prop} {Q : DB → Prop} (hP : ∀ t, Q t → P none (tput M t)) (hT : TW M) (x1 x2 : Int32) (t : DB) (h : w_entered_303 x1 x2 t Q) : wp (d + 3) mX1_entered 303 [(0, .inr (2, 0)), (1, .inl x1), (2, .inl x2)] [] (tput M t) P := by
  unfold w_entered_303 at h
  refine a_aload_n 0 dX1_entered_303 rfl rfl ?_
  refine t_ga 72 hT (by decide) q1584 rfl dX1_entered_304 ?_
  refine a_iload_n 1 dX1_entered_307 rfl rfl ?_
  refine a_aload_n 0 dX1_entered_308 rfl rfl ?_
  refine t_gi 0 (by decide) q1512 rfl dX1_entered_309 ?_
  refine a_aload_n 0 dX1_entered_312 rfl rfl ?_
  refine t_ga 32 hT (by decide) q1544 rfl dX1_entered_313 ?_
  refine a_iload_n 2 dX1_entered_316 rfl rfl ?_
  refine t_ia (f := 32) rfl hT (by decide) h.1 dX1_entered_317 ?_
  replace h := h.2
  refine a_iadd dX1_entered_318 ?_
  refine t_is (f := 72) rfl hT (by decide) h.1 dX1_entered_319 ?_
  replace h := h.2
  refine a_topt (fun t_1 et_1 => ?_)
  replace h := h t_1 et_1
  refine a_aload_n 0 dX1_entered_320 rfl rfl ?_
  refine a_iload_n 1 dX1_entered_321 rfl rfl ?_
  refine a_cv (y := mX1_goesIn) (k := 2) (i := 0) (as := [.inl x1]) (st := []) (n := 1) (by decide) (Or.inl q1936) qs42 q1938 q73 q1939 zmh_goesIn rfl (Nat.le_of_ble_eq_true rfl) (Nat.le_of_ble_eq_true rfl) dX1_entered_322 (sd_goesIn (fun t_2 h => ?_) hT h)
  show wp (d + 3) mX1_entered 325 [(0, .inr (2, 0)), (1, .inl x1), (2, .inl x2)] [] (tput M t_2) P
  refine a_goto (tgt := 532) dX1_entered_325 (by decide) ?_
  exact a_vret rfl dX1_entered_532 (hP _ h)
def w_entered_188 (x1 x2 : Int32) (t : DB) (Q : DB → Prop) : Prop := vp_in x2 24 ∧ (vp_in x2 24 ∧ ((((t 33 x2.toNatClampNeg) ≤ (t 40 x2.toNatClampNeg)) → (vp_in x2 24 ∧ (vp_in x2 24 ∧ (∀ t_1 : DB, t_1 = up t 41 x2.toNatClampNeg ((t 41 x2.toNatClampNeg) + 1) → (w_add 2 x1 10 0 0 t_1 (fun t_2 => Q t_2)))))) ∧ ((¬ (t 33 x2.toNatClampNeg) ≤ (t 40 x2.toNatClampNeg)) → (vp_in x1 4400 ∧ (∀ t_4 : DB, t_4 = up t 75 x1.toNatClampNeg 1 → (vp_in x2 24 ∧ (vp_in ((10 * x2) + (t_4 40 x2.toNatClampNeg)) 240 ∧ (∀ t_5 : DB, t_5 = up t_4 43 ((10 * x2) + (t_4 40 x2.toNatClampNeg)).toNatClampNeg x1 → (vp_in x2 24 ∧ (vp_in x2 24 ∧ (∀ t_6 : DB, t_6 = up t_5 40 x2.toNatClampNeg ((t_5 40 x2.toNatClampNeg) + 1) → (Q t_6))))))))))))
set_option maxHeartbeats 4000000 in
theorem sd_entered_188 {d : Nat} {M : Mem} {P : Option AV → Mem → Prop} {Q : DB → Prop} (hP : ∀ t, Q t → P none (tput M t)) (hT : TW M) (x1 x2 : Int32) (t : DB) (h : w_entered_188 x1 x2 t Q) : wp (d + 3) mX1_entered 188 [(0, .inr (2, 0)), (1, .inl x1), (2, .inl x2)] [] (tput M t) P := by
  unfold w_entered_188 at h
  refine a_aload_n 0 dX1_entered_188 rfl rfl ?_
  refine t_ga 40 hT (by decide) q1552 rfl dX1_entered_189 ?_
  refine a_iload_n 2 dX1_entered_192 rfl rfl ?_
  refine t_ia (f := 40) rfl hT (by decide) h.1 dX1_entered_193 ?_
  replace h := h.2
  refine a_aload_n 0 dX1_entered_194 rfl rfl ?_
  refine t_ga 33 hT (by decide) q1545 rfl dX1_entered_195 ?_
  refine a_iload_n 2 dX1_entered_198 rfl rfl ?_
  refine t_ia (f := 33) rfl hT (by decide) h.1 dX1_entered_199 ?_
  replace h := h.2
  refine a_icmp_ge (tgt := 240) dX1_entered_200 (by decide) (fun c_7 => ?_) (fun c_7 => ?_)
  · replace h := h.1 c_7
    refine a_aload_n 0 dX1_entered_240 rfl rfl ?_
    refine t_ga 41 hT (by decide) q1553 rfl dX1_entered_241 ?_
    refine a_iload_n 2 dX1_entered_244 rfl rfl ?_
    refine a_dup2 dX1_entered_245 ?_
    refine t_ia (f := 41) rfl hT (by decide) h.1 dX1_entered_246 ?_
    replace h := h.2
    refine a_iconst (v := 1) dX1_entered_247 (by decide) ?_
    refine a_iadd dX1_entered_248 ?_
    refine t_is (f := 41) rfl hT (by decide) h.1 dX1_entered_249 ?_
    replace h := h.2
    refine a_topt (fun t_1 et_1 => ?_)
    replace h := h t_1 et_1
    refine a_aload_n 0 dX1_entered_250 rfl rfl ?_
    refine a_iconst (v := 2) dX1_entered_251 (by decide) ?_
    refine a_iload_n 1 dX1_entered_252 rfl rfl ?_
    refine a_bipush (v := 10) dX1_entered_253 (by decide) ?_
    refine a_iconst (v := 0) dX1_entered_255 (by decide) ?_
    refine a_iconst (v := 0) dX1_entered_256 (by decide) ?_
    refine a_cv (y := mX1_add) (k := 2) (i := 0) (as := [.inl 2, .inl x1, .inl 10, .inl 0, .inl 0]) (st := []) (n := 5) (by decide) (Or.inl q1916) qs37 q1918 q73 q1919 zmh_add rfl (Nat.le_of_ble_eq_true rfl) (Nat.le_of_ble_eq_true rfl) dX1_entered_257 (sd_add (fun t_2 h => ?_) hT h)
    show wp (d + 3) mX1_entered 260 [(0, .inr (2, 0)), (1, .inl x1), (2, .inl x2)] [] (tput M t_2) P
    refine a_goto (tgt := 532) dX1_entered_260 (by decide) ?_
    exact a_vret rfl dX1_entered_532 (hP _ h)
  · replace h := h.2 c_7
    refine a_aload_n 0 dX1_entered_203 rfl rfl ?_
    refine t_ga 75 hT (by decide) q1587 rfl dX1_entered_204 ?_
    refine a_iload_n 1 dX1_entered_207 rfl rfl ?_
    refine a_iconst (v := 1) dX1_entered_208 (by decide) ?_
    refine t_zs (f := 75) rfl hT (by decide) (by decide) h.1 dX1_entered_209 ?_
    replace h := h.2
    refine a_topt (fun t_4 et_4 => ?_)
    replace h := h t_4 et_4
    refine a_aload_n 0 dX1_entered_210 rfl rfl ?_
    refine t_ga 43 hT (by decide) q1555 rfl dX1_entered_211 ?_
    refine a_bipush (v := 10) dX1_entered_214 (by decide) ?_
    refine a_iload_n 2 dX1_entered_216 rfl rfl ?_
    refine a_imul dX1_entered_217 ?_
    refine a_aload_n 0 dX1_entered_218 rfl rfl ?_
    refine t_ga 40 hT (by decide) q1552 rfl dX1_entered_219 ?_
    refine a_iload_n 2 dX1_entered_222 rfl rfl ?_
    refine t_ia (f := 40) rfl hT (by decide) h.1 dX1_entered_223 ?_
    replace h := h.2
    refine a_iadd dX1_entered_224 ?_
    refine a_iload_n 1 dX1_entered_225 rfl rfl ?_
    refine t_is (f := 43) rfl hT (by decide) h.1 dX1_entered_226 ?_
    replace h := h.2
    refine a_topt (fun t_5 et_5 => ?_)
    replace h := h t_5 et_5
    refine a_aload_n 0 dX1_entered_227 rfl rfl ?_
    refine t_ga 40 hT (by decide) q1552 rfl dX1_entered_228 ?_
    refine a_iload_n 2 dX1_entered_231 rfl rfl ?_
    refine a_dup2 dX1_entered_232 ?_
    refine t_ia (f := 40) rfl hT (by decide) h.1 dX1_entered_233 ?_
    replace h := h.2
    refine a_iconst (v := 1) dX1_entered_234 (by decide) ?_
    refine a_iadd dX1_entered_235 ?_
    refine t_is (f := 40) rfl hT (by decide) h.1 dX1_entered_236 ?_
    replace h := h.2
    refine a_topt (fun t_6 et_6 => ?_)
    replace h := h t_6 et_6
    refine a_goto (tgt := 532) dX1_entered_237 (by decide) ?_
    exact a_vret rfl dX1_entered_532 (hP _ h)
def w_entered_130 (x1 x2 s0 s1 : Int32) (t : DB) (Q : DB → Prop) : Prop := (s0 = 0 ∨ s0 = 1) ∧ vp_in s1 4400 ∧ (∀ t_1 : DB, t_1 = up t 79 s1.toNatClampNeg s0 → (vp_in x1 4400 ∧ ((((t_1 79 x1.toNatClampNeg) = 0) → (w_goesIn x1 t_1 (fun t_2 => Q t_2))) ∧ ((¬ (t_1 79 x1.toNatClampNeg) = 0) → (vp_in x2 24 ∧ (∀ t_4 : DB, t_4 = up t_1 36 x2.toNatClampNeg 2 → (w_goesIn x1 t_4 (fun t_5 => Q t_5))))))))
set_option maxHeartbeats 4000000 in
theorem sd_entered_130 {d : Nat} {M : Mem} {P : Option AV → Mem → Prop} {Q : DB → Prop} (hP : ∀ t, Q t → P none (tput M t)) (hT : TW M) (x1 x2 s0 s1 : Int32) (t : DB) (h : w_entered_130 x1 x2 s0 s1 t Q) : wp (d + 3) mX1_entered 130 [(0, .inr (2, 0)), (1, .inl x1), (2, .inl x2)] [.inl s0, .inl s1, .inr (179, 0)] (tput M t) P := by
  unfold w_entered_130 at h
  refine t_zs (f := 79) rfl hT (by decide) h.1 h.2.1 dX1_entered_130 ?_
  replace h := h.2.2
  refine a_topt (fun t_1 et_1 => ?_)
  replace h := h t_1 et_1
  refine a_aload_n 0 dX1_entered_131 rfl rfl ?_
  refine t_ga 79 hT (by decide) q1591 rfl dX1_entered_132 ?_
  refine a_iload_n 1 dX1_entered_135 rfl rfl ?_
  refine t_za (f := 79) rfl hT (by decide) h.1 dX1_entered_136 ?_
  replace h := h.2
  refine a_if_eq (tgt := 147) dX1_entered_137 (by decide) (fun c_7 => ?_) (fun c_7 => ?_)
  · replace h := h.1 c_7
    refine a_aload_n 0 dX1_entered_147 rfl rfl ?_
    refine a_iload_n 1 dX1_entered_148 rfl rfl ?_
    refine a_cv (y := mX1_goesIn) (k := 2) (i := 0) (as := [.inl x1]) (st := []) (n := 1) (by decide) (Or.inl q1936) qs42 q1938 q73 q1939 zmh_goesIn rfl (Nat.le_of_ble_eq_true rfl) (Nat.le_of_ble_eq_true rfl) dX1_entered_149 (sd_goesIn (fun t_2 h => ?_) hT h)
    show wp (d + 3) mX1_entered 152 [(0, .inr (2, 0)), (1, .inl x1), (2, .inl x2)] [] (tput M t_2) P
    refine a_goto (tgt := 532) dX1_entered_152 (by decide) ?_
    exact a_vret rfl dX1_entered_532 (hP _ h)
  · replace h := h.2 c_7
    refine a_aload_n 0 dX1_entered_140 rfl rfl ?_
    refine t_ga 36 hT (by decide) q1548 rfl dX1_entered_141 ?_
    refine a_iload_n 2 dX1_entered_144 rfl rfl ?_
    refine a_iconst (v := 2) dX1_entered_145 (by decide) ?_
    refine t_is (f := 36) rfl hT (by decide) h.1 dX1_entered_146 ?_
    replace h := h.2
    refine a_topt (fun t_4 et_4 => ?_)
    replace h := h t_4 et_4
    refine a_aload_n 0 dX1_entered_147 rfl rfl ?_
    refine a_iload_n 1 dX1_entered_148 rfl rfl ?_
    refine a_cv (y := mX1_goesIn) (k := 2) (i := 0) (as := [.inl x1]) (st := []) (n := 1) (by decide) (Or.inl q1936) qs42 q1938 q73 q1939 zmh_goesIn rfl (Nat.le_of_ble_eq_true rfl) (Nat.le_of_ble_eq_true rfl) dX1_entered_149 (sd_goesIn (fun t_5 h => ?_) hT h)
    show wp (d + 3) mX1_entered 152 [(0, .inr (2, 0)), (1, .inl x1), (2, .inl x2)] [] (tput M t_5) P
    refine a_goto (tgt := 532) dX1_entered_152 (by decide) ?_
    exact a_vret rfl dX1_entered_532 (hP _ h)
def w_entered_110 (x1 x2 : Int32) (t : DB) (Q : DB → Prop) : Prop := vp_in x2 24 ∧ (((¬ (t 36 x2.toNatClampNeg) = 1) → (w_entered_130 x1 x2 0 x1 t Q)) ∧ (((t 36 x2.toNatClampNeg) = 1) → (w_entered_130 x1 x2 1 x1 t Q)))
set_option maxHeartbeats 4000000 in
theorem sd_entered_110 {d : Nat} {M : Mem} {P : Option AV → Mem → Prop} {Q : DB → Prop} (hP : ∀ t, Q t → P none (tput M t)) (hT : TW M) (x1 x2 : Int32) (t : DB) (h : w_entered_110 x1 x2 t Q) : wp (d + 3) mX1_entered 110 [(0, .inr (2, 0)), (1, .inl x1), (2, .inl x2)] [] (tput M t) P := by
  unfold w_entered_110 at h
  refine a_aload_n 0 dX1_entered_110 rfl rfl ?_
  refine t_ga 79 hT (by decide) q1591 rfl dX1_entered_111 ?_
  refine a_iload_n 1 dX1_entered_114 rfl rfl ?_
  refine a_aload_n 0 dX1_entered_115 rfl rfl ?_
  refine t_ga 36 hT (by decide) q1548 rfl dX1_entered_116 ?_
  refine a_iload_n 2 dX1_entered_119 rfl rfl ?_
  refine t_ia (f := 36) rfl hT (by decide) h.1 dX1_entered_120 ?_
  replace h := h.2
  refine a_iconst (v := 1) dX1_entered_121 (by decide) ?_
  refine a_icmp_ne (tgt := 129) dX1_entered_122 (by decide) (fun c_1 => ?_) (fun c_1 => ?_)
  · replace h := h.1 c_1
    refine a_iconst (v := 0) dX1_entered_129 (by decide) ?_
    exact wp_sub (by simp) (sd_entered_130 hP hT x1 x2 0 x1 t h)
  · replace h := h.2 c_1
    refine a_iconst (v := 1) dX1_entered_125 (by decide) ?_
    refine a_goto (tgt := 130) dX1_entered_126 (by decide) ?_
    exact wp_sub (by simp) (sd_entered_130 hP hT x1 x2 1 x1 t h)
def w_entered_97 (x1 : Int32) (t : DB) (Q : DB → Prop) : Prop := w_add 2 x1 9 0 0 t (fun t_1 => Q t_1)
set_option maxHeartbeats 4000000 in
theorem sd_entered_97 {d : Nat} {M : Mem} {P : Option AV → Mem → Prop} {Q : DB → Prop} (hP : ∀ t, Q t → P none (tput M t)) (hT : TW M) (x1 : Int32) (t : DB) (h : w_entered_97 x1 t Q) : wp (d + 3) mX1_entered 97 [(0, .inr (2, 0)), (1, .inl x1)] [] (tput M t) P := by
  unfold w_entered_97 at h
  refine a_aload_n 0 dX1_entered_97 rfl rfl ?_
  refine a_iconst (v := 2) dX1_entered_98 (by decide) ?_
  refine a_iload_n 1 dX1_entered_99 rfl rfl ?_
  refine a_bipush (v := 9) dX1_entered_100 (by decide) ?_
  refine a_iconst (v := 0) dX1_entered_102 (by decide) ?_
  refine a_iconst (v := 0) dX1_entered_103 (by decide) ?_
  refine a_cv (y := mX1_add) (k := 2) (i := 0) (as := [.inl 2, .inl x1, .inl 9, .inl 0, .inl 0]) (st := []) (n := 5) (by decide) (Or.inl q1916) qs37 q1918 q73 q1919 zmh_add rfl (Nat.le_of_ble_eq_true rfl) (Nat.le_of_ble_eq_true rfl) dX1_entered_104 (sd_add (fun t_1 h => ?_) hT h)
  show wp (d + 3) mX1_entered 107 [(0, .inr (2, 0)), (1, .inl x1)] [] (tput M t_1) P
  refine a_goto (tgt := 532) dX1_entered_107 (by decide) ?_
  exact a_vret rfl dX1_entered_532 (hP _ h)
def w_entered (x1 x2 : Int32) (t : DB) (Q : DB → Prop) : Prop := vp_in x1 4400 ∧ (∀ x_1 : Int32, x_1 = t 62 x1.toNatClampNeg → (vp_in x2 24 ∧ (((t 31 x2.toNatClampNeg) = 0 → (vp_in x2 24 ∧ ((((t 36 x2.toNatClampNeg) = 2) → (w_entered_97 x1 t Q)) ∧ ((¬ (t 36 x2.toNatClampNeg) = 2) → (vp_in x2 24 ∧ (((¬ (t 36 x2.toNatClampNeg) = 1) → (w_entered_110 x1 x2 t Q)) ∧ (((t 36 x2.toNatClampNeg) = 1) → (vp_in x2 24 ∧ ((((t 38 x2.toNatClampNeg) ≤ (t 0 0)) → (w_entered_110 x1 x2 t Q)) ∧ ((¬ (t 38 x2.toNatClampNeg) ≤ (t 0 0)) → (w_entered_97 x1 t Q))))))))))) ∧ ((t 31 x2.toNatClampNeg) = 1 → (vp_in x2 24 ∧ (vp_in x2 24 ∧ ((((t 32 x2.toNatClampNeg) ≤ (t 39 x2.toNatClampNeg)) → (w_entered_188 x1 x2 t Q)) ∧ ((¬ (t 32 x2.toNatClampNeg) ≤ (t 39 x2.toNatClampNeg)) → (vp_in x2 24 ∧ (((¬ (t 40 x2.toNatClampNeg) = 0) → (w_entered_188 x1 x2 t Q)) ∧ (((t 40 x2.toNatClampNeg) = 0) → (w_setToWork x1 x2 t (fun t_5 => Q t_5)))))))))) ∧ ((t 31 x2.toNatClampNeg) = 2 → (vp_in x2 24 ∧ (((¬ (t 42 x2.toNatClampNeg) = 0) → (vp_in x2 24 ∧ (vp_in x2 24 ∧ (∀ t_9 : DB, t_9 = up t 42 x2.toNatClampNeg ((t 42 x2.toNatClampNeg) - 1) → (w_goesIn x1 t_9 (fun t_10 => Q t_10)))))) ∧ (((t 42 x2.toNatClampNeg) = 0) → (w_add 2 x1 11 0 0 t (fun t_12 => Q t_12)))))) ∧ ((t 31 x2.toNatClampNeg) = 3 → (w_entered_303 x1 x2 t Q)) ∧ ((t 31 x2.toNatClampNeg) = 4 → (w_goesIn x1 t (fun t_15 => Q t_15))) ∧ ((t 31 x2.toNatClampNeg) = 5 → (w_entered_303 x1 x2 t Q)) ∧ ((t 31 x2.toNatClampNeg) = 6 → (w_goesIn x1 t (fun t_17 => Q t_17))) ∧ ((t 31 x2.toNatClampNeg) = 7 → (vp_in x_1 60 ∧ (∀ x_19 : Int32, x_19 = (8 * x2) + (t 52 x_1.toNatClampNeg) → (vp_in x_1 60 ∧ (((¬ (t 53 x_1.toNatClampNeg) = 0) → (w_goesIn x1 t (fun t_20 => Q t_20))) ∧ (((t 53 x_1.toNatClampNeg) = 0) → (vp_in x_19 192 ∧ ((((t 45 x_19.toNatClampNeg) < 0) → (w_goesIn x1 t (fun t_22 => Q t_22))) ∧ ((¬ (t 45 x_19.toNatClampNeg) < 0) → (vp_in x_19 192 ∧ (vp_in x2 24 ∧ ((((t 32 x2.toNatClampNeg) < ((t 0 0) - (t 45 x_19.toNatClampNeg))) → (w_goesIn x1 t (fun t_24 => Q t_24))) ∧ ((¬ (t 32 x2.toNatClampNeg) < ((t 0 0) - (t 45 x_19.toNatClampNeg))) → (vp_in x_19 192 ∧ (vp_in x_19 192 ∧ ((((t 46 x_19.toNatClampNeg) = 0) → (w_add 1 x1 1 (t 44 x_19.toNatClampNeg) 0 t (fun t_26 => Q t_26))) ∧ ((¬ (t 46 x_19.toNatClampNeg) = 0) → (w_add 1 x1 1 (t 44 x_19.toNatClampNeg) 1 t (fun t_28 => Q t_28))))))))))))))))))) ∧ ((t 31 x2.toNatClampNeg) = 8 → (∀ x_34 : Int32, x_34 = (t 61 0) - 1 → (∃ n_, w_entered_429 n_ x1 x2 x_1 x_34 t Q))) ∧ (¬ (t 31 x2.toNatClampNeg) = 0 → ¬ (t 31 x2.toNatClampNeg) = 1 → ¬ (t 31 x2.toNatClampNeg) = 2 → ¬ (t 31 x2.toNatClampNeg) = 3 → ¬ (t 31 x2.toNatClampNeg) = 4 → ¬ (t 31 x2.toNatClampNeg) = 5 → ¬ (t 31 x2.toNatClampNeg) = 6 → ¬ (t 31 x2.toNatClampNeg) = 7 → ¬ (t 31 x2.toNatClampNeg) = 8 → (w_goesIn x1 t (fun t_35 => Q t_35))))))
set_option maxHeartbeats 4000000 in
theorem sd_entered {d : Nat} {M : Mem} {P : Option AV → Mem → Prop} {Q : DB → Prop} {x1 x2 : Int32} {t : DB} (hP : ∀ t, Q t → P none (tput M t)) (hT : TW M) (h : w_entered x1 x2 t Q) : ct (d + 3) mX1_entered [.inr (2, 0), .inl x1, .inl x2] (tput M t) P := by
  refine ct_of (by decide) (Nat.le_of_ble_eq_true rfl) ?_
  show wp (d + 3) mX1_entered 0 [(0, .inr (2, 0)), (1, .inl x1), (2, .inl x2)] [] (tput M t) P
  unfold w_entered at h
  refine a_aload_n 0 dX1_entered_0 rfl rfl ?_
  refine t_ga 62 hT (by decide) q1574 rfl dX1_entered_1 ?_
  refine a_iload_n 1 dX1_entered_4 rfl rfl ?_
  refine t_ia (f := 62) rfl hT (by decide) h.1 dX1_entered_5 ?_
  replace h := h.2
  refine a_topi (fun x_1 ex_1 => ?_)
  replace h := h x_1 ex_1
  refine a_istore_n (lv' := [(3, .inl x_1), (0, .inr (2, 0)), (1, .inl x1), (2, .inl x2)]) dX1_entered_6 rfl (Nat.le_of_ble_eq_true rfl) rfl ?_
  refine a_aload_n 1 dX1_entered_7 rfl rfl ?_
  refine t_ga 31 hT (by decide) q1543 rfl dX1_entered_8 ?_
  refine a_iload_n 3 dX1_entered_11 rfl rfl ?_
  refine t_ia (f := 31) rfl hT (by decide) h.1 dX1_entered_12 ?_
  replace h := h.2
  refine a_tsw (fun j => ([64, 155, 263, 303, 527, 303, 527, 328, 421] : List Nat).getD j 0) (tD := 527) (n := 9) dX1_entered_13 rfl (by decide) (by decide) (by decide) (fun j hj e => ?_) (fun e => ?_)
  · match j, hj, e with
    | 0, _, e =>
      replace h := h.1 e
      show wp (d + 3) mX1_entered 64 _ _ _ _
      refine a_aload_n 1 dX1_entered_64 rfl rfl ?_
      refine t_ga 36 hT (by decide) q1548 rfl dX1_entered_65 ?_
      refine a_iload_n 3 dX1_entered_68 rfl rfl ?_
      refine t_ia (f := 36) rfl hT (by decide) h.1 dX1_entered_69 ?_
      replace h := h.2
      refine a_iconst (v := 2) dX1_entered_70 (by decide) ?_
      refine a_icmp_eq (tgt := 97) dX1_entered_71 (by decide) (fun c_4 => ?_) (fun c_4 => ?_)
      · replace h := h.1 c_4
        exact wp_sub (by simp) (sd_entered_97 hP hT x1 t h)
      · replace h := h.2 c_4
        refine a_aload_n 1 dX1_entered_74 rfl rfl ?_
        refine t_ga 36 hT (by decide) q1548 rfl dX1_entered_75 ?_
        refine a_iload_n 3 dX1_entered_78 rfl rfl ?_
        refine t_ia (f := 36) rfl hT (by decide) h.1 dX1_entered_79 ?_
        replace h := h.2
        refine a_iconst (v := 1) dX1_entered_80 (by decide) ?_
        refine a_icmp_ne (tgt := 110) dX1_entered_81 (by decide) (fun c_3 => ?_) (fun c_3 => ?_)
        · replace h := h.1 c_3
          exact wp_sub (by simp) (sd_entered_110 hP hT x1 x2 t h)
        · replace h := h.2 c_3
          refine a_aload_n 1 dX1_entered_84 rfl rfl ?_
          refine t_gi 0 (by decide) q1512 rfl dX1_entered_85 ?_
          refine a_aload_n 1 dX1_entered_88 rfl rfl ?_
          refine t_ga 38 hT (by decide) q1550 rfl dX1_entered_89 ?_
          refine a_iload_n 3 dX1_entered_92 rfl rfl ?_
          refine t_ia (f := 38) rfl hT (by decide) h.1 dX1_entered_93 ?_
          replace h := h.2
          refine a_icmp_ge (tgt := 110) dX1_entered_94 (by decide) (fun c_2 => ?_) (fun c_2 => ?_)
          · replace h := h.1 c_2
            exact wp_sub (by simp) (sd_entered_110 hP hT x1 x2 t h)
          · replace h := h.2 c_2
            exact wp_sub (by simp) (sd_entered_97 hP hT x1 t h)
    | 1, _, e =>
      replace h := h.2.1 e
      show wp (d + 3) mX1_entered 155 _ _ _ _
      refine a_aload_n 1 dX1_entered_155 rfl rfl ?_
      refine t_ga 39 hT (by decide) q1551 rfl dX1_entered_156 ?_
      refine a_iload_n 3 dX1_entered_159 rfl rfl ?_
      refine t_ia (f := 39) rfl hT (by decide) h.1 dX1_entered_160 ?_
      replace h := h.2
      refine a_aload_n 1 dX1_entered_161 rfl rfl ?_
      refine t_ga 32 hT (by decide) q1544 rfl dX1_entered_162 ?_
      refine a_iload_n 3 dX1_entered_165 rfl rfl ?_
      refine t_ia (f := 32) rfl hT (by decide) h.1 dX1_entered_166 ?_
      replace h := h.2
      refine a_icmp_ge (tgt := 188) dX1_entered_167 (by decide) (fun c_8 => ?_) (fun c_8 => ?_)
      · replace h := h.1 c_8
        exact wp_sub (by simp) (sd_entered_188 hP hT x1 x2 t h)
      · replace h := h.2 c_8
        refine a_aload_n 1 dX1_entered_170 rfl rfl ?_
        refine t_ga 40 hT (by decide) q1552 rfl dX1_entered_171 ?_
        refine a_iload_n 3 dX1_entered_174 rfl rfl ?_
        refine t_ia (f := 40) rfl hT (by decide) h.1 dX1_entered_175 ?_
        replace h := h.2
        refine a_if_ne (tgt := 188) dX1_entered_176 (by decide) (fun c_7 => ?_) (fun c_7 => ?_)
        · replace h := h.1 c_7
          exact wp_sub (by simp) (sd_entered_188 hP hT x1 x2 t h)
        · replace h := h.2 c_7
          refine a_aload_n 1 dX1_entered_179 rfl rfl ?_
          refine a_iload_n 2 dX1_entered_180 rfl rfl ?_
          refine a_iload_n 3 dX1_entered_181 rfl rfl ?_
          refine a_cv (y := mX1_setToWork) (k := 2) (i := 0) (as := [.inl x1, .inl x2]) (st := []) (n := 2) (by decide) (Or.inl q1940) qs43 q1942 q73 q1943 zmh_setToWork rfl (Nat.le_of_ble_eq_true rfl) (Nat.le_of_ble_eq_true rfl) dX1_entered_182 (sd_setToWork (fun t_5 h => ?_) hT h)
          show wp (d + 3) mX1_entered 185 [(3, .inl x_1), (0, .inr (2, 0)), (1, .inl x1), (2, .inl x2)] [] (tput M t_5) P
          refine a_goto (tgt := 532) dX1_entered_185 (by decide) ?_
          exact a_vret rfl dX1_entered_532 (hP _ h)
    | 2, _, e =>
      replace h := h.2.2.1 e
      show wp (d + 3) mX1_entered 263 _ _ _ _
      refine a_aload_n 1 dX1_entered_263 rfl rfl ?_
      refine t_ga 42 hT (by decide) q1554 rfl dX1_entered_264 ?_
      refine a_iload_n 3 dX1_entered_267 rfl rfl ?_
      refine t_ia (f := 42) rfl hT (by decide) h.1 dX1_entered_268 ?_
      replace h := h.2
      refine a_if_ne (tgt := 285) dX1_entered_269 (by decide) (fun c_14 => ?_) (fun c_14 => ?_)
      · replace h := h.1 c_14
        refine a_aload_n 1 dX1_entered_285 rfl rfl ?_
        refine t_ga 42 hT (by decide) q1554 rfl dX1_entered_286 ?_
        refine a_iload_n 3 dX1_entered_289 rfl rfl ?_
        refine a_dup2 dX1_entered_290 ?_
        refine t_ia (f := 42) rfl hT (by decide) h.1 dX1_entered_291 ?_
        replace h := h.2
        refine a_iconst (v := 1) dX1_entered_292 (by decide) ?_
        refine a_isub dX1_entered_293 ?_
        refine t_is (f := 42) rfl hT (by decide) h.1 dX1_entered_294 ?_
        replace h := h.2
        refine a_topt (fun t_9 et_9 => ?_)
        replace h := h t_9 et_9
        refine a_aload_n 1 dX1_entered_295 rfl rfl ?_
        refine a_iload_n 2 dX1_entered_296 rfl rfl ?_
        refine a_cv (y := mX1_goesIn) (k := 2) (i := 0) (as := [.inl x1]) (st := []) (n := 1) (by decide) (Or.inl q1936) qs42 q1938 q73 q1939 zmh_goesIn rfl (Nat.le_of_ble_eq_true rfl) (Nat.le_of_ble_eq_true rfl) dX1_entered_297 (sd_goesIn (fun t_10 h => ?_) hT h)
        show wp (d + 3) mX1_entered 300 [(3, .inl x_1), (0, .inr (2, 0)), (1, .inl x1), (2, .inl x2)] [] (tput M t_10) P
        refine a_goto (tgt := 532) dX1_entered_300 (by decide) ?_
        exact a_vret rfl dX1_entered_532 (hP _ h)
      · replace h := h.2 c_14
        refine a_aload_n 1 dX1_entered_272 rfl rfl ?_
        refine a_iconst (v := 2) dX1_entered_273 (by decide) ?_
        refine a_iload_n 2 dX1_entered_274 rfl rfl ?_
        refine a_bipush (v := 11) dX1_entered_275 (by decide) ?_
        refine a_iconst (v := 0) dX1_entered_277 (by decide) ?_
        refine a_iconst (v := 0) dX1_entered_278 (by decide) ?_
        refine a_cv (y := mX1_add) (k := 2) (i := 0) (as := [.inl 2, .inl x1, .inl 11, .inl 0, .inl 0]) (st := []) (n := 5) (by decide) (Or.inl q1916) qs37 q1918 q73 q1919 zmh_add rfl (Nat.le_of_ble_eq_true rfl) (Nat.le_of_ble_eq_true rfl) dX1_entered_279 (sd_add (fun t_12 h => ?_) hT h)
        show wp (d + 3) mX1_entered 282 [(3, .inl x_1), (0, .inr (2, 0)), (1, .inl x1), (2, .inl x2)] [] (tput M t_12) P
        refine a_goto (tgt := 532) dX1_entered_282 (by decide) ?_
        exact a_vret rfl dX1_entered_532 (hP _ h)
    | 3, _, e =>
      replace h := h.2.2.2.1 e
      show wp (d + 3) mX1_entered 303 _ _ _ _
      exact wp_sub (by simp) (sd_entered_303 hP hT x1 x2 t h)
    | 4, _, e =>
      replace h := h.2.2.2.2.1 e
      show wp (d + 3) mX1_entered 527 _ _ _ _
      refine a_aload_n 1 dX1_entered_527 rfl rfl ?_
      refine a_iload_n 2 dX1_entered_528 rfl rfl ?_
      refine a_cv (y := mX1_goesIn) (k := 2) (i := 0) (as := [.inl x1]) (st := []) (n := 1) (by decide) (Or.inl q1936) qs42 q1938 q73 q1939 zmh_goesIn rfl (Nat.le_of_ble_eq_true rfl) (Nat.le_of_ble_eq_true rfl) dX1_entered_529 (sd_goesIn (fun t_15 h => ?_) hT h)
      show wp (d + 3) mX1_entered 532 [(3, .inl x_1), (0, .inr (2, 0)), (1, .inl x1), (2, .inl x2)] [] (tput M t_15) P
      exact a_vret rfl dX1_entered_532 (hP _ h)
    | 5, _, e =>
      replace h := h.2.2.2.2.2.1 e
      show wp (d + 3) mX1_entered 303 _ _ _ _
      exact wp_sub (by simp) (sd_entered_303 hP hT x1 x2 t h)
    | 6, _, e =>
      replace h := h.2.2.2.2.2.2.1 e
      show wp (d + 3) mX1_entered 527 _ _ _ _
      refine a_aload_n 1 dX1_entered_527 rfl rfl ?_
      refine a_iload_n 2 dX1_entered_528 rfl rfl ?_
      refine a_cv (y := mX1_goesIn) (k := 2) (i := 0) (as := [.inl x1]) (st := []) (n := 1) (by decide) (Or.inl q1936) qs42 q1938 q73 q1939 zmh_goesIn rfl (Nat.le_of_ble_eq_true rfl) (Nat.le_of_ble_eq_true rfl) dX1_entered_529 (sd_goesIn (fun t_17 h => ?_) hT h)
      show wp (d + 3) mX1_entered 532 [(3, .inl x_1), (0, .inr (2, 0)), (1, .inl x1), (2, .inl x2)] [] (tput M t_17) P
      exact a_vret rfl dX1_entered_532 (hP _ h)
    | 7, _, e =>
      replace h := h.2.2.2.2.2.2.2.1 e
      show wp (d + 3) mX1_entered 328 _ _ _ _
      refine a_bipush (v := 8) dX1_entered_328 (by decide) ?_
      refine a_iload_n 3 dX1_entered_330 rfl rfl ?_
      refine a_imul dX1_entered_331 ?_
      refine a_aload_n 1 dX1_entered_332 rfl rfl ?_
      refine t_ga 52 hT (by decide) q1564 rfl dX1_entered_333 ?_
      refine a_iload_n 0 dX1_entered_336 rfl rfl ?_
      refine t_ia (f := 52) rfl hT (by decide) h.1 dX1_entered_337 ?_
      replace h := h.2
      refine a_iadd dX1_entered_338 ?_
      refine a_topi (fun x_19 ex_19 => ?_)
      replace h := h x_19 ex_19
      refine a_istore (lv' := [(4, .inl x_19), (3, .inl x_1), (0, .inr (2, 0)), (1, .inl x1), (2, .inl x2)]) dX1_entered_339 (Nat.le_of_ble_eq_true rfl) rfl ?_
      refine a_aload_n 2 dX1_entered_341 rfl rfl ?_
      refine t_ga 53 hT (by decide) q1565 rfl dX1_entered_342 ?_
      refine a_iload_n 1 dX1_entered_345 rfl rfl ?_
      refine t_ia (f := 53) rfl hT (by decide) h.1 dX1_entered_346 ?_
      replace h := h.2
      refine a_if_ne (tgt := 413) dX1_entered_347 (by decide) (fun c_33 => ?_) (fun c_33 => ?_)
      · replace h := h.1 c_33
        refine a_aload_n 2 dX1_entered_413 rfl rfl ?_
        refine a_iload_n 3 dX1_entered_414 rfl rfl ?_
        refine a_cv (y := mX1_goesIn) (k := 2) (i := 0) (as := [.inl x1]) (st := []) (n := 1) (by decide) (Or.inl q1936) qs42 q1938 q73 q1939 zmh_goesIn rfl (Nat.le_of_ble_eq_true rfl) (Nat.le_of_ble_eq_true rfl) dX1_entered_415 (sd_goesIn (fun t_20 h => ?_) hT h)
        show wp (d + 3) mX1_entered 418 [(4, .inl x_19), (3, .inl x_1), (0, .inr (2, 0)), (1, .inl x1), (2, .inl x2)] [] (tput M t_20) P
        refine a_goto (tgt := 532) dX1_entered_418 (by decide) ?_
        exact a_vret rfl dX1_entered_532 (hP _ h)
      · replace h := h.2 c_33
        refine a_aload_n 2 dX1_entered_350 rfl rfl ?_
        refine t_ga 45 hT (by decide) q1557 rfl dX1_entered_351 ?_
        refine a_iload 0 dX1_entered_354 rfl ?_
        refine t_ia (f := 45) rfl hT (by decide) h.1 dX1_entered_356 ?_
        replace h := h.2
        refine a_if_lt (tgt := 413) dX1_entered_357 (by decide) (fun c_32 => ?_) (fun c_32 => ?_)
        · replace h := h.1 c_32
          refine a_aload_n 2 dX1_entered_413 rfl rfl ?_
          refine a_iload_n 3 dX1_entered_414 rfl rfl ?_
          refine a_cv (y := mX1_goesIn) (k := 2) (i := 0) (as := [.inl x1]) (st := []) (n := 1) (by decide) (Or.inl q1936) qs42 q1938 q73 q1939 zmh_goesIn rfl (Nat.le_of_ble_eq_true rfl) (Nat.le_of_ble_eq_true rfl) dX1_entered_415 (sd_goesIn (fun t_22 h => ?_) hT h)
          show wp (d + 3) mX1_entered 418 [(4, .inl x_19), (3, .inl x_1), (0, .inr (2, 0)), (1, .inl x1), (2, .inl x2)] [] (tput M t_22) P
          refine a_goto (tgt := 532) dX1_entered_418 (by decide) ?_
          exact a_vret rfl dX1_entered_532 (hP _ h)
        · replace h := h.2 c_32
          refine a_aload_n 2 dX1_entered_360 rfl rfl ?_
          refine t_gi 0 (by decide) q1512 rfl dX1_entered_361 ?_
          refine a_aload_n 2 dX1_entered_364 rfl rfl ?_
          refine t_ga 45 hT (by decide) q1557 rfl dX1_entered_365 ?_
          refine a_iload 0 dX1_entered_368 rfl ?_
          refine t_ia (f := 45) rfl hT (by decide) h.1 dX1_entered_370 ?_
          replace h := h.2
          refine a_isub dX1_entered_371 ?_
          refine a_aload_n 2 dX1_entered_372 rfl rfl ?_
          refine t_ga 32 hT (by decide) q1544 rfl dX1_entered_373 ?_
          refine a_iload_n 4 dX1_entered_376 rfl rfl ?_
          refine t_ia (f := 32) rfl hT (by decide) h.1 dX1_entered_377 ?_
          replace h := h.2
          refine a_icmp_gt (tgt := 413) dX1_entered_378 (by decide) (fun c_31 => ?_) (fun c_31 => ?_)
          · replace h := h.1 c_31
            refine a_aload_n 2 dX1_entered_413 rfl rfl ?_
            refine a_iload_n 3 dX1_entered_414 rfl rfl ?_
            refine a_cv (y := mX1_goesIn) (k := 2) (i := 0) (as := [.inl x1]) (st := []) (n := 1) (by decide) (Or.inl q1936) qs42 q1938 q73 q1939 zmh_goesIn rfl (Nat.le_of_ble_eq_true rfl) (Nat.le_of_ble_eq_true rfl) dX1_entered_415 (sd_goesIn (fun t_24 h => ?_) hT h)
            show wp (d + 3) mX1_entered 418 [(4, .inl x_19), (3, .inl x_1), (0, .inr (2, 0)), (1, .inl x1), (2, .inl x2)] [] (tput M t_24) P
            refine a_goto (tgt := 532) dX1_entered_418 (by decide) ?_
            exact a_vret rfl dX1_entered_532 (hP _ h)
          · replace h := h.2 c_31
            refine a_aload_n 2 dX1_entered_381 rfl rfl ?_
            refine a_iconst (v := 1) dX1_entered_382 (by decide) ?_
            refine a_iload_n 3 dX1_entered_383 rfl rfl ?_
            refine a_iconst (v := 1) dX1_entered_384 (by decide) ?_
            refine a_aload_n 2 dX1_entered_385 rfl rfl ?_
            refine t_ga 44 hT (by decide) q1556 rfl dX1_entered_386 ?_
            refine a_iload 0 dX1_entered_389 rfl ?_
            refine t_ia (f := 44) rfl hT (by decide) h.1 dX1_entered_391 ?_
            replace h := h.2
            refine a_aload_n 2 dX1_entered_392 rfl rfl ?_
            refine t_ga 46 hT (by decide) q1558 rfl dX1_entered_393 ?_
            refine a_iload 0 dX1_entered_396 rfl ?_
            refine t_za (f := 46) rfl hT (by decide) h.1 dX1_entered_398 ?_
            replace h := h.2
            refine a_if_eq (tgt := 406) dX1_entered_399 (by decide) (fun c_30 => ?_) (fun c_30 => ?_)
            · replace h := h.1 c_30
              refine a_iconst (v := 0) dX1_entered_406 (by decide) ?_
              refine a_cv (y := mX1_add) (k := 2) (i := 0) (as := [.inl 1, .inl x1, .inl 1, .inl (t 44 x_19.toNatClampNeg), .inl 0]) (st := []) (n := 5) (by decide) (Or.inl q1916) qs37 q1918 q73 q1919 zmh_add rfl (Nat.le_of_ble_eq_true rfl) (Nat.le_of_ble_eq_true rfl) dX1_entered_407 (sd_add (fun t_26 h => ?_) hT h)
              show wp (d + 3) mX1_entered 410 [(4, .inl x_19), (3, .inl x_1), (0, .inr (2, 0)), (1, .inl x1), (2, .inl x2)] [] (tput M t_26) P
              refine a_goto (tgt := 532) dX1_entered_410 (by decide) ?_
              exact a_vret rfl dX1_entered_532 (hP _ h)
            · replace h := h.2 c_30
              refine a_iconst (v := 1) dX1_entered_402 (by decide) ?_
              refine a_goto (tgt := 407) dX1_entered_403 (by decide) ?_
              refine a_cv (y := mX1_add) (k := 2) (i := 0) (as := [.inl 1, .inl x1, .inl 1, .inl (t 44 x_19.toNatClampNeg), .inl 1]) (st := []) (n := 5) (by decide) (Or.inl q1916) qs37 q1918 q73 q1919 zmh_add rfl (Nat.le_of_ble_eq_true rfl) (Nat.le_of_ble_eq_true rfl) dX1_entered_407 (sd_add (fun t_28 h => ?_) hT h)
              show wp (d + 3) mX1_entered 410 [(4, .inl x_19), (3, .inl x_1), (0, .inr (2, 0)), (1, .inl x1), (2, .inl x2)] [] (tput M t_28) P
              refine a_goto (tgt := 532) dX1_entered_410 (by decide) ?_
              exact a_vret rfl dX1_entered_532 (hP _ h)
    | 8, _, e =>
      replace h := h.2.2.2.2.2.2.2.2.1 e
      show wp (d + 3) mX1_entered 421 _ _ _ _
      refine a_aload_n 1 dX1_entered_421 rfl rfl ?_
      refine t_gi 61 (by decide) q1573 rfl dX1_entered_422 ?_
      refine a_iconst (v := 1) dX1_entered_425 (by decide) ?_
      refine a_isub dX1_entered_426 ?_
      refine a_topi (fun x_34 ex_34 => ?_)
      replace h := h x_34 ex_34
      refine a_istore (lv' := [(4, .inl x_34), (3, .inl x_1), (0, .inr (2, 0)), (1, .inl x1), (2, .inl x2)]) dX1_entered_427 (Nat.le_of_ble_eq_true rfl) rfl ?_
      obtain ⟨n_, h⟩ := h
      exact wp_sub (by simp) (sd_entered_429 hP hT n_ x1 x2 x_1 x_34 t h)
    | j + 9, hj, _ => exact absurd hj (by omega)
  · replace h := h.2.2.2.2.2.2.2.2.2 (e 0 (by decide)) (e 1 (by decide)) (e 2 (by decide)) (e 3 (by decide)) (e 4 (by decide)) (e 5 (by decide)) (e 6 (by decide)) (e 7 (by decide)) (e 8 (by decide))
    refine a_aload_n 1 dX1_entered_527 rfl rfl ?_
    refine a_iload_n 2 dX1_entered_528 rfl rfl ?_
    refine a_cv (y := mX1_goesIn) (k := 2) (i := 0) (as := [.inl x1]) (st := []) (n := 1) (by decide) (Or.inl q1936) qs42 q1938 q73 q1939 zmh_goesIn rfl (Nat.le_of_ble_eq_true rfl) (Nat.le_of_ble_eq_true rfl) dX1_entered_529 (sd_goesIn (fun t_35 h => ?_) hT h)
    show wp (d + 3) mX1_entered 532 [(3, .inl x_1), (0, .inr (2, 0)), (1, .inl x1), (2, .inl x2)] [] (tput M t_35) P
    exact a_vret rfl dX1_entered_532 (hP _ h)
theorem zmh_entered : zmh yX1_entered 2 := ⟨⟨by decide +kernel, by decide +kernel⟩, by decide +kernel⟩
abbrev mX1_guardAt : zMt := (yX1_guardAt, cX1_guardAt, 3, some .int)
def w_guardAt (x1 x2 : Int32) (t : DB) (Q : Int32 → DB → Prop) : Prop := vp_in x1 60 ∧ (vp_in (t 51 x1.toNatClampNeg) 11 ∧ ((((t 48 (t 51 x1.toNatClampNeg).toNatClampNeg) ≤ x2) → (Q (-1) t)) ∧ ((¬ (t 48 (t 51 x1.toNatClampNeg).toNatClampNeg) ≤ x2) → (vp_in x1 60 ∧ (vp_in ((5 * (t 51 x1.toNatClampNeg)) + x2) 55 ∧ (Q (t 49 ((5 * (t 51 x1.toNatClampNeg)) + x2).toNatClampNeg) t))))))
set_option maxHeartbeats 4000000 in
theorem sd_guardAt {d : Nat} {M : Mem} {P : Option AV → Mem → Prop} {Q : Int32 → DB → Prop} {x1 x2 : Int32} {t : DB} (hP : ∀ r t, Q r t → P (some (.inl r)) (tput M t)) (hT : TW M) (h : w_guardAt x1 x2 t Q) : ct d mX1_guardAt [.inr (2, 0), .inl x1, .inl x2] (tput M t) P := by
  refine ct_of (by decide) (Nat.le_of_ble_eq_true rfl) ?_
  show wp d mX1_guardAt 0 [(0, .inr (2, 0)), (1, .inl x1), (2, .inl x2)] [] (tput M t) P
  unfold w_guardAt at h
  refine a_iload_n 2 dX1_guardAt_0 rfl rfl ?_
  refine a_aload_n 0 dX1_guardAt_1 rfl rfl ?_
  refine t_ga 48 hT (by decide) q1560 rfl dX1_guardAt_2 ?_
  refine a_aload_n 0 dX1_guardAt_5 rfl rfl ?_
  refine t_ga 51 hT (by decide) q1563 rfl dX1_guardAt_6 ?_
  refine a_iload_n 1 dX1_guardAt_9 rfl rfl ?_
  refine t_ia (f := 51) rfl hT (by decide) h.1 dX1_guardAt_10 ?_
  replace h := h.2
  refine t_ia (f := 48) rfl hT (by decide) h.1 dX1_guardAt_11 ?_
  replace h := h.2
  refine a_icmp_ge (tgt := 33) dX1_guardAt_12 (by decide) (fun c_1 => ?_) (fun c_1 => ?_)
  · replace h := h.1 c_1
    refine a_iconst (v := (-1)) dX1_guardAt_33 (by decide) ?_
    exact a_iret rfl dX1_guardAt_34 (hP _ _ h)
  · replace h := h.2 c_1
    refine a_aload_n 0 dX1_guardAt_15 rfl rfl ?_
    refine t_ga 49 hT (by decide) q1561 rfl dX1_guardAt_16 ?_
    refine a_iconst (v := 5) dX1_guardAt_19 (by decide) ?_
    refine a_aload_n 0 dX1_guardAt_20 rfl rfl ?_
    refine t_ga 51 hT (by decide) q1563 rfl dX1_guardAt_21 ?_
    refine a_iload_n 1 dX1_guardAt_24 rfl rfl ?_
    refine t_ia (f := 51) rfl hT (by decide) h.1 dX1_guardAt_25 ?_
    replace h := h.2
    refine a_imul dX1_guardAt_26 ?_
    refine a_iload_n 2 dX1_guardAt_27 rfl rfl ?_
    refine a_iadd dX1_guardAt_28 ?_
    refine t_ia (f := 49) rfl hT (by decide) h.1 dX1_guardAt_29 ?_
    replace h := h.2
    refine a_goto (tgt := 34) dX1_guardAt_30 (by decide) ?_
    exact a_iret rfl dX1_guardAt_34 (hP _ _ h)
theorem zmh_guardAt : zmh yX1_guardAt 2 := ⟨⟨by decide +kernel, by decide +kernel⟩, by decide +kernel⟩
abbrev mX1_tryEnd : zMt := (yX1_tryEnd, cX1_tryEnd, 5, some .int)
def w_tryEnd_15 : Nat → Int32 → Int32 → Int32 → Int32 → DB → (Int32 → DB → Prop) → Prop
  | 0, _, _, _, _, _, _ => False
  | n + 1, x1, x2, x3, x4, t, Q => (((t 11 0) ≤ x4) → (Q x3 t)) ∧ ((¬ (t 11 0) ≤ x4) → (vp_in x4 30 ∧ (((¬ (t 12 x4.toNatClampNeg) = x1) → (∀ x_1 : Int32, x_1 = x4 + 1 → (w_tryEnd_15 n x1 x2 x3 x_1 t Q))) ∧ (((t 12 x4.toNatClampNeg) = x1) → (vp_in x4 30 ∧ (((¬ (t 13 x4.toNatClampNeg) = x2) → (∀ x_2 : Int32, x_2 = x4 + 1 → (w_tryEnd_15 n x1 x2 x3 x_2 t Q))) ∧ (((t 13 x4.toNatClampNeg) = x2) → (vp_in x4 30 ∧ ((((t 0 0) < (t 14 x4.toNatClampNeg)) → (∀ x_3 : Int32, x_3 = x4 + 1 → (w_tryEnd_15 n x1 x2 x3 x_3 t Q))) ∧ ((¬ (t 0 0) < (t 14 x4.toNatClampNeg)) → (vp_in x4 30 ∧ ((((t 15 x4.toNatClampNeg) < (t 0 0)) → (∀ x_4 : Int32, x_4 = x4 + 1 → (w_tryEnd_15 n x1 x2 x3 x_4 t Q))) ∧ ((¬ (t 15 x4.toNatClampNeg) < (t 0 0)) → (vp_in x4 30 ∧ (∀ x_5 : Int32, x_5 = x3 + (t 16 x4.toNatClampNeg) → (∀ x_6 : Int32, x_6 = x4 + 1 → (w_tryEnd_15 n x1 x2 x_5 x_6 t Q)))))))))))))))))
set_option maxHeartbeats 4000000 in
theorem sd_tryEnd_15 {d : Nat} {M : Mem} {P : Option AV → Mem → Prop} {Q : Int32 → DB → Prop} (hP : ∀ r t, Q r t → P (some (.inl r)) (tput M t)) (hT : TW M) : ∀ (n : Nat) (x1 x2 x3 x4 : Int32) (t : DB), w_tryEnd_15 n x1 x2 x3 x4 t Q → wp d mX1_tryEnd 15 [(0, .inr (2, 0)), (1, .inl x1), (2, .inl x2), (3, .inl x3), (4, .inl x4)] [] (tput M t) P := by
  intro n
  induction n with
  | zero => intro x1 x2 x3 x4 t h; exact False.elim h
  | succ n ih =>
    intro x1 x2 x3 x4 t h
    rw [w_tryEnd_15] at h
    refine a_iload 4 dX1_tryEnd_15 rfl ?_
    refine a_aload_n 0 dX1_tryEnd_17 rfl rfl ?_
    refine t_gi 11 (by decide) q1523 rfl dX1_tryEnd_18 ?_
    refine a_icmp_ge (tgt := 90) dX1_tryEnd_21 (by decide) (fun c_11 => ?_) (fun c_11 => ?_)
    · replace h := h.1 c_11
      refine a_iload_n 3 dX1_tryEnd_90 rfl rfl ?_
      exact a_iret rfl dX1_tryEnd_91 (hP _ _ h)
    · replace h := h.2 c_11
      refine a_aload_n 0 dX1_tryEnd_24 rfl rfl ?_
      refine t_ga 12 hT (by decide) q1524 rfl dX1_tryEnd_25 ?_
      refine a_iload 4 dX1_tryEnd_28 rfl ?_
      refine t_ia (f := 12) rfl hT (by decide) h.1 dX1_tryEnd_30 ?_
      replace h := h.2
      refine a_iload_n 1 dX1_tryEnd_31 rfl rfl ?_
      refine a_icmp_ne (tgt := 84) dX1_tryEnd_32 (by decide) (fun c_10 => ?_) (fun c_10 => ?_)
      · replace h := h.1 c_10
        obtain ⟨x_1, ex_1⟩ : ∃ y : Int32, y = x4 + 1 := ⟨_, rfl⟩
        replace h := h x_1 ex_1
        refine a_iinc (v := x_1) (lv' := [(4, .inl x_1), (0, .inr (2, 0)), (1, .inl x1), (2, .inl x2), (3, .inl x3)]) 4 dX1_tryEnd_84 rfl (by rw [ex_1]; rfl) (Nat.le_of_ble_eq_true rfl) rfl ?_
        refine a_goto (tgt := 15) dX1_tryEnd_87 (by decide) ?_
        exact wp_sub (by simp) (ih x1 x2 x3 x_1 t h)
      · replace h := h.2 c_10
        refine a_aload_n 0 dX1_tryEnd_35 rfl rfl ?_
        refine t_ga 13 hT (by decide) q1525 rfl dX1_tryEnd_36 ?_
        refine a_iload 4 dX1_tryEnd_39 rfl ?_
        refine t_ia (f := 13) rfl hT (by decide) h.1 dX1_tryEnd_41 ?_
        replace h := h.2
        refine a_iload_n 2 dX1_tryEnd_42 rfl rfl ?_
        refine a_icmp_ne (tgt := 84) dX1_tryEnd_43 (by decide) (fun c_9 => ?_) (fun c_9 => ?_)
        · replace h := h.1 c_9
          obtain ⟨x_2, ex_2⟩ : ∃ y : Int32, y = x4 + 1 := ⟨_, rfl⟩
          replace h := h x_2 ex_2
          refine a_iinc (v := x_2) (lv' := [(4, .inl x_2), (0, .inr (2, 0)), (1, .inl x1), (2, .inl x2), (3, .inl x3)]) 4 dX1_tryEnd_84 rfl (by rw [ex_2]; rfl) (Nat.le_of_ble_eq_true rfl) rfl ?_
          refine a_goto (tgt := 15) dX1_tryEnd_87 (by decide) ?_
          exact wp_sub (by simp) (ih x1 x2 x3 x_2 t h)
        · replace h := h.2 c_9
          refine a_aload_n 0 dX1_tryEnd_46 rfl rfl ?_
          refine t_gi 0 (by decide) q1512 rfl dX1_tryEnd_47 ?_
          refine a_aload_n 0 dX1_tryEnd_50 rfl rfl ?_
          refine t_ga 14 hT (by decide) q1526 rfl dX1_tryEnd_51 ?_
          refine a_iload 4 dX1_tryEnd_54 rfl ?_
          refine t_ia (f := 14) rfl hT (by decide) h.1 dX1_tryEnd_56 ?_
          replace h := h.2
          refine a_icmp_lt (tgt := 84) dX1_tryEnd_57 (by decide) (fun c_8 => ?_) (fun c_8 => ?_)
          · replace h := h.1 c_8
            obtain ⟨x_3, ex_3⟩ : ∃ y : Int32, y = x4 + 1 := ⟨_, rfl⟩
            replace h := h x_3 ex_3
            refine a_iinc (v := x_3) (lv' := [(4, .inl x_3), (0, .inr (2, 0)), (1, .inl x1), (2, .inl x2), (3, .inl x3)]) 4 dX1_tryEnd_84 rfl (by rw [ex_3]; rfl) (Nat.le_of_ble_eq_true rfl) rfl ?_
            refine a_goto (tgt := 15) dX1_tryEnd_87 (by decide) ?_
            exact wp_sub (by simp) (ih x1 x2 x3 x_3 t h)
          · replace h := h.2 c_8
            refine a_aload_n 0 dX1_tryEnd_60 rfl rfl ?_
            refine t_gi 0 (by decide) q1512 rfl dX1_tryEnd_61 ?_
            refine a_aload_n 0 dX1_tryEnd_64 rfl rfl ?_
            refine t_ga 15 hT (by decide) q1527 rfl dX1_tryEnd_65 ?_
            refine a_iload 4 dX1_tryEnd_68 rfl ?_
            refine t_ia (f := 15) rfl hT (by decide) h.1 dX1_tryEnd_70 ?_
            replace h := h.2
            refine a_icmp_gt (tgt := 84) dX1_tryEnd_71 (by decide) (fun c_7 => ?_) (fun c_7 => ?_)
            · replace h := h.1 c_7
              obtain ⟨x_4, ex_4⟩ : ∃ y : Int32, y = x4 + 1 := ⟨_, rfl⟩
              replace h := h x_4 ex_4
              refine a_iinc (v := x_4) (lv' := [(4, .inl x_4), (0, .inr (2, 0)), (1, .inl x1), (2, .inl x2), (3, .inl x3)]) 4 dX1_tryEnd_84 rfl (by rw [ex_4]; rfl) (Nat.le_of_ble_eq_true rfl) rfl ?_
              refine a_goto (tgt := 15) dX1_tryEnd_87 (by decide) ?_
              exact wp_sub (by simp) (ih x1 x2 x3 x_4 t h)
            · replace h := h.2 c_7
              refine a_iload_n 3 dX1_tryEnd_74 rfl rfl ?_
              refine a_aload_n 0 dX1_tryEnd_75 rfl rfl ?_
              refine t_ga 16 hT (by decide) q1528 rfl dX1_tryEnd_76 ?_
              refine a_iload 4 dX1_tryEnd_79 rfl ?_
              refine t_ia (f := 16) rfl hT (by decide) h.1 dX1_tryEnd_81 ?_
              replace h := h.2
              refine a_iadd dX1_tryEnd_82 ?_
              refine a_topi (fun x_5 ex_5 => ?_)
              replace h := h x_5 ex_5
              refine a_istore_n (lv' := [(3, .inl x_5), (0, .inr (2, 0)), (1, .inl x1), (2, .inl x2), (4, .inl x4)]) dX1_tryEnd_83 rfl (Nat.le_of_ble_eq_true rfl) rfl ?_
              obtain ⟨x_6, ex_6⟩ : ∃ y : Int32, y = x4 + 1 := ⟨_, rfl⟩
              replace h := h x_6 ex_6
              refine a_iinc (v := x_6) (lv' := [(4, .inl x_6), (3, .inl x_5), (0, .inr (2, 0)), (1, .inl x1), (2, .inl x2)]) 4 dX1_tryEnd_84 rfl (by rw [ex_6]; rfl) (Nat.le_of_ble_eq_true rfl) rfl ?_
              refine a_goto (tgt := 15) dX1_tryEnd_87 (by decide) ?_
              exact wp_sub (by simp) (ih x1 x2 x_5 x_6 t h)
def w_tryEnd (x1 x2 : Int32) (t : DB) (Q : Int32 → DB → Prop) : Prop := vp_in x1 8 ∧ (∀ x_1 : Int32, x_1 = (t 0 0) + (t 4 x1.toNatClampNeg) → (∃ n_, w_tryEnd_15 n_ x1 x2 x_1 0 t Q))
set_option maxHeartbeats 4000000 in
theorem sd_tryEnd {d : Nat} {M : Mem} {P : Option AV → Mem → Prop} {Q : Int32 → DB → Prop} {x1 x2 : Int32} {t : DB} (hP : ∀ r t, Q r t → P (some (.inl r)) (tput M t)) (hT : TW M) (h : w_tryEnd x1 x2 t Q) : ct d mX1_tryEnd [.inr (2, 0), .inl x1, .inl x2] (tput M t) P := by
  refine ct_of (by decide) (Nat.le_of_ble_eq_true rfl) ?_
  show wp d mX1_tryEnd 0 [(0, .inr (2, 0)), (1, .inl x1), (2, .inl x2)] [] (tput M t) P
  unfold w_tryEnd at h
  refine a_aload_n 0 dX1_tryEnd_0 rfl rfl ?_
  refine t_gi 0 (by decide) q1512 rfl dX1_tryEnd_1 ?_
  refine a_aload_n 0 dX1_tryEnd_4 rfl rfl ?_
  refine t_ga 4 hT (by decide) q1516 rfl dX1_tryEnd_5 ?_
  refine a_iload_n 1 dX1_tryEnd_8 rfl rfl ?_
  refine t_ia (f := 4) rfl hT (by decide) h.1 dX1_tryEnd_9 ?_
  replace h := h.2
  refine a_iadd dX1_tryEnd_10 ?_
  refine a_topi (fun x_1 ex_1 => ?_)
  replace h := h x_1 ex_1
  refine a_istore_n (lv' := [(3, .inl x_1), (0, .inr (2, 0)), (1, .inl x1), (2, .inl x2)]) dX1_tryEnd_11 rfl (Nat.le_of_ble_eq_true rfl) rfl ?_
  refine a_iconst (v := 0) dX1_tryEnd_12 (by decide) ?_
  refine a_istore (lv' := [(4, .inl 0), (3, .inl x_1), (0, .inr (2, 0)), (1, .inl x1), (2, .inl x2)]) dX1_tryEnd_13 (Nat.le_of_ble_eq_true rfl) rfl ?_
  obtain ⟨n_, h⟩ := h
  exact wp_sub (by simp) (sd_tryEnd_15 hP hT n_ x1 x2 x_1 0 t h)
theorem zmh_tryEnd : zmh yX1_tryEnd 2 := ⟨⟨by decide +kernel, by decide +kernel⟩, by decide +kernel⟩
abbrev mX1_begins : zMt := (yX1_begins, cX1_begins, 7, none)
def w_begins_219 (x1 x5 x6 : Int32) (t : DB) (Q : DB → Prop) : Prop := ((x6 < 0) → (vp_in x5 4400 ∧ (vp_in x1 60 ∧ (w_tryEnd (t 66 x5.toNatClampNeg) (t 53 x1.toNatClampNeg) t (fun r_2 t_1 => vp_in x5 4400 ∧ (∀ t_3 : DB, t_3 = up t_1 72 x5.toNatClampNeg r_2 → (Q t_3))))))) ∧ ((¬ x6 < 0) → (w_entered x5 x6 t (fun t_4 => Q t_4)))
set_option maxHeartbeats 4000000 in
theorem sd_begins_219 {d : Nat} {M : Mem} {P : Option AV → Mem → Prop} {Q : DB → Prop} (hP : ∀ t, Q t → P none (tput M t)) (hT : TW M) (x1 x5 x6 : Int32) (t : DB) (h : w_begins_219 x1 x5 x6 t Q) : wp (d + 4) mX1_begins 219 [(0, .inr (2, 0)), (1, .inl x1), (5, .inl x5), (6, .inl x6)] [] (tput M t) P := by
  unfold w_begins_219 at h
  refine a_iload 3 dX1_begins_219 rfl ?_
  refine a_if_lt (tgt := 235) dX1_begins_221 (by decide) (fun c_6 => ?_) (fun c_6 => ?_)
  · replace h := h.1 c_6
    refine a_aload_n 0 dX1_begins_235 rfl rfl ?_
    refine t_ga 72 hT (by decide) q1584 rfl dX1_begins_236 ?_
    refine a_iload 2 dX1_begins_239 rfl ?_
    refine a_aload_n 0 dX1_begins_241 rfl rfl ?_
    refine a_aload_n 0 dX1_begins_242 rfl rfl ?_
    refine t_ga 66 hT (by decide) q1578 rfl dX1_begins_243 ?_
    refine a_iload 2 dX1_begins_246 rfl ?_
    refine t_ia (f := 66) rfl hT (by decide) h.1 dX1_begins_248 ?_
    replace h := h.2
    refine a_aload_n 0 dX1_begins_249 rfl rfl ?_
    refine t_ga 53 hT (by decide) q1565 rfl dX1_begins_250 ?_
    refine a_iload_n 1 dX1_begins_253 rfl rfl ?_
    refine t_ia (f := 53) rfl hT (by decide) h.1 dX1_begins_254 ?_
    replace h := h.2
    refine a_cv (y := mX1_tryEnd) (k := 2) (i := 0) (as := [.inl (t 66 x5.toNatClampNeg), .inl (t 53 x1.toNatClampNeg)]) (st := [.inl x5, .inr (172, 0)]) (n := 2) (by decide) (Or.inl q1948) qs45 q1950 q73 q1951 zmh_tryEnd rfl (Nat.le_of_ble_eq_true rfl) (Nat.le_of_ble_eq_true rfl) dX1_begins_255 (sd_tryEnd (fun r_2 t_1 h => ?_) hT h)
    show wp (d + 4) mX1_begins 258 [(0, .inr (2, 0)), (1, .inl x1), (5, .inl x5), (6, .inl x6)] [.inl r_2, .inl x5, .inr (172, 0)] (tput M t_1) P
    refine t_is (f := 72) rfl hT (by decide) h.1 dX1_begins_258 ?_
    replace h := h.2
    refine a_topt (fun t_3 et_3 => ?_)
    replace h := h t_3 et_3
    exact a_vret rfl dX1_begins_259 (hP _ h)
  · replace h := h.2 c_6
    refine a_aload_n 0 dX1_begins_224 rfl rfl ?_
    refine a_iload 2 dX1_begins_225 rfl ?_
    refine a_iload 3 dX1_begins_227 rfl ?_
    refine a_cv (y := mX1_entered) (k := 2) (i := 0) (as := [.inl x5, .inl x6]) (st := []) (n := 2) (by decide) (Or.inl q1932) qs41 q1934 q73 q1935 zmh_entered rfl (Nat.le_of_ble_eq_true rfl) (Nat.le_of_ble_eq_true rfl) dX1_begins_229 (sd_entered (fun t_4 h => ?_) hT h)
    show wp (d + 4) mX1_begins 232 [(0, .inr (2, 0)), (1, .inl x1), (5, .inl x5), (6, .inl x6)] [] (tput M t_4) P
    refine a_goto (tgt := 259) dX1_begins_232 (by decide) ?_
    exact a_vret rfl dX1_begins_259 (hP _ h)
def w_begins_97 (x1 x3 x5 x6 s0 s1 : Int32) (t : DB) (Q : DB → Prop) : Prop := vp_in s1 4400 ∧ (∀ t_1 : DB, t_1 = up t 66 s1.toNatClampNeg s0 → (vp_in x5 4400 ∧ (∀ t_2 : DB, t_2 = up t_1 67 x5.toNatClampNeg (t_1 0 0) → (vp_in x5 4400 ∧ (∀ t_3 : DB, t_3 = up t_2 68 x5.toNatClampNeg (-1) → (vp_in x5 4400 ∧ (∀ t_4 : DB, t_4 = up t_3 69 x5.toNatClampNeg 0 → (vp_in x5 4400 ∧ (∀ t_5 : DB, t_5 = up t_4 70 x5.toNatClampNeg (-1) → (vp_in x5 4400 ∧ (∀ t_6 : DB, t_6 = up t_5 71 x5.toNatClampNeg 0 → (vp_in x5 4400 ∧ (∀ t_7 : DB, t_7 = up t_6 72 x5.toNatClampNeg (-1) → (vp_in x5 4400 ∧ (∀ t_8 : DB, t_8 = up t_7 73 x5.toNatClampNeg 0 → (vp_in x5 4400 ∧ (∀ t_9 : DB, t_9 = up t_8 74 x5.toNatClampNeg (-1) → (vp_in x5 4400 ∧ (∀ t_10 : DB, t_10 = up t_9 75 x5.toNatClampNeg 0 → (vp_in x5 4400 ∧ (∀ t_11 : DB, t_11 = up t_10 76 x5.toNatClampNeg 0 → (vp_in x5 4400 ∧ (∀ t_12 : DB, t_12 = up t_11 77 x5.toNatClampNeg 0 → (vp_in x5 4400 ∧ (∀ t_13 : DB, t_13 = up t_12 78 x5.toNatClampNeg 0 → (vp_in x5 4400 ∧ (∀ t_14 : DB, t_14 = up t_13 79 x5.toNatClampNeg 0 → (((x3 < 0) → (w_begins_219 x1 x5 x6 t_14 Q)) ∧ ((¬ x3 < 0) → (vp_in x3 4400 ∧ (vp_in x3 4400 ∧ (∀ t_15 : DB, t_15 = up t_14 73 x3.toNatClampNeg ((t_14 73 x3.toNatClampNeg) + 1) → (w_begins_219 x1 x5 x6 t_15 Q)))))))))))))))))))))))))))))))))
set_option maxHeartbeats 4000000 in
theorem sd_begins_97 {d : Nat} {M : Mem} {P : Option AV → Mem → Prop} {Q : DB → Prop} (hP : ∀ t, Q t → P none (tput M t)) (hT : TW M) (x1 x3 x5 x6 s0 s1 : Int32) (t : DB) (h : w_begins_97 x1 x3 x5 x6 s0 s1 t Q) : wp (d + 4) mX1_begins 97 [(0, .inr (2, 0)), (1, .inl x1), (3, .inl x3), (5, .inl x5), (6, .inl x6)] [.inl s0, .inl s1, .inr (166, 0)] (tput M t) P := by
  unfold w_begins_97 at h
  refine t_is (f := 66) rfl hT (by decide) h.1 dX1_begins_97 ?_
  replace h := h.2
  refine a_topt (fun t_1 et_1 => ?_)
  replace h := h t_1 et_1
  refine a_aload_n 0 dX1_begins_98 rfl rfl ?_
  refine t_ga 67 hT (by decide) q1579 rfl dX1_begins_99 ?_
  refine a_iload 3 dX1_begins_102 rfl ?_
  refine a_aload_n 0 dX1_begins_104 rfl rfl ?_
  refine t_gi 0 (by decide) q1512 rfl dX1_begins_105 ?_
  refine t_is (f := 67) rfl hT (by decide) h.1 dX1_begins_108 ?_
  replace h := h.2
  refine a_topt (fun t_2 et_2 => ?_)
  replace h := h t_2 et_2
  refine a_aload_n 0 dX1_begins_109 rfl rfl ?_
  refine t_ga 68 hT (by decide) q1580 rfl dX1_begins_110 ?_
  refine a_iload 3 dX1_begins_113 rfl ?_
  refine a_iconst (v := (-1)) dX1_begins_115 (by decide) ?_
  refine t_is (f := 68) rfl hT (by decide) h.1 dX1_begins_116 ?_
  replace h := h.2
  refine a_topt (fun t_3 et_3 => ?_)
  replace h := h t_3 et_3
  refine a_aload_n 0 dX1_begins_117 rfl rfl ?_
  refine t_ga 69 hT (by decide) q1581 rfl dX1_begins_118 ?_
  refine a_iload 3 dX1_begins_121 rfl ?_
  refine a_iconst (v := 0) dX1_begins_123 (by decide) ?_
  refine t_is (f := 69) rfl hT (by decide) h.1 dX1_begins_124 ?_
  replace h := h.2
  refine a_topt (fun t_4 et_4 => ?_)
  replace h := h t_4 et_4
  refine a_aload_n 0 dX1_begins_125 rfl rfl ?_
  refine t_ga 70 hT (by decide) q1582 rfl dX1_begins_126 ?_
  refine a_iload 3 dX1_begins_129 rfl ?_
  refine a_iconst (v := (-1)) dX1_begins_131 (by decide) ?_
  refine t_is (f := 70) rfl hT (by decide) h.1 dX1_begins_132 ?_
  replace h := h.2
  refine a_topt (fun t_5 et_5 => ?_)
  replace h := h t_5 et_5
  refine a_aload_n 0 dX1_begins_133 rfl rfl ?_
  refine t_ga 71 hT (by decide) q1583 rfl dX1_begins_134 ?_
  refine a_iload 3 dX1_begins_137 rfl ?_
  refine a_iconst (v := 0) dX1_begins_139 (by decide) ?_
  refine t_zs (f := 71) rfl hT (by decide) (by decide) h.1 dX1_begins_140 ?_
  replace h := h.2
  refine a_topt (fun t_6 et_6 => ?_)
  replace h := h t_6 et_6
  refine a_aload_n 0 dX1_begins_141 rfl rfl ?_
  refine t_ga 72 hT (by decide) q1584 rfl dX1_begins_142 ?_
  refine a_iload 3 dX1_begins_145 rfl ?_
  refine a_iconst (v := (-1)) dX1_begins_147 (by decide) ?_
  refine t_is (f := 72) rfl hT (by decide) h.1 dX1_begins_148 ?_
  replace h := h.2
  refine a_topt (fun t_7 et_7 => ?_)
  replace h := h t_7 et_7
  refine a_aload_n 0 dX1_begins_149 rfl rfl ?_
  refine t_ga 73 hT (by decide) q1585 rfl dX1_begins_150 ?_
  refine a_iload 3 dX1_begins_153 rfl ?_
  refine a_iconst (v := 0) dX1_begins_155 (by decide) ?_
  refine t_is (f := 73) rfl hT (by decide) h.1 dX1_begins_156 ?_
  replace h := h.2
  refine a_topt (fun t_8 et_8 => ?_)
  replace h := h t_8 et_8
  refine a_aload_n 0 dX1_begins_157 rfl rfl ?_
  refine t_ga 74 hT (by decide) q1586 rfl dX1_begins_158 ?_
  refine a_iload 3 dX1_begins_161 rfl ?_
  refine a_iconst (v := (-1)) dX1_begins_163 (by decide) ?_
  refine t_is (f := 74) rfl hT (by decide) h.1 dX1_begins_164 ?_
  replace h := h.2
  refine a_topt (fun t_9 et_9 => ?_)
  replace h := h t_9 et_9
  refine a_aload_n 0 dX1_begins_165 rfl rfl ?_
  refine t_ga 75 hT (by decide) q1587 rfl dX1_begins_166 ?_
  refine a_iload 3 dX1_begins_169 rfl ?_
  refine a_iconst (v := 0) dX1_begins_171 (by decide) ?_
  refine t_zs (f := 75) rfl hT (by decide) (by decide) h.1 dX1_begins_172 ?_
  replace h := h.2
  refine a_topt (fun t_10 et_10 => ?_)
  replace h := h t_10 et_10
  refine a_aload_n 0 dX1_begins_173 rfl rfl ?_
  refine t_ga 76 hT (by decide) q1588 rfl dX1_begins_174 ?_
  refine a_iload 3 dX1_begins_177 rfl ?_
  refine a_iconst (v := 0) dX1_begins_179 (by decide) ?_
  refine t_zs (f := 76) rfl hT (by decide) (by decide) h.1 dX1_begins_180 ?_
  replace h := h.2
  refine a_topt (fun t_11 et_11 => ?_)
  replace h := h t_11 et_11
  refine a_aload_n 0 dX1_begins_181 rfl rfl ?_
  refine t_ga 77 hT (by decide) q1589 rfl dX1_begins_182 ?_
  refine a_iload 3 dX1_begins_185 rfl ?_
  refine a_iconst (v := 0) dX1_begins_187 (by decide) ?_
  refine t_zs (f := 77) rfl hT (by decide) (by decide) h.1 dX1_begins_188 ?_
  replace h := h.2
  refine a_topt (fun t_12 et_12 => ?_)
  replace h := h t_12 et_12
  refine a_aload_n 0 dX1_begins_189 rfl rfl ?_
  refine t_ga 78 hT (by decide) q1590 rfl dX1_begins_190 ?_
  refine a_iload 3 dX1_begins_193 rfl ?_
  refine a_iconst (v := 0) dX1_begins_195 (by decide) ?_
  refine t_zs (f := 78) rfl hT (by decide) (by decide) h.1 dX1_begins_196 ?_
  replace h := h.2
  refine a_topt (fun t_13 et_13 => ?_)
  replace h := h t_13 et_13
  refine a_aload_n 0 dX1_begins_197 rfl rfl ?_
  refine t_ga 79 hT (by decide) q1591 rfl dX1_begins_198 ?_
  refine a_iload 3 dX1_begins_201 rfl ?_
  refine a_iconst (v := 0) dX1_begins_203 (by decide) ?_
  refine t_zs (f := 79) rfl hT (by decide) (by decide) h.1 dX1_begins_204 ?_
  replace h := h.2
  refine a_topt (fun t_14 et_14 => ?_)
  replace h := h t_14 et_14
  refine a_iload_n 2 dX1_begins_205 rfl rfl ?_
  refine a_if_lt (tgt := 219) dX1_begins_206 (by decide) (fun c_16 => ?_) (fun c_16 => ?_)
  · replace h := h.1 c_16
    exact wp_sub (by simp) (sd_begins_219 hP hT x1 x5 x6 t_14 h)
  · replace h := h.2 c_16
    refine a_aload_n 0 dX1_begins_209 rfl rfl ?_
    refine t_ga 73 hT (by decide) q1585 rfl dX1_begins_210 ?_
    refine a_iload_n 2 dX1_begins_213 rfl rfl ?_
    refine a_dup2 dX1_begins_214 ?_
    refine t_ia (f := 73) rfl hT (by decide) h.1 dX1_begins_215 ?_
    replace h := h.2
    refine a_iconst (v := 1) dX1_begins_216 (by decide) ?_
    refine a_iadd dX1_begins_217 ?_
    refine t_is (f := 73) rfl hT (by decide) h.1 dX1_begins_218 ?_
    replace h := h.2
    refine a_topt (fun t_15 et_15 => ?_)
    replace h := h t_15 et_15
    exact wp_sub (by simp) (sd_begins_219 hP hT x1 x5 x6 t_15 h)
def w_begins_31 (x1 x2 x3 x4 x5 s0 : Int32) (t : DB) (Q : DB → Prop) : Prop := vp_in x5 4400 ∧ (∀ t_1 : DB, t_1 = up t 62 x5.toNatClampNeg x1 → (vp_in x5 4400 ∧ (∀ t_2 : DB, t_2 = up t_1 63 x5.toNatClampNeg x2 → (vp_in x5 4400 ∧ (∀ t_3 : DB, t_3 = up t_2 64 x5.toNatClampNeg x3 → (vp_in x5 4400 ∧ (∀ t_4 : DB, t_4 = up t_3 65 x5.toNatClampNeg s0 → (((s0 < 0) → (((x4 < 0) → (vp_in x1 60 ∧ (w_begins_97 x1 x3 x5 s0 (t_4 52 x1.toNatClampNeg) x5 t_4 Q))) ∧ ((¬ x4 < 0) → (w_begins_97 x1 x3 x5 s0 x4 x5 t_4 Q)))) ∧ ((¬ s0 < 0) → (w_begins_97 x1 x3 x5 s0 (-1) x5 t_4 Q))))))))))
set_option maxHeartbeats 4000000 in
theorem sd_begins_31 {d : Nat} {M : Mem} {P : Option AV → Mem → Prop} {Q : DB → Prop} (hP : ∀ t, Q t → P none (tput M t)) (hT : TW M) (x1 x2 x3 x4 x5 s0 : Int32) (t : DB) (h : w_begins_31 x1 x2 x3 x4 x5 s0 t Q) : wp (d + 4) mX1_begins 31 [(0, .inr (2, 0)), (1, .inl x1), (2, .inl x2), (3, .inl x3), (4, .inl x4), (5, .inl x5)] [.inl s0] (tput M t) P := by
  unfold w_begins_31 at h
  refine a_istore (lv' := [(6, .inl s0), (0, .inr (2, 0)), (1, .inl x1), (2, .inl x2), (3, .inl x3), (4, .inl x4), (5, .inl x5)]) dX1_begins_31 (Nat.le_of_ble_eq_true rfl) rfl ?_
  refine a_aload_n 1 dX1_begins_33 rfl rfl ?_
  refine t_ga 62 hT (by decide) q1574 rfl dX1_begins_34 ?_
  refine a_iload 6 dX1_begins_37 rfl ?_
  refine a_iload_n 2 dX1_begins_39 rfl rfl ?_
  refine t_is (f := 62) rfl hT (by decide) h.1 dX1_begins_40 ?_
  replace h := h.2
  refine a_topt (fun t_1 et_1 => ?_)
  replace h := h t_1 et_1
  refine a_aload_n 1 dX1_begins_41 rfl rfl ?_
  refine t_ga 63 hT (by decide) q1575 rfl dX1_begins_42 ?_
  refine a_iload 6 dX1_begins_45 rfl ?_
  refine a_iload_n 3 dX1_begins_47 rfl rfl ?_
  refine t_is (f := 63) rfl hT (by decide) h.1 dX1_begins_48 ?_
  replace h := h.2
  refine a_topt (fun t_2 et_2 => ?_)
  replace h := h t_2 et_2
  refine a_aload_n 1 dX1_begins_49 rfl rfl ?_
  refine t_ga 64 hT (by decide) q1576 rfl dX1_begins_50 ?_
  refine a_iload 6 dX1_begins_53 rfl ?_
  refine a_iload_n 4 dX1_begins_55 rfl rfl ?_
  refine t_is (f := 64) rfl hT (by decide) h.1 dX1_begins_56 ?_
  replace h := h.2
  refine a_topt (fun t_3 et_3 => ?_)
  replace h := h t_3 et_3
  refine a_aload_n 1 dX1_begins_57 rfl rfl ?_
  refine t_ga 65 hT (by decide) q1577 rfl dX1_begins_58 ?_
  refine a_iload 6 dX1_begins_61 rfl ?_
  refine a_iload 0 dX1_begins_63 rfl ?_
  refine t_is (f := 65) rfl hT (by decide) h.1 dX1_begins_65 ?_
  replace h := h.2
  refine a_topt (fun t_4 et_4 => ?_)
  replace h := h t_4 et_4
  refine a_aload_n 1 dX1_begins_66 rfl rfl ?_
  refine t_ga 66 hT (by decide) q1578 rfl dX1_begins_67 ?_
  refine a_iload 6 dX1_begins_70 rfl ?_
  refine a_iload 0 dX1_begins_72 rfl ?_
  refine a_if_lt (tgt := 81) dX1_begins_74 (by decide) (fun c_6 => ?_) (fun c_6 => ?_)
  · replace h := h.1 c_6
    refine a_iload 5 dX1_begins_81 rfl ?_
    refine a_if_lt (tgt := 91) dX1_begins_83 (by decide) (fun c_5 => ?_) (fun c_5 => ?_)
    · replace h := h.1 c_5
      refine a_aload_n 1 dX1_begins_91 rfl rfl ?_
      refine t_ga 52 hT (by decide) q1564 rfl dX1_begins_92 ?_
      refine a_iload_n 2 dX1_begins_95 rfl rfl ?_
      refine t_ia (f := 52) rfl hT (by decide) h.1 dX1_begins_96 ?_
      replace h := h.2
      exact wp_sub (by simp) (sd_begins_97 hP hT x1 x3 x5 s0 (t_4 52 x1.toNatClampNeg) x5 t_4 h)
    · replace h := h.2 c_5
      refine a_iload 5 dX1_begins_86 rfl ?_
      refine a_goto (tgt := 97) dX1_begins_88 (by decide) ?_
      exact wp_sub (by simp) (sd_begins_97 hP hT x1 x3 x5 s0 x4 x5 t_4 h)
  · replace h := h.2 c_6
    refine a_iconst (v := (-1)) dX1_begins_77 (by decide) ?_
    refine a_goto (tgt := 97) dX1_begins_78 (by decide) ?_
    exact wp_sub (by simp) (sd_begins_97 hP hT x1 x3 x5 s0 (-1) x5 t_4 h)
def w_begins (x1 x2 x3 x4 : Int32) (t : DB) (Q : DB → Prop) : Prop := ∀ x_1 : Int32, x_1 = t 61 0 → (∀ t_2 : DB, t_2 = up t 61 0 ((t 61 0) + 1) → (((x4 < 0) → (w_guardAt x1 x2 t_2 (fun r_4 t_3 => w_begins_31 x1 x2 x3 x4 x_1 r_4 t_3 Q))) ∧ ((¬ x4 < 0) → (w_begins_31 x1 x2 x3 x4 x_1 (-1) t_2 Q))))
set_option maxHeartbeats 4000000 in
theorem sd_begins {d : Nat} {M : Mem} {P : Option AV → Mem → Prop} {Q : DB → Prop} {x1 x2 x3 x4 : Int32} {t : DB} (hP : ∀ t, Q t → P none (tput M t)) (hT : TW M) (h : w_begins x1 x2 x3 x4 t Q) : ct (d + 4) mX1_begins [.inr (2, 0), .inl x1, .inl x2, .inl x3, .inl x4] (tput M t) P := by
  refine ct_of (by decide) (Nat.le_of_ble_eq_true rfl) ?_
  show wp (d + 4) mX1_begins 0 [(0, .inr (2, 0)), (1, .inl x1), (2, .inl x2), (3, .inl x3), (4, .inl x4)] [] (tput M t) P
  unfold w_begins at h
  refine a_aload_n 0 dX1_begins_0 rfl rfl ?_
  refine t_gi 61 (by decide) q1573 rfl dX1_begins_1 ?_
  refine a_topi (fun x_1 ex_1 => ?_)
  replace h := h x_1 ex_1
  refine a_istore (lv' := [(5, .inl x_1), (0, .inr (2, 0)), (1, .inl x1), (2, .inl x2), (3, .inl x3), (4, .inl x4)]) dX1_begins_4 (Nat.le_of_ble_eq_true rfl) rfl ?_
  refine a_aload_n 1 dX1_begins_6 rfl rfl ?_
  refine a_dup dX1_begins_7 ?_
  refine t_gi 61 (by decide) q1573 rfl dX1_begins_8 ?_
  refine a_iconst (v := 1) dX1_begins_11 (by decide) ?_
  refine a_iadd dX1_begins_12 ?_
  refine t_pi 61 (by decide) q1573 rfl rfl dX1_begins_13 ?_
  refine a_topt (fun t_2 et_2 => ?_)
  replace h := h t_2 et_2
  refine a_iload 5 dX1_begins_16 rfl ?_
  refine a_if_lt (tgt := 25) dX1_begins_18 (by decide) (fun c_5 => ?_) (fun c_5 => ?_)
  · replace h := h.1 c_5
    refine a_aload_n 1 dX1_begins_25 rfl rfl ?_
    refine a_iload_n 2 dX1_begins_26 rfl rfl ?_
    refine a_iload_n 3 dX1_begins_27 rfl rfl ?_
    refine a_cv (y := mX1_guardAt) (k := 2) (i := 0) (as := [.inl x1, .inl x2]) (st := []) (n := 2) (by decide) (Or.inl q1928) qs40 q1930 q73 q1931 zmh_guardAt rfl (Nat.le_of_ble_eq_true rfl) (Nat.le_of_ble_eq_true rfl) dX1_begins_28 (sd_guardAt (fun r_4 t_3 h => ?_) hT h)
    show wp (d + 4) mX1_begins 31 [(5, .inl x_1), (0, .inr (2, 0)), (1, .inl x1), (2, .inl x2), (3, .inl x3), (4, .inl x4)] [.inl r_4] (tput M t_3) P
    exact wp_sub (by simp) (sd_begins_31 hP hT x1 x2 x3 x4 x_1 r_4 t_3 h)
  · replace h := h.2 c_5
    refine a_iconst (v := (-1)) dX1_begins_21 (by decide) ?_
    refine a_goto (tgt := 31) dX1_begins_22 (by decide) ?_
    exact wp_sub (by simp) (sd_begins_31 hP hT x1 x2 x3 x4 x_1 (-1) t_2 h)
theorem zmh_begins : zmh yX1_begins 4 := ⟨⟨by decide +kernel, by decide +kernel⟩, by decide +kernel⟩
abbrev mX1_alike : zMt := (yX1_alike, cX1_alike, 3, none)
def w_alike (x1 x2 : Int32) (t : DB) (Q : DB → Prop) : Prop := vp_in x2 4400 ∧ (vp_in x2 4400 ∧ (vp_in x2 4400 ∧ ((((t 71 x2.toNatClampNeg) = 0) → (w_add 1 x1 (t 69 x2.toNatClampNeg) (t 70 x2.toNatClampNeg) 0 t (fun t_1 => Q t_1))) ∧ ((¬ (t 71 x2.toNatClampNeg) = 0) → (w_add 1 x1 (t 69 x2.toNatClampNeg) (t 70 x2.toNatClampNeg) 1 t (fun t_3 => Q t_3))))))
set_option maxHeartbeats 4000000 in
theorem sd_alike {d : Nat} {M : Mem} {P : Option AV → Mem → Prop} {Q : DB → Prop} {x1 x2 : Int32} {t : DB} (hP : ∀ t, Q t → P none (tput M t)) (hT : TW M) (h : w_alike x1 x2 t Q) : ct (d + 1) mX1_alike [.inr (2, 0), .inl x1, .inl x2] (tput M t) P := by
  refine ct_of (by decide) (Nat.le_of_ble_eq_true rfl) ?_
  show wp (d + 1) mX1_alike 0 [(0, .inr (2, 0)), (1, .inl x1), (2, .inl x2)] [] (tput M t) P
  unfold w_alike at h
  refine a_aload_n 0 dX1_alike_0 rfl rfl ?_
  refine a_iconst (v := 1) dX1_alike_1 (by decide) ?_
  refine a_iload_n 1 dX1_alike_2 rfl rfl ?_
  refine a_aload_n 0 dX1_alike_3 rfl rfl ?_
  refine t_ga 69 hT (by decide) q1581 rfl dX1_alike_4 ?_
  refine a_iload_n 2 dX1_alike_7 rfl rfl ?_
  refine t_ia (f := 69) rfl hT (by decide) h.1 dX1_alike_8 ?_
  replace h := h.2
  refine a_aload_n 0 dX1_alike_9 rfl rfl ?_
  refine t_ga 70 hT (by decide) q1582 rfl dX1_alike_10 ?_
  refine a_iload_n 2 dX1_alike_13 rfl rfl ?_
  refine t_ia (f := 70) rfl hT (by decide) h.1 dX1_alike_14 ?_
  replace h := h.2
  refine a_aload_n 0 dX1_alike_15 rfl rfl ?_
  refine t_ga 71 hT (by decide) q1583 rfl dX1_alike_16 ?_
  refine a_iload_n 2 dX1_alike_19 rfl rfl ?_
  refine t_za (f := 71) rfl hT (by decide) h.1 dX1_alike_20 ?_
  replace h := h.2
  refine a_if_eq (tgt := 28) dX1_alike_21 (by decide) (fun c_5 => ?_) (fun c_5 => ?_)
  · replace h := h.1 c_5
    refine a_iconst (v := 0) dX1_alike_28 (by decide) ?_
    refine a_cv (y := mX1_add) (k := 2) (i := 0) (as := [.inl 1, .inl x1, .inl (t 69 x2.toNatClampNeg), .inl (t 70 x2.toNatClampNeg), .inl 0]) (st := []) (n := 5) (by decide) (Or.inl q1916) qs37 q1918 q73 q1919 zmh_add rfl (Nat.le_of_ble_eq_true rfl) (Nat.le_of_ble_eq_true rfl) dX1_alike_29 (sd_add (fun t_1 h => ?_) hT h)
    show wp (d + 1) mX1_alike 32 [(0, .inr (2, 0)), (1, .inl x1), (2, .inl x2)] [] (tput M t_1) P
    exact a_vret rfl dX1_alike_32 (hP _ h)
  · replace h := h.2 c_5
    refine a_iconst (v := 1) dX1_alike_24 (by decide) ?_
    refine a_goto (tgt := 29) dX1_alike_25 (by decide) ?_
    refine a_cv (y := mX1_add) (k := 2) (i := 0) (as := [.inl 1, .inl x1, .inl (t 69 x2.toNatClampNeg), .inl (t 70 x2.toNatClampNeg), .inl 1]) (st := []) (n := 5) (by decide) (Or.inl q1916) qs37 q1918 q73 q1919 zmh_add rfl (Nat.le_of_ble_eq_true rfl) (Nat.le_of_ble_eq_true rfl) dX1_alike_29 (sd_add (fun t_3 h => ?_) hT h)
    show wp (d + 1) mX1_alike 32 [(0, .inr (2, 0)), (1, .inl x1), (2, .inl x2)] [] (tput M t_3) P
    exact a_vret rfl dX1_alike_32 (hP _ h)
theorem zmh_alike : zmh yX1_alike 2 := ⟨⟨by decide +kernel, by decide +kernel⟩, by decide +kernel⟩
abbrev mX1_fails : zMt := (yX1_fails, cX1_fails, 4, some .int)
def w_fails (x1 x2 x3 : Int32) (t : DB) (Q : Int32 → DB → Prop) : Prop := vp_in (t 23 0) 4400 ∧ (∀ t_1 : DB, t_1 = up t 24 (t 23 0).toNatClampNeg x1 → (vp_in (t_1 23 0) 4400 ∧ (∀ t_2 : DB, t_2 = up t_1 25 (t_1 23 0).toNatClampNeg (t_1 0 0) → (vp_in (t_2 23 0) 4400 ∧ (∀ t_3 : DB, t_3 = up t_2 26 (t_2 23 0).toNatClampNeg x2 → (vp_in (t_3 23 0) 4400 ∧ (∀ t_4 : DB, t_4 = up t_3 27 (t_3 23 0).toNatClampNeg x3 → (vp_in (t_4 23 0) 4400 ∧ (∀ t_5 : DB, t_5 = up t_4 28 (t_4 23 0).toNatClampNeg (-1) → (vp_in (t_5 23 0) 4400 ∧ (∀ t_6 : DB, t_6 = up t_5 29 (t_5 23 0).toNatClampNeg (-1) → (∀ t_7 : DB, t_7 = up t_6 23 0 ((t_6 23 0) + 1) → (Q ((t_7 23 0) - 1) t_7)))))))))))))
set_option maxHeartbeats 4000000 in
theorem sd_fails {d : Nat} {M : Mem} {P : Option AV → Mem → Prop} {Q : Int32 → DB → Prop} {x1 x2 x3 : Int32} {t : DB} (hP : ∀ r t, Q r t → P (some (.inl r)) (tput M t)) (hT : TW M) (h : w_fails x1 x2 x3 t Q) : ct d mX1_fails [.inr (2, 0), .inl x1, .inl x2, .inl x3] (tput M t) P := by
  refine ct_of (by decide) (Nat.le_of_ble_eq_true rfl) ?_
  show wp d mX1_fails 0 [(0, .inr (2, 0)), (1, .inl x1), (2, .inl x2), (3, .inl x3)] [] (tput M t) P
  unfold w_fails at h
  refine a_aload_n 0 dX1_fails_0 rfl rfl ?_
  refine t_ga 24 hT (by decide) q1536 rfl dX1_fails_1 ?_
  refine a_aload_n 0 dX1_fails_4 rfl rfl ?_
  refine t_gi 23 (by decide) q1535 rfl dX1_fails_5 ?_
  refine a_iload_n 1 dX1_fails_8 rfl rfl ?_
  refine t_is (f := 24) rfl hT (by decide) h.1 dX1_fails_9 ?_
  replace h := h.2
  refine a_topt (fun t_1 et_1 => ?_)
  replace h := h t_1 et_1
  refine a_aload_n 0 dX1_fails_10 rfl rfl ?_
  refine t_ga 25 hT (by decide) q1537 rfl dX1_fails_11 ?_
  refine a_aload_n 0 dX1_fails_14 rfl rfl ?_
  refine t_gi 23 (by decide) q1535 rfl dX1_fails_15 ?_
  refine a_aload_n 0 dX1_fails_18 rfl rfl ?_
  refine t_gi 0 (by decide) q1512 rfl dX1_fails_19 ?_
  refine t_is (f := 25) rfl hT (by decide) h.1 dX1_fails_22 ?_
  replace h := h.2
  refine a_topt (fun t_2 et_2 => ?_)
  replace h := h t_2 et_2
  refine a_aload_n 0 dX1_fails_23 rfl rfl ?_
  refine t_ga 26 hT (by decide) q1538 rfl dX1_fails_24 ?_
  refine a_aload_n 0 dX1_fails_27 rfl rfl ?_
  refine t_gi 23 (by decide) q1535 rfl dX1_fails_28 ?_
  refine a_iload_n 2 dX1_fails_31 rfl rfl ?_
  refine t_is (f := 26) rfl hT (by decide) h.1 dX1_fails_32 ?_
  replace h := h.2
  refine a_topt (fun t_3 et_3 => ?_)
  replace h := h t_3 et_3
  refine a_aload_n 0 dX1_fails_33 rfl rfl ?_
  refine t_ga 27 hT (by decide) q1539 rfl dX1_fails_34 ?_
  refine a_aload_n 0 dX1_fails_37 rfl rfl ?_
  refine t_gi 23 (by decide) q1535 rfl dX1_fails_38 ?_
  refine a_iload_n 3 dX1_fails_41 rfl rfl ?_
  refine t_is (f := 27) rfl hT (by decide) h.1 dX1_fails_42 ?_
  replace h := h.2
  refine a_topt (fun t_4 et_4 => ?_)
  replace h := h t_4 et_4
  refine a_aload_n 0 dX1_fails_43 rfl rfl ?_
  refine t_ga 28 hT (by decide) q1540 rfl dX1_fails_44 ?_
  refine a_aload_n 0 dX1_fails_47 rfl rfl ?_
  refine t_gi 23 (by decide) q1535 rfl dX1_fails_48 ?_
  refine a_iconst (v := (-1)) dX1_fails_51 (by decide) ?_
  refine t_is (f := 28) rfl hT (by decide) h.1 dX1_fails_52 ?_
  replace h := h.2
  refine a_topt (fun t_5 et_5 => ?_)
  replace h := h t_5 et_5
  refine a_aload_n 0 dX1_fails_53 rfl rfl ?_
  refine t_ga 29 hT (by decide) q1541 rfl dX1_fails_54 ?_
  refine a_aload_n 0 dX1_fails_57 rfl rfl ?_
  refine t_gi 23 (by decide) q1535 rfl dX1_fails_58 ?_
  refine a_iconst (v := (-1)) dX1_fails_61 (by decide) ?_
  refine t_is (f := 29) rfl hT (by decide) h.1 dX1_fails_62 ?_
  replace h := h.2
  refine a_topt (fun t_6 et_6 => ?_)
  replace h := h t_6 et_6
  refine a_aload_n 0 dX1_fails_63 rfl rfl ?_
  refine a_dup dX1_fails_64 ?_
  refine t_gi 23 (by decide) q1535 rfl dX1_fails_65 ?_
  refine a_iconst (v := 1) dX1_fails_68 (by decide) ?_
  refine a_iadd dX1_fails_69 ?_
  refine t_pi 23 (by decide) q1535 rfl rfl dX1_fails_70 ?_
  refine a_topt (fun t_7 et_7 => ?_)
  replace h := h t_7 et_7
  refine a_aload_n 0 dX1_fails_73 rfl rfl ?_
  refine t_gi 23 (by decide) q1535 rfl dX1_fails_74 ?_
  refine a_iconst (v := 1) dX1_fails_77 (by decide) ?_
  refine a_isub dX1_fails_78 ?_
  exact a_iret rfl dX1_fails_79 (hP _ _ h)
theorem zmh_fails : zmh yX1_fails 3 := ⟨⟨by decide +kernel, by decide +kernel⟩, by decide +kernel⟩
abbrev mX1_isNamed : zMt := (yX1_isNamed, cX1_isNamed, 3, some .boolean)
def w_isNamed (x1 x2 : Int32) (t : DB) (Q : Int32 → DB → Prop) : Prop := vp_in x1 4400 ∧ (((¬ (t 69 x1.toNatClampNeg) = 2) → (Q 0 t)) ∧ (((t 69 x1.toNatClampNeg) = 2) → (vp_in x1 4400 ∧ (vp_in (t 70 x1.toNatClampNeg) 4400 ∧ (vp_in x2 24 ∧ (w_isUnder (t 24 (t 70 x1.toNatClampNeg).toNatClampNeg) (t 35 x2.toNatClampNeg) t (fun r_2 t_1 => ((r_2 = 0) → (Q 0 t_1)) ∧ ((¬ r_2 = 0) → (Q 1 t_1)))))))))
set_option maxHeartbeats 4000000 in
theorem sd_isNamed {d : Nat} {M : Mem} {P : Option AV → Mem → Prop} {Q : Int32 → DB → Prop} {x1 x2 : Int32} {t : DB} (hP : ∀ r t, Q r t → P (some (.inl r)) (tput M t)) (hT : TW M) (h : w_isNamed x1 x2 t Q) : ct (d + 2) mX1_isNamed [.inr (2, 0), .inl x1, .inl x2] (tput M t) P := by
  refine ct_of (by decide) (Nat.le_of_ble_eq_true rfl) ?_
  show wp (d + 2) mX1_isNamed 0 [(0, .inr (2, 0)), (1, .inl x1), (2, .inl x2)] [] (tput M t) P
  unfold w_isNamed at h
  refine a_aload_n 0 dX1_isNamed_0 rfl rfl ?_
  refine t_ga 69 hT (by decide) q1581 rfl dX1_isNamed_1 ?_
  refine a_iload_n 1 dX1_isNamed_4 rfl rfl ?_
  refine t_ia (f := 69) rfl hT (by decide) h.1 dX1_isNamed_5 ?_
  replace h := h.2
  refine a_iconst (v := 2) dX1_isNamed_6 (by decide) ?_
  refine a_icmp_ne (tgt := 38) dX1_isNamed_7 (by decide) (fun c_4 => ?_) (fun c_4 => ?_)
  · replace h := h.1 c_4
    refine a_iconst (v := 0) dX1_isNamed_38 (by decide) ?_
    exact a_zret rfl (by decide) dX1_isNamed_39 (hP _ _ h)
  · replace h := h.2 c_4
    refine a_aload_n 0 dX1_isNamed_10 rfl rfl ?_
    refine a_aload_n 0 dX1_isNamed_11 rfl rfl ?_
    refine t_ga 24 hT (by decide) q1536 rfl dX1_isNamed_12 ?_
    refine a_aload_n 0 dX1_isNamed_15 rfl rfl ?_
    refine t_ga 70 hT (by decide) q1582 rfl dX1_isNamed_16 ?_
    refine a_iload_n 1 dX1_isNamed_19 rfl rfl ?_
    refine t_ia (f := 70) rfl hT (by decide) h.1 dX1_isNamed_20 ?_
    replace h := h.2
    refine t_ia (f := 24) rfl hT (by decide) h.1 dX1_isNamed_21 ?_
    replace h := h.2
    refine a_aload_n 0 dX1_isNamed_22 rfl rfl ?_
    refine t_ga 35 hT (by decide) q1547 rfl dX1_isNamed_23 ?_
    refine a_iload_n 2 dX1_isNamed_26 rfl rfl ?_
    refine t_ia (f := 35) rfl hT (by decide) h.1 dX1_isNamed_27 ?_
    replace h := h.2
    refine a_cv (y := mX1_isUnder) (k := 2) (i := 0) (as := [.inl (t 24 (t 70 x1.toNatClampNeg).toNatClampNeg), .inl (t 35 x2.toNatClampNeg)]) (st := []) (n := 2) (by decide) (Or.inl q1868) qs30 q1870 q73 q1871 zmh_isUnder rfl (Nat.le_of_ble_eq_true rfl) (Nat.le_of_ble_eq_true rfl) dX1_isNamed_28 (sd_isUnder (fun r_2 t_1 h => ?_) hT h)
    show wp (d + 2) mX1_isNamed 31 [(0, .inr (2, 0)), (1, .inl x1), (2, .inl x2)] [.inl r_2] (tput M t_1) P
    refine a_if_eq (tgt := 38) dX1_isNamed_31 (by decide) (fun c_3 => ?_) (fun c_3 => ?_)
    · replace h := h.1 c_3
      refine a_iconst (v := 0) dX1_isNamed_38 (by decide) ?_
      exact a_zret rfl (by decide) dX1_isNamed_39 (hP _ _ h)
    · replace h := h.2 c_3
      refine a_iconst (v := 1) dX1_isNamed_34 (by decide) ?_
      refine a_goto (tgt := 39) dX1_isNamed_35 (by decide) ?_
      exact a_zret rfl (by decide) dX1_isNamed_39 (hP _ _ h)
theorem zmh_isNamed : zmh yX1_isNamed 2 := ⟨⟨by decide +kernel, by decide +kernel⟩, by decide +kernel⟩
abbrev mX1_otherOf : zMt := (yX1_otherOf, cX1_otherOf, 5, some .int)
def w_otherOf_5 : Nat → Int32 → Int32 → Int32 → Int32 → DB → (Int32 → DB → Prop) → Prop
  | 0, _, _, _, _, _, _ => False
  | n + 1, x1, x2, x3, x4, t, Q => (((t 61 0) ≤ x4) → (Q x3 t)) ∧ ((¬ (t 61 0) ≤ x4) → (vp_in x4 4400 ∧ (((¬ (t 64 x4.toNatClampNeg) = x1) → (∀ x_1 : Int32, x_1 = x4 + 1 → (w_otherOf_5 n x1 x2 x3 x_1 t Q))) ∧ (((t 64 x4.toNatClampNeg) = x1) → (((x4 = x2) → (∀ x_2 : Int32, x_2 = x4 + 1 → (w_otherOf_5 n x1 x2 x3 x_2 t Q))) ∧ ((¬ x4 = x2) → (∀ x_3 : Int32, x_3 = x4 + 1 → (w_otherOf_5 n x1 x2 x4 x_3 t Q))))))))
set_option maxHeartbeats 4000000 in
theorem sd_otherOf_5 {d : Nat} {M : Mem} {P : Option AV → Mem → Prop} {Q : Int32 → DB → Prop} (hP : ∀ r t, Q r t → P (some (.inl r)) (tput M t)) (hT : TW M) : ∀ (n : Nat) (x1 x2 x3 x4 : Int32) (t : DB), w_otherOf_5 n x1 x2 x3 x4 t Q → wp d mX1_otherOf 5 [(0, .inr (2, 0)), (1, .inl x1), (2, .inl x2), (3, .inl x3), (4, .inl x4)] [] (tput M t) P := by
  intro n
  induction n with
  | zero => intro x1 x2 x3 x4 t h; exact False.elim h
  | succ n ih =>
    intro x1 x2 x3 x4 t h
    rw [w_otherOf_5] at h
    refine a_iload 4 dX1_otherOf_5 rfl ?_
    refine a_aload_n 0 dX1_otherOf_7 rfl rfl ?_
    refine t_gi 61 (by decide) q1573 rfl dX1_otherOf_8 ?_
    refine a_icmp_ge (tgt := 40) dX1_otherOf_11 (by decide) (fun c_6 => ?_) (fun c_6 => ?_)
    · replace h := h.1 c_6
      refine a_iload_n 3 dX1_otherOf_40 rfl rfl ?_
      exact a_iret rfl dX1_otherOf_41 (hP _ _ h)
    · replace h := h.2 c_6
      refine a_aload_n 0 dX1_otherOf_14 rfl rfl ?_
      refine t_ga 64 hT (by decide) q1576 rfl dX1_otherOf_15 ?_
      refine a_iload 4 dX1_otherOf_18 rfl ?_
      refine t_ia (f := 64) rfl hT (by decide) h.1 dX1_otherOf_20 ?_
      replace h := h.2
      refine a_iload_n 1 dX1_otherOf_21 rfl rfl ?_
      refine a_icmp_ne (tgt := 34) dX1_otherOf_22 (by decide) (fun c_5 => ?_) (fun c_5 => ?_)
      · replace h := h.1 c_5
        obtain ⟨x_1, ex_1⟩ : ∃ y : Int32, y = x4 + 1 := ⟨_, rfl⟩
        replace h := h x_1 ex_1
        refine a_iinc (v := x_1) (lv' := [(4, .inl x_1), (0, .inr (2, 0)), (1, .inl x1), (2, .inl x2), (3, .inl x3)]) 4 dX1_otherOf_34 rfl (by rw [ex_1]; rfl) (Nat.le_of_ble_eq_true rfl) rfl ?_
        refine a_goto (tgt := 5) dX1_otherOf_37 (by decide) ?_
        exact wp_sub (by simp) (ih x1 x2 x3 x_1 t h)
      · replace h := h.2 c_5
        refine a_iload 4 dX1_otherOf_25 rfl ?_
        refine a_iload_n 2 dX1_otherOf_27 rfl rfl ?_
        refine a_icmp_eq (tgt := 34) dX1_otherOf_28 (by decide) (fun c_4 => ?_) (fun c_4 => ?_)
        · replace h := h.1 c_4
          obtain ⟨x_2, ex_2⟩ : ∃ y : Int32, y = x4 + 1 := ⟨_, rfl⟩
          replace h := h x_2 ex_2
          refine a_iinc (v := x_2) (lv' := [(4, .inl x_2), (0, .inr (2, 0)), (1, .inl x1), (2, .inl x2), (3, .inl x3)]) 4 dX1_otherOf_34 rfl (by rw [ex_2]; rfl) (Nat.le_of_ble_eq_true rfl) rfl ?_
          refine a_goto (tgt := 5) dX1_otherOf_37 (by decide) ?_
          exact wp_sub (by simp) (ih x1 x2 x3 x_2 t h)
        · replace h := h.2 c_4
          refine a_iload 4 dX1_otherOf_31 rfl ?_
          refine a_istore_n (lv' := [(3, .inl x4), (0, .inr (2, 0)), (1, .inl x1), (2, .inl x2), (4, .inl x4)]) dX1_otherOf_33 rfl (Nat.le_of_ble_eq_true rfl) rfl ?_
          obtain ⟨x_3, ex_3⟩ : ∃ y : Int32, y = x4 + 1 := ⟨_, rfl⟩
          replace h := h x_3 ex_3
          refine a_iinc (v := x_3) (lv' := [(4, .inl x_3), (3, .inl x4), (0, .inr (2, 0)), (1, .inl x1), (2, .inl x2)]) 4 dX1_otherOf_34 rfl (by rw [ex_3]; rfl) (Nat.le_of_ble_eq_true rfl) rfl ?_
          refine a_goto (tgt := 5) dX1_otherOf_37 (by decide) ?_
          exact wp_sub (by simp) (ih x1 x2 x4 x_3 t h)
def w_otherOf (x1 x2 : Int32) (t : DB) (Q : Int32 → DB → Prop) : Prop := ∃ n_, w_otherOf_5 n_ x1 x2 (-1) 0 t Q
set_option maxHeartbeats 4000000 in
theorem sd_otherOf {d : Nat} {M : Mem} {P : Option AV → Mem → Prop} {Q : Int32 → DB → Prop} {x1 x2 : Int32} {t : DB} (hP : ∀ r t, Q r t → P (some (.inl r)) (tput M t)) (hT : TW M) (h : w_otherOf x1 x2 t Q) : ct d mX1_otherOf [.inr (2, 0), .inl x1, .inl x2] (tput M t) P := by
  refine ct_of (by decide) (Nat.le_of_ble_eq_true rfl) ?_
  show wp d mX1_otherOf 0 [(0, .inr (2, 0)), (1, .inl x1), (2, .inl x2)] [] (tput M t) P
  unfold w_otherOf at h
  refine a_iconst (v := (-1)) dX1_otherOf_0 (by decide) ?_
  refine a_istore_n (lv' := [(3, .inl (-1)), (0, .inr (2, 0)), (1, .inl x1), (2, .inl x2)]) dX1_otherOf_1 rfl (Nat.le_of_ble_eq_true rfl) rfl ?_
  refine a_iconst (v := 0) dX1_otherOf_2 (by decide) ?_
  refine a_istore (lv' := [(4, .inl 0), (3, .inl (-1)), (0, .inr (2, 0)), (1, .inl x1), (2, .inl x2)]) dX1_otherOf_3 (Nat.le_of_ble_eq_true rfl) rfl ?_
  obtain ⟨n_, h⟩ := h
  exact wp_sub (by simp) (sd_otherOf_5 hP hT n_ x1 x2 (-1) 0 t h)
theorem zmh_otherOf : zmh yX1_otherOf 2 := ⟨⟨by decide +kernel, by decide +kernel⟩, by decide +kernel⟩
