set_option maxRecDepth 100000
abbrev mX1_station : zMt := (yX1_station, cX1_station, 4, some .int)
def w_station (x1 x2 x3 : Int32) (t : DB) (Q : Int32 → DB → Prop) : Prop := ((x2 < 0) → (Q (-2) t)) ∧ ((¬ x2 < 0) → (((1000000 < x2) → (Q (-2) t)) ∧ ((¬ 1000000 < x2) → (((x1 < 0) → (Q (-2) t)) ∧ ((¬ x1 < 0) → (((x2 < x1) → (Q (-2) t)) ∧ ((¬ x2 < x1) → (((x3 < 1) → (Q (-2) t)) ∧ ((¬ x3 < 1) → (((x3 ≤ 100) → (((¬ (t 1 0) = 8) → (vp_in (t 1 0) 8 ∧ (∀ t_1 : DB, t_1 = up t 2 (t 1 0).toNatClampNeg x1 → (vp_in (t_1 1 0) 8 ∧ (∀ t_2 : DB, t_2 = up t_1 3 (t_1 1 0).toNatClampNeg x2 → (vp_in (t_2 1 0) 8 ∧ (∀ t_3 : DB, t_3 = up t_2 4 (t_2 1 0).toNatClampNeg x3 → (∀ t_4 : DB, t_4 = up t_3 1 0 ((t_3 1 0) + 1) → (Q ((t_4 1 0) - 1) t_4))))))))) ∧ (((t 1 0) = 8) → (Q (-3) t)))) ∧ ((¬ x3 ≤ 100) → (Q (-2) t))))))))))))
set_option maxHeartbeats 4000000 in
theorem sd_station {d : Nat} {M : Mem} {P : Option AV → Mem → Prop} {Q : Int32 → DB → Prop} {x1 x2 x3 : Int32} {t : DB} (hP : ∀ r t, Q r t → P (some (.inl r)) (tput M t)) (hT : TW M) (h : w_station x1 x2 x3 t Q) : ct d mX1_station [.inr (2, 0), .inl x1, .inl x2, .inl x3] (tput M t) P := by
  refine ct_of (by decide) (Nat.le_of_ble_eq_true rfl) ?_
  show wp d mX1_station 0 [(0, .inr (2, 0)), (1, .inl x1), (2, .inl x2), (3, .inl x3)] [] (tput M t) P
  unfold w_station at h
  refine a_iload_n 2 dX1_station_0 rfl rfl ?_
  refine a_if_lt (tgt := 31) dX1_station_1 (by decide) (fun c_11 => ?_) (fun c_11 => ?_)
  · replace h := h.1 c_11
    refine a_bipush (v := (-2)) dX1_station_31 (by decide) ?_
    exact a_iret rfl dX1_station_33 (hP _ _ h)
  · replace h := h.2 c_11
    refine a_iload_n 2 dX1_station_4 rfl rfl ?_
    refine a_ldcw (v := 1000000) dX1_station_5 q1847 ?_
    refine a_icmp_gt (tgt := 31) dX1_station_8 (by decide) (fun c_10 => ?_) (fun c_10 => ?_)
    · replace h := h.1 c_10
      refine a_bipush (v := (-2)) dX1_station_31 (by decide) ?_
      exact a_iret rfl dX1_station_33 (hP _ _ h)
    · replace h := h.2 c_10
      refine a_iload_n 1 dX1_station_11 rfl rfl ?_
      refine a_if_lt (tgt := 31) dX1_station_12 (by decide) (fun c_9 => ?_) (fun c_9 => ?_)
      · replace h := h.1 c_9
        refine a_bipush (v := (-2)) dX1_station_31 (by decide) ?_
        exact a_iret rfl dX1_station_33 (hP _ _ h)
      · replace h := h.2 c_9
        refine a_iload_n 1 dX1_station_15 rfl rfl ?_
        refine a_iload_n 2 dX1_station_16 rfl rfl ?_
        refine a_icmp_gt (tgt := 31) dX1_station_17 (by decide) (fun c_8 => ?_) (fun c_8 => ?_)
        · replace h := h.1 c_8
          refine a_bipush (v := (-2)) dX1_station_31 (by decide) ?_
          exact a_iret rfl dX1_station_33 (hP _ _ h)
        · replace h := h.2 c_8
          refine a_iload_n 3 dX1_station_20 rfl rfl ?_
          refine a_iconst (v := 1) dX1_station_21 (by decide) ?_
          refine a_icmp_lt (tgt := 31) dX1_station_22 (by decide) (fun c_7 => ?_) (fun c_7 => ?_)
          · replace h := h.1 c_7
            refine a_bipush (v := (-2)) dX1_station_31 (by decide) ?_
            exact a_iret rfl dX1_station_33 (hP _ _ h)
          · replace h := h.2 c_7
            refine a_iload_n 3 dX1_station_25 rfl rfl ?_
            refine a_bipush (v := 100) dX1_station_26 (by decide) ?_
            refine a_icmp_le (tgt := 34) dX1_station_28 (by decide) (fun c_6 => ?_) (fun c_6 => ?_)
            · replace h := h.1 c_6
              refine a_aload_n 0 dX1_station_34 rfl rfl ?_
              refine t_gi 1 (by decide) q1513 rfl dX1_station_35 ?_
              refine a_bipush (v := 8) dX1_station_38 (by decide) ?_
              refine a_icmp_ne (tgt := 46) dX1_station_40 (by decide) (fun c_5 => ?_) (fun c_5 => ?_)
              · replace h := h.1 c_5
                refine a_aload_n 0 dX1_station_46 rfl rfl ?_
                refine t_ga 2 hT (by decide) q1514 rfl dX1_station_47 ?_
                refine a_aload_n 0 dX1_station_50 rfl rfl ?_
                refine t_gi 1 (by decide) q1513 rfl dX1_station_51 ?_
                refine a_iload_n 1 dX1_station_54 rfl rfl ?_
                refine t_is (f := 2) rfl hT (by decide) h.1 dX1_station_55 ?_
                replace h := h.2
                refine a_topt (fun t_1 et_1 => ?_)
                replace h := h t_1 et_1
                refine a_aload_n 0 dX1_station_56 rfl rfl ?_
                refine t_ga 3 hT (by decide) q1515 rfl dX1_station_57 ?_
                refine a_aload_n 0 dX1_station_60 rfl rfl ?_
                refine t_gi 1 (by decide) q1513 rfl dX1_station_61 ?_
                refine a_iload_n 2 dX1_station_64 rfl rfl ?_
                refine t_is (f := 3) rfl hT (by decide) h.1 dX1_station_65 ?_
                replace h := h.2
                refine a_topt (fun t_2 et_2 => ?_)
                replace h := h t_2 et_2
                refine a_aload_n 0 dX1_station_66 rfl rfl ?_
                refine t_ga 4 hT (by decide) q1516 rfl dX1_station_67 ?_
                refine a_aload_n 0 dX1_station_70 rfl rfl ?_
                refine t_gi 1 (by decide) q1513 rfl dX1_station_71 ?_
                refine a_iload_n 3 dX1_station_74 rfl rfl ?_
                refine t_is (f := 4) rfl hT (by decide) h.1 dX1_station_75 ?_
                replace h := h.2
                refine a_topt (fun t_3 et_3 => ?_)
                replace h := h t_3 et_3
                refine a_aload_n 0 dX1_station_76 rfl rfl ?_
                refine a_dup dX1_station_77 ?_
                refine t_gi 1 (by decide) q1513 rfl dX1_station_78 ?_
                refine a_iconst (v := 1) dX1_station_81 (by decide) ?_
                refine a_iadd dX1_station_82 ?_
                refine t_pi 1 (by decide) q1513 rfl rfl dX1_station_83 ?_
                refine a_topt (fun t_4 et_4 => ?_)
                replace h := h t_4 et_4
                refine a_aload_n 0 dX1_station_86 rfl rfl ?_
                refine t_gi 1 (by decide) q1513 rfl dX1_station_87 ?_
                refine a_iconst (v := 1) dX1_station_90 (by decide) ?_
                refine a_isub dX1_station_91 ?_
                exact a_iret rfl dX1_station_92 (hP _ _ h)
              · replace h := h.2 c_5
                refine a_bipush (v := (-3)) dX1_station_43 (by decide) ?_
                exact a_iret rfl dX1_station_45 (hP _ _ h)
            · replace h := h.2 c_6
              refine a_bipush (v := (-2)) dX1_station_31 (by decide) ?_
              exact a_iret rfl dX1_station_33 (hP _ _ h)
theorem zmh_station : zmh yX1_station 3 := ⟨⟨by decide +kernel, by decide +kernel⟩, by decide +kernel⟩
abbrev mX1_isAct : zMt := (yX1_isAct, cX1_isAct, 2, some .boolean)
def w_isAct (x1 : Int32) (t : DB) (Q : Int32 → DB → Prop) : Prop := ((x1 < 0) → (Q 0 t)) ∧ ((¬ x1 < 0) → (((2 < x1) → (Q 0 t)) ∧ ((¬ 2 < x1) → (Q 1 t))))
set_option maxHeartbeats 4000000 in
theorem sd_isAct {d : Nat} {M : Mem} {P : Option AV → Mem → Prop} {Q : Int32 → DB → Prop} {x1 : Int32} {t : DB} (hP : ∀ r t, Q r t → P (some (.inl r)) (tput M t)) (hT : TW M) (h : w_isAct x1 t Q) : ct d mX1_isAct [.inr (2, 0), .inl x1] (tput M t) P := by
  refine ct_of (by decide) (Nat.le_of_ble_eq_true rfl) ?_
  show wp d mX1_isAct 0 [(0, .inr (2, 0)), (1, .inl x1)] [] (tput M t) P
  unfold w_isAct at h
  refine a_iload_n 1 dX1_isAct_0 rfl rfl ?_
  refine a_if_lt (tgt := 13) dX1_isAct_1 (by decide) (fun c_2 => ?_) (fun c_2 => ?_)
  · replace h := h.1 c_2
    refine a_iconst (v := 0) dX1_isAct_13 (by decide) ?_
    exact a_zret rfl (by decide) dX1_isAct_14 (hP _ _ h)
  · replace h := h.2 c_2
    refine a_iload_n 1 dX1_isAct_4 rfl rfl ?_
    refine a_iconst (v := 2) dX1_isAct_5 (by decide) ?_
    refine a_icmp_gt (tgt := 13) dX1_isAct_6 (by decide) (fun c_1 => ?_) (fun c_1 => ?_)
    · replace h := h.1 c_1
      refine a_iconst (v := 0) dX1_isAct_13 (by decide) ?_
      exact a_zret rfl (by decide) dX1_isAct_14 (hP _ _ h)
    · replace h := h.2 c_1
      refine a_iconst (v := 1) dX1_isAct_9 (by decide) ?_
      refine a_goto (tgt := 14) dX1_isAct_10 (by decide) ?_
      exact a_zret rfl (by decide) dX1_isAct_14 (hP _ _ h)
theorem zmh_isAct : zmh yX1_isAct 1 := ⟨⟨by decide +kernel, by decide +kernel⟩, by decide +kernel⟩
abbrev mX1_isStation : zMt := (yX1_isStation, cX1_isStation, 2, some .boolean)
def w_isStation (x1 : Int32) (t : DB) (Q : Int32 → DB → Prop) : Prop := ((x1 < 0) → (Q 0 t)) ∧ ((¬ x1 < 0) → ((((t 1 0) ≤ x1) → (Q 0 t)) ∧ ((¬ (t 1 0) ≤ x1) → (Q 1 t))))
set_option maxHeartbeats 4000000 in
theorem sd_isStation {d : Nat} {M : Mem} {P : Option AV → Mem → Prop} {Q : Int32 → DB → Prop} {x1 : Int32} {t : DB} (hP : ∀ r t, Q r t → P (some (.inl r)) (tput M t)) (hT : TW M) (h : w_isStation x1 t Q) : ct d mX1_isStation [.inr (2, 0), .inl x1] (tput M t) P := by
  refine ct_of (by decide) (Nat.le_of_ble_eq_true rfl) ?_
  show wp d mX1_isStation 0 [(0, .inr (2, 0)), (1, .inl x1)] [] (tput M t) P
  unfold w_isStation at h
  refine a_iload_n 1 dX1_isStation_0 rfl rfl ?_
  refine a_if_lt (tgt := 16) dX1_isStation_1 (by decide) (fun c_2 => ?_) (fun c_2 => ?_)
  · replace h := h.1 c_2
    refine a_iconst (v := 0) dX1_isStation_16 (by decide) ?_
    exact a_zret rfl (by decide) dX1_isStation_17 (hP _ _ h)
  · replace h := h.2 c_2
    refine a_iload_n 1 dX1_isStation_4 rfl rfl ?_
    refine a_aload_n 0 dX1_isStation_5 rfl rfl ?_
    refine t_gi 1 (by decide) q1513 rfl dX1_isStation_6 ?_
    refine a_icmp_ge (tgt := 16) dX1_isStation_9 (by decide) (fun c_1 => ?_) (fun c_1 => ?_)
    · replace h := h.1 c_1
      refine a_iconst (v := 0) dX1_isStation_16 (by decide) ?_
      exact a_zret rfl (by decide) dX1_isStation_17 (hP _ _ h)
    · replace h := h.2 c_1
      refine a_iconst (v := 1) dX1_isStation_12 (by decide) ?_
      refine a_goto (tgt := 17) dX1_isStation_13 (by decide) ?_
      exact a_zret rfl (by decide) dX1_isStation_17 (hP _ _ h)
theorem zmh_isStation : zmh yX1_isStation 1 := ⟨⟨by decide +kernel, by decide +kernel⟩, by decide +kernel⟩
abbrev mX1_fault : zMt := (yX1_fault, cX1_fault, 6, some .int)
def w_fault (x1 x2 x3 x4 x5 : Int32) (t : DB) (Q : Int32 → DB → Prop) : Prop := w_isStation x1 t (fun r_2 t_1 => ((¬ r_2 = 0) → (w_isAct x2 t_1 (fun r_4 t_3 => ((r_4 = 0) → (Q (-2) t_3)) ∧ ((¬ r_4 = 0) → (((x3 < 0) → (Q (-2) t_3)) ∧ ((¬ x3 < 0) → (((x4 < x3) → (Q (-2) t_3)) ∧ ((¬ x4 < x3) → (((x5 < 1) → (Q (-2) t_3)) ∧ ((¬ x5 < 1) → (((x5 ≤ 7) → (((¬ (t_3 5 0) = 30) → (vp_in (t_3 5 0) 30 ∧ (∀ t_5 : DB, t_5 = up t_3 6 (t_3 5 0).toNatClampNeg x1 → (vp_in (t_5 5 0) 30 ∧ (∀ t_6 : DB, t_6 = up t_5 7 (t_5 5 0).toNatClampNeg x2 → (vp_in (t_6 5 0) 30 ∧ (∀ t_7 : DB, t_7 = up t_6 8 (t_6 5 0).toNatClampNeg x3 → (vp_in (t_7 5 0) 30 ∧ (∀ t_8 : DB, t_8 = up t_7 9 (t_7 5 0).toNatClampNeg x4 → (vp_in (t_8 5 0) 30 ∧ (∀ t_9 : DB, t_9 = up t_8 10 (t_8 5 0).toNatClampNeg x5 → (∀ t_10 : DB, t_10 = up t_9 5 0 ((t_9 5 0) + 1) → (Q (t_10 5 0) t_10))))))))))))) ∧ (((t_3 5 0) = 30) → (Q (-3) t_3)))) ∧ ((¬ x5 ≤ 7) → (Q (-2) t_3))))))))))))) ∧ ((r_2 = 0) → (Q (-1) t_1)))
set_option maxHeartbeats 4000000 in
theorem sd_fault {d : Nat} {M : Mem} {P : Option AV → Mem → Prop} {Q : Int32 → DB → Prop} {x1 x2 x3 x4 x5 : Int32} {t : DB} (hP : ∀ r t, Q r t → P (some (.inl r)) (tput M t)) (hT : TW M) (h : w_fault x1 x2 x3 x4 x5 t Q) : ct (d + 1) mX1_fault [.inr (2, 0), .inl x1, .inl x2, .inl x3, .inl x4, .inl x5] (tput M t) P := by
  refine ct_of (by decide) (Nat.le_of_ble_eq_true rfl) ?_
  show wp (d + 1) mX1_fault 0 [(0, .inr (2, 0)), (1, .inl x1), (2, .inl x2), (3, .inl x3), (4, .inl x4), (5, .inl x5)] [] (tput M t) P
  unfold w_fault at h
  refine a_aload_n 0 dX1_fault_0 rfl rfl ?_
  refine a_iload_n 1 dX1_fault_1 rfl rfl ?_
  refine a_cv (y := mX1_isStation) (k := 2) (i := 0) (as := [.inl x1]) (st := []) (n := 1) (by decide) (Or.inl q1852) qs28 q1854 q73 q1855 zmh_isStation rfl (Nat.le_of_ble_eq_true rfl) (Nat.le_of_ble_eq_true rfl) dX1_fault_2 (sd_isStation (fun r_2 t_1 h => ?_) hT h)
  show wp (d + 1) mX1_fault 5 [(0, .inr (2, 0)), (1, .inl x1), (2, .inl x2), (3, .inl x3), (4, .inl x4), (5, .inl x5)] [.inl r_2] (tput M t_1) P
  refine a_if_ne (tgt := 10) dX1_fault_5 (by decide) (fun c_17 => ?_) (fun c_17 => ?_)
  · replace h := h.1 c_17
    refine a_aload_n 0 dX1_fault_10 rfl rfl ?_
    refine a_iload_n 2 dX1_fault_11 rfl rfl ?_
    refine a_cv (y := mX1_isAct) (k := 2) (i := 0) (as := [.inl x2]) (st := []) (n := 1) (by decide) (Or.inl q1856) qs29 q1858 q73 q1859 zmh_isAct rfl (Nat.le_of_ble_eq_true rfl) (Nat.le_of_ble_eq_true rfl) dX1_fault_12 (sd_isAct (fun r_4 t_3 h => ?_) hT h)
    show wp (d + 1) mX1_fault 15 [(0, .inr (2, 0)), (1, .inl x1), (2, .inl x2), (3, .inl x3), (4, .inl x4), (5, .inl x5)] [.inl r_4] (tput M t_3) P
    refine a_if_eq (tgt := 41) dX1_fault_15 (by decide) (fun c_16 => ?_) (fun c_16 => ?_)
    · replace h := h.1 c_16
      refine a_bipush (v := (-2)) dX1_fault_41 (by decide) ?_
      exact a_iret rfl dX1_fault_43 (hP _ _ h)
    · replace h := h.2 c_16
      refine a_iload_n 3 dX1_fault_18 rfl rfl ?_
      refine a_if_lt (tgt := 41) dX1_fault_19 (by decide) (fun c_15 => ?_) (fun c_15 => ?_)
      · replace h := h.1 c_15
        refine a_bipush (v := (-2)) dX1_fault_41 (by decide) ?_
        exact a_iret rfl dX1_fault_43 (hP _ _ h)
      · replace h := h.2 c_15
        refine a_iload 4 dX1_fault_22 rfl ?_
        refine a_iload_n 3 dX1_fault_24 rfl rfl ?_
        refine a_icmp_lt (tgt := 41) dX1_fault_25 (by decide) (fun c_14 => ?_) (fun c_14 => ?_)
        · replace h := h.1 c_14
          refine a_bipush (v := (-2)) dX1_fault_41 (by decide) ?_
          exact a_iret rfl dX1_fault_43 (hP _ _ h)
        · replace h := h.2 c_14
          refine a_iload 5 dX1_fault_28 rfl ?_
          refine a_iconst (v := 1) dX1_fault_30 (by decide) ?_
          refine a_icmp_lt (tgt := 41) dX1_fault_31 (by decide) (fun c_13 => ?_) (fun c_13 => ?_)
          · replace h := h.1 c_13
            refine a_bipush (v := (-2)) dX1_fault_41 (by decide) ?_
            exact a_iret rfl dX1_fault_43 (hP _ _ h)
          · replace h := h.2 c_13
            refine a_iload 5 dX1_fault_34 rfl ?_
            refine a_bipush (v := 7) dX1_fault_36 (by decide) ?_
            refine a_icmp_le (tgt := 44) dX1_fault_38 (by decide) (fun c_12 => ?_) (fun c_12 => ?_)
            · replace h := h.1 c_12
              refine a_aload_n 0 dX1_fault_44 rfl rfl ?_
              refine t_gi 5 (by decide) q1517 rfl dX1_fault_45 ?_
              refine a_bipush (v := 30) dX1_fault_48 (by decide) ?_
              refine a_icmp_ne (tgt := 56) dX1_fault_50 (by decide) (fun c_11 => ?_) (fun c_11 => ?_)
              · replace h := h.1 c_11
                refine a_aload_n 0 dX1_fault_56 rfl rfl ?_
                refine t_ga 6 hT (by decide) q1518 rfl dX1_fault_57 ?_
                refine a_aload_n 0 dX1_fault_60 rfl rfl ?_
                refine t_gi 5 (by decide) q1517 rfl dX1_fault_61 ?_
                refine a_iload_n 1 dX1_fault_64 rfl rfl ?_
                refine t_is (f := 6) rfl hT (by decide) h.1 dX1_fault_65 ?_
                replace h := h.2
                refine a_topt (fun t_5 et_5 => ?_)
                replace h := h t_5 et_5
                refine a_aload_n 0 dX1_fault_66 rfl rfl ?_
                refine t_ga 7 hT (by decide) q1519 rfl dX1_fault_67 ?_
                refine a_aload_n 0 dX1_fault_70 rfl rfl ?_
                refine t_gi 5 (by decide) q1517 rfl dX1_fault_71 ?_
                refine a_iload_n 2 dX1_fault_74 rfl rfl ?_
                refine t_is (f := 7) rfl hT (by decide) h.1 dX1_fault_75 ?_
                replace h := h.2
                refine a_topt (fun t_6 et_6 => ?_)
                replace h := h t_6 et_6
                refine a_aload_n 0 dX1_fault_76 rfl rfl ?_
                refine t_ga 8 hT (by decide) q1520 rfl dX1_fault_77 ?_
                refine a_aload_n 0 dX1_fault_80 rfl rfl ?_
                refine t_gi 5 (by decide) q1517 rfl dX1_fault_81 ?_
                refine a_iload_n 3 dX1_fault_84 rfl rfl ?_
                refine t_is (f := 8) rfl hT (by decide) h.1 dX1_fault_85 ?_
                replace h := h.2
                refine a_topt (fun t_7 et_7 => ?_)
                replace h := h t_7 et_7
                refine a_aload_n 0 dX1_fault_86 rfl rfl ?_
                refine t_ga 9 hT (by decide) q1521 rfl dX1_fault_87 ?_
                refine a_aload_n 0 dX1_fault_90 rfl rfl ?_
                refine t_gi 5 (by decide) q1517 rfl dX1_fault_91 ?_
                refine a_iload 4 dX1_fault_94 rfl ?_
                refine t_is (f := 9) rfl hT (by decide) h.1 dX1_fault_96 ?_
                replace h := h.2
                refine a_topt (fun t_8 et_8 => ?_)
                replace h := h t_8 et_8
                refine a_aload_n 0 dX1_fault_97 rfl rfl ?_
                refine t_ga 10 hT (by decide) q1522 rfl dX1_fault_98 ?_
                refine a_aload_n 0 dX1_fault_101 rfl rfl ?_
                refine t_gi 5 (by decide) q1517 rfl dX1_fault_102 ?_
                refine a_iload 5 dX1_fault_105 rfl ?_
                refine t_is (f := 10) rfl hT (by decide) h.1 dX1_fault_107 ?_
                replace h := h.2
                refine a_topt (fun t_9 et_9 => ?_)
                replace h := h t_9 et_9
                refine a_aload_n 0 dX1_fault_108 rfl rfl ?_
                refine a_dup dX1_fault_109 ?_
                refine t_gi 5 (by decide) q1517 rfl dX1_fault_110 ?_
                refine a_iconst (v := 1) dX1_fault_113 (by decide) ?_
                refine a_iadd dX1_fault_114 ?_
                refine t_pi 5 (by decide) q1517 rfl rfl dX1_fault_115 ?_
                refine a_topt (fun t_10 et_10 => ?_)
                replace h := h t_10 et_10
                refine a_aload_n 0 dX1_fault_118 rfl rfl ?_
                refine t_gi 5 (by decide) q1517 rfl dX1_fault_119 ?_
                exact a_iret rfl dX1_fault_122 (hP _ _ h)
              · replace h := h.2 c_11
                refine a_bipush (v := (-3)) dX1_fault_53 (by decide) ?_
                exact a_iret rfl dX1_fault_55 (hP _ _ h)
            · replace h := h.2 c_12
              refine a_bipush (v := (-2)) dX1_fault_41 (by decide) ?_
              exact a_iret rfl dX1_fault_43 (hP _ _ h)
  · replace h := h.2 c_17
    refine a_iconst (v := (-1)) dX1_fault_8 (by decide) ?_
    exact a_iret rfl dX1_fault_9 (hP _ _ h)
theorem zmh_fault : zmh yX1_fault 5 := ⟨⟨by decide +kernel, by decide +kernel⟩, by decide +kernel⟩
abbrev mX1_slow : zMt := (yX1_slow, cX1_slow, 6, some .int)
def w_slow (x1 x2 x3 x4 x5 : Int32) (t : DB) (Q : Int32 → DB → Prop) : Prop := w_isStation x1 t (fun r_2 t_1 => ((¬ r_2 = 0) → (w_isAct x2 t_1 (fun r_4 t_3 => ((r_4 = 0) → (Q (-2) t_3)) ∧ ((¬ r_4 = 0) → (((x3 < 0) → (Q (-2) t_3)) ∧ ((¬ x3 < 0) → (((x4 < x3) → (Q (-2) t_3)) ∧ ((¬ x4 < x3) → (((x5 < 1) → (Q (-2) t_3)) ∧ ((¬ x5 < 1) → (((x5 ≤ 1000) → (((¬ (t_3 11 0) = 30) → (vp_in (t_3 11 0) 30 ∧ (∀ t_5 : DB, t_5 = up t_3 12 (t_3 11 0).toNatClampNeg x1 → (vp_in (t_5 11 0) 30 ∧ (∀ t_6 : DB, t_6 = up t_5 13 (t_5 11 0).toNatClampNeg x2 → (vp_in (t_6 11 0) 30 ∧ (∀ t_7 : DB, t_7 = up t_6 14 (t_6 11 0).toNatClampNeg x3 → (vp_in (t_7 11 0) 30 ∧ (∀ t_8 : DB, t_8 = up t_7 15 (t_7 11 0).toNatClampNeg x4 → (vp_in (t_8 11 0) 30 ∧ (∀ t_9 : DB, t_9 = up t_8 16 (t_8 11 0).toNatClampNeg x5 → (∀ t_10 : DB, t_10 = up t_9 11 0 ((t_9 11 0) + 1) → (Q (t_10 11 0) t_10))))))))))))) ∧ (((t_3 11 0) = 30) → (Q (-3) t_3)))) ∧ ((¬ x5 ≤ 1000) → (Q (-2) t_3))))))))))))) ∧ ((r_2 = 0) → (Q (-1) t_1)))
set_option maxHeartbeats 4000000 in
theorem sd_slow {d : Nat} {M : Mem} {P : Option AV → Mem → Prop} {Q : Int32 → DB → Prop} {x1 x2 x3 x4 x5 : Int32} {t : DB} (hP : ∀ r t, Q r t → P (some (.inl r)) (tput M t)) (hT : TW M) (h : w_slow x1 x2 x3 x4 x5 t Q) : ct (d + 1) mX1_slow [.inr (2, 0), .inl x1, .inl x2, .inl x3, .inl x4, .inl x5] (tput M t) P := by
  refine ct_of (by decide) (Nat.le_of_ble_eq_true rfl) ?_
  show wp (d + 1) mX1_slow 0 [(0, .inr (2, 0)), (1, .inl x1), (2, .inl x2), (3, .inl x3), (4, .inl x4), (5, .inl x5)] [] (tput M t) P
  unfold w_slow at h
  refine a_aload_n 0 dX1_slow_0 rfl rfl ?_
  refine a_iload_n 1 dX1_slow_1 rfl rfl ?_
  refine a_cv (y := mX1_isStation) (k := 2) (i := 0) (as := [.inl x1]) (st := []) (n := 1) (by decide) (Or.inl q1852) qs28 q1854 q73 q1855 zmh_isStation rfl (Nat.le_of_ble_eq_true rfl) (Nat.le_of_ble_eq_true rfl) dX1_slow_2 (sd_isStation (fun r_2 t_1 h => ?_) hT h)
  show wp (d + 1) mX1_slow 5 [(0, .inr (2, 0)), (1, .inl x1), (2, .inl x2), (3, .inl x3), (4, .inl x4), (5, .inl x5)] [.inl r_2] (tput M t_1) P
  refine a_if_ne (tgt := 10) dX1_slow_5 (by decide) (fun c_17 => ?_) (fun c_17 => ?_)
  · replace h := h.1 c_17
    refine a_aload_n 0 dX1_slow_10 rfl rfl ?_
    refine a_iload_n 2 dX1_slow_11 rfl rfl ?_
    refine a_cv (y := mX1_isAct) (k := 2) (i := 0) (as := [.inl x2]) (st := []) (n := 1) (by decide) (Or.inl q1856) qs29 q1858 q73 q1859 zmh_isAct rfl (Nat.le_of_ble_eq_true rfl) (Nat.le_of_ble_eq_true rfl) dX1_slow_12 (sd_isAct (fun r_4 t_3 h => ?_) hT h)
    show wp (d + 1) mX1_slow 15 [(0, .inr (2, 0)), (1, .inl x1), (2, .inl x2), (3, .inl x3), (4, .inl x4), (5, .inl x5)] [.inl r_4] (tput M t_3) P
    refine a_if_eq (tgt := 42) dX1_slow_15 (by decide) (fun c_16 => ?_) (fun c_16 => ?_)
    · replace h := h.1 c_16
      refine a_bipush (v := (-2)) dX1_slow_42 (by decide) ?_
      exact a_iret rfl dX1_slow_44 (hP _ _ h)
    · replace h := h.2 c_16
      refine a_iload_n 3 dX1_slow_18 rfl rfl ?_
      refine a_if_lt (tgt := 42) dX1_slow_19 (by decide) (fun c_15 => ?_) (fun c_15 => ?_)
      · replace h := h.1 c_15
        refine a_bipush (v := (-2)) dX1_slow_42 (by decide) ?_
        exact a_iret rfl dX1_slow_44 (hP _ _ h)
      · replace h := h.2 c_15
        refine a_iload 4 dX1_slow_22 rfl ?_
        refine a_iload_n 3 dX1_slow_24 rfl rfl ?_
        refine a_icmp_lt (tgt := 42) dX1_slow_25 (by decide) (fun c_14 => ?_) (fun c_14 => ?_)
        · replace h := h.1 c_14
          refine a_bipush (v := (-2)) dX1_slow_42 (by decide) ?_
          exact a_iret rfl dX1_slow_44 (hP _ _ h)
        · replace h := h.2 c_14
          refine a_iload 5 dX1_slow_28 rfl ?_
          refine a_iconst (v := 1) dX1_slow_30 (by decide) ?_
          refine a_icmp_lt (tgt := 42) dX1_slow_31 (by decide) (fun c_13 => ?_) (fun c_13 => ?_)
          · replace h := h.1 c_13
            refine a_bipush (v := (-2)) dX1_slow_42 (by decide) ?_
            exact a_iret rfl dX1_slow_44 (hP _ _ h)
          · replace h := h.2 c_13
            refine a_iload 5 dX1_slow_34 rfl ?_
            refine a_sipush (v := 1000) dX1_slow_36 (by decide) ?_
            refine a_icmp_le (tgt := 45) dX1_slow_39 (by decide) (fun c_12 => ?_) (fun c_12 => ?_)
            · replace h := h.1 c_12
              refine a_aload_n 0 dX1_slow_45 rfl rfl ?_
              refine t_gi 11 (by decide) q1523 rfl dX1_slow_46 ?_
              refine a_bipush (v := 30) dX1_slow_49 (by decide) ?_
              refine a_icmp_ne (tgt := 57) dX1_slow_51 (by decide) (fun c_11 => ?_) (fun c_11 => ?_)
              · replace h := h.1 c_11
                refine a_aload_n 0 dX1_slow_57 rfl rfl ?_
                refine t_ga 12 hT (by decide) q1524 rfl dX1_slow_58 ?_
                refine a_aload_n 0 dX1_slow_61 rfl rfl ?_
                refine t_gi 11 (by decide) q1523 rfl dX1_slow_62 ?_
                refine a_iload_n 1 dX1_slow_65 rfl rfl ?_
                refine t_is (f := 12) rfl hT (by decide) h.1 dX1_slow_66 ?_
                replace h := h.2
                refine a_topt (fun t_5 et_5 => ?_)
                replace h := h t_5 et_5
                refine a_aload_n 0 dX1_slow_67 rfl rfl ?_
                refine t_ga 13 hT (by decide) q1525 rfl dX1_slow_68 ?_
                refine a_aload_n 0 dX1_slow_71 rfl rfl ?_
                refine t_gi 11 (by decide) q1523 rfl dX1_slow_72 ?_
                refine a_iload_n 2 dX1_slow_75 rfl rfl ?_
                refine t_is (f := 13) rfl hT (by decide) h.1 dX1_slow_76 ?_
                replace h := h.2
                refine a_topt (fun t_6 et_6 => ?_)
                replace h := h t_6 et_6
                refine a_aload_n 0 dX1_slow_77 rfl rfl ?_
                refine t_ga 14 hT (by decide) q1526 rfl dX1_slow_78 ?_
                refine a_aload_n 0 dX1_slow_81 rfl rfl ?_
                refine t_gi 11 (by decide) q1523 rfl dX1_slow_82 ?_
                refine a_iload_n 3 dX1_slow_85 rfl rfl ?_
                refine t_is (f := 14) rfl hT (by decide) h.1 dX1_slow_86 ?_
                replace h := h.2
                refine a_topt (fun t_7 et_7 => ?_)
                replace h := h t_7 et_7
                refine a_aload_n 0 dX1_slow_87 rfl rfl ?_
                refine t_ga 15 hT (by decide) q1527 rfl dX1_slow_88 ?_
                refine a_aload_n 0 dX1_slow_91 rfl rfl ?_
                refine t_gi 11 (by decide) q1523 rfl dX1_slow_92 ?_
                refine a_iload 4 dX1_slow_95 rfl ?_
                refine t_is (f := 15) rfl hT (by decide) h.1 dX1_slow_97 ?_
                replace h := h.2
                refine a_topt (fun t_8 et_8 => ?_)
                replace h := h t_8 et_8
                refine a_aload_n 0 dX1_slow_98 rfl rfl ?_
                refine t_ga 16 hT (by decide) q1528 rfl dX1_slow_99 ?_
                refine a_aload_n 0 dX1_slow_102 rfl rfl ?_
                refine t_gi 11 (by decide) q1523 rfl dX1_slow_103 ?_
                refine a_iload 5 dX1_slow_106 rfl ?_
                refine t_is (f := 16) rfl hT (by decide) h.1 dX1_slow_108 ?_
                replace h := h.2
                refine a_topt (fun t_9 et_9 => ?_)
                replace h := h t_9 et_9
                refine a_aload_n 0 dX1_slow_109 rfl rfl ?_
                refine a_dup dX1_slow_110 ?_
                refine t_gi 11 (by decide) q1523 rfl dX1_slow_111 ?_
                refine a_iconst (v := 1) dX1_slow_114 (by decide) ?_
                refine a_iadd dX1_slow_115 ?_
                refine t_pi 11 (by decide) q1523 rfl rfl dX1_slow_116 ?_
                refine a_topt (fun t_10 et_10 => ?_)
                replace h := h t_10 et_10
                refine a_aload_n 0 dX1_slow_119 rfl rfl ?_
                refine t_gi 11 (by decide) q1523 rfl dX1_slow_120 ?_
                exact a_iret rfl dX1_slow_123 (hP _ _ h)
              · replace h := h.2 c_11
                refine a_bipush (v := (-3)) dX1_slow_54 (by decide) ?_
                exact a_iret rfl dX1_slow_56 (hP _ _ h)
            · replace h := h.2 c_12
              refine a_bipush (v := (-2)) dX1_slow_42 (by decide) ?_
              exact a_iret rfl dX1_slow_44 (hP _ _ h)
  · replace h := h.2 c_17
    refine a_iconst (v := (-1)) dX1_slow_8 (by decide) ?_
    exact a_iret rfl dX1_slow_9 (hP _ _ h)
theorem zmh_slow : zmh yX1_slow 5 := ⟨⟨by decide +kernel, by decide +kernel⟩, by decide +kernel⟩
abbrev mX1_over : zMt := (yX1_over, cX1_over, 2, some .int)
def w_over (x1 : Int32) (t : DB) (Q : Int32 → DB → Prop) : Prop := ((¬ x1 = 0) → (((x1 = 1) → (Q 0 t)) ∧ ((¬ x1 = 1) → (((x1 = 4) → (Q 0 t)) ∧ ((¬ x1 = 4) → (((x1 = 8) → (Q 0 t)) ∧ ((¬ x1 = 8) → (((¬ x1 = 14) → (((4 ≤ x1) → (((8 ≤ x1) → (((14 ≤ x1) → (Q 14 t)) ∧ ((¬ 14 ≤ x1) → (Q 8 t)))) ∧ ((¬ 8 ≤ x1) → (Q 4 t)))) ∧ ((¬ 4 ≤ x1) → (Q 1 t)))) ∧ ((x1 = 14) → (Q 0 t)))))))))) ∧ ((x1 = 0) → (Q (-1) t))
set_option maxHeartbeats 4000000 in
theorem sd_over {d : Nat} {M : Mem} {P : Option AV → Mem → Prop} {Q : Int32 → DB → Prop} {x1 : Int32} {t : DB} (hP : ∀ r t, Q r t → P (some (.inl r)) (tput M t)) (hT : TW M) (h : w_over x1 t Q) : ct d mX1_over [.inr (2, 0), .inl x1] (tput M t) P := by
  refine ct_of (by decide) (Nat.le_of_ble_eq_true rfl) ?_
  show wp d mX1_over 0 [(0, .inr (2, 0)), (1, .inl x1)] [] (tput M t) P
  unfold w_over at h
  refine a_iload_n 1 dX1_over_0 rfl rfl ?_
  refine a_if_ne (tgt := 6) dX1_over_1 (by decide) (fun c_8 => ?_) (fun c_8 => ?_)
  · replace h := h.1 c_8
    refine a_iload_n 1 dX1_over_6 rfl rfl ?_
    refine a_iconst (v := 1) dX1_over_7 (by decide) ?_
    refine a_icmp_eq (tgt := 28) dX1_over_8 (by decide) (fun c_7 => ?_) (fun c_7 => ?_)
    · replace h := h.1 c_7
      refine a_iconst (v := 0) dX1_over_28 (by decide) ?_
      exact a_iret rfl dX1_over_29 (hP _ _ h)
    · replace h := h.2 c_7
      refine a_iload_n 1 dX1_over_11 rfl rfl ?_
      refine a_iconst (v := 4) dX1_over_12 (by decide) ?_
      refine a_icmp_eq (tgt := 28) dX1_over_13 (by decide) (fun c_6 => ?_) (fun c_6 => ?_)
      · replace h := h.1 c_6
        refine a_iconst (v := 0) dX1_over_28 (by decide) ?_
        exact a_iret rfl dX1_over_29 (hP _ _ h)
      · replace h := h.2 c_6
        refine a_iload_n 1 dX1_over_16 rfl rfl ?_
        refine a_bipush (v := 8) dX1_over_17 (by decide) ?_
        refine a_icmp_eq (tgt := 28) dX1_over_19 (by decide) (fun c_5 => ?_) (fun c_5 => ?_)
        · replace h := h.1 c_5
          refine a_iconst (v := 0) dX1_over_28 (by decide) ?_
          exact a_iret rfl dX1_over_29 (hP _ _ h)
        · replace h := h.2 c_5
          refine a_iload_n 1 dX1_over_22 rfl rfl ?_
          refine a_bipush (v := 14) dX1_over_23 (by decide) ?_
          refine a_icmp_ne (tgt := 30) dX1_over_25 (by decide) (fun c_4 => ?_) (fun c_4 => ?_)
          · replace h := h.1 c_4
            refine a_iload_n 1 dX1_over_30 rfl rfl ?_
            refine a_iconst (v := 4) dX1_over_31 (by decide) ?_
            refine a_icmp_ge (tgt := 37) dX1_over_32 (by decide) (fun c_3 => ?_) (fun c_3 => ?_)
            · replace h := h.1 c_3
              refine a_iload_n 1 dX1_over_37 rfl rfl ?_
              refine a_bipush (v := 8) dX1_over_38 (by decide) ?_
              refine a_icmp_ge (tgt := 45) dX1_over_40 (by decide) (fun c_2 => ?_) (fun c_2 => ?_)
              · replace h := h.1 c_2
                refine a_iload_n 1 dX1_over_45 rfl rfl ?_
                refine a_bipush (v := 14) dX1_over_46 (by decide) ?_
                refine a_icmp_ge (tgt := 56) dX1_over_48 (by decide) (fun c_1 => ?_) (fun c_1 => ?_)
                · replace h := h.1 c_1
                  refine a_bipush (v := 14) dX1_over_56 (by decide) ?_
                  exact a_iret rfl dX1_over_58 (hP _ _ h)
                · replace h := h.2 c_1
                  refine a_bipush (v := 8) dX1_over_51 (by decide) ?_
                  refine a_goto (tgt := 58) dX1_over_53 (by decide) ?_
                  exact a_iret rfl dX1_over_58 (hP _ _ h)
              · replace h := h.2 c_2
                refine a_iconst (v := 4) dX1_over_43 (by decide) ?_
                exact a_iret rfl dX1_over_44 (hP _ _ h)
            · replace h := h.2 c_3
              refine a_iconst (v := 1) dX1_over_35 (by decide) ?_
              exact a_iret rfl dX1_over_36 (hP _ _ h)
          · replace h := h.2 c_4
            refine a_iconst (v := 0) dX1_over_28 (by decide) ?_
            exact a_iret rfl dX1_over_29 (hP _ _ h)
  · replace h := h.2 c_8
    refine a_iconst (v := (-1)) dX1_over_4 (by decide) ?_
    exact a_iret rfl dX1_over_5 (hP _ _ h)
theorem zmh_over : zmh yX1_over 1 := ⟨⟨by decide +kernel, by decide +kernel⟩, by decide +kernel⟩
abbrev mX1_isUnder : zMt := (yX1_isUnder, cX1_isUnder, 4, some .boolean)
def w_isUnder_21 (x2 x3 : Int32) (t : DB) (Q : Int32 → DB → Prop) : Prop := ((¬ x3 = x2) → (Q 0 t)) ∧ ((x3 = x2) → (Q 1 t))
set_option maxHeartbeats 4000000 in
theorem sd_isUnder_21 {d : Nat} {M : Mem} {P : Option AV → Mem → Prop} {Q : Int32 → DB → Prop} (hP : ∀ r t, Q r t → P (some (.inl r)) (tput M t)) (hT : TW M) (x2 x3 : Int32) (t : DB) (h : w_isUnder_21 x2 x3 t Q) : wp (d + 1) mX1_isUnder 21 [(0, .inr (2, 0)), (2, .inl x2), (3, .inl x3)] [] (tput M t) P := by
  unfold w_isUnder_21 at h
  refine a_iload_n 2 dX1_isUnder_21 rfl rfl ?_
  refine a_iload_n 1 dX1_isUnder_22 rfl rfl ?_
  refine a_icmp_ne (tgt := 30) dX1_isUnder_23 (by decide) (fun c_1 => ?_) (fun c_1 => ?_)
  · replace h := h.1 c_1
    refine a_iconst (v := 0) dX1_isUnder_30 (by decide) ?_
    exact a_zret rfl (by decide) dX1_isUnder_31 (hP _ _ h)
  · replace h := h.2 c_1
    refine a_iconst (v := 1) dX1_isUnder_26 (by decide) ?_
    refine a_goto (tgt := 31) dX1_isUnder_27 (by decide) ?_
    exact a_zret rfl (by decide) dX1_isUnder_31 (hP _ _ h)
def w_isUnder_2 : Nat → Int32 → Int32 → DB → (Int32 → DB → Prop) → Prop
  | 0, _, _, _, _ => False
  | n + 1, x2, x3, t, Q => ((x3 = (-1)) → (w_isUnder_21 x2 x3 t Q)) ∧ ((¬ x3 = (-1)) → (((x3 = x2) → (w_isUnder_21 x2 x3 t Q)) ∧ ((¬ x3 = x2) → (w_over x3 t (fun r_2 t_1 => w_isUnder_2 n x2 r_2 t_1 Q)))))
set_option maxHeartbeats 4000000 in
theorem sd_isUnder_2 {d : Nat} {M : Mem} {P : Option AV → Mem → Prop} {Q : Int32 → DB → Prop} (hP : ∀ r t, Q r t → P (some (.inl r)) (tput M t)) (hT : TW M) : ∀ (n : Nat) (x2 x3 : Int32) (t : DB), w_isUnder_2 n x2 x3 t Q → wp (d + 1) mX1_isUnder 2 [(0, .inr (2, 0)), (2, .inl x2), (3, .inl x3)] [] (tput M t) P := by
  intro n
  induction n with
  | zero => intro x2 x3 t h; exact False.elim h
  | succ n ih =>
    intro x2 x3 t h
    rw [w_isUnder_2] at h
    refine a_iload_n 2 dX1_isUnder_2 rfl rfl ?_
    refine a_iconst (v := (-1)) dX1_isUnder_3 (by decide) ?_
    refine a_icmp_eq (tgt := 21) dX1_isUnder_4 (by decide) (fun c_4 => ?_) (fun c_4 => ?_)
    · replace h := h.1 c_4
      exact wp_sub (by simp) (sd_isUnder_21 hP hT x2 x3 t h)
    · replace h := h.2 c_4
      refine a_iload_n 2 dX1_isUnder_7 rfl rfl ?_
      refine a_iload_n 1 dX1_isUnder_8 rfl rfl ?_
      refine a_icmp_eq (tgt := 21) dX1_isUnder_9 (by decide) (fun c_3 => ?_) (fun c_3 => ?_)
      · replace h := h.1 c_3
        exact wp_sub (by simp) (sd_isUnder_21 hP hT x2 x3 t h)
      · replace h := h.2 c_3
        refine a_aload_n 0 dX1_isUnder_12 rfl rfl ?_
        refine a_iload_n 2 dX1_isUnder_13 rfl rfl ?_
        refine a_cv (y := mX1_over) (k := 2) (i := 0) (as := [.inl x3]) (st := []) (n := 1) (by decide) (Or.inl q1872) qs31 q1874 q73 q1875 zmh_over rfl (Nat.le_of_ble_eq_true rfl) (Nat.le_of_ble_eq_true rfl) dX1_isUnder_14 (sd_over (fun r_2 t_1 h => ?_) hT h)
        show wp (d + 1) mX1_isUnder 17 [(0, .inr (2, 0)), (2, .inl x2), (3, .inl x3)] [.inl r_2] (tput M t_1) P
        refine a_istore_n (lv' := [(3, .inl r_2), (0, .inr (2, 0)), (2, .inl x2)]) dX1_isUnder_17 rfl (Nat.le_of_ble_eq_true rfl) rfl ?_
        refine a_goto (tgt := 2) dX1_isUnder_18 (by decide) ?_
        exact wp_sub (by simp) (ih x2 r_2 t_1 h)
def w_isUnder (x1 x2 : Int32) (t : DB) (Q : Int32 → DB → Prop) : Prop := ∃ n_, w_isUnder_2 n_ x2 x1 t Q
set_option maxHeartbeats 4000000 in
theorem sd_isUnder {d : Nat} {M : Mem} {P : Option AV → Mem → Prop} {Q : Int32 → DB → Prop} {x1 x2 : Int32} {t : DB} (hP : ∀ r t, Q r t → P (some (.inl r)) (tput M t)) (hT : TW M) (h : w_isUnder x1 x2 t Q) : ct (d + 1) mX1_isUnder [.inr (2, 0), .inl x1, .inl x2] (tput M t) P := by
  refine ct_of (by decide) (Nat.le_of_ble_eq_true rfl) ?_
  show wp (d + 1) mX1_isUnder 0 [(0, .inr (2, 0)), (1, .inl x1), (2, .inl x2)] [] (tput M t) P
  unfold w_isUnder at h
  refine a_iload_n 1 dX1_isUnder_0 rfl rfl ?_
  refine a_istore_n (lv' := [(3, .inl x1), (0, .inr (2, 0)), (1, .inl x1), (2, .inl x2)]) dX1_isUnder_1 rfl (Nat.le_of_ble_eq_true rfl) rfl ?_
  obtain ⟨n_, h⟩ := h
  exact wp_sub (by simp) (sd_isUnder_2 hP hT n_ x2 x1 t h)
theorem zmh_isUnder : zmh yX1_isUnder 2 := ⟨⟨by decide +kernel, by decide +kernel⟩, by decide +kernel⟩
abbrev mX1_isOf : zMt := (yX1_isOf, cX1_isOf, 3, some .int)
def w_isOf (x1 x2 : Int32) (t : DB) (Q : Int32 → DB → Prop) : Prop := ((x1 < 0) → (Q (-1) t)) ∧ ((¬ x1 < 0) → (((15 < x1) → (Q (-1) t)) ∧ ((¬ 15 < x1) → (((x2 < 0) → (Q (-1) t)) ∧ ((¬ x2 < 0) → (((x2 ≤ 15) → (w_isUnder x1 x2 t (fun r_2 t_1 => ((r_2 = 0) → (Q 0 t_1)) ∧ ((¬ r_2 = 0) → (Q 1 t_1))))) ∧ ((¬ x2 ≤ 15) → (Q (-1) t))))))))
set_option maxHeartbeats 4000000 in
theorem sd_isOf {d : Nat} {M : Mem} {P : Option AV → Mem → Prop} {Q : Int32 → DB → Prop} {x1 x2 : Int32} {t : DB} (hP : ∀ r t, Q r t → P (some (.inl r)) (tput M t)) (hT : TW M) (h : w_isOf x1 x2 t Q) : ct (d + 2) mX1_isOf [.inr (2, 0), .inl x1, .inl x2] (tput M t) P := by
  refine ct_of (by decide) (Nat.le_of_ble_eq_true rfl) ?_
  show wp (d + 2) mX1_isOf 0 [(0, .inr (2, 0)), (1, .inl x1), (2, .inl x2)] [] (tput M t) P
  unfold w_isOf at h
  refine a_iload_n 1 dX1_isOf_0 rfl rfl ?_
  refine a_if_lt (tgt := 20) dX1_isOf_1 (by decide) (fun c_7 => ?_) (fun c_7 => ?_)
  · replace h := h.1 c_7
    refine a_iconst (v := (-1)) dX1_isOf_20 (by decide) ?_
    exact a_iret rfl dX1_isOf_21 (hP _ _ h)
  · replace h := h.2 c_7
    refine a_iload_n 1 dX1_isOf_4 rfl rfl ?_
    refine a_bipush (v := 15) dX1_isOf_5 (by decide) ?_
    refine a_icmp_gt (tgt := 20) dX1_isOf_7 (by decide) (fun c_6 => ?_) (fun c_6 => ?_)
    · replace h := h.1 c_6
      refine a_iconst (v := (-1)) dX1_isOf_20 (by decide) ?_
      exact a_iret rfl dX1_isOf_21 (hP _ _ h)
    · replace h := h.2 c_6
      refine a_iload_n 2 dX1_isOf_10 rfl rfl ?_
      refine a_if_lt (tgt := 20) dX1_isOf_11 (by decide) (fun c_5 => ?_) (fun c_5 => ?_)
      · replace h := h.1 c_5
        refine a_iconst (v := (-1)) dX1_isOf_20 (by decide) ?_
        exact a_iret rfl dX1_isOf_21 (hP _ _ h)
      · replace h := h.2 c_5
        refine a_iload_n 2 dX1_isOf_14 rfl rfl ?_
        refine a_bipush (v := 15) dX1_isOf_15 (by decide) ?_
        refine a_icmp_le (tgt := 22) dX1_isOf_17 (by decide) (fun c_4 => ?_) (fun c_4 => ?_)
        · replace h := h.1 c_4
          refine a_aload_n 0 dX1_isOf_22 rfl rfl ?_
          refine a_iload_n 1 dX1_isOf_23 rfl rfl ?_
          refine a_iload_n 2 dX1_isOf_24 rfl rfl ?_
          refine a_cv (y := mX1_isUnder) (k := 2) (i := 0) (as := [.inl x1, .inl x2]) (st := []) (n := 2) (by decide) (Or.inl q1868) qs30 q1870 q73 q1871 zmh_isUnder rfl (Nat.le_of_ble_eq_true rfl) (Nat.le_of_ble_eq_true rfl) dX1_isOf_25 (sd_isUnder (fun r_2 t_1 h => ?_) hT h)
          show wp (d + 2) mX1_isOf 28 [(0, .inr (2, 0)), (1, .inl x1), (2, .inl x2)] [.inl r_2] (tput M t_1) P
          refine a_if_eq (tgt := 35) dX1_isOf_28 (by decide) (fun c_3 => ?_) (fun c_3 => ?_)
          · replace h := h.1 c_3
            refine a_iconst (v := 0) dX1_isOf_35 (by decide) ?_
            exact a_iret rfl dX1_isOf_36 (hP _ _ h)
          · replace h := h.2 c_3
            refine a_iconst (v := 1) dX1_isOf_31 (by decide) ?_
            refine a_goto (tgt := 36) dX1_isOf_32 (by decide) ?_
            exact a_iret rfl dX1_isOf_36 (hP _ _ h)
        · replace h := h.2 c_4
          refine a_iconst (v := (-1)) dX1_isOf_20 (by decide) ?_
          exact a_iret rfl dX1_isOf_21 (hP _ _ h)
theorem zmh_isOf : zmh yX1_isOf 2 := ⟨⟨by decide +kernel, by decide +kernel⟩, by decide +kernel⟩
abbrev mX1_failure : zMt := (yX1_failure, cX1_failure, 3, some .int)
def w_failure (x1 x2 : Int32) (t : DB) (Q : Int32 → DB → Prop) : Prop := ((x1 < 0) → (Q (-1) t)) ∧ ((¬ x1 < 0) → (((x1 < (t 23 0)) → ((x2 = 0 → (vp_in x1 4400 ∧ (Q (t 24 x1.toNatClampNeg) t))) ∧ (x2 = 1 → (vp_in x1 4400 ∧ (Q (t 25 x1.toNatClampNeg) t))) ∧ (x2 = 2 → (vp_in x1 4400 ∧ (Q (t 26 x1.toNatClampNeg) t))) ∧ (x2 = 3 → (vp_in x1 4400 ∧ (Q (t 27 x1.toNatClampNeg) t))) ∧ (x2 = 4 → (vp_in x1 4400 ∧ (Q (t 28 x1.toNatClampNeg) t))) ∧ (x2 = 5 → (vp_in x1 4400 ∧ (Q (t 29 x1.toNatClampNeg) t))) ∧ (¬ x2 = 0 → ¬ x2 = 1 → ¬ x2 = 2 → ¬ x2 = 3 → ¬ x2 = 4 → ¬ x2 = 5 → (Q (-1) t)))) ∧ ((¬ x1 < (t 23 0)) → (Q (-1) t))))
set_option maxHeartbeats 4000000 in
theorem sd_failure {d : Nat} {M : Mem} {P : Option AV → Mem → Prop} {Q : Int32 → DB → Prop} {x1 x2 : Int32} {t : DB} (hP : ∀ r t, Q r t → P (some (.inl r)) (tput M t)) (hT : TW M) (h : w_failure x1 x2 t Q) : ct d mX1_failure [.inr (2, 0), .inl x1, .inl x2] (tput M t) P := by
  refine ct_of (by decide) (Nat.le_of_ble_eq_true rfl) ?_
  show wp d mX1_failure 0 [(0, .inr (2, 0)), (1, .inl x1), (2, .inl x2)] [] (tput M t) P
  unfold w_failure at h
  refine a_iload_n 1 dX1_failure_0 rfl rfl ?_
  refine a_if_lt (tgt := 12) dX1_failure_1 (by decide) (fun c_2 => ?_) (fun c_2 => ?_)
  · replace h := h.1 c_2
    refine a_iconst (v := (-1)) dX1_failure_12 (by decide) ?_
    exact a_iret rfl dX1_failure_13 (hP _ _ h)
  · replace h := h.2 c_2
    refine a_iload_n 1 dX1_failure_4 rfl rfl ?_
    refine a_aload_n 0 dX1_failure_5 rfl rfl ?_
    refine t_gi 23 (by decide) q1535 rfl dX1_failure_6 ?_
    refine a_icmp_lt (tgt := 14) dX1_failure_9 (by decide) (fun c_1 => ?_) (fun c_1 => ?_)
    · replace h := h.1 c_1
      refine a_iload_n 2 dX1_failure_14 rfl rfl ?_
      refine a_tsw (fun j => ([52, 59, 66, 73, 80, 87] : List Nat).getD j 0) (tD := 94) (n := 6) dX1_failure_15 rfl (by decide) (by decide) (by decide) (fun j hj e => ?_) (fun e => ?_)
      · match j, hj, e with
        | 0, _, e =>
          replace h := h.1 e
          show wp d mX1_failure 52 _ _ _ _
          refine a_aload_n 0 dX1_failure_52 rfl rfl ?_
          refine t_ga 24 hT (by decide) q1536 rfl dX1_failure_53 ?_
          refine a_iload_n 1 dX1_failure_56 rfl rfl ?_
          refine t_ia (f := 24) rfl hT (by decide) h.1 dX1_failure_57 ?_
          replace h := h.2
          exact a_iret rfl dX1_failure_58 (hP _ _ h)
        | 1, _, e =>
          replace h := h.2.1 e
          show wp d mX1_failure 59 _ _ _ _
          refine a_aload_n 0 dX1_failure_59 rfl rfl ?_
          refine t_ga 25 hT (by decide) q1537 rfl dX1_failure_60 ?_
          refine a_iload_n 1 dX1_failure_63 rfl rfl ?_
          refine t_ia (f := 25) rfl hT (by decide) h.1 dX1_failure_64 ?_
          replace h := h.2
          exact a_iret rfl dX1_failure_65 (hP _ _ h)
        | 2, _, e =>
          replace h := h.2.2.1 e
          show wp d mX1_failure 66 _ _ _ _
          refine a_aload_n 0 dX1_failure_66 rfl rfl ?_
          refine t_ga 26 hT (by decide) q1538 rfl dX1_failure_67 ?_
          refine a_iload_n 1 dX1_failure_70 rfl rfl ?_
          refine t_ia (f := 26) rfl hT (by decide) h.1 dX1_failure_71 ?_
          replace h := h.2
          exact a_iret rfl dX1_failure_72 (hP _ _ h)
        | 3, _, e =>
          replace h := h.2.2.2.1 e
          show wp d mX1_failure 73 _ _ _ _
          refine a_aload_n 0 dX1_failure_73 rfl rfl ?_
          refine t_ga 27 hT (by decide) q1539 rfl dX1_failure_74 ?_
          refine a_iload_n 1 dX1_failure_77 rfl rfl ?_
          refine t_ia (f := 27) rfl hT (by decide) h.1 dX1_failure_78 ?_
          replace h := h.2
          exact a_iret rfl dX1_failure_79 (hP _ _ h)
        | 4, _, e =>
          replace h := h.2.2.2.2.1 e
          show wp d mX1_failure 80 _ _ _ _
          refine a_aload_n 0 dX1_failure_80 rfl rfl ?_
          refine t_ga 28 hT (by decide) q1540 rfl dX1_failure_81 ?_
          refine a_iload_n 1 dX1_failure_84 rfl rfl ?_
          refine t_ia (f := 28) rfl hT (by decide) h.1 dX1_failure_85 ?_
          replace h := h.2
          exact a_iret rfl dX1_failure_86 (hP _ _ h)
        | 5, _, e =>
          replace h := h.2.2.2.2.2.1 e
          show wp d mX1_failure 87 _ _ _ _
          refine a_aload_n 0 dX1_failure_87 rfl rfl ?_
          refine t_ga 29 hT (by decide) q1541 rfl dX1_failure_88 ?_
          refine a_iload_n 1 dX1_failure_91 rfl rfl ?_
          refine t_ia (f := 29) rfl hT (by decide) h.1 dX1_failure_92 ?_
          replace h := h.2
          exact a_iret rfl dX1_failure_93 (hP _ _ h)
        | j + 6, hj, _ => exact absurd hj (by omega)
      · replace h := h.2.2.2.2.2.2 (e 0 (by decide)) (e 1 (by decide)) (e 2 (by decide)) (e 3 (by decide)) (e 4 (by decide)) (e 5 (by decide))
        refine a_iconst (v := (-1)) dX1_failure_94 (by decide) ?_
        exact a_iret rfl dX1_failure_95 (hP _ _ h)
    · replace h := h.2 c_1
      refine a_iconst (v := (-1)) dX1_failure_12 (by decide) ?_
      exact a_iret rfl dX1_failure_13 (hP _ _ h)
theorem zmh_failure : zmh yX1_failure 2 := ⟨⟨by decide +kernel, by decide +kernel⟩, by decide +kernel⟩
abbrev mX1_in : zMt := (yX1_in, cX1_in, 4, some .boolean)
def w_in (x1 x2 x3 : Int32) (t : DB) (Q : Int32 → DB → Prop) : Prop := ((x1 < x2) → (Q 0 t)) ∧ ((¬ x1 < x2) → (((x3 < x1) → (Q 0 t)) ∧ ((¬ x3 < x1) → (Q 1 t))))
set_option maxHeartbeats 4000000 in
theorem sd_in {d : Nat} {M : Mem} {P : Option AV → Mem → Prop} {Q : Int32 → DB → Prop} {x1 x2 x3 : Int32} {t : DB} (hP : ∀ r t, Q r t → P (some (.inl r)) (tput M t)) (hT : TW M) (h : w_in x1 x2 x3 t Q) : ct d mX1_in [.inr (2, 0), .inl x1, .inl x2, .inl x3] (tput M t) P := by
  refine ct_of (by decide) (Nat.le_of_ble_eq_true rfl) ?_
  show wp d mX1_in 0 [(0, .inr (2, 0)), (1, .inl x1), (2, .inl x2), (3, .inl x3)] [] (tput M t) P
  unfold w_in at h
  refine a_iload_n 1 dX1_in_0 rfl rfl ?_
  refine a_iload_n 2 dX1_in_1 rfl rfl ?_
  refine a_icmp_lt (tgt := 14) dX1_in_2 (by decide) (fun c_2 => ?_) (fun c_2 => ?_)
  · replace h := h.1 c_2
    refine a_iconst (v := 0) dX1_in_14 (by decide) ?_
    exact a_zret rfl (by decide) dX1_in_15 (hP _ _ h)
  · replace h := h.2 c_2
    refine a_iload_n 1 dX1_in_5 rfl rfl ?_
    refine a_iload_n 3 dX1_in_6 rfl rfl ?_
    refine a_icmp_gt (tgt := 14) dX1_in_7 (by decide) (fun c_1 => ?_) (fun c_1 => ?_)
    · replace h := h.1 c_1
      refine a_iconst (v := 0) dX1_in_14 (by decide) ?_
      exact a_zret rfl (by decide) dX1_in_15 (hP _ _ h)
    · replace h := h.2 c_1
      refine a_iconst (v := 1) dX1_in_10 (by decide) ?_
      refine a_goto (tgt := 15) dX1_in_11 (by decide) ?_
      exact a_zret rfl (by decide) dX1_in_15 (hP _ _ h)
theorem zmh_in : zmh yX1_in 3 := ⟨⟨by decide +kernel, by decide +kernel⟩, by decide +kernel⟩
abbrev mX1_isGood : zMt := (yX1_isGood, cX1_isGood, 5, some .boolean)
def w_isGood_269 (x2 : Int32) (t : DB) (Q : Int32 → DB → Prop) : Prop := ((¬ x2 = 1) → (Q 0 t)) ∧ ((x2 = 1) → (Q 1 t))
set_option maxHeartbeats 4000000 in
theorem sd_isGood_269 {d : Nat} {M : Mem} {P : Option AV → Mem → Prop} {Q : Int32 → DB → Prop} (hP : ∀ r t, Q r t → P (some (.inl r)) (tput M t)) (hT : TW M) (x2 : Int32) (t : DB) (h : w_isGood_269 x2 t Q) : wp (d + 1) mX1_isGood 269 [(0, .inr (2, 0)), (2, .inl x2)] [] (tput M t) P := by
  unfold w_isGood_269 at h
  refine a_iload_n 1 dX1_isGood_269 rfl rfl ?_
  refine a_iconst (v := 1) dX1_isGood_270 (by decide) ?_
  refine a_icmp_ne (tgt := 278) dX1_isGood_271 (by decide) (fun c_1 => ?_) (fun c_1 => ?_)
  · replace h := h.1 c_1
    refine a_iconst (v := 0) dX1_isGood_278 (by decide) ?_
    exact a_zret rfl (by decide) dX1_isGood_279 (hP _ _ h)
  · replace h := h.2 c_1
    refine a_iconst (v := 1) dX1_isGood_274 (by decide) ?_
    refine a_goto (tgt := 279) dX1_isGood_275 (by decide) ?_
    exact a_zret rfl (by decide) dX1_isGood_279 (hP _ _ h)
def w_isGood_156 (x2 x3 x4 : Int32) (t : DB) (Q : Int32 → DB → Prop) : Prop := w_in x2 1 1000 t (fun r_2 t_1 => ((r_2 = 0) → (Q 0 t_1)) ∧ ((¬ r_2 = 0) → (((¬ x3 = 0) → (Q 0 t_1)) ∧ ((x3 = 0) → (((¬ x4 = 0) → (Q 0 t_1)) ∧ ((x4 = 0) → (Q 1 t_1)))))))
set_option maxHeartbeats 4000000 in
theorem sd_isGood_156 {d : Nat} {M : Mem} {P : Option AV → Mem → Prop} {Q : Int32 → DB → Prop} (hP : ∀ r t, Q r t → P (some (.inl r)) (tput M t)) (hT : TW M) (x2 x3 x4 : Int32) (t : DB) (h : w_isGood_156 x2 x3 x4 t Q) : wp (d + 1) mX1_isGood 156 [(0, .inr (2, 0)), (2, .inl x2), (3, .inl x3), (4, .inl x4)] [] (tput M t) P := by
  unfold w_isGood_156 at h
  refine a_aload_n 0 dX1_isGood_156 rfl rfl ?_
  refine a_iload_n 1 dX1_isGood_157 rfl rfl ?_
  refine a_iconst (v := 1) dX1_isGood_158 (by decide) ?_
  refine a_sipush (v := 1000) dX1_isGood_159 (by decide) ?_
  refine a_cv (y := mX1_in) (k := 2) (i := 0) (as := [.inl x2, .inl 1, .inl 1000]) (st := []) (n := 3) (by decide) (Or.inl q1888) qs33 q1890 q73 q1891 zmh_in rfl (Nat.le_of_ble_eq_true rfl) (Nat.le_of_ble_eq_true rfl) dX1_isGood_162 (sd_in (fun r_2 t_1 h => ?_) hT h)
  show wp (d + 1) mX1_isGood 165 [(0, .inr (2, 0)), (2, .inl x2), (3, .inl x3), (4, .inl x4)] [.inl r_2] (tput M t_1) P
  refine a_if_eq (tgt := 181) dX1_isGood_165 (by decide) (fun c_5 => ?_) (fun c_5 => ?_)
  · replace h := h.1 c_5
    refine a_iconst (v := 0) dX1_isGood_181 (by decide) ?_
    exact a_zret rfl (by decide) dX1_isGood_182 (hP _ _ h)
  · replace h := h.2 c_5
    refine a_iload_n 2 dX1_isGood_168 rfl rfl ?_
    refine a_if_ne (tgt := 181) dX1_isGood_169 (by decide) (fun c_4 => ?_) (fun c_4 => ?_)
    · replace h := h.1 c_4
      refine a_iconst (v := 0) dX1_isGood_181 (by decide) ?_
      exact a_zret rfl (by decide) dX1_isGood_182 (hP _ _ h)
    · replace h := h.2 c_4
      refine a_iload 3 dX1_isGood_172 rfl ?_
      refine a_if_ne (tgt := 181) dX1_isGood_174 (by decide) (fun c_3 => ?_) (fun c_3 => ?_)
      · replace h := h.1 c_3
        refine a_iconst (v := 0) dX1_isGood_181 (by decide) ?_
        exact a_zret rfl (by decide) dX1_isGood_182 (hP _ _ h)
      · replace h := h.2 c_3
        refine a_iconst (v := 1) dX1_isGood_177 (by decide) ?_
        refine a_goto (tgt := 182) dX1_isGood_178 (by decide) ?_
        exact a_zret rfl (by decide) dX1_isGood_182 (hP _ _ h)
def w_isGood (x1 x2 x3 x4 : Int32) (t : DB) (Q : Int32 → DB → Prop) : Prop := (x1 = 0 → (w_in x2 1 20 t (fun r_2 t_1 => ((r_2 = 0) → (Q 0 t_1)) ∧ ((¬ r_2 = 0) → (w_in x3 1 1000 t_1 (fun r_4 t_3 => ((r_4 = 0) → (Q 0 t_3)) ∧ ((¬ r_4 = 0) → (((¬ x4 = 0) → (Q 0 t_3)) ∧ ((x4 = 0) → (Q 1 t_3)))))))))) ∧ (x1 = 1 → (w_in x2 1 10 t (fun r_9 t_8 => ((r_9 = 0) → (Q 0 t_8)) ∧ ((¬ r_9 = 0) → (w_in x3 0 10 t_8 (fun r_11 t_10 => ((r_11 = 0) → (Q 0 t_10)) ∧ ((¬ r_11 = 0) → (((¬ x4 = 0) → (Q 0 t_10)) ∧ ((x4 = 0) → (Q 1 t_10)))))))))) ∧ (x1 = 2 → (w_in x2 1 100 t (fun r_16 t_15 => ((r_16 = 0) → (Q 0 t_15)) ∧ ((¬ r_16 = 0) → (w_in x3 1 100 t_15 (fun r_18 t_17 => ((r_18 = 0) → (Q 0 t_17)) ∧ ((¬ r_18 = 0) → (((¬ x4 = 0) → (Q 0 t_17)) ∧ ((x4 = 0) → (Q 1 t_17)))))))))) ∧ (x1 = 3 → (w_isGood_156 x2 x3 x4 t Q)) ∧ (x1 = 4 → (w_in x2 2 6 t (fun r_23 t_22 => ((r_23 = 0) → (Q 0 t_22)) ∧ ((¬ r_23 = 0) → (w_in x3 1 50 t_22 (fun r_25 t_24 => ((r_25 = 0) → (Q 0 t_24)) ∧ ((¬ r_25 = 0) → (w_in x4 0 1 t_24 (fun r_27 t_26 => ((r_27 = 0) → (Q 0 t_26)) ∧ ((¬ r_27 = 0) → (Q 1 t_26))))))))))) ∧ (x1 = 5 → (w_in x2 1 100 t (fun r_32 t_31 => ((r_32 = 0) → (Q 0 t_31)) ∧ ((¬ r_32 = 0) → (((¬ x3 = 0) → (Q 0 t_31)) ∧ ((x3 = 0) → (((¬ x4 = 0) → (Q 0 t_31)) ∧ ((x4 = 0) → (Q 1 t_31))))))))) ∧ (x1 = 6 → (((¬ x4 = 0) → (Q 0 t)) ∧ ((x4 = 0) → (((¬ x2 = 0) → (w_isGood_269 x2 t Q)) ∧ ((x2 = 0) → (w_in x3 0 1000000 t (fun r_37 t_36 => ((¬ r_37 = 0) → (Q 1 t_36)) ∧ ((r_37 = 0) → (w_isGood_269 x2 t_36 Q))))))))) ∧ (x1 = 7 → (w_isGood_156 x2 x3 x4 t Q)) ∧ (x1 = 8 → (((¬ x2 = 0) → (Q 0 t)) ∧ ((x2 = 0) → (((¬ x3 = 0) → (Q 0 t)) ∧ ((x3 = 0) → (((¬ x4 = 0) → (Q 0 t)) ∧ ((x4 = 0) → (Q 1 t)))))))) ∧ (x1 = 9 → (((¬ x2 = 0) → (Q 0 t)) ∧ ((x2 = 0) → (w_in x3 0 15 t (fun r_45 t_44 => ((r_45 = 0) → (Q 0 t_44)) ∧ ((¬ r_45 = 0) → (((¬ x4 = 0) → (Q 0 t_44)) ∧ ((x4 = 0) → (Q 1 t_44))))))))) ∧ (¬ x1 = 0 → ¬ x1 = 1 → ¬ x1 = 2 → ¬ x1 = 3 → ¬ x1 = 4 → ¬ x1 = 5 → ¬ x1 = 6 → ¬ x1 = 7 → ¬ x1 = 8 → ¬ x1 = 9 → (Q 0 t))
set_option maxHeartbeats 4000000 in
theorem sd_isGood {d : Nat} {M : Mem} {P : Option AV → Mem → Prop} {Q : Int32 → DB → Prop} {x1 x2 x3 x4 : Int32} {t : DB} (hP : ∀ r t, Q r t → P (some (.inl r)) (tput M t)) (hT : TW M) (h : w_isGood x1 x2 x3 x4 t Q) : ct (d + 1) mX1_isGood [.inr (2, 0), .inl x1, .inl x2, .inl x3, .inl x4] (tput M t) P := by
  refine ct_of (by decide) (Nat.le_of_ble_eq_true rfl) ?_
  show wp (d + 1) mX1_isGood 0 [(0, .inr (2, 0)), (1, .inl x1), (2, .inl x2), (3, .inl x3), (4, .inl x4)] [] (tput M t) P
  unfold w_isGood at h
  refine a_iload_n 1 dX1_isGood_0 rfl rfl ?_
  refine a_tsw (fun j => ([56, 90, 123, 156, 183, 222, 248, 156, 280, 299] : List Nat).getD j 0) (tD := 325) (n := 10) dX1_isGood_1 rfl (by decide) (by decide) (by decide) (fun j hj e => ?_) (fun e => ?_)
  · match j, hj, e with
    | 0, _, e =>
      replace h := h.1 e
      show wp (d + 1) mX1_isGood 56 _ _ _ _
      refine a_aload_n 0 dX1_isGood_56 rfl rfl ?_
      refine a_iload_n 2 dX1_isGood_57 rfl rfl ?_
      refine a_iconst (v := 1) dX1_isGood_58 (by decide) ?_
      refine a_bipush (v := 20) dX1_isGood_59 (by decide) ?_
      refine a_cv (y := mX1_in) (k := 2) (i := 0) (as := [.inl x2, .inl 1, .inl 20]) (st := []) (n := 3) (by decide) (Or.inl q1888) qs33 q1890 q73 q1891 zmh_in rfl (Nat.le_of_ble_eq_true rfl) (Nat.le_of_ble_eq_true rfl) dX1_isGood_61 (sd_in (fun r_2 t_1 h => ?_) hT h)
      show wp (d + 1) mX1_isGood 64 [(0, .inr (2, 0)), (1, .inl x1), (2, .inl x2), (3, .inl x3), (4, .inl x4)] [.inl r_2] (tput M t_1) P
      refine a_if_eq (tgt := 88) dX1_isGood_64 (by decide) (fun c_7 => ?_) (fun c_7 => ?_)
      · replace h := h.1 c_7
        refine a_iconst (v := 0) dX1_isGood_88 (by decide) ?_
        exact a_zret rfl (by decide) dX1_isGood_89 (hP _ _ h)
      · replace h := h.2 c_7
        refine a_aload_n 0 dX1_isGood_67 rfl rfl ?_
        refine a_iload_n 3 dX1_isGood_68 rfl rfl ?_
        refine a_iconst (v := 1) dX1_isGood_69 (by decide) ?_
        refine a_sipush (v := 1000) dX1_isGood_70 (by decide) ?_
        refine a_cv (y := mX1_in) (k := 2) (i := 0) (as := [.inl x3, .inl 1, .inl 1000]) (st := []) (n := 3) (by decide) (Or.inl q1888) qs33 q1890 q73 q1891 zmh_in rfl (Nat.le_of_ble_eq_true rfl) (Nat.le_of_ble_eq_true rfl) dX1_isGood_73 (sd_in (fun r_4 t_3 h => ?_) hT h)
        show wp (d + 1) mX1_isGood 76 [(0, .inr (2, 0)), (1, .inl x1), (2, .inl x2), (3, .inl x3), (4, .inl x4)] [.inl r_4] (tput M t_3) P
        refine a_if_eq (tgt := 88) dX1_isGood_76 (by decide) (fun c_6 => ?_) (fun c_6 => ?_)
        · replace h := h.1 c_6
          refine a_iconst (v := 0) dX1_isGood_88 (by decide) ?_
          exact a_zret rfl (by decide) dX1_isGood_89 (hP _ _ h)
        · replace h := h.2 c_6
          refine a_iload 4 dX1_isGood_79 rfl ?_
          refine a_if_ne (tgt := 88) dX1_isGood_81 (by decide) (fun c_5 => ?_) (fun c_5 => ?_)
          · replace h := h.1 c_5
            refine a_iconst (v := 0) dX1_isGood_88 (by decide) ?_
            exact a_zret rfl (by decide) dX1_isGood_89 (hP _ _ h)
          · replace h := h.2 c_5
            refine a_iconst (v := 1) dX1_isGood_84 (by decide) ?_
            refine a_goto (tgt := 89) dX1_isGood_85 (by decide) ?_
            exact a_zret rfl (by decide) dX1_isGood_89 (hP _ _ h)
    | 1, _, e =>
      replace h := h.2.1 e
      show wp (d + 1) mX1_isGood 90 _ _ _ _
      refine a_aload_n 0 dX1_isGood_90 rfl rfl ?_
      refine a_iload_n 2 dX1_isGood_91 rfl rfl ?_
      refine a_iconst (v := 1) dX1_isGood_92 (by decide) ?_
      refine a_bipush (v := 10) dX1_isGood_93 (by decide) ?_
      refine a_cv (y := mX1_in) (k := 2) (i := 0) (as := [.inl x2, .inl 1, .inl 10]) (st := []) (n := 3) (by decide) (Or.inl q1888) qs33 q1890 q73 q1891 zmh_in rfl (Nat.le_of_ble_eq_true rfl) (Nat.le_of_ble_eq_true rfl) dX1_isGood_95 (sd_in (fun r_9 t_8 h => ?_) hT h)
      show wp (d + 1) mX1_isGood 98 [(0, .inr (2, 0)), (1, .inl x1), (2, .inl x2), (3, .inl x3), (4, .inl x4)] [.inl r_9] (tput M t_8) P
      refine a_if_eq (tgt := 121) dX1_isGood_98 (by decide) (fun c_14 => ?_) (fun c_14 => ?_)
      · replace h := h.1 c_14
        refine a_iconst (v := 0) dX1_isGood_121 (by decide) ?_
        exact a_zret rfl (by decide) dX1_isGood_122 (hP _ _ h)
      · replace h := h.2 c_14
        refine a_aload_n 0 dX1_isGood_101 rfl rfl ?_
        refine a_iload_n 3 dX1_isGood_102 rfl rfl ?_
        refine a_iconst (v := 0) dX1_isGood_103 (by decide) ?_
        refine a_bipush (v := 10) dX1_isGood_104 (by decide) ?_
        refine a_cv (y := mX1_in) (k := 2) (i := 0) (as := [.inl x3, .inl 0, .inl 10]) (st := []) (n := 3) (by decide) (Or.inl q1888) qs33 q1890 q73 q1891 zmh_in rfl (Nat.le_of_ble_eq_true rfl) (Nat.le_of_ble_eq_true rfl) dX1_isGood_106 (sd_in (fun r_11 t_10 h => ?_) hT h)
        show wp (d + 1) mX1_isGood 109 [(0, .inr (2, 0)), (1, .inl x1), (2, .inl x2), (3, .inl x3), (4, .inl x4)] [.inl r_11] (tput M t_10) P
        refine a_if_eq (tgt := 121) dX1_isGood_109 (by decide) (fun c_13 => ?_) (fun c_13 => ?_)
        · replace h := h.1 c_13
          refine a_iconst (v := 0) dX1_isGood_121 (by decide) ?_
          exact a_zret rfl (by decide) dX1_isGood_122 (hP _ _ h)
        · replace h := h.2 c_13
          refine a_iload 4 dX1_isGood_112 rfl ?_
          refine a_if_ne (tgt := 121) dX1_isGood_114 (by decide) (fun c_12 => ?_) (fun c_12 => ?_)
          · replace h := h.1 c_12
            refine a_iconst (v := 0) dX1_isGood_121 (by decide) ?_
            exact a_zret rfl (by decide) dX1_isGood_122 (hP _ _ h)
          · replace h := h.2 c_12
            refine a_iconst (v := 1) dX1_isGood_117 (by decide) ?_
            refine a_goto (tgt := 122) dX1_isGood_118 (by decide) ?_
            exact a_zret rfl (by decide) dX1_isGood_122 (hP _ _ h)
    | 2, _, e =>
      replace h := h.2.2.1 e
      show wp (d + 1) mX1_isGood 123 _ _ _ _
      refine a_aload_n 0 dX1_isGood_123 rfl rfl ?_
      refine a_iload_n 2 dX1_isGood_124 rfl rfl ?_
      refine a_iconst (v := 1) dX1_isGood_125 (by decide) ?_
      refine a_bipush (v := 100) dX1_isGood_126 (by decide) ?_
      refine a_cv (y := mX1_in) (k := 2) (i := 0) (as := [.inl x2, .inl 1, .inl 100]) (st := []) (n := 3) (by decide) (Or.inl q1888) qs33 q1890 q73 q1891 zmh_in rfl (Nat.le_of_ble_eq_true rfl) (Nat.le_of_ble_eq_true rfl) dX1_isGood_128 (sd_in (fun r_16 t_15 h => ?_) hT h)
      show wp (d + 1) mX1_isGood 131 [(0, .inr (2, 0)), (1, .inl x1), (2, .inl x2), (3, .inl x3), (4, .inl x4)] [.inl r_16] (tput M t_15) P
      refine a_if_eq (tgt := 154) dX1_isGood_131 (by decide) (fun c_21 => ?_) (fun c_21 => ?_)
      · replace h := h.1 c_21
        refine a_iconst (v := 0) dX1_isGood_154 (by decide) ?_
        exact a_zret rfl (by decide) dX1_isGood_155 (hP _ _ h)
      · replace h := h.2 c_21
        refine a_aload_n 0 dX1_isGood_134 rfl rfl ?_
        refine a_iload_n 3 dX1_isGood_135 rfl rfl ?_
        refine a_iconst (v := 1) dX1_isGood_136 (by decide) ?_
        refine a_bipush (v := 100) dX1_isGood_137 (by decide) ?_
        refine a_cv (y := mX1_in) (k := 2) (i := 0) (as := [.inl x3, .inl 1, .inl 100]) (st := []) (n := 3) (by decide) (Or.inl q1888) qs33 q1890 q73 q1891 zmh_in rfl (Nat.le_of_ble_eq_true rfl) (Nat.le_of_ble_eq_true rfl) dX1_isGood_139 (sd_in (fun r_18 t_17 h => ?_) hT h)
        show wp (d + 1) mX1_isGood 142 [(0, .inr (2, 0)), (1, .inl x1), (2, .inl x2), (3, .inl x3), (4, .inl x4)] [.inl r_18] (tput M t_17) P
        refine a_if_eq (tgt := 154) dX1_isGood_142 (by decide) (fun c_20 => ?_) (fun c_20 => ?_)
        · replace h := h.1 c_20
          refine a_iconst (v := 0) dX1_isGood_154 (by decide) ?_
          exact a_zret rfl (by decide) dX1_isGood_155 (hP _ _ h)
        · replace h := h.2 c_20
          refine a_iload 4 dX1_isGood_145 rfl ?_
          refine a_if_ne (tgt := 154) dX1_isGood_147 (by decide) (fun c_19 => ?_) (fun c_19 => ?_)
          · replace h := h.1 c_19
            refine a_iconst (v := 0) dX1_isGood_154 (by decide) ?_
            exact a_zret rfl (by decide) dX1_isGood_155 (hP _ _ h)
          · replace h := h.2 c_19
            refine a_iconst (v := 1) dX1_isGood_150 (by decide) ?_
            refine a_goto (tgt := 155) dX1_isGood_151 (by decide) ?_
            exact a_zret rfl (by decide) dX1_isGood_155 (hP _ _ h)
    | 3, _, e =>
      replace h := h.2.2.2.1 e
      show wp (d + 1) mX1_isGood 156 _ _ _ _
      exact wp_sub (by simp) (sd_isGood_156 hP hT x2 x3 x4 t h)
    | 4, _, e =>
      replace h := h.2.2.2.2.1 e
      show wp (d + 1) mX1_isGood 183 _ _ _ _
      refine a_aload_n 0 dX1_isGood_183 rfl rfl ?_
      refine a_iload_n 2 dX1_isGood_184 rfl rfl ?_
      refine a_iconst (v := 2) dX1_isGood_185 (by decide) ?_
      refine a_bipush (v := 6) dX1_isGood_186 (by decide) ?_
      refine a_cv (y := mX1_in) (k := 2) (i := 0) (as := [.inl x2, .inl 2, .inl 6]) (st := []) (n := 3) (by decide) (Or.inl q1888) qs33 q1890 q73 q1891 zmh_in rfl (Nat.le_of_ble_eq_true rfl) (Nat.le_of_ble_eq_true rfl) dX1_isGood_188 (sd_in (fun r_23 t_22 h => ?_) hT h)
      show wp (d + 1) mX1_isGood 191 [(0, .inr (2, 0)), (1, .inl x1), (2, .inl x2), (3, .inl x3), (4, .inl x4)] [.inl r_23] (tput M t_22) P
      refine a_if_eq (tgt := 220) dX1_isGood_191 (by decide) (fun c_30 => ?_) (fun c_30 => ?_)
      · replace h := h.1 c_30
        refine a_iconst (v := 0) dX1_isGood_220 (by decide) ?_
        exact a_zret rfl (by decide) dX1_isGood_221 (hP _ _ h)
      · replace h := h.2 c_30
        refine a_aload_n 0 dX1_isGood_194 rfl rfl ?_
        refine a_iload_n 3 dX1_isGood_195 rfl rfl ?_
        refine a_iconst (v := 1) dX1_isGood_196 (by decide) ?_
        refine a_bipush (v := 50) dX1_isGood_197 (by decide) ?_
        refine a_cv (y := mX1_in) (k := 2) (i := 0) (as := [.inl x3, .inl 1, .inl 50]) (st := []) (n := 3) (by decide) (Or.inl q1888) qs33 q1890 q73 q1891 zmh_in rfl (Nat.le_of_ble_eq_true rfl) (Nat.le_of_ble_eq_true rfl) dX1_isGood_199 (sd_in (fun r_25 t_24 h => ?_) hT h)
        show wp (d + 1) mX1_isGood 202 [(0, .inr (2, 0)), (1, .inl x1), (2, .inl x2), (3, .inl x3), (4, .inl x4)] [.inl r_25] (tput M t_24) P
        refine a_if_eq (tgt := 220) dX1_isGood_202 (by decide) (fun c_29 => ?_) (fun c_29 => ?_)
        · replace h := h.1 c_29
          refine a_iconst (v := 0) dX1_isGood_220 (by decide) ?_
          exact a_zret rfl (by decide) dX1_isGood_221 (hP _ _ h)
        · replace h := h.2 c_29
          refine a_aload_n 0 dX1_isGood_205 rfl rfl ?_
          refine a_iload 4 dX1_isGood_206 rfl ?_
          refine a_iconst (v := 0) dX1_isGood_208 (by decide) ?_
          refine a_iconst (v := 1) dX1_isGood_209 (by decide) ?_
          refine a_cv (y := mX1_in) (k := 2) (i := 0) (as := [.inl x4, .inl 0, .inl 1]) (st := []) (n := 3) (by decide) (Or.inl q1888) qs33 q1890 q73 q1891 zmh_in rfl (Nat.le_of_ble_eq_true rfl) (Nat.le_of_ble_eq_true rfl) dX1_isGood_210 (sd_in (fun r_27 t_26 h => ?_) hT h)
          show wp (d + 1) mX1_isGood 213 [(0, .inr (2, 0)), (1, .inl x1), (2, .inl x2), (3, .inl x3), (4, .inl x4)] [.inl r_27] (tput M t_26) P
          refine a_if_eq (tgt := 220) dX1_isGood_213 (by decide) (fun c_28 => ?_) (fun c_28 => ?_)
          · replace h := h.1 c_28
            refine a_iconst (v := 0) dX1_isGood_220 (by decide) ?_
            exact a_zret rfl (by decide) dX1_isGood_221 (hP _ _ h)
          · replace h := h.2 c_28
            refine a_iconst (v := 1) dX1_isGood_216 (by decide) ?_
            refine a_goto (tgt := 221) dX1_isGood_217 (by decide) ?_
            exact a_zret rfl (by decide) dX1_isGood_221 (hP _ _ h)
    | 5, _, e =>
      replace h := h.2.2.2.2.2.1 e
      show wp (d + 1) mX1_isGood 222 _ _ _ _
      refine a_aload_n 0 dX1_isGood_222 rfl rfl ?_
      refine a_iload_n 2 dX1_isGood_223 rfl rfl ?_
      refine a_iconst (v := 1) dX1_isGood_224 (by decide) ?_
      refine a_bipush (v := 100) dX1_isGood_225 (by decide) ?_
      refine a_cv (y := mX1_in) (k := 2) (i := 0) (as := [.inl x2, .inl 1, .inl 100]) (st := []) (n := 3) (by decide) (Or.inl q1888) qs33 q1890 q73 q1891 zmh_in rfl (Nat.le_of_ble_eq_true rfl) (Nat.le_of_ble_eq_true rfl) dX1_isGood_227 (sd_in (fun r_32 t_31 h => ?_) hT h)
      show wp (d + 1) mX1_isGood 230 [(0, .inr (2, 0)), (1, .inl x1), (2, .inl x2), (3, .inl x3), (4, .inl x4)] [.inl r_32] (tput M t_31) P
      refine a_if_eq (tgt := 246) dX1_isGood_230 (by decide) (fun c_35 => ?_) (fun c_35 => ?_)
      · replace h := h.1 c_35
        refine a_iconst (v := 0) dX1_isGood_246 (by decide) ?_
        exact a_zret rfl (by decide) dX1_isGood_247 (hP _ _ h)
      · replace h := h.2 c_35
        refine a_iload_n 3 dX1_isGood_233 rfl rfl ?_
        refine a_if_ne (tgt := 246) dX1_isGood_234 (by decide) (fun c_34 => ?_) (fun c_34 => ?_)
        · replace h := h.1 c_34
          refine a_iconst (v := 0) dX1_isGood_246 (by decide) ?_
          exact a_zret rfl (by decide) dX1_isGood_247 (hP _ _ h)
        · replace h := h.2 c_34
          refine a_iload 4 dX1_isGood_237 rfl ?_
          refine a_if_ne (tgt := 246) dX1_isGood_239 (by decide) (fun c_33 => ?_) (fun c_33 => ?_)
          · replace h := h.1 c_33
            refine a_iconst (v := 0) dX1_isGood_246 (by decide) ?_
            exact a_zret rfl (by decide) dX1_isGood_247 (hP _ _ h)
          · replace h := h.2 c_33
            refine a_iconst (v := 1) dX1_isGood_242 (by decide) ?_
            refine a_goto (tgt := 247) dX1_isGood_243 (by decide) ?_
            exact a_zret rfl (by decide) dX1_isGood_247 (hP _ _ h)
    | 6, _, e =>
      replace h := h.2.2.2.2.2.2.1 e
      show wp (d + 1) mX1_isGood 248 _ _ _ _
      refine a_iload 4 dX1_isGood_248 rfl ?_
      refine a_if_ne (tgt := 278) dX1_isGood_250 (by decide) (fun c_40 => ?_) (fun c_40 => ?_)
      · replace h := h.1 c_40
        refine a_iconst (v := 0) dX1_isGood_278 (by decide) ?_
        exact a_zret rfl (by decide) dX1_isGood_279 (hP _ _ h)
      · replace h := h.2 c_40
        refine a_iload_n 2 dX1_isGood_253 rfl rfl ?_
        refine a_if_ne (tgt := 269) dX1_isGood_254 (by decide) (fun c_39 => ?_) (fun c_39 => ?_)
        · replace h := h.1 c_39
          exact wp_sub (by simp) (sd_isGood_269 hP hT x2 t h)
        · replace h := h.2 c_39
          refine a_aload_n 0 dX1_isGood_257 rfl rfl ?_
          refine a_iload_n 3 dX1_isGood_258 rfl rfl ?_
          refine a_iconst (v := 0) dX1_isGood_259 (by decide) ?_
          refine a_ldcw (v := 1000000) dX1_isGood_260 q1847 ?_
          refine a_cv (y := mX1_in) (k := 2) (i := 0) (as := [.inl x3, .inl 0, .inl 1000000]) (st := []) (n := 3) (by decide) (Or.inl q1888) qs33 q1890 q73 q1891 zmh_in rfl (Nat.le_of_ble_eq_true rfl) (Nat.le_of_ble_eq_true rfl) dX1_isGood_263 (sd_in (fun r_37 t_36 h => ?_) hT h)
          show wp (d + 1) mX1_isGood 266 [(0, .inr (2, 0)), (1, .inl x1), (2, .inl x2), (3, .inl x3), (4, .inl x4)] [.inl r_37] (tput M t_36) P
          refine a_if_ne (tgt := 274) dX1_isGood_266 (by decide) (fun c_38 => ?_) (fun c_38 => ?_)
          · replace h := h.1 c_38
            refine a_iconst (v := 1) dX1_isGood_274 (by decide) ?_
            refine a_goto (tgt := 279) dX1_isGood_275 (by decide) ?_
            exact a_zret rfl (by decide) dX1_isGood_279 (hP _ _ h)
          · replace h := h.2 c_38
            exact wp_sub (by simp) (sd_isGood_269 hP hT x2 t_36 h)
    | 7, _, e =>
      replace h := h.2.2.2.2.2.2.2.1 e
      show wp (d + 1) mX1_isGood 156 _ _ _ _
      exact wp_sub (by simp) (sd_isGood_156 hP hT x2 x3 x4 t h)
    | 8, _, e =>
      replace h := h.2.2.2.2.2.2.2.2.1 e
      show wp (d + 1) mX1_isGood 280 _ _ _ _
      refine a_iload_n 2 dX1_isGood_280 rfl rfl ?_
      refine a_if_ne (tgt := 297) dX1_isGood_281 (by decide) (fun c_43 => ?_) (fun c_43 => ?_)
      · replace h := h.1 c_43
        refine a_iconst (v := 0) dX1_isGood_297 (by decide) ?_
        exact a_zret rfl (by decide) dX1_isGood_298 (hP _ _ h)
      · replace h := h.2 c_43
        refine a_iload_n 3 dX1_isGood_284 rfl rfl ?_
        refine a_if_ne (tgt := 297) dX1_isGood_285 (by decide) (fun c_42 => ?_) (fun c_42 => ?_)
        · replace h := h.1 c_42
          refine a_iconst (v := 0) dX1_isGood_297 (by decide) ?_
          exact a_zret rfl (by decide) dX1_isGood_298 (hP _ _ h)
        · replace h := h.2 c_42
          refine a_iload 4 dX1_isGood_288 rfl ?_
          refine a_if_ne (tgt := 297) dX1_isGood_290 (by decide) (fun c_41 => ?_) (fun c_41 => ?_)
          · replace h := h.1 c_41
            refine a_iconst (v := 0) dX1_isGood_297 (by decide) ?_
            exact a_zret rfl (by decide) dX1_isGood_298 (hP _ _ h)
          · replace h := h.2 c_41
            refine a_iconst (v := 1) dX1_isGood_293 (by decide) ?_
            refine a_goto (tgt := 298) dX1_isGood_294 (by decide) ?_
            exact a_zret rfl (by decide) dX1_isGood_298 (hP _ _ h)
    | 9, _, e =>
      replace h := h.2.2.2.2.2.2.2.2.2.1 e
      show wp (d + 1) mX1_isGood 299 _ _ _ _
      refine a_iload_n 2 dX1_isGood_299 rfl rfl ?_
      refine a_if_ne (tgt := 323) dX1_isGood_300 (by decide) (fun c_48 => ?_) (fun c_48 => ?_)
      · replace h := h.1 c_48
        refine a_iconst (v := 0) dX1_isGood_323 (by decide) ?_
        exact a_zret rfl (by decide) dX1_isGood_324 (hP _ _ h)
      · replace h := h.2 c_48
        refine a_aload_n 0 dX1_isGood_303 rfl rfl ?_
        refine a_iload_n 3 dX1_isGood_304 rfl rfl ?_
        refine a_iconst (v := 0) dX1_isGood_305 (by decide) ?_
        refine a_bipush (v := 15) dX1_isGood_306 (by decide) ?_
        refine a_cv (y := mX1_in) (k := 2) (i := 0) (as := [.inl x3, .inl 0, .inl 15]) (st := []) (n := 3) (by decide) (Or.inl q1888) qs33 q1890 q73 q1891 zmh_in rfl (Nat.le_of_ble_eq_true rfl) (Nat.le_of_ble_eq_true rfl) dX1_isGood_308 (sd_in (fun r_45 t_44 h => ?_) hT h)
        show wp (d + 1) mX1_isGood 311 [(0, .inr (2, 0)), (1, .inl x1), (2, .inl x2), (3, .inl x3), (4, .inl x4)] [.inl r_45] (tput M t_44) P
        refine a_if_eq (tgt := 323) dX1_isGood_311 (by decide) (fun c_47 => ?_) (fun c_47 => ?_)
        · replace h := h.1 c_47
          refine a_iconst (v := 0) dX1_isGood_323 (by decide) ?_
          exact a_zret rfl (by decide) dX1_isGood_324 (hP _ _ h)
        · replace h := h.2 c_47
          refine a_iload 4 dX1_isGood_314 rfl ?_
          refine a_if_ne (tgt := 323) dX1_isGood_316 (by decide) (fun c_46 => ?_) (fun c_46 => ?_)
          · replace h := h.1 c_46
            refine a_iconst (v := 0) dX1_isGood_323 (by decide) ?_
            exact a_zret rfl (by decide) dX1_isGood_324 (hP _ _ h)
          · replace h := h.2 c_46
            refine a_iconst (v := 1) dX1_isGood_319 (by decide) ?_
            refine a_goto (tgt := 324) dX1_isGood_320 (by decide) ?_
            exact a_zret rfl (by decide) dX1_isGood_324 (hP _ _ h)
    | j + 10, hj, _ => exact absurd hj (by omega)
  · replace h := h.2.2.2.2.2.2.2.2.2.2 (e 0 (by decide)) (e 1 (by decide)) (e 2 (by decide)) (e 3 (by decide)) (e 4 (by decide)) (e 5 (by decide)) (e 6 (by decide)) (e 7 (by decide)) (e 8 (by decide)) (e 9 (by decide))
    refine a_iconst (v := 0) dX1_isGood_325 (by decide) ?_
    exact a_zret rfl (by decide) dX1_isGood_326 (hP _ _ h)
theorem zmh_isGood : zmh yX1_isGood 4 := ⟨⟨by decide +kernel, by decide +kernel⟩, by decide +kernel⟩
abbrev mX1_guard : zMt := (yX1_guard, cX1_guard, 9, some .int)
def w_guard_213 : Nat → Int32 → Int32 → DB → (Int32 → DB → Prop) → Prop
  | 0, _, _, _, _ => False
  | n + 1, x7, x8, t, Q => ((8 ≤ x8) → (∀ t_1 : DB, t_1 = up t 30 0 ((t 30 0) + 1) → (Q x7 t_1))) ∧ ((¬ 8 ≤ x8) → (vp_in ((8 * x7) + x8) 192 ∧ (∀ t_2 : DB, t_2 = up t 45 ((8 * x7) + x8).toNatClampNeg (-1) → (∀ x_3 : Int32, x_3 = x8 + 1 → (w_guard_213 n x7 x_3 t_2 Q)))))
set_option maxHeartbeats 4000000 in
theorem sd_guard_213 {d : Nat} {M : Mem} {P : Option AV → Mem → Prop} {Q : Int32 → DB → Prop} (hP : ∀ r t, Q r t → P (some (.inl r)) (tput M t)) (hT : TW M) : ∀ (n : Nat) (x7 x8 : Int32) (t : DB), w_guard_213 n x7 x8 t Q → wp (d + 2) mX1_guard 213 [(0, .inr (2, 0)), (7, .inl x7), (8, .inl x8)] [] (tput M t) P := by
  intro n
  induction n with
  | zero => intro x7 x8 t h; exact False.elim h
  | succ n ih =>
    intro x7 x8 t h
    rw [w_guard_213] at h
    refine a_iload 2 dX1_guard_213 rfl ?_
    refine a_bipush (v := 8) dX1_guard_215 (by decide) ?_
    refine a_icmp_ge (tgt := 240) dX1_guard_217 (by decide) (fun c_4 => ?_) (fun c_4 => ?_)
    · replace h := h.1 c_4
      refine a_aload_n 0 dX1_guard_240 rfl rfl ?_
      refine a_dup dX1_guard_241 ?_
      refine t_gi 30 (by decide) q1542 rfl dX1_guard_242 ?_
      refine a_iconst (v := 1) dX1_guard_245 (by decide) ?_
      refine a_iadd dX1_guard_246 ?_
      refine t_pi 30 (by decide) q1542 rfl rfl dX1_guard_247 ?_
      refine a_topt (fun t_1 et_1 => ?_)
      replace h := h t_1 et_1
      refine a_iload 1 dX1_guard_250 rfl ?_
      exact a_iret rfl dX1_guard_252 (hP _ _ h)
    · replace h := h.2 c_4
      refine a_aload_n 0 dX1_guard_220 rfl rfl ?_
      refine t_ga 45 hT (by decide) q1557 rfl dX1_guard_221 ?_
      refine a_bipush (v := 8) dX1_guard_224 (by decide) ?_
      refine a_iload 1 dX1_guard_226 rfl ?_
      refine a_imul dX1_guard_228 ?_
      refine a_iload 2 dX1_guard_229 rfl ?_
      refine a_iadd dX1_guard_231 ?_
      refine a_iconst (v := (-1)) dX1_guard_232 (by decide) ?_
      refine t_is (f := 45) rfl hT (by decide) h.1 dX1_guard_233 ?_
      replace h := h.2
      refine a_topt (fun t_2 et_2 => ?_)
      replace h := h t_2 et_2
      obtain ⟨x_3, ex_3⟩ : ∃ y : Int32, y = x8 + 1 := ⟨_, rfl⟩
      replace h := h x_3 ex_3
      refine a_iinc (v := x_3) (lv' := [(8, .inl x_3), (0, .inr (2, 0)), (7, .inl x7)]) 2 dX1_guard_234 rfl (by rw [ex_3]; rfl) (Nat.le_of_ble_eq_true rfl) rfl ?_
      refine a_goto (tgt := 213) dX1_guard_237 (by decide) ?_
      exact wp_sub (by simp) (ih x7 x_3 t_2 h)
def w_guard_76 (x1 x2 x3 x4 x5 s0 s1 s2 : Int32) (t : DB) (Q : Int32 → DB → Prop) : Prop := w_in s2 s1 s0 t (fun r_2 t_1 => ((¬ r_2 = 0) → (((¬ (t_1 30 0) = 24) → (∀ x_3 : Int32, x_3 = t_1 30 0 → (vp_in x_3 24 ∧ (∀ t_4 : DB, t_4 = up t_1 31 x_3.toNatClampNeg x1 → (vp_in x_3 24 ∧ (∀ t_5 : DB, t_5 = up t_4 32 x_3.toNatClampNeg x2 → (vp_in x_3 24 ∧ (∀ t_6 : DB, t_6 = up t_5 33 x_3.toNatClampNeg x3 → (vp_in x_3 24 ∧ (∀ t_7 : DB, t_7 = up t_6 34 x_3.toNatClampNeg x4 → (vp_in x_3 24 ∧ (∀ t_8 : DB, t_8 = up t_7 35 x_3.toNatClampNeg x5 → (vp_in x_3 24 ∧ (∀ t_9 : DB, t_9 = up t_8 36 x_3.toNatClampNeg 0 → (vp_in x_3 24 ∧ (∀ t_10 : DB, t_10 = up t_9 37 x_3.toNatClampNeg 0 → (vp_in x_3 24 ∧ (∀ t_11 : DB, t_11 = up t_10 38 x_3.toNatClampNeg 0 → (vp_in x_3 24 ∧ (∀ t_12 : DB, t_12 = up t_11 39 x_3.toNatClampNeg 0 → (vp_in x_3 24 ∧ (∀ t_13 : DB, t_13 = up t_12 40 x_3.toNatClampNeg 0 → (vp_in x_3 24 ∧ (∀ t_14 : DB, t_14 = up t_13 41 x_3.toNatClampNeg 0 → (((¬ x1 = 2) → (vp_in x_3 24 ∧ (∀ t_15 : DB, t_15 = up t_14 42 x_3.toNatClampNeg 0 → (∃ n_, w_guard_213 n_ x_3 0 t_15 Q)))) ∧ ((x1 = 2) → (vp_in x_3 24 ∧ (∀ t_16 : DB, t_16 = up t_14 42 x_3.toNatClampNeg x2 → (∃ n_, w_guard_213 n_ x_3 0 t_16 Q))))))))))))))))))))))))))))) ∧ (((t_1 30 0) = 24) → (Q (-3) t_1)))) ∧ ((r_2 = 0) → (Q (-2) t_1)))
set_option maxHeartbeats 4000000 in
theorem sd_guard_76 {d : Nat} {M : Mem} {P : Option AV → Mem → Prop} {Q : Int32 → DB → Prop} (hP : ∀ r t, Q r t → P (some (.inl r)) (tput M t)) (hT : TW M) (x1 x2 x3 x4 x5 s0 s1 s2 : Int32) (t : DB) (h : w_guard_76 x1 x2 x3 x4 x5 s0 s1 s2 t Q) : wp (d + 2) mX1_guard 76 [(0, .inr (2, 0)), (1, .inl x1), (2, .inl x2), (3, .inl x3), (4, .inl x4), (5, .inl x5)] [.inl s0, .inl s1, .inl s2, .inr (2, 0)] (tput M t) P := by
  unfold w_guard_76 at h
  refine a_cv (y := mX1_in) (k := 2) (i := 0) (as := [.inl s2, .inl s1, .inl s0]) (st := []) (n := 3) (by decide) (Or.inl q1888) qs33 q1890 q73 q1891 zmh_in rfl (Nat.le_of_ble_eq_true rfl) (Nat.le_of_ble_eq_true rfl) dX1_guard_76 (sd_in (fun r_2 t_1 h => ?_) hT h)
  show wp (d + 2) mX1_guard 79 [(0, .inr (2, 0)), (1, .inl x1), (2, .inl x2), (3, .inl x3), (4, .inl x4), (5, .inl x5)] [.inl r_2] (tput M t_1) P
  refine a_if_ne (tgt := 85) dX1_guard_79 (by decide) (fun c_19 => ?_) (fun c_19 => ?_)
  · replace h := h.1 c_19
    refine a_aload_n 0 dX1_guard_85 rfl rfl ?_
    refine t_gi 30 (by decide) q1542 rfl dX1_guard_86 ?_
    refine a_bipush (v := 24) dX1_guard_89 (by decide) ?_
    refine a_icmp_ne (tgt := 97) dX1_guard_91 (by decide) (fun c_18 => ?_) (fun c_18 => ?_)
    · replace h := h.1 c_18
      refine a_aload_n 0 dX1_guard_97 rfl rfl ?_
      refine t_gi 30 (by decide) q1542 rfl dX1_guard_98 ?_
      refine a_topi (fun x_3 ex_3 => ?_)
      replace h := h x_3 ex_3
      refine a_istore (lv' := [(7, .inl x_3), (0, .inr (2, 0)), (1, .inl x1), (2, .inl x2), (3, .inl x3), (4, .inl x4), (5, .inl x5)]) dX1_guard_101 (Nat.le_of_ble_eq_true rfl) rfl ?_
      refine a_aload_n 1 dX1_guard_103 rfl rfl ?_
      refine t_ga 31 hT (by decide) q1543 rfl dX1_guard_104 ?_
      refine a_iload 0 dX1_guard_107 rfl ?_
      refine a_iload_n 2 dX1_guard_109 rfl rfl ?_
      refine t_is (f := 31) rfl hT (by decide) h.1 dX1_guard_110 ?_
      replace h := h.2
      refine a_topt (fun t_4 et_4 => ?_)
      replace h := h t_4 et_4
      refine a_aload_n 1 dX1_guard_111 rfl rfl ?_
      refine t_ga 32 hT (by decide) q1544 rfl dX1_guard_112 ?_
      refine a_iload 0 dX1_guard_115 rfl ?_
      refine a_iload_n 3 dX1_guard_117 rfl rfl ?_
      refine t_is (f := 32) rfl hT (by decide) h.1 dX1_guard_118 ?_
      replace h := h.2
      refine a_topt (fun t_5 et_5 => ?_)
      replace h := h t_5 et_5
      refine a_aload_n 1 dX1_guard_119 rfl rfl ?_
      refine t_ga 33 hT (by decide) q1545 rfl dX1_guard_120 ?_
      refine a_iload 0 dX1_guard_123 rfl ?_
      refine a_iload_n 4 dX1_guard_125 rfl rfl ?_
      refine t_is (f := 33) rfl hT (by decide) h.1 dX1_guard_126 ?_
      replace h := h.2
      refine a_topt (fun t_6 et_6 => ?_)
      replace h := h t_6 et_6
      refine a_aload_n 1 dX1_guard_127 rfl rfl ?_
      refine t_ga 34 hT (by decide) q1546 rfl dX1_guard_128 ?_
      refine a_iload 0 dX1_guard_131 rfl ?_
      refine a_iload 5 dX1_guard_133 rfl ?_
      refine t_is (f := 34) rfl hT (by decide) h.1 dX1_guard_135 ?_
      replace h := h.2
      refine a_topt (fun t_7 et_7 => ?_)
      replace h := h t_7 et_7
      refine a_aload_n 1 dX1_guard_136 rfl rfl ?_
      refine t_ga 35 hT (by decide) q1547 rfl dX1_guard_137 ?_
      refine a_iload 0 dX1_guard_140 rfl ?_
      refine a_iload 6 dX1_guard_142 rfl ?_
      refine t_is (f := 35) rfl hT (by decide) h.1 dX1_guard_144 ?_
      replace h := h.2
      refine a_topt (fun t_8 et_8 => ?_)
      replace h := h t_8 et_8
      refine a_aload_n 1 dX1_guard_145 rfl rfl ?_
      refine t_ga 36 hT (by decide) q1548 rfl dX1_guard_146 ?_
      refine a_iload 0 dX1_guard_149 rfl ?_
      refine a_iconst (v := 0) dX1_guard_151 (by decide) ?_
      refine t_is (f := 36) rfl hT (by decide) h.1 dX1_guard_152 ?_
      replace h := h.2
      refine a_topt (fun t_9 et_9 => ?_)
      replace h := h t_9 et_9
      refine a_aload_n 1 dX1_guard_153 rfl rfl ?_
      refine t_ga 37 hT (by decide) q1549 rfl dX1_guard_154 ?_
      refine a_iload 0 dX1_guard_157 rfl ?_
      refine a_iconst (v := 0) dX1_guard_159 (by decide) ?_
      refine t_is (f := 37) rfl hT (by decide) h.1 dX1_guard_160 ?_
      replace h := h.2
      refine a_topt (fun t_10 et_10 => ?_)
      replace h := h t_10 et_10
      refine a_aload_n 1 dX1_guard_161 rfl rfl ?_
      refine t_ga 38 hT (by decide) q1550 rfl dX1_guard_162 ?_
      refine a_iload 0 dX1_guard_165 rfl ?_
      refine a_iconst (v := 0) dX1_guard_167 (by decide) ?_
      refine t_is (f := 38) rfl hT (by decide) h.1 dX1_guard_168 ?_
      replace h := h.2
      refine a_topt (fun t_11 et_11 => ?_)
      replace h := h t_11 et_11
      refine a_aload_n 1 dX1_guard_169 rfl rfl ?_
      refine t_ga 39 hT (by decide) q1551 rfl dX1_guard_170 ?_
      refine a_iload 0 dX1_guard_173 rfl ?_
      refine a_iconst (v := 0) dX1_guard_175 (by decide) ?_
      refine t_is (f := 39) rfl hT (by decide) h.1 dX1_guard_176 ?_
      replace h := h.2
      refine a_topt (fun t_12 et_12 => ?_)
      replace h := h t_12 et_12
      refine a_aload_n 1 dX1_guard_177 rfl rfl ?_
      refine t_ga 40 hT (by decide) q1552 rfl dX1_guard_178 ?_
      refine a_iload 0 dX1_guard_181 rfl ?_
      refine a_iconst (v := 0) dX1_guard_183 (by decide) ?_
      refine t_is (f := 40) rfl hT (by decide) h.1 dX1_guard_184 ?_
      replace h := h.2
      refine a_topt (fun t_13 et_13 => ?_)
      replace h := h t_13 et_13
      refine a_aload_n 1 dX1_guard_185 rfl rfl ?_
      refine t_ga 41 hT (by decide) q1553 rfl dX1_guard_186 ?_
      refine a_iload 0 dX1_guard_189 rfl ?_
      refine a_iconst (v := 0) dX1_guard_191 (by decide) ?_
      refine t_is (f := 41) rfl hT (by decide) h.1 dX1_guard_192 ?_
      replace h := h.2
      refine a_topt (fun t_14 et_14 => ?_)
      replace h := h t_14 et_14
      refine a_aload_n 1 dX1_guard_193 rfl rfl ?_
      refine t_ga 42 hT (by decide) q1554 rfl dX1_guard_194 ?_
      refine a_iload 0 dX1_guard_197 rfl ?_
      refine a_iload_n 2 dX1_guard_199 rfl rfl ?_
      refine a_iconst (v := 2) dX1_guard_200 (by decide) ?_
      refine a_icmp_ne (tgt := 208) dX1_guard_201 (by decide) (fun c_17 => ?_) (fun c_17 => ?_)
      · replace h := h.1 c_17
        refine a_iconst (v := 0) dX1_guard_208 (by decide) ?_
        refine t_is (f := 42) rfl hT (by decide) h.1 dX1_guard_209 ?_
        replace h := h.2
        refine a_topt (fun t_15 et_15 => ?_)
        replace h := h t_15 et_15
        refine a_iconst (v := 0) dX1_guard_210 (by decide) ?_
        refine a_istore (lv' := [(8, .inl 0), (7, .inl x_3), (0, .inr (2, 0)), (1, .inl x1), (2, .inl x2), (3, .inl x3), (4, .inl x4), (5, .inl x5)]) dX1_guard_211 (Nat.le_of_ble_eq_true rfl) rfl ?_
        obtain ⟨n_, h⟩ := h
        exact wp_sub (by simp) (sd_guard_213 hP hT n_ x_3 0 t_15 h)
      · replace h := h.2 c_17
        refine a_iload_n 3 dX1_guard_204 rfl rfl ?_
        refine a_goto (tgt := 209) dX1_guard_205 (by decide) ?_
        refine t_is (f := 42) rfl hT (by decide) h.1 dX1_guard_209 ?_
        replace h := h.2
        refine a_topt (fun t_16 et_16 => ?_)
        replace h := h t_16 et_16
        refine a_iconst (v := 0) dX1_guard_210 (by decide) ?_
        refine a_istore (lv' := [(8, .inl 0), (7, .inl x_3), (0, .inr (2, 0)), (1, .inl x1), (2, .inl x2), (3, .inl x3), (4, .inl x4), (5, .inl x5)]) dX1_guard_211 (Nat.le_of_ble_eq_true rfl) rfl ?_
        obtain ⟨n_, h⟩ := h
        exact wp_sub (by simp) (sd_guard_213 hP hT n_ x_3 0 t_16 h)
    · replace h := h.2 c_18
      refine a_bipush (v := (-3)) dX1_guard_94 (by decide) ?_
      exact a_iret rfl dX1_guard_96 (hP _ _ h)
  · replace h := h.2 c_19
    refine a_bipush (v := (-2)) dX1_guard_82 (by decide) ?_
    exact a_iret rfl dX1_guard_84 (hP _ _ h)
def w_guard_47 (x1 x2 x3 x4 x5 s0 : Int32) (t : DB) (Q : Int32 → DB → Prop) : Prop := w_isGood x1 x2 x3 x4 t (fun r_2 t_1 => ((r_2 = 0) → (Q (-2) t_1)) ∧ ((¬ r_2 = 0) → (((s0 = 0) → (w_guard_76 x1 x2 x3 x4 x5 0 0 x5 t_1 Q)) ∧ ((¬ s0 = 0) → (w_guard_76 x1 x2 x3 x4 x5 15 0 x5 t_1 Q)))))
set_option maxHeartbeats 4000000 in
theorem sd_guard_47 {d : Nat} {M : Mem} {P : Option AV → Mem → Prop} {Q : Int32 → DB → Prop} (hP : ∀ r t, Q r t → P (some (.inl r)) (tput M t)) (hT : TW M) (x1 x2 x3 x4 x5 s0 : Int32) (t : DB) (h : w_guard_47 x1 x2 x3 x4 x5 s0 t Q) : wp (d + 2) mX1_guard 47 [(0, .inr (2, 0)), (1, .inl x1), (2, .inl x2), (3, .inl x3), (4, .inl x4), (5, .inl x5)] [.inl s0] (tput M t) P := by
  unfold w_guard_47 at h
  refine a_istore (lv' := [(6, .inl s0), (0, .inr (2, 0)), (1, .inl x1), (2, .inl x2), (3, .inl x3), (4, .inl x4), (5, .inl x5)]) dX1_guard_47 (Nat.le_of_ble_eq_true rfl) rfl ?_
  refine a_aload_n 1 dX1_guard_49 rfl rfl ?_
  refine a_iload_n 2 dX1_guard_50 rfl rfl ?_
  refine a_iload_n 3 dX1_guard_51 rfl rfl ?_
  refine a_iload_n 4 dX1_guard_52 rfl rfl ?_
  refine a_iload 5 dX1_guard_53 rfl ?_
  refine a_cv (y := mX1_isGood) (k := 2) (i := 0) (as := [.inl x1, .inl x2, .inl x3, .inl x4]) (st := []) (n := 4) (by decide) (Or.inl q1884) qs32 q1886 q73 q1887 zmh_isGood rfl (Nat.le_of_ble_eq_true rfl) (Nat.le_of_ble_eq_true rfl) dX1_guard_55 (sd_isGood (fun r_2 t_1 h => ?_) hT h)
  show wp (d + 2) mX1_guard 58 [(6, .inl s0), (0, .inr (2, 0)), (1, .inl x1), (2, .inl x2), (3, .inl x3), (4, .inl x4), (5, .inl x5)] [.inl r_2] (tput M t_1) P
  refine a_if_eq (tgt := 82) dX1_guard_58 (by decide) (fun c_4 => ?_) (fun c_4 => ?_)
  · replace h := h.1 c_4
    refine a_bipush (v := (-2)) dX1_guard_82 (by decide) ?_
    exact a_iret rfl dX1_guard_84 (hP _ _ h)
  · replace h := h.2 c_4
    refine a_aload_n 1 dX1_guard_61 rfl rfl ?_
    refine a_iload 6 dX1_guard_62 rfl ?_
    refine a_iconst (v := 0) dX1_guard_64 (by decide) ?_
    refine a_iload 0 dX1_guard_65 rfl ?_
    refine a_if_eq (tgt := 75) dX1_guard_67 (by decide) (fun c_3 => ?_) (fun c_3 => ?_)
    · replace h := h.1 c_3
      refine a_iconst (v := 0) dX1_guard_75 (by decide) ?_
      exact wp_sub (by simp) (sd_guard_76 hP hT x1 x2 x3 x4 x5 0 0 x5 t_1 h)
    · replace h := h.2 c_3
      refine a_bipush (v := 15) dX1_guard_70 (by decide) ?_
      refine a_goto (tgt := 76) dX1_guard_72 (by decide) ?_
      exact wp_sub (by simp) (sd_guard_76 hP hT x1 x2 x3 x4 x5 15 0 x5 t_1 h)
def w_guard_21 (x1 x2 x3 x4 x5 : Int32) (t : DB) (Q : Int32 → DB → Prop) : Prop := ((x1 = 0) → (w_guard_47 x1 x2 x3 x4 x5 1 t Q)) ∧ ((¬ x1 = 0) → (((x1 = 4) → (w_guard_47 x1 x2 x3 x4 x5 1 t Q)) ∧ ((¬ x1 = 4) → (((x1 = 6) → (w_guard_47 x1 x2 x3 x4 x5 1 t Q)) ∧ ((¬ x1 = 6) → (((¬ x1 = 9) → (w_guard_47 x1 x2 x3 x4 x5 0 t Q)) ∧ ((x1 = 9) → (w_guard_47 x1 x2 x3 x4 x5 1 t Q))))))))
set_option maxHeartbeats 4000000 in
theorem sd_guard_21 {d : Nat} {M : Mem} {P : Option AV → Mem → Prop} {Q : Int32 → DB → Prop} (hP : ∀ r t, Q r t → P (some (.inl r)) (tput M t)) (hT : TW M) (x1 x2 x3 x4 x5 : Int32) (t : DB) (h : w_guard_21 x1 x2 x3 x4 x5 t Q) : wp (d + 2) mX1_guard 21 [(0, .inr (2, 0)), (1, .inl x1), (2, .inl x2), (3, .inl x3), (4, .inl x4), (5, .inl x5)] [] (tput M t) P := by
  unfold w_guard_21 at h
  refine a_iload_n 1 dX1_guard_21 rfl rfl ?_
  refine a_if_eq (tgt := 42) dX1_guard_22 (by decide) (fun c_4 => ?_) (fun c_4 => ?_)
  · replace h := h.1 c_4
    refine a_iconst (v := 1) dX1_guard_42 (by decide) ?_
    refine a_goto (tgt := 47) dX1_guard_43 (by decide) ?_
    exact wp_sub (by simp) (sd_guard_47 hP hT x1 x2 x3 x4 x5 1 t h)
  · replace h := h.2 c_4
    refine a_iload_n 1 dX1_guard_25 rfl rfl ?_
    refine a_iconst (v := 4) dX1_guard_26 (by decide) ?_
    refine a_icmp_eq (tgt := 42) dX1_guard_27 (by decide) (fun c_3 => ?_) (fun c_3 => ?_)
    · replace h := h.1 c_3
      refine a_iconst (v := 1) dX1_guard_42 (by decide) ?_
      refine a_goto (tgt := 47) dX1_guard_43 (by decide) ?_
      exact wp_sub (by simp) (sd_guard_47 hP hT x1 x2 x3 x4 x5 1 t h)
    · replace h := h.2 c_3
      refine a_iload_n 1 dX1_guard_30 rfl rfl ?_
      refine a_bipush (v := 6) dX1_guard_31 (by decide) ?_
      refine a_icmp_eq (tgt := 42) dX1_guard_33 (by decide) (fun c_2 => ?_) (fun c_2 => ?_)
      · replace h := h.1 c_2
        refine a_iconst (v := 1) dX1_guard_42 (by decide) ?_
        refine a_goto (tgt := 47) dX1_guard_43 (by decide) ?_
        exact wp_sub (by simp) (sd_guard_47 hP hT x1 x2 x3 x4 x5 1 t h)
      · replace h := h.2 c_2
        refine a_iload_n 1 dX1_guard_36 rfl rfl ?_
        refine a_bipush (v := 9) dX1_guard_37 (by decide) ?_
        refine a_icmp_ne (tgt := 46) dX1_guard_39 (by decide) (fun c_1 => ?_) (fun c_1 => ?_)
        · replace h := h.1 c_1
          refine a_iconst (v := 0) dX1_guard_46 (by decide) ?_
          exact wp_sub (by simp) (sd_guard_47 hP hT x1 x2 x3 x4 x5 0 t h)
        · replace h := h.2 c_1
          refine a_iconst (v := 1) dX1_guard_42 (by decide) ?_
          refine a_goto (tgt := 47) dX1_guard_43 (by decide) ?_
          exact wp_sub (by simp) (sd_guard_47 hP hT x1 x2 x3 x4 x5 1 t h)
def w_guard (x1 x2 x3 x4 x5 : Int32) (t : DB) (Q : Int32 → DB → Prop) : Prop := ((¬ x1 = 6) → (w_guard_21 x1 x2 x3 x4 x5 t Q)) ∧ ((x1 = 6) → (((¬ x2 = 1) → (w_guard_21 x1 x2 x3 x4 x5 t Q)) ∧ ((x2 = 1) → (w_isStation x3 t (fun r_2 t_1 => ((¬ r_2 = 0) → (w_guard_21 x1 x2 x3 x4 x5 t_1 Q)) ∧ ((r_2 = 0) → (Q (-1) t_1)))))))
set_option maxHeartbeats 4000000 in
theorem sd_guard {d : Nat} {M : Mem} {P : Option AV → Mem → Prop} {Q : Int32 → DB → Prop} {x1 x2 x3 x4 x5 : Int32} {t : DB} (hP : ∀ r t, Q r t → P (some (.inl r)) (tput M t)) (hT : TW M) (h : w_guard x1 x2 x3 x4 x5 t Q) : ct (d + 2) mX1_guard [.inr (2, 0), .inl x1, .inl x2, .inl x3, .inl x4, .inl x5] (tput M t) P := by
  refine ct_of (by decide) (Nat.le_of_ble_eq_true rfl) ?_
  show wp (d + 2) mX1_guard 0 [(0, .inr (2, 0)), (1, .inl x1), (2, .inl x2), (3, .inl x3), (4, .inl x4), (5, .inl x5)] [] (tput M t) P
  unfold w_guard at h
  refine a_iload_n 1 dX1_guard_0 rfl rfl ?_
  refine a_bipush (v := 6) dX1_guard_1 (by decide) ?_
  refine a_icmp_ne (tgt := 21) dX1_guard_3 (by decide) (fun c_5 => ?_) (fun c_5 => ?_)
  · replace h := h.1 c_5
    exact wp_sub (by simp) (sd_guard_21 hP hT x1 x2 x3 x4 x5 t h)
  · replace h := h.2 c_5
    refine a_iload_n 2 dX1_guard_6 rfl rfl ?_
    refine a_iconst (v := 1) dX1_guard_7 (by decide) ?_
    refine a_icmp_ne (tgt := 21) dX1_guard_8 (by decide) (fun c_4 => ?_) (fun c_4 => ?_)
    · replace h := h.1 c_4
      exact wp_sub (by simp) (sd_guard_21 hP hT x1 x2 x3 x4 x5 t h)
    · replace h := h.2 c_4
      refine a_aload_n 0 dX1_guard_11 rfl rfl ?_
      refine a_iload_n 3 dX1_guard_12 rfl rfl ?_
      refine a_cv (y := mX1_isStation) (k := 2) (i := 0) (as := [.inl x3]) (st := []) (n := 1) (by decide) (Or.inl q1852) qs28 q1854 q73 q1855 zmh_isStation rfl (Nat.le_of_ble_eq_true rfl) (Nat.le_of_ble_eq_true rfl) dX1_guard_13 (sd_isStation (fun r_2 t_1 h => ?_) hT h)
      show wp (d + 2) mX1_guard 16 [(0, .inr (2, 0)), (1, .inl x1), (2, .inl x2), (3, .inl x3), (4, .inl x4), (5, .inl x5)] [.inl r_2] (tput M t_1) P
      refine a_if_ne (tgt := 21) dX1_guard_16 (by decide) (fun c_3 => ?_) (fun c_3 => ?_)
      · replace h := h.1 c_3
        exact wp_sub (by simp) (sd_guard_21 hP hT x1 x2 x3 x4 x5 t_1 h)
      · replace h := h.2 c_3
        refine a_iconst (v := (-1)) dX1_guard_19 (by decide) ?_
        exact a_iret rfl dX1_guard_20 (hP _ _ h)
theorem zmh_guard : zmh yX1_guard 5 := ⟨⟨by decide +kernel, by decide +kernel⟩, by decide +kernel⟩
abbrev mX1_on : zMt := (yX1_on, cX1_on, 3, some .int)
def w_on_16 : Nat → Int32 → Int32 → DB → (Int32 → DB → Prop) → Prop
  | 0, _, _, _, _ => False
  | n + 1, x1, x2, t, Q => vp_in 10 11 ∧ ((((t 48 (10 : Int32).toNatClampNeg) ≤ x2) → (vp_in 10 11 ∧ (((¬ (t 48 (10 : Int32).toNatClampNeg) = 5) → (vp_in 10 11 ∧ (vp_in (50 + (t 48 (10 : Int32).toNatClampNeg)) 55 ∧ (∀ t_1 : DB, t_1 = up t 49 (50 + (t 48 (10 : Int32).toNatClampNeg)).toNatClampNeg x1 → (vp_in 10 11 ∧ (vp_in 10 11 ∧ (∀ t_2 : DB, t_2 = up t_1 48 (10 : Int32).toNatClampNeg ((t_1 48 (10 : Int32).toNatClampNeg) + 1) → (vp_in 10 11 ∧ (Q (t_2 48 (10 : Int32).toNatClampNeg) t_2))))))))) ∧ (((t 48 (10 : Int32).toNatClampNeg) = 5) → (Q (-3) t))))) ∧ ((¬ (t 48 (10 : Int32).toNatClampNeg) ≤ x2) → (vp_in (50 + x2) 55 ∧ (vp_in (t 49 (50 + x2).toNatClampNeg) 24 ∧ (vp_in x1 24 ∧ (((¬ (t 31 (t 49 (50 + x2).toNatClampNeg).toNatClampNeg) = (t 31 x1.toNatClampNeg)) → (∀ x_4 : Int32, x_4 = x2 + 1 → (w_on_16 n x1 x_4 t Q))) ∧ (((t 31 (t 49 (50 + x2).toNatClampNeg).toNatClampNeg) = (t 31 x1.toNatClampNeg)) → (Q (-2) t))))))))
set_option maxHeartbeats 4000000 in
theorem sd_on_16 {d : Nat} {M : Mem} {P : Option AV → Mem → Prop} {Q : Int32 → DB → Prop} (hP : ∀ r t, Q r t → P (some (.inl r)) (tput M t)) (hT : TW M) : ∀ (n : Nat) (x1 x2 : Int32) (t : DB), w_on_16 n x1 x2 t Q → wp d mX1_on 16 [(0, .inr (2, 0)), (1, .inl x1), (2, .inl x2)] [] (tput M t) P := by
  intro n
  induction n with
  | zero => intro x1 x2 t h; exact False.elim h
  | succ n ih =>
    intro x1 x2 t h
    rw [w_on_16] at h
    refine a_iload_n 2 dX1_on_16 rfl rfl ?_
    refine a_aload_n 0 dX1_on_17 rfl rfl ?_
    refine t_ga 48 hT (by decide) q1560 rfl dX1_on_18 ?_
    refine a_bipush (v := 10) dX1_on_21 (by decide) ?_
    refine t_ia (f := 48) rfl hT (by decide) h.1 dX1_on_23 ?_
    replace h := h.2
    refine a_icmp_ge (tgt := 59) dX1_on_24 (by decide) (fun c_6 => ?_) (fun c_6 => ?_)
    · replace h := h.1 c_6
      refine a_aload_n 0 dX1_on_59 rfl rfl ?_
      refine t_ga 48 hT (by decide) q1560 rfl dX1_on_60 ?_
      refine a_bipush (v := 10) dX1_on_63 (by decide) ?_
      refine t_ia (f := 48) rfl hT (by decide) h.1 dX1_on_65 ?_
      replace h := h.2
      refine a_iconst (v := 5) dX1_on_66 (by decide) ?_
      refine a_icmp_ne (tgt := 73) dX1_on_67 (by decide) (fun c_3 => ?_) (fun c_3 => ?_)
      · replace h := h.1 c_3
        refine a_aload_n 0 dX1_on_73 rfl rfl ?_
        refine t_ga 49 hT (by decide) q1561 rfl dX1_on_74 ?_
        refine a_bipush (v := 50) dX1_on_77 (by decide) ?_
        refine a_aload_n 0 dX1_on_79 rfl rfl ?_
        refine t_ga 48 hT (by decide) q1560 rfl dX1_on_80 ?_
        refine a_bipush (v := 10) dX1_on_83 (by decide) ?_
        refine t_ia (f := 48) rfl hT (by decide) h.1 dX1_on_85 ?_
        replace h := h.2
        refine a_iadd dX1_on_86 ?_
        refine a_iload_n 1 dX1_on_87 rfl rfl ?_
        refine t_is (f := 49) rfl hT (by decide) h.1 dX1_on_88 ?_
        replace h := h.2
        refine a_topt (fun t_1 et_1 => ?_)
        replace h := h t_1 et_1
        refine a_aload_n 0 dX1_on_89 rfl rfl ?_
        refine t_ga 48 hT (by decide) q1560 rfl dX1_on_90 ?_
        refine a_bipush (v := 10) dX1_on_93 (by decide) ?_
        refine a_dup2 dX1_on_95 ?_
        refine t_ia (f := 48) rfl hT (by decide) h.1 dX1_on_96 ?_
        replace h := h.2
        refine a_iconst (v := 1) dX1_on_97 (by decide) ?_
        refine a_iadd dX1_on_98 ?_
        refine t_is (f := 48) rfl hT (by decide) h.1 dX1_on_99 ?_
        replace h := h.2
        refine a_topt (fun t_2 et_2 => ?_)
        replace h := h t_2 et_2
        refine a_aload_n 0 dX1_on_100 rfl rfl ?_
        refine t_ga 48 hT (by decide) q1560 rfl dX1_on_101 ?_
        refine a_bipush (v := 10) dX1_on_104 (by decide) ?_
        refine t_ia (f := 48) rfl hT (by decide) h.1 dX1_on_106 ?_
        replace h := h.2
        exact a_iret rfl dX1_on_107 (hP _ _ h)
      · replace h := h.2 c_3
        refine a_bipush (v := (-3)) dX1_on_70 (by decide) ?_
        exact a_iret rfl dX1_on_72 (hP _ _ h)
    · replace h := h.2 c_6
      refine a_aload_n 0 dX1_on_27 rfl rfl ?_
      refine t_ga 31 hT (by decide) q1543 rfl dX1_on_28 ?_
      refine a_aload_n 0 dX1_on_31 rfl rfl ?_
      refine t_ga 49 hT (by decide) q1561 rfl dX1_on_32 ?_
      refine a_bipush (v := 50) dX1_on_35 (by decide) ?_
      refine a_iload_n 2 dX1_on_37 rfl rfl ?_
      refine a_iadd dX1_on_38 ?_
      refine t_ia (f := 49) rfl hT (by decide) h.1 dX1_on_39 ?_
      replace h := h.2
      refine t_ia (f := 31) rfl hT (by decide) h.1 dX1_on_40 ?_
      replace h := h.2
      refine a_aload_n 0 dX1_on_41 rfl rfl ?_
      refine t_ga 31 hT (by decide) q1543 rfl dX1_on_42 ?_
      refine a_iload_n 1 dX1_on_45 rfl rfl ?_
      refine t_ia (f := 31) rfl hT (by decide) h.1 dX1_on_46 ?_
      replace h := h.2
      refine a_icmp_ne (tgt := 53) dX1_on_47 (by decide) (fun c_5 => ?_) (fun c_5 => ?_)
      · replace h := h.1 c_5
        obtain ⟨x_4, ex_4⟩ : ∃ y : Int32, y = x2 + 1 := ⟨_, rfl⟩
        replace h := h x_4 ex_4
        refine a_iinc (v := x_4) (lv' := [(2, .inl x_4), (0, .inr (2, 0)), (1, .inl x1)]) 2 dX1_on_53 rfl (by rw [ex_4]; rfl) (Nat.le_of_ble_eq_true rfl) rfl ?_
        refine a_goto (tgt := 16) dX1_on_56 (by decide) ?_
        exact wp_sub (by simp) (ih x1 x_4 t h)
      · replace h := h.2 c_5
        refine a_bipush (v := (-2)) dX1_on_50 (by decide) ?_
        exact a_iret rfl dX1_on_52 (hP _ _ h)
def w_on (x1 : Int32) (t : DB) (Q : Int32 → DB → Prop) : Prop := ((x1 < 0) → (Q (-1) t)) ∧ ((¬ x1 < 0) → (((x1 < (t 30 0)) → (∃ n_, w_on_16 n_ x1 0 t Q)) ∧ ((¬ x1 < (t 30 0)) → (Q (-1) t))))
set_option maxHeartbeats 4000000 in
theorem sd_on {d : Nat} {M : Mem} {P : Option AV → Mem → Prop} {Q : Int32 → DB → Prop} {x1 : Int32} {t : DB} (hP : ∀ r t, Q r t → P (some (.inl r)) (tput M t)) (hT : TW M) (h : w_on x1 t Q) : ct d mX1_on [.inr (2, 0), .inl x1] (tput M t) P := by
  refine ct_of (by decide) (Nat.le_of_ble_eq_true rfl) ?_
  show wp d mX1_on 0 [(0, .inr (2, 0)), (1, .inl x1)] [] (tput M t) P
  unfold w_on at h
  refine a_iload_n 1 dX1_on_0 rfl rfl ?_
  refine a_if_lt (tgt := 12) dX1_on_1 (by decide) (fun c_2 => ?_) (fun c_2 => ?_)
  · replace h := h.1 c_2
    refine a_iconst (v := (-1)) dX1_on_12 (by decide) ?_
    exact a_iret rfl dX1_on_13 (hP _ _ h)
  · replace h := h.2 c_2
    refine a_iload_n 1 dX1_on_4 rfl rfl ?_
    refine a_aload_n 0 dX1_on_5 rfl rfl ?_
    refine t_gi 30 (by decide) q1542 rfl dX1_on_6 ?_
    refine a_icmp_lt (tgt := 14) dX1_on_9 (by decide) (fun c_1 => ?_) (fun c_1 => ?_)
    · replace h := h.1 c_1
      refine a_iconst (v := 0) dX1_on_14 (by decide) ?_
      refine a_istore_n (lv' := [(2, .inl 0), (0, .inr (2, 0)), (1, .inl x1)]) dX1_on_15 rfl (Nat.le_of_ble_eq_true rfl) rfl ?_
      obtain ⟨n_, h⟩ := h
      exact wp_sub (by simp) (sd_on_16 hP hT n_ x1 0 t h)
    · replace h := h.2 c_1
      refine a_iconst (v := (-1)) dX1_on_12 (by decide) ?_
      exact a_iret rfl dX1_on_13 (hP _ _ h)
theorem zmh_on : zmh yX1_on 1 := ⟨⟨by decide +kernel, by decide +kernel⟩, by decide +kernel⟩
abbrev mX1_tower : zMt := (yX1_tower, cX1_tower, 2, some .int)
def w_tower_30 : Nat → Int32 → DB → (Int32 → DB → Prop) → Prop
  | 0, _, _, _ => False
  | n + 1, x1, t, Q => vp_in 10 11 ∧ ((((t 48 (10 : Int32).toNatClampNeg) ≤ x1) → (vp_in 10 11 ∧ (∀ t_1 : DB, t_1 = up t 48 (10 : Int32).toNatClampNeg 0 → (∀ t_2 : DB, t_2 = up t_1 47 0 ((t_1 47 0) + 1) → (Q ((t_2 47 0) - 1) t_2))))) ∧ ((¬ (t 48 (10 : Int32).toNatClampNeg) ≤ x1) → (vp_in (50 + x1) 55 ∧ (vp_in ((5 * (t 47 0)) + x1) 55 ∧ (∀ t_3 : DB, t_3 = up t 49 ((5 * (t 47 0)) + x1).toNatClampNeg (t 49 (50 + x1).toNatClampNeg) → (∀ x_4 : Int32, x_4 = x1 + 1 → (w_tower_30 n x_4 t_3 Q)))))))
set_option maxHeartbeats 4000000 in
theorem sd_tower_30 {d : Nat} {M : Mem} {P : Option AV → Mem → Prop} {Q : Int32 → DB → Prop} (hP : ∀ r t, Q r t → P (some (.inl r)) (tput M t)) (hT : TW M) : ∀ (n : Nat) (x1 : Int32) (t : DB), w_tower_30 n x1 t Q → wp d mX1_tower 30 [(0, .inr (2, 0)), (1, .inl x1)] [] (tput M t) P := by
  intro n
  induction n with
  | zero => intro x1 t h; exact False.elim h
  | succ n ih =>
    intro x1 t h
    rw [w_tower_30] at h
    refine a_iload_n 1 dX1_tower_30 rfl rfl ?_
    refine a_aload_n 0 dX1_tower_31 rfl rfl ?_
    refine t_ga 48 hT (by decide) q1560 rfl dX1_tower_32 ?_
    refine a_bipush (v := 10) dX1_tower_35 (by decide) ?_
    refine t_ia (f := 48) rfl hT (by decide) h.1 dX1_tower_37 ?_
    replace h := h.2
    refine a_icmp_ge (tgt := 69) dX1_tower_38 (by decide) (fun c_5 => ?_) (fun c_5 => ?_)
    · replace h := h.1 c_5
      refine a_aload_n 0 dX1_tower_69 rfl rfl ?_
      refine t_ga 48 hT (by decide) q1560 rfl dX1_tower_70 ?_
      refine a_bipush (v := 10) dX1_tower_73 (by decide) ?_
      refine a_iconst (v := 0) dX1_tower_75 (by decide) ?_
      refine t_is (f := 48) rfl hT (by decide) h.1 dX1_tower_76 ?_
      replace h := h.2
      refine a_topt (fun t_1 et_1 => ?_)
      replace h := h t_1 et_1
      refine a_aload_n 0 dX1_tower_77 rfl rfl ?_
      refine a_dup dX1_tower_78 ?_
      refine t_gi 47 (by decide) q1559 rfl dX1_tower_79 ?_
      refine a_iconst (v := 1) dX1_tower_82 (by decide) ?_
      refine a_iadd dX1_tower_83 ?_
      refine t_pi 47 (by decide) q1559 rfl rfl dX1_tower_84 ?_
      refine a_topt (fun t_2 et_2 => ?_)
      replace h := h t_2 et_2
      refine a_aload_n 0 dX1_tower_87 rfl rfl ?_
      refine t_gi 47 (by decide) q1559 rfl dX1_tower_88 ?_
      refine a_iconst (v := 1) dX1_tower_91 (by decide) ?_
      refine a_isub dX1_tower_92 ?_
      exact a_iret rfl dX1_tower_93 (hP _ _ h)
    · replace h := h.2 c_5
      refine a_aload_n 0 dX1_tower_41 rfl rfl ?_
      refine t_ga 49 hT (by decide) q1561 rfl dX1_tower_42 ?_
      refine a_iconst (v := 5) dX1_tower_45 (by decide) ?_
      refine a_aload_n 0 dX1_tower_46 rfl rfl ?_
      refine t_gi 47 (by decide) q1559 rfl dX1_tower_47 ?_
      refine a_imul dX1_tower_50 ?_
      refine a_iload_n 1 dX1_tower_51 rfl rfl ?_
      refine a_iadd dX1_tower_52 ?_
      refine a_aload_n 0 dX1_tower_53 rfl rfl ?_
      refine t_ga 49 hT (by decide) q1561 rfl dX1_tower_54 ?_
      refine a_bipush (v := 50) dX1_tower_57 (by decide) ?_
      refine a_iload_n 1 dX1_tower_59 rfl rfl ?_
      refine a_iadd dX1_tower_60 ?_
      refine t_ia (f := 49) rfl hT (by decide) h.1 dX1_tower_61 ?_
      replace h := h.2
      refine t_is (f := 49) rfl hT (by decide) h.1 dX1_tower_62 ?_
      replace h := h.2
      refine a_topt (fun t_3 et_3 => ?_)
      replace h := h t_3 et_3
      obtain ⟨x_4, ex_4⟩ : ∃ y : Int32, y = x1 + 1 := ⟨_, rfl⟩
      replace h := h x_4 ex_4
      refine a_iinc (v := x_4) (lv' := [(1, .inl x_4), (0, .inr (2, 0))]) 1 dX1_tower_63 rfl (by rw [ex_4]; rfl) (Nat.le_of_ble_eq_true rfl) rfl ?_
      refine a_goto (tgt := 30) dX1_tower_66 (by decide) ?_
      exact wp_sub (by simp) (ih x_4 t_3 h)
def w_tower (t : DB) (Q : Int32 → DB → Prop) : Prop := ((¬ (t 47 0) = 10) → (vp_in 10 11 ∧ (vp_in (t 47 0) 11 ∧ (∀ t_1 : DB, t_1 = up t 48 (t 47 0).toNatClampNeg (t 48 (10 : Int32).toNatClampNeg) → (∃ n_, w_tower_30 n_ 0 t_1 Q))))) ∧ (((t 47 0) = 10) → (Q (-3) t))
set_option maxHeartbeats 4000000 in
theorem sd_tower {d : Nat} {M : Mem} {P : Option AV → Mem → Prop} {Q : Int32 → DB → Prop} {t : DB} (hP : ∀ r t, Q r t → P (some (.inl r)) (tput M t)) (hT : TW M) (h : w_tower  t Q) : ct d mX1_tower [.inr (2, 0)] (tput M t) P := by
  refine ct_of (by decide) (Nat.le_of_ble_eq_true rfl) ?_
  show wp d mX1_tower 0 [(0, .inr (2, 0))] [] (tput M t) P
  unfold w_tower at h
  refine a_aload_n 0 dX1_tower_0 rfl rfl ?_
  refine t_gi 47 (by decide) q1559 rfl dX1_tower_1 ?_
  refine a_bipush (v := 10) dX1_tower_4 (by decide) ?_
  refine a_icmp_ne (tgt := 12) dX1_tower_6 (by decide) (fun c_2 => ?_) (fun c_2 => ?_)
  · replace h := h.1 c_2
    refine a_aload_n 0 dX1_tower_12 rfl rfl ?_
    refine t_ga 48 hT (by decide) q1560 rfl dX1_tower_13 ?_
    refine a_aload_n 0 dX1_tower_16 rfl rfl ?_
    refine t_gi 47 (by decide) q1559 rfl dX1_tower_17 ?_
    refine a_aload_n 0 dX1_tower_20 rfl rfl ?_
    refine t_ga 48 hT (by decide) q1560 rfl dX1_tower_21 ?_
    refine a_bipush (v := 10) dX1_tower_24 (by decide) ?_
    refine t_ia (f := 48) rfl hT (by decide) h.1 dX1_tower_26 ?_
    replace h := h.2
    refine t_is (f := 48) rfl hT (by decide) h.1 dX1_tower_27 ?_
    replace h := h.2
    refine a_topt (fun t_1 et_1 => ?_)
    replace h := h t_1 et_1
    refine a_iconst (v := 0) dX1_tower_28 (by decide) ?_
    refine a_istore_n (lv' := [(1, .inl 0), (0, .inr (2, 0))]) dX1_tower_29 rfl (Nat.le_of_ble_eq_true rfl) rfl ?_
    obtain ⟨n_, h⟩ := h
    exact wp_sub (by simp) (sd_tower_30 hP hT n_ 0 t_1 h)
  · replace h := h.2 c_2
    refine a_bipush (v := (-3)) dX1_tower_9 (by decide) ?_
    exact a_iret rfl dX1_tower_11 (hP _ _ h)
theorem zmh_tower : zmh yX1_tower 0 := ⟨⟨by decide +kernel, by decide +kernel⟩, by decide +kernel⟩
