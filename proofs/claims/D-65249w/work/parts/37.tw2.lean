set_option maxRecDepth 100000
abbrev mX1_fallbackTold : zMt := (yX1_fallbackTold, cX1_fallbackTold, 4, none)
def w_fallbackTold (x1 x2 x3 : Int32) (t : DB) (Q : DB → Prop) : Prop := vp_in x1 4400 ∧ (((¬ (t 73 x1.toNatClampNeg) = 2) → (w_isNamed x2 x3 t (fun r_2 t_1 => ((¬ r_2 = 0) → (vp_in x3 24 ∧ (((¬ (t_1 32 x3.toNatClampNeg) = 0) → (vp_in x1 4400 ∧ (vp_in x1 4400 ∧ (vp_in x3 24 ∧ (w_add 0 (t_1 62 x1.toNatClampNeg) ((t_1 63 x1.toNatClampNeg) + 1) x1 (t_1 33 x3.toNatClampNeg) t_1 (fun t_3 => Q t_3)))))) ∧ (((t_1 32 x3.toNatClampNeg) = 0) → (vp_in x3 24 ∧ (w_add 1 x1 1 (t_1 33 x3.toNatClampNeg) 1 t_1 (fun t_5 => Q t_5))))))) ∧ ((r_2 = 0) → (w_alike x1 x2 t_1 (fun t_8 => Q t_8)))))) ∧ (((t 73 x1.toNatClampNeg) = 2) → (vp_in x2 4400 ∧ (((¬ (t 69 x2.toNatClampNeg) = 1) → (vp_in x2 4400 ∧ (w_otherOf x1 x2 t (fun r_12 t_11 => vp_in r_12 4400 ∧ (vp_in (t 70 x2.toNatClampNeg) 4400 ∧ (∀ t_13 : DB, t_13 = up t_11 28 (t 70 x2.toNatClampNeg).toNatClampNeg (t_11 70 r_12.toNatClampNeg) → (w_alike x1 x2 t_13 (fun t_14 => Q t_14)))))))) ∧ (((t 69 x2.toNatClampNeg) = 1) → (vp_in x2 4400 ∧ (w_add 1 x1 1 (t 70 x2.toNatClampNeg) 1 t (fun t_16 => Q t_16))))))))
set_option maxHeartbeats 4000000 in
theorem sd_fallbackTold {d : Nat} {M : Mem} {P : Option AV → Mem → Prop} {Q : DB → Prop} {x1 x2 x3 : Int32} {t : DB} (hP : ∀ t, Q t → P none (tput M t)) (hT : TW M) (h : w_fallbackTold x1 x2 x3 t Q) : ct (d + 3) mX1_fallbackTold [.inr (2, 0), .inl x1, .inl x2, .inl x3] (tput M t) P := by
  refine ct_of (by decide) (Nat.le_of_ble_eq_true rfl) ?_
  show wp (d + 3) mX1_fallbackTold 0 [(0, .inr (2, 0)), (1, .inl x1), (2, .inl x2), (3, .inl x3)] [] (tput M t) P
  unfold w_fallbackTold at h
  refine a_aload_n 0 dX1_fallbackTold_0 rfl rfl ?_
  refine t_ga 73 hT (by decide) q1585 rfl dX1_fallbackTold_1 ?_
  refine a_iload_n 1 dX1_fallbackTold_4 rfl rfl ?_
  refine t_ia (f := 73) rfl hT (by decide) h.1 dX1_fallbackTold_5 ?_
  replace h := h.2
  refine a_iconst (v := 2) dX1_fallbackTold_6 (by decide) ?_
  refine a_icmp_ne (tgt := 66) dX1_fallbackTold_7 (by decide) (fun c_19 => ?_) (fun c_19 => ?_)
  · replace h := h.1 c_19
    refine a_aload_n 0 dX1_fallbackTold_66 rfl rfl ?_
    refine a_iload_n 2 dX1_fallbackTold_67 rfl rfl ?_
    refine a_iload_n 3 dX1_fallbackTold_68 rfl rfl ?_
    refine a_cv (y := mX1_isNamed) (k := 2) (i := 0) (as := [.inl x2, .inl x3]) (st := []) (n := 2) (by decide) (Or.inl q1964) qs49 q1966 q73 q1967 zmh_isNamed rfl (Nat.le_of_ble_eq_true rfl) (Nat.le_of_ble_eq_true rfl) dX1_fallbackTold_69 (sd_isNamed (fun r_2 t_1 h => ?_) hT h)
    show wp (d + 3) mX1_fallbackTold 72 [(0, .inr (2, 0)), (1, .inl x1), (2, .inl x2), (3, .inl x3)] [.inl r_2] (tput M t_1) P
    refine a_if_ne (tgt := 84) dX1_fallbackTold_72 (by decide) (fun c_10 => ?_) (fun c_10 => ?_)
    · replace h := h.1 c_10
      refine a_aload_n 0 dX1_fallbackTold_84 rfl rfl ?_
      refine t_ga 32 hT (by decide) q1544 rfl dX1_fallbackTold_85 ?_
      refine a_iload_n 3 dX1_fallbackTold_88 rfl rfl ?_
      refine t_ia (f := 32) rfl hT (by decide) h.1 dX1_fallbackTold_89 ?_
      replace h := h.2
      refine a_if_ne (tgt := 110) dX1_fallbackTold_90 (by decide) (fun c_7 => ?_) (fun c_7 => ?_)
      · replace h := h.1 c_7
        refine a_aload_n 0 dX1_fallbackTold_110 rfl rfl ?_
        refine a_iconst (v := 0) dX1_fallbackTold_111 (by decide) ?_
        refine a_aload_n 0 dX1_fallbackTold_112 rfl rfl ?_
        refine t_ga 62 hT (by decide) q1574 rfl dX1_fallbackTold_113 ?_
        refine a_iload_n 1 dX1_fallbackTold_116 rfl rfl ?_
        refine t_ia (f := 62) rfl hT (by decide) h.1 dX1_fallbackTold_117 ?_
        replace h := h.2
        refine a_aload_n 0 dX1_fallbackTold_118 rfl rfl ?_
        refine t_ga 63 hT (by decide) q1575 rfl dX1_fallbackTold_119 ?_
        refine a_iload_n 1 dX1_fallbackTold_122 rfl rfl ?_
        refine t_ia (f := 63) rfl hT (by decide) h.1 dX1_fallbackTold_123 ?_
        replace h := h.2
        refine a_iconst (v := 1) dX1_fallbackTold_124 (by decide) ?_
        refine a_iadd dX1_fallbackTold_125 ?_
        refine a_iload_n 1 dX1_fallbackTold_126 rfl rfl ?_
        refine a_aload_n 0 dX1_fallbackTold_127 rfl rfl ?_
        refine t_ga 33 hT (by decide) q1545 rfl dX1_fallbackTold_128 ?_
        refine a_iload_n 3 dX1_fallbackTold_131 rfl rfl ?_
        refine t_ia (f := 33) rfl hT (by decide) h.1 dX1_fallbackTold_132 ?_
        replace h := h.2
        refine a_cv (y := mX1_add) (k := 2) (i := 0) (as := [.inl 0, .inl (t_1 62 x1.toNatClampNeg), .inl ((t_1 63 x1.toNatClampNeg) + 1), .inl x1, .inl (t_1 33 x3.toNatClampNeg)]) (st := []) (n := 5) (by decide) (Or.inl q1916) qs37 q1918 q73 q1919 zmh_add rfl (Nat.le_of_ble_eq_true rfl) (Nat.le_of_ble_eq_true rfl) dX1_fallbackTold_133 (sd_add (fun t_3 h => ?_) hT h)
        show wp (d + 3) mX1_fallbackTold 136 [(0, .inr (2, 0)), (1, .inl x1), (2, .inl x2), (3, .inl x3)] [] (tput M t_3) P
        exact a_vret rfl dX1_fallbackTold_136 (hP _ h)
      · replace h := h.2 c_7
        refine a_aload_n 0 dX1_fallbackTold_93 rfl rfl ?_
        refine a_iconst (v := 1) dX1_fallbackTold_94 (by decide) ?_
        refine a_iload_n 1 dX1_fallbackTold_95 rfl rfl ?_
        refine a_iconst (v := 1) dX1_fallbackTold_96 (by decide) ?_
        refine a_aload_n 0 dX1_fallbackTold_97 rfl rfl ?_
        refine t_ga 33 hT (by decide) q1545 rfl dX1_fallbackTold_98 ?_
        refine a_iload_n 3 dX1_fallbackTold_101 rfl rfl ?_
        refine t_ia (f := 33) rfl hT (by decide) h.1 dX1_fallbackTold_102 ?_
        replace h := h.2
        refine a_iconst (v := 1) dX1_fallbackTold_103 (by decide) ?_
        refine a_cv (y := mX1_add) (k := 2) (i := 0) (as := [.inl 1, .inl x1, .inl 1, .inl (t_1 33 x3.toNatClampNeg), .inl 1]) (st := []) (n := 5) (by decide) (Or.inl q1916) qs37 q1918 q73 q1919 zmh_add rfl (Nat.le_of_ble_eq_true rfl) (Nat.le_of_ble_eq_true rfl) dX1_fallbackTold_104 (sd_add (fun t_5 h => ?_) hT h)
        show wp (d + 3) mX1_fallbackTold 107 [(0, .inr (2, 0)), (1, .inl x1), (2, .inl x2), (3, .inl x3)] [] (tput M t_5) P
        refine a_goto (tgt := 136) dX1_fallbackTold_107 (by decide) ?_
        exact a_vret rfl dX1_fallbackTold_136 (hP _ h)
    · replace h := h.2 c_10
      refine a_aload_n 0 dX1_fallbackTold_75 rfl rfl ?_
      refine a_iload_n 1 dX1_fallbackTold_76 rfl rfl ?_
      refine a_iload_n 2 dX1_fallbackTold_77 rfl rfl ?_
      refine a_cv (y := mX1_alike) (k := 2) (i := 0) (as := [.inl x1, .inl x2]) (st := []) (n := 2) (by decide) (Or.inl q1972) qs51 q1974 q73 q1975 zmh_alike rfl (Nat.le_of_ble_eq_true rfl) (Nat.le_of_ble_eq_true rfl) dX1_fallbackTold_78 (sd_alike (fun t_8 h => ?_) hT h)
      show wp (d + 3) mX1_fallbackTold 81 [(0, .inr (2, 0)), (1, .inl x1), (2, .inl x2), (3, .inl x3)] [] (tput M t_8) P
      refine a_goto (tgt := 136) dX1_fallbackTold_81 (by decide) ?_
      exact a_vret rfl dX1_fallbackTold_136 (hP _ h)
  · replace h := h.2 c_19
    refine a_aload_n 0 dX1_fallbackTold_10 rfl rfl ?_
    refine t_ga 69 hT (by decide) q1581 rfl dX1_fallbackTold_11 ?_
    refine a_iload_n 2 dX1_fallbackTold_14 rfl rfl ?_
    refine t_ia (f := 69) rfl hT (by decide) h.1 dX1_fallbackTold_15 ?_
    replace h := h.2
    refine a_iconst (v := 1) dX1_fallbackTold_16 (by decide) ?_
    refine a_icmp_ne (tgt := 35) dX1_fallbackTold_17 (by decide) (fun c_18 => ?_) (fun c_18 => ?_)
    · replace h := h.1 c_18
      refine a_aload_n 0 dX1_fallbackTold_35 rfl rfl ?_
      refine t_ga 28 hT (by decide) q1540 rfl dX1_fallbackTold_36 ?_
      refine a_aload_n 0 dX1_fallbackTold_39 rfl rfl ?_
      refine t_ga 70 hT (by decide) q1582 rfl dX1_fallbackTold_40 ?_
      refine a_iload_n 2 dX1_fallbackTold_43 rfl rfl ?_
      refine t_ia (f := 70) rfl hT (by decide) h.1 dX1_fallbackTold_44 ?_
      replace h := h.2
      refine a_aload_n 0 dX1_fallbackTold_45 rfl rfl ?_
      refine t_ga 70 hT (by decide) q1582 rfl dX1_fallbackTold_46 ?_
      refine a_aload_n 0 dX1_fallbackTold_49 rfl rfl ?_
      refine a_iload_n 1 dX1_fallbackTold_50 rfl rfl ?_
      refine a_iload_n 2 dX1_fallbackTold_51 rfl rfl ?_
      refine a_cv (y := mX1_otherOf) (k := 2) (i := 0) (as := [.inl x1, .inl x2]) (st := [.inr (170, 0), .inl (t 70 x2.toNatClampNeg), .inr (128, 0)]) (n := 2) (by decide) (Or.inl q1984) qs54 q1986 q73 q1987 zmh_otherOf rfl (Nat.le_of_ble_eq_true rfl) (Nat.le_of_ble_eq_true rfl) dX1_fallbackTold_52 (sd_otherOf (fun r_12 t_11 h => ?_) hT h)
      show wp (d + 3) mX1_fallbackTold 55 [(0, .inr (2, 0)), (1, .inl x1), (2, .inl x2), (3, .inl x3)] [.inl r_12, .inr (170, 0), .inl (t 70 x2.toNatClampNeg), .inr (128, 0)] (tput M t_11) P
      refine t_ia (f := 70) rfl hT (by decide) h.1 dX1_fallbackTold_55 ?_
      replace h := h.2
      refine t_is (f := 28) rfl hT (by decide) h.1 dX1_fallbackTold_56 ?_
      replace h := h.2
      refine a_topt (fun t_13 et_13 => ?_)
      replace h := h t_13 et_13
      refine a_aload_n 0 dX1_fallbackTold_57 rfl rfl ?_
      refine a_iload_n 1 dX1_fallbackTold_58 rfl rfl ?_
      refine a_iload_n 2 dX1_fallbackTold_59 rfl rfl ?_
      refine a_cv (y := mX1_alike) (k := 2) (i := 0) (as := [.inl x1, .inl x2]) (st := []) (n := 2) (by decide) (Or.inl q1972) qs51 q1974 q73 q1975 zmh_alike rfl (Nat.le_of_ble_eq_true rfl) (Nat.le_of_ble_eq_true rfl) dX1_fallbackTold_60 (sd_alike (fun t_14 h => ?_) hT h)
      show wp (d + 3) mX1_fallbackTold 63 [(0, .inr (2, 0)), (1, .inl x1), (2, .inl x2), (3, .inl x3)] [] (tput M t_14) P
      refine a_goto (tgt := 136) dX1_fallbackTold_63 (by decide) ?_
      exact a_vret rfl dX1_fallbackTold_136 (hP _ h)
    · replace h := h.2 c_18
      refine a_aload_n 0 dX1_fallbackTold_20 rfl rfl ?_
      refine a_iconst (v := 1) dX1_fallbackTold_21 (by decide) ?_
      refine a_iload_n 1 dX1_fallbackTold_22 rfl rfl ?_
      refine a_iconst (v := 1) dX1_fallbackTold_23 (by decide) ?_
      refine a_aload_n 0 dX1_fallbackTold_24 rfl rfl ?_
      refine t_ga 70 hT (by decide) q1582 rfl dX1_fallbackTold_25 ?_
      refine a_iload_n 2 dX1_fallbackTold_28 rfl rfl ?_
      refine t_ia (f := 70) rfl hT (by decide) h.1 dX1_fallbackTold_29 ?_
      replace h := h.2
      refine a_iconst (v := 1) dX1_fallbackTold_30 (by decide) ?_
      refine a_cv (y := mX1_add) (k := 2) (i := 0) (as := [.inl 1, .inl x1, .inl 1, .inl (t 70 x2.toNatClampNeg), .inl 1]) (st := []) (n := 5) (by decide) (Or.inl q1916) qs37 q1918 q73 q1919 zmh_add rfl (Nat.le_of_ble_eq_true rfl) (Nat.le_of_ble_eq_true rfl) dX1_fallbackTold_31 (sd_add (fun t_16 h => ?_) hT h)
      show wp (d + 3) mX1_fallbackTold 34 [(0, .inr (2, 0)), (1, .inl x1), (2, .inl x2), (3, .inl x3)] [] (tput M t_16) P
      exact a_vret rfl dX1_fallbackTold_34 (hP _ h)
theorem zmh_fallbackTold : zmh yX1_fallbackTold 3 := ⟨⟨by decide +kernel, by decide +kernel⟩, by decide +kernel⟩
abbrev mX1_opens : zMt := (yX1_opens, cX1_opens, 3, none)
def w_opens (x1 x2 : Int32) (t : DB) (Q : DB → Prop) : Prop := vp_in x1 24 ∧ (∀ t_1 : DB, t_1 = up t 36 x1.toNatClampNeg 1 → (vp_in x1 24 ∧ (∀ t_2 : DB, t_2 = up t_1 38 x1.toNatClampNeg x2 → (Q t_2))))
set_option maxHeartbeats 4000000 in
theorem sd_opens {d : Nat} {M : Mem} {P : Option AV → Mem → Prop} {Q : DB → Prop} {x1 x2 : Int32} {t : DB} (hP : ∀ t, Q t → P none (tput M t)) (hT : TW M) (h : w_opens x1 x2 t Q) : ct d mX1_opens [.inr (2, 0), .inl x1, .inl x2] (tput M t) P := by
  refine ct_of (by decide) (Nat.le_of_ble_eq_true rfl) ?_
  show wp d mX1_opens 0 [(0, .inr (2, 0)), (1, .inl x1), (2, .inl x2)] [] (tput M t) P
  unfold w_opens at h
  refine a_aload_n 0 dX1_opens_0 rfl rfl ?_
  refine t_ga 36 hT (by decide) q1548 rfl dX1_opens_1 ?_
  refine a_iload_n 1 dX1_opens_4 rfl rfl ?_
  refine a_iconst (v := 1) dX1_opens_5 (by decide) ?_
  refine t_is (f := 36) rfl hT (by decide) h.1 dX1_opens_6 ?_
  replace h := h.2
  refine a_topt (fun t_1 et_1 => ?_)
  replace h := h t_1 et_1
  refine a_aload_n 0 dX1_opens_7 rfl rfl ?_
  refine t_ga 38 hT (by decide) q1550 rfl dX1_opens_8 ?_
  refine a_iload_n 1 dX1_opens_11 rfl rfl ?_
  refine a_iload_n 2 dX1_opens_12 rfl rfl ?_
  refine t_is (f := 38) rfl hT (by decide) h.1 dX1_opens_13 ?_
  replace h := h.2
  refine a_topt (fun t_2 et_2 => ?_)
  replace h := h t_2 et_2
  exact a_vret rfl dX1_opens_14 (hP _ h)
theorem zmh_opens : zmh yX1_opens 2 := ⟨⟨by decide +kernel, by decide +kernel⟩, by decide +kernel⟩
abbrev mX1_fuseTold : zMt := (yX1_fuseTold, cX1_fuseTold, 5, none)
def w_fuseTold_89 (x3 x4 s0 s1 : Int32) (t : DB) (Q : DB → Prop) : Prop := vp_in s1 24 ∧ (∀ t_1 : DB, t_1 = up t 37 s1.toNatClampNeg s0 → (((x4 = 0) → (Q t_1)) ∧ ((¬ x4 = 0) → (vp_in x3 24 ∧ (vp_in x3 24 ∧ (((¬ (t_1 37 x3.toNatClampNeg) = (t_1 32 x3.toNatClampNeg)) → (Q t_1)) ∧ (((t_1 37 x3.toNatClampNeg) = (t_1 32 x3.toNatClampNeg)) → (vp_in x3 24 ∧ (w_opens x3 ((t_1 0 0) + (t_1 33 x3.toNatClampNeg)) t_1 (fun t_2 => Q t_2))))))))))
set_option maxHeartbeats 4000000 in
theorem sd_fuseTold_89 {d : Nat} {M : Mem} {P : Option AV → Mem → Prop} {Q : DB → Prop} (hP : ∀ t, Q t → P none (tput M t)) (hT : TW M) (x3 x4 s0 s1 : Int32) (t : DB) (h : w_fuseTold_89 x3 x4 s0 s1 t Q) : wp (d + 3) mX1_fuseTold 89 [(0, .inr (2, 0)), (3, .inl x3), (4, .inl x4)] [.inl s0, .inl s1, .inr (137, 0)] (tput M t) P := by
  unfold w_fuseTold_89 at h
  refine t_is (f := 37) rfl hT (by decide) h.1 dX1_fuseTold_89 ?_
  replace h := h.2
  refine a_topt (fun t_1 et_1 => ?_)
  replace h := h t_1 et_1
  refine a_iload 2 dX1_fuseTold_90 rfl ?_
  refine a_if_eq (tgt := 126) dX1_fuseTold_92 (by decide) (fun c_5 => ?_) (fun c_5 => ?_)
  · replace h := h.1 c_5
    exact a_vret rfl dX1_fuseTold_126 (hP _ h)
  · replace h := h.2 c_5
    refine a_aload_n 0 dX1_fuseTold_95 rfl rfl ?_
    refine t_ga 37 hT (by decide) q1549 rfl dX1_fuseTold_96 ?_
    refine a_iload_n 1 dX1_fuseTold_99 rfl rfl ?_
    refine t_ia (f := 37) rfl hT (by decide) h.1 dX1_fuseTold_100 ?_
    replace h := h.2
    refine a_aload_n 0 dX1_fuseTold_101 rfl rfl ?_
    refine t_ga 32 hT (by decide) q1544 rfl dX1_fuseTold_102 ?_
    refine a_iload_n 1 dX1_fuseTold_105 rfl rfl ?_
    refine t_ia (f := 32) rfl hT (by decide) h.1 dX1_fuseTold_106 ?_
    replace h := h.2
    refine a_icmp_ne (tgt := 126) dX1_fuseTold_107 (by decide) (fun c_4 => ?_) (fun c_4 => ?_)
    · replace h := h.1 c_4
      exact a_vret rfl dX1_fuseTold_126 (hP _ h)
    · replace h := h.2 c_4
      refine a_aload_n 0 dX1_fuseTold_110 rfl rfl ?_
      refine a_iload_n 1 dX1_fuseTold_111 rfl rfl ?_
      refine a_aload_n 0 dX1_fuseTold_112 rfl rfl ?_
      refine t_gi 0 (by decide) q1512 rfl dX1_fuseTold_113 ?_
      refine a_aload_n 0 dX1_fuseTold_116 rfl rfl ?_
      refine t_ga 33 hT (by decide) q1545 rfl dX1_fuseTold_117 ?_
      refine a_iload_n 1 dX1_fuseTold_120 rfl rfl ?_
      refine t_ia (f := 33) rfl hT (by decide) h.1 dX1_fuseTold_121 ?_
      replace h := h.2
      refine a_iadd dX1_fuseTold_122 ?_
      refine a_cv (y := mX1_opens) (k := 2) (i := 0) (as := [.inl x3, .inl ((t_1 0 0) + (t_1 33 x3.toNatClampNeg))]) (st := []) (n := 2) (by decide) (Or.inl q1968) qs50 q1970 q73 q1971 zmh_opens rfl (Nat.le_of_ble_eq_true rfl) (Nat.le_of_ble_eq_true rfl) dX1_fuseTold_123 (sd_opens (fun t_2 h => ?_) hT h)
      show wp (d + 3) mX1_fuseTold 126 [(0, .inr (2, 0)), (3, .inl x3), (4, .inl x4)] [] (tput M t_2) P
      exact a_vret rfl dX1_fuseTold_126 (hP _ h)
def w_fuseTold (x1 x2 x3 : Int32) (t : DB) (Q : DB → Prop) : Prop := w_isNamed x2 x3 t (fun r_2 t_1 => vp_in x1 4400 ∧ ((((t_1 79 x1.toNatClampNeg) = 0) → (vp_in x3 24 ∧ (((¬ (t_1 36 x3.toNatClampNeg) = 0) → (Q t_1)) ∧ (((t_1 36 x3.toNatClampNeg) = 0) → (((r_2 = 0) → (w_fuseTold_89 x3 r_2 0 x3 t_1 Q)) ∧ ((¬ r_2 = 0) → (vp_in x3 24 ∧ (w_fuseTold_89 x3 r_2 ((t_1 37 x3.toNatClampNeg) + 1) x3 t_1 Q)))))))) ∧ ((¬ (t_1 79 x1.toNatClampNeg) = 0) → (((r_2 = 0) → (vp_in x3 24 ∧ (∀ t_5 : DB, t_5 = up t_1 36 x3.toNatClampNeg 0 → (vp_in x3 24 ∧ (∀ t_6 : DB, t_6 = up t_5 37 x3.toNatClampNeg 0 → (Q t_6)))))) ∧ ((¬ r_2 = 0) → (vp_in x3 24 ∧ (w_opens x3 ((t_1 0 0) + (t_1 33 x3.toNatClampNeg)) t_1 (fun t_7 => Q t_7))))))))
set_option maxHeartbeats 4000000 in
theorem sd_fuseTold {d : Nat} {M : Mem} {P : Option AV → Mem → Prop} {Q : DB → Prop} {x1 x2 x3 : Int32} {t : DB} (hP : ∀ t, Q t → P none (tput M t)) (hT : TW M) (h : w_fuseTold x1 x2 x3 t Q) : ct (d + 3) mX1_fuseTold [.inr (2, 0), .inl x1, .inl x2, .inl x3] (tput M t) P := by
  refine ct_of (by decide) (Nat.le_of_ble_eq_true rfl) ?_
  show wp (d + 3) mX1_fuseTold 0 [(0, .inr (2, 0)), (1, .inl x1), (2, .inl x2), (3, .inl x3)] [] (tput M t) P
  unfold w_fuseTold at h
  refine a_aload_n 0 dX1_fuseTold_0 rfl rfl ?_
  refine a_iload_n 2 dX1_fuseTold_1 rfl rfl ?_
  refine a_iload_n 3 dX1_fuseTold_2 rfl rfl ?_
  refine a_cv (y := mX1_isNamed) (k := 2) (i := 0) (as := [.inl x2, .inl x3]) (st := []) (n := 2) (by decide) (Or.inl q1964) qs49 q1966 q73 q1967 zmh_isNamed rfl (Nat.le_of_ble_eq_true rfl) (Nat.le_of_ble_eq_true rfl) dX1_fuseTold_3 (sd_isNamed (fun r_2 t_1 h => ?_) hT h)
  show wp (d + 3) mX1_fuseTold 6 [(0, .inr (2, 0)), (1, .inl x1), (2, .inl x2), (3, .inl x3)] [.inl r_2] (tput M t_1) P
  refine a_istore (lv' := [(4, .inl r_2), (0, .inr (2, 0)), (1, .inl x1), (2, .inl x2), (3, .inl x3)]) dX1_fuseTold_6 (Nat.le_of_ble_eq_true rfl) rfl ?_
  refine a_aload_n 1 dX1_fuseTold_8 rfl rfl ?_
  refine t_ga 79 hT (by decide) q1591 rfl dX1_fuseTold_9 ?_
  refine a_iload_n 2 dX1_fuseTold_12 rfl rfl ?_
  refine t_za (f := 79) rfl hT (by decide) h.1 dX1_fuseTold_13 ?_
  replace h := h.2
  refine a_if_eq (tgt := 58) dX1_fuseTold_14 (by decide) (fun c_10 => ?_) (fun c_10 => ?_)
  · replace h := h.1 c_10
    refine a_aload_n 1 dX1_fuseTold_58 rfl rfl ?_
    refine t_ga 36 hT (by decide) q1548 rfl dX1_fuseTold_59 ?_
    refine a_iload_n 4 dX1_fuseTold_62 rfl rfl ?_
    refine t_ia (f := 36) rfl hT (by decide) h.1 dX1_fuseTold_63 ?_
    replace h := h.2
    refine a_if_ne (tgt := 126) dX1_fuseTold_64 (by decide) (fun c_4 => ?_) (fun c_4 => ?_)
    · replace h := h.1 c_4
      exact a_vret rfl dX1_fuseTold_126 (hP _ h)
    · replace h := h.2 c_4
      refine a_aload_n 1 dX1_fuseTold_67 rfl rfl ?_
      refine t_ga 37 hT (by decide) q1549 rfl dX1_fuseTold_68 ?_
      refine a_iload_n 4 dX1_fuseTold_71 rfl rfl ?_
      refine a_iload 0 dX1_fuseTold_72 rfl ?_
      refine a_if_eq (tgt := 88) dX1_fuseTold_74 (by decide) (fun c_3 => ?_) (fun c_3 => ?_)
      · replace h := h.1 c_3
        refine a_iconst (v := 0) dX1_fuseTold_88 (by decide) ?_
        exact wp_sub (by simp) (sd_fuseTold_89 hP hT x3 r_2 0 x3 t_1 h)
      · replace h := h.2 c_3
        refine a_aload_n 1 dX1_fuseTold_77 rfl rfl ?_
        refine t_ga 37 hT (by decide) q1549 rfl dX1_fuseTold_78 ?_
        refine a_iload_n 4 dX1_fuseTold_81 rfl rfl ?_
        refine t_ia (f := 37) rfl hT (by decide) h.1 dX1_fuseTold_82 ?_
        replace h := h.2
        refine a_iconst (v := 1) dX1_fuseTold_83 (by decide) ?_
        refine a_iadd dX1_fuseTold_84 ?_
        refine a_goto (tgt := 89) dX1_fuseTold_85 (by decide) ?_
        exact wp_sub (by simp) (sd_fuseTold_89 hP hT x3 r_2 ((t_1 37 x3.toNatClampNeg) + 1) x3 t_1 h)
  · replace h := h.2 c_10
    refine a_iload 0 dX1_fuseTold_17 rfl ?_
    refine a_if_eq (tgt := 41) dX1_fuseTold_19 (by decide) (fun c_9 => ?_) (fun c_9 => ?_)
    · replace h := h.1 c_9
      refine a_aload_n 1 dX1_fuseTold_41 rfl rfl ?_
      refine t_ga 36 hT (by decide) q1548 rfl dX1_fuseTold_42 ?_
      refine a_iload_n 4 dX1_fuseTold_45 rfl rfl ?_
      refine a_iconst (v := 0) dX1_fuseTold_46 (by decide) ?_
      refine t_is (f := 36) rfl hT (by decide) h.1 dX1_fuseTold_47 ?_
      replace h := h.2
      refine a_topt (fun t_5 et_5 => ?_)
      replace h := h t_5 et_5
      refine a_aload_n 1 dX1_fuseTold_48 rfl rfl ?_
      refine t_ga 37 hT (by decide) q1549 rfl dX1_fuseTold_49 ?_
      refine a_iload_n 4 dX1_fuseTold_52 rfl rfl ?_
      refine a_iconst (v := 0) dX1_fuseTold_53 (by decide) ?_
      refine t_is (f := 37) rfl hT (by decide) h.1 dX1_fuseTold_54 ?_
      replace h := h.2
      refine a_topt (fun t_6 et_6 => ?_)
      replace h := h t_6 et_6
      refine a_goto (tgt := 126) dX1_fuseTold_55 (by decide) ?_
      exact a_vret rfl dX1_fuseTold_126 (hP _ h)
    · replace h := h.2 c_9
      refine a_aload_n 1 dX1_fuseTold_22 rfl rfl ?_
      refine a_iload_n 4 dX1_fuseTold_23 rfl rfl ?_
      refine a_aload_n 1 dX1_fuseTold_24 rfl rfl ?_
      refine t_gi 0 (by decide) q1512 rfl dX1_fuseTold_25 ?_
      refine a_aload_n 1 dX1_fuseTold_28 rfl rfl ?_
      refine t_ga 33 hT (by decide) q1545 rfl dX1_fuseTold_29 ?_
      refine a_iload_n 4 dX1_fuseTold_32 rfl rfl ?_
      refine t_ia (f := 33) rfl hT (by decide) h.1 dX1_fuseTold_33 ?_
      replace h := h.2
      refine a_iadd dX1_fuseTold_34 ?_
      refine a_cv (y := mX1_opens) (k := 2) (i := 0) (as := [.inl x3, .inl ((t_1 0 0) + (t_1 33 x3.toNatClampNeg))]) (st := []) (n := 2) (by decide) (Or.inl q1968) qs50 q1970 q73 q1971 zmh_opens rfl (Nat.le_of_ble_eq_true rfl) (Nat.le_of_ble_eq_true rfl) dX1_fuseTold_35 (sd_opens (fun t_7 h => ?_) hT h)
      show wp (d + 3) mX1_fuseTold 38 [(4, .inl r_2), (0, .inr (2, 0)), (1, .inl x1), (2, .inl x2), (3, .inl x3)] [] (tput M t_7) P
      refine a_goto (tgt := 126) dX1_fuseTold_38 (by decide) ?_
      exact a_vret rfl dX1_fuseTold_126 (hP _ h)
theorem zmh_fuseTold : zmh yX1_fuseTold 3 := ⟨⟨by decide +kernel, by decide +kernel⟩, by decide +kernel⟩
abbrev mX1_takeBack : zMt := (yX1_takeBack, cX1_takeBack, 5, some .int)
def w_takeBack_74 (K8 : Int32 → Int32 → Int32 → Int32 → DB → Prop) (x1 x2 x3 x4 s0 s1 : Int32) (t : DB) (Q : Int32 → DB → Prop) : Prop := (s0 = 0 ∨ s0 = 1) ∧ vp_in s1 4400 ∧ (∀ t_1 : DB, t_1 = up t 80 s1.toNatClampNeg s0 → (vp_in x4 4400 ∧ ((((t_1 80 x4.toNatClampNeg) = 0) → (∀ x_2 : Int32, x_2 = x4 + 1 → (K8 x1 x2 x3 x_2 t_1))) ∧ ((¬ (t_1 80 x4.toNatClampNeg) = 0) → (vp_in x4 4400 ∧ ((((t_1 69 x4.toNatClampNeg) = 0) → (vp_in x4 4400 ∧ (∀ t_3 : DB, t_3 = up t_1 69 x4.toNatClampNeg 3 → (vp_in x4 4400 ∧ (∀ t_4 : DB, t_4 = up t_3 68 x4.toNatClampNeg (t_3 0 0) → (vp_in (t_4 82 0) 4400 ∧ (∀ t_5 : DB, t_5 = up t_4 81 (t_4 82 0).toNatClampNeg x4 → (∀ t_6 : DB, t_6 = up t_5 82 0 ((t_5 82 0) + 1) → (∀ x_7 : Int32, x_7 = x4 + 1 → (K8 x1 x2 x3 x_7 t_6)))))))))) ∧ ((¬ (t_1 69 x4.toNatClampNeg) = 0) → (∀ x_8 : Int32, x_8 = x4 + 1 → (K8 x1 x2 x3 x_8 t_1)))))))))
set_option maxHeartbeats 4000000 in
theorem sd_takeBack_74 {d : Nat} {M : Mem} {P : Option AV → Mem → Prop} {Q : Int32 → DB → Prop} (hP : ∀ r t, Q r t → P (some (.inl r)) (tput M t)) (hT : TW M) (K8 : Int32 → Int32 → Int32 → Int32 → DB → Prop) (hK8 : ∀ (z1 : Int32) (z2 : Int32) (z3 : Int32) (z4 : Int32) (t : DB), K8 z1 z2 z3 z4 t → wp (d + 1) mX1_takeBack 8 [(0, .inr (2, 0)), (1, .inl z1), (2, .inl z2), (3, .inl z3), (4, .inl z4)] [] (tput M t) P) (x1 x2 x3 x4 s0 s1 : Int32) (t : DB) (h : w_takeBack_74 K8 x1 x2 x3 x4 s0 s1 t Q) : wp (d + 1) mX1_takeBack 74 [(0, .inr (2, 0)), (1, .inl x1), (2, .inl x2), (3, .inl x3), (4, .inl x4)] [.inl s0, .inl s1, .inr (180, 0)] (tput M t) P := by
  unfold w_takeBack_74 at h
  refine t_zs (f := 80) rfl hT (by decide) h.1 h.2.1 dX1_takeBack_74 ?_
  replace h := h.2.2
  refine a_topt (fun t_1 et_1 => ?_)
  replace h := h t_1 et_1
  refine a_aload_n 0 dX1_takeBack_75 rfl rfl ?_
  refine t_ga 80 hT (by decide) q1592 rfl dX1_takeBack_76 ?_
  refine a_iload 4 dX1_takeBack_79 rfl ?_
  refine t_za (f := 80) rfl hT (by decide) h.1 dX1_takeBack_81 ?_
  replace h := h.2
  refine a_if_eq (tgt := 138) dX1_takeBack_82 (by decide) (fun c_10 => ?_) (fun c_10 => ?_)
  · replace h := h.1 c_10
    obtain ⟨x_2, ex_2⟩ : ∃ y : Int32, y = x4 + 1 := ⟨_, rfl⟩
    replace h := h x_2 ex_2
    refine a_iinc (v := x_2) (lv' := [(4, .inl x_2), (0, .inr (2, 0)), (1, .inl x1), (2, .inl x2), (3, .inl x3)]) 4 dX1_takeBack_138 rfl (by rw [ex_2]; rfl) (Nat.le_of_ble_eq_true rfl) rfl ?_
    refine a_goto (tgt := 8) dX1_takeBack_141 (by decide) ?_
    exact wp_sub (by simp) (hK8 x1 x2 x3 x_2 t_1 h)
  · replace h := h.2 c_10
    refine a_aload_n 0 dX1_takeBack_85 rfl rfl ?_
    refine t_ga 69 hT (by decide) q1581 rfl dX1_takeBack_86 ?_
    refine a_iload 4 dX1_takeBack_89 rfl ?_
    refine t_ia (f := 69) rfl hT (by decide) h.1 dX1_takeBack_91 ?_
    replace h := h.2
    refine a_if_eq (tgt := 98) dX1_takeBack_92 (by decide) (fun c_9 => ?_) (fun c_9 => ?_)
    · replace h := h.1 c_9
      refine a_aload_n 0 dX1_takeBack_98 rfl rfl ?_
      refine t_ga 69 hT (by decide) q1581 rfl dX1_takeBack_99 ?_
      refine a_iload 4 dX1_takeBack_102 rfl ?_
      refine a_iconst (v := 3) dX1_takeBack_104 (by decide) ?_
      refine t_is (f := 69) rfl hT (by decide) h.1 dX1_takeBack_105 ?_
      replace h := h.2
      refine a_topt (fun t_3 et_3 => ?_)
      replace h := h t_3 et_3
      refine a_aload_n 0 dX1_takeBack_106 rfl rfl ?_
      refine t_ga 68 hT (by decide) q1580 rfl dX1_takeBack_107 ?_
      refine a_iload 4 dX1_takeBack_110 rfl ?_
      refine a_aload_n 0 dX1_takeBack_112 rfl rfl ?_
      refine t_gi 0 (by decide) q1512 rfl dX1_takeBack_113 ?_
      refine t_is (f := 68) rfl hT (by decide) h.1 dX1_takeBack_116 ?_
      replace h := h.2
      refine a_topt (fun t_4 et_4 => ?_)
      replace h := h t_4 et_4
      refine a_aload_n 0 dX1_takeBack_117 rfl rfl ?_
      refine t_ga 81 hT (by decide) q1593 rfl dX1_takeBack_118 ?_
      refine a_aload_n 0 dX1_takeBack_121 rfl rfl ?_
      refine t_gi 82 (by decide) q1594 rfl dX1_takeBack_122 ?_
      refine a_iload 4 dX1_takeBack_125 rfl ?_
      refine t_is (f := 81) rfl hT (by decide) h.1 dX1_takeBack_127 ?_
      replace h := h.2
      refine a_topt (fun t_5 et_5 => ?_)
      replace h := h t_5 et_5
      refine a_aload_n 0 dX1_takeBack_128 rfl rfl ?_
      refine a_dup dX1_takeBack_129 ?_
      refine t_gi 82 (by decide) q1594 rfl dX1_takeBack_130 ?_
      refine a_iconst (v := 1) dX1_takeBack_133 (by decide) ?_
      refine a_iadd dX1_takeBack_134 ?_
      refine t_pi 82 (by decide) q1594 rfl rfl dX1_takeBack_135 ?_
      refine a_topt (fun t_6 et_6 => ?_)
      replace h := h t_6 et_6
      obtain ⟨x_7, ex_7⟩ : ∃ y : Int32, y = x4 + 1 := ⟨_, rfl⟩
      replace h := h x_7 ex_7
      refine a_iinc (v := x_7) (lv' := [(4, .inl x_7), (0, .inr (2, 0)), (1, .inl x1), (2, .inl x2), (3, .inl x3)]) 4 dX1_takeBack_138 rfl (by rw [ex_7]; rfl) (Nat.le_of_ble_eq_true rfl) rfl ?_
      refine a_goto (tgt := 8) dX1_takeBack_141 (by decide) ?_
      exact wp_sub (by simp) (hK8 x1 x2 x3 x_7 t_6 h)
    · replace h := h.2 c_9
      refine a_goto (tgt := 138) dX1_takeBack_95 (by decide) ?_
      obtain ⟨x_8, ex_8⟩ : ∃ y : Int32, y = x4 + 1 := ⟨_, rfl⟩
      replace h := h x_8 ex_8
      refine a_iinc (v := x_8) (lv' := [(4, .inl x_8), (0, .inr (2, 0)), (1, .inl x1), (2, .inl x2), (3, .inl x3)]) 4 dX1_takeBack_138 rfl (by rw [ex_8]; rfl) (Nat.le_of_ble_eq_true rfl) rfl ?_
      refine a_goto (tgt := 8) dX1_takeBack_141 (by decide) ?_
      exact wp_sub (by simp) (hK8 x1 x2 x3 x_8 t_1 h)
def w_takeBack_44 (K8 : Int32 → Int32 → Int32 → Int32 → DB → Prop) (x1 x2 x3 x4 s0 : Int32) (t : DB) (Q : Int32 → DB → Prop) : Prop := vp_in x4 4400 ∧ ((((t 64 x4.toNatClampNeg) < 0) → (w_takeBack_74 K8 x1 x2 x3 x4 0 s0 t Q)) ∧ ((¬ (t 64 x4.toNatClampNeg) < 0) → (vp_in x4 4400 ∧ (vp_in (t 64 x4.toNatClampNeg) 4400 ∧ ((((t 80 (t 64 x4.toNatClampNeg).toNatClampNeg) = 0) → (w_takeBack_74 K8 x1 x2 x3 x4 0 s0 t Q)) ∧ ((¬ (t 80 (t 64 x4.toNatClampNeg).toNatClampNeg) = 0) → (w_takeBack_74 K8 x1 x2 x3 x4 1 s0 t Q)))))))
set_option maxHeartbeats 4000000 in
theorem sd_takeBack_44 {d : Nat} {M : Mem} {P : Option AV → Mem → Prop} {Q : Int32 → DB → Prop} (hP : ∀ r t, Q r t → P (some (.inl r)) (tput M t)) (hT : TW M) (K8 : Int32 → Int32 → Int32 → Int32 → DB → Prop) (hK8 : ∀ (z1 : Int32) (z2 : Int32) (z3 : Int32) (z4 : Int32) (t : DB), K8 z1 z2 z3 z4 t → wp (d + 1) mX1_takeBack 8 [(0, .inr (2, 0)), (1, .inl z1), (2, .inl z2), (3, .inl z3), (4, .inl z4)] [] (tput M t) P) (x1 x2 x3 x4 s0 : Int32) (t : DB) (h : w_takeBack_44 K8 x1 x2 x3 x4 s0 t Q) : wp (d + 1) mX1_takeBack 44 [(0, .inr (2, 0)), (1, .inl x1), (2, .inl x2), (3, .inl x3), (4, .inl x4)] [.inl s0, .inr (180, 0)] (tput M t) P := by
  unfold w_takeBack_44 at h
  refine a_aload_n 0 dX1_takeBack_44 rfl rfl ?_
  refine t_ga 64 hT (by decide) q1576 rfl dX1_takeBack_45 ?_
  refine a_iload 4 dX1_takeBack_48 rfl ?_
  refine t_ia (f := 64) rfl hT (by decide) h.1 dX1_takeBack_50 ?_
  replace h := h.2
  refine a_if_lt (tgt := 73) dX1_takeBack_51 (by decide) (fun c_2 => ?_) (fun c_2 => ?_)
  · replace h := h.1 c_2
    refine a_iconst (v := 0) dX1_takeBack_73 (by decide) ?_
    exact wp_sub (by simp) (sd_takeBack_74 hP hT _ hK8 x1 x2 x3 x4 0 s0 t h)
  · replace h := h.2 c_2
    refine a_aload_n 0 dX1_takeBack_54 rfl rfl ?_
    refine t_ga 80 hT (by decide) q1592 rfl dX1_takeBack_55 ?_
    refine a_aload_n 0 dX1_takeBack_58 rfl rfl ?_
    refine t_ga 64 hT (by decide) q1576 rfl dX1_takeBack_59 ?_
    refine a_iload 4 dX1_takeBack_62 rfl ?_
    refine t_ia (f := 64) rfl hT (by decide) h.1 dX1_takeBack_64 ?_
    replace h := h.2
    refine t_za (f := 80) rfl hT (by decide) h.1 dX1_takeBack_65 ?_
    replace h := h.2
    refine a_if_eq (tgt := 73) dX1_takeBack_66 (by decide) (fun c_1 => ?_) (fun c_1 => ?_)
    · replace h := h.1 c_1
      refine a_iconst (v := 0) dX1_takeBack_73 (by decide) ?_
      exact wp_sub (by simp) (sd_takeBack_74 hP hT _ hK8 x1 x2 x3 x4 0 s0 t h)
    · replace h := h.2 c_1
      refine a_iconst (v := 1) dX1_takeBack_69 (by decide) ?_
      refine a_goto (tgt := 74) dX1_takeBack_70 (by decide) ?_
      exact wp_sub (by simp) (sd_takeBack_74 hP hT _ hK8 x1 x2 x3 x4 1 s0 t h)
def w_takeBack_8 : Nat → Int32 → Int32 → Int32 → Int32 → DB → (Int32 → DB → Prop) → Prop
  | 0, _, _, _, _, _, _ => False
  | n + 1, x1, x2, x3, x4, t, Q => (((t 61 0) ≤ x4) → ((((t 82 0) ≤ x3) → (Q ((t 82 0) - x3) t)) ∧ ((¬ (t 82 0) ≤ x3) → (w_add 4 x3 (t 82 0) 0 0 t (fun t_1 => Q ((t_1 82 0) - x3) t_1))))) ∧ ((¬ (t 61 0) ≤ x4) → (((x4 = x1) → (w_takeBack_74 (fun z1 z2 z3 z4 t => w_takeBack_8 n z1 z2 z3 z4 t Q) x1 x2 x3 x4 1 x4 t Q)) ∧ ((¬ x4 = x1) → (((x2 < 0) → (w_takeBack_44 (fun z1 z2 z3 z4 t => w_takeBack_8 n z1 z2 z3 z4 t Q) x1 x2 x3 x4 x4 t Q)) ∧ ((¬ x2 < 0) → (vp_in x4 4400 ∧ ((((t 62 x4.toNatClampNeg) = x2) → (w_takeBack_74 (fun z1 z2 z3 z4 t => w_takeBack_8 n z1 z2 z3 z4 t Q) x1 x2 x3 x4 1 x4 t Q)) ∧ ((¬ (t 62 x4.toNatClampNeg) = x2) → (w_takeBack_44 (fun z1 z2 z3 z4 t => w_takeBack_8 n z1 z2 z3 z4 t Q) x1 x2 x3 x4 x4 t Q)))))))))
set_option maxHeartbeats 4000000 in
theorem sd_takeBack_8 {d : Nat} {M : Mem} {P : Option AV → Mem → Prop} {Q : Int32 → DB → Prop} (hP : ∀ r t, Q r t → P (some (.inl r)) (tput M t)) (hT : TW M) : ∀ (n : Nat) (x1 x2 x3 x4 : Int32) (t : DB), w_takeBack_8 n x1 x2 x3 x4 t Q → wp (d + 1) mX1_takeBack 8 [(0, .inr (2, 0)), (1, .inl x1), (2, .inl x2), (3, .inl x3), (4, .inl x4)] [] (tput M t) P := by
  intro n
  induction n with
  | zero => intro x1 x2 x3 x4 t h; exact False.elim h
  | succ n ih =>
    intro x1 x2 x3 x4 t h
    rw [w_takeBack_8] at h
    refine a_iload 4 dX1_takeBack_8 rfl ?_
    refine a_aload_n 0 dX1_takeBack_10 rfl rfl ?_
    refine t_gi 61 (by decide) q1573 rfl dX1_takeBack_11 ?_
    refine a_icmp_ge (tgt := 144) dX1_takeBack_14 (by decide) (fun c_7 => ?_) (fun c_7 => ?_)
    · replace h := h.1 c_7
      refine a_aload_n 0 dX1_takeBack_144 rfl rfl ?_
      refine t_gi 82 (by decide) q1594 rfl dX1_takeBack_145 ?_
      refine a_iload_n 3 dX1_takeBack_148 rfl rfl ?_
      refine a_icmp_le (tgt := 164) dX1_takeBack_149 (by decide) (fun c_3 => ?_) (fun c_3 => ?_)
      · replace h := h.1 c_3
        refine a_aload_n 0 dX1_takeBack_164 rfl rfl ?_
        refine t_gi 82 (by decide) q1594 rfl dX1_takeBack_165 ?_
        refine a_iload_n 3 dX1_takeBack_168 rfl rfl ?_
        refine a_isub dX1_takeBack_169 ?_
        exact a_iret rfl dX1_takeBack_170 (hP _ _ h)
      · replace h := h.2 c_3
        refine a_aload_n 0 dX1_takeBack_152 rfl rfl ?_
        refine a_iconst (v := 4) dX1_takeBack_153 (by decide) ?_
        refine a_iload_n 3 dX1_takeBack_154 rfl rfl ?_
        refine a_aload_n 0 dX1_takeBack_155 rfl rfl ?_
        refine t_gi 82 (by decide) q1594 rfl dX1_takeBack_156 ?_
        refine a_iconst (v := 0) dX1_takeBack_159 (by decide) ?_
        refine a_iconst (v := 0) dX1_takeBack_160 (by decide) ?_
        refine a_cv (y := mX1_add) (k := 2) (i := 0) (as := [.inl 4, .inl x3, .inl (t 82 0), .inl 0, .inl 0]) (st := []) (n := 5) (by decide) (Or.inl q1916) qs37 q1918 q73 q1919 zmh_add rfl (Nat.le_of_ble_eq_true rfl) (Nat.le_of_ble_eq_true rfl) dX1_takeBack_161 (sd_add (fun t_1 h => ?_) hT h)
        show wp (d + 1) mX1_takeBack 164 [(0, .inr (2, 0)), (1, .inl x1), (2, .inl x2), (3, .inl x3), (4, .inl x4)] [] (tput M t_1) P
        refine a_aload_n 0 dX1_takeBack_164 rfl rfl ?_
        refine t_gi 82 (by decide) q1594 rfl dX1_takeBack_165 ?_
        refine a_iload_n 3 dX1_takeBack_168 rfl rfl ?_
        refine a_isub dX1_takeBack_169 ?_
        exact a_iret rfl dX1_takeBack_170 (hP _ _ h)
    · replace h := h.2 c_7
      refine a_aload_n 0 dX1_takeBack_17 rfl rfl ?_
      refine t_ga 80 hT (by decide) q1592 rfl dX1_takeBack_18 ?_
      refine a_iload 4 dX1_takeBack_21 rfl ?_
      refine a_iload 4 dX1_takeBack_23 rfl ?_
      refine a_iload_n 1 dX1_takeBack_25 rfl rfl ?_
      refine a_icmp_eq (tgt := 69) dX1_takeBack_26 (by decide) (fun c_6 => ?_) (fun c_6 => ?_)
      · replace h := h.1 c_6
        refine a_iconst (v := 1) dX1_takeBack_69 (by decide) ?_
        refine a_goto (tgt := 74) dX1_takeBack_70 (by decide) ?_
        exact wp_sub (by simp) (sd_takeBack_74 hP hT _ ih x1 x2 x3 x4 1 x4 t h)
      · replace h := h.2 c_6
        refine a_iload_n 2 dX1_takeBack_29 rfl rfl ?_
        refine a_if_lt (tgt := 44) dX1_takeBack_30 (by decide) (fun c_5 => ?_) (fun c_5 => ?_)
        · replace h := h.1 c_5
          exact wp_sub (by simp) (sd_takeBack_44 hP hT _ ih x1 x2 x3 x4 x4 t h)
        · replace h := h.2 c_5
          refine a_aload_n 0 dX1_takeBack_33 rfl rfl ?_
          refine t_ga 62 hT (by decide) q1574 rfl dX1_takeBack_34 ?_
          refine a_iload 4 dX1_takeBack_37 rfl ?_
          refine t_ia (f := 62) rfl hT (by decide) h.1 dX1_takeBack_39 ?_
          replace h := h.2
          refine a_iload_n 2 dX1_takeBack_40 rfl rfl ?_
          refine a_icmp_eq (tgt := 69) dX1_takeBack_41 (by decide) (fun c_4 => ?_) (fun c_4 => ?_)
          · replace h := h.1 c_4
            refine a_iconst (v := 1) dX1_takeBack_69 (by decide) ?_
            refine a_goto (tgt := 74) dX1_takeBack_70 (by decide) ?_
            exact wp_sub (by simp) (sd_takeBack_74 hP hT _ ih x1 x2 x3 x4 1 x4 t h)
          · replace h := h.2 c_4
            exact wp_sub (by simp) (sd_takeBack_44 hP hT _ ih x1 x2 x3 x4 x4 t h)
def w_takeBack (x1 x2 : Int32) (t : DB) (Q : Int32 → DB → Prop) : Prop := ∀ x_1 : Int32, x_1 = t 82 0 → (∃ n_, w_takeBack_8 n_ x1 x2 x_1 0 t Q)
set_option maxHeartbeats 4000000 in
theorem sd_takeBack {d : Nat} {M : Mem} {P : Option AV → Mem → Prop} {Q : Int32 → DB → Prop} {x1 x2 : Int32} {t : DB} (hP : ∀ r t, Q r t → P (some (.inl r)) (tput M t)) (hT : TW M) (h : w_takeBack x1 x2 t Q) : ct (d + 1) mX1_takeBack [.inr (2, 0), .inl x1, .inl x2] (tput M t) P := by
  refine ct_of (by decide) (Nat.le_of_ble_eq_true rfl) ?_
  show wp (d + 1) mX1_takeBack 0 [(0, .inr (2, 0)), (1, .inl x1), (2, .inl x2)] [] (tput M t) P
  unfold w_takeBack at h
  refine a_aload_n 0 dX1_takeBack_0 rfl rfl ?_
  refine t_gi 82 (by decide) q1594 rfl dX1_takeBack_1 ?_
  refine a_topi (fun x_1 ex_1 => ?_)
  replace h := h x_1 ex_1
  refine a_istore_n (lv' := [(3, .inl x_1), (0, .inr (2, 0)), (1, .inl x1), (2, .inl x2)]) dX1_takeBack_4 rfl (Nat.le_of_ble_eq_true rfl) rfl ?_
  refine a_iconst (v := 0) dX1_takeBack_5 (by decide) ?_
  refine a_istore (lv' := [(4, .inl 0), (3, .inl x_1), (0, .inr (2, 0)), (1, .inl x1), (2, .inl x2)]) dX1_takeBack_6 (Nat.le_of_ble_eq_true rfl) rfl ?_
  obtain ⟨n_, h⟩ := h
  exact wp_sub (by simp) (sd_takeBack_8 hP hT n_ x1 x2 x_1 0 t h)
theorem zmh_takeBack : zmh yX1_takeBack 2 := ⟨⟨by decide +kernel, by decide +kernel⟩, by decide +kernel⟩
abbrev mX1_hedgeTold : zMt := (yX1_hedgeTold, cX1_hedgeTold, 6, none)
def w_hedgeTold_122 (x1 x5 : Int32) (t : DB) (Q : DB → Prop) : Prop := w_add 1 x1 2 x5 0 t (fun t_1 => Q t_1)
set_option maxHeartbeats 4000000 in
theorem sd_hedgeTold_122 {d : Nat} {M : Mem} {P : Option AV → Mem → Prop} {Q : DB → Prop} (hP : ∀ t, Q t → P none (tput M t)) (hT : TW M) (x1 x5 : Int32) (t : DB) (h : w_hedgeTold_122 x1 x5 t Q) : wp (d + 2) mX1_hedgeTold 122 [(0, .inr (2, 0)), (1, .inl x1), (5, .inl x5)] [] (tput M t) P := by
  unfold w_hedgeTold_122 at h
  refine a_aload_n 0 dX1_hedgeTold_122 rfl rfl ?_
  refine a_iconst (v := 1) dX1_hedgeTold_123 (by decide) ?_
  refine a_iload_n 1 dX1_hedgeTold_124 rfl rfl ?_
  refine a_iconst (v := 2) dX1_hedgeTold_125 (by decide) ?_
  refine a_iload 2 dX1_hedgeTold_126 rfl ?_
  refine a_iconst (v := 0) dX1_hedgeTold_128 (by decide) ?_
  refine a_cv (y := mX1_add) (k := 2) (i := 0) (as := [.inl 1, .inl x1, .inl 2, .inl x5, .inl 0]) (st := []) (n := 5) (by decide) (Or.inl q1916) qs37 q1918 q73 q1919 zmh_add rfl (Nat.le_of_ble_eq_true rfl) (Nat.le_of_ble_eq_true rfl) dX1_hedgeTold_129 (sd_add (fun t_1 h => ?_) hT h)
  show wp (d + 2) mX1_hedgeTold 132 [(0, .inr (2, 0)), (1, .inl x1), (5, .inl x5)] [] (tput M t_1) P
  exact a_vret rfl dX1_hedgeTold_132 (hP _ h)
def w_hedgeTold_58 (x1 x2 x3 : Int32) (t : DB) (Q : DB → Prop) : Prop := ((x3 < 0) → (w_alike x1 x2 t (fun t_1 => Q t_1))) ∧ ((¬ x3 < 0) → (vp_in x3 4400 ∧ ((((t 69 x3.toNatClampNeg) = 2) → (vp_in x2 4400 ∧ (∀ x_3 : Int32, x_3 = t 70 x2.toNatClampNeg → (vp_in x3 4400 ∧ (∀ x_4 : Int32, x_4 = t 70 x3.toNatClampNeg → (((x_3 = x_4) → (w_hedgeTold_122 x1 x_4 t Q)) ∧ ((¬ x_3 = x_4) → (vp_in x_3 4400 ∧ (((¬ (t 29 x_3.toNatClampNeg) = (-1)) → (w_hedgeTold_122 x1 x_4 t Q)) ∧ (((t 29 x_3.toNatClampNeg) = (-1)) → (vp_in x_3 4400 ∧ (∀ t_5 : DB, t_5 = up t 29 x_3.toNatClampNeg x_4 → (w_hedgeTold_122 x1 x_4 t_5 Q))))))))))))) ∧ ((¬ (t 69 x3.toNatClampNeg) = 2) → (w_alike x1 x2 t (fun t_8 => Q t_8))))))
set_option maxHeartbeats 4000000 in
theorem sd_hedgeTold_58 {d : Nat} {M : Mem} {P : Option AV → Mem → Prop} {Q : DB → Prop} (hP : ∀ t, Q t → P none (tput M t)) (hT : TW M) (x1 x2 x3 : Int32) (t : DB) (h : w_hedgeTold_58 x1 x2 x3 t Q) : wp (d + 2) mX1_hedgeTold 58 [(0, .inr (2, 0)), (1, .inl x1), (2, .inl x2), (3, .inl x3)] [] (tput M t) P := by
  unfold w_hedgeTold_58 at h
  refine a_iload_n 3 dX1_hedgeTold_58 rfl rfl ?_
  refine a_if_lt (tgt := 72) dX1_hedgeTold_59 (by decide) (fun c_11 => ?_) (fun c_11 => ?_)
  · replace h := h.1 c_11
    refine a_aload_n 0 dX1_hedgeTold_72 rfl rfl ?_
    refine a_iload_n 1 dX1_hedgeTold_73 rfl rfl ?_
    refine a_iload_n 2 dX1_hedgeTold_74 rfl rfl ?_
    refine a_cv (y := mX1_alike) (k := 2) (i := 0) (as := [.inl x1, .inl x2]) (st := []) (n := 2) (by decide) (Or.inl q1972) qs51 q1974 q73 q1975 zmh_alike rfl (Nat.le_of_ble_eq_true rfl) (Nat.le_of_ble_eq_true rfl) dX1_hedgeTold_75 (sd_alike (fun t_1 h => ?_) hT h)
    show wp (d + 2) mX1_hedgeTold 78 [(0, .inr (2, 0)), (1, .inl x1), (2, .inl x2), (3, .inl x3)] [] (tput M t_1) P
    exact a_vret rfl dX1_hedgeTold_78 (hP _ h)
  · replace h := h.2 c_11
    refine a_aload_n 0 dX1_hedgeTold_62 rfl rfl ?_
    refine t_ga 69 hT (by decide) q1581 rfl dX1_hedgeTold_63 ?_
    refine a_iload_n 3 dX1_hedgeTold_66 rfl rfl ?_
    refine t_ia (f := 69) rfl hT (by decide) h.1 dX1_hedgeTold_67 ?_
    replace h := h.2
    refine a_iconst (v := 2) dX1_hedgeTold_68 (by decide) ?_
    refine a_icmp_eq (tgt := 79) dX1_hedgeTold_69 (by decide) (fun c_10 => ?_) (fun c_10 => ?_)
    · replace h := h.1 c_10
      refine a_aload_n 0 dX1_hedgeTold_79 rfl rfl ?_
      refine t_ga 70 hT (by decide) q1582 rfl dX1_hedgeTold_80 ?_
      refine a_iload_n 2 dX1_hedgeTold_83 rfl rfl ?_
      refine t_ia (f := 70) rfl hT (by decide) h.1 dX1_hedgeTold_84 ?_
      replace h := h.2
      refine a_topi (fun x_3 ex_3 => ?_)
      replace h := h x_3 ex_3
      refine a_istore (lv' := [(4, .inl x_3), (0, .inr (2, 0)), (1, .inl x1), (2, .inl x2), (3, .inl x3)]) dX1_hedgeTold_85 (Nat.le_of_ble_eq_true rfl) rfl ?_
      refine a_aload_n 1 dX1_hedgeTold_87 rfl rfl ?_
      refine t_ga 70 hT (by decide) q1582 rfl dX1_hedgeTold_88 ?_
      refine a_iload_n 4 dX1_hedgeTold_91 rfl rfl ?_
      refine t_ia (f := 70) rfl hT (by decide) h.1 dX1_hedgeTold_92 ?_
      replace h := h.2
      refine a_topi (fun x_4 ex_4 => ?_)
      replace h := h x_4 ex_4
      refine a_istore (lv' := [(5, .inl x_4), (4, .inl x_3), (0, .inr (2, 0)), (1, .inl x1), (2, .inl x2), (3, .inl x3)]) dX1_hedgeTold_93 (Nat.le_of_ble_eq_true rfl) rfl ?_
      refine a_iload 1 dX1_hedgeTold_95 rfl ?_
      refine a_iload 0 dX1_hedgeTold_97 rfl ?_
      refine a_icmp_eq (tgt := 122) dX1_hedgeTold_99 (by decide) (fun c_7 => ?_) (fun c_7 => ?_)
      · replace h := h.1 c_7
        exact wp_sub (by simp) (sd_hedgeTold_122 hP hT x1 x_4 t h)
      · replace h := h.2 c_7
        refine a_aload_n 2 dX1_hedgeTold_102 rfl rfl ?_
        refine t_ga 29 hT (by decide) q1541 rfl dX1_hedgeTold_103 ?_
        refine a_iload 1 dX1_hedgeTold_106 rfl ?_
        refine t_ia (f := 29) rfl hT (by decide) h.1 dX1_hedgeTold_108 ?_
        replace h := h.2
        refine a_iconst (v := (-1)) dX1_hedgeTold_109 (by decide) ?_
        refine a_icmp_ne (tgt := 122) dX1_hedgeTold_110 (by decide) (fun c_6 => ?_) (fun c_6 => ?_)
        · replace h := h.1 c_6
          exact wp_sub (by simp) (sd_hedgeTold_122 hP hT x1 x_4 t h)
        · replace h := h.2 c_6
          refine a_aload_n 2 dX1_hedgeTold_113 rfl rfl ?_
          refine t_ga 29 hT (by decide) q1541 rfl dX1_hedgeTold_114 ?_
          refine a_iload 1 dX1_hedgeTold_117 rfl ?_
          refine a_iload 0 dX1_hedgeTold_119 rfl ?_
          refine t_is (f := 29) rfl hT (by decide) h.1 dX1_hedgeTold_121 ?_
          replace h := h.2
          refine a_topt (fun t_5 et_5 => ?_)
          replace h := h t_5 et_5
          exact wp_sub (by simp) (sd_hedgeTold_122 hP hT x1 x_4 t_5 h)
    · replace h := h.2 c_10
      refine a_aload_n 0 dX1_hedgeTold_72 rfl rfl ?_
      refine a_iload_n 1 dX1_hedgeTold_73 rfl rfl ?_
      refine a_iload_n 2 dX1_hedgeTold_74 rfl rfl ?_
      refine a_cv (y := mX1_alike) (k := 2) (i := 0) (as := [.inl x1, .inl x2]) (st := []) (n := 2) (by decide) (Or.inl q1972) qs51 q1974 q73 q1975 zmh_alike rfl (Nat.le_of_ble_eq_true rfl) (Nat.le_of_ble_eq_true rfl) dX1_hedgeTold_75 (sd_alike (fun t_8 h => ?_) hT h)
      show wp (d + 2) mX1_hedgeTold 78 [(0, .inr (2, 0)), (1, .inl x1), (2, .inl x2), (3, .inl x3)] [] (tput M t_8) P
      exact a_vret rfl dX1_hedgeTold_78 (hP _ h)
def w_hedgeTold (x1 x2 : Int32) (t : DB) (Q : DB → Prop) : Prop := w_otherOf x1 x2 t (fun r_2 t_1 => vp_in x2 4400 ∧ (((¬ (t_1 69 x2.toNatClampNeg) = 1) → (((r_2 < 0) → (w_hedgeTold_58 x1 x2 r_2 t_1 Q)) ∧ ((¬ r_2 < 0) → (vp_in r_2 4400 ∧ (((¬ (t_1 69 r_2.toNatClampNeg) = 0) → (w_hedgeTold_58 x1 x2 r_2 t_1 Q)) ∧ (((t_1 69 r_2.toNatClampNeg) = 0) → (Q t_1))))))) ∧ (((t_1 69 x2.toNatClampNeg) = 1) → (w_alike x1 x2 t_1 (fun t_5 => ((r_2 < 0) → (Q t_5)) ∧ ((¬ r_2 < 0) → (vp_in r_2 4400 ∧ (((¬ (t_5 69 r_2.toNatClampNeg) = 0) → (Q t_5)) ∧ (((t_5 69 r_2.toNatClampNeg) = 0) → (w_takeBack r_2 (-1) t_5 (fun r_8 t_7 => Q t_7)))))))))))
set_option maxHeartbeats 4000000 in
theorem sd_hedgeTold {d : Nat} {M : Mem} {P : Option AV → Mem → Prop} {Q : DB → Prop} {x1 x2 : Int32} {t : DB} (hP : ∀ t, Q t → P none (tput M t)) (hT : TW M) (h : w_hedgeTold x1 x2 t Q) : ct (d + 2) mX1_hedgeTold [.inr (2, 0), .inl x1, .inl x2] (tput M t) P := by
  refine ct_of (by decide) (Nat.le_of_ble_eq_true rfl) ?_
  show wp (d + 2) mX1_hedgeTold 0 [(0, .inr (2, 0)), (1, .inl x1), (2, .inl x2)] [] (tput M t) P
  unfold w_hedgeTold at h
  refine a_aload_n 0 dX1_hedgeTold_0 rfl rfl ?_
  refine a_iload_n 1 dX1_hedgeTold_1 rfl rfl ?_
  refine a_iload_n 2 dX1_hedgeTold_2 rfl rfl ?_
  refine a_cv (y := mX1_otherOf) (k := 2) (i := 0) (as := [.inl x1, .inl x2]) (st := []) (n := 2) (by decide) (Or.inl q1984) qs54 q1986 q73 q1987 zmh_otherOf rfl (Nat.le_of_ble_eq_true rfl) (Nat.le_of_ble_eq_true rfl) dX1_hedgeTold_3 (sd_otherOf (fun r_2 t_1 h => ?_) hT h)
  show wp (d + 2) mX1_hedgeTold 6 [(0, .inr (2, 0)), (1, .inl x1), (2, .inl x2)] [.inl r_2] (tput M t_1) P
  refine a_istore_n (lv' := [(3, .inl r_2), (0, .inr (2, 0)), (1, .inl x1), (2, .inl x2)]) dX1_hedgeTold_6 rfl (Nat.le_of_ble_eq_true rfl) rfl ?_
  refine a_aload_n 1 dX1_hedgeTold_7 rfl rfl ?_
  refine t_ga 69 hT (by decide) q1581 rfl dX1_hedgeTold_8 ?_
  refine a_iload_n 3 dX1_hedgeTold_11 rfl rfl ?_
  refine t_ia (f := 69) rfl hT (by decide) h.1 dX1_hedgeTold_12 ?_
  replace h := h.2
  refine a_iconst (v := 1) dX1_hedgeTold_13 (by decide) ?_
  refine a_icmp_ne (tgt := 44) dX1_hedgeTold_14 (by decide) (fun c_11 => ?_) (fun c_11 => ?_)
  · replace h := h.1 c_11
    refine a_iload_n 0 dX1_hedgeTold_44 rfl rfl ?_
    refine a_if_lt (tgt := 58) dX1_hedgeTold_45 (by decide) (fun c_4 => ?_) (fun c_4 => ?_)
    · replace h := h.1 c_4
      exact wp_sub (by simp) (sd_hedgeTold_58 hP hT x1 x2 r_2 t_1 h)
    · replace h := h.2 c_4
      refine a_aload_n 1 dX1_hedgeTold_48 rfl rfl ?_
      refine t_ga 69 hT (by decide) q1581 rfl dX1_hedgeTold_49 ?_
      refine a_iload_n 0 dX1_hedgeTold_52 rfl rfl ?_
      refine t_ia (f := 69) rfl hT (by decide) h.1 dX1_hedgeTold_53 ?_
      replace h := h.2
      refine a_if_ne (tgt := 58) dX1_hedgeTold_54 (by decide) (fun c_3 => ?_) (fun c_3 => ?_)
      · replace h := h.1 c_3
        exact wp_sub (by simp) (sd_hedgeTold_58 hP hT x1 x2 r_2 t_1 h)
      · replace h := h.2 c_3
        exact a_vret rfl dX1_hedgeTold_57 (hP _ h)
  · replace h := h.2 c_11
    refine a_aload_n 1 dX1_hedgeTold_17 rfl rfl ?_
    refine a_iload_n 2 dX1_hedgeTold_18 rfl rfl ?_
    refine a_iload_n 3 dX1_hedgeTold_19 rfl rfl ?_
    refine a_cv (y := mX1_alike) (k := 2) (i := 0) (as := [.inl x1, .inl x2]) (st := []) (n := 2) (by decide) (Or.inl q1972) qs51 q1974 q73 q1975 zmh_alike rfl (Nat.le_of_ble_eq_true rfl) (Nat.le_of_ble_eq_true rfl) dX1_hedgeTold_20 (sd_alike (fun t_5 h => ?_) hT h)
    show wp (d + 2) mX1_hedgeTold 23 [(3, .inl r_2), (0, .inr (2, 0)), (1, .inl x1), (2, .inl x2)] [] (tput M t_5) P
    refine a_iload_n 0 dX1_hedgeTold_23 rfl rfl ?_
    refine a_if_lt (tgt := 43) dX1_hedgeTold_24 (by decide) (fun c_10 => ?_) (fun c_10 => ?_)
    · replace h := h.1 c_10
      exact a_vret rfl dX1_hedgeTold_43 (hP _ h)
    · replace h := h.2 c_10
      refine a_aload_n 1 dX1_hedgeTold_27 rfl rfl ?_
      refine t_ga 69 hT (by decide) q1581 rfl dX1_hedgeTold_28 ?_
      refine a_iload_n 0 dX1_hedgeTold_31 rfl rfl ?_
      refine t_ia (f := 69) rfl hT (by decide) h.1 dX1_hedgeTold_32 ?_
      replace h := h.2
      refine a_if_ne (tgt := 43) dX1_hedgeTold_33 (by decide) (fun c_9 => ?_) (fun c_9 => ?_)
      · replace h := h.1 c_9
        exact a_vret rfl dX1_hedgeTold_43 (hP _ h)
      · replace h := h.2 c_9
        refine a_aload_n 1 dX1_hedgeTold_36 rfl rfl ?_
        refine a_iload_n 0 dX1_hedgeTold_37 rfl rfl ?_
        refine a_iconst (v := (-1)) dX1_hedgeTold_38 (by decide) ?_
        refine a_cv (y := mX1_takeBack) (k := 2) (i := 0) (as := [.inl r_2, .inl (-1)]) (st := []) (n := 2) (by decide) (Or.inl q1988) qs55 q1990 q73 q1991 zmh_takeBack rfl (Nat.le_of_ble_eq_true rfl) (Nat.le_of_ble_eq_true rfl) dX1_hedgeTold_39 (sd_takeBack (fun r_8 t_7 h => ?_) hT h)
        show wp (d + 2) mX1_hedgeTold 42 [(3, .inl r_2), (0, .inr (2, 0)), (1, .inl x1), (2, .inl x2)] [.inl r_8] (tput M t_7) P
        refine a_pop dX1_hedgeTold_42 ?_
        exact a_vret rfl dX1_hedgeTold_43 (hP _ h)
theorem zmh_hedgeTold : zmh yX1_hedgeTold 2 := ⟨⟨by decide +kernel, by decide +kernel⟩, by decide +kernel⟩
abbrev mX1_retryTold : zMt := (yX1_retryTold, cX1_retryTold, 6, none)
def w_retryTold_80 : Nat → Int32 → Int32 → Int32 → DB → (DB → Prop) → Prop
  | 0, _, _, _, _, _ => False
  | n + 1, x1, x2, x4, t, Q => (((t 61 0) ≤ x4) → (w_alike x1 x2 t (fun t_1 => Q t_1))) ∧ ((¬ (t 61 0) ≤ x4) → (vp_in x2 4400 ∧ (((¬ (t 69 x2.toNatClampNeg) = 2) → (w_alike x1 x2 t (fun t_3 => Q t_3))) ∧ (((t 69 x2.toNatClampNeg) = 2) → (vp_in x4 4400 ∧ (((¬ (t 64 x4.toNatClampNeg) = x1) → (∀ x_5 : Int32, x_5 = x4 + 1 → (w_retryTold_80 n x1 x2 x_5 t Q))) ∧ (((t 64 x4.toNatClampNeg) = x1) → (((x4 = x2) → (∀ x_6 : Int32, x_6 = x4 + 1 → (w_retryTold_80 n x1 x2 x_6 t Q))) ∧ ((¬ x4 = x2) → (vp_in x4 4400 ∧ ((((t 69 x4.toNatClampNeg) = 2) → (vp_in x4 4400 ∧ (∀ x_7 : Int32, x_7 = t 70 x4.toNatClampNeg → (vp_in x2 4400 ∧ (((x_7 = (t 70 x2.toNatClampNeg)) → (∀ x_8 : Int32, x_8 = x4 + 1 → (w_retryTold_80 n x1 x2 x_8 t Q))) ∧ ((¬ x_7 = (t 70 x2.toNatClampNeg)) → (vp_in x_7 4400 ∧ (((¬ (t 29 x_7.toNatClampNeg) = (-1)) → (∀ x_9 : Int32, x_9 = x4 + 1 → (w_retryTold_80 n x1 x2 x_9 t Q))) ∧ (((t 29 x_7.toNatClampNeg) = (-1)) → (vp_in x2 4400 ∧ (vp_in x_7 4400 ∧ (∀ t_10 : DB, t_10 = up t 29 x_7.toNatClampNeg (t 70 x2.toNatClampNeg) → (∀ x_11 : Int32, x_11 = x4 + 1 → (w_retryTold_80 n x1 x2 x_11 t_10 Q)))))))))))))) ∧ ((¬ (t 69 x4.toNatClampNeg) = 2) → (∀ x_14 : Int32, x_14 = x4 + 1 → (w_retryTold_80 n x1 x2 x_14 t Q))))))))))))))
set_option maxHeartbeats 4000000 in
theorem sd_retryTold_80 {d : Nat} {M : Mem} {P : Option AV → Mem → Prop} {Q : DB → Prop} (hP : ∀ t, Q t → P none (tput M t)) (hT : TW M) : ∀ (n : Nat) (x1 x2 x4 : Int32) (t : DB), w_retryTold_80 n x1 x2 x4 t Q → wp (d + 3) mX1_retryTold 80 [(0, .inr (2, 0)), (1, .inl x1), (2, .inl x2), (4, .inl x4)] [] (tput M t) P := by
  intro n
  induction n with
  | zero => intro x1 x2 x4 t h; exact False.elim h
  | succ n ih =>
    intro x1 x2 x4 t h
    rw [w_retryTold_80] at h
    refine a_iload 3 dX1_retryTold_80 rfl ?_
    refine a_aload_n 0 dX1_retryTold_82 rfl rfl ?_
    refine t_gi 61 (by decide) q1573 rfl dX1_retryTold_83 ?_
    refine a_icmp_ge (tgt := 180) dX1_retryTold_86 (by decide) (fun c_19 => ?_) (fun c_19 => ?_)
    · replace h := h.1 c_19
      refine a_aload_n 0 dX1_retryTold_180 rfl rfl ?_
      refine a_iload_n 1 dX1_retryTold_181 rfl rfl ?_
      refine a_iload_n 2 dX1_retryTold_182 rfl rfl ?_
      refine a_cv (y := mX1_alike) (k := 2) (i := 0) (as := [.inl x1, .inl x2]) (st := []) (n := 2) (by decide) (Or.inl q1972) qs51 q1974 q73 q1975 zmh_alike rfl (Nat.le_of_ble_eq_true rfl) (Nat.le_of_ble_eq_true rfl) dX1_retryTold_183 (sd_alike (fun t_1 h => ?_) hT h)
      show wp (d + 3) mX1_retryTold 186 [(0, .inr (2, 0)), (1, .inl x1), (2, .inl x2), (4, .inl x4)] [] (tput M t_1) P
      exact a_vret rfl dX1_retryTold_186 (hP _ h)
    · replace h := h.2 c_19
      refine a_aload_n 0 dX1_retryTold_89 rfl rfl ?_
      refine t_ga 69 hT (by decide) q1581 rfl dX1_retryTold_90 ?_
      refine a_iload_n 2 dX1_retryTold_93 rfl rfl ?_
      refine t_ia (f := 69) rfl hT (by decide) h.1 dX1_retryTold_94 ?_
      replace h := h.2
      refine a_iconst (v := 2) dX1_retryTold_95 (by decide) ?_
      refine a_icmp_ne (tgt := 180) dX1_retryTold_96 (by decide) (fun c_18 => ?_) (fun c_18 => ?_)
      · replace h := h.1 c_18
        refine a_aload_n 0 dX1_retryTold_180 rfl rfl ?_
        refine a_iload_n 1 dX1_retryTold_181 rfl rfl ?_
        refine a_iload_n 2 dX1_retryTold_182 rfl rfl ?_
        refine a_cv (y := mX1_alike) (k := 2) (i := 0) (as := [.inl x1, .inl x2]) (st := []) (n := 2) (by decide) (Or.inl q1972) qs51 q1974 q73 q1975 zmh_alike rfl (Nat.le_of_ble_eq_true rfl) (Nat.le_of_ble_eq_true rfl) dX1_retryTold_183 (sd_alike (fun t_3 h => ?_) hT h)
        show wp (d + 3) mX1_retryTold 186 [(0, .inr (2, 0)), (1, .inl x1), (2, .inl x2), (4, .inl x4)] [] (tput M t_3) P
        exact a_vret rfl dX1_retryTold_186 (hP _ h)
      · replace h := h.2 c_18
        refine a_aload_n 0 dX1_retryTold_99 rfl rfl ?_
        refine t_ga 64 hT (by decide) q1576 rfl dX1_retryTold_100 ?_
        refine a_iload 3 dX1_retryTold_103 rfl ?_
        refine t_ia (f := 64) rfl hT (by decide) h.1 dX1_retryTold_105 ?_
        replace h := h.2
        refine a_iload_n 1 dX1_retryTold_106 rfl rfl ?_
        refine a_icmp_ne (tgt := 174) dX1_retryTold_107 (by decide) (fun c_17 => ?_) (fun c_17 => ?_)
        · replace h := h.1 c_17
          obtain ⟨x_5, ex_5⟩ : ∃ y : Int32, y = x4 + 1 := ⟨_, rfl⟩
          replace h := h x_5 ex_5
          refine a_iinc (v := x_5) (lv' := [(4, .inl x_5), (0, .inr (2, 0)), (1, .inl x1), (2, .inl x2)]) 3 dX1_retryTold_174 rfl (by rw [ex_5]; rfl) (Nat.le_of_ble_eq_true rfl) rfl ?_
          refine a_goto (tgt := 80) dX1_retryTold_177 (by decide) ?_
          exact wp_sub (by simp) (ih x1 x2 x_5 t h)
        · replace h := h.2 c_17
          refine a_iload 3 dX1_retryTold_110 rfl ?_
          refine a_iload_n 2 dX1_retryTold_112 rfl rfl ?_
          refine a_icmp_eq (tgt := 174) dX1_retryTold_113 (by decide) (fun c_16 => ?_) (fun c_16 => ?_)
          · replace h := h.1 c_16
            obtain ⟨x_6, ex_6⟩ : ∃ y : Int32, y = x4 + 1 := ⟨_, rfl⟩
            replace h := h x_6 ex_6
            refine a_iinc (v := x_6) (lv' := [(4, .inl x_6), (0, .inr (2, 0)), (1, .inl x1), (2, .inl x2)]) 3 dX1_retryTold_174 rfl (by rw [ex_6]; rfl) (Nat.le_of_ble_eq_true rfl) rfl ?_
            refine a_goto (tgt := 80) dX1_retryTold_177 (by decide) ?_
            exact wp_sub (by simp) (ih x1 x2 x_6 t h)
          · replace h := h.2 c_16
            refine a_aload_n 0 dX1_retryTold_116 rfl rfl ?_
            refine t_ga 69 hT (by decide) q1581 rfl dX1_retryTold_117 ?_
            refine a_iload 3 dX1_retryTold_120 rfl ?_
            refine t_ia (f := 69) rfl hT (by decide) h.1 dX1_retryTold_122 ?_
            replace h := h.2
            refine a_iconst (v := 2) dX1_retryTold_123 (by decide) ?_
            refine a_icmp_eq (tgt := 130) dX1_retryTold_124 (by decide) (fun c_15 => ?_) (fun c_15 => ?_)
            · replace h := h.1 c_15
              refine a_aload_n 0 dX1_retryTold_130 rfl rfl ?_
              refine t_ga 70 hT (by decide) q1582 rfl dX1_retryTold_131 ?_
              refine a_iload 3 dX1_retryTold_134 rfl ?_
              refine t_ia (f := 70) rfl hT (by decide) h.1 dX1_retryTold_136 ?_
              replace h := h.2
              refine a_topi (fun x_7 ex_7 => ?_)
              replace h := h x_7 ex_7
              refine a_istore (lv' := [(5, .inl x_7), (0, .inr (2, 0)), (1, .inl x1), (2, .inl x2), (4, .inl x4)]) dX1_retryTold_137 (Nat.le_of_ble_eq_true rfl) rfl ?_
              refine a_iload 0 dX1_retryTold_139 rfl ?_
              refine a_aload_n 1 dX1_retryTold_141 rfl rfl ?_
              refine t_ga 70 hT (by decide) q1582 rfl dX1_retryTold_142 ?_
              refine a_iload_n 3 dX1_retryTold_145 rfl rfl ?_
              refine t_ia (f := 70) rfl hT (by decide) h.1 dX1_retryTold_146 ?_
              replace h := h.2
              refine a_icmp_eq (tgt := 174) dX1_retryTold_147 (by decide) (fun c_13 => ?_) (fun c_13 => ?_)
              · replace h := h.1 c_13
                obtain ⟨x_8, ex_8⟩ : ∃ y : Int32, y = x4 + 1 := ⟨_, rfl⟩
                replace h := h x_8 ex_8
                refine a_iinc (v := x_8) (lv' := [(4, .inl x_8), (5, .inl x_7), (0, .inr (2, 0)), (1, .inl x1), (2, .inl x2)]) 4 dX1_retryTold_174 rfl (by rw [ex_8]; rfl) (Nat.le_of_ble_eq_true rfl) rfl ?_
                refine a_goto (tgt := 80) dX1_retryTold_177 (by decide) ?_
                exact wp_sub (by simp) (ih x1 x2 x_8 t h)
              · replace h := h.2 c_13
                refine a_aload_n 1 dX1_retryTold_150 rfl rfl ?_
                refine t_ga 29 hT (by decide) q1541 rfl dX1_retryTold_151 ?_
                refine a_iload 0 dX1_retryTold_154 rfl ?_
                refine t_ia (f := 29) rfl hT (by decide) h.1 dX1_retryTold_156 ?_
                replace h := h.2
                refine a_iconst (v := (-1)) dX1_retryTold_157 (by decide) ?_
                refine a_icmp_ne (tgt := 174) dX1_retryTold_158 (by decide) (fun c_12 => ?_) (fun c_12 => ?_)
                · replace h := h.1 c_12
                  obtain ⟨x_9, ex_9⟩ : ∃ y : Int32, y = x4 + 1 := ⟨_, rfl⟩
                  replace h := h x_9 ex_9
                  refine a_iinc (v := x_9) (lv' := [(4, .inl x_9), (5, .inl x_7), (0, .inr (2, 0)), (1, .inl x1), (2, .inl x2)]) 4 dX1_retryTold_174 rfl (by rw [ex_9]; rfl) (Nat.le_of_ble_eq_true rfl) rfl ?_
                  refine a_goto (tgt := 80) dX1_retryTold_177 (by decide) ?_
                  exact wp_sub (by simp) (ih x1 x2 x_9 t h)
                · replace h := h.2 c_12
                  refine a_aload_n 1 dX1_retryTold_161 rfl rfl ?_
                  refine t_ga 29 hT (by decide) q1541 rfl dX1_retryTold_162 ?_
                  refine a_iload 0 dX1_retryTold_165 rfl ?_
                  refine a_aload_n 1 dX1_retryTold_167 rfl rfl ?_
                  refine t_ga 70 hT (by decide) q1582 rfl dX1_retryTold_168 ?_
                  refine a_iload_n 3 dX1_retryTold_171 rfl rfl ?_
                  refine t_ia (f := 70) rfl hT (by decide) h.1 dX1_retryTold_172 ?_
                  replace h := h.2
                  refine t_is (f := 29) rfl hT (by decide) h.1 dX1_retryTold_173 ?_
                  replace h := h.2
                  refine a_topt (fun t_10 et_10 => ?_)
                  replace h := h t_10 et_10
                  obtain ⟨x_11, ex_11⟩ : ∃ y : Int32, y = x4 + 1 := ⟨_, rfl⟩
                  replace h := h x_11 ex_11
                  refine a_iinc (v := x_11) (lv' := [(4, .inl x_11), (5, .inl x_7), (0, .inr (2, 0)), (1, .inl x1), (2, .inl x2)]) 4 dX1_retryTold_174 rfl (by rw [ex_11]; rfl) (Nat.le_of_ble_eq_true rfl) rfl ?_
                  refine a_goto (tgt := 80) dX1_retryTold_177 (by decide) ?_
                  exact wp_sub (by simp) (ih x1 x2 x_11 t_10 h)
            · replace h := h.2 c_15
              refine a_goto (tgt := 174) dX1_retryTold_127 (by decide) ?_
              obtain ⟨x_14, ex_14⟩ : ∃ y : Int32, y = x4 + 1 := ⟨_, rfl⟩
              replace h := h x_14 ex_14
              refine a_iinc (v := x_14) (lv' := [(4, .inl x_14), (0, .inr (2, 0)), (1, .inl x1), (2, .inl x2)]) 3 dX1_retryTold_174 rfl (by rw [ex_14]; rfl) (Nat.le_of_ble_eq_true rfl) rfl ?_
              refine a_goto (tgt := 80) dX1_retryTold_177 (by decide) ?_
              exact wp_sub (by simp) (ih x1 x2 x_14 t h)
def w_retryTold (x1 x2 x3 : Int32) (t : DB) (Q : DB → Prop) : Prop := w_isNamed x2 x3 t (fun r_2 t_1 => ((r_2 = 0) → (∃ n_, w_retryTold_80 n_ x1 x2 0 t_1 Q)) ∧ ((¬ r_2 = 0) → (vp_in x1 4400 ∧ (vp_in x3 24 ∧ ((((t_1 32 x3.toNatClampNeg) ≤ (t_1 73 x1.toNatClampNeg)) → (∃ n_, w_retryTold_80 n_ x1 x2 0 t_1 Q)) ∧ ((¬ (t_1 32 x3.toNatClampNeg) ≤ (t_1 73 x1.toNatClampNeg)) → (vp_in x1 4400 ∧ (∀ t_3 : DB, t_3 = up t_1 76 x1.toNatClampNeg 1 → (vp_in x3 24 ∧ (((¬ (t_3 34 x3.toNatClampNeg) = 1) → (vp_in x3 24 ∧ (vp_in x1 4400 ∧ (∀ t_4 : DB, t_4 = up t_3 72 x1.toNatClampNeg ((t_3 0 0) + (t_3 33 x3.toNatClampNeg)) → (Q t_4))))) ∧ (((t_3 34 x3.toNatClampNeg) = 1) → (vp_in x3 24 ∧ (vp_in x1 4400 ∧ (vp_in x1 4400 ∧ (∀ t_5 : DB, t_5 = up t_3 72 x1.toNatClampNeg ((t_3 0 0) + ((t_3 33 x3.toNatClampNeg) <<< (((t_3 73 x1.toNatClampNeg) - 1) &&& 31))) → (Q t_5))))))))))))))))
set_option maxHeartbeats 4000000 in
theorem sd_retryTold {d : Nat} {M : Mem} {P : Option AV → Mem → Prop} {Q : DB → Prop} {x1 x2 x3 : Int32} {t : DB} (hP : ∀ t, Q t → P none (tput M t)) (hT : TW M) (h : w_retryTold x1 x2 x3 t Q) : ct (d + 3) mX1_retryTold [.inr (2, 0), .inl x1, .inl x2, .inl x3] (tput M t) P := by
  refine ct_of (by decide) (Nat.le_of_ble_eq_true rfl) ?_
  show wp (d + 3) mX1_retryTold 0 [(0, .inr (2, 0)), (1, .inl x1), (2, .inl x2), (3, .inl x3)] [] (tput M t) P
  unfold w_retryTold at h
  refine a_aload_n 0 dX1_retryTold_0 rfl rfl ?_
  refine a_iload_n 2 dX1_retryTold_1 rfl rfl ?_
  refine a_iload_n 3 dX1_retryTold_2 rfl rfl ?_
  refine a_cv (y := mX1_isNamed) (k := 2) (i := 0) (as := [.inl x2, .inl x3]) (st := []) (n := 2) (by decide) (Or.inl q1964) qs49 q1966 q73 q1967 zmh_isNamed rfl (Nat.le_of_ble_eq_true rfl) (Nat.le_of_ble_eq_true rfl) dX1_retryTold_3 (sd_isNamed (fun r_2 t_1 h => ?_) hT h)
  show wp (d + 3) mX1_retryTold 6 [(0, .inr (2, 0)), (1, .inl x1), (2, .inl x2), (3, .inl x3)] [.inl r_2] (tput M t_1) P
  refine a_if_eq (tgt := 77) dX1_retryTold_6 (by decide) (fun c_8 => ?_) (fun c_8 => ?_)
  · replace h := h.1 c_8
    refine a_iconst (v := 0) dX1_retryTold_77 (by decide) ?_
    refine a_istore (lv' := [(4, .inl 0), (0, .inr (2, 0)), (1, .inl x1), (2, .inl x2), (3, .inl x3)]) dX1_retryTold_78 (Nat.le_of_ble_eq_true rfl) rfl ?_
    obtain ⟨n_, h⟩ := h
    exact wp_sub (by simp) (sd_retryTold_80 hP hT n_ x1 x2 0 t_1 h)
  · replace h := h.2 c_8
    refine a_aload_n 0 dX1_retryTold_9 rfl rfl ?_
    refine t_ga 73 hT (by decide) q1585 rfl dX1_retryTold_10 ?_
    refine a_iload_n 1 dX1_retryTold_13 rfl rfl ?_
    refine t_ia (f := 73) rfl hT (by decide) h.1 dX1_retryTold_14 ?_
    replace h := h.2
    refine a_aload_n 0 dX1_retryTold_15 rfl rfl ?_
    refine t_ga 32 hT (by decide) q1544 rfl dX1_retryTold_16 ?_
    refine a_iload_n 3 dX1_retryTold_19 rfl rfl ?_
    refine t_ia (f := 32) rfl hT (by decide) h.1 dX1_retryTold_20 ?_
    replace h := h.2
    refine a_icmp_ge (tgt := 77) dX1_retryTold_21 (by decide) (fun c_7 => ?_) (fun c_7 => ?_)
    · replace h := h.1 c_7
      refine a_iconst (v := 0) dX1_retryTold_77 (by decide) ?_
      refine a_istore (lv' := [(4, .inl 0), (0, .inr (2, 0)), (1, .inl x1), (2, .inl x2), (3, .inl x3)]) dX1_retryTold_78 (Nat.le_of_ble_eq_true rfl) rfl ?_
      obtain ⟨n_, h⟩ := h
      exact wp_sub (by simp) (sd_retryTold_80 hP hT n_ x1 x2 0 t_1 h)
    · replace h := h.2 c_7
      refine a_aload_n 0 dX1_retryTold_24 rfl rfl ?_
      refine t_ga 76 hT (by decide) q1588 rfl dX1_retryTold_25 ?_
      refine a_iload_n 1 dX1_retryTold_28 rfl rfl ?_
      refine a_iconst (v := 1) dX1_retryTold_29 (by decide) ?_
      refine t_zs (f := 76) rfl hT (by decide) (by decide) h.1 dX1_retryTold_30 ?_
      replace h := h.2
      refine a_topt (fun t_3 et_3 => ?_)
      replace h := h t_3 et_3
      refine a_aload_n 0 dX1_retryTold_31 rfl rfl ?_
      refine t_ga 72 hT (by decide) q1584 rfl dX1_retryTold_32 ?_
      refine a_iload_n 1 dX1_retryTold_35 rfl rfl ?_
      refine a_aload_n 0 dX1_retryTold_36 rfl rfl ?_
      refine t_gi 0 (by decide) q1512 rfl dX1_retryTold_37 ?_
      refine a_aload_n 0 dX1_retryTold_40 rfl rfl ?_
      refine t_ga 34 hT (by decide) q1546 rfl dX1_retryTold_41 ?_
      refine a_iload_n 3 dX1_retryTold_44 rfl rfl ?_
      refine t_ia (f := 34) rfl hT (by decide) h.1 dX1_retryTold_45 ?_
      replace h := h.2
      refine a_iconst (v := 1) dX1_retryTold_46 (by decide) ?_
      refine a_icmp_ne (tgt := 68) dX1_retryTold_47 (by decide) (fun c_6 => ?_) (fun c_6 => ?_)
      · replace h := h.1 c_6
        refine a_aload_n 0 dX1_retryTold_68 rfl rfl ?_
        refine t_ga 33 hT (by decide) q1545 rfl dX1_retryTold_69 ?_
        refine a_iload_n 3 dX1_retryTold_72 rfl rfl ?_
        refine t_ia (f := 33) rfl hT (by decide) h.1 dX1_retryTold_73 ?_
        replace h := h.2
        refine a_iadd dX1_retryTold_74 ?_
        refine t_is (f := 72) rfl hT (by decide) h.1 dX1_retryTold_75 ?_
        replace h := h.2
        refine a_topt (fun t_4 et_4 => ?_)
        replace h := h t_4 et_4
        exact a_vret rfl dX1_retryTold_76 (hP _ h)
      · replace h := h.2 c_6
        refine a_aload_n 0 dX1_retryTold_50 rfl rfl ?_
        refine t_ga 33 hT (by decide) q1545 rfl dX1_retryTold_51 ?_
        refine a_iload_n 3 dX1_retryTold_54 rfl rfl ?_
        refine t_ia (f := 33) rfl hT (by decide) h.1 dX1_retryTold_55 ?_
        replace h := h.2
        refine a_aload_n 0 dX1_retryTold_56 rfl rfl ?_
        refine t_ga 73 hT (by decide) q1585 rfl dX1_retryTold_57 ?_
        refine a_iload_n 1 dX1_retryTold_60 rfl rfl ?_
        refine t_ia (f := 73) rfl hT (by decide) h.1 dX1_retryTold_61 ?_
        replace h := h.2
        refine a_iconst (v := 1) dX1_retryTold_62 (by decide) ?_
        refine a_isub dX1_retryTold_63 ?_
        refine a_ishl dX1_retryTold_64 ?_
        refine a_goto (tgt := 74) dX1_retryTold_65 (by decide) ?_
        refine a_iadd dX1_retryTold_74 ?_
        refine t_is (f := 72) rfl hT (by decide) h.1 dX1_retryTold_75 ?_
        replace h := h.2
        refine a_topt (fun t_5 et_5 => ?_)
        replace h := h t_5 et_5
        exact a_vret rfl dX1_retryTold_76 (hP _ h)
theorem zmh_retryTold : zmh yX1_retryTold 3 := ⟨⟨by decide +kernel, by decide +kernel⟩, by decide +kernel⟩
abbrev mX1_told : zMt := (yX1_told, cX1_told, 5, none)
def w_told (x1 x2 : Int32) (t : DB) (Q : DB → Prop) : Prop := vp_in x1 4400 ∧ (∀ x_1 : Int32, x_1 = t 65 x1.toNatClampNeg → (vp_in x_1 24 ∧ (((t 31 x_1.toNatClampNeg) = 0 → (w_fuseTold x1 x2 x_1 t (fun t_2 => w_alike x1 x2 t_2 (fun t_4 => Q t_4)))) ∧ ((t 31 x_1.toNatClampNeg) = 1 → (vp_in x1 4400 ∧ (∀ t_6 : DB, t_6 = up t 77 x1.toNatClampNeg 0 → (vp_in x_1 24 ∧ (vp_in x_1 24 ∧ (∀ t_7 : DB, t_7 = up t_6 39 x_1.toNatClampNeg ((t_6 39 x_1.toNatClampNeg) - 1) → (w_alike x1 x2 t_7 (fun t_8 => Q t_8)))))))) ∧ ((t 31 x_1.toNatClampNeg) = 2 → (w_alike x1 x2 t (fun t_10 => Q t_10))) ∧ ((t 31 x_1.toNatClampNeg) = 3 → (w_alike x1 x2 t (fun t_12 => Q t_12))) ∧ ((t 31 x_1.toNatClampNeg) = 4 → (w_retryTold x1 x2 x_1 t (fun t_14 => Q t_14))) ∧ ((t 31 x_1.toNatClampNeg) = 5 → (w_hedgeTold x1 x2 t (fun t_16 => Q t_16))) ∧ ((t 31 x_1.toNatClampNeg) = 6 → (w_fallbackTold x1 x2 x_1 t (fun t_18 => Q t_18))) ∧ ((t 31 x_1.toNatClampNeg) = 7 → (vp_in x2 4400 ∧ (((¬ (t 69 x2.toNatClampNeg) = 1) → (w_alike x1 x2 t (fun t_20 => Q t_20))) ∧ (((t 69 x2.toNatClampNeg) = 1) → (vp_in x1 4400 ∧ (vp_in (t 62 x1.toNatClampNeg) 60 ∧ (((¬ (t 53 (t 62 x1.toNatClampNeg).toNatClampNeg) = 0) → (w_alike x1 x2 t (fun t_22 => Q t_22))) ∧ (((t 53 (t 62 x1.toNatClampNeg).toNatClampNeg) = 0) → (vp_in x1 4400 ∧ (vp_in (t 62 x1.toNatClampNeg) 60 ∧ (∀ x_24 : Int32, x_24 = (8 * x_1) + (t 52 (t 62 x1.toNatClampNeg).toNatClampNeg) → (vp_in x2 4400 ∧ (vp_in x_24 192 ∧ (∀ t_25 : DB, t_25 = up t 44 x_24.toNatClampNeg (t 70 x2.toNatClampNeg) → (vp_in x_24 192 ∧ (∀ t_26 : DB, t_26 = up t_25 45 x_24.toNatClampNeg (t_25 0 0) → (vp_in x2 4400 ∧ (((t_26 71 x2.toNatClampNeg) = 0 ∨ (t_26 71 x2.toNatClampNeg) = 1) ∧ vp_in x_24 192 ∧ (∀ t_27 : DB, t_27 = up t_26 46 x_24.toNatClampNeg (t_26 71 x2.toNatClampNeg) → (w_alike x1 x2 t_27 (fun t_28 => Q t_28))))))))))))))))))))) ∧ ((t 31 x_1.toNatClampNeg) = 8 → (w_add 3 x1 (-1) 0 0 t (fun t_32 => w_alike x1 x2 t_32 (fun t_34 => Q t_34)))) ∧ ((t 31 x_1.toNatClampNeg) = 9 → (w_isNamed x2 x_1 t (fun r_37 t_36 => ((r_37 = 0) → (w_alike x1 x2 t_36 (fun t_38 => Q t_38))) ∧ ((¬ r_37 = 0) → (vp_in x_1 24 ∧ (w_fails (t_36 33 x_1.toNatClampNeg) x_1 (-1) t_36 (fun r_41 t_40 => vp_in x2 4400 ∧ (vp_in r_41 4400 ∧ (∀ t_42 : DB, t_42 = up t_40 28 r_41.toNatClampNeg (t_40 70 x2.toNatClampNeg) → (w_add 1 x1 2 r_41 0 t_42 (fun t_43 => Q t_43))))))))))) ∧ (¬ (t 31 x_1.toNatClampNeg) = 0 → ¬ (t 31 x_1.toNatClampNeg) = 1 → ¬ (t 31 x_1.toNatClampNeg) = 2 → ¬ (t 31 x_1.toNatClampNeg) = 3 → ¬ (t 31 x_1.toNatClampNeg) = 4 → ¬ (t 31 x_1.toNatClampNeg) = 5 → ¬ (t 31 x_1.toNatClampNeg) = 6 → ¬ (t 31 x_1.toNatClampNeg) = 7 → ¬ (t 31 x_1.toNatClampNeg) = 8 → ¬ (t 31 x_1.toNatClampNeg) = 9 → (w_alike x1 x2 t (fun t_46 => Q t_46))))))
set_option maxHeartbeats 4000000 in
theorem sd_told {d : Nat} {M : Mem} {P : Option AV → Mem → Prop} {Q : DB → Prop} {x1 x2 : Int32} {t : DB} (hP : ∀ t, Q t → P none (tput M t)) (hT : TW M) (h : w_told x1 x2 t Q) : ct (d + 4) mX1_told [.inr (2, 0), .inl x1, .inl x2] (tput M t) P := by
  refine ct_of (by decide) (Nat.le_of_ble_eq_true rfl) ?_
  show wp (d + 4) mX1_told 0 [(0, .inr (2, 0)), (1, .inl x1), (2, .inl x2)] [] (tput M t) P
  unfold w_told at h
  refine a_aload_n 0 dX1_told_0 rfl rfl ?_
  refine t_ga 65 hT (by decide) q1577 rfl dX1_told_1 ?_
  refine a_iload_n 1 dX1_told_4 rfl rfl ?_
  refine t_ia (f := 65) rfl hT (by decide) h.1 dX1_told_5 ?_
  replace h := h.2
  refine a_topi (fun x_1 ex_1 => ?_)
  replace h := h x_1 ex_1
  refine a_istore_n (lv' := [(3, .inl x_1), (0, .inr (2, 0)), (1, .inl x1), (2, .inl x2)]) dX1_told_6 rfl (Nat.le_of_ble_eq_true rfl) rfl ?_
  refine a_aload_n 1 dX1_told_7 rfl rfl ?_
  refine t_ga 31 hT (by decide) q1543 rfl dX1_told_8 ?_
  refine a_iload_n 0 dX1_told_11 rfl rfl ?_
  refine t_ia (f := 31) rfl hT (by decide) h.1 dX1_told_12 ?_
  replace h := h.2
  refine a_tsw (fun j => ([68, 84, 303, 303, 110, 120, 129, 139, 227, 245] : List Nat).getD j 0) (tD := 303) (n := 10) dX1_told_13 rfl (by decide) (by decide) (by decide) (fun j hj e => ?_) (fun e => ?_)
  · match j, hj, e with
    | 0, _, e =>
      replace h := h.1 e
      show wp (d + 4) mX1_told 68 _ _ _ _
      refine a_aload_n 1 dX1_told_68 rfl rfl ?_
      refine a_iload_n 2 dX1_told_69 rfl rfl ?_
      refine a_iload_n 3 dX1_told_70 rfl rfl ?_
      refine a_iload_n 0 dX1_told_71 rfl rfl ?_
      refine a_cv (y := mX1_fuseTold) (k := 2) (i := 0) (as := [.inl x1, .inl x2, .inl x_1]) (st := []) (n := 3) (by decide) (Or.inl q1960) qs48 q1962 q73 q1963 zmh_fuseTold rfl (Nat.le_of_ble_eq_true rfl) (Nat.le_of_ble_eq_true rfl) dX1_told_72 (sd_fuseTold (fun t_2 h => ?_) hT h)
      show wp (d + 4) mX1_told 75 [(3, .inl x_1), (0, .inr (2, 0)), (1, .inl x1), (2, .inl x2)] [] (tput M t_2) P
      refine a_aload_n 1 dX1_told_75 rfl rfl ?_
      refine a_iload_n 2 dX1_told_76 rfl rfl ?_
      refine a_iload_n 3 dX1_told_77 rfl rfl ?_
      refine a_cv (y := mX1_alike) (k := 2) (i := 0) (as := [.inl x1, .inl x2]) (st := []) (n := 2) (by decide) (Or.inl q1972) qs51 q1974 q73 q1975 zmh_alike rfl (Nat.le_of_ble_eq_true rfl) (Nat.le_of_ble_eq_true rfl) dX1_told_78 (sd_alike (fun t_4 h => ?_) hT h)
      show wp (d + 4) mX1_told 81 [(3, .inl x_1), (0, .inr (2, 0)), (1, .inl x1), (2, .inl x2)] [] (tput M t_4) P
      refine a_goto (tgt := 309) dX1_told_81 (by decide) ?_
      exact a_vret rfl dX1_told_309 (hP _ h)
    | 1, _, e =>
      replace h := h.2.1 e
      show wp (d + 4) mX1_told 84 _ _ _ _
      refine a_aload_n 1 dX1_told_84 rfl rfl ?_
      refine t_ga 77 hT (by decide) q1589 rfl dX1_told_85 ?_
      refine a_iload_n 2 dX1_told_88 rfl rfl ?_
      refine a_iconst (v := 0) dX1_told_89 (by decide) ?_
      refine t_zs (f := 77) rfl hT (by decide) (by decide) h.1 dX1_told_90 ?_
      replace h := h.2
      refine a_topt (fun t_6 et_6 => ?_)
      replace h := h t_6 et_6
      refine a_aload_n 1 dX1_told_91 rfl rfl ?_
      refine t_ga 39 hT (by decide) q1551 rfl dX1_told_92 ?_
      refine a_iload_n 0 dX1_told_95 rfl rfl ?_
      refine a_dup2 dX1_told_96 ?_
      refine t_ia (f := 39) rfl hT (by decide) h.1 dX1_told_97 ?_
      replace h := h.2
      refine a_iconst (v := 1) dX1_told_98 (by decide) ?_
      refine a_isub dX1_told_99 ?_
      refine t_is (f := 39) rfl hT (by decide) h.1 dX1_told_100 ?_
      replace h := h.2
      refine a_topt (fun t_7 et_7 => ?_)
      replace h := h t_7 et_7
      refine a_aload_n 1 dX1_told_101 rfl rfl ?_
      refine a_iload_n 2 dX1_told_102 rfl rfl ?_
      refine a_iload_n 3 dX1_told_103 rfl rfl ?_
      refine a_cv (y := mX1_alike) (k := 2) (i := 0) (as := [.inl x1, .inl x2]) (st := []) (n := 2) (by decide) (Or.inl q1972) qs51 q1974 q73 q1975 zmh_alike rfl (Nat.le_of_ble_eq_true rfl) (Nat.le_of_ble_eq_true rfl) dX1_told_104 (sd_alike (fun t_8 h => ?_) hT h)
      show wp (d + 4) mX1_told 107 [(3, .inl x_1), (0, .inr (2, 0)), (1, .inl x1), (2, .inl x2)] [] (tput M t_8) P
      refine a_goto (tgt := 309) dX1_told_107 (by decide) ?_
      exact a_vret rfl dX1_told_309 (hP _ h)
    | 2, _, e =>
      replace h := h.2.2.1 e
      show wp (d + 4) mX1_told 303 _ _ _ _
      refine a_aload_n 1 dX1_told_303 rfl rfl ?_
      refine a_iload_n 2 dX1_told_304 rfl rfl ?_
      refine a_iload_n 3 dX1_told_305 rfl rfl ?_
      refine a_cv (y := mX1_alike) (k := 2) (i := 0) (as := [.inl x1, .inl x2]) (st := []) (n := 2) (by decide) (Or.inl q1972) qs51 q1974 q73 q1975 zmh_alike rfl (Nat.le_of_ble_eq_true rfl) (Nat.le_of_ble_eq_true rfl) dX1_told_306 (sd_alike (fun t_10 h => ?_) hT h)
      show wp (d + 4) mX1_told 309 [(3, .inl x_1), (0, .inr (2, 0)), (1, .inl x1), (2, .inl x2)] [] (tput M t_10) P
      exact a_vret rfl dX1_told_309 (hP _ h)
    | 3, _, e =>
      replace h := h.2.2.2.1 e
      show wp (d + 4) mX1_told 303 _ _ _ _
      refine a_aload_n 1 dX1_told_303 rfl rfl ?_
      refine a_iload_n 2 dX1_told_304 rfl rfl ?_
      refine a_iload_n 3 dX1_told_305 rfl rfl ?_
      refine a_cv (y := mX1_alike) (k := 2) (i := 0) (as := [.inl x1, .inl x2]) (st := []) (n := 2) (by decide) (Or.inl q1972) qs51 q1974 q73 q1975 zmh_alike rfl (Nat.le_of_ble_eq_true rfl) (Nat.le_of_ble_eq_true rfl) dX1_told_306 (sd_alike (fun t_12 h => ?_) hT h)
      show wp (d + 4) mX1_told 309 [(3, .inl x_1), (0, .inr (2, 0)), (1, .inl x1), (2, .inl x2)] [] (tput M t_12) P
      exact a_vret rfl dX1_told_309 (hP _ h)
    | 4, _, e =>
      replace h := h.2.2.2.2.1 e
      show wp (d + 4) mX1_told 110 _ _ _ _
      refine a_aload_n 1 dX1_told_110 rfl rfl ?_
      refine a_iload_n 2 dX1_told_111 rfl rfl ?_
      refine a_iload_n 3 dX1_told_112 rfl rfl ?_
      refine a_iload_n 0 dX1_told_113 rfl rfl ?_
      refine a_cv (y := mX1_retryTold) (k := 2) (i := 0) (as := [.inl x1, .inl x2, .inl x_1]) (st := []) (n := 3) (by decide) (Or.inl q1976) qs52 q1978 q73 q1979 zmh_retryTold rfl (Nat.le_of_ble_eq_true rfl) (Nat.le_of_ble_eq_true rfl) dX1_told_114 (sd_retryTold (fun t_14 h => ?_) hT h)
      show wp (d + 4) mX1_told 117 [(3, .inl x_1), (0, .inr (2, 0)), (1, .inl x1), (2, .inl x2)] [] (tput M t_14) P
      refine a_goto (tgt := 309) dX1_told_117 (by decide) ?_
      exact a_vret rfl dX1_told_309 (hP _ h)
    | 5, _, e =>
      replace h := h.2.2.2.2.2.1 e
      show wp (d + 4) mX1_told 120 _ _ _ _
      refine a_aload_n 1 dX1_told_120 rfl rfl ?_
      refine a_iload_n 2 dX1_told_121 rfl rfl ?_
      refine a_iload_n 3 dX1_told_122 rfl rfl ?_
      refine a_cv (y := mX1_hedgeTold) (k := 2) (i := 0) (as := [.inl x1, .inl x2]) (st := []) (n := 2) (by decide) (Or.inl q1980) qs53 q1982 q73 q1983 zmh_hedgeTold rfl (Nat.le_of_ble_eq_true rfl) (Nat.le_of_ble_eq_true rfl) dX1_told_123 (sd_hedgeTold (fun t_16 h => ?_) hT h)
      show wp (d + 4) mX1_told 126 [(3, .inl x_1), (0, .inr (2, 0)), (1, .inl x1), (2, .inl x2)] [] (tput M t_16) P
      refine a_goto (tgt := 309) dX1_told_126 (by decide) ?_
      exact a_vret rfl dX1_told_309 (hP _ h)
    | 6, _, e =>
      replace h := h.2.2.2.2.2.2.1 e
      show wp (d + 4) mX1_told 129 _ _ _ _
      refine a_aload_n 1 dX1_told_129 rfl rfl ?_
      refine a_iload_n 2 dX1_told_130 rfl rfl ?_
      refine a_iload_n 3 dX1_told_131 rfl rfl ?_
      refine a_iload_n 0 dX1_told_132 rfl rfl ?_
      refine a_cv (y := mX1_fallbackTold) (k := 2) (i := 0) (as := [.inl x1, .inl x2, .inl x_1]) (st := []) (n := 3) (by decide) (Or.inl q1992) qs56 q1994 q73 q1995 zmh_fallbackTold rfl (Nat.le_of_ble_eq_true rfl) (Nat.le_of_ble_eq_true rfl) dX1_told_133 (sd_fallbackTold (fun t_18 h => ?_) hT h)
      show wp (d + 4) mX1_told 136 [(3, .inl x_1), (0, .inr (2, 0)), (1, .inl x1), (2, .inl x2)] [] (tput M t_18) P
      refine a_goto (tgt := 309) dX1_told_136 (by decide) ?_
      exact a_vret rfl dX1_told_309 (hP _ h)
    | 7, _, e =>
      replace h := h.2.2.2.2.2.2.2.1 e
      show wp (d + 4) mX1_told 139 _ _ _ _
      refine a_aload_n 1 dX1_told_139 rfl rfl ?_
      refine t_ga 69 hT (by decide) q1581 rfl dX1_told_140 ?_
      refine a_iload_n 3 dX1_told_143 rfl rfl ?_
      refine t_ia (f := 69) rfl hT (by decide) h.1 dX1_told_144 ?_
      replace h := h.2
      refine a_iconst (v := 1) dX1_told_145 (by decide) ?_
      refine a_icmp_ne (tgt := 218) dX1_told_146 (by decide) (fun c_31 => ?_) (fun c_31 => ?_)
      · replace h := h.1 c_31
        refine a_aload_n 1 dX1_told_218 rfl rfl ?_
        refine a_iload_n 2 dX1_told_219 rfl rfl ?_
        refine a_iload_n 3 dX1_told_220 rfl rfl ?_
        refine a_cv (y := mX1_alike) (k := 2) (i := 0) (as := [.inl x1, .inl x2]) (st := []) (n := 2) (by decide) (Or.inl q1972) qs51 q1974 q73 q1975 zmh_alike rfl (Nat.le_of_ble_eq_true rfl) (Nat.le_of_ble_eq_true rfl) dX1_told_221 (sd_alike (fun t_20 h => ?_) hT h)
        show wp (d + 4) mX1_told 224 [(3, .inl x_1), (0, .inr (2, 0)), (1, .inl x1), (2, .inl x2)] [] (tput M t_20) P
        refine a_goto (tgt := 309) dX1_told_224 (by decide) ?_
        exact a_vret rfl dX1_told_309 (hP _ h)
      · replace h := h.2 c_31
        refine a_aload_n 1 dX1_told_149 rfl rfl ?_
        refine t_ga 53 hT (by decide) q1565 rfl dX1_told_150 ?_
        refine a_aload_n 1 dX1_told_153 rfl rfl ?_
        refine t_ga 62 hT (by decide) q1574 rfl dX1_told_154 ?_
        refine a_iload_n 2 dX1_told_157 rfl rfl ?_
        refine t_ia (f := 62) rfl hT (by decide) h.1 dX1_told_158 ?_
        replace h := h.2
        refine t_ia (f := 53) rfl hT (by decide) h.1 dX1_told_159 ?_
        replace h := h.2
        refine a_if_ne (tgt := 218) dX1_told_160 (by decide) (fun c_30 => ?_) (fun c_30 => ?_)
        · replace h := h.1 c_30
          refine a_aload_n 1 dX1_told_218 rfl rfl ?_
          refine a_iload_n 2 dX1_told_219 rfl rfl ?_
          refine a_iload_n 3 dX1_told_220 rfl rfl ?_
          refine a_cv (y := mX1_alike) (k := 2) (i := 0) (as := [.inl x1, .inl x2]) (st := []) (n := 2) (by decide) (Or.inl q1972) qs51 q1974 q73 q1975 zmh_alike rfl (Nat.le_of_ble_eq_true rfl) (Nat.le_of_ble_eq_true rfl) dX1_told_221 (sd_alike (fun t_22 h => ?_) hT h)
          show wp (d + 4) mX1_told 224 [(3, .inl x_1), (0, .inr (2, 0)), (1, .inl x1), (2, .inl x2)] [] (tput M t_22) P
          refine a_goto (tgt := 309) dX1_told_224 (by decide) ?_
          exact a_vret rfl dX1_told_309 (hP _ h)
        · replace h := h.2 c_30
          refine a_bipush (v := 8) dX1_told_163 (by decide) ?_
          refine a_iload_n 0 dX1_told_165 rfl rfl ?_
          refine a_imul dX1_told_166 ?_
          refine a_aload_n 1 dX1_told_167 rfl rfl ?_
          refine t_ga 52 hT (by decide) q1564 rfl dX1_told_168 ?_
          refine a_aload_n 1 dX1_told_171 rfl rfl ?_
          refine t_ga 62 hT (by decide) q1574 rfl dX1_told_172 ?_
          refine a_iload_n 2 dX1_told_175 rfl rfl ?_
          refine t_ia (f := 62) rfl hT (by decide) h.1 dX1_told_176 ?_
          replace h := h.2
          refine t_ia (f := 52) rfl hT (by decide) h.1 dX1_told_177 ?_
          replace h := h.2
          refine a_iadd dX1_told_178 ?_
          refine a_topi (fun x_24 ex_24 => ?_)
          replace h := h x_24 ex_24
          refine a_istore (lv' := [(4, .inl x_24), (3, .inl x_1), (0, .inr (2, 0)), (1, .inl x1), (2, .inl x2)]) dX1_told_179 (Nat.le_of_ble_eq_true rfl) rfl ?_
          refine a_aload_n 2 dX1_told_181 rfl rfl ?_
          refine t_ga 44 hT (by decide) q1556 rfl dX1_told_182 ?_
          refine a_iload 0 dX1_told_185 rfl ?_
          refine a_aload_n 2 dX1_told_187 rfl rfl ?_
          refine t_ga 70 hT (by decide) q1582 rfl dX1_told_188 ?_
          refine a_iload_n 4 dX1_told_191 rfl rfl ?_
          refine t_ia (f := 70) rfl hT (by decide) h.1 dX1_told_192 ?_
          replace h := h.2
          refine t_is (f := 44) rfl hT (by decide) h.1 dX1_told_193 ?_
          replace h := h.2
          refine a_topt (fun t_25 et_25 => ?_)
          replace h := h t_25 et_25
          refine a_aload_n 2 dX1_told_194 rfl rfl ?_
          refine t_ga 45 hT (by decide) q1557 rfl dX1_told_195 ?_
          refine a_iload 0 dX1_told_198 rfl ?_
          refine a_aload_n 2 dX1_told_200 rfl rfl ?_
          refine t_gi 0 (by decide) q1512 rfl dX1_told_201 ?_
          refine t_is (f := 45) rfl hT (by decide) h.1 dX1_told_204 ?_
          replace h := h.2
          refine a_topt (fun t_26 et_26 => ?_)
          replace h := h t_26 et_26
          refine a_aload_n 2 dX1_told_205 rfl rfl ?_
          refine t_ga 46 hT (by decide) q1558 rfl dX1_told_206 ?_
          refine a_iload 0 dX1_told_209 rfl ?_
          refine a_aload_n 2 dX1_told_211 rfl rfl ?_
          refine t_ga 71 hT (by decide) q1583 rfl dX1_told_212 ?_
          refine a_iload_n 4 dX1_told_215 rfl rfl ?_
          refine t_za (f := 71) rfl hT (by decide) h.1 dX1_told_216 ?_
          replace h := h.2
          refine t_zs (f := 46) rfl hT (by decide) h.1 h.2.1 dX1_told_217 ?_
          replace h := h.2.2
          refine a_topt (fun t_27 et_27 => ?_)
          replace h := h t_27 et_27
          refine a_aload_n 2 dX1_told_218 rfl rfl ?_
          refine a_iload_n 3 dX1_told_219 rfl rfl ?_
          refine a_iload_n 4 dX1_told_220 rfl rfl ?_
          refine a_cv (y := mX1_alike) (k := 2) (i := 0) (as := [.inl x1, .inl x2]) (st := []) (n := 2) (by decide) (Or.inl q1972) qs51 q1974 q73 q1975 zmh_alike rfl (Nat.le_of_ble_eq_true rfl) (Nat.le_of_ble_eq_true rfl) dX1_told_221 (sd_alike (fun t_28 h => ?_) hT h)
          show wp (d + 4) mX1_told 224 [(4, .inl x_24), (3, .inl x_1), (0, .inr (2, 0)), (1, .inl x1), (2, .inl x2)] [] (tput M t_28) P
          refine a_goto (tgt := 309) dX1_told_224 (by decide) ?_
          exact a_vret rfl dX1_told_309 (hP _ h)
    | 8, _, e =>
      replace h := h.2.2.2.2.2.2.2.2.1 e
      show wp (d + 4) mX1_told 227 _ _ _ _
      refine a_aload_n 1 dX1_told_227 rfl rfl ?_
      refine a_iconst (v := 3) dX1_told_228 (by decide) ?_
      refine a_iload_n 2 dX1_told_229 rfl rfl ?_
      refine a_iconst (v := (-1)) dX1_told_230 (by decide) ?_
      refine a_iconst (v := 0) dX1_told_231 (by decide) ?_
      refine a_iconst (v := 0) dX1_told_232 (by decide) ?_
      refine a_cv (y := mX1_add) (k := 2) (i := 0) (as := [.inl 3, .inl x1, .inl (-1), .inl 0, .inl 0]) (st := []) (n := 5) (by decide) (Or.inl q1916) qs37 q1918 q73 q1919 zmh_add rfl (Nat.le_of_ble_eq_true rfl) (Nat.le_of_ble_eq_true rfl) dX1_told_233 (sd_add (fun t_32 h => ?_) hT h)
      show wp (d + 4) mX1_told 236 [(3, .inl x_1), (0, .inr (2, 0)), (1, .inl x1), (2, .inl x2)] [] (tput M t_32) P
      refine a_aload_n 1 dX1_told_236 rfl rfl ?_
      refine a_iload_n 2 dX1_told_237 rfl rfl ?_
      refine a_iload_n 3 dX1_told_238 rfl rfl ?_
      refine a_cv (y := mX1_alike) (k := 2) (i := 0) (as := [.inl x1, .inl x2]) (st := []) (n := 2) (by decide) (Or.inl q1972) qs51 q1974 q73 q1975 zmh_alike rfl (Nat.le_of_ble_eq_true rfl) (Nat.le_of_ble_eq_true rfl) dX1_told_239 (sd_alike (fun t_34 h => ?_) hT h)
      show wp (d + 4) mX1_told 242 [(3, .inl x_1), (0, .inr (2, 0)), (1, .inl x1), (2, .inl x2)] [] (tput M t_34) P
      refine a_goto (tgt := 309) dX1_told_242 (by decide) ?_
      exact a_vret rfl dX1_told_309 (hP _ h)
    | 9, _, e =>
      replace h := h.2.2.2.2.2.2.2.2.2.1 e
      show wp (d + 4) mX1_told 245 _ _ _ _
      refine a_aload_n 1 dX1_told_245 rfl rfl ?_
      refine a_iload_n 3 dX1_told_246 rfl rfl ?_
      refine a_iload_n 0 dX1_told_247 rfl rfl ?_
      refine a_cv (y := mX1_isNamed) (k := 2) (i := 0) (as := [.inl x2, .inl x_1]) (st := []) (n := 2) (by decide) (Or.inl q1964) qs49 q1966 q73 q1967 zmh_isNamed rfl (Nat.le_of_ble_eq_true rfl) (Nat.le_of_ble_eq_true rfl) dX1_told_248 (sd_isNamed (fun r_37 t_36 h => ?_) hT h)
      show wp (d + 4) mX1_told 251 [(3, .inl x_1), (0, .inr (2, 0)), (1, .inl x1), (2, .inl x2)] [.inl r_37] (tput M t_36) P
      refine a_if_eq (tgt := 294) dX1_told_251 (by decide) (fun c_45 => ?_) (fun c_45 => ?_)
      · replace h := h.1 c_45
        refine a_aload_n 1 dX1_told_294 rfl rfl ?_
        refine a_iload_n 2 dX1_told_295 rfl rfl ?_
        refine a_iload_n 3 dX1_told_296 rfl rfl ?_
        refine a_cv (y := mX1_alike) (k := 2) (i := 0) (as := [.inl x1, .inl x2]) (st := []) (n := 2) (by decide) (Or.inl q1972) qs51 q1974 q73 q1975 zmh_alike rfl (Nat.le_of_ble_eq_true rfl) (Nat.le_of_ble_eq_true rfl) dX1_told_297 (sd_alike (fun t_38 h => ?_) hT h)
        show wp (d + 4) mX1_told 300 [(3, .inl x_1), (0, .inr (2, 0)), (1, .inl x1), (2, .inl x2)] [] (tput M t_38) P
        refine a_goto (tgt := 309) dX1_told_300 (by decide) ?_
        exact a_vret rfl dX1_told_309 (hP _ h)
      · replace h := h.2 c_45
        refine a_aload_n 1 dX1_told_254 rfl rfl ?_
        refine a_aload_n 1 dX1_told_255 rfl rfl ?_
        refine t_ga 33 hT (by decide) q1545 rfl dX1_told_256 ?_
        refine a_iload_n 0 dX1_told_259 rfl rfl ?_
        refine t_ia (f := 33) rfl hT (by decide) h.1 dX1_told_260 ?_
        replace h := h.2
        refine a_iload_n 0 dX1_told_261 rfl rfl ?_
        refine a_iconst (v := (-1)) dX1_told_262 (by decide) ?_
        refine a_cv (y := mX1_fails) (k := 2) (i := 0) (as := [.inl (t_36 33 x_1.toNatClampNeg), .inl x_1, .inl (-1)]) (st := []) (n := 3) (by decide) (Or.inl q1996) qs57 q1998 q73 q1999 zmh_fails rfl (Nat.le_of_ble_eq_true rfl) (Nat.le_of_ble_eq_true rfl) dX1_told_263 (sd_fails (fun r_41 t_40 h => ?_) hT h)
        show wp (d + 4) mX1_told 266 [(3, .inl x_1), (0, .inr (2, 0)), (1, .inl x1), (2, .inl x2)] [.inl r_41] (tput M t_40) P
        refine a_istore (lv' := [(4, .inl r_41), (3, .inl x_1), (0, .inr (2, 0)), (1, .inl x1), (2, .inl x2)]) dX1_told_266 (Nat.le_of_ble_eq_true rfl) rfl ?_
        refine a_aload_n 2 dX1_told_268 rfl rfl ?_
        refine t_ga 28 hT (by decide) q1540 rfl dX1_told_269 ?_
        refine a_iload 0 dX1_told_272 rfl ?_
        refine a_aload_n 2 dX1_told_274 rfl rfl ?_
        refine t_ga 70 hT (by decide) q1582 rfl dX1_told_275 ?_
        refine a_iload_n 4 dX1_told_278 rfl rfl ?_
        refine t_ia (f := 70) rfl hT (by decide) h.1 dX1_told_279 ?_
        replace h := h.2
        refine t_is (f := 28) rfl hT (by decide) h.1 dX1_told_280 ?_
        replace h := h.2
        refine a_topt (fun t_42 et_42 => ?_)
        replace h := h t_42 et_42
        refine a_aload_n 2 dX1_told_281 rfl rfl ?_
        refine a_iconst (v := 1) dX1_told_282 (by decide) ?_
        refine a_iload_n 3 dX1_told_283 rfl rfl ?_
        refine a_iconst (v := 2) dX1_told_284 (by decide) ?_
        refine a_iload 0 dX1_told_285 rfl ?_
        refine a_iconst (v := 0) dX1_told_287 (by decide) ?_
        refine a_cv (y := mX1_add) (k := 2) (i := 0) (as := [.inl 1, .inl x1, .inl 2, .inl r_41, .inl 0]) (st := []) (n := 5) (by decide) (Or.inl q1916) qs37 q1918 q73 q1919 zmh_add rfl (Nat.le_of_ble_eq_true rfl) (Nat.le_of_ble_eq_true rfl) dX1_told_288 (sd_add (fun t_43 h => ?_) hT h)
        show wp (d + 4) mX1_told 291 [(4, .inl r_41), (3, .inl x_1), (0, .inr (2, 0)), (1, .inl x1), (2, .inl x2)] [] (tput M t_43) P
        refine a_goto (tgt := 309) dX1_told_291 (by decide) ?_
        exact a_vret rfl dX1_told_309 (hP _ h)
    | j + 10, hj, _ => exact absurd hj (by omega)
  · replace h := h.2.2.2.2.2.2.2.2.2.2 (e 0 (by decide)) (e 1 (by decide)) (e 2 (by decide)) (e 3 (by decide)) (e 4 (by decide)) (e 5 (by decide)) (e 6 (by decide)) (e 7 (by decide)) (e 8 (by decide)) (e 9 (by decide))
    refine a_aload_n 1 dX1_told_303 rfl rfl ?_
    refine a_iload_n 2 dX1_told_304 rfl rfl ?_
    refine a_iload_n 3 dX1_told_305 rfl rfl ?_
    refine a_cv (y := mX1_alike) (k := 2) (i := 0) (as := [.inl x1, .inl x2]) (st := []) (n := 2) (by decide) (Or.inl q1972) qs51 q1974 q73 q1975 zmh_alike rfl (Nat.le_of_ble_eq_true rfl) (Nat.le_of_ble_eq_true rfl) dX1_told_306 (sd_alike (fun t_46 h => ?_) hT h)
    show wp (d + 4) mX1_told 309 [(3, .inl x_1), (0, .inr (2, 0)), (1, .inl x1), (2, .inl x2)] [] (tput M t_46) P
    exact a_vret rfl dX1_told_309 (hP _ h)
theorem zmh_told : zmh yX1_told 2 := ⟨⟨by decide +kernel, by decide +kernel⟩, by decide +kernel⟩
abbrev mX1_ends : zMt := (yX1_ends, cX1_ends, 7, none)
def w_ends_109 (x3 x6 s0 s1 : Int32) (t : DB) (Q : DB → Prop) : Prop := vp_in s1 60 ∧ (∀ t_1 : DB, t_1 = up t 58 s1.toNatClampNeg s0 → (vp_in x6 60 ∧ (∀ t_2 : DB, t_2 = up t_1 59 x6.toNatClampNeg x3 → (vp_in x6 60 ∧ (∀ t_3 : DB, t_3 = up t_2 57 x6.toNatClampNeg (t_2 0 0) → (∀ t_4 : DB, t_4 = up t_3 60 0 ((t_3 60 0) + 1) → (Q t_4)))))))
set_option maxHeartbeats 4000000 in
theorem sd_ends_109 {d : Nat} {M : Mem} {P : Option AV → Mem → Prop} {Q : DB → Prop} (hP : ∀ t, Q t → P none (tput M t)) (hT : TW M) (x3 x6 s0 s1 : Int32) (t : DB) (h : w_ends_109 x3 x6 s0 s1 t Q) : wp (d + 5) mX1_ends 109 [(0, .inr (2, 0)), (3, .inl x3), (6, .inl x6)] [.inl s0, .inl s1, .inr (158, 0)] (tput M t) P := by
  unfold w_ends_109 at h
  refine t_is (f := 58) rfl hT (by decide) h.1 dX1_ends_109 ?_
  replace h := h.2
  refine a_topt (fun t_1 et_1 => ?_)
  replace h := h t_1 et_1
  refine a_aload_n 0 dX1_ends_110 rfl rfl ?_
  refine t_ga 59 hT (by decide) q1571 rfl dX1_ends_111 ?_
  refine a_iload 2 dX1_ends_114 rfl ?_
  refine a_iload_n 1 dX1_ends_116 rfl rfl ?_
  refine t_is (f := 59) rfl hT (by decide) h.1 dX1_ends_117 ?_
  replace h := h.2
  refine a_topt (fun t_2 et_2 => ?_)
  replace h := h t_2 et_2
  refine a_aload_n 0 dX1_ends_118 rfl rfl ?_
  refine t_ga 57 hT (by decide) q1569 rfl dX1_ends_119 ?_
  refine a_iload 2 dX1_ends_122 rfl ?_
  refine a_aload_n 0 dX1_ends_124 rfl rfl ?_
  refine t_gi 0 (by decide) q1512 rfl dX1_ends_125 ?_
  refine t_is (f := 57) rfl hT (by decide) h.1 dX1_ends_128 ?_
  replace h := h.2
  refine a_topt (fun t_3 et_3 => ?_)
  replace h := h t_3 et_3
  refine a_aload_n 0 dX1_ends_129 rfl rfl ?_
  refine a_dup dX1_ends_130 ?_
  refine t_gi 60 (by decide) q1572 rfl dX1_ends_131 ?_
  refine a_iconst (v := 1) dX1_ends_134 (by decide) ?_
  refine a_iadd dX1_ends_135 ?_
  refine t_pi 60 (by decide) q1572 rfl rfl dX1_ends_136 ?_
  refine a_topt (fun t_4 et_4 => ?_)
  replace h := h t_4 et_4
  exact a_vret rfl dX1_ends_139 (hP _ h)
def w_ends_44 (x1 x2 x3 x4 s0 s1 : Int32) (t : DB) (Q : DB → Prop) : Prop := (s0 = 0 ∨ s0 = 1) ∧ vp_in s1 4400 ∧ (∀ t_1 : DB, t_1 = up t 71 s1.toNatClampNeg s0 → (vp_in x1 4400 ∧ (∀ t_2 : DB, t_2 = up t_1 68 x1.toNatClampNeg (t_1 0 0) → (vp_in x1 4400 ∧ (∀ x_3 : Int32, x_3 = t_2 64 x1.toNatClampNeg → (((x_3 < 0) → (vp_in x1 4400 ∧ (∀ x_4 : Int32, x_4 = t_2 62 x1.toNatClampNeg → (((¬ x2 = 1) → (w_ends_109 x3 x_4 2 x_4 t_2 Q)) ∧ ((x2 = 1) → (((x4 = 0) → (w_ends_109 x3 x_4 1 x_4 t_2 Q)) ∧ ((¬ x4 = 0) → (w_ends_109 x3 x_4 3 x_4 t_2 Q)))))))) ∧ ((¬ x_3 < 0) → (w_told x_3 x1 t_2 (fun t_7 => Q t_7)))))))))
set_option maxHeartbeats 4000000 in
theorem sd_ends_44 {d : Nat} {M : Mem} {P : Option AV → Mem → Prop} {Q : DB → Prop} (hP : ∀ t, Q t → P none (tput M t)) (hT : TW M) (x1 x2 x3 x4 s0 s1 : Int32) (t : DB) (h : w_ends_44 x1 x2 x3 x4 s0 s1 t Q) : wp (d + 5) mX1_ends 44 [(0, .inr (2, 0)), (1, .inl x1), (2, .inl x2), (3, .inl x3), (4, .inl x4)] [.inl s0, .inl s1, .inr (171, 0)] (tput M t) P := by
  unfold w_ends_44 at h
  refine t_zs (f := 71) rfl hT (by decide) h.1 h.2.1 dX1_ends_44 ?_
  replace h := h.2.2
  refine a_topt (fun t_1 et_1 => ?_)
  replace h := h t_1 et_1
  refine a_aload_n 0 dX1_ends_45 rfl rfl ?_
  refine t_ga 68 hT (by decide) q1580 rfl dX1_ends_46 ?_
  refine a_iload_n 1 dX1_ends_49 rfl rfl ?_
  refine a_aload_n 0 dX1_ends_50 rfl rfl ?_
  refine t_gi 0 (by decide) q1512 rfl dX1_ends_51 ?_
  refine t_is (f := 68) rfl hT (by decide) h.1 dX1_ends_54 ?_
  replace h := h.2
  refine a_topt (fun t_2 et_2 => ?_)
  replace h := h t_2 et_2
  refine a_aload_n 0 dX1_ends_55 rfl rfl ?_
  refine t_ga 64 hT (by decide) q1576 rfl dX1_ends_56 ?_
  refine a_iload_n 1 dX1_ends_59 rfl rfl ?_
  refine t_ia (f := 64) rfl hT (by decide) h.1 dX1_ends_60 ?_
  replace h := h.2
  refine a_topi (fun x_3 ex_3 => ?_)
  replace h := h x_3 ex_3
  refine a_istore (lv' := [(5, .inl x_3), (0, .inr (2, 0)), (1, .inl x1), (2, .inl x2), (3, .inl x3), (4, .inl x4)]) dX1_ends_61 (Nat.le_of_ble_eq_true rfl) rfl ?_
  refine a_iload 0 dX1_ends_63 rfl ?_
  refine a_if_lt (tgt := 76) dX1_ends_65 (by decide) (fun c_9 => ?_) (fun c_9 => ?_)
  · replace h := h.1 c_9
    refine a_aload_n 1 dX1_ends_76 rfl rfl ?_
    refine t_ga 62 hT (by decide) q1574 rfl dX1_ends_77 ?_
    refine a_iload_n 2 dX1_ends_80 rfl rfl ?_
    refine t_ia (f := 62) rfl hT (by decide) h.1 dX1_ends_81 ?_
    replace h := h.2
    refine a_topi (fun x_4 ex_4 => ?_)
    replace h := h x_4 ex_4
    refine a_istore (lv' := [(6, .inl x_4), (5, .inl x_3), (0, .inr (2, 0)), (1, .inl x1), (2, .inl x2), (3, .inl x3), (4, .inl x4)]) dX1_ends_82 (Nat.le_of_ble_eq_true rfl) rfl ?_
    refine a_aload_n 2 dX1_ends_84 rfl rfl ?_
    refine t_ga 58 hT (by decide) q1570 rfl dX1_ends_85 ?_
    refine a_iload 0 dX1_ends_88 rfl ?_
    refine a_iload_n 4 dX1_ends_90 rfl rfl ?_
    refine a_iconst (v := 1) dX1_ends_91 (by decide) ?_
    refine a_icmp_ne (tgt := 108) dX1_ends_92 (by decide) (fun c_6 => ?_) (fun c_6 => ?_)
    · replace h := h.1 c_6
      refine a_iconst (v := 2) dX1_ends_108 (by decide) ?_
      exact wp_sub (by simp) (sd_ends_109 hP hT x3 x_4 2 x_4 t_2 h)
    · replace h := h.2 c_6
      refine a_iload 6 dX1_ends_95 rfl ?_
      refine a_if_eq (tgt := 104) dX1_ends_97 (by decide) (fun c_5 => ?_) (fun c_5 => ?_)
      · replace h := h.1 c_5
        refine a_iconst (v := 1) dX1_ends_104 (by decide) ?_
        refine a_goto (tgt := 109) dX1_ends_105 (by decide) ?_
        exact wp_sub (by simp) (sd_ends_109 hP hT x3 x_4 1 x_4 t_2 h)
      · replace h := h.2 c_5
        refine a_iconst (v := 3) dX1_ends_100 (by decide) ?_
        refine a_goto (tgt := 109) dX1_ends_101 (by decide) ?_
        exact wp_sub (by simp) (sd_ends_109 hP hT x3 x_4 3 x_4 t_2 h)
  · replace h := h.2 c_9
    refine a_aload_n 1 dX1_ends_68 rfl rfl ?_
    refine a_iload 0 dX1_ends_69 rfl ?_
    refine a_iload_n 2 dX1_ends_71 rfl rfl ?_
    refine a_cv (y := mX1_told) (k := 2) (i := 0) (as := [.inl x_3, .inl x1]) (st := []) (n := 2) (by decide) (Or.inl q1956) qs47 q1958 q73 q1959 zmh_told rfl (Nat.le_of_ble_eq_true rfl) (Nat.le_of_ble_eq_true rfl) dX1_ends_72 (sd_told (fun t_7 h => ?_) hT h)
    show wp (d + 5) mX1_ends 75 [(5, .inl x_3), (0, .inr (2, 0)), (1, .inl x1), (2, .inl x2), (3, .inl x3), (4, .inl x4)] [] (tput M t_7) P
    exact a_vret rfl dX1_ends_75 (hP _ h)
def w_ends (x1 x2 x3 x4 : Int32) (t : DB) (Q : DB → Prop) : Prop := vp_in x1 4400 ∧ ((((t 69 x1.toNatClampNeg) = 0) → (vp_in x1 4400 ∧ (∀ t_1 : DB, t_1 = up t 69 x1.toNatClampNeg x2 → (vp_in x1 4400 ∧ (∀ t_2 : DB, t_2 = up t_1 70 x1.toNatClampNeg x3 → (((x4 = 0) → (w_ends_44 x1 x2 x3 x4 0 x1 t_2 Q)) ∧ ((¬ x4 = 0) → (((¬ x2 = 1) → (w_ends_44 x1 x2 x3 x4 0 x1 t_2 Q)) ∧ ((x2 = 1) → (w_ends_44 x1 x2 x3 x4 1 x1 t_2 Q)))))))))) ∧ ((¬ (t 69 x1.toNatClampNeg) = 0) → (Q t)))
set_option maxHeartbeats 4000000 in
theorem sd_ends {d : Nat} {M : Mem} {P : Option AV → Mem → Prop} {Q : DB → Prop} {x1 x2 x3 x4 : Int32} {t : DB} (hP : ∀ t, Q t → P none (tput M t)) (hT : TW M) (h : w_ends x1 x2 x3 x4 t Q) : ct (d + 5) mX1_ends [.inr (2, 0), .inl x1, .inl x2, .inl x3, .inl x4] (tput M t) P := by
  refine ct_of (by decide) (Nat.le_of_ble_eq_true rfl) ?_
  show wp (d + 5) mX1_ends 0 [(0, .inr (2, 0)), (1, .inl x1), (2, .inl x2), (3, .inl x3), (4, .inl x4)] [] (tput M t) P
  unfold w_ends at h
  refine a_aload_n 0 dX1_ends_0 rfl rfl ?_
  refine t_ga 69 hT (by decide) q1581 rfl dX1_ends_1 ?_
  refine a_iload_n 1 dX1_ends_4 rfl rfl ?_
  refine t_ia (f := 69) rfl hT (by decide) h.1 dX1_ends_5 ?_
  replace h := h.2
  refine a_if_eq (tgt := 10) dX1_ends_6 (by decide) (fun c_5 => ?_) (fun c_5 => ?_)
  · replace h := h.1 c_5
    refine a_aload_n 0 dX1_ends_10 rfl rfl ?_
    refine t_ga 69 hT (by decide) q1581 rfl dX1_ends_11 ?_
    refine a_iload_n 1 dX1_ends_14 rfl rfl ?_
    refine a_iload_n 2 dX1_ends_15 rfl rfl ?_
    refine t_is (f := 69) rfl hT (by decide) h.1 dX1_ends_16 ?_
    replace h := h.2
    refine a_topt (fun t_1 et_1 => ?_)
    replace h := h t_1 et_1
    refine a_aload_n 0 dX1_ends_17 rfl rfl ?_
    refine t_ga 70 hT (by decide) q1582 rfl dX1_ends_18 ?_
    refine a_iload_n 1 dX1_ends_21 rfl rfl ?_
    refine a_iload_n 3 dX1_ends_22 rfl rfl ?_
    refine t_is (f := 70) rfl hT (by decide) h.1 dX1_ends_23 ?_
    replace h := h.2
    refine a_topt (fun t_2 et_2 => ?_)
    replace h := h t_2 et_2
    refine a_aload_n 0 dX1_ends_24 rfl rfl ?_
    refine t_ga 71 hT (by decide) q1583 rfl dX1_ends_25 ?_
    refine a_iload_n 1 dX1_ends_28 rfl rfl ?_
    refine a_iload 4 dX1_ends_29 rfl ?_
    refine a_if_eq (tgt := 43) dX1_ends_31 (by decide) (fun c_4 => ?_) (fun c_4 => ?_)
    · replace h := h.1 c_4
      refine a_iconst (v := 0) dX1_ends_43 (by decide) ?_
      exact wp_sub (by simp) (sd_ends_44 hP hT x1 x2 x3 x4 0 x1 t_2 h)
    · replace h := h.2 c_4
      refine a_iload_n 2 dX1_ends_34 rfl rfl ?_
      refine a_iconst (v := 1) dX1_ends_35 (by decide) ?_
      refine a_icmp_ne (tgt := 43) dX1_ends_36 (by decide) (fun c_3 => ?_) (fun c_3 => ?_)
      · replace h := h.1 c_3
        refine a_iconst (v := 0) dX1_ends_43 (by decide) ?_
        exact wp_sub (by simp) (sd_ends_44 hP hT x1 x2 x3 x4 0 x1 t_2 h)
      · replace h := h.2 c_3
        refine a_iconst (v := 1) dX1_ends_39 (by decide) ?_
        refine a_goto (tgt := 44) dX1_ends_40 (by decide) ?_
        exact wp_sub (by simp) (sd_ends_44 hP hT x1 x2 x3 x4 1 x1 t_2 h)
  · replace h := h.2 c_5
    exact a_vret rfl dX1_ends_9 (hP _ h)
theorem zmh_ends : zmh yX1_ends 4 := ⟨⟨by decide +kernel, by decide +kernel⟩, by decide +kernel⟩
abbrev mX1_failsNow : zMt := (yX1_failsNow, cX1_failsNow, 3, none)
def w_failsNow (x1 x2 : Int32) (t : DB) (Q : DB → Prop) : Prop := vp_in x1 4400 ∧ (((¬ (t 69 x1.toNatClampNeg) = 0) → (Q t)) ∧ (((t 69 x1.toNatClampNeg) = 0) → (vp_in x1 4400 ∧ (w_fails x2 (t 65 x1.toNatClampNeg) (-1) t (fun r_2 t_1 => w_add 1 x1 2 r_2 0 t_1 (fun t_3 => Q t_3))))))
set_option maxHeartbeats 4000000 in
theorem sd_failsNow {d : Nat} {M : Mem} {P : Option AV → Mem → Prop} {Q : DB → Prop} {x1 x2 : Int32} {t : DB} (hP : ∀ t, Q t → P none (tput M t)) (hT : TW M) (h : w_failsNow x1 x2 t Q) : ct (d + 1) mX1_failsNow [.inr (2, 0), .inl x1, .inl x2] (tput M t) P := by
  refine ct_of (by decide) (Nat.le_of_ble_eq_true rfl) ?_
  show wp (d + 1) mX1_failsNow 0 [(0, .inr (2, 0)), (1, .inl x1), (2, .inl x2)] [] (tput M t) P
  unfold w_failsNow at h
  refine a_aload_n 0 dX1_failsNow_0 rfl rfl ?_
  refine t_ga 69 hT (by decide) q1581 rfl dX1_failsNow_1 ?_
  refine a_iload_n 1 dX1_failsNow_4 rfl rfl ?_
  refine t_ia (f := 69) rfl hT (by decide) h.1 dX1_failsNow_5 ?_
  replace h := h.2
  refine a_if_ne (tgt := 29) dX1_failsNow_6 (by decide) (fun c_5 => ?_) (fun c_5 => ?_)
  · replace h := h.1 c_5
    exact a_vret rfl dX1_failsNow_29 (hP _ h)
  · replace h := h.2 c_5
    refine a_aload_n 0 dX1_failsNow_9 rfl rfl ?_
    refine a_iconst (v := 1) dX1_failsNow_10 (by decide) ?_
    refine a_iload_n 1 dX1_failsNow_11 rfl rfl ?_
    refine a_iconst (v := 2) dX1_failsNow_12 (by decide) ?_
    refine a_aload_n 0 dX1_failsNow_13 rfl rfl ?_
    refine a_iload_n 2 dX1_failsNow_14 rfl rfl ?_
    refine a_aload_n 0 dX1_failsNow_15 rfl rfl ?_
    refine t_ga 65 hT (by decide) q1577 rfl dX1_failsNow_16 ?_
    refine a_iload_n 1 dX1_failsNow_19 rfl rfl ?_
    refine t_ia (f := 65) rfl hT (by decide) h.1 dX1_failsNow_20 ?_
    replace h := h.2
    refine a_iconst (v := (-1)) dX1_failsNow_21 (by decide) ?_
    refine a_cv (y := mX1_fails) (k := 2) (i := 0) (as := [.inl x2, .inl (t 65 x1.toNatClampNeg), .inl (-1)]) (st := [.inl 2, .inl x1, .inl 1, .inr (2, 0)]) (n := 3) (by decide) (Or.inl q1996) qs57 q1998 q73 q1999 zmh_fails rfl (Nat.le_of_ble_eq_true rfl) (Nat.le_of_ble_eq_true rfl) dX1_failsNow_22 (sd_fails (fun r_2 t_1 h => ?_) hT h)
    show wp (d + 1) mX1_failsNow 25 [(0, .inr (2, 0)), (1, .inl x1), (2, .inl x2)] [.inl r_2, .inl 2, .inl x1, .inl 1, .inr (2, 0)] (tput M t_1) P
    refine a_iconst (v := 0) dX1_failsNow_25 (by decide) ?_
    refine a_cv (y := mX1_add) (k := 2) (i := 0) (as := [.inl 1, .inl x1, .inl 2, .inl r_2, .inl 0]) (st := []) (n := 5) (by decide) (Or.inl q1916) qs37 q1918 q73 q1919 zmh_add rfl (Nat.le_of_ble_eq_true rfl) (Nat.le_of_ble_eq_true rfl) dX1_failsNow_26 (sd_add (fun t_3 h => ?_) hT h)
    show wp (d + 1) mX1_failsNow 29 [(0, .inr (2, 0)), (1, .inl x1), (2, .inl x2)] [] (tput M t_3) P
    exact a_vret rfl dX1_failsNow_29 (hP _ h)
theorem zmh_failsNow : zmh yX1_failsNow 2 := ⟨⟨by decide +kernel, by decide +kernel⟩, by decide +kernel⟩
abbrev mX1_freeJoined : zMt := (yX1_freeJoined, cX1_freeJoined, 4, none)
def w_freeJoined_4 : Nat → Int32 → Int32 → DB → (DB → Prop) → Prop
  | 0, _, _, _, _ => False
  | n + 1, x1, x3, t, Q => (((t 61 0) ≤ x3) → (Q t)) ∧ ((¬ (t 61 0) ≤ x3) → (vp_in x3 4400 ∧ (((¬ (t 74 x3.toNatClampNeg) = x1) → (∀ x_1 : Int32, x_1 = x3 + 1 → (w_freeJoined_4 n x1 x_1 t Q))) ∧ (((t 74 x3.toNatClampNeg) = x1) → (vp_in x3 4400 ∧ ((((t 69 x3.toNatClampNeg) = 0) → (w_add 3 x1 x3 0 0 t (fun t_2 => w_alike x3 x1 t_2 (fun t_4 => Q t_4)))) ∧ ((¬ (t 69 x3.toNatClampNeg) = 0) → (∀ x_6 : Int32, x_6 = x3 + 1 → (w_freeJoined_4 n x1 x_6 t Q)))))))))
set_option maxHeartbeats 4000000 in
theorem sd_freeJoined_4 {d : Nat} {M : Mem} {P : Option AV → Mem → Prop} {Q : DB → Prop} (hP : ∀ t, Q t → P none (tput M t)) (hT : TW M) : ∀ (n : Nat) (x1 x3 : Int32) (t : DB), w_freeJoined_4 n x1 x3 t Q → wp (d + 2) mX1_freeJoined 4 [(0, .inr (2, 0)), (1, .inl x1), (3, .inl x3)] [] (tput M t) P := by
  intro n
  induction n with
  | zero => intro x1 x3 t h; exact False.elim h
  | succ n ih =>
    intro x1 x3 t h
    rw [w_freeJoined_4] at h
    refine a_iload_n 2 dX1_freeJoined_4 rfl rfl ?_
    refine a_aload_n 0 dX1_freeJoined_5 rfl rfl ?_
    refine t_gi 61 (by decide) q1573 rfl dX1_freeJoined_6 ?_
    refine a_icmp_ge (tgt := 56) dX1_freeJoined_9 (by decide) (fun c_9 => ?_) (fun c_9 => ?_)
    · replace h := h.1 c_9
      exact a_vret rfl dX1_freeJoined_56 (hP _ h)
    · replace h := h.2 c_9
      refine a_aload_n 0 dX1_freeJoined_12 rfl rfl ?_
      refine t_ga 74 hT (by decide) q1586 rfl dX1_freeJoined_13 ?_
      refine a_iload_n 2 dX1_freeJoined_16 rfl rfl ?_
      refine t_ia (f := 74) rfl hT (by decide) h.1 dX1_freeJoined_17 ?_
      replace h := h.2
      refine a_iload_n 1 dX1_freeJoined_18 rfl rfl ?_
      refine a_icmp_ne (tgt := 50) dX1_freeJoined_19 (by decide) (fun c_8 => ?_) (fun c_8 => ?_)
      · replace h := h.1 c_8
        obtain ⟨x_1, ex_1⟩ : ∃ y : Int32, y = x3 + 1 := ⟨_, rfl⟩
        replace h := h x_1 ex_1
        refine a_iinc (v := x_1) (lv' := [(3, .inl x_1), (0, .inr (2, 0)), (1, .inl x1)]) 2 dX1_freeJoined_50 rfl (by rw [ex_1]; rfl) (Nat.le_of_ble_eq_true rfl) rfl ?_
        refine a_goto (tgt := 4) dX1_freeJoined_53 (by decide) ?_
        exact wp_sub (by simp) (ih x1 x_1 t h)
      · replace h := h.2 c_8
        refine a_aload_n 0 dX1_freeJoined_22 rfl rfl ?_
        refine t_ga 69 hT (by decide) q1581 rfl dX1_freeJoined_23 ?_
        refine a_iload_n 2 dX1_freeJoined_26 rfl rfl ?_
        refine t_ia (f := 69) rfl hT (by decide) h.1 dX1_freeJoined_27 ?_
        replace h := h.2
        refine a_if_eq (tgt := 34) dX1_freeJoined_28 (by decide) (fun c_7 => ?_) (fun c_7 => ?_)
        · replace h := h.1 c_7
          refine a_aload_n 0 dX1_freeJoined_34 rfl rfl ?_
          refine a_iconst (v := 3) dX1_freeJoined_35 (by decide) ?_
          refine a_iload_n 1 dX1_freeJoined_36 rfl rfl ?_
          refine a_iload_n 2 dX1_freeJoined_37 rfl rfl ?_
          refine a_iconst (v := 0) dX1_freeJoined_38 (by decide) ?_
          refine a_iconst (v := 0) dX1_freeJoined_39 (by decide) ?_
          refine a_cv (y := mX1_add) (k := 2) (i := 0) (as := [.inl 3, .inl x1, .inl x3, .inl 0, .inl 0]) (st := []) (n := 5) (by decide) (Or.inl q1916) qs37 q1918 q73 q1919 zmh_add rfl (Nat.le_of_ble_eq_true rfl) (Nat.le_of_ble_eq_true rfl) dX1_freeJoined_40 (sd_add (fun t_2 h => ?_) hT h)
          show wp (d + 2) mX1_freeJoined 43 [(0, .inr (2, 0)), (1, .inl x1), (3, .inl x3)] [] (tput M t_2) P
          refine a_aload_n 0 dX1_freeJoined_43 rfl rfl ?_
          refine a_iload_n 2 dX1_freeJoined_44 rfl rfl ?_
          refine a_iload_n 1 dX1_freeJoined_45 rfl rfl ?_
          refine a_cv (y := mX1_alike) (k := 2) (i := 0) (as := [.inl x3, .inl x1]) (st := []) (n := 2) (by decide) (Or.inl q1972) qs51 q1974 q73 q1975 zmh_alike rfl (Nat.le_of_ble_eq_true rfl) (Nat.le_of_ble_eq_true rfl) dX1_freeJoined_46 (sd_alike (fun t_4 h => ?_) hT h)
          show wp (d + 2) mX1_freeJoined 49 [(0, .inr (2, 0)), (1, .inl x1), (3, .inl x3)] [] (tput M t_4) P
          exact a_vret rfl dX1_freeJoined_49 (hP _ h)
        · replace h := h.2 c_7
          refine a_goto (tgt := 50) dX1_freeJoined_31 (by decide) ?_
          obtain ⟨x_6, ex_6⟩ : ∃ y : Int32, y = x3 + 1 := ⟨_, rfl⟩
          replace h := h x_6 ex_6
          refine a_iinc (v := x_6) (lv' := [(3, .inl x_6), (0, .inr (2, 0)), (1, .inl x1)]) 2 dX1_freeJoined_50 rfl (by rw [ex_6]; rfl) (Nat.le_of_ble_eq_true rfl) rfl ?_
          refine a_goto (tgt := 4) dX1_freeJoined_53 (by decide) ?_
          exact wp_sub (by simp) (ih x1 x_6 t h)
def w_freeJoined (x1 x2 : Int32) (t : DB) (Q : DB → Prop) : Prop := ∀ x_1 : Int32, x_1 = x2 + 1 → (∃ n_, w_freeJoined_4 n_ x1 x_1 t Q)
set_option maxHeartbeats 4000000 in
theorem sd_freeJoined {d : Nat} {M : Mem} {P : Option AV → Mem → Prop} {Q : DB → Prop} {x1 x2 : Int32} {t : DB} (hP : ∀ t, Q t → P none (tput M t)) (hT : TW M) (h : w_freeJoined x1 x2 t Q) : ct (d + 2) mX1_freeJoined [.inr (2, 0), .inl x1, .inl x2] (tput M t) P := by
  refine ct_of (by decide) (Nat.le_of_ble_eq_true rfl) ?_
  show wp (d + 2) mX1_freeJoined 0 [(0, .inr (2, 0)), (1, .inl x1), (2, .inl x2)] [] (tput M t) P
  unfold w_freeJoined at h
  refine a_iload_n 2 dX1_freeJoined_0 rfl rfl ?_
  refine a_iconst (v := 1) dX1_freeJoined_1 (by decide) ?_
  refine a_iadd dX1_freeJoined_2 ?_
  refine a_topi (fun x_1 ex_1 => ?_)
  replace h := h x_1 ex_1
  refine a_istore_n (lv' := [(3, .inl x_1), (0, .inr (2, 0)), (1, .inl x1), (2, .inl x2)]) dX1_freeJoined_3 rfl (Nat.le_of_ble_eq_true rfl) rfl ?_
  obtain ⟨n_, h⟩ := h
  exact wp_sub (by simp) (sd_freeJoined_4 hP hT n_ x1 x_1 t h)
theorem zmh_freeJoined : zmh yX1_freeJoined 2 := ⟨⟨by decide +kernel, by decide +kernel⟩, by decide +kernel⟩
