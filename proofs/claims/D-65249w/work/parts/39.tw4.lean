set_option maxRecDepth 100000
abbrev mX1_late : zMt := (yX1_late, cX1_late, 4, none)
def w_late_12 : Nat → Int32 → Int32 → DB → (DB → Prop) → Prop
  | 0, _, _, _, _ => False
  | n + 1, x1, x2, t, Q => (((t 61 0) ≤ x2) → (Q t)) ∧ ((¬ (t 61 0) ≤ x2) → (vp_in x2 4400 ∧ (((¬ (t 64 x2.toNatClampNeg) = x1) → (∀ x_1 : Int32, x_1 = x2 + 1 → (w_late_12 n x1 x_1 t Q))) ∧ (((t 64 x2.toNatClampNeg) = x1) → (vp_in x2 4400 ∧ ((((t 69 x2.toNatClampNeg) = 0) → (w_takeBack x2 (-1) t (fun r_3 t_2 => Q t_2))) ∧ ((¬ (t 69 x2.toNatClampNeg) = 0) → (∀ x_4 : Int32, x_4 = x2 + 1 → (w_late_12 n x1 x_4 t Q)))))))))
set_option maxHeartbeats 4000000 in
theorem sd_late_12 {d : Nat} {M : Mem} {P : Option AV → Mem → Prop} {Q : DB → Prop} (hP : ∀ t, Q t → P none (tput M t)) (hT : TW M) : ∀ (n : Nat) (x1 x2 : Int32) (t : DB), w_late_12 n x1 x2 t Q → wp (d + 2) mX1_late 12 [(0, .inr (2, 0)), (1, .inl x1), (2, .inl x2)] [] (tput M t) P := by
  intro n
  induction n with
  | zero => intro x1 x2 t h; exact False.elim h
  | succ n ih =>
    intro x1 x2 t h
    rw [w_late_12] at h
    refine a_iload_n 2 dX1_late_12 rfl rfl ?_
    refine a_aload_n 0 dX1_late_13 rfl rfl ?_
    refine t_gi 61 (by decide) q1573 rfl dX1_late_14 ?_
    refine a_icmp_ge (tgt := 56) dX1_late_17 (by decide) (fun c_7 => ?_) (fun c_7 => ?_)
    · replace h := h.1 c_7
      exact a_vret rfl dX1_late_56 (hP _ h)
    · replace h := h.2 c_7
      refine a_aload_n 0 dX1_late_20 rfl rfl ?_
      refine t_ga 64 hT (by decide) q1576 rfl dX1_late_21 ?_
      refine a_iload_n 2 dX1_late_24 rfl rfl ?_
      refine t_ia (f := 64) rfl hT (by decide) h.1 dX1_late_25 ?_
      replace h := h.2
      refine a_iload_n 1 dX1_late_26 rfl rfl ?_
      refine a_icmp_ne (tgt := 50) dX1_late_27 (by decide) (fun c_6 => ?_) (fun c_6 => ?_)
      · replace h := h.1 c_6
        obtain ⟨x_1, ex_1⟩ : ∃ y : Int32, y = x2 + 1 := ⟨_, rfl⟩
        replace h := h x_1 ex_1
        refine a_iinc (v := x_1) (lv' := [(2, .inl x_1), (0, .inr (2, 0)), (1, .inl x1)]) 2 dX1_late_50 rfl (by rw [ex_1]; rfl) (Nat.le_of_ble_eq_true rfl) rfl ?_
        refine a_goto (tgt := 12) dX1_late_53 (by decide) ?_
        exact wp_sub (by simp) (ih x1 x_1 t h)
      · replace h := h.2 c_6
        refine a_aload_n 0 dX1_late_30 rfl rfl ?_
        refine t_ga 69 hT (by decide) q1581 rfl dX1_late_31 ?_
        refine a_iload_n 2 dX1_late_34 rfl rfl ?_
        refine t_ia (f := 69) rfl hT (by decide) h.1 dX1_late_35 ?_
        replace h := h.2
        refine a_if_eq (tgt := 42) dX1_late_36 (by decide) (fun c_5 => ?_) (fun c_5 => ?_)
        · replace h := h.1 c_5
          refine a_aload_n 0 dX1_late_42 rfl rfl ?_
          refine a_iload_n 2 dX1_late_43 rfl rfl ?_
          refine a_iconst (v := (-1)) dX1_late_44 (by decide) ?_
          refine a_cv (y := mX1_takeBack) (k := 2) (i := 0) (as := [.inl x2, .inl (-1)]) (st := []) (n := 2) (by decide) (Or.inl q1988) qs55 q1990 q73 q1991 zmh_takeBack rfl (Nat.le_of_ble_eq_true rfl) (Nat.le_of_ble_eq_true rfl) dX1_late_45 (sd_takeBack (fun r_3 t_2 h => ?_) hT h)
          show wp (d + 2) mX1_late 48 [(0, .inr (2, 0)), (1, .inl x1), (2, .inl x2)] [.inl r_3] (tput M t_2) P
          refine a_istore_n (lv' := [(3, .inl r_3), (0, .inr (2, 0)), (1, .inl x1), (2, .inl x2)]) dX1_late_48 rfl (Nat.le_of_ble_eq_true rfl) rfl ?_
          exact a_vret rfl dX1_late_49 (hP _ h)
        · replace h := h.2 c_5
          refine a_goto (tgt := 50) dX1_late_39 (by decide) ?_
          obtain ⟨x_4, ex_4⟩ : ∃ y : Int32, y = x2 + 1 := ⟨_, rfl⟩
          replace h := h x_4 ex_4
          refine a_iinc (v := x_4) (lv' := [(2, .inl x_4), (0, .inr (2, 0)), (1, .inl x1)]) 2 dX1_late_50 rfl (by rw [ex_4]; rfl) (Nat.le_of_ble_eq_true rfl) rfl ?_
          refine a_goto (tgt := 12) dX1_late_53 (by decide) ?_
          exact wp_sub (by simp) (ih x1 x_4 t h)
def w_late (x1 : Int32) (t : DB) (Q : DB → Prop) : Prop := w_add 2 x1 12 0 0 t (fun t_1 => ∃ n_, w_late_12 n_ x1 0 t_1 Q)
set_option maxHeartbeats 4000000 in
theorem sd_late {d : Nat} {M : Mem} {P : Option AV → Mem → Prop} {Q : DB → Prop} {x1 : Int32} {t : DB} (hP : ∀ t, Q t → P none (tput M t)) (hT : TW M) (h : w_late x1 t Q) : ct (d + 2) mX1_late [.inr (2, 0), .inl x1] (tput M t) P := by
  refine ct_of (by decide) (Nat.le_of_ble_eq_true rfl) ?_
  show wp (d + 2) mX1_late 0 [(0, .inr (2, 0)), (1, .inl x1)] [] (tput M t) P
  unfold w_late at h
  refine a_aload_n 0 dX1_late_0 rfl rfl ?_
  refine a_iconst (v := 2) dX1_late_1 (by decide) ?_
  refine a_iload_n 1 dX1_late_2 rfl rfl ?_
  refine a_bipush (v := 12) dX1_late_3 (by decide) ?_
  refine a_iconst (v := 0) dX1_late_5 (by decide) ?_
  refine a_iconst (v := 0) dX1_late_6 (by decide) ?_
  refine a_cv (y := mX1_add) (k := 2) (i := 0) (as := [.inl 2, .inl x1, .inl 12, .inl 0, .inl 0]) (st := []) (n := 5) (by decide) (Or.inl q1916) qs37 q1918 q73 q1919 zmh_add rfl (Nat.le_of_ble_eq_true rfl) (Nat.le_of_ble_eq_true rfl) dX1_late_7 (sd_add (fun t_1 h => ?_) hT h)
  show wp (d + 2) mX1_late 10 [(0, .inr (2, 0)), (1, .inl x1)] [] (tput M t_1) P
  refine a_iconst (v := 0) dX1_late_10 (by decide) ?_
  refine a_istore_n (lv' := [(2, .inl 0), (0, .inr (2, 0)), (1, .inl x1)]) dX1_late_11 rfl (Nat.le_of_ble_eq_true rfl) rfl ?_
  obtain ⟨n_, h⟩ := h
  exact wp_sub (by simp) (sd_late_12 hP hT n_ x1 0 t_1 h)
theorem zmh_late : zmh yX1_late 1 := ⟨⟨by decide +kernel, by decide +kernel⟩, by decide +kernel⟩
abbrev mX1_planDue : zMt := (yX1_planDue, cX1_planDue, 3, none)
def w_planDue_63 (x1 : Int32) (t : DB) (Q : DB → Prop) : Prop := vp_in x1 12 ∧ (vp_in x1 12 ∧ (∀ t_1 : DB, t_1 = up t 101 x1.toNatClampNeg ((t 101 x1.toNatClampNeg) + 1) → (Q t_1)))
set_option maxHeartbeats 4000000 in
theorem sd_planDue_63 {d : Nat} {M : Mem} {P : Option AV → Mem → Prop} {Q : DB → Prop} (hP : ∀ t, Q t → P none (tput M t)) (hT : TW M) (x1 : Int32) (t : DB) (h : w_planDue_63 x1 t Q) : wp (d + 8) mX1_planDue 63 [(0, .inr (2, 0)), (1, .inl x1)] [] (tput M t) P := by
  unfold w_planDue_63 at h
  refine a_aload_n 0 dX1_planDue_63 rfl rfl ?_
  refine t_ga 101 hT (by decide) q1613 rfl dX1_planDue_64 ?_
  refine a_iload_n 1 dX1_planDue_67 rfl rfl ?_
  refine a_dup2 dX1_planDue_68 ?_
  refine t_ia (f := 101) rfl hT (by decide) h.1 dX1_planDue_69 ?_
  replace h := h.2
  refine a_iconst (v := 1) dX1_planDue_70 (by decide) ?_
  refine a_iadd dX1_planDue_71 ?_
  refine t_is (f := 101) rfl hT (by decide) h.1 dX1_planDue_72 ?_
  replace h := h.2
  refine a_topt (fun t_1 et_1 => ?_)
  replace h := h t_1 et_1
  refine a_goto (tgt := 143) dX1_planDue_73 (by decide) ?_
  exact a_vret rfl dX1_planDue_143 (hP _ h)
def w_planDue (x1 : Int32) (t : DB) (Q : DB → Prop) : Prop := vp_in x1 12 ∧ (((¬ (t 102 x1.toNatClampNeg) = 0) → (Q t)) ∧ (((t 102 x1.toNatClampNeg) = 0) → (vp_in x1 12 ∧ (vp_in x1 12 ∧ ((¬ (t 94 x1.toNatClampNeg) = 0) ∧ ((((((t 0 0) - (t 97 x1.toNatClampNeg)) - ((t 0 0) - (t 97 x1.toNatClampNeg)) / (t 94 x1.toNatClampNeg) * (t 94 x1.toNatClampNeg)) = 0) → (vp_in x1 12 ∧ (vp_in (t 91 x1.toNatClampNeg) 8 ∧ (∀ x_1 : Int32, x_1 = t 2 (t 91 x1.toNatClampNeg).toNatClampNeg → (vp_in x1 12 ∧ (((x_1 < (t 95 x1.toNatClampNeg)) → (w_planDue_63 x1 t Q)) ∧ ((¬ x_1 < (t 95 x1.toNatClampNeg)) → (vp_in x1 12 ∧ (((x_1 ≤ (t 96 x1.toNatClampNeg)) → (((¬ (t 50 0) = 60) → (vp_in x1 12 ∧ (vp_in x1 12 ∧ (vp_in x1 12 ∧ (vp_in x1 12 ∧ (w_made (t 90 x1.toNatClampNeg) (t 91 x1.toNatClampNeg) (t 92 x1.toNatClampNeg) (t 93 x1.toNatClampNeg) 0 t (fun r_3 t_2 => vp_in x1 12 ∧ (∀ t_4 : DB, t_4 = up t_2 99 x1.toNatClampNeg r_3 → (vp_in x1 12 ∧ (vp_in x1 12 ∧ (∀ t_5 : DB, t_5 = up t_4 98 x1.toNatClampNeg ((t_4 98 x1.toNatClampNeg) + 1) → (Q t_5)))))))))))) ∧ (((t 50 0) = 60) → (vp_in x1 12 ∧ (vp_in x1 12 ∧ (∀ t_6 : DB, t_6 = up t 100 x1.toNatClampNeg ((t 100 x1.toNatClampNeg) + 1) → (Q t_6))))))) ∧ ((¬ x_1 ≤ (t 96 x1.toNatClampNeg)) → (w_planDue_63 x1 t Q))))))))))) ∧ ((¬ (((t 0 0) - (t 97 x1.toNatClampNeg)) - ((t 0 0) - (t 97 x1.toNatClampNeg)) / (t 94 x1.toNatClampNeg) * (t 94 x1.toNatClampNeg)) = 0) → (Q t))))))))
set_option maxHeartbeats 4000000 in
theorem sd_planDue {d : Nat} {M : Mem} {P : Option AV → Mem → Prop} {Q : DB → Prop} {x1 : Int32} {t : DB} (hP : ∀ t, Q t → P none (tput M t)) (hT : TW M) (h : w_planDue x1 t Q) : ct (d + 8) mX1_planDue [.inr (2, 0), .inl x1] (tput M t) P := by
  refine ct_of (by decide) (Nat.le_of_ble_eq_true rfl) ?_
  show wp (d + 8) mX1_planDue 0 [(0, .inr (2, 0)), (1, .inl x1)] [] (tput M t) P
  unfold w_planDue at h
  refine a_aload_n 0 dX1_planDue_0 rfl rfl ?_
  refine t_ga 102 hT (by decide) q1614 rfl dX1_planDue_1 ?_
  refine a_iload_n 1 dX1_planDue_4 rfl rfl ?_
  refine t_za (f := 102) rfl hT (by decide) h.1 dX1_planDue_5 ?_
  replace h := h.2
  refine a_if_ne (tgt := 30) dX1_planDue_6 (by decide) (fun c_11 => ?_) (fun c_11 => ?_)
  · replace h := h.1 c_11
    exact a_vret rfl dX1_planDue_30 (hP _ h)
  · replace h := h.2 c_11
    refine a_aload_n 0 dX1_planDue_9 rfl rfl ?_
    refine t_gi 0 (by decide) q1512 rfl dX1_planDue_10 ?_
    refine a_aload_n 0 dX1_planDue_13 rfl rfl ?_
    refine t_ga 97 hT (by decide) q1609 rfl dX1_planDue_14 ?_
    refine a_iload_n 1 dX1_planDue_17 rfl rfl ?_
    refine t_ia (f := 97) rfl hT (by decide) h.1 dX1_planDue_18 ?_
    replace h := h.2
    refine a_isub dX1_planDue_19 ?_
    refine a_aload_n 0 dX1_planDue_20 rfl rfl ?_
    refine t_ga 94 hT (by decide) q1606 rfl dX1_planDue_21 ?_
    refine a_iload_n 1 dX1_planDue_24 rfl rfl ?_
    refine t_ia (f := 94) rfl hT (by decide) h.1 dX1_planDue_25 ?_
    replace h := h.2
    refine a_irem dX1_planDue_26 h.1 ?_
    replace h := h.2
    refine a_if_eq (tgt := 31) dX1_planDue_27 (by decide) (fun c_10 => ?_) (fun c_10 => ?_)
    · replace h := h.1 c_10
      refine a_aload_n 0 dX1_planDue_31 rfl rfl ?_
      refine t_ga 2 hT (by decide) q1514 rfl dX1_planDue_32 ?_
      refine a_aload_n 0 dX1_planDue_35 rfl rfl ?_
      refine t_ga 91 hT (by decide) q1603 rfl dX1_planDue_36 ?_
      refine a_iload_n 1 dX1_planDue_39 rfl rfl ?_
      refine t_ia (f := 91) rfl hT (by decide) h.1 dX1_planDue_40 ?_
      replace h := h.2
      refine t_ia (f := 2) rfl hT (by decide) h.1 dX1_planDue_41 ?_
      replace h := h.2
      refine a_topi (fun x_1 ex_1 => ?_)
      replace h := h x_1 ex_1
      refine a_istore_n (lv' := [(2, .inl x_1), (0, .inr (2, 0)), (1, .inl x1)]) dX1_planDue_42 rfl (Nat.le_of_ble_eq_true rfl) rfl ?_
      refine a_iload_n 0 dX1_planDue_43 rfl rfl ?_
      refine a_aload_n 1 dX1_planDue_44 rfl rfl ?_
      refine t_ga 95 hT (by decide) q1607 rfl dX1_planDue_45 ?_
      refine a_iload_n 2 dX1_planDue_48 rfl rfl ?_
      refine t_ia (f := 95) rfl hT (by decide) h.1 dX1_planDue_49 ?_
      replace h := h.2
      refine a_icmp_lt (tgt := 63) dX1_planDue_50 (by decide) (fun c_9 => ?_) (fun c_9 => ?_)
      · replace h := h.1 c_9
        exact wp_sub (by simp) (sd_planDue_63 hP hT x1 t h)
      · replace h := h.2 c_9
        refine a_iload_n 0 dX1_planDue_53 rfl rfl ?_
        refine a_aload_n 1 dX1_planDue_54 rfl rfl ?_
        refine t_ga 96 hT (by decide) q1608 rfl dX1_planDue_55 ?_
        refine a_iload_n 2 dX1_planDue_58 rfl rfl ?_
        refine t_ia (f := 96) rfl hT (by decide) h.1 dX1_planDue_59 ?_
        replace h := h.2
        refine a_icmp_le (tgt := 76) dX1_planDue_60 (by decide) (fun c_8 => ?_) (fun c_8 => ?_)
        · replace h := h.1 c_8
          refine a_aload_n 1 dX1_planDue_76 rfl rfl ?_
          refine t_gi 50 (by decide) q1562 rfl dX1_planDue_77 ?_
          refine a_bipush (v := 60) dX1_planDue_80 (by decide) ?_
          refine a_icmp_ne (tgt := 98) dX1_planDue_82 (by decide) (fun c_7 => ?_) (fun c_7 => ?_)
          · replace h := h.1 c_7
            refine a_aload_n 1 dX1_planDue_98 rfl rfl ?_
            refine t_ga 99 hT (by decide) q1611 rfl dX1_planDue_99 ?_
            refine a_iload_n 2 dX1_planDue_102 rfl rfl ?_
            refine a_aload_n 1 dX1_planDue_103 rfl rfl ?_
            refine a_aload_n 1 dX1_planDue_104 rfl rfl ?_
            refine t_ga 90 hT (by decide) q1602 rfl dX1_planDue_105 ?_
            refine a_iload_n 2 dX1_planDue_108 rfl rfl ?_
            refine t_ia (f := 90) rfl hT (by decide) h.1 dX1_planDue_109 ?_
            replace h := h.2
            refine a_aload_n 1 dX1_planDue_110 rfl rfl ?_
            refine t_ga 91 hT (by decide) q1603 rfl dX1_planDue_111 ?_
            refine a_iload_n 2 dX1_planDue_114 rfl rfl ?_
            refine t_ia (f := 91) rfl hT (by decide) h.1 dX1_planDue_115 ?_
            replace h := h.2
            refine a_aload_n 1 dX1_planDue_116 rfl rfl ?_
            refine t_ga 92 hT (by decide) q1604 rfl dX1_planDue_117 ?_
            refine a_iload_n 2 dX1_planDue_120 rfl rfl ?_
            refine t_ia (f := 92) rfl hT (by decide) h.1 dX1_planDue_121 ?_
            replace h := h.2
            refine a_aload_n 1 dX1_planDue_122 rfl rfl ?_
            refine t_ga 93 hT (by decide) q1605 rfl dX1_planDue_123 ?_
            refine a_iload_n 2 dX1_planDue_126 rfl rfl ?_
            refine t_ia (f := 93) rfl hT (by decide) h.1 dX1_planDue_127 ?_
            replace h := h.2
            refine a_iconst (v := 0) dX1_planDue_128 (by decide) ?_
            refine a_cv (y := mX1_made) (k := 2) (i := 0) (as := [.inl (t 90 x1.toNatClampNeg), .inl (t 91 x1.toNatClampNeg), .inl (t 92 x1.toNatClampNeg), .inl (t 93 x1.toNatClampNeg), .inl 0]) (st := [.inl x1, .inr (199, 0)]) (n := 5) (by decide) (Or.inl q1912) qs36 q1914 q73 q1915 zmh_made rfl (Nat.le_of_ble_eq_true rfl) (Nat.le_of_ble_eq_true rfl) dX1_planDue_129 (sd_made (fun r_3 t_2 h => ?_) hT h)
            show wp (d + 8) mX1_planDue 132 [(2, .inl x_1), (0, .inr (2, 0)), (1, .inl x1)] [.inl r_3, .inl x1, .inr (199, 0)] (tput M t_2) P
            refine t_is (f := 99) rfl hT (by decide) h.1 dX1_planDue_132 ?_
            replace h := h.2
            refine a_topt (fun t_4 et_4 => ?_)
            replace h := h t_4 et_4
            refine a_aload_n 1 dX1_planDue_133 rfl rfl ?_
            refine t_ga 98 hT (by decide) q1610 rfl dX1_planDue_134 ?_
            refine a_iload_n 2 dX1_planDue_137 rfl rfl ?_
            refine a_dup2 dX1_planDue_138 ?_
            refine t_ia (f := 98) rfl hT (by decide) h.1 dX1_planDue_139 ?_
            replace h := h.2
            refine a_iconst (v := 1) dX1_planDue_140 (by decide) ?_
            refine a_iadd dX1_planDue_141 ?_
            refine t_is (f := 98) rfl hT (by decide) h.1 dX1_planDue_142 ?_
            replace h := h.2
            refine a_topt (fun t_5 et_5 => ?_)
            replace h := h t_5 et_5
            exact a_vret rfl dX1_planDue_143 (hP _ h)
          · replace h := h.2 c_7
            refine a_aload_n 1 dX1_planDue_85 rfl rfl ?_
            refine t_ga 100 hT (by decide) q1612 rfl dX1_planDue_86 ?_
            refine a_iload_n 2 dX1_planDue_89 rfl rfl ?_
            refine a_dup2 dX1_planDue_90 ?_
            refine t_ia (f := 100) rfl hT (by decide) h.1 dX1_planDue_91 ?_
            replace h := h.2
            refine a_iconst (v := 1) dX1_planDue_92 (by decide) ?_
            refine a_iadd dX1_planDue_93 ?_
            refine t_is (f := 100) rfl hT (by decide) h.1 dX1_planDue_94 ?_
            replace h := h.2
            refine a_topt (fun t_6 et_6 => ?_)
            replace h := h t_6 et_6
            refine a_goto (tgt := 143) dX1_planDue_95 (by decide) ?_
            exact a_vret rfl dX1_planDue_143 (hP _ h)
        · replace h := h.2 c_8
          exact wp_sub (by simp) (sd_planDue_63 hP hT x1 t h)
    · replace h := h.2 c_10
      exact a_vret rfl dX1_planDue_30 (hP _ h)
theorem zmh_planDue : zmh yX1_planDue 1 := ⟨⟨by decide +kernel, by decide +kernel⟩, by decide +kernel⟩
abbrev mX1_tryEnds : zMt := (yX1_tryEnds, cX1_tryEnds, 8, none)
def w_tryEnds_317 (x1 x2 x3 x5 x6 s0 : Int32) (t : DB) (Q : DB → Prop) : Prop := vp_in x2 8 ∧ (vp_in x2 8 ∧ (∀ t_1 : DB, t_1 = up t 2 x2.toNatClampNeg ((t 2 x2.toNatClampNeg) + s0) → (vp_in (t_1 17 0) 4400 ∧ (∀ t_2 : DB, t_2 = up t_1 18 (t_1 17 0).toNatClampNeg x2 → (vp_in (t_2 17 0) 4400 ∧ (∀ t_3 : DB, t_3 = up t_2 19 (t_2 17 0).toNatClampNeg x3 → (vp_in (t_3 17 0) 4400 ∧ (∀ t_4 : DB, t_4 = up t_3 20 (t_3 17 0).toNatClampNeg x5 → (vp_in (t_4 17 0) 4400 ∧ (∀ t_5 : DB, t_5 = up t_4 21 (t_4 17 0).toNatClampNeg s0 → (vp_in (t_5 17 0) 4400 ∧ (∀ t_6 : DB, t_6 = up t_5 22 (t_5 17 0).toNatClampNeg (t_5 0 0) → (∀ t_7 : DB, t_7 = up t_6 17 0 ((t_6 17 0) + 1) → (w_add 1 x1 1 x6 0 t_7 (fun t_8 => Q t_8)))))))))))))))
set_option maxHeartbeats 4000000 in
theorem sd_tryEnds_317 {d : Nat} {M : Mem} {P : Option AV → Mem → Prop} {Q : DB → Prop} (hP : ∀ t, Q t → P none (tput M t)) (hT : TW M) (x1 x2 x3 x5 x6 s0 : Int32) (t : DB) (h : w_tryEnds_317 x1 x2 x3 x5 x6 s0 t Q) : wp (d + 1) mX1_tryEnds 317 [(0, .inr (2, 0)), (1, .inl x1), (2, .inl x2), (3, .inl x3), (5, .inl x5), (6, .inl x6)] [.inl s0] (tput M t) P := by
  unfold w_tryEnds_317 at h
  refine a_istore (lv' := [(7, .inl s0), (0, .inr (2, 0)), (1, .inl x1), (2, .inl x2), (3, .inl x3), (5, .inl x5), (6, .inl x6)]) dX1_tryEnds_317 (Nat.le_of_ble_eq_true rfl) rfl ?_
  refine a_aload_n 1 dX1_tryEnds_319 rfl rfl ?_
  refine t_ga 2 hT (by decide) q1514 rfl dX1_tryEnds_320 ?_
  refine a_iload_n 3 dX1_tryEnds_323 rfl rfl ?_
  refine a_dup2 dX1_tryEnds_324 ?_
  refine t_ia (f := 2) rfl hT (by decide) h.1 dX1_tryEnds_325 ?_
  replace h := h.2
  refine a_iload 0 dX1_tryEnds_326 rfl ?_
  refine a_iadd dX1_tryEnds_328 ?_
  refine t_is (f := 2) rfl hT (by decide) h.1 dX1_tryEnds_329 ?_
  replace h := h.2
  refine a_topt (fun t_1 et_1 => ?_)
  replace h := h t_1 et_1
  refine a_aload_n 1 dX1_tryEnds_330 rfl rfl ?_
  refine t_ga 18 hT (by decide) q1530 rfl dX1_tryEnds_331 ?_
  refine a_aload_n 1 dX1_tryEnds_334 rfl rfl ?_
  refine t_gi 17 (by decide) q1529 rfl dX1_tryEnds_335 ?_
  refine a_iload_n 3 dX1_tryEnds_338 rfl rfl ?_
  refine t_is (f := 18) rfl hT (by decide) h.1 dX1_tryEnds_339 ?_
  replace h := h.2
  refine a_topt (fun t_2 et_2 => ?_)
  replace h := h t_2 et_2
  refine a_aload_n 1 dX1_tryEnds_340 rfl rfl ?_
  refine t_ga 19 hT (by decide) q1531 rfl dX1_tryEnds_341 ?_
  refine a_aload_n 1 dX1_tryEnds_344 rfl rfl ?_
  refine t_gi 17 (by decide) q1529 rfl dX1_tryEnds_345 ?_
  refine a_iload_n 4 dX1_tryEnds_348 rfl rfl ?_
  refine t_is (f := 19) rfl hT (by decide) h.1 dX1_tryEnds_349 ?_
  replace h := h.2
  refine a_topt (fun t_3 et_3 => ?_)
  replace h := h t_3 et_3
  refine a_aload_n 1 dX1_tryEnds_350 rfl rfl ?_
  refine t_ga 20 hT (by decide) q1532 rfl dX1_tryEnds_351 ?_
  refine a_aload_n 1 dX1_tryEnds_354 rfl rfl ?_
  refine t_gi 17 (by decide) q1529 rfl dX1_tryEnds_355 ?_
  refine a_iload 5 dX1_tryEnds_358 rfl ?_
  refine t_is (f := 20) rfl hT (by decide) h.1 dX1_tryEnds_360 ?_
  replace h := h.2
  refine a_topt (fun t_4 et_4 => ?_)
  replace h := h t_4 et_4
  refine a_aload_n 1 dX1_tryEnds_361 rfl rfl ?_
  refine t_ga 21 hT (by decide) q1533 rfl dX1_tryEnds_362 ?_
  refine a_aload_n 1 dX1_tryEnds_365 rfl rfl ?_
  refine t_gi 17 (by decide) q1529 rfl dX1_tryEnds_366 ?_
  refine a_iload 0 dX1_tryEnds_369 rfl ?_
  refine t_is (f := 21) rfl hT (by decide) h.1 dX1_tryEnds_371 ?_
  replace h := h.2
  refine a_topt (fun t_5 et_5 => ?_)
  replace h := h t_5 et_5
  refine a_aload_n 1 dX1_tryEnds_372 rfl rfl ?_
  refine t_ga 22 hT (by decide) q1534 rfl dX1_tryEnds_373 ?_
  refine a_aload_n 1 dX1_tryEnds_376 rfl rfl ?_
  refine t_gi 17 (by decide) q1529 rfl dX1_tryEnds_377 ?_
  refine a_aload_n 1 dX1_tryEnds_380 rfl rfl ?_
  refine t_gi 0 (by decide) q1512 rfl dX1_tryEnds_381 ?_
  refine t_is (f := 22) rfl hT (by decide) h.1 dX1_tryEnds_384 ?_
  replace h := h.2
  refine a_topt (fun t_6 et_6 => ?_)
  replace h := h t_6 et_6
  refine a_aload_n 1 dX1_tryEnds_385 rfl rfl ?_
  refine a_dup dX1_tryEnds_386 ?_
  refine t_gi 17 (by decide) q1529 rfl dX1_tryEnds_387 ?_
  refine a_iconst (v := 1) dX1_tryEnds_390 (by decide) ?_
  refine a_iadd dX1_tryEnds_391 ?_
  refine t_pi 17 (by decide) q1529 rfl rfl dX1_tryEnds_392 ?_
  refine a_topt (fun t_7 et_7 => ?_)
  replace h := h t_7 et_7
  refine a_aload_n 1 dX1_tryEnds_395 rfl rfl ?_
  refine a_iconst (v := 1) dX1_tryEnds_396 (by decide) ?_
  refine a_iload_n 2 dX1_tryEnds_397 rfl rfl ?_
  refine a_iconst (v := 1) dX1_tryEnds_398 (by decide) ?_
  refine a_iload 6 dX1_tryEnds_399 rfl ?_
  refine a_iconst (v := 0) dX1_tryEnds_401 (by decide) ?_
  refine a_cv (y := mX1_add) (k := 2) (i := 0) (as := [.inl 1, .inl x1, .inl 1, .inl x6, .inl 0]) (st := []) (n := 5) (by decide) (Or.inl q1916) qs37 q1918 q73 q1919 zmh_add rfl (Nat.le_of_ble_eq_true rfl) (Nat.le_of_ble_eq_true rfl) dX1_tryEnds_402 (sd_add (fun t_8 h => ?_) hT h)
  show wp (d + 1) mX1_tryEnds 405 [(7, .inl s0), (0, .inr (2, 0)), (1, .inl x1), (2, .inl x2), (3, .inl x3), (5, .inl x5), (6, .inl x6)] [] (tput M t_8) P
  exact a_vret rfl dX1_tryEnds_405 (hP _ h)
def w_tryEnds_303 (x1 x2 x3 x4 x5 x6 : Int32) (t : DB) (Q : DB → Prop) : Prop := ((¬ x4 = 1) → (w_tryEnds_317 x1 x2 x3 x5 x6 x6 t Q)) ∧ ((x4 = 1) → (w_tryEnds_317 x1 x2 x3 x5 x6 (-x6) t Q))
set_option maxHeartbeats 4000000 in
theorem sd_tryEnds_303 {d : Nat} {M : Mem} {P : Option AV → Mem → Prop} {Q : DB → Prop} (hP : ∀ t, Q t → P none (tput M t)) (hT : TW M) (x1 x2 x3 x4 x5 x6 : Int32) (t : DB) (h : w_tryEnds_303 x1 x2 x3 x4 x5 x6 t Q) : wp (d + 1) mX1_tryEnds 303 [(0, .inr (2, 0)), (1, .inl x1), (2, .inl x2), (3, .inl x3), (4, .inl x4), (5, .inl x5), (6, .inl x6)] [] (tput M t) P := by
  unfold w_tryEnds_303 at h
  refine a_iload 4 dX1_tryEnds_303 rfl ?_
  refine a_iconst (v := 1) dX1_tryEnds_305 (by decide) ?_
  refine a_icmp_ne (tgt := 315) dX1_tryEnds_306 (by decide) (fun c_1 => ?_) (fun c_1 => ?_)
  · replace h := h.1 c_1
    refine a_iload 6 dX1_tryEnds_315 rfl ?_
    exact wp_sub (by simp) (sd_tryEnds_317 hP hT x1 x2 x3 x5 x6 x6 t h)
  · replace h := h.2 c_1
    refine a_iload 6 dX1_tryEnds_309 rfl ?_
    refine a_ineg dX1_tryEnds_311 ?_
    refine a_goto (tgt := 317) dX1_tryEnds_312 (by decide) ?_
    exact wp_sub (by simp) (sd_tryEnds_317 hP hT x1 x2 x3 x5 x6 (-x6) t h)
def w_tryEnds_276 (x1 x2 x4 : Int32) (t : DB) (Q : DB → Prop) : Prop := ((¬ x4 = 1) → (w_fails 6 (-1) x2 t (fun r_2 t_1 => w_add 1 x1 2 r_2 0 t_1 (fun t_3 => Q t_3)))) ∧ ((x4 = 1) → (w_fails 5 (-1) x2 t (fun r_6 t_5 => w_add 1 x1 2 r_6 0 t_5 (fun t_7 => Q t_7))))
set_option maxHeartbeats 4000000 in
theorem sd_tryEnds_276 {d : Nat} {M : Mem} {P : Option AV → Mem → Prop} {Q : DB → Prop} (hP : ∀ t, Q t → P none (tput M t)) (hT : TW M) (x1 x2 x4 : Int32) (t : DB) (h : w_tryEnds_276 x1 x2 x4 t Q) : wp (d + 1) mX1_tryEnds 276 [(0, .inr (2, 0)), (1, .inl x1), (2, .inl x2), (4, .inl x4)] [] (tput M t) P := by
  unfold w_tryEnds_276 at h
  refine a_aload_n 0 dX1_tryEnds_276 rfl rfl ?_
  refine a_iconst (v := 1) dX1_tryEnds_277 (by decide) ?_
  refine a_iload_n 1 dX1_tryEnds_278 rfl rfl ?_
  refine a_iconst (v := 2) dX1_tryEnds_279 (by decide) ?_
  refine a_aload_n 0 dX1_tryEnds_280 rfl rfl ?_
  refine a_iload 3 dX1_tryEnds_281 rfl ?_
  refine a_iconst (v := 1) dX1_tryEnds_283 (by decide) ?_
  refine a_icmp_ne (tgt := 291) dX1_tryEnds_284 (by decide) (fun c_9 => ?_) (fun c_9 => ?_)
  · replace h := h.1 c_9
    refine a_bipush (v := 6) dX1_tryEnds_291 (by decide) ?_
    refine a_iconst (v := (-1)) dX1_tryEnds_293 (by decide) ?_
    refine a_iload_n 2 dX1_tryEnds_294 rfl rfl ?_
    refine a_cv (y := mX1_fails) (k := 2) (i := 0) (as := [.inl 6, .inl (-1), .inl x2]) (st := [.inl 2, .inl x1, .inl 1, .inr (2, 0)]) (n := 3) (by decide) (Or.inl q1996) qs57 q1998 q73 q1999 zmh_fails rfl (Nat.le_of_ble_eq_true rfl) (Nat.le_of_ble_eq_true rfl) dX1_tryEnds_295 (sd_fails (fun r_2 t_1 h => ?_) hT h)
    show wp (d + 1) mX1_tryEnds 298 [(0, .inr (2, 0)), (1, .inl x1), (2, .inl x2), (4, .inl x4)] [.inl r_2, .inl 2, .inl x1, .inl 1, .inr (2, 0)] (tput M t_1) P
    refine a_iconst (v := 0) dX1_tryEnds_298 (by decide) ?_
    refine a_cv (y := mX1_add) (k := 2) (i := 0) (as := [.inl 1, .inl x1, .inl 2, .inl r_2, .inl 0]) (st := []) (n := 5) (by decide) (Or.inl q1916) qs37 q1918 q73 q1919 zmh_add rfl (Nat.le_of_ble_eq_true rfl) (Nat.le_of_ble_eq_true rfl) dX1_tryEnds_299 (sd_add (fun t_3 h => ?_) hT h)
    show wp (d + 1) mX1_tryEnds 302 [(0, .inr (2, 0)), (1, .inl x1), (2, .inl x2), (4, .inl x4)] [] (tput M t_3) P
    exact a_vret rfl dX1_tryEnds_302 (hP _ h)
  · replace h := h.2 c_9
    refine a_iconst (v := 5) dX1_tryEnds_287 (by decide) ?_
    refine a_goto (tgt := 293) dX1_tryEnds_288 (by decide) ?_
    refine a_iconst (v := (-1)) dX1_tryEnds_293 (by decide) ?_
    refine a_iload_n 2 dX1_tryEnds_294 rfl rfl ?_
    refine a_cv (y := mX1_fails) (k := 2) (i := 0) (as := [.inl 5, .inl (-1), .inl x2]) (st := [.inl 2, .inl x1, .inl 1, .inr (2, 0)]) (n := 3) (by decide) (Or.inl q1996) qs57 q1998 q73 q1999 zmh_fails rfl (Nat.le_of_ble_eq_true rfl) (Nat.le_of_ble_eq_true rfl) dX1_tryEnds_295 (sd_fails (fun r_6 t_5 h => ?_) hT h)
    show wp (d + 1) mX1_tryEnds 298 [(0, .inr (2, 0)), (1, .inl x1), (2, .inl x2), (4, .inl x4)] [.inl r_6, .inl 2, .inl x1, .inl 1, .inr (2, 0)] (tput M t_5) P
    refine a_iconst (v := 0) dX1_tryEnds_298 (by decide) ?_
    refine a_cv (y := mX1_add) (k := 2) (i := 0) (as := [.inl 1, .inl x1, .inl 2, .inl r_6, .inl 0]) (st := []) (n := 5) (by decide) (Or.inl q1916) qs37 q1918 q73 q1919 zmh_add rfl (Nat.le_of_ble_eq_true rfl) (Nat.le_of_ble_eq_true rfl) dX1_tryEnds_299 (sd_add (fun t_7 h => ?_) hT h)
    show wp (d + 1) mX1_tryEnds 302 [(0, .inr (2, 0)), (1, .inl x1), (2, .inl x2), (4, .inl x4)] [] (tput M t_7) P
    exact a_vret rfl dX1_tryEnds_302 (hP _ h)
def w_tryEnds_147 : Nat → Int32 → Int32 → Int32 → Int32 → Int32 → Int32 → DB → (DB → Prop) → Prop
  | 0, _, _, _, _, _, _, _, _ => False
  | n + 1, x1, x2, x3, x4, x5, x6, t, Q => (((t 17 0) ≤ x6) → (vp_in x3 60 ∧ (∀ x_1 : Int32, x_1 = t 54 x3.toNatClampNeg → (((¬ x4 = 1) → (vp_in x2 8 ∧ (vp_in x2 8 ∧ (((((t 2 x2.toNatClampNeg) + x_1) ≤ (t 3 x2.toNatClampNeg)) → (w_tryEnds_303 x1 x2 x3 x4 x5 x_1 t Q)) ∧ ((¬ ((t 2 x2.toNatClampNeg) + x_1) ≤ (t 3 x2.toNatClampNeg)) → (w_tryEnds_276 x1 x2 x4 t Q)))))) ∧ ((x4 = 1) → (vp_in x2 8 ∧ (((x_1 ≤ (t 2 x2.toNatClampNeg)) → (w_tryEnds_303 x1 x2 x3 x4 x5 x_1 t Q)) ∧ ((¬ x_1 ≤ (t 2 x2.toNatClampNeg)) → (w_tryEnds_276 x1 x2 x4 t Q))))))))) ∧ ((¬ (t 17 0) ≤ x6) → (((x5 = 0) → (∀ x_5 : Int32, x_5 = x6 + 1 → (w_tryEnds_147 n x1 x2 x3 x4 x5 x_5 t Q))) ∧ ((¬ x5 = 0) → (vp_in x6 4400 ∧ (((¬ (t 20 x6.toNatClampNeg) = x5) → (∀ x_6 : Int32, x_6 = x6 + 1 → (w_tryEnds_147 n x1 x2 x3 x4 x5 x_6 t Q))) ∧ (((t 20 x6.toNatClampNeg) = x5) → (vp_in x6 4400 ∧ ((((t 18 x6.toNatClampNeg) = x2) → (vp_in x6 4400 ∧ (((0 ≤ (t 21 x6.toNatClampNeg)) → (vp_in x6 4400 ∧ (w_add 1 x1 1 (t 21 x6.toNatClampNeg) 0 t (fun t_7 => Q t_7)))) ∧ ((¬ 0 ≤ (t 21 x6.toNatClampNeg)) → (vp_in x6 4400 ∧ (w_add 1 x1 1 (-(t 21 x6.toNatClampNeg)) 0 t (fun t_9 => Q t_9))))))) ∧ ((¬ (t 18 x6.toNatClampNeg) = x2) → (∀ x_12 : Int32, x_12 = x6 + 1 → (w_tryEnds_147 n x1 x2 x3 x4 x5 x_12 t Q)))))))))))
set_option maxHeartbeats 4000000 in
theorem sd_tryEnds_147 {d : Nat} {M : Mem} {P : Option AV → Mem → Prop} {Q : DB → Prop} (hP : ∀ t, Q t → P none (tput M t)) (hT : TW M) : ∀ (n : Nat) (x1 x2 x3 x4 x5 x6 : Int32) (t : DB), w_tryEnds_147 n x1 x2 x3 x4 x5 x6 t Q → wp (d + 1) mX1_tryEnds 147 [(0, .inr (2, 0)), (1, .inl x1), (2, .inl x2), (3, .inl x3), (4, .inl x4), (5, .inl x5), (6, .inl x6)] [] (tput M t) P := by
  intro n
  induction n with
  | zero => intro x1 x2 x3 x4 x5 x6 t h; exact False.elim h
  | succ n ih =>
    intro x1 x2 x3 x4 x5 x6 t h
    rw [w_tryEnds_147] at h
    refine a_iload 6 dX1_tryEnds_147 rfl ?_
    refine a_aload_n 0 dX1_tryEnds_149 rfl rfl ?_
    refine t_gi 17 (by decide) q1529 rfl dX1_tryEnds_150 ?_
    refine a_icmp_ge (tgt := 230) dX1_tryEnds_153 (by decide) (fun c_16 => ?_) (fun c_16 => ?_)
    · replace h := h.1 c_16
      refine a_aload_n 0 dX1_tryEnds_230 rfl rfl ?_
      refine t_ga 54 hT (by decide) q1566 rfl dX1_tryEnds_231 ?_
      refine a_iload_n 3 dX1_tryEnds_234 rfl rfl ?_
      refine t_ia (f := 54) rfl hT (by decide) h.1 dX1_tryEnds_235 ?_
      replace h := h.2
      refine a_topi (fun x_1 ex_1 => ?_)
      replace h := h x_1 ex_1
      refine a_istore (lv' := [(6, .inl x_1), (0, .inr (2, 0)), (1, .inl x1), (2, .inl x2), (3, .inl x3), (4, .inl x4), (5, .inl x5)]) dX1_tryEnds_236 (Nat.le_of_ble_eq_true rfl) rfl ?_
      refine a_iload 5 dX1_tryEnds_238 rfl ?_
      refine a_iconst (v := 1) dX1_tryEnds_240 (by decide) ?_
      refine a_icmp_ne (tgt := 258) dX1_tryEnds_241 (by decide) (fun c_4 => ?_) (fun c_4 => ?_)
      · replace h := h.1 c_4
        refine a_aload_n 1 dX1_tryEnds_258 rfl rfl ?_
        refine t_ga 2 hT (by decide) q1514 rfl dX1_tryEnds_259 ?_
        refine a_iload_n 3 dX1_tryEnds_262 rfl rfl ?_
        refine t_ia (f := 2) rfl hT (by decide) h.1 dX1_tryEnds_263 ?_
        replace h := h.2
        refine a_iload 0 dX1_tryEnds_264 rfl ?_
        refine a_iadd dX1_tryEnds_266 ?_
        refine a_aload_n 1 dX1_tryEnds_267 rfl rfl ?_
        refine t_ga 3 hT (by decide) q1515 rfl dX1_tryEnds_268 ?_
        refine a_iload_n 3 dX1_tryEnds_271 rfl rfl ?_
        refine t_ia (f := 3) rfl hT (by decide) h.1 dX1_tryEnds_272 ?_
        replace h := h.2
        refine a_icmp_le (tgt := 303) dX1_tryEnds_273 (by decide) (fun c_2 => ?_) (fun c_2 => ?_)
        · replace h := h.1 c_2
          exact wp_sub (by simp) (sd_tryEnds_303 hP hT x1 x2 x3 x4 x5 x_1 t h)
        · replace h := h.2 c_2
          exact wp_sub (by simp) (sd_tryEnds_276 hP hT x1 x2 x4 t h)
      · replace h := h.2 c_4
        refine a_aload_n 1 dX1_tryEnds_244 rfl rfl ?_
        refine t_ga 2 hT (by decide) q1514 rfl dX1_tryEnds_245 ?_
        refine a_iload_n 3 dX1_tryEnds_248 rfl rfl ?_
        refine t_ia (f := 2) rfl hT (by decide) h.1 dX1_tryEnds_249 ?_
        replace h := h.2
        refine a_iload 0 dX1_tryEnds_250 rfl ?_
        refine a_icmp_ge (tgt := 303) dX1_tryEnds_252 (by decide) (fun c_3 => ?_) (fun c_3 => ?_)
        · replace h := h.1 c_3
          exact wp_sub (by simp) (sd_tryEnds_303 hP hT x1 x2 x3 x4 x5 x_1 t h)
        · replace h := h.2 c_3
          refine a_goto (tgt := 276) dX1_tryEnds_255 (by decide) ?_
          exact wp_sub (by simp) (sd_tryEnds_276 hP hT x1 x2 x4 t h)
    · replace h := h.2 c_16
      refine a_iload 5 dX1_tryEnds_156 rfl ?_
      refine a_if_eq (tgt := 224) dX1_tryEnds_158 (by decide) (fun c_15 => ?_) (fun c_15 => ?_)
      · replace h := h.1 c_15
        obtain ⟨x_5, ex_5⟩ : ∃ y : Int32, y = x6 + 1 := ⟨_, rfl⟩
        replace h := h x_5 ex_5
        refine a_iinc (v := x_5) (lv' := [(6, .inl x_5), (0, .inr (2, 0)), (1, .inl x1), (2, .inl x2), (3, .inl x3), (4, .inl x4), (5, .inl x5)]) 6 dX1_tryEnds_224 rfl (by rw [ex_5]; rfl) (Nat.le_of_ble_eq_true rfl) rfl ?_
        refine a_goto (tgt := 147) dX1_tryEnds_227 (by decide) ?_
        exact wp_sub (by simp) (ih x1 x2 x3 x4 x5 x_5 t h)
      · replace h := h.2 c_15
        refine a_aload_n 0 dX1_tryEnds_161 rfl rfl ?_
        refine t_ga 20 hT (by decide) q1532 rfl dX1_tryEnds_162 ?_
        refine a_iload 6 dX1_tryEnds_165 rfl ?_
        refine t_ia (f := 20) rfl hT (by decide) h.1 dX1_tryEnds_167 ?_
        replace h := h.2
        refine a_iload 5 dX1_tryEnds_168 rfl ?_
        refine a_icmp_ne (tgt := 224) dX1_tryEnds_170 (by decide) (fun c_14 => ?_) (fun c_14 => ?_)
        · replace h := h.1 c_14
          obtain ⟨x_6, ex_6⟩ : ∃ y : Int32, y = x6 + 1 := ⟨_, rfl⟩
          replace h := h x_6 ex_6
          refine a_iinc (v := x_6) (lv' := [(6, .inl x_6), (0, .inr (2, 0)), (1, .inl x1), (2, .inl x2), (3, .inl x3), (4, .inl x4), (5, .inl x5)]) 6 dX1_tryEnds_224 rfl (by rw [ex_6]; rfl) (Nat.le_of_ble_eq_true rfl) rfl ?_
          refine a_goto (tgt := 147) dX1_tryEnds_227 (by decide) ?_
          exact wp_sub (by simp) (ih x1 x2 x3 x4 x5 x_6 t h)
        · replace h := h.2 c_14
          refine a_aload_n 0 dX1_tryEnds_173 rfl rfl ?_
          refine t_ga 18 hT (by decide) q1530 rfl dX1_tryEnds_174 ?_
          refine a_iload 6 dX1_tryEnds_177 rfl ?_
          refine t_ia (f := 18) rfl hT (by decide) h.1 dX1_tryEnds_179 ?_
          replace h := h.2
          refine a_iload_n 2 dX1_tryEnds_180 rfl rfl ?_
          refine a_icmp_eq (tgt := 187) dX1_tryEnds_181 (by decide) (fun c_13 => ?_) (fun c_13 => ?_)
          · replace h := h.1 c_13
            refine a_aload_n 0 dX1_tryEnds_187 rfl rfl ?_
            refine a_iconst (v := 1) dX1_tryEnds_188 (by decide) ?_
            refine a_iload_n 1 dX1_tryEnds_189 rfl rfl ?_
            refine a_iconst (v := 1) dX1_tryEnds_190 (by decide) ?_
            refine a_aload_n 0 dX1_tryEnds_191 rfl rfl ?_
            refine t_ga 21 hT (by decide) q1533 rfl dX1_tryEnds_192 ?_
            refine a_iload 6 dX1_tryEnds_195 rfl ?_
            refine t_ia (f := 21) rfl hT (by decide) h.1 dX1_tryEnds_197 ?_
            replace h := h.2
            refine a_if_ge (tgt := 212) dX1_tryEnds_198 (by decide) (fun c_11 => ?_) (fun c_11 => ?_)
            · replace h := h.1 c_11
              refine a_aload_n 0 dX1_tryEnds_212 rfl rfl ?_
              refine t_ga 21 hT (by decide) q1533 rfl dX1_tryEnds_213 ?_
              refine a_iload 6 dX1_tryEnds_216 rfl ?_
              refine t_ia (f := 21) rfl hT (by decide) h.1 dX1_tryEnds_218 ?_
              replace h := h.2
              refine a_iconst (v := 0) dX1_tryEnds_219 (by decide) ?_
              refine a_cv (y := mX1_add) (k := 2) (i := 0) (as := [.inl 1, .inl x1, .inl 1, .inl (t 21 x6.toNatClampNeg), .inl 0]) (st := []) (n := 5) (by decide) (Or.inl q1916) qs37 q1918 q73 q1919 zmh_add rfl (Nat.le_of_ble_eq_true rfl) (Nat.le_of_ble_eq_true rfl) dX1_tryEnds_220 (sd_add (fun t_7 h => ?_) hT h)
              show wp (d + 1) mX1_tryEnds 223 [(0, .inr (2, 0)), (1, .inl x1), (2, .inl x2), (3, .inl x3), (4, .inl x4), (5, .inl x5), (6, .inl x6)] [] (tput M t_7) P
              exact a_vret rfl dX1_tryEnds_223 (hP _ h)
            · replace h := h.2 c_11
              refine a_aload_n 0 dX1_tryEnds_201 rfl rfl ?_
              refine t_ga 21 hT (by decide) q1533 rfl dX1_tryEnds_202 ?_
              refine a_iload 6 dX1_tryEnds_205 rfl ?_
              refine t_ia (f := 21) rfl hT (by decide) h.1 dX1_tryEnds_207 ?_
              replace h := h.2
              refine a_ineg dX1_tryEnds_208 ?_
              refine a_goto (tgt := 219) dX1_tryEnds_209 (by decide) ?_
              refine a_iconst (v := 0) dX1_tryEnds_219 (by decide) ?_
              refine a_cv (y := mX1_add) (k := 2) (i := 0) (as := [.inl 1, .inl x1, .inl 1, .inl (-(t 21 x6.toNatClampNeg)), .inl 0]) (st := []) (n := 5) (by decide) (Or.inl q1916) qs37 q1918 q73 q1919 zmh_add rfl (Nat.le_of_ble_eq_true rfl) (Nat.le_of_ble_eq_true rfl) dX1_tryEnds_220 (sd_add (fun t_9 h => ?_) hT h)
              show wp (d + 1) mX1_tryEnds 223 [(0, .inr (2, 0)), (1, .inl x1), (2, .inl x2), (3, .inl x3), (4, .inl x4), (5, .inl x5), (6, .inl x6)] [] (tput M t_9) P
              exact a_vret rfl dX1_tryEnds_223 (hP _ h)
          · replace h := h.2 c_13
            refine a_goto (tgt := 224) dX1_tryEnds_184 (by decide) ?_
            obtain ⟨x_12, ex_12⟩ : ∃ y : Int32, y = x6 + 1 := ⟨_, rfl⟩
            replace h := h x_12 ex_12
            refine a_iinc (v := x_12) (lv' := [(6, .inl x_12), (0, .inr (2, 0)), (1, .inl x1), (2, .inl x2), (3, .inl x3), (4, .inl x4), (5, .inl x5)]) 6 dX1_tryEnds_224 rfl (by rw [ex_12]; rfl) (Nat.le_of_ble_eq_true rfl) rfl ?_
            refine a_goto (tgt := 147) dX1_tryEnds_227 (by decide) ?_
            exact wp_sub (by simp) (ih x1 x2 x3 x4 x5 x_12 t h)
def w_tryEnds_25 : Nat → Int32 → Int32 → Int32 → Int32 → Int32 → DB → (DB → Prop) → Prop
  | 0, _, _, _, _, _, _, _ => False
  | n + 1, x1, x2, x3, x4, x5, t, Q => (((t 5 0) ≤ x5) → (((¬ x4 = 0) → (vp_in x3 60 ∧ (∀ x_1 : Int32, x_1 = t 55 x3.toNatClampNeg → (∃ n_, w_tryEnds_147 n_ x1 x2 x3 x4 x_1 0 t Q)))) ∧ ((x4 = 0) → (vp_in x2 8 ∧ (w_add 1 x1 1 (t 2 x2.toNatClampNeg) 0 t (fun t_2 => Q t_2)))))) ∧ ((¬ (t 5 0) ≤ x5) → (vp_in x5 30 ∧ (((¬ (t 6 x5.toNatClampNeg) = x2) → (∀ x_5 : Int32, x_5 = x5 + 1 → (w_tryEnds_25 n x1 x2 x3 x4 x_5 t Q))) ∧ (((t 6 x5.toNatClampNeg) = x2) → (vp_in x5 30 ∧ (((¬ (t 7 x5.toNatClampNeg) = x4) → (∀ x_6 : Int32, x_6 = x5 + 1 → (w_tryEnds_25 n x1 x2 x3 x4 x_6 t Q))) ∧ (((t 7 x5.toNatClampNeg) = x4) → (vp_in x5 30 ∧ ((((t 0 0) < (t 8 x5.toNatClampNeg)) → (∀ x_7 : Int32, x_7 = x5 + 1 → (w_tryEnds_25 n x1 x2 x3 x4 x_7 t Q))) ∧ ((¬ (t 0 0) < (t 8 x5.toNatClampNeg)) → (vp_in x5 30 ∧ ((((t 0 0) ≤ (t 9 x5.toNatClampNeg)) → (vp_in x5 30 ∧ (w_fails (t 10 x5.toNatClampNeg) (-1) x2 t (fun r_9 t_8 => w_add 1 x1 2 r_9 0 t_8 (fun t_10 => Q t_10))))) ∧ ((¬ (t 0 0) ≤ (t 9 x5.toNatClampNeg)) → (∀ x_12 : Int32, x_12 = x5 + 1 → (w_tryEnds_25 n x1 x2 x3 x4 x_12 t Q)))))))))))))))
set_option maxHeartbeats 4000000 in
theorem sd_tryEnds_25 {d : Nat} {M : Mem} {P : Option AV → Mem → Prop} {Q : DB → Prop} (hP : ∀ t, Q t → P none (tput M t)) (hT : TW M) : ∀ (n : Nat) (x1 x2 x3 x4 x5 : Int32) (t : DB), w_tryEnds_25 n x1 x2 x3 x4 x5 t Q → wp (d + 1) mX1_tryEnds 25 [(0, .inr (2, 0)), (1, .inl x1), (2, .inl x2), (3, .inl x3), (4, .inl x4), (5, .inl x5)] [] (tput M t) P := by
  intro n
  induction n with
  | zero => intro x1 x2 x3 x4 x5 t h; exact False.elim h
  | succ n ih =>
    intro x1 x2 x3 x4 x5 t h
    rw [w_tryEnds_25] at h
    refine a_iload 5 dX1_tryEnds_25 rfl ?_
    refine a_aload_n 0 dX1_tryEnds_27 rfl rfl ?_
    refine t_gi 5 (by decide) q1517 rfl dX1_tryEnds_28 ?_
    refine a_icmp_ge (tgt := 116) dX1_tryEnds_31 (by decide) (fun c_17 => ?_) (fun c_17 => ?_)
    · replace h := h.1 c_17
      refine a_iload 4 dX1_tryEnds_116 rfl ?_
      refine a_if_ne (tgt := 136) dX1_tryEnds_118 (by decide) (fun c_4 => ?_) (fun c_4 => ?_)
      · replace h := h.1 c_4
        refine a_aload_n 0 dX1_tryEnds_136 rfl rfl ?_
        refine t_ga 55 hT (by decide) q1567 rfl dX1_tryEnds_137 ?_
        refine a_iload_n 3 dX1_tryEnds_140 rfl rfl ?_
        refine t_ia (f := 55) rfl hT (by decide) h.1 dX1_tryEnds_141 ?_
        replace h := h.2
        refine a_topi (fun x_1 ex_1 => ?_)
        replace h := h x_1 ex_1
        refine a_istore (lv' := [(5, .inl x_1), (0, .inr (2, 0)), (1, .inl x1), (2, .inl x2), (3, .inl x3), (4, .inl x4)]) dX1_tryEnds_142 (Nat.le_of_ble_eq_true rfl) rfl ?_
        refine a_iconst (v := 0) dX1_tryEnds_144 (by decide) ?_
        refine a_istore (lv' := [(6, .inl 0), (5, .inl x_1), (0, .inr (2, 0)), (1, .inl x1), (2, .inl x2), (3, .inl x3), (4, .inl x4)]) dX1_tryEnds_145 (Nat.le_of_ble_eq_true rfl) rfl ?_
        obtain ⟨n_, h⟩ := h
        exact wp_sub (by simp) (sd_tryEnds_147 hP hT n_ x1 x2 x3 x4 x_1 0 t h)
      · replace h := h.2 c_4
        refine a_aload_n 0 dX1_tryEnds_121 rfl rfl ?_
        refine a_iconst (v := 1) dX1_tryEnds_122 (by decide) ?_
        refine a_iload_n 1 dX1_tryEnds_123 rfl rfl ?_
        refine a_iconst (v := 1) dX1_tryEnds_124 (by decide) ?_
        refine a_aload_n 0 dX1_tryEnds_125 rfl rfl ?_
        refine t_ga 2 hT (by decide) q1514 rfl dX1_tryEnds_126 ?_
        refine a_iload_n 2 dX1_tryEnds_129 rfl rfl ?_
        refine t_ia (f := 2) rfl hT (by decide) h.1 dX1_tryEnds_130 ?_
        replace h := h.2
        refine a_iconst (v := 0) dX1_tryEnds_131 (by decide) ?_
        refine a_cv (y := mX1_add) (k := 2) (i := 0) (as := [.inl 1, .inl x1, .inl 1, .inl (t 2 x2.toNatClampNeg), .inl 0]) (st := []) (n := 5) (by decide) (Or.inl q1916) qs37 q1918 q73 q1919 zmh_add rfl (Nat.le_of_ble_eq_true rfl) (Nat.le_of_ble_eq_true rfl) dX1_tryEnds_132 (sd_add (fun t_2 h => ?_) hT h)
        show wp (d + 1) mX1_tryEnds 135 [(0, .inr (2, 0)), (1, .inl x1), (2, .inl x2), (3, .inl x3), (4, .inl x4), (5, .inl x5)] [] (tput M t_2) P
        exact a_vret rfl dX1_tryEnds_135 (hP _ h)
    · replace h := h.2 c_17
      refine a_aload_n 0 dX1_tryEnds_34 rfl rfl ?_
      refine t_ga 6 hT (by decide) q1518 rfl dX1_tryEnds_35 ?_
      refine a_iload 5 dX1_tryEnds_38 rfl ?_
      refine t_ia (f := 6) rfl hT (by decide) h.1 dX1_tryEnds_40 ?_
      replace h := h.2
      refine a_iload_n 2 dX1_tryEnds_41 rfl rfl ?_
      refine a_icmp_ne (tgt := 110) dX1_tryEnds_42 (by decide) (fun c_16 => ?_) (fun c_16 => ?_)
      · replace h := h.1 c_16
        obtain ⟨x_5, ex_5⟩ : ∃ y : Int32, y = x5 + 1 := ⟨_, rfl⟩
        replace h := h x_5 ex_5
        refine a_iinc (v := x_5) (lv' := [(5, .inl x_5), (0, .inr (2, 0)), (1, .inl x1), (2, .inl x2), (3, .inl x3), (4, .inl x4)]) 5 dX1_tryEnds_110 rfl (by rw [ex_5]; rfl) (Nat.le_of_ble_eq_true rfl) rfl ?_
        refine a_goto (tgt := 25) dX1_tryEnds_113 (by decide) ?_
        exact wp_sub (by simp) (ih x1 x2 x3 x4 x_5 t h)
      · replace h := h.2 c_16
        refine a_aload_n 0 dX1_tryEnds_45 rfl rfl ?_
        refine t_ga 7 hT (by decide) q1519 rfl dX1_tryEnds_46 ?_
        refine a_iload 5 dX1_tryEnds_49 rfl ?_
        refine t_ia (f := 7) rfl hT (by decide) h.1 dX1_tryEnds_51 ?_
        replace h := h.2
        refine a_iload 4 dX1_tryEnds_52 rfl ?_
        refine a_icmp_ne (tgt := 110) dX1_tryEnds_54 (by decide) (fun c_15 => ?_) (fun c_15 => ?_)
        · replace h := h.1 c_15
          obtain ⟨x_6, ex_6⟩ : ∃ y : Int32, y = x5 + 1 := ⟨_, rfl⟩
          replace h := h x_6 ex_6
          refine a_iinc (v := x_6) (lv' := [(5, .inl x_6), (0, .inr (2, 0)), (1, .inl x1), (2, .inl x2), (3, .inl x3), (4, .inl x4)]) 5 dX1_tryEnds_110 rfl (by rw [ex_6]; rfl) (Nat.le_of_ble_eq_true rfl) rfl ?_
          refine a_goto (tgt := 25) dX1_tryEnds_113 (by decide) ?_
          exact wp_sub (by simp) (ih x1 x2 x3 x4 x_6 t h)
        · replace h := h.2 c_15
          refine a_aload_n 0 dX1_tryEnds_57 rfl rfl ?_
          refine t_gi 0 (by decide) q1512 rfl dX1_tryEnds_58 ?_
          refine a_aload_n 0 dX1_tryEnds_61 rfl rfl ?_
          refine t_ga 8 hT (by decide) q1520 rfl dX1_tryEnds_62 ?_
          refine a_iload 5 dX1_tryEnds_65 rfl ?_
          refine t_ia (f := 8) rfl hT (by decide) h.1 dX1_tryEnds_67 ?_
          replace h := h.2
          refine a_icmp_lt (tgt := 110) dX1_tryEnds_68 (by decide) (fun c_14 => ?_) (fun c_14 => ?_)
          · replace h := h.1 c_14
            obtain ⟨x_7, ex_7⟩ : ∃ y : Int32, y = x5 + 1 := ⟨_, rfl⟩
            replace h := h x_7 ex_7
            refine a_iinc (v := x_7) (lv' := [(5, .inl x_7), (0, .inr (2, 0)), (1, .inl x1), (2, .inl x2), (3, .inl x3), (4, .inl x4)]) 5 dX1_tryEnds_110 rfl (by rw [ex_7]; rfl) (Nat.le_of_ble_eq_true rfl) rfl ?_
            refine a_goto (tgt := 25) dX1_tryEnds_113 (by decide) ?_
            exact wp_sub (by simp) (ih x1 x2 x3 x4 x_7 t h)
          · replace h := h.2 c_14
            refine a_aload_n 0 dX1_tryEnds_71 rfl rfl ?_
            refine t_gi 0 (by decide) q1512 rfl dX1_tryEnds_72 ?_
            refine a_aload_n 0 dX1_tryEnds_75 rfl rfl ?_
            refine t_ga 9 hT (by decide) q1521 rfl dX1_tryEnds_76 ?_
            refine a_iload 5 dX1_tryEnds_79 rfl ?_
            refine t_ia (f := 9) rfl hT (by decide) h.1 dX1_tryEnds_81 ?_
            replace h := h.2
            refine a_icmp_le (tgt := 88) dX1_tryEnds_82 (by decide) (fun c_13 => ?_) (fun c_13 => ?_)
            · replace h := h.1 c_13
              refine a_aload_n 0 dX1_tryEnds_88 rfl rfl ?_
              refine a_iconst (v := 1) dX1_tryEnds_89 (by decide) ?_
              refine a_iload_n 1 dX1_tryEnds_90 rfl rfl ?_
              refine a_iconst (v := 2) dX1_tryEnds_91 (by decide) ?_
              refine a_aload_n 0 dX1_tryEnds_92 rfl rfl ?_
              refine a_aload_n 0 dX1_tryEnds_93 rfl rfl ?_
              refine t_ga 10 hT (by decide) q1522 rfl dX1_tryEnds_94 ?_
              refine a_iload 5 dX1_tryEnds_97 rfl ?_
              refine t_ia (f := 10) rfl hT (by decide) h.1 dX1_tryEnds_99 ?_
              replace h := h.2
              refine a_iconst (v := (-1)) dX1_tryEnds_100 (by decide) ?_
              refine a_iload_n 2 dX1_tryEnds_101 rfl rfl ?_
              refine a_cv (y := mX1_fails) (k := 2) (i := 0) (as := [.inl (t 10 x5.toNatClampNeg), .inl (-1), .inl x2]) (st := [.inl 2, .inl x1, .inl 1, .inr (2, 0)]) (n := 3) (by decide) (Or.inl q1996) qs57 q1998 q73 q1999 zmh_fails rfl (Nat.le_of_ble_eq_true rfl) (Nat.le_of_ble_eq_true rfl) dX1_tryEnds_102 (sd_fails (fun r_9 t_8 h => ?_) hT h)
              show wp (d + 1) mX1_tryEnds 105 [(0, .inr (2, 0)), (1, .inl x1), (2, .inl x2), (3, .inl x3), (4, .inl x4), (5, .inl x5)] [.inl r_9, .inl 2, .inl x1, .inl 1, .inr (2, 0)] (tput M t_8) P
              refine a_iconst (v := 0) dX1_tryEnds_105 (by decide) ?_
              refine a_cv (y := mX1_add) (k := 2) (i := 0) (as := [.inl 1, .inl x1, .inl 2, .inl r_9, .inl 0]) (st := []) (n := 5) (by decide) (Or.inl q1916) qs37 q1918 q73 q1919 zmh_add rfl (Nat.le_of_ble_eq_true rfl) (Nat.le_of_ble_eq_true rfl) dX1_tryEnds_106 (sd_add (fun t_10 h => ?_) hT h)
              show wp (d + 1) mX1_tryEnds 109 [(0, .inr (2, 0)), (1, .inl x1), (2, .inl x2), (3, .inl x3), (4, .inl x4), (5, .inl x5)] [] (tput M t_10) P
              exact a_vret rfl dX1_tryEnds_109 (hP _ h)
            · replace h := h.2 c_13
              refine a_goto (tgt := 110) dX1_tryEnds_85 (by decide) ?_
              obtain ⟨x_12, ex_12⟩ : ∃ y : Int32, y = x5 + 1 := ⟨_, rfl⟩
              replace h := h x_12 ex_12
              refine a_iinc (v := x_12) (lv' := [(5, .inl x_12), (0, .inr (2, 0)), (1, .inl x1), (2, .inl x2), (3, .inl x3), (4, .inl x4)]) 5 dX1_tryEnds_110 rfl (by rw [ex_12]; rfl) (Nat.le_of_ble_eq_true rfl) rfl ?_
              refine a_goto (tgt := 25) dX1_tryEnds_113 (by decide) ?_
              exact wp_sub (by simp) (ih x1 x2 x3 x4 x_12 t h)
def w_tryEnds (x1 : Int32) (t : DB) (Q : DB → Prop) : Prop := vp_in x1 4400 ∧ (∀ x_1 : Int32, x_1 = t 66 x1.toNatClampNeg → (vp_in x1 4400 ∧ (∀ x_2 : Int32, x_2 = t 62 x1.toNatClampNeg → (vp_in x_2 60 ∧ (∀ x_3 : Int32, x_3 = t 53 x_2.toNatClampNeg → (∃ n_, w_tryEnds_25 n_ x1 x_1 x_2 x_3 0 t Q))))))
set_option maxHeartbeats 4000000 in
theorem sd_tryEnds {d : Nat} {M : Mem} {P : Option AV → Mem → Prop} {Q : DB → Prop} {x1 : Int32} {t : DB} (hP : ∀ t, Q t → P none (tput M t)) (hT : TW M) (h : w_tryEnds x1 t Q) : ct (d + 1) mX1_tryEnds [.inr (2, 0), .inl x1] (tput M t) P := by
  refine ct_of (by decide) (Nat.le_of_ble_eq_true rfl) ?_
  show wp (d + 1) mX1_tryEnds 0 [(0, .inr (2, 0)), (1, .inl x1)] [] (tput M t) P
  unfold w_tryEnds at h
  refine a_aload_n 0 dX1_tryEnds_0 rfl rfl ?_
  refine t_ga 66 hT (by decide) q1578 rfl dX1_tryEnds_1 ?_
  refine a_iload_n 1 dX1_tryEnds_4 rfl rfl ?_
  refine t_ia (f := 66) rfl hT (by decide) h.1 dX1_tryEnds_5 ?_
  replace h := h.2
  refine a_topi (fun x_1 ex_1 => ?_)
  replace h := h x_1 ex_1
  refine a_istore_n (lv' := [(2, .inl x_1), (0, .inr (2, 0)), (1, .inl x1)]) dX1_tryEnds_6 rfl (Nat.le_of_ble_eq_true rfl) rfl ?_
  refine a_aload_n 1 dX1_tryEnds_7 rfl rfl ?_
  refine t_ga 62 hT (by decide) q1574 rfl dX1_tryEnds_8 ?_
  refine a_iload_n 2 dX1_tryEnds_11 rfl rfl ?_
  refine t_ia (f := 62) rfl hT (by decide) h.1 dX1_tryEnds_12 ?_
  replace h := h.2
  refine a_topi (fun x_2 ex_2 => ?_)
  replace h := h x_2 ex_2
  refine a_istore_n (lv' := [(3, .inl x_2), (2, .inl x_1), (0, .inr (2, 0)), (1, .inl x1)]) dX1_tryEnds_13 rfl (Nat.le_of_ble_eq_true rfl) rfl ?_
  refine a_aload_n 2 dX1_tryEnds_14 rfl rfl ?_
  refine t_ga 53 hT (by decide) q1565 rfl dX1_tryEnds_15 ?_
  refine a_iload_n 0 dX1_tryEnds_18 rfl rfl ?_
  refine t_ia (f := 53) rfl hT (by decide) h.1 dX1_tryEnds_19 ?_
  replace h := h.2
  refine a_topi (fun x_3 ex_3 => ?_)
  replace h := h x_3 ex_3
  refine a_istore (lv' := [(4, .inl x_3), (3, .inl x_2), (2, .inl x_1), (0, .inr (2, 0)), (1, .inl x1)]) dX1_tryEnds_20 (Nat.le_of_ble_eq_true rfl) rfl ?_
  refine a_iconst (v := 0) dX1_tryEnds_22 (by decide) ?_
  refine a_istore (lv' := [(5, .inl 0), (4, .inl x_3), (3, .inl x_2), (2, .inl x_1), (0, .inr (2, 0)), (1, .inl x1)]) dX1_tryEnds_23 (Nat.le_of_ble_eq_true rfl) rfl ?_
  obtain ⟨n_, h⟩ := h
  exact wp_sub (by simp) (sd_tryEnds_25 hP hT n_ x1 x_1 x_2 x_3 0 t h)
theorem zmh_tryEnds : zmh yX1_tryEnds 1 := ⟨⟨by decide +kernel, by decide +kernel⟩, by decide +kernel⟩
abbrev mX1_tick : zMt := (yX1_tick, cX1_tick, 4, none)
def w_tick_456 (K409 : Int32 → DB → Prop) (x1 x2 : Int32) (t : DB) (Q : DB → Prop) : Prop := (x2 = 0 ∨ x2 = 1) ∧ vp_in x1 10 ∧ (∀ t_1 : DB, t_1 = up t 109 x1.toNatClampNeg x2 → (∀ x_2 : Int32, x_2 = x1 + 1 → (K409 x_2 t_1)))
set_option maxHeartbeats 4000000 in
theorem sd_tick_456 {d : Nat} {M : Mem} {P : Option AV → Mem → Prop} {Q : DB → Prop} (hP : ∀ t, Q t → P none (tput M t)) (hT : TW M) (K409 : Int32 → DB → Prop) (hK409 : ∀ (z1 : Int32) (t : DB), K409 z1 t → wp (d + 9) mX1_tick 409 [(0, .inr (2, 0)), (1, .inl z1)] [] (tput M t) P) (x1 x2 : Int32) (t : DB) (h : w_tick_456 K409 x1 x2 t Q) : wp (d + 9) mX1_tick 456 [(0, .inr (2, 0)), (1, .inl x1), (2, .inl x2)] [] (tput M t) P := by
  unfold w_tick_456 at h
  refine a_aload_n 0 dX1_tick_456 rfl rfl ?_
  refine t_ga 109 hT (by decide) q1621 rfl dX1_tick_457 ?_
  refine a_iload_n 1 dX1_tick_460 rfl rfl ?_
  refine a_iload_n 2 dX1_tick_461 rfl rfl ?_
  refine t_zs (f := 109) rfl hT (by decide) h.1 h.2.1 dX1_tick_462 ?_
  replace h := h.2.2
  refine a_topt (fun t_1 et_1 => ?_)
  replace h := h t_1 et_1
  obtain ⟨x_2, ex_2⟩ : ∃ y : Int32, y = x1 + 1 := ⟨_, rfl⟩
  replace h := h x_2 ex_2
  refine a_iinc (v := x_2) (lv' := [(1, .inl x_2), (0, .inr (2, 0)), (2, .inl x2)]) 1 dX1_tick_463 rfl (by rw [ex_2]; rfl) (Nat.le_of_ble_eq_true rfl) rfl ?_
  refine a_goto (tgt := 409) dX1_tick_466 (by decide) ?_
  exact wp_sub (by simp) (hK409 x_2 t_1 h)
def w_tick_409 : Nat → Int32 → DB → (DB → Prop) → Prop
  | 0, _, _, _ => False
  | n + 1, x1, t, Q => (((t 103 0) ≤ x1) → (Q t)) ∧ ((¬ (t 103 0) ≤ x1) → (w_isSo x1 t (fun r_2 t_1 => ((r_2 = 0) → (w_tick_456 (fun z1 t => w_tick_409 n z1 t Q) x1 r_2 t_1 Q)) ∧ ((¬ r_2 = 0) → (vp_in x1 10 ∧ (((¬ (t_1 109 x1.toNatClampNeg) = 0) → (w_tick_456 (fun z1 t => w_tick_409 n z1 t Q) x1 r_2 t_1 Q)) ∧ (((t_1 109 x1.toNatClampNeg) = 0) → (vp_in x1 10 ∧ (vp_in x1 10 ∧ (∀ t_3 : DB, t_3 = up t_1 107 x1.toNatClampNeg ((t_1 107 x1.toNatClampNeg) + 1) → (vp_in x1 10 ∧ (∀ t_4 : DB, t_4 = up t_3 108 x1.toNatClampNeg (t_3 0 0) → (w_tick_456 (fun z1 t => w_tick_409 n z1 t Q) x1 r_2 t_4 Q)))))))))))))
set_option maxHeartbeats 4000000 in
theorem sd_tick_409 {d : Nat} {M : Mem} {P : Option AV → Mem → Prop} {Q : DB → Prop} (hP : ∀ t, Q t → P none (tput M t)) (hT : TW M) : ∀ (n : Nat) (x1 : Int32) (t : DB), w_tick_409 n x1 t Q → wp (d + 9) mX1_tick 409 [(0, .inr (2, 0)), (1, .inl x1)] [] (tput M t) P := by
  intro n
  induction n with
  | zero => intro x1 t h; exact False.elim h
  | succ n ih =>
    intro x1 t h
    rw [w_tick_409] at h
    refine a_iload_n 1 dX1_tick_409 rfl rfl ?_
    refine a_aload_n 0 dX1_tick_410 rfl rfl ?_
    refine t_gi 103 (by decide) q1615 rfl dX1_tick_411 ?_
    refine a_icmp_ge (tgt := 469) dX1_tick_414 (by decide) (fun c_7 => ?_) (fun c_7 => ?_)
    · replace h := h.1 c_7
      exact a_vret rfl dX1_tick_469 (hP _ h)
    · replace h := h.2 c_7
      refine a_aload_n 0 dX1_tick_417 rfl rfl ?_
      refine a_iload_n 1 dX1_tick_418 rfl rfl ?_
      refine a_cv (y := mX1_isSo) (k := 2) (i := 0) (as := [.inl x1]) (st := []) (n := 1) (by decide) (Or.inl q2064) qs67 q2066 q73 q2067 zmh_isSo rfl (Nat.le_of_ble_eq_true rfl) (Nat.le_of_ble_eq_true rfl) dX1_tick_419 (sd_isSo (fun r_2 t_1 h => ?_) hT h)
      show wp (d + 9) mX1_tick 422 [(0, .inr (2, 0)), (1, .inl x1)] [.inl r_2] (tput M t_1) P
      refine a_istore_n (lv' := [(2, .inl r_2), (0, .inr (2, 0)), (1, .inl x1)]) dX1_tick_422 rfl (Nat.le_of_ble_eq_true rfl) rfl ?_
      refine a_iload_n 0 dX1_tick_423 rfl rfl ?_
      refine a_if_eq (tgt := 456) dX1_tick_424 (by decide) (fun c_6 => ?_) (fun c_6 => ?_)
      · replace h := h.1 c_6
        exact wp_sub (by simp) (sd_tick_456 hP hT _ ih x1 r_2 t_1 h)
      · replace h := h.2 c_6
        refine a_aload_n 1 dX1_tick_427 rfl rfl ?_
        refine t_ga 109 hT (by decide) q1621 rfl dX1_tick_428 ?_
        refine a_iload_n 2 dX1_tick_431 rfl rfl ?_
        refine t_za (f := 109) rfl hT (by decide) h.1 dX1_tick_432 ?_
        replace h := h.2
        refine a_if_ne (tgt := 456) dX1_tick_433 (by decide) (fun c_5 => ?_) (fun c_5 => ?_)
        · replace h := h.1 c_5
          exact wp_sub (by simp) (sd_tick_456 hP hT _ ih x1 r_2 t_1 h)
        · replace h := h.2 c_5
          refine a_aload_n 1 dX1_tick_436 rfl rfl ?_
          refine t_ga 107 hT (by decide) q1619 rfl dX1_tick_437 ?_
          refine a_iload_n 2 dX1_tick_440 rfl rfl ?_
          refine a_dup2 dX1_tick_441 ?_
          refine t_ia (f := 107) rfl hT (by decide) h.1 dX1_tick_442 ?_
          replace h := h.2
          refine a_iconst (v := 1) dX1_tick_443 (by decide) ?_
          refine a_iadd dX1_tick_444 ?_
          refine t_is (f := 107) rfl hT (by decide) h.1 dX1_tick_445 ?_
          replace h := h.2
          refine a_topt (fun t_3 et_3 => ?_)
          replace h := h t_3 et_3
          refine a_aload_n 1 dX1_tick_446 rfl rfl ?_
          refine t_ga 108 hT (by decide) q1620 rfl dX1_tick_447 ?_
          refine a_iload_n 2 dX1_tick_450 rfl rfl ?_
          refine a_aload_n 1 dX1_tick_451 rfl rfl ?_
          refine t_gi 0 (by decide) q1512 rfl dX1_tick_452 ?_
          refine t_is (f := 108) rfl hT (by decide) h.1 dX1_tick_455 ?_
          replace h := h.2
          refine a_topt (fun t_4 et_4 => ?_)
          replace h := h t_4 et_4
          exact wp_sub (by simp) (sd_tick_456 hP hT _ ih x1 r_2 t_4 h)
def w_tick_388 : Nat → Int32 → DB → (DB → Prop) → Prop
  | 0, _, _, _ => False
  | n + 1, x1, t, Q => (((t 89 0) ≤ x1) → (∃ n_, w_tick_409 n_ 0 t Q)) ∧ ((¬ (t 89 0) ≤ x1) → (w_planDue x1 t (fun t_1 => ∀ x_3 : Int32, x_3 = x1 + 1 → (w_tick_388 n x_3 t_1 Q))))
set_option maxHeartbeats 4000000 in
theorem sd_tick_388 {d : Nat} {M : Mem} {P : Option AV → Mem → Prop} {Q : DB → Prop} (hP : ∀ t, Q t → P none (tput M t)) (hT : TW M) : ∀ (n : Nat) (x1 : Int32) (t : DB), w_tick_388 n x1 t Q → wp (d + 9) mX1_tick 388 [(0, .inr (2, 0)), (1, .inl x1)] [] (tput M t) P := by
  intro n
  induction n with
  | zero => intro x1 t h; exact False.elim h
  | succ n ih =>
    intro x1 t h
    rw [w_tick_388] at h
    refine a_iload_n 1 dX1_tick_388 rfl rfl ?_
    refine a_aload_n 0 dX1_tick_389 rfl rfl ?_
    refine t_gi 89 (by decide) q1601 rfl dX1_tick_390 ?_
    refine a_icmp_ge (tgt := 407) dX1_tick_393 (by decide) (fun c_4 => ?_) (fun c_4 => ?_)
    · replace h := h.1 c_4
      refine a_iconst (v := 0) dX1_tick_407 (by decide) ?_
      refine a_istore_n (lv' := [(1, .inl 0), (0, .inr (2, 0))]) dX1_tick_408 rfl (Nat.le_of_ble_eq_true rfl) rfl ?_
      obtain ⟨n_, h⟩ := h
      exact wp_sub (by simp) (sd_tick_409 hP hT n_ 0 t h)
    · replace h := h.2 c_4
      refine a_aload_n 0 dX1_tick_396 rfl rfl ?_
      refine a_iload_n 1 dX1_tick_397 rfl rfl ?_
      refine a_cv (y := mX1_planDue) (k := 2) (i := 0) (as := [.inl x1]) (st := []) (n := 1) (by decide) (Or.inl q2060) qs66 q2062 q73 q2063 zmh_planDue rfl (Nat.le_of_ble_eq_true rfl) (Nat.le_of_ble_eq_true rfl) dX1_tick_398 (sd_planDue (fun t_1 h => ?_) hT h)
      show wp (d + 9) mX1_tick 401 [(0, .inr (2, 0)), (1, .inl x1)] [] (tput M t_1) P
      obtain ⟨x_3, ex_3⟩ : ∃ y : Int32, y = x1 + 1 := ⟨_, rfl⟩
      replace h := h x_3 ex_3
      refine a_iinc (v := x_3) (lv' := [(1, .inl x_3), (0, .inr (2, 0))]) 1 dX1_tick_401 rfl (by rw [ex_3]; rfl) (Nat.le_of_ble_eq_true rfl) rfl ?_
      refine a_goto (tgt := 388) dX1_tick_404 (by decide) ?_
      exact wp_sub (by simp) (ih x_3 t_1 h)
def w_tick_320 : Nat → (Int32 → DB → Prop) → (Int32 → DB → Prop) → Int32 → Int32 → Int32 → DB → (DB → Prop) → Prop
  | 0, _, _, _, _, _, _, _ => False
  | n + 1, K256, K264, x1, x2, x3, t, Q => vp_in x1 24 ∧ ((((t 40 x1.toNatClampNeg) ≤ x3) → (vp_in x2 4400 ∧ (∀ t_1 : DB, t_1 = up t 75 x2.toNatClampNeg 0 → (w_setToWork x2 x1 t_1 (fun t_2 => w_work t_2 (fun t_4 => K264 x1 t_4)))))) ∧ ((¬ (t 40 x1.toNatClampNeg) ≤ x3) → (vp_in (((10 * x1) + x3) + 1) 240 ∧ (vp_in ((10 * x1) + x3) 240 ∧ (∀ t_6 : DB, t_6 = up t 43 ((10 * x1) + x3).toNatClampNeg (t 43 (((10 * x1) + x3) + 1).toNatClampNeg) → (∀ x_7 : Int32, x_7 = x3 + 1 → (w_tick_320 n K256 K264 x1 x2 x_7 t_6 Q)))))))
set_option maxHeartbeats 4000000 in
theorem sd_tick_320 {d : Nat} {M : Mem} {P : Option AV → Mem → Prop} {Q : DB → Prop} (hP : ∀ t, Q t → P none (tput M t)) (hT : TW M) (K256 : Int32 → DB → Prop) (hK256 : ∀ (z1 : Int32) (t : DB), K256 z1 t → wp (d + 9) mX1_tick 256 [(0, .inr (2, 0)), (1, .inl z1)] [] (tput M t) P) (K264 : Int32 → DB → Prop) (hK264 : ∀ (z1 : Int32) (t : DB), K264 z1 t → wp (d + 9) mX1_tick 264 [(0, .inr (2, 0)), (1, .inl z1)] [] (tput M t) P) : ∀ (n : Nat) (x1 x2 x3 : Int32) (t : DB), w_tick_320 n K256 K264 x1 x2 x3 t Q → wp (d + 9) mX1_tick 320 [(0, .inr (2, 0)), (1, .inl x1), (2, .inl x2), (3, .inl x3)] [] (tput M t) P := by
  intro n
  induction n with
  | zero => intro x1 x2 x3 t h; exact False.elim h
  | succ n ih =>
    intro x1 x2 x3 t h
    rw [w_tick_320] at h
    refine a_iload_n 3 dX1_tick_320 rfl rfl ?_
    refine a_aload_n 0 dX1_tick_321 rfl rfl ?_
    refine t_ga 40 hT (by decide) q1552 rfl dX1_tick_322 ?_
    refine a_iload_n 1 dX1_tick_325 rfl rfl ?_
    refine t_ia (f := 40) rfl hT (by decide) h.1 dX1_tick_326 ?_
    replace h := h.2
    refine a_icmp_ge (tgt := 360) dX1_tick_327 (by decide) (fun c_8 => ?_) (fun c_8 => ?_)
    · replace h := h.1 c_8
      refine a_aload_n 0 dX1_tick_360 rfl rfl ?_
      refine t_ga 75 hT (by decide) q1587 rfl dX1_tick_361 ?_
      refine a_iload_n 2 dX1_tick_364 rfl rfl ?_
      refine a_iconst (v := 0) dX1_tick_365 (by decide) ?_
      refine t_zs (f := 75) rfl hT (by decide) (by decide) h.1 dX1_tick_366 ?_
      replace h := h.2
      refine a_topt (fun t_1 et_1 => ?_)
      replace h := h t_1 et_1
      refine a_aload_n 0 dX1_tick_367 rfl rfl ?_
      refine a_iload_n 2 dX1_tick_368 rfl rfl ?_
      refine a_iload_n 1 dX1_tick_369 rfl rfl ?_
      refine a_cv (y := mX1_setToWork) (k := 2) (i := 0) (as := [.inl x2, .inl x1]) (st := []) (n := 2) (by decide) (Or.inl q1940) qs43 q1942 q73 q1943 zmh_setToWork rfl (Nat.le_of_ble_eq_true rfl) (Nat.le_of_ble_eq_true rfl) dX1_tick_370 (sd_setToWork (fun t_2 h => ?_) hT h)
      show wp (d + 9) mX1_tick 373 [(0, .inr (2, 0)), (1, .inl x1), (2, .inl x2), (3, .inl x3)] [] (tput M t_2) P
      refine a_aload_n 0 dX1_tick_373 rfl rfl ?_
      refine a_cv (y := mX1_work) (k := 2) (i := 0) (as := []) (st := []) (n := 0) (by decide) (Or.inl q1920) qs38 q1922 q73 q1923 zmh_work rfl (Nat.le_of_ble_eq_true rfl) (Nat.le_of_ble_eq_true rfl) dX1_tick_374 (sd_work (fun t_4 h => ?_) hT h)
      show wp (d + 9) mX1_tick 377 [(0, .inr (2, 0)), (1, .inl x1), (2, .inl x2), (3, .inl x3)] [] (tput M t_4) P
      refine a_goto (tgt := 264) dX1_tick_377 (by decide) ?_
      exact wp_sub (by simp) (hK264 x1 t_4 h)
    · replace h := h.2 c_8
      refine a_aload_n 0 dX1_tick_330 rfl rfl ?_
      refine t_ga 43 hT (by decide) q1555 rfl dX1_tick_331 ?_
      refine a_bipush (v := 10) dX1_tick_334 (by decide) ?_
      refine a_iload_n 1 dX1_tick_336 rfl rfl ?_
      refine a_imul dX1_tick_337 ?_
      refine a_iload_n 3 dX1_tick_338 rfl rfl ?_
      refine a_iadd dX1_tick_339 ?_
      refine a_aload_n 0 dX1_tick_340 rfl rfl ?_
      refine t_ga 43 hT (by decide) q1555 rfl dX1_tick_341 ?_
      refine a_bipush (v := 10) dX1_tick_344 (by decide) ?_
      refine a_iload_n 1 dX1_tick_346 rfl rfl ?_
      refine a_imul dX1_tick_347 ?_
      refine a_iload_n 3 dX1_tick_348 rfl rfl ?_
      refine a_iadd dX1_tick_349 ?_
      refine a_iconst (v := 1) dX1_tick_350 (by decide) ?_
      refine a_iadd dX1_tick_351 ?_
      refine t_ia (f := 43) rfl hT (by decide) h.1 dX1_tick_352 ?_
      replace h := h.2
      refine t_is (f := 43) rfl hT (by decide) h.1 dX1_tick_353 ?_
      replace h := h.2
      refine a_topt (fun t_6 et_6 => ?_)
      replace h := h t_6 et_6
      obtain ⟨x_7, ex_7⟩ : ∃ y : Int32, y = x3 + 1 := ⟨_, rfl⟩
      replace h := h x_7 ex_7
      refine a_iinc (v := x_7) (lv' := [(3, .inl x_7), (0, .inr (2, 0)), (1, .inl x1), (2, .inl x2)]) 3 dX1_tick_354 rfl (by rw [ex_7]; rfl) (Nat.le_of_ble_eq_true rfl) rfl ?_
      refine a_goto (tgt := 320) dX1_tick_357 (by decide) ?_
      exact wp_sub (by simp) (ih x1 x2 x_7 t_6 h)
def w_tick_264 : Nat → (Int32 → DB → Prop) → Int32 → DB → (DB → Prop) → Prop
  | 0, _, _, _, _ => False
  | n + 1, K256, x1, t, Q => vp_in x1 24 ∧ (((¬ (t 31 x1.toNatClampNeg) = 1) → (∀ x_1 : Int32, x_1 = x1 + 1 → (K256 x_1 t))) ∧ (((t 31 x1.toNatClampNeg) = 1) → (vp_in x1 24 ∧ (vp_in x1 24 ∧ ((((t 32 x1.toNatClampNeg) ≤ (t 39 x1.toNatClampNeg)) → (∀ x_2 : Int32, x_2 = x1 + 1 → (K256 x_2 t))) ∧ ((¬ (t 32 x1.toNatClampNeg) ≤ (t 39 x1.toNatClampNeg)) → (vp_in x1 24 ∧ ((((t 40 x1.toNatClampNeg) ≤ 0) → (∀ x_3 : Int32, x_3 = x1 + 1 → (K256 x_3 t))) ∧ ((¬ (t 40 x1.toNatClampNeg) ≤ 0) → (vp_in (10 * x1) 240 ∧ (∀ x_4 : Int32, x_4 = t 43 (10 * x1).toNatClampNeg → (vp_in x1 24 ∧ (vp_in x1 24 ∧ (∀ t_5 : DB, t_5 = up t 40 x1.toNatClampNeg ((t 40 x1.toNatClampNeg) - 1) → (∃ n_, w_tick_320 n_ K256 (fun z1 t => w_tick_264 n K256 z1 t Q) x1 x_4 0 t_5 Q)))))))))))))))
set_option maxHeartbeats 4000000 in
theorem sd_tick_264 {d : Nat} {M : Mem} {P : Option AV → Mem → Prop} {Q : DB → Prop} (hP : ∀ t, Q t → P none (tput M t)) (hT : TW M) (K256 : Int32 → DB → Prop) (hK256 : ∀ (z1 : Int32) (t : DB), K256 z1 t → wp (d + 9) mX1_tick 256 [(0, .inr (2, 0)), (1, .inl z1)] [] (tput M t) P) : ∀ (n : Nat) (x1 : Int32) (t : DB), w_tick_264 n K256 x1 t Q → wp (d + 9) mX1_tick 264 [(0, .inr (2, 0)), (1, .inl x1)] [] (tput M t) P := by
  intro n
  induction n with
  | zero => intro x1 t h; exact False.elim h
  | succ n ih =>
    intro x1 t h
    rw [w_tick_264] at h
    refine a_aload_n 0 dX1_tick_264 rfl rfl ?_
    refine t_ga 31 hT (by decide) q1543 rfl dX1_tick_265 ?_
    refine a_iload_n 1 dX1_tick_268 rfl rfl ?_
    refine t_ia (f := 31) rfl hT (by decide) h.1 dX1_tick_269 ?_
    replace h := h.2
    refine a_iconst (v := 1) dX1_tick_270 (by decide) ?_
    refine a_icmp_ne (tgt := 380) dX1_tick_271 (by decide) (fun c_8 => ?_) (fun c_8 => ?_)
    · replace h := h.1 c_8
      obtain ⟨x_1, ex_1⟩ : ∃ y : Int32, y = x1 + 1 := ⟨_, rfl⟩
      replace h := h x_1 ex_1
      refine a_iinc (v := x_1) (lv' := [(1, .inl x_1), (0, .inr (2, 0))]) 1 dX1_tick_380 rfl (by rw [ex_1]; rfl) (Nat.le_of_ble_eq_true rfl) rfl ?_
      refine a_goto (tgt := 256) dX1_tick_383 (by decide) ?_
      exact wp_sub (by simp) (hK256 x_1 t h)
    · replace h := h.2 c_8
      refine a_aload_n 0 dX1_tick_274 rfl rfl ?_
      refine t_ga 39 hT (by decide) q1551 rfl dX1_tick_275 ?_
      refine a_iload_n 1 dX1_tick_278 rfl rfl ?_
      refine t_ia (f := 39) rfl hT (by decide) h.1 dX1_tick_279 ?_
      replace h := h.2
      refine a_aload_n 0 dX1_tick_280 rfl rfl ?_
      refine t_ga 32 hT (by decide) q1544 rfl dX1_tick_281 ?_
      refine a_iload_n 1 dX1_tick_284 rfl rfl ?_
      refine t_ia (f := 32) rfl hT (by decide) h.1 dX1_tick_285 ?_
      replace h := h.2
      refine a_icmp_ge (tgt := 380) dX1_tick_286 (by decide) (fun c_7 => ?_) (fun c_7 => ?_)
      · replace h := h.1 c_7
        obtain ⟨x_2, ex_2⟩ : ∃ y : Int32, y = x1 + 1 := ⟨_, rfl⟩
        replace h := h x_2 ex_2
        refine a_iinc (v := x_2) (lv' := [(1, .inl x_2), (0, .inr (2, 0))]) 1 dX1_tick_380 rfl (by rw [ex_2]; rfl) (Nat.le_of_ble_eq_true rfl) rfl ?_
        refine a_goto (tgt := 256) dX1_tick_383 (by decide) ?_
        exact wp_sub (by simp) (hK256 x_2 t h)
      · replace h := h.2 c_7
        refine a_aload_n 0 dX1_tick_289 rfl rfl ?_
        refine t_ga 40 hT (by decide) q1552 rfl dX1_tick_290 ?_
        refine a_iload_n 1 dX1_tick_293 rfl rfl ?_
        refine t_ia (f := 40) rfl hT (by decide) h.1 dX1_tick_294 ?_
        replace h := h.2
        refine a_if_le (tgt := 380) dX1_tick_295 (by decide) (fun c_6 => ?_) (fun c_6 => ?_)
        · replace h := h.1 c_6
          obtain ⟨x_3, ex_3⟩ : ∃ y : Int32, y = x1 + 1 := ⟨_, rfl⟩
          replace h := h x_3 ex_3
          refine a_iinc (v := x_3) (lv' := [(1, .inl x_3), (0, .inr (2, 0))]) 1 dX1_tick_380 rfl (by rw [ex_3]; rfl) (Nat.le_of_ble_eq_true rfl) rfl ?_
          refine a_goto (tgt := 256) dX1_tick_383 (by decide) ?_
          exact wp_sub (by simp) (hK256 x_3 t h)
        · replace h := h.2 c_6
          refine a_aload_n 0 dX1_tick_298 rfl rfl ?_
          refine t_ga 43 hT (by decide) q1555 rfl dX1_tick_299 ?_
          refine a_bipush (v := 10) dX1_tick_302 (by decide) ?_
          refine a_iload_n 1 dX1_tick_304 rfl rfl ?_
          refine a_imul dX1_tick_305 ?_
          refine t_ia (f := 43) rfl hT (by decide) h.1 dX1_tick_306 ?_
          replace h := h.2
          refine a_topi (fun x_4 ex_4 => ?_)
          replace h := h x_4 ex_4
          refine a_istore_n (lv' := [(2, .inl x_4), (0, .inr (2, 0)), (1, .inl x1)]) dX1_tick_307 rfl (Nat.le_of_ble_eq_true rfl) rfl ?_
          refine a_aload_n 1 dX1_tick_308 rfl rfl ?_
          refine t_ga 40 hT (by decide) q1552 rfl dX1_tick_309 ?_
          refine a_iload_n 2 dX1_tick_312 rfl rfl ?_
          refine a_dup2 dX1_tick_313 ?_
          refine t_ia (f := 40) rfl hT (by decide) h.1 dX1_tick_314 ?_
          replace h := h.2
          refine a_iconst (v := 1) dX1_tick_315 (by decide) ?_
          refine a_isub dX1_tick_316 ?_
          refine t_is (f := 40) rfl hT (by decide) h.1 dX1_tick_317 ?_
          replace h := h.2
          refine a_topt (fun t_5 et_5 => ?_)
          replace h := h t_5 et_5
          refine a_iconst (v := 0) dX1_tick_318 (by decide) ?_
          refine a_istore_n (lv' := [(3, .inl 0), (2, .inl x_4), (0, .inr (2, 0)), (1, .inl x1)]) dX1_tick_319 rfl (Nat.le_of_ble_eq_true rfl) rfl ?_
          obtain ⟨n_, h⟩ := h
          exact wp_sub (by simp) (sd_tick_320 hP hT _ hK256 _ ih n_ x1 x_4 0 t_5 h)
def w_tick_256 : Nat → Int32 → DB → (DB → Prop) → Prop
  | 0, _, _, _ => False
  | n + 1, x1, t, Q => (((t 30 0) ≤ x1) → (∃ n_, w_tick_388 n_ 0 t Q)) ∧ ((¬ (t 30 0) ≤ x1) → (∃ n_, w_tick_264 n_ (fun z1 t => w_tick_256 n z1 t Q) x1 t Q))
set_option maxHeartbeats 4000000 in
theorem sd_tick_256 {d : Nat} {M : Mem} {P : Option AV → Mem → Prop} {Q : DB → Prop} (hP : ∀ t, Q t → P none (tput M t)) (hT : TW M) : ∀ (n : Nat) (x1 : Int32) (t : DB), w_tick_256 n x1 t Q → wp (d + 9) mX1_tick 256 [(0, .inr (2, 0)), (1, .inl x1)] [] (tput M t) P := by
  intro n
  induction n with
  | zero => intro x1 t h; exact False.elim h
  | succ n ih =>
    intro x1 t h
    rw [w_tick_256] at h
    refine a_iload_n 1 dX1_tick_256 rfl rfl ?_
    refine a_aload_n 0 dX1_tick_257 rfl rfl ?_
    refine t_gi 30 (by decide) q1542 rfl dX1_tick_258 ?_
    refine a_icmp_ge (tgt := 386) dX1_tick_261 (by decide) (fun c_1 => ?_) (fun c_1 => ?_)
    · replace h := h.1 c_1
      refine a_iconst (v := 0) dX1_tick_386 (by decide) ?_
      refine a_istore_n (lv' := [(1, .inl 0), (0, .inr (2, 0))]) dX1_tick_387 rfl (Nat.le_of_ble_eq_true rfl) rfl ?_
      obtain ⟨n_, h⟩ := h
      exact wp_sub (by simp) (sd_tick_388 hP hT n_ 0 t h)
    · replace h := h.2 c_1
      obtain ⟨n_, h⟩ := h
      exact wp_sub (by simp) (sd_tick_264 hP hT _ ih n_ x1 t h)
def w_tick_207 (K88 : Int32 → DB → Prop) (K95 : Int32 → Int32 → DB → Prop) (x1 x2 x3 : Int32) (t : DB) (Q : DB → Prop) : Prop := ((¬ x1 = 3) → (w_work t (fun t_1 => ∀ x_3 : Int32, x_3 = x2 + 1 → (K95 x1 x_3 t_1)))) ∧ ((x1 = 3) → (((¬ x3 = 4) → (w_work t (fun t_4 => ∀ x_6 : Int32, x_6 = x2 + 1 → (K95 x1 x_6 t_4)))) ∧ ((x3 = 4) → (vp_in x2 4400 ∧ ((((t 76 x2.toNatClampNeg) = 0) → (w_work t (fun t_7 => ∀ x_9 : Int32, x_9 = x2 + 1 → (K95 x1 x_9 t_7)))) ∧ ((¬ (t 76 x2.toNatClampNeg) = 0) → (vp_in x2 4400 ∧ (∀ t_10 : DB, t_10 = up t 76 x2.toNatClampNeg 0 → (w_goesIn x2 t_10 (fun t_11 => w_work t_11 (fun t_13 => ∀ x_15 : Int32, x_15 = x2 + 1 → (K95 x1 x_15 t_13))))))))))))
set_option maxHeartbeats 4000000 in
theorem sd_tick_207 {d : Nat} {M : Mem} {P : Option AV → Mem → Prop} {Q : DB → Prop} (hP : ∀ t, Q t → P none (tput M t)) (hT : TW M) (K88 : Int32 → DB → Prop) (hK88 : ∀ (z1 : Int32) (t : DB), K88 z1 t → wp (d + 9) mX1_tick 88 [(0, .inr (2, 0)), (1, .inl z1)] [] (tput M t) P) (K95 : Int32 → Int32 → DB → Prop) (hK95 : ∀ (z1 : Int32) (z2 : Int32) (t : DB), K95 z1 z2 t → wp (d + 9) mX1_tick 95 [(0, .inr (2, 0)), (1, .inl z1), (2, .inl z2)] [] (tput M t) P) (x1 x2 x3 : Int32) (t : DB) (h : w_tick_207 K88 K95 x1 x2 x3 t Q) : wp (d + 9) mX1_tick 207 [(0, .inr (2, 0)), (1, .inl x1), (2, .inl x2), (3, .inl x3)] [] (tput M t) P := by
  unfold w_tick_207 at h
  refine a_iload_n 1 dX1_tick_207 rfl rfl ?_
  refine a_iconst (v := 3) dX1_tick_208 (by decide) ?_
  refine a_icmp_ne (tgt := 238) dX1_tick_209 (by decide) (fun c_18 => ?_) (fun c_18 => ?_)
  · replace h := h.1 c_18
    refine a_aload_n 0 dX1_tick_238 rfl rfl ?_
    refine a_cv (y := mX1_work) (k := 2) (i := 0) (as := []) (st := []) (n := 0) (by decide) (Or.inl q1920) qs38 q1922 q73 q1923 zmh_work rfl (Nat.le_of_ble_eq_true rfl) (Nat.le_of_ble_eq_true rfl) dX1_tick_239 (sd_work (fun t_1 h => ?_) hT h)
    show wp (d + 9) mX1_tick 242 [(0, .inr (2, 0)), (1, .inl x1), (2, .inl x2), (3, .inl x3)] [] (tput M t_1) P
    obtain ⟨x_3, ex_3⟩ : ∃ y : Int32, y = x2 + 1 := ⟨_, rfl⟩
    replace h := h x_3 ex_3
    refine a_iinc (v := x_3) (lv' := [(2, .inl x_3), (0, .inr (2, 0)), (1, .inl x1), (3, .inl x3)]) 2 dX1_tick_242 rfl (by rw [ex_3]; rfl) (Nat.le_of_ble_eq_true rfl) rfl ?_
    refine a_goto (tgt := 95) dX1_tick_245 (by decide) ?_
    exact wp_sub (by simp) (hK95 x1 x_3 t_1 h)
  · replace h := h.2 c_18
    refine a_iload_n 3 dX1_tick_212 rfl rfl ?_
    refine a_iconst (v := 4) dX1_tick_213 (by decide) ?_
    refine a_icmp_ne (tgt := 238) dX1_tick_214 (by decide) (fun c_17 => ?_) (fun c_17 => ?_)
    · replace h := h.1 c_17
      refine a_aload_n 0 dX1_tick_238 rfl rfl ?_
      refine a_cv (y := mX1_work) (k := 2) (i := 0) (as := []) (st := []) (n := 0) (by decide) (Or.inl q1920) qs38 q1922 q73 q1923 zmh_work rfl (Nat.le_of_ble_eq_true rfl) (Nat.le_of_ble_eq_true rfl) dX1_tick_239 (sd_work (fun t_4 h => ?_) hT h)
      show wp (d + 9) mX1_tick 242 [(0, .inr (2, 0)), (1, .inl x1), (2, .inl x2), (3, .inl x3)] [] (tput M t_4) P
      obtain ⟨x_6, ex_6⟩ : ∃ y : Int32, y = x2 + 1 := ⟨_, rfl⟩
      replace h := h x_6 ex_6
      refine a_iinc (v := x_6) (lv' := [(2, .inl x_6), (0, .inr (2, 0)), (1, .inl x1), (3, .inl x3)]) 2 dX1_tick_242 rfl (by rw [ex_6]; rfl) (Nat.le_of_ble_eq_true rfl) rfl ?_
      refine a_goto (tgt := 95) dX1_tick_245 (by decide) ?_
      exact wp_sub (by simp) (hK95 x1 x_6 t_4 h)
    · replace h := h.2 c_17
      refine a_aload_n 0 dX1_tick_217 rfl rfl ?_
      refine t_ga 76 hT (by decide) q1588 rfl dX1_tick_218 ?_
      refine a_iload_n 2 dX1_tick_221 rfl rfl ?_
      refine t_za (f := 76) rfl hT (by decide) h.1 dX1_tick_222 ?_
      replace h := h.2
      refine a_if_eq (tgt := 238) dX1_tick_223 (by decide) (fun c_16 => ?_) (fun c_16 => ?_)
      · replace h := h.1 c_16
        refine a_aload_n 0 dX1_tick_238 rfl rfl ?_
        refine a_cv (y := mX1_work) (k := 2) (i := 0) (as := []) (st := []) (n := 0) (by decide) (Or.inl q1920) qs38 q1922 q73 q1923 zmh_work rfl (Nat.le_of_ble_eq_true rfl) (Nat.le_of_ble_eq_true rfl) dX1_tick_239 (sd_work (fun t_7 h => ?_) hT h)
        show wp (d + 9) mX1_tick 242 [(0, .inr (2, 0)), (1, .inl x1), (2, .inl x2), (3, .inl x3)] [] (tput M t_7) P
        obtain ⟨x_9, ex_9⟩ : ∃ y : Int32, y = x2 + 1 := ⟨_, rfl⟩
        replace h := h x_9 ex_9
        refine a_iinc (v := x_9) (lv' := [(2, .inl x_9), (0, .inr (2, 0)), (1, .inl x1), (3, .inl x3)]) 2 dX1_tick_242 rfl (by rw [ex_9]; rfl) (Nat.le_of_ble_eq_true rfl) rfl ?_
        refine a_goto (tgt := 95) dX1_tick_245 (by decide) ?_
        exact wp_sub (by simp) (hK95 x1 x_9 t_7 h)
      · replace h := h.2 c_16
        refine a_aload_n 0 dX1_tick_226 rfl rfl ?_
        refine t_ga 76 hT (by decide) q1588 rfl dX1_tick_227 ?_
        refine a_iload_n 2 dX1_tick_230 rfl rfl ?_
        refine a_iconst (v := 0) dX1_tick_231 (by decide) ?_
        refine t_zs (f := 76) rfl hT (by decide) (by decide) h.1 dX1_tick_232 ?_
        replace h := h.2
        refine a_topt (fun t_10 et_10 => ?_)
        replace h := h t_10 et_10
        refine a_aload_n 0 dX1_tick_233 rfl rfl ?_
        refine a_iload_n 2 dX1_tick_234 rfl rfl ?_
        refine a_cv (y := mX1_goesIn) (k := 2) (i := 0) (as := [.inl x2]) (st := []) (n := 1) (by decide) (Or.inl q1936) qs42 q1938 q73 q1939 zmh_goesIn rfl (Nat.le_of_ble_eq_true rfl) (Nat.le_of_ble_eq_true rfl) dX1_tick_235 (sd_goesIn (fun t_11 h => ?_) hT h)
        show wp (d + 9) mX1_tick 238 [(0, .inr (2, 0)), (1, .inl x1), (2, .inl x2), (3, .inl x3)] [] (tput M t_11) P
        refine a_aload_n 0 dX1_tick_238 rfl rfl ?_
        refine a_cv (y := mX1_work) (k := 2) (i := 0) (as := []) (st := []) (n := 0) (by decide) (Or.inl q1920) qs38 q1922 q73 q1923 zmh_work rfl (Nat.le_of_ble_eq_true rfl) (Nat.le_of_ble_eq_true rfl) dX1_tick_239 (sd_work (fun t_13 h => ?_) hT h)
        show wp (d + 9) mX1_tick 242 [(0, .inr (2, 0)), (1, .inl x1), (2, .inl x2), (3, .inl x3)] [] (tput M t_13) P
        obtain ⟨x_15, ex_15⟩ : ∃ y : Int32, y = x2 + 1 := ⟨_, rfl⟩
        replace h := h x_15 ex_15
        refine a_iinc (v := x_15) (lv' := [(2, .inl x_15), (0, .inr (2, 0)), (1, .inl x1), (3, .inl x3)]) 2 dX1_tick_242 rfl (by rw [ex_15]; rfl) (Nat.le_of_ble_eq_true rfl) rfl ?_
        refine a_goto (tgt := 95) dX1_tick_245 (by decide) ?_
        exact wp_sub (by simp) (hK95 x1 x_15 t_13 h)
def w_tick_182 (K88 : Int32 → DB → Prop) (K95 : Int32 → Int32 → DB → Prop) (x1 x2 x3 : Int32) (t : DB) (Q : DB → Prop) : Prop := ((¬ x1 = 2) → (w_tick_207 K88 K95 x1 x2 x3 t Q)) ∧ ((x1 = 2) → (((¬ x3 = 5) → (w_tick_207 K88 K95 x1 x2 x3 t Q)) ∧ ((x3 = 5) → (vp_in x2 4400 ∧ (((¬ (t 73 x2.toNatClampNeg) = 1) → (w_tick_207 K88 K95 x1 x2 x3 t Q)) ∧ (((t 73 x2.toNatClampNeg) = 1) → (w_goesIn x2 t (fun t_1 => w_tick_207 K88 K95 x1 x2 x3 t_1 Q))))))))
set_option maxHeartbeats 4000000 in
theorem sd_tick_182 {d : Nat} {M : Mem} {P : Option AV → Mem → Prop} {Q : DB → Prop} (hP : ∀ t, Q t → P none (tput M t)) (hT : TW M) (K88 : Int32 → DB → Prop) (hK88 : ∀ (z1 : Int32) (t : DB), K88 z1 t → wp (d + 9) mX1_tick 88 [(0, .inr (2, 0)), (1, .inl z1)] [] (tput M t) P) (K95 : Int32 → Int32 → DB → Prop) (hK95 : ∀ (z1 : Int32) (z2 : Int32) (t : DB), K95 z1 z2 t → wp (d + 9) mX1_tick 95 [(0, .inr (2, 0)), (1, .inl z1), (2, .inl z2)] [] (tput M t) P) (x1 x2 x3 : Int32) (t : DB) (h : w_tick_182 K88 K95 x1 x2 x3 t Q) : wp (d + 9) mX1_tick 182 [(0, .inr (2, 0)), (1, .inl x1), (2, .inl x2), (3, .inl x3)] [] (tput M t) P := by
  unfold w_tick_182 at h
  refine a_iload_n 1 dX1_tick_182 rfl rfl ?_
  refine a_iconst (v := 2) dX1_tick_183 (by decide) ?_
  refine a_icmp_ne (tgt := 207) dX1_tick_184 (by decide) (fun c_5 => ?_) (fun c_5 => ?_)
  · replace h := h.1 c_5
    exact wp_sub (by simp) (sd_tick_207 hP hT _ hK88 _ hK95 x1 x2 x3 t h)
  · replace h := h.2 c_5
    refine a_iload_n 3 dX1_tick_187 rfl rfl ?_
    refine a_iconst (v := 5) dX1_tick_188 (by decide) ?_
    refine a_icmp_ne (tgt := 207) dX1_tick_189 (by decide) (fun c_4 => ?_) (fun c_4 => ?_)
    · replace h := h.1 c_4
      exact wp_sub (by simp) (sd_tick_207 hP hT _ hK88 _ hK95 x1 x2 x3 t h)
    · replace h := h.2 c_4
      refine a_aload_n 0 dX1_tick_192 rfl rfl ?_
      refine t_ga 73 hT (by decide) q1585 rfl dX1_tick_193 ?_
      refine a_iload_n 2 dX1_tick_196 rfl rfl ?_
      refine t_ia (f := 73) rfl hT (by decide) h.1 dX1_tick_197 ?_
      replace h := h.2
      refine a_iconst (v := 1) dX1_tick_198 (by decide) ?_
      refine a_icmp_ne (tgt := 207) dX1_tick_199 (by decide) (fun c_3 => ?_) (fun c_3 => ?_)
      · replace h := h.1 c_3
        exact wp_sub (by simp) (sd_tick_207 hP hT _ hK88 _ hK95 x1 x2 x3 t h)
      · replace h := h.2 c_3
        refine a_aload_n 0 dX1_tick_202 rfl rfl ?_
        refine a_iload_n 2 dX1_tick_203 rfl rfl ?_
        refine a_cv (y := mX1_goesIn) (k := 2) (i := 0) (as := [.inl x2]) (st := []) (n := 1) (by decide) (Or.inl q1936) qs42 q1938 q73 q1939 zmh_goesIn rfl (Nat.le_of_ble_eq_true rfl) (Nat.le_of_ble_eq_true rfl) dX1_tick_204 (sd_goesIn (fun t_1 h => ?_) hT h)
        show wp (d + 9) mX1_tick 207 [(0, .inr (2, 0)), (1, .inl x1), (2, .inl x2), (3, .inl x3)] [] (tput M t_1) P
        exact wp_sub (by simp) (sd_tick_207 hP hT _ hK88 _ hK95 x1 x2 x3 t_1 h)
def w_tick_167 (K88 : Int32 → DB → Prop) (K95 : Int32 → Int32 → DB → Prop) (x1 x2 x3 : Int32) (t : DB) (Q : DB → Prop) : Prop := ((¬ x1 = 1) → (w_tick_182 K88 K95 x1 x2 x3 t Q)) ∧ ((x1 = 1) → (((¬ x3 = 3) → (w_tick_182 K88 K95 x1 x2 x3 t Q)) ∧ ((x3 = 3) → (w_late x2 t (fun t_1 => w_tick_182 K88 K95 x1 x2 x3 t_1 Q)))))
set_option maxHeartbeats 4000000 in
theorem sd_tick_167 {d : Nat} {M : Mem} {P : Option AV → Mem → Prop} {Q : DB → Prop} (hP : ∀ t, Q t → P none (tput M t)) (hT : TW M) (K88 : Int32 → DB → Prop) (hK88 : ∀ (z1 : Int32) (t : DB), K88 z1 t → wp (d + 9) mX1_tick 88 [(0, .inr (2, 0)), (1, .inl z1)] [] (tput M t) P) (K95 : Int32 → Int32 → DB → Prop) (hK95 : ∀ (z1 : Int32) (z2 : Int32) (t : DB), K95 z1 z2 t → wp (d + 9) mX1_tick 95 [(0, .inr (2, 0)), (1, .inl z1), (2, .inl z2)] [] (tput M t) P) (x1 x2 x3 : Int32) (t : DB) (h : w_tick_167 K88 K95 x1 x2 x3 t Q) : wp (d + 9) mX1_tick 167 [(0, .inr (2, 0)), (1, .inl x1), (2, .inl x2), (3, .inl x3)] [] (tput M t) P := by
  unfold w_tick_167 at h
  refine a_iload_n 1 dX1_tick_167 rfl rfl ?_
  refine a_iconst (v := 1) dX1_tick_168 (by decide) ?_
  refine a_icmp_ne (tgt := 182) dX1_tick_169 (by decide) (fun c_4 => ?_) (fun c_4 => ?_)
  · replace h := h.1 c_4
    exact wp_sub (by simp) (sd_tick_182 hP hT _ hK88 _ hK95 x1 x2 x3 t h)
  · replace h := h.2 c_4
    refine a_iload_n 3 dX1_tick_172 rfl rfl ?_
    refine a_iconst (v := 3) dX1_tick_173 (by decide) ?_
    refine a_icmp_ne (tgt := 182) dX1_tick_174 (by decide) (fun c_3 => ?_) (fun c_3 => ?_)
    · replace h := h.1 c_3
      exact wp_sub (by simp) (sd_tick_182 hP hT _ hK88 _ hK95 x1 x2 x3 t h)
    · replace h := h.2 c_3
      refine a_aload_n 0 dX1_tick_177 rfl rfl ?_
      refine a_iload_n 2 dX1_tick_178 rfl rfl ?_
      refine a_cv (y := mX1_late) (k := 2) (i := 0) (as := [.inl x2]) (st := []) (n := 1) (by decide) (Or.inl q2056) qs65 q2058 q73 q2059 zmh_late rfl (Nat.le_of_ble_eq_true rfl) (Nat.le_of_ble_eq_true rfl) dX1_tick_179 (sd_late (fun t_1 h => ?_) hT h)
      show wp (d + 9) mX1_tick 182 [(0, .inr (2, 0)), (1, .inl x1), (2, .inl x2), (3, .inl x3)] [] (tput M t_1) P
      exact wp_sub (by simp) (sd_tick_182 hP hT _ hK88 _ hK95 x1 x2 x3 t_1 h)
def w_tick_152 (K88 : Int32 → DB → Prop) (K95 : Int32 → Int32 → DB → Prop) (x1 x2 s0 : Int32) (t : DB) (Q : DB → Prop) : Prop := ((¬ x1 = 0) → (w_tick_167 K88 K95 x1 x2 s0 t Q)) ∧ ((x1 = 0) → (((¬ s0 = (-1)) → (w_tick_167 K88 K95 x1 x2 s0 t Q)) ∧ ((s0 = (-1)) → (w_tryEnds x2 t (fun t_1 => w_tick_167 K88 K95 x1 x2 s0 t_1 Q)))))
set_option maxHeartbeats 4000000 in
theorem sd_tick_152 {d : Nat} {M : Mem} {P : Option AV → Mem → Prop} {Q : DB → Prop} (hP : ∀ t, Q t → P none (tput M t)) (hT : TW M) (K88 : Int32 → DB → Prop) (hK88 : ∀ (z1 : Int32) (t : DB), K88 z1 t → wp (d + 9) mX1_tick 88 [(0, .inr (2, 0)), (1, .inl z1)] [] (tput M t) P) (K95 : Int32 → Int32 → DB → Prop) (hK95 : ∀ (z1 : Int32) (z2 : Int32) (t : DB), K95 z1 z2 t → wp (d + 9) mX1_tick 95 [(0, .inr (2, 0)), (1, .inl z1), (2, .inl z2)] [] (tput M t) P) (x1 x2 s0 : Int32) (t : DB) (h : w_tick_152 K88 K95 x1 x2 s0 t Q) : wp (d + 9) mX1_tick 152 [(0, .inr (2, 0)), (1, .inl x1), (2, .inl x2)] [.inl s0] (tput M t) P := by
  unfold w_tick_152 at h
  refine a_istore_n (lv' := [(3, .inl s0), (0, .inr (2, 0)), (1, .inl x1), (2, .inl x2)]) dX1_tick_152 rfl (Nat.le_of_ble_eq_true rfl) rfl ?_
  refine a_iload_n 2 dX1_tick_153 rfl rfl ?_
  refine a_if_ne (tgt := 167) dX1_tick_154 (by decide) (fun c_4 => ?_) (fun c_4 => ?_)
  · replace h := h.1 c_4
    exact wp_sub (by simp) (sd_tick_167 hP hT _ hK88 _ hK95 x1 x2 s0 t h)
  · replace h := h.2 c_4
    refine a_iload_n 0 dX1_tick_157 rfl rfl ?_
    refine a_iconst (v := (-1)) dX1_tick_158 (by decide) ?_
    refine a_icmp_ne (tgt := 167) dX1_tick_159 (by decide) (fun c_3 => ?_) (fun c_3 => ?_)
    · replace h := h.1 c_3
      exact wp_sub (by simp) (sd_tick_167 hP hT _ hK88 _ hK95 x1 x2 s0 t h)
    · replace h := h.2 c_3
      refine a_aload_n 1 dX1_tick_162 rfl rfl ?_
      refine a_iload_n 3 dX1_tick_163 rfl rfl ?_
      refine a_cv (y := mX1_tryEnds) (k := 2) (i := 0) (as := [.inl x2]) (st := []) (n := 1) (by decide) (Or.inl q2052) qs64 q2054 q73 q2055 zmh_tryEnds rfl (Nat.le_of_ble_eq_true rfl) (Nat.le_of_ble_eq_true rfl) dX1_tick_164 (sd_tryEnds (fun t_1 h => ?_) hT h)
      show wp (d + 9) mX1_tick 167 [(3, .inl s0), (0, .inr (2, 0)), (1, .inl x1), (2, .inl x2)] [] (tput M t_1) P
      exact wp_sub (by simp) (sd_tick_167 hP hT _ hK88 _ hK95 x1 x2 s0 t_1 h)
def w_tick_95 : Nat → (Int32 → DB → Prop) → Int32 → Int32 → DB → (DB → Prop) → Prop
  | 0, _, _, _, _, _ => False
  | n + 1, K88, x1, x2, t, Q => (((t 61 0) ≤ x2) → (∀ x_1 : Int32, x_1 = x1 + 1 → (K88 x_1 t))) ∧ ((¬ (t 61 0) ≤ x2) → (vp_in x2 4400 ∧ (((¬ (t 69 x2.toNatClampNeg) = 0) → (∀ x_2 : Int32, x_2 = x2 + 1 → (w_tick_95 n K88 x1 x_2 t Q))) ∧ (((t 69 x2.toNatClampNeg) = 0) → (vp_in x2 4400 ∧ ((((t 72 x2.toNatClampNeg) = (t 0 0)) → (vp_in x2 4400 ∧ (((0 ≤ (t 65 x2.toNatClampNeg)) → (vp_in x2 4400 ∧ (vp_in (t 65 x2.toNatClampNeg) 24 ∧ (w_tick_152 K88 (fun z1 z2 t => w_tick_95 n K88 z1 z2 t Q) x1 x2 (t 31 (t 65 x2.toNatClampNeg).toNatClampNeg) t Q)))) ∧ ((¬ 0 ≤ (t 65 x2.toNatClampNeg)) → (w_tick_152 K88 (fun z1 z2 t => w_tick_95 n K88 z1 z2 t Q) x1 x2 (-1) t Q))))) ∧ ((¬ (t 72 x2.toNatClampNeg) = (t 0 0)) → (∀ x_4 : Int32, x_4 = x2 + 1 → (w_tick_95 n K88 x1 x_4 t Q)))))))))
set_option maxHeartbeats 4000000 in
theorem sd_tick_95 {d : Nat} {M : Mem} {P : Option AV → Mem → Prop} {Q : DB → Prop} (hP : ∀ t, Q t → P none (tput M t)) (hT : TW M) (K88 : Int32 → DB → Prop) (hK88 : ∀ (z1 : Int32) (t : DB), K88 z1 t → wp (d + 9) mX1_tick 88 [(0, .inr (2, 0)), (1, .inl z1)] [] (tput M t) P) : ∀ (n : Nat) (x1 x2 : Int32) (t : DB), w_tick_95 n K88 x1 x2 t Q → wp (d + 9) mX1_tick 95 [(0, .inr (2, 0)), (1, .inl x1), (2, .inl x2)] [] (tput M t) P := by
  intro n
  induction n with
  | zero => intro x1 x2 t h; exact False.elim h
  | succ n ih =>
    intro x1 x2 t h
    rw [w_tick_95] at h
    refine a_iload_n 2 dX1_tick_95 rfl rfl ?_
    refine a_aload_n 0 dX1_tick_96 rfl rfl ?_
    refine t_gi 61 (by decide) q1573 rfl dX1_tick_97 ?_
    refine a_icmp_ge (tgt := 248) dX1_tick_100 (by decide) (fun c_7 => ?_) (fun c_7 => ?_)
    · replace h := h.1 c_7
      obtain ⟨x_1, ex_1⟩ : ∃ y : Int32, y = x1 + 1 := ⟨_, rfl⟩
      replace h := h x_1 ex_1
      refine a_iinc (v := x_1) (lv' := [(1, .inl x_1), (0, .inr (2, 0)), (2, .inl x2)]) 1 dX1_tick_248 rfl (by rw [ex_1]; rfl) (Nat.le_of_ble_eq_true rfl) rfl ?_
      refine a_goto (tgt := 88) dX1_tick_251 (by decide) ?_
      exact wp_sub (by simp) (hK88 x_1 t h)
    · replace h := h.2 c_7
      refine a_aload_n 0 dX1_tick_103 rfl rfl ?_
      refine t_ga 69 hT (by decide) q1581 rfl dX1_tick_104 ?_
      refine a_iload_n 2 dX1_tick_107 rfl rfl ?_
      refine t_ia (f := 69) rfl hT (by decide) h.1 dX1_tick_108 ?_
      replace h := h.2
      refine a_if_ne (tgt := 242) dX1_tick_109 (by decide) (fun c_6 => ?_) (fun c_6 => ?_)
      · replace h := h.1 c_6
        obtain ⟨x_2, ex_2⟩ : ∃ y : Int32, y = x2 + 1 := ⟨_, rfl⟩
        replace h := h x_2 ex_2
        refine a_iinc (v := x_2) (lv' := [(2, .inl x_2), (0, .inr (2, 0)), (1, .inl x1)]) 2 dX1_tick_242 rfl (by rw [ex_2]; rfl) (Nat.le_of_ble_eq_true rfl) rfl ?_
        refine a_goto (tgt := 95) dX1_tick_245 (by decide) ?_
        exact wp_sub (by simp) (ih x1 x_2 t h)
      · replace h := h.2 c_6
        refine a_aload_n 0 dX1_tick_112 rfl rfl ?_
        refine t_ga 72 hT (by decide) q1584 rfl dX1_tick_113 ?_
        refine a_iload_n 2 dX1_tick_116 rfl rfl ?_
        refine t_ia (f := 72) rfl hT (by decide) h.1 dX1_tick_117 ?_
        replace h := h.2
        refine a_aload_n 0 dX1_tick_118 rfl rfl ?_
        refine t_gi 0 (by decide) q1512 rfl dX1_tick_119 ?_
        refine a_icmp_eq (tgt := 128) dX1_tick_122 (by decide) (fun c_5 => ?_) (fun c_5 => ?_)
        · replace h := h.1 c_5
          refine a_aload_n 0 dX1_tick_128 rfl rfl ?_
          refine t_ga 65 hT (by decide) q1577 rfl dX1_tick_129 ?_
          refine a_iload_n 2 dX1_tick_132 rfl rfl ?_
          refine t_ia (f := 65) rfl hT (by decide) h.1 dX1_tick_133 ?_
          replace h := h.2
          refine a_if_ge (tgt := 141) dX1_tick_134 (by decide) (fun c_3 => ?_) (fun c_3 => ?_)
          · replace h := h.1 c_3
            refine a_aload_n 0 dX1_tick_141 rfl rfl ?_
            refine t_ga 31 hT (by decide) q1543 rfl dX1_tick_142 ?_
            refine a_aload_n 0 dX1_tick_145 rfl rfl ?_
            refine t_ga 65 hT (by decide) q1577 rfl dX1_tick_146 ?_
            refine a_iload_n 2 dX1_tick_149 rfl rfl ?_
            refine t_ia (f := 65) rfl hT (by decide) h.1 dX1_tick_150 ?_
            replace h := h.2
            refine t_ia (f := 31) rfl hT (by decide) h.1 dX1_tick_151 ?_
            replace h := h.2
            exact wp_sub (by simp) (sd_tick_152 hP hT _ hK88 _ ih x1 x2 (t 31 (t 65 x2.toNatClampNeg).toNatClampNeg) t h)
          · replace h := h.2 c_3
            refine a_iconst (v := (-1)) dX1_tick_137 (by decide) ?_
            refine a_goto (tgt := 152) dX1_tick_138 (by decide) ?_
            exact wp_sub (by simp) (sd_tick_152 hP hT _ hK88 _ ih x1 x2 (-1) t h)
        · replace h := h.2 c_5
          refine a_goto (tgt := 242) dX1_tick_125 (by decide) ?_
          obtain ⟨x_4, ex_4⟩ : ∃ y : Int32, y = x2 + 1 := ⟨_, rfl⟩
          replace h := h x_4 ex_4
          refine a_iinc (v := x_4) (lv' := [(2, .inl x_4), (0, .inr (2, 0)), (1, .inl x1)]) 2 dX1_tick_242 rfl (by rw [ex_4]; rfl) (Nat.le_of_ble_eq_true rfl) rfl ?_
          refine a_goto (tgt := 95) dX1_tick_245 (by decide) ?_
          exact wp_sub (by simp) (ih x1 x_4 t h)
def w_tick_88 : Nat → Int32 → DB → (DB → Prop) → Prop
  | 0, _, _, _ => False
  | n + 1, x1, t, Q => ((4 ≤ x1) → (∃ n_, w_tick_256 n_ 0 t Q)) ∧ ((¬ 4 ≤ x1) → (∃ n_, w_tick_95 n_ (fun z1 t => w_tick_88 n z1 t Q) x1 0 t Q))
set_option maxHeartbeats 4000000 in
theorem sd_tick_88 {d : Nat} {M : Mem} {P : Option AV → Mem → Prop} {Q : DB → Prop} (hP : ∀ t, Q t → P none (tput M t)) (hT : TW M) : ∀ (n : Nat) (x1 : Int32) (t : DB), w_tick_88 n x1 t Q → wp (d + 9) mX1_tick 88 [(0, .inr (2, 0)), (1, .inl x1)] [] (tput M t) P := by
  intro n
  induction n with
  | zero => intro x1 t h; exact False.elim h
  | succ n ih =>
    intro x1 t h
    rw [w_tick_88] at h
    refine a_iload_n 1 dX1_tick_88 rfl rfl ?_
    refine a_iconst (v := 4) dX1_tick_89 (by decide) ?_
    refine a_icmp_ge (tgt := 254) dX1_tick_90 (by decide) (fun c_1 => ?_) (fun c_1 => ?_)
    · replace h := h.1 c_1
      refine a_iconst (v := 0) dX1_tick_254 (by decide) ?_
      refine a_istore_n (lv' := [(1, .inl 0), (0, .inr (2, 0))]) dX1_tick_255 rfl (Nat.le_of_ble_eq_true rfl) rfl ?_
      obtain ⟨n_, h⟩ := h
      exact wp_sub (by simp) (sd_tick_256 hP hT n_ 0 t h)
    · replace h := h.2 c_1
      refine a_iconst (v := 0) dX1_tick_93 (by decide) ?_
      refine a_istore_n (lv' := [(2, .inl 0), (0, .inr (2, 0)), (1, .inl x1)]) dX1_tick_94 rfl (Nat.le_of_ble_eq_true rfl) rfl ?_
      obtain ⟨n_, h⟩ := h
      exact wp_sub (by simp) (sd_tick_95 hP hT _ ih n_ x1 0 t h)
def w_tick_12 : Nat → Int32 → DB → (DB → Prop) → Prop
  | 0, _, _, _ => False
  | n + 1, x1, t, Q => (((t 30 0) ≤ x1) → (∃ n_, w_tick_88 n_ 0 t Q)) ∧ ((¬ (t 30 0) ≤ x1) → (vp_in x1 24 ∧ (((¬ (t 31 x1.toNatClampNeg) = 2) → (∀ x_1 : Int32, x_1 = x1 + 1 → (w_tick_12 n x_1 t Q))) ∧ (((t 31 x1.toNatClampNeg) = 2) → (vp_in x1 24 ∧ (vp_in x1 24 ∧ (vp_in x1 24 ∧ ((((t 32 x1.toNatClampNeg) ≤ ((t 42 x1.toNatClampNeg) + (t 33 x1.toNatClampNeg))) → (vp_in x1 24 ∧ (vp_in x1 24 ∧ (∀ t_2 : DB, t_2 = up t 42 x1.toNatClampNeg (t 32 x1.toNatClampNeg) → (∀ x_3 : Int32, x_3 = x1 + 1 → (w_tick_12 n x_3 t_2 Q)))))) ∧ ((¬ (t 32 x1.toNatClampNeg) ≤ ((t 42 x1.toNatClampNeg) + (t 33 x1.toNatClampNeg))) → (vp_in x1 24 ∧ (vp_in x1 24 ∧ (vp_in x1 24 ∧ (∀ t_4 : DB, t_4 = up t 42 x1.toNatClampNeg ((t 42 x1.toNatClampNeg) + (t 33 x1.toNatClampNeg)) → (∀ x_5 : Int32, x_5 = x1 + 1 → (w_tick_12 n x_5 t_4 Q)))))))))))))))
set_option maxHeartbeats 4000000 in
theorem sd_tick_12 {d : Nat} {M : Mem} {P : Option AV → Mem → Prop} {Q : DB → Prop} (hP : ∀ t, Q t → P none (tput M t)) (hT : TW M) : ∀ (n : Nat) (x1 : Int32) (t : DB), w_tick_12 n x1 t Q → wp (d + 9) mX1_tick 12 [(0, .inr (2, 0)), (1, .inl x1)] [] (tput M t) P := by
  intro n
  induction n with
  | zero => intro x1 t h; exact False.elim h
  | succ n ih =>
    intro x1 t h
    rw [w_tick_12] at h
    refine a_iload_n 1 dX1_tick_12 rfl rfl ?_
    refine a_aload_n 0 dX1_tick_13 rfl rfl ?_
    refine t_gi 30 (by decide) q1542 rfl dX1_tick_14 ?_
    refine a_icmp_ge (tgt := 86) dX1_tick_17 (by decide) (fun c_8 => ?_) (fun c_8 => ?_)
    · replace h := h.1 c_8
      refine a_iconst (v := 0) dX1_tick_86 (by decide) ?_
      refine a_istore_n (lv' := [(1, .inl 0), (0, .inr (2, 0))]) dX1_tick_87 rfl (Nat.le_of_ble_eq_true rfl) rfl ?_
      obtain ⟨n_, h⟩ := h
      exact wp_sub (by simp) (sd_tick_88 hP hT n_ 0 t h)
    · replace h := h.2 c_8
      refine a_aload_n 0 dX1_tick_20 rfl rfl ?_
      refine t_ga 31 hT (by decide) q1543 rfl dX1_tick_21 ?_
      refine a_iload_n 1 dX1_tick_24 rfl rfl ?_
      refine t_ia (f := 31) rfl hT (by decide) h.1 dX1_tick_25 ?_
      replace h := h.2
      refine a_iconst (v := 2) dX1_tick_26 (by decide) ?_
      refine a_icmp_ne (tgt := 80) dX1_tick_27 (by decide) (fun c_7 => ?_) (fun c_7 => ?_)
      · replace h := h.1 c_7
        obtain ⟨x_1, ex_1⟩ : ∃ y : Int32, y = x1 + 1 := ⟨_, rfl⟩
        replace h := h x_1 ex_1
        refine a_iinc (v := x_1) (lv' := [(1, .inl x_1), (0, .inr (2, 0))]) 1 dX1_tick_80 rfl (by rw [ex_1]; rfl) (Nat.le_of_ble_eq_true rfl) rfl ?_
        refine a_goto (tgt := 12) dX1_tick_83 (by decide) ?_
        exact wp_sub (by simp) (ih x_1 t h)
      · replace h := h.2 c_7
        refine a_aload_n 0 dX1_tick_30 rfl rfl ?_
        refine t_ga 42 hT (by decide) q1554 rfl dX1_tick_31 ?_
        refine a_iload_n 1 dX1_tick_34 rfl rfl ?_
        refine a_aload_n 0 dX1_tick_35 rfl rfl ?_
        refine t_ga 42 hT (by decide) q1554 rfl dX1_tick_36 ?_
        refine a_iload_n 1 dX1_tick_39 rfl rfl ?_
        refine t_ia (f := 42) rfl hT (by decide) h.1 dX1_tick_40 ?_
        replace h := h.2
        refine a_aload_n 0 dX1_tick_41 rfl rfl ?_
        refine t_ga 33 hT (by decide) q1545 rfl dX1_tick_42 ?_
        refine a_iload_n 1 dX1_tick_45 rfl rfl ?_
        refine t_ia (f := 33) rfl hT (by decide) h.1 dX1_tick_46 ?_
        replace h := h.2
        refine a_iadd dX1_tick_47 ?_
        refine a_aload_n 0 dX1_tick_48 rfl rfl ?_
        refine t_ga 32 hT (by decide) q1544 rfl dX1_tick_49 ?_
        refine a_iload_n 1 dX1_tick_52 rfl rfl ?_
        refine t_ia (f := 32) rfl hT (by decide) h.1 dX1_tick_53 ?_
        replace h := h.2
        refine a_icmp_ge (tgt := 73) dX1_tick_54 (by decide) (fun c_6 => ?_) (fun c_6 => ?_)
        · replace h := h.1 c_6
          refine a_aload_n 0 dX1_tick_73 rfl rfl ?_
          refine t_ga 32 hT (by decide) q1544 rfl dX1_tick_74 ?_
          refine a_iload_n 1 dX1_tick_77 rfl rfl ?_
          refine t_ia (f := 32) rfl hT (by decide) h.1 dX1_tick_78 ?_
          replace h := h.2
          refine t_is (f := 42) rfl hT (by decide) h.1 dX1_tick_79 ?_
          replace h := h.2
          refine a_topt (fun t_2 et_2 => ?_)
          replace h := h t_2 et_2
          obtain ⟨x_3, ex_3⟩ : ∃ y : Int32, y = x1 + 1 := ⟨_, rfl⟩
          replace h := h x_3 ex_3
          refine a_iinc (v := x_3) (lv' := [(1, .inl x_3), (0, .inr (2, 0))]) 1 dX1_tick_80 rfl (by rw [ex_3]; rfl) (Nat.le_of_ble_eq_true rfl) rfl ?_
          refine a_goto (tgt := 12) dX1_tick_83 (by decide) ?_
          exact wp_sub (by simp) (ih x_3 t_2 h)
        · replace h := h.2 c_6
          refine a_aload_n 0 dX1_tick_57 rfl rfl ?_
          refine t_ga 42 hT (by decide) q1554 rfl dX1_tick_58 ?_
          refine a_iload_n 1 dX1_tick_61 rfl rfl ?_
          refine t_ia (f := 42) rfl hT (by decide) h.1 dX1_tick_62 ?_
          replace h := h.2
          refine a_aload_n 0 dX1_tick_63 rfl rfl ?_
          refine t_ga 33 hT (by decide) q1545 rfl dX1_tick_64 ?_
          refine a_iload_n 1 dX1_tick_67 rfl rfl ?_
          refine t_ia (f := 33) rfl hT (by decide) h.1 dX1_tick_68 ?_
          replace h := h.2
          refine a_iadd dX1_tick_69 ?_
          refine a_goto (tgt := 79) dX1_tick_70 (by decide) ?_
          refine t_is (f := 42) rfl hT (by decide) h.1 dX1_tick_79 ?_
          replace h := h.2
          refine a_topt (fun t_4 et_4 => ?_)
          replace h := h t_4 et_4
          obtain ⟨x_5, ex_5⟩ : ∃ y : Int32, y = x1 + 1 := ⟨_, rfl⟩
          replace h := h x_5 ex_5
          refine a_iinc (v := x_5) (lv' := [(1, .inl x_5), (0, .inr (2, 0))]) 1 dX1_tick_80 rfl (by rw [ex_5]; rfl) (Nat.le_of_ble_eq_true rfl) rfl ?_
          refine a_goto (tgt := 12) dX1_tick_83 (by decide) ?_
          exact wp_sub (by simp) (ih x_5 t_4 h)
def w_tick (t : DB) (Q : DB → Prop) : Prop := ∀ t_1 : DB, t_1 = up t 0 0 ((t 0 0) + 1) → (∃ n_, w_tick_12 n_ 0 t_1 Q)
set_option maxHeartbeats 4000000 in
theorem sd_tick {d : Nat} {M : Mem} {P : Option AV → Mem → Prop} {Q : DB → Prop} {t : DB} (hP : ∀ t, Q t → P none (tput M t)) (hT : TW M) (h : w_tick  t Q) : ct (d + 9) mX1_tick [.inr (2, 0)] (tput M t) P := by
  refine ct_of (by decide) (Nat.le_of_ble_eq_true rfl) ?_
  show wp (d + 9) mX1_tick 0 [(0, .inr (2, 0))] [] (tput M t) P
  unfold w_tick at h
  refine a_aload_n 0 dX1_tick_0 rfl rfl ?_
  refine a_dup dX1_tick_1 ?_
  refine t_gi 0 (by decide) q1512 rfl dX1_tick_2 ?_
  refine a_iconst (v := 1) dX1_tick_5 (by decide) ?_
  refine a_iadd dX1_tick_6 ?_
  refine t_pi 0 (by decide) q1512 rfl rfl dX1_tick_7 ?_
  refine a_topt (fun t_1 et_1 => ?_)
  replace h := h t_1 et_1
  refine a_iconst (v := 0) dX1_tick_10 (by decide) ?_
  refine a_istore_n (lv' := [(1, .inl 0), (0, .inr (2, 0))]) dX1_tick_11 rfl (Nat.le_of_ble_eq_true rfl) rfl ?_
  obtain ⟨n_, h⟩ := h
  exact wp_sub (by simp) (sd_tick_12 hP hT n_ 0 t_1 h)
theorem zmh_tick : zmh yX1_tick 0 := ⟨⟨by decide +kernel, by decide +kernel⟩, by decide +kernel⟩
abbrev mX1_second : zMt := (yX1_second, cX1_second, 3, some .int)
def w_second_21 : Nat → Int32 → Int32 → DB → (Int32 → DB → Prop) → Prop
  | 0, _, _, _, _ => False
  | n + 1, x1, x2, t, Q => ((x1 ≤ x2) → (Q (t 60 0) t)) ∧ ((¬ x1 ≤ x2) → (w_tick t (fun t_1 => ∀ x_3 : Int32, x_3 = x2 + 1 → (w_second_21 n x1 x_3 t_1 Q))))
set_option maxHeartbeats 4000000 in
theorem sd_second_21 {d : Nat} {M : Mem} {P : Option AV → Mem → Prop} {Q : Int32 → DB → Prop} (hP : ∀ r t, Q r t → P (some (.inl r)) (tput M t)) (hT : TW M) : ∀ (n : Nat) (x1 x2 : Int32) (t : DB), w_second_21 n x1 x2 t Q → wp (d + 10) mX1_second 21 [(0, .inr (2, 0)), (1, .inl x1), (2, .inl x2)] [] (tput M t) P := by
  intro n
  induction n with
  | zero => intro x1 x2 t h; exact False.elim h
  | succ n ih =>
    intro x1 x2 t h
    rw [w_second_21] at h
    refine a_iload_n 2 dX1_second_21 rfl rfl ?_
    refine a_iload_n 1 dX1_second_22 rfl rfl ?_
    refine a_icmp_ge (tgt := 36) dX1_second_23 (by decide) (fun c_4 => ?_) (fun c_4 => ?_)
    · replace h := h.1 c_4
      refine a_aload_n 0 dX1_second_36 rfl rfl ?_
      refine t_gi 60 (by decide) q1572 rfl dX1_second_37 ?_
      exact a_iret rfl dX1_second_40 (hP _ _ h)
    · replace h := h.2 c_4
      refine a_aload_n 0 dX1_second_26 rfl rfl ?_
      refine a_cv (y := mX1_tick) (k := 2) (i := 0) (as := []) (st := []) (n := 0) (by decide) (Or.inl q2048) qs63 q2050 q73 q2051 zmh_tick rfl (Nat.le_of_ble_eq_true rfl) (Nat.le_of_ble_eq_true rfl) dX1_second_27 (sd_tick (fun t_1 h => ?_) hT h)
      show wp (d + 10) mX1_second 30 [(0, .inr (2, 0)), (1, .inl x1), (2, .inl x2)] [] (tput M t_1) P
      obtain ⟨x_3, ex_3⟩ : ∃ y : Int32, y = x2 + 1 := ⟨_, rfl⟩
      replace h := h x_3 ex_3
      refine a_iinc (v := x_3) (lv' := [(2, .inl x_3), (0, .inr (2, 0)), (1, .inl x1)]) 2 dX1_second_30 rfl (by rw [ex_3]; rfl) (Nat.le_of_ble_eq_true rfl) rfl ?_
      refine a_goto (tgt := 21) dX1_second_33 (by decide) ?_
      exact wp_sub (by simp) (ih x1 x_3 t_1 h)
def w_second (x1 : Int32) (t : DB) (Q : Int32 → DB → Prop) : Prop := ((x1 < 1) → (Q (-2) t)) ∧ ((¬ x1 < 1) → (((x1 ≤ 100) → (∀ t_1 : DB, t_1 = up t 60 0 0 → (∃ n_, w_second_21 n_ x1 0 t_1 Q))) ∧ ((¬ x1 ≤ 100) → (Q (-2) t))))
set_option maxHeartbeats 4000000 in
theorem sd_second {d : Nat} {M : Mem} {P : Option AV → Mem → Prop} {Q : Int32 → DB → Prop} {x1 : Int32} {t : DB} (hP : ∀ r t, Q r t → P (some (.inl r)) (tput M t)) (hT : TW M) (h : w_second x1 t Q) : ct (d + 10) mX1_second [.inr (2, 0), .inl x1] (tput M t) P := by
  refine ct_of (by decide) (Nat.le_of_ble_eq_true rfl) ?_
  show wp (d + 10) mX1_second 0 [(0, .inr (2, 0)), (1, .inl x1)] [] (tput M t) P
  unfold w_second at h
  refine a_iload_n 1 dX1_second_0 rfl rfl ?_
  refine a_iconst (v := 1) dX1_second_1 (by decide) ?_
  refine a_icmp_lt (tgt := 11) dX1_second_2 (by decide) (fun c_3 => ?_) (fun c_3 => ?_)
  · replace h := h.1 c_3
    refine a_bipush (v := (-2)) dX1_second_11 (by decide) ?_
    exact a_iret rfl dX1_second_13 (hP _ _ h)
  · replace h := h.2 c_3
    refine a_iload_n 1 dX1_second_5 rfl rfl ?_
    refine a_bipush (v := 100) dX1_second_6 (by decide) ?_
    refine a_icmp_le (tgt := 14) dX1_second_8 (by decide) (fun c_2 => ?_) (fun c_2 => ?_)
    · replace h := h.1 c_2
      refine a_aload_n 0 dX1_second_14 rfl rfl ?_
      refine a_iconst (v := 0) dX1_second_15 (by decide) ?_
      refine t_pi 60 (by decide) q1572 rfl rfl dX1_second_16 ?_
      refine a_topt (fun t_1 et_1 => ?_)
      replace h := h t_1 et_1
      refine a_iconst (v := 0) dX1_second_19 (by decide) ?_
      refine a_istore_n (lv' := [(2, .inl 0), (0, .inr (2, 0)), (1, .inl x1)]) dX1_second_20 rfl (Nat.le_of_ble_eq_true rfl) rfl ?_
      obtain ⟨n_, h⟩ := h
      exact wp_sub (by simp) (sd_second_21 hP hT n_ x1 0 t_1 h)
    · replace h := h.2 c_2
      refine a_bipush (v := (-2)) dX1_second_11 (by decide) ?_
      exact a_iret rfl dX1_second_13 (hP _ _ h)
theorem zmh_second : zmh yX1_second 1 := ⟨⟨by decide +kernel, by decide +kernel⟩, by decide +kernel⟩
abbrev mX1_now : zMt := (yX1_now, cX1_now, 1, some .int)
def w_now (t : DB) (Q : Int32 → DB → Prop) : Prop := Q (t 0 0) t
set_option maxHeartbeats 4000000 in
theorem sd_now {d : Nat} {M : Mem} {P : Option AV → Mem → Prop} {Q : Int32 → DB → Prop} {t : DB} (hP : ∀ r t, Q r t → P (some (.inl r)) (tput M t)) (hT : TW M) (h : w_now  t Q) : ct d mX1_now [.inr (2, 0)] (tput M t) P := by
  refine ct_of (by decide) (Nat.le_of_ble_eq_true rfl) ?_
  show wp d mX1_now 0 [(0, .inr (2, 0))] [] (tput M t) P
  unfold w_now at h
  refine a_aload_n 0 dX1_now_0 rfl rfl ?_
  refine t_gi 0 (by decide) q1512 rfl dX1_now_1 ?_
  exact a_iret rfl dX1_now_4 (hP _ _ h)
theorem zmh_now : zmh yX1_now 0 := ⟨⟨by decide +kernel, by decide +kernel⟩, by decide +kernel⟩
abbrev mX1_outcome : zMt := (yX1_outcome, cX1_outcome, 2, some .int)
def w_outcome (x1 : Int32) (t : DB) (Q : Int32 → DB → Prop) : Prop := ((x1 < 0) → (Q (-1) t)) ∧ ((¬ x1 < 0) → (((x1 < (t 50 0)) → (vp_in x1 60 ∧ (Q (t 58 x1.toNatClampNeg) t))) ∧ ((¬ x1 < (t 50 0)) → (Q (-1) t))))
set_option maxHeartbeats 4000000 in
theorem sd_outcome {d : Nat} {M : Mem} {P : Option AV → Mem → Prop} {Q : Int32 → DB → Prop} {x1 : Int32} {t : DB} (hP : ∀ r t, Q r t → P (some (.inl r)) (tput M t)) (hT : TW M) (h : w_outcome x1 t Q) : ct d mX1_outcome [.inr (2, 0), .inl x1] (tput M t) P := by
  refine ct_of (by decide) (Nat.le_of_ble_eq_true rfl) ?_
  show wp d mX1_outcome 0 [(0, .inr (2, 0)), (1, .inl x1)] [] (tput M t) P
  unfold w_outcome at h
  refine a_iload_n 1 dX1_outcome_0 rfl rfl ?_
  refine a_if_lt (tgt := 12) dX1_outcome_1 (by decide) (fun c_2 => ?_) (fun c_2 => ?_)
  · replace h := h.1 c_2
    refine a_iconst (v := (-1)) dX1_outcome_12 (by decide) ?_
    refine a_goto (tgt := 22) dX1_outcome_13 (by decide) ?_
    exact a_iret rfl dX1_outcome_22 (hP _ _ h)
  · replace h := h.2 c_2
    refine a_iload_n 1 dX1_outcome_4 rfl rfl ?_
    refine a_aload_n 0 dX1_outcome_5 rfl rfl ?_
    refine t_gi 50 (by decide) q1562 rfl dX1_outcome_6 ?_
    refine a_icmp_lt (tgt := 16) dX1_outcome_9 (by decide) (fun c_1 => ?_) (fun c_1 => ?_)
    · replace h := h.1 c_1
      refine a_aload_n 0 dX1_outcome_16 rfl rfl ?_
      refine t_ga 58 hT (by decide) q1570 rfl dX1_outcome_17 ?_
      refine a_iload_n 1 dX1_outcome_20 rfl rfl ?_
      refine t_ia (f := 58) rfl hT (by decide) h.1 dX1_outcome_21 ?_
      replace h := h.2
      exact a_iret rfl dX1_outcome_22 (hP _ _ h)
    · replace h := h.2 c_1
      refine a_iconst (v := (-1)) dX1_outcome_12 (by decide) ?_
      refine a_goto (tgt := 22) dX1_outcome_13 (by decide) ?_
      exact a_iret rfl dX1_outcome_22 (hP _ _ h)
theorem zmh_outcome : zmh yX1_outcome 1 := ⟨⟨by decide +kernel, by decide +kernel⟩, by decide +kernel⟩
