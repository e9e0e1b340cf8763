set_option maxRecDepth 100000
def v_X0_plan_2_47 (r0 : Nat × Nat) (x1 : Int32) (x2 : Int32) (x3 : Int32) (x4 : Int32) (x5 : Int32) (x6 : Int32) (x7 : Int32) (s0 : Int32) (s1 : Int32) (s2 : Int32) (M : Mem) (Q : Int32 → Mem → Prop) : Prop := (v_X0_in s2 s1 s0 M (fun r_2 M_1 => ((r_2 = 0) → (Q (-2) M_1)) ∧ ((¬ r_2 = 0) → ((v_X0_in x5 1 1000 M_1 (fun r_4 M_3 => ((r_4 = 0) → (Q (-2) M_3)) ∧ ((¬ r_4 = 0) → (((x6 < 0) → (Q (-2) M_3)) ∧ ((¬ x6 < 0) → (((x6 ≤ x7) → (kt r0.1 = 0 ∧ (∀ e_5 : Nat × Nat, e_5 = M_3.2.1 r0.1 r0.2 12 → (lk e_5.1 ∧ (((¬ (M_3.1 e_5.1 e_5.2 0) = 12) → (kt r0.1 = 0 ∧ (∀ e_6 : Nat × Nat, e_6 = M_3.2.1 r0.1 r0.2 12 → (rom M_3 14 ∧ (∃ i_7 : Nat, M_3.2.2.1 24 i_7 = 0 ∧ ∀ M_8 : Mem, M_8 = sN M_3 24 i_7 0 14 → (¬ 24 = 0 ∧ (v_X19_init (24, i_7) r0 x1 x2 x3 x4 x5 x6 x7 M_8 (fun M_9 => lk e_6.1 ∧ ekk 24 = true ∧ M_9.1 e_6.1 e_6.2 0 < 10000 ∧ rom M_9 10 ∧ (∀ M_11 : Mem, M_11 = lAdd M_9 e_6 (24, i_7) → (kt r0.1 = 0 ∧ (∀ e_12 : Nat × Nat, e_12 = M_11.2.1 r0.1 r0.2 12 → (lk e_12.1 ∧ (Q ((M_11.1 e_12.1 e_12.2 0) - 1) M_11))))))))))))) ∧ (((M_3.1 e_5.1 e_5.2 0) = 12) → (Q (-3) M_3))))))) ∧ ((¬ x6 ≤ x7) → (Q (-2) M_3))))))))))))
set_option maxHeartbeats 4000000 in
theorem sv_X0_plan_2_47 {d : Nat} {P : Option AV → Mem → Prop} {Q : Int32 → Mem → Prop} (hP : ∀ r M, Q r M → P (some (.inl r)) M) (r0 : Nat × Nat) (x1 : Int32) (x2 : Int32) (x3 : Int32) (x4 : Int32) (x5 : Int32) (x6 : Int32) (x7 : Int32) (s0 : Int32) (s1 : Int32) (s2 : Int32) (M : Mem) (h : v_X0_plan_2_47 r0 x1 x2 x3 x4 x5 x6 x7 s0 s1 s2 M Q) : wq (d + 9) mX0_plan_2 47 [(0, .inr r0), (1, .inl x1), (2, .inl x2), (3, .inl x3), (4, .inl x4), (5, .inl x5), (6, .inl x6), (7, .inl x7)] [.inl s0, .inl s1, .inl s2] M P := by
  unfold v_X0_plan_2_47 at h
  refine b_cs (y := mX0_in) (as := [.inl s2, .inl s1, .inl s0]) (st := []) (n := 3) (Or.inl q198) q199 q69 q200 zmh_X0_in rfl (Nat.le_of_ble_eq_true rfl) (Nat.le_of_ble_eq_true rfl) dX0_plan_2_47 (sv_X0_in (fun r_2 M_1 h => ?_) h)
  show wq (d + 9) mX0_plan_2 50 [(0, .inr r0), (1, .inl x1), (2, .inl x2), (3, .inl x3), (4, .inl x4), (5, .inl x5), (6, .inl x6), (7, .inl x7)] [.inl r_2] M_1 P
  refine b_if_eq (tgt := 77) dX0_plan_2_50 (by decide) (fun c_17 => ?_) (fun c_17 => ?_)
  · replace h := h.1 c_17
    refine b_bipush (v := (-2)) dX0_plan_2_77 (by decide) ?_
    exact b_iret rfl dX0_plan_2_79 (hP _ _ h)
  · replace h := h.2 c_17
    refine b_iload 5 dX0_plan_2_53 rfl ?_
    refine b_iconst (v := 1) dX0_plan_2_55 (by decide) ?_
    refine b_sipush (v := 1000) dX0_plan_2_56 (by decide) ?_
    refine b_cs (y := mX0_in) (as := [.inl x5, .inl 1, .inl 1000]) (st := []) (n := 3) (Or.inl q198) q199 q69 q200 zmh_X0_in rfl (Nat.le_of_ble_eq_true rfl) (Nat.le_of_ble_eq_true rfl) dX0_plan_2_59 (sv_X0_in (fun r_4 M_3 h => ?_) h)
    show wq (d + 9) mX0_plan_2 62 [(0, .inr r0), (1, .inl x1), (2, .inl x2), (3, .inl x3), (4, .inl x4), (5, .inl x5), (6, .inl x6), (7, .inl x7)] [.inl r_4] M_3 P
    refine b_if_eq (tgt := 77) dX0_plan_2_62 (by decide) (fun c_16 => ?_) (fun c_16 => ?_)
    · replace h := h.1 c_16
      refine b_bipush (v := (-2)) dX0_plan_2_77 (by decide) ?_
      exact b_iret rfl dX0_plan_2_79 (hP _ _ h)
    · replace h := h.2 c_16
      refine b_iload 6 dX0_plan_2_65 rfl ?_
      refine b_if_lt (tgt := 77) dX0_plan_2_67 (by decide) (fun c_15 => ?_) (fun c_15 => ?_)
      · replace h := h.1 c_15
        refine b_bipush (v := (-2)) dX0_plan_2_77 (by decide) ?_
        exact b_iret rfl dX0_plan_2_79 (hP _ _ h)
      · replace h := h.2 c_15
        refine b_iload 7 dX0_plan_2_70 rfl ?_
        refine b_iload 6 dX0_plan_2_72 rfl ?_
        refine b_icmp_ge (tgt := 80) dX0_plan_2_74 (by decide) (fun c_14 => ?_) (fun c_14 => ?_)
        · replace h := h.1 c_14
          refine b_aload_n 0 dX0_plan_2_80 rfl rfl ?_
          refine b_gR (ci := 0) (r := (RX0, TX0, 14)) (f := 12) (by decide) rfl (by decide) rfl (Or.inl q162) (Or.inl rfl) h.1 dX0_plan_2_81 ?_
          refine b_topr (fun e_5 ee_5 => ?_)
          replace h := h.2 e_5 ee_5
          refine b_lsize (st := []) h.1 (Or.inl q201) (Nat.le_of_ble_eq_true rfl) dX0_plan_2_84 ?_
          replace h := h.2
          refine b_bipush (v := 12) dX0_plan_2_87 (by decide) ?_
          refine b_icmp_ne (tgt := 95) dX0_plan_2_89 (by decide) (fun c_13 => ?_) (fun c_13 => ?_)
          · replace h := h.1 c_13
            refine b_aload_n 0 dX0_plan_2_95 rfl rfl ?_
            refine b_gR (ci := 0) (r := (RX0, TX0, 14)) (f := 12) (by decide) rfl (by decide) rfl (Or.inl q162) (Or.inl rfl) h.1 dX0_plan_2_96 ?_
            refine b_topr (fun e_6 ee_6 => ?_)
            replace h := h.2 e_6 ee_6
            obtain ⟨h1, i_7, ei_7, h⟩ := h
            refine b_nwo (k := 24) (i := i_7) (r := (RX19, TX19, 14)) (by decide) rfl h1 ei_7 q1234 q1277 q97 dX0_plan_2_99 ?_
            refine b_topm (fun M_8 eM_8 => ?_)
            replace h := h M_8 eM_8
            refine b_dup dX0_plan_2_102 ?_
            refine b_aload_n 0 dX0_plan_2_103 rfl rfl ?_
            refine b_iload_n 1 dX0_plan_2_104 rfl rfl ?_
            refine b_iload_n 2 dX0_plan_2_105 rfl rfl ?_
            refine b_iload_n 3 dX0_plan_2_106 rfl rfl ?_
            refine b_iload 4 dX0_plan_2_107 rfl ?_
            refine b_iload 5 dX0_plan_2_109 rfl ?_
            refine b_iload 6 dX0_plan_2_111 rfl ?_
            refine b_iload 7 dX0_plan_2_113 rfl ?_
            refine b_ci (y := mX19_init) (k := 24) (i := i_7) (as := [.inr r0, .inl x1, .inl x2, .inl x3, .inl x4, .inl x5, .inl x6, .inl x7]) (st := [.inr (24, i_7), .inr e_6]) (n := 8) h.1 rfl rfl (Or.inl q1278) q1279 q97 q1280 zmh_X19_init rfl (Nat.le_of_ble_eq_true rfl) (Nat.le_of_ble_eq_true rfl) dX0_plan_2_115 (sv_X19_init (fun M_9 h => ?_) h.2)
            show wq (d + 9) mX0_plan_2 118 [(0, .inr r0), (1, .inl x1), (2, .inl x2), (3, .inl x3), (4, .inl x4), (5, .inl x5), (6, .inl x6), (7, .inl x7)] [.inr (24, i_7), .inr e_6] M_9 P
            refine b_ladd (st := []) h.1 h.2.1 h.2.2.1 h.2.2.2.1 (Or.inl q226) (Nat.le_of_ble_eq_true rfl) dX0_plan_2_118 ?_
            refine b_topm (fun M_11 eM_11 => ?_)
            replace h := h.2.2.2.2 M_11 eM_11
            refine b_pop dX0_plan_2_121 ?_
            refine b_aload_n 0 dX0_plan_2_122 rfl rfl ?_
            refine b_gR (ci := 0) (r := (RX0, TX0, 14)) (f := 12) (by decide) rfl (by decide) rfl (Or.inl q162) (Or.inl rfl) h.1 dX0_plan_2_123 ?_
            refine b_topr (fun e_12 ee_12 => ?_)
            replace h := h.2 e_12 ee_12
            refine b_lsize (st := []) h.1 (Or.inl q201) (Nat.le_of_ble_eq_true rfl) dX0_plan_2_126 ?_
            replace h := h.2
            refine b_iconst (v := 1) dX0_plan_2_129 (by decide) ?_
            refine b_isub dX0_plan_2_130 ?_
            exact b_iret rfl dX0_plan_2_131 (hP _ _ h)
          · replace h := h.2 c_13
            refine b_bipush (v := (-3)) dX0_plan_2_92 (by decide) ?_
            exact b_iret rfl dX0_plan_2_94 (hP _ _ h)
        · replace h := h.2 c_14
          refine b_bipush (v := (-2)) dX0_plan_2_77 (by decide) ?_
          exact b_iret rfl dX0_plan_2_79 (hP _ _ h)
def v_X0_plan_2 (r0 : Nat × Nat) (x1 : Int32) (x2 : Int32) (x3 : Int32) (x4 : Int32) (x5 : Int32) (x6 : Int32) (x7 : Int32) (M : Mem) (Q : Int32 → Mem → Prop) : Prop := kt r0.1 = 0 ∧ (∀ e_1 : Nat × Nat, e_1 = M.2.1 r0.1 r0.2 7 → ((v_X0_has e_1 x1 M (fun r_3 M_2 => ((r_3 = 0) → (Q (-1) M_2)) ∧ ((¬ r_3 = 0) → (kt r0.1 = 0 ∧ (∀ e_4 : Nat × Nat, e_4 = M_2.2.1 r0.1 r0.2 2 → ((v_X0_has e_4 x2 M_2 (fun r_6 M_5 => ((¬ r_6 = 0) → ((v_X0_in x3 0 2 M_5 (fun r_8 M_7 => ((r_8 = 0) → (Q (-2) M_7)) ∧ ((¬ r_8 = 0) → (((¬ x3 = 0) → (v_X0_plan_2_47 r0 x1 x2 x3 x4 x5 x6 x7 1000000 0 x4 M_7 Q)) ∧ ((x3 = 0) → (v_X0_plan_2_47 r0 x1 x2 x3 x4 x5 x6 x7 0 0 x4 M_7 Q)))))))) ∧ ((r_6 = 0) → (Q (-1) M_5))))))))))))
set_option maxHeartbeats 4000000 in
theorem sv_X0_plan_2 {d : Nat} {M : Mem} {P : Option AV → Mem → Prop} {Q : Int32 → Mem → Prop} {r0 : Nat × Nat} {x1 : Int32} {x2 : Int32} {x3 : Int32} {x4 : Int32} {x5 : Int32} {x6 : Int32} {x7 : Int32} (hP : ∀ r M, Q r M → P (some (.inl r)) M) (h : v_X0_plan_2 r0 x1 x2 x3 x4 x5 x6 x7 M Q) : cq (d + 9) mX0_plan_2 [.inr r0, .inl x1, .inl x2, .inl x3, .inl x4, .inl x5, .inl x6, .inl x7] M P := by
  refine cq_of (by decide) (Nat.le_of_ble_eq_true rfl) ?_
  show wq (d + 9) mX0_plan_2 0 [(0, .inr r0), (1, .inl x1), (2, .inl x2), (3, .inl x3), (4, .inl x4), (5, .inl x5), (6, .inl x6), (7, .inl x7)] [] M P
  unfold v_X0_plan_2 at h
  refine b_aload_n 0 dX0_plan_2_0 rfl rfl ?_
  refine b_gR (ci := 0) (r := (RX0, TX0, 14)) (f := 7) (by decide) rfl (by decide) rfl (Or.inl q154) (Or.inl rfl) h.1 dX0_plan_2_1 ?_
  refine b_topr (fun e_1 ee_1 => ?_)
  replace h := h.2 e_1 ee_1
  refine b_iload_n 1 dX0_plan_2_4 rfl rfl ?_
  refine b_cs (y := mX0_has) (as := [.inr e_1, .inl x1]) (st := []) (n := 2) (Or.inl q332) q333 q69 q334 zmh_X0_has rfl (Nat.le_of_ble_eq_true rfl) (Nat.le_of_ble_eq_true rfl) dX0_plan_2_5 (sv_X0_has (fun r_3 M_2 h => ?_) h)
  show wq (d + 9) mX0_plan_2 8 [(0, .inr r0), (1, .inl x1), (2, .inl x2), (3, .inl x3), (4, .inl x4), (5, .inl x5), (6, .inl x6), (7, .inl x7)] [.inl r_3] M_2 P
  refine b_if_eq (tgt := 22) dX0_plan_2_8 (by decide) (fun c_12 => ?_) (fun c_12 => ?_)
  · replace h := h.1 c_12
    refine b_iconst (v := (-1)) dX0_plan_2_22 (by decide) ?_
    exact b_iret rfl dX0_plan_2_23 (hP _ _ h)
  · replace h := h.2 c_12
    refine b_aload_n 0 dX0_plan_2_11 rfl rfl ?_
    refine b_gR (ci := 0) (r := (RX0, TX0, 14)) (f := 2) (by decide) rfl (by decide) rfl (Or.inl q148) (Or.inl rfl) h.1 dX0_plan_2_12 ?_
    refine b_topr (fun e_4 ee_4 => ?_)
    replace h := h.2 e_4 ee_4
    refine b_iload_n 2 dX0_plan_2_15 rfl rfl ?_
    refine b_cs (y := mX0_has) (as := [.inr e_4, .inl x2]) (st := []) (n := 2) (Or.inl q332) q333 q69 q334 zmh_X0_has rfl (Nat.le_of_ble_eq_true rfl) (Nat.le_of_ble_eq_true rfl) dX0_plan_2_16 (sv_X0_has (fun r_6 M_5 h => ?_) h)
    show wq (d + 9) mX0_plan_2 19 [(0, .inr r0), (1, .inl x1), (2, .inl x2), (3, .inl x3), (4, .inl x4), (5, .inl x5), (6, .inl x6), (7, .inl x7)] [.inl r_6] M_5 P
    refine b_if_ne (tgt := 24) dX0_plan_2_19 (by decide) (fun c_11 => ?_) (fun c_11 => ?_)
    · replace h := h.1 c_11
      refine b_iload_n 3 dX0_plan_2_24 rfl rfl ?_
      refine b_iconst (v := 0) dX0_plan_2_25 (by decide) ?_
      refine b_iconst (v := 2) dX0_plan_2_26 (by decide) ?_
      refine b_cs (y := mX0_in) (as := [.inl x3, .inl 0, .inl 2]) (st := []) (n := 3) (Or.inl q198) q199 q69 q200 zmh_X0_in rfl (Nat.le_of_ble_eq_true rfl) (Nat.le_of_ble_eq_true rfl) dX0_plan_2_27 (sv_X0_in (fun r_8 M_7 h => ?_) h)
      show wq (d + 9) mX0_plan_2 30 [(0, .inr r0), (1, .inl x1), (2, .inl x2), (3, .inl x3), (4, .inl x4), (5, .inl x5), (6, .inl x6), (7, .inl x7)] [.inl r_8] M_7 P
      refine b_if_eq (tgt := 77) dX0_plan_2_30 (by decide) (fun c_10 => ?_) (fun c_10 => ?_)
      · replace h := h.1 c_10
        refine b_bipush (v := (-2)) dX0_plan_2_77 (by decide) ?_
        exact b_iret rfl dX0_plan_2_79 (hP _ _ h)
      · replace h := h.2 c_10
        refine b_iload 4 dX0_plan_2_33 rfl ?_
        refine b_iconst (v := 0) dX0_plan_2_35 (by decide) ?_
        refine b_iload_n 3 dX0_plan_2_36 rfl rfl ?_
        refine b_if_ne (tgt := 44) dX0_plan_2_37 (by decide) (fun c_9 => ?_) (fun c_9 => ?_)
        · replace h := h.1 c_9
          refine b_ldcw (v := 1000000) dX0_plan_2_44 q197 ?_
          exact b_sub (by simp) (sv_X0_plan_2_47 hP r0 x1 x2 x3 x4 x5 x6 x7 1000000 0 x4 M_7 h)
        · replace h := h.2 c_9
          refine b_iconst (v := 0) dX0_plan_2_40 (by decide) ?_
          refine b_goto (tgt := 47) dX0_plan_2_41 (by decide) ?_
          exact b_sub (by simp) (sv_X0_plan_2_47 hP r0 x1 x2 x3 x4 x5 x6 x7 0 0 x4 M_7 h)
    · replace h := h.2 c_11
      refine b_iconst (v := (-1)) dX0_plan_2_22 (by decide) ?_
      exact b_iret rfl dX0_plan_2_23 (hP _ _ h)
def v_X0_stop (r0 : Nat × Nat) (x1 : Int32) (M : Mem) (Q : Int32 → Mem → Prop) : Prop := kt r0.1 = 0 ∧ (∀ e_1 : Nat × Nat, e_1 = M.2.1 r0.1 r0.2 12 → ((v_X0_has e_1 x1 M (fun r_3 M_2 => ((¬ r_3 = 0) → (kt r0.1 = 0 ∧ (∀ e_4 : Nat × Nat, e_4 = M_2.2.1 r0.1 r0.2 12 → (lk e_4.1 ∧ (¬ x1 < 0 ∧ x1 < M_2.1 e_4.1 e_4.2 0) ∧ (∀ e_5 : Nat × Nat, e_5 = M_2.2.1 e_4.1 e_4.2 x1.toNatClampNeg → (kt e_5.1 = 19 ∧ (kt e_5.1 = 19 ∧ ((((M_2.1 e_5.1 e_5.2 12) = 0) → (kt e_5.1 = 19 ∧ (∀ M_6 : Mem, M_6 = sI M_2 e_5.1 e_5.2 12 1 → (kt e_5.1 = 19 ∧ (Q (M_6.1 e_5.1 e_5.2 8) M_6))))) ∧ ((¬ (M_2.1 e_5.1 e_5.2 12) = 0) → (Q (-4) M_2)))))))))) ∧ ((r_3 = 0) → (Q (-1) M_2))))))
set_option maxHeartbeats 4000000 in
theorem sv_X0_stop {d : Nat} {M : Mem} {P : Option AV → Mem → Prop} {Q : Int32 → Mem → Prop} {r0 : Nat × Nat} {x1 : Int32} (hP : ∀ r M, Q r M → P (some (.inl r)) M) (h : v_X0_stop r0 x1 M Q) : cq (d + 4) mX0_stop [.inr r0, .inl x1] M P := by
  refine cq_of (by decide) (Nat.le_of_ble_eq_true rfl) ?_
  show wq (d + 4) mX0_stop 0 [(0, .inr r0), (1, .inl x1)] [] M P
  unfold v_X0_stop at h
  refine b_aload_n 0 dX0_stop_0 rfl rfl ?_
  refine b_gR (ci := 0) (r := (RX0, TX0, 14)) (f := 12) (by decide) rfl (by decide) rfl (Or.inl q162) (Or.inl rfl) h.1 dX0_stop_1 ?_
  refine b_topr (fun e_1 ee_1 => ?_)
  replace h := h.2 e_1 ee_1
  refine b_iload_n 1 dX0_stop_4 rfl rfl ?_
  refine b_cs (y := mX0_has) (as := [.inr e_1, .inl x1]) (st := []) (n := 2) (Or.inl q332) q333 q69 q334 zmh_X0_has rfl (Nat.le_of_ble_eq_true rfl) (Nat.le_of_ble_eq_true rfl) dX0_stop_5 (sv_X0_has (fun r_3 M_2 h => ?_) h)
  show wq (d + 4) mX0_stop 8 [(0, .inr r0), (1, .inl x1)] [.inl r_3] M_2 P
  refine b_if_ne (tgt := 13) dX0_stop_8 (by decide) (fun c_8 => ?_) (fun c_8 => ?_)
  · replace h := h.1 c_8
    refine b_aload_n 0 dX0_stop_13 rfl rfl ?_
    refine b_gR (ci := 0) (r := (RX0, TX0, 14)) (f := 12) (by decide) rfl (by decide) rfl (Or.inl q162) (Or.inl rfl) h.1 dX0_stop_14 ?_
    refine b_topr (fun e_4 ee_4 => ?_)
    replace h := h.2 e_4 ee_4
    refine b_iload_n 1 dX0_stop_17 rfl rfl ?_
    refine b_lget (st := []) h.1 h.2.1 (Or.inl q624) (Nat.le_of_ble_eq_true rfl) dX0_stop_18 ?_
    refine b_topr (fun e_5 ee_5 => ?_)
    replace h := h.2.2 e_5 ee_5
    refine b_ck (ci := 19) (r := (RX19, TX19, 14)) rfl q1234 h.1 dX0_stop_21 ?_
    replace h := h.2
    refine b_astore_n (lv' := [(2, .inr e_5), (0, .inr r0), (1, .inl x1)]) dX0_stop_24 rfl (Nat.le_of_ble_eq_true rfl) rfl ?_
    refine b_aload_n 0 dX0_stop_25 rfl rfl ?_
    refine b_gI (ci := 19) (r := (RX19, TX19, 14)) (f := 12) (by decide) rfl (by decide) rfl (Or.inr ⟨_, q1299⟩) (Or.inl rfl) h.1 dX0_stop_26 ?_
    replace h := h.2
    refine b_if_eq (tgt := 35) dX0_stop_29 (by decide) (fun c_7 => ?_) (fun c_7 => ?_)
    · replace h := h.1 c_7
      refine b_aload_n 0 dX0_stop_35 rfl rfl ?_
      refine b_iconst (v := 1) dX0_stop_36 (by decide) ?_
      refine b_pI (ci := 19) (r := (RX19, TX19, 14)) (f := 12) (by decide) rfl (by decide) (Or.inr ⟨_, q1299⟩) (Or.inl rfl) rfl (Or.inr ⟨rfl, by decide⟩) h.1 dX0_stop_37 ?_
      refine b_topm (fun M_6 eM_6 => ?_)
      replace h := h.2 M_6 eM_6
      refine b_aload_n 0 dX0_stop_40 rfl rfl ?_
      refine b_gI (ci := 19) (r := (RX19, TX19, 14)) (f := 8) (by decide) rfl (by decide) rfl (Or.inr ⟨_, q1291⟩) (Or.inl rfl) h.1 dX0_stop_41 ?_
      replace h := h.2
      exact b_iret rfl dX0_stop_44 (hP _ _ h)
    · replace h := h.2 c_7
      refine b_bipush (v := (-4)) dX0_stop_32 (by decide) ?_
      exact b_iret rfl dX0_stop_34 (hP _ _ h)
  · replace h := h.2 c_8
    refine b_iconst (v := (-1)) dX0_stop_11 (by decide) ?_
    exact b_iret rfl dX0_stop_12 (hP _ _ h)
def v_X0_planned (r0 : Nat × Nat) (x1 : Int32) (x2 : Int32) (M : Mem) (Q : Int32 → Mem → Prop) : Prop := kt r0.1 = 0 ∧ (∀ e_1 : Nat × Nat, e_1 = M.2.1 r0.1 r0.2 12 → ((v_X0_has e_1 x1 M (fun r_3 M_2 => ((¬ r_3 = 0) → (kt r0.1 = 0 ∧ (∀ e_4 : Nat × Nat, e_4 = M_2.2.1 r0.1 r0.2 12 → (lk e_4.1 ∧ (¬ x1 < 0 ∧ x1 < M_2.1 e_4.1 e_4.2 0) ∧ (∀ e_5 : Nat × Nat, e_5 = M_2.2.1 e_4.1 e_4.2 x1.toNatClampNeg → (kt e_5.1 = 19 ∧ ((x2 = 0 → (kt e_5.1 = 19 ∧ (Q (M_2.1 e_5.1 e_5.2 8) M_2))) ∧ (x2 = 1 → (kt e_5.1 = 19 ∧ (Q (M_2.1 e_5.1 e_5.2 9) M_2))) ∧ (x2 = 2 → (kt e_5.1 = 19 ∧ (Q (M_2.1 e_5.1 e_5.2 10) M_2))) ∧ (x2 = 3 → (kt e_5.1 = 19 ∧ (Q (M_2.1 e_5.1 e_5.2 11) M_2))) ∧ (x2 = 4 → (kt e_5.1 = 19 ∧ ((((M_2.1 e_5.1 e_5.2 12) = 0) → (Q 1 M_2)) ∧ ((¬ (M_2.1 e_5.1 e_5.2 12) = 0) → (Q 0 M_2))))) ∧ (¬ x2 = 0 → ¬ x2 = 1 → ¬ x2 = 2 → ¬ x2 = 3 → ¬ x2 = 4 → (Q (-1) M_2))))))))) ∧ ((r_3 = 0) → (Q (-1) M_2))))))
set_option maxHeartbeats 4000000 in
theorem sv_X0_planned {d : Nat} {M : Mem} {P : Option AV → Mem → Prop} {Q : Int32 → Mem → Prop} {r0 : Nat × Nat} {x1 : Int32} {x2 : Int32} (hP : ∀ r M, Q r M → P (some (.inl r)) M) (h : v_X0_planned r0 x1 x2 M Q) : cq (d + 4) mX0_planned [.inr r0, .inl x1, .inl x2] M P := by
  refine cq_of (by decide) (Nat.le_of_ble_eq_true rfl) ?_
  show wq (d + 4) mX0_planned 0 [(0, .inr r0), (1, .inl x1), (2, .inl x2)] [] M P
  unfold v_X0_planned at h
  refine b_aload_n 0 dX0_planned_0 rfl rfl ?_
  refine b_gR (ci := 0) (r := (RX0, TX0, 14)) (f := 12) (by decide) rfl (by decide) rfl (Or.inl q162) (Or.inl rfl) h.1 dX0_planned_1 ?_
  refine b_topr (fun e_1 ee_1 => ?_)
  replace h := h.2 e_1 ee_1
  refine b_iload_n 1 dX0_planned_4 rfl rfl ?_
  refine b_cs (y := mX0_has) (as := [.inr e_1, .inl x1]) (st := []) (n := 2) (Or.inl q332) q333 q69 q334 zmh_X0_has rfl (Nat.le_of_ble_eq_true rfl) (Nat.le_of_ble_eq_true rfl) dX0_planned_5 (sv_X0_has (fun r_3 M_2 h => ?_) h)
  show wq (d + 4) mX0_planned 8 [(0, .inr r0), (1, .inl x1), (2, .inl x2)] [.inl r_3] M_2 P
  refine b_if_ne (tgt := 13) dX0_planned_8 (by decide) (fun c_7 => ?_) (fun c_7 => ?_)
  · replace h := h.1 c_7
    refine b_aload_n 0 dX0_planned_13 rfl rfl ?_
    refine b_gR (ci := 0) (r := (RX0, TX0, 14)) (f := 12) (by decide) rfl (by decide) rfl (Or.inl q162) (Or.inl rfl) h.1 dX0_planned_14 ?_
    refine b_topr (fun e_4 ee_4 => ?_)
    replace h := h.2 e_4 ee_4
    refine b_iload_n 1 dX0_planned_17 rfl rfl ?_
    refine b_lget (st := []) h.1 h.2.1 (Or.inl q624) (Nat.le_of_ble_eq_true rfl) dX0_planned_18 ?_
    refine b_topr (fun e_5 ee_5 => ?_)
    replace h := h.2.2 e_5 ee_5
    refine b_ck (ci := 19) (r := (RX19, TX19, 14)) rfl q1234 h.1 dX0_planned_21 ?_
    replace h := h.2
    refine b_astore_n (lv' := [(3, .inr e_5), (0, .inr r0), (1, .inl x1), (2, .inl x2)]) dX0_planned_24 rfl (Nat.le_of_ble_eq_true rfl) rfl ?_
    refine b_iload_n 3 dX0_planned_25 rfl rfl ?_
    refine b_tsw (fun j => ([60, 65, 70, 75, 80] : List Nat).getD j 0) (tD := 93) (n := 5) dX0_planned_26 rfl (by decide) (by decide) (by decide) (fun j hj e => ?_) (fun e => ?_)
    · match j, hj, e with
      | 0, _, e =>
        replace h := h.1 e
        show wq (d + 4) mX0_planned 60 _ _ _ _
        refine b_aload_n 0 dX0_planned_60 rfl rfl ?_
        refine b_gI (ci := 19) (r := (RX19, TX19, 14)) (f := 8) (by decide) rfl (by decide) rfl (Or.inr ⟨_, q1291⟩) (Or.inl rfl) h.1 dX0_planned_61 ?_
        replace h := h.2
        exact b_iret rfl dX0_planned_64 (hP _ _ h)
      | 1, _, e =>
        replace h := h.2.1 e
        show wq (d + 4) mX0_planned 65 _ _ _ _
        refine b_aload_n 0 dX0_planned_65 rfl rfl ?_
        refine b_gI (ci := 19) (r := (RX19, TX19, 14)) (f := 9) (by decide) rfl (by decide) rfl (Or.inr ⟨_, q1293⟩) (Or.inl rfl) h.1 dX0_planned_66 ?_
        replace h := h.2
        exact b_iret rfl dX0_planned_69 (hP _ _ h)
      | 2, _, e =>
        replace h := h.2.2.1 e
        show wq (d + 4) mX0_planned 70 _ _ _ _
        refine b_aload_n 0 dX0_planned_70 rfl rfl ?_
        refine b_gI (ci := 19) (r := (RX19, TX19, 14)) (f := 10) (by decide) rfl (by decide) rfl (Or.inr ⟨_, q1295⟩) (Or.inl rfl) h.1 dX0_planned_71 ?_
        replace h := h.2
        exact b_iret rfl dX0_planned_74 (hP _ _ h)
      | 3, _, e =>
        replace h := h.2.2.2.1 e
        show wq (d + 4) mX0_planned 75 _ _ _ _
        refine b_aload_n 0 dX0_planned_75 rfl rfl ?_
        refine b_gI (ci := 19) (r := (RX19, TX19, 14)) (f := 11) (by decide) rfl (by decide) rfl (Or.inr ⟨_, q1297⟩) (Or.inl rfl) h.1 dX0_planned_76 ?_
        replace h := h.2
        exact b_iret rfl dX0_planned_79 (hP _ _ h)
      | 4, _, e =>
        replace h := h.2.2.2.2.1 e
        show wq (d + 4) mX0_planned 80 _ _ _ _
        refine b_aload_n 0 dX0_planned_80 rfl rfl ?_
        refine b_gI (ci := 19) (r := (RX19, TX19, 14)) (f := 12) (by decide) rfl (by decide) rfl (Or.inr ⟨_, q1299⟩) (Or.inl rfl) h.1 dX0_planned_81 ?_
        replace h := h.2
        refine b_if_eq (tgt := 91) dX0_planned_84 (by decide) (fun c_6 => ?_) (fun c_6 => ?_)
        · replace h := h.1 c_6
          refine b_iconst (v := 1) dX0_planned_91 (by decide) ?_
          exact b_iret rfl dX0_planned_92 (hP _ _ h)
        · replace h := h.2 c_6
          refine b_iconst (v := 0) dX0_planned_87 (by decide) ?_
          refine b_goto (tgt := 92) dX0_planned_88 (by decide) ?_
          exact b_iret rfl dX0_planned_92 (hP _ _ h)
      | j + 5, hj, _ => exact absurd hj (by omega)
    · replace h := h.2.2.2.2.2 (e 0 (by decide)) (e 1 (by decide)) (e 2 (by decide)) (e 3 (by decide)) (e 4 (by decide))
      refine b_iconst (v := (-1)) dX0_planned_93 (by decide) ?_
      exact b_iret rfl dX0_planned_94 (hP _ _ h)
  · replace h := h.2 c_7
    refine b_iconst (v := (-1)) dX0_planned_11 (by decide) ?_
    exact b_iret rfl dX0_planned_12 (hP _ _ h)
def v_X0_bulkheadOf (r0 : Nat × Nat) (x1 : Int32) (M : Mem) (Q : Nat × Nat → Mem → Prop) : Prop := kt r0.1 = 0 ∧ (∀ e_1 : Nat × Nat, e_1 = M.2.1 r0.1 r0.2 5 → ((v_X0_has e_1 x1 M (fun r_3 M_2 => ((r_3 = 0) → (Q (0, 0) M_2)) ∧ ((¬ r_3 = 0) → (kt r0.1 = 0 ∧ (∀ e_4 : Nat × Nat, e_4 = M_2.2.1 r0.1 r0.2 5 → (lk e_4.1 ∧ (¬ x1 < 0 ∧ x1 < M_2.1 e_4.1 e_4.2 0) ∧ (∀ e_5 : Nat × Nat, e_5 = M_2.2.1 e_4.1 e_4.2 x1.toNatClampNeg → (gk e_5.1 ∧ ((kt e_5.1 = 6) → (kt e_5.1 = 6 ∧ (Q e_5 M_2))) ∧ (¬ (kt e_5.1 = 6) → (Q (0, 0) M_2))))))))))))
set_option maxHeartbeats 4000000 in
theorem sv_X0_bulkheadOf {d : Nat} {M : Mem} {P : Option AV → Mem → Prop} {Q : Nat × Nat → Mem → Prop} {r0 : Nat × Nat} {x1 : Int32} (hP : ∀ r M, Q r M → P (some (.inr r)) M) (h : v_X0_bulkheadOf r0 x1 M Q) : cq (d + 4) mX0_bulkheadOf [.inr r0, .inl x1] M P := by
  refine cq_of (by decide) (Nat.le_of_ble_eq_true rfl) ?_
  show wq (d + 4) mX0_bulkheadOf 0 [(0, .inr r0), (1, .inl x1)] [] M P
  unfold v_X0_bulkheadOf at h
  refine b_aload_n 0 dX0_bulkheadOf_0 rfl rfl ?_
  refine b_gR (ci := 0) (r := (RX0, TX0, 14)) (f := 5) (by decide) rfl (by decide) rfl (Or.inl q152) (Or.inl rfl) h.1 dX0_bulkheadOf_1 ?_
  refine b_topr (fun e_1 ee_1 => ?_)
  replace h := h.2 e_1 ee_1
  refine b_iload_n 1 dX0_bulkheadOf_4 rfl rfl ?_
  refine b_cs (y := mX0_has) (as := [.inr e_1, .inl x1]) (st := []) (n := 2) (Or.inl q332) q333 q69 q334 zmh_X0_has rfl (Nat.le_of_ble_eq_true rfl) (Nat.le_of_ble_eq_true rfl) dX0_bulkheadOf_5 (sv_X0_has (fun r_3 M_2 h => ?_) h)
  show wq (d + 4) mX0_bulkheadOf 8 [(0, .inr r0), (1, .inl x1)] [.inl r_3] M_2 P
  refine b_if_eq (tgt := 36) dX0_bulkheadOf_8 (by decide) (fun c_9 => ?_) (fun c_9 => ?_)
  · replace h := h.1 c_9
    refine b_null dX0_bulkheadOf_36 ?_
    exact b_aret rfl (Or.inl ⟨_, rfl⟩) dX0_bulkheadOf_37 (hP _ _ h)
  · replace h := h.2 c_9
    refine b_aload_n 0 dX0_bulkheadOf_11 rfl rfl ?_
    refine b_gR (ci := 0) (r := (RX0, TX0, 14)) (f := 5) (by decide) rfl (by decide) rfl (Or.inl q152) (Or.inl rfl) h.1 dX0_bulkheadOf_12 ?_
    refine b_topr (fun e_4 ee_4 => ?_)
    replace h := h.2 e_4 ee_4
    refine b_iload_n 1 dX0_bulkheadOf_15 rfl rfl ?_
    refine b_lget (st := []) h.1 h.2.1 (Or.inl q624) (Nat.le_of_ble_eq_true rfl) dX0_bulkheadOf_16 ?_
    refine b_topr (fun e_5 ee_5 => ?_)
    replace h := h.2.2 e_5 ee_5
    refine b_astore_n (lv' := [(3, .inr e_5), (0, .inr r0), (1, .inl x1)]) dX0_bulkheadOf_19 rfl (Nat.le_of_ble_eq_true rfl) rfl ?_
    refine b_aload_n 0 dX0_bulkheadOf_20 rfl rfl ?_
    refine b_iso (ci := 6) (r := (RX6, TX6, 11)) rfl (by decide) q436 h.1 dX0_bulkheadOf_21 (fun c_8 => ?_) (fun c_8 => ?_)
    · replace h := h.2.1 c_8
      refine b_if_eq (tgt := 36) dX0_bulkheadOf_24 (by decide) (fun c_6 => ?_) (fun c_6 => ?_)
      · exact absurd c_6 (by decide)
      · skip
        refine b_aload_n 0 dX0_bulkheadOf_27 rfl rfl ?_
        refine b_ck (ci := 6) (r := (RX6, TX6, 11)) rfl q436 h.1 dX0_bulkheadOf_28 ?_
        replace h := h.2
        refine b_astore_n (lv' := [(2, .inr e_5), (3, .inr e_5), (0, .inr r0), (1, .inl x1)]) dX0_bulkheadOf_31 rfl (Nat.le_of_ble_eq_true rfl) rfl ?_
        refine b_aload_n 0 dX0_bulkheadOf_32 rfl rfl ?_
        refine b_goto (tgt := 37) dX0_bulkheadOf_33 (by decide) ?_
        exact b_aret rfl (Or.inl ⟨_, rfl⟩) dX0_bulkheadOf_37 (hP _ _ h)
    · replace h := h.2.2 c_8
      refine b_if_eq (tgt := 36) dX0_bulkheadOf_24 (by decide) (fun c_7 => ?_) (fun c_7 => ?_)
      · skip
        refine b_null dX0_bulkheadOf_36 ?_
        exact b_aret rfl (Or.inl ⟨_, rfl⟩) dX0_bulkheadOf_37 (hP _ _ h)
      · exact absurd c_7 (by decide)
def v_X0_fuseOf (r0 : Nat × Nat) (x1 : Int32) (M : Mem) (Q : Nat × Nat → Mem → Prop) : Prop := kt r0.1 = 0 ∧ (∀ e_1 : Nat × Nat, e_1 = M.2.1 r0.1 r0.2 5 → ((v_X0_has e_1 x1 M (fun r_3 M_2 => ((r_3 = 0) → (Q (0, 0) M_2)) ∧ ((¬ r_3 = 0) → (kt r0.1 = 0 ∧ (∀ e_4 : Nat × Nat, e_4 = M_2.2.1 r0.1 r0.2 5 → (lk e_4.1 ∧ (¬ x1 < 0 ∧ x1 < M_2.1 e_4.1 e_4.2 0) ∧ (∀ e_5 : Nat × Nat, e_5 = M_2.2.1 e_4.1 e_4.2 x1.toNatClampNeg → (gk e_5.1 ∧ ((kt e_5.1 = 5) → (kt e_5.1 = 5 ∧ (Q e_5 M_2))) ∧ (¬ (kt e_5.1 = 5) → (Q (0, 0) M_2))))))))))))
set_option maxHeartbeats 4000000 in
theorem sv_X0_fuseOf {d : Nat} {M : Mem} {P : Option AV → Mem → Prop} {Q : Nat × Nat → Mem → Prop} {r0 : Nat × Nat} {x1 : Int32} (hP : ∀ r M, Q r M → P (some (.inr r)) M) (h : v_X0_fuseOf r0 x1 M Q) : cq (d + 4) mX0_fuseOf [.inr r0, .inl x1] M P := by
  refine cq_of (by decide) (Nat.le_of_ble_eq_true rfl) ?_
  show wq (d + 4) mX0_fuseOf 0 [(0, .inr r0), (1, .inl x1)] [] M P
  unfold v_X0_fuseOf at h
  refine b_aload_n 0 dX0_fuseOf_0 rfl rfl ?_
  refine b_gR (ci := 0) (r := (RX0, TX0, 14)) (f := 5) (by decide) rfl (by decide) rfl (Or.inl q152) (Or.inl rfl) h.1 dX0_fuseOf_1 ?_
  refine b_topr (fun e_1 ee_1 => ?_)
  replace h := h.2 e_1 ee_1
  refine b_iload_n 1 dX0_fuseOf_4 rfl rfl ?_
  refine b_cs (y := mX0_has) (as := [.inr e_1, .inl x1]) (st := []) (n := 2) (Or.inl q332) q333 q69 q334 zmh_X0_has rfl (Nat.le_of_ble_eq_true rfl) (Nat.le_of_ble_eq_true rfl) dX0_fuseOf_5 (sv_X0_has (fun r_3 M_2 h => ?_) h)
  show wq (d + 4) mX0_fuseOf 8 [(0, .inr r0), (1, .inl x1)] [.inl r_3] M_2 P
  refine b_if_eq (tgt := 36) dX0_fuseOf_8 (by decide) (fun c_9 => ?_) (fun c_9 => ?_)
  · replace h := h.1 c_9
    refine b_null dX0_fuseOf_36 ?_
    exact b_aret rfl (Or.inl ⟨_, rfl⟩) dX0_fuseOf_37 (hP _ _ h)
  · replace h := h.2 c_9
    refine b_aload_n 0 dX0_fuseOf_11 rfl rfl ?_
    refine b_gR (ci := 0) (r := (RX0, TX0, 14)) (f := 5) (by decide) rfl (by decide) rfl (Or.inl q152) (Or.inl rfl) h.1 dX0_fuseOf_12 ?_
    refine b_topr (fun e_4 ee_4 => ?_)
    replace h := h.2 e_4 ee_4
    refine b_iload_n 1 dX0_fuseOf_15 rfl rfl ?_
    refine b_lget (st := []) h.1 h.2.1 (Or.inl q624) (Nat.le_of_ble_eq_true rfl) dX0_fuseOf_16 ?_
    refine b_topr (fun e_5 ee_5 => ?_)
    replace h := h.2.2 e_5 ee_5
    refine b_astore_n (lv' := [(3, .inr e_5), (0, .inr r0), (1, .inl x1)]) dX0_fuseOf_19 rfl (Nat.le_of_ble_eq_true rfl) rfl ?_
    refine b_aload_n 0 dX0_fuseOf_20 rfl rfl ?_
    refine b_iso (ci := 5) (r := (RX5, TX5, 12)) rfl (by decide) q350 h.1 dX0_fuseOf_21 (fun c_8 => ?_) (fun c_8 => ?_)
    · replace h := h.2.1 c_8
      refine b_if_eq (tgt := 36) dX0_fuseOf_24 (by decide) (fun c_6 => ?_) (fun c_6 => ?_)
      · exact absurd c_6 (by decide)
      · skip
        refine b_aload_n 0 dX0_fuseOf_27 rfl rfl ?_
        refine b_ck (ci := 5) (r := (RX5, TX5, 12)) rfl q350 h.1 dX0_fuseOf_28 ?_
        replace h := h.2
        refine b_astore_n (lv' := [(2, .inr e_5), (3, .inr e_5), (0, .inr r0), (1, .inl x1)]) dX0_fuseOf_31 rfl (Nat.le_of_ble_eq_true rfl) rfl ?_
        refine b_aload_n 0 dX0_fuseOf_32 rfl rfl ?_
        refine b_goto (tgt := 37) dX0_fuseOf_33 (by decide) ?_
        exact b_aret rfl (Or.inl ⟨_, rfl⟩) dX0_fuseOf_37 (hP _ _ h)
    · replace h := h.2.2 c_8
      refine b_if_eq (tgt := 36) dX0_fuseOf_24 (by decide) (fun c_7 => ?_) (fun c_7 => ?_)
      · skip
        refine b_null dX0_fuseOf_36 ?_
        exact b_aret rfl (Or.inl ⟨_, rfl⟩) dX0_fuseOf_37 (hP _ _ h)
      · exact absurd c_7 (by decide)
def v_X20_init (r0 : Nat × Nat) (r1 : Nat × Nat) (M : Mem) (Q : Mem → Prop) : Prop := ak r0.1 ∧ (∀ M_1 : Mem, M_1 = sR M r0.1 r0.2 3 r1 → (¬ r0.1 = 0 ∧ (ak r0.1 ∧ (∀ M_2 : Mem, M_2 = sI M_1 r0.1 r0.2 2 (-1) → (Q M_2)))))
set_option maxHeartbeats 4000000 in
theorem sv_X20_init {d : Nat} {M : Mem} {P : Option AV → Mem → Prop} {Q : Mem → Prop} {r0 : Nat × Nat} {r1 : Nat × Nat} (hP : ∀ M, Q M → P none M) (h : v_X20_init r0 r1 M Q) : cq (d + 1) mX20_init [.inr r0, .inr r1] M P := by
  refine cq_of (by decide) (Nat.le_of_ble_eq_true rfl) ?_
  show wq (d + 1) mX20_init 0 [(0, .inr r0), (1, .inr r1)] [] M P
  unfold v_X20_init at h
  refine b_aload_n 0 dX20_init_0 rfl rfl ?_
  refine b_aload_n 1 dX20_init_1 rfl rfl ?_
  refine b_fRk (f := 3) (by decide) q1367 (Or.inl rfl) rfl rfl rfl rfl h.1 dX20_init_2 ?_
  refine b_topm (fun M_1 eM_1 => ?_)
  replace h := h.2 M_1 eM_1
  refine b_aload_n 0 dX20_init_5 rfl rfl ?_
  refine b_obj h.1 q1358 q109 q110 (Nat.le_of_ble_eq_true rfl) dX20_init_6 ?_
  replace h := h.2
  refine b_aload_n 0 dX20_init_9 rfl rfl ?_
  refine b_iconst (v := (-1)) dX20_init_10 (by decide) ?_
  refine b_pIk (f := 2) (by decide) (Or.inl q1365) (Or.inl rfl) rfl (Or.inl rfl) h.1 dX20_init_11 ?_
  refine b_topm (fun M_2 eM_2 => ?_)
  replace h := h.2 M_2 eM_2
  exact b_vret rfl dX20_init_14 (hP _ h)
def v_X21_init (r0 : Nat × Nat) (r1 : Nat × Nat) (r2 : Nat × Nat) (M : Mem) (Q : Mem → Prop) : Prop := kt r0.1 = 21 ∧ (∀ M_1 : Mem, M_1 = sR M r0.1 r0.2 5 r1 → (¬ r0.1 = 0 ∧ (v_X20_init r0 r1 M_1 (fun M_2 => kt r0.1 = 21 ∧ (∀ M_4 : Mem, M_4 = sR M_2 r0.1 r0.2 4 r2 → (Q M_4))))))
set_option maxHeartbeats 4000000 in
theorem sv_X21_init {d : Nat} {M : Mem} {P : Option AV → Mem → Prop} {Q : Mem → Prop} {r0 : Nat × Nat} {r1 : Nat × Nat} {r2 : Nat × Nat} (hP : ∀ M, Q M → P none M) (h : v_X21_init r0 r1 r2 M Q) : cq (d + 2) mX21_init [.inr r0, .inr r1, .inr r2] M P := by
  refine cq_of (by decide) (Nat.le_of_ble_eq_true rfl) ?_
  show wq (d + 2) mX21_init 0 [(0, .inr r0), (1, .inr r1), (2, .inr r2)] [] M P
  unfold v_X21_init at h
  refine b_aload_n 0 dX21_init_0 rfl rfl ?_
  refine b_aload_n 1 dX21_init_1 rfl rfl ?_
  refine b_fR (ci := 21) (r := (RX21, TX21, 6)) (f := 5) (by decide) rfl (by decide) q1360 (Or.inl rfl) rfl rfl rfl rfl h.1 dX21_init_2 ?_
  refine b_topm (fun M_1 eM_1 => ?_)
  replace h := h.2 M_1 eM_1
  refine b_aload_n 0 dX21_init_5 rfl rfl ?_
  refine b_aload_n 1 dX21_init_6 rfl rfl ?_
  refine b_ci (y := mX20_init) (k := r0.1) (i := r0.2) (as := [.inr r1]) (st := []) (n := 1) h.1 rfl rfl (Or.inr ⟨_, q1355⟩) q1356 q98 q1357 zmh_X20_init rfl (Nat.le_of_ble_eq_true rfl) (Nat.le_of_ble_eq_true rfl) dX21_init_7 (sv_X20_init (fun M_2 h => ?_) h.2)
  show wq (d + 2) mX21_init 10 [(0, .inr r0), (1, .inr r1), (2, .inr r2)] [] M_2 P
  refine b_aload_n 0 dX21_init_10 rfl rfl ?_
  refine b_aload_n 2 dX21_init_11 rfl rfl ?_
  refine b_fR (ci := 21) (r := (RX21, TX21, 6)) (f := 4) (by decide) rfl (by decide) q1359 (Or.inl rfl) rfl rfl rfl rfl h.1 dX21_init_12 ?_
  refine b_topm (fun M_4 eM_4 => ?_)
  replace h := h.2 M_4 eM_4
  exact b_vret rfl dX21_init_15 (hP _ h)
def v_X22_init (r0 : Nat × Nat) (r1 : Nat × Nat) (r2 : Nat × Nat) (x3 : Int32) (M : Mem) (Q : Mem → Prop) : Prop := kt r0.1 = 22 ∧ (∀ M_1 : Mem, M_1 = sR M r0.1 r0.2 6 r1 → (¬ r0.1 = 0 ∧ (v_X20_init r0 r1 M_1 (fun M_2 => kt r0.1 = 22 ∧ (∀ M_4 : Mem, M_4 = sR M_2 r0.1 r0.2 4 r2 → (kt r0.1 = 22 ∧ (∀ M_5 : Mem, M_5 = sI M_4 r0.1 r0.2 5 x3 → (Q M_5))))))))
set_option maxHeartbeats 4000000 in
theorem sv_X22_init {d : Nat} {M : Mem} {P : Option AV → Mem → Prop} {Q : Mem → Prop} {r0 : Nat × Nat} {r1 : Nat × Nat} {r2 : Nat × Nat} {x3 : Int32} (hP : ∀ M, Q M → P none M) (h : v_X22_init r0 r1 r2 x3 M Q) : cq (d + 2) mX22_init [.inr r0, .inr r1, .inr r2, .inl x3] M P := by
  refine cq_of (by decide) (Nat.le_of_ble_eq_true rfl) ?_
  show wq (d + 2) mX22_init 0 [(0, .inr r0), (1, .inr r1), (2, .inr r2), (3, .inl x3)] [] M P
  unfold v_X22_init at h
  refine b_aload_n 0 dX22_init_0 rfl rfl ?_
  refine b_aload_n 1 dX22_init_1 rfl rfl ?_
  refine b_fR (ci := 22) (r := (RX22, TX22, 7)) (f := 6) (by decide) rfl (by decide) q1389 (Or.inl rfl) rfl rfl rfl rfl h.1 dX22_init_2 ?_
  refine b_topm (fun M_1 eM_1 => ?_)
  replace h := h.2 M_1 eM_1
  refine b_aload_n 0 dX22_init_5 rfl rfl ?_
  refine b_aload_n 1 dX22_init_6 rfl rfl ?_
  refine b_ci (y := mX20_init) (k := r0.1) (i := r0.2) (as := [.inr r1]) (st := []) (n := 1) h.1 rfl rfl (Or.inr ⟨_, q1386⟩) q1356 q98 q1357 zmh_X20_init rfl (Nat.le_of_ble_eq_true rfl) (Nat.le_of_ble_eq_true rfl) dX22_init_7 (sv_X20_init (fun M_2 h => ?_) h.2)
  show wq (d + 2) mX22_init 10 [(0, .inr r0), (1, .inr r1), (2, .inr r2), (3, .inl x3)] [] M_2 P
  refine b_aload_n 0 dX22_init_10 rfl rfl ?_
  refine b_aload_n 2 dX22_init_11 rfl rfl ?_
  refine b_fR (ci := 22) (r := (RX22, TX22, 7)) (f := 4) (by decide) rfl (by decide) q1387 (Or.inl rfl) rfl rfl rfl rfl h.1 dX22_init_12 ?_
  refine b_topm (fun M_4 eM_4 => ?_)
  replace h := h.2 M_4 eM_4
  refine b_aload_n 0 dX22_init_15 rfl rfl ?_
  refine b_iload_n 3 dX22_init_16 rfl rfl ?_
  refine b_fI (ci := 22) (r := (RX22, TX22, 7)) (f := 5) (by decide) rfl (by decide) q1388 (Or.inl rfl) rfl rfl rfl (Or.inl rfl) h.1 dX22_init_17 ?_
  refine b_topm (fun M_5 eM_5 => ?_)
  replace h := h.2 M_5 eM_5
  exact b_vret rfl dX22_init_20 (hP _ h)
def v_X23_init (r0 : Nat × Nat) (r1 : Nat × Nat) (r2 : Nat × Nat) (x3 : Int32) (M : Mem) (Q : Mem → Prop) : Prop := kt r0.1 = 23 ∧ (∀ M_1 : Mem, M_1 = sR M r0.1 r0.2 6 r1 → (¬ r0.1 = 0 ∧ (v_X20_init r0 r1 M_1 (fun M_2 => kt r0.1 = 23 ∧ (∀ M_4 : Mem, M_4 = sR M_2 r0.1 r0.2 4 r2 → (kt r0.1 = 23 ∧ (∀ M_5 : Mem, M_5 = sI M_4 r0.1 r0.2 5 x3 → (Q M_5))))))))
set_option maxHeartbeats 4000000 in
theorem sv_X23_init {d : Nat} {M : Mem} {P : Option AV → Mem → Prop} {Q : Mem → Prop} {r0 : Nat × Nat} {r1 : Nat × Nat} {r2 : Nat × Nat} {x3 : Int32} (hP : ∀ M, Q M → P none M) (h : v_X23_init r0 r1 r2 x3 M Q) : cq (d + 2) mX23_init [.inr r0, .inr r1, .inr r2, .inl x3] M P := by
  refine cq_of (by decide) (Nat.le_of_ble_eq_true rfl) ?_
  show wq (d + 2) mX23_init 0 [(0, .inr r0), (1, .inr r1), (2, .inr r2), (3, .inl x3)] [] M P
  unfold v_X23_init at h
  refine b_aload_n 0 dX23_init_0 rfl rfl ?_
  refine b_aload_n 1 dX23_init_1 rfl rfl ?_
  refine b_fR (ci := 23) (r := (RX23, TX23, 7)) (f := 6) (by decide) rfl (by decide) q1409 (Or.inl rfl) rfl rfl rfl rfl h.1 dX23_init_2 ?_
  refine b_topm (fun M_1 eM_1 => ?_)
  replace h := h.2 M_1 eM_1
  refine b_aload_n 0 dX23_init_5 rfl rfl ?_
  refine b_aload_n 1 dX23_init_6 rfl rfl ?_
  refine b_ci (y := mX20_init) (k := r0.1) (i := r0.2) (as := [.inr r1]) (st := []) (n := 1) h.1 rfl rfl (Or.inr ⟨_, q1406⟩) q1356 q98 q1357 zmh_X20_init rfl (Nat.le_of_ble_eq_true rfl) (Nat.le_of_ble_eq_true rfl) dX23_init_7 (sv_X20_init (fun M_2 h => ?_) h.2)
  show wq (d + 2) mX23_init 10 [(0, .inr r0), (1, .inr r1), (2, .inr r2), (3, .inl x3)] [] M_2 P
  refine b_aload_n 0 dX23_init_10 rfl rfl ?_
  refine b_aload_n 2 dX23_init_11 rfl rfl ?_
  refine b_fR (ci := 23) (r := (RX23, TX23, 7)) (f := 4) (by decide) rfl (by decide) q1407 (Or.inl rfl) rfl rfl rfl rfl h.1 dX23_init_12 ?_
  refine b_topm (fun M_4 eM_4 => ?_)
  replace h := h.2 M_4 eM_4
  refine b_aload_n 0 dX23_init_15 rfl rfl ?_
  refine b_iload_n 3 dX23_init_16 rfl rfl ?_
  refine b_fI (ci := 23) (r := (RX23, TX23, 7)) (f := 5) (by decide) rfl (by decide) q1408 (Or.inl rfl) rfl rfl rfl (Or.inl rfl) h.1 dX23_init_17 ?_
  refine b_topm (fun M_5 eM_5 => ?_)
  replace h := h.2 M_5 eM_5
  exact b_vret rfl dX23_init_20 (hP _ h)
def v_X24_init (r0 : Nat × Nat) (r1 : Nat × Nat) (x2 : Int32) (M : Mem) (Q : Mem → Prop) : Prop := kt r0.1 = 24 ∧ (∀ M_1 : Mem, M_1 = sR M r0.1 r0.2 5 r1 → (¬ r0.1 = 0 ∧ (v_X20_init r0 r1 M_1 (fun M_2 => kt r0.1 = 24 ∧ (∀ M_4 : Mem, M_4 = sI M_2 r0.1 r0.2 4 x2 → (Q M_4))))))
set_option maxHeartbeats 4000000 in
theorem sv_X24_init {d : Nat} {M : Mem} {P : Option AV → Mem → Prop} {Q : Mem → Prop} {r0 : Nat × Nat} {r1 : Nat × Nat} {x2 : Int32} (hP : ∀ M, Q M → P none M) (h : v_X24_init r0 r1 x2 M Q) : cq (d + 2) mX24_init [.inr r0, .inr r1, .inl x2] M P := by
  refine cq_of (by decide) (Nat.le_of_ble_eq_true rfl) ?_
  show wq (d + 2) mX24_init 0 [(0, .inr r0), (1, .inr r1), (2, .inl x2)] [] M P
  unfold v_X24_init at h
  refine b_aload_n 0 dX24_init_0 rfl rfl ?_
  refine b_aload_n 1 dX24_init_1 rfl rfl ?_
  refine b_fR (ci := 24) (r := (RX24, TX24, 6)) (f := 5) (by decide) rfl (by decide) q1428 (Or.inl rfl) rfl rfl rfl rfl h.1 dX24_init_2 ?_
  refine b_topm (fun M_1 eM_1 => ?_)
  replace h := h.2 M_1 eM_1
  refine b_aload_n 0 dX24_init_5 rfl rfl ?_
  refine b_aload_n 1 dX24_init_6 rfl rfl ?_
  refine b_ci (y := mX20_init) (k := r0.1) (i := r0.2) (as := [.inr r1]) (st := []) (n := 1) h.1 rfl rfl (Or.inr ⟨_, q1426⟩) q1356 q98 q1357 zmh_X20_init rfl (Nat.le_of_ble_eq_true rfl) (Nat.le_of_ble_eq_true rfl) dX24_init_7 (sv_X20_init (fun M_2 h => ?_) h.2)
  show wq (d + 2) mX24_init 10 [(0, .inr r0), (1, .inr r1), (2, .inl x2)] [] M_2 P
  refine b_aload_n 0 dX24_init_10 rfl rfl ?_
  refine b_iload_n 2 dX24_init_11 rfl rfl ?_
  refine b_fI (ci := 24) (r := (RX24, TX24, 6)) (f := 4) (by decide) rfl (by decide) q1427 (Or.inl rfl) rfl rfl rfl (Or.inl rfl) h.1 dX24_init_12 ?_
  refine b_topm (fun M_4 eM_4 => ?_)
  replace h := h.2 M_4 eM_4
  exact b_vret rfl dX24_init_15 (hP _ h)
def v_X0_alarm_102 (r0 : Nat × Nat) (x1 : Int32) (x2 : Int32) (x3 : Int32) (M : Mem) (Q : Int32 → Mem → Prop) : Prop := kt r0.1 = 0 ∧ (∀ e_1 : Nat × Nat, e_1 = M.2.1 r0.1 r0.2 13 → (lk e_1.1 ∧ (((¬ (M.1 e_1.1 e_1.2 0) = 10) → (((¬ x1 = 0) → (((¬ x1 = 1) → (((¬ x1 = 2) → (kt r0.1 = 0 ∧ (∀ e_2 : Nat × Nat, e_2 = M.2.1 r0.1 r0.2 13 → (rom M 6 ∧ (∃ i_3 : Nat, M.2.2.1 28 i_3 = 0 ∧ ∀ M_4 : Mem, M_4 = sN M 28 i_3 0 6 → (¬ 28 = 0 ∧ (v_X24_init (28, i_3) r0 x3 M_4 (fun M_5 => lk e_2.1 ∧ ekk 28 = true ∧ M_5.1 e_2.1 e_2.2 0 < 10000 ∧ rom M_5 10 ∧ (∀ M_7 : Mem, M_7 = lAdd M_5 e_2 (28, i_3) → (kt r0.1 = 0 ∧ (∀ e_8 : Nat × Nat, e_8 = M_7.2.1 r0.1 r0.2 13 → (lk e_8.1 ∧ (Q ((M_7.1 e_8.1 e_8.2 0) - 1) M_7))))))))))))) ∧ ((x1 = 2) → (kt r0.1 = 0 ∧ (∀ e_9 : Nat × Nat, e_9 = M.2.1 r0.1 r0.2 13 → (rom M 7 ∧ (∃ i_10 : Nat, M.2.2.1 27 i_10 = 0 ∧ ∀ M_11 : Mem, M_11 = sN M 27 i_10 0 7 → (kt r0.1 = 0 ∧ (v_X0_bulkheadOf r0 x2 M_11 (fun e_13 M_12 => ¬ 27 = 0 ∧ (v_X23_init (27, i_10) r0 e_13 x3 M_12 (fun M_14 => lk e_9.1 ∧ ekk 27 = true ∧ M_14.1 e_9.1 e_9.2 0 < 10000 ∧ rom M_14 10 ∧ (∀ M_16 : Mem, M_16 = lAdd M_14 e_9 (27, i_10) → (kt r0.1 = 0 ∧ (∀ e_17 : Nat × Nat, e_17 = M_16.2.1 r0.1 r0.2 13 → (lk e_17.1 ∧ (Q ((M_16.1 e_17.1 e_17.2 0) - 1) M_16))))))))))))))))) ∧ ((x1 = 1) → (kt r0.1 = 0 ∧ (∀ e_19 : Nat × Nat, e_19 = M.2.1 r0.1 r0.2 13 → (rom M 7 ∧ (∃ i_20 : Nat, M.2.2.1 26 i_20 = 0 ∧ ∀ M_21 : Mem, M_21 = sN M 26 i_20 0 7 → (kt r0.1 = 0 ∧ (∀ e_22 : Nat × Nat, e_22 = M_21.2.1 r0.1 r0.2 2 → (lk e_22.1 ∧ (¬ x2 < 0 ∧ x2 < M_21.1 e_22.1 e_22.2 0) ∧ (∀ e_23 : Nat × Nat, e_23 = M_21.2.1 e_22.1 e_22.2 x2.toNatClampNeg → (kt e_23.1 = 2 ∧ (¬ 26 = 0 ∧ (v_X22_init (26, i_20) r0 e_23 x3 M_21 (fun M_24 => lk e_19.1 ∧ ekk 26 = true ∧ M_24.1 e_19.1 e_19.2 0 < 10000 ∧ rom M_24 10 ∧ (∀ M_26 : Mem, M_26 = lAdd M_24 e_19 (26, i_20) → (kt r0.1 = 0 ∧ (∀ e_27 : Nat × Nat, e_27 = M_26.2.1 r0.1 r0.2 13 → (lk e_27.1 ∧ (Q ((M_26.1 e_27.1 e_27.2 0) - 1) M_26)))))))))))))))))))) ∧ ((x1 = 0) → (kt r0.1 = 0 ∧ (∀ e_29 : Nat × Nat, e_29 = M.2.1 r0.1 r0.2 13 → (rom M 6 ∧ (∃ i_30 : Nat, M.2.2.1 25 i_30 = 0 ∧ ∀ M_31 : Mem, M_31 = sN M 25 i_30 0 6 → (kt r0.1 = 0 ∧ (v_X0_fuseOf r0 x2 M_31 (fun e_33 M_32 => ¬ 25 = 0 ∧ (v_X21_init (25, i_30) r0 e_33 M_32 (fun M_34 => lk e_29.1 ∧ ekk 25 = true ∧ M_34.1 e_29.1 e_29.2 0 < 10000 ∧ rom M_34 10 ∧ (∀ M_36 : Mem, M_36 = lAdd M_34 e_29 (25, i_30) → (kt r0.1 = 0 ∧ (∀ e_37 : Nat × Nat, e_37 = M_36.2.1 r0.1 r0.2 13 → (lk e_37.1 ∧ (Q ((M_36.1 e_37.1 e_37.2 0) - 1) M_36))))))))))))))))) ∧ (((M.1 e_1.1 e_1.2 0) = 10) → (Q (-3) M)))))
set_option maxHeartbeats 4000000 in
theorem sv_X0_alarm_102 {d : Nat} {P : Option AV → Mem → Prop} {Q : Int32 → Mem → Prop} (hP : ∀ r M, Q r M → P (some (.inl r)) M) (r0 : Nat × Nat) (x1 : Int32) (x2 : Int32) (x3 : Int32) (M : Mem) (h : v_X0_alarm_102 r0 x1 x2 x3 M Q) : wq (d + 9) mX0_alarm 102 [(0, .inr r0), (1, .inl x1), (2, .inl x2), (3, .inl x3)] [] M P := by
  unfold v_X0_alarm_102 at h
  refine b_aload_n 0 dX0_alarm_102 rfl rfl ?_
  refine b_gR (ci := 0) (r := (RX0, TX0, 14)) (f := 13) (by decide) rfl (by decide) rfl (Or.inl q163) (Or.inl rfl) h.1 dX0_alarm_103 ?_
  refine b_topr (fun e_1 ee_1 => ?_)
  replace h := h.2 e_1 ee_1
  refine b_lsize (st := []) h.1 (Or.inl q201) (Nat.le_of_ble_eq_true rfl) dX0_alarm_106 ?_
  replace h := h.2
  refine b_bipush (v := 10) dX0_alarm_109 (by decide) ?_
  refine b_icmp_ne (tgt := 117) dX0_alarm_111 (by decide) (fun c_39 => ?_) (fun c_39 => ?_)
  · replace h := h.1 c_39
    refine b_iload_n 1 dX0_alarm_117 rfl rfl ?_
    refine b_if_ne (tgt := 145) dX0_alarm_118 (by decide) (fun c_38 => ?_) (fun c_38 => ?_)
    · replace h := h.1 c_38
      refine b_iload_n 1 dX0_alarm_145 rfl rfl ?_
      refine b_iconst (v := 1) dX0_alarm_146 (by decide) ?_
      refine b_icmp_ne (tgt := 181) dX0_alarm_147 (by decide) (fun c_28 => ?_) (fun c_28 => ?_)
      · replace h := h.1 c_28
        refine b_iload_n 1 dX0_alarm_181 rfl rfl ?_
        refine b_iconst (v := 2) dX0_alarm_182 (by decide) ?_
        refine b_icmp_ne (tgt := 211) dX0_alarm_183 (by decide) (fun c_18 => ?_) (fun c_18 => ?_)
        · replace h := h.1 c_18
          refine b_aload_n 0 dX0_alarm_211 rfl rfl ?_
          refine b_gR (ci := 0) (r := (RX0, TX0, 14)) (f := 13) (by decide) rfl (by decide) rfl (Or.inl q163) (Or.inl rfl) h.1 dX0_alarm_212 ?_
          refine b_topr (fun e_2 ee_2 => ?_)
          replace h := h.2 e_2 ee_2
          obtain ⟨h1, i_3, ei_3, h⟩ := h
          refine b_nwo (k := 28) (i := i_3) (r := (RX24, TX24, 6)) (by decide) rfl h1 ei_3 q1421 q1422 q102 dX0_alarm_215 ?_
          refine b_topm (fun M_4 eM_4 => ?_)
          replace h := h M_4 eM_4
          refine b_dup dX0_alarm_218 ?_
          refine b_aload_n 0 dX0_alarm_219 rfl rfl ?_
          refine b_iload_n 3 dX0_alarm_220 rfl rfl ?_
          refine b_ci (y := mX24_init) (k := 28) (i := i_3) (as := [.inr r0, .inl x3]) (st := [.inr (28, i_3), .inr e_2]) (n := 2) h.1 rfl rfl (Or.inl q1423) q1424 q102 q1425 zmh_X24_init rfl (Nat.le_of_ble_eq_true rfl) (Nat.le_of_ble_eq_true rfl) dX0_alarm_221 (sv_X24_init (fun M_5 h => ?_) h.2)
          show wq (d + 9) mX0_alarm 224 [(0, .inr r0), (1, .inl x1), (2, .inl x2), (3, .inl x3)] [.inr (28, i_3), .inr e_2] M_5 P
          refine b_ladd (st := []) h.1 h.2.1 h.2.2.1 h.2.2.2.1 (Or.inl q226) (Nat.le_of_ble_eq_true rfl) dX0_alarm_224 ?_
          refine b_topm (fun M_7 eM_7 => ?_)
          replace h := h.2.2.2.2 M_7 eM_7
          refine b_pop dX0_alarm_227 ?_
          refine b_aload_n 0 dX0_alarm_228 rfl rfl ?_
          refine b_gR (ci := 0) (r := (RX0, TX0, 14)) (f := 13) (by decide) rfl (by decide) rfl (Or.inl q163) (Or.inl rfl) h.1 dX0_alarm_229 ?_
          refine b_topr (fun e_8 ee_8 => ?_)
          replace h := h.2 e_8 ee_8
          refine b_lsize (st := []) h.1 (Or.inl q201) (Nat.le_of_ble_eq_true rfl) dX0_alarm_232 ?_
          replace h := h.2
          refine b_iconst (v := 1) dX0_alarm_235 (by decide) ?_
          refine b_isub dX0_alarm_236 ?_
          exact b_iret rfl dX0_alarm_237 (hP _ _ h)
        · replace h := h.2 c_18
          refine b_aload_n 0 dX0_alarm_186 rfl rfl ?_
          refine b_gR (ci := 0) (r := (RX0, TX0, 14)) (f := 13) (by decide) rfl (by decide) rfl (Or.inl q163) (Or.inl rfl) h.1 dX0_alarm_187 ?_
          refine b_topr (fun e_9 ee_9 => ?_)
          replace h := h.2 e_9 ee_9
          obtain ⟨h1, i_10, ei_10, h⟩ := h
          refine b_nwo (k := 27) (i := i_10) (r := (RX23, TX23, 7)) (by decide) rfl h1 ei_10 q1401 q1402 q101 dX0_alarm_190 ?_
          refine b_topm (fun M_11 eM_11 => ?_)
          replace h := h M_11 eM_11
          refine b_dup dX0_alarm_193 ?_
          refine b_aload_n 0 dX0_alarm_194 rfl rfl ?_
          refine b_aload_n 0 dX0_alarm_195 rfl rfl ?_
          refine b_iload_n 2 dX0_alarm_196 rfl rfl ?_
          refine b_cvo (y := mX0_bulkheadOf) (ci := 0) (r := (RX0, TX0, 14)) (e := r0) (as := [.inl x2]) (st := [.inr r0, .inr (27, i_10), .inr (27, i_10), .inr e_9]) (n := 1) rfl h.1 (Or.inl q1346) qs27 q1348 q69 q1349 zmh_X0_bulkheadOf rfl (Nat.le_of_ble_eq_true rfl) (Nat.le_of_ble_eq_true rfl) dX0_alarm_197 (sv_X0_bulkheadOf (fun e_13 M_12 h => ?_) h.2)
          show wq (d + 9) mX0_alarm 200 [(0, .inr r0), (1, .inl x1), (2, .inl x2), (3, .inl x3)] [.inr e_13, .inr r0, .inr (27, i_10), .inr (27, i_10), .inr e_9] M_12 P
          refine b_iload_n 3 dX0_alarm_200 rfl rfl ?_
          refine b_ci (y := mX23_init) (k := 27) (i := i_10) (as := [.inr r0, .inr e_13, .inl x3]) (st := [.inr (27, i_10), .inr e_9]) (n := 3) h.1 rfl rfl (Or.inl q1403) q1404 q101 q1405 zmh_X23_init rfl (Nat.le_of_ble_eq_true rfl) (Nat.le_of_ble_eq_true rfl) dX0_alarm_201 (sv_X23_init (fun M_14 h => ?_) h.2)
          show wq (d + 9) mX0_alarm 204 [(0, .inr r0), (1, .inl x1), (2, .inl x2), (3, .inl x3)] [.inr (27, i_10), .inr e_9] M_14 P
          refine b_ladd (st := []) h.1 h.2.1 h.2.2.1 h.2.2.2.1 (Or.inl q226) (Nat.le_of_ble_eq_true rfl) dX0_alarm_204 ?_
          refine b_topm (fun M_16 eM_16 => ?_)
          replace h := h.2.2.2.2 M_16 eM_16
          refine b_pop dX0_alarm_207 ?_
          refine b_goto (tgt := 228) dX0_alarm_208 (by decide) ?_
          refine b_aload_n 0 dX0_alarm_228 rfl rfl ?_
          refine b_gR (ci := 0) (r := (RX0, TX0, 14)) (f := 13) (by decide) rfl (by decide) rfl (Or.inl q163) (Or.inl rfl) h.1 dX0_alarm_229 ?_
          refine b_topr (fun e_17 ee_17 => ?_)
          replace h := h.2 e_17 ee_17
          refine b_lsize (st := []) h.1 (Or.inl q201) (Nat.le_of_ble_eq_true rfl) dX0_alarm_232 ?_
          replace h := h.2
          refine b_iconst (v := 1) dX0_alarm_235 (by decide) ?_
          refine b_isub dX0_alarm_236 ?_
          exact b_iret rfl dX0_alarm_237 (hP _ _ h)
      · replace h := h.2 c_28
        refine b_aload_n 0 dX0_alarm_150 rfl rfl ?_
        refine b_gR (ci := 0) (r := (RX0, TX0, 14)) (f := 13) (by decide) rfl (by decide) rfl (Or.inl q163) (Or.inl rfl) h.1 dX0_alarm_151 ?_
        refine b_topr (fun e_19 ee_19 => ?_)
        replace h := h.2 e_19 ee_19
        obtain ⟨h1, i_20, ei_20, h⟩ := h
        refine b_nwo (k := 26) (i := i_20) (r := (RX22, TX22, 7)) (by decide) rfl h1 ei_20 q1381 q1382 q100 dX0_alarm_154 ?_
        refine b_topm (fun M_21 eM_21 => ?_)
        replace h := h M_21 eM_21
        refine b_dup dX0_alarm_157 ?_
        refine b_aload_n 0 dX0_alarm_158 rfl rfl ?_
        refine b_aload_n 0 dX0_alarm_159 rfl rfl ?_
        refine b_gR (ci := 0) (r := (RX0, TX0, 14)) (f := 2) (by decide) rfl (by decide) rfl (Or.inl q148) (Or.inl rfl) h.1 dX0_alarm_160 ?_
        refine b_topr (fun e_22 ee_22 => ?_)
        replace h := h.2 e_22 ee_22
        refine b_iload_n 2 dX0_alarm_163 rfl rfl ?_
        refine b_lget (st := [.inr r0, .inr (26, i_20), .inr (26, i_20), .inr e_19]) h.1 h.2.1 (Or.inl q624) (Nat.le_of_ble_eq_true rfl) dX0_alarm_164 ?_
        refine b_topr (fun e_23 ee_23 => ?_)
        replace h := h.2.2 e_23 ee_23
        refine b_ck (ci := 2) (r := (RX2, TX2, 3)) rfl q205 h.1 dX0_alarm_167 ?_
        replace h := h.2
        refine b_iload_n 3 dX0_alarm_170 rfl rfl ?_
        refine b_ci (y := mX22_init) (k := 26) (i := i_20) (as := [.inr r0, .inr e_23, .inl x3]) (st := [.inr (26, i_20), .inr e_19]) (n := 3) h.1 rfl rfl (Or.inl q1383) q1384 q100 q1385 zmh_X22_init rfl (Nat.le_of_ble_eq_true rfl) (Nat.le_of_ble_eq_true rfl) dX0_alarm_171 (sv_X22_init (fun M_24 h => ?_) h.2)
        show wq (d + 9) mX0_alarm 174 [(0, .inr r0), (1, .inl x1), (2, .inl x2), (3, .inl x3)] [.inr (26, i_20), .inr e_19] M_24 P
        refine b_ladd (st := []) h.1 h.2.1 h.2.2.1 h.2.2.2.1 (Or.inl q226) (Nat.le_of_ble_eq_true rfl) dX0_alarm_174 ?_
        refine b_topm (fun M_26 eM_26 => ?_)
        replace h := h.2.2.2.2 M_26 eM_26
        refine b_pop dX0_alarm_177 ?_
        refine b_goto (tgt := 228) dX0_alarm_178 (by decide) ?_
        refine b_aload_n 0 dX0_alarm_228 rfl rfl ?_
        refine b_gR (ci := 0) (r := (RX0, TX0, 14)) (f := 13) (by decide) rfl (by decide) rfl (Or.inl q163) (Or.inl rfl) h.1 dX0_alarm_229 ?_
        refine b_topr (fun e_27 ee_27 => ?_)
        replace h := h.2 e_27 ee_27
        refine b_lsize (st := []) h.1 (Or.inl q201) (Nat.le_of_ble_eq_true rfl) dX0_alarm_232 ?_
        replace h := h.2
        refine b_iconst (v := 1) dX0_alarm_235 (by decide) ?_
        refine b_isub dX0_alarm_236 ?_
        exact b_iret rfl dX0_alarm_237 (hP _ _ h)
    · replace h := h.2 c_38
      refine b_aload_n 0 dX0_alarm_121 rfl rfl ?_
      refine b_gR (ci := 0) (r := (RX0, TX0, 14)) (f := 13) (by decide) rfl (by decide) rfl (Or.inl q163) (Or.inl rfl) h.1 dX0_alarm_122 ?_
      refine b_topr (fun e_29 ee_29 => ?_)
      replace h := h.2 e_29 ee_29
      obtain ⟨h1, i_30, ei_30, h⟩ := h
      refine b_nwo (k := 25) (i := i_30) (r := (RX21, TX21, 6)) (by decide) rfl h1 ei_30 q1350 q1351 q99 dX0_alarm_125 ?_
      refine b_topm (fun M_31 eM_31 => ?_)
      replace h := h M_31 eM_31
      refine b_dup dX0_alarm_128 ?_
      refine b_aload_n 0 dX0_alarm_129 rfl rfl ?_
      refine b_aload_n 0 dX0_alarm_130 rfl rfl ?_
      refine b_iload_n 2 dX0_alarm_131 rfl rfl ?_
      refine b_cvo (y := mX0_fuseOf) (ci := 0) (r := (RX0, TX0, 14)) (e := r0) (as := [.inl x2]) (st := [.inr r0, .inr (25, i_30), .inr (25, i_30), .inr e_29]) (n := 1) rfl h.1 (Or.inl q1342) qs26 q1344 q69 q1345 zmh_X0_fuseOf rfl (Nat.le_of_ble_eq_true rfl) (Nat.le_of_ble_eq_true rfl) dX0_alarm_132 (sv_X0_fuseOf (fun e_33 M_32 h => ?_) h.2)
      show wq (d + 9) mX0_alarm 135 [(0, .inr r0), (1, .inl x1), (2, .inl x2), (3, .inl x3)] [.inr e_33, .inr r0, .inr (25, i_30), .inr (25, i_30), .inr e_29] M_32 P
      refine b_ci (y := mX21_init) (k := 25) (i := i_30) (as := [.inr r0, .inr e_33]) (st := [.inr (25, i_30), .inr e_29]) (n := 2) h.1 rfl rfl (Or.inl q1352) q1353 q99 q1354 zmh_X21_init rfl (Nat.le_of_ble_eq_true rfl) (Nat.le_of_ble_eq_true rfl) dX0_alarm_135 (sv_X21_init (fun M_34 h => ?_) h.2)
      show wq (d + 9) mX0_alarm 138 [(0, .inr r0), (1, .inl x1), (2, .inl x2), (3, .inl x3)] [.inr (25, i_30), .inr e_29] M_34 P
      refine b_ladd (st := []) h.1 h.2.1 h.2.2.1 h.2.2.2.1 (Or.inl q226) (Nat.le_of_ble_eq_true rfl) dX0_alarm_138 ?_
      refine b_topm (fun M_36 eM_36 => ?_)
      replace h := h.2.2.2.2 M_36 eM_36
      refine b_pop dX0_alarm_141 ?_
      refine b_goto (tgt := 228) dX0_alarm_142 (by decide) ?_
      refine b_aload_n 0 dX0_alarm_228 rfl rfl ?_
      refine b_gR (ci := 0) (r := (RX0, TX0, 14)) (f := 13) (by decide) rfl (by decide) rfl (Or.inl q163) (Or.inl rfl) h.1 dX0_alarm_229 ?_
      refine b_topr (fun e_37 ee_37 => ?_)
      replace h := h.2 e_37 ee_37
      refine b_lsize (st := []) h.1 (Or.inl q201) (Nat.le_of_ble_eq_true rfl) dX0_alarm_232 ?_
      replace h := h.2
      refine b_iconst (v := 1) dX0_alarm_235 (by decide) ?_
      refine b_isub dX0_alarm_236 ?_
      exact b_iret rfl dX0_alarm_237 (hP _ _ h)
  · replace h := h.2 c_39
    refine b_bipush (v := (-3)) dX0_alarm_114 (by decide) ?_
    exact b_iret rfl dX0_alarm_116 (hP _ _ h)
def v_X0_alarm_84 (r0 : Nat × Nat) (x1 : Int32) (x2 : Int32) (x3 : Int32) (s0 : Int32) (s1 : Int32) (s2 : Int32) (M : Mem) (Q : Int32 → Mem → Prop) : Prop := (v_X0_in s2 s1 s0 M (fun r_2 M_1 => ((r_2 = 0) → (Q (-2) M_1)) ∧ ((¬ r_2 = 0) → (((¬ x1 = 3) → (v_X0_alarm_102 r0 x1 x2 x3 M_1 Q)) ∧ ((x1 = 3) → (((x2 = 0) → (v_X0_alarm_102 r0 x1 x2 x3 M_1 Q)) ∧ ((¬ x2 = 0) → (Q (-2) M_1))))))))
set_option maxHeartbeats 4000000 in
theorem sv_X0_alarm_84 {d : Nat} {P : Option AV → Mem → Prop} {Q : Int32 → Mem → Prop} (hP : ∀ r M, Q r M → P (some (.inl r)) M) (r0 : Nat × Nat) (x1 : Int32) (x2 : Int32) (x3 : Int32) (s0 : Int32) (s1 : Int32) (s2 : Int32) (M : Mem) (h : v_X0_alarm_84 r0 x1 x2 x3 s0 s1 s2 M Q) : wq (d + 9) mX0_alarm 84 [(0, .inr r0), (1, .inl x1), (2, .inl x2), (3, .inl x3)] [.inl s0, .inl s1, .inl s2] M P := by
  unfold v_X0_alarm_84 at h
  refine b_cs (y := mX0_in) (as := [.inl s2, .inl s1, .inl s0]) (st := []) (n := 3) (Or.inl q198) q199 q69 q200 zmh_X0_in rfl (Nat.le_of_ble_eq_true rfl) (Nat.le_of_ble_eq_true rfl) dX0_alarm_84 (sv_X0_in (fun r_2 M_1 h => ?_) h)
  show wq (d + 9) mX0_alarm 87 [(0, .inr r0), (1, .inl x1), (2, .inl x2), (3, .inl x3)] [.inl r_2] M_1 P
  refine b_if_eq (tgt := 99) dX0_alarm_87 (by decide) (fun c_5 => ?_) (fun c_5 => ?_)
  · replace h := h.1 c_5
    refine b_bipush (v := (-2)) dX0_alarm_99 (by decide) ?_
    exact b_iret rfl dX0_alarm_101 (hP _ _ h)
  · replace h := h.2 c_5
    refine b_iload_n 1 dX0_alarm_90 rfl rfl ?_
    refine b_iconst (v := 3) dX0_alarm_91 (by decide) ?_
    refine b_icmp_ne (tgt := 102) dX0_alarm_92 (by decide) (fun c_4 => ?_) (fun c_4 => ?_)
    · replace h := h.1 c_4
      exact b_sub (by simp) (sv_X0_alarm_102 hP r0 x1 x2 x3 M_1 h)
    · replace h := h.2 c_4
      refine b_iload_n 2 dX0_alarm_95 rfl rfl ?_
      refine b_if_eq (tgt := 102) dX0_alarm_96 (by decide) (fun c_3 => ?_) (fun c_3 => ?_)
      · replace h := h.1 c_3
        exact b_sub (by simp) (sv_X0_alarm_102 hP r0 x1 x2 x3 M_1 h)
      · replace h := h.2 c_3
        refine b_bipush (v := (-2)) dX0_alarm_99 (by decide) ?_
        exact b_iret rfl dX0_alarm_101 (hP _ _ h)
def v_X0_alarm_63 (r0 : Nat × Nat) (x1 : Int32) (x2 : Int32) (x3 : Int32) (s0 : Int32) (s1 : Int32) (M : Mem) (Q : Int32 → Mem → Prop) : Prop := ((¬ x1 = 0) → (((¬ x1 = 2) → (v_X0_alarm_84 r0 x1 x2 x3 1000000 s0 s1 M Q)) ∧ ((x1 = 2) → (v_X0_alarm_84 r0 x1 x2 x3 10 s0 s1 M Q)))) ∧ ((x1 = 0) → (v_X0_alarm_84 r0 x1 x2 x3 0 s0 s1 M Q))
set_option maxHeartbeats 4000000 in
theorem sv_X0_alarm_63 {d : Nat} {P : Option AV → Mem → Prop} {Q : Int32 → Mem → Prop} (hP : ∀ r M, Q r M → P (some (.inl r)) M) (r0 : Nat × Nat) (x1 : Int32) (x2 : Int32) (x3 : Int32) (s0 : Int32) (s1 : Int32) (M : Mem) (h : v_X0_alarm_63 r0 x1 x2 x3 s0 s1 M Q) : wq (d + 9) mX0_alarm 63 [(0, .inr r0), (1, .inl x1), (2, .inl x2), (3, .inl x3)] [.inl s0, .inl s1] M P := by
  unfold v_X0_alarm_63 at h
  refine b_iload_n 1 dX0_alarm_63 rfl rfl ?_
  refine b_if_ne (tgt := 71) dX0_alarm_64 (by decide) (fun c_2 => ?_) (fun c_2 => ?_)
  · replace h := h.1 c_2
    refine b_iload_n 1 dX0_alarm_71 rfl rfl ?_
    refine b_iconst (v := 2) dX0_alarm_72 (by decide) ?_
    refine b_icmp_ne (tgt := 81) dX0_alarm_73 (by decide) (fun c_1 => ?_) (fun c_1 => ?_)
    · replace h := h.1 c_1
      refine b_ldcw (v := 1000000) dX0_alarm_81 q197 ?_
      exact b_sub (by simp) (sv_X0_alarm_84 hP r0 x1 x2 x3 1000000 s0 s1 M h)
    · replace h := h.2 c_1
      refine b_bipush (v := 10) dX0_alarm_76 (by decide) ?_
      refine b_goto (tgt := 84) dX0_alarm_78 (by decide) ?_
      exact b_sub (by simp) (sv_X0_alarm_84 hP r0 x1 x2 x3 10 s0 s1 M h)
  · replace h := h.2 c_2
    refine b_iconst (v := 0) dX0_alarm_67 (by decide) ?_
    refine b_goto (tgt := 84) dX0_alarm_68 (by decide) ?_
    exact b_sub (by simp) (sv_X0_alarm_84 hP r0 x1 x2 x3 0 s0 s1 M h)
def v_X0_alarm_43 (r0 : Nat × Nat) (x1 : Int32) (x2 : Int32) (x3 : Int32) (M : Mem) (Q : Int32 → Mem → Prop) : Prop := (v_X0_in x1 0 3 M (fun r_2 M_1 => ((r_2 = 0) → (Q (-2) M_1)) ∧ ((¬ r_2 = 0) → (((¬ x1 = 2) → (v_X0_alarm_63 r0 x1 x2 x3 0 x3 M_1 Q)) ∧ ((x1 = 2) → (v_X0_alarm_63 r0 x1 x2 x3 1 x3 M_1 Q))))))
set_option maxHeartbeats 4000000 in
theorem sv_X0_alarm_43 {d : Nat} {P : Option AV → Mem → Prop} {Q : Int32 → Mem → Prop} (hP : ∀ r M, Q r M → P (some (.inl r)) M) (r0 : Nat × Nat) (x1 : Int32) (x2 : Int32) (x3 : Int32) (M : Mem) (h : v_X0_alarm_43 r0 x1 x2 x3 M Q) : wq (d + 9) mX0_alarm 43 [(0, .inr r0), (1, .inl x1), (2, .inl x2), (3, .inl x3)] [] M P := by
  unfold v_X0_alarm_43 at h
  refine b_iload_n 1 dX0_alarm_43 rfl rfl ?_
  refine b_iconst (v := 0) dX0_alarm_44 (by decide) ?_
  refine b_iconst (v := 3) dX0_alarm_45 (by decide) ?_
  refine b_cs (y := mX0_in) (as := [.inl x1, .inl 0, .inl 3]) (st := []) (n := 3) (Or.inl q198) q199 q69 q200 zmh_X0_in rfl (Nat.le_of_ble_eq_true rfl) (Nat.le_of_ble_eq_true rfl) dX0_alarm_46 (sv_X0_in (fun r_2 M_1 h => ?_) h)
  show wq (d + 9) mX0_alarm 49 [(0, .inr r0), (1, .inl x1), (2, .inl x2), (3, .inl x3)] [.inl r_2] M_1 P
  refine b_if_eq (tgt := 99) dX0_alarm_49 (by decide) (fun c_4 => ?_) (fun c_4 => ?_)
  · replace h := h.1 c_4
    refine b_bipush (v := (-2)) dX0_alarm_99 (by decide) ?_
    exact b_iret rfl dX0_alarm_101 (hP _ _ h)
  · replace h := h.2 c_4
    refine b_iload_n 3 dX0_alarm_52 rfl rfl ?_
    refine b_iload_n 1 dX0_alarm_53 rfl rfl ?_
    refine b_iconst (v := 2) dX0_alarm_54 (by decide) ?_
    refine b_icmp_ne (tgt := 62) dX0_alarm_55 (by decide) (fun c_3 => ?_) (fun c_3 => ?_)
    · replace h := h.1 c_3
      refine b_iconst (v := 0) dX0_alarm_62 (by decide) ?_
      exact b_sub (by simp) (sv_X0_alarm_63 hP r0 x1 x2 x3 0 x3 M_1 h)
    · replace h := h.2 c_3
      refine b_iconst (v := 1) dX0_alarm_58 (by decide) ?_
      refine b_goto (tgt := 63) dX0_alarm_59 (by decide) ?_
      exact b_sub (by simp) (sv_X0_alarm_63 hP r0 x1 x2 x3 1 x3 M_1 h)
def v_X0_alarm_28 (r0 : Nat × Nat) (x1 : Int32) (x2 : Int32) (x3 : Int32) (M : Mem) (Q : Int32 → Mem → Prop) : Prop := ((¬ x1 = 2) → (v_X0_alarm_43 r0 x1 x2 x3 M Q)) ∧ ((x1 = 2) → (kt r0.1 = 0 ∧ (v_X0_bulkheadOf r0 x2 M (fun e_2 M_1 => ((¬ e_2 = (0, 0)) → (v_X0_alarm_43 r0 x1 x2 x3 M_1 Q)) ∧ ((e_2 = (0, 0)) → (Q (-1) M_1))))))
set_option maxHeartbeats 4000000 in
theorem sv_X0_alarm_28 {d : Nat} {P : Option AV → Mem → Prop} {Q : Int32 → Mem → Prop} (hP : ∀ r M, Q r M → P (some (.inl r)) M) (r0 : Nat × Nat) (x1 : Int32) (x2 : Int32) (x3 : Int32) (M : Mem) (h : v_X0_alarm_28 r0 x1 x2 x3 M Q) : wq (d + 9) mX0_alarm 28 [(0, .inr r0), (1, .inl x1), (2, .inl x2), (3, .inl x3)] [] M P := by
  unfold v_X0_alarm_28 at h
  refine b_iload_n 1 dX0_alarm_28 rfl rfl ?_
  refine b_iconst (v := 2) dX0_alarm_29 (by decide) ?_
  refine b_icmp_ne (tgt := 43) dX0_alarm_30 (by decide) (fun c_4 => ?_) (fun c_4 => ?_)
  · replace h := h.1 c_4
    exact b_sub (by simp) (sv_X0_alarm_43 hP r0 x1 x2 x3 M h)
  · replace h := h.2 c_4
    refine b_aload_n 0 dX0_alarm_33 rfl rfl ?_
    refine b_iload_n 2 dX0_alarm_34 rfl rfl ?_
    refine b_cvo (y := mX0_bulkheadOf) (ci := 0) (r := (RX0, TX0, 14)) (e := r0) (as := [.inl x2]) (st := []) (n := 1) rfl h.1 (Or.inl q1346) qs27 q1348 q69 q1349 zmh_X0_bulkheadOf rfl (Nat.le_of_ble_eq_true rfl) (Nat.le_of_ble_eq_true rfl) dX0_alarm_35 (sv_X0_bulkheadOf (fun e_2 M_1 h => ?_) h.2)
    show wq (d + 9) mX0_alarm 38 [(0, .inr r0), (1, .inl x1), (2, .inl x2), (3, .inl x3)] [.inr e_2] M_1 P
    refine b_ifnonnull (tgt := 43) dX0_alarm_38 (by decide) (fun c_3 => ?_) (fun c_3 => ?_)
    · replace h := h.1 c_3
      exact b_sub (by simp) (sv_X0_alarm_43 hP r0 x1 x2 x3 M_1 h)
    · replace h := h.2 c_3
      refine b_iconst (v := (-1)) dX0_alarm_41 (by decide) ?_
      exact b_iret rfl dX0_alarm_42 (hP _ _ h)
def v_X0_alarm_12 (r0 : Nat × Nat) (x1 : Int32) (x2 : Int32) (x3 : Int32) (M : Mem) (Q : Int32 → Mem → Prop) : Prop := ((¬ x1 = 1) → (v_X0_alarm_28 r0 x1 x2 x3 M Q)) ∧ ((x1 = 1) → (kt r0.1 = 0 ∧ (∀ e_1 : Nat × Nat, e_1 = M.2.1 r0.1 r0.2 2 → ((v_X0_has e_1 x2 M (fun r_3 M_2 => ((r_3 = 0) → (Q (-1) M_2)) ∧ ((¬ r_3 = 0) → (v_X0_alarm_28 r0 x1 x2 x3 M_2 Q))))))))
set_option maxHeartbeats 4000000 in
theorem sv_X0_alarm_12 {d : Nat} {P : Option AV → Mem → Prop} {Q : Int32 → Mem → Prop} (hP : ∀ r M, Q r M → P (some (.inl r)) M) (r0 : Nat × Nat) (x1 : Int32) (x2 : Int32) (x3 : Int32) (M : Mem) (h : v_X0_alarm_12 r0 x1 x2 x3 M Q) : wq (d + 9) mX0_alarm 12 [(0, .inr r0), (1, .inl x1), (2, .inl x2), (3, .inl x3)] [] M P := by
  unfold v_X0_alarm_12 at h
  refine b_iload_n 1 dX0_alarm_12 rfl rfl ?_
  refine b_iconst (v := 1) dX0_alarm_13 (by decide) ?_
  refine b_icmp_ne (tgt := 28) dX0_alarm_14 (by decide) (fun c_5 => ?_) (fun c_5 => ?_)
  · replace h := h.1 c_5
    exact b_sub (by simp) (sv_X0_alarm_28 hP r0 x1 x2 x3 M h)
  · replace h := h.2 c_5
    refine b_aload_n 0 dX0_alarm_17 rfl rfl ?_
    refine b_gR (ci := 0) (r := (RX0, TX0, 14)) (f := 2) (by decide) rfl (by decide) rfl (Or.inl q148) (Or.inl rfl) h.1 dX0_alarm_18 ?_
    refine b_topr (fun e_1 ee_1 => ?_)
    replace h := h.2 e_1 ee_1
    refine b_iload_n 2 dX0_alarm_21 rfl rfl ?_
    refine b_cs (y := mX0_has) (as := [.inr e_1, .inl x2]) (st := []) (n := 2) (Or.inl q332) q333 q69 q334 zmh_X0_has rfl (Nat.le_of_ble_eq_true rfl) (Nat.le_of_ble_eq_true rfl) dX0_alarm_22 (sv_X0_has (fun r_3 M_2 h => ?_) h)
    show wq (d + 9) mX0_alarm 25 [(0, .inr r0), (1, .inl x1), (2, .inl x2), (3, .inl x3)] [.inl r_3] M_2 P
    refine b_if_eq (tgt := 41) dX0_alarm_25 (by decide) (fun c_4 => ?_) (fun c_4 => ?_)
    · replace h := h.1 c_4
      refine b_iconst (v := (-1)) dX0_alarm_41 (by decide) ?_
      exact b_iret rfl dX0_alarm_42 (hP _ _ h)
    · replace h := h.2 c_4
      exact b_sub (by simp) (sv_X0_alarm_28 hP r0 x1 x2 x3 M_2 h)
def v_X0_alarm (r0 : Nat × Nat) (x1 : Int32) (x2 : Int32) (x3 : Int32) (M : Mem) (Q : Int32 → Mem → Prop) : Prop := ((¬ x1 = 0) → (v_X0_alarm_12 r0 x1 x2 x3 M Q)) ∧ ((x1 = 0) → (kt r0.1 = 0 ∧ (v_X0_fuseOf r0 x2 M (fun e_2 M_1 => ((e_2 = (0, 0)) → (Q (-1) M_1)) ∧ ((¬ e_2 = (0, 0)) → (v_X0_alarm_12 r0 x1 x2 x3 M_1 Q))))))
set_option maxHeartbeats 4000000 in
theorem sv_X0_alarm {d : Nat} {M : Mem} {P : Option AV → Mem → Prop} {Q : Int32 → Mem → Prop} {r0 : Nat × Nat} {x1 : Int32} {x2 : Int32} {x3 : Int32} (hP : ∀ r M, Q r M → P (some (.inl r)) M) (h : v_X0_alarm r0 x1 x2 x3 M Q) : cq (d + 9) mX0_alarm [.inr r0, .inl x1, .inl x2, .inl x3] M P := by
  refine cq_of (by decide) (Nat.le_of_ble_eq_true rfl) ?_
  show wq (d + 9) mX0_alarm 0 [(0, .inr r0), (1, .inl x1), (2, .inl x2), (3, .inl x3)] [] M P
  unfold v_X0_alarm at h
  refine b_iload_n 1 dX0_alarm_0 rfl rfl ?_
  refine b_if_ne (tgt := 12) dX0_alarm_1 (by decide) (fun c_4 => ?_) (fun c_4 => ?_)
  · replace h := h.1 c_4
    exact b_sub (by simp) (sv_X0_alarm_12 hP r0 x1 x2 x3 M h)
  · replace h := h.2 c_4
    refine b_aload_n 0 dX0_alarm_4 rfl rfl ?_
    refine b_iload_n 2 dX0_alarm_5 rfl rfl ?_
    refine b_cvo (y := mX0_fuseOf) (ci := 0) (r := (RX0, TX0, 14)) (e := r0) (as := [.inl x2]) (st := []) (n := 1) rfl h.1 (Or.inl q1342) qs26 q1344 q69 q1345 zmh_X0_fuseOf rfl (Nat.le_of_ble_eq_true rfl) (Nat.le_of_ble_eq_true rfl) dX0_alarm_6 (sv_X0_fuseOf (fun e_2 M_1 h => ?_) h.2)
    show wq (d + 9) mX0_alarm 9 [(0, .inr r0), (1, .inl x1), (2, .inl x2), (3, .inl x3)] [.inr e_2] M_1 P
    refine b_ifnull (tgt := 41) dX0_alarm_9 (by decide) (fun c_3 => ?_) (fun c_3 => ?_)
    · replace h := h.1 c_3
      refine b_iconst (v := (-1)) dX0_alarm_41 (by decide) ?_
      exact b_iret rfl dX0_alarm_42 (hP _ _ h)
    · replace h := h.2 c_3
      exact b_sub (by simp) (sv_X0_alarm_12 hP r0 x1 x2 x3 M_1 h)
def v_X0_alarmed (r0 : Nat × Nat) (x1 : Int32) (x2 : Int32) (M : Mem) (Q : Int32 → Mem → Prop) : Prop := kt r0.1 = 0 ∧ (∀ e_1 : Nat × Nat, e_1 = M.2.1 r0.1 r0.2 13 → ((v_X0_has e_1 x1 M (fun r_3 M_2 => ((¬ r_3 = 0) → (kt r0.1 = 0 ∧ (∀ e_4 : Nat × Nat, e_4 = M_2.2.1 r0.1 r0.2 13 → (lk e_4.1 ∧ (¬ x1 < 0 ∧ x1 < M_2.1 e_4.1 e_4.2 0) ∧ (∀ e_5 : Nat × Nat, e_5 = M_2.2.1 e_4.1 e_4.2 x1.toNatClampNeg → (ak e_5.1 ∧ (((¬ x2 = 0) → (((¬ x2 = 1) → (((¬ x2 = 2) → (Q (-1) M_2)) ∧ ((x2 = 2) → (ak e_5.1 ∧ (Q (M_2.1 e_5.1 e_5.2 2) M_2))))) ∧ ((x2 = 1) → (ak e_5.1 ∧ (Q (M_2.1 e_5.1 e_5.2 1) M_2))))) ∧ ((x2 = 0) → (ak e_5.1 ∧ ((((M_2.1 e_5.1 e_5.2 0) = 0) → (Q 0 M_2)) ∧ ((¬ (M_2.1 e_5.1 e_5.2 0) = 0) → (Q 1 M_2)))))))))))) ∧ ((r_3 = 0) → (Q (-1) M_2))))))
set_option maxHeartbeats 4000000 in
theorem sv_X0_alarmed {d : Nat} {M : Mem} {P : Option AV → Mem → Prop} {Q : Int32 → Mem → Prop} {r0 : Nat × Nat} {x1 : Int32} {x2 : Int32} (hP : ∀ r M, Q r M → P (some (.inl r)) M) (h : v_X0_alarmed r0 x1 x2 M Q) : cq (d + 4) mX0_alarmed [.inr r0, .inl x1, .inl x2] M P := by
  refine cq_of (by decide) (Nat.le_of_ble_eq_true rfl) ?_
  show wq (d + 4) mX0_alarmed 0 [(0, .inr r0), (1, .inl x1), (2, .inl x2)] [] M P
  unfold v_X0_alarmed at h
  refine b_aload_n 0 dX0_alarmed_0 rfl rfl ?_
  refine b_gR (ci := 0) (r := (RX0, TX0, 14)) (f := 13) (by decide) rfl (by decide) rfl (Or.inl q163) (Or.inl rfl) h.1 dX0_alarmed_1 ?_
  refine b_topr (fun e_1 ee_1 => ?_)
  replace h := h.2 e_1 ee_1
  refine b_iload_n 1 dX0_alarmed_4 rfl rfl ?_
  refine b_cs (y := mX0_has) (as := [.inr e_1, .inl x1]) (st := []) (n := 2) (Or.inl q332) q333 q69 q334 zmh_X0_has rfl (Nat.le_of_ble_eq_true rfl) (Nat.le_of_ble_eq_true rfl) dX0_alarmed_5 (sv_X0_has (fun r_3 M_2 h => ?_) h)
  show wq (d + 4) mX0_alarmed 8 [(0, .inr r0), (1, .inl x1), (2, .inl x2)] [.inl r_3] M_2 P
  refine b_if_ne (tgt := 13) dX0_alarmed_8 (by decide) (fun c_10 => ?_) (fun c_10 => ?_)
  · replace h := h.1 c_10
    refine b_aload_n 0 dX0_alarmed_13 rfl rfl ?_
    refine b_gR (ci := 0) (r := (RX0, TX0, 14)) (f := 13) (by decide) rfl (by decide) rfl (Or.inl q163) (Or.inl rfl) h.1 dX0_alarmed_14 ?_
    refine b_topr (fun e_4 ee_4 => ?_)
    replace h := h.2 e_4 ee_4
    refine b_iload_n 1 dX0_alarmed_17 rfl rfl ?_
    refine b_lget (st := []) h.1 h.2.1 (Or.inl q624) (Nat.le_of_ble_eq_true rfl) dX0_alarmed_18 ?_
    refine b_topr (fun e_5 ee_5 => ?_)
    replace h := h.2.2 e_5 ee_5
    refine b_ckk q1244 h.1 dX0_alarmed_21 ?_
    replace h := h.2
    refine b_astore_n (lv' := [(3, .inr e_5), (0, .inr r0), (1, .inl x1), (2, .inl x2)]) dX0_alarmed_24 rfl (Nat.le_of_ble_eq_true rfl) rfl ?_
    refine b_iload_n 3 dX0_alarmed_25 rfl rfl ?_
    refine b_if_ne (tgt := 44) dX0_alarmed_26 (by decide) (fun c_9 => ?_) (fun c_9 => ?_)
    · replace h := h.1 c_9
      refine b_iload_n 3 dX0_alarmed_44 rfl rfl ?_
      refine b_iconst (v := 1) dX0_alarmed_45 (by decide) ?_
      refine b_icmp_ne (tgt := 56) dX0_alarmed_46 (by decide) (fun c_7 => ?_) (fun c_7 => ?_)
      · replace h := h.1 c_7
        refine b_iload_n 3 dX0_alarmed_56 rfl rfl ?_
        refine b_iconst (v := 2) dX0_alarmed_57 (by decide) ?_
        refine b_icmp_ne (tgt := 68) dX0_alarmed_58 (by decide) (fun c_6 => ?_) (fun c_6 => ?_)
        · replace h := h.1 c_6
          refine b_iconst (v := (-1)) dX0_alarmed_68 (by decide) ?_
          exact b_iret rfl dX0_alarmed_69 (hP _ _ h)
        · replace h := h.2 c_6
          refine b_aload_n 0 dX0_alarmed_61 rfl rfl ?_
          refine b_gIk (f := 2) (by decide) (Or.inr ⟨_, q1366⟩) (Or.inl rfl) h.1 dX0_alarmed_62 ?_
          replace h := h.2
          refine b_goto (tgt := 69) dX0_alarmed_65 (by decide) ?_
          exact b_iret rfl dX0_alarmed_69 (hP _ _ h)
      · replace h := h.2 c_7
        refine b_aload_n 0 dX0_alarmed_49 rfl rfl ?_
        refine b_gIk (f := 1) (by decide) (Or.inr ⟨_, q1364⟩) (Or.inl rfl) h.1 dX0_alarmed_50 ?_
        replace h := h.2
        refine b_goto (tgt := 69) dX0_alarmed_53 (by decide) ?_
        exact b_iret rfl dX0_alarmed_69 (hP _ _ h)
    · replace h := h.2 c_9
      refine b_aload_n 0 dX0_alarmed_29 rfl rfl ?_
      refine b_gIk (f := 0) (by decide) (Or.inr ⟨_, q1362⟩) (Or.inl rfl) h.1 dX0_alarmed_30 ?_
      replace h := h.2
      refine b_if_eq (tgt := 40) dX0_alarmed_33 (by decide) (fun c_8 => ?_) (fun c_8 => ?_)
      · replace h := h.1 c_8
        refine b_iconst (v := 0) dX0_alarmed_40 (by decide) ?_
        refine b_goto (tgt := 69) dX0_alarmed_41 (by decide) ?_
        exact b_iret rfl dX0_alarmed_69 (hP _ _ h)
      · replace h := h.2 c_8
        refine b_iconst (v := 1) dX0_alarmed_36 (by decide) ?_
        refine b_goto (tgt := 69) dX0_alarmed_37 (by decide) ?_
        exact b_iret rfl dX0_alarmed_69 (hP _ _ h)
  · replace h := h.2 c_10
    refine b_iconst (v := (-1)) dX0_alarmed_11 (by decide) ?_
    exact b_iret rfl dX0_alarmed_12 (hP _ _ h)
def v_X0_now (r0 : Nat × Nat) (M : Mem) (Q : Int32 → Mem → Prop) : Prop := kt r0.1 = 0 ∧ (Q (M.1 r0.1 r0.2 0) M)
set_option maxHeartbeats 4000000 in
theorem sv_X0_now {d : Nat} {M : Mem} {P : Option AV → Mem → Prop} {Q : Int32 → Mem → Prop} {r0 : Nat × Nat} (hP : ∀ r M, Q r M → P (some (.inl r)) M) (h : v_X0_now r0 M Q) : cq d mX0_now [.inr r0] M P := by
  refine cq_of (by decide) (Nat.le_of_ble_eq_true rfl) ?_
  show wq d mX0_now 0 [(0, .inr r0)] [] M P
  unfold v_X0_now at h
  refine b_aload_n 0 dX0_now_0 rfl rfl ?_
  refine b_gI (ci := 0) (r := (RX0, TX0, 14)) (f := 0) (by decide) rfl (by decide) rfl (Or.inl q144) (Or.inl rfl) h.1 dX0_now_1 ?_
  replace h := h.2
  exact b_iret rfl dX0_now_4 (hP _ _ h)
def v_X0_outcome (r0 : Nat × Nat) (x1 : Int32) (M : Mem) (Q : Int32 → Mem → Prop) : Prop := kt r0.1 = 0 ∧ (∀ e_1 : Nat × Nat, e_1 = M.2.1 r0.1 r0.2 8 → ((v_X0_has e_1 x1 M (fun r_3 M_2 => ((r_3 = 0) → (Q (-1) M_2)) ∧ ((¬ r_3 = 0) → (kt r0.1 = 0 ∧ (∀ e_4 : Nat × Nat, e_4 = M_2.2.1 r0.1 r0.2 8 → (lk e_4.1 ∧ (¬ x1 < 0 ∧ x1 < M_2.1 e_4.1 e_4.2 0) ∧ (∀ e_5 : Nat × Nat, e_5 = M_2.2.1 e_4.1 e_4.2 x1.toNatClampNeg → (kt e_5.1 = 15 ∧ (kt e_5.1 = 15 ∧ (v_X15_outcome e_5 M_2 (fun r_7 M_6 => Q r_7 M_6)))))))))))))
set_option maxHeartbeats 4000000 in
theorem sv_X0_outcome {d : Nat} {M : Mem} {P : Option AV → Mem → Prop} {Q : Int32 → Mem → Prop} {r0 : Nat × Nat} {x1 : Int32} (hP : ∀ r M, Q r M → P (some (.inl r)) M) (h : v_X0_outcome r0 x1 M Q) : cq (d + 4) mX0_outcome [.inr r0, .inl x1] M P := by
  refine cq_of (by decide) (Nat.le_of_ble_eq_true rfl) ?_
  show wq (d + 4) mX0_outcome 0 [(0, .inr r0), (1, .inl x1)] [] M P
  unfold v_X0_outcome at h
  refine b_aload_n 0 dX0_outcome_0 rfl rfl ?_
  refine b_gR (ci := 0) (r := (RX0, TX0, 14)) (f := 8) (by decide) rfl (by decide) rfl (Or.inl q157) (Or.inl rfl) h.1 dX0_outcome_1 ?_
  refine b_topr (fun e_1 ee_1 => ?_)
  replace h := h.2 e_1 ee_1
  refine b_iload_n 1 dX0_outcome_4 rfl rfl ?_
  refine b_cs (y := mX0_has) (as := [.inr e_1, .inl x1]) (st := []) (n := 2) (Or.inl q332) q333 q69 q334 zmh_X0_has rfl (Nat.le_of_ble_eq_true rfl) (Nat.le_of_ble_eq_true rfl) dX0_outcome_5 (sv_X0_has (fun r_3 M_2 h => ?_) h)
  show wq (d + 4) mX0_outcome 8 [(0, .inr r0), (1, .inl x1)] [.inl r_3] M_2 P
  refine b_if_eq (tgt := 28) dX0_outcome_8 (by decide) (fun c_8 => ?_) (fun c_8 => ?_)
  · replace h := h.1 c_8
    refine b_iconst (v := (-1)) dX0_outcome_28 (by decide) ?_
    exact b_iret rfl dX0_outcome_29 (hP _ _ h)
  · replace h := h.2 c_8
    refine b_aload_n 0 dX0_outcome_11 rfl rfl ?_
    refine b_gR (ci := 0) (r := (RX0, TX0, 14)) (f := 8) (by decide) rfl (by decide) rfl (Or.inl q157) (Or.inl rfl) h.1 dX0_outcome_12 ?_
    refine b_topr (fun e_4 ee_4 => ?_)
    replace h := h.2 e_4 ee_4
    refine b_iload_n 1 dX0_outcome_15 rfl rfl ?_
    refine b_lget (st := []) h.1 h.2.1 (Or.inl q624) (Nat.le_of_ble_eq_true rfl) dX0_outcome_16 ?_
    refine b_topr (fun e_5 ee_5 => ?_)
    replace h := h.2.2 e_5 ee_5
    refine b_ck (ci := 15) (r := (RX15, TX15, 10)) rfl q656 h.1 dX0_outcome_19 ?_
    replace h := h.2
    refine b_cvo (y := mX15_outcome) (ci := 15) (r := (RX15, TX15, 10)) (e := e_5) (as := []) (st := []) (n := 0) rfl h.1 (Or.inl q1120) q1122 q1121 q93 q1123 zmh_X15_outcome rfl (Nat.le_of_ble_eq_true rfl) (Nat.le_of_ble_eq_true rfl) dX0_outcome_22 (sv_X15_outcome (fun r_7 M_6 h => ?_) h.2)
    show wq (d + 4) mX0_outcome 25 [(0, .inr r0), (1, .inl x1)] [.inl r_7] M_6 P
    refine b_goto (tgt := 29) dX0_outcome_25 (by decide) ?_
    exact b_iret rfl dX0_outcome_29 (hP _ _ h)
def v_X17_numberOf (r0 : Nat × Nat) (M : Mem) (Q : Int32 → Mem → Prop) : Prop := ((¬ r0 = (0, 0)) → (kt r0.1 = 17 ∧ (Q (M.1 r0.1 r0.2 0) M))) ∧ ((r0 = (0, 0)) → (Q (-1) M))
set_option maxHeartbeats 4000000 in
theorem sv_X17_numberOf {d : Nat} {M : Mem} {P : Option AV → Mem → Prop} {Q : Int32 → Mem → Prop} {r0 : Nat × Nat} (hP : ∀ r M, Q r M → P (some (.inl r)) M) (h : v_X17_numberOf r0 M Q) : cq d mX17_numberOf [.inr r0] M P := by
  refine cq_of (by decide) (Nat.le_of_ble_eq_true rfl) ?_
  show wq d mX17_numberOf 0 [(0, .inr r0)] [] M P
  unfold v_X17_numberOf at h
  refine b_aload_n 0 dX17_numberOf_0 rfl rfl ?_
  refine b_ifnonnull (tgt := 8) dX17_numberOf_1 (by decide) (fun c_1 => ?_) (fun c_1 => ?_)
  · replace h := h.1 c_1
    refine b_aload_n 0 dX17_numberOf_8 rfl rfl ?_
    refine b_gI (ci := 17) (r := (RX17, TX17, 7)) (f := 0) (by decide) rfl (by decide) rfl (Or.inl q861) (Or.inl rfl) h.1 dX17_numberOf_9 ?_
    replace h := h.2
    exact b_iret rfl dX17_numberOf_12 (hP _ _ h)
  · replace h := h.2 c_1
    refine b_iconst (v := (-1)) dX17_numberOf_4 (by decide) ?_
    refine b_goto (tgt := 12) dX17_numberOf_5 (by decide) ?_
    exact b_iret rfl dX17_numberOf_12 (hP _ _ h)
def v_X0_of (r0 : Nat × Nat) (x1 : Int32) (x2 : Int32) (M : Mem) (Q : Int32 → Mem → Prop) : Prop := kt r0.1 = 0 ∧ (∀ e_1 : Nat × Nat, e_1 = M.2.1 r0.1 r0.2 8 → ((v_X0_has e_1 x1 M (fun r_3 M_2 => ((¬ r_3 = 0) → (kt r0.1 = 0 ∧ (∀ e_4 : Nat × Nat, e_4 = M_2.2.1 r0.1 r0.2 8 → (lk e_4.1 ∧ (¬ x1 < 0 ∧ x1 < M_2.1 e_4.1 e_4.2 0) ∧ (∀ e_5 : Nat × Nat, e_5 = M_2.2.1 e_4.1 e_4.2 x1.toNatClampNeg → (kt e_5.1 = 15 ∧ ((x2 = 0 → (kt e_5.1 = 15 ∧ ((((M_2.1 e_5.1 e_5.2 8) = 0) → (kt e_5.1 = 15 ∧ (∀ e_6 : Nat × Nat, e_6 = M_2.2.1 e_5.1 e_5.2 7 → (kt e_6.1 = 16 ∧ (Q (M_2.1 e_6.1 e_6.2 12) M_2))))) ∧ ((¬ (M_2.1 e_5.1 e_5.2 8) = 0) → (Q (-1) M_2))))) ∧ (x2 = 1 → (kt e_5.1 = 15 ∧ ((((M_2.1 e_5.1 e_5.2 8) = 0) → (kt e_5.1 = 15 ∧ (∀ e_8 : Nat × Nat, e_8 = M_2.2.1 e_5.1 e_5.2 7 → (kt e_8.1 = 16 ∧ (∀ e_9 : Nat × Nat, e_9 = M_2.2.1 e_8.1 e_8.2 16 → ((v_X17_numberOf e_9 M_2 (fun r_11 M_10 => Q r_11 M_10)))))))) ∧ ((¬ (M_2.1 e_5.1 e_5.2 8) = 0) → (Q (-1) M_2))))) ∧ (x2 = 2 → (kt e_5.1 = 15 ∧ (Q (M_2.1 e_5.1 e_5.2 5) M_2))) ∧ (x2 = 3 → (kt e_5.1 = 15 ∧ (Q (M_2.1 e_5.1 e_5.2 9) M_2))) ∧ (¬ x2 = 0 → ¬ x2 = 1 → ¬ x2 = 2 → ¬ x2 = 3 → (Q (-1) M_2))))))))) ∧ ((r_3 = 0) → (Q (-1) M_2))))))
set_option maxHeartbeats 4000000 in
theorem sv_X0_of {d : Nat} {M : Mem} {P : Option AV → Mem → Prop} {Q : Int32 → Mem → Prop} {r0 : Nat × Nat} {x1 : Int32} {x2 : Int32} (hP : ∀ r M, Q r M → P (some (.inl r)) M) (h : v_X0_of r0 x1 x2 M Q) : cq (d + 4) mX0_of [.inr r0, .inl x1, .inl x2] M P := by
  refine cq_of (by decide) (Nat.le_of_ble_eq_true rfl) ?_
  show wq (d + 4) mX0_of 0 [(0, .inr r0), (1, .inl x1), (2, .inl x2)] [] M P
  unfold v_X0_of at h
  refine b_aload_n 0 dX0_of_0 rfl rfl ?_
  refine b_gR (ci := 0) (r := (RX0, TX0, 14)) (f := 8) (by decide) rfl (by decide) rfl (Or.inl q157) (Or.inl rfl) h.1 dX0_of_1 ?_
  refine b_topr (fun e_1 ee_1 => ?_)
  replace h := h.2 e_1 ee_1
  refine b_iload_n 1 dX0_of_4 rfl rfl ?_
  refine b_cs (y := mX0_has) (as := [.inr e_1, .inl x1]) (st := []) (n := 2) (Or.inl q332) q333 q69 q334 zmh_X0_has rfl (Nat.le_of_ble_eq_true rfl) (Nat.le_of_ble_eq_true rfl) dX0_of_5 (sv_X0_has (fun r_3 M_2 h => ?_) h)
  show wq (d + 4) mX0_of 8 [(0, .inr r0), (1, .inl x1), (2, .inl x2)] [.inl r_3] M_2 P
  refine b_if_ne (tgt := 13) dX0_of_8 (by decide) (fun c_13 => ?_) (fun c_13 => ?_)
  · replace h := h.1 c_13
    refine b_aload_n 0 dX0_of_13 rfl rfl ?_
    refine b_gR (ci := 0) (r := (RX0, TX0, 14)) (f := 8) (by decide) rfl (by decide) rfl (Or.inl q157) (Or.inl rfl) h.1 dX0_of_14 ?_
    refine b_topr (fun e_4 ee_4 => ?_)
    replace h := h.2 e_4 ee_4
    refine b_iload_n 1 dX0_of_17 rfl rfl ?_
    refine b_lget (st := []) h.1 h.2.1 (Or.inl q624) (Nat.le_of_ble_eq_true rfl) dX0_of_18 ?_
    refine b_topr (fun e_5 ee_5 => ?_)
    replace h := h.2.2 e_5 ee_5
    refine b_ck (ci := 15) (r := (RX15, TX15, 10)) rfl q656 h.1 dX0_of_21 ?_
    replace h := h.2
    refine b_astore_n (lv' := [(3, .inr e_5), (0, .inr r0), (1, .inl x1), (2, .inl x2)]) dX0_of_24 rfl (Nat.le_of_ble_eq_true rfl) rfl ?_
    refine b_iload_n 3 dX0_of_25 rfl rfl ?_
    refine b_tsw (fun j => ([56, 75, 97, 102] : List Nat).getD j 0) (tD := 107) (n := 4) dX0_of_26 rfl (by decide) (by decide) (by decide) (fun j hj e => ?_) (fun e => ?_)
    · match j, hj, e with
      | 0, _, e =>
        replace h := h.1 e
        show wq (d + 4) mX0_of 56 _ _ _ _
        refine b_aload_n 0 dX0_of_56 rfl rfl ?_
        refine b_gI (ci := 15) (r := (RX15, TX15, 10)) (f := 8) (by decide) rfl (by decide) rfl (Or.inr ⟨_, q685⟩) (Or.inl rfl) h.1 dX0_of_57 ?_
        replace h := h.2
        refine b_if_eq (tgt := 67) dX0_of_60 (by decide) (fun c_7 => ?_) (fun c_7 => ?_)
        · replace h := h.1 c_7
          refine b_aload_n 0 dX0_of_67 rfl rfl ?_
          refine b_gR (ci := 15) (r := (RX15, TX15, 10)) (f := 7) (by decide) rfl (by decide) rfl (Or.inr ⟨_, q683⟩) (Or.inl rfl) h.1 dX0_of_68 ?_
          refine b_topr (fun e_6 ee_6 => ?_)
          replace h := h.2 e_6 ee_6
          refine b_gI (ci := 16) (r := (RX16, TX16, 17)) (f := 12) (by decide) rfl (by decide) rfl (Or.inr ⟨_, q771⟩) (Or.inl rfl) h.1 dX0_of_71 ?_
          replace h := h.2
          exact b_iret rfl dX0_of_74 (hP _ _ h)
        · replace h := h.2 c_7
          refine b_iconst (v := (-1)) dX0_of_63 (by decide) ?_
          refine b_goto (tgt := 74) dX0_of_64 (by decide) ?_
          exact b_iret rfl dX0_of_74 (hP _ _ h)
      | 1, _, e =>
        replace h := h.2.1 e
        show wq (d + 4) mX0_of 75 _ _ _ _
        refine b_aload_n 0 dX0_of_75 rfl rfl ?_
        refine b_gI (ci := 15) (r := (RX15, TX15, 10)) (f := 8) (by decide) rfl (by decide) rfl (Or.inr ⟨_, q685⟩) (Or.inl rfl) h.1 dX0_of_76 ?_
        replace h := h.2
        refine b_if_eq (tgt := 86) dX0_of_79 (by decide) (fun c_12 => ?_) (fun c_12 => ?_)
        · replace h := h.1 c_12
          refine b_aload_n 0 dX0_of_86 rfl rfl ?_
          refine b_gR (ci := 15) (r := (RX15, TX15, 10)) (f := 7) (by decide) rfl (by decide) rfl (Or.inr ⟨_, q683⟩) (Or.inl rfl) h.1 dX0_of_87 ?_
          refine b_topr (fun e_8 ee_8 => ?_)
          replace h := h.2 e_8 ee_8
          refine b_gR (ci := 16) (r := (RX16, TX16, 17)) (f := 16) (by decide) rfl (by decide) rfl (Or.inr ⟨_, q788⟩) (Or.inl rfl) h.1 dX0_of_90 ?_
          refine b_topr (fun e_9 ee_9 => ?_)
          replace h := h.2 e_9 ee_9
          refine b_cs (y := mX17_numberOf) (as := [.inr e_9]) (st := []) (n := 1) (Or.inr ⟨_, q1454⟩) q1455 q95 q1456 zmh_X17_numberOf rfl (Nat.le_of_ble_eq_true rfl) (Nat.le_of_ble_eq_true rfl) dX0_of_93 (sv_X17_numberOf (fun r_11 M_10 h => ?_) h)
          show wq (d + 4) mX0_of 96 [(3, .inr e_5), (0, .inr r0), (1, .inl x1), (2, .inl x2)] [.inl r_11] M_10 P
          exact b_iret rfl dX0_of_96 (hP _ _ h)
        · replace h := h.2 c_12
          refine b_iconst (v := (-1)) dX0_of_82 (by decide) ?_
          refine b_goto (tgt := 96) dX0_of_83 (by decide) ?_
          exact b_iret rfl dX0_of_96 (hP _ _ h)
      | 2, _, e =>
        replace h := h.2.2.1 e
        show wq (d + 4) mX0_of 97 _ _ _ _
        refine b_aload_n 0 dX0_of_97 rfl rfl ?_
        refine b_gI (ci := 15) (r := (RX15, TX15, 10)) (f := 5) (by decide) rfl (by decide) rfl (Or.inr ⟨_, q679⟩) (Or.inl rfl) h.1 dX0_of_98 ?_
        replace h := h.2
        exact b_iret rfl dX0_of_101 (hP _ _ h)
      | 3, _, e =>
        replace h := h.2.2.2.1 e
        show wq (d + 4) mX0_of 102 _ _ _ _
        refine b_aload_n 0 dX0_of_102 rfl rfl ?_
        refine b_gI (ci := 15) (r := (RX15, TX15, 10)) (f := 9) (by decide) rfl (by decide) rfl (Or.inr ⟨_, q687⟩) (Or.inl rfl) h.1 dX0_of_103 ?_
        replace h := h.2
        exact b_iret rfl dX0_of_106 (hP _ _ h)
      | j + 4, hj, _ => exact absurd hj (by omega)
    · replace h := h.2.2.2.2 (e 0 (by decide)) (e 1 (by decide)) (e 2 (by decide)) (e 3 (by decide))
      refine b_iconst (v := (-1)) dX0_of_107 (by decide) ?_
      exact b_iret rfl dX0_of_108 (hP _ _ h)
  · replace h := h.2 c_13
    refine b_iconst (v := (-1)) dX0_of_11 (by decide) ?_
    exact b_iret rfl dX0_of_12 (hP _ _ h)
def v_X0_failure (r0 : Nat × Nat) (x1 : Int32) (x2 : Int32) (M : Mem) (Q : Int32 → Mem → Prop) : Prop := kt r0.1 = 0 ∧ (∀ e_1 : Nat × Nat, e_1 = M.2.1 r0.1 r0.2 10 → ((v_X0_has e_1 x1 M (fun r_3 M_2 => ((¬ r_3 = 0) → (kt r0.1 = 0 ∧ (∀ e_4 : Nat × Nat, e_4 = M_2.2.1 r0.1 r0.2 10 → (lk e_4.1 ∧ (¬ x1 < 0 ∧ x1 < M_2.1 e_4.1 e_4.2 0) ∧ (∀ e_5 : Nat × Nat, e_5 = M_2.2.1 e_4.1 e_4.2 x1.toNatClampNeg → (kt e_5.1 = 17 ∧ ((x2 = 0 → (kt e_5.1 = 17 ∧ (Q (M_2.1 e_5.1 e_5.2 1) M_2))) ∧ (x2 = 1 → (kt e_5.1 = 17 ∧ (Q (M_2.1 e_5.1 e_5.2 2) M_2))) ∧ (x2 = 2 → (kt e_5.1 = 17 ∧ (Q (M_2.1 e_5.1 e_5.2 3) M_2))) ∧ (x2 = 3 → (kt e_5.1 = 17 ∧ (Q (M_2.1 e_5.1 e_5.2 4) M_2))) ∧ (x2 = 4 → (kt e_5.1 = 17 ∧ (∀ e_6 : Nat × Nat, e_6 = M_2.2.1 e_5.1 e_5.2 5 → ((v_X17_numberOf e_6 M_2 (fun r_8 M_7 => Q r_8 M_7)))))) ∧ (x2 = 5 → (kt e_5.1 = 17 ∧ (∀ e_9 : Nat × Nat, e_9 = M_2.2.1 e_5.1 e_5.2 6 → ((v_X17_numberOf e_9 M_2 (fun r_11 M_10 => Q r_11 M_10)))))) ∧ (¬ x2 = 0 → ¬ x2 = 1 → ¬ x2 = 2 → ¬ x2 = 3 → ¬ x2 = 4 → ¬ x2 = 5 → (Q (-1) M_2))))))))) ∧ ((r_3 = 0) → (Q (-1) M_2))))))
set_option maxHeartbeats 4000000 in
theorem sv_X0_failure {d : Nat} {M : Mem} {P : Option AV → Mem → Prop} {Q : Int32 → Mem → Prop} {r0 : Nat × Nat} {x1 : Int32} {x2 : Int32} (hP : ∀ r M, Q r M → P (some (.inl r)) M) (h : v_X0_failure r0 x1 x2 M Q) : cq (d + 4) mX0_failure [.inr r0, .inl x1, .inl x2] M P := by
  refine cq_of (by decide) (Nat.le_of_ble_eq_true rfl) ?_
  show wq (d + 4) mX0_failure 0 [(0, .inr r0), (1, .inl x1), (2, .inl x2)] [] M P
  unfold v_X0_failure at h
  refine b_aload_n 0 dX0_failure_0 rfl rfl ?_
  refine b_gR (ci := 0) (r := (RX0, TX0, 14)) (f := 10) (by decide) rfl (by decide) rfl (Or.inl q160) (Or.inl rfl) h.1 dX0_failure_1 ?_
  refine b_topr (fun e_1 ee_1 => ?_)
  replace h := h.2 e_1 ee_1
  refine b_iload_n 1 dX0_failure_4 rfl rfl ?_
  refine b_cs (y := mX0_has) (as := [.inr e_1, .inl x1]) (st := []) (n := 2) (Or.inl q332) q333 q69 q334 zmh_X0_has rfl (Nat.le_of_ble_eq_true rfl) (Nat.le_of_ble_eq_true rfl) dX0_failure_5 (sv_X0_has (fun r_3 M_2 h => ?_) h)
  show wq (d + 4) mX0_failure 8 [(0, .inr r0), (1, .inl x1), (2, .inl x2)] [.inl r_3] M_2 P
  refine b_if_ne (tgt := 13) dX0_failure_8 (by decide) (fun c_12 => ?_) (fun c_12 => ?_)
  · replace h := h.1 c_12
    refine b_aload_n 0 dX0_failure_13 rfl rfl ?_
    refine b_gR (ci := 0) (r := (RX0, TX0, 14)) (f := 10) (by decide) rfl (by decide) rfl (Or.inl q160) (Or.inl rfl) h.1 dX0_failure_14 ?_
    refine b_topr (fun e_4 ee_4 => ?_)
    replace h := h.2 e_4 ee_4
    refine b_iload_n 1 dX0_failure_17 rfl rfl ?_
    refine b_lget (st := []) h.1 h.2.1 (Or.inl q624) (Nat.le_of_ble_eq_true rfl) dX0_failure_18 ?_
    refine b_topr (fun e_5 ee_5 => ?_)
    replace h := h.2.2 e_5 ee_5
    refine b_ck (ci := 17) (r := (RX17, TX17, 7)) rfl q855 h.1 dX0_failure_21 ?_
    replace h := h.2
    refine b_astore_n (lv' := [(3, .inr e_5), (0, .inr r0), (1, .inl x1), (2, .inl x2)]) dX0_failure_24 rfl (Nat.le_of_ble_eq_true rfl) rfl ?_
    refine b_iload_n 3 dX0_failure_25 rfl rfl ?_
    refine b_tsw (fun j => ([64, 69, 74, 79, 84, 92] : List Nat).getD j 0) (tD := 100) (n := 6) dX0_failure_26 rfl (by decide) (by decide) (by decide) (fun j hj e => ?_) (fun e => ?_)
    · match j, hj, e with
      | 0, _, e =>
        replace h := h.1 e
        show wq (d + 4) mX0_failure 64 _ _ _ _
        refine b_aload_n 0 dX0_failure_64 rfl rfl ?_
        refine b_gI (ci := 17) (r := (RX17, TX17, 7)) (f := 1) (by decide) rfl (by decide) rfl (Or.inr ⟨_, q864⟩) (Or.inl rfl) h.1 dX0_failure_65 ?_
        replace h := h.2
        exact b_iret rfl dX0_failure_68 (hP _ _ h)
      | 1, _, e =>
        replace h := h.2.1 e
        show wq (d + 4) mX0_failure 69 _ _ _ _
        refine b_aload_n 0 dX0_failure_69 rfl rfl ?_
        refine b_gI (ci := 17) (r := (RX17, TX17, 7)) (f := 2) (by decide) rfl (by decide) rfl (Or.inr ⟨_, q866⟩) (Or.inl rfl) h.1 dX0_failure_70 ?_
        replace h := h.2
        exact b_iret rfl dX0_failure_73 (hP _ _ h)
      | 2, _, e =>
        replace h := h.2.2.1 e
        show wq (d + 4) mX0_failure 74 _ _ _ _
        refine b_aload_n 0 dX0_failure_74 rfl rfl ?_
        refine b_gI (ci := 17) (r := (RX17, TX17, 7)) (f := 3) (by decide) rfl (by decide) rfl (Or.inr ⟨_, q868⟩) (Or.inl rfl) h.1 dX0_failure_75 ?_
        replace h := h.2
        exact b_iret rfl dX0_failure_78 (hP _ _ h)
      | 3, _, e =>
        replace h := h.2.2.2.1 e
        show wq (d + 4) mX0_failure 79 _ _ _ _
        refine b_aload_n 0 dX0_failure_79 rfl rfl ?_
        refine b_gI (ci := 17) (r := (RX17, TX17, 7)) (f := 4) (by decide) rfl (by decide) rfl (Or.inr ⟨_, q870⟩) (Or.inl rfl) h.1 dX0_failure_80 ?_
        replace h := h.2
        exact b_iret rfl dX0_failure_83 (hP _ _ h)
      | 4, _, e =>
        replace h := h.2.2.2.2.1 e
        show wq (d + 4) mX0_failure 84 _ _ _ _
        refine b_aload_n 0 dX0_failure_84 rfl rfl ?_
        refine b_gR (ci := 17) (r := (RX17, TX17, 7)) (f := 5) (by decide) rfl (by decide) rfl (Or.inr ⟨_, q873⟩) (Or.inl rfl) h.1 dX0_failure_85 ?_
        refine b_topr (fun e_6 ee_6 => ?_)
        replace h := h.2 e_6 ee_6
        refine b_cs (y := mX17_numberOf) (as := [.inr e_6]) (st := []) (n := 1) (Or.inr ⟨_, q1454⟩) q1455 q95 q1456 zmh_X17_numberOf rfl (Nat.le_of_ble_eq_true rfl) (Nat.le_of_ble_eq_true rfl) dX0_failure_88 (sv_X17_numberOf (fun r_8 M_7 h => ?_) h)
        show wq (d + 4) mX0_failure 91 [(3, .inr e_5), (0, .inr r0), (1, .inl x1), (2, .inl x2)] [.inl r_8] M_7 P
        exact b_iret rfl dX0_failure_91 (hP _ _ h)
      | 5, _, e =>
        replace h := h.2.2.2.2.2.1 e
        show wq (d + 4) mX0_failure 92 _ _ _ _
        refine b_aload_n 0 dX0_failure_92 rfl rfl ?_
        refine b_gR (ci := 17) (r := (RX17, TX17, 7)) (f := 6) (by decide) rfl (by decide) rfl (Or.inr ⟨_, q875⟩) (Or.inl rfl) h.1 dX0_failure_93 ?_
        refine b_topr (fun e_9 ee_9 => ?_)
        replace h := h.2 e_9 ee_9
        refine b_cs (y := mX17_numberOf) (as := [.inr e_9]) (st := []) (n := 1) (Or.inr ⟨_, q1454⟩) q1455 q95 q1456 zmh_X17_numberOf rfl (Nat.le_of_ble_eq_true rfl) (Nat.le_of_ble_eq_true rfl) dX0_failure_96 (sv_X17_numberOf (fun r_11 M_10 h => ?_) h)
        show wq (d + 4) mX0_failure 99 [(3, .inr e_5), (0, .inr r0), (1, .inl x1), (2, .inl x2)] [.inl r_11] M_10 P
        exact b_iret rfl dX0_failure_99 (hP _ _ h)
      | j + 6, hj, _ => exact absurd hj (by omega)
    · replace h := h.2.2.2.2.2.2 (e 0 (by decide)) (e 1 (by decide)) (e 2 (by decide)) (e 3 (by decide)) (e 4 (by decide)) (e 5 (by decide))
      refine b_iconst (v := (-1)) dX0_failure_100 (by decide) ?_
      exact b_iret rfl dX0_failure_101 (hP _ _ h)
  · replace h := h.2 c_12
    refine b_iconst (v := (-1)) dX0_failure_11 (by decide) ?_
    exact b_iret rfl dX0_failure_12 (hP _ _ h)
def v_X0_call (r0 : Nat × Nat) (x1 : Int32) (x2 : Int32) (M : Mem) (Q : Int32 → Mem → Prop) : Prop := kt r0.1 = 0 ∧ (∀ e_1 : Nat × Nat, e_1 = M.2.1 r0.1 r0.2 9 → ((v_X0_has e_1 x1 M (fun r_3 M_2 => ((¬ r_3 = 0) → (kt r0.1 = 0 ∧ (∀ e_4 : Nat × Nat, e_4 = M_2.2.1 r0.1 r0.2 9 → (lk e_4.1 ∧ (¬ x1 < 0 ∧ x1 < M_2.1 e_4.1 e_4.2 0) ∧ (∀ e_5 : Nat × Nat, e_5 = M_2.2.1 e_4.1 e_4.2 x1.toNatClampNeg → (kt e_5.1 = 16 ∧ ((x2 = 0 → (kt e_5.1 = 16 ∧ (∀ e_6 : Nat × Nat, e_6 = M_2.2.1 e_5.1 e_5.2 4 → (kt e_6.1 = 15 ∧ (Q (M_2.1 e_6.1 e_6.2 0) M_2))))) ∧ (x2 = 1 → (kt e_5.1 = 16 ∧ (Q (M_2.1 e_5.1 e_5.2 1) M_2))) ∧ (x2 = 2 → (kt e_5.1 = 16 ∧ (∀ e_7 : Nat × Nat, e_7 = M_2.2.1 e_5.1 e_5.2 5 → (((¬ e_7 = (0, 0)) → (kt e_5.1 = 16 ∧ (∀ e_8 : Nat × Nat, e_8 = M_2.2.1 e_5.1 e_5.2 5 → (kt e_8.1 = 16 ∧ (Q (M_2.1 e_8.1 e_8.2 0) M_2))))) ∧ ((e_7 = (0, 0)) → (Q (-1) M_2)))))) ∧ (x2 = 3 → (kt e_5.1 = 16 ∧ (∀ e_10 : Nat × Nat, e_10 = M_2.2.1 e_5.1 e_5.2 6 → (((¬ e_10 = (0, 0)) → (kt e_5.1 = 16 ∧ (∀ e_11 : Nat × Nat, e_11 = M_2.2.1 e_5.1 e_5.2 6 → (gk e_11.1 ∧ (Q (M_2.1 e_11.1 e_11.2 0) M_2))))) ∧ ((e_10 = (0, 0)) → (Q (-1) M_2)))))) ∧ (x2 = 4 → (kt e_5.1 = 16 ∧ (Q (M_2.1 e_5.1 e_5.2 2) M_2))) ∧ (x2 = 5 → (kt e_5.1 = 16 ∧ (Q (M_2.1 e_5.1 e_5.2 3) M_2))) ∧ (x2 = 6 → (kt e_5.1 = 16 ∧ (Q (M_2.1 e_5.1 e_5.2 13) M_2))) ∧ (x2 = 7 → (kt e_5.1 = 16 ∧ (Q (M_2.1 e_5.1 e_5.2 11) M_2))) ∧ (x2 = 8 → (kt e_5.1 = 16 ∧ (Q (M_2.1 e_5.1 e_5.2 12) M_2))) ∧ (x2 = 9 → (kt e_5.1 = 16 ∧ (∀ e_13 : Nat × Nat, e_13 = M_2.2.1 e_5.1 e_5.2 16 → ((v_X17_numberOf e_13 M_2 (fun r_15 M_14 => Q r_15 M_14)))))) ∧ (x2 = 10 → (kt e_5.1 = 16 ∧ (v_X16_isUnderWay e_5 M_2 (fun r_17 M_16 => ((r_17 = 0) → (Q 0 M_16)) ∧ ((¬ r_17 = 0) → (kt e_5.1 = 16 ∧ (Q (M_16.1 e_5.1 e_5.2 14) M_16))))))) ∧ (¬ x2 = 0 → ¬ x2 = 1 → ¬ x2 = 2 → ¬ x2 = 3 → ¬ x2 = 4 → ¬ x2 = 5 → ¬ x2 = 6 → ¬ x2 = 7 → ¬ x2 = 8 → ¬ x2 = 9 → ¬ x2 = 10 → (Q (-1) M_2))))))))) ∧ ((r_3 = 0) → (Q (-1) M_2))))))
set_option maxHeartbeats 4000000 in
theorem sv_X0_call {d : Nat} {M : Mem} {P : Option AV → Mem → Prop} {Q : Int32 → Mem → Prop} {r0 : Nat × Nat} {x1 : Int32} {x2 : Int32} (hP : ∀ r M, Q r M → P (some (.inl r)) M) (h : v_X0_call r0 x1 x2 M Q) : cq (d + 4) mX0_call [.inr r0, .inl x1, .inl x2] M P := by
  refine cq_of (by decide) (Nat.le_of_ble_eq_true rfl) ?_
  show wq (d + 4) mX0_call 0 [(0, .inr r0), (1, .inl x1), (2, .inl x2)] [] M P
  unfold v_X0_call at h
  refine b_aload_n 0 dX0_call_0 rfl rfl ?_
  refine b_gR (ci := 0) (r := (RX0, TX0, 14)) (f := 9) (by decide) rfl (by decide) rfl (Or.inl q159) (Or.inl rfl) h.1 dX0_call_1 ?_
  refine b_topr (fun e_1 ee_1 => ?_)
  replace h := h.2 e_1 ee_1
  refine b_iload_n 1 dX0_call_4 rfl rfl ?_
  refine b_cs (y := mX0_has) (as := [.inr e_1, .inl x1]) (st := []) (n := 2) (Or.inl q332) q333 q69 q334 zmh_X0_has rfl (Nat.le_of_ble_eq_true rfl) (Nat.le_of_ble_eq_true rfl) dX0_call_5 (sv_X0_has (fun r_3 M_2 h => ?_) h)
  show wq (d + 4) mX0_call 8 [(0, .inr r0), (1, .inl x1), (2, .inl x2)] [.inl r_3] M_2 P
  refine b_if_ne (tgt := 13) dX0_call_8 (by decide) (fun c_19 => ?_) (fun c_19 => ?_)
  · replace h := h.1 c_19
    refine b_aload_n 0 dX0_call_13 rfl rfl ?_
    refine b_gR (ci := 0) (r := (RX0, TX0, 14)) (f := 9) (by decide) rfl (by decide) rfl (Or.inl q159) (Or.inl rfl) h.1 dX0_call_14 ?_
    refine b_topr (fun e_4 ee_4 => ?_)
    replace h := h.2 e_4 ee_4
    refine b_iload_n 1 dX0_call_17 rfl rfl ?_
    refine b_lget (st := []) h.1 h.2.1 (Or.inl q624) (Nat.le_of_ble_eq_true rfl) dX0_call_18 ?_
    refine b_topr (fun e_5 ee_5 => ?_)
    replace h := h.2.2 e_5 ee_5
    refine b_ck (ci := 16) (r := (RX16, TX16, 17)) rfl q721 h.1 dX0_call_21 ?_
    replace h := h.2
    refine b_astore_n (lv' := [(3, .inr e_5), (0, .inr r0), (1, .inl x1), (2, .inl x2)]) dX0_call_24 rfl (Nat.le_of_ble_eq_true rfl) rfl ?_
    refine b_iload_n 3 dX0_call_25 rfl rfl ?_
    refine b_tsw (fun j => ([84, 92, 97, 116, 135, 140, 145, 150, 155, 160, 168] : List Nat).getD j 0) (tD := 184) (n := 11) dX0_call_26 rfl (by decide) (by decide) (by decide) (fun j hj e => ?_) (fun e => ?_)
    · match j, hj, e with
      | 0, _, e =>
        replace h := h.1 e
        show wq (d + 4) mX0_call 84 _ _ _ _
        refine b_aload_n 0 dX0_call_84 rfl rfl ?_
        refine b_gR (ci := 16) (r := (RX16, TX16, 17)) (f := 4) (by decide) rfl (by decide) rfl (Or.inr ⟨_, q743⟩) (Or.inl rfl) h.1 dX0_call_85 ?_
        refine b_topr (fun e_6 ee_6 => ?_)
        replace h := h.2 e_6 ee_6
        refine b_gI (ci := 15) (r := (RX15, TX15, 10)) (f := 0) (by decide) rfl (by decide) rfl (Or.inr ⟨_, q665⟩) (Or.inl rfl) h.1 dX0_call_88 ?_
        replace h := h.2
        exact b_iret rfl dX0_call_91 (hP _ _ h)
      | 1, _, e =>
        replace h := h.2.1 e
        show wq (d + 4) mX0_call 92 _ _ _ _
        refine b_aload_n 0 dX0_call_92 rfl rfl ?_
        refine b_gI (ci := 16) (r := (RX16, TX16, 17)) (f := 1) (by decide) rfl (by decide) rfl (Or.inr ⟨_, q734⟩) (Or.inl rfl) h.1 dX0_call_93 ?_
        replace h := h.2
        exact b_iret rfl dX0_call_96 (hP _ _ h)
      | 2, _, e =>
        replace h := h.2.2.1 e
        show wq (d + 4) mX0_call 97 _ _ _ _
        refine b_aload_n 0 dX0_call_97 rfl rfl ?_
        refine b_gR (ci := 16) (r := (RX16, TX16, 17)) (f := 5) (by decide) rfl (by decide) rfl (Or.inr ⟨_, q745⟩) (Or.inl rfl) h.1 dX0_call_98 ?_
        refine b_topr (fun e_7 ee_7 => ?_)
        replace h := h.2 e_7 ee_7
        refine b_ifnonnull (tgt := 108) dX0_call_101 (by decide) (fun c_9 => ?_) (fun c_9 => ?_)
        · replace h := h.1 c_9
          refine b_aload_n 0 dX0_call_108 rfl rfl ?_
          refine b_gR (ci := 16) (r := (RX16, TX16, 17)) (f := 5) (by decide) rfl (by decide) rfl (Or.inr ⟨_, q745⟩) (Or.inl rfl) h.1 dX0_call_109 ?_
          refine b_topr (fun e_8 ee_8 => ?_)
          replace h := h.2 e_8 ee_8
          refine b_gI (ci := 16) (r := (RX16, TX16, 17)) (f := 0) (by decide) rfl (by decide) rfl (Or.inr ⟨_, q731⟩) (Or.inl rfl) h.1 dX0_call_112 ?_
          replace h := h.2
          exact b_iret rfl dX0_call_115 (hP _ _ h)
        · replace h := h.2 c_9
          refine b_iconst (v := (-1)) dX0_call_104 (by decide) ?_
          refine b_goto (tgt := 115) dX0_call_105 (by decide) ?_
          exact b_iret rfl dX0_call_115 (hP _ _ h)
      | 3, _, e =>
        replace h := h.2.2.2.1 e
        show wq (d + 4) mX0_call 116 _ _ _ _
        refine b_aload_n 0 dX0_call_116 rfl rfl ?_
        refine b_gR (ci := 16) (r := (RX16, TX16, 17)) (f := 6) (by decide) rfl (by decide) rfl (Or.inr ⟨_, q748⟩) (Or.inl rfl) h.1 dX0_call_117 ?_
        refine b_topr (fun e_10 ee_10 => ?_)
        replace h := h.2 e_10 ee_10
        refine b_ifnonnull (tgt := 127) dX0_call_120 (by decide) (fun c_12 => ?_) (fun c_12 => ?_)
        · replace h := h.1 c_12
          refine b_aload_n 0 dX0_call_127 rfl rfl ?_
          refine b_gR (ci := 16) (r := (RX16, TX16, 17)) (f := 6) (by decide) rfl (by decide) rfl (Or.inr ⟨_, q748⟩) (Or.inl rfl) h.1 dX0_call_128 ?_
          refine b_topr (fun e_11 ee_11 => ?_)
          replace h := h.2 e_11 ee_11
          refine b_gIg (f := 0) (by decide) (Or.inl q372) (Or.inl rfl) h.1 dX0_call_131 ?_
          replace h := h.2
          exact b_iret rfl dX0_call_134 (hP _ _ h)
        · replace h := h.2 c_12
          refine b_iconst (v := (-1)) dX0_call_123 (by decide) ?_
          refine b_goto (tgt := 134) dX0_call_124 (by decide) ?_
          exact b_iret rfl dX0_call_134 (hP _ _ h)
      | 4, _, e =>
        replace h := h.2.2.2.2.1 e
        show wq (d + 4) mX0_call 135 _ _ _ _
        refine b_aload_n 0 dX0_call_135 rfl rfl ?_
        refine b_gI (ci := 16) (r := (RX16, TX16, 17)) (f := 2) (by decide) rfl (by decide) rfl (Or.inr ⟨_, q736⟩) (Or.inl rfl) h.1 dX0_call_136 ?_
        replace h := h.2
        exact b_iret rfl dX0_call_139 (hP _ _ h)
      | 5, _, e =>
        replace h := h.2.2.2.2.2.1 e
        show wq (d + 4) mX0_call 140 _ _ _ _
        refine b_aload_n 0 dX0_call_140 rfl rfl ?_
        refine b_gI (ci := 16) (r := (RX16, TX16, 17)) (f := 3) (by decide) rfl (by decide) rfl (Or.inr ⟨_, q738⟩) (Or.inl rfl) h.1 dX0_call_141 ?_
        replace h := h.2
        exact b_iret rfl dX0_call_144 (hP _ _ h)
      | 6, _, e =>
        replace h := h.2.2.2.2.2.2.1 e
        show wq (d + 4) mX0_call 145 _ _ _ _
        refine b_aload_n 0 dX0_call_145 rfl rfl ?_
        refine b_gI (ci := 16) (r := (RX16, TX16, 17)) (f := 13) (by decide) rfl (by decide) rfl (Or.inr ⟨_, q773⟩) (Or.inl rfl) h.1 dX0_call_146 ?_
        replace h := h.2
        exact b_iret rfl dX0_call_149 (hP _ _ h)
      | 7, _, e =>
        replace h := h.2.2.2.2.2.2.2.1 e
        show wq (d + 4) mX0_call 150 _ _ _ _
        refine b_aload_n 0 dX0_call_150 rfl rfl ?_
        refine b_gI (ci := 16) (r := (RX16, TX16, 17)) (f := 11) (by decide) rfl (by decide) rfl (Or.inr ⟨_, q767⟩) (Or.inl rfl) h.1 dX0_call_151 ?_
        replace h := h.2
        exact b_iret rfl dX0_call_154 (hP _ _ h)
      | 8, _, e =>
        replace h := h.2.2.2.2.2.2.2.2.1 e
        show wq (d + 4) mX0_call 155 _ _ _ _
        refine b_aload_n 0 dX0_call_155 rfl rfl ?_
        refine b_gI (ci := 16) (r := (RX16, TX16, 17)) (f := 12) (by decide) rfl (by decide) rfl (Or.inr ⟨_, q771⟩) (Or.inl rfl) h.1 dX0_call_156 ?_
        replace h := h.2
        exact b_iret rfl dX0_call_159 (hP _ _ h)
      | 9, _, e =>
        replace h := h.2.2.2.2.2.2.2.2.2.1 e
        show wq (d + 4) mX0_call 160 _ _ _ _
        refine b_aload_n 0 dX0_call_160 rfl rfl ?_
        refine b_gR (ci := 16) (r := (RX16, TX16, 17)) (f := 16) (by decide) rfl (by decide) rfl (Or.inr ⟨_, q788⟩) (Or.inl rfl) h.1 dX0_call_161 ?_
        refine b_topr (fun e_13 ee_13 => ?_)
        replace h := h.2 e_13 ee_13
        refine b_cs (y := mX17_numberOf) (as := [.inr e_13]) (st := []) (n := 1) (Or.inr ⟨_, q1454⟩) q1455 q95 q1456 zmh_X17_numberOf rfl (Nat.le_of_ble_eq_true rfl) (Nat.le_of_ble_eq_true rfl) dX0_call_164 (sv_X17_numberOf (fun r_15 M_14 h => ?_) h)
        show wq (d + 4) mX0_call 167 [(3, .inr e_5), (0, .inr r0), (1, .inl x1), (2, .inl x2)] [.inl r_15] M_14 P
        exact b_iret rfl dX0_call_167 (hP _ _ h)
      | 10, _, e =>
        replace h := h.2.2.2.2.2.2.2.2.2.2.1 e
        show wq (d + 4) mX0_call 168 _ _ _ _
        refine b_aload_n 0 dX0_call_168 rfl rfl ?_
        refine b_cvo (y := mX16_isUnderWay) (ci := 16) (r := (RX16, TX16, 17)) (e := e_5) (as := []) (st := []) (n := 0) rfl h.1 (Or.inl q967) q961 q960 q94 q962 zmh_X16_isUnderWay rfl (Nat.le_of_ble_eq_true rfl) (Nat.le_of_ble_eq_true rfl) dX0_call_169 (sv_X16_isUnderWay (fun r_17 M_16 h => ?_) h.2)
        show wq (d + 4) mX0_call 172 [(3, .inr e_5), (0, .inr r0), (1, .inl x1), (2, .inl x2)] [.inl r_17] M_16 P
        refine b_if_eq (tgt := 182) dX0_call_172 (by decide) (fun c_18 => ?_) (fun c_18 => ?_)
        · replace h := h.1 c_18
          refine b_iconst (v := 0) dX0_call_182 (by decide) ?_
          exact b_iret rfl dX0_call_183 (hP _ _ h)
        · replace h := h.2 c_18
          refine b_aload_n 0 dX0_call_175 rfl rfl ?_
          refine b_gI (ci := 16) (r := (RX16, TX16, 17)) (f := 14) (by decide) rfl (by decide) rfl (Or.inr ⟨_, q777⟩) (Or.inl rfl) h.1 dX0_call_176 ?_
          replace h := h.2
          refine b_goto (tgt := 183) dX0_call_179 (by decide) ?_
          exact b_iret rfl dX0_call_183 (hP _ _ h)
      | j + 11, hj, _ => exact absurd hj (by omega)
    · replace h := h.2.2.2.2.2.2.2.2.2.2.2 (e 0 (by decide)) (e 1 (by decide)) (e 2 (by decide)) (e 3 (by decide)) (e 4 (by decide)) (e 5 (by decide)) (e 6 (by decide)) (e 7 (by decide)) (e 8 (by decide)) (e 9 (by decide)) (e 10 (by decide))
      refine b_iconst (v := (-1)) dX0_call_184 (by decide) ?_
      exact b_iret rfl dX0_call_185 (hP _ _ h)
  · replace h := h.2 c_19
    refine b_iconst (v := (-1)) dX0_call_11 (by decide) ?_
    exact b_iret rfl dX0_call_12 (hP _ _ h)
def v_X0_fuse (r0 : Nat × Nat) (x1 : Int32) (x2 : Int32) (M : Mem) (Q : Int32 → Mem → Prop) : Prop := kt r0.1 = 0 ∧ (v_X0_fuseOf r0 x1 M (fun e_2 M_1 => ((¬ e_2 = (0, 0)) → (((¬ x2 = 0) → (((¬ x2 = 1) → (((¬ x2 = 2) → (Q (-1) M_1)) ∧ ((x2 = 2) → (kt e_2.1 = 5 ∧ (Q (M_1.1 e_2.1 e_2.2 9) M_1))))) ∧ ((x2 = 1) → (kt e_2.1 = 5 ∧ (Q (M_1.1 e_2.1 e_2.2 8) M_1))))) ∧ ((x2 = 0) → (kt e_2.1 = 5 ∧ (Q (M_1.1 e_2.1 e_2.2 7) M_1))))) ∧ ((e_2 = (0, 0)) → (Q (-1) M_1))))
set_option maxHeartbeats 4000000 in
theorem sv_X0_fuse {d : Nat} {M : Mem} {P : Option AV → Mem → Prop} {Q : Int32 → Mem → Prop} {r0 : Nat × Nat} {x1 : Int32} {x2 : Int32} (hP : ∀ r M, Q r M → P (some (.inl r)) M) (h : v_X0_fuse r0 x1 x2 M Q) : cq (d + 5) mX0_fuse [.inr r0, .inl x1, .inl x2] M P := by
  refine cq_of (by decide) (Nat.le_of_ble_eq_true rfl) ?_
  show wq (d + 5) mX0_fuse 0 [(0, .inr r0), (1, .inl x1), (2, .inl x2)] [] M P
  unfold v_X0_fuse at h
  refine b_aload_n 0 dX0_fuse_0 rfl rfl ?_
  refine b_iload_n 1 dX0_fuse_1 rfl rfl ?_
  refine b_cvo (y := mX0_fuseOf) (ci := 0) (r := (RX0, TX0, 14)) (e := r0) (as := [.inl x1]) (st := []) (n := 1) rfl h.1 (Or.inl q1342) qs26 q1344 q69 q1345 zmh_X0_fuseOf rfl (Nat.le_of_ble_eq_true rfl) (Nat.le_of_ble_eq_true rfl) dX0_fuse_2 (sv_X0_fuseOf (fun e_2 M_1 h => ?_) h.2)
  show wq (d + 5) mX0_fuse 5 [(0, .inr r0), (1, .inl x1), (2, .inl x2)] [.inr e_2] M_1 P
  refine b_astore_n (lv' := [(3, .inr e_2), (0, .inr r0), (1, .inl x1), (2, .inl x2)]) dX0_fuse_5 rfl (Nat.le_of_ble_eq_true rfl) rfl ?_
  refine b_aload_n 0 dX0_fuse_6 rfl rfl ?_
  refine b_ifnonnull (tgt := 12) dX0_fuse_7 (by decide) (fun c_6 => ?_) (fun c_6 => ?_)
  · replace h := h.1 c_6
    refine b_iload_n 3 dX0_fuse_12 rfl rfl ?_
    refine b_if_ne (tgt := 23) dX0_fuse_13 (by decide) (fun c_5 => ?_) (fun c_5 => ?_)
    · replace h := h.1 c_5
      refine b_iload_n 3 dX0_fuse_23 rfl rfl ?_
      refine b_iconst (v := 1) dX0_fuse_24 (by decide) ?_
      refine b_icmp_ne (tgt := 35) dX0_fuse_25 (by decide) (fun c_4 => ?_) (fun c_4 => ?_)
      · replace h := h.1 c_4
        refine b_iload_n 3 dX0_fuse_35 rfl rfl ?_
        refine b_iconst (v := 2) dX0_fuse_36 (by decide) ?_
        refine b_icmp_ne (tgt := 47) dX0_fuse_37 (by decide) (fun c_3 => ?_) (fun c_3 => ?_)
        · replace h := h.1 c_3
          refine b_iconst (v := (-1)) dX0_fuse_47 (by decide) ?_
          exact b_iret rfl dX0_fuse_48 (hP _ _ h)
        · replace h := h.2 c_3
          refine b_aload_n 0 dX0_fuse_40 rfl rfl ?_
          refine b_gI (ci := 5) (r := (RX5, TX5, 12)) (f := 9) (by decide) rfl (by decide) rfl (Or.inr ⟨_, q366⟩) (Or.inl rfl) h.1 dX0_fuse_41 ?_
          replace h := h.2
          refine b_goto (tgt := 48) dX0_fuse_44 (by decide) ?_
          exact b_iret rfl dX0_fuse_48 (hP _ _ h)
      · replace h := h.2 c_4
        refine b_aload_n 0 dX0_fuse_28 rfl rfl ?_
        refine b_gI (ci := 5) (r := (RX5, TX5, 12)) (f := 8) (by decide) rfl (by decide) rfl (Or.inr ⟨_, q364⟩) (Or.inl rfl) h.1 dX0_fuse_29 ?_
        replace h := h.2
        refine b_goto (tgt := 48) dX0_fuse_32 (by decide) ?_
        exact b_iret rfl dX0_fuse_48 (hP _ _ h)
    · replace h := h.2 c_5
      refine b_aload_n 0 dX0_fuse_16 rfl rfl ?_
      refine b_gI (ci := 5) (r := (RX5, TX5, 12)) (f := 7) (by decide) rfl (by decide) rfl (Or.inr ⟨_, q362⟩) (Or.inl rfl) h.1 dX0_fuse_17 ?_
      replace h := h.2
      refine b_goto (tgt := 48) dX0_fuse_20 (by decide) ?_
      exact b_iret rfl dX0_fuse_48 (hP _ _ h)
  · replace h := h.2 c_6
    refine b_iconst (v := (-1)) dX0_fuse_10 (by decide) ?_
    exact b_iret rfl dX0_fuse_11 (hP _ _ h)
def v_X0_bulkhead (r0 : Nat × Nat) (x1 : Int32) (x2 : Int32) (M : Mem) (Q : Int32 → Mem → Prop) : Prop := kt r0.1 = 0 ∧ (v_X0_bulkheadOf r0 x1 M (fun e_2 M_1 => ((¬ e_2 = (0, 0)) → (((¬ x2 = 0) → (((¬ x2 = 1) → (((¬ x2 = 2) → (Q (-1) M_1)) ∧ ((x2 = 2) → (kt e_2.1 = 6 ∧ (Q (M_1.1 e_2.1 e_2.2 9) M_1))))) ∧ ((x2 = 1) → (kt e_2.1 = 6 ∧ (∀ e_4 : Nat × Nat, e_4 = M_1.2.1 e_2.1 e_2.2 7 → (lk e_4.1 ∧ (Q (M_1.1 e_4.1 e_4.2 0) M_1))))))) ∧ ((x2 = 0) → (kt e_2.1 = 6 ∧ (Q (M_1.1 e_2.1 e_2.2 8) M_1))))) ∧ ((e_2 = (0, 0)) → (Q (-1) M_1))))
set_option maxHeartbeats 4000000 in
theorem sv_X0_bulkhead {d : Nat} {M : Mem} {P : Option AV → Mem → Prop} {Q : Int32 → Mem → Prop} {r0 : Nat × Nat} {x1 : Int32} {x2 : Int32} (hP : ∀ r M, Q r M → P (some (.inl r)) M) (h : v_X0_bulkhead r0 x1 x2 M Q) : cq (d + 5) mX0_bulkhead [.inr r0, .inl x1, .inl x2] M P := by
  refine cq_of (by decide) (Nat.le_of_ble_eq_true rfl) ?_
  show wq (d + 5) mX0_bulkhead 0 [(0, .inr r0), (1, .inl x1), (2, .inl x2)] [] M P
  unfold v_X0_bulkhead at h
  refine b_aload_n 0 dX0_bulkhead_0 rfl rfl ?_
  refine b_iload_n 1 dX0_bulkhead_1 rfl rfl ?_
  refine b_cvo (y := mX0_bulkheadOf) (ci := 0) (r := (RX0, TX0, 14)) (e := r0) (as := [.inl x1]) (st := []) (n := 1) rfl h.1 (Or.inl q1346) qs27 q1348 q69 q1349 zmh_X0_bulkheadOf rfl (Nat.le_of_ble_eq_true rfl) (Nat.le_of_ble_eq_true rfl) dX0_bulkhead_2 (sv_X0_bulkheadOf (fun e_2 M_1 h => ?_) h.2)
  show wq (d + 5) mX0_bulkhead 5 [(0, .inr r0), (1, .inl x1), (2, .inl x2)] [.inr e_2] M_1 P
  refine b_astore_n (lv' := [(3, .inr e_2), (0, .inr r0), (1, .inl x1), (2, .inl x2)]) dX0_bulkhead_5 rfl (Nat.le_of_ble_eq_true rfl) rfl ?_
  refine b_aload_n 0 dX0_bulkhead_6 rfl rfl ?_
  refine b_ifnonnull (tgt := 12) dX0_bulkhead_7 (by decide) (fun c_7 => ?_) (fun c_7 => ?_)
  · replace h := h.1 c_7
    refine b_iload_n 3 dX0_bulkhead_12 rfl rfl ?_
    refine b_if_ne (tgt := 23) dX0_bulkhead_13 (by decide) (fun c_6 => ?_) (fun c_6 => ?_)
    · replace h := h.1 c_6
      refine b_iload_n 3 dX0_bulkhead_23 rfl rfl ?_
      refine b_iconst (v := 1) dX0_bulkhead_24 (by decide) ?_
      refine b_icmp_ne (tgt := 38) dX0_bulkhead_25 (by decide) (fun c_5 => ?_) (fun c_5 => ?_)
      · replace h := h.1 c_5
        refine b_iload_n 3 dX0_bulkhead_38 rfl rfl ?_
        refine b_iconst (v := 2) dX0_bulkhead_39 (by decide) ?_
        refine b_icmp_ne (tgt := 50) dX0_bulkhead_40 (by decide) (fun c_3 => ?_) (fun c_3 => ?_)
        · replace h := h.1 c_3
          refine b_iconst (v := (-1)) dX0_bulkhead_50 (by decide) ?_
          exact b_iret rfl dX0_bulkhead_51 (hP _ _ h)
        · replace h := h.2 c_3
          refine b_aload_n 0 dX0_bulkhead_43 rfl rfl ?_
          refine b_gI (ci := 6) (r := (RX6, TX6, 11)) (f := 9) (by decide) rfl (by decide) rfl (Or.inr ⟨_, q450⟩) (Or.inl rfl) h.1 dX0_bulkhead_44 ?_
          replace h := h.2
          refine b_goto (tgt := 51) dX0_bulkhead_47 (by decide) ?_
          exact b_iret rfl dX0_bulkhead_51 (hP _ _ h)
      · replace h := h.2 c_5
        refine b_aload_n 0 dX0_bulkhead_28 rfl rfl ?_
        refine b_gR (ci := 6) (r := (RX6, TX6, 11)) (f := 7) (by decide) rfl (by decide) rfl (Or.inr ⟨_, q446⟩) (Or.inl rfl) h.1 dX0_bulkhead_29 ?_
        refine b_topr (fun e_4 ee_4 => ?_)
        replace h := h.2 e_4 ee_4
        refine b_lsize (st := []) h.1 (Or.inl q201) (Nat.le_of_ble_eq_true rfl) dX0_bulkhead_32 ?_
        replace h := h.2
        refine b_goto (tgt := 51) dX0_bulkhead_35 (by decide) ?_
        exact b_iret rfl dX0_bulkhead_51 (hP _ _ h)
    · replace h := h.2 c_6
      refine b_aload_n 0 dX0_bulkhead_16 rfl rfl ?_
      refine b_gI (ci := 6) (r := (RX6, TX6, 11)) (f := 8) (by decide) rfl (by decide) rfl (Or.inr ⟨_, q448⟩) (Or.inl rfl) h.1 dX0_bulkhead_17 ?_
      replace h := h.2
      refine b_goto (tgt := 51) dX0_bulkhead_20 (by decide) ?_
      exact b_iret rfl dX0_bulkhead_51 (hP _ _ h)
  · replace h := h.2 c_7
    refine b_iconst (v := (-1)) dX0_bulkhead_10 (by decide) ?_
    exact b_iret rfl dX0_bulkhead_11 (hP _ _ h)
def v_X0_waiting (r0 : Nat × Nat) (x1 : Int32) (x2 : Int32) (M : Mem) (Q : Int32 → Mem → Prop) : Prop := kt r0.1 = 0 ∧ (v_X0_bulkheadOf r0 x1 M (fun e_2 M_1 => ((¬ e_2 = (0, 0)) → (kt e_2.1 = 6 ∧ (∀ e_3 : Nat × Nat, e_3 = M_1.2.1 e_2.1 e_2.2 7 → ((v_X0_has e_3 x2 M_1 (fun r_5 M_4 => ((r_5 = 0) → (Q (-1) M_4)) ∧ ((¬ r_5 = 0) → (kt e_2.1 = 6 ∧ (∀ e_6 : Nat × Nat, e_6 = M_4.2.1 e_2.1 e_2.2 7 → (lk e_6.1 ∧ (¬ x2 < 0 ∧ x2 < M_4.1 e_6.1 e_6.2 0) ∧ (∀ e_7 : Nat × Nat, e_7 = M_4.2.1 e_6.1 e_6.2 x2.toNatClampNeg → (kt e_7.1 = 16 ∧ (kt e_7.1 = 16 ∧ (Q (M_4.1 e_7.1 e_7.2 0) M_4)))))))))))))) ∧ ((e_2 = (0, 0)) → (Q (-1) M_1))))
set_option maxHeartbeats 4000000 in
theorem sv_X0_waiting {d : Nat} {M : Mem} {P : Option AV → Mem → Prop} {Q : Int32 → Mem → Prop} {r0 : Nat × Nat} {x1 : Int32} {x2 : Int32} (hP : ∀ r M, Q r M → P (some (.inl r)) M) (h : v_X0_waiting r0 x1 x2 M Q) : cq (d + 5) mX0_waiting [.inr r0, .inl x1, .inl x2] M P := by
  refine cq_of (by decide) (Nat.le_of_ble_eq_true rfl) ?_
  show wq (d + 5) mX0_waiting 0 [(0, .inr r0), (1, .inl x1), (2, .inl x2)] [] M P
  unfold v_X0_waiting at h
  refine b_aload_n 0 dX0_waiting_0 rfl rfl ?_
  refine b_iload_n 1 dX0_waiting_1 rfl rfl ?_
  refine b_cvo (y := mX0_bulkheadOf) (ci := 0) (r := (RX0, TX0, 14)) (e := r0) (as := [.inl x1]) (st := []) (n := 1) rfl h.1 (Or.inl q1346) qs27 q1348 q69 q1349 zmh_X0_bulkheadOf rfl (Nat.le_of_ble_eq_true rfl) (Nat.le_of_ble_eq_true rfl) dX0_waiting_2 (sv_X0_bulkheadOf (fun e_2 M_1 h => ?_) h.2)
  show wq (d + 5) mX0_waiting 5 [(0, .inr r0), (1, .inl x1), (2, .inl x2)] [.inr e_2] M_1 P
  refine b_astore_n (lv' := [(3, .inr e_2), (0, .inr r0), (1, .inl x1), (2, .inl x2)]) dX0_waiting_5 rfl (Nat.le_of_ble_eq_true rfl) rfl ?_
  refine b_aload_n 0 dX0_waiting_6 rfl rfl ?_
  refine b_ifnonnull (tgt := 12) dX0_waiting_7 (by decide) (fun c_9 => ?_) (fun c_9 => ?_)
  · replace h := h.1 c_9
    refine b_aload_n 0 dX0_waiting_12 rfl rfl ?_
    refine b_gR (ci := 6) (r := (RX6, TX6, 11)) (f := 7) (by decide) rfl (by decide) rfl (Or.inr ⟨_, q446⟩) (Or.inl rfl) h.1 dX0_waiting_13 ?_
    refine b_topr (fun e_3 ee_3 => ?_)
    replace h := h.2 e_3 ee_3
    refine b_iload_n 3 dX0_waiting_16 rfl rfl ?_
    refine b_cs (y := mX0_has) (as := [.inr e_3, .inl x2]) (st := []) (n := 2) (Or.inl q332) q333 q69 q334 zmh_X0_has rfl (Nat.le_of_ble_eq_true rfl) (Nat.le_of_ble_eq_true rfl) dX0_waiting_17 (sv_X0_has (fun r_5 M_4 h => ?_) h)
    show wq (d + 5) mX0_waiting 20 [(3, .inr e_2), (0, .inr r0), (1, .inl x1), (2, .inl x2)] [.inl r_5] M_4 P
    refine b_if_eq (tgt := 40) dX0_waiting_20 (by decide) (fun c_8 => ?_) (fun c_8 => ?_)
    · replace h := h.1 c_8
      refine b_iconst (v := (-1)) dX0_waiting_40 (by decide) ?_
      exact b_iret rfl dX0_waiting_41 (hP _ _ h)
    · replace h := h.2 c_8
      refine b_aload_n 0 dX0_waiting_23 rfl rfl ?_
      refine b_gR (ci := 6) (r := (RX6, TX6, 11)) (f := 7) (by decide) rfl (by decide) rfl (Or.inr ⟨_, q446⟩) (Or.inl rfl) h.1 dX0_waiting_24 ?_
      refine b_topr (fun e_6 ee_6 => ?_)
      replace h := h.2 e_6 ee_6
      refine b_iload_n 3 dX0_waiting_27 rfl rfl ?_
      refine b_lget (st := []) h.1 h.2.1 (Or.inl q624) (Nat.le_of_ble_eq_true rfl) dX0_waiting_28 ?_
      refine b_topr (fun e_7 ee_7 => ?_)
      replace h := h.2.2 e_7 ee_7
      refine b_ck (ci := 16) (r := (RX16, TX16, 17)) rfl q721 h.1 dX0_waiting_31 ?_
      replace h := h.2
      refine b_gI (ci := 16) (r := (RX16, TX16, 17)) (f := 0) (by decide) rfl (by decide) rfl (Or.inr ⟨_, q731⟩) (Or.inl rfl) h.1 dX0_waiting_34 ?_
      replace h := h.2
      refine b_goto (tgt := 41) dX0_waiting_37 (by decide) ?_
      exact b_iret rfl dX0_waiting_41 (hP _ _ h)
  · replace h := h.2 c_9
    refine b_iconst (v := (-1)) dX0_waiting_10 (by decide) ?_
    exact b_iret rfl dX0_waiting_11 (hP _ _ h)
