set_option maxRecDepth 100000
def v_X0_init (r0 : Nat × Nat) (M : Mem) (Q : Mem → Prop) : Prop := ¬ r0.1 = 0 ∧ (rom M 3 ∧ (∃ i_1 : Nat, M.2.2.1 30 i_1 = 0 ∧ ∀ M_2 : Mem, M_2 = sN M 30 i_1 0 3 → (kt r0.1 = 0 ∧ (∀ M_3 : Mem, M_3 = sR M_2 r0.1 r0.2 2 (30, i_1) → (rom M_3 3 ∧ (∃ i_4 : Nat, M_3.2.2.1 30 i_4 = 0 ∧ ∀ M_5 : Mem, M_5 = sN M_3 30 i_4 0 3 → (kt r0.1 = 0 ∧ (∀ M_6 : Mem, M_6 = sR M_5 r0.1 r0.2 3 (30, i_4) → (rom M_6 3 ∧ (∃ i_7 : Nat, M_6.2.2.1 30 i_7 = 0 ∧ ∀ M_8 : Mem, M_8 = sN M_6 30 i_7 0 3 → (kt r0.1 = 0 ∧ (∀ M_9 : Mem, M_9 = sR M_8 r0.1 r0.2 4 (30, i_7) → (rom M_9 3 ∧ (∃ i_10 : Nat, M_9.2.2.1 30 i_10 = 0 ∧ ∀ M_11 : Mem, M_11 = sN M_9 30 i_10 0 3 → (kt r0.1 = 0 ∧ (∀ M_12 : Mem, M_12 = sR M_11 r0.1 r0.2 5 (30, i_10) → (rom M_12 3 ∧ (∃ i_13 : Nat, M_12.2.2.1 30 i_13 = 0 ∧ ∀ M_14 : Mem, M_14 = sN M_12 30 i_13 0 3 → (kt r0.1 = 0 ∧ (∀ M_15 : Mem, M_15 = sR M_14 r0.1 r0.2 6 (30, i_13) → (rom M_15 3 ∧ (∃ i_16 : Nat, M_15.2.2.1 30 i_16 = 0 ∧ ∀ M_17 : Mem, M_17 = sN M_15 30 i_16 0 3 → (kt r0.1 = 0 ∧ (∀ M_18 : Mem, M_18 = sR M_17 r0.1 r0.2 7 (30, i_16) → (rom M_18 3 ∧ (∃ i_19 : Nat, M_18.2.2.1 30 i_19 = 0 ∧ ∀ M_20 : Mem, M_20 = sN M_18 30 i_19 0 3 → (kt r0.1 = 0 ∧ (∀ M_21 : Mem, M_21 = sR M_20 r0.1 r0.2 8 (30, i_19) → (rom M_21 3 ∧ (∃ i_22 : Nat, M_21.2.2.1 30 i_22 = 0 ∧ ∀ M_23 : Mem, M_23 = sN M_21 30 i_22 0 3 → (kt r0.1 = 0 ∧ (∀ M_24 : Mem, M_24 = sR M_23 r0.1 r0.2 9 (30, i_22) → (rom M_24 3 ∧ (∃ i_25 : Nat, M_24.2.2.1 30 i_25 = 0 ∧ ∀ M_26 : Mem, M_26 = sN M_24 30 i_25 0 3 → (kt r0.1 = 0 ∧ (∀ M_27 : Mem, M_27 = sR M_26 r0.1 r0.2 10 (30, i_25) → (rom M_27 3 ∧ (∃ i_28 : Nat, M_27.2.2.1 30 i_28 = 0 ∧ ∀ M_29 : Mem, M_29 = sN M_27 30 i_28 0 3 → (kt r0.1 = 0 ∧ (∀ M_30 : Mem, M_30 = sR M_29 r0.1 r0.2 11 (30, i_28) → (rom M_30 3 ∧ (∃ i_31 : Nat, M_30.2.2.1 30 i_31 = 0 ∧ ∀ M_32 : Mem, M_32 = sN M_30 30 i_31 0 3 → (kt r0.1 = 0 ∧ (∀ M_33 : Mem, M_33 = sR M_32 r0.1 r0.2 12 (30, i_31) → (rom M_33 3 ∧ (∃ i_34 : Nat, M_33.2.2.1 30 i_34 = 0 ∧ ∀ M_35 : Mem, M_35 = sN M_33 30 i_34 0 3 → (kt r0.1 = 0 ∧ (∀ M_36 : Mem, M_36 = sR M_35 r0.1 r0.2 13 (30, i_34) → (Q M_36)))))))))))))))))))))))))))))))))))))))))))))))))
set_option maxHeartbeats 4000000 in
theorem sv_X0_init {d : Nat} {M : Mem} {P : Option AV → Mem → Prop} {Q : Mem → Prop} {r0 : Nat × Nat} (hP : ∀ M, Q M → P none M) (h : v_X0_init r0 M Q) : cq (d + 5) mX0_init [.inr r0] M P := by
  refine cq_of (by decide) (Nat.le_of_ble_eq_true rfl) ?_
  show wq (d + 5) mX0_init 0 [(0, .inr r0)] [] M P
  unfold v_X0_init at h
  refine b_aload_n 0 dX0_init_0 rfl rfl ?_
  refine b_obj h.1 q108 q109 q110 (Nat.le_of_ble_eq_true rfl) dX0_init_1 ?_
  replace h := h.2
  refine b_aload_n 0 dX0_init_4 rfl rfl ?_
  obtain ⟨h1, i_1, ei_1, h⟩ := h
  refine b_nwl (k := 30) (i := i_1) (by decide) (by decide) h1 ei_1 q111 (Or.inl q113) dX0_init_5 dX0_init_8 dX0_init_9 (Nat.le_of_ble_eq_true rfl) ?_
  refine b_topm (fun M_2 eM_2 => ?_)
  replace h := h M_2 eM_2
  refine b_fR (ci := 0) (r := (RX0, TX0, 14)) (f := 2) (by decide) rfl (by decide) q148 (Or.inl rfl) rfl rfl rfl rfl h.1 dX0_init_12 ?_
  refine b_topm (fun M_3 eM_3 => ?_)
  replace h := h.2 M_3 eM_3
  refine b_aload_n 0 dX0_init_15 rfl rfl ?_
  obtain ⟨h1, i_4, ei_4, h⟩ := h
  refine b_nwl (k := 30) (i := i_4) (by decide) (by decide) h1 ei_4 q111 (Or.inl q113) dX0_init_16 dX0_init_19 dX0_init_20 (Nat.le_of_ble_eq_true rfl) ?_
  refine b_topm (fun M_5 eM_5 => ?_)
  replace h := h M_5 eM_5
  refine b_fR (ci := 0) (r := (RX0, TX0, 14)) (f := 3) (by decide) rfl (by decide) q149 (Or.inl rfl) rfl rfl rfl rfl h.1 dX0_init_23 ?_
  refine b_topm (fun M_6 eM_6 => ?_)
  replace h := h.2 M_6 eM_6
  refine b_aload_n 0 dX0_init_26 rfl rfl ?_
  obtain ⟨h1, i_7, ei_7, h⟩ := h
  refine b_nwl (k := 30) (i := i_7) (by decide) (by decide) h1 ei_7 q111 (Or.inl q113) dX0_init_27 dX0_init_30 dX0_init_31 (Nat.le_of_ble_eq_true rfl) ?_
  refine b_topm (fun M_8 eM_8 => ?_)
  replace h := h M_8 eM_8
  refine b_fR (ci := 0) (r := (RX0, TX0, 14)) (f := 4) (by decide) rfl (by decide) q150 (Or.inl rfl) rfl rfl rfl rfl h.1 dX0_init_34 ?_
  refine b_topm (fun M_9 eM_9 => ?_)
  replace h := h.2 M_9 eM_9
  refine b_aload_n 0 dX0_init_37 rfl rfl ?_
  obtain ⟨h1, i_10, ei_10, h⟩ := h
  refine b_nwl (k := 30) (i := i_10) (by decide) (by decide) h1 ei_10 q111 (Or.inl q113) dX0_init_38 dX0_init_41 dX0_init_42 (Nat.le_of_ble_eq_true rfl) ?_
  refine b_topm (fun M_11 eM_11 => ?_)
  replace h := h M_11 eM_11
  refine b_fR (ci := 0) (r := (RX0, TX0, 14)) (f := 5) (by decide) rfl (by decide) q152 (Or.inl rfl) rfl rfl rfl rfl h.1 dX0_init_45 ?_
  refine b_topm (fun M_12 eM_12 => ?_)
  replace h := h.2 M_12 eM_12
  refine b_aload_n 0 dX0_init_48 rfl rfl ?_
  obtain ⟨h1, i_13, ei_13, h⟩ := h
  refine b_nwl (k := 30) (i := i_13) (by decide) (by decide) h1 ei_13 q111 (Or.inl q113) dX0_init_49 dX0_init_52 dX0_init_53 (Nat.le_of_ble_eq_true rfl) ?_
  refine b_topm (fun M_14 eM_14 => ?_)
  replace h := h M_14 eM_14
  refine b_fR (ci := 0) (r := (RX0, TX0, 14)) (f := 6) (by decide) rfl (by decide) q153 (Or.inl rfl) rfl rfl rfl rfl h.1 dX0_init_56 ?_
  refine b_topm (fun M_15 eM_15 => ?_)
  replace h := h.2 M_15 eM_15
  refine b_aload_n 0 dX0_init_59 rfl rfl ?_
  obtain ⟨h1, i_16, ei_16, h⟩ := h
  refine b_nwl (k := 30) (i := i_16) (by decide) (by decide) h1 ei_16 q111 (Or.inl q113) dX0_init_60 dX0_init_63 dX0_init_64 (Nat.le_of_ble_eq_true rfl) ?_
  refine b_topm (fun M_17 eM_17 => ?_)
  replace h := h M_17 eM_17
  refine b_fR (ci := 0) (r := (RX0, TX0, 14)) (f := 7) (by decide) rfl (by decide) q154 (Or.inl rfl) rfl rfl rfl rfl h.1 dX0_init_67 ?_
  refine b_topm (fun M_18 eM_18 => ?_)
  replace h := h.2 M_18 eM_18
  refine b_aload_n 0 dX0_init_70 rfl rfl ?_
  obtain ⟨h1, i_19, ei_19, h⟩ := h
  refine b_nwl (k := 30) (i := i_19) (by decide) (by decide) h1 ei_19 q111 (Or.inl q113) dX0_init_71 dX0_init_74 dX0_init_75 (Nat.le_of_ble_eq_true rfl) ?_
  refine b_topm (fun M_20 eM_20 => ?_)
  replace h := h M_20 eM_20
  refine b_fR (ci := 0) (r := (RX0, TX0, 14)) (f := 8) (by decide) rfl (by decide) q157 (Or.inl rfl) rfl rfl rfl rfl h.1 dX0_init_78 ?_
  refine b_topm (fun M_21 eM_21 => ?_)
  replace h := h.2 M_21 eM_21
  refine b_aload_n 0 dX0_init_81 rfl rfl ?_
  obtain ⟨h1, i_22, ei_22, h⟩ := h
  refine b_nwl (k := 30) (i := i_22) (by decide) (by decide) h1 ei_22 q111 (Or.inl q113) dX0_init_82 dX0_init_85 dX0_init_86 (Nat.le_of_ble_eq_true rfl) ?_
  refine b_topm (fun M_23 eM_23 => ?_)
  replace h := h M_23 eM_23
  refine b_fR (ci := 0) (r := (RX0, TX0, 14)) (f := 9) (by decide) rfl (by decide) q159 (Or.inl rfl) rfl rfl rfl rfl h.1 dX0_init_89 ?_
  refine b_topm (fun M_24 eM_24 => ?_)
  replace h := h.2 M_24 eM_24
  refine b_aload_n 0 dX0_init_92 rfl rfl ?_
  obtain ⟨h1, i_25, ei_25, h⟩ := h
  refine b_nwl (k := 30) (i := i_25) (by decide) (by decide) h1 ei_25 q111 (Or.inl q113) dX0_init_93 dX0_init_96 dX0_init_97 (Nat.le_of_ble_eq_true rfl) ?_
  refine b_topm (fun M_26 eM_26 => ?_)
  replace h := h M_26 eM_26
  refine b_fR (ci := 0) (r := (RX0, TX0, 14)) (f := 10) (by decide) rfl (by decide) q160 (Or.inl rfl) rfl rfl rfl rfl h.1 dX0_init_100 ?_
  refine b_topm (fun M_27 eM_27 => ?_)
  replace h := h.2 M_27 eM_27
  refine b_aload_n 0 dX0_init_103 rfl rfl ?_
  obtain ⟨h1, i_28, ei_28, h⟩ := h
  refine b_nwl (k := 30) (i := i_28) (by decide) (by decide) h1 ei_28 q111 (Or.inl q113) dX0_init_104 dX0_init_107 dX0_init_108 (Nat.le_of_ble_eq_true rfl) ?_
  refine b_topm (fun M_29 eM_29 => ?_)
  replace h := h M_29 eM_29
  refine b_fR (ci := 0) (r := (RX0, TX0, 14)) (f := 11) (by decide) rfl (by decide) q161 (Or.inl rfl) rfl rfl rfl rfl h.1 dX0_init_111 ?_
  refine b_topm (fun M_30 eM_30 => ?_)
  replace h := h.2 M_30 eM_30
  refine b_aload_n 0 dX0_init_114 rfl rfl ?_
  obtain ⟨h1, i_31, ei_31, h⟩ := h
  refine b_nwl (k := 30) (i := i_31) (by decide) (by decide) h1 ei_31 q111 (Or.inl q113) dX0_init_115 dX0_init_118 dX0_init_119 (Nat.le_of_ble_eq_true rfl) ?_
  refine b_topm (fun M_32 eM_32 => ?_)
  replace h := h M_32 eM_32
  refine b_fR (ci := 0) (r := (RX0, TX0, 14)) (f := 12) (by decide) rfl (by decide) q162 (Or.inl rfl) rfl rfl rfl rfl h.1 dX0_init_122 ?_
  refine b_topm (fun M_33 eM_33 => ?_)
  replace h := h.2 M_33 eM_33
  refine b_aload_n 0 dX0_init_125 rfl rfl ?_
  obtain ⟨h1, i_34, ei_34, h⟩ := h
  refine b_nwl (k := 30) (i := i_34) (by decide) (by decide) h1 ei_34 q111 (Or.inl q113) dX0_init_126 dX0_init_129 dX0_init_130 (Nat.le_of_ble_eq_true rfl) ?_
  refine b_topm (fun M_35 eM_35 => ?_)
  replace h := h M_35 eM_35
  refine b_fR (ci := 0) (r := (RX0, TX0, 14)) (f := 13) (by decide) rfl (by decide) q163 (Or.inl rfl) rfl rfl rfl rfl h.1 dX0_init_133 ?_
  refine b_topm (fun M_36 eM_36 => ?_)
  replace h := h.2 M_36 eM_36
  exact b_vret rfl dX0_init_136 (hP _ h)
def v_X0_in (x0 : Int32) (x1 : Int32) (x2 : Int32) (M : Mem) (Q : Int32 → Mem → Prop) : Prop := ((x0 < x1) → (Q 0 M)) ∧ ((¬ x0 < x1) → (((x2 < x0) → (Q 0 M)) ∧ ((¬ x2 < x0) → (Q 1 M))))
set_option maxHeartbeats 4000000 in
theorem sv_X0_in {d : Nat} {M : Mem} {P : Option AV → Mem → Prop} {Q : Int32 → Mem → Prop} {x0 : Int32} {x1 : Int32} {x2 : Int32} (hP : ∀ r M, Q r M → P (some (.inl r)) M) (h : v_X0_in x0 x1 x2 M Q) : cq d mX0_in [.inl x0, .inl x1, .inl x2] M P := by
  refine cq_of (by decide) (Nat.le_of_ble_eq_true rfl) ?_
  show wq d mX0_in 0 [(0, .inl x0), (1, .inl x1), (2, .inl x2)] [] M P
  unfold v_X0_in at h
  refine b_iload_n 0 dX0_in_0 rfl rfl ?_
  refine b_iload_n 1 dX0_in_1 rfl rfl ?_
  refine b_icmp_lt (tgt := 14) dX0_in_2 (by decide) (fun c_2 => ?_) (fun c_2 => ?_)
  · replace h := h.1 c_2
    refine b_iconst (v := 0) dX0_in_14 (by decide) ?_
    exact b_zret rfl (by decide) dX0_in_15 (hP _ _ h)
  · replace h := h.2 c_2
    refine b_iload_n 0 dX0_in_5 rfl rfl ?_
    refine b_iload_n 2 dX0_in_6 rfl rfl ?_
    refine b_icmp_gt (tgt := 14) dX0_in_7 (by decide) (fun c_1 => ?_) (fun c_1 => ?_)
    · replace h := h.1 c_1
      refine b_iconst (v := 0) dX0_in_14 (by decide) ?_
      exact b_zret rfl (by decide) dX0_in_15 (hP _ _ h)
    · replace h := h.2 c_1
      refine b_iconst (v := 1) dX0_in_10 (by decide) ?_
      refine b_goto (tgt := 15) dX0_in_11 (by decide) ?_
      exact b_zret rfl (by decide) dX0_in_15 (hP _ _ h)
def v_X2_init (r0 : Nat × Nat) (x1 : Int32) (x2 : Int32) (x3 : Int32) (M : Mem) (Q : Mem → Prop) : Prop := ¬ r0.1 = 0 ∧ (kt r0.1 = 2 ∧ (∀ M_1 : Mem, M_1 = sI M r0.1 r0.2 2 x1 → (kt r0.1 = 2 ∧ (∀ M_2 : Mem, M_2 = sI M_1 r0.1 r0.2 0 x2 → (kt r0.1 = 2 ∧ (∀ M_3 : Mem, M_3 = sI M_2 r0.1 r0.2 1 x3 → (Q M_3)))))))
set_option maxHeartbeats 4000000 in
theorem sv_X2_init {d : Nat} {M : Mem} {P : Option AV → Mem → Prop} {Q : Mem → Prop} {r0 : Nat × Nat} {x1 : Int32} {x2 : Int32} {x3 : Int32} (hP : ∀ M, Q M → P none M) (h : v_X2_init r0 x1 x2 x3 M Q) : cq (d + 1) mX2_init [.inr r0, .inl x1, .inl x2, .inl x3] M P := by
  refine cq_of (by decide) (Nat.le_of_ble_eq_true rfl) ?_
  show wq (d + 1) mX2_init 0 [(0, .inr r0), (1, .inl x1), (2, .inl x2), (3, .inl x3)] [] M P
  unfold v_X2_init at h
  refine b_aload_n 0 dX2_init_0 rfl rfl ?_
  refine b_obj h.1 q210 q109 q110 (Nat.le_of_ble_eq_true rfl) dX2_init_1 ?_
  replace h := h.2
  refine b_aload_n 0 dX2_init_4 rfl rfl ?_
  refine b_iload_n 1 dX2_init_5 rfl rfl ?_
  refine b_pI (ci := 2) (r := (RX2, TX2, 3)) (f := 2) (by decide) rfl (by decide) (Or.inl q215) (Or.inl rfl) rfl (Or.inl rfl) h.1 dX2_init_6 ?_
  refine b_topm (fun M_1 eM_1 => ?_)
  replace h := h.2 M_1 eM_1
  refine b_aload_n 0 dX2_init_9 rfl rfl ?_
  refine b_iload_n 2 dX2_init_10 rfl rfl ?_
  refine b_fI (ci := 2) (r := (RX2, TX2, 3)) (f := 0) (by decide) rfl (by decide) q211 (Or.inl rfl) rfl rfl rfl (Or.inl rfl) h.1 dX2_init_11 ?_
  refine b_topm (fun M_2 eM_2 => ?_)
  replace h := h.2 M_2 eM_2
  refine b_aload_n 0 dX2_init_14 rfl rfl ?_
  refine b_iload_n 3 dX2_init_15 rfl rfl ?_
  refine b_fI (ci := 2) (r := (RX2, TX2, 3)) (f := 1) (by decide) rfl (by decide) q213 (Or.inl rfl) rfl rfl rfl (Or.inl rfl) h.1 dX2_init_16 ?_
  refine b_topm (fun M_3 eM_3 => ?_)
  replace h := h.2 M_3 eM_3
  exact b_vret rfl dX2_init_19 (hP _ h)
def v_X0_station (r0 : Nat × Nat) (x1 : Int32) (x2 : Int32) (x3 : Int32) (M : Mem) (Q : Int32 → Mem → Prop) : Prop := (v_X0_in x2 0 1000000 M (fun r_2 M_1 => ((r_2 = 0) → (Q (-2) M_1)) ∧ ((¬ r_2 = 0) → ((v_X0_in x1 0 x2 M_1 (fun r_4 M_3 => ((r_4 = 0) → (Q (-2) M_3)) ∧ ((¬ r_4 = 0) → ((v_X0_in x3 1 100 M_3 (fun r_6 M_5 => ((¬ r_6 = 0) → (kt r0.1 = 0 ∧ (∀ e_7 : Nat × Nat, e_7 = M_5.2.1 r0.1 r0.2 2 → (lk e_7.1 ∧ (((¬ (M_5.1 e_7.1 e_7.2 0) = 8) → (kt r0.1 = 0 ∧ (∀ e_8 : Nat × Nat, e_8 = M_5.2.1 r0.1 r0.2 2 → (rom M_5 3 ∧ (∃ i_9 : Nat, M_5.2.2.1 3 i_9 = 0 ∧ ∀ M_10 : Mem, M_10 = sN M_5 3 i_9 0 3 → (¬ 3 = 0 ∧ (v_X2_init (3, i_9) x1 x2 x3 M_10 (fun M_11 => lk e_8.1 ∧ ekk 3 = true ∧ M_11.1 e_8.1 e_8.2 0 < 10000 ∧ rom M_11 10 ∧ (∀ M_13 : Mem, M_13 = lAdd M_11 e_8 (3, i_9) → (kt r0.1 = 0 ∧ (∀ e_14 : Nat × Nat, e_14 = M_13.2.1 r0.1 r0.2 2 → (lk e_14.1 ∧ (Q ((M_13.1 e_14.1 e_14.2 0) - 1) M_13))))))))))))) ∧ (((M_5.1 e_7.1 e_7.2 0) = 8) → (Q (-3) M_5))))))) ∧ ((r_6 = 0) → (Q (-2) M_5))))))))))))
set_option maxHeartbeats 4000000 in
theorem sv_X0_station {d : Nat} {M : Mem} {P : Option AV → Mem → Prop} {Q : Int32 → Mem → Prop} {r0 : Nat × Nat} {x1 : Int32} {x2 : Int32} {x3 : Int32} (hP : ∀ r M, Q r M → P (some (.inl r)) M) (h : v_X0_station r0 x1 x2 x3 M Q) : cq (d + 9) mX0_station [.inr r0, .inl x1, .inl x2, .inl x3] M P := by
  refine cq_of (by decide) (Nat.le_of_ble_eq_true rfl) ?_
  show wq (d + 9) mX0_station 0 [(0, .inr r0), (1, .inl x1), (2, .inl x2), (3, .inl x3)] [] M P
  unfold v_X0_station at h
  refine b_iload_n 2 dX0_station_0 rfl rfl ?_
  refine b_iconst (v := 0) dX0_station_1 (by decide) ?_
  refine b_ldcw (v := 1000000) dX0_station_2 q197 ?_
  refine b_cs (y := mX0_in) (as := [.inl x2, .inl 0, .inl 1000000]) (st := []) (n := 3) (Or.inl q198) q199 q69 q200 zmh_X0_in rfl (Nat.le_of_ble_eq_true rfl) (Nat.le_of_ble_eq_true rfl) dX0_station_5 (sv_X0_in (fun r_2 M_1 h => ?_) h)
  show wq (d + 9) mX0_station 8 [(0, .inr r0), (1, .inl x1), (2, .inl x2), (3, .inl x3)] [.inl r_2] M_1 P
  refine b_if_eq (tgt := 30) dX0_station_8 (by decide) (fun c_18 => ?_) (fun c_18 => ?_)
  · replace h := h.1 c_18
    refine b_bipush (v := (-2)) dX0_station_30 (by decide) ?_
    exact b_iret rfl dX0_station_32 (hP _ _ h)
  · replace h := h.2 c_18
    refine b_iload_n 1 dX0_station_11 rfl rfl ?_
    refine b_iconst (v := 0) dX0_station_12 (by decide) ?_
    refine b_iload_n 2 dX0_station_13 rfl rfl ?_
    refine b_cs (y := mX0_in) (as := [.inl x1, .inl 0, .inl x2]) (st := []) (n := 3) (Or.inl q198) q199 q69 q200 zmh_X0_in rfl (Nat.le_of_ble_eq_true rfl) (Nat.le_of_ble_eq_true rfl) dX0_station_14 (sv_X0_in (fun r_4 M_3 h => ?_) h)
    show wq (d + 9) mX0_station 17 [(0, .inr r0), (1, .inl x1), (2, .inl x2), (3, .inl x3)] [.inl r_4] M_3 P
    refine b_if_eq (tgt := 30) dX0_station_17 (by decide) (fun c_17 => ?_) (fun c_17 => ?_)
    · replace h := h.1 c_17
      refine b_bipush (v := (-2)) dX0_station_30 (by decide) ?_
      exact b_iret rfl dX0_station_32 (hP _ _ h)
    · replace h := h.2 c_17
      refine b_iload_n 3 dX0_station_20 rfl rfl ?_
      refine b_iconst (v := 1) dX0_station_21 (by decide) ?_
      refine b_bipush (v := 100) dX0_station_22 (by decide) ?_
      refine b_cs (y := mX0_in) (as := [.inl x3, .inl 1, .inl 100]) (st := []) (n := 3) (Or.inl q198) q199 q69 q200 zmh_X0_in rfl (Nat.le_of_ble_eq_true rfl) (Nat.le_of_ble_eq_true rfl) dX0_station_24 (sv_X0_in (fun r_6 M_5 h => ?_) h)
      show wq (d + 9) mX0_station 27 [(0, .inr r0), (1, .inl x1), (2, .inl x2), (3, .inl x3)] [.inl r_6] M_5 P
      refine b_if_ne (tgt := 33) dX0_station_27 (by decide) (fun c_16 => ?_) (fun c_16 => ?_)
      · replace h := h.1 c_16
        refine b_aload_n 0 dX0_station_33 rfl rfl ?_
        refine b_gR (ci := 0) (r := (RX0, TX0, 14)) (f := 2) (by decide) rfl (by decide) rfl (Or.inl q148) (Or.inl rfl) h.1 dX0_station_34 ?_
        refine b_topr (fun e_7 ee_7 => ?_)
        replace h := h.2 e_7 ee_7
        refine b_lsize (st := []) h.1 (Or.inl q201) (Nat.le_of_ble_eq_true rfl) dX0_station_37 ?_
        replace h := h.2
        refine b_bipush (v := 8) dX0_station_40 (by decide) ?_
        refine b_icmp_ne (tgt := 48) dX0_station_42 (by decide) (fun c_15 => ?_) (fun c_15 => ?_)
        · replace h := h.1 c_15
          refine b_aload_n 0 dX0_station_48 rfl rfl ?_
          refine b_gR (ci := 0) (r := (RX0, TX0, 14)) (f := 2) (by decide) rfl (by decide) rfl (Or.inl q148) (Or.inl rfl) h.1 dX0_station_49 ?_
          refine b_topr (fun e_8 ee_8 => ?_)
          replace h := h.2 e_8 ee_8
          obtain ⟨h1, i_9, ei_9, h⟩ := h
          refine b_nwo (k := 3) (i := i_9) (r := (RX2, TX2, 3)) (by decide) rfl h1 ei_9 q205 q206 q74 dX0_station_52 ?_
          refine b_topm (fun M_10 eM_10 => ?_)
          replace h := h M_10 eM_10
          refine b_dup dX0_station_55 ?_
          refine b_iload_n 1 dX0_station_56 rfl rfl ?_
          refine b_iload_n 2 dX0_station_57 rfl rfl ?_
          refine b_iload_n 3 dX0_station_58 rfl rfl ?_
          refine b_ci (y := mX2_init) (k := 3) (i := i_9) (as := [.inl x1, .inl x2, .inl x3]) (st := [.inr (3, i_9), .inr e_8]) (n := 3) h.1 rfl rfl (Or.inl q207) q208 q74 q209 zmh_X2_init rfl (Nat.le_of_ble_eq_true rfl) (Nat.le_of_ble_eq_true rfl) dX0_station_59 (sv_X2_init (fun M_11 h => ?_) h.2)
          show wq (d + 9) mX0_station 62 [(0, .inr r0), (1, .inl x1), (2, .inl x2), (3, .inl x3)] [.inr (3, i_9), .inr e_8] M_11 P
          refine b_ladd (st := []) h.1 h.2.1 h.2.2.1 h.2.2.2.1 (Or.inl q226) (Nat.le_of_ble_eq_true rfl) dX0_station_62 ?_
          refine b_topm (fun M_13 eM_13 => ?_)
          replace h := h.2.2.2.2 M_13 eM_13
          refine b_pop dX0_station_65 ?_
          refine b_aload_n 0 dX0_station_66 rfl rfl ?_
          refine b_gR (ci := 0) (r := (RX0, TX0, 14)) (f := 2) (by decide) rfl (by decide) rfl (Or.inl q148) (Or.inl rfl) h.1 dX0_station_67 ?_
          refine b_topr (fun e_14 ee_14 => ?_)
          replace h := h.2 e_14 ee_14
          refine b_lsize (st := []) h.1 (Or.inl q201) (Nat.le_of_ble_eq_true rfl) dX0_station_70 ?_
          replace h := h.2
          refine b_iconst (v := 1) dX0_station_73 (by decide) ?_
          refine b_isub dX0_station_74 ?_
          exact b_iret rfl dX0_station_75 (hP _ _ h)
        · replace h := h.2 c_15
          refine b_bipush (v := (-3)) dX0_station_45 (by decide) ?_
          exact b_iret rfl dX0_station_47 (hP _ _ h)
      · replace h := h.2 c_16
        refine b_bipush (v := (-2)) dX0_station_30 (by decide) ?_
        exact b_iret rfl dX0_station_32 (hP _ _ h)
def v_X0_has (r0 : Nat × Nat) (x1 : Int32) (M : Mem) (Q : Int32 → Mem → Prop) : Prop := ((x1 < 0) → (Q 0 M)) ∧ ((¬ x1 < 0) → (lk r0.1 ∧ ((((M.1 r0.1 r0.2 0) ≤ x1) → (Q 0 M)) ∧ ((¬ (M.1 r0.1 r0.2 0) ≤ x1) → (Q 1 M)))))
set_option maxHeartbeats 4000000 in
theorem sv_X0_has {d : Nat} {M : Mem} {P : Option AV → Mem → Prop} {Q : Int32 → Mem → Prop} {r0 : Nat × Nat} {x1 : Int32} (hP : ∀ r M, Q r M → P (some (.inl r)) M) (h : v_X0_has r0 x1 M Q) : cq (d + 2) mX0_has [.inr r0, .inl x1] M P := by
  refine cq_of (by decide) (Nat.le_of_ble_eq_true rfl) ?_
  show wq (d + 2) mX0_has 0 [(0, .inr r0), (1, .inl x1)] [] M P
  unfold v_X0_has at h
  refine b_iload_n 1 dX0_has_0 rfl rfl ?_
  refine b_if_lt (tgt := 16) dX0_has_1 (by decide) (fun c_2 => ?_) (fun c_2 => ?_)
  · replace h := h.1 c_2
    refine b_iconst (v := 0) dX0_has_16 (by decide) ?_
    exact b_zret rfl (by decide) dX0_has_17 (hP _ _ h)
  · replace h := h.2 c_2
    refine b_iload_n 1 dX0_has_4 rfl rfl ?_
    refine b_aload_n 0 dX0_has_5 rfl rfl ?_
    refine b_lsize (st := [.inl x1]) h.1 (Or.inl q201) (Nat.le_of_ble_eq_true rfl) dX0_has_6 ?_
    replace h := h.2
    refine b_icmp_ge (tgt := 16) dX0_has_9 (by decide) (fun c_1 => ?_) (fun c_1 => ?_)
    · replace h := h.1 c_1
      refine b_iconst (v := 0) dX0_has_16 (by decide) ?_
      exact b_zret rfl (by decide) dX0_has_17 (hP _ _ h)
    · replace h := h.2 c_1
      refine b_iconst (v := 1) dX0_has_12 (by decide) ?_
      refine b_goto (tgt := 17) dX0_has_13 (by decide) ?_
      exact b_zret rfl (by decide) dX0_has_17 (hP _ _ h)
def v_X0_plan (r0 : Nat × Nat) (r1 : Nat × Nat) (r2 : Nat × Nat) (x3 : Int32) (M : Mem) (Q : Int32 → Mem → Prop) : Prop := kt r0.1 = 0 ∧ (∀ e_1 : Nat × Nat, e_1 = M.2.1 r0.1 r0.2 2 → (kt r2.1 = 3 ∧ ((v_X0_has e_1 (M.1 r2.1 r2.2 0) M (fun r_3 M_2 => ((¬ r_3 = 0) → (kt r2.1 = 3 ∧ ((v_X0_in (M_2.1 r2.1 r2.2 1) 0 2 M_2 (fun r_5 M_4 => ((r_5 = 0) → (Q (-2) M_4)) ∧ ((¬ r_5 = 0) → (kt r2.1 = 3 ∧ ((((M_4.1 r2.1 r2.2 2) < 0) → (Q (-2) M_4)) ∧ ((¬ (M_4.1 r2.1 r2.2 2) < 0) → (kt r2.1 = 3 ∧ (kt r2.1 = 3 ∧ ((((M_4.1 r2.1 r2.2 3) < (M_4.1 r2.1 r2.2 2)) → (Q (-2) M_4)) ∧ ((¬ (M_4.1 r2.1 r2.2 3) < (M_4.1 r2.1 r2.2 2)) → (((¬ x3 = 0) → (lk r1.1 ∧ (((¬ (M_4.1 r1.1 r1.2 0) = 30) → (lk r1.1 ∧ ekk r2.1 = true ∧ M_4.1 r1.1 r1.2 0 < 10000 ∧ rom M_4 10 ∧ (∀ M_6 : Mem, M_6 = lAdd M_4 r1 r2 → (lk r1.1 ∧ (Q (M_6.1 r1.1 r1.2 0) M_6))))) ∧ (((M_4.1 r1.1 r1.2 0) = 30) → (Q (-3) M_4))))) ∧ ((x3 = 0) → (Q (-2) M_4)))))))))))))))) ∧ ((r_3 = 0) → (Q (-1) M_2)))))))
set_option maxHeartbeats 4000000 in
theorem sv_X0_plan {d : Nat} {M : Mem} {P : Option AV → Mem → Prop} {Q : Int32 → Mem → Prop} {r0 : Nat × Nat} {r1 : Nat × Nat} {r2 : Nat × Nat} {x3 : Int32} (hP : ∀ r M, Q r M → P (some (.inl r)) M) (h : v_X0_plan r0 r1 r2 x3 M Q) : cq (d + 9) mX0_plan [.inr r0, .inr r1, .inr r2, .inl x3] M P := by
  refine cq_of (by decide) (Nat.le_of_ble_eq_true rfl) ?_
  show wq (d + 9) mX0_plan 0 [(0, .inr r0), (1, .inr r1), (2, .inr r2), (3, .inl x3)] [] M P
  unfold v_X0_plan at h
  refine b_aload_n 0 dX0_plan_0 rfl rfl ?_
  refine b_gR (ci := 0) (r := (RX0, TX0, 14)) (f := 2) (by decide) rfl (by decide) rfl (Or.inl q148) (Or.inl rfl) h.1 dX0_plan_1 ?_
  refine b_topr (fun e_1 ee_1 => ?_)
  replace h := h.2 e_1 ee_1
  refine b_aload_n 2 dX0_plan_4 rfl rfl ?_
  refine b_gI (ci := 3) (r := (RX3, TX3, 5)) (f := 0) (by decide) rfl (by decide) rfl (Or.inr ⟨_, q308⟩) (Or.inl rfl) h.1 dX0_plan_5 ?_
  replace h := h.2
  refine b_cs (y := mX0_has) (as := [.inr e_1, .inl (M.1 r2.1 r2.2 0)]) (st := []) (n := 2) (Or.inl q332) q333 q69 q334 zmh_X0_has rfl (Nat.le_of_ble_eq_true rfl) (Nat.le_of_ble_eq_true rfl) dX0_plan_8 (sv_X0_has (fun r_3 M_2 h => ?_) h)
  show wq (d + 9) mX0_plan 11 [(0, .inr r0), (1, .inr r1), (2, .inr r2), (3, .inl x3)] [.inl r_3] M_2 P
  refine b_if_ne (tgt := 16) dX0_plan_11 (by decide) (fun c_12 => ?_) (fun c_12 => ?_)
  · replace h := h.1 c_12
    refine b_aload_n 2 dX0_plan_16 rfl rfl ?_
    refine b_gI (ci := 3) (r := (RX3, TX3, 5)) (f := 1) (by decide) rfl (by decide) rfl (Or.inr ⟨_, q310⟩) (Or.inl rfl) h.1 dX0_plan_17 ?_
    replace h := h.2
    refine b_iconst (v := 0) dX0_plan_20 (by decide) ?_
    refine b_iconst (v := 2) dX0_plan_21 (by decide) ?_
    refine b_cs (y := mX0_in) (as := [.inl (M_2.1 r2.1 r2.2 1), .inl 0, .inl 2]) (st := []) (n := 3) (Or.inl q198) q199 q69 q200 zmh_X0_in rfl (Nat.le_of_ble_eq_true rfl) (Nat.le_of_ble_eq_true rfl) dX0_plan_22 (sv_X0_in (fun r_5 M_4 h => ?_) h)
    show wq (d + 9) mX0_plan 25 [(0, .inr r0), (1, .inr r1), (2, .inr r2), (3, .inl x3)] [.inl r_5] M_4 P
    refine b_if_eq (tgt := 50) dX0_plan_25 (by decide) (fun c_11 => ?_) (fun c_11 => ?_)
    · replace h := h.1 c_11
      refine b_bipush (v := (-2)) dX0_plan_50 (by decide) ?_
      exact b_iret rfl dX0_plan_52 (hP _ _ h)
    · replace h := h.2 c_11
      refine b_aload_n 2 dX0_plan_28 rfl rfl ?_
      refine b_gI (ci := 3) (r := (RX3, TX3, 5)) (f := 2) (by decide) rfl (by decide) rfl (Or.inr ⟨_, q312⟩) (Or.inl rfl) h.1 dX0_plan_29 ?_
      replace h := h.2
      refine b_if_lt (tgt := 50) dX0_plan_32 (by decide) (fun c_10 => ?_) (fun c_10 => ?_)
      · replace h := h.1 c_10
        refine b_bipush (v := (-2)) dX0_plan_50 (by decide) ?_
        exact b_iret rfl dX0_plan_52 (hP _ _ h)
      · replace h := h.2 c_10
        refine b_aload_n 2 dX0_plan_35 rfl rfl ?_
        refine b_gI (ci := 3) (r := (RX3, TX3, 5)) (f := 3) (by decide) rfl (by decide) rfl (Or.inr ⟨_, q314⟩) (Or.inl rfl) h.1 dX0_plan_36 ?_
        replace h := h.2
        refine b_aload_n 2 dX0_plan_39 rfl rfl ?_
        refine b_gI (ci := 3) (r := (RX3, TX3, 5)) (f := 2) (by decide) rfl (by decide) rfl (Or.inr ⟨_, q312⟩) (Or.inl rfl) h.1 dX0_plan_40 ?_
        replace h := h.2
        refine b_icmp_lt (tgt := 50) dX0_plan_43 (by decide) (fun c_9 => ?_) (fun c_9 => ?_)
        · replace h := h.1 c_9
          refine b_bipush (v := (-2)) dX0_plan_50 (by decide) ?_
          exact b_iret rfl dX0_plan_52 (hP _ _ h)
        · replace h := h.2 c_9
          refine b_iload_n 3 dX0_plan_46 rfl rfl ?_
          refine b_if_ne (tgt := 53) dX0_plan_47 (by decide) (fun c_8 => ?_) (fun c_8 => ?_)
          · replace h := h.1 c_8
            refine b_aload_n 1 dX0_plan_53 rfl rfl ?_
            refine b_lsize (st := []) h.1 (Or.inl q201) (Nat.le_of_ble_eq_true rfl) dX0_plan_54 ?_
            replace h := h.2
            refine b_bipush (v := 30) dX0_plan_57 (by decide) ?_
            refine b_icmp_ne (tgt := 65) dX0_plan_59 (by decide) (fun c_7 => ?_) (fun c_7 => ?_)
            · replace h := h.1 c_7
              refine b_aload_n 1 dX0_plan_65 rfl rfl ?_
              refine b_aload_n 2 dX0_plan_66 rfl rfl ?_
              refine b_ladd (st := []) h.1 h.2.1 h.2.2.1 h.2.2.2.1 (Or.inl q226) (Nat.le_of_ble_eq_true rfl) dX0_plan_67 ?_
              refine b_topm (fun M_6 eM_6 => ?_)
              replace h := h.2.2.2.2 M_6 eM_6
              refine b_pop dX0_plan_70 ?_
              refine b_aload_n 1 dX0_plan_71 rfl rfl ?_
              refine b_lsize (st := []) h.1 (Or.inl q201) (Nat.le_of_ble_eq_true rfl) dX0_plan_72 ?_
              replace h := h.2
              exact b_iret rfl dX0_plan_75 (hP _ _ h)
            · replace h := h.2 c_7
              refine b_bipush (v := (-3)) dX0_plan_62 (by decide) ?_
              exact b_iret rfl dX0_plan_64 (hP _ _ h)
          · replace h := h.2 c_8
            refine b_bipush (v := (-2)) dX0_plan_50 (by decide) ?_
            exact b_iret rfl dX0_plan_52 (hP _ _ h)
  · replace h := h.2 c_12
    refine b_iconst (v := (-1)) dX0_plan_14 (by decide) ?_
    exact b_iret rfl dX0_plan_15 (hP _ _ h)
def v_X3_init (r0 : Nat × Nat) (x1 : Int32) (x2 : Int32) (x3 : Int32) (x4 : Int32) (x5 : Int32) (M : Mem) (Q : Mem → Prop) : Prop := ¬ r0.1 = 0 ∧ (kt r0.1 = 3 ∧ (∀ M_1 : Mem, M_1 = sI M r0.1 r0.2 0 x1 → (kt r0.1 = 3 ∧ (∀ M_2 : Mem, M_2 = sI M_1 r0.1 r0.2 1 x2 → (kt r0.1 = 3 ∧ (∀ M_3 : Mem, M_3 = sI M_2 r0.1 r0.2 2 x3 → (kt r0.1 = 3 ∧ (∀ M_4 : Mem, M_4 = sI M_3 r0.1 r0.2 3 x4 → (kt r0.1 = 3 ∧ (∀ M_5 : Mem, M_5 = sI M_4 r0.1 r0.2 4 x5 → (Q M_5)))))))))))
set_option maxHeartbeats 4000000 in
theorem sv_X3_init {d : Nat} {M : Mem} {P : Option AV → Mem → Prop} {Q : Mem → Prop} {r0 : Nat × Nat} {x1 : Int32} {x2 : Int32} {x3 : Int32} {x4 : Int32} {x5 : Int32} (hP : ∀ M, Q M → P none M) (h : v_X3_init r0 x1 x2 x3 x4 x5 M Q) : cq (d + 1) mX3_init [.inr r0, .inl x1, .inl x2, .inl x3, .inl x4, .inl x5] M P := by
  refine cq_of (by decide) (Nat.le_of_ble_eq_true rfl) ?_
  show wq (d + 1) mX3_init 0 [(0, .inr r0), (1, .inl x1), (2, .inl x2), (3, .inl x3), (4, .inl x4), (5, .inl x5)] [] M P
  unfold v_X3_init at h
  refine b_aload_n 0 dX3_init_0 rfl rfl ?_
  refine b_obj h.1 q306 q109 q110 (Nat.le_of_ble_eq_true rfl) dX3_init_1 ?_
  replace h := h.2
  refine b_aload_n 0 dX3_init_4 rfl rfl ?_
  refine b_iload_n 1 dX3_init_5 rfl rfl ?_
  refine b_fI (ci := 3) (r := (RX3, TX3, 5)) (f := 0) (by decide) rfl (by decide) q307 (Or.inl rfl) rfl rfl rfl (Or.inl rfl) h.1 dX3_init_6 ?_
  refine b_topm (fun M_1 eM_1 => ?_)
  replace h := h.2 M_1 eM_1
  refine b_aload_n 0 dX3_init_9 rfl rfl ?_
  refine b_iload_n 2 dX3_init_10 rfl rfl ?_
  refine b_fI (ci := 3) (r := (RX3, TX3, 5)) (f := 1) (by decide) rfl (by decide) q309 (Or.inl rfl) rfl rfl rfl (Or.inl rfl) h.1 dX3_init_11 ?_
  refine b_topm (fun M_2 eM_2 => ?_)
  replace h := h.2 M_2 eM_2
  refine b_aload_n 0 dX3_init_14 rfl rfl ?_
  refine b_iload_n 3 dX3_init_15 rfl rfl ?_
  refine b_fI (ci := 3) (r := (RX3, TX3, 5)) (f := 2) (by decide) rfl (by decide) q311 (Or.inl rfl) rfl rfl rfl (Or.inl rfl) h.1 dX3_init_16 ?_
  refine b_topm (fun M_3 eM_3 => ?_)
  replace h := h.2 M_3 eM_3
  refine b_aload_n 0 dX3_init_19 rfl rfl ?_
  refine b_iload 4 dX3_init_20 rfl ?_
  refine b_fI (ci := 3) (r := (RX3, TX3, 5)) (f := 3) (by decide) rfl (by decide) q313 (Or.inl rfl) rfl rfl rfl (Or.inl rfl) h.1 dX3_init_22 ?_
  refine b_topm (fun M_4 eM_4 => ?_)
  replace h := h.2 M_4 eM_4
  refine b_aload_n 0 dX3_init_25 rfl rfl ?_
  refine b_iload 5 dX3_init_26 rfl ?_
  refine b_fI (ci := 3) (r := (RX3, TX3, 5)) (f := 4) (by decide) rfl (by decide) q315 (Or.inl rfl) rfl rfl rfl (Or.inl rfl) h.1 dX3_init_28 ?_
  refine b_topm (fun M_5 eM_5 => ?_)
  replace h := h.2 M_5 eM_5
  exact b_vret rfl dX3_init_31 (hP _ h)
def v_X0_fault (r0 : Nat × Nat) (x1 : Int32) (x2 : Int32) (x3 : Int32) (x4 : Int32) (x5 : Int32) (M : Mem) (Q : Int32 → Mem → Prop) : Prop := kt r0.1 = 0 ∧ (∀ e_1 : Nat × Nat, e_1 = M.2.1 r0.1 r0.2 3 → (rom M 5 ∧ (∀ i_2 : Nat, M.2.2.1 4 i_2 = 0 → ∀ M_3 : Mem, M_3 = sN M 4 i_2 0 5 → (¬ 4 = 0 ∧ (v_X3_init (4, i_2) x1 x2 x3 x4 x5 M_3 (fun M_4 => (v_X0_in x5 1 7 M_4 (fun r_7 M_6 => kt r0.1 = 0 ∧ (v_X0_plan r0 e_1 (4, i_2) r_7 M_6 (fun r_9 M_8 => Q r_9 M_8))))))))))
set_option maxHeartbeats 4000000 in
theorem sv_X0_fault {d : Nat} {M : Mem} {P : Option AV → Mem → Prop} {Q : Int32 → Mem → Prop} {r0 : Nat × Nat} {x1 : Int32} {x2 : Int32} {x3 : Int32} {x4 : Int32} {x5 : Int32} (hP : ∀ r M, Q r M → P (some (.inl r)) M) (h : v_X0_fault r0 x1 x2 x3 x4 x5 M Q) : cq (d + 10) mX0_fault [.inr r0, .inl x1, .inl x2, .inl x3, .inl x4, .inl x5] M P := by
  refine cq_of (by decide) (Nat.le_of_ble_eq_true rfl) ?_
  show wq (d + 10) mX0_fault 0 [(0, .inr r0), (1, .inl x1), (2, .inl x2), (3, .inl x3), (4, .inl x4), (5, .inl x5)] [] M P
  unfold v_X0_fault at h
  refine b_aload_n 0 dX0_fault_0 rfl rfl ?_
  refine b_aload_n 0 dX0_fault_1 rfl rfl ?_
  refine b_gR (ci := 0) (r := (RX0, TX0, 14)) (f := 3) (by decide) rfl (by decide) rfl (Or.inl q149) (Or.inl rfl) h.1 dX0_fault_2 ?_
  refine b_topr (fun e_1 ee_1 => ?_)
  replace h := h.2 e_1 ee_1
  refine b_nwoD (k := 4) (r := (RX3, TX3, 5)) (by decide) rfl h.1 q301 q302 q79 dX0_fault_5 (fun i_2 ei_2 => ?_)
  refine b_topm (fun M_3 eM_3 => ?_)
  replace h := h.2 i_2 ei_2 M_3 eM_3
  refine b_dup dX0_fault_8 ?_
  refine b_iload_n 1 dX0_fault_9 rfl rfl ?_
  refine b_iload_n 2 dX0_fault_10 rfl rfl ?_
  refine b_iload_n 3 dX0_fault_11 rfl rfl ?_
  refine b_iload 4 dX0_fault_12 rfl ?_
  refine b_iload 5 dX0_fault_14 rfl ?_
  refine b_ci (y := mX3_init) (k := 4) (i := i_2) (as := [.inl x1, .inl x2, .inl x3, .inl x4, .inl x5]) (st := [.inr (4, i_2), .inr e_1, .inr r0]) (n := 5) h.1 rfl rfl (Or.inl q303) q304 q79 q305 zmh_X3_init rfl (Nat.le_of_ble_eq_true rfl) (Nat.le_of_ble_eq_true rfl) dX0_fault_16 (sv_X3_init (fun M_4 h => ?_) h.2)
  show wq (d + 10) mX0_fault 19 [(0, .inr r0), (1, .inl x1), (2, .inl x2), (3, .inl x3), (4, .inl x4), (5, .inl x5)] [.inr (4, i_2), .inr e_1, .inr r0] M_4 P
  refine b_iload 5 dX0_fault_19 rfl ?_
  refine b_iconst (v := 1) dX0_fault_21 (by decide) ?_
  refine b_bipush (v := 7) dX0_fault_22 (by decide) ?_
  refine b_cs (y := mX0_in) (as := [.inl x5, .inl 1, .inl 7]) (st := [.inr (4, i_2), .inr e_1, .inr r0]) (n := 3) (Or.inl q198) q199 q69 q200 zmh_X0_in rfl (Nat.le_of_ble_eq_true rfl) (Nat.le_of_ble_eq_true rfl) dX0_fault_24 (sv_X0_in (fun r_7 M_6 h => ?_) h)
  show wq (d + 10) mX0_fault 27 [(0, .inr r0), (1, .inl x1), (2, .inl x2), (3, .inl x3), (4, .inl x4), (5, .inl x5)] [.inl r_7, .inr (4, i_2), .inr e_1, .inr r0] M_6 P
  refine b_cvo (y := mX0_plan) (ci := 0) (r := (RX0, TX0, 14)) (e := r0) (as := [.inr e_1, .inr (4, i_2), .inl r_7]) (st := []) (n := 3) rfl h.1 (Or.inl q328) qs3 q330 q69 q331 zmh_X0_plan rfl (Nat.le_of_ble_eq_true rfl) (Nat.le_of_ble_eq_true rfl) dX0_fault_27 (sv_X0_plan (fun r_9 M_8 h => ?_) h.2)
  show wq (d + 10) mX0_fault 30 [(0, .inr r0), (1, .inl x1), (2, .inl x2), (3, .inl x3), (4, .inl x4), (5, .inl x5)] [.inl r_9] M_8 P
  exact b_iret rfl dX0_fault_30 (hP _ _ h)
def v_X0_slow (r0 : Nat × Nat) (x1 : Int32) (x2 : Int32) (x3 : Int32) (x4 : Int32) (x5 : Int32) (M : Mem) (Q : Int32 → Mem → Prop) : Prop := kt r0.1 = 0 ∧ (∀ e_1 : Nat × Nat, e_1 = M.2.1 r0.1 r0.2 4 → (rom M 5 ∧ (∀ i_2 : Nat, M.2.2.1 4 i_2 = 0 → ∀ M_3 : Mem, M_3 = sN M 4 i_2 0 5 → (¬ 4 = 0 ∧ (v_X3_init (4, i_2) x1 x2 x3 x4 x5 M_3 (fun M_4 => (v_X0_in x5 1 1000 M_4 (fun r_7 M_6 => kt r0.1 = 0 ∧ (v_X0_plan r0 e_1 (4, i_2) r_7 M_6 (fun r_9 M_8 => Q r_9 M_8))))))))))
set_option maxHeartbeats 4000000 in
theorem sv_X0_slow {d : Nat} {M : Mem} {P : Option AV → Mem → Prop} {Q : Int32 → Mem → Prop} {r0 : Nat × Nat} {x1 : Int32} {x2 : Int32} {x3 : Int32} {x4 : Int32} {x5 : Int32} (hP : ∀ r M, Q r M → P (some (.inl r)) M) (h : v_X0_slow r0 x1 x2 x3 x4 x5 M Q) : cq (d + 10) mX0_slow [.inr r0, .inl x1, .inl x2, .inl x3, .inl x4, .inl x5] M P := by
  refine cq_of (by decide) (Nat.le_of_ble_eq_true rfl) ?_
  show wq (d + 10) mX0_slow 0 [(0, .inr r0), (1, .inl x1), (2, .inl x2), (3, .inl x3), (4, .inl x4), (5, .inl x5)] [] M P
  unfold v_X0_slow at h
  refine b_aload_n 0 dX0_slow_0 rfl rfl ?_
  refine b_aload_n 0 dX0_slow_1 rfl rfl ?_
  refine b_gR (ci := 0) (r := (RX0, TX0, 14)) (f := 4) (by decide) rfl (by decide) rfl (Or.inl q150) (Or.inl rfl) h.1 dX0_slow_2 ?_
  refine b_topr (fun e_1 ee_1 => ?_)
  replace h := h.2 e_1 ee_1
  refine b_nwoD (k := 4) (r := (RX3, TX3, 5)) (by decide) rfl h.1 q301 q302 q79 dX0_slow_5 (fun i_2 ei_2 => ?_)
  refine b_topm (fun M_3 eM_3 => ?_)
  replace h := h.2 i_2 ei_2 M_3 eM_3
  refine b_dup dX0_slow_8 ?_
  refine b_iload_n 1 dX0_slow_9 rfl rfl ?_
  refine b_iload_n 2 dX0_slow_10 rfl rfl ?_
  refine b_iload_n 3 dX0_slow_11 rfl rfl ?_
  refine b_iload 4 dX0_slow_12 rfl ?_
  refine b_iload 5 dX0_slow_14 rfl ?_
  refine b_ci (y := mX3_init) (k := 4) (i := i_2) (as := [.inl x1, .inl x2, .inl x3, .inl x4, .inl x5]) (st := [.inr (4, i_2), .inr e_1, .inr r0]) (n := 5) h.1 rfl rfl (Or.inl q303) q304 q79 q305 zmh_X3_init rfl (Nat.le_of_ble_eq_true rfl) (Nat.le_of_ble_eq_true rfl) dX0_slow_16 (sv_X3_init (fun M_4 h => ?_) h.2)
  show wq (d + 10) mX0_slow 19 [(0, .inr r0), (1, .inl x1), (2, .inl x2), (3, .inl x3), (4, .inl x4), (5, .inl x5)] [.inr (4, i_2), .inr e_1, .inr r0] M_4 P
  refine b_iload 5 dX0_slow_19 rfl ?_
  refine b_iconst (v := 1) dX0_slow_21 (by decide) ?_
  refine b_sipush (v := 1000) dX0_slow_22 (by decide) ?_
  refine b_cs (y := mX0_in) (as := [.inl x5, .inl 1, .inl 1000]) (st := [.inr (4, i_2), .inr e_1, .inr r0]) (n := 3) (Or.inl q198) q199 q69 q200 zmh_X0_in rfl (Nat.le_of_ble_eq_true rfl) (Nat.le_of_ble_eq_true rfl) dX0_slow_25 (sv_X0_in (fun r_7 M_6 h => ?_) h)
  show wq (d + 10) mX0_slow 28 [(0, .inr r0), (1, .inl x1), (2, .inl x2), (3, .inl x3), (4, .inl x4), (5, .inl x5)] [.inl r_7, .inr (4, i_2), .inr e_1, .inr r0] M_6 P
  refine b_cvo (y := mX0_plan) (ci := 0) (r := (RX0, TX0, 14)) (e := r0) (as := [.inr e_1, .inr (4, i_2), .inl r_7]) (st := []) (n := 3) rfl h.1 (Or.inl q328) qs3 q330 q69 q331 zmh_X0_plan rfl (Nat.le_of_ble_eq_true rfl) (Nat.le_of_ble_eq_true rfl) dX0_slow_28 (sv_X0_plan (fun r_9 M_8 h => ?_) h.2)
  show wq (d + 10) mX0_slow 31 [(0, .inr r0), (1, .inl x1), (2, .inl x2), (3, .inl x3), (4, .inl x4), (5, .inl x5)] [.inl r_9] M_8 P
  exact b_iret rfl dX0_slow_31 (hP _ _ h)
def v_X0_fits_147 (x1 : Int32) (x2 : Int32) (x3 : Int32) (M : Mem) (Q : Int32 → Mem → Prop) : Prop := (v_X0_in x1 1 1000 M (fun r_2 M_1 => ((r_2 = 0) → (Q 0 M_1)) ∧ ((¬ r_2 = 0) → (((¬ x2 = 0) → (Q 0 M_1)) ∧ ((x2 = 0) → (((¬ x3 = 0) → (Q 0 M_1)) ∧ ((x3 = 0) → (Q 1 M_1))))))))
set_option maxHeartbeats 4000000 in
theorem sv_X0_fits_147 {d : Nat} {P : Option AV → Mem → Prop} {Q : Int32 → Mem → Prop} (hP : ∀ r M, Q r M → P (some (.inl r)) M) (x1 : Int32) (x2 : Int32) (x3 : Int32) (M : Mem) (h : v_X0_fits_147 x1 x2 x3 M Q) : wq (d + 1) mX0_fits 147 [(1, .inl x1), (2, .inl x2), (3, .inl x3)] [] M P := by
  unfold v_X0_fits_147 at h
  refine b_iload_n 0 dX0_fits_147 rfl rfl ?_
  refine b_iconst (v := 1) dX0_fits_148 (by decide) ?_
  refine b_sipush (v := 1000) dX0_fits_149 (by decide) ?_
  refine b_cs (y := mX0_in) (as := [.inl x1, .inl 1, .inl 1000]) (st := []) (n := 3) (Or.inl q198) q199 q69 q200 zmh_X0_in rfl (Nat.le_of_ble_eq_true rfl) (Nat.le_of_ble_eq_true rfl) dX0_fits_152 (sv_X0_in (fun r_2 M_1 h => ?_) h)
  show wq (d + 1) mX0_fits 155 [(1, .inl x1), (2, .inl x2), (3, .inl x3)] [.inl r_2] M_1 P
  refine b_if_eq (tgt := 170) dX0_fits_155 (by decide) (fun c_5 => ?_) (fun c_5 => ?_)
  · replace h := h.1 c_5
    refine b_iconst (v := 0) dX0_fits_170 (by decide) ?_
    exact b_zret rfl (by decide) dX0_fits_171 (hP _ _ h)
  · replace h := h.2 c_5
    refine b_iload_n 1 dX0_fits_158 rfl rfl ?_
    refine b_if_ne (tgt := 170) dX0_fits_159 (by decide) (fun c_4 => ?_) (fun c_4 => ?_)
    · replace h := h.1 c_4
      refine b_iconst (v := 0) dX0_fits_170 (by decide) ?_
      exact b_zret rfl (by decide) dX0_fits_171 (hP _ _ h)
    · replace h := h.2 c_4
      refine b_iload_n 2 dX0_fits_162 rfl rfl ?_
      refine b_if_ne (tgt := 170) dX0_fits_163 (by decide) (fun c_3 => ?_) (fun c_3 => ?_)
      · replace h := h.1 c_3
        refine b_iconst (v := 0) dX0_fits_170 (by decide) ?_
        exact b_zret rfl (by decide) dX0_fits_171 (hP _ _ h)
      · replace h := h.2 c_3
        refine b_iconst (v := 1) dX0_fits_166 (by decide) ?_
        refine b_goto (tgt := 171) dX0_fits_167 (by decide) ?_
        exact b_zret rfl (by decide) dX0_fits_171 (hP _ _ h)
def v_X0_fits (x0 : Int32) (x1 : Int32) (x2 : Int32) (x3 : Int32) (M : Mem) (Q : Int32 → Mem → Prop) : Prop := (x0 = 0 → ((v_X0_in x1 1 20 M (fun r_2 M_1 => ((r_2 = 0) → (Q 0 M_1)) ∧ ((¬ r_2 = 0) → ((v_X0_in x2 1 1000 M_1 (fun r_4 M_3 => ((r_4 = 0) → (Q 0 M_3)) ∧ ((¬ r_4 = 0) → (((¬ x3 = 0) → (Q 0 M_3)) ∧ ((x3 = 0) → (Q 1 M_3)))))))))))) ∧ (x0 = 1 → ((v_X0_in x1 1 10 M (fun r_9 M_8 => ((r_9 = 0) → (Q 0 M_8)) ∧ ((¬ r_9 = 0) → ((v_X0_in x2 0 10 M_8 (fun r_11 M_10 => ((r_11 = 0) → (Q 0 M_10)) ∧ ((¬ r_11 = 0) → (((¬ x3 = 0) → (Q 0 M_10)) ∧ ((x3 = 0) → (Q 1 M_10)))))))))))) ∧ (x0 = 2 → ((v_X0_in x1 1 100 M (fun r_16 M_15 => ((r_16 = 0) → (Q 0 M_15)) ∧ ((¬ r_16 = 0) → ((v_X0_in x2 1 100 M_15 (fun r_18 M_17 => ((r_18 = 0) → (Q 0 M_17)) ∧ ((¬ r_18 = 0) → (((¬ x3 = 0) → (Q 0 M_17)) ∧ ((x3 = 0) → (Q 1 M_17)))))))))))) ∧ (x0 = 3 → (v_X0_fits_147 x1 x2 x3 M Q)) ∧ (x0 = 4 → ((v_X0_in x1 2 6 M (fun r_23 M_22 => ((r_23 = 0) → (Q 0 M_22)) ∧ ((¬ r_23 = 0) → ((v_X0_in x2 1 50 M_22 (fun r_25 M_24 => ((r_25 = 0) → (Q 0 M_24)) ∧ ((¬ r_25 = 0) → ((v_X0_in x3 0 1 M_24 (fun r_27 M_26 => ((r_27 = 0) → (Q 0 M_26)) ∧ ((¬ r_27 = 0) → (Q 1 M_26)))))))))))))) ∧ (x0 = 5 → ((v_X0_in x1 1 100 M (fun r_32 M_31 => ((r_32 = 0) → (Q 0 M_31)) ∧ ((¬ r_32 = 0) → (((¬ x2 = 0) → (Q 0 M_31)) ∧ ((x2 = 0) → (((¬ x3 = 0) → (Q 0 M_31)) ∧ ((x3 = 0) → (Q 1 M_31)))))))))) ∧ (x0 = 6 → ((v_X0_in x1 0 1 M (fun r_37 M_36 => ((r_37 = 0) → (Q 0 M_36)) ∧ ((¬ r_37 = 0) → ((v_X0_in x2 0 1000000 M_36 (fun r_39 M_38 => ((r_39 = 0) → (Q 0 M_38)) ∧ ((¬ r_39 = 0) → (((¬ x3 = 0) → (Q 0 M_38)) ∧ ((x3 = 0) → (Q 1 M_38)))))))))))) ∧ (x0 = 7 → (v_X0_fits_147 x1 x2 x3 M Q)) ∧ (x0 = 8 → (((¬ x1 = 0) → (Q 0 M)) ∧ ((x1 = 0) → (((¬ x2 = 0) → (Q 0 M)) ∧ ((x2 = 0) → (((¬ x3 = 0) → (Q 0 M)) ∧ ((x3 = 0) → (Q 1 M)))))))) ∧ (x0 = 9 → (((¬ x1 = 0) → (Q 0 M)) ∧ ((x1 = 0) → ((v_X0_in x2 0 15 M (fun r_47 M_46 => ((r_47 = 0) → (Q 0 M_46)) ∧ ((¬ r_47 = 0) → (((¬ x3 = 0) → (Q 0 M_46)) ∧ ((x3 = 0) → (Q 1 M_46)))))))))) ∧ (¬ x0 = 0 → ¬ x0 = 1 → ¬ x0 = 2 → ¬ x0 = 3 → ¬ x0 = 4 → ¬ x0 = 5 → ¬ x0 = 6 → ¬ x0 = 7 → ¬ x0 = 8 → ¬ x0 = 9 → (Q 0 M))
set_option maxHeartbeats 4000000 in
theorem sv_X0_fits {d : Nat} {M : Mem} {P : Option AV → Mem → Prop} {Q : Int32 → Mem → Prop} {x0 : Int32} {x1 : Int32} {x2 : Int32} {x3 : Int32} (hP : ∀ r M, Q r M → P (some (.inl r)) M) (h : v_X0_fits x0 x1 x2 x3 M Q) : cq (d + 1) mX0_fits [.inl x0, .inl x1, .inl x2, .inl x3] M P := by
  refine cq_of (by decide) (Nat.le_of_ble_eq_true rfl) ?_
  show wq (d + 1) mX0_fits 0 [(0, .inl x0), (1, .inl x1), (2, .inl x2), (3, .inl x3)] [] M P
  unfold v_X0_fits at h
  refine b_iload_n 0 dX0_fits_0 rfl rfl ?_
  refine b_tsw (fun j => ([56, 87, 117, 147, 172, 207, 231, 147, 261, 279] : List Nat).getD j 0) (tD := 303) (n := 10) dX0_fits_1 rfl (by decide) (by decide) (by decide) (fun j hj e => ?_) (fun e => ?_)
  · match j, hj, e with
    | 0, _, e =>
      replace h := h.1 e
      show wq (d + 1) mX0_fits 56 _ _ _ _
      refine b_iload_n 1 dX0_fits_56 rfl rfl ?_
      refine b_iconst (v := 1) dX0_fits_57 (by decide) ?_
      refine b_bipush (v := 20) dX0_fits_58 (by decide) ?_
      refine b_cs (y := mX0_in) (as := [.inl x1, .inl 1, .inl 20]) (st := []) (n := 3) (Or.inl q198) q199 q69 q200 zmh_X0_in rfl (Nat.le_of_ble_eq_true rfl) (Nat.le_of_ble_eq_true rfl) dX0_fits_60 (sv_X0_in (fun r_2 M_1 h => ?_) h)
      show wq (d + 1) mX0_fits 63 [(0, .inl x0), (1, .inl x1), (2, .inl x2), (3, .inl x3)] [.inl r_2] M_1 P
      refine b_if_eq (tgt := 85) dX0_fits_63 (by decide) (fun c_7 => ?_) (fun c_7 => ?_)
      · replace h := h.1 c_7
        refine b_iconst (v := 0) dX0_fits_85 (by decide) ?_
        exact b_zret rfl (by decide) dX0_fits_86 (hP _ _ h)
      · replace h := h.2 c_7
        refine b_iload_n 2 dX0_fits_66 rfl rfl ?_
        refine b_iconst (v := 1) dX0_fits_67 (by decide) ?_
        refine b_sipush (v := 1000) dX0_fits_68 (by decide) ?_
        refine b_cs (y := mX0_in) (as := [.inl x2, .inl 1, .inl 1000]) (st := []) (n := 3) (Or.inl q198) q199 q69 q200 zmh_X0_in rfl (Nat.le_of_ble_eq_true rfl) (Nat.le_of_ble_eq_true rfl) dX0_fits_71 (sv_X0_in (fun r_4 M_3 h => ?_) h)
        show wq (d + 1) mX0_fits 74 [(0, .inl x0), (1, .inl x1), (2, .inl x2), (3, .inl x3)] [.inl r_4] M_3 P
        refine b_if_eq (tgt := 85) dX0_fits_74 (by decide) (fun c_6 => ?_) (fun c_6 => ?_)
        · replace h := h.1 c_6
          refine b_iconst (v := 0) dX0_fits_85 (by decide) ?_
          exact b_zret rfl (by decide) dX0_fits_86 (hP _ _ h)
        · replace h := h.2 c_6
          refine b_iload_n 3 dX0_fits_77 rfl rfl ?_
          refine b_if_ne (tgt := 85) dX0_fits_78 (by decide) (fun c_5 => ?_) (fun c_5 => ?_)
          · replace h := h.1 c_5
            refine b_iconst (v := 0) dX0_fits_85 (by decide) ?_
            exact b_zret rfl (by decide) dX0_fits_86 (hP _ _ h)
          · replace h := h.2 c_5
            refine b_iconst (v := 1) dX0_fits_81 (by decide) ?_
            refine b_goto (tgt := 86) dX0_fits_82 (by decide) ?_
            exact b_zret rfl (by decide) dX0_fits_86 (hP _ _ h)
    | 1, _, e =>
      replace h := h.2.1 e
      show wq (d + 1) mX0_fits 87 _ _ _ _
      refine b_iload_n 1 dX0_fits_87 rfl rfl ?_
      refine b_iconst (v := 1) dX0_fits_88 (by decide) ?_
      refine b_bipush (v := 10) dX0_fits_89 (by decide) ?_
      refine b_cs (y := mX0_in) (as := [.inl x1, .inl 1, .inl 10]) (st := []) (n := 3) (Or.inl q198) q199 q69 q200 zmh_X0_in rfl (Nat.le_of_ble_eq_true rfl) (Nat.le_of_ble_eq_true rfl) dX0_fits_91 (sv_X0_in (fun r_9 M_8 h => ?_) h)
      show wq (d + 1) mX0_fits 94 [(0, .inl x0), (1, .inl x1), (2, .inl x2), (3, .inl x3)] [.inl r_9] M_8 P
      refine b_if_eq (tgt := 115) dX0_fits_94 (by decide) (fun c_14 => ?_) (fun c_14 => ?_)
      · replace h := h.1 c_14
        refine b_iconst (v := 0) dX0_fits_115 (by decide) ?_
        exact b_zret rfl (by decide) dX0_fits_116 (hP _ _ h)
      · replace h := h.2 c_14
        refine b_iload_n 2 dX0_fits_97 rfl rfl ?_
        refine b_iconst (v := 0) dX0_fits_98 (by decide) ?_
        refine b_bipush (v := 10) dX0_fits_99 (by decide) ?_
        refine b_cs (y := mX0_in) (as := [.inl x2, .inl 0, .inl 10]) (st := []) (n := 3) (Or.inl q198) q199 q69 q200 zmh_X0_in rfl (Nat.le_of_ble_eq_true rfl) (Nat.le_of_ble_eq_true rfl) dX0_fits_101 (sv_X0_in (fun r_11 M_10 h => ?_) h)
        show wq (d + 1) mX0_fits 104 [(0, .inl x0), (1, .inl x1), (2, .inl x2), (3, .inl x3)] [.inl r_11] M_10 P
        refine b_if_eq (tgt := 115) dX0_fits_104 (by decide) (fun c_13 => ?_) (fun c_13 => ?_)
        · replace h := h.1 c_13
          refine b_iconst (v := 0) dX0_fits_115 (by decide) ?_
          exact b_zret rfl (by decide) dX0_fits_116 (hP _ _ h)
        · replace h := h.2 c_13
          refine b_iload_n 3 dX0_fits_107 rfl rfl ?_
          refine b_if_ne (tgt := 115) dX0_fits_108 (by decide) (fun c_12 => ?_) (fun c_12 => ?_)
          · replace h := h.1 c_12
            refine b_iconst (v := 0) dX0_fits_115 (by decide) ?_
            exact b_zret rfl (by decide) dX0_fits_116 (hP _ _ h)
          · replace h := h.2 c_12
            refine b_iconst (v := 1) dX0_fits_111 (by decide) ?_
            refine b_goto (tgt := 116) dX0_fits_112 (by decide) ?_
            exact b_zret rfl (by decide) dX0_fits_116 (hP _ _ h)
    | 2, _, e =>
      replace h := h.2.2.1 e
      show wq (d + 1) mX0_fits 117 _ _ _ _
      refine b_iload_n 1 dX0_fits_117 rfl rfl ?_
      refine b_iconst (v := 1) dX0_fits_118 (by decide) ?_
      refine b_bipush (v := 100) dX0_fits_119 (by decide) ?_
      refine b_cs (y := mX0_in) (as := [.inl x1, .inl 1, .inl 100]) (st := []) (n := 3) (Or.inl q198) q199 q69 q200 zmh_X0_in rfl (Nat.le_of_ble_eq_true rfl) (Nat.le_of_ble_eq_true rfl) dX0_fits_121 (sv_X0_in (fun r_16 M_15 h => ?_) h)
      show wq (d + 1) mX0_fits 124 [(0, .inl x0), (1, .inl x1), (2, .inl x2), (3, .inl x3)] [.inl r_16] M_15 P
      refine b_if_eq (tgt := 145) dX0_fits_124 (by decide) (fun c_21 => ?_) (fun c_21 => ?_)
      · replace h := h.1 c_21
        refine b_iconst (v := 0) dX0_fits_145 (by decide) ?_
        exact b_zret rfl (by decide) dX0_fits_146 (hP _ _ h)
      · replace h := h.2 c_21
        refine b_iload_n 2 dX0_fits_127 rfl rfl ?_
        refine b_iconst (v := 1) dX0_fits_128 (by decide) ?_
        refine b_bipush (v := 100) dX0_fits_129 (by decide) ?_
        refine b_cs (y := mX0_in) (as := [.inl x2, .inl 1, .inl 100]) (st := []) (n := 3) (Or.inl q198) q199 q69 q200 zmh_X0_in rfl (Nat.le_of_ble_eq_true rfl) (Nat.le_of_ble_eq_true rfl) dX0_fits_131 (sv_X0_in (fun r_18 M_17 h => ?_) h)
        show wq (d + 1) mX0_fits 134 [(0, .inl x0), (1, .inl x1), (2, .inl x2), (3, .inl x3)] [.inl r_18] M_17 P
        refine b_if_eq (tgt := 145) dX0_fits_134 (by decide) (fun c_20 => ?_) (fun c_20 => ?_)
        · replace h := h.1 c_20
          refine b_iconst (v := 0) dX0_fits_145 (by decide) ?_
          exact b_zret rfl (by decide) dX0_fits_146 (hP _ _ h)
        · replace h := h.2 c_20
          refine b_iload_n 3 dX0_fits_137 rfl rfl ?_
          refine b_if_ne (tgt := 145) dX0_fits_138 (by decide) (fun c_19 => ?_) (fun c_19 => ?_)
          · replace h := h.1 c_19
            refine b_iconst (v := 0) dX0_fits_145 (by decide) ?_
            exact b_zret rfl (by decide) dX0_fits_146 (hP _ _ h)
          · replace h := h.2 c_19
            refine b_iconst (v := 1) dX0_fits_141 (by decide) ?_
            refine b_goto (tgt := 146) dX0_fits_142 (by decide) ?_
            exact b_zret rfl (by decide) dX0_fits_146 (hP _ _ h)
    | 3, _, e =>
      replace h := h.2.2.2.1 e
      show wq (d + 1) mX0_fits 147 _ _ _ _
      exact b_sub (by simp) (sv_X0_fits_147 hP x1 x2 x3 M h)
    | 4, _, e =>
      replace h := h.2.2.2.2.1 e
      show wq (d + 1) mX0_fits 172 _ _ _ _
      refine b_iload_n 1 dX0_fits_172 rfl rfl ?_
      refine b_iconst (v := 2) dX0_fits_173 (by decide) ?_
      refine b_bipush (v := 6) dX0_fits_174 (by decide) ?_
      refine b_cs (y := mX0_in) (as := [.inl x1, .inl 2, .inl 6]) (st := []) (n := 3) (Or.inl q198) q199 q69 q200 zmh_X0_in rfl (Nat.le_of_ble_eq_true rfl) (Nat.le_of_ble_eq_true rfl) dX0_fits_176 (sv_X0_in (fun r_23 M_22 h => ?_) h)
      show wq (d + 1) mX0_fits 179 [(0, .inl x0), (1, .inl x1), (2, .inl x2), (3, .inl x3)] [.inl r_23] M_22 P
      refine b_if_eq (tgt := 205) dX0_fits_179 (by decide) (fun c_30 => ?_) (fun c_30 => ?_)
      · replace h := h.1 c_30
        refine b_iconst (v := 0) dX0_fits_205 (by decide) ?_
        exact b_zret rfl (by decide) dX0_fits_206 (hP _ _ h)
      · replace h := h.2 c_30
        refine b_iload_n 2 dX0_fits_182 rfl rfl ?_
        refine b_iconst (v := 1) dX0_fits_183 (by decide) ?_
        refine b_bipush (v := 50) dX0_fits_184 (by decide) ?_
        refine b_cs (y := mX0_in) (as := [.inl x2, .inl 1, .inl 50]) (st := []) (n := 3) (Or.inl q198) q199 q69 q200 zmh_X0_in rfl (Nat.le_of_ble_eq_true rfl) (Nat.le_of_ble_eq_true rfl) dX0_fits_186 (sv_X0_in (fun r_25 M_24 h => ?_) h)
        show wq (d + 1) mX0_fits 189 [(0, .inl x0), (1, .inl x1), (2, .inl x2), (3, .inl x3)] [.inl r_25] M_24 P
        refine b_if_eq (tgt := 205) dX0_fits_189 (by decide) (fun c_29 => ?_) (fun c_29 => ?_)
        · replace h := h.1 c_29
          refine b_iconst (v := 0) dX0_fits_205 (by decide) ?_
          exact b_zret rfl (by decide) dX0_fits_206 (hP _ _ h)
        · replace h := h.2 c_29
          refine b_iload_n 3 dX0_fits_192 rfl rfl ?_
          refine b_iconst (v := 0) dX0_fits_193 (by decide) ?_
          refine b_iconst (v := 1) dX0_fits_194 (by decide) ?_
          refine b_cs (y := mX0_in) (as := [.inl x3, .inl 0, .inl 1]) (st := []) (n := 3) (Or.inl q198) q199 q69 q200 zmh_X0_in rfl (Nat.le_of_ble_eq_true rfl) (Nat.le_of_ble_eq_true rfl) dX0_fits_195 (sv_X0_in (fun r_27 M_26 h => ?_) h)
          show wq (d + 1) mX0_fits 198 [(0, .inl x0), (1, .inl x1), (2, .inl x2), (3, .inl x3)] [.inl r_27] M_26 P
          refine b_if_eq (tgt := 205) dX0_fits_198 (by decide) (fun c_28 => ?_) (fun c_28 => ?_)
          · replace h := h.1 c_28
            refine b_iconst (v := 0) dX0_fits_205 (by decide) ?_
            exact b_zret rfl (by decide) dX0_fits_206 (hP _ _ h)
          · replace h := h.2 c_28
            refine b_iconst (v := 1) dX0_fits_201 (by decide) ?_
            refine b_goto (tgt := 206) dX0_fits_202 (by decide) ?_
            exact b_zret rfl (by decide) dX0_fits_206 (hP _ _ h)
    | 5, _, e =>
      replace h := h.2.2.2.2.2.1 e
      show wq (d + 1) mX0_fits 207 _ _ _ _
      refine b_iload_n 1 dX0_fits_207 rfl rfl ?_
      refine b_iconst (v := 1) dX0_fits_208 (by decide) ?_
      refine b_bipush (v := 100) dX0_fits_209 (by decide) ?_
      refine b_cs (y := mX0_in) (as := [.inl x1, .inl 1, .inl 100]) (st := []) (n := 3) (Or.inl q198) q199 q69 q200 zmh_X0_in rfl (Nat.le_of_ble_eq_true rfl) (Nat.le_of_ble_eq_true rfl) dX0_fits_211 (sv_X0_in (fun r_32 M_31 h => ?_) h)
      show wq (d + 1) mX0_fits 214 [(0, .inl x0), (1, .inl x1), (2, .inl x2), (3, .inl x3)] [.inl r_32] M_31 P
      refine b_if_eq (tgt := 229) dX0_fits_214 (by decide) (fun c_35 => ?_) (fun c_35 => ?_)
      · replace h := h.1 c_35
        refine b_iconst (v := 0) dX0_fits_229 (by decide) ?_
        exact b_zret rfl (by decide) dX0_fits_230 (hP _ _ h)
      · replace h := h.2 c_35
        refine b_iload_n 2 dX0_fits_217 rfl rfl ?_
        refine b_if_ne (tgt := 229) dX0_fits_218 (by decide) (fun c_34 => ?_) (fun c_34 => ?_)
        · replace h := h.1 c_34
          refine b_iconst (v := 0) dX0_fits_229 (by decide) ?_
          exact b_zret rfl (by decide) dX0_fits_230 (hP _ _ h)
        · replace h := h.2 c_34
          refine b_iload_n 3 dX0_fits_221 rfl rfl ?_
          refine b_if_ne (tgt := 229) dX0_fits_222 (by decide) (fun c_33 => ?_) (fun c_33 => ?_)
          · replace h := h.1 c_33
            refine b_iconst (v := 0) dX0_fits_229 (by decide) ?_
            exact b_zret rfl (by decide) dX0_fits_230 (hP _ _ h)
          · replace h := h.2 c_33
            refine b_iconst (v := 1) dX0_fits_225 (by decide) ?_
            refine b_goto (tgt := 230) dX0_fits_226 (by decide) ?_
            exact b_zret rfl (by decide) dX0_fits_230 (hP _ _ h)
    | 6, _, e =>
      replace h := h.2.2.2.2.2.2.1 e
      show wq (d + 1) mX0_fits 231 _ _ _ _
      refine b_iload_n 1 dX0_fits_231 rfl rfl ?_
      refine b_iconst (v := 0) dX0_fits_232 (by decide) ?_
      refine b_iconst (v := 1) dX0_fits_233 (by decide) ?_
      refine b_cs (y := mX0_in) (as := [.inl x1, .inl 0, .inl 1]) (st := []) (n := 3) (Or.inl q198) q199 q69 q200 zmh_X0_in rfl (Nat.le_of_ble_eq_true rfl) (Nat.le_of_ble_eq_true rfl) dX0_fits_234 (sv_X0_in (fun r_37 M_36 h => ?_) h)
      show wq (d + 1) mX0_fits 237 [(0, .inl x0), (1, .inl x1), (2, .inl x2), (3, .inl x3)] [.inl r_37] M_36 P
      refine b_if_eq (tgt := 259) dX0_fits_237 (by decide) (fun c_42 => ?_) (fun c_42 => ?_)
      · replace h := h.1 c_42
        refine b_iconst (v := 0) dX0_fits_259 (by decide) ?_
        exact b_zret rfl (by decide) dX0_fits_260 (hP _ _ h)
      · replace h := h.2 c_42
        refine b_iload_n 2 dX0_fits_240 rfl rfl ?_
        refine b_iconst (v := 0) dX0_fits_241 (by decide) ?_
        refine b_ldcw (v := 1000000) dX0_fits_242 q197 ?_
        refine b_cs (y := mX0_in) (as := [.inl x2, .inl 0, .inl 1000000]) (st := []) (n := 3) (Or.inl q198) q199 q69 q200 zmh_X0_in rfl (Nat.le_of_ble_eq_true rfl) (Nat.le_of_ble_eq_true rfl) dX0_fits_245 (sv_X0_in (fun r_39 M_38 h => ?_) h)
        show wq (d + 1) mX0_fits 248 [(0, .inl x0), (1, .inl x1), (2, .inl x2), (3, .inl x3)] [.inl r_39] M_38 P
        refine b_if_eq (tgt := 259) dX0_fits_248 (by decide) (fun c_41 => ?_) (fun c_41 => ?_)
        · replace h := h.1 c_41
          refine b_iconst (v := 0) dX0_fits_259 (by decide) ?_
          exact b_zret rfl (by decide) dX0_fits_260 (hP _ _ h)
        · replace h := h.2 c_41
          refine b_iload_n 3 dX0_fits_251 rfl rfl ?_
          refine b_if_ne (tgt := 259) dX0_fits_252 (by decide) (fun c_40 => ?_) (fun c_40 => ?_)
          · replace h := h.1 c_40
            refine b_iconst (v := 0) dX0_fits_259 (by decide) ?_
            exact b_zret rfl (by decide) dX0_fits_260 (hP _ _ h)
          · replace h := h.2 c_40
            refine b_iconst (v := 1) dX0_fits_255 (by decide) ?_
            refine b_goto (tgt := 260) dX0_fits_256 (by decide) ?_
            exact b_zret rfl (by decide) dX0_fits_260 (hP _ _ h)
    | 7, _, e =>
      replace h := h.2.2.2.2.2.2.2.1 e
      show wq (d + 1) mX0_fits 147 _ _ _ _
      exact b_sub (by simp) (sv_X0_fits_147 hP x1 x2 x3 M h)
    | 8, _, e =>
      replace h := h.2.2.2.2.2.2.2.2.1 e
      show wq (d + 1) mX0_fits 261 _ _ _ _
      refine b_iload_n 1 dX0_fits_261 rfl rfl ?_
      refine b_if_ne (tgt := 277) dX0_fits_262 (by decide) (fun c_45 => ?_) (fun c_45 => ?_)
      · replace h := h.1 c_45
        refine b_iconst (v := 0) dX0_fits_277 (by decide) ?_
        exact b_zret rfl (by decide) dX0_fits_278 (hP _ _ h)
      · replace h := h.2 c_45
        refine b_iload_n 2 dX0_fits_265 rfl rfl ?_
        refine b_if_ne (tgt := 277) dX0_fits_266 (by decide) (fun c_44 => ?_) (fun c_44 => ?_)
        · replace h := h.1 c_44
          refine b_iconst (v := 0) dX0_fits_277 (by decide) ?_
          exact b_zret rfl (by decide) dX0_fits_278 (hP _ _ h)
        · replace h := h.2 c_44
          refine b_iload_n 3 dX0_fits_269 rfl rfl ?_
          refine b_if_ne (tgt := 277) dX0_fits_270 (by decide) (fun c_43 => ?_) (fun c_43 => ?_)
          · replace h := h.1 c_43
            refine b_iconst (v := 0) dX0_fits_277 (by decide) ?_
            exact b_zret rfl (by decide) dX0_fits_278 (hP _ _ h)
          · replace h := h.2 c_43
            refine b_iconst (v := 1) dX0_fits_273 (by decide) ?_
            refine b_goto (tgt := 278) dX0_fits_274 (by decide) ?_
            exact b_zret rfl (by decide) dX0_fits_278 (hP _ _ h)
    | 9, _, e =>
      replace h := h.2.2.2.2.2.2.2.2.2.1 e
      show wq (d + 1) mX0_fits 279 _ _ _ _
      refine b_iload_n 1 dX0_fits_279 rfl rfl ?_
      refine b_if_ne (tgt := 301) dX0_fits_280 (by decide) (fun c_50 => ?_) (fun c_50 => ?_)
      · replace h := h.1 c_50
        refine b_iconst (v := 0) dX0_fits_301 (by decide) ?_
        exact b_zret rfl (by decide) dX0_fits_302 (hP _ _ h)
      · replace h := h.2 c_50
        refine b_iload_n 2 dX0_fits_283 rfl rfl ?_
        refine b_iconst (v := 0) dX0_fits_284 (by decide) ?_
        refine b_bipush (v := 15) dX0_fits_285 (by decide) ?_
        refine b_cs (y := mX0_in) (as := [.inl x2, .inl 0, .inl 15]) (st := []) (n := 3) (Or.inl q198) q199 q69 q200 zmh_X0_in rfl (Nat.le_of_ble_eq_true rfl) (Nat.le_of_ble_eq_true rfl) dX0_fits_287 (sv_X0_in (fun r_47 M_46 h => ?_) h)
        show wq (d + 1) mX0_fits 290 [(0, .inl x0), (1, .inl x1), (2, .inl x2), (3, .inl x3)] [.inl r_47] M_46 P
        refine b_if_eq (tgt := 301) dX0_fits_290 (by decide) (fun c_49 => ?_) (fun c_49 => ?_)
        · replace h := h.1 c_49
          refine b_iconst (v := 0) dX0_fits_301 (by decide) ?_
          exact b_zret rfl (by decide) dX0_fits_302 (hP _ _ h)
        · replace h := h.2 c_49
          refine b_iload_n 3 dX0_fits_293 rfl rfl ?_
          refine b_if_ne (tgt := 301) dX0_fits_294 (by decide) (fun c_48 => ?_) (fun c_48 => ?_)
          · replace h := h.1 c_48
            refine b_iconst (v := 0) dX0_fits_301 (by decide) ?_
            exact b_zret rfl (by decide) dX0_fits_302 (hP _ _ h)
          · replace h := h.2 c_48
            refine b_iconst (v := 1) dX0_fits_297 (by decide) ?_
            refine b_goto (tgt := 302) dX0_fits_298 (by decide) ?_
            exact b_zret rfl (by decide) dX0_fits_302 (hP _ _ h)
    | j + 10, hj, _ => exact absurd hj (by omega)
  · replace h := h.2.2.2.2.2.2.2.2.2.2 (e 0 (by decide)) (e 1 (by decide)) (e 2 (by decide)) (e 3 (by decide)) (e 4 (by decide)) (e 5 (by decide)) (e 6 (by decide)) (e 7 (by decide)) (e 8 (by decide)) (e 9 (by decide))
    refine b_iconst (v := 0) dX0_fits_303 (by decide) ?_
    exact b_zret rfl (by decide) dX0_fits_304 (hP _ _ h)
def v_X4_init (r0 : Nat × Nat) (r1 : Nat × Nat) (x2 : Int32) (r3 : Nat × Nat) (x4 : Int32) (M : Mem) (Q : Mem → Prop) : Prop := gk r0.1 ∧ (∀ M_1 : Mem, M_1 = sR M r0.1 r0.2 6 r1 → (¬ r0.1 = 0 ∧ (kt r1.1 = 0 ∧ (∀ e_2 : Nat × Nat, e_2 = M_1.2.1 r1.1 r1.2 5 → (lk e_2.1 ∧ (gk r0.1 ∧ (∀ M_3 : Mem, M_3 = sI M_1 r0.1 r0.2 0 (M_1.1 e_2.1 e_2.2 0) → (gk r0.1 ∧ (∀ M_4 : Mem, M_4 = sI M_3 r0.1 r0.2 1 x2 → (arI M_4 r3 100 0 ∧ (gk r0.1 ∧ (∀ M_5 : Mem, M_5 = sI M_4 r0.1 r0.2 2 (M_4.1 r3.1 r3.2 (0 : Int32).toNatClampNeg) → (arI M_5 r3 100 1 ∧ (gk r0.1 ∧ (∀ M_6 : Mem, M_6 = sI M_5 r0.1 r0.2 3 (M_5.1 r3.1 r3.2 (1 : Int32).toNatClampNeg) → (arI M_6 r3 100 2 ∧ (gk r0.1 ∧ (∀ M_7 : Mem, M_7 = sI M_6 r0.1 r0.2 4 (M_6.1 r3.1 r3.2 (2 : Int32).toNatClampNeg) → (gk r0.1 ∧ (∀ M_8 : Mem, M_8 = sI M_7 r0.1 r0.2 5 x4 → (Q M_8)))))))))))))))))))))
set_option maxHeartbeats 4000000 in
theorem sv_X4_init {d : Nat} {M : Mem} {P : Option AV → Mem → Prop} {Q : Mem → Prop} {r0 : Nat × Nat} {r1 : Nat × Nat} {x2 : Int32} {r3 : Nat × Nat} {x4 : Int32} (hP : ∀ M, Q M → P none M) (h : v_X4_init r0 r1 x2 r3 x4 M Q) : cq (d + 2) mX4_init [.inr r0, .inr r1, .inl x2, .inr r3, .inl x4] M P := by
  refine cq_of (by decide) (Nat.le_of_ble_eq_true rfl) ?_
  show wq (d + 2) mX4_init 0 [(0, .inr r0), (1, .inr r1), (2, .inl x2), (3, .inr r3), (4, .inl x4)] [] M P
  unfold v_X4_init at h
  refine b_aload_n 0 dX4_init_0 rfl rfl ?_
  refine b_aload_n 1 dX4_init_1 rfl rfl ?_
  refine b_fRg (f := 6) (by decide) q409 (Or.inl rfl) rfl rfl rfl rfl h.1 dX4_init_2 ?_
  refine b_topm (fun M_1 eM_1 => ?_)
  replace h := h.2 M_1 eM_1
  refine b_aload_n 0 dX4_init_5 rfl rfl ?_
  refine b_obj h.1 q358 q109 q110 (Nat.le_of_ble_eq_true rfl) dX4_init_6 ?_
  replace h := h.2
  refine b_aload_n 0 dX4_init_9 rfl rfl ?_
  refine b_aload_n 1 dX4_init_10 rfl rfl ?_
  refine b_gR (ci := 0) (r := (RX0, TX0, 14)) (f := 5) (by decide) rfl (by decide) rfl (Or.inr ⟨_, q151⟩) (Or.inl rfl) h.1 dX4_init_11 ?_
  refine b_topr (fun e_2 ee_2 => ?_)
  replace h := h.2 e_2 ee_2
  refine b_lsize (st := [.inr r0]) h.1 (Or.inl q359) (Nat.le_of_ble_eq_true rfl) dX4_init_14 ?_
  replace h := h.2
  refine b_fIg (f := 0) (by decide) q369 (Or.inl rfl) rfl rfl rfl (Or.inl rfl) h.1 dX4_init_17 ?_
  refine b_topm (fun M_3 eM_3 => ?_)
  replace h := h.2 M_3 eM_3
  refine b_aload_n 0 dX4_init_20 rfl rfl ?_
  refine b_iload_n 2 dX4_init_21 rfl rfl ?_
  refine b_fIg (f := 1) (by decide) q373 (Or.inl rfl) rfl rfl rfl (Or.inl rfl) h.1 dX4_init_22 ?_
  refine b_topm (fun M_4 eM_4 => ?_)
  replace h := h.2 M_4 eM_4
  refine b_aload_n 0 dX4_init_25 rfl rfl ?_
  refine b_aload_n 3 dX4_init_26 rfl rfl ?_
  refine b_iconst (v := 0) dX4_init_27 (by decide) ?_
  refine b_xiald h.1 dX4_init_28 ?_
  replace h := h.2
  refine b_fIg (f := 2) (by decide) q377 (Or.inl rfl) rfl rfl rfl (Or.inl rfl) h.1 dX4_init_29 ?_
  refine b_topm (fun M_5 eM_5 => ?_)
  replace h := h.2 M_5 eM_5
  refine b_aload_n 0 dX4_init_32 rfl rfl ?_
  refine b_aload_n 3 dX4_init_33 rfl rfl ?_
  refine b_iconst (v := 1) dX4_init_34 (by decide) ?_
  refine b_xiald h.1 dX4_init_35 ?_
  replace h := h.2
  refine b_fIg (f := 3) (by decide) q392 (Or.inl rfl) rfl rfl rfl (Or.inl rfl) h.1 dX4_init_36 ?_
  refine b_topm (fun M_6 eM_6 => ?_)
  replace h := h.2 M_6 eM_6
  refine b_aload_n 0 dX4_init_39 rfl rfl ?_
  refine b_aload_n 3 dX4_init_40 rfl rfl ?_
  refine b_iconst (v := 2) dX4_init_41 (by decide) ?_
  refine b_xiald h.1 dX4_init_42 ?_
  replace h := h.2
  refine b_fIg (f := 4) (by decide) q405 (Or.inl rfl) rfl rfl rfl (Or.inl rfl) h.1 dX4_init_43 ?_
  refine b_topm (fun M_7 eM_7 => ?_)
  replace h := h.2 M_7 eM_7
  refine b_aload_n 0 dX4_init_46 rfl rfl ?_
  refine b_iload 4 dX4_init_47 rfl ?_
  refine b_fIg (f := 5) (by decide) q408 (Or.inl rfl) rfl rfl rfl (Or.inl rfl) h.1 dX4_init_49 ?_
  refine b_topm (fun M_8 eM_8 => ?_)
  replace h := h.2 M_8 eM_8
  exact b_vret rfl dX4_init_52 (hP _ h)
def v_X10_init (r0 : Nat × Nat) (r1 : Nat × Nat) (r2 : Nat × Nat) (M : Mem) (Q : Mem → Prop) : Prop := kt r0.1 = 10 ∧ (∀ M_1 : Mem, M_1 = sR M r0.1 r0.2 7 r1 → (¬ r0.1 = 0 ∧ (v_X4_init r0 r1 5 r2 0 M_1 (fun M_2 => Q M_2))))
set_option maxHeartbeats 4000000 in
theorem sv_X10_init {d : Nat} {M : Mem} {P : Option AV → Mem → Prop} {Q : Mem → Prop} {r0 : Nat × Nat} {r1 : Nat × Nat} {r2 : Nat × Nat} (hP : ∀ M, Q M → P none M) (h : v_X10_init r0 r1 r2 M Q) : cq (d + 3) mX10_init [.inr r0, .inr r1, .inr r2] M P := by
  refine cq_of (by decide) (Nat.le_of_ble_eq_true rfl) ?_
  show wq (d + 3) mX10_init 0 [(0, .inr r0), (1, .inr r1), (2, .inr r2)] [] M P
  unfold v_X10_init at h
  refine b_aload_n 0 dX10_init_0 rfl rfl ?_
  refine b_aload_n 1 dX10_init_1 rfl rfl ?_
  refine b_fR (ci := 10) (r := (RX10, TX10, 8)) (f := 7) (by decide) rfl (by decide) q529 (Or.inl rfl) rfl rfl rfl rfl h.1 dX10_init_2 ?_
  refine b_topm (fun M_1 eM_1 => ?_)
  replace h := h.2 M_1 eM_1
  refine b_aload_n 0 dX10_init_5 rfl rfl ?_
  refine b_aload_n 1 dX10_init_6 rfl rfl ?_
  refine b_iconst (v := 5) dX10_init_7 (by decide) ?_
  refine b_aload_n 2 dX10_init_8 rfl rfl ?_
  refine b_iconst (v := 0) dX10_init_9 (by decide) ?_
  refine b_ci (y := mX4_init) (k := r0.1) (i := r0.2) (as := [.inr r1, .inl 5, .inr r2, .inl 0]) (st := []) (n := 4) h.1 rfl rfl (Or.inl q528) q356 q80 q357 zmh_X4_init rfl (Nat.le_of_ble_eq_true rfl) (Nat.le_of_ble_eq_true rfl) dX10_init_10 (sv_X4_init (fun M_2 h => ?_) h.2)
  show wq (d + 3) mX10_init 13 [(0, .inr r0), (1, .inr r1), (2, .inr r2)] [] M_2 P
  exact b_vret rfl dX10_init_13 (hP _ h)
def v_X11_init (r0 : Nat × Nat) (r1 : Nat × Nat) (r2 : Nat × Nat) (x3 : Int32) (M : Mem) (Q : Mem → Prop) : Prop := kt r0.1 = 11 ∧ (∀ M_1 : Mem, M_1 = sR M r0.1 r0.2 7 r1 → (¬ r0.1 = 0 ∧ (v_X4_init r0 r1 6 r2 x3 M_1 (fun M_2 => Q M_2))))
set_option maxHeartbeats 4000000 in
theorem sv_X11_init {d : Nat} {M : Mem} {P : Option AV → Mem → Prop} {Q : Mem → Prop} {r0 : Nat × Nat} {r1 : Nat × Nat} {r2 : Nat × Nat} {x3 : Int32} (hP : ∀ M, Q M → P none M) (h : v_X11_init r0 r1 r2 x3 M Q) : cq (d + 3) mX11_init [.inr r0, .inr r1, .inr r2, .inl x3] M P := by
  refine cq_of (by decide) (Nat.le_of_ble_eq_true rfl) ?_
  show wq (d + 3) mX11_init 0 [(0, .inr r0), (1, .inr r1), (2, .inr r2), (3, .inl x3)] [] M P
  unfold v_X11_init at h
  refine b_aload_n 0 dX11_init_0 rfl rfl ?_
  refine b_aload_n 1 dX11_init_1 rfl rfl ?_
  refine b_fR (ci := 11) (r := (RX11, TX11, 8)) (f := 7) (by decide) rfl (by decide) q546 (Or.inl rfl) rfl rfl rfl rfl h.1 dX11_init_2 ?_
  refine b_topm (fun M_1 eM_1 => ?_)
  replace h := h.2 M_1 eM_1
  refine b_aload_n 0 dX11_init_5 rfl rfl ?_
  refine b_aload_n 1 dX11_init_6 rfl rfl ?_
  refine b_bipush (v := 6) dX11_init_7 (by decide) ?_
  refine b_aload_n 2 dX11_init_9 rfl rfl ?_
  refine b_iload_n 3 dX11_init_10 rfl rfl ?_
  refine b_ci (y := mX4_init) (k := r0.1) (i := r0.2) (as := [.inr r1, .inl 6, .inr r2, .inl x3]) (st := []) (n := 4) h.1 rfl rfl (Or.inl q545) q356 q80 q357 zmh_X4_init rfl (Nat.le_of_ble_eq_true rfl) (Nat.le_of_ble_eq_true rfl) dX11_init_11 (sv_X4_init (fun M_2 h => ?_) h.2)
  show wq (d + 3) mX11_init 14 [(0, .inr r0), (1, .inr r1), (2, .inr r2), (3, .inl x3)] [] M_2 P
  exact b_vret rfl dX11_init_14 (hP _ h)
def v_X12_init_40 : Nat → Nat × Nat → Int32 → Mem → (Mem → Prop) → Prop
  | 0, _, _, _, _ => False
  | n + 1, r0, x3, M, Q => ((8 ≤ x3) → (Q M)) ∧ ((¬ 8 ≤ x3) → (kt r0.1 = 12 ∧ (∀ e_1 : Nat × Nat, e_1 = M.2.1 r0.1 r0.2 7 → ((arI M e_1 100 x3 ∧ stk e_1.1 = false) ∧ (∀ M_2 : Mem, M_2 = sI M e_1.1 e_1.2 x3.toNatClampNeg (-1) → (kt r0.1 = 12 ∧ (∀ e_3 : Nat × Nat, e_3 = M_2.2.1 r0.1 r0.2 8 → ((arI M_2 e_3 100 x3 ∧ stk e_3.1 = false) ∧ (∀ M_4 : Mem, M_4 = sI M_2 e_3.1 e_3.2 x3.toNatClampNeg (-1) → (∀ x_5 : Int32, x_5 = x3 + 1 → (v_X12_init_40 n r0 x_5 M_4 Q)))))))))))
set_option maxHeartbeats 4000000 in
theorem sv_X12_init_40 {d : Nat} {P : Option AV → Mem → Prop} {Q : Mem → Prop} (hP : ∀ M, Q M → P none M) : ∀ (n : Nat) (r0 : Nat × Nat) (x3 : Int32) (M : Mem), v_X12_init_40 n r0 x3 M Q → wq (d + 3) mX12_init 40 [(0, .inr r0), (3, .inl x3)] [] M P := by
  intro n
  induction n with
  | zero => intro r0 x3 M h; exact False.elim h
  | succ n ih =>
    intro r0 x3 M h
    rw [v_X12_init_40] at h
    refine b_iload_n 1 dX12_init_40 rfl rfl ?_
    refine b_bipush (v := 8) dX12_init_41 (by decide) ?_
    refine b_icmp_ge (tgt := 66) dX12_init_43 (by decide) (fun c_6 => ?_) (fun c_6 => ?_)
    · replace h := h.1 c_6
      exact b_vret rfl dX12_init_66 (hP _ h)
    · replace h := h.2 c_6
      refine b_aload_n 0 dX12_init_46 rfl rfl ?_
      refine b_gR (ci := 12) (r := (RX12, TX12, 11)) (f := 7) (by decide) rfl (by decide) rfl (Or.inl q563) (Or.inl rfl) h.1 dX12_init_47 ?_
      refine b_topr (fun e_1 ee_1 => ?_)
      replace h := h.2 e_1 ee_1
      refine b_iload_n 1 dX12_init_50 rfl rfl ?_
      refine b_iconst (v := (-1)) dX12_init_51 (by decide) ?_
      refine b_xiast h.1 dX12_init_52 ?_
      refine b_topm (fun M_2 eM_2 => ?_)
      replace h := h.2 M_2 eM_2
      refine b_aload_n 0 dX12_init_53 rfl rfl ?_
      refine b_gR (ci := 12) (r := (RX12, TX12, 11)) (f := 8) (by decide) rfl (by decide) rfl (Or.inl q565) (Or.inl rfl) h.1 dX12_init_54 ?_
      refine b_topr (fun e_3 ee_3 => ?_)
      replace h := h.2 e_3 ee_3
      refine b_iload_n 1 dX12_init_57 rfl rfl ?_
      refine b_iconst (v := (-1)) dX12_init_58 (by decide) ?_
      refine b_xiast h.1 dX12_init_59 ?_
      refine b_topm (fun M_4 eM_4 => ?_)
      replace h := h.2 M_4 eM_4
      obtain ⟨x_5, ex_5⟩ : ∃ y : Int32, y = x3 + 1 := ⟨_, rfl⟩
      replace h := h x_5 ex_5
      refine b_iinc (v := x_5) (lv' := [(3, .inl x_5), (0, .inr r0)]) 1 dX12_init_60 rfl (by rw [ex_5]; rfl) (Nat.le_of_ble_eq_true rfl) rfl ?_
      refine b_goto (tgt := 40) dX12_init_63 (by decide) ?_
      exact b_sub (by simp) (ih r0 x_5 M_4 h)
def v_X12_init (r0 : Nat × Nat) (r1 : Nat × Nat) (r2 : Nat × Nat) (M : Mem) (Q : Mem → Prop) : Prop := kt r0.1 = 12 ∧ (∀ M_1 : Mem, M_1 = sR M r0.1 r0.2 10 r1 → (¬ r0.1 = 0 ∧ (v_X4_init r0 r1 7 r2 0 M_1 (fun M_2 => ¬ (8 : Int32) < 0 ∧ (8 : Int32).toNatClampNeg ≤ 100000 ∧ rom M_2 (8 : Int32).toNatClampNeg ∧ (∃ i_4 : Nat, M_2.2.2.1 46 i_4 = 0 ∧ ∀ M_5 : Mem, M_5 = sN M_2 46 i_4 (8 : Int32).toNatClampNeg (8 : Int32).toNatClampNeg → (kt r0.1 = 12 ∧ (∀ M_6 : Mem, M_6 = sR M_5 r0.1 r0.2 7 (46, i_4) → (¬ (8 : Int32) < 0 ∧ (8 : Int32).toNatClampNeg ≤ 100000 ∧ rom M_6 (8 : Int32).toNatClampNeg ∧ (∃ i_7 : Nat, M_6.2.2.1 47 i_7 = 0 ∧ ∀ M_8 : Mem, M_8 = sN M_6 47 i_7 (8 : Int32).toNatClampNeg (8 : Int32).toNatClampNeg → (kt r0.1 = 12 ∧ (∀ M_9 : Mem, M_9 = sR M_8 r0.1 r0.2 8 (47, i_7) → (¬ (8 : Int32) < 0 ∧ (8 : Int32).toNatClampNeg ≤ 100000 ∧ rom M_9 (8 : Int32).toNatClampNeg ∧ (∃ i_10 : Nat, M_9.2.2.1 48 i_10 = 0 ∧ ∀ M_11 : Mem, M_11 = sN M_9 48 i_10 (8 : Int32).toNatClampNeg (8 : Int32).toNatClampNeg → (kt r0.1 = 12 ∧ (∀ M_12 : Mem, M_12 = sR M_11 r0.1 r0.2 9 (48, i_10) → (∃ n, v_X12_init_40 n r0 0 M_12 Q))))))))))))))))
set_option maxHeartbeats 4000000 in
theorem sv_X12_init {d : Nat} {M : Mem} {P : Option AV → Mem → Prop} {Q : Mem → Prop} {r0 : Nat × Nat} {r1 : Nat × Nat} {r2 : Nat × Nat} (hP : ∀ M, Q M → P none M) (h : v_X12_init r0 r1 r2 M Q) : cq (d + 3) mX12_init [.inr r0, .inr r1, .inr r2] M P := by
  refine cq_of (by decide) (Nat.le_of_ble_eq_true rfl) ?_
  show wq (d + 3) mX12_init 0 [(0, .inr r0), (1, .inr r1), (2, .inr r2)] [] M P
  unfold v_X12_init at h
  refine b_aload_n 0 dX12_init_0 rfl rfl ?_
  refine b_aload_n 1 dX12_init_1 rfl rfl ?_
  refine b_fR (ci := 12) (r := (RX12, TX12, 11)) (f := 10) (by decide) rfl (by decide) q568 (Or.inl rfl) rfl rfl rfl rfl h.1 dX12_init_2 ?_
  refine b_topm (fun M_1 eM_1 => ?_)
  replace h := h.2 M_1 eM_1
  refine b_aload_n 0 dX12_init_5 rfl rfl ?_
  refine b_aload_n 1 dX12_init_6 rfl rfl ?_
  refine b_bipush (v := 7) dX12_init_7 (by decide) ?_
  refine b_aload_n 2 dX12_init_9 rfl rfl ?_
  refine b_iconst (v := 0) dX12_init_10 (by decide) ?_
  refine b_ci (y := mX4_init) (k := r0.1) (i := r0.2) (as := [.inr r1, .inl 7, .inr r2, .inl 0]) (st := []) (n := 4) h.1 rfl rfl (Or.inl q562) q356 q80 q357 zmh_X4_init rfl (Nat.le_of_ble_eq_true rfl) (Nat.le_of_ble_eq_true rfl) dX12_init_11 (sv_X4_init (fun M_2 h => ?_) h.2)
  show wq (d + 3) mX12_init 14 [(0, .inr r0), (1, .inr r1), (2, .inr r2)] [] M_2 P
  refine b_aload_n 0 dX12_init_14 rfl rfl ?_
  refine b_bipush (v := 8) dX12_init_15 (by decide) ?_
  obtain ⟨h1, h2, h3, i_4, ei_4, h⟩ := h
  refine b_nwa (k := 46) (i := i_4) (by decide) (Or.inl rfl) rfl h1 h2 h3 ei_4 q435 dX12_init_17 ?_
  refine b_topm (fun M_5 eM_5 => ?_)
  replace h := h M_5 eM_5
  refine b_fR (ci := 12) (r := (RX12, TX12, 11)) (f := 7) (by decide) rfl (by decide) q563 (Or.inl rfl) rfl rfl rfl rfl h.1 dX12_init_19 ?_
  refine b_topm (fun M_6 eM_6 => ?_)
  replace h := h.2 M_6 eM_6
  refine b_aload_n 0 dX12_init_22 rfl rfl ?_
  refine b_bipush (v := 8) dX12_init_23 (by decide) ?_
  obtain ⟨h1, h2, h3, i_7, ei_7, h⟩ := h
  refine b_nwa (k := 47) (i := i_7) (by decide) (Or.inl rfl) rfl h1 h2 h3 ei_7 q435 dX12_init_25 ?_
  refine b_topm (fun M_8 eM_8 => ?_)
  replace h := h M_8 eM_8
  refine b_fR (ci := 12) (r := (RX12, TX12, 11)) (f := 8) (by decide) rfl (by decide) q565 (Or.inl rfl) rfl rfl rfl rfl h.1 dX12_init_27 ?_
  refine b_topm (fun M_9 eM_9 => ?_)
  replace h := h.2 M_9 eM_9
  refine b_aload_n 0 dX12_init_30 rfl rfl ?_
  refine b_bipush (v := 8) dX12_init_31 (by decide) ?_
  obtain ⟨h1, h2, h3, i_10, ei_10, h⟩ := h
  refine b_nwa (k := 48) (i := i_10) (by decide) (Or.inr rfl) rfl h1 h2 h3 ei_10 q585 dX12_init_33 ?_
  refine b_topm (fun M_11 eM_11 => ?_)
  replace h := h M_11 eM_11
  refine b_fR (ci := 12) (r := (RX12, TX12, 11)) (f := 9) (by decide) rfl (by decide) q567 (Or.inl rfl) rfl rfl rfl rfl h.1 dX12_init_35 ?_
  refine b_topm (fun M_12 eM_12 => ?_)
  replace h := h.2 M_12 eM_12
  refine b_iconst (v := 0) dX12_init_38 (by decide) ?_
  refine b_istore_n (lv' := [(3, .inl 0), (0, .inr r0), (1, .inr r1), (2, .inr r2)]) dX12_init_39 rfl (Nat.le_of_ble_eq_true rfl) rfl ?_
  obtain ⟨n, h⟩ := h
  exact b_sub (by simp) (sv_X12_init_40 hP n r0 0 M_12 h)
def v_X13_init (r0 : Nat × Nat) (r1 : Nat × Nat) (M : Mem) (Q : Mem → Prop) : Prop := kt r0.1 = 13 ∧ (∀ M_1 : Mem, M_1 = sR M r0.1 r0.2 7 r1 → (¬ (3 : Int32) < 0 ∧ (3 : Int32).toNatClampNeg ≤ 100000 ∧ rom M_1 (3 : Int32).toNatClampNeg ∧ (∀ i_2 : Nat, M_1.2.2.1 43 i_2 = 0 → ∀ M_3 : Mem, M_3 = sN M_1 43 i_2 (3 : Int32).toNatClampNeg (3 : Int32).toNatClampNeg → (¬ r0.1 = 0 ∧ (v_X4_init r0 r1 8 (43, i_2) 0 M_3 (fun M_4 => Q M_4))))))
set_option maxHeartbeats 4000000 in
theorem sv_X13_init {d : Nat} {M : Mem} {P : Option AV → Mem → Prop} {Q : Mem → Prop} {r0 : Nat × Nat} {r1 : Nat × Nat} (hP : ∀ M, Q M → P none M) (h : v_X13_init r0 r1 M Q) : cq (d + 3) mX13_init [.inr r0, .inr r1] M P := by
  refine cq_of (by decide) (Nat.le_of_ble_eq_true rfl) ?_
  show wq (d + 3) mX13_init 0 [(0, .inr r0), (1, .inr r1)] [] M P
  unfold v_X13_init at h
  refine b_aload_n 0 dX13_init_0 rfl rfl ?_
  refine b_aload_n 1 dX13_init_1 rfl rfl ?_
  refine b_fR (ci := 13) (r := (RX13, TX13, 8)) (f := 7) (by decide) rfl (by decide) q592 (Or.inl rfl) rfl rfl rfl rfl h.1 dX13_init_2 ?_
  refine b_topm (fun M_1 eM_1 => ?_)
  replace h := h.2 M_1 eM_1
  refine b_aload_n 0 dX13_init_5 rfl rfl ?_
  refine b_aload_n 1 dX13_init_6 rfl rfl ?_
  refine b_bipush (v := 8) dX13_init_7 (by decide) ?_
  refine b_iconst (v := 3) dX13_init_9 (by decide) ?_
  refine b_nwaD (k := 43) (by decide) (Or.inl rfl) rfl h.1 h.2.1 h.2.2.1 q435 dX13_init_10 (fun i_2 ei_2 => ?_)
  refine b_topm (fun M_3 eM_3 => ?_)
  replace h := h.2.2.2 i_2 ei_2 M_3 eM_3
  refine b_iconst (v := 0) dX13_init_12 (by decide) ?_
  refine b_ci (y := mX4_init) (k := r0.1) (i := r0.2) (as := [.inr r1, .inl 8, .inr (43, i_2), .inl 0]) (st := []) (n := 4) h.1 rfl rfl (Or.inl q591) q356 q80 q357 zmh_X4_init rfl (Nat.le_of_ble_eq_true rfl) (Nat.le_of_ble_eq_true rfl) dX13_init_13 (sv_X4_init (fun M_4 h => ?_) h.2)
  show wq (d + 3) mX13_init 16 [(0, .inr r0), (1, .inr r1)] [] M_4 P
  exact b_vret rfl dX13_init_16 (hP _ h)
def v_X14_init (r0 : Nat × Nat) (r1 : Nat × Nat) (r2 : Nat × Nat) (x3 : Int32) (M : Mem) (Q : Mem → Prop) : Prop := kt r0.1 = 14 ∧ (∀ M_1 : Mem, M_1 = sR M r0.1 r0.2 7 r1 → (¬ r0.1 = 0 ∧ (v_X4_init r0 r1 9 r2 x3 M_1 (fun M_2 => Q M_2))))
set_option maxHeartbeats 4000000 in
theorem sv_X14_init {d : Nat} {M : Mem} {P : Option AV → Mem → Prop} {Q : Mem → Prop} {r0 : Nat × Nat} {r1 : Nat × Nat} {r2 : Nat × Nat} {x3 : Int32} (hP : ∀ M, Q M → P none M) (h : v_X14_init r0 r1 r2 x3 M Q) : cq (d + 3) mX14_init [.inr r0, .inr r1, .inr r2, .inl x3] M P := by
  refine cq_of (by decide) (Nat.le_of_ble_eq_true rfl) ?_
  show wq (d + 3) mX14_init 0 [(0, .inr r0), (1, .inr r1), (2, .inr r2), (3, .inl x3)] [] M P
  unfold v_X14_init at h
  refine b_aload_n 0 dX14_init_0 rfl rfl ?_
  refine b_aload_n 1 dX14_init_1 rfl rfl ?_
  refine b_fR (ci := 14) (r := (RX14, TX14, 8)) (f := 7) (by decide) rfl (by decide) q609 (Or.inl rfl) rfl rfl rfl rfl h.1 dX14_init_2 ?_
  refine b_topm (fun M_1 eM_1 => ?_)
  replace h := h.2 M_1 eM_1
  refine b_aload_n 0 dX14_init_5 rfl rfl ?_
  refine b_aload_n 1 dX14_init_6 rfl rfl ?_
  refine b_bipush (v := 9) dX14_init_7 (by decide) ?_
  refine b_aload_n 2 dX14_init_9 rfl rfl ?_
  refine b_iload_n 3 dX14_init_10 rfl rfl ?_
  refine b_ci (y := mX4_init) (k := r0.1) (i := r0.2) (as := [.inr r1, .inl 9, .inr r2, .inl x3]) (st := []) (n := 4) h.1 rfl rfl (Or.inl q608) q356 q80 q357 zmh_X4_init rfl (Nat.le_of_ble_eq_true rfl) (Nat.le_of_ble_eq_true rfl) dX14_init_11 (sv_X4_init (fun M_2 h => ?_) h.2)
  show wq (d + 3) mX14_init 14 [(0, .inr r0), (1, .inr r1), (2, .inr r2), (3, .inl x3)] [] M_2 P
  exact b_vret rfl dX14_init_14 (hP _ h)
def v_X5_init (r0 : Nat × Nat) (r1 : Nat × Nat) (r2 : Nat × Nat) (x3 : Int32) (M : Mem) (Q : Mem → Prop) : Prop := kt r0.1 = 5 ∧ (∀ M_1 : Mem, M_1 = sR M r0.1 r0.2 11 r1 → (¬ r0.1 = 0 ∧ (v_X4_init r0 r1 0 r2 x3 M_1 (fun M_2 => Q M_2))))
set_option maxHeartbeats 4000000 in
theorem sv_X5_init {d : Nat} {M : Mem} {P : Option AV → Mem → Prop} {Q : Mem → Prop} {r0 : Nat × Nat} {r1 : Nat × Nat} {r2 : Nat × Nat} {x3 : Int32} (hP : ∀ M, Q M → P none M) (h : v_X5_init r0 r1 r2 x3 M Q) : cq (d + 3) mX5_init [.inr r0, .inr r1, .inr r2, .inl x3] M P := by
  refine cq_of (by decide) (Nat.le_of_ble_eq_true rfl) ?_
  show wq (d + 3) mX5_init 0 [(0, .inr r0), (1, .inr r1), (2, .inr r2), (3, .inl x3)] [] M P
  unfold v_X5_init at h
  refine b_aload_n 0 dX5_init_0 rfl rfl ?_
  refine b_aload_n 1 dX5_init_1 rfl rfl ?_
  refine b_fR (ci := 5) (r := (RX5, TX5, 12)) (f := 11) (by decide) rfl (by decide) q368 (Or.inl rfl) rfl rfl rfl rfl h.1 dX5_init_2 ?_
  refine b_topm (fun M_1 eM_1 => ?_)
  replace h := h.2 M_1 eM_1
  refine b_aload_n 0 dX5_init_5 rfl rfl ?_
  refine b_aload_n 1 dX5_init_6 rfl rfl ?_
  refine b_iconst (v := 0) dX5_init_7 (by decide) ?_
  refine b_aload_n 2 dX5_init_8 rfl rfl ?_
  refine b_iload_n 3 dX5_init_9 rfl rfl ?_
  refine b_ci (y := mX4_init) (k := r0.1) (i := r0.2) (as := [.inr r1, .inl 0, .inr r2, .inl x3]) (st := []) (n := 4) h.1 rfl rfl (Or.inl q355) q356 q80 q357 zmh_X4_init rfl (Nat.le_of_ble_eq_true rfl) (Nat.le_of_ble_eq_true rfl) dX5_init_10 (sv_X4_init (fun M_2 h => ?_) h.2)
  show wq (d + 3) mX5_init 13 [(0, .inr r0), (1, .inr r1), (2, .inr r2), (3, .inl x3)] [] M_2 P
  exact b_vret rfl dX5_init_13 (hP _ h)
def v_X6_init (r0 : Nat × Nat) (r1 : Nat × Nat) (r2 : Nat × Nat) (M : Mem) (Q : Mem → Prop) : Prop := kt r0.1 = 6 ∧ (∀ M_1 : Mem, M_1 = sR M r0.1 r0.2 10 r1 → (¬ r0.1 = 0 ∧ (v_X4_init r0 r1 1 r2 0 M_1 (fun M_2 => rom M_2 3 ∧ (∃ i_4 : Nat, M_2.2.2.1 32 i_4 = 0 ∧ ∀ M_5 : Mem, M_5 = sN M_2 32 i_4 0 3 → (kt r0.1 = 6 ∧ (∀ M_6 : Mem, M_6 = sR M_5 r0.1 r0.2 7 (32, i_4) → (Q M_6))))))))
set_option maxHeartbeats 4000000 in
theorem sv_X6_init {d : Nat} {M : Mem} {P : Option AV → Mem → Prop} {Q : Mem → Prop} {r0 : Nat × Nat} {r1 : Nat × Nat} {r2 : Nat × Nat} (hP : ∀ M, Q M → P none M) (h : v_X6_init r0 r1 r2 M Q) : cq (d + 5) mX6_init [.inr r0, .inr r1, .inr r2] M P := by
  refine cq_of (by decide) (Nat.le_of_ble_eq_true rfl) ?_
  show wq (d + 5) mX6_init 0 [(0, .inr r0), (1, .inr r1), (2, .inr r2)] [] M P
  unfold v_X6_init at h
  refine b_aload_n 0 dX6_init_0 rfl rfl ?_
  refine b_aload_n 1 dX6_init_1 rfl rfl ?_
  refine b_fR (ci := 6) (r := (RX6, TX6, 11)) (f := 10) (by decide) rfl (by decide) q451 (Or.inl rfl) rfl rfl rfl rfl h.1 dX6_init_2 ?_
  refine b_topm (fun M_1 eM_1 => ?_)
  replace h := h.2 M_1 eM_1
  refine b_aload_n 0 dX6_init_5 rfl rfl ?_
  refine b_aload_n 1 dX6_init_6 rfl rfl ?_
  refine b_iconst (v := 1) dX6_init_7 (by decide) ?_
  refine b_aload_n 2 dX6_init_8 rfl rfl ?_
  refine b_iconst (v := 0) dX6_init_9 (by decide) ?_
  refine b_ci (y := mX4_init) (k := r0.1) (i := r0.2) (as := [.inr r1, .inl 1, .inr r2, .inl 0]) (st := []) (n := 4) h.1 rfl rfl (Or.inl q441) q356 q80 q357 zmh_X4_init rfl (Nat.le_of_ble_eq_true rfl) (Nat.le_of_ble_eq_true rfl) dX6_init_10 (sv_X4_init (fun M_2 h => ?_) h.2)
  show wq (d + 5) mX6_init 13 [(0, .inr r0), (1, .inr r1), (2, .inr r2)] [] M_2 P
  refine b_aload_n 0 dX6_init_13 rfl rfl ?_
  obtain ⟨h1, i_4, ei_4, h⟩ := h
  refine b_nwl (k := 32) (i := i_4) (by decide) (by decide) h1 ei_4 q442 (Or.inl q443) dX6_init_14 dX6_init_17 dX6_init_18 (Nat.le_of_ble_eq_true rfl) ?_
  refine b_topm (fun M_5 eM_5 => ?_)
  replace h := h M_5 eM_5
  refine b_fR (ci := 6) (r := (RX6, TX6, 11)) (f := 7) (by decide) rfl (by decide) q444 (Or.inl rfl) rfl rfl rfl rfl h.1 dX6_init_21 ?_
  refine b_topm (fun M_6 eM_6 => ?_)
  replace h := h.2 M_6 eM_6
  exact b_vret rfl dX6_init_24 (hP _ h)
def v_X7_init (r0 : Nat × Nat) (r1 : Nat × Nat) (r2 : Nat × Nat) (M : Mem) (Q : Mem → Prop) : Prop := kt r0.1 = 7 ∧ (∀ M_1 : Mem, M_1 = sR M r0.1 r0.2 8 r1 → (¬ r0.1 = 0 ∧ (v_X4_init r0 r1 2 r2 0 M_1 (fun M_2 => kt r0.1 = 7 ∧ (kt r0.1 = 7 ∧ (∀ M_4 : Mem, M_4 = sI M_2 r0.1 r0.2 7 (M_2.1 r0.1 r0.2 2) → (Q M_4)))))))
set_option maxHeartbeats 4000000 in
theorem sv_X7_init {d : Nat} {M : Mem} {P : Option AV → Mem → Prop} {Q : Mem → Prop} {r0 : Nat × Nat} {r1 : Nat × Nat} {r2 : Nat × Nat} (hP : ∀ M, Q M → P none M) (h : v_X7_init r0 r1 r2 M Q) : cq (d + 3) mX7_init [.inr r0, .inr r1, .inr r2] M P := by
  refine cq_of (by decide) (Nat.le_of_ble_eq_true rfl) ?_
  show wq (d + 3) mX7_init 0 [(0, .inr r0), (1, .inr r1), (2, .inr r2)] [] M P
  unfold v_X7_init at h
  refine b_aload_n 0 dX7_init_0 rfl rfl ?_
  refine b_aload_n 1 dX7_init_1 rfl rfl ?_
  refine b_fR (ci := 7) (r := (RX7, TX7, 9)) (f := 8) (by decide) rfl (by decide) q476 (Or.inl rfl) rfl rfl rfl rfl h.1 dX7_init_2 ?_
  refine b_topm (fun M_1 eM_1 => ?_)
  replace h := h.2 M_1 eM_1
  refine b_aload_n 0 dX7_init_5 rfl rfl ?_
  refine b_aload_n 1 dX7_init_6 rfl rfl ?_
  refine b_iconst (v := 2) dX7_init_7 (by decide) ?_
  refine b_aload_n 2 dX7_init_8 rfl rfl ?_
  refine b_iconst (v := 0) dX7_init_9 (by decide) ?_
  refine b_ci (y := mX4_init) (k := r0.1) (i := r0.2) (as := [.inr r1, .inl 2, .inr r2, .inl 0]) (st := []) (n := 4) h.1 rfl rfl (Or.inl q473) q356 q80 q357 zmh_X4_init rfl (Nat.le_of_ble_eq_true rfl) (Nat.le_of_ble_eq_true rfl) dX7_init_10 (sv_X4_init (fun M_2 h => ?_) h.2)
  show wq (d + 3) mX7_init 13 [(0, .inr r0), (1, .inr r1), (2, .inr r2)] [] M_2 P
  refine b_aload_n 0 dX7_init_13 rfl rfl ?_
  refine b_aload_n 0 dX7_init_14 rfl rfl ?_
  refine b_gI (ci := 7) (r := (RX7, TX7, 9)) (f := 2) (by decide) rfl (by decide) rfl (Or.inl q375) (Or.inr q376) h.1 dX7_init_15 ?_
  replace h := h.2
  refine b_pI (ci := 7) (r := (RX7, TX7, 9)) (f := 7) (by decide) rfl (by decide) (Or.inl q474) (Or.inl rfl) rfl (Or.inl rfl) h.1 dX7_init_18 ?_
  refine b_topm (fun M_4 eM_4 => ?_)
  replace h := h.2 M_4 eM_4
  exact b_vret rfl dX7_init_21 (hP _ h)
def v_X8_init (r0 : Nat × Nat) (r1 : Nat × Nat) (r2 : Nat × Nat) (M : Mem) (Q : Mem → Prop) : Prop := kt r0.1 = 8 ∧ (∀ M_1 : Mem, M_1 = sR M r0.1 r0.2 7 r1 → (¬ r0.1 = 0 ∧ (v_X4_init r0 r1 3 r2 0 M_1 (fun M_2 => Q M_2))))
set_option maxHeartbeats 4000000 in
theorem sv_X8_init {d : Nat} {M : Mem} {P : Option AV → Mem → Prop} {Q : Mem → Prop} {r0 : Nat × Nat} {r1 : Nat × Nat} {r2 : Nat × Nat} (hP : ∀ M, Q M → P none M) (h : v_X8_init r0 r1 r2 M Q) : cq (d + 3) mX8_init [.inr r0, .inr r1, .inr r2] M P := by
  refine cq_of (by decide) (Nat.le_of_ble_eq_true rfl) ?_
  show wq (d + 3) mX8_init 0 [(0, .inr r0), (1, .inr r1), (2, .inr r2)] [] M P
  unfold v_X8_init at h
  refine b_aload_n 0 dX8_init_0 rfl rfl ?_
  refine b_aload_n 1 dX8_init_1 rfl rfl ?_
  refine b_fR (ci := 8) (r := (RX8, TX8, 8)) (f := 7) (by decide) rfl (by decide) q495 (Or.inl rfl) rfl rfl rfl rfl h.1 dX8_init_2 ?_
  refine b_topm (fun M_1 eM_1 => ?_)
  replace h := h.2 M_1 eM_1
  refine b_aload_n 0 dX8_init_5 rfl rfl ?_
  refine b_aload_n 1 dX8_init_6 rfl rfl ?_
  refine b_iconst (v := 3) dX8_init_7 (by decide) ?_
  refine b_aload_n 2 dX8_init_8 rfl rfl ?_
  refine b_iconst (v := 0) dX8_init_9 (by decide) ?_
  refine b_ci (y := mX4_init) (k := r0.1) (i := r0.2) (as := [.inr r1, .inl 3, .inr r2, .inl 0]) (st := []) (n := 4) h.1 rfl rfl (Or.inl q494) q356 q80 q357 zmh_X4_init rfl (Nat.le_of_ble_eq_true rfl) (Nat.le_of_ble_eq_true rfl) dX8_init_10 (sv_X4_init (fun M_2 h => ?_) h.2)
  show wq (d + 3) mX8_init 13 [(0, .inr r0), (1, .inr r1), (2, .inr r2)] [] M_2 P
  exact b_vret rfl dX8_init_13 (hP _ h)
def v_X9_init (r0 : Nat × Nat) (r1 : Nat × Nat) (r2 : Nat × Nat) (x3 : Int32) (M : Mem) (Q : Mem → Prop) : Prop := kt r0.1 = 9 ∧ (∀ M_1 : Mem, M_1 = sR M r0.1 r0.2 7 r1 → (¬ r0.1 = 0 ∧ (v_X4_init r0 r1 4 r2 x3 M_1 (fun M_2 => Q M_2))))
set_option maxHeartbeats 4000000 in
theorem sv_X9_init {d : Nat} {M : Mem} {P : Option AV → Mem → Prop} {Q : Mem → Prop} {r0 : Nat × Nat} {r1 : Nat × Nat} {r2 : Nat × Nat} {x3 : Int32} (hP : ∀ M, Q M → P none M) (h : v_X9_init r0 r1 r2 x3 M Q) : cq (d + 3) mX9_init [.inr r0, .inr r1, .inr r2, .inl x3] M P := by
  refine cq_of (by decide) (Nat.le_of_ble_eq_true rfl) ?_
  show wq (d + 3) mX9_init 0 [(0, .inr r0), (1, .inr r1), (2, .inr r2), (3, .inl x3)] [] M P
  unfold v_X9_init at h
  refine b_aload_n 0 dX9_init_0 rfl rfl ?_
  refine b_aload_n 1 dX9_init_1 rfl rfl ?_
  refine b_fR (ci := 9) (r := (RX9, TX9, 8)) (f := 7) (by decide) rfl (by decide) q512 (Or.inl rfl) rfl rfl rfl rfl h.1 dX9_init_2 ?_
  refine b_topm (fun M_1 eM_1 => ?_)
  replace h := h.2 M_1 eM_1
  refine b_aload_n 0 dX9_init_5 rfl rfl ?_
  refine b_aload_n 1 dX9_init_6 rfl rfl ?_
  refine b_iconst (v := 4) dX9_init_7 (by decide) ?_
  refine b_aload_n 2 dX9_init_8 rfl rfl ?_
  refine b_iload_n 3 dX9_init_9 rfl rfl ?_
  refine b_ci (y := mX4_init) (k := r0.1) (i := r0.2) (as := [.inr r1, .inl 4, .inr r2, .inl x3]) (st := []) (n := 4) h.1 rfl rfl (Or.inl q511) q356 q80 q357 zmh_X4_init rfl (Nat.le_of_ble_eq_true rfl) (Nat.le_of_ble_eq_true rfl) dX9_init_10 (sv_X4_init (fun M_2 h => ?_) h.2)
  show wq (d + 3) mX9_init 13 [(0, .inr r0), (1, .inr r1), (2, .inr r2), (3, .inl x3)] [] M_2 P
  exact b_vret rfl dX9_init_13 (hP _ h)
def v_X0_made (r0 : Nat × Nat) (x1 : Int32) (r2 : Nat × Nat) (x3 : Int32) (M : Mem) (Q : Nat × Nat → Mem → Prop) : Prop := (x1 = 0 → (rom M 12 ∧ (∃ i_1 : Nat, M.2.2.1 10 i_1 = 0 ∧ ∀ M_2 : Mem, M_2 = sN M 10 i_1 0 12 → (¬ 10 = 0 ∧ (v_X5_init (10, i_1) r0 r2 x3 M_2 (fun M_3 => Q (10, i_1) M_3)))))) ∧ (x1 = 1 → (rom M 11 ∧ (∃ i_5 : Nat, M.2.2.1 11 i_5 = 0 ∧ ∀ M_6 : Mem, M_6 = sN M 11 i_5 0 11 → (¬ 11 = 0 ∧ (v_X6_init (11, i_5) r0 r2 M_6 (fun M_7 => Q (11, i_5) M_7)))))) ∧ (x1 = 2 → (rom M 9 ∧ (∃ i_9 : Nat, M.2.2.1 12 i_9 = 0 ∧ ∀ M_10 : Mem, M_10 = sN M 12 i_9 0 9 → (¬ 12 = 0 ∧ (v_X7_init (12, i_9) r0 r2 M_10 (fun M_11 => Q (12, i_9) M_11)))))) ∧ (x1 = 3 → (rom M 8 ∧ (∃ i_13 : Nat, M.2.2.1 13 i_13 = 0 ∧ ∀ M_14 : Mem, M_14 = sN M 13 i_13 0 8 → (¬ 13 = 0 ∧ (v_X8_init (13, i_13) r0 r2 M_14 (fun M_15 => Q (13, i_13) M_15)))))) ∧ (x1 = 4 → (rom M 8 ∧ (∃ i_17 : Nat, M.2.2.1 14 i_17 = 0 ∧ ∀ M_18 : Mem, M_18 = sN M 14 i_17 0 8 → (¬ 14 = 0 ∧ (v_X9_init (14, i_17) r0 r2 x3 M_18 (fun M_19 => Q (14, i_17) M_19)))))) ∧ (x1 = 5 → (rom M 8 ∧ (∃ i_21 : Nat, M.2.2.1 15 i_21 = 0 ∧ ∀ M_22 : Mem, M_22 = sN M 15 i_21 0 8 → (¬ 15 = 0 ∧ (v_X10_init (15, i_21) r0 r2 M_22 (fun M_23 => Q (15, i_21) M_23)))))) ∧ (x1 = 6 → (rom M 8 ∧ (∃ i_25 : Nat, M.2.2.1 16 i_25 = 0 ∧ ∀ M_26 : Mem, M_26 = sN M 16 i_25 0 8 → (¬ 16 = 0 ∧ (v_X11_init (16, i_25) r0 r2 x3 M_26 (fun M_27 => Q (16, i_25) M_27)))))) ∧ (x1 = 7 → (rom M 11 ∧ (∃ i_29 : Nat, M.2.2.1 17 i_29 = 0 ∧ ∀ M_30 : Mem, M_30 = sN M 17 i_29 0 11 → (¬ 17 = 0 ∧ (v_X12_init (17, i_29) r0 r2 M_30 (fun M_31 => Q (17, i_29) M_31)))))) ∧ (x1 = 8 → (rom M 8 ∧ (∃ i_33 : Nat, M.2.2.1 18 i_33 = 0 ∧ ∀ M_34 : Mem, M_34 = sN M 18 i_33 0 8 → (¬ 18 = 0 ∧ (v_X13_init (18, i_33) r0 M_34 (fun M_35 => Q (18, i_33) M_35)))))) ∧ (¬ x1 = 0 → ¬ x1 = 1 → ¬ x1 = 2 → ¬ x1 = 3 → ¬ x1 = 4 → ¬ x1 = 5 → ¬ x1 = 6 → ¬ x1 = 7 → ¬ x1 = 8 → (rom M 8 ∧ (∃ i_37 : Nat, M.2.2.1 19 i_37 = 0 ∧ ∀ M_38 : Mem, M_38 = sN M 19 i_37 0 8 → (¬ 19 = 0 ∧ (v_X14_init (19, i_37) r0 r2 x3 M_38 (fun M_39 => Q (19, i_37) M_39))))))
set_option maxHeartbeats 4000000 in
theorem sv_X0_made {d : Nat} {M : Mem} {P : Option AV → Mem → Prop} {Q : Nat × Nat → Mem → Prop} {r0 : Nat × Nat} {x1 : Int32} {r2 : Nat × Nat} {x3 : Int32} (hP : ∀ r M, Q r M → P (some (.inr r)) M) (h : v_X0_made r0 x1 r2 x3 M Q) : cq (d + 6) mX0_made [.inr r0, .inl x1, .inr r2, .inl x3] M P := by
  refine cq_of (by decide) (Nat.le_of_ble_eq_true rfl) ?_
  show wq (d + 6) mX0_made 0 [(0, .inr r0), (1, .inl x1), (2, .inr r2), (3, .inl x3)] [] M P
  unfold v_X0_made at h
  refine b_iload_n 1 dX0_made_0 rfl rfl ?_
  refine b_tsw (fun j => ([52, 63, 73, 83, 93, 104, 114, 125, 135] : List Nat).getD j 0) (tD := 144) (n := 9) dX0_made_1 rfl (by decide) (by decide) (by decide) (fun j hj e => ?_) (fun e => ?_)
  · match j, hj, e with
    | 0, _, e =>
      replace h := h.1 e
      show wq (d + 6) mX0_made 52 _ _ _ _
      obtain ⟨h1, i_1, ei_1, h⟩ := h
      refine b_nwo (k := 10) (i := i_1) (r := (RX5, TX5, 12)) (by decide) rfl h1 ei_1 q350 q351 q81 dX0_made_52 ?_
      refine b_topm (fun M_2 eM_2 => ?_)
      replace h := h M_2 eM_2
      refine b_dup dX0_made_55 ?_
      refine b_aload_n 0 dX0_made_56 rfl rfl ?_
      refine b_aload_n 2 dX0_made_57 rfl rfl ?_
      refine b_iload_n 3 dX0_made_58 rfl rfl ?_
      refine b_ci (y := mX5_init) (k := 10) (i := i_1) (as := [.inr r0, .inr r2, .inl x3]) (st := [.inr (10, i_1)]) (n := 3) h.1 rfl rfl (Or.inl q352) q353 q81 q354 zmh_X5_init rfl (Nat.le_of_ble_eq_true rfl) (Nat.le_of_ble_eq_true rfl) dX0_made_59 (sv_X5_init (fun M_3 h => ?_) h.2)
      show wq (d + 6) mX0_made 62 [(0, .inr r0), (1, .inl x1), (2, .inr r2), (3, .inl x3)] [.inr (10, i_1)] M_3 P
      exact b_aret rfl (Or.inl ⟨_, rfl⟩) dX0_made_62 (hP _ _ h)
    | 1, _, e =>
      replace h := h.2.1 e
      show wq (d + 6) mX0_made 63 _ _ _ _
      obtain ⟨h1, i_5, ei_5, h⟩ := h
      refine b_nwo (k := 11) (i := i_5) (r := (RX6, TX6, 11)) (by decide) rfl h1 ei_5 q436 q437 q82 dX0_made_63 ?_
      refine b_topm (fun M_6 eM_6 => ?_)
      replace h := h M_6 eM_6
      refine b_dup dX0_made_66 ?_
      refine b_aload_n 0 dX0_made_67 rfl rfl ?_
      refine b_aload_n 2 dX0_made_68 rfl rfl ?_
      refine b_ci (y := mX6_init) (k := 11) (i := i_5) (as := [.inr r0, .inr r2]) (st := [.inr (11, i_5)]) (n := 2) h.1 rfl rfl (Or.inl q438) q439 q82 q440 zmh_X6_init rfl (Nat.le_of_ble_eq_true rfl) (Nat.le_of_ble_eq_true rfl) dX0_made_69 (sv_X6_init (fun M_7 h => ?_) h.2)
      show wq (d + 6) mX0_made 72 [(0, .inr r0), (1, .inl x1), (2, .inr r2), (3, .inl x3)] [.inr (11, i_5)] M_7 P
      exact b_aret rfl (Or.inl ⟨_, rfl⟩) dX0_made_72 (hP _ _ h)
    | 2, _, e =>
      replace h := h.2.2.1 e
      show wq (d + 6) mX0_made 73 _ _ _ _
      obtain ⟨h1, i_9, ei_9, h⟩ := h
      refine b_nwo (k := 12) (i := i_9) (r := (RX7, TX7, 9)) (by decide) rfl h1 ei_9 q468 q469 q83 dX0_made_73 ?_
      refine b_topm (fun M_10 eM_10 => ?_)
      replace h := h M_10 eM_10
      refine b_dup dX0_made_76 ?_
      refine b_aload_n 0 dX0_made_77 rfl rfl ?_
      refine b_aload_n 2 dX0_made_78 rfl rfl ?_
      refine b_ci (y := mX7_init) (k := 12) (i := i_9) (as := [.inr r0, .inr r2]) (st := [.inr (12, i_9)]) (n := 2) h.1 rfl rfl (Or.inl q470) q471 q83 q472 zmh_X7_init rfl (Nat.le_of_ble_eq_true rfl) (Nat.le_of_ble_eq_true rfl) dX0_made_79 (sv_X7_init (fun M_11 h => ?_) h.2)
      show wq (d + 6) mX0_made 82 [(0, .inr r0), (1, .inl x1), (2, .inr r2), (3, .inl x3)] [.inr (12, i_9)] M_11 P
      exact b_aret rfl (Or.inl ⟨_, rfl⟩) dX0_made_82 (hP _ _ h)
    | 3, _, e =>
      replace h := h.2.2.2.1 e
      show wq (d + 6) mX0_made 83 _ _ _ _
      obtain ⟨h1, i_13, ei_13, h⟩ := h
      refine b_nwo (k := 13) (i := i_13) (r := (RX8, TX8, 8)) (by decide) rfl h1 ei_13 q489 q490 q84 dX0_made_83 ?_
      refine b_topm (fun M_14 eM_14 => ?_)
      replace h := h M_14 eM_14
      refine b_dup dX0_made_86 ?_
      refine b_aload_n 0 dX0_made_87 rfl rfl ?_
      refine b_aload_n 2 dX0_made_88 rfl rfl ?_
      refine b_ci (y := mX8_init) (k := 13) (i := i_13) (as := [.inr r0, .inr r2]) (st := [.inr (13, i_13)]) (n := 2) h.1 rfl rfl (Or.inl q491) q492 q84 q493 zmh_X8_init rfl (Nat.le_of_ble_eq_true rfl) (Nat.le_of_ble_eq_true rfl) dX0_made_89 (sv_X8_init (fun M_15 h => ?_) h.2)
      show wq (d + 6) mX0_made 92 [(0, .inr r0), (1, .inl x1), (2, .inr r2), (3, .inl x3)] [.inr (13, i_13)] M_15 P
      exact b_aret rfl (Or.inl ⟨_, rfl⟩) dX0_made_92 (hP _ _ h)
    | 4, _, e =>
      replace h := h.2.2.2.2.1 e
      show wq (d + 6) mX0_made 93 _ _ _ _
      obtain ⟨h1, i_17, ei_17, h⟩ := h
      refine b_nwo (k := 14) (i := i_17) (r := (RX9, TX9, 8)) (by decide) rfl h1 ei_17 q506 q507 q85 dX0_made_93 ?_
      refine b_topm (fun M_18 eM_18 => ?_)
      replace h := h M_18 eM_18
      refine b_dup dX0_made_96 ?_
      refine b_aload_n 0 dX0_made_97 rfl rfl ?_
      refine b_aload_n 2 dX0_made_98 rfl rfl ?_
      refine b_iload_n 3 dX0_made_99 rfl rfl ?_
      refine b_ci (y := mX9_init) (k := 14) (i := i_17) (as := [.inr r0, .inr r2, .inl x3]) (st := [.inr (14, i_17)]) (n := 3) h.1 rfl rfl (Or.inl q508) q509 q85 q510 zmh_X9_init rfl (Nat.le_of_ble_eq_true rfl) (Nat.le_of_ble_eq_true rfl) dX0_made_100 (sv_X9_init (fun M_19 h => ?_) h.2)
      show wq (d + 6) mX0_made 103 [(0, .inr r0), (1, .inl x1), (2, .inr r2), (3, .inl x3)] [.inr (14, i_17)] M_19 P
      exact b_aret rfl (Or.inl ⟨_, rfl⟩) dX0_made_103 (hP _ _ h)
    | 5, _, e =>
      replace h := h.2.2.2.2.2.1 e
      show wq (d + 6) mX0_made 104 _ _ _ _
      obtain ⟨h1, i_21, ei_21, h⟩ := h
      refine b_nwo (k := 15) (i := i_21) (r := (RX10, TX10, 8)) (by decide) rfl h1 ei_21 q523 q524 q86 dX0_made_104 ?_
      refine b_topm (fun M_22 eM_22 => ?_)
      replace h := h M_22 eM_22
      refine b_dup dX0_made_107 ?_
      refine b_aload_n 0 dX0_made_108 rfl rfl ?_
      refine b_aload_n 2 dX0_made_109 rfl rfl ?_
      refine b_ci (y := mX10_init) (k := 15) (i := i_21) (as := [.inr r0, .inr r2]) (st := [.inr (15, i_21)]) (n := 2) h.1 rfl rfl (Or.inl q525) q526 q86 q527 zmh_X10_init rfl (Nat.le_of_ble_eq_true rfl) (Nat.le_of_ble_eq_true rfl) dX0_made_110 (sv_X10_init (fun M_23 h => ?_) h.2)
      show wq (d + 6) mX0_made 113 [(0, .inr r0), (1, .inl x1), (2, .inr r2), (3, .inl x3)] [.inr (15, i_21)] M_23 P
      exact b_aret rfl (Or.inl ⟨_, rfl⟩) dX0_made_113 (hP _ _ h)
    | 6, _, e =>
      replace h := h.2.2.2.2.2.2.1 e
      show wq (d + 6) mX0_made 114 _ _ _ _
      obtain ⟨h1, i_25, ei_25, h⟩ := h
      refine b_nwo (k := 16) (i := i_25) (r := (RX11, TX11, 8)) (by decide) rfl h1 ei_25 q540 q541 q87 dX0_made_114 ?_
      refine b_topm (fun M_26 eM_26 => ?_)
      replace h := h M_26 eM_26
      refine b_dup dX0_made_117 ?_
      refine b_aload_n 0 dX0_made_118 rfl rfl ?_
      refine b_aload_n 2 dX0_made_119 rfl rfl ?_
      refine b_iload_n 3 dX0_made_120 rfl rfl ?_
      refine b_ci (y := mX11_init) (k := 16) (i := i_25) (as := [.inr r0, .inr r2, .inl x3]) (st := [.inr (16, i_25)]) (n := 3) h.1 rfl rfl (Or.inl q542) q543 q87 q544 zmh_X11_init rfl (Nat.le_of_ble_eq_true rfl) (Nat.le_of_ble_eq_true rfl) dX0_made_121 (sv_X11_init (fun M_27 h => ?_) h.2)
      show wq (d + 6) mX0_made 124 [(0, .inr r0), (1, .inl x1), (2, .inr r2), (3, .inl x3)] [.inr (16, i_25)] M_27 P
      exact b_aret rfl (Or.inl ⟨_, rfl⟩) dX0_made_124 (hP _ _ h)
    | 7, _, e =>
      replace h := h.2.2.2.2.2.2.2.1 e
      show wq (d + 6) mX0_made 125 _ _ _ _
      obtain ⟨h1, i_29, ei_29, h⟩ := h
      refine b_nwo (k := 17) (i := i_29) (r := (RX12, TX12, 11)) (by decide) rfl h1 ei_29 q557 q558 q88 dX0_made_125 ?_
      refine b_topm (fun M_30 eM_30 => ?_)
      replace h := h M_30 eM_30
      refine b_dup dX0_made_128 ?_
      refine b_aload_n 0 dX0_made_129 rfl rfl ?_
      refine b_aload_n 2 dX0_made_130 rfl rfl ?_
      refine b_ci (y := mX12_init) (k := 17) (i := i_29) (as := [.inr r0, .inr r2]) (st := [.inr (17, i_29)]) (n := 2) h.1 rfl rfl (Or.inl q559) q560 q88 q561 zmh_X12_init rfl (Nat.le_of_ble_eq_true rfl) (Nat.le_of_ble_eq_true rfl) dX0_made_131 (sv_X12_init (fun M_31 h => ?_) h.2)
      show wq (d + 6) mX0_made 134 [(0, .inr r0), (1, .inl x1), (2, .inr r2), (3, .inl x3)] [.inr (17, i_29)] M_31 P
      exact b_aret rfl (Or.inl ⟨_, rfl⟩) dX0_made_134 (hP _ _ h)
    | 8, _, e =>
      replace h := h.2.2.2.2.2.2.2.2.1 e
      show wq (d + 6) mX0_made 135 _ _ _ _
      obtain ⟨h1, i_33, ei_33, h⟩ := h
      refine b_nwo (k := 18) (i := i_33) (r := (RX13, TX13, 8)) (by decide) rfl h1 ei_33 q586 q587 q89 dX0_made_135 ?_
      refine b_topm (fun M_34 eM_34 => ?_)
      replace h := h M_34 eM_34
      refine b_dup dX0_made_138 ?_
      refine b_aload_n 0 dX0_made_139 rfl rfl ?_
      refine b_ci (y := mX13_init) (k := 18) (i := i_33) (as := [.inr r0]) (st := [.inr (18, i_33)]) (n := 1) h.1 rfl rfl (Or.inl q588) q589 q89 q590 zmh_X13_init rfl (Nat.le_of_ble_eq_true rfl) (Nat.le_of_ble_eq_true rfl) dX0_made_140 (sv_X13_init (fun M_35 h => ?_) h.2)
      show wq (d + 6) mX0_made 143 [(0, .inr r0), (1, .inl x1), (2, .inr r2), (3, .inl x3)] [.inr (18, i_33)] M_35 P
      exact b_aret rfl (Or.inl ⟨_, rfl⟩) dX0_made_143 (hP _ _ h)
    | j + 9, hj, _ => exact absurd hj (by omega)
  · replace h := h.2.2.2.2.2.2.2.2.2 (e 0 (by decide)) (e 1 (by decide)) (e 2 (by decide)) (e 3 (by decide)) (e 4 (by decide)) (e 5 (by decide)) (e 6 (by decide)) (e 7 (by decide)) (e 8 (by decide))
    obtain ⟨h1, i_37, ei_37, h⟩ := h
    refine b_nwo (k := 19) (i := i_37) (r := (RX14, TX14, 8)) (by decide) rfl h1 ei_37 q603 q604 q90 dX0_made_144 ?_
    refine b_topm (fun M_38 eM_38 => ?_)
    replace h := h M_38 eM_38
    refine b_dup dX0_made_147 ?_
    refine b_aload_n 0 dX0_made_148 rfl rfl ?_
    refine b_aload_n 2 dX0_made_149 rfl rfl ?_
    refine b_iload_n 3 dX0_made_150 rfl rfl ?_
    refine b_ci (y := mX14_init) (k := 19) (i := i_37) (as := [.inr r0, .inr r2, .inl x3]) (st := [.inr (19, i_37)]) (n := 3) h.1 rfl rfl (Or.inl q605) q606 q90 q607 zmh_X14_init rfl (Nat.le_of_ble_eq_true rfl) (Nat.le_of_ble_eq_true rfl) dX0_made_151 (sv_X14_init (fun M_39 h => ?_) h.2)
    show wq (d + 6) mX0_made 154 [(0, .inr r0), (1, .inl x1), (2, .inr r2), (3, .inl x3)] [.inr (19, i_37)] M_39 P
    exact b_aret rfl (Or.inl ⟨_, rfl⟩) dX0_made_154 (hP _ _ h)
def v_X0_guard_77 (r0 : Nat × Nat) (x1 : Int32) (x2 : Int32) (x3 : Int32) (x4 : Int32) (x5 : Int32) (s0 : Int32) (s1 : Int32) (s2 : Int32) (M : Mem) (Q : Int32 → Mem → Prop) : Prop := (v_X0_in s2 s1 s0 M (fun r_2 M_1 => ((¬ r_2 = 0) → (kt r0.1 = 0 ∧ (∀ e_3 : Nat × Nat, e_3 = M_1.2.1 r0.1 r0.2 5 → (lk e_3.1 ∧ (((¬ (M_1.1 e_3.1 e_3.2 0) = 24) → (kt r0.1 = 0 ∧ (∀ e_4 : Nat × Nat, e_4 = M_1.2.1 r0.1 r0.2 5 → (¬ (3 : Int32) < 0 ∧ (3 : Int32).toNatClampNeg ≤ 100000 ∧ rom M_1 (3 : Int32).toNatClampNeg ∧ (∀ i_5 : Nat, M_1.2.2.1 43 i_5 = 0 → ∀ M_6 : Mem, M_6 = sN M_1 43 i_5 (3 : Int32).toNatClampNeg (3 : Int32).toNatClampNeg → ((arI M_6 (43, i_5) 100 0 ∧ stk 43 = false) ∧ (∀ M_7 : Mem, M_7 = sI M_6 43 i_5 (0 : Int32).toNatClampNeg x2 → ((arI M_7 (43, i_5) 100 1 ∧ stk 43 = false) ∧ (∀ M_8 : Mem, M_8 = sI M_7 43 i_5 (1 : Int32).toNatClampNeg x3 → ((arI M_8 (43, i_5) 100 2 ∧ stk 43 = false) ∧ (∀ M_9 : Mem, M_9 = sI M_8 43 i_5 (2 : Int32).toNatClampNeg x4 → (kt r0.1 = 0 ∧ (v_X0_made r0 x1 (43, i_5) x5 M_9 (fun e_11 M_10 => lk e_4.1 ∧ ekk e_11.1 = true ∧ M_10.1 e_4.1 e_4.2 0 < 10000 ∧ rom M_10 10 ∧ (∀ M_12 : Mem, M_12 = lAdd M_10 e_4 e_11 → (kt r0.1 = 0 ∧ (∀ e_13 : Nat × Nat, e_13 = M_12.2.1 r0.1 r0.2 5 → (lk e_13.1 ∧ (Q ((M_12.1 e_13.1 e_13.2 0) - 1) M_12))))))))))))))))))) ∧ (((M_1.1 e_3.1 e_3.2 0) = 24) → (Q (-3) M_1))))))) ∧ ((r_2 = 0) → (Q (-2) M_1))))
set_option maxHeartbeats 4000000 in
theorem sv_X0_guard_77 {d : Nat} {P : Option AV → Mem → Prop} {Q : Int32 → Mem → Prop} (hP : ∀ r M, Q r M → P (some (.inl r)) M) (r0 : Nat × Nat) (x1 : Int32) (x2 : Int32) (x3 : Int32) (x4 : Int32) (x5 : Int32) (s0 : Int32) (s1 : Int32) (s2 : Int32) (M : Mem) (h : v_X0_guard_77 r0 x1 x2 x3 x4 x5 s0 s1 s2 M Q) : wq (d + 9) mX0_guard 77 [(0, .inr r0), (1, .inl x1), (2, .inl x2), (3, .inl x3), (4, .inl x4), (5, .inl x5)] [.inl s0, .inl s1, .inl s2] M P := by
  unfold v_X0_guard_77 at h
  refine b_cs (y := mX0_in) (as := [.inl s2, .inl s1, .inl s0]) (st := []) (n := 3) (Or.inl q198) q199 q69 q200 zmh_X0_in rfl (Nat.le_of_ble_eq_true rfl) (Nat.le_of_ble_eq_true rfl) dX0_guard_77 (sv_X0_in (fun r_2 M_1 h => ?_) h)
  show wq (d + 9) mX0_guard 80 [(0, .inr r0), (1, .inl x1), (2, .inl x2), (3, .inl x3), (4, .inl x4), (5, .inl x5)] [.inl r_2] M_1 P
  refine b_if_ne (tgt := 86) dX0_guard_80 (by decide) (fun c_15 => ?_) (fun c_15 => ?_)
  · replace h := h.1 c_15
    refine b_aload_n 0 dX0_guard_86 rfl rfl ?_
    refine b_gR (ci := 0) (r := (RX0, TX0, 14)) (f := 5) (by decide) rfl (by decide) rfl (Or.inl q152) (Or.inl rfl) h.1 dX0_guard_87 ?_
    refine b_topr (fun e_3 ee_3 => ?_)
    replace h := h.2 e_3 ee_3
    refine b_lsize (st := []) h.1 (Or.inl q201) (Nat.le_of_ble_eq_true rfl) dX0_guard_90 ?_
    replace h := h.2
    refine b_bipush (v := 24) dX0_guard_93 (by decide) ?_
    refine b_icmp_ne (tgt := 101) dX0_guard_95 (by decide) (fun c_14 => ?_) (fun c_14 => ?_)
    · replace h := h.1 c_14
      refine b_aload_n 0 dX0_guard_101 rfl rfl ?_
      refine b_gR (ci := 0) (r := (RX0, TX0, 14)) (f := 5) (by decide) rfl (by decide) rfl (Or.inl q152) (Or.inl rfl) h.1 dX0_guard_102 ?_
      refine b_topr (fun e_4 ee_4 => ?_)
      replace h := h.2 e_4 ee_4
      refine b_aload_n 0 dX0_guard_105 rfl rfl ?_
      refine b_iload_n 1 dX0_guard_106 rfl rfl ?_
      refine b_iconst (v := 3) dX0_guard_107 (by decide) ?_
      refine b_nwaD (k := 43) (by decide) (Or.inl rfl) rfl h.1 h.2.1 h.2.2.1 q435 dX0_guard_108 (fun i_5 ei_5 => ?_)
      refine b_topm (fun M_6 eM_6 => ?_)
      replace h := h.2.2.2 i_5 ei_5 M_6 eM_6
      refine b_dup dX0_guard_110 ?_
      refine b_iconst (v := 0) dX0_guard_111 (by decide) ?_
      refine b_iload_n 2 dX0_guard_112 rfl rfl ?_
      refine b_xiast h.1 dX0_guard_113 ?_
      refine b_topm (fun M_7 eM_7 => ?_)
      replace h := h.2 M_7 eM_7
      refine b_dup dX0_guard_114 ?_
      refine b_iconst (v := 1) dX0_guard_115 (by decide) ?_
      refine b_iload_n 3 dX0_guard_116 rfl rfl ?_
      refine b_xiast h.1 dX0_guard_117 ?_
      refine b_topm (fun M_8 eM_8 => ?_)
      replace h := h.2 M_8 eM_8
      refine b_dup dX0_guard_118 ?_
      refine b_iconst (v := 2) dX0_guard_119 (by decide) ?_
      refine b_iload 4 dX0_guard_120 rfl ?_
      refine b_xiast h.1 dX0_guard_122 ?_
      refine b_topm (fun M_9 eM_9 => ?_)
      replace h := h.2 M_9 eM_9
      refine b_iload 5 dX0_guard_123 rfl ?_
      refine b_cvo (y := mX0_made) (ci := 0) (r := (RX0, TX0, 14)) (e := r0) (as := [.inl x1, .inr (43, i_5), .inl x5]) (st := [.inr e_4]) (n := 3) rfl h.1 (Or.inl q346) qs4 q348 q69 q349 zmh_X0_made rfl (Nat.le_of_ble_eq_true rfl) (Nat.le_of_ble_eq_true rfl) dX0_guard_125 (sv_X0_made (fun e_11 M_10 h => ?_) h.2)
      show wq (d + 9) mX0_guard 128 [(0, .inr r0), (1, .inl x1), (2, .inl x2), (3, .inl x3), (4, .inl x4), (5, .inl x5)] [.inr e_11, .inr e_4] M_10 P
      refine b_ladd (st := []) h.1 h.2.1 h.2.2.1 h.2.2.2.1 (Or.inl q226) (Nat.le_of_ble_eq_true rfl) dX0_guard_128 ?_
      refine b_topm (fun M_12 eM_12 => ?_)
      replace h := h.2.2.2.2 M_12 eM_12
      refine b_pop dX0_guard_131 ?_
      refine b_aload_n 0 dX0_guard_132 rfl rfl ?_
      refine b_gR (ci := 0) (r := (RX0, TX0, 14)) (f := 5) (by decide) rfl (by decide) rfl (Or.inl q152) (Or.inl rfl) h.1 dX0_guard_133 ?_
      refine b_topr (fun e_13 ee_13 => ?_)
      replace h := h.2 e_13 ee_13
      refine b_lsize (st := []) h.1 (Or.inl q201) (Nat.le_of_ble_eq_true rfl) dX0_guard_136 ?_
      replace h := h.2
      refine b_iconst (v := 1) dX0_guard_139 (by decide) ?_
      refine b_isub dX0_guard_140 ?_
      exact b_iret rfl dX0_guard_141 (hP _ _ h)
    · replace h := h.2 c_14
      refine b_bipush (v := (-3)) dX0_guard_98 (by decide) ?_
      exact b_iret rfl dX0_guard_100 (hP _ _ h)
  · replace h := h.2 c_15
    refine b_bipush (v := (-2)) dX0_guard_83 (by decide) ?_
    exact b_iret rfl dX0_guard_85 (hP _ _ h)
def v_X0_guard_50 (r0 : Nat × Nat) (x1 : Int32) (x2 : Int32) (x3 : Int32) (x4 : Int32) (x5 : Int32) (s0 : Int32) (M : Mem) (Q : Int32 → Mem → Prop) : Prop := (v_X0_fits x1 x2 x3 x4 M (fun r_2 M_1 => ((r_2 = 0) → (Q (-2) M_1)) ∧ ((¬ r_2 = 0) → (((s0 = 0) → (v_X0_guard_77 r0 x1 x2 x3 x4 x5 0 0 x5 M_1 Q)) ∧ ((¬ s0 = 0) → (v_X0_guard_77 r0 x1 x2 x3 x4 x5 15 0 x5 M_1 Q))))))
set_option maxHeartbeats 4000000 in
theorem sv_X0_guard_50 {d : Nat} {P : Option AV → Mem → Prop} {Q : Int32 → Mem → Prop} (hP : ∀ r M, Q r M → P (some (.inl r)) M) (r0 : Nat × Nat) (x1 : Int32) (x2 : Int32) (x3 : Int32) (x4 : Int32) (x5 : Int32) (s0 : Int32) (M : Mem) (h : v_X0_guard_50 r0 x1 x2 x3 x4 x5 s0 M Q) : wq (d + 9) mX0_guard 50 [(0, .inr r0), (1, .inl x1), (2, .inl x2), (3, .inl x3), (4, .inl x4), (5, .inl x5)] [.inl s0] M P := by
  unfold v_X0_guard_50 at h
  refine b_istore (lv' := [(6, .inl s0), (0, .inr r0), (1, .inl x1), (2, .inl x2), (3, .inl x3), (4, .inl x4), (5, .inl x5)]) dX0_guard_50 (Nat.le_of_ble_eq_true rfl) rfl ?_
  refine b_iload_n 2 dX0_guard_52 rfl rfl ?_
  refine b_iload_n 3 dX0_guard_53 rfl rfl ?_
  refine b_iload_n 4 dX0_guard_54 rfl rfl ?_
  refine b_iload 5 dX0_guard_55 rfl ?_
  refine b_cs (y := mX0_fits) (as := [.inl x1, .inl x2, .inl x3, .inl x4]) (st := []) (n := 4) (Or.inl q343) q344 q69 q345 zmh_X0_fits rfl (Nat.le_of_ble_eq_true rfl) (Nat.le_of_ble_eq_true rfl) dX0_guard_57 (sv_X0_fits (fun r_2 M_1 h => ?_) h)
  show wq (d + 9) mX0_guard 60 [(6, .inl s0), (0, .inr r0), (1, .inl x1), (2, .inl x2), (3, .inl x3), (4, .inl x4), (5, .inl x5)] [.inl r_2] M_1 P
  refine b_if_eq (tgt := 83) dX0_guard_60 (by decide) (fun c_4 => ?_) (fun c_4 => ?_)
  · replace h := h.1 c_4
    refine b_bipush (v := (-2)) dX0_guard_83 (by decide) ?_
    exact b_iret rfl dX0_guard_85 (hP _ _ h)
  · replace h := h.2 c_4
    refine b_iload 6 dX0_guard_63 rfl ?_
    refine b_iconst (v := 0) dX0_guard_65 (by decide) ?_
    refine b_iload 0 dX0_guard_66 rfl ?_
    refine b_if_eq (tgt := 76) dX0_guard_68 (by decide) (fun c_3 => ?_) (fun c_3 => ?_)
    · replace h := h.1 c_3
      refine b_iconst (v := 0) dX0_guard_76 (by decide) ?_
      exact b_sub (by simp) (sv_X0_guard_77 hP r0 x1 x2 x3 x4 x5 0 0 x5 M_1 h)
    · replace h := h.2 c_3
      refine b_bipush (v := 15) dX0_guard_71 (by decide) ?_
      refine b_goto (tgt := 77) dX0_guard_73 (by decide) ?_
      exact b_sub (by simp) (sv_X0_guard_77 hP r0 x1 x2 x3 x4 x5 15 0 x5 M_1 h)
def v_X0_guard_24 (r0 : Nat × Nat) (x1 : Int32) (x2 : Int32) (x3 : Int32) (x4 : Int32) (x5 : Int32) (M : Mem) (Q : Int32 → Mem → Prop) : Prop := ((x1 = 0) → (v_X0_guard_50 r0 x1 x2 x3 x4 x5 1 M Q)) ∧ ((¬ x1 = 0) → (((x1 = 4) → (v_X0_guard_50 r0 x1 x2 x3 x4 x5 1 M Q)) ∧ ((¬ x1 = 4) → (((x1 = 6) → (v_X0_guard_50 r0 x1 x2 x3 x4 x5 1 M Q)) ∧ ((¬ x1 = 6) → (((¬ x1 = 9) → (v_X0_guard_50 r0 x1 x2 x3 x4 x5 0 M Q)) ∧ ((x1 = 9) → (v_X0_guard_50 r0 x1 x2 x3 x4 x5 1 M Q))))))))
set_option maxHeartbeats 4000000 in
theorem sv_X0_guard_24 {d : Nat} {P : Option AV → Mem → Prop} {Q : Int32 → Mem → Prop} (hP : ∀ r M, Q r M → P (some (.inl r)) M) (r0 : Nat × Nat) (x1 : Int32) (x2 : Int32) (x3 : Int32) (x4 : Int32) (x5 : Int32) (M : Mem) (h : v_X0_guard_24 r0 x1 x2 x3 x4 x5 M Q) : wq (d + 9) mX0_guard 24 [(0, .inr r0), (1, .inl x1), (2, .inl x2), (3, .inl x3), (4, .inl x4), (5, .inl x5)] [] M P := by
  unfold v_X0_guard_24 at h
  refine b_iload_n 1 dX0_guard_24 rfl rfl ?_
  refine b_if_eq (tgt := 45) dX0_guard_25 (by decide) (fun c_4 => ?_) (fun c_4 => ?_)
  · replace h := h.1 c_4
    refine b_iconst (v := 1) dX0_guard_45 (by decide) ?_
    refine b_goto (tgt := 50) dX0_guard_46 (by decide) ?_
    exact b_sub (by simp) (sv_X0_guard_50 hP r0 x1 x2 x3 x4 x5 1 M h)
  · replace h := h.2 c_4
    refine b_iload_n 1 dX0_guard_28 rfl rfl ?_
    refine b_iconst (v := 4) dX0_guard_29 (by decide) ?_
    refine b_icmp_eq (tgt := 45) dX0_guard_30 (by decide) (fun c_3 => ?_) (fun c_3 => ?_)
    · replace h := h.1 c_3
      refine b_iconst (v := 1) dX0_guard_45 (by decide) ?_
      refine b_goto (tgt := 50) dX0_guard_46 (by decide) ?_
      exact b_sub (by simp) (sv_X0_guard_50 hP r0 x1 x2 x3 x4 x5 1 M h)
    · replace h := h.2 c_3
      refine b_iload_n 1 dX0_guard_33 rfl rfl ?_
      refine b_bipush (v := 6) dX0_guard_34 (by decide) ?_
      refine b_icmp_eq (tgt := 45) dX0_guard_36 (by decide) (fun c_2 => ?_) (fun c_2 => ?_)
      · replace h := h.1 c_2
        refine b_iconst (v := 1) dX0_guard_45 (by decide) ?_
        refine b_goto (tgt := 50) dX0_guard_46 (by decide) ?_
        exact b_sub (by simp) (sv_X0_guard_50 hP r0 x1 x2 x3 x4 x5 1 M h)
      · replace h := h.2 c_2
        refine b_iload_n 1 dX0_guard_39 rfl rfl ?_
        refine b_bipush (v := 9) dX0_guard_40 (by decide) ?_
        refine b_icmp_ne (tgt := 49) dX0_guard_42 (by decide) (fun c_1 => ?_) (fun c_1 => ?_)
        · replace h := h.1 c_1
          refine b_iconst (v := 0) dX0_guard_49 (by decide) ?_
          exact b_sub (by simp) (sv_X0_guard_50 hP r0 x1 x2 x3 x4 x5 0 M h)
        · replace h := h.2 c_1
          refine b_iconst (v := 1) dX0_guard_45 (by decide) ?_
          refine b_goto (tgt := 50) dX0_guard_46 (by decide) ?_
          exact b_sub (by simp) (sv_X0_guard_50 hP r0 x1 x2 x3 x4 x5 1 M h)
def v_X0_guard (r0 : Nat × Nat) (x1 : Int32) (x2 : Int32) (x3 : Int32) (x4 : Int32) (x5 : Int32) (M : Mem) (Q : Int32 → Mem → Prop) : Prop := ((¬ x1 = 6) → (v_X0_guard_24 r0 x1 x2 x3 x4 x5 M Q)) ∧ ((x1 = 6) → (((¬ x2 = 1) → (v_X0_guard_24 r0 x1 x2 x3 x4 x5 M Q)) ∧ ((x2 = 1) → (kt r0.1 = 0 ∧ (∀ e_1 : Nat × Nat, e_1 = M.2.1 r0.1 r0.2 2 → ((v_X0_has e_1 x3 M (fun r_3 M_2 => ((¬ r_3 = 0) → (v_X0_guard_24 r0 x1 x2 x3 x4 x5 M_2 Q)) ∧ ((r_3 = 0) → (Q (-1) M_2))))))))))
set_option maxHeartbeats 4000000 in
theorem sv_X0_guard {d : Nat} {M : Mem} {P : Option AV → Mem → Prop} {Q : Int32 → Mem → Prop} {r0 : Nat × Nat} {x1 : Int32} {x2 : Int32} {x3 : Int32} {x4 : Int32} {x5 : Int32} (hP : ∀ r M, Q r M → P (some (.inl r)) M) (h : v_X0_guard r0 x1 x2 x3 x4 x5 M Q) : cq (d + 9) mX0_guard [.inr r0, .inl x1, .inl x2, .inl x3, .inl x4, .inl x5] M P := by
  refine cq_of (by decide) (Nat.le_of_ble_eq_true rfl) ?_
  show wq (d + 9) mX0_guard 0 [(0, .inr r0), (1, .inl x1), (2, .inl x2), (3, .inl x3), (4, .inl x4), (5, .inl x5)] [] M P
  unfold v_X0_guard at h
  refine b_iload_n 1 dX0_guard_0 rfl rfl ?_
  refine b_bipush (v := 6) dX0_guard_1 (by decide) ?_
  refine b_icmp_ne (tgt := 24) dX0_guard_3 (by decide) (fun c_6 => ?_) (fun c_6 => ?_)
  · replace h := h.1 c_6
    exact b_sub (by simp) (sv_X0_guard_24 hP r0 x1 x2 x3 x4 x5 M h)
  · replace h := h.2 c_6
    refine b_iload_n 2 dX0_guard_6 rfl rfl ?_
    refine b_iconst (v := 1) dX0_guard_7 (by decide) ?_
    refine b_icmp_ne (tgt := 24) dX0_guard_8 (by decide) (fun c_5 => ?_) (fun c_5 => ?_)
    · replace h := h.1 c_5
      exact b_sub (by simp) (sv_X0_guard_24 hP r0 x1 x2 x3 x4 x5 M h)
    · replace h := h.2 c_5
      refine b_aload_n 0 dX0_guard_11 rfl rfl ?_
      refine b_gR (ci := 0) (r := (RX0, TX0, 14)) (f := 2) (by decide) rfl (by decide) rfl (Or.inl q148) (Or.inl rfl) h.1 dX0_guard_12 ?_
      refine b_topr (fun e_1 ee_1 => ?_)
      replace h := h.2 e_1 ee_1
      refine b_iload_n 3 dX0_guard_15 rfl rfl ?_
      refine b_cs (y := mX0_has) (as := [.inr e_1, .inl x3]) (st := []) (n := 2) (Or.inl q332) q333 q69 q334 zmh_X0_has rfl (Nat.le_of_ble_eq_true rfl) (Nat.le_of_ble_eq_true rfl) dX0_guard_16 (sv_X0_has (fun r_3 M_2 h => ?_) h)
      show wq (d + 9) mX0_guard 19 [(0, .inr r0), (1, .inl x1), (2, .inl x2), (3, .inl x3), (4, .inl x4), (5, .inl x5)] [.inl r_3] M_2 P
      refine b_if_ne (tgt := 24) dX0_guard_19 (by decide) (fun c_4 => ?_) (fun c_4 => ?_)
      · replace h := h.1 c_4
        exact b_sub (by simp) (sv_X0_guard_24 hP r0 x1 x2 x3 x4 x5 M_2 h)
      · replace h := h.2 c_4
        refine b_iconst (v := (-1)) dX0_guard_22 (by decide) ?_
        exact b_iret rfl dX0_guard_23 (hP _ _ h)
