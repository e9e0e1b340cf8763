set_option maxRecDepth 100000
def v_X0_on_15 : Nat → Nat × Nat → Int32 → Int32 → Mem → (Int32 → Mem → Prop) → Prop
  | 0, _, _, _, _, _ => False
  | n + 1, r0, x1, x2, M, Q => kt r0.1 = 0 ∧ (∀ e_1 : Nat × Nat, e_1 = M.2.1 r0.1 r0.2 6 → (lk e_1.1 ∧ ((((M.1 e_1.1 e_1.2 0) ≤ x2) → (kt r0.1 = 0 ∧ (∀ e_2 : Nat × Nat, e_2 = M.2.1 r0.1 r0.2 6 → (lk e_2.1 ∧ (((¬ (M.1 e_2.1 e_2.2 0) = 5) → (kt r0.1 = 0 ∧ (∀ e_3 : Nat × Nat, e_3 = M.2.1 r0.1 r0.2 6 → (kt r0.1 = 0 ∧ (∀ e_4 : Nat × Nat, e_4 = M.2.1 r0.1 r0.2 5 → (lk e_4.1 ∧ (¬ x1 < 0 ∧ x1 < M.1 e_4.1 e_4.2 0) ∧ (∀ e_5 : Nat × Nat, e_5 = M.2.1 e_4.1 e_4.2 x1.toNatClampNeg → (gk e_5.1 ∧ (lk e_3.1 ∧ ekk e_5.1 = true ∧ M.1 e_3.1 e_3.2 0 < 10000 ∧ rom M 10 ∧ (∀ M_6 : Mem, M_6 = lAdd M e_3 e_5 → (kt r0.1 = 0 ∧ (∀ e_7 : Nat × Nat, e_7 = M_6.2.1 r0.1 r0.2 6 → (lk e_7.1 ∧ (Q (M_6.1 e_7.1 e_7.2 0) M_6)))))))))))))) ∧ (((M.1 e_2.1 e_2.2 0) = 5) → (Q (-3) M))))))) ∧ ((¬ (M.1 e_1.1 e_1.2 0) ≤ x2) → (kt r0.1 = 0 ∧ (∀ e_9 : Nat × Nat, e_9 = M.2.1 r0.1 r0.2 6 → (lk e_9.1 ∧ (¬ x2 < 0 ∧ x2 < M.1 e_9.1 e_9.2 0) ∧ (∀ e_10 : Nat × Nat, e_10 = M.2.1 e_9.1 e_9.2 x2.toNatClampNeg → (gk e_10.1 ∧ (gk e_10.1 ∧ (kt r0.1 = 0 ∧ (∀ e_11 : Nat × Nat, e_11 = M.2.1 r0.1 r0.2 5 → (lk e_11.1 ∧ (¬ x1 < 0 ∧ x1 < M.1 e_11.1 e_11.2 0) ∧ (∀ e_12 : Nat × Nat, e_12 = M.2.1 e_11.1 e_11.2 x1.toNatClampNeg → (gk e_12.1 ∧ (gk e_12.1 ∧ (((¬ (M.1 e_10.1 e_10.2 1) = (M.1 e_12.1 e_12.2 1)) → (∀ x_13 : Int32, x_13 = x2 + 1 → (v_X0_on_15 n r0 x1 x_13 M Q))) ∧ (((M.1 e_10.1 e_10.2 1) = (M.1 e_12.1 e_12.2 1)) → (Q (-2) M)))))))))))))))))))
set_option maxHeartbeats 4000000 in
theorem sv_X0_on_15 {d : Nat} {P : Option AV → Mem → Prop} {Q : Int32 → Mem → Prop} (hP : ∀ r M, Q r M → P (some (.inl r)) M) : ∀ (n : Nat) (r0 : Nat × Nat) (x1 : Int32) (x2 : Int32) (M : Mem), v_X0_on_15 n r0 x1 x2 M Q → wq (d + 9) mX0_on 15 [(0, .inr r0), (1, .inl x1), (2, .inl x2)] [] M P := by
  intro n
  induction n with
  | zero => intro r0 x1 x2 M h; exact False.elim h
  | succ n ih =>
    intro r0 x1 x2 M h
    rw [v_X0_on_15] at h
    refine b_iload_n 2 dX0_on_15 rfl rfl ?_
    refine b_aload_n 0 dX0_on_16 rfl rfl ?_
    refine b_gR (ci := 0) (r := (RX0, TX0, 14)) (f := 6) (by decide) rfl (by decide) rfl (Or.inl q153) (Or.inl rfl) h.1 dX0_on_17 ?_
    refine b_topr (fun e_1 ee_1 => ?_)
    replace h := h.2 e_1 ee_1
    refine b_lsize (st := [.inl x2]) h.1 (Or.inl q201) (Nat.le_of_ble_eq_true rfl) dX0_on_20 ?_
    replace h := h.2
    refine b_icmp_ge (tgt := 66) dX0_on_23 (by decide) (fun c_15 => ?_) (fun c_15 => ?_)
    · replace h := h.1 c_15
      refine b_aload_n 0 dX0_on_66 rfl rfl ?_
      refine b_gR (ci := 0) (r := (RX0, TX0, 14)) (f := 6) (by decide) rfl (by decide) rfl (Or.inl q153) (Or.inl rfl) h.1 dX0_on_67 ?_
      refine b_topr (fun e_2 ee_2 => ?_)
      replace h := h.2 e_2 ee_2
      refine b_lsize (st := []) h.1 (Or.inl q201) (Nat.le_of_ble_eq_true rfl) dX0_on_70 ?_
      replace h := h.2
      refine b_iconst (v := 5) dX0_on_73 (by decide) ?_
      refine b_icmp_ne (tgt := 80) dX0_on_74 (by decide) (fun c_8 => ?_) (fun c_8 => ?_)
      · replace h := h.1 c_8
        refine b_aload_n 0 dX0_on_80 rfl rfl ?_
        refine b_gR (ci := 0) (r := (RX0, TX0, 14)) (f := 6) (by decide) rfl (by decide) rfl (Or.inl q153) (Or.inl rfl) h.1 dX0_on_81 ?_
        refine b_topr (fun e_3 ee_3 => ?_)
        replace h := h.2 e_3 ee_3
        refine b_aload_n 0 dX0_on_84 rfl rfl ?_
        refine b_gR (ci := 0) (r := (RX0, TX0, 14)) (f := 5) (by decide) rfl (by decide) rfl (Or.inl q152) (Or.inl rfl) h.1 dX0_on_85 ?_
        refine b_topr (fun e_4 ee_4 => ?_)
        replace h := h.2 e_4 ee_4
        refine b_iload_n 1 dX0_on_88 rfl rfl ?_
        refine b_lget (st := [.inr e_3]) h.1 h.2.1 (Or.inl q624) (Nat.le_of_ble_eq_true rfl) dX0_on_89 ?_
        refine b_topr (fun e_5 ee_5 => ?_)
        replace h := h.2.2 e_5 ee_5
        refine b_ckg q638 h.1 dX0_on_92 ?_
        replace h := h.2
        refine b_ladd (st := []) h.1 h.2.1 h.2.2.1 h.2.2.2.1 (Or.inl q226) (Nat.le_of_ble_eq_true rfl) dX0_on_95 ?_
        refine b_topm (fun M_6 eM_6 => ?_)
        replace h := h.2.2.2.2 M_6 eM_6
        refine b_pop dX0_on_98 ?_
        refine b_aload_n 0 dX0_on_99 rfl rfl ?_
        refine b_gR (ci := 0) (r := (RX0, TX0, 14)) (f := 6) (by decide) rfl (by decide) rfl (Or.inl q153) (Or.inl rfl) h.1 dX0_on_100 ?_
        refine b_topr (fun e_7 ee_7 => ?_)
        replace h := h.2 e_7 ee_7
        refine b_lsize (st := []) h.1 (Or.inl q201) (Nat.le_of_ble_eq_true rfl) dX0_on_103 ?_
        replace h := h.2
        exact b_iret rfl dX0_on_106 (hP _ _ h)
      · replace h := h.2 c_8
        refine b_bipush (v := (-3)) dX0_on_77 (by decide) ?_
        exact b_iret rfl dX0_on_79 (hP _ _ h)
    · replace h := h.2 c_15
      refine b_aload_n 0 dX0_on_26 rfl rfl ?_
      refine b_gR (ci := 0) (r := (RX0, TX0, 14)) (f := 6) (by decide) rfl (by decide) rfl (Or.inl q153) (Or.inl rfl) h.1 dX0_on_27 ?_
      refine b_topr (fun e_9 ee_9 => ?_)
      replace h := h.2 e_9 ee_9
      refine b_iload_n 2 dX0_on_30 rfl rfl ?_
      refine b_lget (st := []) h.1 h.2.1 (Or.inl q624) (Nat.le_of_ble_eq_true rfl) dX0_on_31 ?_
      refine b_topr (fun e_10 ee_10 => ?_)
      replace h := h.2.2 e_10 ee_10
      refine b_ckg q638 h.1 dX0_on_34 ?_
      replace h := h.2
      refine b_gIg (f := 1) (by decide) (Or.inl q374) (Or.inl rfl) h.1 dX0_on_37 ?_
      replace h := h.2
      refine b_aload_n 0 dX0_on_40 rfl rfl ?_
      refine b_gR (ci := 0) (r := (RX0, TX0, 14)) (f := 5) (by decide) rfl (by decide) rfl (Or.inl q152) (Or.inl rfl) h.1 dX0_on_41 ?_
      refine b_topr (fun e_11 ee_11 => ?_)
      replace h := h.2 e_11 ee_11
      refine b_iload_n 1 dX0_on_44 rfl rfl ?_
      refine b_lget (st := [.inl (M.1 e_10.1 e_10.2 1)]) h.1 h.2.1 (Or.inl q624) (Nat.le_of_ble_eq_true rfl) dX0_on_45 ?_
      refine b_topr (fun e_12 ee_12 => ?_)
      replace h := h.2.2 e_12 ee_12
      refine b_ckg q638 h.1 dX0_on_48 ?_
      replace h := h.2
      refine b_gIg (f := 1) (by decide) (Or.inl q374) (Or.inl rfl) h.1 dX0_on_51 ?_
      replace h := h.2
      refine b_icmp_ne (tgt := 60) dX0_on_54 (by decide) (fun c_14 => ?_) (fun c_14 => ?_)
      · replace h := h.1 c_14
        obtain ⟨x_13, ex_13⟩ : ∃ y : Int32, y = x2 + 1 := ⟨_, rfl⟩
        replace h := h x_13 ex_13
        refine b_iinc (v := x_13) (lv' := [(2, .inl x_13), (0, .inr r0), (1, .inl x1)]) 2 dX0_on_60 rfl (by rw [ex_13]; rfl) (Nat.le_of_ble_eq_true rfl) rfl ?_
        refine b_goto (tgt := 15) dX0_on_63 (by decide) ?_
        exact b_sub (by simp) (ih r0 x1 x_13 M h)
      · replace h := h.2 c_14
        refine b_bipush (v := (-2)) dX0_on_57 (by decide) ?_
        exact b_iret rfl dX0_on_59 (hP _ _ h)
def v_X0_on (r0 : Nat × Nat) (x1 : Int32) (M : Mem) (Q : Int32 → Mem → Prop) : Prop := kt r0.1 = 0 ∧ (∀ e_1 : Nat × Nat, e_1 = M.2.1 r0.1 r0.2 5 → ((v_X0_has e_1 x1 M (fun r_3 M_2 => ((¬ r_3 = 0) → (∃ n, v_X0_on_15 n r0 x1 0 M_2 Q)) ∧ ((r_3 = 0) → (Q (-1) M_2))))))
set_option maxHeartbeats 4000000 in
theorem sv_X0_on {d : Nat} {M : Mem} {P : Option AV → Mem → Prop} {Q : Int32 → Mem → Prop} {r0 : Nat × Nat} {x1 : Int32} (hP : ∀ r M, Q r M → P (some (.inl r)) M) (h : v_X0_on r0 x1 M Q) : cq (d + 9) mX0_on [.inr r0, .inl x1] M P := by
  refine cq_of (by decide) (Nat.le_of_ble_eq_true rfl) ?_
  show wq (d + 9) mX0_on 0 [(0, .inr r0), (1, .inl x1)] [] M P
  unfold v_X0_on at h
  refine b_aload_n 0 dX0_on_0 rfl rfl ?_
  refine b_gR (ci := 0) (r := (RX0, TX0, 14)) (f := 5) (by decide) rfl (by decide) rfl (Or.inl q152) (Or.inl rfl) h.1 dX0_on_1 ?_
  refine b_topr (fun e_1 ee_1 => ?_)
  replace h := h.2 e_1 ee_1
  refine b_iload_n 1 dX0_on_4 rfl rfl ?_
  refine b_cs (y := mX0_has) (as := [.inr e_1, .inl x1]) (st := []) (n := 2) (Or.inl q332) q333 q69 q334 zmh_X0_has rfl (Nat.le_of_ble_eq_true rfl) (Nat.le_of_ble_eq_true rfl) dX0_on_5 (sv_X0_has (fun r_3 M_2 h => ?_) h)
  show wq (d + 9) mX0_on 8 [(0, .inr r0), (1, .inl x1)] [.inl r_3] M_2 P
  refine b_if_ne (tgt := 13) dX0_on_8 (by decide) (fun c_4 => ?_) (fun c_4 => ?_)
  · replace h := h.1 c_4
    refine b_iconst (v := 0) dX0_on_13 (by decide) ?_
    refine b_istore_n (lv' := [(2, .inl 0), (0, .inr r0), (1, .inl x1)]) dX0_on_14 rfl (Nat.le_of_ble_eq_true rfl) rfl ?_
    obtain ⟨n, h⟩ := h
    exact b_sub (by simp) (sv_X0_on_15 hP n r0 x1 0 M_2 h)
  · replace h := h.2 c_4
    refine b_iconst (v := (-1)) dX0_on_11 (by decide) ?_
    exact b_iret rfl dX0_on_12 (hP _ _ h)
def v_X0_tower_28 : Nat → Nat × Nat → Nat × Nat → Int32 → Mem → (Int32 → Mem → Prop) → Prop
  | 0, _, _, _, _, _ => False
  | n + 1, r0, r1, x2, M, Q => arLN M r1 ∧ ((((nI (M.2.2.1 r1.1 r1.2 - 1)) ≤ x2) → (kt r0.1 = 0 ∧ (∀ e_1 : Nat × Nat, e_1 = M.2.1 r0.1 r0.2 6 → (lk e_1.1 ∧ (∀ M_2 : Mem, M_2 = sI M e_1.1 e_1.2 0 0 → (kt r0.1 = 0 ∧ (∀ e_3 : Nat × Nat, e_3 = M_2.2.1 r0.1 r0.2 7 → (lk e_3.1 ∧ ekk r1.1 = true ∧ M_2.1 e_3.1 e_3.2 0 < 10000 ∧ rom M_2 10 ∧ (∀ M_4 : Mem, M_4 = lAdd M_2 e_3 r1 → (kt r0.1 = 0 ∧ (∀ e_5 : Nat × Nat, e_5 = M_4.2.1 r0.1 r0.2 7 → (lk e_5.1 ∧ (Q ((M_4.1 e_5.1 e_5.2 0) - 1) M_4))))))))))))) ∧ ((¬ (nI (M.2.2.1 r1.1 r1.2 - 1)) ≤ x2) → (kt r0.1 = 0 ∧ (∀ e_6 : Nat × Nat, e_6 = M.2.1 r0.1 r0.2 6 → (lk e_6.1 ∧ (¬ x2 < 0 ∧ x2 < M.1 e_6.1 e_6.2 0) ∧ (∀ e_7 : Nat × Nat, e_7 = M.2.1 e_6.1 e_6.2 x2.toNatClampNeg → (gk e_7.1 ∧ (arSN M r1 x2 e_7 ∧ (∀ M_8 : Mem, M_8 = sR M r1.1 r1.2 x2.toNatClampNeg e_7 → (∀ x_9 : Int32, x_9 = x2 + 1 → (v_X0_tower_28 n r0 r1 x_9 M_8 Q)))))))))))
set_option maxHeartbeats 4000000 in
theorem sv_X0_tower_28 {d : Nat} {P : Option AV → Mem → Prop} {Q : Int32 → Mem → Prop} (hP : ∀ r M, Q r M → P (some (.inl r)) M) : ∀ (n : Nat) (r0 : Nat × Nat) (r1 : Nat × Nat) (x2 : Int32) (M : Mem), v_X0_tower_28 n r0 r1 x2 M Q → wq (d + 9) mX0_tower 28 [(0, .inr r0), (1, .inr r1), (2, .inl x2)] [] M P := by
  intro n
  induction n with
  | zero => intro r0 r1 x2 M h; exact False.elim h
  | succ n ih =>
    intro r0 r1 x2 M h
    rw [v_X0_tower_28] at h
    refine b_iload_n 2 dX0_tower_28 rfl rfl ?_
    refine b_aload_n 1 dX0_tower_29 rfl rfl ?_
    refine b_xalen h.1 dX0_tower_30 ?_
    replace h := h.2
    refine b_icmp_ge (tgt := 54) dX0_tower_31 (by decide) (fun c_10 => ?_) (fun c_10 => ?_)
    · replace h := h.1 c_10
      refine b_aload_n 0 dX0_tower_54 rfl rfl ?_
      refine b_gR (ci := 0) (r := (RX0, TX0, 14)) (f := 6) (by decide) rfl (by decide) rfl (Or.inl q153) (Or.inl rfl) h.1 dX0_tower_55 ?_
      refine b_topr (fun e_1 ee_1 => ?_)
      replace h := h.2 e_1 ee_1
      refine b_lclr (st := []) h.1 (Or.inl q644) (Nat.le_of_ble_eq_true rfl) dX0_tower_58 ?_
      refine b_topm (fun M_2 eM_2 => ?_)
      replace h := h.2 M_2 eM_2
      refine b_aload_n 0 dX0_tower_61 rfl rfl ?_
      refine b_gR (ci := 0) (r := (RX0, TX0, 14)) (f := 7) (by decide) rfl (by decide) rfl (Or.inl q154) (Or.inl rfl) h.1 dX0_tower_62 ?_
      refine b_topr (fun e_3 ee_3 => ?_)
      replace h := h.2 e_3 ee_3
      refine b_aload_n 1 dX0_tower_65 rfl rfl ?_
      refine b_ladd (st := []) h.1 h.2.1 h.2.2.1 h.2.2.2.1 (Or.inl q226) (Nat.le_of_ble_eq_true rfl) dX0_tower_66 ?_
      refine b_topm (fun M_4 eM_4 => ?_)
      replace h := h.2.2.2.2 M_4 eM_4
      refine b_pop dX0_tower_69 ?_
      refine b_aload_n 0 dX0_tower_70 rfl rfl ?_
      refine b_gR (ci := 0) (r := (RX0, TX0, 14)) (f := 7) (by decide) rfl (by decide) rfl (Or.inl q154) (Or.inl rfl) h.1 dX0_tower_71 ?_
      refine b_topr (fun e_5 ee_5 => ?_)
      replace h := h.2 e_5 ee_5
      refine b_lsize (st := []) h.1 (Or.inl q201) (Nat.le_of_ble_eq_true rfl) dX0_tower_74 ?_
      replace h := h.2
      refine b_iconst (v := 1) dX0_tower_77 (by decide) ?_
      refine b_isub dX0_tower_78 ?_
      exact b_iret rfl dX0_tower_79 (hP _ _ h)
    · replace h := h.2 c_10
      refine b_aload_n 1 dX0_tower_34 rfl rfl ?_
      refine b_iload_n 2 dX0_tower_35 rfl rfl ?_
      refine b_aload_n 0 dX0_tower_36 rfl rfl ?_
      refine b_gR (ci := 0) (r := (RX0, TX0, 14)) (f := 6) (by decide) rfl (by decide) rfl (Or.inl q153) (Or.inl rfl) h.1 dX0_tower_37 ?_
      refine b_topr (fun e_6 ee_6 => ?_)
      replace h := h.2 e_6 ee_6
      refine b_iload_n 2 dX0_tower_40 rfl rfl ?_
      refine b_lget (st := [.inl x2, .inr r1]) h.1 h.2.1 (Or.inl q624) (Nat.le_of_ble_eq_true rfl) dX0_tower_41 ?_
      refine b_topr (fun e_7 ee_7 => ?_)
      replace h := h.2.2 e_7 ee_7
      refine b_ckg q638 h.1 dX0_tower_44 ?_
      replace h := h.2
      refine b_xaast h.1 dX0_tower_47 ?_
      refine b_topm (fun M_8 eM_8 => ?_)
      replace h := h.2 M_8 eM_8
      obtain ⟨x_9, ex_9⟩ : ∃ y : Int32, y = x2 + 1 := ⟨_, rfl⟩
      replace h := h x_9 ex_9
      refine b_iinc (v := x_9) (lv' := [(2, .inl x_9), (0, .inr r0), (1, .inr r1)]) 2 dX0_tower_48 rfl (by rw [ex_9]; rfl) (Nat.le_of_ble_eq_true rfl) rfl ?_
      refine b_goto (tgt := 28) dX0_tower_51 (by decide) ?_
      exact b_sub (by simp) (ih r0 r1 x_9 M_8 h)
def v_X0_tower (r0 : Nat × Nat) (M : Mem) (Q : Int32 → Mem → Prop) : Prop := kt r0.1 = 0 ∧ (∀ e_1 : Nat × Nat, e_1 = M.2.1 r0.1 r0.2 7 → (lk e_1.1 ∧ (((¬ (M.1 e_1.1 e_1.2 0) = 10) → (kt r0.1 = 0 ∧ (∀ e_2 : Nat × Nat, e_2 = M.2.1 r0.1 r0.2 6 → (lk e_2.1 ∧ (¬ ((M.1 e_2.1 e_2.2 0)) < 0 ∧ ((M.1 e_2.1 e_2.2 0)).toNatClampNeg ≤ 1000 ∧ rom M ((M.1 e_2.1 e_2.2 0)).toNatClampNeg ∧ (∃ i_3 : Nat, M.2.2.1 42 i_3 = 0 ∧ ∀ M_4 : Mem, M_4 = sN M 42 i_3 ((M.1 e_2.1 e_2.2 0)).toNatClampNeg ((M.1 e_2.1 e_2.2 0)).toNatClampNeg → (∃ n, v_X0_tower_28 n r0 (42, i_3) 0 M_4 Q))))))) ∧ (((M.1 e_1.1 e_1.2 0) = 10) → (Q (-3) M)))))
set_option maxHeartbeats 4000000 in
theorem sv_X0_tower {d : Nat} {M : Mem} {P : Option AV → Mem → Prop} {Q : Int32 → Mem → Prop} {r0 : Nat × Nat} (hP : ∀ r M, Q r M → P (some (.inl r)) M) (h : v_X0_tower r0 M Q) : cq (d + 9) mX0_tower [.inr r0] M P := by
  refine cq_of (by decide) (Nat.le_of_ble_eq_true rfl) ?_
  show wq (d + 9) mX0_tower 0 [(0, .inr r0)] [] M P
  unfold v_X0_tower at h
  refine b_aload_n 0 dX0_tower_0 rfl rfl ?_
  refine b_gR (ci := 0) (r := (RX0, TX0, 14)) (f := 7) (by decide) rfl (by decide) rfl (Or.inl q154) (Or.inl rfl) h.1 dX0_tower_1 ?_
  refine b_topr (fun e_1 ee_1 => ?_)
  replace h := h.2 e_1 ee_1
  refine b_lsize (st := []) h.1 (Or.inl q201) (Nat.le_of_ble_eq_true rfl) dX0_tower_4 ?_
  replace h := h.2
  refine b_bipush (v := 10) dX0_tower_7 (by decide) ?_
  refine b_icmp_ne (tgt := 15) dX0_tower_9 (by decide) (fun c_5 => ?_) (fun c_5 => ?_)
  · replace h := h.1 c_5
    refine b_aload_n 0 dX0_tower_15 rfl rfl ?_
    refine b_gR (ci := 0) (r := (RX0, TX0, 14)) (f := 6) (by decide) rfl (by decide) rfl (Or.inl q153) (Or.inl rfl) h.1 dX0_tower_16 ?_
    refine b_topr (fun e_2 ee_2 => ?_)
    replace h := h.2 e_2 ee_2
    refine b_lsize (st := []) h.1 (Or.inl q201) (Nat.le_of_ble_eq_true rfl) dX0_tower_19 ?_
    replace h := h.2
    obtain ⟨h1, h2, h3, i_3, ei_3, h⟩ := h
    refine b_nwr (k := 42) (i := i_3) (by decide) (Or.inr rfl) rfl h1 h2 h3 ei_3 q638 dX0_tower_22 ?_
    refine b_topm (fun M_4 eM_4 => ?_)
    replace h := h M_4 eM_4
    refine b_astore_n (lv' := [(1, .inr (42, i_3)), (0, .inr r0)]) dX0_tower_25 rfl (Nat.le_of_ble_eq_true rfl) rfl ?_
    refine b_iconst (v := 0) dX0_tower_26 (by decide) ?_
    refine b_istore_n (lv' := [(2, .inl 0), (1, .inr (42, i_3)), (0, .inr r0)]) dX0_tower_27 rfl (Nat.le_of_ble_eq_true rfl) rfl ?_
    obtain ⟨n, h⟩ := h
    exact b_sub (by simp) (sv_X0_tower_28 hP n r0 (42, i_3) 0 M_4 h)
  · replace h := h.2 c_5
    refine b_bipush (v := (-3)) dX0_tower_12 (by decide) ?_
    exact b_iret rfl dX0_tower_14 (hP _ _ h)
def v_X0_order_47 (d : Nat) (r0 : Nat × Nat) (x1 : Int32) (x2 : Int32) (x3 : Int32) (x4 : Int32) (x5 : Int32) (s0 : Int32) (s1 : Int32) (s2 : Int32) (M : Mem) (Q : Int32 → Mem → Prop) : Prop := (v_X0_in s2 s1 s0 M (fun r_2 M_1 => ((r_2 = 0) → (Q (-2) M_1)) ∧ ((¬ r_2 = 0) → (((0 ≤ x5) → (kt r0.1 = 0 ∧ (∀ e_3 : Nat × Nat, e_3 = M_1.2.1 r0.1 r0.2 8 → (lk e_3.1 ∧ (((¬ (M_1.1 e_3.1 e_3.2 0) = 60) → (kt r0.1 = 0 ∧ (cq (d + 10) mX0_begins [.inr r0, .inl x1, .inl x2, .inl x3, .inl x4, .inl x5] M_1 (fun r_ M_4 => ∃ r_5 : Int32, r_ = some (.inl r_5) ∧ (Q r_5 M_4))))) ∧ (((M_1.1 e_3.1 e_3.2 0) = 60) → (Q (-3) M_1))))))) ∧ ((¬ 0 ≤ x5) → (Q (-2) M_1))))))
set_option maxHeartbeats 4000000 in
theorem sv_X0_order_47 {d : Nat} {P : Option AV → Mem → Prop} {Q : Int32 → Mem → Prop} (hP : ∀ r M, Q r M → P (some (.inl r)) M) (r0 : Nat × Nat) (x1 : Int32) (x2 : Int32) (x3 : Int32) (x4 : Int32) (x5 : Int32) (s0 : Int32) (s1 : Int32) (s2 : Int32) (M : Mem) (h : v_X0_order_47 d r0 x1 x2 x3 x4 x5 s0 s1 s2 M Q) : wq (d + 11) mX0_order 47 [(0, .inr r0), (1, .inl x1), (2, .inl x2), (3, .inl x3), (4, .inl x4), (5, .inl x5)] [.inl s0, .inl s1, .inl s2] M P := by
  unfold v_X0_order_47 at h
  refine b_cs (y := mX0_in) (as := [.inl s2, .inl s1, .inl s0]) (st := []) (n := 3) (Or.inl q198) q199 q69 q200 zmh_X0_in rfl (Nat.le_of_ble_eq_true rfl) (Nat.le_of_ble_eq_true rfl) dX0_order_47 (sv_X0_in (fun r_2 M_1 h => ?_) h)
  show wq (d + 11) mX0_order 50 [(0, .inr r0), (1, .inl x1), (2, .inl x2), (3, .inl x3), (4, .inl x4), (5, .inl x5)] [.inl r_2] M_1 P
  refine b_if_eq (tgt := 58) dX0_order_50 (by decide) (fun c_8 => ?_) (fun c_8 => ?_)
  · replace h := h.1 c_8
    refine b_bipush (v := (-2)) dX0_order_58 (by decide) ?_
    exact b_iret rfl dX0_order_60 (hP _ _ h)
  · replace h := h.2 c_8
    refine b_iload 5 dX0_order_53 rfl ?_
    refine b_if_ge (tgt := 61) dX0_order_55 (by decide) (fun c_7 => ?_) (fun c_7 => ?_)
    · replace h := h.1 c_7
      refine b_aload_n 0 dX0_order_61 rfl rfl ?_
      refine b_gR (ci := 0) (r := (RX0, TX0, 14)) (f := 8) (by decide) rfl (by decide) rfl (Or.inl q157) (Or.inl rfl) h.1 dX0_order_62 ?_
      refine b_topr (fun e_3 ee_3 => ?_)
      replace h := h.2 e_3 ee_3
      refine b_lsize (st := []) h.1 (Or.inl q201) (Nat.le_of_ble_eq_true rfl) dX0_order_65 ?_
      replace h := h.2
      refine b_bipush (v := 60) dX0_order_68 (by decide) ?_
      refine b_icmp_ne (tgt := 78) dX0_order_70 (by decide) (fun c_6 => ?_) (fun c_6 => ?_)
      · replace h := h.1 c_6
        refine b_aload_n 0 dX0_order_78 rfl rfl ?_
        refine b_iload_n 1 dX0_order_79 rfl rfl ?_
        refine b_iload_n 2 dX0_order_80 rfl rfl ?_
        refine b_iload_n 3 dX0_order_81 rfl rfl ?_
        refine b_iload 4 dX0_order_82 rfl ?_
        refine b_iload 5 dX0_order_84 rfl ?_
        refine b_cvo (y := mX0_begins) (ci := 0) (r := (RX0, TX0, 14)) (e := r0) (as := [.inl x1, .inl x2, .inl x3, .inl x4, .inl x5]) (st := []) (n := 5) rfl h.1 (Or.inl q652) qs5 q654 q69 q655 zmh_X0_begins rfl (Nat.le_of_ble_eq_true rfl) (Nat.le_of_ble_eq_true rfl) dX0_order_86 (cq.mono h.2 (fun _ M_4 h => ?_))
        obtain ⟨r_5, rfl, h⟩ := h
        show wq (d + 11) mX0_order 89 [(0, .inr r0), (1, .inl x1), (2, .inl x2), (3, .inl x3), (4, .inl x4), (5, .inl x5)] [.inl r_5] M_4 P
        exact b_iret rfl dX0_order_89 (hP _ _ h)
      · replace h := h.2 c_6
        refine b_bipush (v := (-3)) dX0_order_73 (by decide) ?_
        refine b_goto (tgt := 89) dX0_order_75 (by decide) ?_
        exact b_iret rfl dX0_order_89 (hP _ _ h)
    · replace h := h.2 c_7
      refine b_bipush (v := (-2)) dX0_order_58 (by decide) ?_
      exact b_iret rfl dX0_order_60 (hP _ _ h)
def v_X0_order (d : Nat) (r0 : Nat × Nat) (x1 : Int32) (x2 : Int32) (x3 : Int32) (x4 : Int32) (x5 : Int32) (M : Mem) (Q : Int32 → Mem → Prop) : Prop := kt r0.1 = 0 ∧ (∀ e_1 : Nat × Nat, e_1 = M.2.1 r0.1 r0.2 7 → ((v_X0_has e_1 x1 M (fun r_3 M_2 => ((r_3 = 0) → (Q (-1) M_2)) ∧ ((¬ r_3 = 0) → (kt r0.1 = 0 ∧ (∀ e_4 : Nat × Nat, e_4 = M_2.2.1 r0.1 r0.2 2 → ((v_X0_has e_4 x2 M_2 (fun r_6 M_5 => ((¬ r_6 = 0) → ((v_X0_in x3 0 2 M_5 (fun r_8 M_7 => ((r_8 = 0) → (Q (-2) M_7)) ∧ ((¬ r_8 = 0) → (((¬ x3 = 0) → (v_X0_order_47 d r0 x1 x2 x3 x4 x5 1000000 0 x4 M_7 Q)) ∧ ((x3 = 0) → (v_X0_order_47 d r0 x1 x2 x3 x4 x5 0 0 x4 M_7 Q)))))))) ∧ ((r_6 = 0) → (Q (-1) M_5))))))))))))
set_option maxHeartbeats 4000000 in
theorem sv_X0_order {d : Nat} {M : Mem} {P : Option AV → Mem → Prop} {Q : Int32 → Mem → Prop} {r0 : Nat × Nat} {x1 : Int32} {x2 : Int32} {x3 : Int32} {x4 : Int32} {x5 : Int32} (hP : ∀ r M, Q r M → P (some (.inl r)) M) (h : v_X0_order d r0 x1 x2 x3 x4 x5 M Q) : cq (d + 11) mX0_order [.inr r0, .inl x1, .inl x2, .inl x3, .inl x4, .inl x5] M P := by
  refine cq_of (by decide) (Nat.le_of_ble_eq_true rfl) ?_
  show wq (d + 11) mX0_order 0 [(0, .inr r0), (1, .inl x1), (2, .inl x2), (3, .inl x3), (4, .inl x4), (5, .inl x5)] [] M P
  unfold v_X0_order at h
  refine b_aload_n 0 dX0_order_0 rfl rfl ?_
  refine b_gR (ci := 0) (r := (RX0, TX0, 14)) (f := 7) (by decide) rfl (by decide) rfl (Or.inl q154) (Or.inl rfl) h.1 dX0_order_1 ?_
  refine b_topr (fun e_1 ee_1 => ?_)
  replace h := h.2 e_1 ee_1
  refine b_iload_n 1 dX0_order_4 rfl rfl ?_
  refine b_cs (y := mX0_has) (as := [.inr e_1, .inl x1]) (st := []) (n := 2) (Or.inl q332) q333 q69 q334 zmh_X0_has rfl (Nat.le_of_ble_eq_true rfl) (Nat.le_of_ble_eq_true rfl) dX0_order_5 (sv_X0_has (fun r_3 M_2 h => ?_) h)
  show wq (d + 11) mX0_order 8 [(0, .inr r0), (1, .inl x1), (2, .inl x2), (3, .inl x3), (4, .inl x4), (5, .inl x5)] [.inl r_3] M_2 P
  refine b_if_eq (tgt := 22) dX0_order_8 (by decide) (fun c_12 => ?_) (fun c_12 => ?_)
  · replace h := h.1 c_12
    refine b_iconst (v := (-1)) dX0_order_22 (by decide) ?_
    exact b_iret rfl dX0_order_23 (hP _ _ h)
  · replace h := h.2 c_12
    refine b_aload_n 0 dX0_order_11 rfl rfl ?_
    refine b_gR (ci := 0) (r := (RX0, TX0, 14)) (f := 2) (by decide) rfl (by decide) rfl (Or.inl q148) (Or.inl rfl) h.1 dX0_order_12 ?_
    refine b_topr (fun e_4 ee_4 => ?_)
    replace h := h.2 e_4 ee_4
    refine b_iload_n 2 dX0_order_15 rfl rfl ?_
    refine b_cs (y := mX0_has) (as := [.inr e_4, .inl x2]) (st := []) (n := 2) (Or.inl q332) q333 q69 q334 zmh_X0_has rfl (Nat.le_of_ble_eq_true rfl) (Nat.le_of_ble_eq_true rfl) dX0_order_16 (sv_X0_has (fun r_6 M_5 h => ?_) h)
    show wq (d + 11) mX0_order 19 [(0, .inr r0), (1, .inl x1), (2, .inl x2), (3, .inl x3), (4, .inl x4), (5, .inl x5)] [.inl r_6] M_5 P
    refine b_if_ne (tgt := 24) dX0_order_19 (by decide) (fun c_11 => ?_) (fun c_11 => ?_)
    · replace h := h.1 c_11
      refine b_iload_n 3 dX0_order_24 rfl rfl ?_
      refine b_iconst (v := 0) dX0_order_25 (by decide) ?_
      refine b_iconst (v := 2) dX0_order_26 (by decide) ?_
      refine b_cs (y := mX0_in) (as := [.inl x3, .inl 0, .inl 2]) (st := []) (n := 3) (Or.inl q198) q199 q69 q200 zmh_X0_in rfl (Nat.le_of_ble_eq_true rfl) (Nat.le_of_ble_eq_true rfl) dX0_order_27 (sv_X0_in (fun r_8 M_7 h => ?_) h)
      show wq (d + 11) mX0_order 30 [(0, .inr r0), (1, .inl x1), (2, .inl x2), (3, .inl x3), (4, .inl x4), (5, .inl x5)] [.inl r_8] M_7 P
      refine b_if_eq (tgt := 58) dX0_order_30 (by decide) (fun c_10 => ?_) (fun c_10 => ?_)
      · replace h := h.1 c_10
        refine b_bipush (v := (-2)) dX0_order_58 (by decide) ?_
        exact b_iret rfl dX0_order_60 (hP _ _ h)
      · replace h := h.2 c_10
        refine b_iload 4 dX0_order_33 rfl ?_
        refine b_iconst (v := 0) dX0_order_35 (by decide) ?_
        refine b_iload_n 3 dX0_order_36 rfl rfl ?_
        refine b_if_ne (tgt := 44) dX0_order_37 (by decide) (fun c_9 => ?_) (fun c_9 => ?_)
        · replace h := h.1 c_9
          refine b_ldcw (v := 1000000) dX0_order_44 q197 ?_
          exact b_sub (by simp) (sv_X0_order_47 hP r0 x1 x2 x3 x4 x5 1000000 0 x4 M_7 h)
        · replace h := h.2 c_9
          refine b_iconst (v := 0) dX0_order_40 (by decide) ?_
          refine b_goto (tgt := 47) dX0_order_41 (by decide) ?_
          exact b_sub (by simp) (sv_X0_order_47 hP r0 x1 x2 x3 x4 x5 0 0 x4 M_7 h)
    · replace h := h.2 c_11
      refine b_iconst (v := (-1)) dX0_order_22 (by decide) ?_
      exact b_iret rfl dX0_order_23 (hP _ _ h)
def v_X15_init (r0 : Nat × Nat) (x1 : Int32) (r2 : Nat × Nat) (x3 : Int32) (x4 : Int32) (x5 : Int32) (x6 : Int32) (x7 : Int32) (M : Mem) (Q : Mem → Prop) : Prop := ¬ r0.1 = 0 ∧ (kt r0.1 = 15 ∧ (∀ M_1 : Mem, M_1 = sI M r0.1 r0.2 9 (-1) → (kt r0.1 = 15 ∧ (∀ M_2 : Mem, M_2 = sI M_1 r0.1 r0.2 0 x1 → (kt r0.1 = 15 ∧ (∀ M_3 : Mem, M_3 = sR M_2 r0.1 r0.2 6 r2 → (kt r0.1 = 15 ∧ (∀ M_4 : Mem, M_4 = sI M_3 r0.1 r0.2 1 x3 → (kt r0.1 = 15 ∧ (∀ M_5 : Mem, M_5 = sI M_4 r0.1 r0.2 2 x4 → (kt r0.1 = 15 ∧ (∀ M_6 : Mem, M_6 = sI M_5 r0.1 r0.2 3 x5 → (kt r0.1 = 15 ∧ (∀ M_7 : Mem, M_7 = sI M_6 r0.1 r0.2 4 x6 → (kt r0.1 = 15 ∧ (∀ M_8 : Mem, M_8 = sI M_7 r0.1 r0.2 5 x7 → (Q M_8)))))))))))))))))
set_option maxHeartbeats 4000000 in
theorem sv_X15_init {d : Nat} {M : Mem} {P : Option AV → Mem → Prop} {Q : Mem → Prop} {r0 : Nat × Nat} {x1 : Int32} {r2 : Nat × Nat} {x3 : Int32} {x4 : Int32} {x5 : Int32} {x6 : Int32} {x7 : Int32} (hP : ∀ M, Q M → P none M) (h : v_X15_init r0 x1 r2 x3 x4 x5 x6 x7 M Q) : cq (d + 1) mX15_init [.inr r0, .inl x1, .inr r2, .inl x3, .inl x4, .inl x5, .inl x6, .inl x7] M P := by
  refine cq_of (by decide) (Nat.le_of_ble_eq_true rfl) ?_
  show wq (d + 1) mX15_init 0 [(0, .inr r0), (1, .inl x1), (2, .inr r2), (3, .inl x3), (4, .inl x4), (5, .inl x5), (6, .inl x6), (7, .inl x7)] [] M P
  unfold v_X15_init at h
  refine b_aload_n 0 dX15_init_0 rfl rfl ?_
  refine b_obj h.1 q662 q109 q110 (Nat.le_of_ble_eq_true rfl) dX15_init_1 ?_
  replace h := h.2
  refine b_aload_n 0 dX15_init_4 rfl rfl ?_
  refine b_iconst (v := (-1)) dX15_init_5 (by decide) ?_
  refine b_pI (ci := 15) (r := (RX15, TX15, 10)) (f := 9) (by decide) rfl (by decide) (Or.inl q686) (Or.inl rfl) rfl (Or.inl rfl) h.1 dX15_init_6 ?_
  refine b_topm (fun M_1 eM_1 => ?_)
  replace h := h.2 M_1 eM_1
  refine b_aload_n 0 dX15_init_9 rfl rfl ?_
  refine b_iload_n 1 dX15_init_10 rfl rfl ?_
  refine b_fI (ci := 15) (r := (RX15, TX15, 10)) (f := 0) (by decide) rfl (by decide) q663 (Or.inl rfl) rfl rfl rfl (Or.inl rfl) h.1 dX15_init_11 ?_
  refine b_topm (fun M_2 eM_2 => ?_)
  replace h := h.2 M_2 eM_2
  refine b_aload_n 0 dX15_init_14 rfl rfl ?_
  refine b_aload_n 2 dX15_init_15 rfl rfl ?_
  refine b_fR (ci := 15) (r := (RX15, TX15, 10)) (f := 6) (by decide) rfl (by decide) q680 (Or.inl rfl) rfl rfl rfl rfl h.1 dX15_init_16 ?_
  refine b_topm (fun M_3 eM_3 => ?_)
  replace h := h.2 M_3 eM_3
  refine b_aload_n 0 dX15_init_19 rfl rfl ?_
  refine b_iload_n 3 dX15_init_20 rfl rfl ?_
  refine b_fI (ci := 15) (r := (RX15, TX15, 10)) (f := 1) (by decide) rfl (by decide) q666 (Or.inl rfl) rfl rfl rfl (Or.inl rfl) h.1 dX15_init_21 ?_
  refine b_topm (fun M_4 eM_4 => ?_)
  replace h := h.2 M_4 eM_4
  refine b_aload_n 0 dX15_init_24 rfl rfl ?_
  refine b_iload 4 dX15_init_25 rfl ?_
  refine b_fI (ci := 15) (r := (RX15, TX15, 10)) (f := 2) (by decide) rfl (by decide) q669 (Or.inl rfl) rfl rfl rfl (Or.inl rfl) h.1 dX15_init_27 ?_
  refine b_topm (fun M_5 eM_5 => ?_)
  replace h := h.2 M_5 eM_5
  refine b_aload_n 0 dX15_init_30 rfl rfl ?_
  refine b_iload 5 dX15_init_31 rfl ?_
  refine b_fI (ci := 15) (r := (RX15, TX15, 10)) (f := 3) (by decide) rfl (by decide) q672 (Or.inl rfl) rfl rfl rfl (Or.inl rfl) h.1 dX15_init_33 ?_
  refine b_topm (fun M_6 eM_6 => ?_)
  replace h := h.2 M_6 eM_6
  refine b_aload_n 0 dX15_init_36 rfl rfl ?_
  refine b_iload 6 dX15_init_37 rfl ?_
  refine b_fI (ci := 15) (r := (RX15, TX15, 10)) (f := 4) (by decide) rfl (by decide) q675 (Or.inl rfl) rfl rfl rfl (Or.inl rfl) h.1 dX15_init_39 ?_
  refine b_topm (fun M_7 eM_7 => ?_)
  replace h := h.2 M_7 eM_7
  refine b_aload_n 0 dX15_init_42 rfl rfl ?_
  refine b_iload 7 dX15_init_43 rfl ?_
  refine b_fI (ci := 15) (r := (RX15, TX15, 10)) (f := 5) (by decide) rfl (by decide) q677 (Or.inl rfl) rfl rfl rfl (Or.inl rfl) h.1 dX15_init_45 ?_
  refine b_topm (fun M_8 eM_8 => ?_)
  replace h := h.2 M_8 eM_8
  exact b_vret rfl dX15_init_48 (hP _ h)
def v_X0_begins (d : Nat) (r0 : Nat × Nat) (x1 : Int32) (x2 : Int32) (x3 : Int32) (x4 : Int32) (x5 : Int32) (M : Mem) (Q : Int32 → Mem → Prop) : Prop := rom M 10 ∧ (∃ i_1 : Nat, M.2.2.1 20 i_1 = 0 ∧ ∀ M_2 : Mem, M_2 = sN M 20 i_1 0 10 → (kt r0.1 = 0 ∧ (∀ e_3 : Nat × Nat, e_3 = M_2.2.1 r0.1 r0.2 8 → (lk e_3.1 ∧ (kt r0.1 = 0 ∧ (∀ e_4 : Nat × Nat, e_4 = M_2.2.1 r0.1 r0.2 7 → (lk e_4.1 ∧ (¬ x1 < 0 ∧ x1 < M_2.1 e_4.1 e_4.2 0) ∧ (∀ e_5 : Nat × Nat, e_5 = M_2.2.1 e_4.1 e_4.2 x1.toNatClampNeg → (kt e_5.1 = 103 ∧ (kt r0.1 = 0 ∧ (¬ 20 = 0 ∧ (v_X15_init (20, i_1) (M_2.1 e_3.1 e_3.2 0) e_5 x2 x3 x4 x5 (M_2.1 r0.1 r0.2 0) M_2 (fun M_6 => kt r0.1 = 0 ∧ (∀ e_8 : Nat × Nat, e_8 = M_6.2.1 r0.1 r0.2 8 → (lk e_8.1 ∧ ekk 20 = true ∧ M_6.1 e_8.1 e_8.2 0 < 10000 ∧ rom M_6 10 ∧ (∀ M_9 : Mem, M_9 = lAdd M_6 e_8 (20, i_1) → (kt r0.1 = 0 ∧ (cq (d + 10) mX0_begin [.inr r0, .inr (20, i_1), .inl 0, .inr (0, 0)] M_9 (fun r_ M_10 => r_ = none ∧ (kt 20 = 15 ∧ (Q (M_10.1 20 i_1 0) M_10)))))))))))))))))))))
set_option maxHeartbeats 4000000 in
theorem sv_X0_begins {d : Nat} {M : Mem} {P : Option AV → Mem → Prop} {Q : Int32 → Mem → Prop} {r0 : Nat × Nat} {x1 : Int32} {x2 : Int32} {x3 : Int32} {x4 : Int32} {x5 : Int32} (hP : ∀ r M, Q r M → P (some (.inl r)) M) (h : v_X0_begins d r0 x1 x2 x3 x4 x5 M Q) : cq (d + 11) mX0_begins [.inr r0, .inl x1, .inl x2, .inl x3, .inl x4, .inl x5] M P := by
  refine cq_of (by decide) (Nat.le_of_ble_eq_true rfl) ?_
  show wq (d + 11) mX0_begins 0 [(0, .inr r0), (1, .inl x1), (2, .inl x2), (3, .inl x3), (4, .inl x4), (5, .inl x5)] [] M P
  unfold v_X0_begins at h
  obtain ⟨h1, i_1, ei_1, h⟩ := h
  refine b_nwo (k := 20) (i := i_1) (r := (RX15, TX15, 10)) (by decide) rfl h1 ei_1 q656 q657 q93 dX0_begins_0 ?_
  refine b_topm (fun M_2 eM_2 => ?_)
  replace h := h M_2 eM_2
  refine b_dup dX0_begins_3 ?_
  refine b_aload_n 0 dX0_begins_4 rfl rfl ?_
  refine b_gR (ci := 0) (r := (RX0, TX0, 14)) (f := 8) (by decide) rfl (by decide) rfl (Or.inl q157) (Or.inl rfl) h.1 dX0_begins_5 ?_
  refine b_topr (fun e_3 ee_3 => ?_)
  replace h := h.2 e_3 ee_3
  refine b_lsize (st := [.inr (20, i_1), .inr (20, i_1)]) h.1 (Or.inl q201) (Nat.le_of_ble_eq_true rfl) dX0_begins_8 ?_
  replace h := h.2
  refine b_aload_n 0 dX0_begins_11 rfl rfl ?_
  refine b_gR (ci := 0) (r := (RX0, TX0, 14)) (f := 7) (by decide) rfl (by decide) rfl (Or.inl q154) (Or.inl rfl) h.1 dX0_begins_12 ?_
  refine b_topr (fun e_4 ee_4 => ?_)
  replace h := h.2 e_4 ee_4
  refine b_iload_n 1 dX0_begins_15 rfl rfl ?_
  refine b_lget (st := [.inl (M_2.1 e_3.1 e_3.2 0), .inr (20, i_1), .inr (20, i_1)]) h.1 h.2.1 (Or.inl q624) (Nat.le_of_ble_eq_true rfl) dX0_begins_16 ?_
  refine b_topr (fun e_5 ee_5 => ?_)
  replace h := h.2.2 e_5 ee_5
  refine b_cka q658 h.1 dX0_begins_19 ?_
  replace h := h.2
  refine b_iload_n 2 dX0_begins_22 rfl rfl ?_
  refine b_iload_n 3 dX0_begins_23 rfl rfl ?_
  refine b_iload 4 dX0_begins_24 rfl ?_
  refine b_iload 5 dX0_begins_26 rfl ?_
  refine b_aload_n 0 dX0_begins_28 rfl rfl ?_
  refine b_gI (ci := 0) (r := (RX0, TX0, 14)) (f := 0) (by decide) rfl (by decide) rfl (Or.inl q144) (Or.inl rfl) h.1 dX0_begins_29 ?_
  replace h := h.2
  refine b_ci (y := mX15_init) (k := 20) (i := i_1) (as := [.inl (M_2.1 e_3.1 e_3.2 0), .inr e_5, .inl x2, .inl x3, .inl x4, .inl x5, .inl (M_2.1 r0.1 r0.2 0)]) (st := [.inr (20, i_1)]) (n := 7) h.1 rfl rfl (Or.inl q659) q660 q93 q661 zmh_X15_init rfl (Nat.le_of_ble_eq_true rfl) (Nat.le_of_ble_eq_true rfl) dX0_begins_32 (sv_X15_init (fun M_6 h => ?_) h.2)
  show wq (d + 11) mX0_begins 35 [(0, .inr r0), (1, .inl x1), (2, .inl x2), (3, .inl x3), (4, .inl x4), (5, .inl x5)] [.inr (20, i_1)] M_6 P
  refine b_astore (lv' := [(6, .inr (20, i_1)), (0, .inr r0), (1, .inl x1), (2, .inl x2), (3, .inl x3), (4, .inl x4), (5, .inl x5)]) dX0_begins_35 (Nat.le_of_ble_eq_true rfl) rfl ?_
  refine b_aload_n 1 dX0_begins_37 rfl rfl ?_
  refine b_gR (ci := 0) (r := (RX0, TX0, 14)) (f := 8) (by decide) rfl (by decide) rfl (Or.inl q157) (Or.inl rfl) h.1 dX0_begins_38 ?_
  refine b_topr (fun e_8 ee_8 => ?_)
  replace h := h.2 e_8 ee_8
  refine b_aload 0 dX0_begins_41 rfl ?_
  refine b_ladd (st := []) h.1 h.2.1 h.2.2.1 h.2.2.2.1 (Or.inl q226) (Nat.le_of_ble_eq_true rfl) dX0_begins_43 ?_
  refine b_topm (fun M_9 eM_9 => ?_)
  replace h := h.2.2.2.2 M_9 eM_9
  refine b_pop dX0_begins_46 ?_
  refine b_aload_n 1 dX0_begins_47 rfl rfl ?_
  refine b_aload 0 dX0_begins_48 rfl ?_
  refine b_iconst (v := 0) dX0_begins_50 (by decide) ?_
  refine b_null dX0_begins_51 ?_
  refine b_cvo (y := mX0_begin) (ci := 0) (r := (RX0, TX0, 14)) (e := r0) (as := [.inr (20, i_1), .inl 0, .inr (0, 0)]) (st := []) (n := 3) rfl h.1 (Or.inl q709) qs6 q711 q69 q712 zmh_X0_begin rfl (Nat.le_of_ble_eq_true rfl) (Nat.le_of_ble_eq_true rfl) dX0_begins_52 (cq.mono h.2 (fun _ M_10 h => ?_))
  obtain ⟨rfl, h⟩ := h
  show wq (d + 11) mX0_begins 55 [(6, .inr (20, i_1)), (0, .inr r0), (1, .inl x1), (2, .inl x2), (3, .inl x3), (4, .inl x4), (5, .inl x5)] [] M_10 P
  refine b_aload 0 dX0_begins_55 rfl ?_
  refine b_gI (ci := 15) (r := (RX15, TX15, 10)) (f := 0) (by decide) rfl (by decide) rfl (Or.inr ⟨_, q665⟩) (Or.inl rfl) h.1 dX0_begins_57 ?_
  replace h := h.2
  exact b_iret rfl dX0_begins_60 (hP _ _ h)
def v_X16_init (r0 : Nat × Nat) (x1 : Int32) (r2 : Nat × Nat) (x3 : Int32) (r4 : Nat × Nat) (r5 : Nat × Nat) (x6 : Int32) (x7 : Int32) (M : Mem) (Q : Mem → Prop) : Prop := ¬ r0.1 = 0 ∧ (rom M 3 ∧ (∃ i_1 : Nat, M.2.2.1 31 i_1 = 0 ∧ ∀ M_2 : Mem, M_2 = sN M 31 i_1 0 3 → (kt r0.1 = 16 ∧ (∀ M_3 : Mem, M_3 = sR M_2 r0.1 r0.2 7 (31, i_1) → (kt r0.1 = 16 ∧ (∀ M_4 : Mem, M_4 = sI M_3 r0.1 r0.2 12 (-1) → (kt r0.1 = 16 ∧ (∀ M_5 : Mem, M_5 = sI M_4 r0.1 r0.2 13 (-1) → (kt r0.1 = 16 ∧ (∀ M_6 : Mem, M_6 = sI M_5 r0.1 r0.2 15 (-1) → (kt r0.1 = 16 ∧ (∀ M_7 : Mem, M_7 = sI M_6 r0.1 r0.2 0 x1 → (kt r0.1 = 16 ∧ (∀ M_8 : Mem, M_8 = sR M_7 r0.1 r0.2 4 r2 → (kt r0.1 = 16 ∧ (∀ M_9 : Mem, M_9 = sI M_8 r0.1 r0.2 1 x3 → (kt r0.1 = 16 ∧ (∀ M_10 : Mem, M_10 = sR M_9 r0.1 r0.2 5 r4 → (kt r0.1 = 16 ∧ (∀ M_11 : Mem, M_11 = sR M_10 r0.1 r0.2 6 r5 → (kt r0.1 = 16 ∧ (∀ M_12 : Mem, M_12 = sI M_11 r0.1 r0.2 2 x6 → (kt r0.1 = 16 ∧ (∀ M_13 : Mem, M_13 = sI M_12 r0.1 r0.2 3 x7 → (Q M_13)))))))))))))))))))))))))
set_option maxHeartbeats 4000000 in
theorem sv_X16_init {d : Nat} {M : Mem} {P : Option AV → Mem → Prop} {Q : Mem → Prop} {r0 : Nat × Nat} {x1 : Int32} {r2 : Nat × Nat} {x3 : Int32} {r4 : Nat × Nat} {r5 : Nat × Nat} {x6 : Int32} {x7 : Int32} (hP : ∀ M, Q M → P none M) (h : v_X16_init r0 x1 r2 x3 r4 r5 x6 x7 M Q) : cq (d + 5) mX16_init [.inr r0, .inl x1, .inr r2, .inl x3, .inr r4, .inr r5, .inl x6, .inl x7] M P := by
  refine cq_of (by decide) (Nat.le_of_ble_eq_true rfl) ?_
  show wq (d + 5) mX16_init 0 [(0, .inr r0), (1, .inl x1), (2, .inr r2), (3, .inl x3), (4, .inr r4), (5, .inr r5), (6, .inl x6), (7, .inl x7)] [] M P
  unfold v_X16_init at h
  refine b_aload_n 0 dX16_init_0 rfl rfl ?_
  refine b_obj h.1 q726 q109 q110 (Nat.le_of_ble_eq_true rfl) dX16_init_1 ?_
  replace h := h.2
  refine b_aload_n 0 dX16_init_4 rfl rfl ?_
  obtain ⟨h1, i_1, ei_1, h⟩ := h
  refine b_nwl (k := 31) (i := i_1) (by decide) (by decide) h1 ei_1 q727 (Or.inl q728) dX16_init_5 dX16_init_8 dX16_init_9 (Nat.le_of_ble_eq_true rfl) ?_
  refine b_topm (fun M_2 eM_2 => ?_)
  replace h := h M_2 eM_2
  refine b_fR (ci := 16) (r := (RX16, TX16, 17)) (f := 7) (by decide) rfl (by decide) q749 (Or.inl rfl) rfl rfl rfl rfl h.1 dX16_init_12 ?_
  refine b_topm (fun M_3 eM_3 => ?_)
  replace h := h.2 M_3 eM_3
  refine b_aload_n 0 dX16_init_15 rfl rfl ?_
  refine b_iconst (v := (-1)) dX16_init_16 (by decide) ?_
  refine b_pI (ci := 16) (r := (RX16, TX16, 17)) (f := 12) (by decide) rfl (by decide) (Or.inl q768) (Or.inl rfl) rfl (Or.inl rfl) h.1 dX16_init_17 ?_
  refine b_topm (fun M_4 eM_4 => ?_)
  replace h := h.2 M_4 eM_4
  refine b_aload_n 0 dX16_init_20 rfl rfl ?_
  refine b_iconst (v := (-1)) dX16_init_21 (by decide) ?_
  refine b_pI (ci := 16) (r := (RX16, TX16, 17)) (f := 13) (by decide) rfl (by decide) (Or.inl q772) (Or.inl rfl) rfl (Or.inl rfl) h.1 dX16_init_22 ?_
  refine b_topm (fun M_5 eM_5 => ?_)
  replace h := h.2 M_5 eM_5
  refine b_aload_n 0 dX16_init_25 rfl rfl ?_
  refine b_iconst (v := (-1)) dX16_init_26 (by decide) ?_
  refine b_pI (ci := 16) (r := (RX16, TX16, 17)) (f := 15) (by decide) rfl (by decide) (Or.inl q778) (Or.inl rfl) rfl (Or.inl rfl) h.1 dX16_init_27 ?_
  refine b_topm (fun M_6 eM_6 => ?_)
  replace h := h.2 M_6 eM_6
  refine b_aload_n 0 dX16_init_30 rfl rfl ?_
  refine b_iload_n 1 dX16_init_31 rfl rfl ?_
  refine b_fI (ci := 16) (r := (RX16, TX16, 17)) (f := 0) (by decide) rfl (by decide) q729 (Or.inl rfl) rfl rfl rfl (Or.inl rfl) h.1 dX16_init_32 ?_
  refine b_topm (fun M_7 eM_7 => ?_)
  replace h := h.2 M_7 eM_7
  refine b_aload_n 0 dX16_init_35 rfl rfl ?_
  refine b_aload_n 2 dX16_init_36 rfl rfl ?_
  refine b_fR (ci := 16) (r := (RX16, TX16, 17)) (f := 4) (by decide) rfl (by decide) q739 (Or.inl rfl) rfl rfl rfl rfl h.1 dX16_init_37 ?_
  refine b_topm (fun M_8 eM_8 => ?_)
  replace h := h.2 M_8 eM_8
  refine b_aload_n 0 dX16_init_40 rfl rfl ?_
  refine b_iload_n 3 dX16_init_41 rfl rfl ?_
  refine b_fI (ci := 16) (r := (RX16, TX16, 17)) (f := 1) (by decide) rfl (by decide) q732 (Or.inl rfl) rfl rfl rfl (Or.inl rfl) h.1 dX16_init_42 ?_
  refine b_topm (fun M_9 eM_9 => ?_)
  replace h := h.2 M_9 eM_9
  refine b_aload_n 0 dX16_init_45 rfl rfl ?_
  refine b_aload 4 dX16_init_46 rfl ?_
  refine b_fR (ci := 16) (r := (RX16, TX16, 17)) (f := 5) (by decide) rfl (by decide) q744 (Or.inl rfl) rfl rfl rfl rfl h.1 dX16_init_48 ?_
  refine b_topm (fun M_10 eM_10 => ?_)
  replace h := h.2 M_10 eM_10
  refine b_aload_n 0 dX16_init_51 rfl rfl ?_
  refine b_aload 5 dX16_init_52 rfl ?_
  refine b_fR (ci := 16) (r := (RX16, TX16, 17)) (f := 6) (by decide) rfl (by decide) q746 (Or.inl rfl) rfl rfl rfl rfl h.1 dX16_init_54 ?_
  refine b_topm (fun M_11 eM_11 => ?_)
  replace h := h.2 M_11 eM_11
  refine b_aload_n 0 dX16_init_57 rfl rfl ?_
  refine b_iload 6 dX16_init_58 rfl ?_
  refine b_fI (ci := 16) (r := (RX16, TX16, 17)) (f := 2) (by decide) rfl (by decide) q735 (Or.inl rfl) rfl rfl rfl (Or.inl rfl) h.1 dX16_init_60 ?_
  refine b_topm (fun M_12 eM_12 => ?_)
  replace h := h.2 M_12 eM_12
  refine b_aload_n 0 dX16_init_63 rfl rfl ?_
  refine b_iload 7 dX16_init_64 rfl ?_
  refine b_fI (ci := 16) (r := (RX16, TX16, 17)) (f := 3) (by decide) rfl (by decide) q737 (Or.inl rfl) rfl rfl rfl (Or.inl rfl) h.1 dX16_init_66 ?_
  refine b_topm (fun M_13 eM_13 => ?_)
  replace h := h.2 M_13 eM_13
  exact b_vret rfl dX16_init_69 (hP _ h)
def v_X0_add (r0 : Nat × Nat) (r1 : Nat × Nat) (x2 : Int32) (r3 : Nat × Nat) (r4 : Nat × Nat) (x5 : Int32) (M : Mem) (Q : Nat × Nat → Mem → Prop) : Prop := rom M 17 ∧ (∃ i_1 : Nat, M.2.2.1 21 i_1 = 0 ∧ ∀ M_2 : Mem, M_2 = sN M 21 i_1 0 17 → (kt r0.1 = 0 ∧ (∀ e_3 : Nat × Nat, e_3 = M_2.2.1 r0.1 r0.2 9 → (lk e_3.1 ∧ (kt r0.1 = 0 ∧ (¬ 21 = 0 ∧ (v_X16_init (21, i_1) (M_2.1 e_3.1 e_3.2 0) r1 x2 r3 r4 x5 (M_2.1 r0.1 r0.2 0) M_2 (fun M_4 => kt r0.1 = 0 ∧ (∀ e_6 : Nat × Nat, e_6 = M_4.2.1 r0.1 r0.2 9 → (lk e_6.1 ∧ ekk 21 = true ∧ M_4.1 e_6.1 e_6.2 0 < 10000 ∧ rom M_4 10 ∧ (∀ M_7 : Mem, M_7 = lAdd M_4 e_6 (21, i_1) → (((r3 = (0, 0)) → (Q (21, i_1) M_7)) ∧ ((¬ r3 = (0, 0)) → (kt r3.1 = 16 ∧ (∀ e_8 : Nat × Nat, e_8 = M_7.2.1 r3.1 r3.2 7 → (lk e_8.1 ∧ ekk 21 = true ∧ M_7.1 e_8.1 e_8.2 0 < 10000 ∧ rom M_7 10 ∧ (∀ M_9 : Mem, M_9 = lAdd M_7 e_8 (21, i_1) → (Q (21, i_1) M_9))))))))))))))))))
set_option maxHeartbeats 4000000 in
theorem sv_X0_add {d : Nat} {M : Mem} {P : Option AV → Mem → Prop} {Q : Nat × Nat → Mem → Prop} {r0 : Nat × Nat} {r1 : Nat × Nat} {x2 : Int32} {r3 : Nat × Nat} {r4 : Nat × Nat} {x5 : Int32} (hP : ∀ r M, Q r M → P (some (.inr r)) M) (h : v_X0_add r0 r1 x2 r3 r4 x5 M Q) : cq (d + 9) mX0_add [.inr r0, .inr r1, .inl x2, .inr r3, .inr r4, .inl x5] M P := by
  refine cq_of (by decide) (Nat.le_of_ble_eq_true rfl) ?_
  show wq (d + 9) mX0_add 0 [(0, .inr r0), (1, .inr r1), (2, .inl x2), (3, .inr r3), (4, .inr r4), (5, .inl x5)] [] M P
  unfold v_X0_add at h
  obtain ⟨h1, i_1, ei_1, h⟩ := h
  refine b_nwo (k := 21) (i := i_1) (r := (RX16, TX16, 17)) (by decide) rfl h1 ei_1 q721 q722 q94 dX0_add_0 ?_
  refine b_topm (fun M_2 eM_2 => ?_)
  replace h := h M_2 eM_2
  refine b_dup dX0_add_3 ?_
  refine b_aload_n 0 dX0_add_4 rfl rfl ?_
  refine b_gR (ci := 0) (r := (RX0, TX0, 14)) (f := 9) (by decide) rfl (by decide) rfl (Or.inl q159) (Or.inl rfl) h.1 dX0_add_5 ?_
  refine b_topr (fun e_3 ee_3 => ?_)
  replace h := h.2 e_3 ee_3
  refine b_lsize (st := [.inr (21, i_1), .inr (21, i_1)]) h.1 (Or.inl q201) (Nat.le_of_ble_eq_true rfl) dX0_add_8 ?_
  replace h := h.2
  refine b_aload_n 1 dX0_add_11 rfl rfl ?_
  refine b_iload_n 2 dX0_add_12 rfl rfl ?_
  refine b_aload_n 3 dX0_add_13 rfl rfl ?_
  refine b_aload 4 dX0_add_14 rfl ?_
  refine b_iload 5 dX0_add_16 rfl ?_
  refine b_aload_n 0 dX0_add_18 rfl rfl ?_
  refine b_gI (ci := 0) (r := (RX0, TX0, 14)) (f := 0) (by decide) rfl (by decide) rfl (Or.inl q144) (Or.inl rfl) h.1 dX0_add_19 ?_
  replace h := h.2
  refine b_ci (y := mX16_init) (k := 21) (i := i_1) (as := [.inl (M_2.1 e_3.1 e_3.2 0), .inr r1, .inl x2, .inr r3, .inr r4, .inl x5, .inl (M_2.1 r0.1 r0.2 0)]) (st := [.inr (21, i_1)]) (n := 7) h.1 rfl rfl (Or.inl q723) q724 q94 q725 zmh_X16_init rfl (Nat.le_of_ble_eq_true rfl) (Nat.le_of_ble_eq_true rfl) dX0_add_22 (sv_X16_init (fun M_4 h => ?_) h.2)
  show wq (d + 9) mX0_add 25 [(0, .inr r0), (1, .inr r1), (2, .inl x2), (3, .inr r3), (4, .inr r4), (5, .inl x5)] [.inr (21, i_1)] M_4 P
  refine b_astore (lv' := [(6, .inr (21, i_1)), (0, .inr r0), (1, .inr r1), (2, .inl x2), (3, .inr r3), (4, .inr r4), (5, .inl x5)]) dX0_add_25 (Nat.le_of_ble_eq_true rfl) rfl ?_
  refine b_aload_n 1 dX0_add_27 rfl rfl ?_
  refine b_gR (ci := 0) (r := (RX0, TX0, 14)) (f := 9) (by decide) rfl (by decide) rfl (Or.inl q159) (Or.inl rfl) h.1 dX0_add_28 ?_
  refine b_topr (fun e_6 ee_6 => ?_)
  replace h := h.2 e_6 ee_6
  refine b_aload 0 dX0_add_31 rfl ?_
  refine b_ladd (st := []) h.1 h.2.1 h.2.2.1 h.2.2.2.1 (Or.inl q226) (Nat.le_of_ble_eq_true rfl) dX0_add_33 ?_
  refine b_topm (fun M_7 eM_7 => ?_)
  replace h := h.2.2.2.2 M_7 eM_7
  refine b_pop dX0_add_36 ?_
  refine b_aload_n 4 dX0_add_37 rfl rfl ?_
  refine b_ifnull (tgt := 51) dX0_add_38 (by decide) (fun c_10 => ?_) (fun c_10 => ?_)
  · replace h := h.1 c_10
    refine b_aload 0 dX0_add_51 rfl ?_
    exact b_aret rfl (Or.inl ⟨_, rfl⟩) dX0_add_53 (hP _ _ h)
  · replace h := h.2 c_10
    refine b_aload_n 4 dX0_add_41 rfl rfl ?_
    refine b_gR (ci := 16) (r := (RX16, TX16, 17)) (f := 7) (by decide) rfl (by decide) rfl (Or.inr ⟨_, q753⟩) (Or.inl rfl) h.1 dX0_add_42 ?_
    refine b_topr (fun e_8 ee_8 => ?_)
    replace h := h.2 e_8 ee_8
    refine b_aload 0 dX0_add_45 rfl ?_
    refine b_ladd (st := []) h.1 h.2.1 h.2.2.1 h.2.2.2.1 (Or.inl q226) (Nat.le_of_ble_eq_true rfl) dX0_add_47 ?_
    refine b_topm (fun M_9 eM_9 => ?_)
    replace h := h.2.2.2.2 M_9 eM_9
    refine b_pop dX0_add_50 ?_
    refine b_aload 0 dX0_add_51 rfl ?_
    exact b_aret rfl (Or.inl ⟨_, rfl⟩) dX0_add_53 (hP _ _ h)
def v_X3_fits (r0 : Nat × Nat) (x1 : Int32) (x2 : Int32) (x3 : Int32) (M : Mem) (Q : Int32 → Mem → Prop) : Prop := kt r0.1 = 3 ∧ (((¬ x1 = (M.1 r0.1 r0.2 0)) → (Q 0 M)) ∧ ((x1 = (M.1 r0.1 r0.2 0)) → (kt r0.1 = 3 ∧ (((¬ x2 = (M.1 r0.1 r0.2 1)) → (Q 0 M)) ∧ ((x2 = (M.1 r0.1 r0.2 1)) → (kt r0.1 = 3 ∧ (kt r0.1 = 3 ∧ ((v_X0_in x3 (M.1 r0.1 r0.2 2) (M.1 r0.1 r0.2 3) M (fun r_2 M_1 => ((r_2 = 0) → (Q 0 M_1)) ∧ ((¬ r_2 = 0) → (Q 1 M_1))))))))))))
set_option maxHeartbeats 4000000 in
theorem sv_X3_fits {d : Nat} {M : Mem} {P : Option AV → Mem → Prop} {Q : Int32 → Mem → Prop} {r0 : Nat × Nat} {x1 : Int32} {x2 : Int32} {x3 : Int32} (hP : ∀ r M, Q r M → P (some (.inl r)) M) (h : v_X3_fits r0 x1 x2 x3 M Q) : cq (d + 1) mX3_fits [.inr r0, .inl x1, .inl x2, .inl x3] M P := by
  refine cq_of (by decide) (Nat.le_of_ble_eq_true rfl) ?_
  show wq (d + 1) mX3_fits 0 [(0, .inr r0), (1, .inl x1), (2, .inl x2), (3, .inl x3)] [] M P
  unfold v_X3_fits at h
  refine b_iload_n 1 dX3_fits_0 rfl rfl ?_
  refine b_aload_n 0 dX3_fits_1 rfl rfl ?_
  refine b_gI (ci := 3) (r := (RX3, TX3, 5)) (f := 0) (by decide) rfl (by decide) rfl (Or.inl q307) (Or.inl rfl) h.1 dX3_fits_2 ?_
  replace h := h.2
  refine b_icmp_ne (tgt := 35) dX3_fits_5 (by decide) (fun c_5 => ?_) (fun c_5 => ?_)
  · replace h := h.1 c_5
    refine b_iconst (v := 0) dX3_fits_35 (by decide) ?_
    exact b_zret rfl (by decide) dX3_fits_36 (hP _ _ h)
  · replace h := h.2 c_5
    refine b_iload_n 2 dX3_fits_8 rfl rfl ?_
    refine b_aload_n 0 dX3_fits_9 rfl rfl ?_
    refine b_gI (ci := 3) (r := (RX3, TX3, 5)) (f := 1) (by decide) rfl (by decide) rfl (Or.inl q309) (Or.inl rfl) h.1 dX3_fits_10 ?_
    replace h := h.2
    refine b_icmp_ne (tgt := 35) dX3_fits_13 (by decide) (fun c_4 => ?_) (fun c_4 => ?_)
    · replace h := h.1 c_4
      refine b_iconst (v := 0) dX3_fits_35 (by decide) ?_
      exact b_zret rfl (by decide) dX3_fits_36 (hP _ _ h)
    · replace h := h.2 c_4
      refine b_iload_n 3 dX3_fits_16 rfl rfl ?_
      refine b_aload_n 0 dX3_fits_17 rfl rfl ?_
      refine b_gI (ci := 3) (r := (RX3, TX3, 5)) (f := 2) (by decide) rfl (by decide) rfl (Or.inl q311) (Or.inl rfl) h.1 dX3_fits_18 ?_
      replace h := h.2
      refine b_aload_n 0 dX3_fits_21 rfl rfl ?_
      refine b_gI (ci := 3) (r := (RX3, TX3, 5)) (f := 3) (by decide) rfl (by decide) rfl (Or.inl q313) (Or.inl rfl) h.1 dX3_fits_22 ?_
      replace h := h.2
      refine b_cs (y := mX0_in) (as := [.inl x3, .inl (M.1 r0.1 r0.2 2), .inl (M.1 r0.1 r0.2 3)]) (st := []) (n := 3) (Or.inr ⟨_, q828⟩) q199 q69 q200 zmh_X0_in rfl (Nat.le_of_ble_eq_true rfl) (Nat.le_of_ble_eq_true rfl) dX3_fits_25 (sv_X0_in (fun r_2 M_1 h => ?_) h)
      show wq (d + 1) mX3_fits 28 [(0, .inr r0), (1, .inl x1), (2, .inl x2), (3, .inl x3)] [.inl r_2] M_1 P
      refine b_if_eq (tgt := 35) dX3_fits_28 (by decide) (fun c_3 => ?_) (fun c_3 => ?_)
      · replace h := h.1 c_3
        refine b_iconst (v := 0) dX3_fits_35 (by decide) ?_
        exact b_zret rfl (by decide) dX3_fits_36 (hP _ _ h)
      · replace h := h.2 c_3
        refine b_iconst (v := 1) dX3_fits_31 (by decide) ?_
        refine b_goto (tgt := 36) dX3_fits_32 (by decide) ?_
        exact b_zret rfl (by decide) dX3_fits_36 (hP _ _ h)
def v_X0_beginTry_40 : Nat → Nat × Nat → Nat × Nat → Nat × Nat → Int32 → Nat × Nat → Int32 → Mem → (Mem → Prop) → Prop
  | 0, _, _, _, _, _, _, _, _ => False
  | n + 1, r0, r1, r3, x4, r5, x6, M, Q => kt r0.1 = 0 ∧ (∀ e_1 : Nat × Nat, e_1 = M.2.1 r0.1 r0.2 4 → (lk e_1.1 ∧ ((((M.1 e_1.1 e_1.2 0) ≤ x6) → (((¬ r3 = (0, 0)) → (Q M)) ∧ ((r3 = (0, 0)) → (kt r1.1 = 15 ∧ (∀ M_2 : Mem, M_2 = sR M r1.1 r1.2 7 r5 → (Q M_2)))))) ∧ ((¬ (M.1 e_1.1 e_1.2 0) ≤ x6) → (kt r0.1 = 0 ∧ (∀ e_4 : Nat × Nat, e_4 = M.2.1 r0.1 r0.2 4 → (lk e_4.1 ∧ (¬ x6 < 0 ∧ x6 < M.1 e_4.1 e_4.2 0) ∧ (∀ e_5 : Nat × Nat, e_5 = M.2.1 e_4.1 e_4.2 x6.toNatClampNeg → (kt e_5.1 = 3 ∧ (kt r1.1 = 15 ∧ (kt r0.1 = 0 ∧ (kt e_5.1 = 3 ∧ (v_X3_fits e_5 x4 (M.1 r1.1 r1.2 2) (M.1 r0.1 r0.2 0) M (fun r_7 M_6 => ((r_7 = 0) → (∀ x_8 : Int32, x_8 = x6 + 1 → (v_X0_beginTry_40 n r0 r1 r3 x4 r5 x_8 M_6 Q))) ∧ ((¬ r_7 = 0) → (kt r5.1 = 16 ∧ (kt r0.1 = 0 ∧ (∀ e_9 : Nat × Nat, e_9 = M_6.2.1 r0.1 r0.2 4 → (lk e_9.1 ∧ (¬ x6 < 0 ∧ x6 < M_6.1 e_9.1 e_9.2 0) ∧ (∀ e_10 : Nat × Nat, e_10 = M_6.2.1 e_9.1 e_9.2 x6.toNatClampNeg → (kt e_10.1 = 3 ∧ (kt e_10.1 = 3 ∧ (kt r5.1 = 16 ∧ (∀ M_11 : Mem, M_11 = sI M_6 r5.1 r5.2 15 ((M_6.1 r5.1 r5.2 15) + (M_6.1 e_10.1 e_10.2 4)) → (∀ x_12 : Int32, x_12 = x6 + 1 → (v_X0_beginTry_40 n r0 r1 r3 x4 r5 x_12 M_11 Q))))))))))))))))))))))))))
set_option maxHeartbeats 4000000 in
theorem sv_X0_beginTry_40 {d : Nat} {P : Option AV → Mem → Prop} {Q : Mem → Prop} (hP : ∀ M, Q M → P none M) : ∀ (n : Nat) (r0 : Nat × Nat) (r1 : Nat × Nat) (r3 : Nat × Nat) (x4 : Int32) (r5 : Nat × Nat) (x6 : Int32) (M : Mem), v_X0_beginTry_40 n r0 r1 r3 x4 r5 x6 M Q → wq (d + 10) mX0_beginTry 40 [(0, .inr r0), (1, .inr r1), (3, .inr r3), (4, .inl x4), (5, .inr r5), (6, .inl x6)] [] M P := by
  intro n
  induction n with
  | zero => intro r0 r1 r3 x4 r5 x6 M h; exact False.elim h
  | succ n ih =>
    intro r0 r1 r3 x4 r5 x6 M h
    rw [v_X0_beginTry_40] at h
    refine b_iload 5 dX0_beginTry_40 rfl ?_
    refine b_aload_n 0 dX0_beginTry_42 rfl rfl ?_
    refine b_gR (ci := 0) (r := (RX0, TX0, 14)) (f := 4) (by decide) rfl (by decide) rfl (Or.inl q150) (Or.inl rfl) h.1 dX0_beginTry_43 ?_
    refine b_topr (fun e_1 ee_1 => ?_)
    replace h := h.2 e_1 ee_1
    refine b_lsize (st := [.inl x6]) h.1 (Or.inl q201) (Nat.le_of_ble_eq_true rfl) dX0_beginTry_46 ?_
    replace h := h.2
    refine b_icmp_ge (tgt := 111) dX0_beginTry_49 (by decide) (fun c_14 => ?_) (fun c_14 => ?_)
    · replace h := h.1 c_14
      refine b_aload_n 2 dX0_beginTry_111 rfl rfl ?_
      refine b_ifnonnull (tgt := 121) dX0_beginTry_112 (by decide) (fun c_3 => ?_) (fun c_3 => ?_)
      · replace h := h.1 c_3
        exact b_vret rfl dX0_beginTry_121 (hP _ h)
      · replace h := h.2 c_3
        refine b_aload_n 1 dX0_beginTry_115 rfl rfl ?_
        refine b_aload 4 dX0_beginTry_116 rfl ?_
        refine b_pR (ci := 15) (r := (RX15, TX15, 10)) (f := 7) (by decide) rfl (by decide) (Or.inr ⟨_, q683⟩) (Or.inl rfl) rfl rfl h.1 dX0_beginTry_118 ?_
        refine b_topm (fun M_2 eM_2 => ?_)
        replace h := h.2 M_2 eM_2
        exact b_vret rfl dX0_beginTry_121 (hP _ h)
    · replace h := h.2 c_14
      refine b_aload_n 0 dX0_beginTry_52 rfl rfl ?_
      refine b_gR (ci := 0) (r := (RX0, TX0, 14)) (f := 4) (by decide) rfl (by decide) rfl (Or.inl q150) (Or.inl rfl) h.1 dX0_beginTry_53 ?_
      refine b_topr (fun e_4 ee_4 => ?_)
      replace h := h.2 e_4 ee_4
      refine b_iload 5 dX0_beginTry_56 rfl ?_
      refine b_lget (st := []) h.1 h.2.1 (Or.inl q624) (Nat.le_of_ble_eq_true rfl) dX0_beginTry_58 ?_
      refine b_topr (fun e_5 ee_5 => ?_)
      replace h := h.2.2 e_5 ee_5
      refine b_ck (ci := 3) (r := (RX3, TX3, 5)) rfl q301 h.1 dX0_beginTry_61 ?_
      replace h := h.2
      refine b_iload 3 dX0_beginTry_64 rfl ?_
      refine b_aload_n 1 dX0_beginTry_66 rfl rfl ?_
      refine b_gI (ci := 15) (r := (RX15, TX15, 10)) (f := 2) (by decide) rfl (by decide) rfl (Or.inr ⟨_, q671⟩) (Or.inl rfl) h.1 dX0_beginTry_67 ?_
      replace h := h.2
      refine b_aload_n 0 dX0_beginTry_70 rfl rfl ?_
      refine b_gI (ci := 0) (r := (RX0, TX0, 14)) (f := 0) (by decide) rfl (by decide) rfl (Or.inl q144) (Or.inl rfl) h.1 dX0_beginTry_71 ?_
      replace h := h.2
      refine b_cvo (y := mX3_fits) (ci := 3) (r := (RX3, TX3, 5)) (e := e_5) (as := [.inl x4, .inl (M.1 r1.1 r1.2 2), .inl (M.1 r0.1 r0.2 0)]) (st := []) (n := 3) rfl h.1 (Or.inl q824) q826 q825 q79 q827 zmh_X3_fits rfl (Nat.le_of_ble_eq_true rfl) (Nat.le_of_ble_eq_true rfl) dX0_beginTry_74 (sv_X3_fits (fun r_7 M_6 h => ?_) h.2)
      show wq (d + 10) mX0_beginTry 77 [(0, .inr r0), (1, .inr r1), (3, .inr r3), (4, .inl x4), (5, .inr r5), (6, .inl x6)] [.inl r_7] M_6 P
      refine b_if_eq (tgt := 105) dX0_beginTry_77 (by decide) (fun c_13 => ?_) (fun c_13 => ?_)
      · replace h := h.1 c_13
        obtain ⟨x_8, ex_8⟩ : ∃ y : Int32, y = x6 + 1 := ⟨_, rfl⟩
        replace h := h x_8 ex_8
        refine b_iinc (v := x_8) (lv' := [(6, .inl x_8), (0, .inr r0), (1, .inr r1), (3, .inr r3), (4, .inl x4), (5, .inr r5)]) 5 dX0_beginTry_105 rfl (by rw [ex_8]; rfl) (Nat.le_of_ble_eq_true rfl) rfl ?_
        refine b_goto (tgt := 40) dX0_beginTry_108 (by decide) ?_
        exact b_sub (by simp) (ih r0 r1 r3 x4 r5 x_8 M_6 h)
      · replace h := h.2 c_13
        refine b_aload 4 dX0_beginTry_80 rfl ?_
        refine b_dup dX0_beginTry_82 ?_
        refine b_gI (ci := 16) (r := (RX16, TX16, 17)) (f := 15) (by decide) rfl (by decide) rfl (Or.inr ⟨_, q782⟩) (Or.inl rfl) h.1 dX0_beginTry_83 ?_
        replace h := h.2
        refine b_aload_n 0 dX0_beginTry_86 rfl rfl ?_
        refine b_gR (ci := 0) (r := (RX0, TX0, 14)) (f := 4) (by decide) rfl (by decide) rfl (Or.inl q150) (Or.inl rfl) h.1 dX0_beginTry_87 ?_
        refine b_topr (fun e_9 ee_9 => ?_)
        replace h := h.2 e_9 ee_9
        refine b_iload 5 dX0_beginTry_90 rfl ?_
        refine b_lget (st := [.inl (M_6.1 r5.1 r5.2 15), .inr r5]) h.1 h.2.1 (Or.inl q624) (Nat.le_of_ble_eq_true rfl) dX0_beginTry_92 ?_
        refine b_topr (fun e_10 ee_10 => ?_)
        replace h := h.2.2 e_10 ee_10
        refine b_ck (ci := 3) (r := (RX3, TX3, 5)) rfl q301 h.1 dX0_beginTry_95 ?_
        replace h := h.2
        refine b_gI (ci := 3) (r := (RX3, TX3, 5)) (f := 4) (by decide) rfl (by decide) rfl (Or.inr ⟨_, q316⟩) (Or.inl rfl) h.1 dX0_beginTry_98 ?_
        replace h := h.2
        refine b_iadd dX0_beginTry_101 ?_
        refine b_pI (ci := 16) (r := (RX16, TX16, 17)) (f := 15) (by decide) rfl (by decide) (Or.inr ⟨_, q782⟩) (Or.inl rfl) rfl (Or.inl rfl) h.1 dX0_beginTry_102 ?_
        refine b_topm (fun M_11 eM_11 => ?_)
        replace h := h.2 M_11 eM_11
        obtain ⟨x_12, ex_12⟩ : ∃ y : Int32, y = x6 + 1 := ⟨_, rfl⟩
        replace h := h x_12 ex_12
        refine b_iinc (v := x_12) (lv' := [(6, .inl x_12), (0, .inr r0), (1, .inr r1), (3, .inr r3), (4, .inl x4), (5, .inr r5)]) 5 dX0_beginTry_105 rfl (by rw [ex_12]; rfl) (Nat.le_of_ble_eq_true rfl) rfl ?_
        refine b_goto (tgt := 40) dX0_beginTry_108 (by decide) ?_
        exact b_sub (by simp) (ih r0 r1 r3 x4 r5 x_12 M_11 h)
def v_X0_beginTry (r0 : Nat × Nat) (r1 : Nat × Nat) (x2 : Int32) (r3 : Nat × Nat) (x4 : Int32) (M : Mem) (Q : Mem → Prop) : Prop := kt r0.1 = 0 ∧ (v_X0_add r0 r1 x2 r3 (0, 0) x4 M (fun e_2 M_1 => kt r0.1 = 0 ∧ (kt r0.1 = 0 ∧ (∀ e_3 : Nat × Nat, e_3 = M_1.2.1 r0.1 r0.2 2 → (lk e_3.1 ∧ (¬ x4 < 0 ∧ x4 < M_1.1 e_3.1 e_3.2 0) ∧ (∀ e_4 : Nat × Nat, e_4 = M_1.2.1 e_3.1 e_3.2 x4.toNatClampNeg → (kt e_4.1 = 2 ∧ (kt e_4.1 = 2 ∧ (kt e_2.1 = 16 ∧ (∀ M_5 : Mem, M_5 = sI M_1 e_2.1 e_2.2 15 ((M_1.1 r0.1 r0.2 0) + (M_1.1 e_4.1 e_4.2 1)) → (∃ n, v_X0_beginTry_40 n r0 r1 r3 x4 e_2 0 M_5 Q)))))))))))
set_option maxHeartbeats 4000000 in
theorem sv_X0_beginTry {d : Nat} {M : Mem} {P : Option AV → Mem → Prop} {Q : Mem → Prop} {r0 : Nat × Nat} {r1 : Nat × Nat} {x2 : Int32} {r3 : Nat × Nat} {x4 : Int32} (hP : ∀ M, Q M → P none M) (h : v_X0_beginTry r0 r1 x2 r3 x4 M Q) : cq (d + 10) mX0_beginTry [.inr r0, .inr r1, .inl x2, .inr r3, .inl x4] M P := by
  refine cq_of (by decide) (Nat.le_of_ble_eq_true rfl) ?_
  show wq (d + 10) mX0_beginTry 0 [(0, .inr r0), (1, .inr r1), (2, .inl x2), (3, .inr r3), (4, .inl x4)] [] M P
  unfold v_X0_beginTry at h
  refine b_aload_n 0 dX0_beginTry_0 rfl rfl ?_
  refine b_aload_n 1 dX0_beginTry_1 rfl rfl ?_
  refine b_iload_n 2 dX0_beginTry_2 rfl rfl ?_
  refine b_aload_n 3 dX0_beginTry_3 rfl rfl ?_
  refine b_null dX0_beginTry_4 ?_
  refine b_iload 4 dX0_beginTry_5 rfl ?_
  refine b_cvo (y := mX0_add) (ci := 0) (r := (RX0, TX0, 14)) (e := r0) (as := [.inr r1, .inl x2, .inr r3, .inr (0, 0), .inl x4]) (st := []) (n := 5) rfl h.1 (Or.inl q717) qs8 q719 q69 q720 zmh_X0_add rfl (Nat.le_of_ble_eq_true rfl) (Nat.le_of_ble_eq_true rfl) dX0_beginTry_7 (sv_X0_add (fun e_2 M_1 h => ?_) h.2)
  show wq (d + 10) mX0_beginTry 10 [(0, .inr r0), (1, .inr r1), (2, .inl x2), (3, .inr r3), (4, .inl x4)] [.inr e_2] M_1 P
  refine b_astore (lv' := [(5, .inr e_2), (0, .inr r0), (1, .inr r1), (2, .inl x2), (3, .inr r3), (4, .inl x4)]) dX0_beginTry_10 (Nat.le_of_ble_eq_true rfl) rfl ?_
  refine b_aload 0 dX0_beginTry_12 rfl ?_
  refine b_aload_n 1 dX0_beginTry_14 rfl rfl ?_
  refine b_gI (ci := 0) (r := (RX0, TX0, 14)) (f := 0) (by decide) rfl (by decide) rfl (Or.inl q144) (Or.inl rfl) h.1 dX0_beginTry_15 ?_
  replace h := h.2
  refine b_aload_n 1 dX0_beginTry_18 rfl rfl ?_
  refine b_gR (ci := 0) (r := (RX0, TX0, 14)) (f := 2) (by decide) rfl (by decide) rfl (Or.inl q148) (Or.inl rfl) h.1 dX0_beginTry_19 ?_
  refine b_topr (fun e_3 ee_3 => ?_)
  replace h := h.2 e_3 ee_3
  refine b_iload 5 dX0_beginTry_22 rfl ?_
  refine b_lget (st := [.inl (M_1.1 r0.1 r0.2 0), .inr e_2]) h.1 h.2.1 (Or.inl q624) (Nat.le_of_ble_eq_true rfl) dX0_beginTry_24 ?_
  refine b_topr (fun e_4 ee_4 => ?_)
  replace h := h.2.2 e_4 ee_4
  refine b_ck (ci := 2) (r := (RX2, TX2, 3)) rfl q205 h.1 dX0_beginTry_27 ?_
  replace h := h.2
  refine b_gI (ci := 2) (r := (RX2, TX2, 3)) (f := 1) (by decide) rfl (by decide) rfl (Or.inr ⟨_, q214⟩) (Or.inl rfl) h.1 dX0_beginTry_30 ?_
  replace h := h.2
  refine b_iadd dX0_beginTry_33 ?_
  refine b_pI (ci := 16) (r := (RX16, TX16, 17)) (f := 15) (by decide) rfl (by decide) (Or.inr ⟨_, q782⟩) (Or.inl rfl) rfl (Or.inl rfl) h.1 dX0_beginTry_34 ?_
  refine b_topm (fun M_5 eM_5 => ?_)
  replace h := h.2 M_5 eM_5
  refine b_iconst (v := 0) dX0_beginTry_37 (by decide) ?_
  refine b_istore (lv' := [(6, .inl 0), (5, .inr e_2), (0, .inr r0), (1, .inr r1), (2, .inl x2), (3, .inr r3), (4, .inl x4)]) dX0_beginTry_38 (Nat.le_of_ble_eq_true rfl) rfl ?_
  obtain ⟨n, h⟩ := h
  exact b_sub (by simp) (sv_X0_beginTry_40 hP n r0 r1 r3 x4 e_2 0 M_5 h)
def v_X0_begin (d : Nat) (r0 : Nat × Nat) (r1 : Nat × Nat) (x2 : Int32) (r3 : Nat × Nat) (M : Mem) (Q : Mem → Prop) : Prop := kt r1.1 = 15 ∧ (∀ e_1 : Nat × Nat, e_1 = M.2.1 r1.1 r1.2 6 → (arLN M e_1 ∧ (((¬ x2 = (nI (M.2.2.1 e_1.1 e_1.2 - 1))) → (kt r1.1 = 15 ∧ (∀ e_2 : Nat × Nat, e_2 = M.2.1 r1.1 r1.2 6 → (arG M e_2 x2 ∧ (∀ e_3 : Nat × Nat, e_3 = M.2.1 e_2.1 e_2.2 x2.toNatClampNeg → (kt r0.1 = 0 ∧ (v_X0_add r0 r1 x2 r3 e_3 (-1) M (fun e_5 M_4 => ((¬ r3 = (0, 0)) → (kt e_5.1 = 16 ∧ (∀ e_6 : Nat × Nat, e_6 = M_4.2.1 e_5.1 e_5.2 6 → (gk e_6.1 ∧ (cq (d + 10) (vt_begins e_6.1) [.inr e_6, .inr e_5] M_4 (fun r_ M_7 => r_ = none ∧ (Q M_7))))))) ∧ ((r3 = (0, 0)) → (kt r1.1 = 15 ∧ (∀ M_9 : Mem, M_9 = sR M_4 r1.1 r1.2 7 e_5 → (kt e_5.1 = 16 ∧ (∀ e_10 : Nat × Nat, e_10 = M_9.2.1 e_5.1 e_5.2 6 → (gk e_10.1 ∧ (cq (d + 10) (vt_begins e_10.1) [.inr e_10, .inr e_5] M_9 (fun r_ M_11 => r_ = none ∧ (Q M_11))))))))))))))))) ∧ ((x2 = (nI (M.2.2.1 e_1.1 e_1.2 - 1))) → (kt r1.1 = 15 ∧ (kt r0.1 = 0 ∧ (v_X0_beginTry r0 r1 x2 r3 (M.1 r1.1 r1.2 1) M (fun M_14 => Q M_14))))))))
set_option maxHeartbeats 4000000 in
theorem sv_X0_begin {d : Nat} {M : Mem} {P : Option AV → Mem → Prop} {Q : Mem → Prop} {r0 : Nat × Nat} {r1 : Nat × Nat} {x2 : Int32} {r3 : Nat × Nat} (hP : ∀ M, Q M → P none M) (h : v_X0_begin d r0 r1 x2 r3 M Q) : cq (d + 11) mX0_begin [.inr r0, .inr r1, .inl x2, .inr r3] M P := by
  refine cq_of (by decide) (Nat.le_of_ble_eq_true rfl) ?_
  show wq (d + 11) mX0_begin 0 [(0, .inr r0), (1, .inr r1), (2, .inl x2), (3, .inr r3)] [] M P
  unfold v_X0_begin at h
  refine b_iload_n 2 dX0_begin_0 rfl rfl ?_
  refine b_aload_n 1 dX0_begin_1 rfl rfl ?_
  refine b_gR (ci := 15) (r := (RX15, TX15, 10)) (f := 6) (by decide) rfl (by decide) rfl (Or.inr ⟨_, q681⟩) (Or.inl rfl) h.1 dX0_begin_2 ?_
  refine b_topr (fun e_1 ee_1 => ?_)
  replace h := h.2 e_1 ee_1
  refine b_xalen h.1 dX0_begin_5 ?_
  replace h := h.2
  refine b_icmp_ne (tgt := 21) dX0_begin_6 (by decide) (fun c_16 => ?_) (fun c_16 => ?_)
  · replace h := h.1 c_16
    refine b_aload_n 0 dX0_begin_21 rfl rfl ?_
    refine b_aload_n 1 dX0_begin_22 rfl rfl ?_
    refine b_iload_n 2 dX0_begin_23 rfl rfl ?_
    refine b_aload_n 3 dX0_begin_24 rfl rfl ?_
    refine b_aload_n 1 dX0_begin_25 rfl rfl ?_
    refine b_gR (ci := 15) (r := (RX15, TX15, 10)) (f := 6) (by decide) rfl (by decide) rfl (Or.inr ⟨_, q681⟩) (Or.inl rfl) h.1 dX0_begin_26 ?_
    refine b_topr (fun e_2 ee_2 => ?_)
    replace h := h.2 e_2 ee_2
    refine b_iload_n 2 dX0_begin_29 rfl rfl ?_
    refine b_xaald h.1 dX0_begin_30 ?_
    refine b_topr (fun e_3 ee_3 => ?_)
    replace h := h.2 e_3 ee_3
    refine b_iconst (v := (-1)) dX0_begin_31 (by decide) ?_
    refine b_cvo (y := mX0_add) (ci := 0) (r := (RX0, TX0, 14)) (e := r0) (as := [.inr r1, .inl x2, .inr r3, .inr e_3, .inl (-1)]) (st := []) (n := 5) rfl h.1 (Or.inl q717) qs8 q719 q69 q720 zmh_X0_add rfl (Nat.le_of_ble_eq_true rfl) (Nat.le_of_ble_eq_true rfl) dX0_begin_32 (sv_X0_add (fun e_5 M_4 h => ?_) h.2)
    show wq (d + 11) mX0_begin 35 [(0, .inr r0), (1, .inr r1), (2, .inl x2), (3, .inr r3)] [.inr e_5] M_4 P
    refine b_astore (lv' := [(4, .inr e_5), (0, .inr r0), (1, .inr r1), (2, .inl x2), (3, .inr r3)]) dX0_begin_35 (Nat.le_of_ble_eq_true rfl) rfl ?_
    refine b_aload_n 4 dX0_begin_37 rfl rfl ?_
    refine b_ifnonnull (tgt := 47) dX0_begin_38 (by decide) (fun c_13 => ?_) (fun c_13 => ?_)
    · replace h := h.1 c_13
      refine b_aload 0 dX0_begin_47 rfl ?_
      refine b_gR (ci := 16) (r := (RX16, TX16, 17)) (f := 6) (by decide) rfl (by decide) rfl (Or.inr ⟨_, q748⟩) (Or.inl rfl) h.1 dX0_begin_49 ?_
      refine b_topr (fun e_6 ee_6 => ?_)
      replace h := h.2 e_6 ee_6
      refine b_aload 0 dX0_begin_52 rfl ?_
      refine b_d_begins (st := []) h.1 q829 (Nat.le_of_ble_eq_true rfl) dX0_begin_54 (cq.mono h.2 (fun _ M_7 h => ?_))
      obtain ⟨rfl, h⟩ := h
      show wq (d + 11) mX0_begin 57 [(4, .inr e_5), (0, .inr r0), (1, .inr r1), (2, .inl x2), (3, .inr r3)] [] M_7 P
      exact b_vret rfl dX0_begin_57 (hP _ h)
    · replace h := h.2 c_13
      refine b_aload_n 2 dX0_begin_41 rfl rfl ?_
      refine b_aload 0 dX0_begin_42 rfl ?_
      refine b_pR (ci := 15) (r := (RX15, TX15, 10)) (f := 7) (by decide) rfl (by decide) (Or.inr ⟨_, q683⟩) (Or.inl rfl) rfl rfl h.1 dX0_begin_44 ?_
      refine b_topm (fun M_9 eM_9 => ?_)
      replace h := h.2 M_9 eM_9
      refine b_aload 0 dX0_begin_47 rfl ?_
      refine b_gR (ci := 16) (r := (RX16, TX16, 17)) (f := 6) (by decide) rfl (by decide) rfl (Or.inr ⟨_, q748⟩) (Or.inl rfl) h.1 dX0_begin_49 ?_
      refine b_topr (fun e_10 ee_10 => ?_)
      replace h := h.2 e_10 ee_10
      refine b_aload 0 dX0_begin_52 rfl ?_
      refine b_d_begins (st := []) h.1 q829 (Nat.le_of_ble_eq_true rfl) dX0_begin_54 (cq.mono h.2 (fun _ M_11 h => ?_))
      obtain ⟨rfl, h⟩ := h
      show wq (d + 11) mX0_begin 57 [(4, .inr e_5), (0, .inr r0), (1, .inr r1), (2, .inl x2), (3, .inr r3)] [] M_11 P
      exact b_vret rfl dX0_begin_57 (hP _ h)
  · replace h := h.2 c_16
    refine b_aload_n 0 dX0_begin_9 rfl rfl ?_
    refine b_aload_n 1 dX0_begin_10 rfl rfl ?_
    refine b_iload_n 2 dX0_begin_11 rfl rfl ?_
    refine b_aload_n 3 dX0_begin_12 rfl rfl ?_
    refine b_aload_n 1 dX0_begin_13 rfl rfl ?_
    refine b_gI (ci := 15) (r := (RX15, TX15, 10)) (f := 1) (by decide) rfl (by decide) rfl (Or.inr ⟨_, q668⟩) (Or.inl rfl) h.1 dX0_begin_14 ?_
    replace h := h.2
    refine b_cvo (y := mX0_beginTry) (ci := 0) (r := (RX0, TX0, 14)) (e := r0) (as := [.inr r1, .inl x2, .inr r3, .inl (M.1 r1.1 r1.2 1)]) (st := []) (n := 4) rfl h.1 (Or.inl q713) qs7 q715 q69 q716 zmh_X0_beginTry rfl (Nat.le_of_ble_eq_true rfl) (Nat.le_of_ble_eq_true rfl) dX0_begin_17 (sv_X0_beginTry (fun M_14 h => ?_) h.2)
    show wq (d + 11) mX0_begin 20 [(0, .inr r0), (1, .inr r1), (2, .inl x2), (3, .inr r3)] [] M_14 P
    exact b_vret rfl dX0_begin_20 (hP _ h)
def v_X0_goesIn (d : Nat) (r0 : Nat × Nat) (r1 : Nat × Nat) (M : Mem) (Q : Mem → Prop) : Prop := kt r1.1 = 16 ∧ (∀ e_1 : Nat × Nat, e_1 = M.2.1 r1.1 r1.2 4 → (kt r1.1 = 16 ∧ (kt r0.1 = 0 ∧ (cq (d + 10) mX0_begin [.inr r0, .inr e_1, .inl ((M.1 r1.1 r1.2 1) + 1), .inr r1] M (fun r_ M_2 => r_ = none ∧ (Q M_2))))))
set_option maxHeartbeats 4000000 in
theorem sv_X0_goesIn {d : Nat} {M : Mem} {P : Option AV → Mem → Prop} {Q : Mem → Prop} {r0 : Nat × Nat} {r1 : Nat × Nat} (hP : ∀ M, Q M → P none M) (h : v_X0_goesIn d r0 r1 M Q) : cq (d + 11) mX0_goesIn [.inr r0, .inr r1] M P := by
  refine cq_of (by decide) (Nat.le_of_ble_eq_true rfl) ?_
  show wq (d + 11) mX0_goesIn 0 [(0, .inr r0), (1, .inr r1)] [] M P
  unfold v_X0_goesIn at h
  refine b_aload_n 0 dX0_goesIn_0 rfl rfl ?_
  refine b_aload_n 1 dX0_goesIn_1 rfl rfl ?_
  refine b_gR (ci := 16) (r := (RX16, TX16, 17)) (f := 4) (by decide) rfl (by decide) rfl (Or.inr ⟨_, q743⟩) (Or.inl rfl) h.1 dX0_goesIn_2 ?_
  refine b_topr (fun e_1 ee_1 => ?_)
  replace h := h.2 e_1 ee_1
  refine b_aload_n 1 dX0_goesIn_5 rfl rfl ?_
  refine b_gI (ci := 16) (r := (RX16, TX16, 17)) (f := 1) (by decide) rfl (by decide) rfl (Or.inr ⟨_, q734⟩) (Or.inl rfl) h.1 dX0_goesIn_6 ?_
  replace h := h.2
  refine b_iconst (v := 1) dX0_goesIn_9 (by decide) ?_
  refine b_iadd dX0_goesIn_10 ?_
  refine b_aload_n 1 dX0_goesIn_11 rfl rfl ?_
  refine b_cvo (y := mX0_begin) (ci := 0) (r := (RX0, TX0, 14)) (e := r0) (as := [.inr e_1, .inl ((M.1 r1.1 r1.2 1) + 1), .inr r1]) (st := []) (n := 3) rfl h.1 (Or.inl q709) qs6 q711 q69 q712 zmh_X0_begin rfl (Nat.le_of_ble_eq_true rfl) (Nat.le_of_ble_eq_true rfl) dX0_goesIn_12 (cq.mono h.2 (fun _ M_2 h => ?_))
  obtain ⟨rfl, h⟩ := h
  show wq (d + 11) mX0_goesIn 15 [(0, .inr r0), (1, .inr r1)] [] M_2 P
  exact b_vret rfl dX0_goesIn_15 (hP _ h)
def v_X17_init (r0 : Nat × Nat) (x1 : Int32) (x2 : Int32) (x3 : Int32) (x4 : Int32) (x5 : Int32) (M : Mem) (Q : Mem → Prop) : Prop := ¬ r0.1 = 0 ∧ (kt r0.1 = 17 ∧ (∀ M_1 : Mem, M_1 = sI M r0.1 r0.2 0 x1 → (kt r0.1 = 17 ∧ (∀ M_2 : Mem, M_2 = sI M_1 r0.1 r0.2 1 x2 → (kt r0.1 = 17 ∧ (∀ M_3 : Mem, M_3 = sI M_2 r0.1 r0.2 2 x3 → (kt r0.1 = 17 ∧ (∀ M_4 : Mem, M_4 = sI M_3 r0.1 r0.2 3 x4 → (kt r0.1 = 17 ∧ (∀ M_5 : Mem, M_5 = sI M_4 r0.1 r0.2 4 x5 → (Q M_5)))))))))))
set_option maxHeartbeats 4000000 in
theorem sv_X17_init {d : Nat} {M : Mem} {P : Option AV → Mem → Prop} {Q : Mem → Prop} {r0 : Nat × Nat} {x1 : Int32} {x2 : Int32} {x3 : Int32} {x4 : Int32} {x5 : Int32} (hP : ∀ M, Q M → P none M) (h : v_X17_init r0 x1 x2 x3 x4 x5 M Q) : cq (d + 1) mX17_init [.inr r0, .inl x1, .inl x2, .inl x3, .inl x4, .inl x5] M P := by
  refine cq_of (by decide) (Nat.le_of_ble_eq_true rfl) ?_
  show wq (d + 1) mX17_init 0 [(0, .inr r0), (1, .inl x1), (2, .inl x2), (3, .inl x3), (4, .inl x4), (5, .inl x5)] [] M P
  unfold v_X17_init at h
  refine b_aload_n 0 dX17_init_0 rfl rfl ?_
  refine b_obj h.1 q860 q109 q110 (Nat.le_of_ble_eq_true rfl) dX17_init_1 ?_
  replace h := h.2
  refine b_aload_n 0 dX17_init_4 rfl rfl ?_
  refine b_iload_n 1 dX17_init_5 rfl rfl ?_
  refine b_fI (ci := 17) (r := (RX17, TX17, 7)) (f := 0) (by decide) rfl (by decide) q861 (Or.inl rfl) rfl rfl rfl (Or.inl rfl) h.1 dX17_init_6 ?_
  refine b_topm (fun M_1 eM_1 => ?_)
  replace h := h.2 M_1 eM_1
  refine b_aload_n 0 dX17_init_9 rfl rfl ?_
  refine b_iload_n 2 dX17_init_10 rfl rfl ?_
  refine b_fI (ci := 17) (r := (RX17, TX17, 7)) (f := 1) (by decide) rfl (by decide) q862 (Or.inl rfl) rfl rfl rfl (Or.inl rfl) h.1 dX17_init_11 ?_
  refine b_topm (fun M_2 eM_2 => ?_)
  replace h := h.2 M_2 eM_2
  refine b_aload_n 0 dX17_init_14 rfl rfl ?_
  refine b_iload_n 3 dX17_init_15 rfl rfl ?_
  refine b_fI (ci := 17) (r := (RX17, TX17, 7)) (f := 2) (by decide) rfl (by decide) q865 (Or.inl rfl) rfl rfl rfl (Or.inl rfl) h.1 dX17_init_16 ?_
  refine b_topm (fun M_3 eM_3 => ?_)
  replace h := h.2 M_3 eM_3
  refine b_aload_n 0 dX17_init_19 rfl rfl ?_
  refine b_iload 4 dX17_init_20 rfl ?_
  refine b_fI (ci := 17) (r := (RX17, TX17, 7)) (f := 3) (by decide) rfl (by decide) q867 (Or.inl rfl) rfl rfl rfl (Or.inl rfl) h.1 dX17_init_22 ?_
  refine b_topm (fun M_4 eM_4 => ?_)
  replace h := h.2 M_4 eM_4
  refine b_aload_n 0 dX17_init_25 rfl rfl ?_
  refine b_iload 5 dX17_init_26 rfl ?_
  refine b_fI (ci := 17) (r := (RX17, TX17, 7)) (f := 4) (by decide) rfl (by decide) q869 (Or.inl rfl) rfl rfl rfl (Or.inl rfl) h.1 dX17_init_28 ?_
  refine b_topm (fun M_5 eM_5 => ?_)
  replace h := h.2 M_5 eM_5
  exact b_vret rfl dX17_init_31 (hP _ h)
def v_X0_failed (r0 : Nat × Nat) (x1 : Int32) (x2 : Int32) (x3 : Int32) (M : Mem) (Q : Nat × Nat → Mem → Prop) : Prop := rom M 7 ∧ (∃ i_1 : Nat, M.2.2.1 22 i_1 = 0 ∧ ∀ M_2 : Mem, M_2 = sN M 22 i_1 0 7 → (kt r0.1 = 0 ∧ (∀ e_3 : Nat × Nat, e_3 = M_2.2.1 r0.1 r0.2 10 → (lk e_3.1 ∧ (kt r0.1 = 0 ∧ (¬ 22 = 0 ∧ (v_X17_init (22, i_1) (M_2.1 e_3.1 e_3.2 0) x1 (M_2.1 r0.1 r0.2 0) x2 x3 M_2 (fun M_4 => kt r0.1 = 0 ∧ (∀ e_6 : Nat × Nat, e_6 = M_4.2.1 r0.1 r0.2 10 → (lk e_6.1 ∧ ekk 22 = true ∧ M_4.1 e_6.1 e_6.2 0 < 10000 ∧ rom M_4 10 ∧ (∀ M_7 : Mem, M_7 = lAdd M_4 e_6 (22, i_1) → (Q (22, i_1) M_7))))))))))))
set_option maxHeartbeats 4000000 in
theorem sv_X0_failed {d : Nat} {M : Mem} {P : Option AV → Mem → Prop} {Q : Nat × Nat → Mem → Prop} {r0 : Nat × Nat} {x1 : Int32} {x2 : Int32} {x3 : Int32} (hP : ∀ r M, Q r M → P (some (.inr r)) M) (h : v_X0_failed r0 x1 x2 x3 M Q) : cq (d + 9) mX0_failed [.inr r0, .inl x1, .inl x2, .inl x3] M P := by
  refine cq_of (by decide) (Nat.le_of_ble_eq_true rfl) ?_
  show wq (d + 9) mX0_failed 0 [(0, .inr r0), (1, .inl x1), (2, .inl x2), (3, .inl x3)] [] M P
  unfold v_X0_failed at h
  obtain ⟨h1, i_1, ei_1, h⟩ := h
  refine b_nwo (k := 22) (i := i_1) (r := (RX17, TX17, 7)) (by decide) rfl h1 ei_1 q855 q856 q95 dX0_failed_0 ?_
  refine b_topm (fun M_2 eM_2 => ?_)
  replace h := h M_2 eM_2
  refine b_dup dX0_failed_3 ?_
  refine b_aload_n 0 dX0_failed_4 rfl rfl ?_
  refine b_gR (ci := 0) (r := (RX0, TX0, 14)) (f := 10) (by decide) rfl (by decide) rfl (Or.inl q160) (Or.inl rfl) h.1 dX0_failed_5 ?_
  refine b_topr (fun e_3 ee_3 => ?_)
  replace h := h.2 e_3 ee_3
  refine b_lsize (st := [.inr (22, i_1), .inr (22, i_1)]) h.1 (Or.inl q201) (Nat.le_of_ble_eq_true rfl) dX0_failed_8 ?_
  replace h := h.2
  refine b_iload_n 1 dX0_failed_11 rfl rfl ?_
  refine b_aload_n 0 dX0_failed_12 rfl rfl ?_
  refine b_gI (ci := 0) (r := (RX0, TX0, 14)) (f := 0) (by decide) rfl (by decide) rfl (Or.inl q144) (Or.inl rfl) h.1 dX0_failed_13 ?_
  replace h := h.2
  refine b_iload_n 2 dX0_failed_16 rfl rfl ?_
  refine b_iload_n 3 dX0_failed_17 rfl rfl ?_
  refine b_ci (y := mX17_init) (k := 22) (i := i_1) (as := [.inl (M_2.1 e_3.1 e_3.2 0), .inl x1, .inl (M_2.1 r0.1 r0.2 0), .inl x2, .inl x3]) (st := [.inr (22, i_1)]) (n := 5) h.1 rfl rfl (Or.inl q857) q858 q95 q859 zmh_X17_init rfl (Nat.le_of_ble_eq_true rfl) (Nat.le_of_ble_eq_true rfl) dX0_failed_18 (sv_X17_init (fun M_4 h => ?_) h.2)
  show wq (d + 9) mX0_failed 21 [(0, .inr r0), (1, .inl x1), (2, .inl x2), (3, .inl x3)] [.inr (22, i_1)] M_4 P
  refine b_astore (lv' := [(4, .inr (22, i_1)), (0, .inr r0), (1, .inl x1), (2, .inl x2), (3, .inl x3)]) dX0_failed_21 (Nat.le_of_ble_eq_true rfl) rfl ?_
  refine b_aload_n 1 dX0_failed_23 rfl rfl ?_
  refine b_gR (ci := 0) (r := (RX0, TX0, 14)) (f := 10) (by decide) rfl (by decide) rfl (Or.inl q160) (Or.inl rfl) h.1 dX0_failed_24 ?_
  refine b_topr (fun e_6 ee_6 => ?_)
  replace h := h.2 e_6 ee_6
  refine b_aload 0 dX0_failed_27 rfl ?_
  refine b_ladd (st := []) h.1 h.2.1 h.2.2.1 h.2.2.2.1 (Or.inl q226) (Nat.le_of_ble_eq_true rfl) dX0_failed_29 ?_
  refine b_topm (fun M_7 eM_7 => ?_)
  replace h := h.2.2.2.2 M_7 eM_7
  refine b_pop dX0_failed_32 ?_
  refine b_aload 0 dX0_failed_33 rfl ?_
  exact b_aret rfl (Or.inl ⟨_, rfl⟩) dX0_failed_35 (hP _ _ h)
def v_X0_fails (d : Nat) (r0 : Nat × Nat) (r1 : Nat × Nat) (r2 : Nat × Nat) (M : Mem) (Q : Mem → Prop) : Prop := kt r1.1 = 16 ∧ (∀ M_1 : Mem, M_1 = sI M r1.1 r1.2 11 2 → (kt r1.1 = 16 ∧ (∀ M_2 : Mem, M_2 = sR M_1 r1.1 r1.2 16 r2 → (kt r0.1 = 0 ∧ (cq (d + 10) mX0_ended [.inr r0, .inr r1] M_2 (fun r_ M_3 => r_ = none ∧ (Q M_3)))))))
set_option maxHeartbeats 4000000 in
theorem sv_X0_fails {d : Nat} {M : Mem} {P : Option AV → Mem → Prop} {Q : Mem → Prop} {r0 : Nat × Nat} {r1 : Nat × Nat} {r2 : Nat × Nat} (hP : ∀ M, Q M → P none M) (h : v_X0_fails d r0 r1 r2 M Q) : cq (d + 11) mX0_fails [.inr r0, .inr r1, .inr r2] M P := by
  refine cq_of (by decide) (Nat.le_of_ble_eq_true rfl) ?_
  show wq (d + 11) mX0_fails 0 [(0, .inr r0), (1, .inr r1), (2, .inr r2)] [] M P
  unfold v_X0_fails at h
  refine b_aload_n 1 dX0_fails_0 rfl rfl ?_
  refine b_iconst (v := 2) dX0_fails_1 (by decide) ?_
  refine b_pI (ci := 16) (r := (RX16, TX16, 17)) (f := 11) (by decide) rfl (by decide) (Or.inr ⟨_, q767⟩) (Or.inl rfl) rfl (Or.inl rfl) h.1 dX0_fails_2 ?_
  refine b_topm (fun M_1 eM_1 => ?_)
  replace h := h.2 M_1 eM_1
  refine b_aload_n 1 dX0_fails_5 rfl rfl ?_
  refine b_aload_n 2 dX0_fails_6 rfl rfl ?_
  refine b_pR (ci := 16) (r := (RX16, TX16, 17)) (f := 16) (by decide) rfl (by decide) (Or.inr ⟨_, q788⟩) (Or.inl rfl) rfl rfl h.1 dX0_fails_7 ?_
  refine b_topm (fun M_2 eM_2 => ?_)
  replace h := h.2 M_2 eM_2
  refine b_aload_n 0 dX0_fails_10 rfl rfl ?_
  refine b_aload_n 1 dX0_fails_11 rfl rfl ?_
  refine b_cvo (y := mX0_ended) (ci := 0) (r := (RX0, TX0, 14)) (e := r0) (as := [.inr r1]) (st := []) (n := 1) rfl h.1 (Or.inl q895) qs13 q897 q69 q898 zmh_X0_ended rfl (Nat.le_of_ble_eq_true rfl) (Nat.le_of_ble_eq_true rfl) dX0_fails_12 (cq.mono h.2 (fun _ M_3 h => ?_))
  obtain ⟨rfl, h⟩ := h
  show wq (d + 11) mX0_fails 15 [(0, .inr r0), (1, .inr r1), (2, .inr r2)] [] M_3 P
  exact b_vret rfl dX0_fails_15 (hP _ h)
def v_X0_ended (d : Nat) (r0 : Nat × Nat) (r1 : Nat × Nat) (M : Mem) (Q : Mem → Prop) : Prop := kt r0.1 = 0 ∧ (kt r1.1 = 16 ∧ (∀ M_1 : Mem, M_1 = sI M r1.1 r1.2 13 (M.1 r0.1 r0.2 0) → (kt r1.1 = 16 ∧ (∀ e_2 : Nat × Nat, e_2 = M_1.2.1 r1.1 r1.2 5 → (((e_2 = (0, 0)) → (kt r1.1 = 16 ∧ (∀ e_3 : Nat × Nat, e_3 = M_1.2.1 r1.1 r1.2 4 → (kt r0.1 = 0 ∧ (kt e_3.1 = 15 ∧ (∀ M_4 : Mem, M_4 = sI M_1 e_3.1 e_3.2 9 (M_1.1 r0.1 r0.2 0) → (kt r0.1 = 0 ∧ (kt r0.1 = 0 ∧ (∀ M_5 : Mem, M_5 = sI M_4 r0.1 r0.2 1 ((M_4.1 r0.1 r0.2 1) + 1) → (Q M_5)))))))))) ∧ ((¬ e_2 = (0, 0)) → (kt r1.1 = 16 ∧ (∀ e_6 : Nat × Nat, e_6 = M_1.2.1 r1.1 r1.2 5 → (kt e_6.1 = 16 ∧ (∀ e_7 : Nat × Nat, e_7 = M_1.2.1 e_6.1 e_6.2 6 → (kt r1.1 = 16 ∧ (∀ e_8 : Nat × Nat, e_8 = M_1.2.1 r1.1 r1.2 5 → (gk e_7.1 ∧ (cq (d + 10) (vt_told e_7.1) [.inr e_7, .inr e_8, .inr r1] M_1 (fun r_ M_9 => r_ = none ∧ (Q M_9))))))))))))))))
set_option maxHeartbeats 4000000 in
theorem sv_X0_ended {d : Nat} {M : Mem} {P : Option AV → Mem → Prop} {Q : Mem → Prop} {r0 : Nat × Nat} {r1 : Nat × Nat} (hP : ∀ M, Q M → P none M) (h : v_X0_ended d r0 r1 M Q) : cq (d + 11) mX0_ended [.inr r0, .inr r1] M P := by
  refine cq_of (by decide) (Nat.le_of_ble_eq_true rfl) ?_
  show wq (d + 11) mX0_ended 0 [(0, .inr r0), (1, .inr r1)] [] M P
  unfold v_X0_ended at h
  refine b_aload_n 1 dX0_ended_0 rfl rfl ?_
  refine b_aload_n 0 dX0_ended_1 rfl rfl ?_
  refine b_gI (ci := 0) (r := (RX0, TX0, 14)) (f := 0) (by decide) rfl (by decide) rfl (Or.inl q144) (Or.inl rfl) h.1 dX0_ended_2 ?_
  replace h := h.2
  refine b_pI (ci := 16) (r := (RX16, TX16, 17)) (f := 13) (by decide) rfl (by decide) (Or.inr ⟨_, q773⟩) (Or.inl rfl) rfl (Or.inl rfl) h.1 dX0_ended_5 ?_
  refine b_topm (fun M_1 eM_1 => ?_)
  replace h := h.2 M_1 eM_1
  refine b_aload_n 1 dX0_ended_8 rfl rfl ?_
  refine b_gR (ci := 16) (r := (RX16, TX16, 17)) (f := 5) (by decide) rfl (by decide) rfl (Or.inr ⟨_, q745⟩) (Or.inl rfl) h.1 dX0_ended_9 ?_
  refine b_topr (fun e_2 ee_2 => ?_)
  replace h := h.2 e_2 ee_2
  refine b_ifnull (tgt := 31) dX0_ended_12 (by decide) (fun c_11 => ?_) (fun c_11 => ?_)
  · replace h := h.1 c_11
    refine b_aload_n 1 dX0_ended_31 rfl rfl ?_
    refine b_gR (ci := 16) (r := (RX16, TX16, 17)) (f := 4) (by decide) rfl (by decide) rfl (Or.inr ⟨_, q743⟩) (Or.inl rfl) h.1 dX0_ended_32 ?_
    refine b_topr (fun e_3 ee_3 => ?_)
    replace h := h.2 e_3 ee_3
    refine b_aload_n 0 dX0_ended_35 rfl rfl ?_
    refine b_gI (ci := 0) (r := (RX0, TX0, 14)) (f := 0) (by decide) rfl (by decide) rfl (Or.inl q144) (Or.inl rfl) h.1 dX0_ended_36 ?_
    replace h := h.2
    refine b_pI (ci := 15) (r := (RX15, TX15, 10)) (f := 9) (by decide) rfl (by decide) (Or.inr ⟨_, q687⟩) (Or.inl rfl) rfl (Or.inl rfl) h.1 dX0_ended_39 ?_
    refine b_topm (fun M_4 eM_4 => ?_)
    replace h := h.2 M_4 eM_4
    refine b_aload_n 0 dX0_ended_42 rfl rfl ?_
    refine b_dup dX0_ended_43 ?_
    refine b_gI (ci := 0) (r := (RX0, TX0, 14)) (f := 1) (by decide) rfl (by decide) rfl (Or.inl q146) (Or.inl rfl) h.1 dX0_ended_44 ?_
    replace h := h.2
    refine b_iconst (v := 1) dX0_ended_47 (by decide) ?_
    refine b_iadd dX0_ended_48 ?_
    refine b_pI (ci := 0) (r := (RX0, TX0, 14)) (f := 1) (by decide) rfl (by decide) (Or.inl q146) (Or.inl rfl) rfl (Or.inl rfl) h.1 dX0_ended_49 ?_
    refine b_topm (fun M_5 eM_5 => ?_)
    replace h := h.2 M_5 eM_5
    exact b_vret rfl dX0_ended_52 (hP _ h)
  · replace h := h.2 c_11
    refine b_aload_n 1 dX0_ended_15 rfl rfl ?_
    refine b_gR (ci := 16) (r := (RX16, TX16, 17)) (f := 5) (by decide) rfl (by decide) rfl (Or.inr ⟨_, q745⟩) (Or.inl rfl) h.1 dX0_ended_16 ?_
    refine b_topr (fun e_6 ee_6 => ?_)
    replace h := h.2 e_6 ee_6
    refine b_gR (ci := 16) (r := (RX16, TX16, 17)) (f := 6) (by decide) rfl (by decide) rfl (Or.inr ⟨_, q748⟩) (Or.inl rfl) h.1 dX0_ended_19 ?_
    refine b_topr (fun e_7 ee_7 => ?_)
    replace h := h.2 e_7 ee_7
    refine b_aload_n 1 dX0_ended_22 rfl rfl ?_
    refine b_gR (ci := 16) (r := (RX16, TX16, 17)) (f := 5) (by decide) rfl (by decide) rfl (Or.inr ⟨_, q745⟩) (Or.inl rfl) h.1 dX0_ended_23 ?_
    refine b_topr (fun e_8 ee_8 => ?_)
    replace h := h.2 e_8 ee_8
    refine b_aload_n 1 dX0_ended_26 rfl rfl ?_
    refine b_d_told (st := []) h.1 q899 (Nat.le_of_ble_eq_true rfl) dX0_ended_27 (cq.mono h.2 (fun _ M_9 h => ?_))
    obtain ⟨rfl, h⟩ := h
    show wq (d + 11) mX0_ended 30 [(0, .inr r0), (1, .inr r1)] [] M_9 P
    exact b_vret rfl dX0_ended_30 (hP _ h)
def v_X0_alike (d : Nat) (r0 : Nat × Nat) (r1 : Nat × Nat) (r2 : Nat × Nat) (M : Mem) (Q : Mem → Prop) : Prop := kt r2.1 = 16 ∧ (((¬ (M.1 r2.1 r2.2 11) = 1) → (kt r2.1 = 16 ∧ (∀ e_1 : Nat × Nat, e_1 = M.2.1 r2.1 r2.2 16 → (kt r0.1 = 0 ∧ (cq (d + 10) mX0_fails [.inr r0, .inr r1, .inr e_1] M (fun r_ M_2 => r_ = none ∧ (Q M_2))))))) ∧ (((M.1 r2.1 r2.2 11) = 1) → (kt r2.1 = 16 ∧ (kt r2.1 = 16 ∧ (kt r0.1 = 0 ∧ (cq (d + 10) mX0_good [.inr r0, .inr r1, .inl (M.1 r2.1 r2.2 12), .inl (M.1 r2.1 r2.2 9)] M (fun r_ M_4 => r_ = none ∧ (Q M_4))))))))
set_option maxHeartbeats 4000000 in
theorem sv_X0_alike {d : Nat} {M : Mem} {P : Option AV → Mem → Prop} {Q : Mem → Prop} {r0 : Nat × Nat} {r1 : Nat × Nat} {r2 : Nat × Nat} (hP : ∀ M, Q M → P none M) (h : v_X0_alike d r0 r1 r2 M Q) : cq (d + 11) mX0_alike [.inr r0, .inr r1, .inr r2] M P := by
  refine cq_of (by decide) (Nat.le_of_ble_eq_true rfl) ?_
  show wq (d + 11) mX0_alike 0 [(0, .inr r0), (1, .inr r1), (2, .inr r2)] [] M P
  unfold v_X0_alike at h
  refine b_aload_n 2 dX0_alike_0 rfl rfl ?_
  refine b_gI (ci := 16) (r := (RX16, TX16, 17)) (f := 11) (by decide) rfl (by decide) rfl (Or.inr ⟨_, q767⟩) (Or.inl rfl) h.1 dX0_alike_1 ?_
  replace h := h.2
  refine b_iconst (v := 1) dX0_alike_4 (by decide) ?_
  refine b_icmp_ne (tgt := 24) dX0_alike_5 (by decide) (fun c_6 => ?_) (fun c_6 => ?_)
  · replace h := h.1 c_6
    refine b_aload_n 0 dX0_alike_24 rfl rfl ?_
    refine b_aload_n 1 dX0_alike_25 rfl rfl ?_
    refine b_aload_n 2 dX0_alike_26 rfl rfl ?_
    refine b_gR (ci := 16) (r := (RX16, TX16, 17)) (f := 16) (by decide) rfl (by decide) rfl (Or.inr ⟨_, q788⟩) (Or.inl rfl) h.1 dX0_alike_27 ?_
    refine b_topr (fun e_1 ee_1 => ?_)
    replace h := h.2 e_1 ee_1
    refine b_cvo (y := mX0_fails) (ci := 0) (r := (RX0, TX0, 14)) (e := r0) (as := [.inr r1, .inr e_1]) (st := []) (n := 2) rfl h.1 (Or.inl q913) qs12 q893 q69 q894 zmh_X0_fails rfl (Nat.le_of_ble_eq_true rfl) (Nat.le_of_ble_eq_true rfl) dX0_alike_30 (cq.mono h.2 (fun _ M_2 h => ?_))
    obtain ⟨rfl, h⟩ := h
    show wq (d + 11) mX0_alike 33 [(0, .inr r0), (1, .inr r1), (2, .inr r2)] [] M_2 P
    exact b_vret rfl dX0_alike_33 (hP _ h)
  · replace h := h.2 c_6
    refine b_aload_n 0 dX0_alike_8 rfl rfl ?_
    refine b_aload_n 1 dX0_alike_9 rfl rfl ?_
    refine b_aload_n 2 dX0_alike_10 rfl rfl ?_
    refine b_gI (ci := 16) (r := (RX16, TX16, 17)) (f := 12) (by decide) rfl (by decide) rfl (Or.inr ⟨_, q771⟩) (Or.inl rfl) h.1 dX0_alike_11 ?_
    replace h := h.2
    refine b_aload_n 2 dX0_alike_14 rfl rfl ?_
    refine b_gI (ci := 16) (r := (RX16, TX16, 17)) (f := 9) (by decide) rfl (by decide) rfl (Or.inr ⟨_, q758⟩) (Or.inl rfl) h.1 dX0_alike_15 ?_
    replace h := h.2
    refine b_cvo (y := mX0_good) (ci := 0) (r := (RX0, TX0, 14)) (e := r0) (as := [.inr r1, .inl (M.1 r2.1 r2.2 12), .inl (M.1 r2.1 r2.2 9)]) (st := []) (n := 3) rfl h.1 (Or.inl q909) qs15 q911 q69 q912 zmh_X0_good rfl (Nat.le_of_ble_eq_true rfl) (Nat.le_of_ble_eq_true rfl) dX0_alike_18 (cq.mono h.2 (fun _ M_4 h => ?_))
    obtain ⟨rfl, h⟩ := h
    show wq (d + 11) mX0_alike 21 [(0, .inr r0), (1, .inr r1), (2, .inr r2)] [] M_4 P
    refine b_goto (tgt := 33) dX0_alike_21 (by decide) ?_
    exact b_vret rfl dX0_alike_33 (hP _ h)
def v_X0_good (d : Nat) (r0 : Nat × Nat) (r1 : Nat × Nat) (x2 : Int32) (x3 : Int32) (M : Mem) (Q : Mem → Prop) : Prop := kt r1.1 = 16 ∧ (∀ M_1 : Mem, M_1 = sI M r1.1 r1.2 11 1 → (kt r1.1 = 16 ∧ (∀ M_2 : Mem, M_2 = sI M_1 r1.1 r1.2 12 x2 → ((x3 = 0 ∨ x3 = 1) ∧ kt r1.1 = 16 ∧ (∀ M_3 : Mem, M_3 = sI M_2 r1.1 r1.2 9 x3 → (kt r0.1 = 0 ∧ (cq (d + 10) mX0_ended [.inr r0, .inr r1] M_3 (fun r_ M_4 => r_ = none ∧ (Q M_4)))))))))
set_option maxHeartbeats 4000000 in
theorem sv_X0_good {d : Nat} {M : Mem} {P : Option AV → Mem → Prop} {Q : Mem → Prop} {r0 : Nat × Nat} {r1 : Nat × Nat} {x2 : Int32} {x3 : Int32} (hP : ∀ M, Q M → P none M) (h : v_X0_good d r0 r1 x2 x3 M Q) : cq (d + 11) mX0_good [.inr r0, .inr r1, .inl x2, .inl x3] M P := by
  refine cq_of (by decide) (Nat.le_of_ble_eq_true rfl) ?_
  show wq (d + 11) mX0_good 0 [(0, .inr r0), (1, .inr r1), (2, .inl x2), (3, .inl x3)] [] M P
  unfold v_X0_good at h
  refine b_aload_n 1 dX0_good_0 rfl rfl ?_
  refine b_iconst (v := 1) dX0_good_1 (by decide) ?_
  refine b_pI (ci := 16) (r := (RX16, TX16, 17)) (f := 11) (by decide) rfl (by decide) (Or.inr ⟨_, q767⟩) (Or.inl rfl) rfl (Or.inl rfl) h.1 dX0_good_2 ?_
  refine b_topm (fun M_1 eM_1 => ?_)
  replace h := h.2 M_1 eM_1
  refine b_aload_n 1 dX0_good_5 rfl rfl ?_
  refine b_iload_n 2 dX0_good_6 rfl rfl ?_
  refine b_pI (ci := 16) (r := (RX16, TX16, 17)) (f := 12) (by decide) rfl (by decide) (Or.inr ⟨_, q771⟩) (Or.inl rfl) rfl (Or.inl rfl) h.1 dX0_good_7 ?_
  refine b_topm (fun M_2 eM_2 => ?_)
  replace h := h.2 M_2 eM_2
  refine b_aload_n 1 dX0_good_10 rfl rfl ?_
  refine b_iload_n 3 dX0_good_11 rfl rfl ?_
  refine b_pI (ci := 16) (r := (RX16, TX16, 17)) (f := 9) (by decide) rfl (by decide) (Or.inr ⟨_, q758⟩) (Or.inl rfl) rfl (Or.inr ⟨rfl, h.1⟩) h.2.1 dX0_good_12 ?_
  refine b_topm (fun M_3 eM_3 => ?_)
  replace h := h.2.2 M_3 eM_3
  refine b_aload_n 0 dX0_good_15 rfl rfl ?_
  refine b_aload_n 1 dX0_good_16 rfl rfl ?_
  refine b_cvo (y := mX0_ended) (ci := 0) (r := (RX0, TX0, 14)) (e := r0) (as := [.inr r1]) (st := []) (n := 1) rfl h.1 (Or.inl q895) qs13 q897 q69 q898 zmh_X0_ended rfl (Nat.le_of_ble_eq_true rfl) (Nat.le_of_ble_eq_true rfl) dX0_good_17 (cq.mono h.2 (fun _ M_4 h => ?_))
  obtain ⟨rfl, h⟩ := h
  show wq (d + 11) mX0_good 20 [(0, .inr r0), (1, .inr r1), (2, .inl x2), (3, .inl x3)] [] M_4 P
  exact b_vret rfl dX0_good_20 (hP _ h)
def v_X0_isUnder_2 : Nat → Int32 → Int32 → Mem → (Int32 → Mem → Prop) → Prop
  | 0, _, _, _, _ => False
  | n + 1, x1, x2, M, Q => ((x2 = (-1)) → (Q 0 M)) ∧ ((¬ x2 = (-1)) → (((¬ x2 = x1) → (arI M (44, 0) 100 x2 ∧ (∀ x_1 : Int32, x_1 = M.1 44 0 x2.toNatClampNeg → (v_X0_isUnder_2 n x1 x_1 M Q)))) ∧ ((x2 = x1) → (Q 1 M))))
set_option maxHeartbeats 4000000 in
theorem sv_X0_isUnder_2 {d : Nat} {P : Option AV → Mem → Prop} {Q : Int32 → Mem → Prop} (hP : ∀ r M, Q r M → P (some (.inl r)) M) : ∀ (n : Nat) (x1 : Int32) (x2 : Int32) (M : Mem), v_X0_isUnder_2 n x1 x2 M Q → wq d mX0_isUnder 2 [(1, .inl x1), (2, .inl x2)] [] M P := by
  intro n
  induction n with
  | zero => intro x1 x2 M h; exact False.elim h
  | succ n ih =>
    intro x1 x2 M h
    rw [v_X0_isUnder_2] at h
    refine b_iload_n 1 dX0_isUnder_2 rfl rfl ?_
    refine b_iconst (v := (-1)) dX0_isUnder_3 (by decide) ?_
    refine b_icmp_eq (tgt := 23) dX0_isUnder_4 (by decide) (fun c_3 => ?_) (fun c_3 => ?_)
    · replace h := h.1 c_3
      refine b_iconst (v := 0) dX0_isUnder_23 (by decide) ?_
      exact b_zret rfl (by decide) dX0_isUnder_24 (hP _ _ h)
    · replace h := h.2 c_3
      refine b_iload_n 1 dX0_isUnder_7 rfl rfl ?_
      refine b_iload_n 0 dX0_isUnder_8 rfl rfl ?_
      refine b_icmp_ne (tgt := 14) dX0_isUnder_9 (by decide) (fun c_2 => ?_) (fun c_2 => ?_)
      · replace h := h.1 c_2
        refine b_above q931 dX0_isUnder_14 ?_
        refine b_iload_n 1 dX0_isUnder_17 rfl rfl ?_
        refine b_xiald h.1 dX0_isUnder_18 ?_
        replace h := h.2
        refine b_topi (fun x_1 ex_1 => ?_)
        replace h := h x_1 ex_1
        refine b_istore_n (lv' := [(2, .inl x_1), (1, .inl x1)]) dX0_isUnder_19 rfl (Nat.le_of_ble_eq_true rfl) rfl ?_
        refine b_goto (tgt := 2) dX0_isUnder_20 (by decide) ?_
        exact b_sub (by simp) (ih x1 x_1 M h)
      · replace h := h.2 c_2
        refine b_iconst (v := 1) dX0_isUnder_12 (by decide) ?_
        exact b_zret rfl (by decide) dX0_isUnder_13 (hP _ _ h)
def v_X0_isUnder (x0 : Int32) (x1 : Int32) (M : Mem) (Q : Int32 → Mem → Prop) : Prop := ∃ n, v_X0_isUnder_2 n x1 x0 M Q
set_option maxHeartbeats 4000000 in
theorem sv_X0_isUnder {d : Nat} {M : Mem} {P : Option AV → Mem → Prop} {Q : Int32 → Mem → Prop} {x0 : Int32} {x1 : Int32} (hP : ∀ r M, Q r M → P (some (.inl r)) M) (h : v_X0_isUnder x0 x1 M Q) : cq d mX0_isUnder [.inl x0, .inl x1] M P := by
  refine cq_of (by decide) (Nat.le_of_ble_eq_true rfl) ?_
  show wq d mX0_isUnder 0 [(0, .inl x0), (1, .inl x1)] [] M P
  unfold v_X0_isUnder at h
  refine b_iload_n 0 dX0_isUnder_0 rfl rfl ?_
  refine b_istore_n (lv' := [(2, .inl x0), (0, .inl x0), (1, .inl x1)]) dX0_isUnder_1 rfl (Nat.le_of_ble_eq_true rfl) rfl ?_
  obtain ⟨n, h⟩ := h
  exact b_sub (by simp) (sv_X0_isUnder_2 hP n x1 x0 M h)
def v_X16_isUnderWay (r0 : Nat × Nat) (M : Mem) (Q : Int32 → Mem → Prop) : Prop := kt r0.1 = 16 ∧ (((¬ (M.1 r0.1 r0.2 11) = 0) → (Q 0 M)) ∧ (((M.1 r0.1 r0.2 11) = 0) → (Q 1 M)))
set_option maxHeartbeats 4000000 in
theorem sv_X16_isUnderWay {d : Nat} {M : Mem} {P : Option AV → Mem → Prop} {Q : Int32 → Mem → Prop} {r0 : Nat × Nat} (hP : ∀ r M, Q r M → P (some (.inl r)) M) (h : v_X16_isUnderWay r0 M Q) : cq d mX16_isUnderWay [.inr r0] M P := by
  refine cq_of (by decide) (Nat.le_of_ble_eq_true rfl) ?_
  show wq d mX16_isUnderWay 0 [(0, .inr r0)] [] M P
  unfold v_X16_isUnderWay at h
  refine b_aload_n 0 dX16_isUnderWay_0 rfl rfl ?_
  refine b_gI (ci := 16) (r := (RX16, TX16, 17)) (f := 11) (by decide) rfl (by decide) rfl (Or.inl q760) (Or.inl rfl) h.1 dX16_isUnderWay_1 ?_
  replace h := h.2
  refine b_if_ne (tgt := 11) dX16_isUnderWay_4 (by decide) (fun c_1 => ?_) (fun c_1 => ?_)
  · replace h := h.1 c_1
    refine b_iconst (v := 0) dX16_isUnderWay_11 (by decide) ?_
    exact b_zret rfl (by decide) dX16_isUnderWay_12 (hP _ _ h)
  · replace h := h.2 c_1
    refine b_iconst (v := 1) dX16_isUnderWay_7 (by decide) ?_
    refine b_goto (tgt := 12) dX16_isUnderWay_8 (by decide) ?_
    exact b_zret rfl (by decide) dX16_isUnderWay_12 (hP _ _ h)
def v_X16_isWithin_2 : Nat → Nat × Nat → Nat × Nat → Mem → (Int32 → Mem → Prop) → Prop
  | 0, _, _, _, _ => False
  | n + 1, r1, r2, M, Q => ((r2 = (0, 0)) → (Q 0 M)) ∧ ((¬ r2 = (0, 0)) → (((¬ r2 = r1) → (kt r2.1 = 16 ∧ (∀ e_1 : Nat × Nat, e_1 = M.2.1 r2.1 r2.2 5 → (v_X16_isWithin_2 n r1 e_1 M Q)))) ∧ ((r2 = r1) → (Q 1 M))))
set_option maxHeartbeats 4000000 in
theorem sv_X16_isWithin_2 {d : Nat} {P : Option AV → Mem → Prop} {Q : Int32 → Mem → Prop} (hP : ∀ r M, Q r M → P (some (.inl r)) M) : ∀ (n : Nat) (r1 : Nat × Nat) (r2 : Nat × Nat) (M : Mem), v_X16_isWithin_2 n r1 r2 M Q → wq d mX16_isWithin 2 [(1, .inr r1), (2, .inr r2)] [] M P := by
  intro n
  induction n with
  | zero => intro r1 r2 M h; exact False.elim h
  | succ n ih =>
    intro r1 r2 M h
    rw [v_X16_isWithin_2] at h
    refine b_aload_n 1 dX16_isWithin_2 rfl rfl ?_
    refine b_ifnull (tgt := 21) dX16_isWithin_3 (by decide) (fun c_3 => ?_) (fun c_3 => ?_)
    · replace h := h.1 c_3
      refine b_iconst (v := 0) dX16_isWithin_21 (by decide) ?_
      exact b_zret rfl (by decide) dX16_isWithin_22 (hP _ _ h)
    · replace h := h.2 c_3
      refine b_aload_n 1 dX16_isWithin_6 rfl rfl ?_
      refine b_aload_n 0 dX16_isWithin_7 rfl rfl ?_
      refine b_acmp_ne (tgt := 13) dX16_isWithin_8 (by decide) (fun c_2 => ?_) (fun c_2 => ?_)
      · replace h := h.1 c_2
        refine b_aload_n 1 dX16_isWithin_13 rfl rfl ?_
        refine b_gR (ci := 16) (r := (RX16, TX16, 17)) (f := 5) (by decide) rfl (by decide) rfl (Or.inl q744) (Or.inl rfl) h.1 dX16_isWithin_14 ?_
        refine b_topr (fun e_1 ee_1 => ?_)
        replace h := h.2 e_1 ee_1
        refine b_astore_n (lv' := [(2, .inr e_1), (1, .inr r1)]) dX16_isWithin_17 rfl (Nat.le_of_ble_eq_true rfl) rfl ?_
        refine b_goto (tgt := 2) dX16_isWithin_18 (by decide) ?_
        exact b_sub (by simp) (ih r1 e_1 M h)
      · replace h := h.2 c_2
        refine b_iconst (v := 1) dX16_isWithin_11 (by decide) ?_
        exact b_zret rfl (by decide) dX16_isWithin_12 (hP _ _ h)
def v_X16_isWithin (r0 : Nat × Nat) (r1 : Nat × Nat) (M : Mem) (Q : Int32 → Mem → Prop) : Prop := ∃ n, v_X16_isWithin_2 n r1 r0 M Q
set_option maxHeartbeats 4000000 in
theorem sv_X16_isWithin {d : Nat} {M : Mem} {P : Option AV → Mem → Prop} {Q : Int32 → Mem → Prop} {r0 : Nat × Nat} {r1 : Nat × Nat} (hP : ∀ r M, Q r M → P (some (.inl r)) M) (h : v_X16_isWithin r0 r1 M Q) : cq d mX16_isWithin [.inr r0, .inr r1] M P := by
  refine cq_of (by decide) (Nat.le_of_ble_eq_true rfl) ?_
  show wq d mX16_isWithin 0 [(0, .inr r0), (1, .inr r1)] [] M P
  unfold v_X16_isWithin at h
  refine b_aload_n 0 dX16_isWithin_0 rfl rfl ?_
  refine b_astore_n (lv' := [(2, .inr r0), (0, .inr r0), (1, .inr r1)]) dX16_isWithin_1 rfl (Nat.le_of_ble_eq_true rfl) rfl ?_
  obtain ⟨n, h⟩ := h
  exact b_sub (by simp) (sv_X16_isWithin_2 hP n r1 r0 M h)
def v_X0_takeBack_126 (d : Nat) : Nat → Nat × Nat → Int32 → Mem → (Int32 → Mem → Prop) → Prop
  | 0, _, _, _, _ => False
  | n + 1, r2, x3, M, Q => lk r2.1 ∧ ((((M.1 r2.1 r2.2 0) ≤ x3) → (lk r2.1 ∧ (Q (M.1 r2.1 r2.2 0) M))) ∧ ((¬ (M.1 r2.1 r2.2 0) ≤ x3) → (lk r2.1 ∧ (¬ x3 < 0 ∧ x3 < M.1 r2.1 r2.2 0) ∧ (∀ e_1 : Nat × Nat, e_1 = M.2.1 r2.1 r2.2 x3.toNatClampNeg → (kt e_1.1 = 16 ∧ (kt e_1.1 = 16 ∧ (∀ e_2 : Nat × Nat, e_2 = M.2.1 e_1.1 e_1.2 6 → (((e_2 = (0, 0)) → (∀ x_3 : Int32, x_3 = x3 + 1 → (v_X0_takeBack_126 d n r2 x_3 M Q))) ∧ ((¬ e_2 = (0, 0)) → (lk r2.1 ∧ (¬ x3 < 0 ∧ x3 < M.1 r2.1 r2.2 0) ∧ (∀ e_4 : Nat × Nat, e_4 = M.2.1 r2.1 r2.2 x3.toNatClampNeg → (kt e_4.1 = 16 ∧ (kt e_4.1 = 16 ∧ (∀ e_5 : Nat × Nat, e_5 = M.2.1 e_4.1 e_4.2 6 → (lk r2.1 ∧ (¬ x3 < 0 ∧ x3 < M.1 r2.1 r2.2 0) ∧ (∀ e_6 : Nat × Nat, e_6 = M.2.1 r2.1 r2.2 x3.toNatClampNeg → (kt e_6.1 = 16 ∧ (gk e_5.1 ∧ (cq (d + 10) (vt_takenBack e_5.1) [.inr e_5, .inr e_6] M (fun r_ M_7 => r_ = none ∧ (∀ x_9 : Int32, x_9 = x3 + 1 → (v_X0_takeBack_126 d n r2 x_9 M_7 Q))))))))))))))))))))))
set_option maxHeartbeats 4000000 in
theorem sv_X0_takeBack_126 {d : Nat} {P : Option AV → Mem → Prop} {Q : Int32 → Mem → Prop} (hP : ∀ r M, Q r M → P (some (.inl r)) M) : ∀ (n : Nat) (r2 : Nat × Nat) (x3 : Int32) (M : Mem), v_X0_takeBack_126 d n r2 x3 M Q → wq (d + 11) mX0_takeBack 126 [(2, .inr r2), (3, .inl x3)] [] M P := by
  intro n
  induction n with
  | zero => intro r2 x3 M h; exact False.elim h
  | succ n ih =>
    intro r2 x3 M h
    rw [v_X0_takeBack_126] at h
    refine b_iload_n 1 dX0_takeBack_126 rfl rfl ?_
    refine b_aload_n 0 dX0_takeBack_127 rfl rfl ?_
    refine b_lsize (st := [.inl x3]) h.1 (Or.inl q201) (Nat.le_of_ble_eq_true rfl) dX0_takeBack_128 ?_
    replace h := h.2
    refine b_icmp_ge (tgt := 176) dX0_takeBack_131 (by decide) (fun c_11 => ?_) (fun c_11 => ?_)
    · replace h := h.1 c_11
      refine b_aload_n 0 dX0_takeBack_176 rfl rfl ?_
      refine b_lsize (st := []) h.1 (Or.inl q201) (Nat.le_of_ble_eq_true rfl) dX0_takeBack_177 ?_
      replace h := h.2
      exact b_iret rfl dX0_takeBack_180 (hP _ _ h)
    · replace h := h.2 c_11
      refine b_aload_n 0 dX0_takeBack_134 rfl rfl ?_
      refine b_iload_n 1 dX0_takeBack_135 rfl rfl ?_
      refine b_lget (st := []) h.1 h.2.1 (Or.inl q624) (Nat.le_of_ble_eq_true rfl) dX0_takeBack_136 ?_
      refine b_topr (fun e_1 ee_1 => ?_)
      replace h := h.2.2 e_1 ee_1
      refine b_ck (ci := 16) (r := (RX16, TX16, 17)) rfl q721 h.1 dX0_takeBack_139 ?_
      replace h := h.2
      refine b_gR (ci := 16) (r := (RX16, TX16, 17)) (f := 6) (by decide) rfl (by decide) rfl (Or.inr ⟨_, q748⟩) (Or.inl rfl) h.1 dX0_takeBack_142 ?_
      refine b_topr (fun e_2 ee_2 => ?_)
      replace h := h.2 e_2 ee_2
      refine b_ifnull (tgt := 170) dX0_takeBack_145 (by decide) (fun c_10 => ?_) (fun c_10 => ?_)
      · replace h := h.1 c_10
        obtain ⟨x_3, ex_3⟩ : ∃ y : Int32, y = x3 + 1 := ⟨_, rfl⟩
        replace h := h x_3 ex_3
        refine b_iinc (v := x_3) (lv' := [(3, .inl x_3), (2, .inr r2)]) 1 dX0_takeBack_170 rfl (by rw [ex_3]; rfl) (Nat.le_of_ble_eq_true rfl) rfl ?_
        refine b_goto (tgt := 126) dX0_takeBack_173 (by decide) ?_
        exact b_sub (by simp) (ih r2 x_3 M h)
      · replace h := h.2 c_10
        refine b_aload_n 0 dX0_takeBack_148 rfl rfl ?_
        refine b_iload_n 1 dX0_takeBack_149 rfl rfl ?_
        refine b_lget (st := []) h.1 h.2.1 (Or.inl q624) (Nat.le_of_ble_eq_true rfl) dX0_takeBack_150 ?_
        refine b_topr (fun e_4 ee_4 => ?_)
        replace h := h.2.2 e_4 ee_4
        refine b_ck (ci := 16) (r := (RX16, TX16, 17)) rfl q721 h.1 dX0_takeBack_153 ?_
        replace h := h.2
        refine b_gR (ci := 16) (r := (RX16, TX16, 17)) (f := 6) (by decide) rfl (by decide) rfl (Or.inr ⟨_, q748⟩) (Or.inl rfl) h.1 dX0_takeBack_156 ?_
        refine b_topr (fun e_5 ee_5 => ?_)
        replace h := h.2 e_5 ee_5
        refine b_aload_n 0 dX0_takeBack_159 rfl rfl ?_
        refine b_iload_n 1 dX0_takeBack_160 rfl rfl ?_
        refine b_lget (st := [.inr e_5]) h.1 h.2.1 (Or.inl q624) (Nat.le_of_ble_eq_true rfl) dX0_takeBack_161 ?_
        refine b_topr (fun e_6 ee_6 => ?_)
        replace h := h.2.2 e_6 ee_6
        refine b_ck (ci := 16) (r := (RX16, TX16, 17)) rfl q721 h.1 dX0_takeBack_164 ?_
        replace h := h.2
        refine b_d_takenBack (st := []) h.1 q972 (Nat.le_of_ble_eq_true rfl) dX0_takeBack_167 (cq.mono h.2 (fun _ M_7 h => ?_))
        obtain ⟨rfl, h⟩ := h
        show wq (d + 11) mX0_takeBack 170 [(2, .inr r2), (3, .inl x3)] [] M_7 P
        obtain ⟨x_9, ex_9⟩ : ∃ y : Int32, y = x3 + 1 := ⟨_, rfl⟩
        replace h := h x_9 ex_9
        refine b_iinc (v := x_9) (lv' := [(3, .inl x_9), (2, .inr r2)]) 1 dX0_takeBack_170 rfl (by rw [ex_9]; rfl) (Nat.le_of_ble_eq_true rfl) rfl ?_
        refine b_goto (tgt := 126) dX0_takeBack_173 (by decide) ?_
        exact b_sub (by simp) (ih r2 x_9 M_7 h)
def v_X0_takeBack_83 (d : Nat) : Nat → Nat × Nat → Nat × Nat → Int32 → Mem → (Int32 → Mem → Prop) → Prop
  | 0, _, _, _, _, _ => False
  | n + 1, r0, r2, x3, M, Q => lk r2.1 ∧ ((((M.1 r2.1 r2.2 0) ≤ x3) → (∃ n, v_X0_takeBack_126 d n r2 0 M Q)) ∧ ((¬ (M.1 r2.1 r2.2 0) ≤ x3) → (lk r2.1 ∧ (¬ x3 < 0 ∧ x3 < M.1 r2.1 r2.2 0) ∧ (∀ e_1 : Nat × Nat, e_1 = M.2.1 r2.1 r2.2 x3.toNatClampNeg → (kt e_1.1 = 16 ∧ (kt e_1.1 = 16 ∧ (∀ M_2 : Mem, M_2 = sI M e_1.1 e_1.2 11 3 → (lk r2.1 ∧ (¬ x3 < 0 ∧ x3 < M_2.1 r2.1 r2.2 0) ∧ (∀ e_3 : Nat × Nat, e_3 = M_2.2.1 r2.1 r2.2 x3.toNatClampNeg → (kt e_3.1 = 16 ∧ (kt r0.1 = 0 ∧ (kt e_3.1 = 16 ∧ (∀ M_4 : Mem, M_4 = sI M_2 e_3.1 e_3.2 13 (M_2.1 r0.1 r0.2 0) → (∀ x_5 : Int32, x_5 = x3 + 1 → (v_X0_takeBack_83 d n r0 r2 x_5 M_4 Q)))))))))))))))
set_option maxHeartbeats 4000000 in
theorem sv_X0_takeBack_83 {d : Nat} {P : Option AV → Mem → Prop} {Q : Int32 → Mem → Prop} (hP : ∀ r M, Q r M → P (some (.inl r)) M) : ∀ (n : Nat) (r0 : Nat × Nat) (r2 : Nat × Nat) (x3 : Int32) (M : Mem), v_X0_takeBack_83 d n r0 r2 x3 M Q → wq (d + 11) mX0_takeBack 83 [(0, .inr r0), (2, .inr r2), (3, .inl x3)] [] M P := by
  intro n
  induction n with
  | zero => intro r0 r2 x3 M h; exact False.elim h
  | succ n ih =>
    intro r0 r2 x3 M h
    rw [v_X0_takeBack_83] at h
    refine b_iload_n 2 dX0_takeBack_83 rfl rfl ?_
    refine b_aload_n 1 dX0_takeBack_84 rfl rfl ?_
    refine b_lsize (st := [.inl x3]) h.1 (Or.inl q201) (Nat.le_of_ble_eq_true rfl) dX0_takeBack_85 ?_
    replace h := h.2
    refine b_icmp_ge (tgt := 124) dX0_takeBack_88 (by decide) (fun c_6 => ?_) (fun c_6 => ?_)
    · replace h := h.1 c_6
      refine b_iconst (v := 0) dX0_takeBack_124 (by decide) ?_
      refine b_istore_n (lv' := [(3, .inl 0), (0, .inr r0), (2, .inr r2)]) dX0_takeBack_125 rfl (Nat.le_of_ble_eq_true rfl) rfl ?_
      obtain ⟨n, h⟩ := h
      exact b_sub (by simp) (sv_X0_takeBack_126 hP n r2 0 M h)
    · replace h := h.2 c_6
      refine b_aload_n 1 dX0_takeBack_91 rfl rfl ?_
      refine b_iload_n 2 dX0_takeBack_92 rfl rfl ?_
      refine b_lget (st := []) h.1 h.2.1 (Or.inl q624) (Nat.le_of_ble_eq_true rfl) dX0_takeBack_93 ?_
      refine b_topr (fun e_1 ee_1 => ?_)
      replace h := h.2.2 e_1 ee_1
      refine b_ck (ci := 16) (r := (RX16, TX16, 17)) rfl q721 h.1 dX0_takeBack_96 ?_
      replace h := h.2
      refine b_iconst (v := 3) dX0_takeBack_99 (by decide) ?_
      refine b_pI (ci := 16) (r := (RX16, TX16, 17)) (f := 11) (by decide) rfl (by decide) (Or.inr ⟨_, q767⟩) (Or.inl rfl) rfl (Or.inl rfl) h.1 dX0_takeBack_100 ?_
      refine b_topm (fun M_2 eM_2 => ?_)
      replace h := h.2 M_2 eM_2
      refine b_aload_n 1 dX0_takeBack_103 rfl rfl ?_
      refine b_iload_n 2 dX0_takeBack_104 rfl rfl ?_
      refine b_lget (st := []) h.1 h.2.1 (Or.inl q624) (Nat.le_of_ble_eq_true rfl) dX0_takeBack_105 ?_
      refine b_topr (fun e_3 ee_3 => ?_)
      replace h := h.2.2 e_3 ee_3
      refine b_ck (ci := 16) (r := (RX16, TX16, 17)) rfl q721 h.1 dX0_takeBack_108 ?_
      replace h := h.2
      refine b_aload_n 0 dX0_takeBack_111 rfl rfl ?_
      refine b_gI (ci := 0) (r := (RX0, TX0, 14)) (f := 0) (by decide) rfl (by decide) rfl (Or.inl q144) (Or.inl rfl) h.1 dX0_takeBack_112 ?_
      replace h := h.2
      refine b_pI (ci := 16) (r := (RX16, TX16, 17)) (f := 13) (by decide) rfl (by decide) (Or.inr ⟨_, q773⟩) (Or.inl rfl) rfl (Or.inl rfl) h.1 dX0_takeBack_115 ?_
      refine b_topm (fun M_4 eM_4 => ?_)
      replace h := h.2 M_4 eM_4
      obtain ⟨x_5, ex_5⟩ : ∃ y : Int32, y = x3 + 1 := ⟨_, rfl⟩
      replace h := h x_5 ex_5
      refine b_iinc (v := x_5) (lv' := [(3, .inl x_5), (0, .inr r0), (2, .inr r2)]) 2 dX0_takeBack_118 rfl (by rw [ex_5]; rfl) (Nat.le_of_ble_eq_true rfl) rfl ?_
      refine b_goto (tgt := 83) dX0_takeBack_121 (by decide) ?_
      exact b_sub (by simp) (ih r0 r2 x_5 M_4 h)
def v_X0_takeBack_13 (d : Nat) : Nat → Nat × Nat → Nat × Nat → Nat × Nat → Int32 → Mem → (Int32 → Mem → Prop) → Prop
  | 0, _, _, _, _, _, _ => False
  | n + 1, r0, r1, r2, x3, M, Q => kt r0.1 = 0 ∧ (∀ e_1 : Nat × Nat, e_1 = M.2.1 r0.1 r0.2 9 → (lk e_1.1 ∧ ((((M.1 e_1.1 e_1.2 0) ≤ x3) → (∃ n, v_X0_takeBack_83 d n r0 r2 0 M Q)) ∧ ((¬ (M.1 e_1.1 e_1.2 0) ≤ x3) → (kt r0.1 = 0 ∧ (∀ e_2 : Nat × Nat, e_2 = M.2.1 r0.1 r0.2 9 → (lk e_2.1 ∧ (¬ x3 < 0 ∧ x3 < M.1 e_2.1 e_2.2 0) ∧ (∀ e_3 : Nat × Nat, e_3 = M.2.1 e_2.1 e_2.2 x3.toNatClampNeg → (kt e_3.1 = 16 ∧ (kt e_3.1 = 16 ∧ (v_X16_isUnderWay e_3 M (fun r_5 M_4 => ((r_5 = 0) → (∀ x_6 : Int32, x_6 = x3 + 1 → (v_X0_takeBack_13 d n r0 r1 r2 x_6 M_4 Q))) ∧ ((¬ r_5 = 0) → (kt r0.1 = 0 ∧ (∀ e_7 : Nat × Nat, e_7 = M_4.2.1 r0.1 r0.2 9 → (lk e_7.1 ∧ (¬ x3 < 0 ∧ x3 < M_4.1 e_7.1 e_7.2 0) ∧ (∀ e_8 : Nat × Nat, e_8 = M_4.2.1 e_7.1 e_7.2 x3.toNatClampNeg → (kt e_8.1 = 16 ∧ (kt e_8.1 = 16 ∧ (v_X16_isWithin e_8 r1 M_4 (fun r_10 M_9 => ((r_10 = 0) → (∀ x_11 : Int32, x_11 = x3 + 1 → (v_X0_takeBack_13 d n r0 r1 r2 x_11 M_9 Q))) ∧ ((¬ r_10 = 0) → (kt r0.1 = 0 ∧ (∀ e_12 : Nat × Nat, e_12 = M_9.2.1 r0.1 r0.2 9 → (lk e_12.1 ∧ (¬ x3 < 0 ∧ x3 < M_9.1 e_12.1 e_12.2 0) ∧ (∀ e_13 : Nat × Nat, e_13 = M_9.2.1 e_12.1 e_12.2 x3.toNatClampNeg → (kt e_13.1 = 16 ∧ (lk r2.1 ∧ ekk e_13.1 = true ∧ M_9.1 r2.1 r2.2 0 < 10000 ∧ rom M_9 10 ∧ (∀ M_14 : Mem, M_14 = lAdd M_9 r2 e_13 → (∀ x_15 : Int32, x_15 = x3 + 1 → (v_X0_takeBack_13 d n r0 r1 r2 x_15 M_14 Q)))))))))))))))))))))))))))))))
set_option maxHeartbeats 4000000 in
theorem sv_X0_takeBack_13 {d : Nat} {P : Option AV → Mem → Prop} {Q : Int32 → Mem → Prop} (hP : ∀ r M, Q r M → P (some (.inl r)) M) : ∀ (n : Nat) (r0 : Nat × Nat) (r1 : Nat × Nat) (r2 : Nat × Nat) (x3 : Int32) (M : Mem), v_X0_takeBack_13 d n r0 r1 r2 x3 M Q → wq (d + 11) mX0_takeBack 13 [(0, .inr r0), (1, .inr r1), (2, .inr r2), (3, .inl x3)] [] M P := by
  intro n
  induction n with
  | zero => intro r0 r1 r2 x3 M h; exact False.elim h
  | succ n ih =>
    intro r0 r1 r2 x3 M h
    rw [v_X0_takeBack_13] at h
    refine b_iload_n 3 dX0_takeBack_13 rfl rfl ?_
    refine b_aload_n 0 dX0_takeBack_14 rfl rfl ?_
    refine b_gR (ci := 0) (r := (RX0, TX0, 14)) (f := 9) (by decide) rfl (by decide) rfl (Or.inl q159) (Or.inl rfl) h.1 dX0_takeBack_15 ?_
    refine b_topr (fun e_1 ee_1 => ?_)
    replace h := h.2 e_1 ee_1
    refine b_lsize (st := [.inl x3]) h.1 (Or.inl q201) (Nat.le_of_ble_eq_true rfl) dX0_takeBack_18 ?_
    replace h := h.2
    refine b_icmp_ge (tgt := 81) dX0_takeBack_21 (by decide) (fun c_18 => ?_) (fun c_18 => ?_)
    · replace h := h.1 c_18
      refine b_iconst (v := 0) dX0_takeBack_81 (by decide) ?_
      refine b_istore_n (lv' := [(3, .inl 0), (0, .inr r0), (1, .inr r1), (2, .inr r2)]) dX0_takeBack_82 rfl (Nat.le_of_ble_eq_true rfl) rfl ?_
      obtain ⟨n, h⟩ := h
      exact b_sub (by simp) (sv_X0_takeBack_83 hP n r0 r2 0 M h)
    · replace h := h.2 c_18
      refine b_aload_n 0 dX0_takeBack_24 rfl rfl ?_
      refine b_gR (ci := 0) (r := (RX0, TX0, 14)) (f := 9) (by decide) rfl (by decide) rfl (Or.inl q159) (Or.inl rfl) h.1 dX0_takeBack_25 ?_
      refine b_topr (fun e_2 ee_2 => ?_)
      replace h := h.2 e_2 ee_2
      refine b_iload_n 3 dX0_takeBack_28 rfl rfl ?_
      refine b_lget (st := []) h.1 h.2.1 (Or.inl q624) (Nat.le_of_ble_eq_true rfl) dX0_takeBack_29 ?_
      refine b_topr (fun e_3 ee_3 => ?_)
      replace h := h.2.2 e_3 ee_3
      refine b_ck (ci := 16) (r := (RX16, TX16, 17)) rfl q721 h.1 dX0_takeBack_32 ?_
      replace h := h.2
      refine b_cvo (y := mX16_isUnderWay) (ci := 16) (r := (RX16, TX16, 17)) (e := e_3) (as := []) (st := []) (n := 0) rfl h.1 (Or.inl q967) q961 q960 q94 q962 zmh_X16_isUnderWay rfl (Nat.le_of_ble_eq_true rfl) (Nat.le_of_ble_eq_true rfl) dX0_takeBack_35 (sv_X16_isUnderWay (fun r_5 M_4 h => ?_) h.2)
      show wq (d + 11) mX0_takeBack 38 [(0, .inr r0), (1, .inr r1), (2, .inr r2), (3, .inl x3)] [.inl r_5] M_4 P
      refine b_if_eq (tgt := 75) dX0_takeBack_38 (by decide) (fun c_17 => ?_) (fun c_17 => ?_)
      · replace h := h.1 c_17
        obtain ⟨x_6, ex_6⟩ : ∃ y : Int32, y = x3 + 1 := ⟨_, rfl⟩
        replace h := h x_6 ex_6
        refine b_iinc (v := x_6) (lv' := [(3, .inl x_6), (0, .inr r0), (1, .inr r1), (2, .inr r2)]) 3 dX0_takeBack_75 rfl (by rw [ex_6]; rfl) (Nat.le_of_ble_eq_true rfl) rfl ?_
        refine b_goto (tgt := 13) dX0_takeBack_78 (by decide) ?_
        exact b_sub (by simp) (ih r0 r1 r2 x_6 M_4 h)
      · replace h := h.2 c_17
        refine b_aload_n 0 dX0_takeBack_41 rfl rfl ?_
        refine b_gR (ci := 0) (r := (RX0, TX0, 14)) (f := 9) (by decide) rfl (by decide) rfl (Or.inl q159) (Or.inl rfl) h.1 dX0_takeBack_42 ?_
        refine b_topr (fun e_7 ee_7 => ?_)
        replace h := h.2 e_7 ee_7
        refine b_iload_n 3 dX0_takeBack_45 rfl rfl ?_
        refine b_lget (st := []) h.1 h.2.1 (Or.inl q624) (Nat.le_of_ble_eq_true rfl) dX0_takeBack_46 ?_
        refine b_topr (fun e_8 ee_8 => ?_)
        replace h := h.2.2 e_8 ee_8
        refine b_ck (ci := 16) (r := (RX16, TX16, 17)) rfl q721 h.1 dX0_takeBack_49 ?_
        replace h := h.2
        refine b_aload_n 1 dX0_takeBack_52 rfl rfl ?_
        refine b_cvo (y := mX16_isWithin) (ci := 16) (r := (RX16, TX16, 17)) (e := e_8) (as := [.inr r1]) (st := []) (n := 1) rfl h.1 (Or.inl q968) q970 q969 q94 q971 zmh_X16_isWithin rfl (Nat.le_of_ble_eq_true rfl) (Nat.le_of_ble_eq_true rfl) dX0_takeBack_53 (sv_X16_isWithin (fun r_10 M_9 h => ?_) h.2)
        show wq (d + 11) mX0_takeBack 56 [(0, .inr r0), (1, .inr r1), (2, .inr r2), (3, .inl x3)] [.inl r_10] M_9 P
        refine b_if_eq (tgt := 75) dX0_takeBack_56 (by decide) (fun c_16 => ?_) (fun c_16 => ?_)
        · replace h := h.1 c_16
          obtain ⟨x_11, ex_11⟩ : ∃ y : Int32, y = x3 + 1 := ⟨_, rfl⟩
          replace h := h x_11 ex_11
          refine b_iinc (v := x_11) (lv' := [(3, .inl x_11), (0, .inr r0), (1, .inr r1), (2, .inr r2)]) 3 dX0_takeBack_75 rfl (by rw [ex_11]; rfl) (Nat.le_of_ble_eq_true rfl) rfl ?_
          refine b_goto (tgt := 13) dX0_takeBack_78 (by decide) ?_
          exact b_sub (by simp) (ih r0 r1 r2 x_11 M_9 h)
        · replace h := h.2 c_16
          refine b_aload_n 2 dX0_takeBack_59 rfl rfl ?_
          refine b_aload_n 0 dX0_takeBack_60 rfl rfl ?_
          refine b_gR (ci := 0) (r := (RX0, TX0, 14)) (f := 9) (by decide) rfl (by decide) rfl (Or.inl q159) (Or.inl rfl) h.1 dX0_takeBack_61 ?_
          refine b_topr (fun e_12 ee_12 => ?_)
          replace h := h.2 e_12 ee_12
          refine b_iload_n 3 dX0_takeBack_64 rfl rfl ?_
          refine b_lget (st := [.inr r2]) h.1 h.2.1 (Or.inl q624) (Nat.le_of_ble_eq_true rfl) dX0_takeBack_65 ?_
          refine b_topr (fun e_13 ee_13 => ?_)
          replace h := h.2.2 e_13 ee_13
          refine b_ck (ci := 16) (r := (RX16, TX16, 17)) rfl q721 h.1 dX0_takeBack_68 ?_
          replace h := h.2
          refine b_ladd (st := []) h.1 h.2.1 h.2.2.1 h.2.2.2.1 (Or.inl q226) (Nat.le_of_ble_eq_true rfl) dX0_takeBack_71 ?_
          refine b_topm (fun M_14 eM_14 => ?_)
          replace h := h.2.2.2.2 M_14 eM_14
          refine b_pop dX0_takeBack_74 ?_
          obtain ⟨x_15, ex_15⟩ : ∃ y : Int32, y = x3 + 1 := ⟨_, rfl⟩
          replace h := h x_15 ex_15
          refine b_iinc (v := x_15) (lv' := [(3, .inl x_15), (0, .inr r0), (1, .inr r1), (2, .inr r2)]) 3 dX0_takeBack_75 rfl (by rw [ex_15]; rfl) (Nat.le_of_ble_eq_true rfl) rfl ?_
          refine b_goto (tgt := 13) dX0_takeBack_78 (by decide) ?_
          exact b_sub (by simp) (ih r0 r1 r2 x_15 M_14 h)
def v_X0_takeBack (d : Nat) (r0 : Nat × Nat) (r1 : Nat × Nat) (M : Mem) (Q : Int32 → Mem → Prop) : Prop := rom M 3 ∧ (∀ i_1 : Nat, M.2.2.1 33 i_1 = 0 → ∀ M_2 : Mem, M_2 = sN M 33 i_1 0 3 → (kt r1.1 = 16 ∧ (∀ x_3 : Int32, x_3 = M_2.1 r1.1 r1.2 0 → (∃ n, v_X0_takeBack_13 d n r0 r1 (33, i_1) x_3 M_2 Q))))
set_option maxHeartbeats 4000000 in
theorem sv_X0_takeBack {d : Nat} {M : Mem} {P : Option AV → Mem → Prop} {Q : Int32 → Mem → Prop} {r0 : Nat × Nat} {r1 : Nat × Nat} (hP : ∀ r M, Q r M → P (some (.inl r)) M) (h : v_X0_takeBack d r0 r1 M Q) : cq (d + 11) mX0_takeBack [.inr r0, .inr r1] M P := by
  refine cq_of (by decide) (Nat.le_of_ble_eq_true rfl) ?_
  show wq (d + 11) mX0_takeBack 0 [(0, .inr r0), (1, .inr r1)] [] M P
  unfold v_X0_takeBack at h
  refine b_nwlD (k := 33) (by decide) (by decide) h.1 q111 (Or.inl q113) dX0_takeBack_0 dX0_takeBack_3 dX0_takeBack_4 (Nat.le_of_ble_eq_true rfl) (fun i_1 ei_1 => ?_)
  refine b_topm (fun M_2 eM_2 => ?_)
  replace h := h.2 i_1 ei_1 M_2 eM_2
  refine b_astore_n (lv' := [(2, .inr (33, i_1)), (0, .inr r0), (1, .inr r1)]) dX0_takeBack_7 rfl (Nat.le_of_ble_eq_true rfl) rfl ?_
  refine b_aload_n 2 dX0_takeBack_8 rfl rfl ?_
  refine b_gI (ci := 16) (r := (RX16, TX16, 17)) (f := 0) (by decide) rfl (by decide) rfl (Or.inr ⟨_, q731⟩) (Or.inl rfl) h.1 dX0_takeBack_9 ?_
  replace h := h.2
  refine b_topi (fun x_3 ex_3 => ?_)
  replace h := h x_3 ex_3
  refine b_istore_n (lv' := [(3, .inl x_3), (2, .inr (33, i_1)), (0, .inr r0), (1, .inr r1)]) dX0_takeBack_12 rfl (Nat.le_of_ble_eq_true rfl) rfl ?_
  obtain ⟨n, h⟩ := h
  exact b_sub (by simp) (sv_X0_takeBack_13 hP n r0 r1 (33, i_1) x_3 M_2 h)
def v_X15_outcome (r0 : Nat × Nat) (M : Mem) (Q : Int32 → Mem → Prop) : Prop := kt r0.1 = 15 ∧ ((((M.1 r0.1 r0.2 8) = 0) → (kt r0.1 = 15 ∧ (∀ e_1 : Nat × Nat, e_1 = M.2.1 r0.1 r0.2 7 → (kt e_1.1 = 16 ∧ (((¬ (M.1 e_1.1 e_1.2 11) = 1) → (kt r0.1 = 15 ∧ (∀ e_2 : Nat × Nat, e_2 = M.2.1 r0.1 r0.2 7 → (kt e_2.1 = 16 ∧ (Q (M.1 e_2.1 e_2.2 11) M))))) ∧ (((M.1 e_1.1 e_1.2 11) = 1) → (kt r0.1 = 15 ∧ (∀ e_3 : Nat × Nat, e_3 = M.2.1 r0.1 r0.2 7 → (kt e_3.1 = 16 ∧ ((((M.1 e_3.1 e_3.2 9) = 0) → (kt r0.1 = 15 ∧ (∀ e_4 : Nat × Nat, e_4 = M.2.1 r0.1 r0.2 7 → (kt e_4.1 = 16 ∧ (Q (M.1 e_4.1 e_4.2 11) M))))) ∧ ((¬ (M.1 e_3.1 e_3.2 9) = 0) → (Q 3 M)))))))))))) ∧ ((¬ (M.1 r0.1 r0.2 8) = 0) → (Q 4 M)))
set_option maxHeartbeats 4000000 in
theorem sv_X15_outcome {d : Nat} {M : Mem} {P : Option AV → Mem → Prop} {Q : Int32 → Mem → Prop} {r0 : Nat × Nat} (hP : ∀ r M, Q r M → P (some (.inl r)) M) (h : v_X15_outcome r0 M Q) : cq d mX15_outcome [.inr r0] M P := by
  refine cq_of (by decide) (Nat.le_of_ble_eq_true rfl) ?_
  show wq d mX15_outcome 0 [(0, .inr r0)] [] M P
  unfold v_X15_outcome at h
  refine b_aload_n 0 dX15_outcome_0 rfl rfl ?_
  refine b_gI (ci := 15) (r := (RX15, TX15, 10)) (f := 8) (by decide) rfl (by decide) rfl (Or.inl q684) (Or.inl rfl) h.1 dX15_outcome_1 ?_
  replace h := h.2
  refine b_if_eq (tgt := 9) dX15_outcome_4 (by decide) (fun c_7 => ?_) (fun c_7 => ?_)
  · replace h := h.1 c_7
    refine b_aload_n 0 dX15_outcome_9 rfl rfl ?_
    refine b_gR (ci := 15) (r := (RX15, TX15, 10)) (f := 7) (by decide) rfl (by decide) rfl (Or.inl q682) (Or.inl rfl) h.1 dX15_outcome_10 ?_
    refine b_topr (fun e_1 ee_1 => ?_)
    replace h := h.2 e_1 ee_1
    refine b_gI (ci := 16) (r := (RX16, TX16, 17)) (f := 11) (by decide) rfl (by decide) rfl (Or.inr ⟨_, q764⟩) (Or.inl rfl) h.1 dX15_outcome_13 ?_
    replace h := h.2
    refine b_iconst (v := 1) dX15_outcome_16 (by decide) ?_
    refine b_icmp_ne (tgt := 34) dX15_outcome_17 (by decide) (fun c_6 => ?_) (fun c_6 => ?_)
    · replace h := h.1 c_6
      refine b_aload_n 0 dX15_outcome_34 rfl rfl ?_
      refine b_gR (ci := 15) (r := (RX15, TX15, 10)) (f := 7) (by decide) rfl (by decide) rfl (Or.inl q682) (Or.inl rfl) h.1 dX15_outcome_35 ?_
      refine b_topr (fun e_2 ee_2 => ?_)
      replace h := h.2 e_2 ee_2
      refine b_gI (ci := 16) (r := (RX16, TX16, 17)) (f := 11) (by decide) rfl (by decide) rfl (Or.inr ⟨_, q764⟩) (Or.inl rfl) h.1 dX15_outcome_38 ?_
      replace h := h.2
      exact b_iret rfl dX15_outcome_41 (hP _ _ h)
    · replace h := h.2 c_6
      refine b_aload_n 0 dX15_outcome_20 rfl rfl ?_
      refine b_gR (ci := 15) (r := (RX15, TX15, 10)) (f := 7) (by decide) rfl (by decide) rfl (Or.inl q682) (Or.inl rfl) h.1 dX15_outcome_21 ?_
      refine b_topr (fun e_3 ee_3 => ?_)
      replace h := h.2 e_3 ee_3
      refine b_gI (ci := 16) (r := (RX16, TX16, 17)) (f := 9) (by decide) rfl (by decide) rfl (Or.inr ⟨_, q756⟩) (Or.inl rfl) h.1 dX15_outcome_24 ?_
      replace h := h.2
      refine b_if_eq (tgt := 34) dX15_outcome_27 (by decide) (fun c_5 => ?_) (fun c_5 => ?_)
      · replace h := h.1 c_5
        refine b_aload_n 0 dX15_outcome_34 rfl rfl ?_
        refine b_gR (ci := 15) (r := (RX15, TX15, 10)) (f := 7) (by decide) rfl (by decide) rfl (Or.inl q682) (Or.inl rfl) h.1 dX15_outcome_35 ?_
        refine b_topr (fun e_4 ee_4 => ?_)
        replace h := h.2 e_4 ee_4
        refine b_gI (ci := 16) (r := (RX16, TX16, 17)) (f := 11) (by decide) rfl (by decide) rfl (Or.inr ⟨_, q764⟩) (Or.inl rfl) h.1 dX15_outcome_38 ?_
        replace h := h.2
        exact b_iret rfl dX15_outcome_41 (hP _ _ h)
      · replace h := h.2 c_5
        refine b_iconst (v := 3) dX15_outcome_30 (by decide) ?_
        refine b_goto (tgt := 41) dX15_outcome_31 (by decide) ?_
        exact b_iret rfl dX15_outcome_41 (hP _ _ h)
  · replace h := h.2 c_7
    refine b_iconst (v := 4) dX15_outcome_7 (by decide) ?_
    exact b_iret rfl dX15_outcome_8 (hP _ _ h)
