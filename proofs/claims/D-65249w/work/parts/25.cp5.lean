set_option maxRecDepth 100000
def v_X13_told_14 (d : Nat) : Nat → Nat × Nat → Nat × Nat → Nat × Nat → Int32 → Mem → (Mem → Prop) → Prop
  | 0, _, _, _, _, _, _ => False
  | n + 1, r0, r1, r2, x3, M, Q => kt r0.1 = 13 ∧ (∀ e_1 : Nat × Nat, e_1 = M.2.1 r0.1 r0.2 7 → (kt e_1.1 = 0 ∧ (∀ e_2 : Nat × Nat, e_2 = M.2.1 e_1.1 e_1.2 9 → (lk e_2.1 ∧ ((((M.1 e_2.1 e_2.2 0) ≤ x3) → (Q M)) ∧ ((¬ (M.1 e_2.1 e_2.2 0) ≤ x3) → (kt r0.1 = 13 ∧ (∀ e_3 : Nat × Nat, e_3 = M.2.1 r0.1 r0.2 7 → (kt e_3.1 = 0 ∧ (∀ e_4 : Nat × Nat, e_4 = M.2.1 e_3.1 e_3.2 9 → (lk e_4.1 ∧ (¬ x3 < 0 ∧ x3 < M.1 e_4.1 e_4.2 0) ∧ (∀ e_5 : Nat × Nat, e_5 = M.2.1 e_4.1 e_4.2 x3.toNatClampNeg → (kt e_5.1 = 16 ∧ (kt e_5.1 = 16 ∧ (∀ e_6 : Nat × Nat, e_6 = M.2.1 e_5.1 e_5.2 8 → (((¬ e_6 = r1) → (∀ x_7 : Int32, x_7 = x3 + 1 → (v_X13_told_14 d n r0 r1 r2 x_7 M Q))) ∧ ((e_6 = r1) → (kt r0.1 = 13 ∧ (∀ e_8 : Nat × Nat, e_8 = M.2.1 r0.1 r0.2 7 → (kt e_8.1 = 0 ∧ (∀ e_9 : Nat × Nat, e_9 = M.2.1 e_8.1 e_8.2 9 → (lk e_9.1 ∧ (¬ x3 < 0 ∧ x3 < M.1 e_9.1 e_9.2 0) ∧ (∀ e_10 : Nat × Nat, e_10 = M.2.1 e_9.1 e_9.2 x3.toNatClampNeg → (kt e_10.1 = 16 ∧ (kt e_10.1 = 16 ∧ (v_X16_isUnderWay e_10 M (fun r_12 M_11 => ((r_12 = 0) → (∀ x_13 : Int32, x_13 = x3 + 1 → (v_X13_told_14 d n r0 r1 r2 x_13 M_11 Q))) ∧ ((¬ r_12 = 0) → (kt r0.1 = 13 ∧ (∀ e_14 : Nat × Nat, e_14 = M_11.2.1 r0.1 r0.2 7 → (kt r0.1 = 13 ∧ (∀ e_15 : Nat × Nat, e_15 = M_11.2.1 r0.1 r0.2 7 → (kt e_15.1 = 0 ∧ (∀ e_16 : Nat × Nat, e_16 = M_11.2.1 e_15.1 e_15.2 9 → (lk e_16.1 ∧ (¬ x3 < 0 ∧ x3 < M_11.1 e_16.1 e_16.2 0) ∧ (∀ e_17 : Nat × Nat, e_17 = M_11.2.1 e_16.1 e_16.2 x3.toNatClampNeg → (kt e_17.1 = 16 ∧ (kt e_14.1 = 0 ∧ (cq (d + 10) mX0_alike [.inr e_14, .inr e_17, .inr r2] M_11 (fun r_ M_18 => r_ = none ∧ (∀ x_20 : Int32, x_20 = x3 + 1 → (v_X13_told_14 d n r0 r1 r2 x_20 M_18 Q))))))))))))))))))))))))))))))))))))))))))
set_option maxHeartbeats 4000000 in
theorem sv_X13_told_14 {d : Nat} {P : Option AV → Mem → Prop} {Q : Mem → Prop} (hP : ∀ M, Q M → P none M) : ∀ (n : Nat) (r0 : Nat × Nat) (r1 : Nat × Nat) (r2 : Nat × Nat) (x3 : Int32) (M : Mem), v_X13_told_14 d n r0 r1 r2 x3 M Q → wq (d + 11) mX13_told 14 [(0, .inr r0), (1, .inr r1), (2, .inr r2), (3, .inl x3)] [] M P := by
  intro n
  induction n with
  | zero => intro r0 r1 r2 x3 M h; exact False.elim h
  | succ n ih =>
    intro r0 r1 r2 x3 M h
    rw [v_X13_told_14] at h
    refine b_iload_n 3 dX13_told_14 rfl rfl ?_
    refine b_aload_n 0 dX13_told_15 rfl rfl ?_
    refine b_gR (ci := 13) (r := (RX13, TX13, 8)) (f := 7) (by decide) rfl (by decide) rfl (Or.inl q592) (Or.inl rfl) h.1 dX13_told_16 ?_
    refine b_topr (fun e_1 ee_1 => ?_)
    replace h := h.2 e_1 ee_1
    refine b_gR (ci := 0) (r := (RX0, TX0, 14)) (f := 9) (by decide) rfl (by decide) rfl (Or.inr ⟨_, q158⟩) (Or.inl rfl) h.1 dX13_told_19 ?_
    refine b_topr (fun e_2 ee_2 => ?_)
    replace h := h.2 e_2 ee_2
    refine b_lsize (st := [.inl x3]) h.1 (Or.inl q1024) (Nat.le_of_ble_eq_true rfl) dX13_told_22 ?_
    replace h := h.2
    refine b_icmp_ge (tgt := 97) dX13_told_25 (by decide) (fun c_23 => ?_) (fun c_23 => ?_)
    · replace h := h.1 c_23
      exact b_vret rfl dX13_told_97 (hP _ h)
    · replace h := h.2 c_23
      refine b_aload_n 0 dX13_told_28 rfl rfl ?_
      refine b_gR (ci := 13) (r := (RX13, TX13, 8)) (f := 7) (by decide) rfl (by decide) rfl (Or.inl q592) (Or.inl rfl) h.1 dX13_told_29 ?_
      refine b_topr (fun e_3 ee_3 => ?_)
      replace h := h.2 e_3 ee_3
      refine b_gR (ci := 0) (r := (RX0, TX0, 14)) (f := 9) (by decide) rfl (by decide) rfl (Or.inr ⟨_, q158⟩) (Or.inl rfl) h.1 dX13_told_32 ?_
      refine b_topr (fun e_4 ee_4 => ?_)
      replace h := h.2 e_4 ee_4
      refine b_iload_n 3 dX13_told_35 rfl rfl ?_
      refine b_lget (st := []) h.1 h.2.1 (Or.inl q1025) (Nat.le_of_ble_eq_true rfl) dX13_told_36 ?_
      refine b_topr (fun e_5 ee_5 => ?_)
      replace h := h.2.2 e_5 ee_5
      refine b_ck (ci := 16) (r := (RX16, TX16, 17)) rfl q1026 h.1 dX13_told_39 ?_
      replace h := h.2
      refine b_gR (ci := 16) (r := (RX16, TX16, 17)) (f := 8) (by decide) rfl (by decide) rfl (Or.inr ⟨_, q754⟩) (Or.inl rfl) h.1 dX13_told_42 ?_
      refine b_topr (fun e_6 ee_6 => ?_)
      replace h := h.2 e_6 ee_6
      refine b_aload_n 1 dX13_told_45 rfl rfl ?_
      refine b_acmp_ne (tgt := 91) dX13_told_46 (by decide) (fun c_22 => ?_) (fun c_22 => ?_)
      · replace h := h.1 c_22
        obtain ⟨x_7, ex_7⟩ : ∃ y : Int32, y = x3 + 1 := ⟨_, rfl⟩
        replace h := h x_7 ex_7
        refine b_iinc (v := x_7) (lv' := [(3, .inl x_7), (0, .inr r0), (1, .inr r1), (2, .inr r2)]) 3 dX13_told_91 rfl (by rw [ex_7]; rfl) (Nat.le_of_ble_eq_true rfl) rfl ?_
        refine b_goto (tgt := 14) dX13_told_94 (by decide) ?_
        exact b_sub (by simp) (ih r0 r1 r2 x_7 M h)
      · replace h := h.2 c_22
        refine b_aload_n 0 dX13_told_49 rfl rfl ?_
        refine b_gR (ci := 13) (r := (RX13, TX13, 8)) (f := 7) (by decide) rfl (by decide) rfl (Or.inl q592) (Or.inl rfl) h.1 dX13_told_50 ?_
        refine b_topr (fun e_8 ee_8 => ?_)
        replace h := h.2 e_8 ee_8
        refine b_gR (ci := 0) (r := (RX0, TX0, 14)) (f := 9) (by decide) rfl (by decide) rfl (Or.inr ⟨_, q158⟩) (Or.inl rfl) h.1 dX13_told_53 ?_
        refine b_topr (fun e_9 ee_9 => ?_)
        replace h := h.2 e_9 ee_9
        refine b_iload_n 3 dX13_told_56 rfl rfl ?_
        refine b_lget (st := []) h.1 h.2.1 (Or.inl q1025) (Nat.le_of_ble_eq_true rfl) dX13_told_57 ?_
        refine b_topr (fun e_10 ee_10 => ?_)
        replace h := h.2.2 e_10 ee_10
        refine b_ck (ci := 16) (r := (RX16, TX16, 17)) rfl q1026 h.1 dX13_told_60 ?_
        replace h := h.2
        refine b_cvo (y := mX16_isUnderWay) (ci := 16) (r := (RX16, TX16, 17)) (e := e_10) (as := []) (st := []) (n := 0) rfl h.1 (Or.inl q1027) q961 q960 q94 q962 zmh_X16_isUnderWay rfl (Nat.le_of_ble_eq_true rfl) (Nat.le_of_ble_eq_true rfl) dX13_told_63 (sv_X16_isUnderWay (fun r_12 M_11 h => ?_) h.2)
        show wq (d + 11) mX13_told 66 [(0, .inr r0), (1, .inr r1), (2, .inr r2), (3, .inl x3)] [.inl r_12] M_11 P
        refine b_if_eq (tgt := 91) dX13_told_66 (by decide) (fun c_21 => ?_) (fun c_21 => ?_)
        · replace h := h.1 c_21
          obtain ⟨x_13, ex_13⟩ : ∃ y : Int32, y = x3 + 1 := ⟨_, rfl⟩
          replace h := h x_13 ex_13
          refine b_iinc (v := x_13) (lv' := [(3, .inl x_13), (0, .inr r0), (1, .inr r1), (2, .inr r2)]) 3 dX13_told_91 rfl (by rw [ex_13]; rfl) (Nat.le_of_ble_eq_true rfl) rfl ?_
          refine b_goto (tgt := 14) dX13_told_94 (by decide) ?_
          exact b_sub (by simp) (ih r0 r1 r2 x_13 M_11 h)
        · replace h := h.2 c_21
          refine b_aload_n 0 dX13_told_69 rfl rfl ?_
          refine b_gR (ci := 13) (r := (RX13, TX13, 8)) (f := 7) (by decide) rfl (by decide) rfl (Or.inl q592) (Or.inl rfl) h.1 dX13_told_70 ?_
          refine b_topr (fun e_14 ee_14 => ?_)
          replace h := h.2 e_14 ee_14
          refine b_aload_n 0 dX13_told_73 rfl rfl ?_
          refine b_gR (ci := 13) (r := (RX13, TX13, 8)) (f := 7) (by decide) rfl (by decide) rfl (Or.inl q592) (Or.inl rfl) h.1 dX13_told_74 ?_
          refine b_topr (fun e_15 ee_15 => ?_)
          replace h := h.2 e_15 ee_15
          refine b_gR (ci := 0) (r := (RX0, TX0, 14)) (f := 9) (by decide) rfl (by decide) rfl (Or.inr ⟨_, q158⟩) (Or.inl rfl) h.1 dX13_told_77 ?_
          refine b_topr (fun e_16 ee_16 => ?_)
          replace h := h.2 e_16 ee_16
          refine b_iload_n 3 dX13_told_80 rfl rfl ?_
          refine b_lget (st := [.inr e_14]) h.1 h.2.1 (Or.inl q1025) (Nat.le_of_ble_eq_true rfl) dX13_told_81 ?_
          refine b_topr (fun e_17 ee_17 => ?_)
          replace h := h.2.2 e_17 ee_17
          refine b_ck (ci := 16) (r := (RX16, TX16, 17)) rfl q1026 h.1 dX13_told_84 ?_
          replace h := h.2
          refine b_aload_n 2 dX13_told_87 rfl rfl ?_
          refine b_cvo (y := mX0_alike) (ci := 0) (r := (RX0, TX0, 14)) (e := e_14) (as := [.inr e_17, .inr r2]) (st := []) (n := 2) rfl h.1 (Or.inr ⟨_, q1044⟩) qs14 q907 q69 q908 zmh_X0_alike rfl (Nat.le_of_ble_eq_true rfl) (Nat.le_of_ble_eq_true rfl) dX13_told_88 (cq.mono h.2 (fun _ M_18 h => ?_))
          obtain ⟨rfl, h⟩ := h
          show wq (d + 11) mX13_told 91 [(0, .inr r0), (1, .inr r1), (2, .inr r2), (3, .inl x3)] [] M_18 P
          obtain ⟨x_20, ex_20⟩ : ∃ y : Int32, y = x3 + 1 := ⟨_, rfl⟩
          replace h := h x_20 ex_20
          refine b_iinc (v := x_20) (lv' := [(3, .inl x_20), (0, .inr r0), (1, .inr r1), (2, .inr r2)]) 3 dX13_told_91 rfl (by rw [ex_20]; rfl) (Nat.le_of_ble_eq_true rfl) rfl ?_
          refine b_goto (tgt := 14) dX13_told_94 (by decide) ?_
          exact b_sub (by simp) (ih r0 r1 r2 x_20 M_18 h)
def v_X13_told (d : Nat) (r0 : Nat × Nat) (r1 : Nat × Nat) (r2 : Nat × Nat) (M : Mem) (Q : Mem → Prop) : Prop := kt r0.1 = 13 ∧ (∀ e_1 : Nat × Nat, e_1 = M.2.1 r0.1 r0.2 7 → (kt e_1.1 = 0 ∧ (cq (d + 10) mX0_alike [.inr e_1, .inr r1, .inr r2] M (fun r_ M_2 => r_ = none ∧ (kt r1.1 = 16 ∧ (∀ x_4 : Int32, x_4 = M_2.1 r1.1 r1.2 0 → (∃ n, v_X13_told_14 d n r0 r1 r2 x_4 M_2 Q)))))))
set_option maxHeartbeats 4000000 in
theorem sv_X13_told {d : Nat} {M : Mem} {P : Option AV → Mem → Prop} {Q : Mem → Prop} {r0 : Nat × Nat} {r1 : Nat × Nat} {r2 : Nat × Nat} (hP : ∀ M, Q M → P none M) (h : v_X13_told d r0 r1 r2 M Q) : cq (d + 11) mX13_told [.inr r0, .inr r1, .inr r2] M P := by
  refine cq_of (by decide) (Nat.le_of_ble_eq_true rfl) ?_
  show wq (d + 11) mX13_told 0 [(0, .inr r0), (1, .inr r1), (2, .inr r2)] [] M P
  unfold v_X13_told at h
  refine b_aload_n 0 dX13_told_0 rfl rfl ?_
  refine b_gR (ci := 13) (r := (RX13, TX13, 8)) (f := 7) (by decide) rfl (by decide) rfl (Or.inl q592) (Or.inl rfl) h.1 dX13_told_1 ?_
  refine b_topr (fun e_1 ee_1 => ?_)
  replace h := h.2 e_1 ee_1
  refine b_aload_n 1 dX13_told_4 rfl rfl ?_
  refine b_aload_n 2 dX13_told_5 rfl rfl ?_
  refine b_cvo (y := mX0_alike) (ci := 0) (r := (RX0, TX0, 14)) (e := e_1) (as := [.inr r1, .inr r2]) (st := []) (n := 2) rfl h.1 (Or.inr ⟨_, q1044⟩) qs14 q907 q69 q908 zmh_X0_alike rfl (Nat.le_of_ble_eq_true rfl) (Nat.le_of_ble_eq_true rfl) dX13_told_6 (cq.mono h.2 (fun _ M_2 h => ?_))
  obtain ⟨rfl, h⟩ := h
  show wq (d + 11) mX13_told 9 [(0, .inr r0), (1, .inr r1), (2, .inr r2)] [] M_2 P
  refine b_aload_n 1 dX13_told_9 rfl rfl ?_
  refine b_gI (ci := 16) (r := (RX16, TX16, 17)) (f := 0) (by decide) rfl (by decide) rfl (Or.inr ⟨_, q730⟩) (Or.inl rfl) h.1 dX13_told_10 ?_
  replace h := h.2
  refine b_topi (fun x_4 ex_4 => ?_)
  replace h := h x_4 ex_4
  refine b_istore_n (lv' := [(3, .inl x_4), (0, .inr r0), (1, .inr r1), (2, .inr r2)]) dX13_told_13 rfl (Nat.le_of_ble_eq_true rfl) rfl ?_
  obtain ⟨n, h⟩ := h
  exact b_sub (by simp) (sv_X13_told_14 hP n r0 r1 r2 x_4 M_2 h)
def v_X15_isLike (r0 : Nat × Nat) (r1 : Nat × Nat) (M : Mem) (Q : Int32 → Mem → Prop) : Prop := kt r0.1 = 15 ∧ (kt r1.1 = 15 ∧ (((¬ (M.1 r0.1 r0.2 1) = (M.1 r1.1 r1.2 1)) → (Q 0 M)) ∧ (((M.1 r0.1 r0.2 1) = (M.1 r1.1 r1.2 1)) → (kt r0.1 = 15 ∧ (kt r1.1 = 15 ∧ (((¬ (M.1 r0.1 r0.2 2) = (M.1 r1.1 r1.2 2)) → (Q 0 M)) ∧ (((M.1 r0.1 r0.2 2) = (M.1 r1.1 r1.2 2)) → (kt r0.1 = 15 ∧ (kt r1.1 = 15 ∧ (((¬ (M.1 r0.1 r0.2 3) = (M.1 r1.1 r1.2 3)) → (Q 0 M)) ∧ (((M.1 r0.1 r0.2 3) = (M.1 r1.1 r1.2 3)) → (Q 1 M))))))))))))
set_option maxHeartbeats 4000000 in
theorem sv_X15_isLike {d : Nat} {M : Mem} {P : Option AV → Mem → Prop} {Q : Int32 → Mem → Prop} {r0 : Nat × Nat} {r1 : Nat × Nat} (hP : ∀ r M, Q r M → P (some (.inl r)) M) (h : v_X15_isLike r0 r1 M Q) : cq d mX15_isLike [.inr r0, .inr r1] M P := by
  refine cq_of (by decide) (Nat.le_of_ble_eq_true rfl) ?_
  show wq d mX15_isLike 0 [(0, .inr r0), (1, .inr r1)] [] M P
  unfold v_X15_isLike at h
  refine b_aload_n 0 dX15_isLike_0 rfl rfl ?_
  refine b_gI (ci := 15) (r := (RX15, TX15, 10)) (f := 1) (by decide) rfl (by decide) rfl (Or.inl q666) (Or.inl rfl) h.1 dX15_isLike_1 ?_
  replace h := h.2
  refine b_aload_n 1 dX15_isLike_4 rfl rfl ?_
  refine b_gI (ci := 15) (r := (RX15, TX15, 10)) (f := 1) (by decide) rfl (by decide) rfl (Or.inl q666) (Or.inl rfl) h.1 dX15_isLike_5 ?_
  replace h := h.2
  refine b_icmp_ne (tgt := 37) dX15_isLike_8 (by decide) (fun c_3 => ?_) (fun c_3 => ?_)
  · replace h := h.1 c_3
    refine b_iconst (v := 0) dX15_isLike_37 (by decide) ?_
    exact b_zret rfl (by decide) dX15_isLike_38 (hP _ _ h)
  · replace h := h.2 c_3
    refine b_aload_n 0 dX15_isLike_11 rfl rfl ?_
    refine b_gI (ci := 15) (r := (RX15, TX15, 10)) (f := 2) (by decide) rfl (by decide) rfl (Or.inl q669) (Or.inl rfl) h.1 dX15_isLike_12 ?_
    replace h := h.2
    refine b_aload_n 1 dX15_isLike_15 rfl rfl ?_
    refine b_gI (ci := 15) (r := (RX15, TX15, 10)) (f := 2) (by decide) rfl (by decide) rfl (Or.inl q669) (Or.inl rfl) h.1 dX15_isLike_16 ?_
    replace h := h.2
    refine b_icmp_ne (tgt := 37) dX15_isLike_19 (by decide) (fun c_2 => ?_) (fun c_2 => ?_)
    · replace h := h.1 c_2
      refine b_iconst (v := 0) dX15_isLike_37 (by decide) ?_
      exact b_zret rfl (by decide) dX15_isLike_38 (hP _ _ h)
    · replace h := h.2 c_2
      refine b_aload_n 0 dX15_isLike_22 rfl rfl ?_
      refine b_gI (ci := 15) (r := (RX15, TX15, 10)) (f := 3) (by decide) rfl (by decide) rfl (Or.inl q672) (Or.inl rfl) h.1 dX15_isLike_23 ?_
      replace h := h.2
      refine b_aload_n 1 dX15_isLike_26 rfl rfl ?_
      refine b_gI (ci := 15) (r := (RX15, TX15, 10)) (f := 3) (by decide) rfl (by decide) rfl (Or.inl q672) (Or.inl rfl) h.1 dX15_isLike_27 ?_
      replace h := h.2
      refine b_icmp_ne (tgt := 37) dX15_isLike_30 (by decide) (fun c_1 => ?_) (fun c_1 => ?_)
      · replace h := h.1 c_1
        refine b_iconst (v := 0) dX15_isLike_37 (by decide) ?_
        exact b_zret rfl (by decide) dX15_isLike_38 (hP _ _ h)
      · replace h := h.2 c_1
        refine b_iconst (v := 1) dX15_isLike_33 (by decide) ?_
        refine b_goto (tgt := 38) dX15_isLike_34 (by decide) ?_
        exact b_zret rfl (by decide) dX15_isLike_38 (hP _ _ h)
def v_X13_leader_2 : Nat → Nat × Nat → Nat × Nat → Int32 → Mem → (Nat × Nat → Mem → Prop) → Prop
  | 0, _, _, _, _, _ => False
  | n + 1, r0, r1, x2, M, Q => kt r0.1 = 13 ∧ (∀ e_1 : Nat × Nat, e_1 = M.2.1 r0.1 r0.2 7 → (kt e_1.1 = 0 ∧ (∀ e_2 : Nat × Nat, e_2 = M.2.1 e_1.1 e_1.2 9 → (lk e_2.1 ∧ ((((M.1 e_2.1 e_2.2 0) ≤ x2) → (Q (0, 0) M)) ∧ ((¬ (M.1 e_2.1 e_2.2 0) ≤ x2) → (kt r0.1 = 13 ∧ (∀ e_3 : Nat × Nat, e_3 = M.2.1 r0.1 r0.2 7 → (kt e_3.1 = 0 ∧ (∀ e_4 : Nat × Nat, e_4 = M.2.1 e_3.1 e_3.2 9 → (lk e_4.1 ∧ (¬ x2 < 0 ∧ x2 < M.1 e_4.1 e_4.2 0) ∧ (∀ e_5 : Nat × Nat, e_5 = M.2.1 e_4.1 e_4.2 x2.toNatClampNeg → (kt e_5.1 = 16 ∧ (((e_5 = r1) → (∀ x_6 : Int32, x_6 = x2 + 1 → (v_X13_leader_2 n r0 r1 x_6 M Q))) ∧ ((¬ e_5 = r1) → (kt e_5.1 = 16 ∧ (∀ e_7 : Nat × Nat, e_7 = M.2.1 e_5.1 e_5.2 6 → (((¬ e_7 = r0) → (∀ x_8 : Int32, x_8 = x2 + 1 → (v_X13_leader_2 n r0 r1 x_8 M Q))) ∧ ((e_7 = r0) → (kt e_5.1 = 16 ∧ (v_X16_isUnderWay e_5 M (fun r_10 M_9 => ((r_10 = 0) → (∀ x_11 : Int32, x_11 = x2 + 1 → (v_X13_leader_2 n r0 r1 x_11 M_9 Q))) ∧ ((¬ r_10 = 0) → (kt e_5.1 = 16 ∧ (∀ e_12 : Nat × Nat, e_12 = M_9.2.1 e_5.1 e_5.2 8 → (((¬ e_12 = (0, 0)) → (∀ x_13 : Int32, x_13 = x2 + 1 → (v_X13_leader_2 n r0 r1 x_13 M_9 Q))) ∧ ((e_12 = (0, 0)) → (kt e_5.1 = 16 ∧ (∀ e_14 : Nat × Nat, e_14 = M_9.2.1 e_5.1 e_5.2 4 → (kt r1.1 = 16 ∧ (∀ e_15 : Nat × Nat, e_15 = M_9.2.1 r1.1 r1.2 4 → (kt e_14.1 = 15 ∧ (v_X15_isLike e_14 e_15 M_9 (fun r_17 M_16 => ((r_17 = 0) → (∀ x_18 : Int32, x_18 = x2 + 1 → (v_X13_leader_2 n r0 r1 x_18 M_16 Q))) ∧ ((¬ r_17 = 0) → (Q e_5 M_16))))))))))))))))))))))))))))))))))))
set_option maxHeartbeats 4000000 in
theorem sv_X13_leader_2 {d : Nat} {P : Option AV → Mem → Prop} {Q : Nat × Nat → Mem → Prop} (hP : ∀ r M, Q r M → P (some (.inr r)) M) : ∀ (n : Nat) (r0 : Nat × Nat) (r1 : Nat × Nat) (x2 : Int32) (M : Mem), v_X13_leader_2 n r0 r1 x2 M Q → wq (d + 4) mX13_leader 2 [(0, .inr r0), (1, .inr r1), (2, .inl x2)] [] M P := by
  intro n
  induction n with
  | zero => intro r0 r1 x2 M h; exact False.elim h
  | succ n ih =>
    intro r0 r1 x2 M h
    rw [v_X13_leader_2] at h
    refine b_iload_n 2 dX13_leader_2 rfl rfl ?_
    refine b_aload_n 0 dX13_leader_3 rfl rfl ?_
    refine b_gR (ci := 13) (r := (RX13, TX13, 8)) (f := 7) (by decide) rfl (by decide) rfl (Or.inl q592) (Or.inl rfl) h.1 dX13_leader_4 ?_
    refine b_topr (fun e_1 ee_1 => ?_)
    replace h := h.2 e_1 ee_1
    refine b_gR (ci := 0) (r := (RX0, TX0, 14)) (f := 9) (by decide) rfl (by decide) rfl (Or.inr ⟨_, q158⟩) (Or.inl rfl) h.1 dX13_leader_7 ?_
    refine b_topr (fun e_2 ee_2 => ?_)
    replace h := h.2 e_2 ee_2
    refine b_lsize (st := [.inl x2]) h.1 (Or.inl q1024) (Nat.le_of_ble_eq_true rfl) dX13_leader_10 ?_
    replace h := h.2
    refine b_icmp_ge (tgt := 80) dX13_leader_13 (by decide) (fun c_24 => ?_) (fun c_24 => ?_)
    · replace h := h.1 c_24
      refine b_null dX13_leader_80 ?_
      exact b_aret rfl (Or.inl ⟨_, rfl⟩) dX13_leader_81 (hP _ _ h)
    · replace h := h.2 c_24
      refine b_aload_n 0 dX13_leader_16 rfl rfl ?_
      refine b_gR (ci := 13) (r := (RX13, TX13, 8)) (f := 7) (by decide) rfl (by decide) rfl (Or.inl q592) (Or.inl rfl) h.1 dX13_leader_17 ?_
      refine b_topr (fun e_3 ee_3 => ?_)
      replace h := h.2 e_3 ee_3
      refine b_gR (ci := 0) (r := (RX0, TX0, 14)) (f := 9) (by decide) rfl (by decide) rfl (Or.inr ⟨_, q158⟩) (Or.inl rfl) h.1 dX13_leader_20 ?_
      refine b_topr (fun e_4 ee_4 => ?_)
      replace h := h.2 e_4 ee_4
      refine b_iload_n 2 dX13_leader_23 rfl rfl ?_
      refine b_lget (st := []) h.1 h.2.1 (Or.inl q1025) (Nat.le_of_ble_eq_true rfl) dX13_leader_24 ?_
      refine b_topr (fun e_5 ee_5 => ?_)
      replace h := h.2.2 e_5 ee_5
      refine b_ck (ci := 16) (r := (RX16, TX16, 17)) rfl q1026 h.1 dX13_leader_27 ?_
      replace h := h.2
      refine b_astore_n (lv' := [(3, .inr e_5), (0, .inr r0), (1, .inr r1), (2, .inl x2)]) dX13_leader_30 rfl (Nat.le_of_ble_eq_true rfl) rfl ?_
      refine b_aload_n 0 dX13_leader_31 rfl rfl ?_
      refine b_aload_n 2 dX13_leader_32 rfl rfl ?_
      refine b_acmp_eq (tgt := 74) dX13_leader_33 (by decide) (fun c_23 => ?_) (fun c_23 => ?_)
      · replace h := h.1 c_23
        obtain ⟨x_6, ex_6⟩ : ∃ y : Int32, y = x2 + 1 := ⟨_, rfl⟩
        replace h := h x_6 ex_6
        refine b_iinc (v := x_6) (lv' := [(2, .inl x_6), (3, .inr e_5), (0, .inr r0), (1, .inr r1)]) 3 dX13_leader_74 rfl (by rw [ex_6]; rfl) (Nat.le_of_ble_eq_true rfl) rfl ?_
        refine b_goto (tgt := 2) dX13_leader_77 (by decide) ?_
        exact b_sub (by simp) (ih r0 r1 x_6 M h)
      · replace h := h.2 c_23
        refine b_aload_n 0 dX13_leader_36 rfl rfl ?_
        refine b_gR (ci := 16) (r := (RX16, TX16, 17)) (f := 6) (by decide) rfl (by decide) rfl (Or.inr ⟨_, q747⟩) (Or.inl rfl) h.1 dX13_leader_37 ?_
        refine b_topr (fun e_7 ee_7 => ?_)
        replace h := h.2 e_7 ee_7
        refine b_aload_n 1 dX13_leader_40 rfl rfl ?_
        refine b_acmp_ne (tgt := 74) dX13_leader_41 (by decide) (fun c_22 => ?_) (fun c_22 => ?_)
        · replace h := h.1 c_22
          obtain ⟨x_8, ex_8⟩ : ∃ y : Int32, y = x2 + 1 := ⟨_, rfl⟩
          replace h := h x_8 ex_8
          refine b_iinc (v := x_8) (lv' := [(2, .inl x_8), (3, .inr e_5), (0, .inr r0), (1, .inr r1)]) 3 dX13_leader_74 rfl (by rw [ex_8]; rfl) (Nat.le_of_ble_eq_true rfl) rfl ?_
          refine b_goto (tgt := 2) dX13_leader_77 (by decide) ?_
          exact b_sub (by simp) (ih r0 r1 x_8 M h)
        · replace h := h.2 c_22
          refine b_aload_n 0 dX13_leader_44 rfl rfl ?_
          refine b_cvo (y := mX16_isUnderWay) (ci := 16) (r := (RX16, TX16, 17)) (e := e_5) (as := []) (st := []) (n := 0) rfl h.1 (Or.inl q1027) q961 q960 q94 q962 zmh_X16_isUnderWay rfl (Nat.le_of_ble_eq_true rfl) (Nat.le_of_ble_eq_true rfl) dX13_leader_45 (sv_X16_isUnderWay (fun r_10 M_9 h => ?_) h.2)
          show wq (d + 4) mX13_leader 48 [(3, .inr e_5), (0, .inr r0), (1, .inr r1), (2, .inl x2)] [.inl r_10] M_9 P
          refine b_if_eq (tgt := 74) dX13_leader_48 (by decide) (fun c_21 => ?_) (fun c_21 => ?_)
          · replace h := h.1 c_21
            obtain ⟨x_11, ex_11⟩ : ∃ y : Int32, y = x2 + 1 := ⟨_, rfl⟩
            replace h := h x_11 ex_11
            refine b_iinc (v := x_11) (lv' := [(2, .inl x_11), (3, .inr e_5), (0, .inr r0), (1, .inr r1)]) 3 dX13_leader_74 rfl (by rw [ex_11]; rfl) (Nat.le_of_ble_eq_true rfl) rfl ?_
            refine b_goto (tgt := 2) dX13_leader_77 (by decide) ?_
            exact b_sub (by simp) (ih r0 r1 x_11 M_9 h)
          · replace h := h.2 c_21
            refine b_aload_n 0 dX13_leader_51 rfl rfl ?_
            refine b_gR (ci := 16) (r := (RX16, TX16, 17)) (f := 8) (by decide) rfl (by decide) rfl (Or.inr ⟨_, q754⟩) (Or.inl rfl) h.1 dX13_leader_52 ?_
            refine b_topr (fun e_12 ee_12 => ?_)
            replace h := h.2 e_12 ee_12
            refine b_ifnonnull (tgt := 74) dX13_leader_55 (by decide) (fun c_20 => ?_) (fun c_20 => ?_)
            · replace h := h.1 c_20
              obtain ⟨x_13, ex_13⟩ : ∃ y : Int32, y = x2 + 1 := ⟨_, rfl⟩
              replace h := h x_13 ex_13
              refine b_iinc (v := x_13) (lv' := [(2, .inl x_13), (3, .inr e_5), (0, .inr r0), (1, .inr r1)]) 3 dX13_leader_74 rfl (by rw [ex_13]; rfl) (Nat.le_of_ble_eq_true rfl) rfl ?_
              refine b_goto (tgt := 2) dX13_leader_77 (by decide) ?_
              exact b_sub (by simp) (ih r0 r1 x_13 M_9 h)
            · replace h := h.2 c_20
              refine b_aload_n 0 dX13_leader_58 rfl rfl ?_
              refine b_gR (ci := 16) (r := (RX16, TX16, 17)) (f := 4) (by decide) rfl (by decide) rfl (Or.inr ⟨_, q741⟩) (Or.inl rfl) h.1 dX13_leader_59 ?_
              refine b_topr (fun e_14 ee_14 => ?_)
              replace h := h.2 e_14 ee_14
              refine b_aload_n 2 dX13_leader_62 rfl rfl ?_
              refine b_gR (ci := 16) (r := (RX16, TX16, 17)) (f := 4) (by decide) rfl (by decide) rfl (Or.inr ⟨_, q741⟩) (Or.inl rfl) h.1 dX13_leader_63 ?_
              refine b_topr (fun e_15 ee_15 => ?_)
              replace h := h.2 e_15 ee_15
              refine b_cvo (y := mX15_isLike) (ci := 15) (r := (RX15, TX15, 10)) (e := e_14) (as := [.inr e_15]) (st := []) (n := 1) rfl h.1 (Or.inl q1095) q1097 q1096 q93 q1098 zmh_X15_isLike rfl (Nat.le_of_ble_eq_true rfl) (Nat.le_of_ble_eq_true rfl) dX13_leader_66 (sv_X15_isLike (fun r_17 M_16 h => ?_) h.2)
              show wq (d + 4) mX13_leader 69 [(3, .inr e_5), (0, .inr r0), (1, .inr r1), (2, .inl x2)] [.inl r_17] M_16 P
              refine b_if_eq (tgt := 74) dX13_leader_69 (by decide) (fun c_19 => ?_) (fun c_19 => ?_)
              · replace h := h.1 c_19
                obtain ⟨x_18, ex_18⟩ : ∃ y : Int32, y = x2 + 1 := ⟨_, rfl⟩
                replace h := h x_18 ex_18
                refine b_iinc (v := x_18) (lv' := [(2, .inl x_18), (3, .inr e_5), (0, .inr r0), (1, .inr r1)]) 3 dX13_leader_74 rfl (by rw [ex_18]; rfl) (Nat.le_of_ble_eq_true rfl) rfl ?_
                refine b_goto (tgt := 2) dX13_leader_77 (by decide) ?_
                exact b_sub (by simp) (ih r0 r1 x_18 M_16 h)
              · replace h := h.2 c_19
                refine b_aload_n 0 dX13_leader_72 rfl rfl ?_
                exact b_aret rfl (Or.inl ⟨_, rfl⟩) dX13_leader_73 (hP _ _ h)
def v_X13_leader (r0 : Nat × Nat) (r1 : Nat × Nat) (M : Mem) (Q : Nat × Nat → Mem → Prop) : Prop := ∃ n, v_X13_leader_2 n r0 r1 0 M Q
set_option maxHeartbeats 4000000 in
theorem sv_X13_leader {d : Nat} {M : Mem} {P : Option AV → Mem → Prop} {Q : Nat × Nat → Mem → Prop} {r0 : Nat × Nat} {r1 : Nat × Nat} (hP : ∀ r M, Q r M → P (some (.inr r)) M) (h : v_X13_leader r0 r1 M Q) : cq (d + 4) mX13_leader [.inr r0, .inr r1] M P := by
  refine cq_of (by decide) (Nat.le_of_ble_eq_true rfl) ?_
  show wq (d + 4) mX13_leader 0 [(0, .inr r0), (1, .inr r1)] [] M P
  unfold v_X13_leader at h
  refine b_iconst (v := 0) dX13_leader_0 (by decide) ?_
  refine b_istore_n (lv' := [(2, .inl 0), (0, .inr r0), (1, .inr r1)]) dX13_leader_1 rfl (Nat.le_of_ble_eq_true rfl) rfl ?_
  obtain ⟨n, h⟩ := h
  exact b_sub (by simp) (sv_X13_leader_2 hP n r0 r1 0 M h)
def v_X13_begins (d : Nat) (r0 : Nat × Nat) (r1 : Nat × Nat) (M : Mem) (Q : Mem → Prop) : Prop := kt r0.1 = 13 ∧ (v_X13_leader r0 r1 M (fun e_2 M_1 => kt r1.1 = 16 ∧ (∀ M_3 : Mem, M_3 = sR M_1 r1.1 r1.2 8 e_2 → (kt r1.1 = 16 ∧ (∀ e_4 : Nat × Nat, e_4 = M_3.2.1 r1.1 r1.2 8 → (((¬ e_4 = (0, 0)) → (kt r1.1 = 16 ∧ (∀ M_5 : Mem, M_5 = sI M_3 r1.1 r1.2 14 3 → (Q M_5)))) ∧ ((e_4 = (0, 0)) → (kt r0.1 = 13 ∧ (∀ e_6 : Nat × Nat, e_6 = M_3.2.1 r0.1 r0.2 7 → (kt e_6.1 = 0 ∧ (cq (d + 10) mX0_goesIn [.inr e_6, .inr r1] M_3 (fun r_ M_7 => r_ = none ∧ (Q M_7)))))))))))))
set_option maxHeartbeats 4000000 in
theorem sv_X13_begins {d : Nat} {M : Mem} {P : Option AV → Mem → Prop} {Q : Mem → Prop} {r0 : Nat × Nat} {r1 : Nat × Nat} (hP : ∀ M, Q M → P none M) (h : v_X13_begins d r0 r1 M Q) : cq (d + 11) mX13_begins [.inr r0, .inr r1] M P := by
  refine cq_of (by decide) (Nat.le_of_ble_eq_true rfl) ?_
  show wq (d + 11) mX13_begins 0 [(0, .inr r0), (1, .inr r1)] [] M P
  unfold v_X13_begins at h
  refine b_aload_n 1 dX13_begins_0 rfl rfl ?_
  refine b_aload_n 0 dX13_begins_1 rfl rfl ?_
  refine b_aload_n 1 dX13_begins_2 rfl rfl ?_
  refine b_cvo (y := mX13_leader) (ci := 13) (r := (RX13, TX13, 8)) (e := r0) (as := [.inr r1]) (st := [.inr r1]) (n := 1) rfl h.1 (Or.inl q1091) qs20 q1093 q89 q1094 zmh_X13_leader rfl (Nat.le_of_ble_eq_true rfl) (Nat.le_of_ble_eq_true rfl) dX13_begins_3 (sv_X13_leader (fun e_2 M_1 h => ?_) h.2)
  show wq (d + 11) mX13_begins 6 [(0, .inr r0), (1, .inr r1)] [.inr e_2, .inr r1] M_1 P
  refine b_pR (ci := 16) (r := (RX16, TX16, 17)) (f := 8) (by decide) rfl (by decide) (Or.inr ⟨_, q754⟩) (Or.inl rfl) rfl rfl h.1 dX13_begins_6 ?_
  refine b_topm (fun M_3 eM_3 => ?_)
  replace h := h.2 M_3 eM_3
  refine b_aload_n 1 dX13_begins_9 rfl rfl ?_
  refine b_gR (ci := 16) (r := (RX16, TX16, 17)) (f := 8) (by decide) rfl (by decide) rfl (Or.inr ⟨_, q754⟩) (Or.inl rfl) h.1 dX13_begins_10 ?_
  refine b_topr (fun e_4 ee_4 => ?_)
  replace h := h.2 e_4 ee_4
  refine b_ifnonnull (tgt := 27) dX13_begins_13 (by decide) (fun c_9 => ?_) (fun c_9 => ?_)
  · replace h := h.1 c_9
    refine b_aload_n 1 dX13_begins_27 rfl rfl ?_
    refine b_iconst (v := 3) dX13_begins_28 (by decide) ?_
    refine b_pI (ci := 16) (r := (RX16, TX16, 17)) (f := 14) (by decide) rfl (by decide) (Or.inr ⟨_, q775⟩) (Or.inl rfl) rfl (Or.inl rfl) h.1 dX13_begins_29 ?_
    refine b_topm (fun M_5 eM_5 => ?_)
    replace h := h.2 M_5 eM_5
    exact b_vret rfl dX13_begins_32 (hP _ h)
  · replace h := h.2 c_9
    refine b_aload_n 0 dX13_begins_16 rfl rfl ?_
    refine b_gR (ci := 13) (r := (RX13, TX13, 8)) (f := 7) (by decide) rfl (by decide) rfl (Or.inl q592) (Or.inl rfl) h.1 dX13_begins_17 ?_
    refine b_topr (fun e_6 ee_6 => ?_)
    replace h := h.2 e_6 ee_6
    refine b_aload_n 1 dX13_begins_20 rfl rfl ?_
    refine b_cvo (y := mX0_goesIn) (ci := 0) (r := (RX0, TX0, 14)) (e := e_6) (as := [.inr r1]) (st := []) (n := 1) rfl h.1 (Or.inr ⟨_, q1099⟩) qs10 q842 q69 q843 zmh_X0_goesIn rfl (Nat.le_of_ble_eq_true rfl) (Nat.le_of_ble_eq_true rfl) dX13_begins_21 (cq.mono h.2 (fun _ M_7 h => ?_))
    obtain ⟨rfl, h⟩ := h
    show wq (d + 11) mX13_begins 24 [(0, .inr r0), (1, .inr r1)] [] M_7 P
    refine b_goto (tgt := 32) dX13_begins_24 (by decide) ?_
    exact b_vret rfl dX13_begins_32 (hP _ h)
def v_X14_told (d : Nat) (r0 : Nat × Nat) (r1 : Nat × Nat) (r2 : Nat × Nat) (M : Mem) (Q : Mem → Prop) : Prop := kt r0.1 = 14 ∧ (v_X4_names r0 r2 M (fun r_2 M_1 => ((¬ r_2 = 0) → (kt r0.1 = 14 ∧ (∀ e_3 : Nat × Nat, e_3 = M_1.2.1 r0.1 r0.2 7 → (kt r0.1 = 14 ∧ (kt r0.1 = 14 ∧ (kt e_3.1 = 0 ∧ (v_X0_failed e_3 (M_1.1 r0.1 r0.2 3) (M_1.1 r0.1 r0.2 0) (-1) M_1 (fun e_5 M_4 => kt r2.1 = 16 ∧ (∀ e_6 : Nat × Nat, e_6 = M_4.2.1 r2.1 r2.2 16 → (kt e_5.1 = 17 ∧ (∀ M_7 : Mem, M_7 = sR M_4 e_5.1 e_5.2 5 e_6 → (kt r0.1 = 14 ∧ (∀ e_8 : Nat × Nat, e_8 = M_7.2.1 r0.1 r0.2 7 → (kt e_8.1 = 0 ∧ (cq (d + 10) mX0_fails [.inr e_8, .inr r1, .inr e_5] M_7 (fun r_ M_9 => r_ = none ∧ (Q M_9))))))))))))))))) ∧ ((r_2 = 0) → (kt r0.1 = 14 ∧ (∀ e_11 : Nat × Nat, e_11 = M_1.2.1 r0.1 r0.2 7 → (kt e_11.1 = 0 ∧ (cq (d + 10) mX0_alike [.inr e_11, .inr r1, .inr r2] M_1 (fun r_ M_12 => r_ = none ∧ (Q M_12)))))))))
set_option maxHeartbeats 4000000 in
theorem sv_X14_told {d : Nat} {M : Mem} {P : Option AV → Mem → Prop} {Q : Mem → Prop} {r0 : Nat × Nat} {r1 : Nat × Nat} {r2 : Nat × Nat} (hP : ∀ M, Q M → P none M) (h : v_X14_told d r0 r1 r2 M Q) : cq (d + 11) mX14_told [.inr r0, .inr r1, .inr r2] M P := by
  refine cq_of (by decide) (Nat.le_of_ble_eq_true rfl) ?_
  show wq (d + 11) mX14_told 0 [(0, .inr r0), (1, .inr r1), (2, .inr r2)] [] M P
  unfold v_X14_told at h
  refine b_aload_n 0 dX14_told_0 rfl rfl ?_
  refine b_aload_n 2 dX14_told_1 rfl rfl ?_
  refine b_i_names_Translator (e := r0) (as := [.inr r2]) (st := []) h.1 q1064 rfl (Nat.le_of_ble_eq_true rfl) dX14_told_2 (sv_X4_names (fun r_2 M_1 h => ?_) h.2)
  show wq (d + 11) mX14_told 5 [(0, .inr r0), (1, .inr r1), (2, .inr r2)] [.inl r_2] M_1 P
  refine b_if_ne (tgt := 18) dX14_told_5 (by decide) (fun c_14 => ?_) (fun c_14 => ?_)
  · replace h := h.1 c_14
    refine b_aload_n 0 dX14_told_18 rfl rfl ?_
    refine b_gR (ci := 14) (r := (RX14, TX14, 8)) (f := 7) (by decide) rfl (by decide) rfl (Or.inl q609) (Or.inl rfl) h.1 dX14_told_19 ?_
    refine b_topr (fun e_3 ee_3 => ?_)
    replace h := h.2 e_3 ee_3
    refine b_aload_n 0 dX14_told_22 rfl rfl ?_
    refine b_gI (ci := 14) (r := (RX14, TX14, 8)) (f := 3) (by decide) rfl (by decide) rfl (Or.inl q393) (Or.inr q394) h.1 dX14_told_23 ?_
    replace h := h.2
    refine b_aload_n 0 dX14_told_26 rfl rfl ?_
    refine b_gI (ci := 14) (r := (RX14, TX14, 8)) (f := 0) (by decide) rfl (by decide) rfl (Or.inl q370) (Or.inr q371) h.1 dX14_told_27 ?_
    replace h := h.2
    refine b_iconst (v := (-1)) dX14_told_30 (by decide) ?_
    refine b_cvo (y := mX0_failed) (ci := 0) (r := (RX0, TX0, 14)) (e := e_3) (as := [.inl (M_1.1 r0.1 r0.2 3), .inl (M_1.1 r0.1 r0.2 0), .inl (-1)]) (st := []) (n := 3) rfl h.1 (Or.inr ⟨_, q1068⟩) qs11 q853 q69 q854 zmh_X0_failed rfl (Nat.le_of_ble_eq_true rfl) (Nat.le_of_ble_eq_true rfl) dX14_told_31 (sv_X0_failed (fun e_5 M_4 h => ?_) h.2)
    show wq (d + 11) mX14_told 34 [(0, .inr r0), (1, .inr r1), (2, .inr r2)] [.inr e_5] M_4 P
    refine b_astore_n (lv' := [(3, .inr e_5), (0, .inr r0), (1, .inr r1), (2, .inr r2)]) dX14_told_34 rfl (Nat.le_of_ble_eq_true rfl) rfl ?_
    refine b_aload_n 0 dX14_told_35 rfl rfl ?_
    refine b_aload_n 3 dX14_told_36 rfl rfl ?_
    refine b_gR (ci := 16) (r := (RX16, TX16, 17)) (f := 16) (by decide) rfl (by decide) rfl (Or.inr ⟨_, q784⟩) (Or.inl rfl) h.1 dX14_told_37 ?_
    refine b_topr (fun e_6 ee_6 => ?_)
    replace h := h.2 e_6 ee_6
    refine b_pR (ci := 17) (r := (RX17, TX17, 7)) (f := 5) (by decide) rfl (by decide) (Or.inr ⟨_, q871⟩) (Or.inl rfl) rfl rfl h.1 dX14_told_40 ?_
    refine b_topm (fun M_7 eM_7 => ?_)
    replace h := h.2 M_7 eM_7
    refine b_aload_n 1 dX14_told_43 rfl rfl ?_
    refine b_gR (ci := 14) (r := (RX14, TX14, 8)) (f := 7) (by decide) rfl (by decide) rfl (Or.inl q609) (Or.inl rfl) h.1 dX14_told_44 ?_
    refine b_topr (fun e_8 ee_8 => ?_)
    replace h := h.2 e_8 ee_8
    refine b_aload_n 2 dX14_told_47 rfl rfl ?_
    refine b_aload_n 0 dX14_told_48 rfl rfl ?_
    refine b_cvo (y := mX0_fails) (ci := 0) (r := (RX0, TX0, 14)) (e := e_8) (as := [.inr r1, .inr e_5]) (st := []) (n := 2) rfl h.1 (Or.inr ⟨_, q1069⟩) qs12 q893 q69 q894 zmh_X0_fails rfl (Nat.le_of_ble_eq_true rfl) (Nat.le_of_ble_eq_true rfl) dX14_told_49 (cq.mono h.2 (fun _ M_9 h => ?_))
    obtain ⟨rfl, h⟩ := h
    show wq (d + 11) mX14_told 52 [(3, .inr e_5), (0, .inr r0), (1, .inr r1), (2, .inr r2)] [] M_9 P
    exact b_vret rfl dX14_told_52 (hP _ h)
  · replace h := h.2 c_14
    refine b_aload_n 0 dX14_told_8 rfl rfl ?_
    refine b_gR (ci := 14) (r := (RX14, TX14, 8)) (f := 7) (by decide) rfl (by decide) rfl (Or.inl q609) (Or.inl rfl) h.1 dX14_told_9 ?_
    refine b_topr (fun e_11 ee_11 => ?_)
    replace h := h.2 e_11 ee_11
    refine b_aload_n 1 dX14_told_12 rfl rfl ?_
    refine b_aload_n 2 dX14_told_13 rfl rfl ?_
    refine b_cvo (y := mX0_alike) (ci := 0) (r := (RX0, TX0, 14)) (e := e_11) (as := [.inr r1, .inr r2]) (st := []) (n := 2) rfl h.1 (Or.inr ⟨_, q1067⟩) qs14 q907 q69 q908 zmh_X0_alike rfl (Nat.le_of_ble_eq_true rfl) (Nat.le_of_ble_eq_true rfl) dX14_told_14 (cq.mono h.2 (fun _ M_12 h => ?_))
    obtain ⟨rfl, h⟩ := h
    show wq (d + 11) mX14_told 17 [(0, .inr r0), (1, .inr r1), (2, .inr r2)] [] M_12 P
    exact b_vret rfl dX14_told_17 (hP _ h)
def v_X19_pass (d : Nat) (r0 : Nat × Nat) (M : Mem) (Q : Mem → Prop) : Prop := kt r0.1 = 19 ∧ (((¬ (M.1 r0.1 r0.2 12) = 0) → (Q M)) ∧ (((M.1 r0.1 r0.2 12) = 0) → (kt r0.1 = 19 ∧ (∀ e_1 : Nat × Nat, e_1 = M.2.1 r0.1 r0.2 13 → (kt e_1.1 = 0 ∧ (kt r0.1 = 19 ∧ (kt r0.1 = 19 ∧ ((¬ (M.1 r0.1 r0.2 4) = 0) ∧ ((((((M.1 e_1.1 e_1.2 0) - (M.1 r0.1 r0.2 7)) - ((M.1 e_1.1 e_1.2 0) - (M.1 r0.1 r0.2 7)) / (M.1 r0.1 r0.2 4) * (M.1 r0.1 r0.2 4)) = 0) → (kt r0.1 = 19 ∧ (∀ e_2 : Nat × Nat, e_2 = M.2.1 r0.1 r0.2 13 → (kt e_2.1 = 0 ∧ (∀ e_3 : Nat × Nat, e_3 = M.2.1 e_2.1 e_2.2 2 → (kt r0.1 = 19 ∧ (lk e_3.1 ∧ (¬ ((M.1 r0.1 r0.2 1)) < 0 ∧ ((M.1 r0.1 r0.2 1)) < M.1 e_3.1 e_3.2 0) ∧ (∀ e_4 : Nat × Nat, e_4 = M.2.1 e_3.1 e_3.2 ((M.1 r0.1 r0.2 1)).toNatClampNeg → (kt e_4.1 = 2 ∧ (kt e_4.1 = 2 ∧ (kt r0.1 = 19 ∧ (kt r0.1 = 19 ∧ ((v_X0_in (M.1 e_4.1 e_4.2 2) (M.1 r0.1 r0.2 5) (M.1 r0.1 r0.2 6) M (fun r_6 M_5 => ((¬ r_6 = 0) → (kt r0.1 = 19 ∧ (∀ e_7 : Nat × Nat, e_7 = M_5.2.1 r0.1 r0.2 13 → (kt e_7.1 = 0 ∧ (∀ e_8 : Nat × Nat, e_8 = M_5.2.1 e_7.1 e_7.2 8 → (lk e_8.1 ∧ (((¬ (M_5.1 e_8.1 e_8.2 0) = 60) → (kt r0.1 = 19 ∧ (∀ e_9 : Nat × Nat, e_9 = M_5.2.1 r0.1 r0.2 13 → (kt r0.1 = 19 ∧ (kt r0.1 = 19 ∧ (kt r0.1 = 19 ∧ (kt r0.1 = 19 ∧ (kt e_9.1 = 0 ∧ (cq (d + 10) mX0_begins [.inr e_9, .inl (M_5.1 r0.1 r0.2 0), .inl (M_5.1 r0.1 r0.2 1), .inl (M_5.1 r0.1 r0.2 2), .inl (M_5.1 r0.1 r0.2 3), .inl 0] M_5 (fun r_ M_10 => ∃ r_11 : Int32, r_ = some (.inl r_11) ∧ (kt r0.1 = 19 ∧ (∀ M_12 : Mem, M_12 = sI M_10 r0.1 r0.2 9 r_11 → (kt r0.1 = 19 ∧ (kt r0.1 = 19 ∧ (∀ M_13 : Mem, M_13 = sI M_12 r0.1 r0.2 8 ((M_12.1 r0.1 r0.2 8) + 1) → (Q M_13)))))))))))))))) ∧ (((M_5.1 e_8.1 e_8.2 0) = 60) → (kt r0.1 = 19 ∧ (kt r0.1 = 19 ∧ (∀ M_14 : Mem, M_14 = sI M_5 r0.1 r0.2 10 ((M_5.1 r0.1 r0.2 10) + 1) → (Q M_14)))))))))))) ∧ ((r_6 = 0) → (kt r0.1 = 19 ∧ (kt r0.1 = 19 ∧ (∀ M_16 : Mem, M_16 = sI M_5 r0.1 r0.2 11 ((M_5.1 r0.1 r0.2 11) + 1) → (Q M_16)))))))))))))))))))) ∧ ((¬ (((M.1 e_1.1 e_1.2 0) - (M.1 r0.1 r0.2 7)) - ((M.1 e_1.1 e_1.2 0) - (M.1 r0.1 r0.2 7)) / (M.1 r0.1 r0.2 4) * (M.1 r0.1 r0.2 4)) = 0) → (Q M)))))))))))
set_option maxHeartbeats 4000000 in
theorem sv_X19_pass {d : Nat} {M : Mem} {P : Option AV → Mem → Prop} {Q : Mem → Prop} {r0 : Nat × Nat} (hP : ∀ M, Q M → P none M) (h : v_X19_pass d r0 M Q) : cq (d + 11) mX19_pass [.inr r0] M P := by
  refine cq_of (by decide) (Nat.le_of_ble_eq_true rfl) ?_
  show wq (d + 11) mX19_pass 0 [(0, .inr r0)] [] M P
  unfold v_X19_pass at h
  refine b_aload_n 0 dX19_pass_0 rfl rfl ?_
  refine b_gI (ci := 19) (r := (RX19, TX19, 14)) (f := 12) (by decide) rfl (by decide) rfl (Or.inl q1298) (Or.inl rfl) h.1 dX19_pass_1 ?_
  replace h := h.2
  refine b_if_ne (tgt := 27) dX19_pass_4 (by decide) (fun c_19 => ?_) (fun c_19 => ?_)
  · replace h := h.1 c_19
    exact b_vret rfl dX19_pass_27 (hP _ h)
  · replace h := h.2 c_19
    refine b_aload_n 0 dX19_pass_7 rfl rfl ?_
    refine b_gR (ci := 19) (r := (RX19, TX19, 14)) (f := 13) (by decide) rfl (by decide) rfl (Or.inl q1300) (Or.inl rfl) h.1 dX19_pass_8 ?_
    refine b_topr (fun e_1 ee_1 => ?_)
    replace h := h.2 e_1 ee_1
    refine b_gI (ci := 0) (r := (RX0, TX0, 14)) (f := 0) (by decide) rfl (by decide) rfl (Or.inr ⟨_, q137⟩) (Or.inl rfl) h.1 dX19_pass_11 ?_
    replace h := h.2
    refine b_aload_n 0 dX19_pass_14 rfl rfl ?_
    refine b_gI (ci := 19) (r := (RX19, TX19, 14)) (f := 7) (by decide) rfl (by decide) rfl (Or.inl q1289) (Or.inl rfl) h.1 dX19_pass_15 ?_
    replace h := h.2
    refine b_isub dX19_pass_18 ?_
    refine b_aload_n 0 dX19_pass_19 rfl rfl ?_
    refine b_gI (ci := 19) (r := (RX19, TX19, 14)) (f := 4) (by decide) rfl (by decide) rfl (Or.inl q1286) (Or.inl rfl) h.1 dX19_pass_20 ?_
    replace h := h.2
    refine b_irem dX19_pass_23 h.1 ?_
    replace h := h.2
    refine b_if_eq (tgt := 28) dX19_pass_24 (by decide) (fun c_18 => ?_) (fun c_18 => ?_)
    · replace h := h.1 c_18
      refine b_aload_n 0 dX19_pass_28 rfl rfl ?_
      refine b_gR (ci := 19) (r := (RX19, TX19, 14)) (f := 13) (by decide) rfl (by decide) rfl (Or.inl q1300) (Or.inl rfl) h.1 dX19_pass_29 ?_
      refine b_topr (fun e_2 ee_2 => ?_)
      replace h := h.2 e_2 ee_2
      refine b_gR (ci := 0) (r := (RX0, TX0, 14)) (f := 2) (by decide) rfl (by decide) rfl (Or.inr ⟨_, q147⟩) (Or.inl rfl) h.1 dX19_pass_32 ?_
      refine b_topr (fun e_3 ee_3 => ?_)
      replace h := h.2 e_3 ee_3
      refine b_aload_n 0 dX19_pass_35 rfl rfl ?_
      refine b_gI (ci := 19) (r := (RX19, TX19, 14)) (f := 1) (by decide) rfl (by decide) rfl (Or.inl q1283) (Or.inl rfl) h.1 dX19_pass_36 ?_
      replace h := h.2
      refine b_lget (st := []) h.1 h.2.1 (Or.inl q1239) (Nat.le_of_ble_eq_true rfl) dX19_pass_39 ?_
      refine b_topr (fun e_4 ee_4 => ?_)
      replace h := h.2.2 e_4 ee_4
      refine b_ck (ci := 2) (r := (RX2, TX2, 3)) rfl q1240 h.1 dX19_pass_42 ?_
      replace h := h.2
      refine b_gI (ci := 2) (r := (RX2, TX2, 3)) (f := 2) (by decide) rfl (by decide) rfl (Or.inr ⟨_, q217⟩) (Or.inl rfl) h.1 dX19_pass_45 ?_
      replace h := h.2
      refine b_aload_n 0 dX19_pass_48 rfl rfl ?_
      refine b_gI (ci := 19) (r := (RX19, TX19, 14)) (f := 5) (by decide) rfl (by decide) rfl (Or.inl q1287) (Or.inl rfl) h.1 dX19_pass_49 ?_
      replace h := h.2
      refine b_aload_n 0 dX19_pass_52 rfl rfl ?_
      refine b_gI (ci := 19) (r := (RX19, TX19, 14)) (f := 6) (by decide) rfl (by decide) rfl (Or.inl q1288) (Or.inl rfl) h.1 dX19_pass_53 ?_
      replace h := h.2
      refine b_cs (y := mX0_in) (as := [.inl (M.1 e_4.1 e_4.2 2), .inl (M.1 r0.1 r0.2 5), .inl (M.1 r0.1 r0.2 6)]) (st := []) (n := 3) (Or.inr ⟨_, q1241⟩) q199 q69 q200 zmh_X0_in rfl (Nat.le_of_ble_eq_true rfl) (Nat.le_of_ble_eq_true rfl) dX19_pass_56 (sv_X0_in (fun r_6 M_5 h => ?_) h)
      show wq (d + 11) mX19_pass 59 [(0, .inr r0)] [.inl r_6] M_5 P
      refine b_if_ne (tgt := 75) dX19_pass_59 (by decide) (fun c_17 => ?_) (fun c_17 => ?_)
      · replace h := h.1 c_17
        refine b_aload_n 0 dX19_pass_75 rfl rfl ?_
        refine b_gR (ci := 19) (r := (RX19, TX19, 14)) (f := 13) (by decide) rfl (by decide) rfl (Or.inl q1300) (Or.inl rfl) h.1 dX19_pass_76 ?_
        refine b_topr (fun e_7 ee_7 => ?_)
        replace h := h.2 e_7 ee_7
        refine b_gR (ci := 0) (r := (RX0, TX0, 14)) (f := 8) (by decide) rfl (by decide) rfl (Or.inr ⟨_, q156⟩) (Or.inl rfl) h.1 dX19_pass_79 ?_
        refine b_topr (fun e_8 ee_8 => ?_)
        replace h := h.2 e_8 ee_8
        refine b_lsize (st := []) h.1 (Or.inl q1242) (Nat.le_of_ble_eq_true rfl) dX19_pass_82 ?_
        replace h := h.2
        refine b_bipush (v := 60) dX19_pass_85 (by decide) ?_
        refine b_icmp_ne (tgt := 103) dX19_pass_87 (by decide) (fun c_15 => ?_) (fun c_15 => ?_)
        · replace h := h.1 c_15
          refine b_aload_n 0 dX19_pass_103 rfl rfl ?_
          refine b_aload_n 0 dX19_pass_104 rfl rfl ?_
          refine b_gR (ci := 19) (r := (RX19, TX19, 14)) (f := 13) (by decide) rfl (by decide) rfl (Or.inl q1300) (Or.inl rfl) h.1 dX19_pass_105 ?_
          refine b_topr (fun e_9 ee_9 => ?_)
          replace h := h.2 e_9 ee_9
          refine b_aload_n 0 dX19_pass_108 rfl rfl ?_
          refine b_gI (ci := 19) (r := (RX19, TX19, 14)) (f := 0) (by decide) rfl (by decide) rfl (Or.inl q1282) (Or.inl rfl) h.1 dX19_pass_109 ?_
          replace h := h.2
          refine b_aload_n 0 dX19_pass_112 rfl rfl ?_
          refine b_gI (ci := 19) (r := (RX19, TX19, 14)) (f := 1) (by decide) rfl (by decide) rfl (Or.inl q1283) (Or.inl rfl) h.1 dX19_pass_113 ?_
          replace h := h.2
          refine b_aload_n 0 dX19_pass_116 rfl rfl ?_
          refine b_gI (ci := 19) (r := (RX19, TX19, 14)) (f := 2) (by decide) rfl (by decide) rfl (Or.inl q1284) (Or.inl rfl) h.1 dX19_pass_117 ?_
          replace h := h.2
          refine b_aload_n 0 dX19_pass_120 rfl rfl ?_
          refine b_gI (ci := 19) (r := (RX19, TX19, 14)) (f := 3) (by decide) rfl (by decide) rfl (Or.inl q1285) (Or.inl rfl) h.1 dX19_pass_121 ?_
          replace h := h.2
          refine b_iconst (v := 0) dX19_pass_124 (by decide) ?_
          refine b_cvo (y := mX0_begins) (ci := 0) (r := (RX0, TX0, 14)) (e := e_9) (as := [.inl (M_5.1 r0.1 r0.2 0), .inl (M_5.1 r0.1 r0.2 1), .inl (M_5.1 r0.1 r0.2 2), .inl (M_5.1 r0.1 r0.2 3), .inl 0]) (st := [.inr r0]) (n := 5) rfl h.1 (Or.inr ⟨_, q1243⟩) qs5 q654 q69 q655 zmh_X0_begins rfl (Nat.le_of_ble_eq_true rfl) (Nat.le_of_ble_eq_true rfl) dX19_pass_125 (cq.mono h.2 (fun _ M_10 h => ?_))
          obtain ⟨r_11, rfl, h⟩ := h
          show wq (d + 11) mX19_pass 128 [(0, .inr r0)] [.inl r_11, .inr r0] M_10 P
          refine b_pI (ci := 19) (r := (RX19, TX19, 14)) (f := 9) (by decide) rfl (by decide) (Or.inl q1292) (Or.inl rfl) rfl (Or.inl rfl) h.1 dX19_pass_128 ?_
          refine b_topm (fun M_12 eM_12 => ?_)
          replace h := h.2 M_12 eM_12
          refine b_aload_n 0 dX19_pass_131 rfl rfl ?_
          refine b_dup dX19_pass_132 ?_
          refine b_gI (ci := 19) (r := (RX19, TX19, 14)) (f := 8) (by decide) rfl (by decide) rfl (Or.inl q1290) (Or.inl rfl) h.1 dX19_pass_133 ?_
          replace h := h.2
          refine b_iconst (v := 1) dX19_pass_136 (by decide) ?_
          refine b_iadd dX19_pass_137 ?_
          refine b_pI (ci := 19) (r := (RX19, TX19, 14)) (f := 8) (by decide) rfl (by decide) (Or.inl q1290) (Or.inl rfl) rfl (Or.inl rfl) h.1 dX19_pass_138 ?_
          refine b_topm (fun M_13 eM_13 => ?_)
          replace h := h.2 M_13 eM_13
          exact b_vret rfl dX19_pass_141 (hP _ h)
        · replace h := h.2 c_15
          refine b_aload_n 0 dX19_pass_90 rfl rfl ?_
          refine b_dup dX19_pass_91 ?_
          refine b_gI (ci := 19) (r := (RX19, TX19, 14)) (f := 10) (by decide) rfl (by decide) rfl (Or.inl q1294) (Or.inl rfl) h.1 dX19_pass_92 ?_
          replace h := h.2
          refine b_iconst (v := 1) dX19_pass_95 (by decide) ?_
          refine b_iadd dX19_pass_96 ?_
          refine b_pI (ci := 19) (r := (RX19, TX19, 14)) (f := 10) (by decide) rfl (by decide) (Or.inl q1294) (Or.inl rfl) rfl (Or.inl rfl) h.1 dX19_pass_97 ?_
          refine b_topm (fun M_14 eM_14 => ?_)
          replace h := h.2 M_14 eM_14
          refine b_goto (tgt := 141) dX19_pass_100 (by decide) ?_
          exact b_vret rfl dX19_pass_141 (hP _ h)
      · replace h := h.2 c_17
        refine b_aload_n 0 dX19_pass_62 rfl rfl ?_
        refine b_dup dX19_pass_63 ?_
        refine b_gI (ci := 19) (r := (RX19, TX19, 14)) (f := 11) (by decide) rfl (by decide) rfl (Or.inl q1296) (Or.inl rfl) h.1 dX19_pass_64 ?_
        replace h := h.2
        refine b_iconst (v := 1) dX19_pass_67 (by decide) ?_
        refine b_iadd dX19_pass_68 ?_
        refine b_pI (ci := 19) (r := (RX19, TX19, 14)) (f := 11) (by decide) rfl (by decide) (Or.inl q1296) (Or.inl rfl) rfl (Or.inl rfl) h.1 dX19_pass_69 ?_
        refine b_topm (fun M_16 eM_16 => ?_)
        replace h := h.2 M_16 eM_16
        refine b_goto (tgt := 141) dX19_pass_72 (by decide) ?_
        exact b_vret rfl dX19_pass_141 (hP _ h)
    · replace h := h.2 c_18
      exact b_vret rfl dX19_pass_27 (hP _ h)
def v_X4_refuses (d : Nat) (r0 : Nat × Nat) (r1 : Nat × Nat) (x2 : Int32) (M : Mem) (Q : Mem → Prop) : Prop := gk r0.1 ∧ (∀ e_1 : Nat × Nat, e_1 = M.2.1 r0.1 r0.2 6 → (gk r0.1 ∧ (∀ e_2 : Nat × Nat, e_2 = M.2.1 r0.1 r0.2 6 → (gk r0.1 ∧ (kt e_2.1 = 0 ∧ (v_X0_failed e_2 x2 (M.1 r0.1 r0.2 0) (-1) M (fun e_4 M_3 => kt e_1.1 = 0 ∧ (cq (d + 10) mX0_fails [.inr e_1, .inr r1, .inr e_4] M_3 (fun r_ M_5 => r_ = none ∧ (Q M_5))))))))))
set_option maxHeartbeats 4000000 in
theorem sv_X4_refuses {d : Nat} {M : Mem} {P : Option AV → Mem → Prop} {Q : Mem → Prop} {r0 : Nat × Nat} {r1 : Nat × Nat} {x2 : Int32} (hP : ∀ M, Q M → P none M) (h : v_X4_refuses d r0 r1 x2 M Q) : cq (d + 11) mX4_refuses [.inr r0, .inr r1, .inl x2] M P := by
  refine cq_of (by decide) (Nat.le_of_ble_eq_true rfl) ?_
  show wq (d + 11) mX4_refuses 0 [(0, .inr r0), (1, .inr r1), (2, .inl x2)] [] M P
  unfold v_X4_refuses at h
  refine b_aload_n 0 dX4_refuses_0 rfl rfl ?_
  refine b_gRg (f := 6) (by decide) (Or.inl q409) (Or.inl rfl) h.1 dX4_refuses_1 ?_
  refine b_topr (fun e_1 ee_1 => ?_)
  replace h := h.2 e_1 ee_1
  refine b_aload_n 1 dX4_refuses_4 rfl rfl ?_
  refine b_aload_n 0 dX4_refuses_5 rfl rfl ?_
  refine b_gRg (f := 6) (by decide) (Or.inl q409) (Or.inl rfl) h.1 dX4_refuses_6 ?_
  refine b_topr (fun e_2 ee_2 => ?_)
  replace h := h.2 e_2 ee_2
  refine b_iload_n 2 dX4_refuses_9 rfl rfl ?_
  refine b_aload_n 0 dX4_refuses_10 rfl rfl ?_
  refine b_gIg (f := 0) (by decide) (Or.inl q369) (Or.inl rfl) h.1 dX4_refuses_11 ?_
  replace h := h.2
  refine b_iconst (v := (-1)) dX4_refuses_14 (by decide) ?_
  refine b_cvo (y := mX0_failed) (ci := 0) (r := (RX0, TX0, 14)) (e := e_2) (as := [.inl x2, .inl (M.1 r0.1 r0.2 0), .inl (-1)]) (st := [.inr r1, .inr e_1]) (n := 3) rfl h.1 (Or.inr ⟨_, q851⟩) qs11 q853 q69 q854 zmh_X0_failed rfl (Nat.le_of_ble_eq_true rfl) (Nat.le_of_ble_eq_true rfl) dX4_refuses_15 (sv_X0_failed (fun e_4 M_3 h => ?_) h.2)
  show wq (d + 11) mX4_refuses 18 [(0, .inr r0), (1, .inr r1), (2, .inl x2)] [.inr e_4, .inr r1, .inr e_1] M_3 P
  refine b_cvo (y := mX0_fails) (ci := 0) (r := (RX0, TX0, 14)) (e := e_1) (as := [.inr r1, .inr e_4]) (st := []) (n := 2) rfl h.1 (Or.inr ⟨_, q891⟩) qs12 q893 q69 q894 zmh_X0_fails rfl (Nat.le_of_ble_eq_true rfl) (Nat.le_of_ble_eq_true rfl) dX4_refuses_18 (cq.mono h.2 (fun _ M_5 h => ?_))
  obtain ⟨rfl, h⟩ := h
  show wq (d + 11) mX4_refuses 21 [(0, .inr r0), (1, .inr r1), (2, .inl x2)] [] M_5 P
  exact b_vret rfl dX4_refuses_21 (hP _ h)
def v_X4_takenBack (d : Nat) (r0 : Nat × Nat) (r1 : Nat × Nat) (M : Mem) (Q : Mem → Prop) : Prop := Q M
set_option maxHeartbeats 4000000 in
theorem sv_X4_takenBack {d : Nat} {M : Mem} {P : Option AV → Mem → Prop} {Q : Mem → Prop} {r0 : Nat × Nat} {r1 : Nat × Nat} (hP : ∀ M, Q M → P none M) (h : v_X4_takenBack d r0 r1 M Q) : cq (d + 11) mX4_takenBack [.inr r0, .inr r1] M P := by
  refine cq_of (by decide) (Nat.le_of_ble_eq_true rfl) ?_
  show wq (d + 11) mX4_takenBack 0 [(0, .inr r0), (1, .inr r1)] [] M P
  unfold v_X4_takenBack at h
  exact b_vret rfl dX4_takenBack_0 (hP _ h)
def v_X4_told (d : Nat) (r0 : Nat × Nat) (r1 : Nat × Nat) (r2 : Nat × Nat) (M : Mem) (Q : Mem → Prop) : Prop := gk r0.1 ∧ (∀ e_1 : Nat × Nat, e_1 = M.2.1 r0.1 r0.2 6 → (kt e_1.1 = 0 ∧ (cq (d + 10) mX0_alike [.inr e_1, .inr r1, .inr r2] M (fun r_ M_2 => r_ = none ∧ (Q M_2)))))
set_option maxHeartbeats 4000000 in
theorem sv_X4_told {d : Nat} {M : Mem} {P : Option AV → Mem → Prop} {Q : Mem → Prop} {r0 : Nat × Nat} {r1 : Nat × Nat} {r2 : Nat × Nat} (hP : ∀ M, Q M → P none M) (h : v_X4_told d r0 r1 r2 M Q) : cq (d + 11) mX4_told [.inr r0, .inr r1, .inr r2] M P := by
  refine cq_of (by decide) (Nat.le_of_ble_eq_true rfl) ?_
  show wq (d + 11) mX4_told 0 [(0, .inr r0), (1, .inr r1), (2, .inr r2)] [] M P
  unfold v_X4_told at h
  refine b_aload_n 0 dX4_told_0 rfl rfl ?_
  refine b_gRg (f := 6) (by decide) (Or.inl q409) (Or.inl rfl) h.1 dX4_told_1 ?_
  refine b_topr (fun e_1 ee_1 => ?_)
  replace h := h.2 e_1 ee_1
  refine b_aload_n 1 dX4_told_4 rfl rfl ?_
  refine b_aload_n 2 dX4_told_5 rfl rfl ?_
  refine b_cvo (y := mX0_alike) (ci := 0) (r := (RX0, TX0, 14)) (e := e_1) (as := [.inr r1, .inr r2]) (st := []) (n := 2) rfl h.1 (Or.inr ⟨_, q1071⟩) qs14 q907 q69 q908 zmh_X0_alike rfl (Nat.le_of_ble_eq_true rfl) (Nat.le_of_ble_eq_true rfl) dX4_told_6 (cq.mono h.2 (fun _ M_2 h => ?_))
  obtain ⟨rfl, h⟩ := h
  show wq (d + 11) mX4_told 9 [(0, .inr r0), (1, .inr r1), (2, .inr r2)] [] M_2 P
  exact b_vret rfl dX4_told_9 (hP _ h)
def v_X4_begins (d : Nat) (r0 : Nat × Nat) (r1 : Nat × Nat) (M : Mem) (Q : Mem → Prop) : Prop := gk r0.1 ∧ (∀ e_1 : Nat × Nat, e_1 = M.2.1 r0.1 r0.2 6 → (kt e_1.1 = 0 ∧ (cq (d + 10) mX0_goesIn [.inr e_1, .inr r1] M (fun r_ M_2 => r_ = none ∧ (Q M_2)))))
set_option maxHeartbeats 4000000 in
theorem sv_X4_begins {d : Nat} {M : Mem} {P : Option AV → Mem → Prop} {Q : Mem → Prop} {r0 : Nat × Nat} {r1 : Nat × Nat} (hP : ∀ M, Q M → P none M) (h : v_X4_begins d r0 r1 M Q) : cq (d + 11) mX4_begins [.inr r0, .inr r1] M P := by
  refine cq_of (by decide) (Nat.le_of_ble_eq_true rfl) ?_
  show wq (d + 11) mX4_begins 0 [(0, .inr r0), (1, .inr r1)] [] M P
  unfold v_X4_begins at h
  refine b_aload_n 0 dX4_begins_0 rfl rfl ?_
  refine b_gRg (f := 6) (by decide) (Or.inl q409) (Or.inl rfl) h.1 dX4_begins_1 ?_
  refine b_topr (fun e_1 ee_1 => ?_)
  replace h := h.2 e_1 ee_1
  refine b_aload_n 1 dX4_begins_4 rfl rfl ?_
  refine b_cvo (y := mX0_goesIn) (ci := 0) (r := (RX0, TX0, 14)) (e := e_1) (as := [.inr r1]) (st := []) (n := 1) rfl h.1 (Or.inr ⟨_, q1115⟩) qs10 q842 q69 q843 zmh_X0_goesIn rfl (Nat.le_of_ble_eq_true rfl) (Nat.le_of_ble_eq_true rfl) dX4_begins_5 (cq.mono h.2 (fun _ M_2 h => ?_))
  obtain ⟨rfl, h⟩ := h
  show wq (d + 11) mX4_begins 8 [(0, .inr r0), (1, .inr r1)] [] M_2 P
  exact b_vret rfl dX4_begins_8 (hP _ h)
def v_X4_due (d : Nat) (r0 : Nat × Nat) (r1 : Nat × Nat) (M : Mem) (Q : Mem → Prop) : Prop := Q M
set_option maxHeartbeats 4000000 in
theorem sv_X4_due {d : Nat} {M : Mem} {P : Option AV → Mem → Prop} {Q : Mem → Prop} {r0 : Nat × Nat} {r1 : Nat × Nat} (hP : ∀ M, Q M → P none M) (h : v_X4_due d r0 r1 M Q) : cq (d + 11) mX4_due [.inr r0, .inr r1] M P := by
  refine cq_of (by decide) (Nat.le_of_ble_eq_true rfl) ?_
  show wq (d + 11) mX4_due 0 [(0, .inr r0), (1, .inr r1)] [] M P
  unfold v_X4_due at h
  exact b_vret rfl dX4_due_0 (hP _ h)
def v_X5_closes (r0 : Nat × Nat) (M : Mem) (Q : Mem → Prop) : Prop := kt r0.1 = 5 ∧ (∀ M_1 : Mem, M_1 = sI M r0.1 r0.2 7 0 → (kt r0.1 = 5 ∧ (∀ M_2 : Mem, M_2 = sI M_1 r0.1 r0.2 8 0 → (kt r0.1 = 5 ∧ (∀ M_3 : Mem, M_3 = sR M_2 r0.1 r0.2 10 (0, 0) → (Q M_3))))))
set_option maxHeartbeats 4000000 in
theorem sv_X5_closes {d : Nat} {M : Mem} {P : Option AV → Mem → Prop} {Q : Mem → Prop} {r0 : Nat × Nat} (hP : ∀ M, Q M → P none M) (h : v_X5_closes r0 M Q) : cq d mX5_closes [.inr r0] M P := by
  refine cq_of (by decide) (Nat.le_of_ble_eq_true rfl) ?_
  show wq d mX5_closes 0 [(0, .inr r0)] [] M P
  unfold v_X5_closes at h
  refine b_aload_n 0 dX5_closes_0 rfl rfl ?_
  refine b_iconst (v := 0) dX5_closes_1 (by decide) ?_
  refine b_pI (ci := 5) (r := (RX5, TX5, 12)) (f := 7) (by decide) rfl (by decide) (Or.inl q360) (Or.inl rfl) rfl (Or.inl rfl) h.1 dX5_closes_2 ?_
  refine b_topm (fun M_1 eM_1 => ?_)
  replace h := h.2 M_1 eM_1
  refine b_aload_n 0 dX5_closes_5 rfl rfl ?_
  refine b_iconst (v := 0) dX5_closes_6 (by decide) ?_
  refine b_pI (ci := 5) (r := (RX5, TX5, 12)) (f := 8) (by decide) rfl (by decide) (Or.inl q363) (Or.inl rfl) rfl (Or.inl rfl) h.1 dX5_closes_7 ?_
  refine b_topm (fun M_2 eM_2 => ?_)
  replace h := h.2 M_2 eM_2
  refine b_aload_n 0 dX5_closes_10 rfl rfl ?_
  refine b_null dX5_closes_11 ?_
  refine b_pR (ci := 5) (r := (RX5, TX5, 12)) (f := 10) (by decide) rfl (by decide) (Or.inl q367) (Or.inl rfl) rfl rfl h.1 dX5_closes_12 ?_
  refine b_topm (fun M_3 eM_3 => ?_)
  replace h := h.2 M_3 eM_3
  exact b_vret rfl dX5_closes_15 (hP _ h)
def v_X5_opens (r0 : Nat × Nat) (x1 : Int32) (M : Mem) (Q : Mem → Prop) : Prop := kt r0.1 = 5 ∧ (∀ M_1 : Mem, M_1 = sI M r0.1 r0.2 7 1 → (kt r0.1 = 5 ∧ (∀ M_2 : Mem, M_2 = sI M_1 r0.1 r0.2 9 x1 → (kt r0.1 = 5 ∧ (∀ M_3 : Mem, M_3 = sR M_2 r0.1 r0.2 10 (0, 0) → (Q M_3))))))
set_option maxHeartbeats 4000000 in
theorem sv_X5_opens {d : Nat} {M : Mem} {P : Option AV → Mem → Prop} {Q : Mem → Prop} {r0 : Nat × Nat} {x1 : Int32} (hP : ∀ M, Q M → P none M) (h : v_X5_opens r0 x1 M Q) : cq d mX5_opens [.inr r0, .inl x1] M P := by
  refine cq_of (by decide) (Nat.le_of_ble_eq_true rfl) ?_
  show wq d mX5_opens 0 [(0, .inr r0), (1, .inl x1)] [] M P
  unfold v_X5_opens at h
  refine b_aload_n 0 dX5_opens_0 rfl rfl ?_
  refine b_iconst (v := 1) dX5_opens_1 (by decide) ?_
  refine b_pI (ci := 5) (r := (RX5, TX5, 12)) (f := 7) (by decide) rfl (by decide) (Or.inl q360) (Or.inl rfl) rfl (Or.inl rfl) h.1 dX5_opens_2 ?_
  refine b_topm (fun M_1 eM_1 => ?_)
  replace h := h.2 M_1 eM_1
  refine b_aload_n 0 dX5_opens_5 rfl rfl ?_
  refine b_iload_n 1 dX5_opens_6 rfl rfl ?_
  refine b_pI (ci := 5) (r := (RX5, TX5, 12)) (f := 9) (by decide) rfl (by decide) (Or.inl q365) (Or.inl rfl) rfl (Or.inl rfl) h.1 dX5_opens_7 ?_
  refine b_topm (fun M_2 eM_2 => ?_)
  replace h := h.2 M_2 eM_2
  refine b_aload_n 0 dX5_opens_10 rfl rfl ?_
  refine b_null dX5_opens_11 ?_
  refine b_pR (ci := 5) (r := (RX5, TX5, 12)) (f := 10) (by decide) rfl (by decide) (Or.inl q367) (Or.inl rfl) rfl rfl h.1 dX5_opens_12 ?_
  refine b_topm (fun M_3 eM_3 => ?_)
  replace h := h.2 M_3 eM_3
  exact b_vret rfl dX5_opens_15 (hP _ h)
def v_X5_told_68 (d : Nat) (r0 : Nat × Nat) (r1 : Nat × Nat) (r2 : Nat × Nat) (s0 : Int32) (u1 : Nat × Nat) (M : Mem) (Q : Mem → Prop) : Prop := kt u1.1 = 5 ∧ (∀ M_1 : Mem, M_1 = sI M u1.1 u1.2 8 s0 → (kt r0.1 = 5 ∧ (kt r0.1 = 5 ∧ (((¬ (M_1.1 r0.1 r0.2 8) = (M_1.1 r0.1 r0.2 2)) → (kt r0.1 = 5 ∧ (∀ e_2 : Nat × Nat, e_2 = M_1.2.1 r0.1 r0.2 11 → (kt e_2.1 = 0 ∧ (cq (d + 10) mX0_alike [.inr e_2, .inr r1, .inr r2] M_1 (fun r_ M_3 => r_ = none ∧ (Q M_3))))))) ∧ (((M_1.1 r0.1 r0.2 8) = (M_1.1 r0.1 r0.2 2)) → (kt r0.1 = 5 ∧ (∀ e_5 : Nat × Nat, e_5 = M_1.2.1 r0.1 r0.2 11 → (kt e_5.1 = 0 ∧ (kt r0.1 = 5 ∧ (kt r0.1 = 5 ∧ (v_X5_opens r0 ((M_1.1 e_5.1 e_5.2 0) + (M_1.1 r0.1 r0.2 3)) M_1 (fun M_6 => kt r0.1 = 5 ∧ (∀ e_8 : Nat × Nat, e_8 = M_6.2.1 r0.1 r0.2 11 → (kt e_8.1 = 0 ∧ (cq (d + 10) mX0_alike [.inr e_8, .inr r1, .inr r2] M_6 (fun r_ M_9 => r_ = none ∧ (Q M_9)))))))))))))))))
set_option maxHeartbeats 4000000 in
theorem sv_X5_told_68 {d : Nat} {P : Option AV → Mem → Prop} {Q : Mem → Prop} (hP : ∀ M, Q M → P none M) (r0 : Nat × Nat) (r1 : Nat × Nat) (r2 : Nat × Nat) (s0 : Int32) (u1 : Nat × Nat) (M : Mem) (h : v_X5_told_68 d r0 r1 r2 s0 u1 M Q) : wq (d + 11) mX5_told 68 [(0, .inr r0), (1, .inr r1), (2, .inr r2)] [.inl s0, .inr u1] M P := by
  unfold v_X5_told_68 at h
  refine b_pI (ci := 5) (r := (RX5, TX5, 12)) (f := 8) (by decide) rfl (by decide) (Or.inl q363) (Or.inl rfl) rfl (Or.inl rfl) h.1 dX5_told_68 ?_
  refine b_topm (fun M_1 eM_1 => ?_)
  replace h := h.2 M_1 eM_1
  refine b_aload_n 0 dX5_told_71 rfl rfl ?_
  refine b_gI (ci := 5) (r := (RX5, TX5, 12)) (f := 8) (by decide) rfl (by decide) rfl (Or.inl q363) (Or.inl rfl) h.1 dX5_told_72 ?_
  replace h := h.2
  refine b_aload_n 0 dX5_told_75 rfl rfl ?_
  refine b_gI (ci := 5) (r := (RX5, TX5, 12)) (f := 2) (by decide) rfl (by decide) rfl (Or.inl q390) (Or.inr q391) h.1 dX5_told_76 ?_
  replace h := h.2
  refine b_icmp_ne (tgt := 98) dX5_told_79 (by decide) (fun c_11 => ?_) (fun c_11 => ?_)
  · replace h := h.1 c_11
    refine b_aload_n 0 dX5_told_98 rfl rfl ?_
    refine b_gR (ci := 5) (r := (RX5, TX5, 12)) (f := 11) (by decide) rfl (by decide) rfl (Or.inl q368) (Or.inl rfl) h.1 dX5_told_99 ?_
    refine b_topr (fun e_2 ee_2 => ?_)
    replace h := h.2 e_2 ee_2
    refine b_aload_n 1 dX5_told_102 rfl rfl ?_
    refine b_aload_n 2 dX5_told_103 rfl rfl ?_
    refine b_cvo (y := mX0_alike) (ci := 0) (r := (RX0, TX0, 14)) (e := e_2) (as := [.inr r1, .inr r2]) (st := []) (n := 2) rfl h.1 (Or.inr ⟨_, q948⟩) qs14 q907 q69 q908 zmh_X0_alike rfl (Nat.le_of_ble_eq_true rfl) (Nat.le_of_ble_eq_true rfl) dX5_told_104 (cq.mono h.2 (fun _ M_3 h => ?_))
    obtain ⟨rfl, h⟩ := h
    show wq (d + 11) mX5_told 107 [(0, .inr r0), (1, .inr r1), (2, .inr r2)] [] M_3 P
    exact b_vret rfl dX5_told_107 (hP _ h)
  · replace h := h.2 c_11
    refine b_aload_n 0 dX5_told_82 rfl rfl ?_
    refine b_aload_n 0 dX5_told_83 rfl rfl ?_
    refine b_gR (ci := 5) (r := (RX5, TX5, 12)) (f := 11) (by decide) rfl (by decide) rfl (Or.inl q368) (Or.inl rfl) h.1 dX5_told_84 ?_
    refine b_topr (fun e_5 ee_5 => ?_)
    replace h := h.2 e_5 ee_5
    refine b_gI (ci := 0) (r := (RX0, TX0, 14)) (f := 0) (by decide) rfl (by decide) rfl (Or.inr ⟨_, q140⟩) (Or.inl rfl) h.1 dX5_told_87 ?_
    replace h := h.2
    refine b_aload_n 0 dX5_told_90 rfl rfl ?_
    refine b_gI (ci := 5) (r := (RX5, TX5, 12)) (f := 3) (by decide) rfl (by decide) rfl (Or.inl q403) (Or.inr q404) h.1 dX5_told_91 ?_
    replace h := h.2
    refine b_iadd dX5_told_94 ?_
    refine b_cvo (y := mX5_opens) (ci := 5) (r := (RX5, TX5, 12)) (e := r0) (as := [.inl ((M_1.1 e_5.1 e_5.2 0) + (M_1.1 r0.1 r0.2 3))]) (st := []) (n := 1) rfl h.1 (Or.inl q940) qs16 q942 q81 q943 zmh_X5_opens rfl (Nat.le_of_ble_eq_true rfl) (Nat.le_of_ble_eq_true rfl) dX5_told_95 (sv_X5_opens (fun M_6 h => ?_) h.2)
    show wq (d + 11) mX5_told 98 [(0, .inr r0), (1, .inr r1), (2, .inr r2)] [] M_6 P
    refine b_aload_n 0 dX5_told_98 rfl rfl ?_
    refine b_gR (ci := 5) (r := (RX5, TX5, 12)) (f := 11) (by decide) rfl (by decide) rfl (Or.inl q368) (Or.inl rfl) h.1 dX5_told_99 ?_
    refine b_topr (fun e_8 ee_8 => ?_)
    replace h := h.2 e_8 ee_8
    refine b_aload_n 1 dX5_told_102 rfl rfl ?_
    refine b_aload_n 2 dX5_told_103 rfl rfl ?_
    refine b_cvo (y := mX0_alike) (ci := 0) (r := (RX0, TX0, 14)) (e := e_8) (as := [.inr r1, .inr r2]) (st := []) (n := 2) rfl h.1 (Or.inr ⟨_, q948⟩) qs14 q907 q69 q908 zmh_X0_alike rfl (Nat.le_of_ble_eq_true rfl) (Nat.le_of_ble_eq_true rfl) dX5_told_104 (cq.mono h.2 (fun _ M_9 h => ?_))
    obtain ⟨rfl, h⟩ := h
    show wq (d + 11) mX5_told 107 [(0, .inr r0), (1, .inr r1), (2, .inr r2)] [] M_9 P
    exact b_vret rfl dX5_told_107 (hP _ h)
def v_X5_told (d : Nat) (r0 : Nat × Nat) (r1 : Nat × Nat) (r2 : Nat × Nat) (M : Mem) (Q : Mem → Prop) : Prop := kt r0.1 = 5 ∧ (∀ e_1 : Nat × Nat, e_1 = M.2.1 r0.1 r0.2 10 → (((¬ r1 = e_1) → (kt r0.1 = 5 ∧ (((¬ (M.1 r0.1 r0.2 7) = 0) → (kt r0.1 = 5 ∧ (∀ e_2 : Nat × Nat, e_2 = M.2.1 r0.1 r0.2 11 → (kt e_2.1 = 0 ∧ (cq (d + 10) mX0_alike [.inr e_2, .inr r1, .inr r2] M (fun r_ M_3 => r_ = none ∧ (Q M_3))))))) ∧ (((M.1 r0.1 r0.2 7) = 0) → (kt r0.1 = 5 ∧ (v_X4_names r0 r2 M (fun r_6 M_5 => ((r_6 = 0) → (v_X5_told_68 d r0 r1 r2 0 r0 M_5 Q)) ∧ ((¬ r_6 = 0) → (kt r0.1 = 5 ∧ (v_X5_told_68 d r0 r1 r2 ((M_5.1 r0.1 r0.2 8) + 1) r0 M_5 Q)))))))))) ∧ ((r1 = e_1) → (kt r0.1 = 5 ∧ (v_X4_names r0 r2 M (fun r_10 M_9 => ((r_10 = 0) → (kt r0.1 = 5 ∧ (v_X5_closes r0 M_9 (fun M_11 => kt r0.1 = 5 ∧ (∀ e_13 : Nat × Nat, e_13 = M_11.2.1 r0.1 r0.2 11 → (kt e_13.1 = 0 ∧ (cq (d + 10) mX0_alike [.inr e_13, .inr r1, .inr r2] M_11 (fun r_ M_14 => r_ = none ∧ (Q M_14))))))))) ∧ ((¬ r_10 = 0) → (kt r0.1 = 5 ∧ (∀ e_16 : Nat × Nat, e_16 = M_9.2.1 r0.1 r0.2 11 → (kt e_16.1 = 0 ∧ (kt r0.1 = 5 ∧ (kt r0.1 = 5 ∧ (v_X5_opens r0 ((M_9.1 e_16.1 e_16.2 0) + (M_9.1 r0.1 r0.2 3)) M_9 (fun M_17 => kt r0.1 = 5 ∧ (∀ e_19 : Nat × Nat, e_19 = M_17.2.1 r0.1 r0.2 11 → (kt e_19.1 = 0 ∧ (cq (d + 10) mX0_alike [.inr e_19, .inr r1, .inr r2] M_17 (fun r_ M_20 => r_ = none ∧ (Q M_20)))))))))))))))))))
set_option maxHeartbeats 4000000 in
theorem sv_X5_told {d : Nat} {M : Mem} {P : Option AV → Mem → Prop} {Q : Mem → Prop} {r0 : Nat × Nat} {r1 : Nat × Nat} {r2 : Nat × Nat} (hP : ∀ M, Q M → P none M) (h : v_X5_told d r0 r1 r2 M Q) : cq (d + 11) mX5_told [.inr r0, .inr r1, .inr r2] M P := by
  refine cq_of (by decide) (Nat.le_of_ble_eq_true rfl) ?_
  show wq (d + 11) mX5_told 0 [(0, .inr r0), (1, .inr r1), (2, .inr r2)] [] M P
  unfold v_X5_told at h
  refine b_aload_n 1 dX5_told_0 rfl rfl ?_
  refine b_aload_n 0 dX5_told_1 rfl rfl ?_
  refine b_gR (ci := 5) (r := (RX5, TX5, 12)) (f := 10) (by decide) rfl (by decide) rfl (Or.inl q367) (Or.inl rfl) h.1 dX5_told_2 ?_
  refine b_topr (fun e_1 ee_1 => ?_)
  replace h := h.2 e_1 ee_1
  refine b_acmp_ne (tgt := 42) dX5_told_5 (by decide) (fun c_23 => ?_) (fun c_23 => ?_)
  · replace h := h.1 c_23
    refine b_aload_n 0 dX5_told_42 rfl rfl ?_
    refine b_gI (ci := 5) (r := (RX5, TX5, 12)) (f := 7) (by decide) rfl (by decide) rfl (Or.inl q360) (Or.inl rfl) h.1 dX5_told_43 ?_
    replace h := h.2
    refine b_if_ne (tgt := 98) dX5_told_46 (by decide) (fun c_8 => ?_) (fun c_8 => ?_)
    · replace h := h.1 c_8
      refine b_aload_n 0 dX5_told_98 rfl rfl ?_
      refine b_gR (ci := 5) (r := (RX5, TX5, 12)) (f := 11) (by decide) rfl (by decide) rfl (Or.inl q368) (Or.inl rfl) h.1 dX5_told_99 ?_
      refine b_topr (fun e_2 ee_2 => ?_)
      replace h := h.2 e_2 ee_2
      refine b_aload_n 1 dX5_told_102 rfl rfl ?_
      refine b_aload_n 2 dX5_told_103 rfl rfl ?_
      refine b_cvo (y := mX0_alike) (ci := 0) (r := (RX0, TX0, 14)) (e := e_2) (as := [.inr r1, .inr r2]) (st := []) (n := 2) rfl h.1 (Or.inr ⟨_, q948⟩) qs14 q907 q69 q908 zmh_X0_alike rfl (Nat.le_of_ble_eq_true rfl) (Nat.le_of_ble_eq_true rfl) dX5_told_104 (cq.mono h.2 (fun _ M_3 h => ?_))
      obtain ⟨rfl, h⟩ := h
      show wq (d + 11) mX5_told 107 [(0, .inr r0), (1, .inr r1), (2, .inr r2)] [] M_3 P
      exact b_vret rfl dX5_told_107 (hP _ h)
    · replace h := h.2 c_8
      refine b_aload_n 0 dX5_told_49 rfl rfl ?_
      refine b_aload_n 0 dX5_told_50 rfl rfl ?_
      refine b_aload_n 2 dX5_told_51 rfl rfl ?_
      refine b_i_names_Fuse (e := r0) (as := [.inr r2]) (st := [.inr r0]) h.1 q937 rfl (Nat.le_of_ble_eq_true rfl) dX5_told_52 (sv_X4_names (fun r_6 M_5 h => ?_) h.2)
      show wq (d + 11) mX5_told 55 [(0, .inr r0), (1, .inr r1), (2, .inr r2)] [.inl r_6, .inr r0] M_5 P
      refine b_if_eq (tgt := 67) dX5_told_55 (by decide) (fun c_7 => ?_) (fun c_7 => ?_)
      · replace h := h.1 c_7
        refine b_iconst (v := 0) dX5_told_67 (by decide) ?_
        exact b_sub (by simp) (sv_X5_told_68 hP r0 r1 r2 0 r0 M_5 h)
      · replace h := h.2 c_7
        refine b_aload_n 0 dX5_told_58 rfl rfl ?_
        refine b_gI (ci := 5) (r := (RX5, TX5, 12)) (f := 8) (by decide) rfl (by decide) rfl (Or.inl q363) (Or.inl rfl) h.1 dX5_told_59 ?_
        replace h := h.2
        refine b_iconst (v := 1) dX5_told_62 (by decide) ?_
        refine b_iadd dX5_told_63 ?_
        refine b_goto (tgt := 68) dX5_told_64 (by decide) ?_
        exact b_sub (by simp) (sv_X5_told_68 hP r0 r1 r2 ((M_5.1 r0.1 r0.2 8) + 1) r0 M_5 h)
  · replace h := h.2 c_23
    refine b_aload_n 0 dX5_told_8 rfl rfl ?_
    refine b_aload_n 2 dX5_told_9 rfl rfl ?_
    refine b_i_names_Fuse (e := r0) (as := [.inr r2]) (st := []) h.1 q937 rfl (Nat.le_of_ble_eq_true rfl) dX5_told_10 (sv_X4_names (fun r_10 M_9 h => ?_) h.2)
    show wq (d + 11) mX5_told 13 [(0, .inr r0), (1, .inr r1), (2, .inr r2)] [.inl r_10] M_9 P
    refine b_if_eq (tgt := 35) dX5_told_13 (by decide) (fun c_22 => ?_) (fun c_22 => ?_)
    · replace h := h.1 c_22
      refine b_aload_n 0 dX5_told_35 rfl rfl ?_
      refine b_cvo (y := mX5_closes) (ci := 5) (r := (RX5, TX5, 12)) (e := r0) (as := []) (st := []) (n := 0) rfl h.1 (Or.inl q944) qs17 q946 q81 q947 zmh_X5_closes rfl (Nat.le_of_ble_eq_true rfl) (Nat.le_of_ble_eq_true rfl) dX5_told_36 (sv_X5_closes (fun M_11 h => ?_) h.2)
      show wq (d + 11) mX5_told 39 [(0, .inr r0), (1, .inr r1), (2, .inr r2)] [] M_11 P
      refine b_goto (tgt := 98) dX5_told_39 (by decide) ?_
      refine b_aload_n 0 dX5_told_98 rfl rfl ?_
      refine b_gR (ci := 5) (r := (RX5, TX5, 12)) (f := 11) (by decide) rfl (by decide) rfl (Or.inl q368) (Or.inl rfl) h.1 dX5_told_99 ?_
      refine b_topr (fun e_13 ee_13 => ?_)
      replace h := h.2 e_13 ee_13
      refine b_aload_n 1 dX5_told_102 rfl rfl ?_
      refine b_aload_n 2 dX5_told_103 rfl rfl ?_
      refine b_cvo (y := mX0_alike) (ci := 0) (r := (RX0, TX0, 14)) (e := e_13) (as := [.inr r1, .inr r2]) (st := []) (n := 2) rfl h.1 (Or.inr ⟨_, q948⟩) qs14 q907 q69 q908 zmh_X0_alike rfl (Nat.le_of_ble_eq_true rfl) (Nat.le_of_ble_eq_true rfl) dX5_told_104 (cq.mono h.2 (fun _ M_14 h => ?_))
      obtain ⟨rfl, h⟩ := h
      show wq (d + 11) mX5_told 107 [(0, .inr r0), (1, .inr r1), (2, .inr r2)] [] M_14 P
      exact b_vret rfl dX5_told_107 (hP _ h)
    · replace h := h.2 c_22
      refine b_aload_n 0 dX5_told_16 rfl rfl ?_
      refine b_aload_n 0 dX5_told_17 rfl rfl ?_
      refine b_gR (ci := 5) (r := (RX5, TX5, 12)) (f := 11) (by decide) rfl (by decide) rfl (Or.inl q368) (Or.inl rfl) h.1 dX5_told_18 ?_
      refine b_topr (fun e_16 ee_16 => ?_)
      replace h := h.2 e_16 ee_16
      refine b_gI (ci := 0) (r := (RX0, TX0, 14)) (f := 0) (by decide) rfl (by decide) rfl (Or.inr ⟨_, q140⟩) (Or.inl rfl) h.1 dX5_told_21 ?_
      replace h := h.2
      refine b_aload_n 0 dX5_told_24 rfl rfl ?_
      refine b_gI (ci := 5) (r := (RX5, TX5, 12)) (f := 3) (by decide) rfl (by decide) rfl (Or.inl q403) (Or.inr q404) h.1 dX5_told_25 ?_
      replace h := h.2
      refine b_iadd dX5_told_28 ?_
      refine b_cvo (y := mX5_opens) (ci := 5) (r := (RX5, TX5, 12)) (e := r0) (as := [.inl ((M_9.1 e_16.1 e_16.2 0) + (M_9.1 r0.1 r0.2 3))]) (st := []) (n := 1) rfl h.1 (Or.inl q940) qs16 q942 q81 q943 zmh_X5_opens rfl (Nat.le_of_ble_eq_true rfl) (Nat.le_of_ble_eq_true rfl) dX5_told_29 (sv_X5_opens (fun M_17 h => ?_) h.2)
      show wq (d + 11) mX5_told 32 [(0, .inr r0), (1, .inr r1), (2, .inr r2)] [] M_17 P
      refine b_goto (tgt := 98) dX5_told_32 (by decide) ?_
      refine b_aload_n 0 dX5_told_98 rfl rfl ?_
      refine b_gR (ci := 5) (r := (RX5, TX5, 12)) (f := 11) (by decide) rfl (by decide) rfl (Or.inl q368) (Or.inl rfl) h.1 dX5_told_99 ?_
      refine b_topr (fun e_19 ee_19 => ?_)
      replace h := h.2 e_19 ee_19
      refine b_aload_n 1 dX5_told_102 rfl rfl ?_
      refine b_aload_n 2 dX5_told_103 rfl rfl ?_
      refine b_cvo (y := mX0_alike) (ci := 0) (r := (RX0, TX0, 14)) (e := e_19) (as := [.inr r1, .inr r2]) (st := []) (n := 2) rfl h.1 (Or.inr ⟨_, q948⟩) qs14 q907 q69 q908 zmh_X0_alike rfl (Nat.le_of_ble_eq_true rfl) (Nat.le_of_ble_eq_true rfl) dX5_told_104 (cq.mono h.2 (fun _ M_20 h => ?_))
      obtain ⟨rfl, h⟩ := h
      show wq (d + 11) mX5_told 107 [(0, .inr r0), (1, .inr r1), (2, .inr r2)] [] M_20 P
      exact b_vret rfl dX5_told_107 (hP _ h)
def v_X5_takenBack (d : Nat) (r0 : Nat × Nat) (r1 : Nat × Nat) (M : Mem) (Q : Mem → Prop) : Prop := kt r0.1 = 5 ∧ (∀ e_1 : Nat × Nat, e_1 = M.2.1 r0.1 r0.2 10 → (((¬ r1 = e_1) → (Q M)) ∧ ((r1 = e_1) → (kt r0.1 = 5 ∧ (∀ e_2 : Nat × Nat, e_2 = M.2.1 r0.1 r0.2 11 → (kt e_2.1 = 0 ∧ (kt r0.1 = 5 ∧ (v_X5_opens r0 (M.1 e_2.1 e_2.2 0) M (fun M_3 => Q M_3)))))))))
set_option maxHeartbeats 4000000 in
theorem sv_X5_takenBack {d : Nat} {M : Mem} {P : Option AV → Mem → Prop} {Q : Mem → Prop} {r0 : Nat × Nat} {r1 : Nat × Nat} (hP : ∀ M, Q M → P none M) (h : v_X5_takenBack d r0 r1 M Q) : cq (d + 11) mX5_takenBack [.inr r0, .inr r1] M P := by
  refine cq_of (by decide) (Nat.le_of_ble_eq_true rfl) ?_
  show wq (d + 11) mX5_takenBack 0 [(0, .inr r0), (1, .inr r1)] [] M P
  unfold v_X5_takenBack at h
  refine b_aload_n 1 dX5_takenBack_0 rfl rfl ?_
  refine b_aload_n 0 dX5_takenBack_1 rfl rfl ?_
  refine b_gR (ci := 5) (r := (RX5, TX5, 12)) (f := 10) (by decide) rfl (by decide) rfl (Or.inl q367) (Or.inl rfl) h.1 dX5_takenBack_2 ?_
  refine b_topr (fun e_1 ee_1 => ?_)
  replace h := h.2 e_1 ee_1
  refine b_acmp_ne (tgt := 19) dX5_takenBack_5 (by decide) (fun c_5 => ?_) (fun c_5 => ?_)
  · replace h := h.1 c_5
    exact b_vret rfl dX5_takenBack_19 (hP _ h)
  · replace h := h.2 c_5
    refine b_aload_n 0 dX5_takenBack_8 rfl rfl ?_
    refine b_aload_n 0 dX5_takenBack_9 rfl rfl ?_
    refine b_gR (ci := 5) (r := (RX5, TX5, 12)) (f := 11) (by decide) rfl (by decide) rfl (Or.inl q368) (Or.inl rfl) h.1 dX5_takenBack_10 ?_
    refine b_topr (fun e_2 ee_2 => ?_)
    replace h := h.2 e_2 ee_2
    refine b_gI (ci := 0) (r := (RX0, TX0, 14)) (f := 0) (by decide) rfl (by decide) rfl (Or.inr ⟨_, q140⟩) (Or.inl rfl) h.1 dX5_takenBack_13 ?_
    replace h := h.2
    refine b_cvo (y := mX5_opens) (ci := 5) (r := (RX5, TX5, 12)) (e := r0) (as := [.inl (M.1 e_2.1 e_2.2 0)]) (st := []) (n := 1) rfl h.1 (Or.inl q940) qs16 q942 q81 q943 zmh_X5_opens rfl (Nat.le_of_ble_eq_true rfl) (Nat.le_of_ble_eq_true rfl) dX5_takenBack_16 (sv_X5_opens (fun M_3 h => ?_) h.2)
    show wq (d + 11) mX5_takenBack 19 [(0, .inr r0), (1, .inr r1)] [] M_3 P
    exact b_vret rfl dX5_takenBack_19 (hP _ h)
def v_X5_begins_43 (d : Nat) (r0 : Nat × Nat) (r1 : Nat × Nat) (M : Mem) (Q : Mem → Prop) : Prop := kt r0.1 = 5 ∧ (((¬ (M.1 r0.1 r0.2 7) = 0) → (kt r0.1 = 5 ∧ (cq (d + 10) mX4_refuses [.inr r0, .inr r1, .inl 9] M (fun r_ M_1 => r_ = none ∧ (Q M_1))))) ∧ (((M.1 r0.1 r0.2 7) = 0) → (kt r0.1 = 5 ∧ (∀ e_3 : Nat × Nat, e_3 = M.2.1 r0.1 r0.2 11 → (kt e_3.1 = 0 ∧ (cq (d + 10) mX0_goesIn [.inr e_3, .inr r1] M (fun r_ M_4 => r_ = none ∧ (Q M_4))))))))
set_option maxHeartbeats 4000000 in
theorem sv_X5_begins_43 {d : Nat} {P : Option AV → Mem → Prop} {Q : Mem → Prop} (hP : ∀ M, Q M → P none M) (r0 : Nat × Nat) (r1 : Nat × Nat) (M : Mem) (h : v_X5_begins_43 d r0 r1 M Q) : wq (d + 11) mX5_begins 43 [(0, .inr r0), (1, .inr r1)] [] M P := by
  unfold v_X5_begins_43 at h
  refine b_aload_n 0 dX5_begins_43 rfl rfl ?_
  refine b_gI (ci := 5) (r := (RX5, TX5, 12)) (f := 7) (by decide) rfl (by decide) rfl (Or.inl q360) (Or.inl rfl) h.1 dX5_begins_44 ?_
  replace h := h.2
  refine b_if_ne (tgt := 61) dX5_begins_47 (by decide) (fun c_6 => ?_) (fun c_6 => ?_)
  · replace h := h.1 c_6
    refine b_aload_n 0 dX5_begins_61 rfl rfl ?_
    refine b_aload_n 1 dX5_begins_62 rfl rfl ?_
    refine b_bipush (v := 9) dX5_begins_63 (by decide) ?_
    refine b_i_refuses_Fuse (e := r0) (as := [.inr r1, .inl 9]) (st := []) h.1 q1081 rfl (Nat.le_of_ble_eq_true rfl) dX5_begins_65 (cq.mono h.2 (fun _ M_1 h => ?_))
    obtain ⟨rfl, h⟩ := h
    show wq (d + 11) mX5_begins 68 [(0, .inr r0), (1, .inr r1)] [] M_1 P
    exact b_vret rfl dX5_begins_68 (hP _ h)
  · replace h := h.2 c_6
    refine b_aload_n 0 dX5_begins_50 rfl rfl ?_
    refine b_gR (ci := 5) (r := (RX5, TX5, 12)) (f := 11) (by decide) rfl (by decide) rfl (Or.inl q368) (Or.inl rfl) h.1 dX5_begins_51 ?_
    refine b_topr (fun e_3 ee_3 => ?_)
    replace h := h.2 e_3 ee_3
    refine b_aload_n 1 dX5_begins_54 rfl rfl ?_
    refine b_cvo (y := mX0_goesIn) (ci := 0) (r := (RX0, TX0, 14)) (e := e_3) (as := [.inr r1]) (st := []) (n := 1) rfl h.1 (Or.inr ⟨_, q1080⟩) qs10 q842 q69 q843 zmh_X0_goesIn rfl (Nat.le_of_ble_eq_true rfl) (Nat.le_of_ble_eq_true rfl) dX5_begins_55 (cq.mono h.2 (fun _ M_4 h => ?_))
    obtain ⟨rfl, h⟩ := h
    show wq (d + 11) mX5_begins 58 [(0, .inr r0), (1, .inr r1)] [] M_4 P
    refine b_goto (tgt := 68) dX5_begins_58 (by decide) ?_
    exact b_vret rfl dX5_begins_68 (hP _ h)
def v_X5_begins (d : Nat) (r0 : Nat × Nat) (r1 : Nat × Nat) (M : Mem) (Q : Mem → Prop) : Prop := kt r0.1 = 5 ∧ (((¬ (M.1 r0.1 r0.2 7) = 1) → (v_X5_begins_43 d r0 r1 M Q)) ∧ (((M.1 r0.1 r0.2 7) = 1) → (kt r0.1 = 5 ∧ (∀ e_1 : Nat × Nat, e_1 = M.2.1 r0.1 r0.2 11 → (kt e_1.1 = 0 ∧ (kt r0.1 = 5 ∧ ((((M.1 e_1.1 e_1.2 0) < (M.1 r0.1 r0.2 9)) → (v_X5_begins_43 d r0 r1 M Q)) ∧ ((¬ (M.1 e_1.1 e_1.2 0) < (M.1 r0.1 r0.2 9)) → (kt r0.1 = 5 ∧ (∀ M_2 : Mem, M_2 = sI M r0.1 r0.2 7 2 → (kt r0.1 = 5 ∧ (∀ M_3 : Mem, M_3 = sR M_2 r0.1 r0.2 10 r1 → (kt r0.1 = 5 ∧ (∀ e_4 : Nat × Nat, e_4 = M_3.2.1 r0.1 r0.2 11 → (kt e_4.1 = 0 ∧ (cq (d + 10) mX0_goesIn [.inr e_4, .inr r1] M_3 (fun r_ M_5 => r_ = none ∧ (Q M_5))))))))))))))))))
set_option maxHeartbeats 4000000 in
theorem sv_X5_begins {d : Nat} {M : Mem} {P : Option AV → Mem → Prop} {Q : Mem → Prop} {r0 : Nat × Nat} {r1 : Nat × Nat} (hP : ∀ M, Q M → P none M) (h : v_X5_begins d r0 r1 M Q) : cq (d + 11) mX5_begins [.inr r0, .inr r1] M P := by
  refine cq_of (by decide) (Nat.le_of_ble_eq_true rfl) ?_
  show wq (d + 11) mX5_begins 0 [(0, .inr r0), (1, .inr r1)] [] M P
  unfold v_X5_begins at h
  refine b_aload_n 0 dX5_begins_0 rfl rfl ?_
  refine b_gI (ci := 5) (r := (RX5, TX5, 12)) (f := 7) (by decide) rfl (by decide) rfl (Or.inl q360) (Or.inl rfl) h.1 dX5_begins_1 ?_
  replace h := h.2
  refine b_iconst (v := 1) dX5_begins_4 (by decide) ?_
  refine b_icmp_ne (tgt := 43) dX5_begins_5 (by decide) (fun c_8 => ?_) (fun c_8 => ?_)
  · replace h := h.1 c_8
    exact b_sub (by simp) (sv_X5_begins_43 hP r0 r1 M h)
  · replace h := h.2 c_8
    refine b_aload_n 0 dX5_begins_8 rfl rfl ?_
    refine b_gR (ci := 5) (r := (RX5, TX5, 12)) (f := 11) (by decide) rfl (by decide) rfl (Or.inl q368) (Or.inl rfl) h.1 dX5_begins_9 ?_
    refine b_topr (fun e_1 ee_1 => ?_)
    replace h := h.2 e_1 ee_1
    refine b_gI (ci := 0) (r := (RX0, TX0, 14)) (f := 0) (by decide) rfl (by decide) rfl (Or.inr ⟨_, q140⟩) (Or.inl rfl) h.1 dX5_begins_12 ?_
    replace h := h.2
    refine b_aload_n 0 dX5_begins_15 rfl rfl ?_
    refine b_gI (ci := 5) (r := (RX5, TX5, 12)) (f := 9) (by decide) rfl (by decide) rfl (Or.inl q365) (Or.inl rfl) h.1 dX5_begins_16 ?_
    replace h := h.2
    refine b_icmp_lt (tgt := 43) dX5_begins_19 (by decide) (fun c_7 => ?_) (fun c_7 => ?_)
    · replace h := h.1 c_7
      exact b_sub (by simp) (sv_X5_begins_43 hP r0 r1 M h)
    · replace h := h.2 c_7
      refine b_aload_n 0 dX5_begins_22 rfl rfl ?_
      refine b_iconst (v := 2) dX5_begins_23 (by decide) ?_
      refine b_pI (ci := 5) (r := (RX5, TX5, 12)) (f := 7) (by decide) rfl (by decide) (Or.inl q360) (Or.inl rfl) rfl (Or.inl rfl) h.1 dX5_begins_24 ?_
      refine b_topm (fun M_2 eM_2 => ?_)
      replace h := h.2 M_2 eM_2
      refine b_aload_n 0 dX5_begins_27 rfl rfl ?_
      refine b_aload_n 1 dX5_begins_28 rfl rfl ?_
      refine b_pR (ci := 5) (r := (RX5, TX5, 12)) (f := 10) (by decide) rfl (by decide) (Or.inl q367) (Or.inl rfl) rfl rfl h.1 dX5_begins_29 ?_
      refine b_topm (fun M_3 eM_3 => ?_)
      replace h := h.2 M_3 eM_3
      refine b_aload_n 0 dX5_begins_32 rfl rfl ?_
      refine b_gR (ci := 5) (r := (RX5, TX5, 12)) (f := 11) (by decide) rfl (by decide) rfl (Or.inl q368) (Or.inl rfl) h.1 dX5_begins_33 ?_
      refine b_topr (fun e_4 ee_4 => ?_)
      replace h := h.2 e_4 ee_4
      refine b_aload_n 1 dX5_begins_36 rfl rfl ?_
      refine b_cvo (y := mX0_goesIn) (ci := 0) (r := (RX0, TX0, 14)) (e := e_4) (as := [.inr r1]) (st := []) (n := 1) rfl h.1 (Or.inr ⟨_, q1080⟩) qs10 q842 q69 q843 zmh_X0_goesIn rfl (Nat.le_of_ble_eq_true rfl) (Nat.le_of_ble_eq_true rfl) dX5_begins_37 (cq.mono h.2 (fun _ M_5 h => ?_))
      obtain ⟨rfl, h⟩ := h
      show wq (d + 11) mX5_begins 40 [(0, .inr r0), (1, .inr r1)] [] M_5 P
      refine b_goto (tgt := 68) dX5_begins_40 (by decide) ?_
      exact b_vret rfl dX5_begins_68 (hP _ h)
def v_X6_begins_29 (d : Nat) (r0 : Nat × Nat) (r1 : Nat × Nat) (M : Mem) (Q : Mem → Prop) : Prop := kt r0.1 = 6 ∧ (∀ e_1 : Nat × Nat, e_1 = M.2.1 r0.1 r0.2 7 → (lk e_1.1 ∧ (kt r0.1 = 6 ∧ ((((M.1 r0.1 r0.2 3) ≤ (M.1 e_1.1 e_1.2 0)) → (kt r0.1 = 6 ∧ (kt r0.1 = 6 ∧ (∀ M_2 : Mem, M_2 = sI M r0.1 r0.2 9 ((M.1 r0.1 r0.2 9) + 1) → (kt r0.1 = 6 ∧ (cq (d + 10) mX4_refuses [.inr r0, .inr r1, .inl 10] M_2 (fun r_ M_3 => r_ = none ∧ (Q M_3)))))))) ∧ ((¬ (M.1 r0.1 r0.2 3) ≤ (M.1 e_1.1 e_1.2 0)) → (kt r1.1 = 16 ∧ (∀ M_5 : Mem, M_5 = sI M r1.1 r1.2 14 1 → (kt r0.1 = 6 ∧ (∀ e_6 : Nat × Nat, e_6 = M_5.2.1 r0.1 r0.2 7 → (lk e_6.1 ∧ ekk r1.1 = true ∧ M_5.1 e_6.1 e_6.2 0 < 10000 ∧ rom M_5 10 ∧ (∀ M_7 : Mem, M_7 = lAdd M_5 e_6 r1 → (Q M_7))))))))))))
set_option maxHeartbeats 4000000 in
theorem sv_X6_begins_29 {d : Nat} {P : Option AV → Mem → Prop} {Q : Mem → Prop} (hP : ∀ M, Q M → P none M) (r0 : Nat × Nat) (r1 : Nat × Nat) (M : Mem) (h : v_X6_begins_29 d r0 r1 M Q) : wq (d + 11) mX6_begins 29 [(0, .inr r0), (1, .inr r1)] [] M P := by
  unfold v_X6_begins_29 at h
  refine b_aload_n 0 dX6_begins_29 rfl rfl ?_
  refine b_gR (ci := 6) (r := (RX6, TX6, 11)) (f := 7) (by decide) rfl (by decide) rfl (Or.inl q444) (Or.inl rfl) h.1 dX6_begins_30 ?_
  refine b_topr (fun e_1 ee_1 => ?_)
  replace h := h.2 e_1 ee_1
  refine b_lsize (st := []) h.1 (Or.inl q835) (Nat.le_of_ble_eq_true rfl) dX6_begins_33 ?_
  replace h := h.2
  refine b_aload_n 0 dX6_begins_36 rfl rfl ?_
  refine b_gI (ci := 6) (r := (RX6, TX6, 11)) (f := 3) (by decide) rfl (by decide) rfl (Or.inl q401) (Or.inr q402) h.1 dX6_begins_37 ?_
  replace h := h.2
  refine b_icmp_ge (tgt := 60) dX6_begins_40 (by decide) (fun c_8 => ?_) (fun c_8 => ?_)
  · replace h := h.1 c_8
    refine b_aload_n 0 dX6_begins_60 rfl rfl ?_
    refine b_dup dX6_begins_61 ?_
    refine b_gI (ci := 6) (r := (RX6, TX6, 11)) (f := 9) (by decide) rfl (by decide) rfl (Or.inl q449) (Or.inl rfl) h.1 dX6_begins_62 ?_
    replace h := h.2
    refine b_iconst (v := 1) dX6_begins_65 (by decide) ?_
    refine b_iadd dX6_begins_66 ?_
    refine b_pI (ci := 6) (r := (RX6, TX6, 11)) (f := 9) (by decide) rfl (by decide) (Or.inl q449) (Or.inl rfl) rfl (Or.inl rfl) h.1 dX6_begins_67 ?_
    refine b_topm (fun M_2 eM_2 => ?_)
    replace h := h.2 M_2 eM_2
    refine b_aload_n 0 dX6_begins_70 rfl rfl ?_
    refine b_aload_n 1 dX6_begins_71 rfl rfl ?_
    refine b_bipush (v := 10) dX6_begins_72 (by decide) ?_
    refine b_i_refuses_Bulkhead (e := r0) (as := [.inr r1, .inl 10]) (st := []) h.1 q845 rfl (Nat.le_of_ble_eq_true rfl) dX6_begins_74 (cq.mono h.2 (fun _ M_3 h => ?_))
    obtain ⟨rfl, h⟩ := h
    show wq (d + 11) mX6_begins 77 [(0, .inr r0), (1, .inr r1)] [] M_3 P
    exact b_vret rfl dX6_begins_77 (hP _ h)
  · replace h := h.2 c_8
    refine b_aload_n 1 dX6_begins_43 rfl rfl ?_
    refine b_iconst (v := 1) dX6_begins_44 (by decide) ?_
    refine b_pI (ci := 16) (r := (RX16, TX16, 17)) (f := 14) (by decide) rfl (by decide) (Or.inr ⟨_, q776⟩) (Or.inl rfl) rfl (Or.inl rfl) h.1 dX6_begins_45 ?_
    refine b_topm (fun M_5 eM_5 => ?_)
    replace h := h.2 M_5 eM_5
    refine b_aload_n 0 dX6_begins_48 rfl rfl ?_
    refine b_gR (ci := 6) (r := (RX6, TX6, 11)) (f := 7) (by decide) rfl (by decide) rfl (Or.inl q444) (Or.inl rfl) h.1 dX6_begins_49 ?_
    refine b_topr (fun e_6 ee_6 => ?_)
    replace h := h.2 e_6 ee_6
    refine b_aload_n 1 dX6_begins_52 rfl rfl ?_
    refine b_ladd (st := []) h.1 h.2.1 h.2.2.1 h.2.2.2.1 (Or.inl q844) (Nat.le_of_ble_eq_true rfl) dX6_begins_53 ?_
    refine b_topm (fun M_7 eM_7 => ?_)
    replace h := h.2.2.2.2 M_7 eM_7
    refine b_pop dX6_begins_56 ?_
    refine b_goto (tgt := 77) dX6_begins_57 (by decide) ?_
    exact b_vret rfl dX6_begins_77 (hP _ h)
def v_X6_begins (d : Nat) (r0 : Nat × Nat) (r1 : Nat × Nat) (M : Mem) (Q : Mem → Prop) : Prop := kt r0.1 = 6 ∧ (kt r0.1 = 6 ∧ ((((M.1 r0.1 r0.2 2) ≤ (M.1 r0.1 r0.2 8)) → (v_X6_begins_29 d r0 r1 M Q)) ∧ ((¬ (M.1 r0.1 r0.2 2) ≤ (M.1 r0.1 r0.2 8)) → (kt r0.1 = 6 ∧ (∀ e_1 : Nat × Nat, e_1 = M.2.1 r0.1 r0.2 7 → (lk e_1.1 ∧ (((¬ (M.1 e_1.1 e_1.2 0) = 0) → (v_X6_begins_29 d r0 r1 M Q)) ∧ (((M.1 e_1.1 e_1.2 0) = 0) → (kt r0.1 = 6 ∧ (cq (d + 10) mX6_works [.inr r0, .inr r1] M (fun r_ M_2 => r_ = none ∧ (Q M_2))))))))))))
set_option maxHeartbeats 4000000 in
theorem sv_X6_begins {d : Nat} {M : Mem} {P : Option AV → Mem → Prop} {Q : Mem → Prop} {r0 : Nat × Nat} {r1 : Nat × Nat} (hP : ∀ M, Q M → P none M) (h : v_X6_begins d r0 r1 M Q) : cq (d + 11) mX6_begins [.inr r0, .inr r1] M P := by
  refine cq_of (by decide) (Nat.le_of_ble_eq_true rfl) ?_
  show wq (d + 11) mX6_begins 0 [(0, .inr r0), (1, .inr r1)] [] M P
  unfold v_X6_begins at h
  refine b_aload_n 0 dX6_begins_0 rfl rfl ?_
  refine b_gI (ci := 6) (r := (RX6, TX6, 11)) (f := 8) (by decide) rfl (by decide) rfl (Or.inl q447) (Or.inl rfl) h.1 dX6_begins_1 ?_
  replace h := h.2
  refine b_aload_n 0 dX6_begins_4 rfl rfl ?_
  refine b_gI (ci := 6) (r := (RX6, TX6, 11)) (f := 2) (by decide) rfl (by decide) rfl (Or.inl q388) (Or.inr q389) h.1 dX6_begins_5 ?_
  replace h := h.2
  refine b_icmp_ge (tgt := 29) dX6_begins_8 (by decide) (fun c_5 => ?_) (fun c_5 => ?_)
  · replace h := h.1 c_5
    exact b_sub (by simp) (sv_X6_begins_29 hP r0 r1 M h)
  · replace h := h.2 c_5
    refine b_aload_n 0 dX6_begins_11 rfl rfl ?_
    refine b_gR (ci := 6) (r := (RX6, TX6, 11)) (f := 7) (by decide) rfl (by decide) rfl (Or.inl q444) (Or.inl rfl) h.1 dX6_begins_12 ?_
    refine b_topr (fun e_1 ee_1 => ?_)
    replace h := h.2 e_1 ee_1
    refine b_lsize (st := []) h.1 (Or.inl q835) (Nat.le_of_ble_eq_true rfl) dX6_begins_15 ?_
    replace h := h.2
    refine b_if_ne (tgt := 29) dX6_begins_18 (by decide) (fun c_4 => ?_) (fun c_4 => ?_)
    · replace h := h.1 c_4
      exact b_sub (by simp) (sv_X6_begins_29 hP r0 r1 M h)
    · replace h := h.2 c_4
      refine b_aload_n 0 dX6_begins_21 rfl rfl ?_
      refine b_aload_n 1 dX6_begins_22 rfl rfl ?_
      refine b_cvo (y := mX6_works) (ci := 6) (r := (RX6, TX6, 11)) (e := r0) (as := [.inr r1]) (st := []) (n := 1) rfl h.1 (Or.inl q836) qs9 q838 q82 q839 zmh_X6_works rfl (Nat.le_of_ble_eq_true rfl) (Nat.le_of_ble_eq_true rfl) dX6_begins_23 (cq.mono h.2 (fun _ M_2 h => ?_))
      obtain ⟨rfl, h⟩ := h
      show wq (d + 11) mX6_begins 26 [(0, .inr r0), (1, .inr r1)] [] M_2 P
      refine b_goto (tgt := 77) dX6_begins_26 (by decide) ?_
      exact b_vret rfl dX6_begins_77 (hP _ h)
def v_X6_works (d : Nat) (r0 : Nat × Nat) (r1 : Nat × Nat) (M : Mem) (Q : Mem → Prop) : Prop := kt r0.1 = 6 ∧ (kt r0.1 = 6 ∧ (∀ M_1 : Mem, M_1 = sI M r0.1 r0.2 8 ((M.1 r0.1 r0.2 8) + 1) → (kt r0.1 = 6 ∧ (∀ e_2 : Nat × Nat, e_2 = M_1.2.1 r0.1 r0.2 10 → (kt e_2.1 = 0 ∧ (cq (d + 10) mX0_goesIn [.inr e_2, .inr r1] M_1 (fun r_ M_3 => r_ = none ∧ (Q M_3))))))))
set_option maxHeartbeats 4000000 in
theorem sv_X6_works {d : Nat} {M : Mem} {P : Option AV → Mem → Prop} {Q : Mem → Prop} {r0 : Nat × Nat} {r1 : Nat × Nat} (hP : ∀ M, Q M → P none M) (h : v_X6_works d r0 r1 M Q) : cq (d + 11) mX6_works [.inr r0, .inr r1] M P := by
  refine cq_of (by decide) (Nat.le_of_ble_eq_true rfl) ?_
  show wq (d + 11) mX6_works 0 [(0, .inr r0), (1, .inr r1)] [] M P
  unfold v_X6_works at h
  refine b_aload_n 0 dX6_works_0 rfl rfl ?_
  refine b_dup dX6_works_1 ?_
  refine b_gI (ci := 6) (r := (RX6, TX6, 11)) (f := 8) (by decide) rfl (by decide) rfl (Or.inl q447) (Or.inl rfl) h.1 dX6_works_2 ?_
  replace h := h.2
  refine b_iconst (v := 1) dX6_works_5 (by decide) ?_
  refine b_iadd dX6_works_6 ?_
  refine b_pI (ci := 6) (r := (RX6, TX6, 11)) (f := 8) (by decide) rfl (by decide) (Or.inl q447) (Or.inl rfl) rfl (Or.inl rfl) h.1 dX6_works_7 ?_
  refine b_topm (fun M_1 eM_1 => ?_)
  replace h := h.2 M_1 eM_1
  refine b_aload_n 0 dX6_works_10 rfl rfl ?_
  refine b_gR (ci := 6) (r := (RX6, TX6, 11)) (f := 10) (by decide) rfl (by decide) rfl (Or.inl q451) (Or.inl rfl) h.1 dX6_works_11 ?_
  refine b_topr (fun e_2 ee_2 => ?_)
  replace h := h.2 e_2 ee_2
  refine b_aload_n 1 dX6_works_14 rfl rfl ?_
  refine b_cvo (y := mX0_goesIn) (ci := 0) (r := (RX0, TX0, 14)) (e := e_2) (as := [.inr r1]) (st := []) (n := 1) rfl h.1 (Or.inr ⟨_, q840⟩) qs10 q842 q69 q843 zmh_X0_goesIn rfl (Nat.le_of_ble_eq_true rfl) (Nat.le_of_ble_eq_true rfl) dX6_works_15 (cq.mono h.2 (fun _ M_3 h => ?_))
  obtain ⟨rfl, h⟩ := h
  show wq (d + 11) mX6_works 18 [(0, .inr r0), (1, .inr r1)] [] M_3 P
  exact b_vret rfl dX6_works_18 (hP _ h)
def v_X6_told (d : Nat) (r0 : Nat × Nat) (r1 : Nat × Nat) (r2 : Nat × Nat) (M : Mem) (Q : Mem → Prop) : Prop := kt r0.1 = 6 ∧ (kt r0.1 = 6 ∧ (∀ M_1 : Mem, M_1 = sI M r0.1 r0.2 8 ((M.1 r0.1 r0.2 8) - 1) → (kt r0.1 = 6 ∧ (∀ e_2 : Nat × Nat, e_2 = M_1.2.1 r0.1 r0.2 10 → (kt e_2.1 = 0 ∧ (cq (d + 10) mX0_alike [.inr e_2, .inr r1, .inr r2] M_1 (fun r_ M_3 => r_ = none ∧ (Q M_3))))))))
set_option maxHeartbeats 4000000 in
theorem sv_X6_told {d : Nat} {M : Mem} {P : Option AV → Mem → Prop} {Q : Mem → Prop} {r0 : Nat × Nat} {r1 : Nat × Nat} {r2 : Nat × Nat} (hP : ∀ M, Q M → P none M) (h : v_X6_told d r0 r1 r2 M Q) : cq (d + 11) mX6_told [.inr r0, .inr r1, .inr r2] M P := by
  refine cq_of (by decide) (Nat.le_of_ble_eq_true rfl) ?_
  show wq (d + 11) mX6_told 0 [(0, .inr r0), (1, .inr r1), (2, .inr r2)] [] M P
  unfold v_X6_told at h
  refine b_aload_n 0 dX6_told_0 rfl rfl ?_
  refine b_dup dX6_told_1 ?_
  refine b_gI (ci := 6) (r := (RX6, TX6, 11)) (f := 8) (by decide) rfl (by decide) rfl (Or.inl q447) (Or.inl rfl) h.1 dX6_told_2 ?_
  replace h := h.2
  refine b_iconst (v := 1) dX6_told_5 (by decide) ?_
  refine b_isub dX6_told_6 ?_
  refine b_pI (ci := 6) (r := (RX6, TX6, 11)) (f := 8) (by decide) rfl (by decide) (Or.inl q447) (Or.inl rfl) rfl (Or.inl rfl) h.1 dX6_told_7 ?_
  refine b_topm (fun M_1 eM_1 => ?_)
  replace h := h.2 M_1 eM_1
  refine b_aload_n 0 dX6_told_10 rfl rfl ?_
  refine b_gR (ci := 6) (r := (RX6, TX6, 11)) (f := 10) (by decide) rfl (by decide) rfl (Or.inl q451) (Or.inl rfl) h.1 dX6_told_11 ?_
  refine b_topr (fun e_2 ee_2 => ?_)
  replace h := h.2 e_2 ee_2
  refine b_aload_n 1 dX6_told_14 rfl rfl ?_
  refine b_aload_n 2 dX6_told_15 rfl rfl ?_
  refine b_cvo (y := mX0_alike) (ci := 0) (r := (RX0, TX0, 14)) (e := e_2) (as := [.inr r1, .inr r2]) (st := []) (n := 2) rfl h.1 (Or.inr ⟨_, q905⟩) qs14 q907 q69 q908 zmh_X0_alike rfl (Nat.le_of_ble_eq_true rfl) (Nat.le_of_ble_eq_true rfl) dX6_told_16 (cq.mono h.2 (fun _ M_3 h => ?_))
  obtain ⟨rfl, h⟩ := h
  show wq (d + 11) mX6_told 19 [(0, .inr r0), (1, .inr r1), (2, .inr r2)] [] M_3 P
  exact b_vret rfl dX6_told_19 (hP _ h)
def v_X6_takenBack (d : Nat) (r0 : Nat × Nat) (r1 : Nat × Nat) (M : Mem) (Q : Mem → Prop) : Prop := kt r1.1 = 16 ∧ (((¬ (M.1 r1.1 r1.2 14) = 1) → (kt r0.1 = 6 ∧ (kt r0.1 = 6 ∧ (∀ M_1 : Mem, M_1 = sI M r0.1 r0.2 8 ((M.1 r0.1 r0.2 8) - 1) → (Q M_1))))) ∧ (((M.1 r1.1 r1.2 14) = 1) → (kt r0.1 = 6 ∧ (∀ e_2 : Nat × Nat, e_2 = M.2.1 r0.1 r0.2 7 → (lk e_2.1 ∧ (∃ j_4 : Nat, (∀ q, q < j_4 → ¬ M.2.1 e_2.1 e_2.2 q = r1) ∧ M.2.1 e_2.1 e_2.2 j_4 = r1 ∧ j_4 < (M.1 e_2.1 e_2.2 0).toNatClampNeg ∧ kt r1.1 = 16 ∧ ∀ M_3 : Mem, M_3 = lRem M e_2 j_4 → (Q M_3)))))))
set_option maxHeartbeats 4000000 in
theorem sv_X6_takenBack {d : Nat} {M : Mem} {P : Option AV → Mem → Prop} {Q : Mem → Prop} {r0 : Nat × Nat} {r1 : Nat × Nat} (hP : ∀ M, Q M → P none M) (h : v_X6_takenBack d r0 r1 M Q) : cq (d + 11) mX6_takenBack [.inr r0, .inr r1] M P := by
  refine cq_of (by decide) (Nat.le_of_ble_eq_true rfl) ?_
  show wq (d + 11) mX6_takenBack 0 [(0, .inr r0), (1, .inr r1)] [] M P
  unfold v_X6_takenBack at h
  refine b_aload_n 1 dX6_takenBack_0 rfl rfl ?_
  refine b_gI (ci := 16) (r := (RX16, TX16, 17)) (f := 14) (by decide) rfl (by decide) rfl (Or.inr ⟨_, q776⟩) (Or.inl rfl) h.1 dX6_takenBack_1 ?_
  replace h := h.2
  refine b_iconst (v := 1) dX6_takenBack_4 (by decide) ?_
  refine b_icmp_ne (tgt := 20) dX6_takenBack_5 (by decide) (fun c_5 => ?_) (fun c_5 => ?_)
  · replace h := h.1 c_5
    refine b_aload_n 0 dX6_takenBack_20 rfl rfl ?_
    refine b_dup dX6_takenBack_21 ?_
    refine b_gI (ci := 6) (r := (RX6, TX6, 11)) (f := 8) (by decide) rfl (by decide) rfl (Or.inl q447) (Or.inl rfl) h.1 dX6_takenBack_22 ?_
    replace h := h.2
    refine b_iconst (v := 1) dX6_takenBack_25 (by decide) ?_
    refine b_isub dX6_takenBack_26 ?_
    refine b_pI (ci := 6) (r := (RX6, TX6, 11)) (f := 8) (by decide) rfl (by decide) (Or.inl q447) (Or.inl rfl) rfl (Or.inl rfl) h.1 dX6_takenBack_27 ?_
    refine b_topm (fun M_1 eM_1 => ?_)
    replace h := h.2 M_1 eM_1
    exact b_vret rfl dX6_takenBack_30 (hP _ h)
  · replace h := h.2 c_5
    refine b_aload_n 0 dX6_takenBack_8 rfl rfl ?_
    refine b_gR (ci := 6) (r := (RX6, TX6, 11)) (f := 7) (by decide) rfl (by decide) rfl (Or.inl q444) (Or.inl rfl) h.1 dX6_takenBack_9 ?_
    refine b_topr (fun e_2 ee_2 => ?_)
    replace h := h.2 e_2 ee_2
    refine b_aload_n 1 dX6_takenBack_12 rfl rfl ?_
    obtain ⟨h1, j_4, h2, h3, h4, h5, h⟩ := h
    refine b_lremO (st := []) (j := j_4) h1 h2 h3 h4 h5 (Or.inl q978) (Nat.le_of_ble_eq_true rfl) dX6_takenBack_13 ?_
    refine b_topm (fun M_3 eM_3 => ?_)
    replace h := h M_3 eM_3
    refine b_pop dX6_takenBack_16 ?_
    refine b_goto (tgt := 30) dX6_takenBack_17 (by decide) ?_
    exact b_vret rfl dX6_takenBack_30 (hP _ h)
def v_X6_letsIn_0 (d : Nat) : Nat → Nat × Nat → Mem → (Mem → Prop) → Prop
  | 0, _, _, _ => False
  | n + 1, r0, M, Q => kt r0.1 = 6 ∧ (kt r0.1 = 6 ∧ ((((M.1 r0.1 r0.2 2) ≤ (M.1 r0.1 r0.2 8)) → (Q M)) ∧ ((¬ (M.1 r0.1 r0.2 2) ≤ (M.1 r0.1 r0.2 8)) → (kt r0.1 = 6 ∧ (∀ e_1 : Nat × Nat, e_1 = M.2.1 r0.1 r0.2 7 → (lk e_1.1 ∧ ((((M.1 e_1.1 e_1.2 0) ≤ 0) → (Q M)) ∧ ((¬ (M.1 e_1.1 e_1.2 0) ≤ 0) → (kt r0.1 = 6 ∧ (∀ e_2 : Nat × Nat, e_2 = M.2.1 r0.1 r0.2 7 → (lk e_2.1 ∧ (¬ (0 : Int32) < 0 ∧ (0 : Int32) < M.1 e_2.1 e_2.2 0) ∧ (∀ e_3 : Nat × Nat, e_3 = M.2.1 e_2.1 e_2.2 (0 : Int32).toNatClampNeg → ∀ M_4 : Mem, M_4 = lRem M e_2 (0 : Int32).toNatClampNeg → (kt e_3.1 = 16 ∧ (kt e_3.1 = 16 ∧ (∀ M_5 : Mem, M_5 = sI M_4 e_3.1 e_3.2 14 0 → (kt r0.1 = 6 ∧ (cq (d + 10) mX6_works [.inr r0, .inr e_3] M_5 (fun r_ M_6 => r_ = none ∧ (v_X6_letsIn_0 d n r0 M_6 Q)))))))))))))))))))
set_option maxHeartbeats 4000000 in
theorem sv_X6_letsIn_0 {d : Nat} {P : Option AV → Mem → Prop} {Q : Mem → Prop} (hP : ∀ M, Q M → P none M) : ∀ (n : Nat) (r0 : Nat × Nat) (M : Mem), v_X6_letsIn_0 d n r0 M Q → wq (d + 11) mX6_letsIn 0 [(0, .inr r0)] [] M P := by
  intro n
  induction n with
  | zero => intro r0 M h; exact False.elim h
  | succ n ih =>
    intro r0 M h
    rw [v_X6_letsIn_0] at h
    refine b_aload_n 0 dX6_letsIn_0 rfl rfl ?_
    refine b_gI (ci := 6) (r := (RX6, TX6, 11)) (f := 8) (by decide) rfl (by decide) rfl (Or.inl q447) (Or.inl rfl) h.1 dX6_letsIn_1 ?_
    replace h := h.2
    refine b_aload_n 0 dX6_letsIn_4 rfl rfl ?_
    refine b_gI (ci := 6) (r := (RX6, TX6, 11)) (f := 2) (by decide) rfl (by decide) rfl (Or.inl q388) (Or.inr q389) h.1 dX6_letsIn_5 ?_
    replace h := h.2
    refine b_icmp_ge (tgt := 46) dX6_letsIn_8 (by decide) (fun c_9 => ?_) (fun c_9 => ?_)
    · replace h := h.1 c_9
      exact b_vret rfl dX6_letsIn_46 (hP _ h)
    · replace h := h.2 c_9
      refine b_aload_n 0 dX6_letsIn_11 rfl rfl ?_
      refine b_gR (ci := 6) (r := (RX6, TX6, 11)) (f := 7) (by decide) rfl (by decide) rfl (Or.inl q444) (Or.inl rfl) h.1 dX6_letsIn_12 ?_
      refine b_topr (fun e_1 ee_1 => ?_)
      replace h := h.2 e_1 ee_1
      refine b_lsize (st := []) h.1 (Or.inl q835) (Nat.le_of_ble_eq_true rfl) dX6_letsIn_15 ?_
      replace h := h.2
      refine b_if_le (tgt := 46) dX6_letsIn_18 (by decide) (fun c_8 => ?_) (fun c_8 => ?_)
      · replace h := h.1 c_8
        exact b_vret rfl dX6_letsIn_46 (hP _ h)
      · replace h := h.2 c_8
        refine b_aload_n 0 dX6_letsIn_21 rfl rfl ?_
        refine b_gR (ci := 6) (r := (RX6, TX6, 11)) (f := 7) (by decide) rfl (by decide) rfl (Or.inl q444) (Or.inl rfl) h.1 dX6_letsIn_22 ?_
        refine b_topr (fun e_2 ee_2 => ?_)
        replace h := h.2 e_2 ee_2
        refine b_iconst (v := 0) dX6_letsIn_25 (by decide) ?_
        refine b_lrem (st := []) h.1 h.2.1 (Or.inl q1229) (Nat.le_of_ble_eq_true rfl) dX6_letsIn_26 ?_
        refine b_topr (fun e_3 ee_3 => ?_)
        refine b_topm (fun M_4 eM_4 => ?_)
        replace h := h.2.2 e_3 ee_3 M_4 eM_4
        refine b_ck (ci := 16) (r := (RX16, TX16, 17)) rfl q1233 h.1 dX6_letsIn_29 ?_
        replace h := h.2
        refine b_astore_n (lv' := [(1, .inr e_3), (0, .inr r0)]) dX6_letsIn_32 rfl (Nat.le_of_ble_eq_true rfl) rfl ?_
        refine b_aload_n 0 dX6_letsIn_33 rfl rfl ?_
        refine b_iconst (v := 0) dX6_letsIn_34 (by decide) ?_
        refine b_pI (ci := 16) (r := (RX16, TX16, 17)) (f := 14) (by decide) rfl (by decide) (Or.inr ⟨_, q776⟩) (Or.inl rfl) rfl (Or.inl rfl) h.1 dX6_letsIn_35 ?_
        refine b_topm (fun M_5 eM_5 => ?_)
        replace h := h.2 M_5 eM_5
        refine b_aload_n 1 dX6_letsIn_38 rfl rfl ?_
        refine b_aload_n 0 dX6_letsIn_39 rfl rfl ?_
        refine b_cvo (y := mX6_works) (ci := 6) (r := (RX6, TX6, 11)) (e := r0) (as := [.inr e_3]) (st := []) (n := 1) rfl h.1 (Or.inl q836) qs9 q838 q82 q839 zmh_X6_works rfl (Nat.le_of_ble_eq_true rfl) (Nat.le_of_ble_eq_true rfl) dX6_letsIn_40 (cq.mono h.2 (fun _ M_6 h => ?_))
        obtain ⟨rfl, h⟩ := h
        show wq (d + 11) mX6_letsIn 43 [(1, .inr e_3), (0, .inr r0)] [] M_6 P
        refine b_goto (tgt := 0) dX6_letsIn_43 (by decide) ?_
        exact b_sub (by simp) (ih r0 M_6 h)
def v_X6_letsIn (d : Nat) (r0 : Nat × Nat) (M : Mem) (Q : Mem → Prop) : Prop := ∃ n, v_X6_letsIn_0 d n r0 M Q
set_option maxHeartbeats 4000000 in
theorem sv_X6_letsIn {d : Nat} {M : Mem} {P : Option AV → Mem → Prop} {Q : Mem → Prop} {r0 : Nat × Nat} (hP : ∀ M, Q M → P none M) (h : v_X6_letsIn d r0 M Q) : cq (d + 11) mX6_letsIn [.inr r0] M P := by
  refine cq_of (by decide) (Nat.le_of_ble_eq_true rfl) ?_
  show wq (d + 11) mX6_letsIn 0 [(0, .inr r0)] [] M P
  unfold v_X6_letsIn at h
  obtain ⟨n, h⟩ := h
  exact b_sub (by simp) (sv_X6_letsIn_0 hP n r0 M h)
def v_X7_begins (d : Nat) (r0 : Nat × Nat) (r1 : Nat × Nat) (M : Mem) (Q : Mem → Prop) : Prop := kt r0.1 = 7 ∧ (((¬ (M.1 r0.1 r0.2 7) = 0) → (kt r0.1 = 7 ∧ (kt r0.1 = 7 ∧ (∀ M_1 : Mem, M_1 = sI M r0.1 r0.2 7 ((M.1 r0.1 r0.2 7) - 1) → (kt r0.1 = 7 ∧ (∀ e_2 : Nat × Nat, e_2 = M_1.2.1 r0.1 r0.2 8 → (kt e_2.1 = 0 ∧ (cq (d + 10) mX0_goesIn [.inr e_2, .inr r1] M_1 (fun r_ M_3 => r_ = none ∧ (Q M_3)))))))))) ∧ (((M.1 r0.1 r0.2 7) = 0) → (kt r0.1 = 7 ∧ (cq (d + 10) mX4_refuses [.inr r0, .inr r1, .inl 11] M (fun r_ M_5 => r_ = none ∧ (Q M_5))))))
set_option maxHeartbeats 4000000 in
theorem sv_X7_begins {d : Nat} {M : Mem} {P : Option AV → Mem → Prop} {Q : Mem → Prop} {r0 : Nat × Nat} {r1 : Nat × Nat} (hP : ∀ M, Q M → P none M) (h : v_X7_begins d r0 r1 M Q) : cq (d + 11) mX7_begins [.inr r0, .inr r1] M P := by
  refine cq_of (by decide) (Nat.le_of_ble_eq_true rfl) ?_
  show wq (d + 11) mX7_begins 0 [(0, .inr r0), (1, .inr r1)] [] M P
  unfold v_X7_begins at h
  refine b_aload_n 0 dX7_begins_0 rfl rfl ?_
  refine b_gI (ci := 7) (r := (RX7, TX7, 9)) (f := 7) (by decide) rfl (by decide) rfl (Or.inl q474) (Or.inl rfl) h.1 dX7_begins_1 ?_
  replace h := h.2
  refine b_if_ne (tgt := 15) dX7_begins_4 (by decide) (fun c_7 => ?_) (fun c_7 => ?_)
  · replace h := h.1 c_7
    refine b_aload_n 0 dX7_begins_15 rfl rfl ?_
    refine b_dup dX7_begins_16 ?_
    refine b_gI (ci := 7) (r := (RX7, TX7, 9)) (f := 7) (by decide) rfl (by decide) rfl (Or.inl q474) (Or.inl rfl) h.1 dX7_begins_17 ?_
    replace h := h.2
    refine b_iconst (v := 1) dX7_begins_20 (by decide) ?_
    refine b_isub dX7_begins_21 ?_
    refine b_pI (ci := 7) (r := (RX7, TX7, 9)) (f := 7) (by decide) rfl (by decide) (Or.inl q474) (Or.inl rfl) rfl (Or.inl rfl) h.1 dX7_begins_22 ?_
    refine b_topm (fun M_1 eM_1 => ?_)
    replace h := h.2 M_1 eM_1
    refine b_aload_n 0 dX7_begins_25 rfl rfl ?_
    refine b_gR (ci := 7) (r := (RX7, TX7, 9)) (f := 8) (by decide) rfl (by decide) rfl (Or.inl q476) (Or.inl rfl) h.1 dX7_begins_26 ?_
    refine b_topr (fun e_2 ee_2 => ?_)
    replace h := h.2 e_2 ee_2
    refine b_aload_n 1 dX7_begins_29 rfl rfl ?_
    refine b_cvo (y := mX0_goesIn) (ci := 0) (r := (RX0, TX0, 14)) (e := e_2) (as := [.inr r1]) (st := []) (n := 1) rfl h.1 (Or.inr ⟨_, q1106⟩) qs10 q842 q69 q843 zmh_X0_goesIn rfl (Nat.le_of_ble_eq_true rfl) (Nat.le_of_ble_eq_true rfl) dX7_begins_30 (cq.mono h.2 (fun _ M_3 h => ?_))
    obtain ⟨rfl, h⟩ := h
    show wq (d + 11) mX7_begins 33 [(0, .inr r0), (1, .inr r1)] [] M_3 P
    exact b_vret rfl dX7_begins_33 (hP _ h)
  · replace h := h.2 c_7
    refine b_aload_n 0 dX7_begins_7 rfl rfl ?_
    refine b_aload_n 1 dX7_begins_8 rfl rfl ?_
    refine b_bipush (v := 11) dX7_begins_9 (by decide) ?_
    refine b_i_refuses_Limit (e := r0) (as := [.inr r1, .inl 11]) (st := []) h.1 q1103 rfl (Nat.le_of_ble_eq_true rfl) dX7_begins_11 (cq.mono h.2 (fun _ M_5 h => ?_))
    obtain ⟨rfl, h⟩ := h
    show wq (d + 11) mX7_begins 14 [(0, .inr r0), (1, .inr r1)] [] M_5 P
    exact b_vret rfl dX7_begins_14 (hP _ h)
def v_X8_begins (d : Nat) (r0 : Nat × Nat) (r1 : Nat × Nat) (M : Mem) (Q : Mem → Prop) : Prop := kt r0.1 = 8 ∧ (∀ e_1 : Nat × Nat, e_1 = M.2.1 r0.1 r0.2 7 → (kt e_1.1 = 0 ∧ (kt r0.1 = 8 ∧ (kt r1.1 = 16 ∧ (∀ M_2 : Mem, M_2 = sI M r1.1 r1.2 15 ((M.1 e_1.1 e_1.2 0) + (M.1 r0.1 r0.2 2)) → (kt r0.1 = 8 ∧ (∀ e_3 : Nat × Nat, e_3 = M_2.2.1 r0.1 r0.2 7 → (kt e_3.1 = 0 ∧ (cq (d + 10) mX0_goesIn [.inr e_3, .inr r1] M_2 (fun r_ M_4 => r_ = none ∧ (Q M_4)))))))))))
set_option maxHeartbeats 4000000 in
theorem sv_X8_begins {d : Nat} {M : Mem} {P : Option AV → Mem → Prop} {Q : Mem → Prop} {r0 : Nat × Nat} {r1 : Nat × Nat} (hP : ∀ M, Q M → P none M) (h : v_X8_begins d r0 r1 M Q) : cq (d + 11) mX8_begins [.inr r0, .inr r1] M P := by
  refine cq_of (by decide) (Nat.le_of_ble_eq_true rfl) ?_
  show wq (d + 11) mX8_begins 0 [(0, .inr r0), (1, .inr r1)] [] M P
  unfold v_X8_begins at h
  refine b_aload_n 1 dX8_begins_0 rfl rfl ?_
  refine b_aload_n 0 dX8_begins_1 rfl rfl ?_
  refine b_gR (ci := 8) (r := (RX8, TX8, 8)) (f := 7) (by decide) rfl (by decide) rfl (Or.inl q495) (Or.inl rfl) h.1 dX8_begins_2 ?_
  refine b_topr (fun e_1 ee_1 => ?_)
  replace h := h.2 e_1 ee_1
  refine b_gI (ci := 0) (r := (RX0, TX0, 14)) (f := 0) (by decide) rfl (by decide) rfl (Or.inr ⟨_, q138⟩) (Or.inl rfl) h.1 dX8_begins_5 ?_
  replace h := h.2
  refine b_aload_n 0 dX8_begins_8 rfl rfl ?_
  refine b_gI (ci := 8) (r := (RX8, TX8, 8)) (f := 2) (by decide) rfl (by decide) rfl (Or.inl q378) (Or.inr q379) h.1 dX8_begins_9 ?_
  replace h := h.2
  refine b_iadd dX8_begins_12 ?_
  refine b_pI (ci := 16) (r := (RX16, TX16, 17)) (f := 15) (by decide) rfl (by decide) (Or.inr ⟨_, q779⟩) (Or.inl rfl) rfl (Or.inl rfl) h.1 dX8_begins_13 ?_
  refine b_topm (fun M_2 eM_2 => ?_)
  replace h := h.2 M_2 eM_2
  refine b_aload_n 0 dX8_begins_16 rfl rfl ?_
  refine b_gR (ci := 8) (r := (RX8, TX8, 8)) (f := 7) (by decide) rfl (by decide) rfl (Or.inl q495) (Or.inl rfl) h.1 dX8_begins_17 ?_
  refine b_topr (fun e_3 ee_3 => ?_)
  replace h := h.2 e_3 ee_3
  refine b_aload_n 1 dX8_begins_20 rfl rfl ?_
  refine b_cvo (y := mX0_goesIn) (ci := 0) (r := (RX0, TX0, 14)) (e := e_3) (as := [.inr r1]) (st := []) (n := 1) rfl h.1 (Or.inr ⟨_, q1075⟩) qs10 q842 q69 q843 zmh_X0_goesIn rfl (Nat.le_of_ble_eq_true rfl) (Nat.le_of_ble_eq_true rfl) dX8_begins_21 (cq.mono h.2 (fun _ M_4 h => ?_))
  obtain ⟨rfl, h⟩ := h
  show wq (d + 11) mX8_begins 24 [(0, .inr r0), (1, .inr r1)] [] M_4 P
  exact b_vret rfl dX8_begins_24 (hP _ h)
def v_X8_due (d : Nat) (r0 : Nat × Nat) (r1 : Nat × Nat) (M : Mem) (Q : Mem → Prop) : Prop := kt r0.1 = 8 ∧ (∀ e_1 : Nat × Nat, e_1 = M.2.1 r0.1 r0.2 7 → (kt r1.1 = 16 ∧ (∀ e_2 : Nat × Nat, e_2 = M.2.1 r1.1 r1.2 7 → (lk e_2.1 ∧ (¬ (0 : Int32) < 0 ∧ (0 : Int32) < M.1 e_2.1 e_2.2 0) ∧ (∀ e_3 : Nat × Nat, e_3 = M.2.1 e_2.1 e_2.2 (0 : Int32).toNatClampNeg → (kt e_3.1 = 16 ∧ (kt e_1.1 = 0 ∧ (cq (d + 10) mX0_takeBack [.inr e_1, .inr e_3] M (fun r_ M_4 => ∃ r_5 : Int32, r_ = some (.inl r_5) ∧ (kt r1.1 = 16 ∧ (v_X16_isUnderWay r1 M_4 (fun r_7 M_6 => ((r_7 = 0) → (Q M_6)) ∧ ((¬ r_7 = 0) → (kt r0.1 = 8 ∧ (cq (d + 10) mX4_refuses [.inr r0, .inr r1, .inl 12] M_6 (fun r_ M_8 => r_ = none ∧ (Q M_8)))))))))))))))))
set_option maxHeartbeats 4000000 in
theorem sv_X8_due {d : Nat} {M : Mem} {P : Option AV → Mem → Prop} {Q : Mem → Prop} {r0 : Nat × Nat} {r1 : Nat × Nat} (hP : ∀ M, Q M → P none M) (h : v_X8_due d r0 r1 M Q) : cq (d + 11) mX8_due [.inr r0, .inr r1] M P := by
  refine cq_of (by decide) (Nat.le_of_ble_eq_true rfl) ?_
  show wq (d + 11) mX8_due 0 [(0, .inr r0), (1, .inr r1)] [] M P
  unfold v_X8_due at h
  refine b_aload_n 0 dX8_due_0 rfl rfl ?_
  refine b_gR (ci := 8) (r := (RX8, TX8, 8)) (f := 7) (by decide) rfl (by decide) rfl (Or.inl q495) (Or.inl rfl) h.1 dX8_due_1 ?_
  refine b_topr (fun e_1 ee_1 => ?_)
  replace h := h.2 e_1 ee_1
  refine b_aload_n 1 dX8_due_4 rfl rfl ?_
  refine b_gR (ci := 16) (r := (RX16, TX16, 17)) (f := 7) (by decide) rfl (by decide) rfl (Or.inr ⟨_, q752⟩) (Or.inl rfl) h.1 dX8_due_5 ?_
  refine b_topr (fun e_2 ee_2 => ?_)
  replace h := h.2 e_2 ee_2
  refine b_iconst (v := 0) dX8_due_8 (by decide) ?_
  refine b_lget (st := [.inr e_1]) h.1 h.2.1 (Or.inl q1204) (Nat.le_of_ble_eq_true rfl) dX8_due_9 ?_
  refine b_topr (fun e_3 ee_3 => ?_)
  replace h := h.2.2 e_3 ee_3
  refine b_ck (ci := 16) (r := (RX16, TX16, 17)) rfl q1205 h.1 dX8_due_12 ?_
  replace h := h.2
  refine b_cvo (y := mX0_takeBack) (ci := 0) (r := (RX0, TX0, 14)) (e := e_1) (as := [.inr e_3]) (st := []) (n := 1) rfl h.1 (Or.inr ⟨_, q1206⟩) qs18 q965 q69 q966 zmh_X0_takeBack rfl (Nat.le_of_ble_eq_true rfl) (Nat.le_of_ble_eq_true rfl) dX8_due_15 (cq.mono h.2 (fun _ M_4 h => ?_))
  obtain ⟨r_5, rfl, h⟩ := h
  show wq (d + 11) mX8_due 18 [(0, .inr r0), (1, .inr r1)] [.inl r_5] M_4 P
  refine b_pop dX8_due_18 ?_
  refine b_aload_n 1 dX8_due_19 rfl rfl ?_
  refine b_cvo (y := mX16_isUnderWay) (ci := 16) (r := (RX16, TX16, 17)) (e := r1) (as := []) (st := []) (n := 0) rfl h.1 (Or.inl q1207) q961 q960 q94 q962 zmh_X16_isUnderWay rfl (Nat.le_of_ble_eq_true rfl) (Nat.le_of_ble_eq_true rfl) dX8_due_20 (sv_X16_isUnderWay (fun r_7 M_6 h => ?_) h.2)
  show wq (d + 11) mX8_due 23 [(0, .inr r0), (1, .inr r1)] [.inl r_7] M_6 P
  refine b_if_eq (tgt := 33) dX8_due_23 (by decide) (fun c_10 => ?_) (fun c_10 => ?_)
  · replace h := h.1 c_10
    exact b_vret rfl dX8_due_33 (hP _ h)
  · replace h := h.2 c_10
    refine b_aload_n 0 dX8_due_26 rfl rfl ?_
    refine b_aload_n 1 dX8_due_27 rfl rfl ?_
    refine b_bipush (v := 12) dX8_due_28 (by decide) ?_
    refine b_i_refuses_Deadline (e := r0) (as := [.inr r1, .inl 12]) (st := []) h.1 q1208 rfl (Nat.le_of_ble_eq_true rfl) dX8_due_30 (cq.mono h.2 (fun _ M_8 h => ?_))
    obtain ⟨rfl, h⟩ := h
    show wq (d + 11) mX8_due 33 [(0, .inr r0), (1, .inr r1)] [] M_8 P
    exact b_vret rfl dX8_due_33 (hP _ h)
def v_X9_told_67 (d : Nat) : Nat → Nat × Nat → Nat × Nat → Nat × Nat → Int32 → Int32 → Mem → (Mem → Prop) → Prop
  | 0, _, _, _, _, _, _, _ => False
  | n + 1, r0, r1, r2, x3, x4, M, Q => (((x3 - 1) ≤ x4) → (kt r0.1 = 9 ∧ (∀ e_1 : Nat × Nat, e_1 = M.2.1 r0.1 r0.2 7 → (kt e_1.1 = 0 ∧ (cq (d + 10) mX0_alike [.inr e_1, .inr r1, .inr r2] M (fun r_ M_2 => r_ = none ∧ (Q M_2))))))) ∧ ((¬ (x3 - 1) ≤ x4) → (kt r2.1 = 16 ∧ (((¬ (M.1 r2.1 r2.2 11) = 2) → (kt r0.1 = 9 ∧ (∀ e_4 : Nat × Nat, e_4 = M.2.1 r0.1 r0.2 7 → (kt e_4.1 = 0 ∧ (cq (d + 10) mX0_alike [.inr e_4, .inr r1, .inr r2] M (fun r_ M_5 => r_ = none ∧ (Q M_5))))))) ∧ (((M.1 r2.1 r2.2 11) = 2) → (kt r1.1 = 16 ∧ (∀ e_7 : Nat × Nat, e_7 = M.2.1 r1.1 r1.2 7 → (lk e_7.1 ∧ (¬ x4 < 0 ∧ x4 < M.1 e_7.1 e_7.2 0) ∧ (∀ e_8 : Nat × Nat, e_8 = M.2.1 e_7.1 e_7.2 x4.toNatClampNeg → (kt e_8.1 = 16 ∧ (kt e_8.1 = 16 ∧ (∀ e_9 : Nat × Nat, e_9 = M.2.1 e_8.1 e_8.2 16 → (kt r2.1 = 16 ∧ (∀ e_10 : Nat × Nat, e_10 = M.2.1 r2.1 r2.2 16 → (kt e_9.1 = 17 ∧ (v_X17_suppressed e_9 e_10 M (fun M_11 => ∀ x_13 : Int32, x_13 = x4 + 1 → (v_X9_told_67 d n r0 r1 r2 x3 x_13 M_11 Q)))))))))))))))))
set_option maxHeartbeats 4000000 in
theorem sv_X9_told_67 {d : Nat} {P : Option AV → Mem → Prop} {Q : Mem → Prop} (hP : ∀ M, Q M → P none M) : ∀ (n : Nat) (r0 : Nat × Nat) (r1 : Nat × Nat) (r2 : Nat × Nat) (x3 : Int32) (x4 : Int32) (M : Mem), v_X9_told_67 d n r0 r1 r2 x3 x4 M Q → wq (d + 11) mX9_told 67 [(0, .inr r0), (1, .inr r1), (2, .inr r2), (3, .inl x3), (4, .inl x4)] [] M P := by
  intro n
  induction n with
  | zero => intro r0 r1 r2 x3 x4 M h; exact False.elim h
  | succ n ih =>
    intro r0 r1 r2 x3 x4 M h
    rw [v_X9_told_67] at h
    refine b_iload 4 dX9_told_67 rfl ?_
    refine b_iload_n 3 dX9_told_69 rfl rfl ?_
    refine b_iconst (v := 1) dX9_told_70 (by decide) ?_
    refine b_isub dX9_told_71 ?_
    refine b_icmp_ge (tgt := 111) dX9_told_72 (by decide) (fun c_15 => ?_) (fun c_15 => ?_)
    · replace h := h.1 c_15
      refine b_aload_n 0 dX9_told_111 rfl rfl ?_
      refine b_gR (ci := 9) (r := (RX9, TX9, 8)) (f := 7) (by decide) rfl (by decide) rfl (Or.inl q512) (Or.inl rfl) h.1 dX9_told_112 ?_
      refine b_topr (fun e_1 ee_1 => ?_)
      replace h := h.2 e_1 ee_1
      refine b_aload_n 1 dX9_told_115 rfl rfl ?_
      refine b_aload_n 2 dX9_told_116 rfl rfl ?_
      refine b_cvo (y := mX0_alike) (ci := 0) (r := (RX0, TX0, 14)) (e := e_1) (as := [.inr r1, .inr r2]) (st := []) (n := 2) rfl h.1 (Or.inr ⟨_, q1060⟩) qs14 q907 q69 q908 zmh_X0_alike rfl (Nat.le_of_ble_eq_true rfl) (Nat.le_of_ble_eq_true rfl) dX9_told_117 (cq.mono h.2 (fun _ M_2 h => ?_))
      obtain ⟨rfl, h⟩ := h
      show wq (d + 11) mX9_told 120 [(0, .inr r0), (1, .inr r1), (2, .inr r2), (3, .inl x3), (4, .inl x4)] [] M_2 P
      exact b_vret rfl dX9_told_120 (hP _ h)
    · replace h := h.2 c_15
      refine b_aload_n 2 dX9_told_75 rfl rfl ?_
      refine b_gI (ci := 16) (r := (RX16, TX16, 17)) (f := 11) (by decide) rfl (by decide) rfl (Or.inr ⟨_, q762⟩) (Or.inl rfl) h.1 dX9_told_76 ?_
      replace h := h.2
      refine b_iconst (v := 2) dX9_told_79 (by decide) ?_
      refine b_icmp_ne (tgt := 111) dX9_told_80 (by decide) (fun c_14 => ?_) (fun c_14 => ?_)
      · replace h := h.1 c_14
        refine b_aload_n 0 dX9_told_111 rfl rfl ?_
        refine b_gR (ci := 9) (r := (RX9, TX9, 8)) (f := 7) (by decide) rfl (by decide) rfl (Or.inl q512) (Or.inl rfl) h.1 dX9_told_112 ?_
        refine b_topr (fun e_4 ee_4 => ?_)
        replace h := h.2 e_4 ee_4
        refine b_aload_n 1 dX9_told_115 rfl rfl ?_
        refine b_aload_n 2 dX9_told_116 rfl rfl ?_
        refine b_cvo (y := mX0_alike) (ci := 0) (r := (RX0, TX0, 14)) (e := e_4) (as := [.inr r1, .inr r2]) (st := []) (n := 2) rfl h.1 (Or.inr ⟨_, q1060⟩) qs14 q907 q69 q908 zmh_X0_alike rfl (Nat.le_of_ble_eq_true rfl) (Nat.le_of_ble_eq_true rfl) dX9_told_117 (cq.mono h.2 (fun _ M_5 h => ?_))
        obtain ⟨rfl, h⟩ := h
        show wq (d + 11) mX9_told 120 [(0, .inr r0), (1, .inr r1), (2, .inr r2), (3, .inl x3), (4, .inl x4)] [] M_5 P
        exact b_vret rfl dX9_told_120 (hP _ h)
      · replace h := h.2 c_14
        refine b_aload_n 1 dX9_told_83 rfl rfl ?_
        refine b_gR (ci := 16) (r := (RX16, TX16, 17)) (f := 7) (by decide) rfl (by decide) rfl (Or.inr ⟨_, q750⟩) (Or.inl rfl) h.1 dX9_told_84 ?_
        refine b_topr (fun e_7 ee_7 => ?_)
        replace h := h.2 e_7 ee_7
        refine b_iload 4 dX9_told_87 rfl ?_
        refine b_lget (st := []) h.1 h.2.1 (Or.inl q1057) (Nat.le_of_ble_eq_true rfl) dX9_told_89 ?_
        refine b_topr (fun e_8 ee_8 => ?_)
        replace h := h.2.2 e_8 ee_8
        refine b_ck (ci := 16) (r := (RX16, TX16, 17)) rfl q1058 h.1 dX9_told_92 ?_
        replace h := h.2
        refine b_gR (ci := 16) (r := (RX16, TX16, 17)) (f := 16) (by decide) rfl (by decide) rfl (Or.inr ⟨_, q785⟩) (Or.inl rfl) h.1 dX9_told_95 ?_
        refine b_topr (fun e_9 ee_9 => ?_)
        replace h := h.2 e_9 ee_9
        refine b_aload_n 2 dX9_told_98 rfl rfl ?_
        refine b_gR (ci := 16) (r := (RX16, TX16, 17)) (f := 16) (by decide) rfl (by decide) rfl (Or.inr ⟨_, q785⟩) (Or.inl rfl) h.1 dX9_told_99 ?_
        refine b_topr (fun e_10 ee_10 => ?_)
        replace h := h.2 e_10 ee_10
        refine b_cvo (y := mX17_suppressed) (ci := 17) (r := (RX17, TX17, 7)) (e := e_9) (as := [.inr e_10]) (st := []) (n := 1) rfl h.1 (Or.inl q1059) q1039 q1038 q95 q1040 zmh_X17_suppressed rfl (Nat.le_of_ble_eq_true rfl) (Nat.le_of_ble_eq_true rfl) dX9_told_102 (sv_X17_suppressed (fun M_11 h => ?_) h.2)
        show wq (d + 11) mX9_told 105 [(0, .inr r0), (1, .inr r1), (2, .inr r2), (3, .inl x3), (4, .inl x4)] [] M_11 P
        obtain ⟨x_13, ex_13⟩ : ∃ y : Int32, y = x4 + 1 := ⟨_, rfl⟩
        replace h := h x_13 ex_13
        refine b_iinc (v := x_13) (lv' := [(4, .inl x_13), (0, .inr r0), (1, .inr r1), (2, .inr r2), (3, .inl x3)]) 4 dX9_told_105 rfl (by rw [ex_13]; rfl) (Nat.le_of_ble_eq_true rfl) rfl ?_
        refine b_goto (tgt := 67) dX9_told_108 (by decide) ?_
        exact b_sub (by simp) (ih r0 r1 r2 x3 x_13 M_11 h)
def v_X9_told (d : Nat) (r0 : Nat × Nat) (r1 : Nat × Nat) (r2 : Nat × Nat) (M : Mem) (Q : Mem → Prop) : Prop := kt r1.1 = 16 ∧ (∀ e_1 : Nat × Nat, e_1 = M.2.1 r1.1 r1.2 7 → (lk e_1.1 ∧ (∀ x_2 : Int32, x_2 = M.1 e_1.1 e_1.2 0 → (kt r0.1 = 9 ∧ (v_X4_names r0 r2 M (fun r_4 M_3 => ((r_4 = 0) → (∃ n, v_X9_told_67 d n r0 r1 r2 x_2 0 M_3 Q)) ∧ ((¬ r_4 = 0) → (kt r0.1 = 9 ∧ ((((M_3.1 r0.1 r0.2 2) ≤ x_2) → (∃ n, v_X9_told_67 d n r0 r1 r2 x_2 0 M_3 Q)) ∧ ((¬ (M_3.1 r0.1 r0.2 2) ≤ x_2) → (kt r1.1 = 16 ∧ (∀ M_5 : Mem, M_5 = sI M_3 r1.1 r1.2 14 2 → (kt r0.1 = 9 ∧ (∀ e_6 : Nat × Nat, e_6 = M_5.2.1 r0.1 r0.2 7 → (kt e_6.1 = 0 ∧ (kt r0.1 = 9 ∧ (((¬ (M_5.1 r0.1 r0.2 4) = 0) → (kt r0.1 = 9 ∧ (kt r1.1 = 16 ∧ (∀ M_7 : Mem, M_7 = sI M_5 r1.1 r1.2 15 ((M_5.1 e_6.1 e_6.2 0) + ((M_5.1 r0.1 r0.2 3) <<< ((x_2 - 1) &&& 31))) → (Q M_7))))) ∧ (((M_5.1 r0.1 r0.2 4) = 0) → (kt r0.1 = 9 ∧ (kt r1.1 = 16 ∧ (∀ M_8 : Mem, M_8 = sI M_5 r1.1 r1.2 15 ((M_5.1 e_6.1 e_6.2 0) + (M_5.1 r0.1 r0.2 3)) → (Q M_8))))))))))))))))))))))
set_option maxHeartbeats 4000000 in
theorem sv_X9_told {d : Nat} {M : Mem} {P : Option AV → Mem → Prop} {Q : Mem → Prop} {r0 : Nat × Nat} {r1 : Nat × Nat} {r2 : Nat × Nat} (hP : ∀ M, Q M → P none M) (h : v_X9_told d r0 r1 r2 M Q) : cq (d + 11) mX9_told [.inr r0, .inr r1, .inr r2] M P := by
  refine cq_of (by decide) (Nat.le_of_ble_eq_true rfl) ?_
  show wq (d + 11) mX9_told 0 [(0, .inr r0), (1, .inr r1), (2, .inr r2)] [] M P
  unfold v_X9_told at h
  refine b_aload_n 1 dX9_told_0 rfl rfl ?_
  refine b_gR (ci := 16) (r := (RX16, TX16, 17)) (f := 7) (by decide) rfl (by decide) rfl (Or.inr ⟨_, q750⟩) (Or.inl rfl) h.1 dX9_told_1 ?_
  refine b_topr (fun e_1 ee_1 => ?_)
  replace h := h.2 e_1 ee_1
  refine b_lsize (st := []) h.1 (Or.inl q1053) (Nat.le_of_ble_eq_true rfl) dX9_told_4 ?_
  replace h := h.2
  refine b_topi (fun x_2 ex_2 => ?_)
  replace h := h x_2 ex_2
  refine b_istore_n (lv' := [(3, .inl x_2), (0, .inr r0), (1, .inr r1), (2, .inr r2)]) dX9_told_7 rfl (Nat.le_of_ble_eq_true rfl) rfl ?_
  refine b_aload_n 1 dX9_told_8 rfl rfl ?_
  refine b_aload_n 3 dX9_told_9 rfl rfl ?_
  refine b_i_names_Retry (e := r0) (as := [.inr r2]) (st := []) h.1 q1054 rfl (Nat.le_of_ble_eq_true rfl) dX9_told_10 (sv_X4_names (fun r_4 M_3 h => ?_) h.2)
  show wq (d + 11) mX9_told 13 [(3, .inl x_2), (0, .inr r0), (1, .inr r1), (2, .inr r2)] [.inl r_4] M_3 P
  refine b_if_eq (tgt := 64) dX9_told_13 (by decide) (fun c_11 => ?_) (fun c_11 => ?_)
  · replace h := h.1 c_11
    refine b_iconst (v := 0) dX9_told_64 (by decide) ?_
    refine b_istore (lv' := [(4, .inl 0), (3, .inl x_2), (0, .inr r0), (1, .inr r1), (2, .inr r2)]) dX9_told_65 (Nat.le_of_ble_eq_true rfl) rfl ?_
    obtain ⟨n, h⟩ := h
    exact b_sub (by simp) (sv_X9_told_67 hP n r0 r1 r2 x_2 0 M_3 h)
  · replace h := h.2 c_11
    refine b_iload_n 0 dX9_told_16 rfl rfl ?_
    refine b_aload_n 1 dX9_told_17 rfl rfl ?_
    refine b_gI (ci := 9) (r := (RX9, TX9, 8)) (f := 2) (by decide) rfl (by decide) rfl (Or.inl q382) (Or.inr q383) h.1 dX9_told_18 ?_
    replace h := h.2
    refine b_icmp_ge (tgt := 64) dX9_told_21 (by decide) (fun c_10 => ?_) (fun c_10 => ?_)
    · replace h := h.1 c_10
      refine b_iconst (v := 0) dX9_told_64 (by decide) ?_
      refine b_istore (lv' := [(4, .inl 0), (3, .inl x_2), (0, .inr r0), (1, .inr r1), (2, .inr r2)]) dX9_told_65 (Nat.le_of_ble_eq_true rfl) rfl ?_
      obtain ⟨n, h⟩ := h
      exact b_sub (by simp) (sv_X9_told_67 hP n r0 r1 r2 x_2 0 M_3 h)
    · replace h := h.2 c_10
      refine b_aload_n 2 dX9_told_24 rfl rfl ?_
      refine b_iconst (v := 2) dX9_told_25 (by decide) ?_
      refine b_pI (ci := 16) (r := (RX16, TX16, 17)) (f := 14) (by decide) rfl (by decide) (Or.inr ⟨_, q774⟩) (Or.inl rfl) rfl (Or.inl rfl) h.1 dX9_told_26 ?_
      refine b_topm (fun M_5 eM_5 => ?_)
      replace h := h.2 M_5 eM_5
      refine b_aload_n 2 dX9_told_29 rfl rfl ?_
      refine b_aload_n 1 dX9_told_30 rfl rfl ?_
      refine b_gR (ci := 9) (r := (RX9, TX9, 8)) (f := 7) (by decide) rfl (by decide) rfl (Or.inl q512) (Or.inl rfl) h.1 dX9_told_31 ?_
      refine b_topr (fun e_6 ee_6 => ?_)
      replace h := h.2 e_6 ee_6
      refine b_gI (ci := 0) (r := (RX0, TX0, 14)) (f := 0) (by decide) rfl (by decide) rfl (Or.inr ⟨_, q142⟩) (Or.inl rfl) h.1 dX9_told_34 ?_
      replace h := h.2
      refine b_aload_n 1 dX9_told_37 rfl rfl ?_
      refine b_gI (ci := 9) (r := (RX9, TX9, 8)) (f := 4) (by decide) rfl (by decide) rfl (Or.inl q406) (Or.inr q407) h.1 dX9_told_38 ?_
      replace h := h.2
      refine b_if_ne (tgt := 51) dX9_told_41 (by decide) (fun c_9 => ?_) (fun c_9 => ?_)
      · replace h := h.1 c_9
        refine b_aload_n 1 dX9_told_51 rfl rfl ?_
        refine b_gI (ci := 9) (r := (RX9, TX9, 8)) (f := 3) (by decide) rfl (by decide) rfl (Or.inl q395) (Or.inr q396) h.1 dX9_told_52 ?_
        replace h := h.2
        refine b_iload_n 0 dX9_told_55 rfl rfl ?_
        refine b_iconst (v := 1) dX9_told_56 (by decide) ?_
        refine b_isub dX9_told_57 ?_
        refine b_ishl dX9_told_58 ?_
        refine b_iadd dX9_told_59 ?_
        refine b_pI (ci := 16) (r := (RX16, TX16, 17)) (f := 15) (by decide) rfl (by decide) (Or.inr ⟨_, q781⟩) (Or.inl rfl) rfl (Or.inl rfl) h.1 dX9_told_60 ?_
        refine b_topm (fun M_7 eM_7 => ?_)
        replace h := h.2 M_7 eM_7
        exact b_vret rfl dX9_told_63 (hP _ h)
      · replace h := h.2 c_9
        refine b_aload_n 1 dX9_told_44 rfl rfl ?_
        refine b_gI (ci := 9) (r := (RX9, TX9, 8)) (f := 3) (by decide) rfl (by decide) rfl (Or.inl q395) (Or.inr q396) h.1 dX9_told_45 ?_
        replace h := h.2
        refine b_goto (tgt := 59) dX9_told_48 (by decide) ?_
        refine b_iadd dX9_told_59 ?_
        refine b_pI (ci := 16) (r := (RX16, TX16, 17)) (f := 15) (by decide) rfl (by decide) (Or.inr ⟨_, q781⟩) (Or.inl rfl) rfl (Or.inl rfl) h.1 dX9_told_60 ?_
        refine b_topm (fun M_8 eM_8 => ?_)
        replace h := h.2 M_8 eM_8
        exact b_vret rfl dX9_told_63 (hP _ h)
