set_option maxRecDepth 100000
def v_X0_cancel (d : Nat) (r0 : Nat × Nat) (x1 : Int32) (M : Mem) (Q : Int32 → Mem → Prop) : Prop := kt r0.1 = 0 ∧ (∀ e_1 : Nat × Nat, e_1 = M.2.1 r0.1 r0.2 8 → ((v_X0_has e_1 x1 M (fun r_3 M_2 => ((¬ r_3 = 0) → (kt r0.1 = 0 ∧ (∀ e_4 : Nat × Nat, e_4 = M_2.2.1 r0.1 r0.2 8 → (lk e_4.1 ∧ (¬ x1 < 0 ∧ x1 < M_2.1 e_4.1 e_4.2 0) ∧ (∀ e_5 : Nat × Nat, e_5 = M_2.2.1 e_4.1 e_4.2 x1.toNatClampNeg → (kt e_5.1 = 15 ∧ (kt e_5.1 = 15 ∧ (v_X15_outcome e_5 M_2 (fun r_7 M_6 => ((r_7 = 0) → (kt e_5.1 = 15 ∧ (∀ M_8 : Mem, M_8 = sI M_6 e_5.1 e_5.2 8 1 → (kt r0.1 = 0 ∧ (kt e_5.1 = 15 ∧ (∀ M_9 : Mem, M_9 = sI M_8 e_5.1 e_5.2 9 (M_8.1 r0.1 r0.2 0) → (kt e_5.1 = 15 ∧ (∀ e_10 : Nat × Nat, e_10 = M_9.2.1 e_5.1 e_5.2 7 → (kt r0.1 = 0 ∧ (cq (d + 10) mX0_takeBack [.inr r0, .inr e_10] M_9 (fun r_ M_11 => ∃ r_12 : Int32, r_ = some (.inl r_12) ∧ (Q r_12 M_11)))))))))))) ∧ ((¬ r_7 = 0) → (Q (-4) M_6))))))))))) ∧ ((r_3 = 0) → (Q (-1) M_2))))))
set_option maxHeartbeats 4000000 in
theorem sv_X0_cancel {d : Nat} {M : Mem} {P : Option AV → Mem → Prop} {Q : Int32 → Mem → Prop} {r0 : Nat × Nat} {x1 : Int32} (hP : ∀ r M, Q r M → P (some (.inl r)) M) (h : v_X0_cancel d r0 x1 M Q) : cq (d + 11) mX0_cancel [.inr r0, .inl x1] M P := by
  refine cq_of (by decide) (Nat.le_of_ble_eq_true rfl) ?_
  show wq (d + 11) mX0_cancel 0 [(0, .inr r0), (1, .inl x1)] [] M P
  unfold v_X0_cancel at h
  refine b_aload_n 0 dX0_cancel_0 rfl rfl ?_
  refine b_gR (ci := 0) (r := (RX0, TX0, 14)) (f := 8) (by decide) rfl (by decide) rfl (Or.inl q157) (Or.inl rfl) h.1 dX0_cancel_1 ?_
  refine b_topr (fun e_1 ee_1 => ?_)
  replace h := h.2 e_1 ee_1
  refine b_iload_n 1 dX0_cancel_4 rfl rfl ?_
  refine b_cs (y := mX0_has) (as := [.inr e_1, .inl x1]) (st := []) (n := 2) (Or.inl q332) q333 q69 q334 zmh_X0_has rfl (Nat.le_of_ble_eq_true rfl) (Nat.le_of_ble_eq_true rfl) dX0_cancel_5 (sv_X0_has (fun r_3 M_2 h => ?_) h)
  show wq (d + 11) mX0_cancel 8 [(0, .inr r0), (1, .inl x1)] [.inl r_3] M_2 P
  refine b_if_ne (tgt := 13) dX0_cancel_8 (by decide) (fun c_14 => ?_) (fun c_14 => ?_)
  · replace h := h.1 c_14
    refine b_aload_n 0 dX0_cancel_13 rfl rfl ?_
    refine b_gR (ci := 0) (r := (RX0, TX0, 14)) (f := 8) (by decide) rfl (by decide) rfl (Or.inl q157) (Or.inl rfl) h.1 dX0_cancel_14 ?_
    refine b_topr (fun e_4 ee_4 => ?_)
    replace h := h.2 e_4 ee_4
    refine b_iload_n 1 dX0_cancel_17 rfl rfl ?_
    refine b_lget (st := []) h.1 h.2.1 (Or.inl q624) (Nat.le_of_ble_eq_true rfl) dX0_cancel_18 ?_
    refine b_topr (fun e_5 ee_5 => ?_)
    replace h := h.2.2 e_5 ee_5
    refine b_ck (ci := 15) (r := (RX15, TX15, 10)) rfl q656 h.1 dX0_cancel_21 ?_
    replace h := h.2
    refine b_astore_n (lv' := [(2, .inr e_5), (0, .inr r0), (1, .inl x1)]) dX0_cancel_24 rfl (Nat.le_of_ble_eq_true rfl) rfl ?_
    refine b_aload_n 0 dX0_cancel_25 rfl rfl ?_
    refine b_cvo (y := mX15_outcome) (ci := 15) (r := (RX15, TX15, 10)) (e := e_5) (as := []) (st := []) (n := 0) rfl h.1 (Or.inl q1120) q1122 q1121 q93 q1123 zmh_X15_outcome rfl (Nat.le_of_ble_eq_true rfl) (Nat.le_of_ble_eq_true rfl) dX0_cancel_26 (sv_X15_outcome (fun r_7 M_6 h => ?_) h.2)
    show wq (d + 11) mX0_cancel 29 [(2, .inr e_5), (0, .inr r0), (1, .inl x1)] [.inl r_7] M_6 P
    refine b_if_eq (tgt := 35) dX0_cancel_29 (by decide) (fun c_13 => ?_) (fun c_13 => ?_)
    · replace h := h.1 c_13
      refine b_aload_n 0 dX0_cancel_35 rfl rfl ?_
      refine b_iconst (v := 1) dX0_cancel_36 (by decide) ?_
      refine b_pI (ci := 15) (r := (RX15, TX15, 10)) (f := 8) (by decide) rfl (by decide) (Or.inr ⟨_, q685⟩) (Or.inl rfl) rfl (Or.inr ⟨rfl, by decide⟩) h.1 dX0_cancel_37 ?_
      refine b_topm (fun M_8 eM_8 => ?_)
      replace h := h.2 M_8 eM_8
      refine b_aload_n 0 dX0_cancel_40 rfl rfl ?_
      refine b_aload_n 1 dX0_cancel_41 rfl rfl ?_
      refine b_gI (ci := 0) (r := (RX0, TX0, 14)) (f := 0) (by decide) rfl (by decide) rfl (Or.inl q144) (Or.inl rfl) h.1 dX0_cancel_42 ?_
      replace h := h.2
      refine b_pI (ci := 15) (r := (RX15, TX15, 10)) (f := 9) (by decide) rfl (by decide) (Or.inr ⟨_, q687⟩) (Or.inl rfl) rfl (Or.inl rfl) h.1 dX0_cancel_45 ?_
      refine b_topm (fun M_9 eM_9 => ?_)
      replace h := h.2 M_9 eM_9
      refine b_aload_n 1 dX0_cancel_48 rfl rfl ?_
      refine b_aload_n 0 dX0_cancel_49 rfl rfl ?_
      refine b_gR (ci := 15) (r := (RX15, TX15, 10)) (f := 7) (by decide) rfl (by decide) rfl (Or.inr ⟨_, q683⟩) (Or.inl rfl) h.1 dX0_cancel_50 ?_
      refine b_topr (fun e_10 ee_10 => ?_)
      replace h := h.2 e_10 ee_10
      refine b_cvo (y := mX0_takeBack) (ci := 0) (r := (RX0, TX0, 14)) (e := r0) (as := [.inr e_10]) (st := []) (n := 1) rfl h.1 (Or.inl q1124) qs18 q965 q69 q966 zmh_X0_takeBack rfl (Nat.le_of_ble_eq_true rfl) (Nat.le_of_ble_eq_true rfl) dX0_cancel_53 (cq.mono h.2 (fun _ M_11 h => ?_))
      obtain ⟨r_12, rfl, h⟩ := h
      show wq (d + 11) mX0_cancel 56 [(2, .inr e_5), (0, .inr r0), (1, .inl x1)] [.inl r_12] M_11 P
      exact b_iret rfl dX0_cancel_56 (hP _ _ h)
    · replace h := h.2 c_13
      refine b_bipush (v := (-4)) dX0_cancel_32 (by decide) ?_
      exact b_iret rfl dX0_cancel_34 (hP _ _ h)
  · replace h := h.2 c_14
    refine b_iconst (v := (-1)) dX0_cancel_11 (by decide) ?_
    exact b_iret rfl dX0_cancel_12 (hP _ _ h)
def v_X0_second_20 (d : Nat) : Nat → Nat × Nat → Int32 → Int32 → Mem → (Int32 → Mem → Prop) → Prop
  | 0, _, _, _, _, _ => False
  | n + 1, r0, x1, x2, M, Q => ((x1 ≤ x2) → (kt r0.1 = 0 ∧ (Q (M.1 r0.1 r0.2 1) M))) ∧ ((¬ x1 ≤ x2) → (kt r0.1 = 0 ∧ (cq (d + 10) mX0_pass [.inr r0] M (fun r_ M_1 => r_ = none ∧ (∀ x_3 : Int32, x_3 = x2 + 1 → (v_X0_second_20 d n r0 x1 x_3 M_1 Q))))))
set_option maxHeartbeats 4000000 in
theorem sv_X0_second_20 {d : Nat} {P : Option AV → Mem → Prop} {Q : Int32 → Mem → Prop} (hP : ∀ r M, Q r M → P (some (.inl r)) M) : ∀ (n : Nat) (r0 : Nat × Nat) (x1 : Int32) (x2 : Int32) (M : Mem), v_X0_second_20 d n r0 x1 x2 M Q → wq (d + 11) mX0_second 20 [(0, .inr r0), (1, .inl x1), (2, .inl x2)] [] M P := by
  intro n
  induction n with
  | zero => intro r0 x1 x2 M h; exact False.elim h
  | succ n ih =>
    intro r0 x1 x2 M h
    rw [v_X0_second_20] at h
    refine b_iload_n 2 dX0_second_20 rfl rfl ?_
    refine b_iload_n 1 dX0_second_21 rfl rfl ?_
    refine b_icmp_ge (tgt := 35) dX0_second_22 (by decide) (fun c_4 => ?_) (fun c_4 => ?_)
    · replace h := h.1 c_4
      refine b_aload_n 0 dX0_second_35 rfl rfl ?_
      refine b_gI (ci := 0) (r := (RX0, TX0, 14)) (f := 1) (by decide) rfl (by decide) rfl (Or.inl q146) (Or.inl rfl) h.1 dX0_second_36 ?_
      replace h := h.2
      exact b_iret rfl dX0_second_39 (hP _ _ h)
    · replace h := h.2 c_4
      refine b_aload_n 0 dX0_second_25 rfl rfl ?_
      refine b_cvo (y := mX0_pass) (ci := 0) (r := (RX0, TX0, 14)) (e := r0) (as := []) (st := []) (n := 0) rfl h.1 (Or.inl q1129) qs21 q1131 q69 q1132 zmh_X0_pass rfl (Nat.le_of_ble_eq_true rfl) (Nat.le_of_ble_eq_true rfl) dX0_second_26 (cq.mono h.2 (fun _ M_1 h => ?_))
      obtain ⟨rfl, h⟩ := h
      show wq (d + 11) mX0_second 29 [(0, .inr r0), (1, .inl x1), (2, .inl x2)] [] M_1 P
      obtain ⟨x_3, ex_3⟩ : ∃ y : Int32, y = x2 + 1 := ⟨_, rfl⟩
      replace h := h x_3 ex_3
      refine b_iinc (v := x_3) (lv' := [(2, .inl x_3), (0, .inr r0), (1, .inl x1)]) 2 dX0_second_29 rfl (by rw [ex_3]; rfl) (Nat.le_of_ble_eq_true rfl) rfl ?_
      refine b_goto (tgt := 20) dX0_second_32 (by decide) ?_
      exact b_sub (by simp) (ih r0 x1 x_3 M_1 h)
def v_X0_second (d : Nat) (r0 : Nat × Nat) (x1 : Int32) (M : Mem) (Q : Int32 → Mem → Prop) : Prop := (v_X0_in x1 1 100 M (fun r_2 M_1 => ((¬ r_2 = 0) → (kt r0.1 = 0 ∧ (∀ M_3 : Mem, M_3 = sI M_1 r0.1 r0.2 1 0 → (∃ n, v_X0_second_20 d n r0 x1 0 M_3 Q)))) ∧ ((r_2 = 0) → (Q (-2) M_1))))
set_option maxHeartbeats 4000000 in
theorem sv_X0_second {d : Nat} {M : Mem} {P : Option AV → Mem → Prop} {Q : Int32 → Mem → Prop} {r0 : Nat × Nat} {x1 : Int32} (hP : ∀ r M, Q r M → P (some (.inl r)) M) (h : v_X0_second d r0 x1 M Q) : cq (d + 11) mX0_second [.inr r0, .inl x1] M P := by
  refine cq_of (by decide) (Nat.le_of_ble_eq_true rfl) ?_
  show wq (d + 11) mX0_second 0 [(0, .inr r0), (1, .inl x1)] [] M P
  unfold v_X0_second at h
  refine b_iload_n 1 dX0_second_0 rfl rfl ?_
  refine b_iconst (v := 1) dX0_second_1 (by decide) ?_
  refine b_bipush (v := 100) dX0_second_2 (by decide) ?_
  refine b_cs (y := mX0_in) (as := [.inl x1, .inl 1, .inl 100]) (st := []) (n := 3) (Or.inl q198) q199 q69 q200 zmh_X0_in rfl (Nat.le_of_ble_eq_true rfl) (Nat.le_of_ble_eq_true rfl) dX0_second_4 (sv_X0_in (fun r_2 M_1 h => ?_) h)
  show wq (d + 11) mX0_second 7 [(0, .inr r0), (1, .inl x1)] [.inl r_2] M_1 P
  refine b_if_ne (tgt := 13) dX0_second_7 (by decide) (fun c_4 => ?_) (fun c_4 => ?_)
  · replace h := h.1 c_4
    refine b_aload_n 0 dX0_second_13 rfl rfl ?_
    refine b_iconst (v := 0) dX0_second_14 (by decide) ?_
    refine b_pI (ci := 0) (r := (RX0, TX0, 14)) (f := 1) (by decide) rfl (by decide) (Or.inl q146) (Or.inl rfl) rfl (Or.inl rfl) h.1 dX0_second_15 ?_
    refine b_topm (fun M_3 eM_3 => ?_)
    replace h := h.2 M_3 eM_3
    refine b_iconst (v := 0) dX0_second_18 (by decide) ?_
    refine b_istore_n (lv' := [(2, .inl 0), (0, .inr r0), (1, .inl x1)]) dX0_second_19 rfl (Nat.le_of_ble_eq_true rfl) rfl ?_
    obtain ⟨n, h⟩ := h
    exact b_sub (by simp) (sv_X0_second_20 hP n r0 x1 0 M_3 h)
  · replace h := h.2 c_4
    refine b_bipush (v := (-2)) dX0_second_10 (by decide) ?_
    exact b_iret rfl dX0_second_12 (hP _ _ h)
def v_X7_newSecond (r0 : Nat × Nat) (M : Mem) (Q : Mem → Prop) : Prop := kt r0.1 = 7 ∧ (kt r0.1 = 7 ∧ (kt r0.1 = 7 ∧ (kt r0.1 = 7 ∧ (∀ M_1 : Mem, M_1 = sI M r0.1 r0.2 7 (if ((M.1 r0.1 r0.2 7) + (M.1 r0.1 r0.2 3)) < (M.1 r0.1 r0.2 2) then ((M.1 r0.1 r0.2 7) + (M.1 r0.1 r0.2 3)) else (M.1 r0.1 r0.2 2)) → (Q M_1)))))
set_option maxHeartbeats 4000000 in
theorem sv_X7_newSecond {d : Nat} {M : Mem} {P : Option AV → Mem → Prop} {Q : Mem → Prop} {r0 : Nat × Nat} (hP : ∀ M, Q M → P none M) (h : v_X7_newSecond r0 M Q) : cq (d + 1) mX7_newSecond [.inr r0] M P := by
  refine cq_of (by decide) (Nat.le_of_ble_eq_true rfl) ?_
  show wq (d + 1) mX7_newSecond 0 [(0, .inr r0)] [] M P
  unfold v_X7_newSecond at h
  refine b_aload_n 0 dX7_newSecond_0 rfl rfl ?_
  refine b_aload_n 0 dX7_newSecond_1 rfl rfl ?_
  refine b_gI (ci := 7) (r := (RX7, TX7, 9)) (f := 2) (by decide) rfl (by decide) rfl (Or.inl q375) (Or.inr q376) h.1 dX7_newSecond_2 ?_
  replace h := h.2
  refine b_aload_n 0 dX7_newSecond_5 rfl rfl ?_
  refine b_gI (ci := 7) (r := (RX7, TX7, 9)) (f := 7) (by decide) rfl (by decide) rfl (Or.inl q474) (Or.inl rfl) h.1 dX7_newSecond_6 ?_
  replace h := h.2
  refine b_aload_n 0 dX7_newSecond_9 rfl rfl ?_
  refine b_gI (ci := 7) (r := (RX7, TX7, 9)) (f := 3) (by decide) rfl (by decide) rfl (Or.inl q399) (Or.inr q400) h.1 dX7_newSecond_10 ?_
  replace h := h.2
  refine b_iadd dX7_newSecond_13 ?_
  refine b_mmin q1145 (Nat.le_of_ble_eq_true rfl) dX7_newSecond_14 ?_
  refine b_pI (ci := 7) (r := (RX7, TX7, 9)) (f := 7) (by decide) rfl (by decide) (Or.inl q474) (Or.inl rfl) rfl (Or.inl rfl) h.1 dX7_newSecond_17 ?_
  refine b_topm (fun M_1 eM_1 => ?_)
  replace h := h.2 M_1 eM_1
  exact b_vret rfl dX7_newSecond_20 (hP _ h)
def v_X4_newSecond (r0 : Nat × Nat) (M : Mem) (Q : Mem → Prop) : Prop := Q M
set_option maxHeartbeats 4000000 in
theorem sv_X4_newSecond {d : Nat} {M : Mem} {P : Option AV → Mem → Prop} {Q : Mem → Prop} {r0 : Nat × Nat} (hP : ∀ M, Q M → P none M) (h : v_X4_newSecond r0 M Q) : cq d mX4_newSecond [.inr r0] M P := by
  refine cq_of (by decide) (Nat.le_of_ble_eq_true rfl) ?_
  show wq d mX4_newSecond 0 [(0, .inr r0)] [] M P
  unfold v_X4_newSecond at h
  exact b_vret rfl dX4_newSecond_0 (hP _ h)
def v_newSecond (r0 : Nat × Nat) (M : Mem) (Q : Mem → Prop) : Prop := (r0.1 = 12 → v_X7_newSecond r0 M Q) ∧ (¬ r0.1 = 12 → Q M)
theorem sv_newSecond {d : Nat} {M : Mem} {P : Option AV → Mem → Prop} {Q : Mem → Prop} {r0 : Nat × Nat} (hP : ∀ M, Q M → P none M) (hk : gk r0.1) (h : v_newSecond r0 M Q) : cq (d + 1) (vt_newSecond r0.1) [.inr r0] M P := by
  obtain ⟨k, i⟩ := r0
  have h12 := h.1
  have hn := h.2
  dsimp only at hk h12 hn
  rcases gkc hk with e | e | e | e | e | e | e | e | e | e <;> subst e
  all_goals first
    | exact sv_X7_newSecond hP (h12 rfl)
    | exact sv_X4_newSecond hP (hn (by decide))
def v_X21_is (r0 : Nat × Nat) (M : Mem) (Q : Int32 → Mem → Prop) : Prop := kt r0.1 = 21 ∧ (∀ e_1 : Nat × Nat, e_1 = M.2.1 r0.1 r0.2 4 → (kt e_1.1 = 5 ∧ (((¬ (M.1 e_1.1 e_1.2 7) = 1) → (Q 0 M)) ∧ (((M.1 e_1.1 e_1.2 7) = 1) → (Q 1 M)))))
set_option maxHeartbeats 4000000 in
theorem sv_X21_is {d : Nat} {M : Mem} {P : Option AV → Mem → Prop} {Q : Int32 → Mem → Prop} {r0 : Nat × Nat} (hP : ∀ r M, Q r M → P (some (.inl r)) M) (h : v_X21_is r0 M Q) : cq d mX21_is [.inr r0] M P := by
  refine cq_of (by decide) (Nat.le_of_ble_eq_true rfl) ?_
  show wq d mX21_is 0 [(0, .inr r0)] [] M P
  unfold v_X21_is at h
  refine b_aload_n 0 dX21_is_0 rfl rfl ?_
  refine b_gR (ci := 21) (r := (RX21, TX21, 6)) (f := 4) (by decide) rfl (by decide) rfl (Or.inl q1359) (Or.inl rfl) h.1 dX21_is_1 ?_
  refine b_topr (fun e_1 ee_1 => ?_)
  replace h := h.2 e_1 ee_1
  refine b_gI (ci := 5) (r := (RX5, TX5, 12)) (f := 7) (by decide) rfl (by decide) rfl (Or.inr ⟨_, q361⟩) (Or.inl rfl) h.1 dX21_is_4 ?_
  replace h := h.2
  refine b_iconst (v := 1) dX21_is_7 (by decide) ?_
  refine b_icmp_ne (tgt := 15) dX21_is_8 (by decide) (fun c_2 => ?_) (fun c_2 => ?_)
  · replace h := h.1 c_2
    refine b_iconst (v := 0) dX21_is_15 (by decide) ?_
    exact b_zret rfl (by decide) dX21_is_16 (hP _ _ h)
  · replace h := h.2 c_2
    refine b_iconst (v := 1) dX21_is_11 (by decide) ?_
    refine b_goto (tgt := 16) dX21_is_12 (by decide) ?_
    exact b_zret rfl (by decide) dX21_is_16 (hP _ _ h)
def v_X22_is (r0 : Nat × Nat) (M : Mem) (Q : Int32 → Mem → Prop) : Prop := kt r0.1 = 22 ∧ (∀ e_1 : Nat × Nat, e_1 = M.2.1 r0.1 r0.2 4 → (kt e_1.1 = 2 ∧ (kt r0.1 = 22 ∧ ((((M.1 r0.1 r0.2 5) ≤ (M.1 e_1.1 e_1.2 2)) → (Q 0 M)) ∧ ((¬ (M.1 r0.1 r0.2 5) ≤ (M.1 e_1.1 e_1.2 2)) → (Q 1 M))))))
set_option maxHeartbeats 4000000 in
theorem sv_X22_is {d : Nat} {M : Mem} {P : Option AV → Mem → Prop} {Q : Int32 → Mem → Prop} {r0 : Nat × Nat} (hP : ∀ r M, Q r M → P (some (.inl r)) M) (h : v_X22_is r0 M Q) : cq d mX22_is [.inr r0] M P := by
  refine cq_of (by decide) (Nat.le_of_ble_eq_true rfl) ?_
  show wq d mX22_is 0 [(0, .inr r0)] [] M P
  unfold v_X22_is at h
  refine b_aload_n 0 dX22_is_0 rfl rfl ?_
  refine b_gR (ci := 22) (r := (RX22, TX22, 7)) (f := 4) (by decide) rfl (by decide) rfl (Or.inl q1387) (Or.inl rfl) h.1 dX22_is_1 ?_
  refine b_topr (fun e_1 ee_1 => ?_)
  replace h := h.2 e_1 ee_1
  refine b_gI (ci := 2) (r := (RX2, TX2, 3)) (f := 2) (by decide) rfl (by decide) rfl (Or.inr ⟨_, q216⟩) (Or.inl rfl) h.1 dX22_is_4 ?_
  replace h := h.2
  refine b_aload_n 0 dX22_is_7 rfl rfl ?_
  refine b_gI (ci := 22) (r := (RX22, TX22, 7)) (f := 5) (by decide) rfl (by decide) rfl (Or.inl q1388) (Or.inl rfl) h.1 dX22_is_8 ?_
  replace h := h.2
  refine b_icmp_ge (tgt := 18) dX22_is_11 (by decide) (fun c_2 => ?_) (fun c_2 => ?_)
  · replace h := h.1 c_2
    refine b_iconst (v := 0) dX22_is_18 (by decide) ?_
    exact b_zret rfl (by decide) dX22_is_19 (hP _ _ h)
  · replace h := h.2 c_2
    refine b_iconst (v := 1) dX22_is_14 (by decide) ?_
    refine b_goto (tgt := 19) dX22_is_15 (by decide) ?_
    exact b_zret rfl (by decide) dX22_is_19 (hP _ _ h)
def v_X23_is (r0 : Nat × Nat) (M : Mem) (Q : Int32 → Mem → Prop) : Prop := kt r0.1 = 23 ∧ (∀ e_1 : Nat × Nat, e_1 = M.2.1 r0.1 r0.2 4 → (kt e_1.1 = 6 ∧ (∀ e_2 : Nat × Nat, e_2 = M.2.1 e_1.1 e_1.2 7 → (lk e_2.1 ∧ (kt r0.1 = 23 ∧ ((((M.1 e_2.1 e_2.2 0) < (M.1 r0.1 r0.2 5)) → (Q 0 M)) ∧ ((¬ (M.1 e_2.1 e_2.2 0) < (M.1 r0.1 r0.2 5)) → (Q 1 M))))))))
set_option maxHeartbeats 4000000 in
theorem sv_X23_is {d : Nat} {M : Mem} {P : Option AV → Mem → Prop} {Q : Int32 → Mem → Prop} {r0 : Nat × Nat} (hP : ∀ r M, Q r M → P (some (.inl r)) M) (h : v_X23_is r0 M Q) : cq (d + 2) mX23_is [.inr r0] M P := by
  refine cq_of (by decide) (Nat.le_of_ble_eq_true rfl) ?_
  show wq (d + 2) mX23_is 0 [(0, .inr r0)] [] M P
  unfold v_X23_is at h
  refine b_aload_n 0 dX23_is_0 rfl rfl ?_
  refine b_gR (ci := 23) (r := (RX23, TX23, 7)) (f := 4) (by decide) rfl (by decide) rfl (Or.inl q1407) (Or.inl rfl) h.1 dX23_is_1 ?_
  refine b_topr (fun e_1 ee_1 => ?_)
  replace h := h.2 e_1 ee_1
  refine b_gR (ci := 6) (r := (RX6, TX6, 11)) (f := 7) (by decide) rfl (by decide) rfl (Or.inr ⟨_, q445⟩) (Or.inl rfl) h.1 dX23_is_4 ?_
  refine b_topr (fun e_2 ee_2 => ?_)
  replace h := h.2 e_2 ee_2
  refine b_lsize (st := []) h.1 (Or.inl q1272) (Nat.le_of_ble_eq_true rfl) dX23_is_7 ?_
  replace h := h.2
  refine b_aload_n 0 dX23_is_10 rfl rfl ?_
  refine b_gI (ci := 23) (r := (RX23, TX23, 7)) (f := 5) (by decide) rfl (by decide) rfl (Or.inl q1408) (Or.inl rfl) h.1 dX23_is_11 ?_
  replace h := h.2
  refine b_icmp_lt (tgt := 21) dX23_is_14 (by decide) (fun c_3 => ?_) (fun c_3 => ?_)
  · replace h := h.1 c_3
    refine b_iconst (v := 0) dX23_is_21 (by decide) ?_
    exact b_zret rfl (by decide) dX23_is_22 (hP _ _ h)
  · replace h := h.2 c_3
    refine b_iconst (v := 1) dX23_is_17 (by decide) ?_
    refine b_goto (tgt := 22) dX23_is_18 (by decide) ?_
    exact b_zret rfl (by decide) dX23_is_22 (hP _ _ h)
def v_X24_is_2 : Nat → Nat × Nat → Int32 → Mem → (Int32 → Mem → Prop) → Prop
  | 0, _, _, _, _ => False
  | n + 1, r0, x1, M, Q => kt r0.1 = 24 ∧ (∀ e_1 : Nat × Nat, e_1 = M.2.1 r0.1 r0.2 5 → (kt e_1.1 = 0 ∧ (∀ e_2 : Nat × Nat, e_2 = M.2.1 e_1.1 e_1.2 8 → (lk e_2.1 ∧ ((((M.1 e_2.1 e_2.2 0) ≤ x1) → (Q 0 M)) ∧ ((¬ (M.1 e_2.1 e_2.2 0) ≤ x1) → (kt r0.1 = 24 ∧ (∀ e_3 : Nat × Nat, e_3 = M.2.1 r0.1 r0.2 5 → (kt e_3.1 = 0 ∧ (∀ e_4 : Nat × Nat, e_4 = M.2.1 e_3.1 e_3.2 8 → (lk e_4.1 ∧ (¬ x1 < 0 ∧ x1 < M.1 e_4.1 e_4.2 0) ∧ (∀ e_5 : Nat × Nat, e_5 = M.2.1 e_4.1 e_4.2 x1.toNatClampNeg → (kt e_5.1 = 15 ∧ (kt e_5.1 = 15 ∧ (v_X15_outcome e_5 M (fun r_7 M_6 => ((¬ r_7 = 0) → (∀ x_8 : Int32, x_8 = x1 + 1 → (v_X24_is_2 n r0 x_8 M_6 Q))) ∧ ((r_7 = 0) → (kt r0.1 = 24 ∧ (∀ e_9 : Nat × Nat, e_9 = M_6.2.1 r0.1 r0.2 5 → (kt e_9.1 = 0 ∧ (kt r0.1 = 24 ∧ (∀ e_10 : Nat × Nat, e_10 = M_6.2.1 r0.1 r0.2 5 → (kt e_10.1 = 0 ∧ (∀ e_11 : Nat × Nat, e_11 = M_6.2.1 e_10.1 e_10.2 8 → (lk e_11.1 ∧ (¬ x1 < 0 ∧ x1 < M_6.1 e_11.1 e_11.2 0) ∧ (∀ e_12 : Nat × Nat, e_12 = M_6.2.1 e_11.1 e_11.2 x1.toNatClampNeg → (kt e_12.1 = 15 ∧ (kt e_12.1 = 15 ∧ (kt r0.1 = 24 ∧ (((((M_6.1 e_9.1 e_9.2 0) - (M_6.1 e_12.1 e_12.2 5)) ≤ (M_6.1 r0.1 r0.2 4)) → (∀ x_13 : Int32, x_13 = x1 + 1 → (v_X24_is_2 n r0 x_13 M_6 Q))) ∧ ((¬ ((M_6.1 e_9.1 e_9.2 0) - (M_6.1 e_12.1 e_12.2 5)) ≤ (M_6.1 r0.1 r0.2 4)) → (Q 1 M_6))))))))))))))))))))))))))))))))
set_option maxHeartbeats 4000000 in
theorem sv_X24_is_2 {d : Nat} {P : Option AV → Mem → Prop} {Q : Int32 → Mem → Prop} (hP : ∀ r M, Q r M → P (some (.inl r)) M) : ∀ (n : Nat) (r0 : Nat × Nat) (x1 : Int32) (M : Mem), v_X24_is_2 n r0 x1 M Q → wq (d + 4) mX24_is 2 [(0, .inr r0), (1, .inl x1)] [] M P := by
  intro n
  induction n with
  | zero => intro r0 x1 M h; exact False.elim h
  | succ n ih =>
    intro r0 x1 M h
    rw [v_X24_is_2] at h
    refine b_iload_n 1 dX24_is_2 rfl rfl ?_
    refine b_aload_n 0 dX24_is_3 rfl rfl ?_
    refine b_gR (ci := 24) (r := (RX24, TX24, 6)) (f := 5) (by decide) rfl (by decide) rfl (Or.inl q1428) (Or.inl rfl) h.1 dX24_is_4 ?_
    refine b_topr (fun e_1 ee_1 => ?_)
    replace h := h.2 e_1 ee_1
    refine b_gR (ci := 0) (r := (RX0, TX0, 14)) (f := 8) (by decide) rfl (by decide) rfl (Or.inr ⟨_, q155⟩) (Or.inl rfl) h.1 dX24_is_7 ?_
    refine b_topr (fun e_2 ee_2 => ?_)
    replace h := h.2 e_2 ee_2
    refine b_lsize (st := [.inl x1]) h.1 (Or.inl q1259) (Nat.le_of_ble_eq_true rfl) dX24_is_10 ?_
    replace h := h.2
    refine b_icmp_ge (tgt := 76) dX24_is_13 (by decide) (fun c_16 => ?_) (fun c_16 => ?_)
    · replace h := h.1 c_16
      refine b_iconst (v := 0) dX24_is_76 (by decide) ?_
      exact b_zret rfl (by decide) dX24_is_77 (hP _ _ h)
    · replace h := h.2 c_16
      refine b_aload_n 0 dX24_is_16 rfl rfl ?_
      refine b_gR (ci := 24) (r := (RX24, TX24, 6)) (f := 5) (by decide) rfl (by decide) rfl (Or.inl q1428) (Or.inl rfl) h.1 dX24_is_17 ?_
      refine b_topr (fun e_3 ee_3 => ?_)
      replace h := h.2 e_3 ee_3
      refine b_gR (ci := 0) (r := (RX0, TX0, 14)) (f := 8) (by decide) rfl (by decide) rfl (Or.inr ⟨_, q155⟩) (Or.inl rfl) h.1 dX24_is_20 ?_
      refine b_topr (fun e_4 ee_4 => ?_)
      replace h := h.2 e_4 ee_4
      refine b_iload_n 1 dX24_is_23 rfl rfl ?_
      refine b_lget (st := []) h.1 h.2.1 (Or.inl q1260) (Nat.le_of_ble_eq_true rfl) dX24_is_24 ?_
      refine b_topr (fun e_5 ee_5 => ?_)
      replace h := h.2.2 e_5 ee_5
      refine b_ck (ci := 15) (r := (RX15, TX15, 10)) rfl q1261 h.1 dX24_is_27 ?_
      replace h := h.2
      refine b_cvo (y := mX15_outcome) (ci := 15) (r := (RX15, TX15, 10)) (e := e_5) (as := []) (st := []) (n := 0) rfl h.1 (Or.inl q1262) q1122 q1121 q93 q1123 zmh_X15_outcome rfl (Nat.le_of_ble_eq_true rfl) (Nat.le_of_ble_eq_true rfl) dX24_is_30 (sv_X15_outcome (fun r_7 M_6 h => ?_) h.2)
      show wq (d + 4) mX24_is 33 [(0, .inr r0), (1, .inl x1)] [.inl r_7] M_6 P
      refine b_if_ne (tgt := 70) dX24_is_33 (by decide) (fun c_15 => ?_) (fun c_15 => ?_)
      · replace h := h.1 c_15
        obtain ⟨x_8, ex_8⟩ : ∃ y : Int32, y = x1 + 1 := ⟨_, rfl⟩
        replace h := h x_8 ex_8
        refine b_iinc (v := x_8) (lv' := [(1, .inl x_8), (0, .inr r0)]) 1 dX24_is_70 rfl (by rw [ex_8]; rfl) (Nat.le_of_ble_eq_true rfl) rfl ?_
        refine b_goto (tgt := 2) dX24_is_73 (by decide) ?_
        exact b_sub (by simp) (ih r0 x_8 M_6 h)
      · replace h := h.2 c_15
        refine b_aload_n 0 dX24_is_36 rfl rfl ?_
        refine b_gR (ci := 24) (r := (RX24, TX24, 6)) (f := 5) (by decide) rfl (by decide) rfl (Or.inl q1428) (Or.inl rfl) h.1 dX24_is_37 ?_
        refine b_topr (fun e_9 ee_9 => ?_)
        replace h := h.2 e_9 ee_9
        refine b_gI (ci := 0) (r := (RX0, TX0, 14)) (f := 0) (by decide) rfl (by decide) rfl (Or.inr ⟨_, q143⟩) (Or.inl rfl) h.1 dX24_is_40 ?_
        replace h := h.2
        refine b_aload_n 0 dX24_is_43 rfl rfl ?_
        refine b_gR (ci := 24) (r := (RX24, TX24, 6)) (f := 5) (by decide) rfl (by decide) rfl (Or.inl q1428) (Or.inl rfl) h.1 dX24_is_44 ?_
        refine b_topr (fun e_10 ee_10 => ?_)
        replace h := h.2 e_10 ee_10
        refine b_gR (ci := 0) (r := (RX0, TX0, 14)) (f := 8) (by decide) rfl (by decide) rfl (Or.inr ⟨_, q155⟩) (Or.inl rfl) h.1 dX24_is_47 ?_
        refine b_topr (fun e_11 ee_11 => ?_)
        replace h := h.2 e_11 ee_11
        refine b_iload_n 1 dX24_is_50 rfl rfl ?_
        refine b_lget (st := [.inl (M_6.1 e_9.1 e_9.2 0)]) h.1 h.2.1 (Or.inl q1260) (Nat.le_of_ble_eq_true rfl) dX24_is_51 ?_
        refine b_topr (fun e_12 ee_12 => ?_)
        replace h := h.2.2 e_12 ee_12
        refine b_ck (ci := 15) (r := (RX15, TX15, 10)) rfl q1261 h.1 dX24_is_54 ?_
        replace h := h.2
        refine b_gI (ci := 15) (r := (RX15, TX15, 10)) (f := 5) (by decide) rfl (by decide) rfl (Or.inr ⟨_, q678⟩) (Or.inl rfl) h.1 dX24_is_57 ?_
        replace h := h.2
        refine b_isub dX24_is_60 ?_
        refine b_aload_n 0 dX24_is_61 rfl rfl ?_
        refine b_gI (ci := 24) (r := (RX24, TX24, 6)) (f := 4) (by decide) rfl (by decide) rfl (Or.inl q1427) (Or.inl rfl) h.1 dX24_is_62 ?_
        replace h := h.2
        refine b_icmp_le (tgt := 70) dX24_is_65 (by decide) (fun c_14 => ?_) (fun c_14 => ?_)
        · replace h := h.1 c_14
          obtain ⟨x_13, ex_13⟩ : ∃ y : Int32, y = x1 + 1 := ⟨_, rfl⟩
          replace h := h x_13 ex_13
          refine b_iinc (v := x_13) (lv' := [(1, .inl x_13), (0, .inr r0)]) 1 dX24_is_70 rfl (by rw [ex_13]; rfl) (Nat.le_of_ble_eq_true rfl) rfl ?_
          refine b_goto (tgt := 2) dX24_is_73 (by decide) ?_
          exact b_sub (by simp) (ih r0 x_13 M_6 h)
        · replace h := h.2 c_14
          refine b_iconst (v := 1) dX24_is_68 (by decide) ?_
          exact b_zret rfl (by decide) dX24_is_69 (hP _ _ h)
def v_X24_is (r0 : Nat × Nat) (M : Mem) (Q : Int32 → Mem → Prop) : Prop := ∃ n, v_X24_is_2 n r0 0 M Q
set_option maxHeartbeats 4000000 in
theorem sv_X24_is {d : Nat} {M : Mem} {P : Option AV → Mem → Prop} {Q : Int32 → Mem → Prop} {r0 : Nat × Nat} (hP : ∀ r M, Q r M → P (some (.inl r)) M) (h : v_X24_is r0 M Q) : cq (d + 4) mX24_is [.inr r0] M P := by
  refine cq_of (by decide) (Nat.le_of_ble_eq_true rfl) ?_
  show wq (d + 4) mX24_is 0 [(0, .inr r0)] [] M P
  unfold v_X24_is at h
  refine b_iconst (v := 0) dX24_is_0 (by decide) ?_
  refine b_istore_n (lv' := [(1, .inl 0), (0, .inr r0)]) dX24_is_1 rfl (Nat.le_of_ble_eq_true rfl) rfl ?_
  obtain ⟨n, h⟩ := h
  exact b_sub (by simp) (sv_X24_is_2 hP n r0 0 M h)
def v_is (r0 : Nat × Nat) (M : Mem) (Q : Int32 → Mem → Prop) : Prop := (r0.1 = 25 → v_X21_is r0 M Q) ∧ (r0.1 = 26 → v_X22_is r0 M Q) ∧ (r0.1 = 27 → v_X23_is r0 M Q) ∧ (r0.1 = 28 → v_X24_is r0 M Q)
theorem sv_is {d : Nat} {M : Mem} {P : Option AV → Mem → Prop} {Q : Int32 → Mem → Prop} {r0 : Nat × Nat} (hP : ∀ r M, Q r M → P (some (.inl r)) M) (hk : ak r0.1) (h : v_is r0 M Q) : cq (d + 4) (vt_is r0.1) [.inr r0] M P := by
  obtain ⟨k, i⟩ := r0
  obtain ⟨h1, h2, h3, h4⟩ := h
  dsimp only at hk h1 h2 h3 h4
  rcases akc hk with e | e | e | e <;> subst e
  · exact sv_X21_is hP (h1 rfl)
  · exact sv_X22_is hP (h2 rfl)
  · exact sv_X23_is hP (h3 rfl)
  · exact sv_X24_is hP (h4 rfl)
def v_X20_look (r0 : Nat × Nat) (M : Mem) (Q : Mem → Prop) : Prop := ak r0.1 ∧ (v_is r0 M (fun r_2 M_1 => ((r_2 = 0) → (ak r0.1 ∧ (v_is r0 M_1 (fun r_4 M_3 => (r_4 = 0 ∨ r_4 = 1) ∧ ak r0.1 ∧ (∀ M_5 : Mem, M_5 = sI M_3 r0.1 r0.2 0 r_4 → (Q M_5)))))) ∧ ((¬ r_2 = 0) → (ak r0.1 ∧ (((¬ (M_1.1 r0.1 r0.2 0) = 0) → (ak r0.1 ∧ (v_is r0 M_1 (fun r_7 M_6 => (r_7 = 0 ∨ r_7 = 1) ∧ ak r0.1 ∧ (∀ M_8 : Mem, M_8 = sI M_6 r0.1 r0.2 0 r_7 → (Q M_8)))))) ∧ (((M_1.1 r0.1 r0.2 0) = 0) → (ak r0.1 ∧ (ak r0.1 ∧ (∀ M_9 : Mem, M_9 = sI M_1 r0.1 r0.2 1 ((M_1.1 r0.1 r0.2 1) + 1) → (ak r0.1 ∧ (∀ e_10 : Nat × Nat, e_10 = M_9.2.1 r0.1 r0.2 3 → (kt e_10.1 = 0 ∧ (ak r0.1 ∧ (∀ M_11 : Mem, M_11 = sI M_9 r0.1 r0.2 2 (M_9.1 e_10.1 e_10.2 0) → (ak r0.1 ∧ (v_is r0 M_11 (fun r_13 M_12 => (r_13 = 0 ∨ r_13 = 1) ∧ ak r0.1 ∧ (∀ M_14 : Mem, M_14 = sI M_12 r0.1 r0.2 0 r_13 → (Q M_14)))))))))))))))))))
set_option maxHeartbeats 4000000 in
theorem sv_X20_look {d : Nat} {M : Mem} {P : Option AV → Mem → Prop} {Q : Mem → Prop} {r0 : Nat × Nat} (hP : ∀ M, Q M → P none M) (h : v_X20_look r0 M Q) : cq (d + 5) mX20_look [.inr r0] M P := by
  refine cq_of (by decide) (Nat.le_of_ble_eq_true rfl) ?_
  show wq (d + 5) mX20_look 0 [(0, .inr r0)] [] M P
  unfold v_X20_look at h
  refine b_aload_n 0 dX20_look_0 rfl rfl ?_
  refine b_d_is (st := []) h.1 q1253 (Nat.le_of_ble_eq_true rfl) dX20_look_1 (sv_is (fun r_2 M_1 h => ?_) h.1 h.2)
  show wq (d + 5) mX20_look 4 [(0, .inr r0)] [.inl r_2] M_1 P
  refine b_if_eq (tgt := 35) dX20_look_4 (by decide) (fun c_16 => ?_) (fun c_16 => ?_)
  · replace h := h.1 c_16
    refine b_aload_n 0 dX20_look_35 rfl rfl ?_
    refine b_aload_n 0 dX20_look_36 rfl rfl ?_
    refine b_d_is (st := [.inr r0]) h.1 q1253 (Nat.le_of_ble_eq_true rfl) dX20_look_37 (sv_is (fun r_4 M_3 h => ?_) h.1 h.2)
    show wq (d + 5) mX20_look 40 [(0, .inr r0)] [.inl r_4, .inr r0] M_3 P
    refine b_pIk (f := 0) (by decide) (Or.inl q1361) (Or.inl rfl) rfl (Or.inr ⟨rfl, h.1⟩) h.2.1 dX20_look_40 ?_
    refine b_topm (fun M_5 eM_5 => ?_)
    replace h := h.2.2 M_5 eM_5
    exact b_vret rfl dX20_look_43 (hP _ h)
  · replace h := h.2 c_16
    refine b_aload_n 0 dX20_look_7 rfl rfl ?_
    refine b_gIk (f := 0) (by decide) (Or.inl q1361) (Or.inl rfl) h.1 dX20_look_8 ?_
    replace h := h.2
    refine b_if_ne (tgt := 35) dX20_look_11 (by decide) (fun c_15 => ?_) (fun c_15 => ?_)
    · replace h := h.1 c_15
      refine b_aload_n 0 dX20_look_35 rfl rfl ?_
      refine b_aload_n 0 dX20_look_36 rfl rfl ?_
      refine b_d_is (st := [.inr r0]) h.1 q1253 (Nat.le_of_ble_eq_true rfl) dX20_look_37 (sv_is (fun r_7 M_6 h => ?_) h.1 h.2)
      show wq (d + 5) mX20_look 40 [(0, .inr r0)] [.inl r_7, .inr r0] M_6 P
      refine b_pIk (f := 0) (by decide) (Or.inl q1361) (Or.inl rfl) rfl (Or.inr ⟨rfl, h.1⟩) h.2.1 dX20_look_40 ?_
      refine b_topm (fun M_8 eM_8 => ?_)
      replace h := h.2.2 M_8 eM_8
      exact b_vret rfl dX20_look_43 (hP _ h)
    · replace h := h.2 c_15
      refine b_aload_n 0 dX20_look_14 rfl rfl ?_
      refine b_dup dX20_look_15 ?_
      refine b_gIk (f := 1) (by decide) (Or.inl q1363) (Or.inl rfl) h.1 dX20_look_16 ?_
      replace h := h.2
      refine b_iconst (v := 1) dX20_look_19 (by decide) ?_
      refine b_iadd dX20_look_20 ?_
      refine b_pIk (f := 1) (by decide) (Or.inl q1363) (Or.inl rfl) rfl (Or.inl rfl) h.1 dX20_look_21 ?_
      refine b_topm (fun M_9 eM_9 => ?_)
      replace h := h.2 M_9 eM_9
      refine b_aload_n 0 dX20_look_24 rfl rfl ?_
      refine b_aload_n 0 dX20_look_25 rfl rfl ?_
      refine b_gRk (f := 3) (by decide) (Or.inl q1367) (Or.inl rfl) h.1 dX20_look_26 ?_
      refine b_topr (fun e_10 ee_10 => ?_)
      replace h := h.2 e_10 ee_10
      refine b_gI (ci := 0) (r := (RX0, TX0, 14)) (f := 0) (by decide) rfl (by decide) rfl (Or.inr ⟨_, q145⟩) (Or.inl rfl) h.1 dX20_look_29 ?_
      replace h := h.2
      refine b_pIk (f := 2) (by decide) (Or.inl q1365) (Or.inl rfl) rfl (Or.inl rfl) h.1 dX20_look_32 ?_
      refine b_topm (fun M_11 eM_11 => ?_)
      replace h := h.2 M_11 eM_11
      refine b_aload_n 0 dX20_look_35 rfl rfl ?_
      refine b_aload_n 0 dX20_look_36 rfl rfl ?_
      refine b_d_is (st := [.inr r0]) h.1 q1253 (Nat.le_of_ble_eq_true rfl) dX20_look_37 (sv_is (fun r_13 M_12 h => ?_) h.1 h.2)
      show wq (d + 5) mX20_look 40 [(0, .inr r0)] [.inl r_13, .inr r0] M_12 P
      refine b_pIk (f := 0) (by decide) (Or.inl q1361) (Or.inl rfl) rfl (Or.inr ⟨rfl, h.1⟩) h.2.1 dX20_look_40 ?_
      refine b_topm (fun M_14 eM_14 => ?_)
      replace h := h.2.2 M_14 eM_14
      exact b_vret rfl dX20_look_43 (hP _ h)
def v_X0_pass_226 (d : Nat) : Nat → Nat × Nat → Int32 → Mem → (Mem → Prop) → Prop
  | 0, _, _, _, _ => False
  | n + 1, r0, x1, M, Q => kt r0.1 = 0 ∧ (∀ e_1 : Nat × Nat, e_1 = M.2.1 r0.1 r0.2 13 → (lk e_1.1 ∧ ((((M.1 e_1.1 e_1.2 0) ≤ x1) → (Q M)) ∧ ((¬ (M.1 e_1.1 e_1.2 0) ≤ x1) → (kt r0.1 = 0 ∧ (∀ e_2 : Nat × Nat, e_2 = M.2.1 r0.1 r0.2 13 → (lk e_2.1 ∧ (¬ x1 < 0 ∧ x1 < M.1 e_2.1 e_2.2 0) ∧ (∀ e_3 : Nat × Nat, e_3 = M.2.1 e_2.1 e_2.2 x1.toNatClampNeg → (ak e_3.1 ∧ (ak e_3.1 ∧ (v_X20_look e_3 M (fun M_4 => ∀ x_6 : Int32, x_6 = x1 + 1 → (v_X0_pass_226 d n r0 x_6 M_4 Q)))))))))))))
set_option maxHeartbeats 4000000 in
theorem sv_X0_pass_226 {d : Nat} {P : Option AV → Mem → Prop} {Q : Mem → Prop} (hP : ∀ M, Q M → P none M) : ∀ (n : Nat) (r0 : Nat × Nat) (x1 : Int32) (M : Mem), v_X0_pass_226 d n r0 x1 M Q → wq (d + 11) mX0_pass 226 [(0, .inr r0), (1, .inl x1)] [] M P := by
  intro n
  induction n with
  | zero => intro r0 x1 M h; exact False.elim h
  | succ n ih =>
    intro r0 x1 M h
    rw [v_X0_pass_226] at h
    refine b_iload_n 1 dX0_pass_226 rfl rfl ?_
    refine b_aload_n 0 dX0_pass_227 rfl rfl ?_
    refine b_gR (ci := 0) (r := (RX0, TX0, 14)) (f := 13) (by decide) rfl (by decide) rfl (Or.inl q163) (Or.inl rfl) h.1 dX0_pass_228 ?_
    refine b_topr (fun e_1 ee_1 => ?_)
    replace h := h.2 e_1 ee_1
    refine b_lsize (st := [.inl x1]) h.1 (Or.inl q201) (Nat.le_of_ble_eq_true rfl) dX0_pass_231 ?_
    replace h := h.2
    refine b_icmp_ge (tgt := 257) dX0_pass_234 (by decide) (fun c_7 => ?_) (fun c_7 => ?_)
    · replace h := h.1 c_7
      exact b_vret rfl dX0_pass_257 (hP _ h)
    · replace h := h.2 c_7
      refine b_aload_n 0 dX0_pass_237 rfl rfl ?_
      refine b_gR (ci := 0) (r := (RX0, TX0, 14)) (f := 13) (by decide) rfl (by decide) rfl (Or.inl q163) (Or.inl rfl) h.1 dX0_pass_238 ?_
      refine b_topr (fun e_2 ee_2 => ?_)
      replace h := h.2 e_2 ee_2
      refine b_iload_n 1 dX0_pass_241 rfl rfl ?_
      refine b_lget (st := []) h.1 h.2.1 (Or.inl q624) (Nat.le_of_ble_eq_true rfl) dX0_pass_242 ?_
      refine b_topr (fun e_3 ee_3 => ?_)
      replace h := h.2.2 e_3 ee_3
      refine b_ckk q1244 h.1 dX0_pass_245 ?_
      replace h := h.2
      refine b_i_look_Alarm (e := e_3) (as := []) (st := []) h.1 q1245 rfl (Nat.le_of_ble_eq_true rfl) dX0_pass_248 (sv_X20_look (fun M_4 h => ?_) h.2)
      show wq (d + 11) mX0_pass 251 [(0, .inr r0), (1, .inl x1)] [] M_4 P
      obtain ⟨x_6, ex_6⟩ : ∃ y : Int32, y = x1 + 1 := ⟨_, rfl⟩
      replace h := h x_6 ex_6
      refine b_iinc (v := x_6) (lv' := [(1, .inl x_6), (0, .inr r0)]) 1 dX0_pass_251 rfl (by rw [ex_6]; rfl) (Nat.le_of_ble_eq_true rfl) rfl ?_
      refine b_goto (tgt := 226) dX0_pass_254 (by decide) ?_
      exact b_sub (by simp) (ih r0 x_6 M_4 h)
def v_X0_pass_193 (d : Nat) : Nat → Nat × Nat → Int32 → Mem → (Mem → Prop) → Prop
  | 0, _, _, _, _ => False
  | n + 1, r0, x1, M, Q => kt r0.1 = 0 ∧ (∀ e_1 : Nat × Nat, e_1 = M.2.1 r0.1 r0.2 12 → (lk e_1.1 ∧ ((((M.1 e_1.1 e_1.2 0) ≤ x1) → (∃ n, v_X0_pass_226 d n r0 0 M Q)) ∧ ((¬ (M.1 e_1.1 e_1.2 0) ≤ x1) → (kt r0.1 = 0 ∧ (∀ e_2 : Nat × Nat, e_2 = M.2.1 r0.1 r0.2 12 → (lk e_2.1 ∧ (¬ x1 < 0 ∧ x1 < M.1 e_2.1 e_2.2 0) ∧ (∀ e_3 : Nat × Nat, e_3 = M.2.1 e_2.1 e_2.2 x1.toNatClampNeg → (kt e_3.1 = 19 ∧ (kt e_3.1 = 19 ∧ (cq (d + 10) mX19_pass [.inr e_3] M (fun r_ M_4 => r_ = none ∧ (∀ x_6 : Int32, x_6 = x1 + 1 → (v_X0_pass_193 d n r0 x_6 M_4 Q))))))))))))))
set_option maxHeartbeats 4000000 in
theorem sv_X0_pass_193 {d : Nat} {P : Option AV → Mem → Prop} {Q : Mem → Prop} (hP : ∀ M, Q M → P none M) : ∀ (n : Nat) (r0 : Nat × Nat) (x1 : Int32) (M : Mem), v_X0_pass_193 d n r0 x1 M Q → wq (d + 11) mX0_pass 193 [(0, .inr r0), (1, .inl x1)] [] M P := by
  intro n
  induction n with
  | zero => intro r0 x1 M h; exact False.elim h
  | succ n ih =>
    intro r0 x1 M h
    rw [v_X0_pass_193] at h
    refine b_iload_n 1 dX0_pass_193 rfl rfl ?_
    refine b_aload_n 0 dX0_pass_194 rfl rfl ?_
    refine b_gR (ci := 0) (r := (RX0, TX0, 14)) (f := 12) (by decide) rfl (by decide) rfl (Or.inl q162) (Or.inl rfl) h.1 dX0_pass_195 ?_
    refine b_topr (fun e_1 ee_1 => ?_)
    replace h := h.2 e_1 ee_1
    refine b_lsize (st := [.inl x1]) h.1 (Or.inl q201) (Nat.le_of_ble_eq_true rfl) dX0_pass_198 ?_
    replace h := h.2
    refine b_icmp_ge (tgt := 224) dX0_pass_201 (by decide) (fun c_7 => ?_) (fun c_7 => ?_)
    · replace h := h.1 c_7
      refine b_iconst (v := 0) dX0_pass_224 (by decide) ?_
      refine b_istore_n (lv' := [(1, .inl 0), (0, .inr r0)]) dX0_pass_225 rfl (Nat.le_of_ble_eq_true rfl) rfl ?_
      obtain ⟨n, h⟩ := h
      exact b_sub (by simp) (sv_X0_pass_226 hP n r0 0 M h)
    · replace h := h.2 c_7
      refine b_aload_n 0 dX0_pass_204 rfl rfl ?_
      refine b_gR (ci := 0) (r := (RX0, TX0, 14)) (f := 12) (by decide) rfl (by decide) rfl (Or.inl q162) (Or.inl rfl) h.1 dX0_pass_205 ?_
      refine b_topr (fun e_2 ee_2 => ?_)
      replace h := h.2 e_2 ee_2
      refine b_iload_n 1 dX0_pass_208 rfl rfl ?_
      refine b_lget (st := []) h.1 h.2.1 (Or.inl q624) (Nat.le_of_ble_eq_true rfl) dX0_pass_209 ?_
      refine b_topr (fun e_3 ee_3 => ?_)
      replace h := h.2.2 e_3 ee_3
      refine b_ck (ci := 19) (r := (RX19, TX19, 14)) rfl q1234 h.1 dX0_pass_212 ?_
      replace h := h.2
      refine b_cvo (y := mX19_pass) (ci := 19) (r := (RX19, TX19, 14)) (e := e_3) (as := []) (st := []) (n := 0) rfl h.1 (Or.inl q1235) q1237 q1236 q97 q1238 zmh_X19_pass rfl (Nat.le_of_ble_eq_true rfl) (Nat.le_of_ble_eq_true rfl) dX0_pass_215 (cq.mono h.2 (fun _ M_4 h => ?_))
      obtain ⟨rfl, h⟩ := h
      show wq (d + 11) mX0_pass 218 [(0, .inr r0), (1, .inl x1)] [] M_4 P
      obtain ⟨x_6, ex_6⟩ : ∃ y : Int32, y = x1 + 1 := ⟨_, rfl⟩
      replace h := h x_6 ex_6
      refine b_iinc (v := x_6) (lv' := [(1, .inl x_6), (0, .inr r0)]) 1 dX0_pass_218 rfl (by rw [ex_6]; rfl) (Nat.le_of_ble_eq_true rfl) rfl ?_
      refine b_goto (tgt := 193) dX0_pass_221 (by decide) ?_
      exact b_sub (by simp) (ih r0 x_6 M_4 h)
def v_X0_pass_149 (d : Nat) : Nat → Nat × Nat → Int32 → Mem → (Mem → Prop) → Prop
  | 0, _, _, _, _ => False
  | n + 1, r0, x2, M, Q => kt r0.1 = 0 ∧ (∀ e_1 : Nat × Nat, e_1 = M.2.1 r0.1 r0.2 5 → (lk e_1.1 ∧ ((((M.1 e_1.1 e_1.2 0) ≤ x2) → (∃ n, v_X0_pass_193 d n r0 0 M Q)) ∧ ((¬ (M.1 e_1.1 e_1.2 0) ≤ x2) → (kt r0.1 = 0 ∧ (∀ e_2 : Nat × Nat, e_2 = M.2.1 r0.1 r0.2 5 → (lk e_2.1 ∧ (¬ x2 < 0 ∧ x2 < M.1 e_2.1 e_2.2 0) ∧ (∀ e_3 : Nat × Nat, e_3 = M.2.1 e_2.1 e_2.2 x2.toNatClampNeg → (gk e_3.1 ∧ ((kt e_3.1 = 6) → (kt e_3.1 = 6 ∧ (kt e_3.1 = 6 ∧ (cq (d + 10) mX6_letsIn [.inr e_3] M (fun r_ M_5 => r_ = none ∧ (∀ x_7 : Int32, x_7 = x2 + 1 → (v_X0_pass_149 d n r0 x_7 M_5 Q))))))) ∧ (¬ (kt e_3.1 = 6) → (∀ x_9 : Int32, x_9 = x2 + 1 → (v_X0_pass_149 d n r0 x_9 M Q))))))))))))
set_option maxHeartbeats 4000000 in
theorem sv_X0_pass_149 {d : Nat} {P : Option AV → Mem → Prop} {Q : Mem → Prop} (hP : ∀ M, Q M → P none M) : ∀ (n : Nat) (r0 : Nat × Nat) (x2 : Int32) (M : Mem), v_X0_pass_149 d n r0 x2 M Q → wq (d + 11) mX0_pass 149 [(0, .inr r0), (2, .inl x2)] [] M P := by
  intro n
  induction n with
  | zero => intro r0 x2 M h; exact False.elim h
  | succ n ih =>
    intro r0 x2 M h
    rw [v_X0_pass_149] at h
    refine b_iload_n 1 dX0_pass_149 rfl rfl ?_
    refine b_aload_n 0 dX0_pass_150 rfl rfl ?_
    refine b_gR (ci := 0) (r := (RX0, TX0, 14)) (f := 5) (by decide) rfl (by decide) rfl (Or.inl q152) (Or.inl rfl) h.1 dX0_pass_151 ?_
    refine b_topr (fun e_1 ee_1 => ?_)
    replace h := h.2 e_1 ee_1
    refine b_lsize (st := [.inl x2]) h.1 (Or.inl q201) (Nat.le_of_ble_eq_true rfl) dX0_pass_154 ?_
    replace h := h.2
    refine b_icmp_ge (tgt := 191) dX0_pass_157 (by decide) (fun c_15 => ?_) (fun c_15 => ?_)
    · replace h := h.1 c_15
      refine b_iconst (v := 0) dX0_pass_191 (by decide) ?_
      refine b_istore_n (lv' := [(1, .inl 0), (0, .inr r0), (2, .inl x2)]) dX0_pass_192 rfl (Nat.le_of_ble_eq_true rfl) rfl ?_
      obtain ⟨n, h⟩ := h
      exact b_sub (by simp) (sv_X0_pass_193 hP n r0 0 M h)
    · replace h := h.2 c_15
      refine b_aload_n 0 dX0_pass_160 rfl rfl ?_
      refine b_gR (ci := 0) (r := (RX0, TX0, 14)) (f := 5) (by decide) rfl (by decide) rfl (Or.inl q152) (Or.inl rfl) h.1 dX0_pass_161 ?_
      refine b_topr (fun e_2 ee_2 => ?_)
      replace h := h.2 e_2 ee_2
      refine b_iload_n 1 dX0_pass_164 rfl rfl ?_
      refine b_lget (st := []) h.1 h.2.1 (Or.inl q624) (Nat.le_of_ble_eq_true rfl) dX0_pass_165 ?_
      refine b_topr (fun e_3 ee_3 => ?_)
      replace h := h.2.2 e_3 ee_3
      refine b_astore_n (lv' := [(3, .inr e_3), (0, .inr r0), (2, .inl x2)]) dX0_pass_168 rfl (Nat.le_of_ble_eq_true rfl) rfl ?_
      refine b_aload_n 0 dX0_pass_169 rfl rfl ?_
      refine b_iso (ci := 6) (r := (RX6, TX6, 11)) rfl (by decide) q436 h.1 dX0_pass_170 (fun c_14 => ?_) (fun c_14 => ?_)
      · replace h := h.2.1 c_14
        refine b_if_eq (tgt := 185) dX0_pass_173 (by decide) (fun c_8 => ?_) (fun c_8 => ?_)
        · exact absurd c_8 (by decide)
        · skip
          refine b_aload_n 0 dX0_pass_176 rfl rfl ?_
          refine b_ck (ci := 6) (r := (RX6, TX6, 11)) rfl q436 h.1 dX0_pass_177 ?_
          replace h := h.2
          refine b_astore_n (lv' := [(1, .inr e_3), (3, .inr e_3), (0, .inr r0), (2, .inl x2)]) dX0_pass_180 rfl (Nat.le_of_ble_eq_true rfl) rfl ?_
          refine b_aload_n 0 dX0_pass_181 rfl rfl ?_
          refine b_cvo (y := mX6_letsIn) (ci := 6) (r := (RX6, TX6, 11)) (e := e_3) (as := []) (st := []) (n := 0) rfl h.1 (Or.inl q1225) q1227 q1226 q82 q1228 zmh_X6_letsIn rfl (Nat.le_of_ble_eq_true rfl) (Nat.le_of_ble_eq_true rfl) dX0_pass_182 (cq.mono h.2 (fun _ M_5 h => ?_))
          obtain ⟨rfl, h⟩ := h
          show wq (d + 11) mX0_pass 185 [(1, .inr e_3), (3, .inr e_3), (0, .inr r0), (2, .inl x2)] [] M_5 P
          obtain ⟨x_7, ex_7⟩ : ∃ y : Int32, y = x2 + 1 := ⟨_, rfl⟩
          replace h := h x_7 ex_7
          refine b_iinc (v := x_7) (lv' := [(2, .inl x_7), (1, .inr e_3), (3, .inr e_3), (0, .inr r0)]) 3 dX0_pass_185 rfl (by rw [ex_7]; rfl) (Nat.le_of_ble_eq_true rfl) rfl ?_
          refine b_goto (tgt := 149) dX0_pass_188 (by decide) ?_
          exact b_sub (by simp) (ih r0 x_7 M_5 h)
      · replace h := h.2.2 c_14
        refine b_if_eq (tgt := 185) dX0_pass_173 (by decide) (fun c_13 => ?_) (fun c_13 => ?_)
        · skip
          obtain ⟨x_9, ex_9⟩ : ∃ y : Int32, y = x2 + 1 := ⟨_, rfl⟩
          replace h := h x_9 ex_9
          refine b_iinc (v := x_9) (lv' := [(2, .inl x_9), (3, .inr e_3), (0, .inr r0)]) 2 dX0_pass_185 rfl (by rw [ex_9]; rfl) (Nat.le_of_ble_eq_true rfl) rfl ?_
          refine b_goto (tgt := 149) dX0_pass_188 (by decide) ?_
          exact b_sub (by simp) (ih r0 x_9 M h)
        · exact absurd c_13 (by decide)
def v_X0_pass_45 (d : Nat) : Nat → Nat × Nat → Int32 → Mem → (Mem → Prop) → Prop
  | 0, _, _, _, _ => False
  | n + 1, r0, x1, M, Q => kt r0.1 = 0 ∧ (∀ e_1 : Nat × Nat, e_1 = M.2.1 r0.1 r0.2 9 → (lk e_1.1 ∧ ((((M.1 e_1.1 e_1.2 0) ≤ x1) → (kt r0.1 = 0 ∧ (cq (d + 10) mX0_dueOf [.inr r0, .inl 3] M (fun r_ M_2 => r_ = none ∧ (kt r0.1 = 0 ∧ (cq (d + 10) mX0_dueOf [.inr r0, .inl 5] M_2 (fun r_ M_4 => r_ = none ∧ (kt r0.1 = 0 ∧ (cq (d + 10) mX0_dueOf [.inr r0, .inl 4] M_4 (fun r_ M_6 => r_ = none ∧ (∃ n, v_X0_pass_149 d n r0 0 M_6 Q))))))))))) ∧ ((¬ (M.1 e_1.1 e_1.2 0) ≤ x1) → (kt r0.1 = 0 ∧ (∀ e_8 : Nat × Nat, e_8 = M.2.1 r0.1 r0.2 9 → (lk e_8.1 ∧ (¬ x1 < 0 ∧ x1 < M.1 e_8.1 e_8.2 0) ∧ (∀ e_9 : Nat × Nat, e_9 = M.2.1 e_8.1 e_8.2 x1.toNatClampNeg → (kt e_9.1 = 16 ∧ (kt e_9.1 = 16 ∧ (∀ e_10 : Nat × Nat, e_10 = M.2.1 e_9.1 e_9.2 6 → (((¬ e_10 = (0, 0)) → (∀ x_11 : Int32, x_11 = x1 + 1 → (v_X0_pass_45 d n r0 x_11 M Q))) ∧ ((e_10 = (0, 0)) → (kt r0.1 = 0 ∧ (∀ e_12 : Nat × Nat, e_12 = M.2.1 r0.1 r0.2 9 → (lk e_12.1 ∧ (¬ x1 < 0 ∧ x1 < M.1 e_12.1 e_12.2 0) ∧ (∀ e_13 : Nat × Nat, e_13 = M.2.1 e_12.1 e_12.2 x1.toNatClampNeg → (kt e_13.1 = 16 ∧ (kt e_13.1 = 16 ∧ (v_X16_isUnderWay e_13 M (fun r_15 M_14 => ((r_15 = 0) → (∀ x_16 : Int32, x_16 = x1 + 1 → (v_X0_pass_45 d n r0 x_16 M_14 Q))) ∧ ((¬ r_15 = 0) → (kt r0.1 = 0 ∧ (∀ e_17 : Nat × Nat, e_17 = M_14.2.1 r0.1 r0.2 9 → (lk e_17.1 ∧ (¬ x1 < 0 ∧ x1 < M_14.1 e_17.1 e_17.2 0) ∧ (∀ e_18 : Nat × Nat, e_18 = M_14.2.1 e_17.1 e_17.2 x1.toNatClampNeg → (kt e_18.1 = 16 ∧ (kt e_18.1 = 16 ∧ (kt r0.1 = 0 ∧ (((¬ (M_14.1 e_18.1 e_18.2 15) = (M_14.1 r0.1 r0.2 0)) → (∀ x_19 : Int32, x_19 = x1 + 1 → (v_X0_pass_45 d n r0 x_19 M_14 Q))) ∧ (((M_14.1 e_18.1 e_18.2 15) = (M_14.1 r0.1 r0.2 0)) → (kt r0.1 = 0 ∧ (∀ e_20 : Nat × Nat, e_20 = M_14.2.1 r0.1 r0.2 9 → (lk e_20.1 ∧ (¬ x1 < 0 ∧ x1 < M_14.1 e_20.1 e_20.2 0) ∧ (∀ e_21 : Nat × Nat, e_21 = M_14.2.1 e_20.1 e_20.2 x1.toNatClampNeg → (kt e_21.1 = 16 ∧ (kt r0.1 = 0 ∧ (cq (d + 10) mX0_ends [.inr r0, .inr e_21] M_14 (fun r_ M_22 => r_ = none ∧ (∀ x_24 : Int32, x_24 = x1 + 1 → (v_X0_pass_45 d n r0 x_24 M_22 Q)))))))))))))))))))))))))))))))))))))))))
set_option maxHeartbeats 4000000 in
theorem sv_X0_pass_45 {d : Nat} {P : Option AV → Mem → Prop} {Q : Mem → Prop} (hP : ∀ M, Q M → P none M) : ∀ (n : Nat) (r0 : Nat × Nat) (x1 : Int32) (M : Mem), v_X0_pass_45 d n r0 x1 M Q → wq (d + 11) mX0_pass 45 [(0, .inr r0), (1, .inl x1)] [] M P := by
  intro n
  induction n with
  | zero => intro r0 x1 M h; exact False.elim h
  | succ n ih =>
    intro r0 x1 M h
    rw [v_X0_pass_45] at h
    refine b_iload_n 1 dX0_pass_45 rfl rfl ?_
    refine b_aload_n 0 dX0_pass_46 rfl rfl ?_
    refine b_gR (ci := 0) (r := (RX0, TX0, 14)) (f := 9) (by decide) rfl (by decide) rfl (Or.inl q159) (Or.inl rfl) h.1 dX0_pass_47 ?_
    refine b_topr (fun e_1 ee_1 => ?_)
    replace h := h.2 e_1 ee_1
    refine b_lsize (st := [.inl x1]) h.1 (Or.inl q201) (Nat.le_of_ble_eq_true rfl) dX0_pass_50 ?_
    replace h := h.2
    refine b_icmp_ge (tgt := 132) dX0_pass_53 (by decide) (fun c_28 => ?_) (fun c_28 => ?_)
    · replace h := h.1 c_28
      refine b_aload_n 0 dX0_pass_132 rfl rfl ?_
      refine b_iconst (v := 3) dX0_pass_133 (by decide) ?_
      refine b_cvo (y := mX0_dueOf) (ci := 0) (r := (RX0, TX0, 14)) (e := r0) (as := [.inl 3]) (st := []) (n := 1) rfl h.1 (Or.inl q1193) qs25 q1195 q69 q1196 zmh_X0_dueOf rfl (Nat.le_of_ble_eq_true rfl) (Nat.le_of_ble_eq_true rfl) dX0_pass_134 (cq.mono h.2 (fun _ M_2 h => ?_))
      obtain ⟨rfl, h⟩ := h
      show wq (d + 11) mX0_pass 137 [(0, .inr r0), (1, .inl x1)] [] M_2 P
      refine b_aload_n 0 dX0_pass_137 rfl rfl ?_
      refine b_iconst (v := 5) dX0_pass_138 (by decide) ?_
      refine b_cvo (y := mX0_dueOf) (ci := 0) (r := (RX0, TX0, 14)) (e := r0) (as := [.inl 5]) (st := []) (n := 1) rfl h.1 (Or.inl q1193) qs25 q1195 q69 q1196 zmh_X0_dueOf rfl (Nat.le_of_ble_eq_true rfl) (Nat.le_of_ble_eq_true rfl) dX0_pass_139 (cq.mono h.2 (fun _ M_4 h => ?_))
      obtain ⟨rfl, h⟩ := h
      show wq (d + 11) mX0_pass 142 [(0, .inr r0), (1, .inl x1)] [] M_4 P
      refine b_aload_n 0 dX0_pass_142 rfl rfl ?_
      refine b_iconst (v := 4) dX0_pass_143 (by decide) ?_
      refine b_cvo (y := mX0_dueOf) (ci := 0) (r := (RX0, TX0, 14)) (e := r0) (as := [.inl 4]) (st := []) (n := 1) rfl h.1 (Or.inl q1193) qs25 q1195 q69 q1196 zmh_X0_dueOf rfl (Nat.le_of_ble_eq_true rfl) (Nat.le_of_ble_eq_true rfl) dX0_pass_144 (cq.mono h.2 (fun _ M_6 h => ?_))
      obtain ⟨rfl, h⟩ := h
      show wq (d + 11) mX0_pass 147 [(0, .inr r0), (1, .inl x1)] [] M_6 P
      refine b_iconst (v := 0) dX0_pass_147 (by decide) ?_
      refine b_istore_n (lv' := [(2, .inl 0), (0, .inr r0), (1, .inl x1)]) dX0_pass_148 rfl (Nat.le_of_ble_eq_true rfl) rfl ?_
      obtain ⟨n, h⟩ := h
      exact b_sub (by simp) (sv_X0_pass_149 hP n r0 0 M_6 h)
    · replace h := h.2 c_28
      refine b_aload_n 0 dX0_pass_56 rfl rfl ?_
      refine b_gR (ci := 0) (r := (RX0, TX0, 14)) (f := 9) (by decide) rfl (by decide) rfl (Or.inl q159) (Or.inl rfl) h.1 dX0_pass_57 ?_
      refine b_topr (fun e_8 ee_8 => ?_)
      replace h := h.2 e_8 ee_8
      refine b_iload_n 1 dX0_pass_60 rfl rfl ?_
      refine b_lget (st := []) h.1 h.2.1 (Or.inl q624) (Nat.le_of_ble_eq_true rfl) dX0_pass_61 ?_
      refine b_topr (fun e_9 ee_9 => ?_)
      replace h := h.2.2 e_9 ee_9
      refine b_ck (ci := 16) (r := (RX16, TX16, 17)) rfl q721 h.1 dX0_pass_64 ?_
      replace h := h.2
      refine b_gR (ci := 16) (r := (RX16, TX16, 17)) (f := 6) (by decide) rfl (by decide) rfl (Or.inr ⟨_, q748⟩) (Or.inl rfl) h.1 dX0_pass_67 ?_
      refine b_topr (fun e_10 ee_10 => ?_)
      replace h := h.2 e_10 ee_10
      refine b_ifnonnull (tgt := 126) dX0_pass_70 (by decide) (fun c_27 => ?_) (fun c_27 => ?_)
      · replace h := h.1 c_27
        obtain ⟨x_11, ex_11⟩ : ∃ y : Int32, y = x1 + 1 := ⟨_, rfl⟩
        replace h := h x_11 ex_11
        refine b_iinc (v := x_11) (lv' := [(1, .inl x_11), (0, .inr r0)]) 1 dX0_pass_126 rfl (by rw [ex_11]; rfl) (Nat.le_of_ble_eq_true rfl) rfl ?_
        refine b_goto (tgt := 45) dX0_pass_129 (by decide) ?_
        exact b_sub (by simp) (ih r0 x_11 M h)
      · replace h := h.2 c_27
        refine b_aload_n 0 dX0_pass_73 rfl rfl ?_
        refine b_gR (ci := 0) (r := (RX0, TX0, 14)) (f := 9) (by decide) rfl (by decide) rfl (Or.inl q159) (Or.inl rfl) h.1 dX0_pass_74 ?_
        refine b_topr (fun e_12 ee_12 => ?_)
        replace h := h.2 e_12 ee_12
        refine b_iload_n 1 dX0_pass_77 rfl rfl ?_
        refine b_lget (st := []) h.1 h.2.1 (Or.inl q624) (Nat.le_of_ble_eq_true rfl) dX0_pass_78 ?_
        refine b_topr (fun e_13 ee_13 => ?_)
        replace h := h.2.2 e_13 ee_13
        refine b_ck (ci := 16) (r := (RX16, TX16, 17)) rfl q721 h.1 dX0_pass_81 ?_
        replace h := h.2
        refine b_cvo (y := mX16_isUnderWay) (ci := 16) (r := (RX16, TX16, 17)) (e := e_13) (as := []) (st := []) (n := 0) rfl h.1 (Or.inl q967) q961 q960 q94 q962 zmh_X16_isUnderWay rfl (Nat.le_of_ble_eq_true rfl) (Nat.le_of_ble_eq_true rfl) dX0_pass_84 (sv_X16_isUnderWay (fun r_15 M_14 h => ?_) h.2)
        show wq (d + 11) mX0_pass 87 [(0, .inr r0), (1, .inl x1)] [.inl r_15] M_14 P
        refine b_if_eq (tgt := 126) dX0_pass_87 (by decide) (fun c_26 => ?_) (fun c_26 => ?_)
        · replace h := h.1 c_26
          obtain ⟨x_16, ex_16⟩ : ∃ y : Int32, y = x1 + 1 := ⟨_, rfl⟩
          replace h := h x_16 ex_16
          refine b_iinc (v := x_16) (lv' := [(1, .inl x_16), (0, .inr r0)]) 1 dX0_pass_126 rfl (by rw [ex_16]; rfl) (Nat.le_of_ble_eq_true rfl) rfl ?_
          refine b_goto (tgt := 45) dX0_pass_129 (by decide) ?_
          exact b_sub (by simp) (ih r0 x_16 M_14 h)
        · replace h := h.2 c_26
          refine b_aload_n 0 dX0_pass_90 rfl rfl ?_
          refine b_gR (ci := 0) (r := (RX0, TX0, 14)) (f := 9) (by decide) rfl (by decide) rfl (Or.inl q159) (Or.inl rfl) h.1 dX0_pass_91 ?_
          refine b_topr (fun e_17 ee_17 => ?_)
          replace h := h.2 e_17 ee_17
          refine b_iload_n 1 dX0_pass_94 rfl rfl ?_
          refine b_lget (st := []) h.1 h.2.1 (Or.inl q624) (Nat.le_of_ble_eq_true rfl) dX0_pass_95 ?_
          refine b_topr (fun e_18 ee_18 => ?_)
          replace h := h.2.2 e_18 ee_18
          refine b_ck (ci := 16) (r := (RX16, TX16, 17)) rfl q721 h.1 dX0_pass_98 ?_
          replace h := h.2
          refine b_gI (ci := 16) (r := (RX16, TX16, 17)) (f := 15) (by decide) rfl (by decide) rfl (Or.inr ⟨_, q782⟩) (Or.inl rfl) h.1 dX0_pass_101 ?_
          replace h := h.2
          refine b_aload_n 0 dX0_pass_104 rfl rfl ?_
          refine b_gI (ci := 0) (r := (RX0, TX0, 14)) (f := 0) (by decide) rfl (by decide) rfl (Or.inl q144) (Or.inl rfl) h.1 dX0_pass_105 ?_
          replace h := h.2
          refine b_icmp_ne (tgt := 126) dX0_pass_108 (by decide) (fun c_25 => ?_) (fun c_25 => ?_)
          · replace h := h.1 c_25
            obtain ⟨x_19, ex_19⟩ : ∃ y : Int32, y = x1 + 1 := ⟨_, rfl⟩
            replace h := h x_19 ex_19
            refine b_iinc (v := x_19) (lv' := [(1, .inl x_19), (0, .inr r0)]) 1 dX0_pass_126 rfl (by rw [ex_19]; rfl) (Nat.le_of_ble_eq_true rfl) rfl ?_
            refine b_goto (tgt := 45) dX0_pass_129 (by decide) ?_
            exact b_sub (by simp) (ih r0 x_19 M_14 h)
          · replace h := h.2 c_25
            refine b_aload_n 0 dX0_pass_111 rfl rfl ?_
            refine b_aload_n 0 dX0_pass_112 rfl rfl ?_
            refine b_gR (ci := 0) (r := (RX0, TX0, 14)) (f := 9) (by decide) rfl (by decide) rfl (Or.inl q159) (Or.inl rfl) h.1 dX0_pass_113 ?_
            refine b_topr (fun e_20 ee_20 => ?_)
            replace h := h.2 e_20 ee_20
            refine b_iload_n 1 dX0_pass_116 rfl rfl ?_
            refine b_lget (st := [.inr r0]) h.1 h.2.1 (Or.inl q624) (Nat.le_of_ble_eq_true rfl) dX0_pass_117 ?_
            refine b_topr (fun e_21 ee_21 => ?_)
            replace h := h.2.2 e_21 ee_21
            refine b_ck (ci := 16) (r := (RX16, TX16, 17)) rfl q721 h.1 dX0_pass_120 ?_
            replace h := h.2
            refine b_cvo (y := mX0_ends) (ci := 0) (r := (RX0, TX0, 14)) (e := r0) (as := [.inr e_21]) (st := []) (n := 1) rfl h.1 (Or.inl q1150) qs22 q1152 q69 q1153 zmh_X0_ends rfl (Nat.le_of_ble_eq_true rfl) (Nat.le_of_ble_eq_true rfl) dX0_pass_123 (cq.mono h.2 (fun _ M_22 h => ?_))
            obtain ⟨rfl, h⟩ := h
            show wq (d + 11) mX0_pass 126 [(0, .inr r0), (1, .inl x1)] [] M_22 P
            obtain ⟨x_24, ex_24⟩ : ∃ y : Int32, y = x1 + 1 := ⟨_, rfl⟩
            replace h := h x_24 ex_24
            refine b_iinc (v := x_24) (lv' := [(1, .inl x_24), (0, .inr r0)]) 1 dX0_pass_126 rfl (by rw [ex_24]; rfl) (Nat.le_of_ble_eq_true rfl) rfl ?_
            refine b_goto (tgt := 45) dX0_pass_129 (by decide) ?_
            exact b_sub (by simp) (ih r0 x_24 M_22 h)
def v_X0_pass_12 (d : Nat) : Nat → Nat × Nat → Int32 → Mem → (Mem → Prop) → Prop
  | 0, _, _, _, _ => False
  | n + 1, r0, x1, M, Q => kt r0.1 = 0 ∧ (∀ e_1 : Nat × Nat, e_1 = M.2.1 r0.1 r0.2 5 → (lk e_1.1 ∧ ((((M.1 e_1.1 e_1.2 0) ≤ x1) → (∃ n, v_X0_pass_45 d n r0 0 M Q)) ∧ ((¬ (M.1 e_1.1 e_1.2 0) ≤ x1) → (kt r0.1 = 0 ∧ (∀ e_2 : Nat × Nat, e_2 = M.2.1 r0.1 r0.2 5 → (lk e_2.1 ∧ (¬ x1 < 0 ∧ x1 < M.1 e_2.1 e_2.2 0) ∧ (∀ e_3 : Nat × Nat, e_3 = M.2.1 e_2.1 e_2.2 x1.toNatClampNeg → (gk e_3.1 ∧ (gk e_3.1 ∧ (v_newSecond e_3 M (fun M_4 => ∀ x_6 : Int32, x_6 = x1 + 1 → (v_X0_pass_12 d n r0 x_6 M_4 Q)))))))))))))
set_option maxHeartbeats 4000000 in
theorem sv_X0_pass_12 {d : Nat} {P : Option AV → Mem → Prop} {Q : Mem → Prop} (hP : ∀ M, Q M → P none M) : ∀ (n : Nat) (r0 : Nat × Nat) (x1 : Int32) (M : Mem), v_X0_pass_12 d n r0 x1 M Q → wq (d + 11) mX0_pass 12 [(0, .inr r0), (1, .inl x1)] [] M P := by
  intro n
  induction n with
  | zero => intro r0 x1 M h; exact False.elim h
  | succ n ih =>
    intro r0 x1 M h
    rw [v_X0_pass_12] at h
    refine b_iload_n 1 dX0_pass_12 rfl rfl ?_
    refine b_aload_n 0 dX0_pass_13 rfl rfl ?_
    refine b_gR (ci := 0) (r := (RX0, TX0, 14)) (f := 5) (by decide) rfl (by decide) rfl (Or.inl q152) (Or.inl rfl) h.1 dX0_pass_14 ?_
    refine b_topr (fun e_1 ee_1 => ?_)
    replace h := h.2 e_1 ee_1
    refine b_lsize (st := [.inl x1]) h.1 (Or.inl q201) (Nat.le_of_ble_eq_true rfl) dX0_pass_17 ?_
    replace h := h.2
    refine b_icmp_ge (tgt := 43) dX0_pass_20 (by decide) (fun c_7 => ?_) (fun c_7 => ?_)
    · replace h := h.1 c_7
      refine b_iconst (v := 0) dX0_pass_43 (by decide) ?_
      refine b_istore_n (lv' := [(1, .inl 0), (0, .inr r0)]) dX0_pass_44 rfl (Nat.le_of_ble_eq_true rfl) rfl ?_
      obtain ⟨n, h⟩ := h
      exact b_sub (by simp) (sv_X0_pass_45 hP n r0 0 M h)
    · replace h := h.2 c_7
      refine b_aload_n 0 dX0_pass_23 rfl rfl ?_
      refine b_gR (ci := 0) (r := (RX0, TX0, 14)) (f := 5) (by decide) rfl (by decide) rfl (Or.inl q152) (Or.inl rfl) h.1 dX0_pass_24 ?_
      refine b_topr (fun e_2 ee_2 => ?_)
      replace h := h.2 e_2 ee_2
      refine b_iload_n 1 dX0_pass_27 rfl rfl ?_
      refine b_lget (st := []) h.1 h.2.1 (Or.inl q624) (Nat.le_of_ble_eq_true rfl) dX0_pass_28 ?_
      refine b_topr (fun e_3 ee_3 => ?_)
      replace h := h.2.2 e_3 ee_3
      refine b_ckg q638 h.1 dX0_pass_31 ?_
      replace h := h.2
      refine b_d_newSecond (st := []) h.1 q1133 (Nat.le_of_ble_eq_true rfl) dX0_pass_34 (sv_newSecond (fun M_4 h => ?_) h.1 h.2)
      show wq (d + 11) mX0_pass 37 [(0, .inr r0), (1, .inl x1)] [] M_4 P
      obtain ⟨x_6, ex_6⟩ : ∃ y : Int32, y = x1 + 1 := ⟨_, rfl⟩
      replace h := h x_6 ex_6
      refine b_iinc (v := x_6) (lv' := [(1, .inl x_6), (0, .inr r0)]) 1 dX0_pass_37 rfl (by rw [ex_6]; rfl) (Nat.le_of_ble_eq_true rfl) rfl ?_
      refine b_goto (tgt := 12) dX0_pass_40 (by decide) ?_
      exact b_sub (by simp) (ih r0 x_6 M_4 h)
def v_X0_pass (d : Nat) (r0 : Nat × Nat) (M : Mem) (Q : Mem → Prop) : Prop := kt r0.1 = 0 ∧ (kt r0.1 = 0 ∧ (∀ M_1 : Mem, M_1 = sI M r0.1 r0.2 0 ((M.1 r0.1 r0.2 0) + 1) → (∃ n, v_X0_pass_12 d n r0 0 M_1 Q)))
set_option maxHeartbeats 4000000 in
theorem sv_X0_pass {d : Nat} {M : Mem} {P : Option AV → Mem → Prop} {Q : Mem → Prop} {r0 : Nat × Nat} (hP : ∀ M, Q M → P none M) (h : v_X0_pass d r0 M Q) : cq (d + 11) mX0_pass [.inr r0] M P := by
  refine cq_of (by decide) (Nat.le_of_ble_eq_true rfl) ?_
  show wq (d + 11) mX0_pass 0 [(0, .inr r0)] [] M P
  unfold v_X0_pass at h
  refine b_aload_n 0 dX0_pass_0 rfl rfl ?_
  refine b_dup dX0_pass_1 ?_
  refine b_gI (ci := 0) (r := (RX0, TX0, 14)) (f := 0) (by decide) rfl (by decide) rfl (Or.inl q144) (Or.inl rfl) h.1 dX0_pass_2 ?_
  replace h := h.2
  refine b_iconst (v := 1) dX0_pass_5 (by decide) ?_
  refine b_iadd dX0_pass_6 ?_
  refine b_pI (ci := 0) (r := (RX0, TX0, 14)) (f := 0) (by decide) rfl (by decide) (Or.inl q144) (Or.inl rfl) rfl (Or.inl rfl) h.1 dX0_pass_7 ?_
  refine b_topm (fun M_1 eM_1 => ?_)
  replace h := h.2 M_1 eM_1
  refine b_iconst (v := 0) dX0_pass_10 (by decide) ?_
  refine b_istore_n (lv' := [(1, .inl 0), (0, .inr r0)]) dX0_pass_11 rfl (Nat.le_of_ble_eq_true rfl) rfl ?_
  obtain ⟨n, h⟩ := h
  exact b_sub (by simp) (sv_X0_pass_12 hP n r0 0 M_1 h)
def v_X0_keyed_2 : Nat → Nat × Nat → Int32 → Int32 → Int32 → Mem → (Nat × Nat → Mem → Prop) → Prop
  | 0, _, _, _, _, _, _ => False
  | n + 1, r0, x1, x2, x3, M, Q => kt r0.1 = 0 ∧ (∀ e_1 : Nat × Nat, e_1 = M.2.1 r0.1 r0.2 11 → (lk e_1.1 ∧ ((((M.1 e_1.1 e_1.2 0) ≤ x3) → (Q (0, 0) M)) ∧ ((¬ (M.1 e_1.1 e_1.2 0) ≤ x3) → (((x2 ≤ 0) → (Q (0, 0) M)) ∧ ((¬ x2 ≤ 0) → (kt r0.1 = 0 ∧ (∀ e_2 : Nat × Nat, e_2 = M.2.1 r0.1 r0.2 11 → (lk e_2.1 ∧ (¬ x3 < 0 ∧ x3 < M.1 e_2.1 e_2.2 0) ∧ (∀ e_3 : Nat × Nat, e_3 = M.2.1 e_2.1 e_2.2 x3.toNatClampNeg → (kt e_3.1 = 18 ∧ (kt e_3.1 = 18 ∧ (((¬ (M.1 e_3.1 e_3.2 0) = x1) → (∀ x_4 : Int32, x_4 = x3 + 1 → (v_X0_keyed_2 n r0 x1 x2 x_4 M Q))) ∧ (((M.1 e_3.1 e_3.2 0) = x1) → (kt r0.1 = 0 ∧ (∀ e_5 : Nat × Nat, e_5 = M.2.1 r0.1 r0.2 11 → (lk e_5.1 ∧ (¬ x3 < 0 ∧ x3 < M.1 e_5.1 e_5.2 0) ∧ (∀ e_6 : Nat × Nat, e_6 = M.2.1 e_5.1 e_5.2 x3.toNatClampNeg → (kt e_6.1 = 18 ∧ (kt e_6.1 = 18 ∧ (((¬ (M.1 e_6.1 e_6.2 2) = x2) → (∀ x_7 : Int32, x_7 = x3 + 1 → (v_X0_keyed_2 n r0 x1 x2 x_7 M Q))) ∧ (((M.1 e_6.1 e_6.2 2) = x2) → (kt r0.1 = 0 ∧ (∀ e_8 : Nat × Nat, e_8 = M.2.1 r0.1 r0.2 11 → (lk e_8.1 ∧ (¬ x3 < 0 ∧ x3 < M.1 e_8.1 e_8.2 0) ∧ (∀ e_9 : Nat × Nat, e_9 = M.2.1 e_8.1 e_8.2 x3.toNatClampNeg → (kt e_9.1 = 18 ∧ (Q e_9 M))))))))))))))))))))))))))))
set_option maxHeartbeats 4000000 in
theorem sv_X0_keyed_2 {d : Nat} {P : Option AV → Mem → Prop} {Q : Nat × Nat → Mem → Prop} (hP : ∀ r M, Q r M → P (some (.inr r)) M) : ∀ (n : Nat) (r0 : Nat × Nat) (x1 : Int32) (x2 : Int32) (x3 : Int32) (M : Mem), v_X0_keyed_2 n r0 x1 x2 x3 M Q → wq (d + 4) mX0_keyed 2 [(0, .inr r0), (1, .inl x1), (2, .inl x2), (3, .inl x3)] [] M P := by
  intro n
  induction n with
  | zero => intro r0 x1 x2 x3 M h; exact False.elim h
  | succ n ih =>
    intro r0 x1 x2 x3 M h
    rw [v_X0_keyed_2] at h
    refine b_iload_n 3 dX0_keyed_2 rfl rfl ?_
    refine b_aload_n 0 dX0_keyed_3 rfl rfl ?_
    refine b_gR (ci := 0) (r := (RX0, TX0, 14)) (f := 11) (by decide) rfl (by decide) rfl (Or.inl q161) (Or.inl rfl) h.1 dX0_keyed_4 ?_
    refine b_topr (fun e_1 ee_1 => ?_)
    replace h := h.2 e_1 ee_1
    refine b_lsize (st := [.inl x3]) h.1 (Or.inl q201) (Nat.le_of_ble_eq_true rfl) dX0_keyed_7 ?_
    replace h := h.2
    refine b_icmp_ge (tgt := 71) dX0_keyed_10 (by decide) (fun c_13 => ?_) (fun c_13 => ?_)
    · replace h := h.1 c_13
      refine b_null dX0_keyed_71 ?_
      exact b_aret rfl (Or.inl ⟨_, rfl⟩) dX0_keyed_72 (hP _ _ h)
    · replace h := h.2 c_13
      refine b_iload_n 2 dX0_keyed_13 rfl rfl ?_
      refine b_if_le (tgt := 71) dX0_keyed_14 (by decide) (fun c_12 => ?_) (fun c_12 => ?_)
      · replace h := h.1 c_12
        refine b_null dX0_keyed_71 ?_
        exact b_aret rfl (Or.inl ⟨_, rfl⟩) dX0_keyed_72 (hP _ _ h)
      · replace h := h.2 c_12
        refine b_aload_n 0 dX0_keyed_17 rfl rfl ?_
        refine b_gR (ci := 0) (r := (RX0, TX0, 14)) (f := 11) (by decide) rfl (by decide) rfl (Or.inl q161) (Or.inl rfl) h.1 dX0_keyed_18 ?_
        refine b_topr (fun e_2 ee_2 => ?_)
        replace h := h.2 e_2 ee_2
        refine b_iload_n 3 dX0_keyed_21 rfl rfl ?_
        refine b_lget (st := []) h.1 h.2.1 (Or.inl q624) (Nat.le_of_ble_eq_true rfl) dX0_keyed_22 ?_
        refine b_topr (fun e_3 ee_3 => ?_)
        replace h := h.2.2 e_3 ee_3
        refine b_ck (ci := 18) (r := (RX18, TX18, 5)) rfl q1159 h.1 dX0_keyed_25 ?_
        replace h := h.2
        refine b_gI (ci := 18) (r := (RX18, TX18, 5)) (f := 0) (by decide) rfl (by decide) rfl (Or.inr ⟨_, q1173⟩) (Or.inl rfl) h.1 dX0_keyed_28 ?_
        replace h := h.2
        refine b_iload_n 1 dX0_keyed_31 rfl rfl ?_
        refine b_icmp_ne (tgt := 65) dX0_keyed_32 (by decide) (fun c_11 => ?_) (fun c_11 => ?_)
        · replace h := h.1 c_11
          obtain ⟨x_4, ex_4⟩ : ∃ y : Int32, y = x3 + 1 := ⟨_, rfl⟩
          replace h := h x_4 ex_4
          refine b_iinc (v := x_4) (lv' := [(3, .inl x_4), (0, .inr r0), (1, .inl x1), (2, .inl x2)]) 3 dX0_keyed_65 rfl (by rw [ex_4]; rfl) (Nat.le_of_ble_eq_true rfl) rfl ?_
          refine b_goto (tgt := 2) dX0_keyed_68 (by decide) ?_
          exact b_sub (by simp) (ih r0 x1 x2 x_4 M h)
        · replace h := h.2 c_11
          refine b_aload_n 0 dX0_keyed_35 rfl rfl ?_
          refine b_gR (ci := 0) (r := (RX0, TX0, 14)) (f := 11) (by decide) rfl (by decide) rfl (Or.inl q161) (Or.inl rfl) h.1 dX0_keyed_36 ?_
          refine b_topr (fun e_5 ee_5 => ?_)
          replace h := h.2 e_5 ee_5
          refine b_iload_n 3 dX0_keyed_39 rfl rfl ?_
          refine b_lget (st := []) h.1 h.2.1 (Or.inl q624) (Nat.le_of_ble_eq_true rfl) dX0_keyed_40 ?_
          refine b_topr (fun e_6 ee_6 => ?_)
          replace h := h.2.2 e_6 ee_6
          refine b_ck (ci := 18) (r := (RX18, TX18, 5)) rfl q1159 h.1 dX0_keyed_43 ?_
          replace h := h.2
          refine b_gI (ci := 18) (r := (RX18, TX18, 5)) (f := 2) (by decide) rfl (by decide) rfl (Or.inr ⟨_, q1177⟩) (Or.inl rfl) h.1 dX0_keyed_46 ?_
          replace h := h.2
          refine b_iload_n 2 dX0_keyed_49 rfl rfl ?_
          refine b_icmp_ne (tgt := 65) dX0_keyed_50 (by decide) (fun c_10 => ?_) (fun c_10 => ?_)
          · replace h := h.1 c_10
            obtain ⟨x_7, ex_7⟩ : ∃ y : Int32, y = x3 + 1 := ⟨_, rfl⟩
            replace h := h x_7 ex_7
            refine b_iinc (v := x_7) (lv' := [(3, .inl x_7), (0, .inr r0), (1, .inl x1), (2, .inl x2)]) 3 dX0_keyed_65 rfl (by rw [ex_7]; rfl) (Nat.le_of_ble_eq_true rfl) rfl ?_
            refine b_goto (tgt := 2) dX0_keyed_68 (by decide) ?_
            exact b_sub (by simp) (ih r0 x1 x2 x_7 M h)
          · replace h := h.2 c_10
            refine b_aload_n 0 dX0_keyed_53 rfl rfl ?_
            refine b_gR (ci := 0) (r := (RX0, TX0, 14)) (f := 11) (by decide) rfl (by decide) rfl (Or.inl q161) (Or.inl rfl) h.1 dX0_keyed_54 ?_
            refine b_topr (fun e_8 ee_8 => ?_)
            replace h := h.2 e_8 ee_8
            refine b_iload_n 3 dX0_keyed_57 rfl rfl ?_
            refine b_lget (st := []) h.1 h.2.1 (Or.inl q624) (Nat.le_of_ble_eq_true rfl) dX0_keyed_58 ?_
            refine b_topr (fun e_9 ee_9 => ?_)
            replace h := h.2.2 e_9 ee_9
            refine b_ck (ci := 18) (r := (RX18, TX18, 5)) rfl q1159 h.1 dX0_keyed_61 ?_
            replace h := h.2
            exact b_aret rfl (Or.inl ⟨_, rfl⟩) dX0_keyed_64 (hP _ _ h)
def v_X0_keyed (r0 : Nat × Nat) (x1 : Int32) (x2 : Int32) (M : Mem) (Q : Nat × Nat → Mem → Prop) : Prop := ∃ n, v_X0_keyed_2 n r0 x1 x2 0 M Q
set_option maxHeartbeats 4000000 in
theorem sv_X0_keyed {d : Nat} {M : Mem} {P : Option AV → Mem → Prop} {Q : Nat × Nat → Mem → Prop} {r0 : Nat × Nat} {x1 : Int32} {x2 : Int32} (hP : ∀ r M, Q r M → P (some (.inr r)) M) (h : v_X0_keyed r0 x1 x2 M Q) : cq (d + 4) mX0_keyed [.inr r0, .inl x1, .inl x2] M P := by
  refine cq_of (by decide) (Nat.le_of_ble_eq_true rfl) ?_
  show wq (d + 4) mX0_keyed 0 [(0, .inr r0), (1, .inl x1), (2, .inl x2)] [] M P
  unfold v_X0_keyed at h
  refine b_iconst (v := 0) dX0_keyed_0 (by decide) ?_
  refine b_istore_n (lv' := [(3, .inl 0), (0, .inr r0), (1, .inl x1), (2, .inl x2)]) dX0_keyed_1 rfl (Nat.le_of_ble_eq_true rfl) rfl ?_
  obtain ⟨n, h⟩ := h
  exact b_sub (by simp) (sv_X0_keyed_2 hP n r0 x1 x2 0 M h)
def v_X0_ends_251 (d : Nat) (r0 : Nat × Nat) (r1 : Nat × Nat) (r2 : Nat × Nat) (r3 : Nat × Nat) (M : Mem) (Q : Mem → Prop) : Prop := kt r2.1 = 15 ∧ (((¬ (M.1 r2.1 r2.2 2) = 1) → (kt r2.1 = 15 ∧ (kt r0.1 = 0 ∧ (cq (d + 10) mX0_moves [.inr r0, .inr r1, .inr r3, .inl (M.1 r2.1 r2.2 3)] M (fun r_ M_1 => r_ = none ∧ (Q M_1)))))) ∧ (((M.1 r2.1 r2.2 2) = 1) → (kt r2.1 = 15 ∧ (kt r0.1 = 0 ∧ (cq (d + 10) mX0_moves [.inr r0, .inr r1, .inr r3, .inl (-(M.1 r2.1 r2.2 3))] M (fun r_ M_3 => r_ = none ∧ (Q M_3)))))))
set_option maxHeartbeats 4000000 in
theorem sv_X0_ends_251 {d : Nat} {P : Option AV → Mem → Prop} {Q : Mem → Prop} (hP : ∀ M, Q M → P none M) (r0 : Nat × Nat) (r1 : Nat × Nat) (r2 : Nat × Nat) (r3 : Nat × Nat) (M : Mem) (h : v_X0_ends_251 d r0 r1 r2 r3 M Q) : wq (d + 11) mX0_ends 251 [(0, .inr r0), (1, .inr r1), (2, .inr r2), (3, .inr r3)] [] M P := by
  unfold v_X0_ends_251 at h
  refine b_aload_n 0 dX0_ends_251 rfl rfl ?_
  refine b_aload_n 1 dX0_ends_252 rfl rfl ?_
  refine b_aload_n 3 dX0_ends_253 rfl rfl ?_
  refine b_aload_n 2 dX0_ends_254 rfl rfl ?_
  refine b_gI (ci := 15) (r := (RX15, TX15, 10)) (f := 2) (by decide) rfl (by decide) rfl (Or.inr ⟨_, q671⟩) (Or.inl rfl) h.1 dX0_ends_255 ?_
  replace h := h.2
  refine b_iconst (v := 1) dX0_ends_258 (by decide) ?_
  refine b_icmp_ne (tgt := 270) dX0_ends_259 (by decide) (fun c_5 => ?_) (fun c_5 => ?_)
  · replace h := h.1 c_5
    refine b_aload_n 2 dX0_ends_270 rfl rfl ?_
    refine b_gI (ci := 15) (r := (RX15, TX15, 10)) (f := 3) (by decide) rfl (by decide) rfl (Or.inr ⟨_, q673⟩) (Or.inl rfl) h.1 dX0_ends_271 ?_
    replace h := h.2
    refine b_cvo (y := mX0_moves) (ci := 0) (r := (RX0, TX0, 14)) (e := r0) (as := [.inr r1, .inr r3, .inl (M.1 r2.1 r2.2 3)]) (st := []) (n := 3) rfl h.1 (Or.inl q1163) qs24 q1165 q69 q1166 zmh_X0_moves rfl (Nat.le_of_ble_eq_true rfl) (Nat.le_of_ble_eq_true rfl) dX0_ends_274 (cq.mono h.2 (fun _ M_1 h => ?_))
    obtain ⟨rfl, h⟩ := h
    show wq (d + 11) mX0_ends 277 [(0, .inr r0), (1, .inr r1), (2, .inr r2), (3, .inr r3)] [] M_1 P
    exact b_vret rfl dX0_ends_277 (hP _ h)
  · replace h := h.2 c_5
    refine b_aload_n 2 dX0_ends_262 rfl rfl ?_
    refine b_gI (ci := 15) (r := (RX15, TX15, 10)) (f := 3) (by decide) rfl (by decide) rfl (Or.inr ⟨_, q673⟩) (Or.inl rfl) h.1 dX0_ends_263 ?_
    replace h := h.2
    refine b_ineg dX0_ends_266 ?_
    refine b_goto (tgt := 274) dX0_ends_267 (by decide) ?_
    refine b_cvo (y := mX0_moves) (ci := 0) (r := (RX0, TX0, 14)) (e := r0) (as := [.inr r1, .inr r3, .inl (-(M.1 r2.1 r2.2 3))]) (st := []) (n := 3) rfl h.1 (Or.inl q1163) qs24 q1165 q69 q1166 zmh_X0_moves rfl (Nat.le_of_ble_eq_true rfl) (Nat.le_of_ble_eq_true rfl) dX0_ends_274 (cq.mono h.2 (fun _ M_3 h => ?_))
    obtain ⟨rfl, h⟩ := h
    show wq (d + 11) mX0_ends 277 [(0, .inr r0), (1, .inr r1), (2, .inr r2), (3, .inr r3)] [] M_3 P
    exact b_vret rfl dX0_ends_277 (hP _ h)
def v_X0_ends_208 (d : Nat) (r0 : Nat × Nat) (r1 : Nat × Nat) (r2 : Nat × Nat) (r3 : Nat × Nat) (M : Mem) (Q : Mem → Prop) : Prop := kt r2.1 = 15 ∧ (((¬ (M.1 r2.1 r2.2 2) = 2) → (v_X0_ends_251 d r0 r1 r2 r3 M Q)) ∧ (((M.1 r2.1 r2.2 2) = 2) → (kt r3.1 = 2 ∧ (kt r2.1 = 15 ∧ (kt r3.1 = 2 ∧ (((((M.1 r3.1 r3.2 2) + (M.1 r2.1 r2.2 3)) ≤ (M.1 r3.1 r3.2 0)) → (v_X0_ends_251 d r0 r1 r2 r3 M Q)) ∧ ((¬ ((M.1 r3.1 r3.2 2) + (M.1 r2.1 r2.2 3)) ≤ (M.1 r3.1 r3.2 0)) → (kt r1.1 = 16 ∧ (kt r0.1 = 0 ∧ (v_X0_failed r0 6 (-1) (M.1 r1.1 r1.2 2) M (fun e_2 M_1 => kt r0.1 = 0 ∧ (cq (d + 10) mX0_fails [.inr r0, .inr r1, .inr e_2] M_1 (fun r_ M_3 => r_ = none ∧ (Q M_3))))))))))))))
set_option maxHeartbeats 4000000 in
theorem sv_X0_ends_208 {d : Nat} {P : Option AV → Mem → Prop} {Q : Mem → Prop} (hP : ∀ M, Q M → P none M) (r0 : Nat × Nat) (r1 : Nat × Nat) (r2 : Nat × Nat) (r3 : Nat × Nat) (M : Mem) (h : v_X0_ends_208 d r0 r1 r2 r3 M Q) : wq (d + 11) mX0_ends 208 [(0, .inr r0), (1, .inr r1), (2, .inr r2), (3, .inr r3)] [] M P := by
  unfold v_X0_ends_208 at h
  refine b_aload_n 2 dX0_ends_208 rfl rfl ?_
  refine b_gI (ci := 15) (r := (RX15, TX15, 10)) (f := 2) (by decide) rfl (by decide) rfl (Or.inr ⟨_, q671⟩) (Or.inl rfl) h.1 dX0_ends_209 ?_
  replace h := h.2
  refine b_iconst (v := 2) dX0_ends_212 (by decide) ?_
  refine b_icmp_ne (tgt := 251) dX0_ends_213 (by decide) (fun c_6 => ?_) (fun c_6 => ?_)
  · replace h := h.1 c_6
    exact b_sub (by simp) (sv_X0_ends_251 hP r0 r1 r2 r3 M h)
  · replace h := h.2 c_6
    refine b_aload_n 3 dX0_ends_216 rfl rfl ?_
    refine b_gI (ci := 2) (r := (RX2, TX2, 3)) (f := 2) (by decide) rfl (by decide) rfl (Or.inr ⟨_, q218⟩) (Or.inl rfl) h.1 dX0_ends_217 ?_
    replace h := h.2
    refine b_aload_n 2 dX0_ends_220 rfl rfl ?_
    refine b_gI (ci := 15) (r := (RX15, TX15, 10)) (f := 3) (by decide) rfl (by decide) rfl (Or.inr ⟨_, q673⟩) (Or.inl rfl) h.1 dX0_ends_221 ?_
    replace h := h.2
    refine b_iadd dX0_ends_224 ?_
    refine b_aload_n 3 dX0_ends_225 rfl rfl ?_
    refine b_gI (ci := 2) (r := (RX2, TX2, 3)) (f := 0) (by decide) rfl (by decide) rfl (Or.inr ⟨_, q212⟩) (Or.inl rfl) h.1 dX0_ends_226 ?_
    replace h := h.2
    refine b_icmp_le (tgt := 251) dX0_ends_229 (by decide) (fun c_5 => ?_) (fun c_5 => ?_)
    · replace h := h.1 c_5
      exact b_sub (by simp) (sv_X0_ends_251 hP r0 r1 r2 r3 M h)
    · replace h := h.2 c_5
      refine b_aload_n 0 dX0_ends_232 rfl rfl ?_
      refine b_aload_n 1 dX0_ends_233 rfl rfl ?_
      refine b_aload_n 0 dX0_ends_234 rfl rfl ?_
      refine b_bipush (v := 6) dX0_ends_235 (by decide) ?_
      refine b_iconst (v := (-1)) dX0_ends_237 (by decide) ?_
      refine b_aload_n 1 dX0_ends_238 rfl rfl ?_
      refine b_gI (ci := 16) (r := (RX16, TX16, 17)) (f := 2) (by decide) rfl (by decide) rfl (Or.inr ⟨_, q736⟩) (Or.inl rfl) h.1 dX0_ends_239 ?_
      replace h := h.2
      refine b_cvo (y := mX0_failed) (ci := 0) (r := (RX0, TX0, 14)) (e := r0) (as := [.inl 6, .inl (-1), .inl (M.1 r1.1 r1.2 2)]) (st := [.inr r1, .inr r0]) (n := 3) rfl h.1 (Or.inl q1154) qs11 q853 q69 q854 zmh_X0_failed rfl (Nat.le_of_ble_eq_true rfl) (Nat.le_of_ble_eq_true rfl) dX0_ends_242 (sv_X0_failed (fun e_2 M_1 h => ?_) h.2)
      show wq (d + 11) mX0_ends 245 [(0, .inr r0), (1, .inr r1), (2, .inr r2), (3, .inr r3)] [.inr e_2, .inr r1, .inr r0] M_1 P
      refine b_cvo (y := mX0_fails) (ci := 0) (r := (RX0, TX0, 14)) (e := r0) (as := [.inr r1, .inr e_2]) (st := []) (n := 2) rfl h.1 (Or.inl q913) qs12 q893 q69 q894 zmh_X0_fails rfl (Nat.le_of_ble_eq_true rfl) (Nat.le_of_ble_eq_true rfl) dX0_ends_245 (cq.mono h.2 (fun _ M_3 h => ?_))
      obtain ⟨rfl, h⟩ := h
      show wq (d + 11) mX0_ends 248 [(0, .inr r0), (1, .inr r1), (2, .inr r2), (3, .inr r3)] [] M_3 P
      refine b_goto (tgt := 277) dX0_ends_248 (by decide) ?_
      exact b_vret rfl dX0_ends_277 (hP _ h)
def v_X0_ends_127 (d : Nat) (r0 : Nat × Nat) (r1 : Nat × Nat) (r2 : Nat × Nat) (r3 : Nat × Nat) (u0 : Nat × Nat) (M : Mem) (Q : Mem → Prop) : Prop := kt r2.1 = 15 ∧ (((¬ (M.1 r2.1 r2.2 2) = 0) → (((u0 = (0, 0)) → (kt r2.1 = 15 ∧ (((¬ (M.1 r2.1 r2.2 2) = 1) → (v_X0_ends_208 d r0 r1 r2 r3 M Q)) ∧ (((M.1 r2.1 r2.2 2) = 1) → (kt r3.1 = 2 ∧ (kt r2.1 = 15 ∧ ((((M.1 r2.1 r2.2 3) ≤ (M.1 r3.1 r3.2 2)) → (v_X0_ends_208 d r0 r1 r2 r3 M Q)) ∧ ((¬ (M.1 r2.1 r2.2 3) ≤ (M.1 r3.1 r3.2 2)) → (kt r1.1 = 16 ∧ (kt r0.1 = 0 ∧ (v_X0_failed r0 5 (-1) (M.1 r1.1 r1.2 2) M (fun e_2 M_1 => kt r0.1 = 0 ∧ (cq (d + 10) mX0_fails [.inr r0, .inr r1, .inr e_2] M_1 (fun r_ M_3 => r_ = none ∧ (Q M_3))))))))))))))) ∧ ((¬ u0 = (0, 0)) → (kt u0.1 = 18 ∧ (kt r0.1 = 0 ∧ (cq (d + 10) mX0_good [.inr r0, .inr r1, .inl (if 0 ≤ (M.1 u0.1 u0.2 3) then (M.1 u0.1 u0.2 3) else 0 - (M.1 u0.1 u0.2 3)), .inl 0] M (fun r_ M_7 => r_ = none ∧ (Q M_7)))))))) ∧ (((M.1 r2.1 r2.2 2) = 0) → (kt r3.1 = 2 ∧ (kt r0.1 = 0 ∧ (cq (d + 10) mX0_good [.inr r0, .inr r1, .inl (M.1 r3.1 r3.2 2), .inl 0] M (fun r_ M_10 => r_ = none ∧ (Q M_10)))))))
set_option maxHeartbeats 4000000 in
theorem sv_X0_ends_127 {d : Nat} {P : Option AV → Mem → Prop} {Q : Mem → Prop} (hP : ∀ M, Q M → P none M) (r0 : Nat × Nat) (r1 : Nat × Nat) (r2 : Nat × Nat) (r3 : Nat × Nat) (u0 : Nat × Nat) (M : Mem) (h : v_X0_ends_127 d r0 r1 r2 r3 u0 M Q) : wq (d + 11) mX0_ends 127 [(0, .inr r0), (1, .inr r1), (2, .inr r2), (3, .inr r3)] [.inr u0] M P := by
  unfold v_X0_ends_127 at h
  refine b_astore (lv' := [(4, .inr u0), (0, .inr r0), (1, .inr r1), (2, .inr r2), (3, .inr r3)]) dX0_ends_127 (Nat.le_of_ble_eq_true rfl) rfl ?_
  refine b_aload_n 3 dX0_ends_129 rfl rfl ?_
  refine b_gI (ci := 15) (r := (RX15, TX15, 10)) (f := 2) (by decide) rfl (by decide) rfl (Or.inr ⟨_, q671⟩) (Or.inl rfl) h.1 dX0_ends_130 ?_
  replace h := h.2
  refine b_if_ne (tgt := 149) dX0_ends_133 (by decide) (fun c_12 => ?_) (fun c_12 => ?_)
  · replace h := h.1 c_12
    refine b_aload 0 dX0_ends_149 rfl ?_
    refine b_ifnull (tgt := 171) dX0_ends_151 (by decide) (fun c_9 => ?_) (fun c_9 => ?_)
    · replace h := h.1 c_9
      refine b_aload_n 3 dX0_ends_171 rfl rfl ?_
      refine b_gI (ci := 15) (r := (RX15, TX15, 10)) (f := 2) (by decide) rfl (by decide) rfl (Or.inr ⟨_, q671⟩) (Or.inl rfl) h.1 dX0_ends_172 ?_
      replace h := h.2
      refine b_iconst (v := 1) dX0_ends_175 (by decide) ?_
      refine b_icmp_ne (tgt := 208) dX0_ends_176 (by decide) (fun c_6 => ?_) (fun c_6 => ?_)
      · replace h := h.1 c_6
        exact b_sub (by simp) (sv_X0_ends_208 hP r0 r1 r2 r3 M h)
      · replace h := h.2 c_6
        refine b_aload_n 4 dX0_ends_179 rfl rfl ?_
        refine b_gI (ci := 2) (r := (RX2, TX2, 3)) (f := 2) (by decide) rfl (by decide) rfl (Or.inr ⟨_, q218⟩) (Or.inl rfl) h.1 dX0_ends_180 ?_
        replace h := h.2
        refine b_aload_n 3 dX0_ends_183 rfl rfl ?_
        refine b_gI (ci := 15) (r := (RX15, TX15, 10)) (f := 3) (by decide) rfl (by decide) rfl (Or.inr ⟨_, q673⟩) (Or.inl rfl) h.1 dX0_ends_184 ?_
        replace h := h.2
        refine b_icmp_ge (tgt := 208) dX0_ends_187 (by decide) (fun c_5 => ?_) (fun c_5 => ?_)
        · replace h := h.1 c_5
          exact b_sub (by simp) (sv_X0_ends_208 hP r0 r1 r2 r3 M h)
        · replace h := h.2 c_5
          refine b_aload_n 1 dX0_ends_190 rfl rfl ?_
          refine b_aload_n 2 dX0_ends_191 rfl rfl ?_
          refine b_aload_n 1 dX0_ends_192 rfl rfl ?_
          refine b_iconst (v := 5) dX0_ends_193 (by decide) ?_
          refine b_iconst (v := (-1)) dX0_ends_194 (by decide) ?_
          refine b_aload_n 2 dX0_ends_195 rfl rfl ?_
          refine b_gI (ci := 16) (r := (RX16, TX16, 17)) (f := 2) (by decide) rfl (by decide) rfl (Or.inr ⟨_, q736⟩) (Or.inl rfl) h.1 dX0_ends_196 ?_
          replace h := h.2
          refine b_cvo (y := mX0_failed) (ci := 0) (r := (RX0, TX0, 14)) (e := r0) (as := [.inl 5, .inl (-1), .inl (M.1 r1.1 r1.2 2)]) (st := [.inr r1, .inr r0]) (n := 3) rfl h.1 (Or.inl q1154) qs11 q853 q69 q854 zmh_X0_failed rfl (Nat.le_of_ble_eq_true rfl) (Nat.le_of_ble_eq_true rfl) dX0_ends_199 (sv_X0_failed (fun e_2 M_1 h => ?_) h.2)
          show wq (d + 11) mX0_ends 202 [(4, .inr u0), (0, .inr r0), (1, .inr r1), (2, .inr r2), (3, .inr r3)] [.inr e_2, .inr r1, .inr r0] M_1 P
          refine b_cvo (y := mX0_fails) (ci := 0) (r := (RX0, TX0, 14)) (e := r0) (as := [.inr r1, .inr e_2]) (st := []) (n := 2) rfl h.1 (Or.inl q913) qs12 q893 q69 q894 zmh_X0_fails rfl (Nat.le_of_ble_eq_true rfl) (Nat.le_of_ble_eq_true rfl) dX0_ends_202 (cq.mono h.2 (fun _ M_3 h => ?_))
          obtain ⟨rfl, h⟩ := h
          show wq (d + 11) mX0_ends 205 [(4, .inr u0), (0, .inr r0), (1, .inr r1), (2, .inr r2), (3, .inr r3)] [] M_3 P
          refine b_goto (tgt := 277) dX0_ends_205 (by decide) ?_
          exact b_vret rfl dX0_ends_277 (hP _ h)
    · replace h := h.2 c_9
      refine b_aload_n 1 dX0_ends_154 rfl rfl ?_
      refine b_aload_n 2 dX0_ends_155 rfl rfl ?_
      refine b_aload 0 dX0_ends_156 rfl ?_
      refine b_gI (ci := 18) (r := (RX18, TX18, 5)) (f := 3) (by decide) rfl (by decide) rfl (Or.inr ⟨_, q1179⟩) (Or.inl rfl) h.1 dX0_ends_158 ?_
      replace h := h.2
      refine b_mabs q1160 (Nat.le_of_ble_eq_true rfl) dX0_ends_161 ?_
      refine b_iconst (v := 0) dX0_ends_164 (by decide) ?_
      refine b_cvo (y := mX0_good) (ci := 0) (r := (RX0, TX0, 14)) (e := r0) (as := [.inr r1, .inl (if 0 ≤ (M.1 u0.1 u0.2 3) then (M.1 u0.1 u0.2 3) else 0 - (M.1 u0.1 u0.2 3)), .inl 0]) (st := []) (n := 3) rfl h.1 (Or.inl q909) qs15 q911 q69 q912 zmh_X0_good rfl (Nat.le_of_ble_eq_true rfl) (Nat.le_of_ble_eq_true rfl) dX0_ends_165 (cq.mono h.2 (fun _ M_7 h => ?_))
      obtain ⟨rfl, h⟩ := h
      show wq (d + 11) mX0_ends 168 [(4, .inr u0), (0, .inr r0), (1, .inr r1), (2, .inr r2), (3, .inr r3)] [] M_7 P
      refine b_goto (tgt := 277) dX0_ends_168 (by decide) ?_
      exact b_vret rfl dX0_ends_277 (hP _ h)
  · replace h := h.2 c_12
    refine b_aload_n 1 dX0_ends_136 rfl rfl ?_
    refine b_aload_n 2 dX0_ends_137 rfl rfl ?_
    refine b_aload_n 4 dX0_ends_138 rfl rfl ?_
    refine b_gI (ci := 2) (r := (RX2, TX2, 3)) (f := 2) (by decide) rfl (by decide) rfl (Or.inr ⟨_, q218⟩) (Or.inl rfl) h.1 dX0_ends_139 ?_
    replace h := h.2
    refine b_iconst (v := 0) dX0_ends_142 (by decide) ?_
    refine b_cvo (y := mX0_good) (ci := 0) (r := (RX0, TX0, 14)) (e := r0) (as := [.inr r1, .inl (M.1 r3.1 r3.2 2), .inl 0]) (st := []) (n := 3) rfl h.1 (Or.inl q909) qs15 q911 q69 q912 zmh_X0_good rfl (Nat.le_of_ble_eq_true rfl) (Nat.le_of_ble_eq_true rfl) dX0_ends_143 (cq.mono h.2 (fun _ M_10 h => ?_))
    obtain ⟨rfl, h⟩ := h
    show wq (d + 11) mX0_ends 146 [(4, .inr u0), (0, .inr r0), (1, .inr r1), (2, .inr r2), (3, .inr r3)] [] M_10 P
    refine b_goto (tgt := 277) dX0_ends_146 (by decide) ?_
    exact b_vret rfl dX0_ends_277 (hP _ h)
def v_X0_ends_23 (d : Nat) : Nat → Nat × Nat → Nat × Nat → Nat × Nat → Nat × Nat → Int32 → Mem → (Mem → Prop) → Prop
  | 0, _, _, _, _, _, _, _ => False
  | n + 1, r0, r1, r2, r3, x4, M, Q => kt r0.1 = 0 ∧ (∀ e_1 : Nat × Nat, e_1 = M.2.1 r0.1 r0.2 3 → (lk e_1.1 ∧ ((((M.1 e_1.1 e_1.2 0) ≤ x4) → (kt r2.1 = 15 ∧ (((¬ (M.1 r2.1 r2.2 2) = 0) → (kt r1.1 = 16 ∧ (kt r2.1 = 15 ∧ (kt r0.1 = 0 ∧ (v_X0_keyed r0 (M.1 r1.1 r1.2 2) (M.1 r2.1 r2.2 4) M (fun e_3 M_2 => v_X0_ends_127 d r0 r1 r2 r3 e_3 M_2 Q)))))) ∧ (((M.1 r2.1 r2.2 2) = 0) → (v_X0_ends_127 d r0 r1 r2 r3 (0, 0) M Q))))) ∧ ((¬ (M.1 e_1.1 e_1.2 0) ≤ x4) → (kt r0.1 = 0 ∧ (∀ e_5 : Nat × Nat, e_5 = M.2.1 r0.1 r0.2 3 → (lk e_5.1 ∧ (¬ x4 < 0 ∧ x4 < M.1 e_5.1 e_5.2 0) ∧ (∀ e_6 : Nat × Nat, e_6 = M.2.1 e_5.1 e_5.2 x4.toNatClampNeg → (kt e_6.1 = 3 ∧ (kt r1.1 = 16 ∧ (kt r2.1 = 15 ∧ (kt r0.1 = 0 ∧ (kt e_6.1 = 3 ∧ (v_X3_fits e_6 (M.1 r1.1 r1.2 2) (M.1 r2.1 r2.2 2) (M.1 r0.1 r0.2 0) M (fun r_8 M_7 => ((¬ r_8 = 0) → (kt r0.1 = 0 ∧ (∀ e_9 : Nat × Nat, e_9 = M_7.2.1 r0.1 r0.2 3 → (lk e_9.1 ∧ (¬ x4 < 0 ∧ x4 < M_7.1 e_9.1 e_9.2 0) ∧ (∀ e_10 : Nat × Nat, e_10 = M_7.2.1 e_9.1 e_9.2 x4.toNatClampNeg → (kt e_10.1 = 3 ∧ (kt e_10.1 = 3 ∧ (kt r1.1 = 16 ∧ (kt r0.1 = 0 ∧ (v_X0_failed r0 (M_7.1 e_10.1 e_10.2 4) (-1) (M_7.1 r1.1 r1.2 2) M_7 (fun e_12 M_11 => kt r0.1 = 0 ∧ (cq (d + 10) mX0_fails [.inr r0, .inr r1, .inr e_12] M_11 (fun r_ M_13 => r_ = none ∧ (Q M_13)))))))))))))) ∧ ((r_8 = 0) → (∀ x_15 : Int32, x_15 = x4 + 1 → (v_X0_ends_23 d n r0 r1 r2 r3 x_15 M_7 Q))))))))))))))))))
set_option maxHeartbeats 4000000 in
theorem sv_X0_ends_23 {d : Nat} {P : Option AV → Mem → Prop} {Q : Mem → Prop} (hP : ∀ M, Q M → P none M) : ∀ (n : Nat) (r0 : Nat × Nat) (r1 : Nat × Nat) (r2 : Nat × Nat) (r3 : Nat × Nat) (x4 : Int32) (M : Mem), v_X0_ends_23 d n r0 r1 r2 r3 x4 M Q → wq (d + 11) mX0_ends 23 [(0, .inr r0), (1, .inr r1), (2, .inr r2), (3, .inr r3), (4, .inl x4)] [] M P := by
  intro n
  induction n with
  | zero => intro r0 r1 r2 r3 x4 M h; exact False.elim h
  | succ n ih =>
    intro r0 r1 r2 r3 x4 M h
    rw [v_X0_ends_23] at h
    refine b_iload 4 dX0_ends_23 rfl ?_
    refine b_aload_n 0 dX0_ends_25 rfl rfl ?_
    refine b_gR (ci := 0) (r := (RX0, TX0, 14)) (f := 3) (by decide) rfl (by decide) rfl (Or.inl q149) (Or.inl rfl) h.1 dX0_ends_26 ?_
    refine b_topr (fun e_1 ee_1 => ?_)
    replace h := h.2 e_1 ee_1
    refine b_lsize (st := [.inl x4]) h.1 (Or.inl q201) (Nat.le_of_ble_eq_true rfl) dX0_ends_29 ?_
    replace h := h.2
    refine b_icmp_ge (tgt := 104) dX0_ends_32 (by decide) (fun c_17 => ?_) (fun c_17 => ?_)
    · replace h := h.1 c_17
      refine b_aload_n 2 dX0_ends_104 rfl rfl ?_
      refine b_gI (ci := 15) (r := (RX15, TX15, 10)) (f := 2) (by decide) rfl (by decide) rfl (Or.inr ⟨_, q671⟩) (Or.inl rfl) h.1 dX0_ends_105 ?_
      replace h := h.2
      refine b_if_ne (tgt := 115) dX0_ends_108 (by decide) (fun c_4 => ?_) (fun c_4 => ?_)
      · replace h := h.1 c_4
        refine b_aload_n 0 dX0_ends_115 rfl rfl ?_
        refine b_aload_n 1 dX0_ends_116 rfl rfl ?_
        refine b_gI (ci := 16) (r := (RX16, TX16, 17)) (f := 2) (by decide) rfl (by decide) rfl (Or.inr ⟨_, q736⟩) (Or.inl rfl) h.1 dX0_ends_117 ?_
        replace h := h.2
        refine b_aload_n 2 dX0_ends_120 rfl rfl ?_
        refine b_gI (ci := 15) (r := (RX15, TX15, 10)) (f := 4) (by decide) rfl (by decide) rfl (Or.inr ⟨_, q676⟩) (Or.inl rfl) h.1 dX0_ends_121 ?_
        replace h := h.2
        refine b_cvo (y := mX0_keyed) (ci := 0) (r := (RX0, TX0, 14)) (e := r0) (as := [.inl (M.1 r1.1 r1.2 2), .inl (M.1 r2.1 r2.2 4)]) (st := []) (n := 2) rfl h.1 (Or.inl q1155) qs23 q1157 q69 q1158 zmh_X0_keyed rfl (Nat.le_of_ble_eq_true rfl) (Nat.le_of_ble_eq_true rfl) dX0_ends_124 (sv_X0_keyed (fun e_3 M_2 h => ?_) h.2)
        show wq (d + 11) mX0_ends 127 [(0, .inr r0), (1, .inr r1), (2, .inr r2), (3, .inr r3), (4, .inl x4)] [.inr e_3] M_2 P
        exact b_sub (by simp) (sv_X0_ends_127 hP r0 r1 r2 r3 e_3 M_2 h)
      · replace h := h.2 c_4
        refine b_null dX0_ends_111 ?_
        refine b_goto (tgt := 127) dX0_ends_112 (by decide) ?_
        exact b_sub (by simp) (sv_X0_ends_127 hP r0 r1 r2 r3 (0, 0) M h)
    · replace h := h.2 c_17
      refine b_aload_n 0 dX0_ends_35 rfl rfl ?_
      refine b_gR (ci := 0) (r := (RX0, TX0, 14)) (f := 3) (by decide) rfl (by decide) rfl (Or.inl q149) (Or.inl rfl) h.1 dX0_ends_36 ?_
      refine b_topr (fun e_5 ee_5 => ?_)
      replace h := h.2 e_5 ee_5
      refine b_iload 4 dX0_ends_39 rfl ?_
      refine b_lget (st := []) h.1 h.2.1 (Or.inl q624) (Nat.le_of_ble_eq_true rfl) dX0_ends_41 ?_
      refine b_topr (fun e_6 ee_6 => ?_)
      replace h := h.2.2 e_6 ee_6
      refine b_ck (ci := 3) (r := (RX3, TX3, 5)) rfl q301 h.1 dX0_ends_44 ?_
      replace h := h.2
      refine b_aload_n 1 dX0_ends_47 rfl rfl ?_
      refine b_gI (ci := 16) (r := (RX16, TX16, 17)) (f := 2) (by decide) rfl (by decide) rfl (Or.inr ⟨_, q736⟩) (Or.inl rfl) h.1 dX0_ends_48 ?_
      replace h := h.2
      refine b_aload_n 2 dX0_ends_51 rfl rfl ?_
      refine b_gI (ci := 15) (r := (RX15, TX15, 10)) (f := 2) (by decide) rfl (by decide) rfl (Or.inr ⟨_, q671⟩) (Or.inl rfl) h.1 dX0_ends_52 ?_
      replace h := h.2
      refine b_aload_n 0 dX0_ends_55 rfl rfl ?_
      refine b_gI (ci := 0) (r := (RX0, TX0, 14)) (f := 0) (by decide) rfl (by decide) rfl (Or.inl q144) (Or.inl rfl) h.1 dX0_ends_56 ?_
      replace h := h.2
      refine b_cvo (y := mX3_fits) (ci := 3) (r := (RX3, TX3, 5)) (e := e_6) (as := [.inl (M.1 r1.1 r1.2 2), .inl (M.1 r2.1 r2.2 2), .inl (M.1 r0.1 r0.2 0)]) (st := []) (n := 3) rfl h.1 (Or.inl q824) q826 q825 q79 q827 zmh_X3_fits rfl (Nat.le_of_ble_eq_true rfl) (Nat.le_of_ble_eq_true rfl) dX0_ends_59 (sv_X3_fits (fun r_8 M_7 h => ?_) h.2)
      show wq (d + 11) mX0_ends 62 [(0, .inr r0), (1, .inr r1), (2, .inr r2), (3, .inr r3), (4, .inl x4)] [.inl r_8] M_7 P
      refine b_if_ne (tgt := 68) dX0_ends_62 (by decide) (fun c_16 => ?_) (fun c_16 => ?_)
      · replace h := h.1 c_16
        refine b_aload_n 0 dX0_ends_68 rfl rfl ?_
        refine b_aload_n 1 dX0_ends_69 rfl rfl ?_
        refine b_aload_n 0 dX0_ends_70 rfl rfl ?_
        refine b_aload_n 0 dX0_ends_71 rfl rfl ?_
        refine b_gR (ci := 0) (r := (RX0, TX0, 14)) (f := 3) (by decide) rfl (by decide) rfl (Or.inl q149) (Or.inl rfl) h.1 dX0_ends_72 ?_
        refine b_topr (fun e_9 ee_9 => ?_)
        replace h := h.2 e_9 ee_9
        refine b_iload 4 dX0_ends_75 rfl ?_
        refine b_lget (st := [.inr r0, .inr r1, .inr r0]) h.1 h.2.1 (Or.inl q624) (Nat.le_of_ble_eq_true rfl) dX0_ends_77 ?_
        refine b_topr (fun e_10 ee_10 => ?_)
        replace h := h.2.2 e_10 ee_10
        refine b_ck (ci := 3) (r := (RX3, TX3, 5)) rfl q301 h.1 dX0_ends_80 ?_
        replace h := h.2
        refine b_gI (ci := 3) (r := (RX3, TX3, 5)) (f := 4) (by decide) rfl (by decide) rfl (Or.inr ⟨_, q316⟩) (Or.inl rfl) h.1 dX0_ends_83 ?_
        replace h := h.2
        refine b_iconst (v := (-1)) dX0_ends_86 (by decide) ?_
        refine b_aload_n 1 dX0_ends_87 rfl rfl ?_
        refine b_gI (ci := 16) (r := (RX16, TX16, 17)) (f := 2) (by decide) rfl (by decide) rfl (Or.inr ⟨_, q736⟩) (Or.inl rfl) h.1 dX0_ends_88 ?_
        replace h := h.2
        refine b_cvo (y := mX0_failed) (ci := 0) (r := (RX0, TX0, 14)) (e := r0) (as := [.inl (M_7.1 e_10.1 e_10.2 4), .inl (-1), .inl (M_7.1 r1.1 r1.2 2)]) (st := [.inr r1, .inr r0]) (n := 3) rfl h.1 (Or.inl q1154) qs11 q853 q69 q854 zmh_X0_failed rfl (Nat.le_of_ble_eq_true rfl) (Nat.le_of_ble_eq_true rfl) dX0_ends_91 (sv_X0_failed (fun e_12 M_11 h => ?_) h.2)
        show wq (d + 11) mX0_ends 94 [(0, .inr r0), (1, .inr r1), (2, .inr r2), (3, .inr r3), (4, .inl x4)] [.inr e_12, .inr r1, .inr r0] M_11 P
        refine b_cvo (y := mX0_fails) (ci := 0) (r := (RX0, TX0, 14)) (e := r0) (as := [.inr r1, .inr e_12]) (st := []) (n := 2) rfl h.1 (Or.inl q913) qs12 q893 q69 q894 zmh_X0_fails rfl (Nat.le_of_ble_eq_true rfl) (Nat.le_of_ble_eq_true rfl) dX0_ends_94 (cq.mono h.2 (fun _ M_13 h => ?_))
        obtain ⟨rfl, h⟩ := h
        show wq (d + 11) mX0_ends 97 [(0, .inr r0), (1, .inr r1), (2, .inr r2), (3, .inr r3), (4, .inl x4)] [] M_13 P
        exact b_vret rfl dX0_ends_97 (hP _ h)
      · replace h := h.2 c_16
        refine b_goto (tgt := 98) dX0_ends_65 (by decide) ?_
        obtain ⟨x_15, ex_15⟩ : ∃ y : Int32, y = x4 + 1 := ⟨_, rfl⟩
        replace h := h x_15 ex_15
        refine b_iinc (v := x_15) (lv' := [(4, .inl x_15), (0, .inr r0), (1, .inr r1), (2, .inr r2), (3, .inr r3)]) 4 dX0_ends_98 rfl (by rw [ex_15]; rfl) (Nat.le_of_ble_eq_true rfl) rfl ?_
        refine b_goto (tgt := 23) dX0_ends_101 (by decide) ?_
        exact b_sub (by simp) (ih r0 r1 r2 r3 x_15 M_7 h)
def v_X0_ends (d : Nat) (r0 : Nat × Nat) (r1 : Nat × Nat) (M : Mem) (Q : Mem → Prop) : Prop := kt r1.1 = 16 ∧ (∀ e_1 : Nat × Nat, e_1 = M.2.1 r1.1 r1.2 4 → (kt r0.1 = 0 ∧ (∀ e_2 : Nat × Nat, e_2 = M.2.1 r0.1 r0.2 2 → (kt r1.1 = 16 ∧ (lk e_2.1 ∧ (¬ ((M.1 r1.1 r1.2 2)) < 0 ∧ ((M.1 r1.1 r1.2 2)) < M.1 e_2.1 e_2.2 0) ∧ (∀ e_3 : Nat × Nat, e_3 = M.2.1 e_2.1 e_2.2 ((M.1 r1.1 r1.2 2)).toNatClampNeg → (kt e_3.1 = 2 ∧ (∃ n, v_X0_ends_23 d n r0 r1 e_1 e_3 0 M Q))))))))
set_option maxHeartbeats 4000000 in
theorem sv_X0_ends {d : Nat} {M : Mem} {P : Option AV → Mem → Prop} {Q : Mem → Prop} {r0 : Nat × Nat} {r1 : Nat × Nat} (hP : ∀ M, Q M → P none M) (h : v_X0_ends d r0 r1 M Q) : cq (d + 11) mX0_ends [.inr r0, .inr r1] M P := by
  refine cq_of (by decide) (Nat.le_of_ble_eq_true rfl) ?_
  show wq (d + 11) mX0_ends 0 [(0, .inr r0), (1, .inr r1)] [] M P
  unfold v_X0_ends at h
  refine b_aload_n 1 dX0_ends_0 rfl rfl ?_
  refine b_gR (ci := 16) (r := (RX16, TX16, 17)) (f := 4) (by decide) rfl (by decide) rfl (Or.inr ⟨_, q743⟩) (Or.inl rfl) h.1 dX0_ends_1 ?_
  refine b_topr (fun e_1 ee_1 => ?_)
  replace h := h.2 e_1 ee_1
  refine b_astore_n (lv' := [(2, .inr e_1), (0, .inr r0), (1, .inr r1)]) dX0_ends_4 rfl (Nat.le_of_ble_eq_true rfl) rfl ?_
  refine b_aload_n 1 dX0_ends_5 rfl rfl ?_
  refine b_gR (ci := 0) (r := (RX0, TX0, 14)) (f := 2) (by decide) rfl (by decide) rfl (Or.inl q148) (Or.inl rfl) h.1 dX0_ends_6 ?_
  refine b_topr (fun e_2 ee_2 => ?_)
  replace h := h.2 e_2 ee_2
  refine b_aload_n 2 dX0_ends_9 rfl rfl ?_
  refine b_gI (ci := 16) (r := (RX16, TX16, 17)) (f := 2) (by decide) rfl (by decide) rfl (Or.inr ⟨_, q736⟩) (Or.inl rfl) h.1 dX0_ends_10 ?_
  replace h := h.2
  refine b_lget (st := []) h.1 h.2.1 (Or.inl q624) (Nat.le_of_ble_eq_true rfl) dX0_ends_13 ?_
  refine b_topr (fun e_3 ee_3 => ?_)
  replace h := h.2.2 e_3 ee_3
  refine b_ck (ci := 2) (r := (RX2, TX2, 3)) rfl q205 h.1 dX0_ends_16 ?_
  replace h := h.2
  refine b_astore_n (lv' := [(3, .inr e_3), (2, .inr e_1), (0, .inr r0), (1, .inr r1)]) dX0_ends_19 rfl (Nat.le_of_ble_eq_true rfl) rfl ?_
  refine b_iconst (v := 0) dX0_ends_20 (by decide) ?_
  refine b_istore (lv' := [(4, .inl 0), (3, .inr e_3), (2, .inr e_1), (0, .inr r0), (1, .inr r1)]) dX0_ends_21 (Nat.le_of_ble_eq_true rfl) rfl ?_
  obtain ⟨n, h⟩ := h
  exact b_sub (by simp) (sv_X0_ends_23 hP n r0 r1 e_1 e_3 0 M h)
def v_X18_init (r0 : Nat × Nat) (x1 : Int32) (r2 : Nat × Nat) (x3 : Int32) (x4 : Int32) (M : Mem) (Q : Mem → Prop) : Prop := ¬ r0.1 = 0 ∧ (kt r0.1 = 18 ∧ (∀ M_1 : Mem, M_1 = sI M r0.1 r0.2 0 x1 → (kt r2.1 = 15 ∧ (kt r0.1 = 18 ∧ (∀ M_2 : Mem, M_2 = sI M_1 r0.1 r0.2 1 (M_1.1 r2.1 r2.2 0) → (kt r2.1 = 15 ∧ (kt r0.1 = 18 ∧ (∀ M_3 : Mem, M_3 = sI M_2 r0.1 r0.2 2 (M_2.1 r2.1 r2.2 4) → (kt r0.1 = 18 ∧ (∀ M_4 : Mem, M_4 = sI M_3 r0.1 r0.2 3 x3 → (kt r0.1 = 18 ∧ (∀ M_5 : Mem, M_5 = sI M_4 r0.1 r0.2 4 x4 → (Q M_5)))))))))))))
set_option maxHeartbeats 4000000 in
theorem sv_X18_init {d : Nat} {M : Mem} {P : Option AV → Mem → Prop} {Q : Mem → Prop} {r0 : Nat × Nat} {x1 : Int32} {r2 : Nat × Nat} {x3 : Int32} {x4 : Int32} (hP : ∀ M, Q M → P none M) (h : v_X18_init r0 x1 r2 x3 x4 M Q) : cq (d + 1) mX18_init [.inr r0, .inl x1, .inr r2, .inl x3, .inl x4] M P := by
  refine cq_of (by decide) (Nat.le_of_ble_eq_true rfl) ?_
  show wq (d + 1) mX18_init 0 [(0, .inr r0), (1, .inl x1), (2, .inr r2), (3, .inl x3), (4, .inl x4)] [] M P
  unfold v_X18_init at h
  refine b_aload_n 0 dX18_init_0 rfl rfl ?_
  refine b_obj h.1 q1171 q109 q110 (Nat.le_of_ble_eq_true rfl) dX18_init_1 ?_
  replace h := h.2
  refine b_aload_n 0 dX18_init_4 rfl rfl ?_
  refine b_iload_n 1 dX18_init_5 rfl rfl ?_
  refine b_fI (ci := 18) (r := (RX18, TX18, 5)) (f := 0) (by decide) rfl (by decide) q1172 (Or.inl rfl) rfl rfl rfl (Or.inl rfl) h.1 dX18_init_6 ?_
  refine b_topm (fun M_1 eM_1 => ?_)
  replace h := h.2 M_1 eM_1
  refine b_aload_n 0 dX18_init_9 rfl rfl ?_
  refine b_aload_n 2 dX18_init_10 rfl rfl ?_
  refine b_gI (ci := 15) (r := (RX15, TX15, 10)) (f := 0) (by decide) rfl (by decide) rfl (Or.inr ⟨_, q664⟩) (Or.inl rfl) h.1 dX18_init_11 ?_
  replace h := h.2
  refine b_fI (ci := 18) (r := (RX18, TX18, 5)) (f := 1) (by decide) rfl (by decide) q1174 (Or.inl rfl) rfl rfl rfl (Or.inl rfl) h.1 dX18_init_14 ?_
  refine b_topm (fun M_2 eM_2 => ?_)
  replace h := h.2 M_2 eM_2
  refine b_aload_n 0 dX18_init_17 rfl rfl ?_
  refine b_aload_n 2 dX18_init_18 rfl rfl ?_
  refine b_gI (ci := 15) (r := (RX15, TX15, 10)) (f := 4) (by decide) rfl (by decide) rfl (Or.inr ⟨_, q674⟩) (Or.inl rfl) h.1 dX18_init_19 ?_
  replace h := h.2
  refine b_fI (ci := 18) (r := (RX18, TX18, 5)) (f := 2) (by decide) rfl (by decide) q1176 (Or.inl rfl) rfl rfl rfl (Or.inl rfl) h.1 dX18_init_22 ?_
  refine b_topm (fun M_3 eM_3 => ?_)
  replace h := h.2 M_3 eM_3
  refine b_aload_n 0 dX18_init_25 rfl rfl ?_
  refine b_iload_n 3 dX18_init_26 rfl rfl ?_
  refine b_fI (ci := 18) (r := (RX18, TX18, 5)) (f := 3) (by decide) rfl (by decide) q1178 (Or.inl rfl) rfl rfl rfl (Or.inl rfl) h.1 dX18_init_27 ?_
  refine b_topm (fun M_4 eM_4 => ?_)
  replace h := h.2 M_4 eM_4
  refine b_aload_n 0 dX18_init_30 rfl rfl ?_
  refine b_iload 4 dX18_init_31 rfl ?_
  refine b_fI (ci := 18) (r := (RX18, TX18, 5)) (f := 4) (by decide) rfl (by decide) q1180 (Or.inl rfl) rfl rfl rfl (Or.inl rfl) h.1 dX18_init_33 ?_
  refine b_topm (fun M_5 eM_5 => ?_)
  replace h := h.2 M_5 eM_5
  exact b_vret rfl dX18_init_36 (hP _ h)
def v_X0_moves (d : Nat) (r0 : Nat × Nat) (r1 : Nat × Nat) (r2 : Nat × Nat) (x3 : Int32) (M : Mem) (Q : Mem → Prop) : Prop := kt r2.1 = 2 ∧ (kt r2.1 = 2 ∧ (∀ M_1 : Mem, M_1 = sI M r2.1 r2.2 2 ((M.1 r2.1 r2.2 2) + x3) → (kt r0.1 = 0 ∧ (∀ e_2 : Nat × Nat, e_2 = M_1.2.1 r0.1 r0.2 11 → (rom M_1 5 ∧ (∃ i_3 : Nat, M_1.2.2.1 23 i_3 = 0 ∧ ∀ M_4 : Mem, M_4 = sN M_1 23 i_3 0 5 → (kt r1.1 = 16 ∧ (kt r1.1 = 16 ∧ (∀ e_5 : Nat × Nat, e_5 = M_4.2.1 r1.1 r1.2 4 → (kt r0.1 = 0 ∧ (¬ 23 = 0 ∧ (v_X18_init (23, i_3) (M_4.1 r1.1 r1.2 2) e_5 x3 (M_4.1 r0.1 r0.2 0) M_4 (fun M_6 => lk e_2.1 ∧ ekk 23 = true ∧ M_6.1 e_2.1 e_2.2 0 < 10000 ∧ rom M_6 10 ∧ (∀ M_8 : Mem, M_8 = lAdd M_6 e_2 (23, i_3) → (kt r1.1 = 16 ∧ (∀ e_9 : Nat × Nat, e_9 = M_8.2.1 r1.1 r1.2 4 → (kt e_9.1 = 15 ∧ (kt r0.1 = 0 ∧ (cq (d + 10) mX0_good [.inr r0, .inr r1, .inl (M_8.1 e_9.1 e_9.2 3), .inl 0] M_8 (fun r_ M_10 => r_ = none ∧ (Q M_10)))))))))))))))))))))
set_option maxHeartbeats 4000000 in
theorem sv_X0_moves {d : Nat} {M : Mem} {P : Option AV → Mem → Prop} {Q : Mem → Prop} {r0 : Nat × Nat} {r1 : Nat × Nat} {r2 : Nat × Nat} {x3 : Int32} (hP : ∀ M, Q M → P none M) (h : v_X0_moves d r0 r1 r2 x3 M Q) : cq (d + 11) mX0_moves [.inr r0, .inr r1, .inr r2, .inl x3] M P := by
  refine cq_of (by decide) (Nat.le_of_ble_eq_true rfl) ?_
  show wq (d + 11) mX0_moves 0 [(0, .inr r0), (1, .inr r1), (2, .inr r2), (3, .inl x3)] [] M P
  unfold v_X0_moves at h
  refine b_aload_n 2 dX0_moves_0 rfl rfl ?_
  refine b_dup dX0_moves_1 ?_
  refine b_gI (ci := 2) (r := (RX2, TX2, 3)) (f := 2) (by decide) rfl (by decide) rfl (Or.inr ⟨_, q218⟩) (Or.inl rfl) h.1 dX0_moves_2 ?_
  replace h := h.2
  refine b_iload_n 3 dX0_moves_5 rfl rfl ?_
  refine b_iadd dX0_moves_6 ?_
  refine b_pI (ci := 2) (r := (RX2, TX2, 3)) (f := 2) (by decide) rfl (by decide) (Or.inr ⟨_, q218⟩) (Or.inl rfl) rfl (Or.inl rfl) h.1 dX0_moves_7 ?_
  refine b_topm (fun M_1 eM_1 => ?_)
  replace h := h.2 M_1 eM_1
  refine b_aload_n 0 dX0_moves_10 rfl rfl ?_
  refine b_gR (ci := 0) (r := (RX0, TX0, 14)) (f := 11) (by decide) rfl (by decide) rfl (Or.inl q161) (Or.inl rfl) h.1 dX0_moves_11 ?_
  refine b_topr (fun e_2 ee_2 => ?_)
  replace h := h.2 e_2 ee_2
  obtain ⟨h1, i_3, ei_3, h⟩ := h
  refine b_nwo (k := 23) (i := i_3) (r := (RX18, TX18, 5)) (by decide) rfl h1 ei_3 q1159 q1167 q96 dX0_moves_14 ?_
  refine b_topm (fun M_4 eM_4 => ?_)
  replace h := h M_4 eM_4
  refine b_dup dX0_moves_17 ?_
  refine b_aload_n 1 dX0_moves_18 rfl rfl ?_
  refine b_gI (ci := 16) (r := (RX16, TX16, 17)) (f := 2) (by decide) rfl (by decide) rfl (Or.inr ⟨_, q736⟩) (Or.inl rfl) h.1 dX0_moves_19 ?_
  replace h := h.2
  refine b_aload_n 1 dX0_moves_22 rfl rfl ?_
  refine b_gR (ci := 16) (r := (RX16, TX16, 17)) (f := 4) (by decide) rfl (by decide) rfl (Or.inr ⟨_, q743⟩) (Or.inl rfl) h.1 dX0_moves_23 ?_
  refine b_topr (fun e_5 ee_5 => ?_)
  replace h := h.2 e_5 ee_5
  refine b_iload_n 3 dX0_moves_26 rfl rfl ?_
  refine b_aload_n 0 dX0_moves_27 rfl rfl ?_
  refine b_gI (ci := 0) (r := (RX0, TX0, 14)) (f := 0) (by decide) rfl (by decide) rfl (Or.inl q144) (Or.inl rfl) h.1 dX0_moves_28 ?_
  replace h := h.2
  refine b_ci (y := mX18_init) (k := 23) (i := i_3) (as := [.inl (M_4.1 r1.1 r1.2 2), .inr e_5, .inl x3, .inl (M_4.1 r0.1 r0.2 0)]) (st := [.inr (23, i_3), .inr e_2]) (n := 4) h.1 rfl rfl (Or.inl q1168) q1169 q96 q1170 zmh_X18_init rfl (Nat.le_of_ble_eq_true rfl) (Nat.le_of_ble_eq_true rfl) dX0_moves_31 (sv_X18_init (fun M_6 h => ?_) h.2)
  show wq (d + 11) mX0_moves 34 [(0, .inr r0), (1, .inr r1), (2, .inr r2), (3, .inl x3)] [.inr (23, i_3), .inr e_2] M_6 P
  refine b_ladd (st := []) h.1 h.2.1 h.2.2.1 h.2.2.2.1 (Or.inl q226) (Nat.le_of_ble_eq_true rfl) dX0_moves_34 ?_
  refine b_topm (fun M_8 eM_8 => ?_)
  replace h := h.2.2.2.2 M_8 eM_8
  refine b_pop dX0_moves_37 ?_
  refine b_aload_n 0 dX0_moves_38 rfl rfl ?_
  refine b_aload_n 1 dX0_moves_39 rfl rfl ?_
  refine b_aload_n 1 dX0_moves_40 rfl rfl ?_
  refine b_gR (ci := 16) (r := (RX16, TX16, 17)) (f := 4) (by decide) rfl (by decide) rfl (Or.inr ⟨_, q743⟩) (Or.inl rfl) h.1 dX0_moves_41 ?_
  refine b_topr (fun e_9 ee_9 => ?_)
  replace h := h.2 e_9 ee_9
  refine b_gI (ci := 15) (r := (RX15, TX15, 10)) (f := 3) (by decide) rfl (by decide) rfl (Or.inr ⟨_, q673⟩) (Or.inl rfl) h.1 dX0_moves_44 ?_
  replace h := h.2
  refine b_iconst (v := 0) dX0_moves_47 (by decide) ?_
  refine b_cvo (y := mX0_good) (ci := 0) (r := (RX0, TX0, 14)) (e := r0) (as := [.inr r1, .inl (M_8.1 e_9.1 e_9.2 3), .inl 0]) (st := []) (n := 3) rfl h.1 (Or.inl q909) qs15 q911 q69 q912 zmh_X0_good rfl (Nat.le_of_ble_eq_true rfl) (Nat.le_of_ble_eq_true rfl) dX0_moves_48 (cq.mono h.2 (fun _ M_10 h => ?_))
  obtain ⟨rfl, h⟩ := h
  show wq (d + 11) mX0_moves 51 [(0, .inr r0), (1, .inr r1), (2, .inr r2), (3, .inl x3)] [] M_10 P
  exact b_vret rfl dX0_moves_51 (hP _ h)
def v_X0_dueOf_77 (d : Nat) (K2 : Nat × Nat → Int32 → Int32 → Mem → Prop) (r0 : Nat × Nat) (x1 : Int32) (x2 : Int32) (r3 : Nat × Nat) (M : Mem) (Q : Mem → Prop) : Prop := kt r3.1 = 16 ∧ (∀ e_1 : Nat × Nat, e_1 = M.2.1 r3.1 r3.2 6 → (gk e_1.1 ∧ (cq (d + 10) (vt_due e_1.1) [.inr e_1, .inr r3] M (fun r_ M_2 => r_ = none ∧ (∀ x_4 : Int32, x_4 = x2 + 1 → (K2 r0 x1 x_4 M_2))))))
set_option maxHeartbeats 4000000 in
theorem sv_X0_dueOf_77 {d : Nat} {P : Option AV → Mem → Prop} {Q : Mem → Prop} (hP : ∀ M, Q M → P none M) (K2 : Nat × Nat → Int32 → Int32 → Mem → Prop) (hK2 : ∀ (z0 : Nat × Nat) (z1 : Int32) (z2 : Int32) (M : Mem), K2 z0 z1 z2 M → wq (d + 11) mX0_dueOf 2 [(0, .inr z0), (1, .inl z1), (2, .inl z2)] [] M P) (r0 : Nat × Nat) (x1 : Int32) (x2 : Int32) (r3 : Nat × Nat) (M : Mem) (h : v_X0_dueOf_77 d K2 r0 x1 x2 r3 M Q) : wq (d + 11) mX0_dueOf 77 [(0, .inr r0), (1, .inl x1), (2, .inl x2), (3, .inr r3)] [] M P := by
  unfold v_X0_dueOf_77 at h
  refine b_aload_n 3 dX0_dueOf_77 rfl rfl ?_
  refine b_gR (ci := 16) (r := (RX16, TX16, 17)) (f := 6) (by decide) rfl (by decide) rfl (Or.inr ⟨_, q748⟩) (Or.inl rfl) h.1 dX0_dueOf_78 ?_
  refine b_topr (fun e_1 ee_1 => ?_)
  replace h := h.2 e_1 ee_1
  refine b_aload_n 3 dX0_dueOf_81 rfl rfl ?_
  refine b_d_due (st := []) h.1 q1197 (Nat.le_of_ble_eq_true rfl) dX0_dueOf_82 (cq.mono h.2 (fun _ M_2 h => ?_))
  obtain ⟨rfl, h⟩ := h
  show wq (d + 11) mX0_dueOf 85 [(0, .inr r0), (1, .inl x1), (2, .inl x2), (3, .inr r3)] [] M_2 P
  obtain ⟨x_4, ex_4⟩ : ∃ y : Int32, y = x2 + 1 := ⟨_, rfl⟩
  replace h := h x_4 ex_4
  refine b_iinc (v := x_4) (lv' := [(2, .inl x_4), (0, .inr r0), (1, .inl x1), (3, .inr r3)]) 2 dX0_dueOf_85 rfl (by rw [ex_4]; rfl) (Nat.le_of_ble_eq_true rfl) rfl ?_
  refine b_goto (tgt := 2) dX0_dueOf_88 (by decide) ?_
  exact b_sub (by simp) (hK2 r0 x1 x_4 M_2 h)
def v_X0_dueOf_2 (d : Nat) : Nat → Nat × Nat → Int32 → Int32 → Mem → (Mem → Prop) → Prop
  | 0, _, _, _, _, _ => False
  | n + 1, r0, x1, x2, M, Q => kt r0.1 = 0 ∧ (∀ e_1 : Nat × Nat, e_1 = M.2.1 r0.1 r0.2 9 → (lk e_1.1 ∧ ((((M.1 e_1.1 e_1.2 0) ≤ x2) → (Q M)) ∧ ((¬ (M.1 e_1.1 e_1.2 0) ≤ x2) → (kt r0.1 = 0 ∧ (∀ e_2 : Nat × Nat, e_2 = M.2.1 r0.1 r0.2 9 → (lk e_2.1 ∧ (¬ x2 < 0 ∧ x2 < M.1 e_2.1 e_2.2 0) ∧ (∀ e_3 : Nat × Nat, e_3 = M.2.1 e_2.1 e_2.2 x2.toNatClampNeg → (kt e_3.1 = 16 ∧ (kt e_3.1 = 16 ∧ (v_X16_isUnderWay e_3 M (fun r_5 M_4 => ((r_5 = 0) → (∀ x_6 : Int32, x_6 = x2 + 1 → (v_X0_dueOf_2 d n r0 x1 x_6 M_4 Q))) ∧ ((¬ r_5 = 0) → (kt e_3.1 = 16 ∧ (kt r0.1 = 0 ∧ (((¬ (M_4.1 e_3.1 e_3.2 15) = (M_4.1 r0.1 r0.2 0)) → (∀ x_7 : Int32, x_7 = x2 + 1 → (v_X0_dueOf_2 d n r0 x1 x_7 M_4 Q))) ∧ (((M_4.1 e_3.1 e_3.2 15) = (M_4.1 r0.1 r0.2 0)) → (kt e_3.1 = 16 ∧ (∀ e_8 : Nat × Nat, e_8 = M_4.2.1 e_3.1 e_3.2 6 → (((e_8 = (0, 0)) → (∀ x_9 : Int32, x_9 = x2 + 1 → (v_X0_dueOf_2 d n r0 x1 x_9 M_4 Q))) ∧ ((¬ e_8 = (0, 0)) → (kt e_3.1 = 16 ∧ (∀ e_10 : Nat × Nat, e_10 = M_4.2.1 e_3.1 e_3.2 6 → (gk e_10.1 ∧ ((((M_4.1 e_10.1 e_10.2 1) = x1) → (((¬ x1 = 4) → (v_X0_dueOf_77 d (fun z0 z1 z2 M => v_X0_dueOf_2 d n z0 z1 z2 M Q) r0 x1 x2 e_3 M_4 Q)) ∧ ((x1 = 4) → (kt e_3.1 = 16 ∧ (((¬ (M_4.1 e_3.1 e_3.2 14) = 2) → (∀ x_11 : Int32, x_11 = x2 + 1 → (v_X0_dueOf_2 d n r0 x1 x_11 M_4 Q))) ∧ (((M_4.1 e_3.1 e_3.2 14) = 2) → (v_X0_dueOf_77 d (fun z0 z1 z2 M => v_X0_dueOf_2 d n z0 z1 z2 M Q) r0 x1 x2 e_3 M_4 Q))))))) ∧ ((¬ (M_4.1 e_10.1 e_10.2 1) = x1) → (∀ x_14 : Int32, x_14 = x2 + 1 → (v_X0_dueOf_2 d n r0 x1 x_14 M_4 Q))))))))))))))))))))))))))))
set_option maxHeartbeats 4000000 in
theorem sv_X0_dueOf_2 {d : Nat} {P : Option AV → Mem → Prop} {Q : Mem → Prop} (hP : ∀ M, Q M → P none M) : ∀ (n : Nat) (r0 : Nat × Nat) (x1 : Int32) (x2 : Int32) (M : Mem), v_X0_dueOf_2 d n r0 x1 x2 M Q → wq (d + 11) mX0_dueOf 2 [(0, .inr r0), (1, .inl x1), (2, .inl x2)] [] M P := by
  intro n
  induction n with
  | zero => intro r0 x1 x2 M h; exact False.elim h
  | succ n ih =>
    intro r0 x1 x2 M h
    rw [v_X0_dueOf_2] at h
    refine b_iload_n 2 dX0_dueOf_2 rfl rfl ?_
    refine b_aload_n 0 dX0_dueOf_3 rfl rfl ?_
    refine b_gR (ci := 0) (r := (RX0, TX0, 14)) (f := 9) (by decide) rfl (by decide) rfl (Or.inl q159) (Or.inl rfl) h.1 dX0_dueOf_4 ?_
    refine b_topr (fun e_1 ee_1 => ?_)
    replace h := h.2 e_1 ee_1
    refine b_lsize (st := [.inl x2]) h.1 (Or.inl q201) (Nat.le_of_ble_eq_true rfl) dX0_dueOf_7 ?_
    replace h := h.2
    refine b_icmp_ge (tgt := 91) dX0_dueOf_10 (by decide) (fun c_19 => ?_) (fun c_19 => ?_)
    · replace h := h.1 c_19
      exact b_vret rfl dX0_dueOf_91 (hP _ h)
    · replace h := h.2 c_19
      refine b_aload_n 0 dX0_dueOf_13 rfl rfl ?_
      refine b_gR (ci := 0) (r := (RX0, TX0, 14)) (f := 9) (by decide) rfl (by decide) rfl (Or.inl q159) (Or.inl rfl) h.1 dX0_dueOf_14 ?_
      refine b_topr (fun e_2 ee_2 => ?_)
      replace h := h.2 e_2 ee_2
      refine b_iload_n 2 dX0_dueOf_17 rfl rfl ?_
      refine b_lget (st := []) h.1 h.2.1 (Or.inl q624) (Nat.le_of_ble_eq_true rfl) dX0_dueOf_18 ?_
      refine b_topr (fun e_3 ee_3 => ?_)
      replace h := h.2.2 e_3 ee_3
      refine b_ck (ci := 16) (r := (RX16, TX16, 17)) rfl q721 h.1 dX0_dueOf_21 ?_
      replace h := h.2
      refine b_astore_n (lv' := [(3, .inr e_3), (0, .inr r0), (1, .inl x1), (2, .inl x2)]) dX0_dueOf_24 rfl (Nat.le_of_ble_eq_true rfl) rfl ?_
      refine b_aload_n 0 dX0_dueOf_25 rfl rfl ?_
      refine b_cvo (y := mX16_isUnderWay) (ci := 16) (r := (RX16, TX16, 17)) (e := e_3) (as := []) (st := []) (n := 0) rfl h.1 (Or.inl q967) q961 q960 q94 q962 zmh_X16_isUnderWay rfl (Nat.le_of_ble_eq_true rfl) (Nat.le_of_ble_eq_true rfl) dX0_dueOf_26 (sv_X16_isUnderWay (fun r_5 M_4 h => ?_) h.2)
      show wq (d + 11) mX0_dueOf 29 [(3, .inr e_3), (0, .inr r0), (1, .inl x1), (2, .inl x2)] [.inl r_5] M_4 P
      refine b_if_eq (tgt := 85) dX0_dueOf_29 (by decide) (fun c_18 => ?_) (fun c_18 => ?_)
      · replace h := h.1 c_18
        obtain ⟨x_6, ex_6⟩ : ∃ y : Int32, y = x2 + 1 := ⟨_, rfl⟩
        replace h := h x_6 ex_6
        refine b_iinc (v := x_6) (lv' := [(2, .inl x_6), (3, .inr e_3), (0, .inr r0), (1, .inl x1)]) 3 dX0_dueOf_85 rfl (by rw [ex_6]; rfl) (Nat.le_of_ble_eq_true rfl) rfl ?_
        refine b_goto (tgt := 2) dX0_dueOf_88 (by decide) ?_
        exact b_sub (by simp) (ih r0 x1 x_6 M_4 h)
      · replace h := h.2 c_18
        refine b_aload_n 0 dX0_dueOf_32 rfl rfl ?_
        refine b_gI (ci := 16) (r := (RX16, TX16, 17)) (f := 15) (by decide) rfl (by decide) rfl (Or.inr ⟨_, q782⟩) (Or.inl rfl) h.1 dX0_dueOf_33 ?_
        replace h := h.2
        refine b_aload_n 1 dX0_dueOf_36 rfl rfl ?_
        refine b_gI (ci := 0) (r := (RX0, TX0, 14)) (f := 0) (by decide) rfl (by decide) rfl (Or.inl q144) (Or.inl rfl) h.1 dX0_dueOf_37 ?_
        replace h := h.2
        refine b_icmp_ne (tgt := 85) dX0_dueOf_40 (by decide) (fun c_17 => ?_) (fun c_17 => ?_)
        · replace h := h.1 c_17
          obtain ⟨x_7, ex_7⟩ : ∃ y : Int32, y = x2 + 1 := ⟨_, rfl⟩
          replace h := h x_7 ex_7
          refine b_iinc (v := x_7) (lv' := [(2, .inl x_7), (3, .inr e_3), (0, .inr r0), (1, .inl x1)]) 3 dX0_dueOf_85 rfl (by rw [ex_7]; rfl) (Nat.le_of_ble_eq_true rfl) rfl ?_
          refine b_goto (tgt := 2) dX0_dueOf_88 (by decide) ?_
          exact b_sub (by simp) (ih r0 x1 x_7 M_4 h)
        · replace h := h.2 c_17
          refine b_aload_n 0 dX0_dueOf_43 rfl rfl ?_
          refine b_gR (ci := 16) (r := (RX16, TX16, 17)) (f := 6) (by decide) rfl (by decide) rfl (Or.inr ⟨_, q748⟩) (Or.inl rfl) h.1 dX0_dueOf_44 ?_
          refine b_topr (fun e_8 ee_8 => ?_)
          replace h := h.2 e_8 ee_8
          refine b_ifnull (tgt := 85) dX0_dueOf_47 (by decide) (fun c_16 => ?_) (fun c_16 => ?_)
          · replace h := h.1 c_16
            obtain ⟨x_9, ex_9⟩ : ∃ y : Int32, y = x2 + 1 := ⟨_, rfl⟩
            replace h := h x_9 ex_9
            refine b_iinc (v := x_9) (lv' := [(2, .inl x_9), (3, .inr e_3), (0, .inr r0), (1, .inl x1)]) 3 dX0_dueOf_85 rfl (by rw [ex_9]; rfl) (Nat.le_of_ble_eq_true rfl) rfl ?_
            refine b_goto (tgt := 2) dX0_dueOf_88 (by decide) ?_
            exact b_sub (by simp) (ih r0 x1 x_9 M_4 h)
          · replace h := h.2 c_16
            refine b_aload_n 0 dX0_dueOf_50 rfl rfl ?_
            refine b_gR (ci := 16) (r := (RX16, TX16, 17)) (f := 6) (by decide) rfl (by decide) rfl (Or.inr ⟨_, q748⟩) (Or.inl rfl) h.1 dX0_dueOf_51 ?_
            refine b_topr (fun e_10 ee_10 => ?_)
            replace h := h.2 e_10 ee_10
            refine b_gIg (f := 1) (by decide) (Or.inl q374) (Or.inl rfl) h.1 dX0_dueOf_54 ?_
            replace h := h.2
            refine b_iload_n 2 dX0_dueOf_57 rfl rfl ?_
            refine b_icmp_eq (tgt := 64) dX0_dueOf_58 (by decide) (fun c_15 => ?_) (fun c_15 => ?_)
            · replace h := h.1 c_15
              refine b_iload_n 2 dX0_dueOf_64 rfl rfl ?_
              refine b_iconst (v := 4) dX0_dueOf_65 (by decide) ?_
              refine b_icmp_ne (tgt := 77) dX0_dueOf_66 (by decide) (fun c_13 => ?_) (fun c_13 => ?_)
              · replace h := h.1 c_13
                exact b_sub (by simp) (sv_X0_dueOf_77 hP _ ih r0 x1 x2 e_3 M_4 h)
              · replace h := h.2 c_13
                refine b_aload_n 0 dX0_dueOf_69 rfl rfl ?_
                refine b_gI (ci := 16) (r := (RX16, TX16, 17)) (f := 14) (by decide) rfl (by decide) rfl (Or.inr ⟨_, q777⟩) (Or.inl rfl) h.1 dX0_dueOf_70 ?_
                replace h := h.2
                refine b_iconst (v := 2) dX0_dueOf_73 (by decide) ?_
                refine b_icmp_ne (tgt := 85) dX0_dueOf_74 (by decide) (fun c_12 => ?_) (fun c_12 => ?_)
                · replace h := h.1 c_12
                  obtain ⟨x_11, ex_11⟩ : ∃ y : Int32, y = x2 + 1 := ⟨_, rfl⟩
                  replace h := h x_11 ex_11
                  refine b_iinc (v := x_11) (lv' := [(2, .inl x_11), (3, .inr e_3), (0, .inr r0), (1, .inl x1)]) 3 dX0_dueOf_85 rfl (by rw [ex_11]; rfl) (Nat.le_of_ble_eq_true rfl) rfl ?_
                  refine b_goto (tgt := 2) dX0_dueOf_88 (by decide) ?_
                  exact b_sub (by simp) (ih r0 x1 x_11 M_4 h)
                · replace h := h.2 c_12
                  exact b_sub (by simp) (sv_X0_dueOf_77 hP _ ih r0 x1 x2 e_3 M_4 h)
            · replace h := h.2 c_15
              refine b_goto (tgt := 85) dX0_dueOf_61 (by decide) ?_
              obtain ⟨x_14, ex_14⟩ : ∃ y : Int32, y = x2 + 1 := ⟨_, rfl⟩
              replace h := h x_14 ex_14
              refine b_iinc (v := x_14) (lv' := [(2, .inl x_14), (3, .inr e_3), (0, .inr r0), (1, .inl x1)]) 3 dX0_dueOf_85 rfl (by rw [ex_14]; rfl) (Nat.le_of_ble_eq_true rfl) rfl ?_
              refine b_goto (tgt := 2) dX0_dueOf_88 (by decide) ?_
              exact b_sub (by simp) (ih r0 x1 x_14 M_4 h)
def v_X0_dueOf (d : Nat) (r0 : Nat × Nat) (x1 : Int32) (M : Mem) (Q : Mem → Prop) : Prop := ∃ n, v_X0_dueOf_2 d n r0 x1 0 M Q
set_option maxHeartbeats 4000000 in
theorem sv_X0_dueOf {d : Nat} {M : Mem} {P : Option AV → Mem → Prop} {Q : Mem → Prop} {r0 : Nat × Nat} {x1 : Int32} (hP : ∀ M, Q M → P none M) (h : v_X0_dueOf d r0 x1 M Q) : cq (d + 11) mX0_dueOf [.inr r0, .inl x1] M P := by
  refine cq_of (by decide) (Nat.le_of_ble_eq_true rfl) ?_
  show wq (d + 11) mX0_dueOf 0 [(0, .inr r0), (1, .inl x1)] [] M P
  unfold v_X0_dueOf at h
  refine b_iconst (v := 0) dX0_dueOf_0 (by decide) ?_
  refine b_istore_n (lv' := [(2, .inl 0), (0, .inr r0), (1, .inl x1)]) dX0_dueOf_1 rfl (Nat.le_of_ble_eq_true rfl) rfl ?_
  obtain ⟨n, h⟩ := h
  exact b_sub (by simp) (sv_X0_dueOf_2 hP n r0 x1 0 M h)
def v_X19_init (r0 : Nat × Nat) (r1 : Nat × Nat) (x2 : Int32) (x3 : Int32) (x4 : Int32) (x5 : Int32) (x6 : Int32) (x7 : Int32) (x8 : Int32) (M : Mem) (Q : Mem → Prop) : Prop := kt r0.1 = 19 ∧ (∀ M_1 : Mem, M_1 = sR M r0.1 r0.2 13 r1 → (¬ r0.1 = 0 ∧ (kt r0.1 = 19 ∧ (∀ e_2 : Nat × Nat, e_2 = M_1.2.1 r0.1 r0.2 13 → (kt e_2.1 = 0 ∧ (kt r0.1 = 19 ∧ (∀ M_3 : Mem, M_3 = sI M_1 r0.1 r0.2 7 (M_1.1 e_2.1 e_2.2 0) → (kt r0.1 = 19 ∧ (∀ M_4 : Mem, M_4 = sI M_3 r0.1 r0.2 9 (-1) → (kt r0.1 = 19 ∧ (∀ M_5 : Mem, M_5 = sI M_4 r0.1 r0.2 0 x2 → (kt r0.1 = 19 ∧ (∀ M_6 : Mem, M_6 = sI M_5 r0.1 r0.2 1 x3 → (kt r0.1 = 19 ∧ (∀ M_7 : Mem, M_7 = sI M_6 r0.1 r0.2 2 x4 → (kt r0.1 = 19 ∧ (∀ M_8 : Mem, M_8 = sI M_7 r0.1 r0.2 3 x5 → (kt r0.1 = 19 ∧ (∀ M_9 : Mem, M_9 = sI M_8 r0.1 r0.2 4 x6 → (kt r0.1 = 19 ∧ (∀ M_10 : Mem, M_10 = sI M_9 r0.1 r0.2 5 x7 → (kt r0.1 = 19 ∧ (∀ M_11 : Mem, M_11 = sI M_10 r0.1 r0.2 6 x8 → (Q M_11))))))))))))))))))))))))
set_option maxHeartbeats 4000000 in
theorem sv_X19_init {d : Nat} {M : Mem} {P : Option AV → Mem → Prop} {Q : Mem → Prop} {r0 : Nat × Nat} {r1 : Nat × Nat} {x2 : Int32} {x3 : Int32} {x4 : Int32} {x5 : Int32} {x6 : Int32} {x7 : Int32} {x8 : Int32} (hP : ∀ M, Q M → P none M) (h : v_X19_init r0 r1 x2 x3 x4 x5 x6 x7 x8 M Q) : cq (d + 1) mX19_init [.inr r0, .inr r1, .inl x2, .inl x3, .inl x4, .inl x5, .inl x6, .inl x7, .inl x8] M P := by
  refine cq_of (by decide) (Nat.le_of_ble_eq_true rfl) ?_
  show wq (d + 1) mX19_init 0 [(0, .inr r0), (1, .inr r1), (2, .inl x2), (3, .inl x3), (4, .inl x4), (5, .inl x5), (6, .inl x6), (7, .inl x7), (8, .inl x8)] [] M P
  unfold v_X19_init at h
  refine b_aload_n 0 dX19_init_0 rfl rfl ?_
  refine b_aload_n 1 dX19_init_1 rfl rfl ?_
  refine b_fR (ci := 19) (r := (RX19, TX19, 14)) (f := 13) (by decide) rfl (by decide) q1300 (Or.inl rfl) rfl rfl rfl rfl h.1 dX19_init_2 ?_
  refine b_topm (fun M_1 eM_1 => ?_)
  replace h := h.2 M_1 eM_1
  refine b_aload_n 0 dX19_init_5 rfl rfl ?_
  refine b_obj h.1 q1281 q109 q110 (Nat.le_of_ble_eq_true rfl) dX19_init_6 ?_
  replace h := h.2
  refine b_aload_n 0 dX19_init_9 rfl rfl ?_
  refine b_aload_n 0 dX19_init_10 rfl rfl ?_
  refine b_gR (ci := 19) (r := (RX19, TX19, 14)) (f := 13) (by decide) rfl (by decide) rfl (Or.inl q1300) (Or.inl rfl) h.1 dX19_init_11 ?_
  refine b_topr (fun e_2 ee_2 => ?_)
  replace h := h.2 e_2 ee_2
  refine b_gI (ci := 0) (r := (RX0, TX0, 14)) (f := 0) (by decide) rfl (by decide) rfl (Or.inr ⟨_, q137⟩) (Or.inl rfl) h.1 dX19_init_14 ?_
  replace h := h.2
  refine b_fI (ci := 19) (r := (RX19, TX19, 14)) (f := 7) (by decide) rfl (by decide) q1289 (Or.inl rfl) rfl rfl rfl (Or.inl rfl) h.1 dX19_init_17 ?_
  refine b_topm (fun M_3 eM_3 => ?_)
  replace h := h.2 M_3 eM_3
  refine b_aload_n 0 dX19_init_20 rfl rfl ?_
  refine b_iconst (v := (-1)) dX19_init_21 (by decide) ?_
  refine b_pI (ci := 19) (r := (RX19, TX19, 14)) (f := 9) (by decide) rfl (by decide) (Or.inl q1292) (Or.inl rfl) rfl (Or.inl rfl) h.1 dX19_init_22 ?_
  refine b_topm (fun M_4 eM_4 => ?_)
  replace h := h.2 M_4 eM_4
  refine b_aload_n 0 dX19_init_25 rfl rfl ?_
  refine b_iload_n 2 dX19_init_26 rfl rfl ?_
  refine b_fI (ci := 19) (r := (RX19, TX19, 14)) (f := 0) (by decide) rfl (by decide) q1282 (Or.inl rfl) rfl rfl rfl (Or.inl rfl) h.1 dX19_init_27 ?_
  refine b_topm (fun M_5 eM_5 => ?_)
  replace h := h.2 M_5 eM_5
  refine b_aload_n 0 dX19_init_30 rfl rfl ?_
  refine b_iload_n 3 dX19_init_31 rfl rfl ?_
  refine b_fI (ci := 19) (r := (RX19, TX19, 14)) (f := 1) (by decide) rfl (by decide) q1283 (Or.inl rfl) rfl rfl rfl (Or.inl rfl) h.1 dX19_init_32 ?_
  refine b_topm (fun M_6 eM_6 => ?_)
  replace h := h.2 M_6 eM_6
  refine b_aload_n 0 dX19_init_35 rfl rfl ?_
  refine b_iload 4 dX19_init_36 rfl ?_
  refine b_fI (ci := 19) (r := (RX19, TX19, 14)) (f := 2) (by decide) rfl (by decide) q1284 (Or.inl rfl) rfl rfl rfl (Or.inl rfl) h.1 dX19_init_38 ?_
  refine b_topm (fun M_7 eM_7 => ?_)
  replace h := h.2 M_7 eM_7
  refine b_aload_n 0 dX19_init_41 rfl rfl ?_
  refine b_iload 5 dX19_init_42 rfl ?_
  refine b_fI (ci := 19) (r := (RX19, TX19, 14)) (f := 3) (by decide) rfl (by decide) q1285 (Or.inl rfl) rfl rfl rfl (Or.inl rfl) h.1 dX19_init_44 ?_
  refine b_topm (fun M_8 eM_8 => ?_)
  replace h := h.2 M_8 eM_8
  refine b_aload_n 0 dX19_init_47 rfl rfl ?_
  refine b_iload 6 dX19_init_48 rfl ?_
  refine b_fI (ci := 19) (r := (RX19, TX19, 14)) (f := 4) (by decide) rfl (by decide) q1286 (Or.inl rfl) rfl rfl rfl (Or.inl rfl) h.1 dX19_init_50 ?_
  refine b_topm (fun M_9 eM_9 => ?_)
  replace h := h.2 M_9 eM_9
  refine b_aload_n 0 dX19_init_53 rfl rfl ?_
  refine b_iload 7 dX19_init_54 rfl ?_
  refine b_fI (ci := 19) (r := (RX19, TX19, 14)) (f := 5) (by decide) rfl (by decide) q1287 (Or.inl rfl) rfl rfl rfl (Or.inl rfl) h.1 dX19_init_56 ?_
  refine b_topm (fun M_10 eM_10 => ?_)
  replace h := h.2 M_10 eM_10
  refine b_aload_n 0 dX19_init_59 rfl rfl ?_
  refine b_iload 8 dX19_init_60 rfl ?_
  refine b_fI (ci := 19) (r := (RX19, TX19, 14)) (f := 6) (by decide) rfl (by decide) q1288 (Or.inl rfl) rfl rfl rfl (Or.inl rfl) h.1 dX19_init_62 ?_
  refine b_topm (fun M_11 eM_11 => ?_)
  replace h := h.2 M_11 eM_11
  exact b_vret rfl dX19_init_65 (hP _ h)
