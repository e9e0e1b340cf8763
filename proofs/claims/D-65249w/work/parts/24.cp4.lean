set_option maxRecDepth 100000
def v_X0_tokens (r0 : Nat × Nat) (x1 : Int32) (M : Mem) (Q : Int32 → Mem → Prop) : Prop := kt r0.1 = 0 ∧ (∀ e_1 : Nat × Nat, e_1 = M.2.1 r0.1 r0.2 5 → ((v_X0_has e_1 x1 M (fun r_3 M_2 => ((r_3 = 0) → (Q (-1) M_2)) ∧ ((¬ r_3 = 0) → (kt r0.1 = 0 ∧ (∀ e_4 : Nat × Nat, e_4 = M_2.2.1 r0.1 r0.2 5 → (lk e_4.1 ∧ (¬ x1 < 0 ∧ x1 < M_2.1 e_4.1 e_4.2 0) ∧ (∀ e_5 : Nat × Nat, e_5 = M_2.2.1 e_4.1 e_4.2 x1.toNatClampNeg → (gk e_5.1 ∧ ((kt e_5.1 = 7) → (kt e_5.1 = 7 ∧ (kt e_5.1 = 7 ∧ (Q (M_2.1 e_5.1 e_5.2 7) M_2)))) ∧ (¬ (kt e_5.1 = 7) → (Q (-1) M_2))))))))))))
set_option maxHeartbeats 4000000 in
theorem sv_X0_tokens {d : Nat} {M : Mem} {P : Option AV → Mem → Prop} {Q : Int32 → Mem → Prop} {r0 : Nat × Nat} {x1 : Int32} (hP : ∀ r M, Q r M → P (some (.inl r)) M) (h : v_X0_tokens r0 x1 M Q) : cq (d + 4) mX0_tokens [.inr r0, .inl x1] M P := by
  refine cq_of (by decide) (Nat.le_of_ble_eq_true rfl) ?_
  show wq (d + 4) mX0_tokens 0 [(0, .inr r0), (1, .inl x1)] [] M P
  unfold v_X0_tokens at h
  refine b_aload_n 0 dX0_tokens_0 rfl rfl ?_
  refine b_gR (ci := 0) (r := (RX0, TX0, 14)) (f := 5) (by decide) rfl (by decide) rfl (Or.inl q152) (Or.inl rfl) h.1 dX0_tokens_1 ?_
  refine b_topr (fun e_1 ee_1 => ?_)
  replace h := h.2 e_1 ee_1
  refine b_iload_n 1 dX0_tokens_4 rfl rfl ?_
  refine b_cs (y := mX0_has) (as := [.inr e_1, .inl x1]) (st := []) (n := 2) (Or.inl q332) q333 q69 q334 zmh_X0_has rfl (Nat.le_of_ble_eq_true rfl) (Nat.le_of_ble_eq_true rfl) dX0_tokens_5 (sv_X0_has (fun r_3 M_2 h => ?_) h)
  show wq (d + 4) mX0_tokens 8 [(0, .inr r0), (1, .inl x1)] [.inl r_3] M_2 P
  refine b_if_eq (tgt := 39) dX0_tokens_8 (by decide) (fun c_9 => ?_) (fun c_9 => ?_)
  · replace h := h.1 c_9
    refine b_iconst (v := (-1)) dX0_tokens_39 (by decide) ?_
    exact b_iret rfl dX0_tokens_40 (hP _ _ h)
  · replace h := h.2 c_9
    refine b_aload_n 0 dX0_tokens_11 rfl rfl ?_
    refine b_gR (ci := 0) (r := (RX0, TX0, 14)) (f := 5) (by decide) rfl (by decide) rfl (Or.inl q152) (Or.inl rfl) h.1 dX0_tokens_12 ?_
    refine b_topr (fun e_4 ee_4 => ?_)
    replace h := h.2 e_4 ee_4
    refine b_iload_n 1 dX0_tokens_15 rfl rfl ?_
    refine b_lget (st := []) h.1 h.2.1 (Or.inl q624) (Nat.le_of_ble_eq_true rfl) dX0_tokens_16 ?_
    refine b_topr (fun e_5 ee_5 => ?_)
    replace h := h.2.2 e_5 ee_5
    refine b_astore_n (lv' := [(3, .inr e_5), (0, .inr r0), (1, .inl x1)]) dX0_tokens_19 rfl (Nat.le_of_ble_eq_true rfl) rfl ?_
    refine b_aload_n 0 dX0_tokens_20 rfl rfl ?_
    refine b_iso (ci := 7) (r := (RX7, TX7, 9)) rfl (by decide) q468 h.1 dX0_tokens_21 (fun c_8 => ?_) (fun c_8 => ?_)
    · replace h := h.2.1 c_8
      refine b_if_eq (tgt := 39) dX0_tokens_24 (by decide) (fun c_6 => ?_) (fun c_6 => ?_)
      · exact absurd c_6 (by decide)
      · skip
        refine b_aload_n 0 dX0_tokens_27 rfl rfl ?_
        refine b_ck (ci := 7) (r := (RX7, TX7, 9)) rfl q468 h.1 dX0_tokens_28 ?_
        replace h := h.2
        refine b_astore_n (lv' := [(2, .inr e_5), (3, .inr e_5), (0, .inr r0), (1, .inl x1)]) dX0_tokens_31 rfl (Nat.le_of_ble_eq_true rfl) rfl ?_
        refine b_aload_n 0 dX0_tokens_32 rfl rfl ?_
        refine b_gI (ci := 7) (r := (RX7, TX7, 9)) (f := 7) (by decide) rfl (by decide) rfl (Or.inr ⟨_, q475⟩) (Or.inl rfl) h.1 dX0_tokens_33 ?_
        replace h := h.2
        refine b_goto (tgt := 40) dX0_tokens_36 (by decide) ?_
        exact b_iret rfl dX0_tokens_40 (hP _ _ h)
    · replace h := h.2.2 c_8
      refine b_if_eq (tgt := 39) dX0_tokens_24 (by decide) (fun c_7 => ?_) (fun c_7 => ?_)
      · skip
        refine b_iconst (v := (-1)) dX0_tokens_39 (by decide) ?_
        exact b_iret rfl dX0_tokens_40 (hP _ _ h)
      · exact absurd c_7 (by decide)
def v_X0_kept (r0 : Nat × Nat) (x1 : Int32) (x2 : Int32) (x3 : Int32) (M : Mem) (Q : Int32 → Mem → Prop) : Prop := kt r0.1 = 0 ∧ (∀ e_1 : Nat × Nat, e_1 = M.2.1 r0.1 r0.2 5 → ((v_X0_has e_1 x1 M (fun r_3 M_2 => ((r_3 = 0) → (Q (-1) M_2)) ∧ ((¬ r_3 = 0) → (kt r0.1 = 0 ∧ (∀ e_4 : Nat × Nat, e_4 = M_2.2.1 r0.1 r0.2 5 → (lk e_4.1 ∧ (¬ x1 < 0 ∧ x1 < M_2.1 e_4.1 e_4.2 0) ∧ (∀ e_5 : Nat × Nat, e_5 = M_2.2.1 e_4.1 e_4.2 x1.toNatClampNeg → (gk e_5.1 ∧ ((kt e_5.1 = 12) → (kt e_5.1 = 12 ∧ (kt r0.1 = 0 ∧ (∀ e_6 : Nat × Nat, e_6 = M_2.2.1 r0.1 r0.2 2 → ((v_X0_has e_6 x2 M_2 (fun r_8 M_7 => ((¬ r_8 = 0) → (((¬ x3 = 0) → (((¬ x3 = 1) → (Q (-1) M_7)) ∧ ((x3 = 1) → (kt e_5.1 = 12 ∧ (∀ e_9 : Nat × Nat, e_9 = M_7.2.1 e_5.1 e_5.2 8 → (arI M_7 e_9 100 x2 ∧ (Q (M_7.1 e_9.1 e_9.2 x2.toNatClampNeg) M_7))))))) ∧ ((x3 = 0) → (kt e_5.1 = 12 ∧ (∀ e_11 : Nat × Nat, e_11 = M_7.2.1 e_5.1 e_5.2 7 → (arI M_7 e_11 100 x2 ∧ (Q (M_7.1 e_11.1 e_11.2 x2.toNatClampNeg) M_7))))))) ∧ ((r_8 = 0) → (Q (-1) M_7))))))))) ∧ (¬ (kt e_5.1 = 12) → (Q (-1) M_2))))))))))))
set_option maxHeartbeats 4000000 in
theorem sv_X0_kept {d : Nat} {M : Mem} {P : Option AV → Mem → Prop} {Q : Int32 → Mem → Prop} {r0 : Nat × Nat} {x1 : Int32} {x2 : Int32} {x3 : Int32} (hP : ∀ r M, Q r M → P (some (.inl r)) M) (h : v_X0_kept r0 x1 x2 x3 M Q) : cq (d + 4) mX0_kept [.inr r0, .inl x1, .inl x2, .inl x3] M P := by
  refine cq_of (by decide) (Nat.le_of_ble_eq_true rfl) ?_
  show wq (d + 4) mX0_kept 0 [(0, .inr r0), (1, .inl x1), (2, .inl x2), (3, .inl x3)] [] M P
  unfold v_X0_kept at h
  refine b_aload_n 0 dX0_kept_0 rfl rfl ?_
  refine b_gR (ci := 0) (r := (RX0, TX0, 14)) (f := 5) (by decide) rfl (by decide) rfl (Or.inl q152) (Or.inl rfl) h.1 dX0_kept_1 ?_
  refine b_topr (fun e_1 ee_1 => ?_)
  replace h := h.2 e_1 ee_1
  refine b_iload_n 1 dX0_kept_4 rfl rfl ?_
  refine b_cs (y := mX0_has) (as := [.inr e_1, .inl x1]) (st := []) (n := 2) (Or.inl q332) q333 q69 q334 zmh_X0_has rfl (Nat.le_of_ble_eq_true rfl) (Nat.le_of_ble_eq_true rfl) dX0_kept_5 (sv_X0_has (fun r_3 M_2 h => ?_) h)
  show wq (d + 4) mX0_kept 8 [(0, .inr r0), (1, .inl x1), (2, .inl x2), (3, .inl x3)] [.inl r_3] M_2 P
  refine b_if_eq (tgt := 47) dX0_kept_8 (by decide) (fun c_25 => ?_) (fun c_25 => ?_)
  · replace h := h.1 c_25
    refine b_iconst (v := (-1)) dX0_kept_47 (by decide) ?_
    exact b_iret rfl dX0_kept_48 (hP _ _ h)
  · replace h := h.2 c_25
    refine b_aload_n 0 dX0_kept_11 rfl rfl ?_
    refine b_gR (ci := 0) (r := (RX0, TX0, 14)) (f := 5) (by decide) rfl (by decide) rfl (Or.inl q152) (Or.inl rfl) h.1 dX0_kept_12 ?_
    refine b_topr (fun e_4 ee_4 => ?_)
    replace h := h.2 e_4 ee_4
    refine b_iload_n 1 dX0_kept_15 rfl rfl ?_
    refine b_lget (st := []) h.1 h.2.1 (Or.inl q624) (Nat.le_of_ble_eq_true rfl) dX0_kept_16 ?_
    refine b_topr (fun e_5 ee_5 => ?_)
    replace h := h.2.2 e_5 ee_5
    refine b_astore (lv' := [(5, .inr e_5), (0, .inr r0), (1, .inl x1), (2, .inl x2), (3, .inl x3)]) dX0_kept_19 (Nat.le_of_ble_eq_true rfl) rfl ?_
    refine b_aload 0 dX0_kept_21 rfl ?_
    refine b_iso (ci := 12) (r := (RX12, TX12, 11)) rfl (by decide) q557 h.1 dX0_kept_23 (fun c_24 => ?_) (fun c_24 => ?_)
    · replace h := h.2.1 c_24
      refine b_if_eq (tgt := 47) dX0_kept_26 (by decide) (fun c_14 => ?_) (fun c_14 => ?_)
      · exact absurd c_14 (by decide)
      · skip
        refine b_aload 0 dX0_kept_29 rfl ?_
        refine b_ck (ci := 12) (r := (RX12, TX12, 11)) rfl q557 h.1 dX0_kept_31 ?_
        replace h := h.2
        refine b_astore (lv' := [(4, .inr e_5), (5, .inr e_5), (0, .inr r0), (1, .inl x1), (2, .inl x2), (3, .inl x3)]) dX0_kept_34 (Nat.le_of_ble_eq_true rfl) rfl ?_
        refine b_aload_n 2 dX0_kept_36 rfl rfl ?_
        refine b_gR (ci := 0) (r := (RX0, TX0, 14)) (f := 2) (by decide) rfl (by decide) rfl (Or.inl q148) (Or.inl rfl) h.1 dX0_kept_37 ?_
        refine b_topr (fun e_6 ee_6 => ?_)
        replace h := h.2 e_6 ee_6
        refine b_iload_n 4 dX0_kept_40 rfl rfl ?_
        refine b_cs (y := mX0_has) (as := [.inr e_6, .inl x2]) (st := []) (n := 2) (Or.inl q332) q333 q69 q334 zmh_X0_has rfl (Nat.le_of_ble_eq_true rfl) (Nat.le_of_ble_eq_true rfl) dX0_kept_41 (sv_X0_has (fun r_8 M_7 h => ?_) h)
        show wq (d + 4) mX0_kept 44 [(4, .inr e_5), (5, .inr e_5), (0, .inr r0), (1, .inl x1), (2, .inl x2), (3, .inl x3)] [.inl r_8] M_7 P
        refine b_if_ne (tgt := 49) dX0_kept_44 (by decide) (fun c_13 => ?_) (fun c_13 => ?_)
        · replace h := h.1 c_13
          refine b_iload_n 5 dX0_kept_49 rfl rfl ?_
          refine b_if_ne (tgt := 63) dX0_kept_50 (by decide) (fun c_12 => ?_) (fun c_12 => ?_)
          · replace h := h.1 c_12
            refine b_iload_n 5 dX0_kept_63 rfl rfl ?_
            refine b_iconst (v := 1) dX0_kept_64 (by decide) ?_
            refine b_icmp_ne (tgt := 78) dX0_kept_65 (by decide) (fun c_10 => ?_) (fun c_10 => ?_)
            · replace h := h.1 c_10
              refine b_iconst (v := (-1)) dX0_kept_78 (by decide) ?_
              exact b_iret rfl dX0_kept_79 (hP _ _ h)
            · replace h := h.2 c_10
              refine b_aload 0 dX0_kept_68 rfl ?_
              refine b_gR (ci := 12) (r := (RX12, TX12, 11)) (f := 8) (by decide) rfl (by decide) rfl (Or.inr ⟨_, q566⟩) (Or.inl rfl) h.1 dX0_kept_70 ?_
              refine b_topr (fun e_9 ee_9 => ?_)
              replace h := h.2 e_9 ee_9
              refine b_iload_n 4 dX0_kept_73 rfl rfl ?_
              refine b_xiald h.1 dX0_kept_74 ?_
              replace h := h.2
              refine b_goto (tgt := 79) dX0_kept_75 (by decide) ?_
              exact b_iret rfl dX0_kept_79 (hP _ _ h)
          · replace h := h.2 c_12
            refine b_aload 0 dX0_kept_53 rfl ?_
            refine b_gR (ci := 12) (r := (RX12, TX12, 11)) (f := 7) (by decide) rfl (by decide) rfl (Or.inr ⟨_, q564⟩) (Or.inl rfl) h.1 dX0_kept_55 ?_
            refine b_topr (fun e_11 ee_11 => ?_)
            replace h := h.2 e_11 ee_11
            refine b_iload_n 4 dX0_kept_58 rfl rfl ?_
            refine b_xiald h.1 dX0_kept_59 ?_
            replace h := h.2
            refine b_goto (tgt := 79) dX0_kept_60 (by decide) ?_
            exact b_iret rfl dX0_kept_79 (hP _ _ h)
        · replace h := h.2 c_13
          refine b_iconst (v := (-1)) dX0_kept_47 (by decide) ?_
          exact b_iret rfl dX0_kept_48 (hP _ _ h)
    · replace h := h.2.2 c_24
      refine b_if_eq (tgt := 47) dX0_kept_26 (by decide) (fun c_23 => ?_) (fun c_23 => ?_)
      · skip
        refine b_iconst (v := (-1)) dX0_kept_47 (by decide) ?_
        exact b_iret rfl dX0_kept_48 (hP _ _ h)
      · exact absurd c_23 (by decide)
def v_X0_joined_22 : Nat → Nat × Nat → Int32 → Int32 → Int32 → Int32 → Mem → (Int32 → Mem → Prop) → Prop
  | 0, _, _, _, _, _, _, _ => False
  | n + 1, r0, x1, x2, x3, x4, M, Q => kt r0.1 = 0 ∧ (∀ e_1 : Nat × Nat, e_1 = M.2.1 r0.1 r0.2 9 → (lk e_1.1 ∧ ((((M.1 e_1.1 e_1.2 0) ≤ x4) → (Q (-1) M)) ∧ ((¬ (M.1 e_1.1 e_1.2 0) ≤ x4) → (kt r0.1 = 0 ∧ (∀ e_2 : Nat × Nat, e_2 = M.2.1 r0.1 r0.2 9 → (lk e_2.1 ∧ (¬ x4 < 0 ∧ x4 < M.1 e_2.1 e_2.2 0) ∧ (∀ e_3 : Nat × Nat, e_3 = M.2.1 e_2.1 e_2.2 x4.toNatClampNeg → (kt e_3.1 = 16 ∧ (kt e_3.1 = 16 ∧ (∀ e_4 : Nat × Nat, e_4 = M.2.1 e_3.1 e_3.2 8 → (kt r0.1 = 0 ∧ (∀ e_5 : Nat × Nat, e_5 = M.2.1 r0.1 r0.2 9 → (lk e_5.1 ∧ (¬ x1 < 0 ∧ x1 < M.1 e_5.1 e_5.2 0) ∧ (∀ e_6 : Nat × Nat, e_6 = M.2.1 e_5.1 e_5.2 x1.toNatClampNeg → (((¬ e_4 = e_6) → (∀ x_7 : Int32, x_7 = x4 + 1 → (v_X0_joined_22 n r0 x1 x2 x3 x_7 M Q))) ∧ ((e_4 = e_6) → (kt r0.1 = 0 ∧ (∀ e_8 : Nat × Nat, e_8 = M.2.1 r0.1 r0.2 9 → (lk e_8.1 ∧ (¬ x4 < 0 ∧ x4 < M.1 e_8.1 e_8.2 0) ∧ (∀ e_9 : Nat × Nat, e_9 = M.2.1 e_8.1 e_8.2 x4.toNatClampNeg → (kt e_9.1 = 16 ∧ (kt e_9.1 = 16 ∧ (v_X16_isUnderWay e_9 M (fun r_11 M_10 => ((¬ r_11 = 0) → (((¬ x3 = x2) → (∀ x_12 : Int32, x_12 = x3 + 1 → (∀ x_13 : Int32, x_13 = x4 + 1 → (v_X0_joined_22 n r0 x1 x2 x_12 x_13 M_10 Q)))) ∧ ((x3 = x2) → (Q x4 M_10)))) ∧ ((r_11 = 0) → (∀ x_15 : Int32, x_15 = x4 + 1 → (v_X0_joined_22 n r0 x1 x2 x3 x_15 M_10 Q))))))))))))))))))))))))))))
set_option maxHeartbeats 4000000 in
theorem sv_X0_joined_22 {d : Nat} {P : Option AV → Mem → Prop} {Q : Int32 → Mem → Prop} (hP : ∀ r M, Q r M → P (some (.inl r)) M) : ∀ (n : Nat) (r0 : Nat × Nat) (x1 : Int32) (x2 : Int32) (x3 : Int32) (x4 : Int32) (M : Mem), v_X0_joined_22 n r0 x1 x2 x3 x4 M Q → wq (d + 4) mX0_joined 22 [(0, .inr r0), (1, .inl x1), (2, .inl x2), (3, .inl x3), (4, .inl x4)] [] M P := by
  intro n
  induction n with
  | zero => intro r0 x1 x2 x3 x4 M h; exact False.elim h
  | succ n ih =>
    intro r0 x1 x2 x3 x4 M h
    rw [v_X0_joined_22] at h
    refine b_iload 4 dX0_joined_22 rfl ?_
    refine b_aload_n 0 dX0_joined_24 rfl rfl ?_
    refine b_gR (ci := 0) (r := (RX0, TX0, 14)) (f := 9) (by decide) rfl (by decide) rfl (Or.inl q159) (Or.inl rfl) h.1 dX0_joined_25 ?_
    refine b_topr (fun e_1 ee_1 => ?_)
    replace h := h.2 e_1 ee_1
    refine b_lsize (st := [.inl x4]) h.1 (Or.inl q201) (Nat.le_of_ble_eq_true rfl) dX0_joined_28 ?_
    replace h := h.2
    refine b_icmp_ge (tgt := 98) dX0_joined_31 (by decide) (fun c_18 => ?_) (fun c_18 => ?_)
    · replace h := h.1 c_18
      refine b_iconst (v := (-1)) dX0_joined_98 (by decide) ?_
      exact b_iret rfl dX0_joined_99 (hP _ _ h)
    · replace h := h.2 c_18
      refine b_aload_n 0 dX0_joined_34 rfl rfl ?_
      refine b_gR (ci := 0) (r := (RX0, TX0, 14)) (f := 9) (by decide) rfl (by decide) rfl (Or.inl q159) (Or.inl rfl) h.1 dX0_joined_35 ?_
      refine b_topr (fun e_2 ee_2 => ?_)
      replace h := h.2 e_2 ee_2
      refine b_iload 4 dX0_joined_38 rfl ?_
      refine b_lget (st := []) h.1 h.2.1 (Or.inl q624) (Nat.le_of_ble_eq_true rfl) dX0_joined_40 ?_
      refine b_topr (fun e_3 ee_3 => ?_)
      replace h := h.2.2 e_3 ee_3
      refine b_ck (ci := 16) (r := (RX16, TX16, 17)) rfl q721 h.1 dX0_joined_43 ?_
      replace h := h.2
      refine b_gR (ci := 16) (r := (RX16, TX16, 17)) (f := 8) (by decide) rfl (by decide) rfl (Or.inr ⟨_, q755⟩) (Or.inl rfl) h.1 dX0_joined_46 ?_
      refine b_topr (fun e_4 ee_4 => ?_)
      replace h := h.2 e_4 ee_4
      refine b_aload_n 0 dX0_joined_49 rfl rfl ?_
      refine b_gR (ci := 0) (r := (RX0, TX0, 14)) (f := 9) (by decide) rfl (by decide) rfl (Or.inl q159) (Or.inl rfl) h.1 dX0_joined_50 ?_
      refine b_topr (fun e_5 ee_5 => ?_)
      replace h := h.2 e_5 ee_5
      refine b_iload_n 1 dX0_joined_53 rfl rfl ?_
      refine b_lget (st := [.inr e_4]) h.1 h.2.1 (Or.inl q624) (Nat.le_of_ble_eq_true rfl) dX0_joined_54 ?_
      refine b_topr (fun e_6 ee_6 => ?_)
      replace h := h.2.2 e_6 ee_6
      refine b_acmp_ne (tgt := 92) dX0_joined_57 (by decide) (fun c_17 => ?_) (fun c_17 => ?_)
      · replace h := h.1 c_17
        obtain ⟨x_7, ex_7⟩ : ∃ y : Int32, y = x4 + 1 := ⟨_, rfl⟩
        replace h := h x_7 ex_7
        refine b_iinc (v := x_7) (lv' := [(4, .inl x_7), (0, .inr r0), (1, .inl x1), (2, .inl x2), (3, .inl x3)]) 4 dX0_joined_92 rfl (by rw [ex_7]; rfl) (Nat.le_of_ble_eq_true rfl) rfl ?_
        refine b_goto (tgt := 22) dX0_joined_95 (by decide) ?_
        exact b_sub (by simp) (ih r0 x1 x2 x3 x_7 M h)
      · replace h := h.2 c_17
        refine b_aload_n 0 dX0_joined_60 rfl rfl ?_
        refine b_gR (ci := 0) (r := (RX0, TX0, 14)) (f := 9) (by decide) rfl (by decide) rfl (Or.inl q159) (Or.inl rfl) h.1 dX0_joined_61 ?_
        refine b_topr (fun e_8 ee_8 => ?_)
        replace h := h.2 e_8 ee_8
        refine b_iload 4 dX0_joined_64 rfl ?_
        refine b_lget (st := []) h.1 h.2.1 (Or.inl q624) (Nat.le_of_ble_eq_true rfl) dX0_joined_66 ?_
        refine b_topr (fun e_9 ee_9 => ?_)
        replace h := h.2.2 e_9 ee_9
        refine b_ck (ci := 16) (r := (RX16, TX16, 17)) rfl q721 h.1 dX0_joined_69 ?_
        replace h := h.2
        refine b_cvo (y := mX16_isUnderWay) (ci := 16) (r := (RX16, TX16, 17)) (e := e_9) (as := []) (st := []) (n := 0) rfl h.1 (Or.inl q967) q961 q960 q94 q962 zmh_X16_isUnderWay rfl (Nat.le_of_ble_eq_true rfl) (Nat.le_of_ble_eq_true rfl) dX0_joined_72 (sv_X16_isUnderWay (fun r_11 M_10 h => ?_) h.2)
        show wq (d + 4) mX0_joined 75 [(0, .inr r0), (1, .inl x1), (2, .inl x2), (3, .inl x3), (4, .inl x4)] [.inl r_11] M_10 P
        refine b_if_ne (tgt := 81) dX0_joined_75 (by decide) (fun c_16 => ?_) (fun c_16 => ?_)
        · replace h := h.1 c_16
          refine b_iload_n 3 dX0_joined_81 rfl rfl ?_
          refine b_iload_n 2 dX0_joined_82 rfl rfl ?_
          refine b_icmp_ne (tgt := 89) dX0_joined_83 (by decide) (fun c_14 => ?_) (fun c_14 => ?_)
          · replace h := h.1 c_14
            obtain ⟨x_12, ex_12⟩ : ∃ y : Int32, y = x3 + 1 := ⟨_, rfl⟩
            replace h := h x_12 ex_12
            refine b_iinc (v := x_12) (lv' := [(3, .inl x_12), (0, .inr r0), (1, .inl x1), (2, .inl x2), (4, .inl x4)]) 3 dX0_joined_89 rfl (by rw [ex_12]; rfl) (Nat.le_of_ble_eq_true rfl) rfl ?_
            obtain ⟨x_13, ex_13⟩ : ∃ y : Int32, y = x4 + 1 := ⟨_, rfl⟩
            replace h := h x_13 ex_13
            refine b_iinc (v := x_13) (lv' := [(4, .inl x_13), (3, .inl x_12), (0, .inr r0), (1, .inl x1), (2, .inl x2)]) 4 dX0_joined_92 rfl (by rw [ex_13]; rfl) (Nat.le_of_ble_eq_true rfl) rfl ?_
            refine b_goto (tgt := 22) dX0_joined_95 (by decide) ?_
            exact b_sub (by simp) (ih r0 x1 x2 x_12 x_13 M_10 h)
          · replace h := h.2 c_14
            refine b_iload 4 dX0_joined_86 rfl ?_
            exact b_iret rfl dX0_joined_88 (hP _ _ h)
        · replace h := h.2 c_16
          refine b_goto (tgt := 92) dX0_joined_78 (by decide) ?_
          obtain ⟨x_15, ex_15⟩ : ∃ y : Int32, y = x4 + 1 := ⟨_, rfl⟩
          replace h := h x_15 ex_15
          refine b_iinc (v := x_15) (lv' := [(4, .inl x_15), (0, .inr r0), (1, .inl x1), (2, .inl x2), (3, .inl x3)]) 4 dX0_joined_92 rfl (by rw [ex_15]; rfl) (Nat.le_of_ble_eq_true rfl) rfl ?_
          refine b_goto (tgt := 22) dX0_joined_95 (by decide) ?_
          exact b_sub (by simp) (ih r0 x1 x2 x3 x_15 M_10 h)
def v_X0_joined (r0 : Nat × Nat) (x1 : Int32) (x2 : Int32) (M : Mem) (Q : Int32 → Mem → Prop) : Prop := kt r0.1 = 0 ∧ (∀ e_1 : Nat × Nat, e_1 = M.2.1 r0.1 r0.2 9 → ((v_X0_has e_1 x1 M (fun r_3 M_2 => ((r_3 = 0) → (Q (-1) M_2)) ∧ ((¬ r_3 = 0) → (((0 ≤ x2) → (∃ n, v_X0_joined_22 n r0 x1 x2 0 0 M_2 Q)) ∧ ((¬ 0 ≤ x2) → (Q (-1) M_2))))))))
set_option maxHeartbeats 4000000 in
theorem sv_X0_joined {d : Nat} {M : Mem} {P : Option AV → Mem → Prop} {Q : Int32 → Mem → Prop} {r0 : Nat × Nat} {x1 : Int32} {x2 : Int32} (hP : ∀ r M, Q r M → P (some (.inl r)) M) (h : v_X0_joined r0 x1 x2 M Q) : cq (d + 4) mX0_joined [.inr r0, .inl x1, .inl x2] M P := by
  refine cq_of (by decide) (Nat.le_of_ble_eq_true rfl) ?_
  show wq (d + 4) mX0_joined 0 [(0, .inr r0), (1, .inl x1), (2, .inl x2)] [] M P
  unfold v_X0_joined at h
  refine b_aload_n 0 dX0_joined_0 rfl rfl ?_
  refine b_gR (ci := 0) (r := (RX0, TX0, 14)) (f := 9) (by decide) rfl (by decide) rfl (Or.inl q159) (Or.inl rfl) h.1 dX0_joined_1 ?_
  refine b_topr (fun e_1 ee_1 => ?_)
  replace h := h.2 e_1 ee_1
  refine b_iload_n 1 dX0_joined_4 rfl rfl ?_
  refine b_cs (y := mX0_has) (as := [.inr e_1, .inl x1]) (st := []) (n := 2) (Or.inl q332) q333 q69 q334 zmh_X0_has rfl (Nat.le_of_ble_eq_true rfl) (Nat.le_of_ble_eq_true rfl) dX0_joined_5 (sv_X0_has (fun r_3 M_2 h => ?_) h)
  show wq (d + 4) mX0_joined 8 [(0, .inr r0), (1, .inl x1), (2, .inl x2)] [.inl r_3] M_2 P
  refine b_if_eq (tgt := 15) dX0_joined_8 (by decide) (fun c_5 => ?_) (fun c_5 => ?_)
  · replace h := h.1 c_5
    refine b_iconst (v := (-1)) dX0_joined_15 (by decide) ?_
    exact b_iret rfl dX0_joined_16 (hP _ _ h)
  · replace h := h.2 c_5
    refine b_iload_n 2 dX0_joined_11 rfl rfl ?_
    refine b_if_ge (tgt := 17) dX0_joined_12 (by decide) (fun c_4 => ?_) (fun c_4 => ?_)
    · replace h := h.1 c_4
      refine b_iconst (v := 0) dX0_joined_17 (by decide) ?_
      refine b_istore_n (lv' := [(3, .inl 0), (0, .inr r0), (1, .inl x1), (2, .inl x2)]) dX0_joined_18 rfl (Nat.le_of_ble_eq_true rfl) rfl ?_
      refine b_iconst (v := 0) dX0_joined_19 (by decide) ?_
      refine b_istore (lv' := [(4, .inl 0), (3, .inl 0), (0, .inr r0), (1, .inl x1), (2, .inl x2)]) dX0_joined_20 (Nat.le_of_ble_eq_true rfl) rfl ?_
      obtain ⟨n, h⟩ := h
      exact b_sub (by simp) (sv_X0_joined_22 hP n r0 x1 x2 0 0 M_2 h)
    · replace h := h.2 c_4
      refine b_iconst (v := (-1)) dX0_joined_15 (by decide) ?_
      exact b_iret rfl dX0_joined_16 (hP _ _ h)
def v_X0_level (r0 : Nat × Nat) (x1 : Int32) (M : Mem) (Q : Int32 → Mem → Prop) : Prop := kt r0.1 = 0 ∧ (∀ e_1 : Nat × Nat, e_1 = M.2.1 r0.1 r0.2 2 → ((v_X0_has e_1 x1 M (fun r_3 M_2 => ((r_3 = 0) → (Q (-1) M_2)) ∧ ((¬ r_3 = 0) → (kt r0.1 = 0 ∧ (∀ e_4 : Nat × Nat, e_4 = M_2.2.1 r0.1 r0.2 2 → (lk e_4.1 ∧ (¬ x1 < 0 ∧ x1 < M_2.1 e_4.1 e_4.2 0) ∧ (∀ e_5 : Nat × Nat, e_5 = M_2.2.1 e_4.1 e_4.2 x1.toNatClampNeg → (kt e_5.1 = 2 ∧ (kt e_5.1 = 2 ∧ (Q (M_2.1 e_5.1 e_5.2 2) M_2))))))))))))
set_option maxHeartbeats 4000000 in
theorem sv_X0_level {d : Nat} {M : Mem} {P : Option AV → Mem → Prop} {Q : Int32 → Mem → Prop} {r0 : Nat × Nat} {x1 : Int32} (hP : ∀ r M, Q r M → P (some (.inl r)) M) (h : v_X0_level r0 x1 M Q) : cq (d + 4) mX0_level [.inr r0, .inl x1] M P := by
  refine cq_of (by decide) (Nat.le_of_ble_eq_true rfl) ?_
  show wq (d + 4) mX0_level 0 [(0, .inr r0), (1, .inl x1)] [] M P
  unfold v_X0_level at h
  refine b_aload_n 0 dX0_level_0 rfl rfl ?_
  refine b_gR (ci := 0) (r := (RX0, TX0, 14)) (f := 2) (by decide) rfl (by decide) rfl (Or.inl q148) (Or.inl rfl) h.1 dX0_level_1 ?_
  refine b_topr (fun e_1 ee_1 => ?_)
  replace h := h.2 e_1 ee_1
  refine b_iload_n 1 dX0_level_4 rfl rfl ?_
  refine b_cs (y := mX0_has) (as := [.inr e_1, .inl x1]) (st := []) (n := 2) (Or.inl q332) q333 q69 q334 zmh_X0_has rfl (Nat.le_of_ble_eq_true rfl) (Nat.le_of_ble_eq_true rfl) dX0_level_5 (sv_X0_has (fun r_3 M_2 h => ?_) h)
  show wq (d + 4) mX0_level 8 [(0, .inr r0), (1, .inl x1)] [.inl r_3] M_2 P
  refine b_if_eq (tgt := 28) dX0_level_8 (by decide) (fun c_6 => ?_) (fun c_6 => ?_)
  · replace h := h.1 c_6
    refine b_iconst (v := (-1)) dX0_level_28 (by decide) ?_
    exact b_iret rfl dX0_level_29 (hP _ _ h)
  · replace h := h.2 c_6
    refine b_aload_n 0 dX0_level_11 rfl rfl ?_
    refine b_gR (ci := 0) (r := (RX0, TX0, 14)) (f := 2) (by decide) rfl (by decide) rfl (Or.inl q148) (Or.inl rfl) h.1 dX0_level_12 ?_
    refine b_topr (fun e_4 ee_4 => ?_)
    replace h := h.2 e_4 ee_4
    refine b_iload_n 1 dX0_level_15 rfl rfl ?_
    refine b_lget (st := []) h.1 h.2.1 (Or.inl q624) (Nat.le_of_ble_eq_true rfl) dX0_level_16 ?_
    refine b_topr (fun e_5 ee_5 => ?_)
    replace h := h.2.2 e_5 ee_5
    refine b_ck (ci := 2) (r := (RX2, TX2, 3)) rfl q205 h.1 dX0_level_19 ?_
    replace h := h.2
    refine b_gI (ci := 2) (r := (RX2, TX2, 3)) (f := 2) (by decide) rfl (by decide) rfl (Or.inr ⟨_, q218⟩) (Or.inl rfl) h.1 dX0_level_22 ?_
    replace h := h.2
    refine b_goto (tgt := 29) dX0_level_25 (by decide) ?_
    exact b_iret rfl dX0_level_29 (hP _ _ h)
def v_X0_effect (r0 : Nat × Nat) (x1 : Int32) (x2 : Int32) (M : Mem) (Q : Int32 → Mem → Prop) : Prop := kt r0.1 = 0 ∧ (∀ e_1 : Nat × Nat, e_1 = M.2.1 r0.1 r0.2 11 → ((v_X0_has e_1 x1 M (fun r_3 M_2 => ((¬ r_3 = 0) → (kt r0.1 = 0 ∧ (∀ e_4 : Nat × Nat, e_4 = M_2.2.1 r0.1 r0.2 11 → (lk e_4.1 ∧ (¬ x1 < 0 ∧ x1 < M_2.1 e_4.1 e_4.2 0) ∧ (∀ e_5 : Nat × Nat, e_5 = M_2.2.1 e_4.1 e_4.2 x1.toNatClampNeg → (kt e_5.1 = 18 ∧ ((x2 = 0 → (kt e_5.1 = 18 ∧ (Q (M_2.1 e_5.1 e_5.2 0) M_2))) ∧ (x2 = 1 → (kt e_5.1 = 18 ∧ (Q (M_2.1 e_5.1 e_5.2 1) M_2))) ∧ (x2 = 2 → (kt e_5.1 = 18 ∧ (Q (M_2.1 e_5.1 e_5.2 2) M_2))) ∧ (x2 = 3 → (kt e_5.1 = 18 ∧ (Q (M_2.1 e_5.1 e_5.2 3) M_2))) ∧ (x2 = 4 → (kt e_5.1 = 18 ∧ (Q (M_2.1 e_5.1 e_5.2 4) M_2))) ∧ (¬ x2 = 0 → ¬ x2 = 1 → ¬ x2 = 2 → ¬ x2 = 3 → ¬ x2 = 4 → (Q (-1) M_2))))))))) ∧ ((r_3 = 0) → (Q (-1) M_2))))))
set_option maxHeartbeats 4000000 in
theorem sv_X0_effect {d : Nat} {M : Mem} {P : Option AV → Mem → Prop} {Q : Int32 → Mem → Prop} {r0 : Nat × Nat} {x1 : Int32} {x2 : Int32} (hP : ∀ r M, Q r M → P (some (.inl r)) M) (h : v_X0_effect r0 x1 x2 M Q) : cq (d + 4) mX0_effect [.inr r0, .inl x1, .inl x2] M P := by
  refine cq_of (by decide) (Nat.le_of_ble_eq_true rfl) ?_
  show wq (d + 4) mX0_effect 0 [(0, .inr r0), (1, .inl x1), (2, .inl x2)] [] M P
  unfold v_X0_effect at h
  refine b_aload_n 0 dX0_effect_0 rfl rfl ?_
  refine b_gR (ci := 0) (r := (RX0, TX0, 14)) (f := 11) (by decide) rfl (by decide) rfl (Or.inl q161) (Or.inl rfl) h.1 dX0_effect_1 ?_
  refine b_topr (fun e_1 ee_1 => ?_)
  replace h := h.2 e_1 ee_1
  refine b_iload_n 1 dX0_effect_4 rfl rfl ?_
  refine b_cs (y := mX0_has) (as := [.inr e_1, .inl x1]) (st := []) (n := 2) (Or.inl q332) q333 q69 q334 zmh_X0_has rfl (Nat.le_of_ble_eq_true rfl) (Nat.le_of_ble_eq_true rfl) dX0_effect_5 (sv_X0_has (fun r_3 M_2 h => ?_) h)
  show wq (d + 4) mX0_effect 8 [(0, .inr r0), (1, .inl x1), (2, .inl x2)] [.inl r_3] M_2 P
  refine b_if_ne (tgt := 13) dX0_effect_8 (by decide) (fun c_6 => ?_) (fun c_6 => ?_)
  · replace h := h.1 c_6
    refine b_aload_n 0 dX0_effect_13 rfl rfl ?_
    refine b_gR (ci := 0) (r := (RX0, TX0, 14)) (f := 11) (by decide) rfl (by decide) rfl (Or.inl q161) (Or.inl rfl) h.1 dX0_effect_14 ?_
    refine b_topr (fun e_4 ee_4 => ?_)
    replace h := h.2 e_4 ee_4
    refine b_iload_n 1 dX0_effect_17 rfl rfl ?_
    refine b_lget (st := []) h.1 h.2.1 (Or.inl q624) (Nat.le_of_ble_eq_true rfl) dX0_effect_18 ?_
    refine b_topr (fun e_5 ee_5 => ?_)
    replace h := h.2.2 e_5 ee_5
    refine b_ck (ci := 18) (r := (RX18, TX18, 5)) rfl q1159 h.1 dX0_effect_21 ?_
    replace h := h.2
    refine b_astore_n (lv' := [(3, .inr e_5), (0, .inr r0), (1, .inl x1), (2, .inl x2)]) dX0_effect_24 rfl (Nat.le_of_ble_eq_true rfl) rfl ?_
    refine b_iload_n 3 dX0_effect_25 rfl rfl ?_
    refine b_tsw (fun j => ([60, 65, 70, 75, 80] : List Nat).getD j 0) (tD := 85) (n := 5) dX0_effect_26 rfl (by decide) (by decide) (by decide) (fun j hj e => ?_) (fun e => ?_)
    · match j, hj, e with
      | 0, _, e =>
        replace h := h.1 e
        show wq (d + 4) mX0_effect 60 _ _ _ _
        refine b_aload_n 0 dX0_effect_60 rfl rfl ?_
        refine b_gI (ci := 18) (r := (RX18, TX18, 5)) (f := 0) (by decide) rfl (by decide) rfl (Or.inr ⟨_, q1173⟩) (Or.inl rfl) h.1 dX0_effect_61 ?_
        replace h := h.2
        exact b_iret rfl dX0_effect_64 (hP _ _ h)
      | 1, _, e =>
        replace h := h.2.1 e
        show wq (d + 4) mX0_effect 65 _ _ _ _
        refine b_aload_n 0 dX0_effect_65 rfl rfl ?_
        refine b_gI (ci := 18) (r := (RX18, TX18, 5)) (f := 1) (by decide) rfl (by decide) rfl (Or.inr ⟨_, q1175⟩) (Or.inl rfl) h.1 dX0_effect_66 ?_
        replace h := h.2
        exact b_iret rfl dX0_effect_69 (hP _ _ h)
      | 2, _, e =>
        replace h := h.2.2.1 e
        show wq (d + 4) mX0_effect 70 _ _ _ _
        refine b_aload_n 0 dX0_effect_70 rfl rfl ?_
        refine b_gI (ci := 18) (r := (RX18, TX18, 5)) (f := 2) (by decide) rfl (by decide) rfl (Or.inr ⟨_, q1177⟩) (Or.inl rfl) h.1 dX0_effect_71 ?_
        replace h := h.2
        exact b_iret rfl dX0_effect_74 (hP _ _ h)
      | 3, _, e =>
        replace h := h.2.2.2.1 e
        show wq (d + 4) mX0_effect 75 _ _ _ _
        refine b_aload_n 0 dX0_effect_75 rfl rfl ?_
        refine b_gI (ci := 18) (r := (RX18, TX18, 5)) (f := 3) (by decide) rfl (by decide) rfl (Or.inr ⟨_, q1179⟩) (Or.inl rfl) h.1 dX0_effect_76 ?_
        replace h := h.2
        exact b_iret rfl dX0_effect_79 (hP _ _ h)
      | 4, _, e =>
        replace h := h.2.2.2.2.1 e
        show wq (d + 4) mX0_effect 80 _ _ _ _
        refine b_aload_n 0 dX0_effect_80 rfl rfl ?_
        refine b_gI (ci := 18) (r := (RX18, TX18, 5)) (f := 4) (by decide) rfl (by decide) rfl (Or.inr ⟨_, q1181⟩) (Or.inl rfl) h.1 dX0_effect_81 ?_
        replace h := h.2
        exact b_iret rfl dX0_effect_84 (hP _ _ h)
      | j + 5, hj, _ => exact absurd hj (by omega)
    · replace h := h.2.2.2.2.2 (e 0 (by decide)) (e 1 (by decide)) (e 2 (by decide)) (e 3 (by decide)) (e 4 (by decide))
      refine b_iconst (v := (-1)) dX0_effect_85 (by decide) ?_
      exact b_iret rfl dX0_effect_86 (hP _ _ h)
  · replace h := h.2 c_6
    refine b_iconst (v := (-1)) dX0_effect_11 (by decide) ?_
    exact b_iret rfl dX0_effect_12 (hP _ _ h)
def v_X0_isOf (r0 : Nat × Nat) (x1 : Int32) (x2 : Int32) (M : Mem) (Q : Int32 → Mem → Prop) : Prop := (v_X0_in x1 0 15 M (fun r_2 M_1 => ((r_2 = 0) → (Q (-1) M_1)) ∧ ((¬ r_2 = 0) → ((v_X0_in x2 0 15 M_1 (fun r_4 M_3 => ((¬ r_4 = 0) → ((v_X0_isUnder x1 x2 M_3 (fun r_6 M_5 => ((r_6 = 0) → (Q 0 M_5)) ∧ ((¬ r_6 = 0) → (Q 1 M_5)))))) ∧ ((r_4 = 0) → (Q (-1) M_3))))))))
set_option maxHeartbeats 4000000 in
theorem sv_X0_isOf {d : Nat} {M : Mem} {P : Option AV → Mem → Prop} {Q : Int32 → Mem → Prop} {r0 : Nat × Nat} {x1 : Int32} {x2 : Int32} (hP : ∀ r M, Q r M → P (some (.inl r)) M) (h : v_X0_isOf r0 x1 x2 M Q) : cq (d + 1) mX0_isOf [.inr r0, .inl x1, .inl x2] M P := by
  refine cq_of (by decide) (Nat.le_of_ble_eq_true rfl) ?_
  show wq (d + 1) mX0_isOf 0 [(0, .inr r0), (1, .inl x1), (2, .inl x2)] [] M P
  unfold v_X0_isOf at h
  refine b_iload_n 1 dX0_isOf_0 rfl rfl ?_
  refine b_iconst (v := 0) dX0_isOf_1 (by decide) ?_
  refine b_bipush (v := 15) dX0_isOf_2 (by decide) ?_
  refine b_cs (y := mX0_in) (as := [.inl x1, .inl 0, .inl 15]) (st := []) (n := 3) (Or.inl q198) q199 q69 q200 zmh_X0_in rfl (Nat.le_of_ble_eq_true rfl) (Nat.le_of_ble_eq_true rfl) dX0_isOf_4 (sv_X0_in (fun r_2 M_1 h => ?_) h)
  show wq (d + 1) mX0_isOf 7 [(0, .inr r0), (1, .inl x1), (2, .inl x2)] [.inl r_2] M_1 P
  refine b_if_eq (tgt := 20) dX0_isOf_7 (by decide) (fun c_9 => ?_) (fun c_9 => ?_)
  · replace h := h.1 c_9
    refine b_iconst (v := (-1)) dX0_isOf_20 (by decide) ?_
    refine b_goto (tgt := 37) dX0_isOf_21 (by decide) ?_
    exact b_iret rfl dX0_isOf_37 (hP _ _ h)
  · replace h := h.2 c_9
    refine b_iload_n 2 dX0_isOf_10 rfl rfl ?_
    refine b_iconst (v := 0) dX0_isOf_11 (by decide) ?_
    refine b_bipush (v := 15) dX0_isOf_12 (by decide) ?_
    refine b_cs (y := mX0_in) (as := [.inl x2, .inl 0, .inl 15]) (st := []) (n := 3) (Or.inl q198) q199 q69 q200 zmh_X0_in rfl (Nat.le_of_ble_eq_true rfl) (Nat.le_of_ble_eq_true rfl) dX0_isOf_14 (sv_X0_in (fun r_4 M_3 h => ?_) h)
    show wq (d + 1) mX0_isOf 17 [(0, .inr r0), (1, .inl x1), (2, .inl x2)] [.inl r_4] M_3 P
    refine b_if_ne (tgt := 24) dX0_isOf_17 (by decide) (fun c_8 => ?_) (fun c_8 => ?_)
    · replace h := h.1 c_8
      refine b_iload_n 1 dX0_isOf_24 rfl rfl ?_
      refine b_iload_n 2 dX0_isOf_25 rfl rfl ?_
      refine b_cs (y := mX0_isUnder) (as := [.inl x1, .inl x2]) (st := []) (n := 2) (Or.inl q1501) q929 q69 q930 zmh_X0_isUnder rfl (Nat.le_of_ble_eq_true rfl) (Nat.le_of_ble_eq_true rfl) dX0_isOf_26 (sv_X0_isUnder (fun r_6 M_5 h => ?_) h)
      show wq (d + 1) mX0_isOf 29 [(0, .inr r0), (1, .inl x1), (2, .inl x2)] [.inl r_6] M_5 P
      refine b_if_eq (tgt := 36) dX0_isOf_29 (by decide) (fun c_7 => ?_) (fun c_7 => ?_)
      · replace h := h.1 c_7
        refine b_iconst (v := 0) dX0_isOf_36 (by decide) ?_
        exact b_iret rfl dX0_isOf_37 (hP _ _ h)
      · replace h := h.2 c_7
        refine b_iconst (v := 1) dX0_isOf_32 (by decide) ?_
        refine b_goto (tgt := 37) dX0_isOf_33 (by decide) ?_
        exact b_iret rfl dX0_isOf_37 (hP _ _ h)
    · replace h := h.2 c_8
      refine b_iconst (v := (-1)) dX0_isOf_20 (by decide) ?_
      refine b_goto (tgt := 37) dX0_isOf_21 (by decide) ?_
      exact b_iret rfl dX0_isOf_37 (hP _ _ h)
def v_X0_count_271 : Nat → Nat × Nat → Int32 → Int32 → Mem → (Int32 → Mem → Prop) → Prop
  | 0, _, _, _, _, _ => False
  | n + 1, r0, x2, x3, M, Q => kt r0.1 = 0 ∧ (∀ e_1 : Nat × Nat, e_1 = M.2.1 r0.1 r0.2 13 → (lk e_1.1 ∧ ((((M.1 e_1.1 e_1.2 0) ≤ x3) → (Q x2 M)) ∧ ((¬ (M.1 e_1.1 e_1.2 0) ≤ x3) → (kt r0.1 = 0 ∧ (∀ e_2 : Nat × Nat, e_2 = M.2.1 r0.1 r0.2 13 → (lk e_2.1 ∧ (¬ x3 < 0 ∧ x3 < M.1 e_2.1 e_2.2 0) ∧ (∀ e_3 : Nat × Nat, e_3 = M.2.1 e_2.1 e_2.2 x3.toNatClampNeg → (ak e_3.1 ∧ (ak e_3.1 ∧ ((((M.1 e_3.1 e_3.2 0) = 0) → (∀ x_4 : Int32, x_4 = x3 + 1 → (v_X0_count_271 n r0 x2 x_4 M Q))) ∧ ((¬ (M.1 e_3.1 e_3.2 0) = 0) → (∀ x_5 : Int32, x_5 = x2 + 1 → (∀ x_6 : Int32, x_6 = x3 + 1 → (v_X0_count_271 n r0 x_5 x_6 M Q)))))))))))))))
set_option maxHeartbeats 4000000 in
theorem sv_X0_count_271 {d : Nat} {P : Option AV → Mem → Prop} {Q : Int32 → Mem → Prop} (hP : ∀ r M, Q r M → P (some (.inl r)) M) : ∀ (n : Nat) (r0 : Nat × Nat) (x2 : Int32) (x3 : Int32) (M : Mem), v_X0_count_271 n r0 x2 x3 M Q → wq (d + 4) mX0_count 271 [(0, .inr r0), (2, .inl x2), (3, .inl x3)] [] M P := by
  intro n
  induction n with
  | zero => intro r0 x2 x3 M h; exact False.elim h
  | succ n ih =>
    intro r0 x2 x3 M h
    rw [v_X0_count_271] at h
    refine b_iload_n 2 dX0_count_271 rfl rfl ?_
    refine b_aload_n 0 dX0_count_272 rfl rfl ?_
    refine b_gR (ci := 0) (r := (RX0, TX0, 14)) (f := 13) (by decide) rfl (by decide) rfl (Or.inl q163) (Or.inl rfl) h.1 dX0_count_273 ?_
    refine b_topr (fun e_1 ee_1 => ?_)
    replace h := h.2 e_1 ee_1
    refine b_lsize (st := [.inl x3]) h.1 (Or.inl q201) (Nat.le_of_ble_eq_true rfl) dX0_count_276 ?_
    replace h := h.2
    refine b_icmp_ge (tgt := 308) dX0_count_279 (by decide) (fun c_8 => ?_) (fun c_8 => ?_)
    · replace h := h.1 c_8
      refine b_iload_n 1 dX0_count_308 rfl rfl ?_
      exact b_iret rfl dX0_count_309 (hP _ _ h)
    · replace h := h.2 c_8
      refine b_aload_n 0 dX0_count_282 rfl rfl ?_
      refine b_gR (ci := 0) (r := (RX0, TX0, 14)) (f := 13) (by decide) rfl (by decide) rfl (Or.inl q163) (Or.inl rfl) h.1 dX0_count_283 ?_
      refine b_topr (fun e_2 ee_2 => ?_)
      replace h := h.2 e_2 ee_2
      refine b_iload_n 2 dX0_count_286 rfl rfl ?_
      refine b_lget (st := []) h.1 h.2.1 (Or.inl q624) (Nat.le_of_ble_eq_true rfl) dX0_count_287 ?_
      refine b_topr (fun e_3 ee_3 => ?_)
      replace h := h.2.2 e_3 ee_3
      refine b_ckk q1244 h.1 dX0_count_290 ?_
      replace h := h.2
      refine b_gIk (f := 0) (by decide) (Or.inr ⟨_, q1362⟩) (Or.inl rfl) h.1 dX0_count_293 ?_
      replace h := h.2
      refine b_if_eq (tgt := 302) dX0_count_296 (by decide) (fun c_7 => ?_) (fun c_7 => ?_)
      · replace h := h.1 c_7
        obtain ⟨x_4, ex_4⟩ : ∃ y : Int32, y = x3 + 1 := ⟨_, rfl⟩
        replace h := h x_4 ex_4
        refine b_iinc (v := x_4) (lv' := [(3, .inl x_4), (0, .inr r0), (2, .inl x2)]) 2 dX0_count_302 rfl (by rw [ex_4]; rfl) (Nat.le_of_ble_eq_true rfl) rfl ?_
        refine b_goto (tgt := 271) dX0_count_305 (by decide) ?_
        exact b_sub (by simp) (ih r0 x2 x_4 M h)
      · replace h := h.2 c_7
        obtain ⟨x_5, ex_5⟩ : ∃ y : Int32, y = x2 + 1 := ⟨_, rfl⟩
        replace h := h x_5 ex_5
        refine b_iinc (v := x_5) (lv' := [(2, .inl x_5), (0, .inr r0), (3, .inl x3)]) 1 dX0_count_299 rfl (by rw [ex_5]; rfl) (Nat.le_of_ble_eq_true rfl) rfl ?_
        obtain ⟨x_6, ex_6⟩ : ∃ y : Int32, y = x3 + 1 := ⟨_, rfl⟩
        replace h := h x_6 ex_6
        refine b_iinc (v := x_6) (lv' := [(3, .inl x_6), (2, .inl x_5), (0, .inr r0)]) 2 dX0_count_302 rfl (by rw [ex_6]; rfl) (Nat.le_of_ble_eq_true rfl) rfl ?_
        refine b_goto (tgt := 271) dX0_count_305 (by decide) ?_
        exact b_sub (by simp) (ih r0 x_5 x_6 M h)
def v_X0_count_214 : Nat → Nat × Nat → Int32 → Int32 → Mem → (Int32 → Mem → Prop) → Prop
  | 0, _, _, _, _, _ => False
  | n + 1, r0, x2, x3, M, Q => kt r0.1 = 0 ∧ (∀ e_1 : Nat × Nat, e_1 = M.2.1 r0.1 r0.2 8 → (lk e_1.1 ∧ ((((M.1 e_1.1 e_1.2 0) ≤ x3) → (Q x2 M)) ∧ ((¬ (M.1 e_1.1 e_1.2 0) ≤ x3) → (kt r0.1 = 0 ∧ (∀ e_2 : Nat × Nat, e_2 = M.2.1 r0.1 r0.2 8 → (lk e_2.1 ∧ (¬ x3 < 0 ∧ x3 < M.1 e_2.1 e_2.2 0) ∧ (∀ e_3 : Nat × Nat, e_3 = M.2.1 e_2.1 e_2.2 x3.toNatClampNeg → (kt e_3.1 = 15 ∧ (kt e_3.1 = 15 ∧ (v_X15_outcome e_3 M (fun r_5 M_4 => ((¬ r_5 = 0) → (∀ x_6 : Int32, x_6 = x3 + 1 → (v_X0_count_214 n r0 x2 x_6 M_4 Q))) ∧ ((r_5 = 0) → (∀ x_7 : Int32, x_7 = x2 + 1 → (∀ x_8 : Int32, x_8 = x3 + 1 → (v_X0_count_214 n r0 x_7 x_8 M_4 Q))))))))))))))))
set_option maxHeartbeats 4000000 in
theorem sv_X0_count_214 {d : Nat} {P : Option AV → Mem → Prop} {Q : Int32 → Mem → Prop} (hP : ∀ r M, Q r M → P (some (.inl r)) M) : ∀ (n : Nat) (r0 : Nat × Nat) (x2 : Int32) (x3 : Int32) (M : Mem), v_X0_count_214 n r0 x2 x3 M Q → wq (d + 4) mX0_count 214 [(0, .inr r0), (2, .inl x2), (3, .inl x3)] [] M P := by
  intro n
  induction n with
  | zero => intro r0 x2 x3 M h; exact False.elim h
  | succ n ih =>
    intro r0 x2 x3 M h
    rw [v_X0_count_214] at h
    refine b_iload_n 2 dX0_count_214 rfl rfl ?_
    refine b_aload_n 0 dX0_count_215 rfl rfl ?_
    refine b_gR (ci := 0) (r := (RX0, TX0, 14)) (f := 8) (by decide) rfl (by decide) rfl (Or.inl q157) (Or.inl rfl) h.1 dX0_count_216 ?_
    refine b_topr (fun e_1 ee_1 => ?_)
    replace h := h.2 e_1 ee_1
    refine b_lsize (st := [.inl x3]) h.1 (Or.inl q201) (Nat.le_of_ble_eq_true rfl) dX0_count_219 ?_
    replace h := h.2
    refine b_icmp_ge (tgt := 251) dX0_count_222 (by decide) (fun c_10 => ?_) (fun c_10 => ?_)
    · replace h := h.1 c_10
      refine b_iload_n 1 dX0_count_251 rfl rfl ?_
      exact b_iret rfl dX0_count_252 (hP _ _ h)
    · replace h := h.2 c_10
      refine b_aload_n 0 dX0_count_225 rfl rfl ?_
      refine b_gR (ci := 0) (r := (RX0, TX0, 14)) (f := 8) (by decide) rfl (by decide) rfl (Or.inl q157) (Or.inl rfl) h.1 dX0_count_226 ?_
      refine b_topr (fun e_2 ee_2 => ?_)
      replace h := h.2 e_2 ee_2
      refine b_iload_n 2 dX0_count_229 rfl rfl ?_
      refine b_lget (st := []) h.1 h.2.1 (Or.inl q624) (Nat.le_of_ble_eq_true rfl) dX0_count_230 ?_
      refine b_topr (fun e_3 ee_3 => ?_)
      replace h := h.2.2 e_3 ee_3
      refine b_ck (ci := 15) (r := (RX15, TX15, 10)) rfl q656 h.1 dX0_count_233 ?_
      replace h := h.2
      refine b_cvo (y := mX15_outcome) (ci := 15) (r := (RX15, TX15, 10)) (e := e_3) (as := []) (st := []) (n := 0) rfl h.1 (Or.inl q1120) q1122 q1121 q93 q1123 zmh_X15_outcome rfl (Nat.le_of_ble_eq_true rfl) (Nat.le_of_ble_eq_true rfl) dX0_count_236 (sv_X15_outcome (fun r_5 M_4 h => ?_) h.2)
      show wq (d + 4) mX0_count 239 [(0, .inr r0), (2, .inl x2), (3, .inl x3)] [.inl r_5] M_4 P
      refine b_if_ne (tgt := 245) dX0_count_239 (by decide) (fun c_9 => ?_) (fun c_9 => ?_)
      · replace h := h.1 c_9
        obtain ⟨x_6, ex_6⟩ : ∃ y : Int32, y = x3 + 1 := ⟨_, rfl⟩
        replace h := h x_6 ex_6
        refine b_iinc (v := x_6) (lv' := [(3, .inl x_6), (0, .inr r0), (2, .inl x2)]) 2 dX0_count_245 rfl (by rw [ex_6]; rfl) (Nat.le_of_ble_eq_true rfl) rfl ?_
        refine b_goto (tgt := 214) dX0_count_248 (by decide) ?_
        exact b_sub (by simp) (ih r0 x2 x_6 M_4 h)
      · replace h := h.2 c_9
        obtain ⟨x_7, ex_7⟩ : ∃ y : Int32, y = x2 + 1 := ⟨_, rfl⟩
        replace h := h x_7 ex_7
        refine b_iinc (v := x_7) (lv' := [(2, .inl x_7), (0, .inr r0), (3, .inl x3)]) 1 dX0_count_242 rfl (by rw [ex_7]; rfl) (Nat.le_of_ble_eq_true rfl) rfl ?_
        obtain ⟨x_8, ex_8⟩ : ∃ y : Int32, y = x3 + 1 := ⟨_, rfl⟩
        replace h := h x_8 ex_8
        refine b_iinc (v := x_8) (lv' := [(3, .inl x_8), (2, .inl x_7), (0, .inr r0)]) 2 dX0_count_245 rfl (by rw [ex_8]; rfl) (Nat.le_of_ble_eq_true rfl) rfl ?_
        refine b_goto (tgt := 214) dX0_count_248 (by decide) ?_
        exact b_sub (by simp) (ih r0 x_7 x_8 M_4 h)
def v_X0_count_150 : Nat → Nat × Nat → Int32 → Int32 → Int32 → Mem → (Int32 → Mem → Prop) → Prop
  | 0, _, _, _, _, _, _ => False
  | n + 1, r0, x1, x2, x3, M, Q => kt r0.1 = 0 ∧ (∀ e_1 : Nat × Nat, e_1 = M.2.1 r0.1 r0.2 9 → (lk e_1.1 ∧ ((((M.1 e_1.1 e_1.2 0) ≤ x3) → (Q x2 M)) ∧ ((¬ (M.1 e_1.1 e_1.2 0) ≤ x3) → (kt r0.1 = 0 ∧ (∀ e_2 : Nat × Nat, e_2 = M.2.1 r0.1 r0.2 9 → (lk e_2.1 ∧ (¬ x3 < 0 ∧ x3 < M.1 e_2.1 e_2.2 0) ∧ (∀ e_3 : Nat × Nat, e_3 = M.2.1 e_2.1 e_2.2 x3.toNatClampNeg → (kt e_3.1 = 16 ∧ (kt e_3.1 = 16 ∧ (v_X16_isUnderWay e_3 M (fun r_5 M_4 => ((r_5 = 0) → (∀ x_6 : Int32, x_6 = x3 + 1 → (v_X0_count_150 n r0 x1 x2 x_6 M_4 Q))) ∧ ((¬ r_5 = 0) → (((x1 = 9) → (∀ x_7 : Int32, x_7 = x2 + 1 → (∀ x_8 : Int32, x_8 = x3 + 1 → (v_X0_count_150 n r0 x1 x_7 x_8 M_4 Q)))) ∧ ((¬ x1 = 9) → (kt r0.1 = 0 ∧ (∀ e_9 : Nat × Nat, e_9 = M_4.2.1 r0.1 r0.2 9 → (lk e_9.1 ∧ (¬ x3 < 0 ∧ x3 < M_4.1 e_9.1 e_9.2 0) ∧ (∀ e_10 : Nat × Nat, e_10 = M_4.2.1 e_9.1 e_9.2 x3.toNatClampNeg → (kt e_10.1 = 16 ∧ (kt e_10.1 = 16 ∧ (∀ e_11 : Nat × Nat, e_11 = M_4.2.1 e_10.1 e_10.2 6 → (((¬ e_11 = (0, 0)) → (∀ x_12 : Int32, x_12 = x3 + 1 → (v_X0_count_150 n r0 x1 x2 x_12 M_4 Q))) ∧ ((e_11 = (0, 0)) → (∀ x_13 : Int32, x_13 = x2 + 1 → (∀ x_14 : Int32, x_14 = x3 + 1 → (v_X0_count_150 n r0 x1 x_13 x_14 M_4 Q)))))))))))))))))))))))))))
set_option maxHeartbeats 4000000 in
theorem sv_X0_count_150 {d : Nat} {P : Option AV → Mem → Prop} {Q : Int32 → Mem → Prop} (hP : ∀ r M, Q r M → P (some (.inl r)) M) : ∀ (n : Nat) (r0 : Nat × Nat) (x1 : Int32) (x2 : Int32) (x3 : Int32) (M : Mem), v_X0_count_150 n r0 x1 x2 x3 M Q → wq (d + 4) mX0_count 150 [(0, .inr r0), (1, .inl x1), (2, .inl x2), (3, .inl x3)] [] M P := by
  intro n
  induction n with
  | zero => intro r0 x1 x2 x3 M h; exact False.elim h
  | succ n ih =>
    intro r0 x1 x2 x3 M h
    rw [v_X0_count_150] at h
    refine b_iload_n 3 dX0_count_150 rfl rfl ?_
    refine b_aload_n 0 dX0_count_151 rfl rfl ?_
    refine b_gR (ci := 0) (r := (RX0, TX0, 14)) (f := 9) (by decide) rfl (by decide) rfl (Or.inl q159) (Or.inl rfl) h.1 dX0_count_152 ?_
    refine b_topr (fun e_1 ee_1 => ?_)
    replace h := h.2 e_1 ee_1
    refine b_lsize (st := [.inl x3]) h.1 (Or.inl q201) (Nat.le_of_ble_eq_true rfl) dX0_count_155 ?_
    replace h := h.2
    refine b_icmp_ge (tgt := 210) dX0_count_158 (by decide) (fun c_18 => ?_) (fun c_18 => ?_)
    · replace h := h.1 c_18
      refine b_iload_n 2 dX0_count_210 rfl rfl ?_
      exact b_iret rfl dX0_count_211 (hP _ _ h)
    · replace h := h.2 c_18
      refine b_aload_n 0 dX0_count_161 rfl rfl ?_
      refine b_gR (ci := 0) (r := (RX0, TX0, 14)) (f := 9) (by decide) rfl (by decide) rfl (Or.inl q159) (Or.inl rfl) h.1 dX0_count_162 ?_
      refine b_topr (fun e_2 ee_2 => ?_)
      replace h := h.2 e_2 ee_2
      refine b_iload_n 3 dX0_count_165 rfl rfl ?_
      refine b_lget (st := []) h.1 h.2.1 (Or.inl q624) (Nat.le_of_ble_eq_true rfl) dX0_count_166 ?_
      refine b_topr (fun e_3 ee_3 => ?_)
      replace h := h.2.2 e_3 ee_3
      refine b_ck (ci := 16) (r := (RX16, TX16, 17)) rfl q721 h.1 dX0_count_169 ?_
      replace h := h.2
      refine b_cvo (y := mX16_isUnderWay) (ci := 16) (r := (RX16, TX16, 17)) (e := e_3) (as := []) (st := []) (n := 0) rfl h.1 (Or.inl q967) q961 q960 q94 q962 zmh_X16_isUnderWay rfl (Nat.le_of_ble_eq_true rfl) (Nat.le_of_ble_eq_true rfl) dX0_count_172 (sv_X16_isUnderWay (fun r_5 M_4 h => ?_) h.2)
      show wq (d + 4) mX0_count 175 [(0, .inr r0), (1, .inl x1), (2, .inl x2), (3, .inl x3)] [.inl r_5] M_4 P
      refine b_if_eq (tgt := 204) dX0_count_175 (by decide) (fun c_17 => ?_) (fun c_17 => ?_)
      · replace h := h.1 c_17
        obtain ⟨x_6, ex_6⟩ : ∃ y : Int32, y = x3 + 1 := ⟨_, rfl⟩
        replace h := h x_6 ex_6
        refine b_iinc (v := x_6) (lv' := [(3, .inl x_6), (0, .inr r0), (1, .inl x1), (2, .inl x2)]) 3 dX0_count_204 rfl (by rw [ex_6]; rfl) (Nat.le_of_ble_eq_true rfl) rfl ?_
        refine b_goto (tgt := 150) dX0_count_207 (by decide) ?_
        exact b_sub (by simp) (ih r0 x1 x2 x_6 M_4 h)
      · replace h := h.2 c_17
        refine b_iload_n 1 dX0_count_178 rfl rfl ?_
        refine b_bipush (v := 9) dX0_count_179 (by decide) ?_
        refine b_icmp_eq (tgt := 201) dX0_count_181 (by decide) (fun c_16 => ?_) (fun c_16 => ?_)
        · replace h := h.1 c_16
          obtain ⟨x_7, ex_7⟩ : ∃ y : Int32, y = x2 + 1 := ⟨_, rfl⟩
          replace h := h x_7 ex_7
          refine b_iinc (v := x_7) (lv' := [(2, .inl x_7), (0, .inr r0), (1, .inl x1), (3, .inl x3)]) 2 dX0_count_201 rfl (by rw [ex_7]; rfl) (Nat.le_of_ble_eq_true rfl) rfl ?_
          obtain ⟨x_8, ex_8⟩ : ∃ y : Int32, y = x3 + 1 := ⟨_, rfl⟩
          replace h := h x_8 ex_8
          refine b_iinc (v := x_8) (lv' := [(3, .inl x_8), (2, .inl x_7), (0, .inr r0), (1, .inl x1)]) 3 dX0_count_204 rfl (by rw [ex_8]; rfl) (Nat.le_of_ble_eq_true rfl) rfl ?_
          refine b_goto (tgt := 150) dX0_count_207 (by decide) ?_
          exact b_sub (by simp) (ih r0 x1 x_7 x_8 M_4 h)
        · replace h := h.2 c_16
          refine b_aload_n 0 dX0_count_184 rfl rfl ?_
          refine b_gR (ci := 0) (r := (RX0, TX0, 14)) (f := 9) (by decide) rfl (by decide) rfl (Or.inl q159) (Or.inl rfl) h.1 dX0_count_185 ?_
          refine b_topr (fun e_9 ee_9 => ?_)
          replace h := h.2 e_9 ee_9
          refine b_iload_n 3 dX0_count_188 rfl rfl ?_
          refine b_lget (st := []) h.1 h.2.1 (Or.inl q624) (Nat.le_of_ble_eq_true rfl) dX0_count_189 ?_
          refine b_topr (fun e_10 ee_10 => ?_)
          replace h := h.2.2 e_10 ee_10
          refine b_ck (ci := 16) (r := (RX16, TX16, 17)) rfl q721 h.1 dX0_count_192 ?_
          replace h := h.2
          refine b_gR (ci := 16) (r := (RX16, TX16, 17)) (f := 6) (by decide) rfl (by decide) rfl (Or.inr ⟨_, q748⟩) (Or.inl rfl) h.1 dX0_count_195 ?_
          refine b_topr (fun e_11 ee_11 => ?_)
          replace h := h.2 e_11 ee_11
          refine b_ifnonnull (tgt := 204) dX0_count_198 (by decide) (fun c_15 => ?_) (fun c_15 => ?_)
          · replace h := h.1 c_15
            obtain ⟨x_12, ex_12⟩ : ∃ y : Int32, y = x3 + 1 := ⟨_, rfl⟩
            replace h := h x_12 ex_12
            refine b_iinc (v := x_12) (lv' := [(3, .inl x_12), (0, .inr r0), (1, .inl x1), (2, .inl x2)]) 3 dX0_count_204 rfl (by rw [ex_12]; rfl) (Nat.le_of_ble_eq_true rfl) rfl ?_
            refine b_goto (tgt := 150) dX0_count_207 (by decide) ?_
            exact b_sub (by simp) (ih r0 x1 x2 x_12 M_4 h)
          · replace h := h.2 c_15
            obtain ⟨x_13, ex_13⟩ : ∃ y : Int32, y = x2 + 1 := ⟨_, rfl⟩
            replace h := h x_13 ex_13
            refine b_iinc (v := x_13) (lv' := [(2, .inl x_13), (0, .inr r0), (1, .inl x1), (3, .inl x3)]) 2 dX0_count_201 rfl (by rw [ex_13]; rfl) (Nat.le_of_ble_eq_true rfl) rfl ?_
            obtain ⟨x_14, ex_14⟩ : ∃ y : Int32, y = x3 + 1 := ⟨_, rfl⟩
            replace h := h x_14 ex_14
            refine b_iinc (v := x_14) (lv' := [(3, .inl x_14), (2, .inl x_13), (0, .inr r0), (1, .inl x1)]) 3 dX0_count_204 rfl (by rw [ex_14]; rfl) (Nat.le_of_ble_eq_true rfl) rfl ?_
            refine b_goto (tgt := 150) dX0_count_207 (by decide) ?_
            exact b_sub (by simp) (ih r0 x1 x_13 x_14 M_4 h)
def v_X0_count (r0 : Nat × Nat) (x1 : Int32) (M : Mem) (Q : Int32 → Mem → Prop) : Prop := (x1 = 0 → (kt r0.1 = 0 ∧ (∀ e_1 : Nat × Nat, e_1 = M.2.1 r0.1 r0.2 2 → (lk e_1.1 ∧ (Q (M.1 e_1.1 e_1.2 0) M))))) ∧ (x1 = 1 → (kt r0.1 = 0 ∧ (∀ e_2 : Nat × Nat, e_2 = M.2.1 r0.1 r0.2 3 → (lk e_2.1 ∧ (Q (M.1 e_2.1 e_2.2 0) M))))) ∧ (x1 = 2 → (kt r0.1 = 0 ∧ (∀ e_3 : Nat × Nat, e_3 = M.2.1 r0.1 r0.2 4 → (lk e_3.1 ∧ (Q (M.1 e_3.1 e_3.2 0) M))))) ∧ (x1 = 3 → (kt r0.1 = 0 ∧ (∀ e_4 : Nat × Nat, e_4 = M.2.1 r0.1 r0.2 5 → (lk e_4.1 ∧ (Q (M.1 e_4.1 e_4.2 0) M))))) ∧ (x1 = 4 → (kt r0.1 = 0 ∧ (∀ e_5 : Nat × Nat, e_5 = M.2.1 r0.1 r0.2 7 → (lk e_5.1 ∧ (Q (M.1 e_5.1 e_5.2 0) M))))) ∧ (x1 = 5 → (kt r0.1 = 0 ∧ (∀ e_6 : Nat × Nat, e_6 = M.2.1 r0.1 r0.2 8 → (lk e_6.1 ∧ (Q (M.1 e_6.1 e_6.2 0) M))))) ∧ (x1 = 6 → (kt r0.1 = 0 ∧ (∀ e_7 : Nat × Nat, e_7 = M.2.1 r0.1 r0.2 9 → (lk e_7.1 ∧ (Q (M.1 e_7.1 e_7.2 0) M))))) ∧ (x1 = 7 → (kt r0.1 = 0 ∧ (∀ e_8 : Nat × Nat, e_8 = M.2.1 r0.1 r0.2 10 → (lk e_8.1 ∧ (Q (M.1 e_8.1 e_8.2 0) M))))) ∧ (x1 = 8 → (kt r0.1 = 0 ∧ (∀ e_9 : Nat × Nat, e_9 = M.2.1 r0.1 r0.2 11 → (lk e_9.1 ∧ (Q (M.1 e_9.1 e_9.2 0) M))))) ∧ (x1 = 9 → (∃ n, v_X0_count_150 n r0 x1 0 0 M Q)) ∧ (x1 = 10 → (∃ n, v_X0_count_150 n r0 x1 0 0 M Q)) ∧ (x1 = 11 → (∃ n, v_X0_count_214 n r0 0 0 M Q)) ∧ (x1 = 12 → (kt r0.1 = 0 ∧ (∀ e_10 : Nat × Nat, e_10 = M.2.1 r0.1 r0.2 6 → (lk e_10.1 ∧ (Q (M.1 e_10.1 e_10.2 0) M))))) ∧ (x1 = 13 → (kt r0.1 = 0 ∧ (∀ e_11 : Nat × Nat, e_11 = M.2.1 r0.1 r0.2 12 → (lk e_11.1 ∧ (Q (M.1 e_11.1 e_11.2 0) M))))) ∧ (x1 = 14 → (∃ n, v_X0_count_271 n r0 0 0 M Q)) ∧ (¬ x1 = 0 → ¬ x1 = 1 → ¬ x1 = 2 → ¬ x1 = 3 → ¬ x1 = 4 → ¬ x1 = 5 → ¬ x1 = 6 → ¬ x1 = 7 → ¬ x1 = 8 → ¬ x1 = 9 → ¬ x1 = 10 → ¬ x1 = 11 → ¬ x1 = 12 → ¬ x1 = 13 → ¬ x1 = 14 → (Q (-1) M))
set_option maxHeartbeats 4000000 in
theorem sv_X0_count {d : Nat} {M : Mem} {P : Option AV → Mem → Prop} {Q : Int32 → Mem → Prop} {r0 : Nat × Nat} {x1 : Int32} (hP : ∀ r M, Q r M → P (some (.inl r)) M) (h : v_X0_count r0 x1 M Q) : cq (d + 4) mX0_count [.inr r0, .inl x1] M P := by
  refine cq_of (by decide) (Nat.le_of_ble_eq_true rfl) ?_
  show wq (d + 4) mX0_count 0 [(0, .inr r0), (1, .inl x1)] [] M P
  unfold v_X0_count at h
  refine b_iconst (v := 0) dX0_count_0 (by decide) ?_
  refine b_istore_n (lv' := [(2, .inl 0), (0, .inr r0), (1, .inl x1)]) dX0_count_1 rfl (Nat.le_of_ble_eq_true rfl) rfl ?_
  refine b_iload_n 2 dX0_count_2 rfl rfl ?_
  refine b_tsw (fun j => ([76, 84, 92, 100, 108, 116, 124, 132, 140, 148, 148, 212, 253, 261, 269] : List Nat).getD j 0) (tD := 310) (n := 15) dX0_count_3 rfl (by decide) (by decide) (by decide) (fun j hj e => ?_) (fun e => ?_)
  · match j, hj, e with
    | 0, _, e =>
      replace h := h.1 e
      show wq (d + 4) mX0_count 76 _ _ _ _
      refine b_aload_n 1 dX0_count_76 rfl rfl ?_
      refine b_gR (ci := 0) (r := (RX0, TX0, 14)) (f := 2) (by decide) rfl (by decide) rfl (Or.inl q148) (Or.inl rfl) h.1 dX0_count_77 ?_
      refine b_topr (fun e_1 ee_1 => ?_)
      replace h := h.2 e_1 ee_1
      refine b_lsize (st := []) h.1 (Or.inl q201) (Nat.le_of_ble_eq_true rfl) dX0_count_80 ?_
      replace h := h.2
      exact b_iret rfl dX0_count_83 (hP _ _ h)
    | 1, _, e =>
      replace h := h.2.1 e
      show wq (d + 4) mX0_count 84 _ _ _ _
      refine b_aload_n 1 dX0_count_84 rfl rfl ?_
      refine b_gR (ci := 0) (r := (RX0, TX0, 14)) (f := 3) (by decide) rfl (by decide) rfl (Or.inl q149) (Or.inl rfl) h.1 dX0_count_85 ?_
      refine b_topr (fun e_2 ee_2 => ?_)
      replace h := h.2 e_2 ee_2
      refine b_lsize (st := []) h.1 (Or.inl q201) (Nat.le_of_ble_eq_true rfl) dX0_count_88 ?_
      replace h := h.2
      exact b_iret rfl dX0_count_91 (hP _ _ h)
    | 2, _, e =>
      replace h := h.2.2.1 e
      show wq (d + 4) mX0_count 92 _ _ _ _
      refine b_aload_n 1 dX0_count_92 rfl rfl ?_
      refine b_gR (ci := 0) (r := (RX0, TX0, 14)) (f := 4) (by decide) rfl (by decide) rfl (Or.inl q150) (Or.inl rfl) h.1 dX0_count_93 ?_
      refine b_topr (fun e_3 ee_3 => ?_)
      replace h := h.2 e_3 ee_3
      refine b_lsize (st := []) h.1 (Or.inl q201) (Nat.le_of_ble_eq_true rfl) dX0_count_96 ?_
      replace h := h.2
      exact b_iret rfl dX0_count_99 (hP _ _ h)
    | 3, _, e =>
      replace h := h.2.2.2.1 e
      show wq (d + 4) mX0_count 100 _ _ _ _
      refine b_aload_n 1 dX0_count_100 rfl rfl ?_
      refine b_gR (ci := 0) (r := (RX0, TX0, 14)) (f := 5) (by decide) rfl (by decide) rfl (Or.inl q152) (Or.inl rfl) h.1 dX0_count_101 ?_
      refine b_topr (fun e_4 ee_4 => ?_)
      replace h := h.2 e_4 ee_4
      refine b_lsize (st := []) h.1 (Or.inl q201) (Nat.le_of_ble_eq_true rfl) dX0_count_104 ?_
      replace h := h.2
      exact b_iret rfl dX0_count_107 (hP _ _ h)
    | 4, _, e =>
      replace h := h.2.2.2.2.1 e
      show wq (d + 4) mX0_count 108 _ _ _ _
      refine b_aload_n 1 dX0_count_108 rfl rfl ?_
      refine b_gR (ci := 0) (r := (RX0, TX0, 14)) (f := 7) (by decide) rfl (by decide) rfl (Or.inl q154) (Or.inl rfl) h.1 dX0_count_109 ?_
      refine b_topr (fun e_5 ee_5 => ?_)
      replace h := h.2 e_5 ee_5
      refine b_lsize (st := []) h.1 (Or.inl q201) (Nat.le_of_ble_eq_true rfl) dX0_count_112 ?_
      replace h := h.2
      exact b_iret rfl dX0_count_115 (hP _ _ h)
    | 5, _, e =>
      replace h := h.2.2.2.2.2.1 e
      show wq (d + 4) mX0_count 116 _ _ _ _
      refine b_aload_n 1 dX0_count_116 rfl rfl ?_
      refine b_gR (ci := 0) (r := (RX0, TX0, 14)) (f := 8) (by decide) rfl (by decide) rfl (Or.inl q157) (Or.inl rfl) h.1 dX0_count_117 ?_
      refine b_topr (fun e_6 ee_6 => ?_)
      replace h := h.2 e_6 ee_6
      refine b_lsize (st := []) h.1 (Or.inl q201) (Nat.le_of_ble_eq_true rfl) dX0_count_120 ?_
      replace h := h.2
      exact b_iret rfl dX0_count_123 (hP _ _ h)
    | 6, _, e =>
      replace h := h.2.2.2.2.2.2.1 e
      show wq (d + 4) mX0_count 124 _ _ _ _
      refine b_aload_n 1 dX0_count_124 rfl rfl ?_
      refine b_gR (ci := 0) (r := (RX0, TX0, 14)) (f := 9) (by decide) rfl (by decide) rfl (Or.inl q159) (Or.inl rfl) h.1 dX0_count_125 ?_
      refine b_topr (fun e_7 ee_7 => ?_)
      replace h := h.2 e_7 ee_7
      refine b_lsize (st := []) h.1 (Or.inl q201) (Nat.le_of_ble_eq_true rfl) dX0_count_128 ?_
      replace h := h.2
      exact b_iret rfl dX0_count_131 (hP _ _ h)
    | 7, _, e =>
      replace h := h.2.2.2.2.2.2.2.1 e
      show wq (d + 4) mX0_count 132 _ _ _ _
      refine b_aload_n 1 dX0_count_132 rfl rfl ?_
      refine b_gR (ci := 0) (r := (RX0, TX0, 14)) (f := 10) (by decide) rfl (by decide) rfl (Or.inl q160) (Or.inl rfl) h.1 dX0_count_133 ?_
      refine b_topr (fun e_8 ee_8 => ?_)
      replace h := h.2 e_8 ee_8
      refine b_lsize (st := []) h.1 (Or.inl q201) (Nat.le_of_ble_eq_true rfl) dX0_count_136 ?_
      replace h := h.2
      exact b_iret rfl dX0_count_139 (hP _ _ h)
    | 8, _, e =>
      replace h := h.2.2.2.2.2.2.2.2.1 e
      show wq (d + 4) mX0_count 140 _ _ _ _
      refine b_aload_n 1 dX0_count_140 rfl rfl ?_
      refine b_gR (ci := 0) (r := (RX0, TX0, 14)) (f := 11) (by decide) rfl (by decide) rfl (Or.inl q161) (Or.inl rfl) h.1 dX0_count_141 ?_
      refine b_topr (fun e_9 ee_9 => ?_)
      replace h := h.2 e_9 ee_9
      refine b_lsize (st := []) h.1 (Or.inl q201) (Nat.le_of_ble_eq_true rfl) dX0_count_144 ?_
      replace h := h.2
      exact b_iret rfl dX0_count_147 (hP _ _ h)
    | 9, _, e =>
      replace h := h.2.2.2.2.2.2.2.2.2.1 e
      show wq (d + 4) mX0_count 148 _ _ _ _
      refine b_iconst (v := 0) dX0_count_148 (by decide) ?_
      refine b_istore_n (lv' := [(3, .inl 0), (2, .inl 0), (0, .inr r0), (1, .inl x1)]) dX0_count_149 rfl (Nat.le_of_ble_eq_true rfl) rfl ?_
      obtain ⟨n, h⟩ := h
      exact b_sub (by simp) (sv_X0_count_150 hP n r0 x1 0 0 M h)
    | 10, _, e =>
      replace h := h.2.2.2.2.2.2.2.2.2.2.1 e
      show wq (d + 4) mX0_count 148 _ _ _ _
      refine b_iconst (v := 0) dX0_count_148 (by decide) ?_
      refine b_istore_n (lv' := [(3, .inl 0), (2, .inl 0), (0, .inr r0), (1, .inl x1)]) dX0_count_149 rfl (Nat.le_of_ble_eq_true rfl) rfl ?_
      obtain ⟨n, h⟩ := h
      exact b_sub (by simp) (sv_X0_count_150 hP n r0 x1 0 0 M h)
    | 11, _, e =>
      replace h := h.2.2.2.2.2.2.2.2.2.2.2.1 e
      show wq (d + 4) mX0_count 212 _ _ _ _
      refine b_iconst (v := 0) dX0_count_212 (by decide) ?_
      refine b_istore_n (lv' := [(3, .inl 0), (2, .inl 0), (0, .inr r0), (1, .inl x1)]) dX0_count_213 rfl (Nat.le_of_ble_eq_true rfl) rfl ?_
      obtain ⟨n, h⟩ := h
      exact b_sub (by simp) (sv_X0_count_214 hP n r0 0 0 M h)
    | 12, _, e =>
      replace h := h.2.2.2.2.2.2.2.2.2.2.2.2.1 e
      show wq (d + 4) mX0_count 253 _ _ _ _
      refine b_aload_n 1 dX0_count_253 rfl rfl ?_
      refine b_gR (ci := 0) (r := (RX0, TX0, 14)) (f := 6) (by decide) rfl (by decide) rfl (Or.inl q153) (Or.inl rfl) h.1 dX0_count_254 ?_
      refine b_topr (fun e_10 ee_10 => ?_)
      replace h := h.2 e_10 ee_10
      refine b_lsize (st := []) h.1 (Or.inl q201) (Nat.le_of_ble_eq_true rfl) dX0_count_257 ?_
      replace h := h.2
      exact b_iret rfl dX0_count_260 (hP _ _ h)
    | 13, _, e =>
      replace h := h.2.2.2.2.2.2.2.2.2.2.2.2.2.1 e
      show wq (d + 4) mX0_count 261 _ _ _ _
      refine b_aload_n 1 dX0_count_261 rfl rfl ?_
      refine b_gR (ci := 0) (r := (RX0, TX0, 14)) (f := 12) (by decide) rfl (by decide) rfl (Or.inl q162) (Or.inl rfl) h.1 dX0_count_262 ?_
      refine b_topr (fun e_11 ee_11 => ?_)
      replace h := h.2 e_11 ee_11
      refine b_lsize (st := []) h.1 (Or.inl q201) (Nat.le_of_ble_eq_true rfl) dX0_count_265 ?_
      replace h := h.2
      exact b_iret rfl dX0_count_268 (hP _ _ h)
    | 14, _, e =>
      replace h := h.2.2.2.2.2.2.2.2.2.2.2.2.2.2.1 e
      show wq (d + 4) mX0_count 269 _ _ _ _
      refine b_iconst (v := 0) dX0_count_269 (by decide) ?_
      refine b_istore_n (lv' := [(3, .inl 0), (2, .inl 0), (0, .inr r0), (1, .inl x1)]) dX0_count_270 rfl (Nat.le_of_ble_eq_true rfl) rfl ?_
      obtain ⟨n, h⟩ := h
      exact b_sub (by simp) (sv_X0_count_271 hP n r0 0 0 M h)
    | j + 15, hj, _ => exact absurd hj (by omega)
  · replace h := h.2.2.2.2.2.2.2.2.2.2.2.2.2.2.2 (e 0 (by decide)) (e 1 (by decide)) (e 2 (by decide)) (e 3 (by decide)) (e 4 (by decide)) (e 5 (by decide)) (e 6 (by decide)) (e 7 (by decide)) (e 8 (by decide)) (e 9 (by decide)) (e 10 (by decide)) (e 11 (by decide)) (e 12 (by decide)) (e 13 (by decide)) (e 14 (by decide))
    refine b_iconst (v := (-1)) dX0_count_310 (by decide) ?_
    exact b_iret rfl dX0_count_311 (hP _ _ h)
def v_X16_other_2 : Nat → Nat × Nat → Nat × Nat → Int32 → Mem → (Nat × Nat → Mem → Prop) → Prop
  | 0, _, _, _, _, _ => False
  | n + 1, r0, r1, x2, M, Q => kt r0.1 = 16 ∧ (∀ e_1 : Nat × Nat, e_1 = M.2.1 r0.1 r0.2 7 → (lk e_1.1 ∧ ((((M.1 e_1.1 e_1.2 0) ≤ x2) → (Q (0, 0) M)) ∧ ((¬ (M.1 e_1.1 e_1.2 0) ≤ x2) → (kt r0.1 = 16 ∧ (∀ e_2 : Nat × Nat, e_2 = M.2.1 r0.1 r0.2 7 → (lk e_2.1 ∧ (¬ x2 < 0 ∧ x2 < M.1 e_2.1 e_2.2 0) ∧ (∀ e_3 : Nat × Nat, e_3 = M.2.1 e_2.1 e_2.2 x2.toNatClampNeg → (((e_3 = r1) → (∀ x_4 : Int32, x_4 = x2 + 1 → (v_X16_other_2 n r0 r1 x_4 M Q))) ∧ ((¬ e_3 = r1) → (kt r0.1 = 16 ∧ (∀ e_5 : Nat × Nat, e_5 = M.2.1 r0.1 r0.2 7 → (lk e_5.1 ∧ (¬ x2 < 0 ∧ x2 < M.1 e_5.1 e_5.2 0) ∧ (∀ e_6 : Nat × Nat, e_6 = M.2.1 e_5.1 e_5.2 x2.toNatClampNeg → (kt e_6.1 = 16 ∧ (Q e_6 M))))))))))))))))
set_option maxHeartbeats 4000000 in
theorem sv_X16_other_2 {d : Nat} {P : Option AV → Mem → Prop} {Q : Nat × Nat → Mem → Prop} (hP : ∀ r M, Q r M → P (some (.inr r)) M) : ∀ (n : Nat) (r0 : Nat × Nat) (r1 : Nat × Nat) (x2 : Int32) (M : Mem), v_X16_other_2 n r0 r1 x2 M Q → wq (d + 4) mX16_other 2 [(0, .inr r0), (1, .inr r1), (2, .inl x2)] [] M P := by
  intro n
  induction n with
  | zero => intro r0 r1 x2 M h; exact False.elim h
  | succ n ih =>
    intro r0 r1 x2 M h
    rw [v_X16_other_2] at h
    refine b_iload_n 2 dX16_other_2 rfl rfl ?_
    refine b_aload_n 0 dX16_other_3 rfl rfl ?_
    refine b_gR (ci := 16) (r := (RX16, TX16, 17)) (f := 7) (by decide) rfl (by decide) rfl (Or.inl q749) (Or.inl rfl) h.1 dX16_other_4 ?_
    refine b_topr (fun e_1 ee_1 => ?_)
    replace h := h.2 e_1 ee_1
    refine b_lsize (st := [.inl x2]) h.1 (Or.inl q956) (Nat.le_of_ble_eq_true rfl) dX16_other_7 ?_
    replace h := h.2
    refine b_icmp_ge (tgt := 43) dX16_other_10 (by decide) (fun c_8 => ?_) (fun c_8 => ?_)
    · replace h := h.1 c_8
      refine b_null dX16_other_43 ?_
      exact b_aret rfl (Or.inl ⟨_, rfl⟩) dX16_other_44 (hP _ _ h)
    · replace h := h.2 c_8
      refine b_aload_n 0 dX16_other_13 rfl rfl ?_
      refine b_gR (ci := 16) (r := (RX16, TX16, 17)) (f := 7) (by decide) rfl (by decide) rfl (Or.inl q749) (Or.inl rfl) h.1 dX16_other_14 ?_
      refine b_topr (fun e_2 ee_2 => ?_)
      replace h := h.2 e_2 ee_2
      refine b_iload_n 2 dX16_other_17 rfl rfl ?_
      refine b_lget (st := []) h.1 h.2.1 (Or.inl q957) (Nat.le_of_ble_eq_true rfl) dX16_other_18 ?_
      refine b_topr (fun e_3 ee_3 => ?_)
      replace h := h.2.2 e_3 ee_3
      refine b_aload_n 1 dX16_other_21 rfl rfl ?_
      refine b_acmp_eq (tgt := 37) dX16_other_22 (by decide) (fun c_7 => ?_) (fun c_7 => ?_)
      · replace h := h.1 c_7
        obtain ⟨x_4, ex_4⟩ : ∃ y : Int32, y = x2 + 1 := ⟨_, rfl⟩
        replace h := h x_4 ex_4
        refine b_iinc (v := x_4) (lv' := [(2, .inl x_4), (0, .inr r0), (1, .inr r1)]) 2 dX16_other_37 rfl (by rw [ex_4]; rfl) (Nat.le_of_ble_eq_true rfl) rfl ?_
        refine b_goto (tgt := 2) dX16_other_40 (by decide) ?_
        exact b_sub (by simp) (ih r0 r1 x_4 M h)
      · replace h := h.2 c_7
        refine b_aload_n 0 dX16_other_25 rfl rfl ?_
        refine b_gR (ci := 16) (r := (RX16, TX16, 17)) (f := 7) (by decide) rfl (by decide) rfl (Or.inl q749) (Or.inl rfl) h.1 dX16_other_26 ?_
        refine b_topr (fun e_5 ee_5 => ?_)
        replace h := h.2 e_5 ee_5
        refine b_iload_n 2 dX16_other_29 rfl rfl ?_
        refine b_lget (st := []) h.1 h.2.1 (Or.inl q957) (Nat.le_of_ble_eq_true rfl) dX16_other_30 ?_
        refine b_topr (fun e_6 ee_6 => ?_)
        replace h := h.2.2 e_6 ee_6
        refine b_ck (ci := 16) (r := (RX16, TX16, 17)) rfl q958 h.1 dX16_other_33 ?_
        replace h := h.2
        exact b_aret rfl (Or.inl ⟨_, rfl⟩) dX16_other_36 (hP _ _ h)
def v_X16_other (r0 : Nat × Nat) (r1 : Nat × Nat) (M : Mem) (Q : Nat × Nat → Mem → Prop) : Prop := ∃ n, v_X16_other_2 n r0 r1 0 M Q
set_option maxHeartbeats 4000000 in
theorem sv_X16_other {d : Nat} {M : Mem} {P : Option AV → Mem → Prop} {Q : Nat × Nat → Mem → Prop} {r0 : Nat × Nat} {r1 : Nat × Nat} (hP : ∀ r M, Q r M → P (some (.inr r)) M) (h : v_X16_other r0 r1 M Q) : cq (d + 4) mX16_other [.inr r0, .inr r1] M P := by
  refine cq_of (by decide) (Nat.le_of_ble_eq_true rfl) ?_
  show wq (d + 4) mX16_other 0 [(0, .inr r0), (1, .inr r1)] [] M P
  unfold v_X16_other at h
  refine b_iconst (v := 0) dX16_other_0 (by decide) ?_
  refine b_istore_n (lv' := [(2, .inl 0), (0, .inr r0), (1, .inr r1)]) dX16_other_1 rfl (Nat.le_of_ble_eq_true rfl) rfl ?_
  obtain ⟨n, h⟩ := h
  exact b_sub (by simp) (sv_X16_other_2 hP n r0 r1 0 M h)
def v_X17_suppressed (r0 : Nat × Nat) (r1 : Nat × Nat) (M : Mem) (Q : Mem → Prop) : Prop := kt r0.1 = 17 ∧ (∀ e_1 : Nat × Nat, e_1 = M.2.1 r0.1 r0.2 6 → (((¬ e_1 = (0, 0)) → (Q M)) ∧ ((e_1 = (0, 0)) → (((r1 = r0) → (Q M)) ∧ ((¬ r1 = r0) → (kt r0.1 = 17 ∧ (∀ M_2 : Mem, M_2 = sR M r0.1 r0.2 6 r1 → (Q M_2))))))))
set_option maxHeartbeats 4000000 in
theorem sv_X17_suppressed {d : Nat} {M : Mem} {P : Option AV → Mem → Prop} {Q : Mem → Prop} {r0 : Nat × Nat} {r1 : Nat × Nat} (hP : ∀ M, Q M → P none M) (h : v_X17_suppressed r0 r1 M Q) : cq d mX17_suppressed [.inr r0, .inr r1] M P := by
  refine cq_of (by decide) (Nat.le_of_ble_eq_true rfl) ?_
  show wq d mX17_suppressed 0 [(0, .inr r0), (1, .inr r1)] [] M P
  unfold v_X17_suppressed at h
  refine b_aload_n 0 dX17_suppressed_0 rfl rfl ?_
  refine b_gR (ci := 17) (r := (RX17, TX17, 7)) (f := 6) (by decide) rfl (by decide) rfl (Or.inl q874) (Or.inl rfl) h.1 dX17_suppressed_1 ?_
  refine b_topr (fun e_1 ee_1 => ?_)
  replace h := h.2 e_1 ee_1
  refine b_ifnonnull (tgt := 17) dX17_suppressed_4 (by decide) (fun c_4 => ?_) (fun c_4 => ?_)
  · replace h := h.1 c_4
    exact b_vret rfl dX17_suppressed_17 (hP _ h)
  · replace h := h.2 c_4
    refine b_aload_n 1 dX17_suppressed_7 rfl rfl ?_
    refine b_aload_n 0 dX17_suppressed_8 rfl rfl ?_
    refine b_acmp_eq (tgt := 17) dX17_suppressed_9 (by decide) (fun c_3 => ?_) (fun c_3 => ?_)
    · replace h := h.1 c_3
      exact b_vret rfl dX17_suppressed_17 (hP _ h)
    · replace h := h.2 c_3
      refine b_aload_n 0 dX17_suppressed_12 rfl rfl ?_
      refine b_aload_n 1 dX17_suppressed_13 rfl rfl ?_
      refine b_pR (ci := 17) (r := (RX17, TX17, 7)) (f := 6) (by decide) rfl (by decide) (Or.inl q874) (Or.inl rfl) rfl rfl h.1 dX17_suppressed_14 ?_
      refine b_topm (fun M_2 eM_2 => ?_)
      replace h := h.2 M_2 eM_2
      exact b_vret rfl dX17_suppressed_17 (hP _ h)
def v_X10_told_34 (d : Nat) (r0 : Nat × Nat) (r1 : Nat × Nat) (r2 : Nat × Nat) (M : Mem) (Q : Mem → Prop) : Prop := kt r0.1 = 10 ∧ (∀ e_1 : Nat × Nat, e_1 = M.2.1 r0.1 r0.2 7 → (kt e_1.1 = 0 ∧ (cq (d + 10) mX0_alike [.inr e_1, .inr r1, .inr r2] M (fun r_ M_2 => r_ = none ∧ (Q M_2)))))
set_option maxHeartbeats 4000000 in
theorem sv_X10_told_34 {d : Nat} {P : Option AV → Mem → Prop} {Q : Mem → Prop} (hP : ∀ M, Q M → P none M) (r0 : Nat × Nat) (r1 : Nat × Nat) (r2 : Nat × Nat) (M : Mem) (h : v_X10_told_34 d r0 r1 r2 M Q) : wq (d + 11) mX10_told 34 [(0, .inr r0), (1, .inr r1), (2, .inr r2)] [] M P := by
  unfold v_X10_told_34 at h
  refine b_aload_n 0 dX10_told_34 rfl rfl ?_
  refine b_gR (ci := 10) (r := (RX10, TX10, 8)) (f := 7) (by decide) rfl (by decide) rfl (Or.inl q529) (Or.inl rfl) h.1 dX10_told_35 ?_
  refine b_topr (fun e_1 ee_1 => ?_)
  replace h := h.2 e_1 ee_1
  refine b_aload_n 1 dX10_told_38 rfl rfl ?_
  refine b_aload_n 2 dX10_told_39 rfl rfl ?_
  refine b_cvo (y := mX0_alike) (ci := 0) (r := (RX0, TX0, 14)) (e := e_1) (as := [.inr r1, .inr r2]) (st := []) (n := 2) rfl h.1 (Or.inr ⟨_, q1036⟩) qs14 q907 q69 q908 zmh_X0_alike rfl (Nat.le_of_ble_eq_true rfl) (Nat.le_of_ble_eq_true rfl) dX10_told_40 (cq.mono h.2 (fun _ M_2 h => ?_))
  obtain ⟨rfl, h⟩ := h
  show wq (d + 11) mX10_told 43 [(0, .inr r0), (1, .inr r1), (2, .inr r2)] [] M_2 P
  refine b_goto (tgt := 89) dX10_told_43 (by decide) ?_
  exact b_vret rfl dX10_told_89 (hP _ h)
def v_X10_told (d : Nat) (r0 : Nat × Nat) (r1 : Nat × Nat) (r2 : Nat × Nat) (M : Mem) (Q : Mem → Prop) : Prop := kt r1.1 = 16 ∧ (v_X16_other r1 r2 M (fun e_2 M_1 => kt r2.1 = 16 ∧ (((¬ (M_1.1 r2.1 r2.2 11) = 1) → (((¬ e_2 = (0, 0)) → (kt e_2.1 = 16 ∧ (v_X16_isUnderWay e_2 M_1 (fun r_4 M_3 => ((¬ r_4 = 0) → (Q M_3)) ∧ ((r_4 = 0) → (kt r2.1 = 16 ∧ (∀ e_5 : Nat × Nat, e_5 = M_3.2.1 r2.1 r2.2 16 → (kt e_2.1 = 16 ∧ (∀ e_6 : Nat × Nat, e_6 = M_3.2.1 e_2.1 e_2.2 16 → (kt e_5.1 = 17 ∧ (v_X17_suppressed e_5 e_6 M_3 (fun M_7 => kt r0.1 = 10 ∧ (∀ e_9 : Nat × Nat, e_9 = M_7.2.1 r0.1 r0.2 7 → (kt e_9.1 = 0 ∧ (cq (d + 10) mX0_alike [.inr e_9, .inr r1, .inr e_2] M_7 (fun r_ M_10 => r_ = none ∧ (Q M_10))))))))))))))))) ∧ ((e_2 = (0, 0)) → (kt r0.1 = 10 ∧ (∀ e_13 : Nat × Nat, e_13 = M_1.2.1 r0.1 r0.2 7 → (kt e_13.1 = 0 ∧ (cq (d + 10) mX0_alike [.inr e_13, .inr r1, .inr r2] M_1 (fun r_ M_14 => r_ = none ∧ (Q M_14))))))))) ∧ (((M_1.1 r2.1 r2.2 11) = 1) → (((e_2 = (0, 0)) → (v_X10_told_34 d r0 r1 r2 M_1 Q)) ∧ ((¬ e_2 = (0, 0)) → (kt e_2.1 = 16 ∧ (v_X16_isUnderWay e_2 M_1 (fun r_18 M_17 => ((r_18 = 0) → (v_X10_told_34 d r0 r1 r2 M_17 Q)) ∧ ((¬ r_18 = 0) → (kt r0.1 = 10 ∧ (∀ e_19 : Nat × Nat, e_19 = M_17.2.1 r0.1 r0.2 7 → (kt e_19.1 = 0 ∧ (cq (d + 10) mX0_takeBack [.inr e_19, .inr e_2] M_17 (fun r_ M_20 => ∃ r_21 : Int32, r_ = some (.inl r_21) ∧ (v_X10_told_34 d r0 r1 r2 M_20 Q))))))))))))))))
set_option maxHeartbeats 4000000 in
theorem sv_X10_told {d : Nat} {M : Mem} {P : Option AV → Mem → Prop} {Q : Mem → Prop} {r0 : Nat × Nat} {r1 : Nat × Nat} {r2 : Nat × Nat} (hP : ∀ M, Q M → P none M) (h : v_X10_told d r0 r1 r2 M Q) : cq (d + 11) mX10_told [.inr r0, .inr r1, .inr r2] M P := by
  refine cq_of (by decide) (Nat.le_of_ble_eq_true rfl) ?_
  show wq (d + 11) mX10_told 0 [(0, .inr r0), (1, .inr r1), (2, .inr r2)] [] M P
  unfold v_X10_told at h
  refine b_aload_n 1 dX10_told_0 rfl rfl ?_
  refine b_aload_n 2 dX10_told_1 rfl rfl ?_
  refine b_cvo (y := mX16_other) (ci := 16) (r := (RX16, TX16, 17)) (e := r1) (as := [.inr r2]) (st := []) (n := 1) rfl h.1 (Or.inl q952) q954 q953 q94 q955 zmh_X16_other rfl (Nat.le_of_ble_eq_true rfl) (Nat.le_of_ble_eq_true rfl) dX10_told_2 (sv_X16_other (fun e_2 M_1 h => ?_) h.2)
  show wq (d + 11) mX10_told 5 [(0, .inr r0), (1, .inr r1), (2, .inr r2)] [.inr e_2] M_1 P
  refine b_astore_n (lv' := [(3, .inr e_2), (0, .inr r0), (1, .inr r1), (2, .inr r2)]) dX10_told_5 rfl (Nat.le_of_ble_eq_true rfl) rfl ?_
  refine b_aload_n 3 dX10_told_6 rfl rfl ?_
  refine b_gI (ci := 16) (r := (RX16, TX16, 17)) (f := 11) (by decide) rfl (by decide) rfl (Or.inr ⟨_, q763⟩) (Or.inl rfl) h.1 dX10_told_7 ?_
  replace h := h.2
  refine b_iconst (v := 1) dX10_told_10 (by decide) ?_
  refine b_icmp_ne (tgt := 46) dX10_told_11 (by decide) (fun c_24 => ?_) (fun c_24 => ?_)
  · replace h := h.1 c_24
    refine b_aload_n 0 dX10_told_46 rfl rfl ?_
    refine b_ifnonnull (tgt := 62) dX10_told_47 (by decide) (fun c_16 => ?_) (fun c_16 => ?_)
    · replace h := h.1 c_16
      refine b_aload_n 0 dX10_told_62 rfl rfl ?_
      refine b_cvo (y := mX16_isUnderWay) (ci := 16) (r := (RX16, TX16, 17)) (e := e_2) (as := []) (st := []) (n := 0) rfl h.1 (Or.inl q959) q961 q960 q94 q962 zmh_X16_isUnderWay rfl (Nat.le_of_ble_eq_true rfl) (Nat.le_of_ble_eq_true rfl) dX10_told_63 (sv_X16_isUnderWay (fun r_4 M_3 h => ?_) h.2)
      show wq (d + 11) mX10_told 66 [(3, .inr e_2), (0, .inr r0), (1, .inr r1), (2, .inr r2)] [.inl r_4] M_3 P
      refine b_if_ne (tgt := 89) dX10_told_66 (by decide) (fun c_12 => ?_) (fun c_12 => ?_)
      · replace h := h.1 c_12
        exact b_vret rfl dX10_told_89 (hP _ h)
      · replace h := h.2 c_12
        refine b_aload_n 3 dX10_told_69 rfl rfl ?_
        refine b_gR (ci := 16) (r := (RX16, TX16, 17)) (f := 16) (by decide) rfl (by decide) rfl (Or.inr ⟨_, q786⟩) (Or.inl rfl) h.1 dX10_told_70 ?_
        refine b_topr (fun e_5 ee_5 => ?_)
        replace h := h.2 e_5 ee_5
        refine b_aload_n 0 dX10_told_73 rfl rfl ?_
        refine b_gR (ci := 16) (r := (RX16, TX16, 17)) (f := 16) (by decide) rfl (by decide) rfl (Or.inr ⟨_, q786⟩) (Or.inl rfl) h.1 dX10_told_74 ?_
        refine b_topr (fun e_6 ee_6 => ?_)
        replace h := h.2 e_6 ee_6
        refine b_cvo (y := mX17_suppressed) (ci := 17) (r := (RX17, TX17, 7)) (e := e_5) (as := [.inr e_6]) (st := []) (n := 1) rfl h.1 (Or.inl q1037) q1039 q1038 q95 q1040 zmh_X17_suppressed rfl (Nat.le_of_ble_eq_true rfl) (Nat.le_of_ble_eq_true rfl) dX10_told_77 (sv_X17_suppressed (fun M_7 h => ?_) h.2)
        show wq (d + 11) mX10_told 80 [(3, .inr e_2), (0, .inr r0), (1, .inr r1), (2, .inr r2)] [] M_7 P
        refine b_aload_n 1 dX10_told_80 rfl rfl ?_
        refine b_gR (ci := 10) (r := (RX10, TX10, 8)) (f := 7) (by decide) rfl (by decide) rfl (Or.inl q529) (Or.inl rfl) h.1 dX10_told_81 ?_
        refine b_topr (fun e_9 ee_9 => ?_)
        replace h := h.2 e_9 ee_9
        refine b_aload_n 2 dX10_told_84 rfl rfl ?_
        refine b_aload_n 0 dX10_told_85 rfl rfl ?_
        refine b_cvo (y := mX0_alike) (ci := 0) (r := (RX0, TX0, 14)) (e := e_9) (as := [.inr r1, .inr e_2]) (st := []) (n := 2) rfl h.1 (Or.inr ⟨_, q1036⟩) qs14 q907 q69 q908 zmh_X0_alike rfl (Nat.le_of_ble_eq_true rfl) (Nat.le_of_ble_eq_true rfl) dX10_told_86 (cq.mono h.2 (fun _ M_10 h => ?_))
        obtain ⟨rfl, h⟩ := h
        show wq (d + 11) mX10_told 89 [(3, .inr e_2), (0, .inr r0), (1, .inr r1), (2, .inr r2)] [] M_10 P
        exact b_vret rfl dX10_told_89 (hP _ h)
    · replace h := h.2 c_16
      refine b_aload_n 1 dX10_told_50 rfl rfl ?_
      refine b_gR (ci := 10) (r := (RX10, TX10, 8)) (f := 7) (by decide) rfl (by decide) rfl (Or.inl q529) (Or.inl rfl) h.1 dX10_told_51 ?_
      refine b_topr (fun e_13 ee_13 => ?_)
      replace h := h.2 e_13 ee_13
      refine b_aload_n 2 dX10_told_54 rfl rfl ?_
      refine b_aload_n 3 dX10_told_55 rfl rfl ?_
      refine b_cvo (y := mX0_alike) (ci := 0) (r := (RX0, TX0, 14)) (e := e_13) (as := [.inr r1, .inr r2]) (st := []) (n := 2) rfl h.1 (Or.inr ⟨_, q1036⟩) qs14 q907 q69 q908 zmh_X0_alike rfl (Nat.le_of_ble_eq_true rfl) (Nat.le_of_ble_eq_true rfl) dX10_told_56 (cq.mono h.2 (fun _ M_14 h => ?_))
      obtain ⟨rfl, h⟩ := h
      show wq (d + 11) mX10_told 59 [(3, .inr e_2), (0, .inr r0), (1, .inr r1), (2, .inr r2)] [] M_14 P
      refine b_goto (tgt := 89) dX10_told_59 (by decide) ?_
      exact b_vret rfl dX10_told_89 (hP _ h)
  · replace h := h.2 c_24
    refine b_aload_n 0 dX10_told_14 rfl rfl ?_
    refine b_ifnull (tgt := 34) dX10_told_15 (by decide) (fun c_23 => ?_) (fun c_23 => ?_)
    · replace h := h.1 c_23
      exact b_sub (by simp) (sv_X10_told_34 hP r0 r1 r2 M_1 h)
    · replace h := h.2 c_23
      refine b_aload_n 0 dX10_told_18 rfl rfl ?_
      refine b_cvo (y := mX16_isUnderWay) (ci := 16) (r := (RX16, TX16, 17)) (e := e_2) (as := []) (st := []) (n := 0) rfl h.1 (Or.inl q959) q961 q960 q94 q962 zmh_X16_isUnderWay rfl (Nat.le_of_ble_eq_true rfl) (Nat.le_of_ble_eq_true rfl) dX10_told_19 (sv_X16_isUnderWay (fun r_18 M_17 h => ?_) h.2)
      show wq (d + 11) mX10_told 22 [(3, .inr e_2), (0, .inr r0), (1, .inr r1), (2, .inr r2)] [.inl r_18] M_17 P
      refine b_if_eq (tgt := 34) dX10_told_22 (by decide) (fun c_22 => ?_) (fun c_22 => ?_)
      · replace h := h.1 c_22
        exact b_sub (by simp) (sv_X10_told_34 hP r0 r1 r2 M_17 h)
      · replace h := h.2 c_22
        refine b_aload_n 1 dX10_told_25 rfl rfl ?_
        refine b_gR (ci := 10) (r := (RX10, TX10, 8)) (f := 7) (by decide) rfl (by decide) rfl (Or.inl q529) (Or.inl rfl) h.1 dX10_told_26 ?_
        refine b_topr (fun e_19 ee_19 => ?_)
        replace h := h.2 e_19 ee_19
        refine b_aload_n 0 dX10_told_29 rfl rfl ?_
        refine b_cvo (y := mX0_takeBack) (ci := 0) (r := (RX0, TX0, 14)) (e := e_19) (as := [.inr e_2]) (st := []) (n := 1) rfl h.1 (Or.inr ⟨_, q963⟩) qs18 q965 q69 q966 zmh_X0_takeBack rfl (Nat.le_of_ble_eq_true rfl) (Nat.le_of_ble_eq_true rfl) dX10_told_30 (cq.mono h.2 (fun _ M_20 h => ?_))
        obtain ⟨r_21, rfl, h⟩ := h
        show wq (d + 11) mX10_told 33 [(3, .inr e_2), (0, .inr r0), (1, .inr r1), (2, .inr r2)] [.inl r_21] M_20 P
        refine b_pop dX10_told_33 ?_
        exact b_sub (by simp) (sv_X10_told_34 hP r0 r1 r2 M_20 h)
def v_X10_begins (d : Nat) (r0 : Nat × Nat) (r1 : Nat × Nat) (M : Mem) (Q : Mem → Prop) : Prop := kt r0.1 = 10 ∧ (∀ e_1 : Nat × Nat, e_1 = M.2.1 r0.1 r0.2 7 → (kt e_1.1 = 0 ∧ (kt r0.1 = 10 ∧ (kt r1.1 = 16 ∧ (∀ M_2 : Mem, M_2 = sI M r1.1 r1.2 15 ((M.1 e_1.1 e_1.2 0) + (M.1 r0.1 r0.2 2)) → (kt r0.1 = 10 ∧ (∀ e_3 : Nat × Nat, e_3 = M_2.2.1 r0.1 r0.2 7 → (kt e_3.1 = 0 ∧ (cq (d + 10) mX0_goesIn [.inr e_3, .inr r1] M_2 (fun r_ M_4 => r_ = none ∧ (Q M_4)))))))))))
set_option maxHeartbeats 4000000 in
theorem sv_X10_begins {d : Nat} {M : Mem} {P : Option AV → Mem → Prop} {Q : Mem → Prop} {r0 : Nat × Nat} {r1 : Nat × Nat} (hP : ∀ M, Q M → P none M) (h : v_X10_begins d r0 r1 M Q) : cq (d + 11) mX10_begins [.inr r0, .inr r1] M P := by
  refine cq_of (by decide) (Nat.le_of_ble_eq_true rfl) ?_
  show wq (d + 11) mX10_begins 0 [(0, .inr r0), (1, .inr r1)] [] M P
  unfold v_X10_begins at h
  refine b_aload_n 1 dX10_begins_0 rfl rfl ?_
  refine b_aload_n 0 dX10_begins_1 rfl rfl ?_
  refine b_gR (ci := 10) (r := (RX10, TX10, 8)) (f := 7) (by decide) rfl (by decide) rfl (Or.inl q529) (Or.inl rfl) h.1 dX10_begins_2 ?_
  refine b_topr (fun e_1 ee_1 => ?_)
  replace h := h.2 e_1 ee_1
  refine b_gI (ci := 0) (r := (RX0, TX0, 14)) (f := 0) (by decide) rfl (by decide) rfl (Or.inr ⟨_, q139⟩) (Or.inl rfl) h.1 dX10_begins_5 ?_
  replace h := h.2
  refine b_aload_n 0 dX10_begins_8 rfl rfl ?_
  refine b_gI (ci := 10) (r := (RX10, TX10, 8)) (f := 2) (by decide) rfl (by decide) rfl (Or.inl q380) (Or.inr q381) h.1 dX10_begins_9 ?_
  replace h := h.2
  refine b_iadd dX10_begins_12 ?_
  refine b_pI (ci := 16) (r := (RX16, TX16, 17)) (f := 15) (by decide) rfl (by decide) (Or.inr ⟨_, q780⟩) (Or.inl rfl) rfl (Or.inl rfl) h.1 dX10_begins_13 ?_
  refine b_topm (fun M_2 eM_2 => ?_)
  replace h := h.2 M_2 eM_2
  refine b_aload_n 0 dX10_begins_16 rfl rfl ?_
  refine b_gR (ci := 10) (r := (RX10, TX10, 8)) (f := 7) (by decide) rfl (by decide) rfl (Or.inl q529) (Or.inl rfl) h.1 dX10_begins_17 ?_
  refine b_topr (fun e_3 ee_3 => ?_)
  replace h := h.2 e_3 ee_3
  refine b_aload_n 1 dX10_begins_20 rfl rfl ?_
  refine b_cvo (y := mX0_goesIn) (ci := 0) (r := (RX0, TX0, 14)) (e := e_3) (as := [.inr r1]) (st := []) (n := 1) rfl h.1 (Or.inr ⟨_, q1087⟩) qs10 q842 q69 q843 zmh_X0_goesIn rfl (Nat.le_of_ble_eq_true rfl) (Nat.le_of_ble_eq_true rfl) dX10_begins_21 (cq.mono h.2 (fun _ M_4 h => ?_))
  obtain ⟨rfl, h⟩ := h
  show wq (d + 11) mX10_begins 24 [(0, .inr r0), (1, .inr r1)] [] M_4 P
  exact b_vret rfl dX10_begins_24 (hP _ h)
def v_X10_due (d : Nat) (r0 : Nat × Nat) (r1 : Nat × Nat) (M : Mem) (Q : Mem → Prop) : Prop := kt r0.1 = 10 ∧ (∀ e_1 : Nat × Nat, e_1 = M.2.1 r0.1 r0.2 7 → (kt e_1.1 = 0 ∧ (cq (d + 10) mX0_goesIn [.inr e_1, .inr r1] M (fun r_ M_2 => r_ = none ∧ (Q M_2)))))
set_option maxHeartbeats 4000000 in
theorem sv_X10_due {d : Nat} {M : Mem} {P : Option AV → Mem → Prop} {Q : Mem → Prop} {r0 : Nat × Nat} {r1 : Nat × Nat} (hP : ∀ M, Q M → P none M) (h : v_X10_due d r0 r1 M Q) : cq (d + 11) mX10_due [.inr r0, .inr r1] M P := by
  refine cq_of (by decide) (Nat.le_of_ble_eq_true rfl) ?_
  show wq (d + 11) mX10_due 0 [(0, .inr r0), (1, .inr r1)] [] M P
  unfold v_X10_due at h
  refine b_aload_n 0 dX10_due_0 rfl rfl ?_
  refine b_gR (ci := 10) (r := (RX10, TX10, 8)) (f := 7) (by decide) rfl (by decide) rfl (Or.inl q529) (Or.inl rfl) h.1 dX10_due_1 ?_
  refine b_topr (fun e_1 ee_1 => ?_)
  replace h := h.2 e_1 ee_1
  refine b_aload_n 1 dX10_due_4 rfl rfl ?_
  refine b_cvo (y := mX0_goesIn) (ci := 0) (r := (RX0, TX0, 14)) (e := e_1) (as := [.inr r1]) (st := []) (n := 1) rfl h.1 (Or.inr ⟨_, q1087⟩) qs10 q842 q69 q843 zmh_X0_goesIn rfl (Nat.le_of_ble_eq_true rfl) (Nat.le_of_ble_eq_true rfl) dX10_due_5 (cq.mono h.2 (fun _ M_2 h => ?_))
  obtain ⟨rfl, h⟩ := h
  show wq (d + 11) mX10_due 8 [(0, .inr r0), (1, .inr r1)] [] M_2 P
  exact b_vret rfl dX10_due_8 (hP _ h)
def v_X4_names (r0 : Nat × Nat) (r1 : Nat × Nat) (M : Mem) (Q : Int32 → Mem → Prop) : Prop := kt r1.1 = 16 ∧ (((¬ (M.1 r1.1 r1.2 11) = 2) → (Q 0 M)) ∧ (((M.1 r1.1 r1.2 11) = 2) → (kt r1.1 = 16 ∧ (∀ e_1 : Nat × Nat, e_1 = M.2.1 r1.1 r1.2 16 → (kt e_1.1 = 17 ∧ (gk r0.1 ∧ ((v_X0_isUnder (M.1 e_1.1 e_1.2 1) (M.1 r0.1 r0.2 5) M (fun r_3 M_2 => ((r_3 = 0) → (Q 0 M_2)) ∧ ((¬ r_3 = 0) → (Q 1 M_2)))))))))))
set_option maxHeartbeats 4000000 in
theorem sv_X4_names {d : Nat} {M : Mem} {P : Option AV → Mem → Prop} {Q : Int32 → Mem → Prop} {r0 : Nat × Nat} {r1 : Nat × Nat} (hP : ∀ r M, Q r M → P (some (.inl r)) M) (h : v_X4_names r0 r1 M Q) : cq (d + 1) mX4_names [.inr r0, .inr r1] M P := by
  refine cq_of (by decide) (Nat.le_of_ble_eq_true rfl) ?_
  show wq (d + 1) mX4_names 0 [(0, .inr r0), (1, .inr r1)] [] M P
  unfold v_X4_names at h
  refine b_aload_n 1 dX4_names_0 rfl rfl ?_
  refine b_gI (ci := 16) (r := (RX16, TX16, 17)) (f := 11) (by decide) rfl (by decide) rfl (Or.inr ⟨_, q766⟩) (Or.inl rfl) h.1 dX4_names_1 ?_
  replace h := h.2
  refine b_iconst (v := 2) dX4_names_4 (by decide) ?_
  refine b_icmp_ne (tgt := 29) dX4_names_5 (by decide) (fun c_5 => ?_) (fun c_5 => ?_)
  · replace h := h.1 c_5
    refine b_iconst (v := 0) dX4_names_29 (by decide) ?_
    exact b_zret rfl (by decide) dX4_names_30 (hP _ _ h)
  · replace h := h.2 c_5
    refine b_aload_n 1 dX4_names_8 rfl rfl ?_
    refine b_gR (ci := 16) (r := (RX16, TX16, 17)) (f := 16) (by decide) rfl (by decide) rfl (Or.inr ⟨_, q787⟩) (Or.inl rfl) h.1 dX4_names_9 ?_
    refine b_topr (fun e_1 ee_1 => ?_)
    replace h := h.2 e_1 ee_1
    refine b_gI (ci := 17) (r := (RX17, TX17, 7)) (f := 1) (by decide) rfl (by decide) rfl (Or.inr ⟨_, q863⟩) (Or.inl rfl) h.1 dX4_names_12 ?_
    replace h := h.2
    refine b_aload_n 0 dX4_names_15 rfl rfl ?_
    refine b_gIg (f := 5) (by decide) (Or.inl q408) (Or.inl rfl) h.1 dX4_names_16 ?_
    replace h := h.2
    refine b_cs (y := mX0_isUnder) (as := [.inl (M.1 e_1.1 e_1.2 1), .inl (M.1 r0.1 r0.2 5)]) (st := []) (n := 2) (Or.inr ⟨_, q928⟩) q929 q69 q930 zmh_X0_isUnder rfl (Nat.le_of_ble_eq_true rfl) (Nat.le_of_ble_eq_true rfl) dX4_names_19 (sv_X0_isUnder (fun r_3 M_2 h => ?_) h)
    show wq (d + 1) mX4_names 22 [(0, .inr r0), (1, .inr r1)] [.inl r_3] M_2 P
    refine b_if_eq (tgt := 29) dX4_names_22 (by decide) (fun c_4 => ?_) (fun c_4 => ?_)
    · replace h := h.1 c_4
      refine b_iconst (v := 0) dX4_names_29 (by decide) ?_
      exact b_zret rfl (by decide) dX4_names_30 (hP _ _ h)
    · replace h := h.2 c_4
      refine b_iconst (v := 1) dX4_names_25 (by decide) ?_
      refine b_goto (tgt := 30) dX4_names_26 (by decide) ?_
      exact b_zret rfl (by decide) dX4_names_30 (hP _ _ h)
def v_X11_told (d : Nat) (r0 : Nat × Nat) (r1 : Nat × Nat) (r2 : Nat × Nat) (M : Mem) (Q : Mem → Prop) : Prop := kt r1.1 = 16 ∧ ((((M.1 r1.1 r1.2 10) = 0) → (kt r0.1 = 11 ∧ (v_X4_names r0 r2 M (fun r_2 M_1 => ((¬ r_2 = 0) → (kt r0.1 = 11 ∧ (((¬ (M_1.1 r0.1 r0.2 2) = 0) → (kt r1.1 = 16 ∧ (∀ M_3 : Mem, M_3 = sI M_1 r1.1 r1.2 10 1 → (kt r0.1 = 11 ∧ (∀ e_4 : Nat × Nat, e_4 = M_3.2.1 r0.1 r0.2 7 → (kt r1.1 = 16 ∧ (∀ e_5 : Nat × Nat, e_5 = M_3.2.1 r1.1 r1.2 4 → (kt r1.1 = 16 ∧ (kt r0.1 = 11 ∧ (kt e_4.1 = 0 ∧ (v_X0_beginTry e_4 e_5 ((M_3.1 r1.1 r1.2 1) + 1) r1 (M_3.1 r0.1 r0.2 3) M_3 (fun M_6 => Q M_6)))))))))))) ∧ (((M_1.1 r0.1 r0.2 2) = 0) → (kt r0.1 = 11 ∧ (∀ e_8 : Nat × Nat, e_8 = M_1.2.1 r0.1 r0.2 7 → (kt r0.1 = 11 ∧ (kt e_8.1 = 0 ∧ (cq (d + 10) mX0_good [.inr e_8, .inr r1, .inl (M_1.1 r0.1 r0.2 3), .inl 1] M_1 (fun r_ M_9 => r_ = none ∧ (Q M_9))))))))))) ∧ ((r_2 = 0) → (kt r0.1 = 11 ∧ (∀ e_12 : Nat × Nat, e_12 = M_1.2.1 r0.1 r0.2 7 → (kt e_12.1 = 0 ∧ (cq (d + 10) mX0_alike [.inr e_12, .inr r1, .inr r2] M_1 (fun r_ M_13 => r_ = none ∧ (Q M_13))))))))))) ∧ ((¬ (M.1 r1.1 r1.2 10) = 0) → (kt r2.1 = 16 ∧ (((¬ (M.1 r2.1 r2.2 11) = 1) → (kt r2.1 = 16 ∧ (∀ e_16 : Nat × Nat, e_16 = M.2.1 r2.1 r2.2 16 → (kt r1.1 = 16 ∧ (∀ e_17 : Nat × Nat, e_17 = M.2.1 r1.1 r1.2 7 → (lk e_17.1 ∧ (¬ (0 : Int32) < 0 ∧ (0 : Int32) < M.1 e_17.1 e_17.2 0) ∧ (∀ e_18 : Nat × Nat, e_18 = M.2.1 e_17.1 e_17.2 (0 : Int32).toNatClampNeg → (kt e_18.1 = 16 ∧ (kt e_18.1 = 16 ∧ (∀ e_19 : Nat × Nat, e_19 = M.2.1 e_18.1 e_18.2 16 → (kt e_16.1 = 17 ∧ (∀ M_20 : Mem, M_20 = sR M e_16.1 e_16.2 5 e_19 → (kt r0.1 = 11 ∧ (∀ e_21 : Nat × Nat, e_21 = M_20.2.1 r0.1 r0.2 7 → (kt e_21.1 = 0 ∧ (cq (d + 10) mX0_alike [.inr e_21, .inr r1, .inr r2] M_20 (fun r_ M_22 => r_ = none ∧ (Q M_22)))))))))))))))))) ∧ (((M.1 r2.1 r2.2 11) = 1) → (kt r0.1 = 11 ∧ (∀ e_24 : Nat × Nat, e_24 = M.2.1 r0.1 r0.2 7 → (kt r2.1 = 16 ∧ (kt e_24.1 = 0 ∧ (cq (d + 10) mX0_good [.inr e_24, .inr r1, .inl (M.1 r2.1 r2.2 12), .inl 1] M (fun r_ M_25 => r_ = none ∧ (Q M_25))))))))))))
set_option maxHeartbeats 4000000 in
theorem sv_X11_told {d : Nat} {M : Mem} {P : Option AV → Mem → Prop} {Q : Mem → Prop} {r0 : Nat × Nat} {r1 : Nat × Nat} {r2 : Nat × Nat} (hP : ∀ M, Q M → P none M) (h : v_X11_told d r0 r1 r2 M Q) : cq (d + 11) mX11_told [.inr r0, .inr r1, .inr r2] M P := by
  refine cq_of (by decide) (Nat.le_of_ble_eq_true rfl) ?_
  show wq (d + 11) mX11_told 0 [(0, .inr r0), (1, .inr r1), (2, .inr r2)] [] M P
  unfold v_X11_told at h
  refine b_aload_n 1 dX11_told_0 rfl rfl ?_
  refine b_gI (ci := 16) (r := (RX16, TX16, 17)) (f := 10) (by decide) rfl (by decide) rfl (Or.inr ⟨_, q759⟩) (Or.inl rfl) h.1 dX11_told_1 ?_
  replace h := h.2
  refine b_if_eq (tgt := 62) dX11_told_4 (by decide) (fun c_28 => ?_) (fun c_28 => ?_)
  · replace h := h.1 c_28
    refine b_aload_n 0 dX11_told_62 rfl rfl ?_
    refine b_aload_n 2 dX11_told_63 rfl rfl ?_
    refine b_i_names_Fallback (e := r0) (as := [.inr r2]) (st := []) h.1 q922 rfl (Nat.le_of_ble_eq_true rfl) dX11_told_64 (sv_X4_names (fun r_2 M_1 h => ?_) h.2)
    show wq (d + 11) mX11_told 67 [(0, .inr r0), (1, .inr r1), (2, .inr r2)] [.inl r_2] M_1 P
    refine b_if_ne (tgt := 82) dX11_told_67 (by decide) (fun c_15 => ?_) (fun c_15 => ?_)
    · replace h := h.1 c_15
      refine b_aload_n 0 dX11_told_82 rfl rfl ?_
      refine b_gI (ci := 11) (r := (RX11, TX11, 8)) (f := 2) (by decide) rfl (by decide) rfl (Or.inl q386) (Or.inr q387) h.1 dX11_told_83 ?_
      replace h := h.2
      refine b_if_ne (tgt := 105) dX11_told_86 (by decide) (fun c_11 => ?_) (fun c_11 => ?_)
      · replace h := h.1 c_11
        refine b_aload_n 1 dX11_told_105 rfl rfl ?_
        refine b_iconst (v := 1) dX11_told_106 (by decide) ?_
        refine b_pI (ci := 16) (r := (RX16, TX16, 17)) (f := 10) (by decide) rfl (by decide) (Or.inr ⟨_, q759⟩) (Or.inl rfl) rfl (Or.inr ⟨rfl, by decide⟩) h.1 dX11_told_107 ?_
        refine b_topm (fun M_3 eM_3 => ?_)
        replace h := h.2 M_3 eM_3
        refine b_aload_n 0 dX11_told_110 rfl rfl ?_
        refine b_gR (ci := 11) (r := (RX11, TX11, 8)) (f := 7) (by decide) rfl (by decide) rfl (Or.inl q546) (Or.inl rfl) h.1 dX11_told_111 ?_
        refine b_topr (fun e_4 ee_4 => ?_)
        replace h := h.2 e_4 ee_4
        refine b_aload_n 1 dX11_told_114 rfl rfl ?_
        refine b_gR (ci := 16) (r := (RX16, TX16, 17)) (f := 4) (by decide) rfl (by decide) rfl (Or.inr ⟨_, q742⟩) (Or.inl rfl) h.1 dX11_told_115 ?_
        refine b_topr (fun e_5 ee_5 => ?_)
        replace h := h.2 e_5 ee_5
        refine b_aload_n 1 dX11_told_118 rfl rfl ?_
        refine b_gI (ci := 16) (r := (RX16, TX16, 17)) (f := 1) (by decide) rfl (by decide) rfl (Or.inr ⟨_, q733⟩) (Or.inl rfl) h.1 dX11_told_119 ?_
        replace h := h.2
        refine b_iconst (v := 1) dX11_told_122 (by decide) ?_
        refine b_iadd dX11_told_123 ?_
        refine b_aload_n 1 dX11_told_124 rfl rfl ?_
        refine b_aload_n 0 dX11_told_125 rfl rfl ?_
        refine b_gI (ci := 11) (r := (RX11, TX11, 8)) (f := 3) (by decide) rfl (by decide) rfl (Or.inl q397) (Or.inr q398) h.1 dX11_told_126 ?_
        replace h := h.2
        refine b_cvo (y := mX0_beginTry) (ci := 0) (r := (RX0, TX0, 14)) (e := e_4) (as := [.inr e_5, .inl ((M_3.1 r1.1 r1.2 1) + 1), .inr r1, .inl (M_3.1 r0.1 r0.2 3)]) (st := []) (n := 4) rfl h.1 (Or.inr ⟨_, q933⟩) qs7 q715 q69 q716 zmh_X0_beginTry rfl (Nat.le_of_ble_eq_true rfl) (Nat.le_of_ble_eq_true rfl) dX11_told_129 (sv_X0_beginTry (fun M_6 h => ?_) h.2)
        show wq (d + 11) mX11_told 132 [(0, .inr r0), (1, .inr r1), (2, .inr r2)] [] M_6 P
        exact b_vret rfl dX11_told_132 (hP _ h)
      · replace h := h.2 c_11
        refine b_aload_n 0 dX11_told_89 rfl rfl ?_
        refine b_gR (ci := 11) (r := (RX11, TX11, 8)) (f := 7) (by decide) rfl (by decide) rfl (Or.inl q546) (Or.inl rfl) h.1 dX11_told_90 ?_
        refine b_topr (fun e_8 ee_8 => ?_)
        replace h := h.2 e_8 ee_8
        refine b_aload_n 1 dX11_told_93 rfl rfl ?_
        refine b_aload_n 0 dX11_told_94 rfl rfl ?_
        refine b_gI (ci := 11) (r := (RX11, TX11, 8)) (f := 3) (by decide) rfl (by decide) rfl (Or.inl q397) (Or.inr q398) h.1 dX11_told_95 ?_
        replace h := h.2
        refine b_iconst (v := 1) dX11_told_98 (by decide) ?_
        refine b_cvo (y := mX0_good) (ci := 0) (r := (RX0, TX0, 14)) (e := e_8) (as := [.inr r1, .inl (M_1.1 r0.1 r0.2 3), .inl 1]) (st := []) (n := 3) rfl h.1 (Or.inr ⟨_, q918⟩) qs15 q911 q69 q912 zmh_X0_good rfl (Nat.le_of_ble_eq_true rfl) (Nat.le_of_ble_eq_true rfl) dX11_told_99 (cq.mono h.2 (fun _ M_9 h => ?_))
        obtain ⟨rfl, h⟩ := h
        show wq (d + 11) mX11_told 102 [(0, .inr r0), (1, .inr r1), (2, .inr r2)] [] M_9 P
        refine b_goto (tgt := 132) dX11_told_102 (by decide) ?_
        exact b_vret rfl dX11_told_132 (hP _ h)
    · replace h := h.2 c_15
      refine b_aload_n 0 dX11_told_70 rfl rfl ?_
      refine b_gR (ci := 11) (r := (RX11, TX11, 8)) (f := 7) (by decide) rfl (by decide) rfl (Or.inl q546) (Or.inl rfl) h.1 dX11_told_71 ?_
      refine b_topr (fun e_12 ee_12 => ?_)
      replace h := h.2 e_12 ee_12
      refine b_aload_n 1 dX11_told_74 rfl rfl ?_
      refine b_aload_n 2 dX11_told_75 rfl rfl ?_
      refine b_cvo (y := mX0_alike) (ci := 0) (r := (RX0, TX0, 14)) (e := e_12) (as := [.inr r1, .inr r2]) (st := []) (n := 2) rfl h.1 (Or.inr ⟨_, q921⟩) qs14 q907 q69 q908 zmh_X0_alike rfl (Nat.le_of_ble_eq_true rfl) (Nat.le_of_ble_eq_true rfl) dX11_told_76 (cq.mono h.2 (fun _ M_13 h => ?_))
      obtain ⟨rfl, h⟩ := h
      show wq (d + 11) mX11_told 79 [(0, .inr r0), (1, .inr r1), (2, .inr r2)] [] M_13 P
      refine b_goto (tgt := 132) dX11_told_79 (by decide) ?_
      exact b_vret rfl dX11_told_132 (hP _ h)
  · replace h := h.2 c_28
    refine b_aload_n 2 dX11_told_7 rfl rfl ?_
    refine b_gI (ci := 16) (r := (RX16, TX16, 17)) (f := 11) (by decide) rfl (by decide) rfl (Or.inr ⟨_, q761⟩) (Or.inl rfl) h.1 dX11_told_8 ?_
    replace h := h.2
    refine b_iconst (v := 1) dX11_told_11 (by decide) ?_
    refine b_icmp_ne (tgt := 29) dX11_told_12 (by decide) (fun c_27 => ?_) (fun c_27 => ?_)
    · replace h := h.1 c_27
      refine b_aload_n 2 dX11_told_29 rfl rfl ?_
      refine b_gR (ci := 16) (r := (RX16, TX16, 17)) (f := 16) (by decide) rfl (by decide) rfl (Or.inr ⟨_, q783⟩) (Or.inl rfl) h.1 dX11_told_30 ?_
      refine b_topr (fun e_16 ee_16 => ?_)
      replace h := h.2 e_16 ee_16
      refine b_aload_n 1 dX11_told_33 rfl rfl ?_
      refine b_gR (ci := 16) (r := (RX16, TX16, 17)) (f := 7) (by decide) rfl (by decide) rfl (Or.inr ⟨_, q751⟩) (Or.inl rfl) h.1 dX11_told_34 ?_
      refine b_topr (fun e_17 ee_17 => ?_)
      replace h := h.2 e_17 ee_17
      refine b_iconst (v := 0) dX11_told_37 (by decide) ?_
      refine b_lget (st := [.inr e_16]) h.1 h.2.1 (Or.inl q919) (Nat.le_of_ble_eq_true rfl) dX11_told_38 ?_
      refine b_topr (fun e_18 ee_18 => ?_)
      replace h := h.2.2 e_18 ee_18
      refine b_ck (ci := 16) (r := (RX16, TX16, 17)) rfl q920 h.1 dX11_told_41 ?_
      replace h := h.2
      refine b_gR (ci := 16) (r := (RX16, TX16, 17)) (f := 16) (by decide) rfl (by decide) rfl (Or.inr ⟨_, q783⟩) (Or.inl rfl) h.1 dX11_told_44 ?_
      refine b_topr (fun e_19 ee_19 => ?_)
      replace h := h.2 e_19 ee_19
      refine b_pR (ci := 17) (r := (RX17, TX17, 7)) (f := 5) (by decide) rfl (by decide) (Or.inr ⟨_, q872⟩) (Or.inl rfl) rfl rfl h.1 dX11_told_47 ?_
      refine b_topm (fun M_20 eM_20 => ?_)
      replace h := h.2 M_20 eM_20
      refine b_aload_n 0 dX11_told_50 rfl rfl ?_
      refine b_gR (ci := 11) (r := (RX11, TX11, 8)) (f := 7) (by decide) rfl (by decide) rfl (Or.inl q546) (Or.inl rfl) h.1 dX11_told_51 ?_
      refine b_topr (fun e_21 ee_21 => ?_)
      replace h := h.2 e_21 ee_21
      refine b_aload_n 1 dX11_told_54 rfl rfl ?_
      refine b_aload_n 2 dX11_told_55 rfl rfl ?_
      refine b_cvo (y := mX0_alike) (ci := 0) (r := (RX0, TX0, 14)) (e := e_21) (as := [.inr r1, .inr r2]) (st := []) (n := 2) rfl h.1 (Or.inr ⟨_, q921⟩) qs14 q907 q69 q908 zmh_X0_alike rfl (Nat.le_of_ble_eq_true rfl) (Nat.le_of_ble_eq_true rfl) dX11_told_56 (cq.mono h.2 (fun _ M_22 h => ?_))
      obtain ⟨rfl, h⟩ := h
      show wq (d + 11) mX11_told 59 [(0, .inr r0), (1, .inr r1), (2, .inr r2)] [] M_22 P
      refine b_goto (tgt := 132) dX11_told_59 (by decide) ?_
      exact b_vret rfl dX11_told_132 (hP _ h)
    · replace h := h.2 c_27
      refine b_aload_n 0 dX11_told_15 rfl rfl ?_
      refine b_gR (ci := 11) (r := (RX11, TX11, 8)) (f := 7) (by decide) rfl (by decide) rfl (Or.inl q546) (Or.inl rfl) h.1 dX11_told_16 ?_
      refine b_topr (fun e_24 ee_24 => ?_)
      replace h := h.2 e_24 ee_24
      refine b_aload_n 1 dX11_told_19 rfl rfl ?_
      refine b_aload_n 2 dX11_told_20 rfl rfl ?_
      refine b_gI (ci := 16) (r := (RX16, TX16, 17)) (f := 12) (by decide) rfl (by decide) rfl (Or.inr ⟨_, q769⟩) (Or.inl rfl) h.1 dX11_told_21 ?_
      replace h := h.2
      refine b_iconst (v := 1) dX11_told_24 (by decide) ?_
      refine b_cvo (y := mX0_good) (ci := 0) (r := (RX0, TX0, 14)) (e := e_24) (as := [.inr r1, .inl (M.1 r2.1 r2.2 12), .inl 1]) (st := []) (n := 3) rfl h.1 (Or.inr ⟨_, q918⟩) qs15 q911 q69 q912 zmh_X0_good rfl (Nat.le_of_ble_eq_true rfl) (Nat.le_of_ble_eq_true rfl) dX11_told_25 (cq.mono h.2 (fun _ M_25 h => ?_))
      obtain ⟨rfl, h⟩ := h
      show wq (d + 11) mX11_told 28 [(0, .inr r0), (1, .inr r1), (2, .inr r2)] [] M_25 P
      exact b_vret rfl dX11_told_28 (hP _ h)
def v_X12_told (d : Nat) (r0 : Nat × Nat) (r1 : Nat × Nat) (r2 : Nat × Nat) (M : Mem) (Q : Mem → Prop) : Prop := kt r1.1 = 16 ∧ (∀ e_1 : Nat × Nat, e_1 = M.2.1 r1.1 r1.2 4 → (kt e_1.1 = 15 ∧ (∀ x_2 : Int32, x_2 = M.1 e_1.1 e_1.2 1 → (kt r1.1 = 16 ∧ (∀ e_3 : Nat × Nat, e_3 = M.2.1 r1.1 r1.2 4 → (kt e_3.1 = 15 ∧ (((¬ (M.1 e_3.1 e_3.2 2) = 0) → (kt r0.1 = 12 ∧ (∀ e_4 : Nat × Nat, e_4 = M.2.1 r0.1 r0.2 10 → (kt e_4.1 = 0 ∧ (cq (d + 10) mX0_alike [.inr e_4, .inr r1, .inr r2] M (fun r_ M_5 => r_ = none ∧ (Q M_5))))))) ∧ (((M.1 e_3.1 e_3.2 2) = 0) → (kt r2.1 = 16 ∧ (((¬ (M.1 r2.1 r2.2 11) = 1) → (kt r0.1 = 12 ∧ (∀ e_7 : Nat × Nat, e_7 = M.2.1 r0.1 r0.2 10 → (kt e_7.1 = 0 ∧ (cq (d + 10) mX0_alike [.inr e_7, .inr r1, .inr r2] M (fun r_ M_8 => r_ = none ∧ (Q M_8))))))) ∧ (((M.1 r2.1 r2.2 11) = 1) → (kt r0.1 = 12 ∧ (∀ e_10 : Nat × Nat, e_10 = M.2.1 r0.1 r0.2 7 → (kt r2.1 = 16 ∧ ((arI M e_10 100 x_2 ∧ stk e_10.1 = false) ∧ (∀ M_11 : Mem, M_11 = sI M e_10.1 e_10.2 x_2.toNatClampNeg (M.1 r2.1 r2.2 12) → (kt r0.1 = 12 ∧ (∀ e_12 : Nat × Nat, e_12 = M_11.2.1 r0.1 r0.2 8 → (kt r0.1 = 12 ∧ (∀ e_13 : Nat × Nat, e_13 = M_11.2.1 r0.1 r0.2 10 → (kt e_13.1 = 0 ∧ ((arI M_11 e_12 100 x_2 ∧ stk e_12.1 = false) ∧ (∀ M_14 : Mem, M_14 = sI M_11 e_12.1 e_12.2 x_2.toNatClampNeg (M_11.1 e_13.1 e_13.2 0) → (kt r0.1 = 12 ∧ (∀ e_15 : Nat × Nat, e_15 = M_14.2.1 r0.1 r0.2 9 → (kt r2.1 = 16 ∧ (((M_14.1 r2.1 r2.2 9) = 0 ∨ (M_14.1 r2.1 r2.2 9) = 1) ∧ (arI M_14 e_15 101 x_2 ∧ stk e_15.1 = false) ∧ (∀ M_16 : Mem, M_16 = sI M_14 e_15.1 e_15.2 x_2.toNatClampNeg (M_14.1 r2.1 r2.2 9) → (kt r0.1 = 12 ∧ (∀ e_17 : Nat × Nat, e_17 = M_16.2.1 r0.1 r0.2 10 → (kt e_17.1 = 0 ∧ (cq (d + 10) mX0_alike [.inr e_17, .inr r1, .inr r2] M_16 (fun r_ M_18 => r_ = none ∧ (Q M_18))))))))))))))))))))))))))))))))))
set_option maxHeartbeats 4000000 in
theorem sv_X12_told {d : Nat} {M : Mem} {P : Option AV → Mem → Prop} {Q : Mem → Prop} {r0 : Nat × Nat} {r1 : Nat × Nat} {r2 : Nat × Nat} (hP : ∀ M, Q M → P none M) (h : v_X12_told d r0 r1 r2 M Q) : cq (d + 11) mX12_told [.inr r0, .inr r1, .inr r2] M P := by
  refine cq_of (by decide) (Nat.le_of_ble_eq_true rfl) ?_
  show wq (d + 11) mX12_told 0 [(0, .inr r0), (1, .inr r1), (2, .inr r2)] [] M P
  unfold v_X12_told at h
  refine b_aload_n 1 dX12_told_0 rfl rfl ?_
  refine b_gR (ci := 16) (r := (RX16, TX16, 17)) (f := 4) (by decide) rfl (by decide) rfl (Or.inr ⟨_, q740⟩) (Or.inl rfl) h.1 dX12_told_1 ?_
  refine b_topr (fun e_1 ee_1 => ?_)
  replace h := h.2 e_1 ee_1
  refine b_gI (ci := 15) (r := (RX15, TX15, 10)) (f := 1) (by decide) rfl (by decide) rfl (Or.inr ⟨_, q667⟩) (Or.inl rfl) h.1 dX12_told_4 ?_
  replace h := h.2
  refine b_topi (fun x_2 ex_2 => ?_)
  replace h := h x_2 ex_2
  refine b_istore_n (lv' := [(3, .inl x_2), (0, .inr r0), (1, .inr r1), (2, .inr r2)]) dX12_told_7 rfl (Nat.le_of_ble_eq_true rfl) rfl ?_
  refine b_aload_n 2 dX12_told_8 rfl rfl ?_
  refine b_gR (ci := 16) (r := (RX16, TX16, 17)) (f := 4) (by decide) rfl (by decide) rfl (Or.inr ⟨_, q740⟩) (Or.inl rfl) h.1 dX12_told_9 ?_
  refine b_topr (fun e_3 ee_3 => ?_)
  replace h := h.2 e_3 ee_3
  refine b_gI (ci := 15) (r := (RX15, TX15, 10)) (f := 2) (by decide) rfl (by decide) rfl (Or.inr ⟨_, q670⟩) (Or.inl rfl) h.1 dX12_told_12 ?_
  replace h := h.2
  refine b_if_ne (tgt := 59) dX12_told_15 (by decide) (fun c_21 => ?_) (fun c_21 => ?_)
  · replace h := h.1 c_21
    refine b_aload_n 1 dX12_told_59 rfl rfl ?_
    refine b_gR (ci := 12) (r := (RX12, TX12, 11)) (f := 10) (by decide) rfl (by decide) rfl (Or.inl q568) (Or.inl rfl) h.1 dX12_told_60 ?_
    refine b_topr (fun e_4 ee_4 => ?_)
    replace h := h.2 e_4 ee_4
    refine b_aload_n 2 dX12_told_63 rfl rfl ?_
    refine b_aload_n 3 dX12_told_64 rfl rfl ?_
    refine b_cvo (y := mX0_alike) (ci := 0) (r := (RX0, TX0, 14)) (e := e_4) (as := [.inr r1, .inr r2]) (st := []) (n := 2) rfl h.1 (Or.inr ⟨_, q1049⟩) qs14 q907 q69 q908 zmh_X0_alike rfl (Nat.le_of_ble_eq_true rfl) (Nat.le_of_ble_eq_true rfl) dX12_told_65 (cq.mono h.2 (fun _ M_5 h => ?_))
    obtain ⟨rfl, h⟩ := h
    show wq (d + 11) mX12_told 68 [(3, .inl x_2), (0, .inr r0), (1, .inr r1), (2, .inr r2)] [] M_5 P
    exact b_vret rfl dX12_told_68 (hP _ h)
  · replace h := h.2 c_21
    refine b_aload_n 3 dX12_told_18 rfl rfl ?_
    refine b_gI (ci := 16) (r := (RX16, TX16, 17)) (f := 11) (by decide) rfl (by decide) rfl (Or.inr ⟨_, q765⟩) (Or.inl rfl) h.1 dX12_told_19 ?_
    replace h := h.2
    refine b_iconst (v := 1) dX12_told_22 (by decide) ?_
    refine b_icmp_ne (tgt := 59) dX12_told_23 (by decide) (fun c_20 => ?_) (fun c_20 => ?_)
    · replace h := h.1 c_20
      refine b_aload_n 1 dX12_told_59 rfl rfl ?_
      refine b_gR (ci := 12) (r := (RX12, TX12, 11)) (f := 10) (by decide) rfl (by decide) rfl (Or.inl q568) (Or.inl rfl) h.1 dX12_told_60 ?_
      refine b_topr (fun e_7 ee_7 => ?_)
      replace h := h.2 e_7 ee_7
      refine b_aload_n 2 dX12_told_63 rfl rfl ?_
      refine b_aload_n 3 dX12_told_64 rfl rfl ?_
      refine b_cvo (y := mX0_alike) (ci := 0) (r := (RX0, TX0, 14)) (e := e_7) (as := [.inr r1, .inr r2]) (st := []) (n := 2) rfl h.1 (Or.inr ⟨_, q1049⟩) qs14 q907 q69 q908 zmh_X0_alike rfl (Nat.le_of_ble_eq_true rfl) (Nat.le_of_ble_eq_true rfl) dX12_told_65 (cq.mono h.2 (fun _ M_8 h => ?_))
      obtain ⟨rfl, h⟩ := h
      show wq (d + 11) mX12_told 68 [(3, .inl x_2), (0, .inr r0), (1, .inr r1), (2, .inr r2)] [] M_8 P
      exact b_vret rfl dX12_told_68 (hP _ h)
    · replace h := h.2 c_20
      refine b_aload_n 1 dX12_told_26 rfl rfl ?_
      refine b_gR (ci := 12) (r := (RX12, TX12, 11)) (f := 7) (by decide) rfl (by decide) rfl (Or.inl q563) (Or.inl rfl) h.1 dX12_told_27 ?_
      refine b_topr (fun e_10 ee_10 => ?_)
      replace h := h.2 e_10 ee_10
      refine b_iload_n 0 dX12_told_30 rfl rfl ?_
      refine b_aload_n 3 dX12_told_31 rfl rfl ?_
      refine b_gI (ci := 16) (r := (RX16, TX16, 17)) (f := 12) (by decide) rfl (by decide) rfl (Or.inr ⟨_, q770⟩) (Or.inl rfl) h.1 dX12_told_32 ?_
      replace h := h.2
      refine b_xiast h.1 dX12_told_35 ?_
      refine b_topm (fun M_11 eM_11 => ?_)
      replace h := h.2 M_11 eM_11
      refine b_aload_n 1 dX12_told_36 rfl rfl ?_
      refine b_gR (ci := 12) (r := (RX12, TX12, 11)) (f := 8) (by decide) rfl (by decide) rfl (Or.inl q565) (Or.inl rfl) h.1 dX12_told_37 ?_
      refine b_topr (fun e_12 ee_12 => ?_)
      replace h := h.2 e_12 ee_12
      refine b_iload_n 0 dX12_told_40 rfl rfl ?_
      refine b_aload_n 1 dX12_told_41 rfl rfl ?_
      refine b_gR (ci := 12) (r := (RX12, TX12, 11)) (f := 10) (by decide) rfl (by decide) rfl (Or.inl q568) (Or.inl rfl) h.1 dX12_told_42 ?_
      refine b_topr (fun e_13 ee_13 => ?_)
      replace h := h.2 e_13 ee_13
      refine b_gI (ci := 0) (r := (RX0, TX0, 14)) (f := 0) (by decide) rfl (by decide) rfl (Or.inr ⟨_, q141⟩) (Or.inl rfl) h.1 dX12_told_45 ?_
      replace h := h.2
      refine b_xiast h.1 dX12_told_48 ?_
      refine b_topm (fun M_14 eM_14 => ?_)
      replace h := h.2 M_14 eM_14
      refine b_aload_n 1 dX12_told_49 rfl rfl ?_
      refine b_gR (ci := 12) (r := (RX12, TX12, 11)) (f := 9) (by decide) rfl (by decide) rfl (Or.inl q567) (Or.inl rfl) h.1 dX12_told_50 ?_
      refine b_topr (fun e_15 ee_15 => ?_)
      replace h := h.2 e_15 ee_15
      refine b_iload_n 0 dX12_told_53 rfl rfl ?_
      refine b_aload_n 3 dX12_told_54 rfl rfl ?_
      refine b_gI (ci := 16) (r := (RX16, TX16, 17)) (f := 9) (by decide) rfl (by decide) rfl (Or.inr ⟨_, q757⟩) (Or.inl rfl) h.1 dX12_told_55 ?_
      replace h := h.2
      refine b_xzast h.2.1 h.1 dX12_told_58 ?_
      refine b_topm (fun M_16 eM_16 => ?_)
      replace h := h.2.2 M_16 eM_16
      refine b_aload_n 1 dX12_told_59 rfl rfl ?_
      refine b_gR (ci := 12) (r := (RX12, TX12, 11)) (f := 10) (by decide) rfl (by decide) rfl (Or.inl q568) (Or.inl rfl) h.1 dX12_told_60 ?_
      refine b_topr (fun e_17 ee_17 => ?_)
      replace h := h.2 e_17 ee_17
      refine b_aload_n 2 dX12_told_63 rfl rfl ?_
      refine b_aload_n 3 dX12_told_64 rfl rfl ?_
      refine b_cvo (y := mX0_alike) (ci := 0) (r := (RX0, TX0, 14)) (e := e_17) (as := [.inr r1, .inr r2]) (st := []) (n := 2) rfl h.1 (Or.inr ⟨_, q1049⟩) qs14 q907 q69 q908 zmh_X0_alike rfl (Nat.le_of_ble_eq_true rfl) (Nat.le_of_ble_eq_true rfl) dX12_told_65 (cq.mono h.2 (fun _ M_18 h => ?_))
      obtain ⟨rfl, h⟩ := h
      show wq (d + 11) mX12_told 68 [(3, .inl x_2), (0, .inr r0), (1, .inr r1), (2, .inr r2)] [] M_18 P
      exact b_vret rfl dX12_told_68 (hP _ h)
def v_X12_begins (d : Nat) (r0 : Nat × Nat) (r1 : Nat × Nat) (M : Mem) (Q : Mem → Prop) : Prop := kt r1.1 = 16 ∧ (∀ e_1 : Nat × Nat, e_1 = M.2.1 r1.1 r1.2 4 → (kt e_1.1 = 15 ∧ (∀ x_2 : Int32, x_2 = M.1 e_1.1 e_1.2 1 → (kt r1.1 = 16 ∧ (∀ e_3 : Nat × Nat, e_3 = M.2.1 r1.1 r1.2 4 → (kt e_3.1 = 15 ∧ (((¬ (M.1 e_3.1 e_3.2 2) = 0) → (kt r0.1 = 12 ∧ (∀ e_4 : Nat × Nat, e_4 = M.2.1 r0.1 r0.2 10 → (kt e_4.1 = 0 ∧ (cq (d + 10) mX0_goesIn [.inr e_4, .inr r1] M (fun r_ M_5 => r_ = none ∧ (Q M_5))))))) ∧ (((M.1 e_3.1 e_3.2 2) = 0) → (kt r0.1 = 12 ∧ (∀ e_7 : Nat × Nat, e_7 = M.2.1 r0.1 r0.2 8 → (arI M e_7 100 x_2 ∧ ((((M.1 e_7.1 e_7.2 x_2.toNatClampNeg) = (-1)) → (kt r0.1 = 12 ∧ (∀ e_8 : Nat × Nat, e_8 = M.2.1 r0.1 r0.2 10 → (kt e_8.1 = 0 ∧ (cq (d + 10) mX0_goesIn [.inr e_8, .inr r1] M (fun r_ M_9 => r_ = none ∧ (Q M_9))))))) ∧ ((¬ (M.1 e_7.1 e_7.2 x_2.toNatClampNeg) = (-1)) → (kt r0.1 = 12 ∧ (∀ e_11 : Nat × Nat, e_11 = M.2.1 r0.1 r0.2 10 → (kt e_11.1 = 0 ∧ (kt r0.1 = 12 ∧ (∀ e_12 : Nat × Nat, e_12 = M.2.1 r0.1 r0.2 8 → (arI M e_12 100 x_2 ∧ (kt r0.1 = 12 ∧ ((((M.1 r0.1 r0.2 2) < ((M.1 e_11.1 e_11.2 0) - (M.1 e_12.1 e_12.2 x_2.toNatClampNeg))) → (kt r0.1 = 12 ∧ (∀ e_13 : Nat × Nat, e_13 = M.2.1 r0.1 r0.2 10 → (kt e_13.1 = 0 ∧ (cq (d + 10) mX0_goesIn [.inr e_13, .inr r1] M (fun r_ M_14 => r_ = none ∧ (Q M_14))))))) ∧ ((¬ (M.1 r0.1 r0.2 2) < ((M.1 e_11.1 e_11.2 0) - (M.1 e_12.1 e_12.2 x_2.toNatClampNeg))) → (kt r0.1 = 12 ∧ (∀ e_16 : Nat × Nat, e_16 = M.2.1 r0.1 r0.2 10 → (kt r0.1 = 12 ∧ (∀ e_17 : Nat × Nat, e_17 = M.2.1 r0.1 r0.2 7 → (arI M e_17 100 x_2 ∧ (kt r0.1 = 12 ∧ (∀ e_18 : Nat × Nat, e_18 = M.2.1 r0.1 r0.2 9 → (arI M e_18 101 x_2 ∧ (kt e_16.1 = 0 ∧ (cq (d + 10) mX0_good [.inr e_16, .inr r1, .inl (M.1 e_17.1 e_17.2 x_2.toNatClampNeg), .inl (M.1 e_18.1 e_18.2 x_2.toNatClampNeg)] M (fun r_ M_19 => r_ = none ∧ (Q M_19))))))))))))))))))))))))))))))))))
set_option maxHeartbeats 4000000 in
theorem sv_X12_begins {d : Nat} {M : Mem} {P : Option AV → Mem → Prop} {Q : Mem → Prop} {r0 : Nat × Nat} {r1 : Nat × Nat} (hP : ∀ M, Q M → P none M) (h : v_X12_begins d r0 r1 M Q) : cq (d + 11) mX12_begins [.inr r0, .inr r1] M P := by
  refine cq_of (by decide) (Nat.le_of_ble_eq_true rfl) ?_
  show wq (d + 11) mX12_begins 0 [(0, .inr r0), (1, .inr r1)] [] M P
  unfold v_X12_begins at h
  refine b_aload_n 1 dX12_begins_0 rfl rfl ?_
  refine b_gR (ci := 16) (r := (RX16, TX16, 17)) (f := 4) (by decide) rfl (by decide) rfl (Or.inr ⟨_, q740⟩) (Or.inl rfl) h.1 dX12_begins_1 ?_
  refine b_topr (fun e_1 ee_1 => ?_)
  replace h := h.2 e_1 ee_1
  refine b_gI (ci := 15) (r := (RX15, TX15, 10)) (f := 1) (by decide) rfl (by decide) rfl (Or.inr ⟨_, q667⟩) (Or.inl rfl) h.1 dX12_begins_4 ?_
  replace h := h.2
  refine b_topi (fun x_2 ex_2 => ?_)
  replace h := h x_2 ex_2
  refine b_istore_n (lv' := [(2, .inl x_2), (0, .inr r0), (1, .inr r1)]) dX12_begins_7 rfl (Nat.le_of_ble_eq_true rfl) rfl ?_
  refine b_aload_n 2 dX12_begins_8 rfl rfl ?_
  refine b_gR (ci := 16) (r := (RX16, TX16, 17)) (f := 4) (by decide) rfl (by decide) rfl (Or.inr ⟨_, q740⟩) (Or.inl rfl) h.1 dX12_begins_9 ?_
  refine b_topr (fun e_3 ee_3 => ?_)
  replace h := h.2 e_3 ee_3
  refine b_gI (ci := 15) (r := (RX15, TX15, 10)) (f := 2) (by decide) rfl (by decide) rfl (Or.inr ⟨_, q670⟩) (Or.inl rfl) h.1 dX12_begins_12 ?_
  replace h := h.2
  refine b_if_ne (tgt := 72) dX12_begins_15 (by decide) (fun c_23 => ?_) (fun c_23 => ?_)
  · replace h := h.1 c_23
    refine b_aload_n 1 dX12_begins_72 rfl rfl ?_
    refine b_gR (ci := 12) (r := (RX12, TX12, 11)) (f := 10) (by decide) rfl (by decide) rfl (Or.inl q568) (Or.inl rfl) h.1 dX12_begins_73 ?_
    refine b_topr (fun e_4 ee_4 => ?_)
    replace h := h.2 e_4 ee_4
    refine b_aload_n 2 dX12_begins_76 rfl rfl ?_
    refine b_cvo (y := mX0_goesIn) (ci := 0) (r := (RX0, TX0, 14)) (e := e_4) (as := [.inr r1]) (st := []) (n := 1) rfl h.1 (Or.inr ⟨_, q1111⟩) qs10 q842 q69 q843 zmh_X0_goesIn rfl (Nat.le_of_ble_eq_true rfl) (Nat.le_of_ble_eq_true rfl) dX12_begins_77 (cq.mono h.2 (fun _ M_5 h => ?_))
    obtain ⟨rfl, h⟩ := h
    show wq (d + 11) mX12_begins 80 [(2, .inl x_2), (0, .inr r0), (1, .inr r1)] [] M_5 P
    exact b_vret rfl dX12_begins_80 (hP _ h)
  · replace h := h.2 c_23
    refine b_aload_n 1 dX12_begins_18 rfl rfl ?_
    refine b_gR (ci := 12) (r := (RX12, TX12, 11)) (f := 8) (by decide) rfl (by decide) rfl (Or.inl q565) (Or.inl rfl) h.1 dX12_begins_19 ?_
    refine b_topr (fun e_7 ee_7 => ?_)
    replace h := h.2 e_7 ee_7
    refine b_iload_n 0 dX12_begins_22 rfl rfl ?_
    refine b_xiald h.1 dX12_begins_23 ?_
    replace h := h.2
    refine b_iconst (v := (-1)) dX12_begins_24 (by decide) ?_
    refine b_icmp_eq (tgt := 72) dX12_begins_25 (by decide) (fun c_22 => ?_) (fun c_22 => ?_)
    · replace h := h.1 c_22
      refine b_aload_n 1 dX12_begins_72 rfl rfl ?_
      refine b_gR (ci := 12) (r := (RX12, TX12, 11)) (f := 10) (by decide) rfl (by decide) rfl (Or.inl q568) (Or.inl rfl) h.1 dX12_begins_73 ?_
      refine b_topr (fun e_8 ee_8 => ?_)
      replace h := h.2 e_8 ee_8
      refine b_aload_n 2 dX12_begins_76 rfl rfl ?_
      refine b_cvo (y := mX0_goesIn) (ci := 0) (r := (RX0, TX0, 14)) (e := e_8) (as := [.inr r1]) (st := []) (n := 1) rfl h.1 (Or.inr ⟨_, q1111⟩) qs10 q842 q69 q843 zmh_X0_goesIn rfl (Nat.le_of_ble_eq_true rfl) (Nat.le_of_ble_eq_true rfl) dX12_begins_77 (cq.mono h.2 (fun _ M_9 h => ?_))
      obtain ⟨rfl, h⟩ := h
      show wq (d + 11) mX12_begins 80 [(2, .inl x_2), (0, .inr r0), (1, .inr r1)] [] M_9 P
      exact b_vret rfl dX12_begins_80 (hP _ h)
    · replace h := h.2 c_22
      refine b_aload_n 1 dX12_begins_28 rfl rfl ?_
      refine b_gR (ci := 12) (r := (RX12, TX12, 11)) (f := 10) (by decide) rfl (by decide) rfl (Or.inl q568) (Or.inl rfl) h.1 dX12_begins_29 ?_
      refine b_topr (fun e_11 ee_11 => ?_)
      replace h := h.2 e_11 ee_11
      refine b_gI (ci := 0) (r := (RX0, TX0, 14)) (f := 0) (by decide) rfl (by decide) rfl (Or.inr ⟨_, q141⟩) (Or.inl rfl) h.1 dX12_begins_32 ?_
      replace h := h.2
      refine b_aload_n 1 dX12_begins_35 rfl rfl ?_
      refine b_gR (ci := 12) (r := (RX12, TX12, 11)) (f := 8) (by decide) rfl (by decide) rfl (Or.inl q565) (Or.inl rfl) h.1 dX12_begins_36 ?_
      refine b_topr (fun e_12 ee_12 => ?_)
      replace h := h.2 e_12 ee_12
      refine b_iload_n 0 dX12_begins_39 rfl rfl ?_
      refine b_xiald h.1 dX12_begins_40 ?_
      replace h := h.2
      refine b_isub dX12_begins_41 ?_
      refine b_aload_n 1 dX12_begins_42 rfl rfl ?_
      refine b_gI (ci := 12) (r := (RX12, TX12, 11)) (f := 2) (by decide) rfl (by decide) rfl (Or.inl q384) (Or.inr q385) h.1 dX12_begins_43 ?_
      replace h := h.2
      refine b_icmp_gt (tgt := 72) dX12_begins_46 (by decide) (fun c_21 => ?_) (fun c_21 => ?_)
      · replace h := h.1 c_21
        refine b_aload_n 1 dX12_begins_72 rfl rfl ?_
        refine b_gR (ci := 12) (r := (RX12, TX12, 11)) (f := 10) (by decide) rfl (by decide) rfl (Or.inl q568) (Or.inl rfl) h.1 dX12_begins_73 ?_
        refine b_topr (fun e_13 ee_13 => ?_)
        replace h := h.2 e_13 ee_13
        refine b_aload_n 2 dX12_begins_76 rfl rfl ?_
        refine b_cvo (y := mX0_goesIn) (ci := 0) (r := (RX0, TX0, 14)) (e := e_13) (as := [.inr r1]) (st := []) (n := 1) rfl h.1 (Or.inr ⟨_, q1111⟩) qs10 q842 q69 q843 zmh_X0_goesIn rfl (Nat.le_of_ble_eq_true rfl) (Nat.le_of_ble_eq_true rfl) dX12_begins_77 (cq.mono h.2 (fun _ M_14 h => ?_))
        obtain ⟨rfl, h⟩ := h
        show wq (d + 11) mX12_begins 80 [(2, .inl x_2), (0, .inr r0), (1, .inr r1)] [] M_14 P
        exact b_vret rfl dX12_begins_80 (hP _ h)
      · replace h := h.2 c_21
        refine b_aload_n 1 dX12_begins_49 rfl rfl ?_
        refine b_gR (ci := 12) (r := (RX12, TX12, 11)) (f := 10) (by decide) rfl (by decide) rfl (Or.inl q568) (Or.inl rfl) h.1 dX12_begins_50 ?_
        refine b_topr (fun e_16 ee_16 => ?_)
        replace h := h.2 e_16 ee_16
        refine b_aload_n 2 dX12_begins_53 rfl rfl ?_
        refine b_aload_n 1 dX12_begins_54 rfl rfl ?_
        refine b_gR (ci := 12) (r := (RX12, TX12, 11)) (f := 7) (by decide) rfl (by decide) rfl (Or.inl q563) (Or.inl rfl) h.1 dX12_begins_55 ?_
        refine b_topr (fun e_17 ee_17 => ?_)
        replace h := h.2 e_17 ee_17
        refine b_iload_n 0 dX12_begins_58 rfl rfl ?_
        refine b_xiald h.1 dX12_begins_59 ?_
        replace h := h.2
        refine b_aload_n 1 dX12_begins_60 rfl rfl ?_
        refine b_gR (ci := 12) (r := (RX12, TX12, 11)) (f := 9) (by decide) rfl (by decide) rfl (Or.inl q567) (Or.inl rfl) h.1 dX12_begins_61 ?_
        refine b_topr (fun e_18 ee_18 => ?_)
        replace h := h.2 e_18 ee_18
        refine b_iload_n 0 dX12_begins_64 rfl rfl ?_
        refine b_xzald h.1 dX12_begins_65 ?_
        replace h := h.2
        refine b_cvo (y := mX0_good) (ci := 0) (r := (RX0, TX0, 14)) (e := e_16) (as := [.inr r1, .inl (M.1 e_17.1 e_17.2 x_2.toNatClampNeg), .inl (M.1 e_18.1 e_18.2 x_2.toNatClampNeg)]) (st := []) (n := 3) rfl h.1 (Or.inr ⟨_, q1110⟩) qs15 q911 q69 q912 zmh_X0_good rfl (Nat.le_of_ble_eq_true rfl) (Nat.le_of_ble_eq_true rfl) dX12_begins_66 (cq.mono h.2 (fun _ M_19 h => ?_))
        obtain ⟨rfl, h⟩ := h
        show wq (d + 11) mX12_begins 69 [(2, .inl x_2), (0, .inr r0), (1, .inr r1)] [] M_19 P
        refine b_goto (tgt := 80) dX12_begins_69 (by decide) ?_
        exact b_vret rfl dX12_begins_80 (hP _ h)
def v_X13_takenBack_5 (d : Nat) : Nat → Nat × Nat → Nat × Nat → Int32 → Mem → (Mem → Prop) → Prop
  | 0, _, _, _, _, _ => False
  | n + 1, r0, r1, x2, M, Q => kt r0.1 = 13 ∧ (∀ e_1 : Nat × Nat, e_1 = M.2.1 r0.1 r0.2 7 → (kt e_1.1 = 0 ∧ (∀ e_2 : Nat × Nat, e_2 = M.2.1 e_1.1 e_1.2 9 → (lk e_2.1 ∧ ((((M.1 e_2.1 e_2.2 0) ≤ x2) → (Q M)) ∧ ((¬ (M.1 e_2.1 e_2.2 0) ≤ x2) → (kt r0.1 = 13 ∧ (∀ e_3 : Nat × Nat, e_3 = M.2.1 r0.1 r0.2 7 → (kt e_3.1 = 0 ∧ (∀ e_4 : Nat × Nat, e_4 = M.2.1 e_3.1 e_3.2 9 → (lk e_4.1 ∧ (¬ x2 < 0 ∧ x2 < M.1 e_4.1 e_4.2 0) ∧ (∀ e_5 : Nat × Nat, e_5 = M.2.1 e_4.1 e_4.2 x2.toNatClampNeg → (kt e_5.1 = 16 ∧ (kt e_5.1 = 16 ∧ (∀ e_6 : Nat × Nat, e_6 = M.2.1 e_5.1 e_5.2 8 → (((¬ e_6 = r1) → (∀ x_7 : Int32, x_7 = x2 + 1 → (v_X13_takenBack_5 d n r0 r1 x_7 M Q))) ∧ ((e_6 = r1) → (kt r0.1 = 13 ∧ (∀ e_8 : Nat × Nat, e_8 = M.2.1 r0.1 r0.2 7 → (kt e_8.1 = 0 ∧ (∀ e_9 : Nat × Nat, e_9 = M.2.1 e_8.1 e_8.2 9 → (lk e_9.1 ∧ (¬ x2 < 0 ∧ x2 < M.1 e_9.1 e_9.2 0) ∧ (∀ e_10 : Nat × Nat, e_10 = M.2.1 e_9.1 e_9.2 x2.toNatClampNeg → (kt e_10.1 = 16 ∧ (kt e_10.1 = 16 ∧ (v_X16_isUnderWay e_10 M (fun r_12 M_11 => ((r_12 = 0) → (∀ x_13 : Int32, x_13 = x2 + 1 → (v_X13_takenBack_5 d n r0 r1 x_13 M_11 Q))) ∧ ((¬ r_12 = 0) → (kt r0.1 = 13 ∧ (∀ e_14 : Nat × Nat, e_14 = M_11.2.1 r0.1 r0.2 7 → (kt e_14.1 = 0 ∧ (∀ e_15 : Nat × Nat, e_15 = M_11.2.1 e_14.1 e_14.2 9 → (lk e_15.1 ∧ (¬ x2 < 0 ∧ x2 < M_11.1 e_15.1 e_15.2 0) ∧ (∀ e_16 : Nat × Nat, e_16 = M_11.2.1 e_15.1 e_15.2 x2.toNatClampNeg → (kt e_16.1 = 16 ∧ (kt r0.1 = 13 ∧ (cq (d + 10) mX4_refuses [.inr r0, .inr e_16, .inl 13] M_11 (fun r_ M_17 => r_ = none ∧ (∀ x_19 : Int32, x_19 = x2 + 1 → (v_X13_takenBack_5 d n r0 r1 x_19 M_17 Q))))))))))))))))))))))))))))))))))))))))
set_option maxHeartbeats 4000000 in
theorem sv_X13_takenBack_5 {d : Nat} {P : Option AV → Mem → Prop} {Q : Mem → Prop} (hP : ∀ M, Q M → P none M) : ∀ (n : Nat) (r0 : Nat × Nat) (r1 : Nat × Nat) (x2 : Int32) (M : Mem), v_X13_takenBack_5 d n r0 r1 x2 M Q → wq (d + 11) mX13_takenBack 5 [(0, .inr r0), (1, .inr r1), (2, .inl x2)] [] M P := by
  intro n
  induction n with
  | zero => intro r0 r1 x2 M h; exact False.elim h
  | succ n ih =>
    intro r0 r1 x2 M h
    rw [v_X13_takenBack_5] at h
    refine b_iload_n 2 dX13_takenBack_5 rfl rfl ?_
    refine b_aload_n 0 dX13_takenBack_6 rfl rfl ?_
    refine b_gR (ci := 13) (r := (RX13, TX13, 8)) (f := 7) (by decide) rfl (by decide) rfl (Or.inl q592) (Or.inl rfl) h.1 dX13_takenBack_7 ?_
    refine b_topr (fun e_1 ee_1 => ?_)
    replace h := h.2 e_1 ee_1
    refine b_gR (ci := 0) (r := (RX0, TX0, 14)) (f := 9) (by decide) rfl (by decide) rfl (Or.inr ⟨_, q158⟩) (Or.inl rfl) h.1 dX13_takenBack_10 ?_
    refine b_topr (fun e_2 ee_2 => ?_)
    replace h := h.2 e_2 ee_2
    refine b_lsize (st := [.inl x2]) h.1 (Or.inl q1024) (Nat.le_of_ble_eq_true rfl) dX13_takenBack_13 ?_
    replace h := h.2
    refine b_icmp_ge (tgt := 86) dX13_takenBack_16 (by decide) (fun c_22 => ?_) (fun c_22 => ?_)
    · replace h := h.1 c_22
      exact b_vret rfl dX13_takenBack_86 (hP _ h)
    · replace h := h.2 c_22
      refine b_aload_n 0 dX13_takenBack_19 rfl rfl ?_
      refine b_gR (ci := 13) (r := (RX13, TX13, 8)) (f := 7) (by decide) rfl (by decide) rfl (Or.inl q592) (Or.inl rfl) h.1 dX13_takenBack_20 ?_
      refine b_topr (fun e_3 ee_3 => ?_)
      replace h := h.2 e_3 ee_3
      refine b_gR (ci := 0) (r := (RX0, TX0, 14)) (f := 9) (by decide) rfl (by decide) rfl (Or.inr ⟨_, q158⟩) (Or.inl rfl) h.1 dX13_takenBack_23 ?_
      refine b_topr (fun e_4 ee_4 => ?_)
      replace h := h.2 e_4 ee_4
      refine b_iload_n 2 dX13_takenBack_26 rfl rfl ?_
      refine b_lget (st := []) h.1 h.2.1 (Or.inl q1025) (Nat.le_of_ble_eq_true rfl) dX13_takenBack_27 ?_
      refine b_topr (fun e_5 ee_5 => ?_)
      replace h := h.2.2 e_5 ee_5
      refine b_ck (ci := 16) (r := (RX16, TX16, 17)) rfl q1026 h.1 dX13_takenBack_30 ?_
      replace h := h.2
      refine b_gR (ci := 16) (r := (RX16, TX16, 17)) (f := 8) (by decide) rfl (by decide) rfl (Or.inr ⟨_, q754⟩) (Or.inl rfl) h.1 dX13_takenBack_33 ?_
      refine b_topr (fun e_6 ee_6 => ?_)
      replace h := h.2 e_6 ee_6
      refine b_aload_n 1 dX13_takenBack_36 rfl rfl ?_
      refine b_acmp_ne (tgt := 80) dX13_takenBack_37 (by decide) (fun c_21 => ?_) (fun c_21 => ?_)
      · replace h := h.1 c_21
        obtain ⟨x_7, ex_7⟩ : ∃ y : Int32, y = x2 + 1 := ⟨_, rfl⟩
        replace h := h x_7 ex_7
        refine b_iinc (v := x_7) (lv' := [(2, .inl x_7), (0, .inr r0), (1, .inr r1)]) 2 dX13_takenBack_80 rfl (by rw [ex_7]; rfl) (Nat.le_of_ble_eq_true rfl) rfl ?_
        refine b_goto (tgt := 5) dX13_takenBack_83 (by decide) ?_
        exact b_sub (by simp) (ih r0 r1 x_7 M h)
      · replace h := h.2 c_21
        refine b_aload_n 0 dX13_takenBack_40 rfl rfl ?_
        refine b_gR (ci := 13) (r := (RX13, TX13, 8)) (f := 7) (by decide) rfl (by decide) rfl (Or.inl q592) (Or.inl rfl) h.1 dX13_takenBack_41 ?_
        refine b_topr (fun e_8 ee_8 => ?_)
        replace h := h.2 e_8 ee_8
        refine b_gR (ci := 0) (r := (RX0, TX0, 14)) (f := 9) (by decide) rfl (by decide) rfl (Or.inr ⟨_, q158⟩) (Or.inl rfl) h.1 dX13_takenBack_44 ?_
        refine b_topr (fun e_9 ee_9 => ?_)
        replace h := h.2 e_9 ee_9
        refine b_iload_n 2 dX13_takenBack_47 rfl rfl ?_
        refine b_lget (st := []) h.1 h.2.1 (Or.inl q1025) (Nat.le_of_ble_eq_true rfl) dX13_takenBack_48 ?_
        refine b_topr (fun e_10 ee_10 => ?_)
        replace h := h.2.2 e_10 ee_10
        refine b_ck (ci := 16) (r := (RX16, TX16, 17)) rfl q1026 h.1 dX13_takenBack_51 ?_
        replace h := h.2
        refine b_cvo (y := mX16_isUnderWay) (ci := 16) (r := (RX16, TX16, 17)) (e := e_10) (as := []) (st := []) (n := 0) rfl h.1 (Or.inl q1027) q961 q960 q94 q962 zmh_X16_isUnderWay rfl (Nat.le_of_ble_eq_true rfl) (Nat.le_of_ble_eq_true rfl) dX13_takenBack_54 (sv_X16_isUnderWay (fun r_12 M_11 h => ?_) h.2)
        show wq (d + 11) mX13_takenBack 57 [(0, .inr r0), (1, .inr r1), (2, .inl x2)] [.inl r_12] M_11 P
        refine b_if_eq (tgt := 80) dX13_takenBack_57 (by decide) (fun c_20 => ?_) (fun c_20 => ?_)
        · replace h := h.1 c_20
          obtain ⟨x_13, ex_13⟩ : ∃ y : Int32, y = x2 + 1 := ⟨_, rfl⟩
          replace h := h x_13 ex_13
          refine b_iinc (v := x_13) (lv' := [(2, .inl x_13), (0, .inr r0), (1, .inr r1)]) 2 dX13_takenBack_80 rfl (by rw [ex_13]; rfl) (Nat.le_of_ble_eq_true rfl) rfl ?_
          refine b_goto (tgt := 5) dX13_takenBack_83 (by decide) ?_
          exact b_sub (by simp) (ih r0 r1 x_13 M_11 h)
        · replace h := h.2 c_20
          refine b_aload_n 0 dX13_takenBack_60 rfl rfl ?_
          refine b_aload_n 0 dX13_takenBack_61 rfl rfl ?_
          refine b_gR (ci := 13) (r := (RX13, TX13, 8)) (f := 7) (by decide) rfl (by decide) rfl (Or.inl q592) (Or.inl rfl) h.1 dX13_takenBack_62 ?_
          refine b_topr (fun e_14 ee_14 => ?_)
          replace h := h.2 e_14 ee_14
          refine b_gR (ci := 0) (r := (RX0, TX0, 14)) (f := 9) (by decide) rfl (by decide) rfl (Or.inr ⟨_, q158⟩) (Or.inl rfl) h.1 dX13_takenBack_65 ?_
          refine b_topr (fun e_15 ee_15 => ?_)
          replace h := h.2 e_15 ee_15
          refine b_iload_n 2 dX13_takenBack_68 rfl rfl ?_
          refine b_lget (st := [.inr r0]) h.1 h.2.1 (Or.inl q1025) (Nat.le_of_ble_eq_true rfl) dX13_takenBack_69 ?_
          refine b_topr (fun e_16 ee_16 => ?_)
          replace h := h.2.2 e_16 ee_16
          refine b_ck (ci := 16) (r := (RX16, TX16, 17)) rfl q1026 h.1 dX13_takenBack_72 ?_
          replace h := h.2
          refine b_bipush (v := 13) dX13_takenBack_75 (by decide) ?_
          refine b_i_refuses_Join (e := r0) (as := [.inr e_16, .inl 13]) (st := []) h.1 q1028 rfl (Nat.le_of_ble_eq_true rfl) dX13_takenBack_77 (cq.mono h.2 (fun _ M_17 h => ?_))
          obtain ⟨rfl, h⟩ := h
          show wq (d + 11) mX13_takenBack 80 [(0, .inr r0), (1, .inr r1), (2, .inl x2)] [] M_17 P
          obtain ⟨x_19, ex_19⟩ : ∃ y : Int32, y = x2 + 1 := ⟨_, rfl⟩
          replace h := h x_19 ex_19
          refine b_iinc (v := x_19) (lv' := [(2, .inl x_19), (0, .inr r0), (1, .inr r1)]) 2 dX13_takenBack_80 rfl (by rw [ex_19]; rfl) (Nat.le_of_ble_eq_true rfl) rfl ?_
          refine b_goto (tgt := 5) dX13_takenBack_83 (by decide) ?_
          exact b_sub (by simp) (ih r0 r1 x_19 M_17 h)
def v_X13_takenBack (d : Nat) (r0 : Nat × Nat) (r1 : Nat × Nat) (M : Mem) (Q : Mem → Prop) : Prop := kt r1.1 = 16 ∧ (∀ x_1 : Int32, x_1 = M.1 r1.1 r1.2 0 → (∃ n, v_X13_takenBack_5 d n r0 r1 x_1 M Q))
set_option maxHeartbeats 4000000 in
theorem sv_X13_takenBack {d : Nat} {M : Mem} {P : Option AV → Mem → Prop} {Q : Mem → Prop} {r0 : Nat × Nat} {r1 : Nat × Nat} (hP : ∀ M, Q M → P none M) (h : v_X13_takenBack d r0 r1 M Q) : cq (d + 11) mX13_takenBack [.inr r0, .inr r1] M P := by
  refine cq_of (by decide) (Nat.le_of_ble_eq_true rfl) ?_
  show wq (d + 11) mX13_takenBack 0 [(0, .inr r0), (1, .inr r1)] [] M P
  unfold v_X13_takenBack at h
  refine b_aload_n 1 dX13_takenBack_0 rfl rfl ?_
  refine b_gI (ci := 16) (r := (RX16, TX16, 17)) (f := 0) (by decide) rfl (by decide) rfl (Or.inr ⟨_, q730⟩) (Or.inl rfl) h.1 dX13_takenBack_1 ?_
  replace h := h.2
  refine b_topi (fun x_1 ex_1 => ?_)
  replace h := h x_1 ex_1
  refine b_istore_n (lv' := [(2, .inl x_1), (0, .inr r0), (1, .inr r1)]) dX13_takenBack_4 rfl (Nat.le_of_ble_eq_true rfl) rfl ?_
  obtain ⟨n, h⟩ := h
  exact b_sub (by simp) (sv_X13_takenBack_5 hP n r0 r1 x_1 M h)
