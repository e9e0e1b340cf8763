set_option maxRecDepth 100000
def v_X9_due (d : Nat) (r0 : Nat × Nat) (r1 : Nat × Nat) (M : Mem) (Q : Mem → Prop) : Prop := kt r1.1 = 16 ∧ (∀ M_1 : Mem, M_1 = sI M r1.1 r1.2 14 0 → (kt r0.1 = 9 ∧ (∀ e_2 : Nat × Nat, e_2 = M_1.2.1 r0.1 r0.2 7 → (kt e_2.1 = 0 ∧ (cq (d + 10) mX0_goesIn [.inr e_2, .inr r1] M_1 (fun r_ M_3 => r_ = none ∧ (Q M_3)))))))
set_option maxHeartbeats 4000000 in
theorem sv_X9_due {d : Nat} {M : Mem} {P : Option AV → Mem → Prop} {Q : Mem → Prop} {r0 : Nat × Nat} {r1 : Nat × Nat} (hP : ∀ M, Q M → P none M) (h : v_X9_due d r0 r1 M Q) : cq (d + 11) mX9_due [.inr r0, .inr r1] M P := by
  refine cq_of (by decide) (Nat.le_of_ble_eq_true rfl) ?_
  show wq (d + 11) mX9_due 0 [(0, .inr r0), (1, .inr r1)] [] M P
  unfold v_X9_due at h
  refine b_aload_n 1 dX9_due_0 rfl rfl ?_
  refine b_iconst (v := 0) dX9_due_1 (by decide) ?_
  refine b_pI (ci := 16) (r := (RX16, TX16, 17)) (f := 14) (by decide) rfl (by decide) (Or.inr ⟨_, q774⟩) (Or.inl rfl) rfl (Or.inl rfl) h.1 dX9_due_2 ?_
  refine b_topm (fun M_1 eM_1 => ?_)
  replace h := h.2 M_1 eM_1
  refine b_aload_n 0 dX9_due_5 rfl rfl ?_
  refine b_gR (ci := 9) (r := (RX9, TX9, 8)) (f := 7) (by decide) rfl (by decide) rfl (Or.inl q512) (Or.inl rfl) h.1 dX9_due_6 ?_
  refine b_topr (fun e_2 ee_2 => ?_)
  replace h := h.2 e_2 ee_2
  refine b_aload_n 1 dX9_due_9 rfl rfl ?_
  refine b_cvo (y := mX0_goesIn) (ci := 0) (r := (RX0, TX0, 14)) (e := e_2) (as := [.inr r1]) (st := []) (n := 1) rfl h.1 (Or.inr ⟨_, q1222⟩) qs10 q842 q69 q843 zmh_X0_goesIn rfl (Nat.le_of_ble_eq_true rfl) (Nat.le_of_ble_eq_true rfl) dX9_due_10 (cq.mono h.2 (fun _ M_3 h => ?_))
  obtain ⟨rfl, h⟩ := h
  show wq (d + 11) mX9_due 13 [(0, .inr r0), (1, .inr r1)] [] M_3 P
  exact b_vret rfl dX9_due_13 (hP _ h)
