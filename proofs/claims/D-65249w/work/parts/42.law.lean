set_option maxRecDepth 100000
/-! the law's own method -/
abbrev yL_law : MethodName := x
def arLI (M : Mem) (e : Nat × Nat) : Prop := e.1 ≠ 0 ∧ kt e.1 = 100 ∧ M.2.2.1 e.1 e.2 ≠ 0
theorem b_xalenI {d : Nat} {mt : zMt} {pc : Nat} {lv : List (Nat × AV)} {st : List AV} {M : Mem} {Q : Option AV → Mem → Prop} {e : Nat × Nat} (h : arLI M e) (hd : decode mt.2.1 pc = .ok (.arraylength, 1)) (kk : wq d mt (pc + 1) lv (.inl (nI (M.2.2.1 e.1 e.2 - 1)) :: st) M Q) : wq d mt pc lv (.inr e :: st) M Q :=
  fun M0 A => by
    have hn := kt_nlA (k := e.1) (Or.inl h.2.1)
    have hs := A.same hn.1 hn.2
    have h2 := kk M0 A
    rw [hs.2.2] at h2
    have h3 := h.2.2
    rw [hs.2.2] at h3
    exact a_xalen ⟨h.1, by rw [h.2.1]; omega, h3⟩ hd h2
abbrev mL_law : zMt := (yL_law, cL_law, 4, some .boolean)
def v_L_law_18 (d : Nat) : Nat → Nat × Nat → Nat × Nat → Nat × Nat → Int32 → Mem → (Int32 → Mem → Prop) → Prop
  | 0, _, _, _, _, _, _ => False
  | n + 1, r0, r1, r2, x3, M, Q => arLI M r0 ∧ (((((nI (M.2.2.1 r0.1 r0.2 - 1)) - 8) < x3) → (Q 1 M)) ∧ ((¬ ((nI (M.2.2.1 r0.1 r0.2 - 1)) - 8) < x3) → (arI M r0 100 x3 ∧ ((((M.1 r0.1 r0.2 x3.toNatClampNeg) &&& 31) = 0 → (arI M r0 100 (x3 + 1) ∧ (arI M r0 100 (x3 + 2) ∧ (arI M r0 100 (x3 + 3) ∧ (kt r1.1 = 0 ∧ (cq (d + 10) mX0_station [.inr r1, .inl (M.1 r0.1 r0.2 ((x3 + 1)).toNatClampNeg), .inl (M.1 r0.1 r0.2 ((x3 + 2)).toNatClampNeg), .inl (M.1 r0.1 r0.2 ((x3 + 3)).toNatClampNeg)] M (fun r_ M_1 => ∃ r_2 : Int32, r_ = some (.inl r_2) ∧ (arI M_1 r0 100 (x3 + 1) ∧ (arI M_1 r0 100 (x3 + 2) ∧ (arI M_1 r0 100 (x3 + 3) ∧ (kt r2.1 = 1 ∧ (cq (d + 10) mX1_station [.inr r2, .inl (M_1.1 r0.1 r0.2 ((x3 + 1)).toNatClampNeg), .inl (M_1.1 r0.1 r0.2 ((x3 + 2)).toNatClampNeg), .inl (M_1.1 r0.1 r0.2 ((x3 + 3)).toNatClampNeg)] M_1 (fun r_ M_3 => ∃ r_4 : Int32, r_ = some (.inl r_4) ∧ (((r_2 = r_4) → (∀ x_5 : Int32, x_5 = x3 + 8 → (v_L_law_18 d n r0 r1 r2 x_5 M_3 Q))) ∧ ((¬ r_2 = r_4) → (Q 0 M_3)))))))))))))))) ∧ (((M.1 r0.1 r0.2 x3.toNatClampNeg) &&& 31) = 1 → (arI M r0 100 (x3 + 1) ∧ (arI M r0 100 (x3 + 2) ∧ (arI M r0 100 (x3 + 3) ∧ (arI M r0 100 (x3 + 4) ∧ (arI M r0 100 (x3 + 5) ∧ (kt r1.1 = 0 ∧ (cq (d + 10) mX0_fault [.inr r1, .inl (M.1 r0.1 r0.2 ((x3 + 1)).toNatClampNeg), .inl (M.1 r0.1 r0.2 ((x3 + 2)).toNatClampNeg), .inl (M.1 r0.1 r0.2 ((x3 + 3)).toNatClampNeg), .inl (M.1 r0.1 r0.2 ((x3 + 4)).toNatClampNeg), .inl (M.1 r0.1 r0.2 ((x3 + 5)).toNatClampNeg)] M (fun r_ M_7 => ∃ r_8 : Int32, r_ = some (.inl r_8) ∧ (arI M_7 r0 100 (x3 + 1) ∧ (arI M_7 r0 100 (x3 + 2) ∧ (arI M_7 r0 100 (x3 + 3) ∧ (arI M_7 r0 100 (x3 + 4) ∧ (arI M_7 r0 100 (x3 + 5) ∧ (kt r2.1 = 1 ∧ (cq (d + 10) mX1_fault [.inr r2, .inl (M_7.1 r0.1 r0.2 ((x3 + 1)).toNatClampNeg), .inl (M_7.1 r0.1 r0.2 ((x3 + 2)).toNatClampNeg), .inl (M_7.1 r0.1 r0.2 ((x3 + 3)).toNatClampNeg), .inl (M_7.1 r0.1 r0.2 ((x3 + 4)).toNatClampNeg), .inl (M_7.1 r0.1 r0.2 ((x3 + 5)).toNatClampNeg)] M_7 (fun r_ M_9 => ∃ r_10 : Int32, r_ = some (.inl r_10) ∧ (((r_8 = r_10) → (∀ x_11 : Int32, x_11 = x3 + 8 → (v_L_law_18 d n r0 r1 r2 x_11 M_9 Q))) ∧ ((¬ r_8 = r_10) → (Q 0 M_9)))))))))))))))))))) ∧ (((M.1 r0.1 r0.2 x3.toNatClampNeg) &&& 31) = 2 → (arI M r0 100 (x3 + 1) ∧ (arI M r0 100 (x3 + 2) ∧ (arI M r0 100 (x3 + 3) ∧ (arI M r0 100 (x3 + 4) ∧ (arI M r0 100 (x3 + 5) ∧ (kt r1.1 = 0 ∧ (cq (d + 10) mX0_slow [.inr r1, .inl (M.1 r0.1 r0.2 ((x3 + 1)).toNatClampNeg), .inl (M.1 r0.1 r0.2 ((x3 + 2)).toNatClampNeg), .inl (M.1 r0.1 r0.2 ((x3 + 3)).toNatClampNeg), .inl (M.1 r0.1 r0.2 ((x3 + 4)).toNatClampNeg), .inl (M.1 r0.1 r0.2 ((x3 + 5)).toNatClampNeg)] M (fun r_ M_13 => ∃ r_14 : Int32, r_ = some (.inl r_14) ∧ (arI M_13 r0 100 (x3 + 1) ∧ (arI M_13 r0 100 (x3 + 2) ∧ (arI M_13 r0 100 (x3 + 3) ∧ (arI M_13 r0 100 (x3 + 4) ∧ (arI M_13 r0 100 (x3 + 5) ∧ (kt r2.1 = 1 ∧ (cq (d + 10) mX1_slow [.inr r2, .inl (M_13.1 r0.1 r0.2 ((x3 + 1)).toNatClampNeg), .inl (M_13.1 r0.1 r0.2 ((x3 + 2)).toNatClampNeg), .inl (M_13.1 r0.1 r0.2 ((x3 + 3)).toNatClampNeg), .inl (M_13.1 r0.1 r0.2 ((x3 + 4)).toNatClampNeg), .inl (M_13.1 r0.1 r0.2 ((x3 + 5)).toNatClampNeg)] M_13 (fun r_ M_15 => ∃ r_16 : Int32, r_ = some (.inl r_16) ∧ (((r_14 = r_16) → (∀ x_17 : Int32, x_17 = x3 + 8 → (v_L_law_18 d n r0 r1 r2 x_17 M_15 Q))) ∧ ((¬ r_14 = r_16) → (Q 0 M_15)))))))))))))))))))) ∧ (((M.1 r0.1 r0.2 x3.toNatClampNeg) &&& 31) = 3 → (arI M r0 100 (x3 + 1) ∧ (arI M r0 100 (x3 + 2) ∧ (arI M r0 100 (x3 + 3) ∧ (arI M r0 100 (x3 + 4) ∧ (arI M r0 100 (x3 + 5) ∧ (kt r1.1 = 0 ∧ (cq (d + 10) mX0_guard [.inr r1, .inl (M.1 r0.1 r0.2 ((x3 + 1)).toNatClampNeg), .inl (M.1 r0.1 r0.2 ((x3 + 2)).toNatClampNeg), .inl (M.1 r0.1 r0.2 ((x3 + 3)).toNatClampNeg), .inl (M.1 r0.1 r0.2 ((x3 + 4)).toNatClampNeg), .inl (M.1 r0.1 r0.2 ((x3 + 5)).toNatClampNeg)] M (fun r_ M_19 => ∃ r_20 : Int32, r_ = some (.inl r_20) ∧ (arI M_19 r0 100 (x3 + 1) ∧ (arI M_19 r0 100 (x3 + 2) ∧ (arI M_19 r0 100 (x3 + 3) ∧ (arI M_19 r0 100 (x3 + 4) ∧ (arI M_19 r0 100 (x3 + 5) ∧ (kt r2.1 = 1 ∧ (cq (d + 10) mX1_guard [.inr r2, .inl (M_19.1 r0.1 r0.2 ((x3 + 1)).toNatClampNeg), .inl (M_19.1 r0.1 r0.2 ((x3 + 2)).toNatClampNeg), .inl (M_19.1 r0.1 r0.2 ((x3 + 3)).toNatClampNeg), .inl (M_19.1 r0.1 r0.2 ((x3 + 4)).toNatClampNeg), .inl (M_19.1 r0.1 r0.2 ((x3 + 5)).toNatClampNeg)] M_19 (fun r_ M_21 => ∃ r_22 : Int32, r_ = some (.inl r_22) ∧ (((r_20 = r_22) → (∀ x_23 : Int32, x_23 = x3 + 8 → (v_L_law_18 d n r0 r1 r2 x_23 M_21 Q))) ∧ ((¬ r_20 = r_22) → (Q 0 M_21)))))))))))))))))))) ∧ (((M.1 r0.1 r0.2 x3.toNatClampNeg) &&& 31) = 4 → (arI M r0 100 (x3 + 1) ∧ (kt r1.1 = 0 ∧ (cq (d + 10) mX0_on [.inr r1, .inl (M.1 r0.1 r0.2 ((x3 + 1)).toNatClampNeg)] M (fun r_ M_25 => ∃ r_26 : Int32, r_ = some (.inl r_26) ∧ (arI M_25 r0 100 (x3 + 1) ∧ (kt r2.1 = 1 ∧ (cq (d + 10) mX1_on [.inr r2, .inl (M_25.1 r0.1 r0.2 ((x3 + 1)).toNatClampNeg)] M_25 (fun r_ M_27 => ∃ r_28 : Int32, r_ = some (.inl r_28) ∧ (((r_26 = r_28) → (∀ x_29 : Int32, x_29 = x3 + 8 → (v_L_law_18 d n r0 r1 r2 x_29 M_27 Q))) ∧ ((¬ r_26 = r_28) → (Q 0 M_27)))))))))))) ∧ (((M.1 r0.1 r0.2 x3.toNatClampNeg) &&& 31) = 5 → (kt r1.1 = 0 ∧ (cq (d + 10) mX0_tower [.inr r1] M (fun r_ M_31 => ∃ r_32 : Int32, r_ = some (.inl r_32) ∧ (kt r2.1 = 1 ∧ (cq (d + 10) mX1_tower [.inr r2] M_31 (fun r_ M_33 => ∃ r_34 : Int32, r_ = some (.inl r_34) ∧ (((r_32 = r_34) → (∀ x_35 : Int32, x_35 = x3 + 8 → (v_L_law_18 d n r0 r1 r2 x_35 M_33 Q))) ∧ ((¬ r_32 = r_34) → (Q 0 M_33)))))))))) ∧ (((M.1 r0.1 r0.2 x3.toNatClampNeg) &&& 31) = 6 → (arI M r0 100 (x3 + 1) ∧ (arI M r0 100 (x3 + 2) ∧ (arI M r0 100 (x3 + 3) ∧ (arI M r0 100 (x3 + 4) ∧ (arI M r0 100 (x3 + 5) ∧ (kt r1.1 = 0 ∧ (cq (d + 10) mX0_order [.inr r1, .inl (M.1 r0.1 r0.2 ((x3 + 1)).toNatClampNeg), .inl (M.1 r0.1 r0.2 ((x3 + 2)).toNatClampNeg), .inl (M.1 r0.1 r0.2 ((x3 + 3)).toNatClampNeg), .inl (M.1 r0.1 r0.2 ((x3 + 4)).toNatClampNeg), .inl (M.1 r0.1 r0.2 ((x3 + 5)).toNatClampNeg)] M (fun r_ M_37 => ∃ r_38 : Int32, r_ = some (.inl r_38) ∧ (arI M_37 r0 100 (x3 + 1) ∧ (arI M_37 r0 100 (x3 + 2) ∧ (arI M_37 r0 100 (x3 + 3) ∧ (arI M_37 r0 100 (x3 + 4) ∧ (arI M_37 r0 100 (x3 + 5) ∧ (kt r2.1 = 1 ∧ (cq (d + 10) mX1_order [.inr r2, .inl (M_37.1 r0.1 r0.2 ((x3 + 1)).toNatClampNeg), .inl (M_37.1 r0.1 r0.2 ((x3 + 2)).toNatClampNeg), .inl (M_37.1 r0.1 r0.2 ((x3 + 3)).toNatClampNeg), .inl (M_37.1 r0.1 r0.2 ((x3 + 4)).toNatClampNeg), .inl (M_37.1 r0.1 r0.2 ((x3 + 5)).toNatClampNeg)] M_37 (fun r_ M_39 => ∃ r_40 : Int32, r_ = some (.inl r_40) ∧ (((r_38 = r_40) → (∀ x_41 : Int32, x_41 = x3 + 8 → (v_L_law_18 d n r0 r1 r2 x_41 M_39 Q))) ∧ ((¬ r_38 = r_40) → (Q 0 M_39)))))))))))))))))))) ∧ (((M.1 r0.1 r0.2 x3.toNatClampNeg) &&& 31) = 7 → (arI M r0 100 (x3 + 1) ∧ (kt r1.1 = 0 ∧ (cq (d + 10) mX0_cancel [.inr r1, .inl (M.1 r0.1 r0.2 ((x3 + 1)).toNatClampNeg)] M (fun r_ M_43 => ∃ r_44 : Int32, r_ = some (.inl r_44) ∧ (arI M_43 r0 100 (x3 + 1) ∧ (kt r2.1 = 1 ∧ (cq (d + 10) mX1_cancel [.inr r2, .inl (M_43.1 r0.1 r0.2 ((x3 + 1)).toNatClampNeg)] M_43 (fun r_ M_45 => ∃ r_46 : Int32, r_ = some (.inl r_46) ∧ (((r_44 = r_46) → (∀ x_47 : Int32, x_47 = x3 + 8 → (v_L_law_18 d n r0 r1 r2 x_47 M_45 Q))) ∧ ((¬ r_44 = r_46) → (Q 0 M_45)))))))))))) ∧ (((M.1 r0.1 r0.2 x3.toNatClampNeg) &&& 31) = 8 → (arI M r0 100 (x3 + 1) ∧ (kt r1.1 = 0 ∧ (cq (d + 10) mX0_second [.inr r1, .inl (M.1 r0.1 r0.2 ((x3 + 1)).toNatClampNeg)] M (fun r_ M_49 => ∃ r_50 : Int32, r_ = some (.inl r_50) ∧ (arI M_49 r0 100 (x3 + 1) ∧ (kt r2.1 = 1 ∧ (cq (d + 10) mX1_second [.inr r2, .inl (M_49.1 r0.1 r0.2 ((x3 + 1)).toNatClampNeg)] M_49 (fun r_ M_51 => ∃ r_52 : Int32, r_ = some (.inl r_52) ∧ (((r_50 = r_52) → (∀ x_53 : Int32, x_53 = x3 + 8 → (v_L_law_18 d n r0 r1 r2 x_53 M_51 Q))) ∧ ((¬ r_50 = r_52) → (Q 0 M_51)))))))))))) ∧ (((M.1 r0.1 r0.2 x3.toNatClampNeg) &&& 31) = 9 → (arI M r0 100 (x3 + 1) ∧ (arI M r0 100 (x3 + 2) ∧ (arI M r0 100 (x3 + 3) ∧ (arI M r0 100 (x3 + 4) ∧ (arI M r0 100 (x3 + 5) ∧ (arI M r0 100 (x3 + 6) ∧ (arI M r0 100 (x3 + 7) ∧ (kt r1.1 = 0 ∧ (cq (d + 10) mX0_plan_2 [.inr r1, .inl (M.1 r0.1 r0.2 ((x3 + 1)).toNatClampNeg), .inl (M.1 r0.1 r0.2 ((x3 + 2)).toNatClampNeg), .inl (M.1 r0.1 r0.2 ((x3 + 3)).toNatClampNeg), .inl (M.1 r0.1 r0.2 ((x3 + 4)).toNatClampNeg), .inl (M.1 r0.1 r0.2 ((x3 + 5)).toNatClampNeg), .inl (M.1 r0.1 r0.2 ((x3 + 6)).toNatClampNeg), .inl (M.1 r0.1 r0.2 ((x3 + 7)).toNatClampNeg)] M (fun r_ M_55 => ∃ r_56 : Int32, r_ = some (.inl r_56) ∧ (arI M_55 r0 100 (x3 + 1) ∧ (arI M_55 r0 100 (x3 + 2) ∧ (arI M_55 r0 100 (x3 + 3) ∧ (arI M_55 r0 100 (x3 + 4) ∧ (arI M_55 r0 100 (x3 + 5) ∧ (arI M_55 r0 100 (x3 + 6) ∧ (arI M_55 r0 100 (x3 + 7) ∧ (kt r2.1 = 1 ∧ (cq (d + 10) mX1_plan [.inr r2, .inl (M_55.1 r0.1 r0.2 ((x3 + 1)).toNatClampNeg), .inl (M_55.1 r0.1 r0.2 ((x3 + 2)).toNatClampNeg), .inl (M_55.1 r0.1 r0.2 ((x3 + 3)).toNatClampNeg), .inl (M_55.1 r0.1 r0.2 ((x3 + 4)).toNatClampNeg), .inl (M_55.1 r0.1 r0.2 ((x3 + 5)).toNatClampNeg), .inl (M_55.1 r0.1 r0.2 ((x3 + 6)).toNatClampNeg), .inl (M_55.1 r0.1 r0.2 ((x3 + 7)).toNatClampNeg)] M_55 (fun r_ M_57 => ∃ r_58 : Int32, r_ = some (.inl r_58) ∧ (((r_56 = r_58) → (∀ x_59 : Int32, x_59 = x3 + 8 → (v_L_law_18 d n r0 r1 r2 x_59 M_57 Q))) ∧ ((¬ r_56 = r_58) → (Q 0 M_57)))))))))))))))))))))))) ∧ (((M.1 r0.1 r0.2 x3.toNatClampNeg) &&& 31) = 10 → (arI M r0 100 (x3 + 1) ∧ (kt r1.1 = 0 ∧ (cq (d + 10) mX0_stop [.inr r1, .inl (M.1 r0.1 r0.2 ((x3 + 1)).toNatClampNeg)] M (fun r_ M_61 => ∃ r_62 : Int32, r_ = some (.inl r_62) ∧ (arI M_61 r0 100 (x3 + 1) ∧ (kt r2.1 = 1 ∧ (cq (d + 10) mX1_stop [.inr r2, .inl (M_61.1 r0.1 r0.2 ((x3 + 1)).toNatClampNeg)] M_61 (fun r_ M_63 => ∃ r_64 : Int32, r_ = some (.inl r_64) ∧ (((r_62 = r_64) → (∀ x_65 : Int32, x_65 = x3 + 8 → (v_L_law_18 d n r0 r1 r2 x_65 M_63 Q))) ∧ ((¬ r_62 = r_64) → (Q 0 M_63)))))))))))) ∧ (((M.1 r0.1 r0.2 x3.toNatClampNeg) &&& 31) = 11 → (arI M r0 100 (x3 + 1) ∧ (arI M r0 100 (x3 + 2) ∧ (kt r1.1 = 0 ∧ (cq (d + 10) mX0_planned [.inr r1, .inl (M.1 r0.1 r0.2 ((x3 + 1)).toNatClampNeg), .inl (M.1 r0.1 r0.2 ((x3 + 2)).toNatClampNeg)] M (fun r_ M_67 => ∃ r_68 : Int32, r_ = some (.inl r_68) ∧ (arI M_67 r0 100 (x3 + 1) ∧ (arI M_67 r0 100 (x3 + 2) ∧ (kt r2.1 = 1 ∧ (cq (d + 10) mX1_planned [.inr r2, .inl (M_67.1 r0.1 r0.2 ((x3 + 1)).toNatClampNeg), .inl (M_67.1 r0.1 r0.2 ((x3 + 2)).toNatClampNeg)] M_67 (fun r_ M_69 => ∃ r_70 : Int32, r_ = some (.inl r_70) ∧ (((r_68 = r_70) → (∀ x_71 : Int32, x_71 = x3 + 8 → (v_L_law_18 d n r0 r1 r2 x_71 M_69 Q))) ∧ ((¬ r_68 = r_70) → (Q 0 M_69)))))))))))))) ∧ (((M.1 r0.1 r0.2 x3.toNatClampNeg) &&& 31) = 12 → (arI M r0 100 (x3 + 1) ∧ (arI M r0 100 (x3 + 2) ∧ (arI M r0 100 (x3 + 3) ∧ (kt r1.1 = 0 ∧ (cq (d + 10) mX0_alarm [.inr r1, .inl (M.1 r0.1 r0.2 ((x3 + 1)).toNatClampNeg), .inl (M.1 r0.1 r0.2 ((x3 + 2)).toNatClampNeg), .inl (M.1 r0.1 r0.2 ((x3 + 3)).toNatClampNeg)] M (fun r_ M_73 => ∃ r_74 : Int32, r_ = some (.inl r_74) ∧ (arI M_73 r0 100 (x3 + 1) ∧ (arI M_73 r0 100 (x3 + 2) ∧ (arI M_73 r0 100 (x3 + 3) ∧ (kt r2.1 = 1 ∧ (cq (d + 10) mX1_alarm [.inr r2, .inl (M_73.1 r0.1 r0.2 ((x3 + 1)).toNatClampNeg), .inl (M_73.1 r0.1 r0.2 ((x3 + 2)).toNatClampNeg), .inl (M_73.1 r0.1 r0.2 ((x3 + 3)).toNatClampNeg)] M_73 (fun r_ M_75 => ∃ r_76 : Int32, r_ = some (.inl r_76) ∧ (((r_74 = r_76) → (∀ x_77 : Int32, x_77 = x3 + 8 → (v_L_law_18 d n r0 r1 r2 x_77 M_75 Q))) ∧ ((¬ r_74 = r_76) → (Q 0 M_75)))))))))))))))) ∧ (((M.1 r0.1 r0.2 x3.toNatClampNeg) &&& 31) = 13 → (arI M r0 100 (x3 + 1) ∧ (arI M r0 100 (x3 + 2) ∧ (kt r1.1 = 0 ∧ (cq (d + 10) mX0_alarmed [.inr r1, .inl (M.1 r0.1 r0.2 ((x3 + 1)).toNatClampNeg), .inl (M.1 r0.1 r0.2 ((x3 + 2)).toNatClampNeg)] M (fun r_ M_79 => ∃ r_80 : Int32, r_ = some (.inl r_80) ∧ (arI M_79 r0 100 (x3 + 1) ∧ (arI M_79 r0 100 (x3 + 2) ∧ (kt r2.1 = 1 ∧ (cq (d + 10) mX1_alarmed [.inr r2, .inl (M_79.1 r0.1 r0.2 ((x3 + 1)).toNatClampNeg), .inl (M_79.1 r0.1 r0.2 ((x3 + 2)).toNatClampNeg)] M_79 (fun r_ M_81 => ∃ r_82 : Int32, r_ = some (.inl r_82) ∧ (((r_80 = r_82) → (∀ x_83 : Int32, x_83 = x3 + 8 → (v_L_law_18 d n r0 r1 r2 x_83 M_81 Q))) ∧ ((¬ r_80 = r_82) → (Q 0 M_81)))))))))))))) ∧ (((M.1 r0.1 r0.2 x3.toNatClampNeg) &&& 31) = 14 → (kt r1.1 = 0 ∧ (cq (d + 10) mX0_now [.inr r1] M (fun r_ M_85 => ∃ r_86 : Int32, r_ = some (.inl r_86) ∧ (kt r2.1 = 1 ∧ (cq (d + 10) mX1_now [.inr r2] M_85 (fun r_ M_87 => ∃ r_88 : Int32, r_ = some (.inl r_88) ∧ (((r_86 = r_88) → (∀ x_89 : Int32, x_89 = x3 + 8 → (v_L_law_18 d n r0 r1 r2 x_89 M_87 Q))) ∧ ((¬ r_86 = r_88) → (Q 0 M_87)))))))))) ∧ (((M.1 r0.1 r0.2 x3.toNatClampNeg) &&& 31) = 15 → (arI M r0 100 (x3 + 1) ∧ (kt r1.1 = 0 ∧ (cq (d + 10) mX0_outcome [.inr r1, .inl (M.1 r0.1 r0.2 ((x3 + 1)).toNatClampNeg)] M (fun r_ M_91 => ∃ r_92 : Int32, r_ = some (.inl r_92) ∧ (arI M_91 r0 100 (x3 + 1) ∧ (kt r2.1 = 1 ∧ (cq (d + 10) mX1_outcome [.inr r2, .inl (M_91.1 r0.1 r0.2 ((x3 + 1)).toNatClampNeg)] M_91 (fun r_ M_93 => ∃ r_94 : Int32, r_ = some (.inl r_94) ∧ (((r_92 = r_94) → (∀ x_95 : Int32, x_95 = x3 + 8 → (v_L_law_18 d n r0 r1 r2 x_95 M_93 Q))) ∧ ((¬ r_92 = r_94) → (Q 0 M_93)))))))))))) ∧ (((M.1 r0.1 r0.2 x3.toNatClampNeg) &&& 31) = 16 → (arI M r0 100 (x3 + 1) ∧ (arI M r0 100 (x3 + 2) ∧ (kt r1.1 = 0 ∧ (cq (d + 10) mX0_of [.inr r1, .inl (M.1 r0.1 r0.2 ((x3 + 1)).toNatClampNeg), .inl (M.1 r0.1 r0.2 ((x3 + 2)).toNatClampNeg)] M (fun r_ M_97 => ∃ r_98 : Int32, r_ = some (.inl r_98) ∧ (arI M_97 r0 100 (x3 + 1) ∧ (arI M_97 r0 100 (x3 + 2) ∧ (kt r2.1 = 1 ∧ (cq (d + 10) mX1_of [.inr r2, .inl (M_97.1 r0.1 r0.2 ((x3 + 1)).toNatClampNeg), .inl (M_97.1 r0.1 r0.2 ((x3 + 2)).toNatClampNeg)] M_97 (fun r_ M_99 => ∃ r_100 : Int32, r_ = some (.inl r_100) ∧ (((r_98 = r_100) → (∀ x_101 : Int32, x_101 = x3 + 8 → (v_L_law_18 d n r0 r1 r2 x_101 M_99 Q))) ∧ ((¬ r_98 = r_100) → (Q 0 M_99)))))))))))))) ∧ (((M.1 r0.1 r0.2 x3.toNatClampNeg) &&& 31) = 17 → (arI M r0 100 (x3 + 1) ∧ (arI M r0 100 (x3 + 2) ∧ (kt r1.1 = 0 ∧ (cq (d + 10) mX0_failure [.inr r1, .inl (M.1 r0.1 r0.2 ((x3 + 1)).toNatClampNeg), .inl (M.1 r0.1 r0.2 ((x3 + 2)).toNatClampNeg)] M (fun r_ M_103 => ∃ r_104 : Int32, r_ = some (.inl r_104) ∧ (arI M_103 r0 100 (x3 + 1) ∧ (arI M_103 r0 100 (x3 + 2) ∧ (kt r2.1 = 1 ∧ (cq (d + 10) mX1_failure [.inr r2, .inl (M_103.1 r0.1 r0.2 ((x3 + 1)).toNatClampNeg), .inl (M_103.1 r0.1 r0.2 ((x3 + 2)).toNatClampNeg)] M_103 (fun r_ M_105 => ∃ r_106 : Int32, r_ = some (.inl r_106) ∧ (((r_104 = r_106) → (∀ x_107 : Int32, x_107 = x3 + 8 → (v_L_law_18 d n r0 r1 r2 x_107 M_105 Q))) ∧ ((¬ r_104 = r_106) → (Q 0 M_105)))))))))))))) ∧ (((M.1 r0.1 r0.2 x3.toNatClampNeg) &&& 31) = 18 → (arI M r0 100 (x3 + 1) ∧ (arI M r0 100 (x3 + 2) ∧ (kt r1.1 = 0 ∧ (cq (d + 10) mX0_call [.inr r1, .inl (M.1 r0.1 r0.2 ((x3 + 1)).toNatClampNeg), .inl (M.1 r0.1 r0.2 ((x3 + 2)).toNatClampNeg)] M (fun r_ M_109 => ∃ r_110 : Int32, r_ = some (.inl r_110) ∧ (arI M_109 r0 100 (x3 + 1) ∧ (arI M_109 r0 100 (x3 + 2) ∧ (kt r2.1 = 1 ∧ (cq (d + 10) mX1_call [.inr r2, .inl (M_109.1 r0.1 r0.2 ((x3 + 1)).toNatClampNeg), .inl (M_109.1 r0.1 r0.2 ((x3 + 2)).toNatClampNeg)] M_109 (fun r_ M_111 => ∃ r_112 : Int32, r_ = some (.inl r_112) ∧ (((r_110 = r_112) → (∀ x_113 : Int32, x_113 = x3 + 8 → (v_L_law_18 d n r0 r1 r2 x_113 M_111 Q))) ∧ ((¬ r_110 = r_112) → (Q 0 M_111)))))))))))))) ∧ (((M.1 r0.1 r0.2 x3.toNatClampNeg) &&& 31) = 19 → (arI M r0 100 (x3 + 1) ∧ (arI M r0 100 (x3 + 2) ∧ (kt r1.1 = 0 ∧ (cq (d + 10) mX0_fuse [.inr r1, .inl (M.1 r0.1 r0.2 ((x3 + 1)).toNatClampNeg), .inl (M.1 r0.1 r0.2 ((x3 + 2)).toNatClampNeg)] M (fun r_ M_115 => ∃ r_116 : Int32, r_ = some (.inl r_116) ∧ (arI M_115 r0 100 (x3 + 1) ∧ (arI M_115 r0 100 (x3 + 2) ∧ (kt r2.1 = 1 ∧ (cq (d + 10) mX1_fuse [.inr r2, .inl (M_115.1 r0.1 r0.2 ((x3 + 1)).toNatClampNeg), .inl (M_115.1 r0.1 r0.2 ((x3 + 2)).toNatClampNeg)] M_115 (fun r_ M_117 => ∃ r_118 : Int32, r_ = some (.inl r_118) ∧ (((r_116 = r_118) → (∀ x_119 : Int32, x_119 = x3 + 8 → (v_L_law_18 d n r0 r1 r2 x_119 M_117 Q))) ∧ ((¬ r_116 = r_118) → (Q 0 M_117)))))))))))))) ∧ (((M.1 r0.1 r0.2 x3.toNatClampNeg) &&& 31) = 20 → (arI M r0 100 (x3 + 1) ∧ (arI M r0 100 (x3 + 2) ∧ (kt r1.1 = 0 ∧ (cq (d + 10) mX0_bulkhead [.inr r1, .inl (M.1 r0.1 r0.2 ((x3 + 1)).toNatClampNeg), .inl (M.1 r0.1 r0.2 ((x3 + 2)).toNatClampNeg)] M (fun r_ M_121 => ∃ r_122 : Int32, r_ = some (.inl r_122) ∧ (arI M_121 r0 100 (x3 + 1) ∧ (arI M_121 r0 100 (x3 + 2) ∧ (kt r2.1 = 1 ∧ (cq (d + 10) mX1_bulkhead [.inr r2, .inl (M_121.1 r0.1 r0.2 ((x3 + 1)).toNatClampNeg), .inl (M_121.1 r0.1 r0.2 ((x3 + 2)).toNatClampNeg)] M_121 (fun r_ M_123 => ∃ r_124 : Int32, r_ = some (.inl r_124) ∧ (((r_122 = r_124) → (∀ x_125 : Int32, x_125 = x3 + 8 → (v_L_law_18 d n r0 r1 r2 x_125 M_123 Q))) ∧ ((¬ r_122 = r_124) → (Q 0 M_123)))))))))))))) ∧ (((M.1 r0.1 r0.2 x3.toNatClampNeg) &&& 31) = 21 → (arI M r0 100 (x3 + 1) ∧ (arI M r0 100 (x3 + 2) ∧ (kt r1.1 = 0 ∧ (cq (d + 10) mX0_waiting [.inr r1, .inl (M.1 r0.1 r0.2 ((x3 + 1)).toNatClampNeg), .inl (M.1 r0.1 r0.2 ((x3 + 2)).toNatClampNeg)] M (fun r_ M_127 => ∃ r_128 : Int32, r_ = some (.inl r_128) ∧ (arI M_127 r0 100 (x3 + 1) ∧ (arI M_127 r0 100 (x3 + 2) ∧ (kt r2.1 = 1 ∧ (cq (d + 10) mX1_waiting [.inr r2, .inl (M_127.1 r0.1 r0.2 ((x3 + 1)).toNatClampNeg), .inl (M_127.1 r0.1 r0.2 ((x3 + 2)).toNatClampNeg)] M_127 (fun r_ M_129 => ∃ r_130 : Int32, r_ = some (.inl r_130) ∧ (((r_128 = r_130) → (∀ x_131 : Int32, x_131 = x3 + 8 → (v_L_law_18 d n r0 r1 r2 x_131 M_129 Q))) ∧ ((¬ r_128 = r_130) → (Q 0 M_129)))))))))))))) ∧ (((M.1 r0.1 r0.2 x3.toNatClampNeg) &&& 31) = 22 → (arI M r0 100 (x3 + 1) ∧ (kt r1.1 = 0 ∧ (cq (d + 10) mX0_tokens [.inr r1, .inl (M.1 r0.1 r0.2 ((x3 + 1)).toNatClampNeg)] M (fun r_ M_133 => ∃ r_134 : Int32, r_ = some (.inl r_134) ∧ (arI M_133 r0 100 (x3 + 1) ∧ (kt r2.1 = 1 ∧ (cq (d + 10) mX1_tokens [.inr r2, .inl (M_133.1 r0.1 r0.2 ((x3 + 1)).toNatClampNeg)] M_133 (fun r_ M_135 => ∃ r_136 : Int32, r_ = some (.inl r_136) ∧ (((r_134 = r_136) → (∀ x_137 : Int32, x_137 = x3 + 8 → (v_L_law_18 d n r0 r1 r2 x_137 M_135 Q))) ∧ ((¬ r_134 = r_136) → (Q 0 M_135)))))))))))) ∧ (((M.1 r0.1 r0.2 x3.toNatClampNeg) &&& 31) = 23 → (arI M r0 100 (x3 + 1) ∧ (arI M r0 100 (x3 + 2) ∧ (arI M r0 100 (x3 + 3) ∧ (kt r1.1 = 0 ∧ (cq (d + 10) mX0_kept [.inr r1, .inl (M.1 r0.1 r0.2 ((x3 + 1)).toNatClampNeg), .inl (M.1 r0.1 r0.2 ((x3 + 2)).toNatClampNeg), .inl (M.1 r0.1 r0.2 ((x3 + 3)).toNatClampNeg)] M (fun r_ M_139 => ∃ r_140 : Int32, r_ = some (.inl r_140) ∧ (arI M_139 r0 100 (x3 + 1) ∧ (arI M_139 r0 100 (x3 + 2) ∧ (arI M_139 r0 100 (x3 + 3) ∧ (kt r2.1 = 1 ∧ (cq (d + 10) mX1_kept [.inr r2, .inl (M_139.1 r0.1 r0.2 ((x3 + 1)).toNatClampNeg), .inl (M_139.1 r0.1 r0.2 ((x3 + 2)).toNatClampNeg), .inl (M_139.1 r0.1 r0.2 ((x3 + 3)).toNatClampNeg)] M_139 (fun r_ M_141 => ∃ r_142 : Int32, r_ = some (.inl r_142) ∧ (((r_140 = r_142) → (∀ x_143 : Int32, x_143 = x3 + 8 → (v_L_law_18 d n r0 r1 r2 x_143 M_141 Q))) ∧ ((¬ r_140 = r_142) → (Q 0 M_141)))))))))))))))) ∧ (((M.1 r0.1 r0.2 x3.toNatClampNeg) &&& 31) = 24 → (arI M r0 100 (x3 + 1) ∧ (arI M r0 100 (x3 + 2) ∧ (kt r1.1 = 0 ∧ (cq (d + 10) mX0_joined [.inr r1, .inl (M.1 r0.1 r0.2 ((x3 + 1)).toNatClampNeg), .inl (M.1 r0.1 r0.2 ((x3 + 2)).toNatClampNeg)] M (fun r_ M_145 => ∃ r_146 : Int32, r_ = some (.inl r_146) ∧ (arI M_145 r0 100 (x3 + 1) ∧ (arI M_145 r0 100 (x3 + 2) ∧ (kt r2.1 = 1 ∧ (cq (d + 10) mX1_joined [.inr r2, .inl (M_145.1 r0.1 r0.2 ((x3 + 1)).toNatClampNeg), .inl (M_145.1 r0.1 r0.2 ((x3 + 2)).toNatClampNeg)] M_145 (fun r_ M_147 => ∃ r_148 : Int32, r_ = some (.inl r_148) ∧ (((r_146 = r_148) → (∀ x_149 : Int32, x_149 = x3 + 8 → (v_L_law_18 d n r0 r1 r2 x_149 M_147 Q))) ∧ ((¬ r_146 = r_148) → (Q 0 M_147)))))))))))))) ∧ (((M.1 r0.1 r0.2 x3.toNatClampNeg) &&& 31) = 25 → (arI M r0 100 (x3 + 1) ∧ (kt r1.1 = 0 ∧ (cq (d + 10) mX0_level [.inr r1, .inl (M.1 r0.1 r0.2 ((x3 + 1)).toNatClampNeg)] M (fun r_ M_151 => ∃ r_152 : Int32, r_ = some (.inl r_152) ∧ (arI M_151 r0 100 (x3 + 1) ∧ (kt r2.1 = 1 ∧ (cq (d + 10) mX1_level [.inr r2, .inl (M_151.1 r0.1 r0.2 ((x3 + 1)).toNatClampNeg)] M_151 (fun r_ M_153 => ∃ r_154 : Int32, r_ = some (.inl r_154) ∧ (((r_152 = r_154) → (∀ x_155 : Int32, x_155 = x3 + 8 → (v_L_law_18 d n r0 r1 r2 x_155 M_153 Q))) ∧ ((¬ r_152 = r_154) → (Q 0 M_153)))))))))))) ∧ (((M.1 r0.1 r0.2 x3.toNatClampNeg) &&& 31) = 26 → (arI M r0 100 (x3 + 1) ∧ (arI M r0 100 (x3 + 2) ∧ (kt r1.1 = 0 ∧ (cq (d + 10) mX0_effect [.inr r1, .inl (M.1 r0.1 r0.2 ((x3 + 1)).toNatClampNeg), .inl (M.1 r0.1 r0.2 ((x3 + 2)).toNatClampNeg)] M (fun r_ M_157 => ∃ r_158 : Int32, r_ = some (.inl r_158) ∧ (arI M_157 r0 100 (x3 + 1) ∧ (arI M_157 r0 100 (x3 + 2) ∧ (kt r2.1 = 1 ∧ (cq (d + 10) mX1_effect [.inr r2, .inl (M_157.1 r0.1 r0.2 ((x3 + 1)).toNatClampNeg), .inl (M_157.1 r0.1 r0.2 ((x3 + 2)).toNatClampNeg)] M_157 (fun r_ M_159 => ∃ r_160 : Int32, r_ = some (.inl r_160) ∧ (((r_158 = r_160) → (∀ x_161 : Int32, x_161 = x3 + 8 → (v_L_law_18 d n r0 r1 r2 x_161 M_159 Q))) ∧ ((¬ r_158 = r_160) → (Q 0 M_159)))))))))))))) ∧ (((M.1 r0.1 r0.2 x3.toNatClampNeg) &&& 31) = 27 → (arI M r0 100 (x3 + 1) ∧ (arI M r0 100 (x3 + 2) ∧ (kt r1.1 = 0 ∧ (cq (d + 10) mX0_isOf [.inr r1, .inl (M.1 r0.1 r0.2 ((x3 + 1)).toNatClampNeg), .inl (M.1 r0.1 r0.2 ((x3 + 2)).toNatClampNeg)] M (fun r_ M_163 => ∃ r_164 : Int32, r_ = some (.inl r_164) ∧ (arI M_163 r0 100 (x3 + 1) ∧ (arI M_163 r0 100 (x3 + 2) ∧ (kt r2.1 = 1 ∧ (cq (d + 10) mX1_isOf [.inr r2, .inl (M_163.1 r0.1 r0.2 ((x3 + 1)).toNatClampNeg), .inl (M_163.1 r0.1 r0.2 ((x3 + 2)).toNatClampNeg)] M_163 (fun r_ M_165 => ∃ r_166 : Int32, r_ = some (.inl r_166) ∧ (((r_164 = r_166) → (∀ x_167 : Int32, x_167 = x3 + 8 → (v_L_law_18 d n r0 r1 r2 x_167 M_165 Q))) ∧ ((¬ r_164 = r_166) → (Q 0 M_165)))))))))))))) ∧ (((M.1 r0.1 r0.2 x3.toNatClampNeg) &&& 31) = 28 → (arI M r0 100 (x3 + 1) ∧ (kt r1.1 = 0 ∧ (cq (d + 10) mX0_count [.inr r1, .inl (M.1 r0.1 r0.2 ((x3 + 1)).toNatClampNeg)] M (fun r_ M_169 => ∃ r_170 : Int32, r_ = some (.inl r_170) ∧ (arI M_169 r0 100 (x3 + 1) ∧ (kt r2.1 = 1 ∧ (cq (d + 10) mX1_count [.inr r2, .inl (M_169.1 r0.1 r0.2 ((x3 + 1)).toNatClampNeg)] M_169 (fun r_ M_171 => ∃ r_172 : Int32, r_ = some (.inl r_172) ∧ (((r_170 = r_172) → (∀ x_173 : Int32, x_173 = x3 + 8 → (v_L_law_18 d n r0 r1 r2 x_173 M_171 Q))) ∧ ((¬ r_170 = r_172) → (Q 0 M_171)))))))))))) ∧ (¬ ((M.1 r0.1 r0.2 x3.toNatClampNeg) &&& 31) = 0 → ¬ ((M.1 r0.1 r0.2 x3.toNatClampNeg) &&& 31) = 1 → ¬ ((M.1 r0.1 r0.2 x3.toNatClampNeg) &&& 31) = 2 → ¬ ((M.1 r0.1 r0.2 x3.toNatClampNeg) &&& 31) = 3 → ¬ ((M.1 r0.1 r0.2 x3.toNatClampNeg) &&& 31) = 4 → ¬ ((M.1 r0.1 r0.2 x3.toNatClampNeg) &&& 31) = 5 → ¬ ((M.1 r0.1 r0.2 x3.toNatClampNeg) &&& 31) = 6 → ¬ ((M.1 r0.1 r0.2 x3.toNatClampNeg) &&& 31) = 7 → ¬ ((M.1 r0.1 r0.2 x3.toNatClampNeg) &&& 31) = 8 → ¬ ((M.1 r0.1 r0.2 x3.toNatClampNeg) &&& 31) = 9 → ¬ ((M.1 r0.1 r0.2 x3.toNatClampNeg) &&& 31) = 10 → ¬ ((M.1 r0.1 r0.2 x3.toNatClampNeg) &&& 31) = 11 → ¬ ((M.1 r0.1 r0.2 x3.toNatClampNeg) &&& 31) = 12 → ¬ ((M.1 r0.1 r0.2 x3.toNatClampNeg) &&& 31) = 13 → ¬ ((M.1 r0.1 r0.2 x3.toNatClampNeg) &&& 31) = 14 → ¬ ((M.1 r0.1 r0.2 x3.toNatClampNeg) &&& 31) = 15 → ¬ ((M.1 r0.1 r0.2 x3.toNatClampNeg) &&& 31) = 16 → ¬ ((M.1 r0.1 r0.2 x3.toNatClampNeg) &&& 31) = 17 → ¬ ((M.1 r0.1 r0.2 x3.toNatClampNeg) &&& 31) = 18 → ¬ ((M.1 r0.1 r0.2 x3.toNatClampNeg) &&& 31) = 19 → ¬ ((M.1 r0.1 r0.2 x3.toNatClampNeg) &&& 31) = 20 → ¬ ((M.1 r0.1 r0.2 x3.toNatClampNeg) &&& 31) = 21 → ¬ ((M.1 r0.1 r0.2 x3.toNatClampNeg) &&& 31) = 22 → ¬ ((M.1 r0.1 r0.2 x3.toNatClampNeg) &&& 31) = 23 → ¬ ((M.1 r0.1 r0.2 x3.toNatClampNeg) &&& 31) = 24 → ¬ ((M.1 r0.1 r0.2 x3.toNatClampNeg) &&& 31) = 25 → ¬ ((M.1 r0.1 r0.2 x3.toNatClampNeg) &&& 31) = 26 → ¬ ((M.1 r0.1 r0.2 x3.toNatClampNeg) &&& 31) = 27 → ¬ ((M.1 r0.1 r0.2 x3.toNatClampNeg) &&& 31) = 28 → (∀ x_175 : Int32, x_175 = x3 + 8 → (v_L_law_18 d n r0 r1 r2 x_175 M Q)))))))
set_option maxHeartbeats 4000000 in
theorem sv_L_law_18 {d : Nat} {P : Option AV → Mem → Prop} {Q : Int32 → Mem → Prop} (hP : ∀ r M, Q r M → P (some (.inl r)) M) : ∀ (n : Nat) (r0 : Nat × Nat) (r1 : Nat × Nat) (r2 : Nat × Nat) (x3 : Int32) (M : Mem), v_L_law_18 d n r0 r1 r2 x3 M Q → wq (d + 11) mL_law 18 [(0, .inr r0), (1, .inr r1), (2, .inr r2), (3, .inl x3)] [] M P := by
  intro n
  induction n with
  | zero => intro r0 r1 r2 x3 M h; exact False.elim h
  | succ n ih =>
    intro r0 r1 r2 x3 M h
    rw [v_L_law_18] at h
    refine b_iload_n 3 dL_law_18 rfl rfl ?_
    refine b_aload_n 0 dL_law_19 rfl rfl ?_
    refine b_xalenI h.1 dL_law_20 ?_
    replace h := h.2
    refine b_bipush (v := 8) dL_law_21 (by decide) ?_
    refine b_isub dL_law_23 ?_
    refine b_icmp_gt (tgt := 1211) dL_law_24 (by decide) (fun c_176 => ?_) (fun c_176 => ?_)
    · replace h := h.1 c_176
      refine b_iconst (v := 1) dL_law_1211 (by decide) ?_
      exact b_zret rfl (by decide) dL_law_1212 (hP _ _ h)
    · replace h := h.2 c_176
      refine b_aload_n 0 dL_law_27 rfl rfl ?_
      refine b_iload_n 3 dL_law_28 rfl rfl ?_
      refine b_xiald h.1 dL_law_29 ?_
      replace h := h.2
      refine b_bipush (v := 31) dL_law_30 (by decide) ?_
      refine b_iand dL_law_32 ?_
      refine b_tsw (fun j => ([164, 207, 270, 333, 396, 419, 432, 495, 518, 541, 628, 651, 684, 727, 760, 773, 796, 829, 862, 895, 928, 961, 994, 1017, 1060, 1093, 1116, 1149, 1182] : List Nat).getD j 0) (tD := 1205) (n := 29) dL_law_33 rfl (by decide) (by decide) (by decide) (fun j hj e => ?_) (fun e => ?_)
      · match j, hj, e with
        | 0, _, e =>
          replace h := h.1 e
          show wq (d + 11) mL_law 164 _ _ _ _
          refine b_aload_n 1 dL_law_164 rfl rfl ?_
          refine b_aload_n 0 dL_law_165 rfl rfl ?_
          refine b_iload_n 3 dL_law_166 rfl rfl ?_
          refine b_iconst (v := 1) dL_law_167 (by decide) ?_
          refine b_iadd dL_law_168 ?_
          refine b_xiald h.1 dL_law_169 ?_
          replace h := h.2
          refine b_aload_n 0 dL_law_170 rfl rfl ?_
          refine b_iload_n 3 dL_law_171 rfl rfl ?_
          refine b_iconst (v := 2) dL_law_172 (by decide) ?_
          refine b_iadd dL_law_173 ?_
          refine b_xiald h.1 dL_law_174 ?_
          replace h := h.2
          refine b_aload_n 0 dL_law_175 rfl rfl ?_
          refine b_iload_n 3 dL_law_176 rfl rfl ?_
          refine b_iconst (v := 3) dL_law_177 (by decide) ?_
          refine b_iadd dL_law_178 ?_
          refine b_xiald h.1 dL_law_179 ?_
          replace h := h.2
          refine b_cvo (y := mX0_station) (ci := 0) (r := (RX0, TX0, 14)) (e := r1) (as := [.inl (M.1 r0.1 r0.2 ((x3 + 1)).toNatClampNeg), .inl (M.1 r0.1 r0.2 ((x3 + 2)).toNatClampNeg), .inl (M.1 r0.1 r0.2 ((x3 + 3)).toNatClampNeg)]) (st := []) (n := 3) rfl h.1 (Or.inl q193) q195 q194 q69 q196 zmh_X0_station rfl (Nat.le_of_ble_eq_true rfl) (Nat.le_of_ble_eq_true rfl) dL_law_180 (cq.mono h.2 (fun _ M_1 h => ?_))
          obtain ⟨r_2, rfl, h⟩ := h
          show wq (d + 11) mL_law 183 [(0, .inr r0), (1, .inr r1), (2, .inr r2), (3, .inl x3)] [.inl r_2] M_1 P
          refine b_aload_n 2 dL_law_183 rfl rfl ?_
          refine b_aload_n 0 dL_law_184 rfl rfl ?_
          refine b_iload_n 3 dL_law_185 rfl rfl ?_
          refine b_iconst (v := 1) dL_law_186 (by decide) ?_
          refine b_iadd dL_law_187 ?_
          refine b_xiald h.1 dL_law_188 ?_
          replace h := h.2
          refine b_aload_n 0 dL_law_189 rfl rfl ?_
          refine b_iload_n 3 dL_law_190 rfl rfl ?_
          refine b_iconst (v := 2) dL_law_191 (by decide) ?_
          refine b_iadd dL_law_192 ?_
          refine b_xiald h.1 dL_law_193 ?_
          replace h := h.2
          refine b_aload_n 0 dL_law_194 rfl rfl ?_
          refine b_iload_n 3 dL_law_195 rfl rfl ?_
          refine b_iconst (v := 3) dL_law_196 (by decide) ?_
          refine b_iadd dL_law_197 ?_
          refine b_xiald h.1 dL_law_198 ?_
          replace h := h.2
          refine b_cvo (y := mX1_station) (ci := 1) (r := (RX1, TX1, 110)) (e := r2) (as := [.inl (M_1.1 r0.1 r0.2 ((x3 + 1)).toNatClampNeg), .inl (M_1.1 r0.1 r0.2 ((x3 + 2)).toNatClampNeg), .inl (M_1.1 r0.1 r0.2 ((x3 + 3)).toNatClampNeg)]) (st := [.inl r_2]) (n := 3) rfl h.1 (Or.inl q1843) q1845 q1844 q73 q1846 zmh_station rfl (Nat.le_of_ble_eq_true rfl) (Nat.le_of_ble_eq_true rfl) dL_law_199 (cq.mono h.2 (fun _ M_3 h => ?_))
          obtain ⟨r_4, rfl, h⟩ := h
          show wq (d + 11) mL_law 202 [(0, .inr r0), (1, .inr r1), (2, .inr r2), (3, .inl x3)] [.inl r_4, .inl r_2] M_3 P
          refine b_icmp_eq (tgt := 1205) dL_law_202 (by decide) (fun c_6 => ?_) (fun c_6 => ?_)
          · replace h := h.1 c_6
            obtain ⟨x_5, ex_5⟩ : ∃ y : Int32, y = x3 + 8 := ⟨_, rfl⟩
            replace h := h x_5 ex_5
            refine b_iinc (v := x_5) (lv' := [(3, .inl x_5), (0, .inr r0), (1, .inr r1), (2, .inr r2)]) 3 dL_law_1205 rfl (by rw [ex_5]; rfl) (Nat.le_of_ble_eq_true rfl) rfl ?_
            refine b_goto (tgt := 18) dL_law_1208 (by decide) ?_
            exact b_sub (by simp) (ih r0 r1 r2 x_5 M_3 h)
          · replace h := h.2 c_6
            refine b_iconst (v := 0) dL_law_205 (by decide) ?_
            exact b_zret rfl (by decide) dL_law_206 (hP _ _ h)
        | 1, _, e =>
          replace h := h.2.1 e
          show wq (d + 11) mL_law 207 _ _ _ _
          refine b_aload_n 1 dL_law_207 rfl rfl ?_
          refine b_aload_n 0 dL_law_208 rfl rfl ?_
          refine b_iload_n 3 dL_law_209 rfl rfl ?_
          refine b_iconst (v := 1) dL_law_210 (by decide) ?_
          refine b_iadd dL_law_211 ?_
          refine b_xiald h.1 dL_law_212 ?_
          replace h := h.2
          refine b_aload_n 0 dL_law_213 rfl rfl ?_
          refine b_iload_n 3 dL_law_214 rfl rfl ?_
          refine b_iconst (v := 2) dL_law_215 (by decide) ?_
          refine b_iadd dL_law_216 ?_
          refine b_xiald h.1 dL_law_217 ?_
          replace h := h.2
          refine b_aload_n 0 dL_law_218 rfl rfl ?_
          refine b_iload_n 3 dL_law_219 rfl rfl ?_
          refine b_iconst (v := 3) dL_law_220 (by decide) ?_
          refine b_iadd dL_law_221 ?_
          refine b_xiald h.1 dL_law_222 ?_
          replace h := h.2
          refine b_aload_n 0 dL_law_223 rfl rfl ?_
          refine b_iload_n 3 dL_law_224 rfl rfl ?_
          refine b_iconst (v := 4) dL_law_225 (by decide) ?_
          refine b_iadd dL_law_226 ?_
          refine b_xiald h.1 dL_law_227 ?_
          replace h := h.2
          refine b_aload_n 0 dL_law_228 rfl rfl ?_
          refine b_iload_n 3 dL_law_229 rfl rfl ?_
          refine b_iconst (v := 5) dL_law_230 (by decide) ?_
          refine b_iadd dL_law_231 ?_
          refine b_xiald h.1 dL_law_232 ?_
          replace h := h.2
          refine b_cvo (y := mX0_fault) (ci := 0) (r := (RX0, TX0, 14)) (e := r1) (as := [.inl (M.1 r0.1 r0.2 ((x3 + 1)).toNatClampNeg), .inl (M.1 r0.1 r0.2 ((x3 + 2)).toNatClampNeg), .inl (M.1 r0.1 r0.2 ((x3 + 3)).toNatClampNeg), .inl (M.1 r0.1 r0.2 ((x3 + 4)).toNatClampNeg), .inl (M.1 r0.1 r0.2 ((x3 + 5)).toNatClampNeg)]) (st := []) (n := 5) rfl h.1 (Or.inl q297) q299 q298 q69 q300 zmh_X0_fault rfl (Nat.le_of_ble_eq_true rfl) (Nat.le_of_ble_eq_true rfl) dL_law_233 (cq.mono h.2 (fun _ M_7 h => ?_))
          obtain ⟨r_8, rfl, h⟩ := h
          show wq (d + 11) mL_law 236 [(0, .inr r0), (1, .inr r1), (2, .inr r2), (3, .inl x3)] [.inl r_8] M_7 P
          refine b_aload_n 2 dL_law_236 rfl rfl ?_
          refine b_aload_n 0 dL_law_237 rfl rfl ?_
          refine b_iload_n 3 dL_law_238 rfl rfl ?_
          refine b_iconst (v := 1) dL_law_239 (by decide) ?_
          refine b_iadd dL_law_240 ?_
          refine b_xiald h.1 dL_law_241 ?_
          replace h := h.2
          refine b_aload_n 0 dL_law_242 rfl rfl ?_
          refine b_iload_n 3 dL_law_243 rfl rfl ?_
          refine b_iconst (v := 2) dL_law_244 (by decide) ?_
          refine b_iadd dL_law_245 ?_
          refine b_xiald h.1 dL_law_246 ?_
          replace h := h.2
          refine b_aload_n 0 dL_law_247 rfl rfl ?_
          refine b_iload_n 3 dL_law_248 rfl rfl ?_
          refine b_iconst (v := 3) dL_law_249 (by decide) ?_
          refine b_iadd dL_law_250 ?_
          refine b_xiald h.1 dL_law_251 ?_
          replace h := h.2
          refine b_aload_n 0 dL_law_252 rfl rfl ?_
          refine b_iload_n 3 dL_law_253 rfl rfl ?_
          refine b_iconst (v := 4) dL_law_254 (by decide) ?_
          refine b_iadd dL_law_255 ?_
          refine b_xiald h.1 dL_law_256 ?_
          replace h := h.2
          refine b_aload_n 0 dL_law_257 rfl rfl ?_
          refine b_iload_n 3 dL_law_258 rfl rfl ?_
          refine b_iconst (v := 5) dL_law_259 (by decide) ?_
          refine b_iadd dL_law_260 ?_
          refine b_xiald h.1 dL_law_261 ?_
          replace h := h.2
          refine b_cvo (y := mX1_fault) (ci := 1) (r := (RX1, TX1, 110)) (e := r2) (as := [.inl (M_7.1 r0.1 r0.2 ((x3 + 1)).toNatClampNeg), .inl (M_7.1 r0.1 r0.2 ((x3 + 2)).toNatClampNeg), .inl (M_7.1 r0.1 r0.2 ((x3 + 3)).toNatClampNeg), .inl (M_7.1 r0.1 r0.2 ((x3 + 4)).toNatClampNeg), .inl (M_7.1 r0.1 r0.2 ((x3 + 5)).toNatClampNeg)]) (st := [.inl r_8]) (n := 5) rfl h.1 (Or.inl q1848) q1850 q1849 q73 q1851 zmh_fault rfl (Nat.le_of_ble_eq_true rfl) (Nat.le_of_ble_eq_true rfl) dL_law_262 (cq.mono h.2 (fun _ M_9 h => ?_))
          obtain ⟨r_10, rfl, h⟩ := h
          show wq (d + 11) mL_law 265 [(0, .inr r0), (1, .inr r1), (2, .inr r2), (3, .inl x3)] [.inl r_10, .inl r_8] M_9 P
          refine b_icmp_eq (tgt := 1205) dL_law_265 (by decide) (fun c_12 => ?_) (fun c_12 => ?_)
          · replace h := h.1 c_12
            obtain ⟨x_11, ex_11⟩ : ∃ y : Int32, y = x3 + 8 := ⟨_, rfl⟩
            replace h := h x_11 ex_11
            refine b_iinc (v := x_11) (lv' := [(3, .inl x_11), (0, .inr r0), (1, .inr r1), (2, .inr r2)]) 3 dL_law_1205 rfl (by rw [ex_11]; rfl) (Nat.le_of_ble_eq_true rfl) rfl ?_
            refine b_goto (tgt := 18) dL_law_1208 (by decide) ?_
            exact b_sub (by simp) (ih r0 r1 r2 x_11 M_9 h)
          · replace h := h.2 c_12
            refine b_iconst (v := 0) dL_law_268 (by decide) ?_
            exact b_zret rfl (by decide) dL_law_269 (hP _ _ h)
        | 2, _, e =>
          replace h := h.2.2.1 e
          show wq (d + 11) mL_law 270 _ _ _ _
          refine b_aload_n 1 dL_law_270 rfl rfl ?_
          refine b_aload_n 0 dL_law_271 rfl rfl ?_
          refine b_iload_n 3 dL_law_272 rfl rfl ?_
          refine b_iconst (v := 1) dL_law_273 (by decide) ?_
          refine b_iadd dL_law_274 ?_
          refine b_xiald h.1 dL_law_275 ?_
          replace h := h.2
          refine b_aload_n 0 dL_law_276 rfl rfl ?_
          refine b_iload_n 3 dL_law_277 rfl rfl ?_
          refine b_iconst (v := 2) dL_law_278 (by decide) ?_
          refine b_iadd dL_law_279 ?_
          refine b_xiald h.1 dL_law_280 ?_
          replace h := h.2
          refine b_aload_n 0 dL_law_281 rfl rfl ?_
          refine b_iload_n 3 dL_law_282 rfl rfl ?_
          refine b_iconst (v := 3) dL_law_283 (by decide) ?_
          refine b_iadd dL_law_284 ?_
          refine b_xiald h.1 dL_law_285 ?_
          replace h := h.2
          refine b_aload_n 0 dL_law_286 rfl rfl ?_
          refine b_iload_n 3 dL_law_287 rfl rfl ?_
          refine b_iconst (v := 4) dL_law_288 (by decide) ?_
          refine b_iadd dL_law_289 ?_
          refine b_xiald h.1 dL_law_290 ?_
          replace h := h.2
          refine b_aload_n 0 dL_law_291 rfl rfl ?_
          refine b_iload_n 3 dL_law_292 rfl rfl ?_
          refine b_iconst (v := 5) dL_law_293 (by decide) ?_
          refine b_iadd dL_law_294 ?_
          refine b_xiald h.1 dL_law_295 ?_
          replace h := h.2
          refine b_cvo (y := mX0_slow) (ci := 0) (r := (RX0, TX0, 14)) (e := r1) (as := [.inl (M.1 r0.1 r0.2 ((x3 + 1)).toNatClampNeg), .inl (M.1 r0.1 r0.2 ((x3 + 2)).toNatClampNeg), .inl (M.1 r0.1 r0.2 ((x3 + 3)).toNatClampNeg), .inl (M.1 r0.1 r0.2 ((x3 + 4)).toNatClampNeg), .inl (M.1 r0.1 r0.2 ((x3 + 5)).toNatClampNeg)]) (st := []) (n := 5) rfl h.1 (Or.inl q335) q337 q336 q69 q338 zmh_X0_slow rfl (Nat.le_of_ble_eq_true rfl) (Nat.le_of_ble_eq_true rfl) dL_law_296 (cq.mono h.2 (fun _ M_13 h => ?_))
          obtain ⟨r_14, rfl, h⟩ := h
          show wq (d + 11) mL_law 299 [(0, .inr r0), (1, .inr r1), (2, .inr r2), (3, .inl x3)] [.inl r_14] M_13 P
          refine b_aload_n 2 dL_law_299 rfl rfl ?_
          refine b_aload_n 0 dL_law_300 rfl rfl ?_
          refine b_iload_n 3 dL_law_301 rfl rfl ?_
          refine b_iconst (v := 1) dL_law_302 (by decide) ?_
          refine b_iadd dL_law_303 ?_
          refine b_xiald h.1 dL_law_304 ?_
          replace h := h.2
          refine b_aload_n 0 dL_law_305 rfl rfl ?_
          refine b_iload_n 3 dL_law_306 rfl rfl ?_
          refine b_iconst (v := 2) dL_law_307 (by decide) ?_
          refine b_iadd dL_law_308 ?_
          refine b_xiald h.1 dL_law_309 ?_
          replace h := h.2
          refine b_aload_n 0 dL_law_310 rfl rfl ?_
          refine b_iload_n 3 dL_law_311 rfl rfl ?_
          refine b_iconst (v := 3) dL_law_312 (by decide) ?_
          refine b_iadd dL_law_313 ?_
          refine b_xiald h.1 dL_law_314 ?_
          replace h := h.2
          refine b_aload_n 0 dL_law_315 rfl rfl ?_
          refine b_iload_n 3 dL_law_316 rfl rfl ?_
          refine b_iconst (v := 4) dL_law_317 (by decide) ?_
          refine b_iadd dL_law_318 ?_
          refine b_xiald h.1 dL_law_319 ?_
          replace h := h.2
          refine b_aload_n 0 dL_law_320 rfl rfl ?_
          refine b_iload_n 3 dL_law_321 rfl rfl ?_
          refine b_iconst (v := 5) dL_law_322 (by decide) ?_
          refine b_iadd dL_law_323 ?_
          refine b_xiald h.1 dL_law_324 ?_
          replace h := h.2
          refine b_cvo (y := mX1_slow) (ci := 1) (r := (RX1, TX1, 110)) (e := r2) (as := [.inl (M_13.1 r0.1 r0.2 ((x3 + 1)).toNatClampNeg), .inl (M_13.1 r0.1 r0.2 ((x3 + 2)).toNatClampNeg), .inl (M_13.1 r0.1 r0.2 ((x3 + 3)).toNatClampNeg), .inl (M_13.1 r0.1 r0.2 ((x3 + 4)).toNatClampNeg), .inl (M_13.1 r0.1 r0.2 ((x3 + 5)).toNatClampNeg)]) (st := [.inl r_14]) (n := 5) rfl h.1 (Or.inl q1860) q1862 q1861 q73 q1863 zmh_slow rfl (Nat.le_of_ble_eq_true rfl) (Nat.le_of_ble_eq_true rfl) dL_law_325 (cq.mono h.2 (fun _ M_15 h => ?_))
          obtain ⟨r_16, rfl, h⟩ := h
          show wq (d + 11) mL_law 328 [(0, .inr r0), (1, .inr r1), (2, .inr r2), (3, .inl x3)] [.inl r_16, .inl r_14] M_15 P
          refine b_icmp_eq (tgt := 1205) dL_law_328 (by decide) (fun c_18 => ?_) (fun c_18 => ?_)
          · replace h := h.1 c_18
            obtain ⟨x_17, ex_17⟩ : ∃ y : Int32, y = x3 + 8 := ⟨_, rfl⟩
            replace h := h x_17 ex_17
            refine b_iinc (v := x_17) (lv' := [(3, .inl x_17), (0, .inr r0), (1, .inr r1), (2, .inr r2)]) 3 dL_law_1205 rfl (by rw [ex_17]; rfl) (Nat.le_of_ble_eq_true rfl) rfl ?_
            refine b_goto (tgt := 18) dL_law_1208 (by decide) ?_
            exact b_sub (by simp) (ih r0 r1 r2 x_17 M_15 h)
          · replace h := h.2 c_18
            refine b_iconst (v := 0) dL_law_331 (by decide) ?_
            exact b_zret rfl (by decide) dL_law_332 (hP _ _ h)
        | 3, _, e =>
          replace h := h.2.2.2.1 e
          show wq (d + 11) mL_law 333 _ _ _ _
          refine b_aload_n 1 dL_law_333 rfl rfl ?_
          refine b_aload_n 0 dL_law_334 rfl rfl ?_
          refine b_iload_n 3 dL_law_335 rfl rfl ?_
          refine b_iconst (v := 1) dL_law_336 (by decide) ?_
          refine b_iadd dL_law_337 ?_
          refine b_xiald h.1 dL_law_338 ?_
          replace h := h.2
          refine b_aload_n 0 dL_law_339 rfl rfl ?_
          refine b_iload_n 3 dL_law_340 rfl rfl ?_
          refine b_iconst (v := 2) dL_law_341 (by decide) ?_
          refine b_iadd dL_law_342 ?_
          refine b_xiald h.1 dL_law_343 ?_
          replace h := h.2
          refine b_aload_n 0 dL_law_344 rfl rfl ?_
          refine b_iload_n 3 dL_law_345 rfl rfl ?_
          refine b_iconst (v := 3) dL_law_346 (by decide) ?_
          refine b_iadd dL_law_347 ?_
          refine b_xiald h.1 dL_law_348 ?_
          replace h := h.2
          refine b_aload_n 0 dL_law_349 rfl rfl ?_
          refine b_iload_n 3 dL_law_350 rfl rfl ?_
          refine b_iconst (v := 4) dL_law_351 (by decide) ?_
          refine b_iadd dL_law_352 ?_
          refine b_xiald h.1 dL_law_353 ?_
          replace h := h.2
          refine b_aload_n 0 dL_law_354 rfl rfl ?_
          refine b_iload_n 3 dL_law_355 rfl rfl ?_
          refine b_iconst (v := 5) dL_law_356 (by decide) ?_
          refine b_iadd dL_law_357 ?_
          refine b_xiald h.1 dL_law_358 ?_
          replace h := h.2
          refine b_cvo (y := mX0_guard) (ci := 0) (r := (RX0, TX0, 14)) (e := r1) (as := [.inl (M.1 r0.1 r0.2 ((x3 + 1)).toNatClampNeg), .inl (M.1 r0.1 r0.2 ((x3 + 2)).toNatClampNeg), .inl (M.1 r0.1 r0.2 ((x3 + 3)).toNatClampNeg), .inl (M.1 r0.1 r0.2 ((x3 + 4)).toNatClampNeg), .inl (M.1 r0.1 r0.2 ((x3 + 5)).toNatClampNeg)]) (st := []) (n := 5) rfl h.1 (Or.inl q339) q341 q340 q69 q342 zmh_X0_guard rfl (Nat.le_of_ble_eq_true rfl) (Nat.le_of_ble_eq_true rfl) dL_law_359 (cq.mono h.2 (fun _ M_19 h => ?_))
          obtain ⟨r_20, rfl, h⟩ := h
          show wq (d + 11) mL_law 362 [(0, .inr r0), (1, .inr r1), (2, .inr r2), (3, .inl x3)] [.inl r_20] M_19 P
          refine b_aload_n 2 dL_law_362 rfl rfl ?_
          refine b_aload_n 0 dL_law_363 rfl rfl ?_
          refine b_iload_n 3 dL_law_364 rfl rfl ?_
          refine b_iconst (v := 1) dL_law_365 (by decide) ?_
          refine b_iadd dL_law_366 ?_
          refine b_xiald h.1 dL_law_367 ?_
          replace h := h.2
          refine b_aload_n 0 dL_law_368 rfl rfl ?_
          refine b_iload_n 3 dL_law_369 rfl rfl ?_
          refine b_iconst (v := 2) dL_law_370 (by decide) ?_
          refine b_iadd dL_law_371 ?_
          refine b_xiald h.1 dL_law_372 ?_
          replace h := h.2
          refine b_aload_n 0 dL_law_373 rfl rfl ?_
          refine b_iload_n 3 dL_law_374 rfl rfl ?_
          refine b_iconst (v := 3) dL_law_375 (by decide) ?_
          refine b_iadd dL_law_376 ?_
          refine b_xiald h.1 dL_law_377 ?_
          replace h := h.2
          refine b_aload_n 0 dL_law_378 rfl rfl ?_
          refine b_iload_n 3 dL_law_379 rfl rfl ?_
          refine b_iconst (v := 4) dL_law_380 (by decide) ?_
          refine b_iadd dL_law_381 ?_
          refine b_xiald h.1 dL_law_382 ?_
          replace h := h.2
          refine b_aload_n 0 dL_law_383 rfl rfl ?_
          refine b_iload_n 3 dL_law_384 rfl rfl ?_
          refine b_iconst (v := 5) dL_law_385 (by decide) ?_
          refine b_iadd dL_law_386 ?_
          refine b_xiald h.1 dL_law_387 ?_
          replace h := h.2
          refine b_cvo (y := mX1_guard) (ci := 1) (r := (RX1, TX1, 110)) (e := r2) (as := [.inl (M_19.1 r0.1 r0.2 ((x3 + 1)).toNatClampNeg), .inl (M_19.1 r0.1 r0.2 ((x3 + 2)).toNatClampNeg), .inl (M_19.1 r0.1 r0.2 ((x3 + 3)).toNatClampNeg), .inl (M_19.1 r0.1 r0.2 ((x3 + 4)).toNatClampNeg), .inl (M_19.1 r0.1 r0.2 ((x3 + 5)).toNatClampNeg)]) (st := [.inl r_20]) (n := 5) rfl h.1 (Or.inl q1880) q1882 q1881 q73 q1883 zmh_guard rfl (Nat.le_of_ble_eq_true rfl) (Nat.le_of_ble_eq_true rfl) dL_law_388 (cq.mono h.2 (fun _ M_21 h => ?_))
          obtain ⟨r_22, rfl, h⟩ := h
          show wq (d + 11) mL_law 391 [(0, .inr r0), (1, .inr r1), (2, .inr r2), (3, .inl x3)] [.inl r_22, .inl r_20] M_21 P
          refine b_icmp_eq (tgt := 1205) dL_law_391 (by decide) (fun c_24 => ?_) (fun c_24 => ?_)
          · replace h := h.1 c_24
            obtain ⟨x_23, ex_23⟩ : ∃ y : Int32, y = x3 + 8 := ⟨_, rfl⟩
            replace h := h x_23 ex_23
            refine b_iinc (v := x_23) (lv' := [(3, .inl x_23), (0, .inr r0), (1, .inr r1), (2, .inr r2)]) 3 dL_law_1205 rfl (by rw [ex_23]; rfl) (Nat.le_of_ble_eq_true rfl) rfl ?_
            refine b_goto (tgt := 18) dL_law_1208 (by decide) ?_
            exact b_sub (by simp) (ih r0 r1 r2 x_23 M_21 h)
          · replace h := h.2 c_24
            refine b_iconst (v := 0) dL_law_394 (by decide) ?_
            exact b_zret rfl (by decide) dL_law_395 (hP _ _ h)
        | 4, _, e =>
          replace h := h.2.2.2.2.1 e
          show wq (d + 11) mL_law 396 _ _ _ _
          refine b_aload_n 1 dL_law_396 rfl rfl ?_
          refine b_aload_n 0 dL_law_397 rfl rfl ?_
          refine b_iload_n 3 dL_law_398 rfl rfl ?_
          refine b_iconst (v := 1) dL_law_399 (by decide) ?_
          refine b_iadd dL_law_400 ?_
          refine b_xiald h.1 dL_law_401 ?_
          replace h := h.2
          refine b_cvo (y := mX0_on) (ci := 0) (r := (RX0, TX0, 14)) (e := r1) (as := [.inl (M.1 r0.1 r0.2 ((x3 + 1)).toNatClampNeg)]) (st := []) (n := 1) rfl h.1 (Or.inl q620) q622 q621 q69 q623 zmh_X0_on rfl (Nat.le_of_ble_eq_true rfl) (Nat.le_of_ble_eq_true rfl) dL_law_402 (cq.mono h.2 (fun _ M_25 h => ?_))
          obtain ⟨r_26, rfl, h⟩ := h
          show wq (d + 11) mL_law 405 [(0, .inr r0), (1, .inr r1), (2, .inr r2), (3, .inl x3)] [.inl r_26] M_25 P
          refine b_aload_n 2 dL_law_405 rfl rfl ?_
          refine b_aload_n 0 dL_law_406 rfl rfl ?_
          refine b_iload_n 3 dL_law_407 rfl rfl ?_
          refine b_iconst (v := 1) dL_law_408 (by decide) ?_
          refine b_iadd dL_law_409 ?_
          refine b_xiald h.1 dL_law_410 ?_
          replace h := h.2
          refine b_cvo (y := mX1_on) (ci := 1) (r := (RX1, TX1, 110)) (e := r2) (as := [.inl (M_25.1 r0.1 r0.2 ((x3 + 1)).toNatClampNeg)]) (st := [.inl r_26]) (n := 1) rfl h.1 (Or.inl q1892) q1894 q1893 q73 q1895 zmh_on rfl (Nat.le_of_ble_eq_true rfl) (Nat.le_of_ble_eq_true rfl) dL_law_411 (cq.mono h.2 (fun _ M_27 h => ?_))
          obtain ⟨r_28, rfl, h⟩ := h
          show wq (d + 11) mL_law 414 [(0, .inr r0), (1, .inr r1), (2, .inr r2), (3, .inl x3)] [.inl r_28, .inl r_26] M_27 P
          refine b_icmp_eq (tgt := 1205) dL_law_414 (by decide) (fun c_30 => ?_) (fun c_30 => ?_)
          · replace h := h.1 c_30
            obtain ⟨x_29, ex_29⟩ : ∃ y : Int32, y = x3 + 8 := ⟨_, rfl⟩
            replace h := h x_29 ex_29
            refine b_iinc (v := x_29) (lv' := [(3, .inl x_29), (0, .inr r0), (1, .inr r1), (2, .inr r2)]) 3 dL_law_1205 rfl (by rw [ex_29]; rfl) (Nat.le_of_ble_eq_true rfl) rfl ?_
            refine b_goto (tgt := 18) dL_law_1208 (by decide) ?_
            exact b_sub (by simp) (ih r0 r1 r2 x_29 M_27 h)
          · replace h := h.2 c_30
            refine b_iconst (v := 0) dL_law_417 (by decide) ?_
            exact b_zret rfl (by decide) dL_law_418 (hP _ _ h)
        | 5, _, e =>
          replace h := h.2.2.2.2.2.1 e
          show wq (d + 11) mL_law 419 _ _ _ _
          refine b_aload_n 1 dL_law_419 rfl rfl ?_
          refine b_cvo (y := mX0_tower) (ci := 0) (r := (RX0, TX0, 14)) (e := r1) (as := []) (st := []) (n := 0) rfl h.1 (Or.inl q639) q641 q640 q69 q642 zmh_X0_tower rfl (Nat.le_of_ble_eq_true rfl) (Nat.le_of_ble_eq_true rfl) dL_law_420 (cq.mono h.2 (fun _ M_31 h => ?_))
          obtain ⟨r_32, rfl, h⟩ := h
          show wq (d + 11) mL_law 423 [(0, .inr r0), (1, .inr r1), (2, .inr r2), (3, .inl x3)] [.inl r_32] M_31 P
          refine b_aload_n 2 dL_law_423 rfl rfl ?_
          refine b_cvo (y := mX1_tower) (ci := 1) (r := (RX1, TX1, 110)) (e := r2) (as := []) (st := [.inl r_32]) (n := 0) rfl h.1 (Or.inl q1896) q1898 q1897 q73 q1899 zmh_tower rfl (Nat.le_of_ble_eq_true rfl) (Nat.le_of_ble_eq_true rfl) dL_law_424 (cq.mono h.2 (fun _ M_33 h => ?_))
          obtain ⟨r_34, rfl, h⟩ := h
          show wq (d + 11) mL_law 427 [(0, .inr r0), (1, .inr r1), (2, .inr r2), (3, .inl x3)] [.inl r_34, .inl r_32] M_33 P
          refine b_icmp_eq (tgt := 1205) dL_law_427 (by decide) (fun c_36 => ?_) (fun c_36 => ?_)
          · replace h := h.1 c_36
            obtain ⟨x_35, ex_35⟩ : ∃ y : Int32, y = x3 + 8 := ⟨_, rfl⟩
            replace h := h x_35 ex_35
            refine b_iinc (v := x_35) (lv' := [(3, .inl x_35), (0, .inr r0), (1, .inr r1), (2, .inr r2)]) 3 dL_law_1205 rfl (by rw [ex_35]; rfl) (Nat.le_of_ble_eq_true rfl) rfl ?_
            refine b_goto (tgt := 18) dL_law_1208 (by decide) ?_
            exact b_sub (by simp) (ih r0 r1 r2 x_35 M_33 h)
          · replace h := h.2 c_36
            refine b_iconst (v := 0) dL_law_430 (by decide) ?_
            exact b_zret rfl (by decide) dL_law_431 (hP _ _ h)
        | 6, _, e =>
          replace h := h.2.2.2.2.2.2.1 e
          show wq (d + 11) mL_law 432 _ _ _ _
          refine b_aload_n 1 dL_law_432 rfl rfl ?_
          refine b_aload_n 0 dL_law_433 rfl rfl ?_
          refine b_iload_n 3 dL_law_434 rfl rfl ?_
          refine b_iconst (v := 1) dL_law_435 (by decide) ?_
          refine b_iadd dL_law_436 ?_
          refine b_xiald h.1 dL_law_437 ?_
          replace h := h.2
          refine b_aload_n 0 dL_law_438 rfl rfl ?_
          refine b_iload_n 3 dL_law_439 rfl rfl ?_
          refine b_iconst (v := 2) dL_law_440 (by decide) ?_
          refine b_iadd dL_law_441 ?_
          refine b_xiald h.1 dL_law_442 ?_
          replace h := h.2
          refine b_aload_n 0 dL_law_443 rfl rfl ?_
          refine b_iload_n 3 dL_law_444 rfl rfl ?_
          refine b_iconst (v := 3) dL_law_445 (by decide) ?_
          refine b_iadd dL_law_446 ?_
          refine b_xiald h.1 dL_law_447 ?_
          replace h := h.2
          refine b_aload_n 0 dL_law_448 rfl rfl ?_
          refine b_iload_n 3 dL_law_449 rfl rfl ?_
          refine b_iconst (v := 4) dL_law_450 (by decide) ?_
          refine b_iadd dL_law_451 ?_
          refine b_xiald h.1 dL_law_452 ?_
          replace h := h.2
          refine b_aload_n 0 dL_law_453 rfl rfl ?_
          refine b_iload_n 3 dL_law_454 rfl rfl ?_
          refine b_iconst (v := 5) dL_law_455 (by decide) ?_
          refine b_iadd dL_law_456 ?_
          refine b_xiald h.1 dL_law_457 ?_
          replace h := h.2
          refine b_cvo (y := mX0_order) (ci := 0) (r := (RX0, TX0, 14)) (e := r1) (as := [.inl (M.1 r0.1 r0.2 ((x3 + 1)).toNatClampNeg), .inl (M.1 r0.1 r0.2 ((x3 + 2)).toNatClampNeg), .inl (M.1 r0.1 r0.2 ((x3 + 3)).toNatClampNeg), .inl (M.1 r0.1 r0.2 ((x3 + 4)).toNatClampNeg), .inl (M.1 r0.1 r0.2 ((x3 + 5)).toNatClampNeg)]) (st := []) (n := 5) rfl h.1 (Or.inl q648) q650 q649 q69 q651 zmh_X0_order rfl (Nat.le_of_ble_eq_true rfl) (Nat.le_of_ble_eq_true rfl) dL_law_458 (cq.mono h.2 (fun _ M_37 h => ?_))
          obtain ⟨r_38, rfl, h⟩ := h
          show wq (d + 11) mL_law 461 [(0, .inr r0), (1, .inr r1), (2, .inr r2), (3, .inl x3)] [.inl r_38] M_37 P
          refine b_aload_n 2 dL_law_461 rfl rfl ?_
          refine b_aload_n 0 dL_law_462 rfl rfl ?_
          refine b_iload_n 3 dL_law_463 rfl rfl ?_
          refine b_iconst (v := 1) dL_law_464 (by decide) ?_
          refine b_iadd dL_law_465 ?_
          refine b_xiald h.1 dL_law_466 ?_
          replace h := h.2
          refine b_aload_n 0 dL_law_467 rfl rfl ?_
          refine b_iload_n 3 dL_law_468 rfl rfl ?_
          refine b_iconst (v := 2) dL_law_469 (by decide) ?_
          refine b_iadd dL_law_470 ?_
          refine b_xiald h.1 dL_law_471 ?_
          replace h := h.2
          refine b_aload_n 0 dL_law_472 rfl rfl ?_
          refine b_iload_n 3 dL_law_473 rfl rfl ?_
          refine b_iconst (v := 3) dL_law_474 (by decide) ?_
          refine b_iadd dL_law_475 ?_
          refine b_xiald h.1 dL_law_476 ?_
          replace h := h.2
          refine b_aload_n 0 dL_law_477 rfl rfl ?_
          refine b_iload_n 3 dL_law_478 rfl rfl ?_
          refine b_iconst (v := 4) dL_law_479 (by decide) ?_
          refine b_iadd dL_law_480 ?_
          refine b_xiald h.1 dL_law_481 ?_
          replace h := h.2
          refine b_aload_n 0 dL_law_482 rfl rfl ?_
          refine b_iload_n 3 dL_law_483 rfl rfl ?_
          refine b_iconst (v := 5) dL_law_484 (by decide) ?_
          refine b_iadd dL_law_485 ?_
          refine b_xiald h.1 dL_law_486 ?_
          replace h := h.2
          refine b_cvo (y := mX1_order) (ci := 1) (r := (RX1, TX1, 110)) (e := r2) (as := [.inl (M_37.1 r0.1 r0.2 ((x3 + 1)).toNatClampNeg), .inl (M_37.1 r0.1 r0.2 ((x3 + 2)).toNatClampNeg), .inl (M_37.1 r0.1 r0.2 ((x3 + 3)).toNatClampNeg), .inl (M_37.1 r0.1 r0.2 ((x3 + 4)).toNatClampNeg), .inl (M_37.1 r0.1 r0.2 ((x3 + 5)).toNatClampNeg)]) (st := [.inl r_38]) (n := 5) rfl h.1 (Or.inl q1900) q1902 q1901 q73 q1903 zmh_order rfl (Nat.le_of_ble_eq_true rfl) (Nat.le_of_ble_eq_true rfl) dL_law_487 (cq.mono h.2 (fun _ M_39 h => ?_))
          obtain ⟨r_40, rfl, h⟩ := h
          show wq (d + 11) mL_law 490 [(0, .inr r0), (1, .inr r1), (2, .inr r2), (3, .inl x3)] [.inl r_40, .inl r_38] M_39 P
          refine b_icmp_eq (tgt := 1205) dL_law_490 (by decide) (fun c_42 => ?_) (fun c_42 => ?_)
          · replace h := h.1 c_42
            obtain ⟨x_41, ex_41⟩ : ∃ y : Int32, y = x3 + 8 := ⟨_, rfl⟩
            replace h := h x_41 ex_41
            refine b_iinc (v := x_41) (lv' := [(3, .inl x_41), (0, .inr r0), (1, .inr r1), (2, .inr r2)]) 3 dL_law_1205 rfl (by rw [ex_41]; rfl) (Nat.le_of_ble_eq_true rfl) rfl ?_
            refine b_goto (tgt := 18) dL_law_1208 (by decide) ?_
            exact b_sub (by simp) (ih r0 r1 r2 x_41 M_39 h)
          · replace h := h.2 c_42
            refine b_iconst (v := 0) dL_law_493 (by decide) ?_
            exact b_zret rfl (by decide) dL_law_494 (hP _ _ h)
        | 7, _, e =>
          replace h := h.2.2.2.2.2.2.2.1 e
          show wq (d + 11) mL_law 495 _ _ _ _
          refine b_aload_n 1 dL_law_495 rfl rfl ?_
          refine b_aload_n 0 dL_law_496 rfl rfl ?_
          refine b_iload_n 3 dL_law_497 rfl rfl ?_
          refine b_iconst (v := 1) dL_law_498 (by decide) ?_
          refine b_iadd dL_law_499 ?_
          refine b_xiald h.1 dL_law_500 ?_
          replace h := h.2
          refine b_cvo (y := mX0_cancel) (ci := 0) (r := (RX0, TX0, 14)) (e := r1) (as := [.inl (M.1 r0.1 r0.2 ((x3 + 1)).toNatClampNeg)]) (st := []) (n := 1) rfl h.1 (Or.inl q1116) q1118 q1117 q69 q1119 zmh_X0_cancel rfl (Nat.le_of_ble_eq_true rfl) (Nat.le_of_ble_eq_true rfl) dL_law_501 (cq.mono h.2 (fun _ M_43 h => ?_))
          obtain ⟨r_44, rfl, h⟩ := h
          show wq (d + 11) mL_law 504 [(0, .inr r0), (1, .inr r1), (2, .inr r2), (3, .inl x3)] [.inl r_44] M_43 P
          refine b_aload_n 2 dL_law_504 rfl rfl ?_
          refine b_aload_n 0 dL_law_505 rfl rfl ?_
          refine b_iload_n 3 dL_law_506 rfl rfl ?_
          refine b_iconst (v := 1) dL_law_507 (by decide) ?_
          refine b_iadd dL_law_508 ?_
          refine b_xiald h.1 dL_law_509 ?_
          replace h := h.2
          refine b_cvo (y := mX1_cancel) (ci := 1) (r := (RX1, TX1, 110)) (e := r2) (as := [.inl (M_43.1 r0.1 r0.2 ((x3 + 1)).toNatClampNeg)]) (st := [.inl r_44]) (n := 1) rfl h.1 (Or.inl q2016) q2018 q2017 q73 q2019 zmh_cancel rfl (Nat.le_of_ble_eq_true rfl) (Nat.le_of_ble_eq_true rfl) dL_law_510 (cq.mono h.2 (fun _ M_45 h => ?_))
          obtain ⟨r_46, rfl, h⟩ := h
          show wq (d + 11) mL_law 513 [(0, .inr r0), (1, .inr r1), (2, .inr r2), (3, .inl x3)] [.inl r_46, .inl r_44] M_45 P
          refine b_icmp_eq (tgt := 1205) dL_law_513 (by decide) (fun c_48 => ?_) (fun c_48 => ?_)
          · replace h := h.1 c_48
            obtain ⟨x_47, ex_47⟩ : ∃ y : Int32, y = x3 + 8 := ⟨_, rfl⟩
            replace h := h x_47 ex_47
            refine b_iinc (v := x_47) (lv' := [(3, .inl x_47), (0, .inr r0), (1, .inr r1), (2, .inr r2)]) 3 dL_law_1205 rfl (by rw [ex_47]; rfl) (Nat.le_of_ble_eq_true rfl) rfl ?_
            refine b_goto (tgt := 18) dL_law_1208 (by decide) ?_
            exact b_sub (by simp) (ih r0 r1 r2 x_47 M_45 h)
          · replace h := h.2 c_48
            refine b_iconst (v := 0) dL_law_516 (by decide) ?_
            exact b_zret rfl (by decide) dL_law_517 (hP _ _ h)
        | 8, _, e =>
          replace h := h.2.2.2.2.2.2.2.2.1 e
          show wq (d + 11) mL_law 518 _ _ _ _
          refine b_aload_n 1 dL_law_518 rfl rfl ?_
          refine b_aload_n 0 dL_law_519 rfl rfl ?_
          refine b_iload_n 3 dL_law_520 rfl rfl ?_
          refine b_iconst (v := 1) dL_law_521 (by decide) ?_
          refine b_iadd dL_law_522 ?_
          refine b_xiald h.1 dL_law_523 ?_
          replace h := h.2
          refine b_cvo (y := mX0_second) (ci := 0) (r := (RX0, TX0, 14)) (e := r1) (as := [.inl (M.1 r0.1 r0.2 ((x3 + 1)).toNatClampNeg)]) (st := []) (n := 1) rfl h.1 (Or.inl q1125) q1127 q1126 q69 q1128 zmh_X0_second rfl (Nat.le_of_ble_eq_true rfl) (Nat.le_of_ble_eq_true rfl) dL_law_524 (cq.mono h.2 (fun _ M_49 h => ?_))
          obtain ⟨r_50, rfl, h⟩ := h
          show wq (d + 11) mL_law 527 [(0, .inr r0), (1, .inr r1), (2, .inr r2), (3, .inl x3)] [.inl r_50] M_49 P
          refine b_aload_n 2 dL_law_527 rfl rfl ?_
          refine b_aload_n 0 dL_law_528 rfl rfl ?_
          refine b_iload_n 3 dL_law_529 rfl rfl ?_
          refine b_iconst (v := 1) dL_law_530 (by decide) ?_
          refine b_iadd dL_law_531 ?_
          refine b_xiald h.1 dL_law_532 ?_
          replace h := h.2
          refine b_cvo (y := mX1_second) (ci := 1) (r := (RX1, TX1, 110)) (e := r2) (as := [.inl (M_49.1 r0.1 r0.2 ((x3 + 1)).toNatClampNeg)]) (st := [.inl r_50]) (n := 1) rfl h.1 (Or.inl q2044) q2046 q2045 q73 q2047 zmh_second rfl (Nat.le_of_ble_eq_true rfl) (Nat.le_of_ble_eq_true rfl) dL_law_533 (cq.mono h.2 (fun _ M_51 h => ?_))
          obtain ⟨r_52, rfl, h⟩ := h
          show wq (d + 11) mL_law 536 [(0, .inr r0), (1, .inr r1), (2, .inr r2), (3, .inl x3)] [.inl r_52, .inl r_50] M_51 P
          refine b_icmp_eq (tgt := 1205) dL_law_536 (by decide) (fun c_54 => ?_) (fun c_54 => ?_)
          · replace h := h.1 c_54
            obtain ⟨x_53, ex_53⟩ : ∃ y : Int32, y = x3 + 8 := ⟨_, rfl⟩
            replace h := h x_53 ex_53
            refine b_iinc (v := x_53) (lv' := [(3, .inl x_53), (0, .inr r0), (1, .inr r1), (2, .inr r2)]) 3 dL_law_1205 rfl (by rw [ex_53]; rfl) (Nat.le_of_ble_eq_true rfl) rfl ?_
            refine b_goto (tgt := 18) dL_law_1208 (by decide) ?_
            exact b_sub (by simp) (ih r0 r1 r2 x_53 M_51 h)
          · replace h := h.2 c_54
            refine b_iconst (v := 0) dL_law_539 (by decide) ?_
            exact b_zret rfl (by decide) dL_law_540 (hP _ _ h)
        | 9, _, e =>
          replace h := h.2.2.2.2.2.2.2.2.2.1 e
          show wq (d + 11) mL_law 541 _ _ _ _
          refine b_aload_n 1 dL_law_541 rfl rfl ?_
          refine b_aload_n 0 dL_law_542 rfl rfl ?_
          refine b_iload_n 3 dL_law_543 rfl rfl ?_
          refine b_iconst (v := 1) dL_law_544 (by decide) ?_
          refine b_iadd dL_law_545 ?_
          refine b_xiald h.1 dL_law_546 ?_
          replace h := h.2
          refine b_aload_n 0 dL_law_547 rfl rfl ?_
          refine b_iload_n 3 dL_law_548 rfl rfl ?_
          refine b_iconst (v := 2) dL_law_549 (by decide) ?_
          refine b_iadd dL_law_550 ?_
          refine b_xiald h.1 dL_law_551 ?_
          replace h := h.2
          refine b_aload_n 0 dL_law_552 rfl rfl ?_
          refine b_iload_n 3 dL_law_553 rfl rfl ?_
          refine b_iconst (v := 3) dL_law_554 (by decide) ?_
          refine b_iadd dL_law_555 ?_
          refine b_xiald h.1 dL_law_556 ?_
          replace h := h.2
          refine b_aload_n 0 dL_law_557 rfl rfl ?_
          refine b_iload_n 3 dL_law_558 rfl rfl ?_
          refine b_iconst (v := 4) dL_law_559 (by decide) ?_
          refine b_iadd dL_law_560 ?_
          refine b_xiald h.1 dL_law_561 ?_
          replace h := h.2
          refine b_aload_n 0 dL_law_562 rfl rfl ?_
          refine b_iload_n 3 dL_law_563 rfl rfl ?_
          refine b_iconst (v := 5) dL_law_564 (by decide) ?_
          refine b_iadd dL_law_565 ?_
          refine b_xiald h.1 dL_law_566 ?_
          replace h := h.2
          refine b_aload_n 0 dL_law_567 rfl rfl ?_
          refine b_iload_n 3 dL_law_568 rfl rfl ?_
          refine b_bipush (v := 6) dL_law_569 (by decide) ?_
          refine b_iadd dL_law_571 ?_
          refine b_xiald h.1 dL_law_572 ?_
          replace h := h.2
          refine b_aload_n 0 dL_law_573 rfl rfl ?_
          refine b_iload_n 3 dL_law_574 rfl rfl ?_
          refine b_bipush (v := 7) dL_law_575 (by decide) ?_
          refine b_iadd dL_law_577 ?_
          refine b_xiald h.1 dL_law_578 ?_
          replace h := h.2
          refine b_cvo (y := mX0_plan_2) (ci := 0) (r := (RX0, TX0, 14)) (e := r1) (as := [.inl (M.1 r0.1 r0.2 ((x3 + 1)).toNatClampNeg), .inl (M.1 r0.1 r0.2 ((x3 + 2)).toNatClampNeg), .inl (M.1 r0.1 r0.2 ((x3 + 3)).toNatClampNeg), .inl (M.1 r0.1 r0.2 ((x3 + 4)).toNatClampNeg), .inl (M.1 r0.1 r0.2 ((x3 + 5)).toNatClampNeg), .inl (M.1 r0.1 r0.2 ((x3 + 6)).toNatClampNeg), .inl (M.1 r0.1 r0.2 ((x3 + 7)).toNatClampNeg)]) (st := []) (n := 7) rfl h.1 (Or.inl q1273) q1275 q1274 q69 q1276 zmh_X0_plan_2 rfl (Nat.le_of_ble_eq_true rfl) (Nat.le_of_ble_eq_true rfl) dL_law_579 (cq.mono h.2 (fun _ M_55 h => ?_))
          obtain ⟨r_56, rfl, h⟩ := h
          show wq (d + 11) mL_law 582 [(0, .inr r0), (1, .inr r1), (2, .inr r2), (3, .inl x3)] [.inl r_56] M_55 P
          refine b_aload_n 2 dL_law_582 rfl rfl ?_
          refine b_aload_n 0 dL_law_583 rfl rfl ?_
          refine b_iload_n 3 dL_law_584 rfl rfl ?_
          refine b_iconst (v := 1) dL_law_585 (by decide) ?_
          refine b_iadd dL_law_586 ?_
          refine b_xiald h.1 dL_law_587 ?_
          replace h := h.2
          refine b_aload_n 0 dL_law_588 rfl rfl ?_
          refine b_iload_n 3 dL_law_589 rfl rfl ?_
          refine b_iconst (v := 2) dL_law_590 (by decide) ?_
          refine b_iadd dL_law_591 ?_
          refine b_xiald h.1 dL_law_592 ?_
          replace h := h.2
          refine b_aload_n 0 dL_law_593 rfl rfl ?_
          refine b_iload_n 3 dL_law_594 rfl rfl ?_
          refine b_iconst (v := 3) dL_law_595 (by decide) ?_
          refine b_iadd dL_law_596 ?_
          refine b_xiald h.1 dL_law_597 ?_
          replace h := h.2
          refine b_aload_n 0 dL_law_598 rfl rfl ?_
          refine b_iload_n 3 dL_law_599 rfl rfl ?_
          refine b_iconst (v := 4) dL_law_600 (by decide) ?_
          refine b_iadd dL_law_601 ?_
          refine b_xiald h.1 dL_law_602 ?_
          replace h := h.2
          refine b_aload_n 0 dL_law_603 rfl rfl ?_
          refine b_iload_n 3 dL_law_604 rfl rfl ?_
          refine b_iconst (v := 5) dL_law_605 (by decide) ?_
          refine b_iadd dL_law_606 ?_
          refine b_xiald h.1 dL_law_607 ?_
          replace h := h.2
          refine b_aload_n 0 dL_law_608 rfl rfl ?_
          refine b_iload_n 3 dL_law_609 rfl rfl ?_
          refine b_bipush (v := 6) dL_law_610 (by decide) ?_
          refine b_iadd dL_law_612 ?_
          refine b_xiald h.1 dL_law_613 ?_
          replace h := h.2
          refine b_aload_n 0 dL_law_614 rfl rfl ?_
          refine b_iload_n 3 dL_law_615 rfl rfl ?_
          refine b_bipush (v := 7) dL_law_616 (by decide) ?_
          refine b_iadd dL_law_618 ?_
          refine b_xiald h.1 dL_law_619 ?_
          replace h := h.2
          refine b_cvo (y := mX1_plan) (ci := 1) (r := (RX1, TX1, 110)) (e := r2) (as := [.inl (M_55.1 r0.1 r0.2 ((x3 + 1)).toNatClampNeg), .inl (M_55.1 r0.1 r0.2 ((x3 + 2)).toNatClampNeg), .inl (M_55.1 r0.1 r0.2 ((x3 + 3)).toNatClampNeg), .inl (M_55.1 r0.1 r0.2 ((x3 + 4)).toNatClampNeg), .inl (M_55.1 r0.1 r0.2 ((x3 + 5)).toNatClampNeg), .inl (M_55.1 r0.1 r0.2 ((x3 + 6)).toNatClampNeg), .inl (M_55.1 r0.1 r0.2 ((x3 + 7)).toNatClampNeg)]) (st := [.inl r_56]) (n := 7) rfl h.1 (Or.inl q2020) q2022 q2021 q73 q2023 zmh_plan rfl (Nat.le_of_ble_eq_true rfl) (Nat.le_of_ble_eq_true rfl) dL_law_620 (cq.mono h.2 (fun _ M_57 h => ?_))
          obtain ⟨r_58, rfl, h⟩ := h
          show wq (d + 11) mL_law 623 [(0, .inr r0), (1, .inr r1), (2, .inr r2), (3, .inl x3)] [.inl r_58, .inl r_56] M_57 P
          refine b_icmp_eq (tgt := 1205) dL_law_623 (by decide) (fun c_60 => ?_) (fun c_60 => ?_)
          · replace h := h.1 c_60
            obtain ⟨x_59, ex_59⟩ : ∃ y : Int32, y = x3 + 8 := ⟨_, rfl⟩
            replace h := h x_59 ex_59
            refine b_iinc (v := x_59) (lv' := [(3, .inl x_59), (0, .inr r0), (1, .inr r1), (2, .inr r2)]) 3 dL_law_1205 rfl (by rw [ex_59]; rfl) (Nat.le_of_ble_eq_true rfl) rfl ?_
            refine b_goto (tgt := 18) dL_law_1208 (by decide) ?_
            exact b_sub (by simp) (ih r0 r1 r2 x_59 M_57 h)
          · replace h := h.2 c_60
            refine b_iconst (v := 0) dL_law_626 (by decide) ?_
            exact b_zret rfl (by decide) dL_law_627 (hP _ _ h)
        | 10, _, e =>
          replace h := h.2.2.2.2.2.2.2.2.2.2.1 e
          show wq (d + 11) mL_law 628 _ _ _ _
          refine b_aload_n 1 dL_law_628 rfl rfl ?_
          refine b_aload_n 0 dL_law_629 rfl rfl ?_
          refine b_iload_n 3 dL_law_630 rfl rfl ?_
          refine b_iconst (v := 1) dL_law_631 (by decide) ?_
          refine b_iadd dL_law_632 ?_
          refine b_xiald h.1 dL_law_633 ?_
          replace h := h.2
          refine b_cvo (y := mX0_stop) (ci := 0) (r := (RX0, TX0, 14)) (e := r1) (as := [.inl (M.1 r0.1 r0.2 ((x3 + 1)).toNatClampNeg)]) (st := []) (n := 1) rfl h.1 (Or.inl q1330) q1332 q1331 q69 q1333 zmh_X0_stop rfl (Nat.le_of_ble_eq_true rfl) (Nat.le_of_ble_eq_true rfl) dL_law_634 (cq.mono h.2 (fun _ M_61 h => ?_))
          obtain ⟨r_62, rfl, h⟩ := h
          show wq (d + 11) mL_law 637 [(0, .inr r0), (1, .inr r1), (2, .inr r2), (3, .inl x3)] [.inl r_62] M_61 P
          refine b_aload_n 2 dL_law_637 rfl rfl ?_
          refine b_aload_n 0 dL_law_638 rfl rfl ?_
          refine b_iload_n 3 dL_law_639 rfl rfl ?_
          refine b_iconst (v := 1) dL_law_640 (by decide) ?_
          refine b_iadd dL_law_641 ?_
          refine b_xiald h.1 dL_law_642 ?_
          replace h := h.2
          refine b_cvo (y := mX1_stop) (ci := 1) (r := (RX1, TX1, 110)) (e := r2) (as := [.inl (M_61.1 r0.1 r0.2 ((x3 + 1)).toNatClampNeg)]) (st := [.inl r_62]) (n := 1) rfl h.1 (Or.inl q2024) q2026 q2025 q73 q2027 zmh_stop rfl (Nat.le_of_ble_eq_true rfl) (Nat.le_of_ble_eq_true rfl) dL_law_643 (cq.mono h.2 (fun _ M_63 h => ?_))
          obtain ⟨r_64, rfl, h⟩ := h
          show wq (d + 11) mL_law 646 [(0, .inr r0), (1, .inr r1), (2, .inr r2), (3, .inl x3)] [.inl r_64, .inl r_62] M_63 P
          refine b_icmp_eq (tgt := 1205) dL_law_646 (by decide) (fun c_66 => ?_) (fun c_66 => ?_)
          · replace h := h.1 c_66
            obtain ⟨x_65, ex_65⟩ : ∃ y : Int32, y = x3 + 8 := ⟨_, rfl⟩
            replace h := h x_65 ex_65
            refine b_iinc (v := x_65) (lv' := [(3, .inl x_65), (0, .inr r0), (1, .inr r1), (2, .inr r2)]) 3 dL_law_1205 rfl (by rw [ex_65]; rfl) (Nat.le_of_ble_eq_true rfl) rfl ?_
            refine b_goto (tgt := 18) dL_law_1208 (by decide) ?_
            exact b_sub (by simp) (ih r0 r1 r2 x_65 M_63 h)
          · replace h := h.2 c_66
            refine b_iconst (v := 0) dL_law_649 (by decide) ?_
            exact b_zret rfl (by decide) dL_law_650 (hP _ _ h)
        | 11, _, e =>
          replace h := h.2.2.2.2.2.2.2.2.2.2.2.1 e
          show wq (d + 11) mL_law 651 _ _ _ _
          refine b_aload_n 1 dL_law_651 rfl rfl ?_
          refine b_aload_n 0 dL_law_652 rfl rfl ?_
          refine b_iload_n 3 dL_law_653 rfl rfl ?_
          refine b_iconst (v := 1) dL_law_654 (by decide) ?_
          refine b_iadd dL_law_655 ?_
          refine b_xiald h.1 dL_law_656 ?_
          replace h := h.2
          refine b_aload_n 0 dL_law_657 rfl rfl ?_
          refine b_iload_n 3 dL_law_658 rfl rfl ?_
          refine b_iconst (v := 2) dL_law_659 (by decide) ?_
          refine b_iadd dL_law_660 ?_
          refine b_xiald h.1 dL_law_661 ?_
          replace h := h.2
          refine b_cvo (y := mX0_planned) (ci := 0) (r := (RX0, TX0, 14)) (e := r1) (as := [.inl (M.1 r0.1 r0.2 ((x3 + 1)).toNatClampNeg), .inl (M.1 r0.1 r0.2 ((x3 + 2)).toNatClampNeg)]) (st := []) (n := 2) rfl h.1 (Or.inl q1334) q1336 q1335 q69 q1337 zmh_X0_planned rfl (Nat.le_of_ble_eq_true rfl) (Nat.le_of_ble_eq_true rfl) dL_law_662 (cq.mono h.2 (fun _ M_67 h => ?_))
          obtain ⟨r_68, rfl, h⟩ := h
          show wq (d + 11) mL_law 665 [(0, .inr r0), (1, .inr r1), (2, .inr r2), (3, .inl x3)] [.inl r_68] M_67 P
          refine b_aload_n 2 dL_law_665 rfl rfl ?_
          refine b_aload_n 0 dL_law_666 rfl rfl ?_
          refine b_iload_n 3 dL_law_667 rfl rfl ?_
          refine b_iconst (v := 1) dL_law_668 (by decide) ?_
          refine b_iadd dL_law_669 ?_
          refine b_xiald h.1 dL_law_670 ?_
          replace h := h.2
          refine b_aload_n 0 dL_law_671 rfl rfl ?_
          refine b_iload_n 3 dL_law_672 rfl rfl ?_
          refine b_iconst (v := 2) dL_law_673 (by decide) ?_
          refine b_iadd dL_law_674 ?_
          refine b_xiald h.1 dL_law_675 ?_
          replace h := h.2
          refine b_cvo (y := mX1_planned) (ci := 1) (r := (RX1, TX1, 110)) (e := r2) (as := [.inl (M_67.1 r0.1 r0.2 ((x3 + 1)).toNatClampNeg), .inl (M_67.1 r0.1 r0.2 ((x3 + 2)).toNatClampNeg)]) (st := [.inl r_68]) (n := 2) rfl h.1 (Or.inl q2028) q2030 q2029 q73 q2031 zmh_planned rfl (Nat.le_of_ble_eq_true rfl) (Nat.le_of_ble_eq_true rfl) dL_law_676 (cq.mono h.2 (fun _ M_69 h => ?_))
          obtain ⟨r_70, rfl, h⟩ := h
          show wq (d + 11) mL_law 679 [(0, .inr r0), (1, .inr r1), (2, .inr r2), (3, .inl x3)] [.inl r_70, .inl r_68] M_69 P
          refine b_icmp_eq (tgt := 1205) dL_law_679 (by decide) (fun c_72 => ?_) (fun c_72 => ?_)
          · replace h := h.1 c_72
            obtain ⟨x_71, ex_71⟩ : ∃ y : Int32, y = x3 + 8 := ⟨_, rfl⟩
            replace h := h x_71 ex_71
            refine b_iinc (v := x_71) (lv' := [(3, .inl x_71), (0, .inr r0), (1, .inr r1), (2, .inr r2)]) 3 dL_law_1205 rfl (by rw [ex_71]; rfl) (Nat.le_of_ble_eq_true rfl) rfl ?_
            refine b_goto (tgt := 18) dL_law_1208 (by decide) ?_
            exact b_sub (by simp) (ih r0 r1 r2 x_71 M_69 h)
          · replace h := h.2 c_72
            refine b_iconst (v := 0) dL_law_682 (by decide) ?_
            exact b_zret rfl (by decide) dL_law_683 (hP _ _ h)
        | 12, _, e =>
          replace h := h.2.2.2.2.2.2.2.2.2.2.2.2.1 e
          show wq (d + 11) mL_law 684 _ _ _ _
          refine b_aload_n 1 dL_law_684 rfl rfl ?_
          refine b_aload_n 0 dL_law_685 rfl rfl ?_
          refine b_iload_n 3 dL_law_686 rfl rfl ?_
          refine b_iconst (v := 1) dL_law_687 (by decide) ?_
          refine b_iadd dL_law_688 ?_
          refine b_xiald h.1 dL_law_689 ?_
          replace h := h.2
          refine b_aload_n 0 dL_law_690 rfl rfl ?_
          refine b_iload_n 3 dL_law_691 rfl rfl ?_
          refine b_iconst (v := 2) dL_law_692 (by decide) ?_
          refine b_iadd dL_law_693 ?_
          refine b_xiald h.1 dL_law_694 ?_
          replace h := h.2
          refine b_aload_n 0 dL_law_695 rfl rfl ?_
          refine b_iload_n 3 dL_law_696 rfl rfl ?_
          refine b_iconst (v := 3) dL_law_697 (by decide) ?_
          refine b_iadd dL_law_698 ?_
          refine b_xiald h.1 dL_law_699 ?_
          replace h := h.2
          refine b_cvo (y := mX0_alarm) (ci := 0) (r := (RX0, TX0, 14)) (e := r1) (as := [.inl (M.1 r0.1 r0.2 ((x3 + 1)).toNatClampNeg), .inl (M.1 r0.1 r0.2 ((x3 + 2)).toNatClampNeg), .inl (M.1 r0.1 r0.2 ((x3 + 3)).toNatClampNeg)]) (st := []) (n := 3) rfl h.1 (Or.inl q1338) q1340 q1339 q69 q1341 zmh_X0_alarm rfl (Nat.le_of_ble_eq_true rfl) (Nat.le_of_ble_eq_true rfl) dL_law_700 (cq.mono h.2 (fun _ M_73 h => ?_))
          obtain ⟨r_74, rfl, h⟩ := h
          show wq (d + 11) mL_law 703 [(0, .inr r0), (1, .inr r1), (2, .inr r2), (3, .inl x3)] [.inl r_74] M_73 P
          refine b_aload_n 2 dL_law_703 rfl rfl ?_
          refine b_aload_n 0 dL_law_704 rfl rfl ?_
          refine b_iload_n 3 dL_law_705 rfl rfl ?_
          refine b_iconst (v := 1) dL_law_706 (by decide) ?_
          refine b_iadd dL_law_707 ?_
          refine b_xiald h.1 dL_law_708 ?_
          replace h := h.2
          refine b_aload_n 0 dL_law_709 rfl rfl ?_
          refine b_iload_n 3 dL_law_710 rfl rfl ?_
          refine b_iconst (v := 2) dL_law_711 (by decide) ?_
          refine b_iadd dL_law_712 ?_
          refine b_xiald h.1 dL_law_713 ?_
          replace h := h.2
          refine b_aload_n 0 dL_law_714 rfl rfl ?_
          refine b_iload_n 3 dL_law_715 rfl rfl ?_
          refine b_iconst (v := 3) dL_law_716 (by decide) ?_
          refine b_iadd dL_law_717 ?_
          refine b_xiald h.1 dL_law_718 ?_
          replace h := h.2
          refine b_cvo (y := mX1_alarm) (ci := 1) (r := (RX1, TX1, 110)) (e := r2) (as := [.inl (M_73.1 r0.1 r0.2 ((x3 + 1)).toNatClampNeg), .inl (M_73.1 r0.1 r0.2 ((x3 + 2)).toNatClampNeg), .inl (M_73.1 r0.1 r0.2 ((x3 + 3)).toNatClampNeg)]) (st := [.inl r_74]) (n := 3) rfl h.1 (Or.inl q2032) q2034 q2033 q73 q2035 zmh_alarm rfl (Nat.le_of_ble_eq_true rfl) (Nat.le_of_ble_eq_true rfl) dL_law_719 (cq.mono h.2 (fun _ M_75 h => ?_))
          obtain ⟨r_76, rfl, h⟩ := h
          show wq (d + 11) mL_law 722 [(0, .inr r0), (1, .inr r1), (2, .inr r2), (3, .inl x3)] [.inl r_76, .inl r_74] M_75 P
          refine b_icmp_eq (tgt := 1205) dL_law_722 (by decide) (fun c_78 => ?_) (fun c_78 => ?_)
          · replace h := h.1 c_78
            obtain ⟨x_77, ex_77⟩ : ∃ y : Int32, y = x3 + 8 := ⟨_, rfl⟩
            replace h := h x_77 ex_77
            refine b_iinc (v := x_77) (lv' := [(3, .inl x_77), (0, .inr r0), (1, .inr r1), (2, .inr r2)]) 3 dL_law_1205 rfl (by rw [ex_77]; rfl) (Nat.le_of_ble_eq_true rfl) rfl ?_
            refine b_goto (tgt := 18) dL_law_1208 (by decide) ?_
            exact b_sub (by simp) (ih r0 r1 r2 x_77 M_75 h)
          · replace h := h.2 c_78
            refine b_iconst (v := 0) dL_law_725 (by decide) ?_
            exact b_zret rfl (by decide) dL_law_726 (hP _ _ h)
        | 13, _, e =>
          replace h := h.2.2.2.2.2.2.2.2.2.2.2.2.2.1 e
          show wq (d + 11) mL_law 727 _ _ _ _
          refine b_aload_n 1 dL_law_727 rfl rfl ?_
          refine b_aload_n 0 dL_law_728 rfl rfl ?_
          refine b_iload_n 3 dL_law_729 rfl rfl ?_
          refine b_iconst (v := 1) dL_law_730 (by decide) ?_
          refine b_iadd dL_law_731 ?_
          refine b_xiald h.1 dL_law_732 ?_
          replace h := h.2
          refine b_aload_n 0 dL_law_733 rfl rfl ?_
          refine b_iload_n 3 dL_law_734 rfl rfl ?_
          refine b_iconst (v := 2) dL_law_735 (by decide) ?_
          refine b_iadd dL_law_736 ?_
          refine b_xiald h.1 dL_law_737 ?_
          replace h := h.2
          refine b_cvo (y := mX0_alarmed) (ci := 0) (r := (RX0, TX0, 14)) (e := r1) (as := [.inl (M.1 r0.1 r0.2 ((x3 + 1)).toNatClampNeg), .inl (M.1 r0.1 r0.2 ((x3 + 2)).toNatClampNeg)]) (st := []) (n := 2) rfl h.1 (Or.inl q1438) q1440 q1439 q69 q1441 zmh_X0_alarmed rfl (Nat.le_of_ble_eq_true rfl) (Nat.le_of_ble_eq_true rfl) dL_law_738 (cq.mono h.2 (fun _ M_79 h => ?_))
          obtain ⟨r_80, rfl, h⟩ := h
          show wq (d + 11) mL_law 741 [(0, .inr r0), (1, .inr r1), (2, .inr r2), (3, .inl x3)] [.inl r_80] M_79 P
          refine b_aload_n 2 dL_law_741 rfl rfl ?_
          refine b_aload_n 0 dL_law_742 rfl rfl ?_
          refine b_iload_n 3 dL_law_743 rfl rfl ?_
          refine b_iconst (v := 1) dL_law_744 (by decide) ?_
          refine b_iadd dL_law_745 ?_
          refine b_xiald h.1 dL_law_746 ?_
          replace h := h.2
          refine b_aload_n 0 dL_law_747 rfl rfl ?_
          refine b_iload_n 3 dL_law_748 rfl rfl ?_
          refine b_iconst (v := 2) dL_law_749 (by decide) ?_
          refine b_iadd dL_law_750 ?_
          refine b_xiald h.1 dL_law_751 ?_
          replace h := h.2
          refine b_cvo (y := mX1_alarmed) (ci := 1) (r := (RX1, TX1, 110)) (e := r2) (as := [.inl (M_79.1 r0.1 r0.2 ((x3 + 1)).toNatClampNeg), .inl (M_79.1 r0.1 r0.2 ((x3 + 2)).toNatClampNeg)]) (st := [.inl r_80]) (n := 2) rfl h.1 (Or.inl q2040) q2042 q2041 q73 q2043 zmh_alarmed rfl (Nat.le_of_ble_eq_true rfl) (Nat.le_of_ble_eq_true rfl) dL_law_752 (cq.mono h.2 (fun _ M_81 h => ?_))
          obtain ⟨r_82, rfl, h⟩ := h
          show wq (d + 11) mL_law 755 [(0, .inr r0), (1, .inr r1), (2, .inr r2), (3, .inl x3)] [.inl r_82, .inl r_80] M_81 P
          refine b_icmp_eq (tgt := 1205) dL_law_755 (by decide) (fun c_84 => ?_) (fun c_84 => ?_)
          · replace h := h.1 c_84
            obtain ⟨x_83, ex_83⟩ : ∃ y : Int32, y = x3 + 8 := ⟨_, rfl⟩
            replace h := h x_83 ex_83
            refine b_iinc (v := x_83) (lv' := [(3, .inl x_83), (0, .inr r0), (1, .inr r1), (2, .inr r2)]) 3 dL_law_1205 rfl (by rw [ex_83]; rfl) (Nat.le_of_ble_eq_true rfl) rfl ?_
            refine b_goto (tgt := 18) dL_law_1208 (by decide) ?_
            exact b_sub (by simp) (ih r0 r1 r2 x_83 M_81 h)
          · replace h := h.2 c_84
            refine b_iconst (v := 0) dL_law_758 (by decide) ?_
            exact b_zret rfl (by decide) dL_law_759 (hP _ _ h)
        | 14, _, e =>
          replace h := h.2.2.2.2.2.2.2.2.2.2.2.2.2.2.1 e
          show wq (d + 11) mL_law 760 _ _ _ _
          refine b_aload_n 1 dL_law_760 rfl rfl ?_
          refine b_cvo (y := mX0_now) (ci := 0) (r := (RX0, TX0, 14)) (e := r1) (as := []) (st := []) (n := 0) rfl h.1 (Or.inl q1442) q1444 q1443 q69 q1445 zmh_X0_now rfl (Nat.le_of_ble_eq_true rfl) (Nat.le_of_ble_eq_true rfl) dL_law_761 (cq.mono h.2 (fun _ M_85 h => ?_))
          obtain ⟨r_86, rfl, h⟩ := h
          show wq (d + 11) mL_law 764 [(0, .inr r0), (1, .inr r1), (2, .inr r2), (3, .inl x3)] [.inl r_86] M_85 P
          refine b_aload_n 2 dL_law_764 rfl rfl ?_
          refine b_cvo (y := mX1_now) (ci := 1) (r := (RX1, TX1, 110)) (e := r2) (as := []) (st := [.inl r_86]) (n := 0) rfl h.1 (Or.inl q2068) q2070 q2069 q73 q2071 zmh_now rfl (Nat.le_of_ble_eq_true rfl) (Nat.le_of_ble_eq_true rfl) dL_law_765 (cq.mono h.2 (fun _ M_87 h => ?_))
          obtain ⟨r_88, rfl, h⟩ := h
          show wq (d + 11) mL_law 768 [(0, .inr r0), (1, .inr r1), (2, .inr r2), (3, .inl x3)] [.inl r_88, .inl r_86] M_87 P
          refine b_icmp_eq (tgt := 1205) dL_law_768 (by decide) (fun c_90 => ?_) (fun c_90 => ?_)
          · replace h := h.1 c_90
            obtain ⟨x_89, ex_89⟩ : ∃ y : Int32, y = x3 + 8 := ⟨_, rfl⟩
            replace h := h x_89 ex_89
            refine b_iinc (v := x_89) (lv' := [(3, .inl x_89), (0, .inr r0), (1, .inr r1), (2, .inr r2)]) 3 dL_law_1205 rfl (by rw [ex_89]; rfl) (Nat.le_of_ble_eq_true rfl) rfl ?_
            refine b_goto (tgt := 18) dL_law_1208 (by decide) ?_
            exact b_sub (by simp) (ih r0 r1 r2 x_89 M_87 h)
          · replace h := h.2 c_90
            refine b_iconst (v := 0) dL_law_771 (by decide) ?_
            exact b_zret rfl (by decide) dL_law_772 (hP _ _ h)
        | 15, _, e =>
          replace h := h.2.2.2.2.2.2.2.2.2.2.2.2.2.2.2.1 e
          show wq (d + 11) mL_law 773 _ _ _ _
          refine b_aload_n 1 dL_law_773 rfl rfl ?_
          refine b_aload_n 0 dL_law_774 rfl rfl ?_
          refine b_iload_n 3 dL_law_775 rfl rfl ?_
          refine b_iconst (v := 1) dL_law_776 (by decide) ?_
          refine b_iadd dL_law_777 ?_
          refine b_xiald h.1 dL_law_778 ?_
          replace h := h.2
          refine b_cvo (y := mX0_outcome) (ci := 0) (r := (RX0, TX0, 14)) (e := r1) (as := [.inl (M.1 r0.1 r0.2 ((x3 + 1)).toNatClampNeg)]) (st := []) (n := 1) rfl h.1 (Or.inl q1446) q1448 q1447 q69 q1449 zmh_X0_outcome rfl (Nat.le_of_ble_eq_true rfl) (Nat.le_of_ble_eq_true rfl) dL_law_779 (cq.mono h.2 (fun _ M_91 h => ?_))
          obtain ⟨r_92, rfl, h⟩ := h
          show wq (d + 11) mL_law 782 [(0, .inr r0), (1, .inr r1), (2, .inr r2), (3, .inl x3)] [.inl r_92] M_91 P
          refine b_aload_n 2 dL_law_782 rfl rfl ?_
          refine b_aload_n 0 dL_law_783 rfl rfl ?_
          refine b_iload_n 3 dL_law_784 rfl rfl ?_
          refine b_iconst (v := 1) dL_law_785 (by decide) ?_
          refine b_iadd dL_law_786 ?_
          refine b_xiald h.1 dL_law_787 ?_
          replace h := h.2
          refine b_cvo (y := mX1_outcome) (ci := 1) (r := (RX1, TX1, 110)) (e := r2) (as := [.inl (M_91.1 r0.1 r0.2 ((x3 + 1)).toNatClampNeg)]) (st := [.inl r_92]) (n := 1) rfl h.1 (Or.inl q2072) q2074 q2073 q73 q2075 zmh_outcome rfl (Nat.le_of_ble_eq_true rfl) (Nat.le_of_ble_eq_true rfl) dL_law_788 (cq.mono h.2 (fun _ M_93 h => ?_))
          obtain ⟨r_94, rfl, h⟩ := h
          show wq (d + 11) mL_law 791 [(0, .inr r0), (1, .inr r1), (2, .inr r2), (3, .inl x3)] [.inl r_94, .inl r_92] M_93 P
          refine b_icmp_eq (tgt := 1205) dL_law_791 (by decide) (fun c_96 => ?_) (fun c_96 => ?_)
          · replace h := h.1 c_96
            obtain ⟨x_95, ex_95⟩ : ∃ y : Int32, y = x3 + 8 := ⟨_, rfl⟩
            replace h := h x_95 ex_95
            refine b_iinc (v := x_95) (lv' := [(3, .inl x_95), (0, .inr r0), (1, .inr r1), (2, .inr r2)]) 3 dL_law_1205 rfl (by rw [ex_95]; rfl) (Nat.le_of_ble_eq_true rfl) rfl ?_
            refine b_goto (tgt := 18) dL_law_1208 (by decide) ?_
            exact b_sub (by simp) (ih r0 r1 r2 x_95 M_93 h)
          · replace h := h.2 c_96
            refine b_iconst (v := 0) dL_law_794 (by decide) ?_
            exact b_zret rfl (by decide) dL_law_795 (hP _ _ h)
        | 16, _, e =>
          replace h := h.2.2.2.2.2.2.2.2.2.2.2.2.2.2.2.2.1 e
          show wq (d + 11) mL_law 796 _ _ _ _
          refine b_aload_n 1 dL_law_796 rfl rfl ?_
          refine b_aload_n 0 dL_law_797 rfl rfl ?_
          refine b_iload_n 3 dL_law_798 rfl rfl ?_
          refine b_iconst (v := 1) dL_law_799 (by decide) ?_
          refine b_iadd dL_law_800 ?_
          refine b_xiald h.1 dL_law_801 ?_
          replace h := h.2
          refine b_aload_n 0 dL_law_802 rfl rfl ?_
          refine b_iload_n 3 dL_law_803 rfl rfl ?_
          refine b_iconst (v := 2) dL_law_804 (by decide) ?_
          refine b_iadd dL_law_805 ?_
          refine b_xiald h.1 dL_law_806 ?_
          replace h := h.2
          refine b_cvo (y := mX0_of) (ci := 0) (r := (RX0, TX0, 14)) (e := r1) (as := [.inl (M.1 r0.1 r0.2 ((x3 + 1)).toNatClampNeg), .inl (M.1 r0.1 r0.2 ((x3 + 2)).toNatClampNeg)]) (st := []) (n := 2) rfl h.1 (Or.inl q1450) q1452 q1451 q69 q1453 zmh_X0_of rfl (Nat.le_of_ble_eq_true rfl) (Nat.le_of_ble_eq_true rfl) dL_law_807 (cq.mono h.2 (fun _ M_97 h => ?_))
          obtain ⟨r_98, rfl, h⟩ := h
          show wq (d + 11) mL_law 810 [(0, .inr r0), (1, .inr r1), (2, .inr r2), (3, .inl x3)] [.inl r_98] M_97 P
          refine b_aload_n 2 dL_law_810 rfl rfl ?_
          refine b_aload_n 0 dL_law_811 rfl rfl ?_
          refine b_iload_n 3 dL_law_812 rfl rfl ?_
          refine b_iconst (v := 1) dL_law_813 (by decide) ?_
          refine b_iadd dL_law_814 ?_
          refine b_xiald h.1 dL_law_815 ?_
          replace h := h.2
          refine b_aload_n 0 dL_law_816 rfl rfl ?_
          refine b_iload_n 3 dL_law_817 rfl rfl ?_
          refine b_iconst (v := 2) dL_law_818 (by decide) ?_
          refine b_iadd dL_law_819 ?_
          refine b_xiald h.1 dL_law_820 ?_
          replace h := h.2
          refine b_cvo (y := mX1_of) (ci := 1) (r := (RX1, TX1, 110)) (e := r2) (as := [.inl (M_97.1 r0.1 r0.2 ((x3 + 1)).toNatClampNeg), .inl (M_97.1 r0.1 r0.2 ((x3 + 2)).toNatClampNeg)]) (st := [.inl r_98]) (n := 2) rfl h.1 (Or.inl q2076) q2078 q2077 q73 q2079 zmh_of rfl (Nat.le_of_ble_eq_true rfl) (Nat.le_of_ble_eq_true rfl) dL_law_821 (cq.mono h.2 (fun _ M_99 h => ?_))
          obtain ⟨r_100, rfl, h⟩ := h
          show wq (d + 11) mL_law 824 [(0, .inr r0), (1, .inr r1), (2, .inr r2), (3, .inl x3)] [.inl r_100, .inl r_98] M_99 P
          refine b_icmp_eq (tgt := 1205) dL_law_824 (by decide) (fun c_102 => ?_) (fun c_102 => ?_)
          · replace h := h.1 c_102
            obtain ⟨x_101, ex_101⟩ : ∃ y : Int32, y = x3 + 8 := ⟨_, rfl⟩
            replace h := h x_101 ex_101
            refine b_iinc (v := x_101) (lv' := [(3, .inl x_101), (0, .inr r0), (1, .inr r1), (2, .inr r2)]) 3 dL_law_1205 rfl (by rw [ex_101]; rfl) (Nat.le_of_ble_eq_true rfl) rfl ?_
            refine b_goto (tgt := 18) dL_law_1208 (by decide) ?_
            exact b_sub (by simp) (ih r0 r1 r2 x_101 M_99 h)
          · replace h := h.2 c_102
            refine b_iconst (v := 0) dL_law_827 (by decide) ?_
            exact b_zret rfl (by decide) dL_law_828 (hP _ _ h)
        | 17, _, e =>
          replace h := h.2.2.2.2.2.2.2.2.2.2.2.2.2.2.2.2.2.1 e
          show wq (d + 11) mL_law 829 _ _ _ _
          refine b_aload_n 1 dL_law_829 rfl rfl ?_
          refine b_aload_n 0 dL_law_830 rfl rfl ?_
          refine b_iload_n 3 dL_law_831 rfl rfl ?_
          refine b_iconst (v := 1) dL_law_832 (by decide) ?_
          refine b_iadd dL_law_833 ?_
          refine b_xiald h.1 dL_law_834 ?_
          replace h := h.2
          refine b_aload_n 0 dL_law_835 rfl rfl ?_
          refine b_iload_n 3 dL_law_836 rfl rfl ?_
          refine b_iconst (v := 2) dL_law_837 (by decide) ?_
          refine b_iadd dL_law_838 ?_
          refine b_xiald h.1 dL_law_839 ?_
          replace h := h.2
          refine b_cvo (y := mX0_failure) (ci := 0) (r := (RX0, TX0, 14)) (e := r1) (as := [.inl (M.1 r0.1 r0.2 ((x3 + 1)).toNatClampNeg), .inl (M.1 r0.1 r0.2 ((x3 + 2)).toNatClampNeg)]) (st := []) (n := 2) rfl h.1 (Or.inl q1457) q1459 q1458 q69 q1460 zmh_X0_failure rfl (Nat.le_of_ble_eq_true rfl) (Nat.le_of_ble_eq_true rfl) dL_law_840 (cq.mono h.2 (fun _ M_103 h => ?_))
          obtain ⟨r_104, rfl, h⟩ := h
          show wq (d + 11) mL_law 843 [(0, .inr r0), (1, .inr r1), (2, .inr r2), (3, .inl x3)] [.inl r_104] M_103 P
          refine b_aload_n 2 dL_law_843 rfl rfl ?_
          refine b_aload_n 0 dL_law_844 rfl rfl ?_
          refine b_iload_n 3 dL_law_845 rfl rfl ?_
          refine b_iconst (v := 1) dL_law_846 (by decide) ?_
          refine b_iadd dL_law_847 ?_
          refine b_xiald h.1 dL_law_848 ?_
          replace h := h.2
          refine b_aload_n 0 dL_law_849 rfl rfl ?_
          refine b_iload_n 3 dL_law_850 rfl rfl ?_
          refine b_iconst (v := 2) dL_law_851 (by decide) ?_
          refine b_iadd dL_law_852 ?_
          refine b_xiald h.1 dL_law_853 ?_
          replace h := h.2
          refine b_cvo (y := mX1_failure) (ci := 1) (r := (RX1, TX1, 110)) (e := r2) (as := [.inl (M_103.1 r0.1 r0.2 ((x3 + 1)).toNatClampNeg), .inl (M_103.1 r0.1 r0.2 ((x3 + 2)).toNatClampNeg)]) (st := [.inl r_104]) (n := 2) rfl h.1 (Or.inl q1876) q1878 q1877 q73 q1879 zmh_failure rfl (Nat.le_of_ble_eq_true rfl) (Nat.le_of_ble_eq_true rfl) dL_law_854 (cq.mono h.2 (fun _ M_105 h => ?_))
          obtain ⟨r_106, rfl, h⟩ := h
          show wq (d + 11) mL_law 857 [(0, .inr r0), (1, .inr r1), (2, .inr r2), (3, .inl x3)] [.inl r_106, .inl r_104] M_105 P
          refine b_icmp_eq (tgt := 1205) dL_law_857 (by decide) (fun c_108 => ?_) (fun c_108 => ?_)
          · replace h := h.1 c_108
            obtain ⟨x_107, ex_107⟩ : ∃ y : Int32, y = x3 + 8 := ⟨_, rfl⟩
            replace h := h x_107 ex_107
            refine b_iinc (v := x_107) (lv' := [(3, .inl x_107), (0, .inr r0), (1, .inr r1), (2, .inr r2)]) 3 dL_law_1205 rfl (by rw [ex_107]; rfl) (Nat.le_of_ble_eq_true rfl) rfl ?_
            refine b_goto (tgt := 18) dL_law_1208 (by decide) ?_
            exact b_sub (by simp) (ih r0 r1 r2 x_107 M_105 h)
          · replace h := h.2 c_108
            refine b_iconst (v := 0) dL_law_860 (by decide) ?_
            exact b_zret rfl (by decide) dL_law_861 (hP _ _ h)
        | 18, _, e =>
          replace h := h.2.2.2.2.2.2.2.2.2.2.2.2.2.2.2.2.2.2.1 e
          show wq (d + 11) mL_law 862 _ _ _ _
          refine b_aload_n 1 dL_law_862 rfl rfl ?_
          refine b_aload_n 0 dL_law_863 rfl rfl ?_
          refine b_iload_n 3 dL_law_864 rfl rfl ?_
          refine b_iconst (v := 1) dL_law_865 (by decide) ?_
          refine b_iadd dL_law_866 ?_
          refine b_xiald h.1 dL_law_867 ?_
          replace h := h.2
          refine b_aload_n 0 dL_law_868 rfl rfl ?_
          refine b_iload_n 3 dL_law_869 rfl rfl ?_
          refine b_iconst (v := 2) dL_law_870 (by decide) ?_
          refine b_iadd dL_law_871 ?_
          refine b_xiald h.1 dL_law_872 ?_
          replace h := h.2
          refine b_cvo (y := mX0_call) (ci := 0) (r := (RX0, TX0, 14)) (e := r1) (as := [.inl (M.1 r0.1 r0.2 ((x3 + 1)).toNatClampNeg), .inl (M.1 r0.1 r0.2 ((x3 + 2)).toNatClampNeg)]) (st := []) (n := 2) rfl h.1 (Or.inl q1461) q1463 q1462 q69 q1464 zmh_X0_call rfl (Nat.le_of_ble_eq_true rfl) (Nat.le_of_ble_eq_true rfl) dL_law_873 (cq.mono h.2 (fun _ M_109 h => ?_))
          obtain ⟨r_110, rfl, h⟩ := h
          show wq (d + 11) mL_law 876 [(0, .inr r0), (1, .inr r1), (2, .inr r2), (3, .inl x3)] [.inl r_110] M_109 P
          refine b_aload_n 2 dL_law_876 rfl rfl ?_
          refine b_aload_n 0 dL_law_877 rfl rfl ?_
          refine b_iload_n 3 dL_law_878 rfl rfl ?_
          refine b_iconst (v := 1) dL_law_879 (by decide) ?_
          refine b_iadd dL_law_880 ?_
          refine b_xiald h.1 dL_law_881 ?_
          replace h := h.2
          refine b_aload_n 0 dL_law_882 rfl rfl ?_
          refine b_iload_n 3 dL_law_883 rfl rfl ?_
          refine b_iconst (v := 2) dL_law_884 (by decide) ?_
          refine b_iadd dL_law_885 ?_
          refine b_xiald h.1 dL_law_886 ?_
          replace h := h.2
          refine b_cvo (y := mX1_call) (ci := 1) (r := (RX1, TX1, 110)) (e := r2) (as := [.inl (M_109.1 r0.1 r0.2 ((x3 + 1)).toNatClampNeg), .inl (M_109.1 r0.1 r0.2 ((x3 + 2)).toNatClampNeg)]) (st := [.inl r_110]) (n := 2) rfl h.1 (Or.inl q2080) q2082 q2081 q73 q2083 zmh_call rfl (Nat.le_of_ble_eq_true rfl) (Nat.le_of_ble_eq_true rfl) dL_law_887 (cq.mono h.2 (fun _ M_111 h => ?_))
          obtain ⟨r_112, rfl, h⟩ := h
          show wq (d + 11) mL_law 890 [(0, .inr r0), (1, .inr r1), (2, .inr r2), (3, .inl x3)] [.inl r_112, .inl r_110] M_111 P
          refine b_icmp_eq (tgt := 1205) dL_law_890 (by decide) (fun c_114 => ?_) (fun c_114 => ?_)
          · replace h := h.1 c_114
            obtain ⟨x_113, ex_113⟩ : ∃ y : Int32, y = x3 + 8 := ⟨_, rfl⟩
            replace h := h x_113 ex_113
            refine b_iinc (v := x_113) (lv' := [(3, .inl x_113), (0, .inr r0), (1, .inr r1), (2, .inr r2)]) 3 dL_law_1205 rfl (by rw [ex_113]; rfl) (Nat.le_of_ble_eq_true rfl) rfl ?_
            refine b_goto (tgt := 18) dL_law_1208 (by decide) ?_
            exact b_sub (by simp) (ih r0 r1 r2 x_113 M_111 h)
          · replace h := h.2 c_114
            refine b_iconst (v := 0) dL_law_893 (by decide) ?_
            exact b_zret rfl (by decide) dL_law_894 (hP _ _ h)
        | 19, _, e =>
          replace h := h.2.2.2.2.2.2.2.2.2.2.2.2.2.2.2.2.2.2.2.1 e
          show wq (d + 11) mL_law 895 _ _ _ _
          refine b_aload_n 1 dL_law_895 rfl rfl ?_
          refine b_aload_n 0 dL_law_896 rfl rfl ?_
          refine b_iload_n 3 dL_law_897 rfl rfl ?_
          refine b_iconst (v := 1) dL_law_898 (by decide) ?_
          refine b_iadd dL_law_899 ?_
          refine b_xiald h.1 dL_law_900 ?_
          replace h := h.2
          refine b_aload_n 0 dL_law_901 rfl rfl ?_
          refine b_iload_n 3 dL_law_902 rfl rfl ?_
          refine b_iconst (v := 2) dL_law_903 (by decide) ?_
          refine b_iadd dL_law_904 ?_
          refine b_xiald h.1 dL_law_905 ?_
          replace h := h.2
          refine b_cvo (y := mX0_fuse) (ci := 0) (r := (RX0, TX0, 14)) (e := r1) (as := [.inl (M.1 r0.1 r0.2 ((x3 + 1)).toNatClampNeg), .inl (M.1 r0.1 r0.2 ((x3 + 2)).toNatClampNeg)]) (st := []) (n := 2) rfl h.1 (Or.inl q1465) q1467 q1466 q69 q1468 zmh_X0_fuse rfl (Nat.le_of_ble_eq_true rfl) (Nat.le_of_ble_eq_true rfl) dL_law_906 (cq.mono h.2 (fun _ M_115 h => ?_))
          obtain ⟨r_116, rfl, h⟩ := h
          show wq (d + 11) mL_law 909 [(0, .inr r0), (1, .inr r1), (2, .inr r2), (3, .inl x3)] [.inl r_116] M_115 P
          refine b_aload_n 2 dL_law_909 rfl rfl ?_
          refine b_aload_n 0 dL_law_910 rfl rfl ?_
          refine b_iload_n 3 dL_law_911 rfl rfl ?_
          refine b_iconst (v := 1) dL_law_912 (by decide) ?_
          refine b_iadd dL_law_913 ?_
          refine b_xiald h.1 dL_law_914 ?_
          replace h := h.2
          refine b_aload_n 0 dL_law_915 rfl rfl ?_
          refine b_iload_n 3 dL_law_916 rfl rfl ?_
          refine b_iconst (v := 2) dL_law_917 (by decide) ?_
          refine b_iadd dL_law_918 ?_
          refine b_xiald h.1 dL_law_919 ?_
          replace h := h.2
          refine b_cvo (y := mX1_fuse) (ci := 1) (r := (RX1, TX1, 110)) (e := r2) (as := [.inl (M_115.1 r0.1 r0.2 ((x3 + 1)).toNatClampNeg), .inl (M_115.1 r0.1 r0.2 ((x3 + 2)).toNatClampNeg)]) (st := [.inl r_116]) (n := 2) rfl h.1 (Or.inl q2084) q2086 q2085 q73 q2087 zmh_fuse rfl (Nat.le_of_ble_eq_true rfl) (Nat.le_of_ble_eq_true rfl) dL_law_920 (cq.mono h.2 (fun _ M_117 h => ?_))
          obtain ⟨r_118, rfl, h⟩ := h
          show wq (d + 11) mL_law 923 [(0, .inr r0), (1, .inr r1), (2, .inr r2), (3, .inl x3)] [.inl r_118, .inl r_116] M_117 P
          refine b_icmp_eq (tgt := 1205) dL_law_923 (by decide) (fun c_120 => ?_) (fun c_120 => ?_)
          · replace h := h.1 c_120
            obtain ⟨x_119, ex_119⟩ : ∃ y : Int32, y = x3 + 8 := ⟨_, rfl⟩
            replace h := h x_119 ex_119
            refine b_iinc (v := x_119) (lv' := [(3, .inl x_119), (0, .inr r0), (1, .inr r1), (2, .inr r2)]) 3 dL_law_1205 rfl (by rw [ex_119]; rfl) (Nat.le_of_ble_eq_true rfl) rfl ?_
            refine b_goto (tgt := 18) dL_law_1208 (by decide) ?_
            exact b_sub (by simp) (ih r0 r1 r2 x_119 M_117 h)
          · replace h := h.2 c_120
            refine b_iconst (v := 0) dL_law_926 (by decide) ?_
            exact b_zret rfl (by decide) dL_law_927 (hP _ _ h)
        | 20, _, e =>
          replace h := h.2.2.2.2.2.2.2.2.2.2.2.2.2.2.2.2.2.2.2.2.1 e
          show wq (d + 11) mL_law 928 _ _ _ _
          refine b_aload_n 1 dL_law_928 rfl rfl ?_
          refine b_aload_n 0 dL_law_929 rfl rfl ?_
          refine b_iload_n 3 dL_law_930 rfl rfl ?_
          refine b_iconst (v := 1) dL_law_931 (by decide) ?_
          refine b_iadd dL_law_932 ?_
          refine b_xiald h.1 dL_law_933 ?_
          replace h := h.2
          refine b_aload_n 0 dL_law_934 rfl rfl ?_
          refine b_iload_n 3 dL_law_935 rfl rfl ?_
          refine b_iconst (v := 2) dL_law_936 (by decide) ?_
          refine b_iadd dL_law_937 ?_
          refine b_xiald h.1 dL_law_938 ?_
          replace h := h.2
          refine b_cvo (y := mX0_bulkhead) (ci := 0) (r := (RX0, TX0, 14)) (e := r1) (as := [.inl (M.1 r0.1 r0.2 ((x3 + 1)).toNatClampNeg), .inl (M.1 r0.1 r0.2 ((x3 + 2)).toNatClampNeg)]) (st := []) (n := 2) rfl h.1 (Or.inl q1469) q1471 q1470 q69 q1472 zmh_X0_bulkhead rfl (Nat.le_of_ble_eq_true rfl) (Nat.le_of_ble_eq_true rfl) dL_law_939 (cq.mono h.2 (fun _ M_121 h => ?_))
          obtain ⟨r_122, rfl, h⟩ := h
          show wq (d + 11) mL_law 942 [(0, .inr r0), (1, .inr r1), (2, .inr r2), (3, .inl x3)] [.inl r_122] M_121 P
          refine b_aload_n 2 dL_law_942 rfl rfl ?_
          refine b_aload_n 0 dL_law_943 rfl rfl ?_
          refine b_iload_n 3 dL_law_944 rfl rfl ?_
          refine b_iconst (v := 1) dL_law_945 (by decide) ?_
          refine b_iadd dL_law_946 ?_
          refine b_xiald h.1 dL_law_947 ?_
          replace h := h.2
          refine b_aload_n 0 dL_law_948 rfl rfl ?_
          refine b_iload_n 3 dL_law_949 rfl rfl ?_
          refine b_iconst (v := 2) dL_law_950 (by decide) ?_
          refine b_iadd dL_law_951 ?_
          refine b_xiald h.1 dL_law_952 ?_
          replace h := h.2
          refine b_cvo (y := mX1_bulkhead) (ci := 1) (r := (RX1, TX1, 110)) (e := r2) (as := [.inl (M_121.1 r0.1 r0.2 ((x3 + 1)).toNatClampNeg), .inl (M_121.1 r0.1 r0.2 ((x3 + 2)).toNatClampNeg)]) (st := [.inl r_122]) (n := 2) rfl h.1 (Or.inl q2088) q2090 q2089 q73 q2091 zmh_bulkhead rfl (Nat.le_of_ble_eq_true rfl) (Nat.le_of_ble_eq_true rfl) dL_law_953 (cq.mono h.2 (fun _ M_123 h => ?_))
          obtain ⟨r_124, rfl, h⟩ := h
          show wq (d + 11) mL_law 956 [(0, .inr r0), (1, .inr r1), (2, .inr r2), (3, .inl x3)] [.inl r_124, .inl r_122] M_123 P
          refine b_icmp_eq (tgt := 1205) dL_law_956 (by decide) (fun c_126 => ?_) (fun c_126 => ?_)
          · replace h := h.1 c_126
            obtain ⟨x_125, ex_125⟩ : ∃ y : Int32, y = x3 + 8 := ⟨_, rfl⟩
            replace h := h x_125 ex_125
            refine b_iinc (v := x_125) (lv' := [(3, .inl x_125), (0, .inr r0), (1, .inr r1), (2, .inr r2)]) 3 dL_law_1205 rfl (by rw [ex_125]; rfl) (Nat.le_of_ble_eq_true rfl) rfl ?_
            refine b_goto (tgt := 18) dL_law_1208 (by decide) ?_
            exact b_sub (by simp) (ih r0 r1 r2 x_125 M_123 h)
          · replace h := h.2 c_126
            refine b_iconst (v := 0) dL_law_959 (by decide) ?_
            exact b_zret rfl (by decide) dL_law_960 (hP _ _ h)
        | 21, _, e =>
          replace h := h.2.2.2.2.2.2.2.2.2.2.2.2.2.2.2.2.2.2.2.2.2.1 e
          show wq (d + 11) mL_law 961 _ _ _ _
          refine b_aload_n 1 dL_law_961 rfl rfl ?_
          refine b_aload_n 0 dL_law_962 rfl rfl ?_
          refine b_iload_n 3 dL_law_963 rfl rfl ?_
          refine b_iconst (v := 1) dL_law_964 (by decide) ?_
          refine b_iadd dL_law_965 ?_
          refine b_xiald h.1 dL_law_966 ?_
          replace h := h.2
          refine b_aload_n 0 dL_law_967 rfl rfl ?_
          refine b_iload_n 3 dL_law_968 rfl rfl ?_
          refine b_iconst (v := 2) dL_law_969 (by decide) ?_
          refine b_iadd dL_law_970 ?_
          refine b_xiald h.1 dL_law_971 ?_
          replace h := h.2
          refine b_cvo (y := mX0_waiting) (ci := 0) (r := (RX0, TX0, 14)) (e := r1) (as := [.inl (M.1 r0.1 r0.2 ((x3 + 1)).toNatClampNeg), .inl (M.1 r0.1 r0.2 ((x3 + 2)).toNatClampNeg)]) (st := []) (n := 2) rfl h.1 (Or.inl q1473) q1475 q1474 q69 q1476 zmh_X0_waiting rfl (Nat.le_of_ble_eq_true rfl) (Nat.le_of_ble_eq_true rfl) dL_law_972 (cq.mono h.2 (fun _ M_127 h => ?_))
          obtain ⟨r_128, rfl, h⟩ := h
          show wq (d + 11) mL_law 975 [(0, .inr r0), (1, .inr r1), (2, .inr r2), (3, .inl x3)] [.inl r_128] M_127 P
          refine b_aload_n 2 dL_law_975 rfl rfl ?_
          refine b_aload_n 0 dL_law_976 rfl rfl ?_
          refine b_iload_n 3 dL_law_977 rfl rfl ?_
          refine b_iconst (v := 1) dL_law_978 (by decide) ?_
          refine b_iadd dL_law_979 ?_
          refine b_xiald h.1 dL_law_980 ?_
          replace h := h.2
          refine b_aload_n 0 dL_law_981 rfl rfl ?_
          refine b_iload_n 3 dL_law_982 rfl rfl ?_
          refine b_iconst (v := 2) dL_law_983 (by decide) ?_
          refine b_iadd dL_law_984 ?_
          refine b_xiald h.1 dL_law_985 ?_
          replace h := h.2
          refine b_cvo (y := mX1_waiting) (ci := 1) (r := (RX1, TX1, 110)) (e := r2) (as := [.inl (M_127.1 r0.1 r0.2 ((x3 + 1)).toNatClampNeg), .inl (M_127.1 r0.1 r0.2 ((x3 + 2)).toNatClampNeg)]) (st := [.inl r_128]) (n := 2) rfl h.1 (Or.inl q2092) q2094 q2093 q73 q2095 zmh_waiting rfl (Nat.le_of_ble_eq_true rfl) (Nat.le_of_ble_eq_true rfl) dL_law_986 (cq.mono h.2 (fun _ M_129 h => ?_))
          obtain ⟨r_130, rfl, h⟩ := h
          show wq (d + 11) mL_law 989 [(0, .inr r0), (1, .inr r1), (2, .inr r2), (3, .inl x3)] [.inl r_130, .inl r_128] M_129 P
          refine b_icmp_eq (tgt := 1205) dL_law_989 (by decide) (fun c_132 => ?_) (fun c_132 => ?_)
          · replace h := h.1 c_132
            obtain ⟨x_131, ex_131⟩ : ∃ y : Int32, y = x3 + 8 := ⟨_, rfl⟩
            replace h := h x_131 ex_131
            refine b_iinc (v := x_131) (lv' := [(3, .inl x_131), (0, .inr r0), (1, .inr r1), (2, .inr r2)]) 3 dL_law_1205 rfl (by rw [ex_131]; rfl) (Nat.le_of_ble_eq_true rfl) rfl ?_
            refine b_goto (tgt := 18) dL_law_1208 (by decide) ?_
            exact b_sub (by simp) (ih r0 r1 r2 x_131 M_129 h)
          · replace h := h.2 c_132
            refine b_iconst (v := 0) dL_law_992 (by decide) ?_
            exact b_zret rfl (by decide) dL_law_993 (hP _ _ h)
        | 22, _, e =>
          replace h := h.2.2.2.2.2.2.2.2.2.2.2.2.2.2.2.2.2.2.2.2.2.2.1 e
          show wq (d + 11) mL_law 994 _ _ _ _
          refine b_aload_n 1 dL_law_994 rfl rfl ?_
          refine b_aload_n 0 dL_law_995 rfl rfl ?_
          refine b_iload_n 3 dL_law_996 rfl rfl ?_
          refine b_iconst (v := 1) dL_law_997 (by decide) ?_
          refine b_iadd dL_law_998 ?_
          refine b_xiald h.1 dL_law_999 ?_
          replace h := h.2
          refine b_cvo (y := mX0_tokens) (ci := 0) (r := (RX0, TX0, 14)) (e := r1) (as := [.inl (M.1 r0.1 r0.2 ((x3 + 1)).toNatClampNeg)]) (st := []) (n := 1) rfl h.1 (Or.inl q1477) q1479 q1478 q69 q1480 zmh_X0_tokens rfl (Nat.le_of_ble_eq_true rfl) (Nat.le_of_ble_eq_true rfl) dL_law_1000 (cq.mono h.2 (fun _ M_133 h => ?_))
          obtain ⟨r_134, rfl, h⟩ := h
          show wq (d + 11) mL_law 1003 [(0, .inr r0), (1, .inr r1), (2, .inr r2), (3, .inl x3)] [.inl r_134] M_133 P
          refine b_aload_n 2 dL_law_1003 rfl rfl ?_
          refine b_aload_n 0 dL_law_1004 rfl rfl ?_
          refine b_iload_n 3 dL_law_1005 rfl rfl ?_
          refine b_iconst (v := 1) dL_law_1006 (by decide) ?_
          refine b_iadd dL_law_1007 ?_
          refine b_xiald h.1 dL_law_1008 ?_
          replace h := h.2
          refine b_cvo (y := mX1_tokens) (ci := 1) (r := (RX1, TX1, 110)) (e := r2) (as := [.inl (M_133.1 r0.1 r0.2 ((x3 + 1)).toNatClampNeg)]) (st := [.inl r_134]) (n := 1) rfl h.1 (Or.inl q2096) q2098 q2097 q73 q2099 zmh_tokens rfl (Nat.le_of_ble_eq_true rfl) (Nat.le_of_ble_eq_true rfl) dL_law_1009 (cq.mono h.2 (fun _ M_135 h => ?_))
          obtain ⟨r_136, rfl, h⟩ := h
          show wq (d + 11) mL_law 1012 [(0, .inr r0), (1, .inr r1), (2, .inr r2), (3, .inl x3)] [.inl r_136, .inl r_134] M_135 P
          refine b_icmp_eq (tgt := 1205) dL_law_1012 (by decide) (fun c_138 => ?_) (fun c_138 => ?_)
          · replace h := h.1 c_138
            obtain ⟨x_137, ex_137⟩ : ∃ y : Int32, y = x3 + 8 := ⟨_, rfl⟩
            replace h := h x_137 ex_137
            refine b_iinc (v := x_137) (lv' := [(3, .inl x_137), (0, .inr r0), (1, .inr r1), (2, .inr r2)]) 3 dL_law_1205 rfl (by rw [ex_137]; rfl) (Nat.le_of_ble_eq_true rfl) rfl ?_
            refine b_goto (tgt := 18) dL_law_1208 (by decide) ?_
            exact b_sub (by simp) (ih r0 r1 r2 x_137 M_135 h)
          · replace h := h.2 c_138
            refine b_iconst (v := 0) dL_law_1015 (by decide) ?_
            exact b_zret rfl (by decide) dL_law_1016 (hP _ _ h)
        | 23, _, e =>
          replace h := h.2.2.2.2.2.2.2.2.2.2.2.2.2.2.2.2.2.2.2.2.2.2.2.1 e
          show wq (d + 11) mL_law 1017 _ _ _ _
          refine b_aload_n 1 dL_law_1017 rfl rfl ?_
          refine b_aload_n 0 dL_law_1018 rfl rfl ?_
          refine b_iload_n 3 dL_law_1019 rfl rfl ?_
          refine b_iconst (v := 1) dL_law_1020 (by decide) ?_
          refine b_iadd dL_law_1021 ?_
          refine b_xiald h.1 dL_law_1022 ?_
          replace h := h.2
          refine b_aload_n 0 dL_law_1023 rfl rfl ?_
          refine b_iload_n 3 dL_law_1024 rfl rfl ?_
          refine b_iconst (v := 2) dL_law_1025 (by decide) ?_
          refine b_iadd dL_law_1026 ?_
          refine b_xiald h.1 dL_law_1027 ?_
          replace h := h.2
          refine b_aload_n 0 dL_law_1028 rfl rfl ?_
          refine b_iload_n 3 dL_law_1029 rfl rfl ?_
          refine b_iconst (v := 3) dL_law_1030 (by decide) ?_
          refine b_iadd dL_law_1031 ?_
          refine b_xiald h.1 dL_law_1032 ?_
          replace h := h.2
          refine b_cvo (y := mX0_kept) (ci := 0) (r := (RX0, TX0, 14)) (e := r1) (as := [.inl (M.1 r0.1 r0.2 ((x3 + 1)).toNatClampNeg), .inl (M.1 r0.1 r0.2 ((x3 + 2)).toNatClampNeg), .inl (M.1 r0.1 r0.2 ((x3 + 3)).toNatClampNeg)]) (st := []) (n := 3) rfl h.1 (Or.inl q1481) q1483 q1482 q69 q1484 zmh_X0_kept rfl (Nat.le_of_ble_eq_true rfl) (Nat.le_of_ble_eq_true rfl) dL_law_1033 (cq.mono h.2 (fun _ M_139 h => ?_))
          obtain ⟨r_140, rfl, h⟩ := h
          show wq (d + 11) mL_law 1036 [(0, .inr r0), (1, .inr r1), (2, .inr r2), (3, .inl x3)] [.inl r_140] M_139 P
          refine b_aload_n 2 dL_law_1036 rfl rfl ?_
          refine b_aload_n 0 dL_law_1037 rfl rfl ?_
          refine b_iload_n 3 dL_law_1038 rfl rfl ?_
          refine b_iconst (v := 1) dL_law_1039 (by decide) ?_
          refine b_iadd dL_law_1040 ?_
          refine b_xiald h.1 dL_law_1041 ?_
          replace h := h.2
          refine b_aload_n 0 dL_law_1042 rfl rfl ?_
          refine b_iload_n 3 dL_law_1043 rfl rfl ?_
          refine b_iconst (v := 2) dL_law_1044 (by decide) ?_
          refine b_iadd dL_law_1045 ?_
          refine b_xiald h.1 dL_law_1046 ?_
          replace h := h.2
          refine b_aload_n 0 dL_law_1047 rfl rfl ?_
          refine b_iload_n 3 dL_law_1048 rfl rfl ?_
          refine b_iconst (v := 3) dL_law_1049 (by decide) ?_
          refine b_iadd dL_law_1050 ?_
          refine b_xiald h.1 dL_law_1051 ?_
          replace h := h.2
          refine b_cvo (y := mX1_kept) (ci := 1) (r := (RX1, TX1, 110)) (e := r2) (as := [.inl (M_139.1 r0.1 r0.2 ((x3 + 1)).toNatClampNeg), .inl (M_139.1 r0.1 r0.2 ((x3 + 2)).toNatClampNeg), .inl (M_139.1 r0.1 r0.2 ((x3 + 3)).toNatClampNeg)]) (st := [.inl r_140]) (n := 3) rfl h.1 (Or.inl q2100) q2102 q2101 q73 q2103 zmh_kept rfl (Nat.le_of_ble_eq_true rfl) (Nat.le_of_ble_eq_true rfl) dL_law_1052 (cq.mono h.2 (fun _ M_141 h => ?_))
          obtain ⟨r_142, rfl, h⟩ := h
          show wq (d + 11) mL_law 1055 [(0, .inr r0), (1, .inr r1), (2, .inr r2), (3, .inl x3)] [.inl r_142, .inl r_140] M_141 P
          refine b_icmp_eq (tgt := 1205) dL_law_1055 (by decide) (fun c_144 => ?_) (fun c_144 => ?_)
          · replace h := h.1 c_144
            obtain ⟨x_143, ex_143⟩ : ∃ y : Int32, y = x3 + 8 := ⟨_, rfl⟩
            replace h := h x_143 ex_143
            refine b_iinc (v := x_143) (lv' := [(3, .inl x_143), (0, .inr r0), (1, .inr r1), (2, .inr r2)]) 3 dL_law_1205 rfl (by rw [ex_143]; rfl) (Nat.le_of_ble_eq_true rfl) rfl ?_
            refine b_goto (tgt := 18) dL_law_1208 (by decide) ?_
            exact b_sub (by simp) (ih r0 r1 r2 x_143 M_141 h)
          · replace h := h.2 c_144
            refine b_iconst (v := 0) dL_law_1058 (by decide) ?_
            exact b_zret rfl (by decide) dL_law_1059 (hP _ _ h)
        | 24, _, e =>
          replace h := h.2.2.2.2.2.2.2.2.2.2.2.2.2.2.2.2.2.2.2.2.2.2.2.2.1 e
          show wq (d + 11) mL_law 1060 _ _ _ _
          refine b_aload_n 1 dL_law_1060 rfl rfl ?_
          refine b_aload_n 0 dL_law_1061 rfl rfl ?_
          refine b_iload_n 3 dL_law_1062 rfl rfl ?_
          refine b_iconst (v := 1) dL_law_1063 (by decide) ?_
          refine b_iadd dL_law_1064 ?_
          refine b_xiald h.1 dL_law_1065 ?_
          replace h := h.2
          refine b_aload_n 0 dL_law_1066 rfl rfl ?_
          refine b_iload_n 3 dL_law_1067 rfl rfl ?_
          refine b_iconst (v := 2) dL_law_1068 (by decide) ?_
          refine b_iadd dL_law_1069 ?_
          refine b_xiald h.1 dL_law_1070 ?_
          replace h := h.2
          refine b_cvo (y := mX0_joined) (ci := 0) (r := (RX0, TX0, 14)) (e := r1) (as := [.inl (M.1 r0.1 r0.2 ((x3 + 1)).toNatClampNeg), .inl (M.1 r0.1 r0.2 ((x3 + 2)).toNatClampNeg)]) (st := []) (n := 2) rfl h.1 (Or.inl q1485) q1487 q1486 q69 q1488 zmh_X0_joined rfl (Nat.le_of_ble_eq_true rfl) (Nat.le_of_ble_eq_true rfl) dL_law_1071 (cq.mono h.2 (fun _ M_145 h => ?_))
          obtain ⟨r_146, rfl, h⟩ := h
          show wq (d + 11) mL_law 1074 [(0, .inr r0), (1, .inr r1), (2, .inr r2), (3, .inl x3)] [.inl r_146] M_145 P
          refine b_aload_n 2 dL_law_1074 rfl rfl ?_
          refine b_aload_n 0 dL_law_1075 rfl rfl ?_
          refine b_iload_n 3 dL_law_1076 rfl rfl ?_
          refine b_iconst (v := 1) dL_law_1077 (by decide) ?_
          refine b_iadd dL_law_1078 ?_
          refine b_xiald h.1 dL_law_1079 ?_
          replace h := h.2
          refine b_aload_n 0 dL_law_1080 rfl rfl ?_
          refine b_iload_n 3 dL_law_1081 rfl rfl ?_
          refine b_iconst (v := 2) dL_law_1082 (by decide) ?_
          refine b_iadd dL_law_1083 ?_
          refine b_xiald h.1 dL_law_1084 ?_
          replace h := h.2
          refine b_cvo (y := mX1_joined) (ci := 1) (r := (RX1, TX1, 110)) (e := r2) (as := [.inl (M_145.1 r0.1 r0.2 ((x3 + 1)).toNatClampNeg), .inl (M_145.1 r0.1 r0.2 ((x3 + 2)).toNatClampNeg)]) (st := [.inl r_146]) (n := 2) rfl h.1 (Or.inl q2104) q2106 q2105 q73 q2107 zmh_joined rfl (Nat.le_of_ble_eq_true rfl) (Nat.le_of_ble_eq_true rfl) dL_law_1085 (cq.mono h.2 (fun _ M_147 h => ?_))
          obtain ⟨r_148, rfl, h⟩ := h
          show wq (d + 11) mL_law 1088 [(0, .inr r0), (1, .inr r1), (2, .inr r2), (3, .inl x3)] [.inl r_148, .inl r_146] M_147 P
          refine b_icmp_eq (tgt := 1205) dL_law_1088 (by decide) (fun c_150 => ?_) (fun c_150 => ?_)
          · replace h := h.1 c_150
            obtain ⟨x_149, ex_149⟩ : ∃ y : Int32, y = x3 + 8 := ⟨_, rfl⟩
            replace h := h x_149 ex_149
            refine b_iinc (v := x_149) (lv' := [(3, .inl x_149), (0, .inr r0), (1, .inr r1), (2, .inr r2)]) 3 dL_law_1205 rfl (by rw [ex_149]; rfl) (Nat.le_of_ble_eq_true rfl) rfl ?_
            refine b_goto (tgt := 18) dL_law_1208 (by decide) ?_
            exact b_sub (by simp) (ih r0 r1 r2 x_149 M_147 h)
          · replace h := h.2 c_150
            refine b_iconst (v := 0) dL_law_1091 (by decide) ?_
            exact b_zret rfl (by decide) dL_law_1092 (hP _ _ h)
        | 25, _, e =>
          replace h := h.2.2.2.2.2.2.2.2.2.2.2.2.2.2.2.2.2.2.2.2.2.2.2.2.2.1 e
          show wq (d + 11) mL_law 1093 _ _ _ _
          refine b_aload_n 1 dL_law_1093 rfl rfl ?_
          refine b_aload_n 0 dL_law_1094 rfl rfl ?_
          refine b_iload_n 3 dL_law_1095 rfl rfl ?_
          refine b_iconst (v := 1) dL_law_1096 (by decide) ?_
          refine b_iadd dL_law_1097 ?_
          refine b_xiald h.1 dL_law_1098 ?_
          replace h := h.2
          refine b_cvo (y := mX0_level) (ci := 0) (r := (RX0, TX0, 14)) (e := r1) (as := [.inl (M.1 r0.1 r0.2 ((x3 + 1)).toNatClampNeg)]) (st := []) (n := 1) rfl h.1 (Or.inl q1489) q1491 q1490 q69 q1492 zmh_X0_level rfl (Nat.le_of_ble_eq_true rfl) (Nat.le_of_ble_eq_true rfl) dL_law_1099 (cq.mono h.2 (fun _ M_151 h => ?_))
          obtain ⟨r_152, rfl, h⟩ := h
          show wq (d + 11) mL_law 1102 [(0, .inr r0), (1, .inr r1), (2, .inr r2), (3, .inl x3)] [.inl r_152] M_151 P
          refine b_aload_n 2 dL_law_1102 rfl rfl ?_
          refine b_aload_n 0 dL_law_1103 rfl rfl ?_
          refine b_iload_n 3 dL_law_1104 rfl rfl ?_
          refine b_iconst (v := 1) dL_law_1105 (by decide) ?_
          refine b_iadd dL_law_1106 ?_
          refine b_xiald h.1 dL_law_1107 ?_
          replace h := h.2
          refine b_cvo (y := mX1_level) (ci := 1) (r := (RX1, TX1, 110)) (e := r2) (as := [.inl (M_151.1 r0.1 r0.2 ((x3 + 1)).toNatClampNeg)]) (st := [.inl r_152]) (n := 1) rfl h.1 (Or.inl q2108) q2110 q2109 q73 q2111 zmh_level rfl (Nat.le_of_ble_eq_true rfl) (Nat.le_of_ble_eq_true rfl) dL_law_1108 (cq.mono h.2 (fun _ M_153 h => ?_))
          obtain ⟨r_154, rfl, h⟩ := h
          show wq (d + 11) mL_law 1111 [(0, .inr r0), (1, .inr r1), (2, .inr r2), (3, .inl x3)] [.inl r_154, .inl r_152] M_153 P
          refine b_icmp_eq (tgt := 1205) dL_law_1111 (by decide) (fun c_156 => ?_) (fun c_156 => ?_)
          · replace h := h.1 c_156
            obtain ⟨x_155, ex_155⟩ : ∃ y : Int32, y = x3 + 8 := ⟨_, rfl⟩
            replace h := h x_155 ex_155
            refine b_iinc (v := x_155) (lv' := [(3, .inl x_155), (0, .inr r0), (1, .inr r1), (2, .inr r2)]) 3 dL_law_1205 rfl (by rw [ex_155]; rfl) (Nat.le_of_ble_eq_true rfl) rfl ?_
            refine b_goto (tgt := 18) dL_law_1208 (by decide) ?_
            exact b_sub (by simp) (ih r0 r1 r2 x_155 M_153 h)
          · replace h := h.2 c_156
            refine b_iconst (v := 0) dL_law_1114 (by decide) ?_
            exact b_zret rfl (by decide) dL_law_1115 (hP _ _ h)
        | 26, _, e =>
          replace h := h.2.2.2.2.2.2.2.2.2.2.2.2.2.2.2.2.2.2.2.2.2.2.2.2.2.2.1 e
          show wq (d + 11) mL_law 1116 _ _ _ _
          refine b_aload_n 1 dL_law_1116 rfl rfl ?_
          refine b_aload_n 0 dL_law_1117 rfl rfl ?_
          refine b_iload_n 3 dL_law_1118 rfl rfl ?_
          refine b_iconst (v := 1) dL_law_1119 (by decide) ?_
          refine b_iadd dL_law_1120 ?_
          refine b_xiald h.1 dL_law_1121 ?_
          replace h := h.2
          refine b_aload_n 0 dL_law_1122 rfl rfl ?_
          refine b_iload_n 3 dL_law_1123 rfl rfl ?_
          refine b_iconst (v := 2) dL_law_1124 (by decide) ?_
          refine b_iadd dL_law_1125 ?_
          refine b_xiald h.1 dL_law_1126 ?_
          replace h := h.2
          refine b_cvo (y := mX0_effect) (ci := 0) (r := (RX0, TX0, 14)) (e := r1) (as := [.inl (M.1 r0.1 r0.2 ((x3 + 1)).toNatClampNeg), .inl (M.1 r0.1 r0.2 ((x3 + 2)).toNatClampNeg)]) (st := []) (n := 2) rfl h.1 (Or.inl q1493) q1495 q1494 q69 q1496 zmh_X0_effect rfl (Nat.le_of_ble_eq_true rfl) (Nat.le_of_ble_eq_true rfl) dL_law_1127 (cq.mono h.2 (fun _ M_157 h => ?_))
          obtain ⟨r_158, rfl, h⟩ := h
          show wq (d + 11) mL_law 1130 [(0, .inr r0), (1, .inr r1), (2, .inr r2), (3, .inl x3)] [.inl r_158] M_157 P
          refine b_aload_n 2 dL_law_1130 rfl rfl ?_
          refine b_aload_n 0 dL_law_1131 rfl rfl ?_
          refine b_iload_n 3 dL_law_1132 rfl rfl ?_
          refine b_iconst (v := 1) dL_law_1133 (by decide) ?_
          refine b_iadd dL_law_1134 ?_
          refine b_xiald h.1 dL_law_1135 ?_
          replace h := h.2
          refine b_aload_n 0 dL_law_1136 rfl rfl ?_
          refine b_iload_n 3 dL_law_1137 rfl rfl ?_
          refine b_iconst (v := 2) dL_law_1138 (by decide) ?_
          refine b_iadd dL_law_1139 ?_
          refine b_xiald h.1 dL_law_1140 ?_
          replace h := h.2
          refine b_cvo (y := mX1_effect) (ci := 1) (r := (RX1, TX1, 110)) (e := r2) (as := [.inl (M_157.1 r0.1 r0.2 ((x3 + 1)).toNatClampNeg), .inl (M_157.1 r0.1 r0.2 ((x3 + 2)).toNatClampNeg)]) (st := [.inl r_158]) (n := 2) rfl h.1 (Or.inl q2112) q2114 q2113 q73 q2115 zmh_effect rfl (Nat.le_of_ble_eq_true rfl) (Nat.le_of_ble_eq_true rfl) dL_law_1141 (cq.mono h.2 (fun _ M_159 h => ?_))
          obtain ⟨r_160, rfl, h⟩ := h
          show wq (d + 11) mL_law 1144 [(0, .inr r0), (1, .inr r1), (2, .inr r2), (3, .inl x3)] [.inl r_160, .inl r_158] M_159 P
          refine b_icmp_eq (tgt := 1205) dL_law_1144 (by decide) (fun c_162 => ?_) (fun c_162 => ?_)
          · replace h := h.1 c_162
            obtain ⟨x_161, ex_161⟩ : ∃ y : Int32, y = x3 + 8 := ⟨_, rfl⟩
            replace h := h x_161 ex_161
            refine b_iinc (v := x_161) (lv' := [(3, .inl x_161), (0, .inr r0), (1, .inr r1), (2, .inr r2)]) 3 dL_law_1205 rfl (by rw [ex_161]; rfl) (Nat.le_of_ble_eq_true rfl) rfl ?_
            refine b_goto (tgt := 18) dL_law_1208 (by decide) ?_
            exact b_sub (by simp) (ih r0 r1 r2 x_161 M_159 h)
          · replace h := h.2 c_162
            refine b_iconst (v := 0) dL_law_1147 (by decide) ?_
            exact b_zret rfl (by decide) dL_law_1148 (hP _ _ h)
        | 27, _, e =>
          replace h := h.2.2.2.2.2.2.2.2.2.2.2.2.2.2.2.2.2.2.2.2.2.2.2.2.2.2.2.1 e
          show wq (d + 11) mL_law 1149 _ _ _ _
          refine b_aload_n 1 dL_law_1149 rfl rfl ?_
          refine b_aload_n 0 dL_law_1150 rfl rfl ?_
          refine b_iload_n 3 dL_law_1151 rfl rfl ?_
          refine b_iconst (v := 1) dL_law_1152 (by decide) ?_
          refine b_iadd dL_law_1153 ?_
          refine b_xiald h.1 dL_law_1154 ?_
          replace h := h.2
          refine b_aload_n 0 dL_law_1155 rfl rfl ?_
          refine b_iload_n 3 dL_law_1156 rfl rfl ?_
          refine b_iconst (v := 2) dL_law_1157 (by decide) ?_
          refine b_iadd dL_law_1158 ?_
          refine b_xiald h.1 dL_law_1159 ?_
          replace h := h.2
          refine b_cvo (y := mX0_isOf) (ci := 0) (r := (RX0, TX0, 14)) (e := r1) (as := [.inl (M.1 r0.1 r0.2 ((x3 + 1)).toNatClampNeg), .inl (M.1 r0.1 r0.2 ((x3 + 2)).toNatClampNeg)]) (st := []) (n := 2) rfl h.1 (Or.inl q1497) q1499 q1498 q69 q1500 zmh_X0_isOf rfl (Nat.le_of_ble_eq_true rfl) (Nat.le_of_ble_eq_true rfl) dL_law_1160 (cq.mono h.2 (fun _ M_163 h => ?_))
          obtain ⟨r_164, rfl, h⟩ := h
          show wq (d + 11) mL_law 1163 [(0, .inr r0), (1, .inr r1), (2, .inr r2), (3, .inl x3)] [.inl r_164] M_163 P
          refine b_aload_n 2 dL_law_1163 rfl rfl ?_
          refine b_aload_n 0 dL_law_1164 rfl rfl ?_
          refine b_iload_n 3 dL_law_1165 rfl rfl ?_
          refine b_iconst (v := 1) dL_law_1166 (by decide) ?_
          refine b_iadd dL_law_1167 ?_
          refine b_xiald h.1 dL_law_1168 ?_
          replace h := h.2
          refine b_aload_n 0 dL_law_1169 rfl rfl ?_
          refine b_iload_n 3 dL_law_1170 rfl rfl ?_
          refine b_iconst (v := 2) dL_law_1171 (by decide) ?_
          refine b_iadd dL_law_1172 ?_
          refine b_xiald h.1 dL_law_1173 ?_
          replace h := h.2
          refine b_cvo (y := mX1_isOf) (ci := 1) (r := (RX1, TX1, 110)) (e := r2) (as := [.inl (M_163.1 r0.1 r0.2 ((x3 + 1)).toNatClampNeg), .inl (M_163.1 r0.1 r0.2 ((x3 + 2)).toNatClampNeg)]) (st := [.inl r_164]) (n := 2) rfl h.1 (Or.inl q1864) q1866 q1865 q73 q1867 zmh_isOf rfl (Nat.le_of_ble_eq_true rfl) (Nat.le_of_ble_eq_true rfl) dL_law_1174 (cq.mono h.2 (fun _ M_165 h => ?_))
          obtain ⟨r_166, rfl, h⟩ := h
          show wq (d + 11) mL_law 1177 [(0, .inr r0), (1, .inr r1), (2, .inr r2), (3, .inl x3)] [.inl r_166, .inl r_164] M_165 P
          refine b_icmp_eq (tgt := 1205) dL_law_1177 (by decide) (fun c_168 => ?_) (fun c_168 => ?_)
          · replace h := h.1 c_168
            obtain ⟨x_167, ex_167⟩ : ∃ y : Int32, y = x3 + 8 := ⟨_, rfl⟩
            replace h := h x_167 ex_167
            refine b_iinc (v := x_167) (lv' := [(3, .inl x_167), (0, .inr r0), (1, .inr r1), (2, .inr r2)]) 3 dL_law_1205 rfl (by rw [ex_167]; rfl) (Nat.le_of_ble_eq_true rfl) rfl ?_
            refine b_goto (tgt := 18) dL_law_1208 (by decide) ?_
            exact b_sub (by simp) (ih r0 r1 r2 x_167 M_165 h)
          · replace h := h.2 c_168
            refine b_iconst (v := 0) dL_law_1180 (by decide) ?_
            exact b_zret rfl (by decide) dL_law_1181 (hP _ _ h)
        | 28, _, e =>
          replace h := h.2.2.2.2.2.2.2.2.2.2.2.2.2.2.2.2.2.2.2.2.2.2.2.2.2.2.2.2.1 e
          show wq (d + 11) mL_law 1182 _ _ _ _
          refine b_aload_n 1 dL_law_1182 rfl rfl ?_
          refine b_aload_n 0 dL_law_1183 rfl rfl ?_
          refine b_iload_n 3 dL_law_1184 rfl rfl ?_
          refine b_iconst (v := 1) dL_law_1185 (by decide) ?_
          refine b_iadd dL_law_1186 ?_
          refine b_xiald h.1 dL_law_1187 ?_
          replace h := h.2
          refine b_cvo (y := mX0_count) (ci := 0) (r := (RX0, TX0, 14)) (e := r1) (as := [.inl (M.1 r0.1 r0.2 ((x3 + 1)).toNatClampNeg)]) (st := []) (n := 1) rfl h.1 (Or.inl q1502) q1504 q1503 q69 q1505 zmh_X0_count rfl (Nat.le_of_ble_eq_true rfl) (Nat.le_of_ble_eq_true rfl) dL_law_1188 (cq.mono h.2 (fun _ M_169 h => ?_))
          obtain ⟨r_170, rfl, h⟩ := h
          show wq (d + 11) mL_law 1191 [(0, .inr r0), (1, .inr r1), (2, .inr r2), (3, .inl x3)] [.inl r_170] M_169 P
          refine b_aload_n 2 dL_law_1191 rfl rfl ?_
          refine b_aload_n 0 dL_law_1192 rfl rfl ?_
          refine b_iload_n 3 dL_law_1193 rfl rfl ?_
          refine b_iconst (v := 1) dL_law_1194 (by decide) ?_
          refine b_iadd dL_law_1195 ?_
          refine b_xiald h.1 dL_law_1196 ?_
          replace h := h.2
          refine b_cvo (y := mX1_count) (ci := 1) (r := (RX1, TX1, 110)) (e := r2) (as := [.inl (M_169.1 r0.1 r0.2 ((x3 + 1)).toNatClampNeg)]) (st := [.inl r_170]) (n := 1) rfl h.1 (Or.inl q2116) q2118 q2117 q73 q2119 zmh_count rfl (Nat.le_of_ble_eq_true rfl) (Nat.le_of_ble_eq_true rfl) dL_law_1197 (cq.mono h.2 (fun _ M_171 h => ?_))
          obtain ⟨r_172, rfl, h⟩ := h
          show wq (d + 11) mL_law 1200 [(0, .inr r0), (1, .inr r1), (2, .inr r2), (3, .inl x3)] [.inl r_172, .inl r_170] M_171 P
          refine b_icmp_eq (tgt := 1205) dL_law_1200 (by decide) (fun c_174 => ?_) (fun c_174 => ?_)
          · replace h := h.1 c_174
            obtain ⟨x_173, ex_173⟩ : ∃ y : Int32, y = x3 + 8 := ⟨_, rfl⟩
            replace h := h x_173 ex_173
            refine b_iinc (v := x_173) (lv' := [(3, .inl x_173), (0, .inr r0), (1, .inr r1), (2, .inr r2)]) 3 dL_law_1205 rfl (by rw [ex_173]; rfl) (Nat.le_of_ble_eq_true rfl) rfl ?_
            refine b_goto (tgt := 18) dL_law_1208 (by decide) ?_
            exact b_sub (by simp) (ih r0 r1 r2 x_173 M_171 h)
          · replace h := h.2 c_174
            refine b_iconst (v := 0) dL_law_1203 (by decide) ?_
            exact b_zret rfl (by decide) dL_law_1204 (hP _ _ h)
        | j + 29, hj, _ => exact absurd hj (by omega)
      · replace h := h.2.2.2.2.2.2.2.2.2.2.2.2.2.2.2.2.2.2.2.2.2.2.2.2.2.2.2.2.2 (e 0 (by decide)) (e 1 (by decide)) (e 2 (by decide)) (e 3 (by decide)) (e 4 (by decide)) (e 5 (by decide)) (e 6 (by decide)) (e 7 (by decide)) (e 8 (by decide)) (e 9 (by decide)) (e 10 (by decide)) (e 11 (by decide)) (e 12 (by decide)) (e 13 (by decide)) (e 14 (by decide)) (e 15 (by decide)) (e 16 (by decide)) (e 17 (by decide)) (e 18 (by decide)) (e 19 (by decide)) (e 20 (by decide)) (e 21 (by decide)) (e 22 (by decide)) (e 23 (by decide)) (e 24 (by decide)) (e 25 (by decide)) (e 26 (by decide)) (e 27 (by decide)) (e 28 (by decide))
        obtain ⟨x_175, ex_175⟩ : ∃ y : Int32, y = x3 + 8 := ⟨_, rfl⟩
        replace h := h x_175 ex_175
        refine b_iinc (v := x_175) (lv' := [(3, .inl x_175), (0, .inr r0), (1, .inr r1), (2, .inr r2)]) 3 dL_law_1205 rfl (by rw [ex_175]; rfl) (Nat.le_of_ble_eq_true rfl) rfl ?_
        refine b_goto (tgt := 18) dL_law_1208 (by decide) ?_
        exact b_sub (by simp) (ih r0 r1 r2 x_175 M h)
def v_L_law (d : Nat) (r0 : Nat × Nat) (M : Mem) (Q : Int32 → Mem → Prop) : Prop := rom M 14 ∧ (∃ i_1 : Nat, M.2.2.1 1 i_1 = 0 ∧ ∀ M_2 : Mem, M_2 = sN M 1 i_1 0 14 → (¬ 1 = 0 ∧ (cq (d + 10) mX0_init [.inr (1, i_1)] M_2 (fun r_ M_3 => r_ = none ∧ (rom M_3 110 ∧ (∃ i_5 : Nat, M_3.2.2.1 2 i_5 = 0 ∧ ∀ M_6 : Mem, M_6 = sN M_3 2 i_5 0 110 → (¬ 2 = 0 ∧ (cq (d + 10) mX1_init [.inr (2, i_5)] M_6 (fun r_ M_7 => r_ = none ∧ (∃ n_, v_L_law_18 d n_ r0 (1, i_1) (2, i_5) 0 M_7 Q))))))))))
set_option maxHeartbeats 4000000 in
theorem sv_L_law {d : Nat} {M : Mem} {P : Option AV → Mem → Prop} {Q : Int32 → Mem → Prop} {r0 : Nat × Nat} (hP : ∀ r M, Q r M → P (some (.inl r)) M) (h : v_L_law d r0 M Q) : wq (d + 11) mL_law 0 [(0, .inr r0)] [] M P := by
  unfold v_L_law at h
  obtain ⟨h1, i_1, ei_1, h⟩ := h
  refine b_nwo (k := 1) (i := i_1) (r := (RX0, TX0, 14)) (by decide) rfl h1 ei_1 q103 q104 q69 dL_law_0 ?_
  refine b_topm (fun M_2 eM_2 => ?_)
  replace h := h M_2 eM_2
  refine b_dup dL_law_3 ?_
  refine b_ci (y := mX0_init) (k := 1) (i := i_1) (as := []) (st := [.inr (1, i_1)]) (n := 0) h.1 rfl rfl (Or.inl q105) q106 q69 q107 zmh_X0_init rfl (Nat.le_of_ble_eq_true rfl) (Nat.le_of_ble_eq_true rfl) dL_law_4 (cq.mono h.2 (fun _ M_3 h => ?_))
  obtain ⟨rfl, h⟩ := h
  show wq (d + 11) mL_law 7 [(0, .inr r0)] [.inr (1, i_1)] M_3 P
  refine b_astore_n (lv' := [(1, .inr (1, i_1)), (0, .inr r0)]) dL_law_7 rfl (Nat.le_of_ble_eq_true rfl) rfl ?_
  obtain ⟨h1, i_5, ei_5, h⟩ := h
  refine b_nwo (k := 2) (i := i_5) (r := (RX1, TX1, 110)) (by decide) rfl h1 ei_5 q1506 q1507 q73 dL_law_8 ?_
  refine b_topm (fun M_6 eM_6 => ?_)
  replace h := h M_6 eM_6
  refine b_dup dL_law_11 ?_
  refine b_ci (y := mX1_init) (k := 2) (i := i_5) (as := []) (st := [.inr (2, i_5)]) (n := 0) h.1 rfl rfl (Or.inl q1508) q1509 q73 q1510 zmh_X1_init rfl (Nat.le_of_ble_eq_true rfl) (Nat.le_of_ble_eq_true rfl) dL_law_12 (cq.mono h.2 (fun _ M_7 h => ?_))
  obtain ⟨rfl, h⟩ := h
  show wq (d + 11) mL_law 15 [(1, .inr (1, i_1)), (0, .inr r0)] [.inr (2, i_5)] M_7 P
  refine b_astore_n (lv' := [(2, .inr (2, i_5)), (1, .inr (1, i_1)), (0, .inr r0)]) dL_law_15 rfl (Nat.le_of_ble_eq_true rfl) rfl ?_
  refine b_iconst (v := 0) dL_law_16 (by decide) ?_
  refine b_istore_n (lv' := [(3, .inl 0), (2, .inr (2, i_5)), (1, .inr (1, i_1)), (0, .inr r0)]) dL_law_17 rfl (Nat.le_of_ble_eq_true rfl) rfl ?_
  obtain ⟨n_, h⟩ := h
  exact b_sub (by simp) (sv_L_law_18 hP n_ r0 (1, i_1) (2, i_5) 0 M_7 h)
