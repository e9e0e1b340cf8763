set_option maxRecDepth 100000
abbrev mX1_of : zMt := (yX1_of, cX1_of, 3, some .int)
def w_of (x1 x2 : Int32) (t : DB) (Q : Int32 → DB → Prop) : Prop := ((x1 < 0) → (Q (-1) t)) ∧ ((¬ x1 < 0) → (((x1 < (t 50 0)) → ((x2 = 0 → (vp_in x1 60 ∧ ((((t 58 x1.toNatClampNeg) = 1) → (vp_in x1 60 ∧ (Q (t 59 x1.toNatClampNeg) t))) ∧ ((¬ (t 58 x1.toNatClampNeg) = 1) → (vp_in x1 60 ∧ (((¬ (t 58 x1.toNatClampNeg) = 3) → (Q (-1) t)) ∧ (((t 58 x1.toNatClampNeg) = 3) → (vp_in x1 60 ∧ (Q (t 59 x1.toNatClampNeg) t))))))))) ∧ (x2 = 1 → (vp_in x1 60 ∧ (((¬ (t 58 x1.toNatClampNeg) = 2) → (Q (-1) t)) ∧ (((t 58 x1.toNatClampNeg) = 2) → (vp_in x1 60 ∧ (Q (t 59 x1.toNatClampNeg) t)))))) ∧ (x2 = 2 → (vp_in x1 60 ∧ (Q (t 56 x1.toNatClampNeg) t))) ∧ (x2 = 3 → (vp_in x1 60 ∧ (Q (t 57 x1.toNatClampNeg) t))) ∧ (¬ x2 = 0 → ¬ x2 = 1 → ¬ x2 = 2 → ¬ x2 = 3 → (Q (-1) t)))) ∧ ((¬ x1 < (t 50 0)) → (Q (-1) t))))
set_option maxHeartbeats 4000000 in
theorem sd_of {d : Nat} {M : Mem} {P : Option AV → Mem → Prop} {Q : Int32 → DB → Prop} {x1 x2 : Int32} {t : DB} (hP : ∀ r t, Q r t → P (some (.inl r)) (tput M t)) (hT : TW M) (h : w_of x1 x2 t Q) : ct d mX1_of [.inr (2, 0), .inl x1, .inl x2] (tput M t) P := by
  refine ct_of (by decide) (Nat.le_of_ble_eq_true rfl) ?_
  show wp d mX1_of 0 [(0, .inr (2, 0)), (1, .inl x1), (2, .inl x2)] [] (tput M t) P
  unfold w_of at h
  refine a_iload_n 1 dX1_of_0 rfl rfl ?_
  refine a_if_lt (tgt := 12) dX1_of_1 (by decide) (fun c_5 => ?_) (fun c_5 => ?_)
  · replace h := h.1 c_5
    refine a_iconst (v := (-1)) dX1_of_12 (by decide) ?_
    exact a_iret rfl dX1_of_13 (hP _ _ h)
  · replace h := h.2 c_5
    refine a_iload_n 1 dX1_of_4 rfl rfl ?_
    refine a_aload_n 0 dX1_of_5 rfl rfl ?_
    refine t_gi 50 (by decide) q1562 rfl dX1_of_6 ?_
    refine a_icmp_lt (tgt := 14) dX1_of_9 (by decide) (fun c_4 => ?_) (fun c_4 => ?_)
    · replace h := h.1 c_4
      refine a_iload_n 2 dX1_of_14 rfl rfl ?_
      refine a_tsw (fun j => ([44, 75, 96, 103] : List Nat).getD j 0) (tD := 110) (n := 4) dX1_of_15 rfl (by decide) (by decide) (by decide) (fun j hj e => ?_) (fun e => ?_)
      · match j, hj, e with
        | 0, _, e =>
          replace h := h.1 e
          show wp d mX1_of 44 _ _ _ _
          refine a_aload_n 0 dX1_of_44 rfl rfl ?_
          refine t_ga 58 hT (by decide) q1570 rfl dX1_of_45 ?_
          refine a_iload_n 1 dX1_of_48 rfl rfl ?_
          refine t_ia (f := 58) rfl hT (by decide) h.1 dX1_of_49 ?_
          replace h := h.2
          refine a_iconst (v := 1) dX1_of_50 (by decide) ?_
          refine a_icmp_eq (tgt := 64) dX1_of_51 (by decide) (fun c_2 => ?_) (fun c_2 => ?_)
          · replace h := h.1 c_2
            refine a_aload_n 0 dX1_of_64 rfl rfl ?_
            refine t_ga 59 hT (by decide) q1571 rfl dX1_of_65 ?_
            refine a_iload_n 1 dX1_of_68 rfl rfl ?_
            refine t_ia (f := 59) rfl hT (by decide) h.1 dX1_of_69 ?_
            replace h := h.2
            refine a_goto (tgt := 74) dX1_of_70 (by decide) ?_
            exact a_iret rfl dX1_of_74 (hP _ _ h)
          · replace h := h.2 c_2
            refine a_aload_n 0 dX1_of_54 rfl rfl ?_
            refine t_ga 58 hT (by decide) q1570 rfl dX1_of_55 ?_
            refine a_iload_n 1 dX1_of_58 rfl rfl ?_
            refine t_ia (f := 58) rfl hT (by decide) h.1 dX1_of_59 ?_
            replace h := h.2
            refine a_iconst (v := 3) dX1_of_60 (by decide) ?_
            refine a_icmp_ne (tgt := 73) dX1_of_61 (by decide) (fun c_1 => ?_) (fun c_1 => ?_)
            · replace h := h.1 c_1
              refine a_iconst (v := (-1)) dX1_of_73 (by decide) ?_
              exact a_iret rfl dX1_of_74 (hP _ _ h)
            · replace h := h.2 c_1
              refine a_aload_n 0 dX1_of_64 rfl rfl ?_
              refine t_ga 59 hT (by decide) q1571 rfl dX1_of_65 ?_
              refine a_iload_n 1 dX1_of_68 rfl rfl ?_
              refine t_ia (f := 59) rfl hT (by decide) h.1 dX1_of_69 ?_
              replace h := h.2
              refine a_goto (tgt := 74) dX1_of_70 (by decide) ?_
              exact a_iret rfl dX1_of_74 (hP _ _ h)
        | 1, _, e =>
          replace h := h.2.1 e
          show wp d mX1_of 75 _ _ _ _
          refine a_aload_n 0 dX1_of_75 rfl rfl ?_
          refine t_ga 58 hT (by decide) q1570 rfl dX1_of_76 ?_
          refine a_iload_n 1 dX1_of_79 rfl rfl ?_
          refine t_ia (f := 58) rfl hT (by decide) h.1 dX1_of_80 ?_
          replace h := h.2
          refine a_iconst (v := 2) dX1_of_81 (by decide) ?_
          refine a_icmp_ne (tgt := 94) dX1_of_82 (by decide) (fun c_3 => ?_) (fun c_3 => ?_)
          · replace h := h.1 c_3
            refine a_iconst (v := (-1)) dX1_of_94 (by decide) ?_
            exact a_iret rfl dX1_of_95 (hP _ _ h)
          · replace h := h.2 c_3
            refine a_aload_n 0 dX1_of_85 rfl rfl ?_
            refine t_ga 59 hT (by decide) q1571 rfl dX1_of_86 ?_
            refine a_iload_n 1 dX1_of_89 rfl rfl ?_
            refine t_ia (f := 59) rfl hT (by decide) h.1 dX1_of_90 ?_
            replace h := h.2
            refine a_goto (tgt := 95) dX1_of_91 (by decide) ?_
            exact a_iret rfl dX1_of_95 (hP _ _ h)
        | 2, _, e =>
          replace h := h.2.2.1 e
          show wp d mX1_of 96 _ _ _ _
          refine a_aload_n 0 dX1_of_96 rfl rfl ?_
          refine t_ga 56 hT (by decide) q1568 rfl dX1_of_97 ?_
          refine a_iload_n 1 dX1_of_100 rfl rfl ?_
          refine t_ia (f := 56) rfl hT (by decide) h.1 dX1_of_101 ?_
          replace h := h.2
          exact a_iret rfl dX1_of_102 (hP _ _ h)
        | 3, _, e =>
          replace h := h.2.2.2.1 e
          show wp d mX1_of 103 _ _ _ _
          refine a_aload_n 0 dX1_of_103 rfl rfl ?_
          refine t_ga 57 hT (by decide) q1569 rfl dX1_of_104 ?_
          refine a_iload_n 1 dX1_of_107 rfl rfl ?_
          refine t_ia (f := 57) rfl hT (by decide) h.1 dX1_of_108 ?_
          replace h := h.2
          exact a_iret rfl dX1_of_109 (hP _ _ h)
        | j + 4, hj, _ => exact absurd hj (by omega)
      · replace h := h.2.2.2.2 (e 0 (by decide)) (e 1 (by decide)) (e 2 (by decide)) (e 3 (by decide))
        refine a_iconst (v := (-1)) dX1_of_110 (by decide) ?_
        exact a_iret rfl dX1_of_111 (hP _ _ h)
    · replace h := h.2 c_4
      refine a_iconst (v := (-1)) dX1_of_12 (by decide) ?_
      exact a_iret rfl dX1_of_13 (hP _ _ h)
theorem zmh_of : zmh yX1_of 2 := ⟨⟨by decide +kernel, by decide +kernel⟩, by decide +kernel⟩
abbrev mX1_call : zMt := (yX1_call, cX1_call, 3, some .int)
def w_call (x1 x2 : Int32) (t : DB) (Q : Int32 → DB → Prop) : Prop := ((x1 < 0) → (Q (-1) t)) ∧ ((¬ x1 < 0) → (((x1 < (t 61 0)) → ((x2 = 0 → (vp_in x1 4400 ∧ (Q (t 62 x1.toNatClampNeg) t))) ∧ (x2 = 1 → (vp_in x1 4400 ∧ (Q (t 63 x1.toNatClampNeg) t))) ∧ (x2 = 2 → (vp_in x1 4400 ∧ (Q (t 64 x1.toNatClampNeg) t))) ∧ (x2 = 3 → (vp_in x1 4400 ∧ (Q (t 65 x1.toNatClampNeg) t))) ∧ (x2 = 4 → (vp_in x1 4400 ∧ (Q (t 66 x1.toNatClampNeg) t))) ∧ (x2 = 5 → (vp_in x1 4400 ∧ (Q (t 67 x1.toNatClampNeg) t))) ∧ (x2 = 6 → (vp_in x1 4400 ∧ (Q (t 68 x1.toNatClampNeg) t))) ∧ (x2 = 7 → (vp_in x1 4400 ∧ (Q (t 69 x1.toNatClampNeg) t))) ∧ (x2 = 8 → (vp_in x1 4400 ∧ (((¬ (t 69 x1.toNatClampNeg) = 1) → (Q (-1) t)) ∧ (((t 69 x1.toNatClampNeg) = 1) → (vp_in x1 4400 ∧ (Q (t 70 x1.toNatClampNeg) t)))))) ∧ (x2 = 9 → (vp_in x1 4400 ∧ (((¬ (t 69 x1.toNatClampNeg) = 2) → (Q (-1) t)) ∧ (((t 69 x1.toNatClampNeg) = 2) → (vp_in x1 4400 ∧ (Q (t 70 x1.toNatClampNeg) t)))))) ∧ (x2 = 10 → (vp_in x1 4400 ∧ ((((t 69 x1.toNatClampNeg) = 0) → (vp_in x1 4400 ∧ ((((t 75 x1.toNatClampNeg) = 0) → (vp_in x1 4400 ∧ ((((t 76 x1.toNatClampNeg) = 0) → (vp_in x1 4400 ∧ ((((t 74 x1.toNatClampNeg) < 0) → (Q 0 t)) ∧ ((¬ (t 74 x1.toNatClampNeg) < 0) → (Q 3 t))))) ∧ ((¬ (t 76 x1.toNatClampNeg) = 0) → (Q 2 t))))) ∧ ((¬ (t 75 x1.toNatClampNeg) = 0) → (Q 1 t))))) ∧ ((¬ (t 69 x1.toNatClampNeg) = 0) → (Q 0 t))))) ∧ (¬ x2 = 0 → ¬ x2 = 1 → ¬ x2 = 2 → ¬ x2 = 3 → ¬ x2 = 4 → ¬ x2 = 5 → ¬ x2 = 6 → ¬ x2 = 7 → ¬ x2 = 8 → ¬ x2 = 9 → ¬ x2 = 10 → (Q (-1) t)))) ∧ ((¬ x1 < (t 61 0)) → (Q (-1) t))))
set_option maxHeartbeats 4000000 in
theorem sd_call {d : Nat} {M : Mem} {P : Option AV → Mem → Prop} {Q : Int32 → DB → Prop} {x1 x2 : Int32} {t : DB} (hP : ∀ r t, Q r t → P (some (.inl r)) (tput M t)) (hT : TW M) (h : w_call x1 x2 t Q) : ct d mX1_call [.inr (2, 0), .inl x1, .inl x2] (tput M t) P := by
  refine ct_of (by decide) (Nat.le_of_ble_eq_true rfl) ?_
  show wp d mX1_call 0 [(0, .inr (2, 0)), (1, .inl x1), (2, .inl x2)] [] (tput M t) P
  unfold w_call at h
  refine a_iload_n 1 dX1_call_0 rfl rfl ?_
  refine a_if_lt (tgt := 12) dX1_call_1 (by decide) (fun c_8 => ?_) (fun c_8 => ?_)
  · replace h := h.1 c_8
    refine a_iconst (v := (-1)) dX1_call_12 (by decide) ?_
    exact a_iret rfl dX1_call_13 (hP _ _ h)
  · replace h := h.2 c_8
    refine a_iload_n 1 dX1_call_4 rfl rfl ?_
    refine a_aload_n 0 dX1_call_5 rfl rfl ?_
    refine t_gi 61 (by decide) q1573 rfl dX1_call_6 ?_
    refine a_icmp_lt (tgt := 14) dX1_call_9 (by decide) (fun c_7 => ?_) (fun c_7 => ?_)
    · replace h := h.1 c_7
      refine a_iload_n 2 dX1_call_14 rfl rfl ?_
      refine a_tsw (fun j => ([72, 79, 86, 93, 100, 107, 114, 121, 128, 149, 170] : List Nat).getD j 0) (tD := 224) (n := 11) dX1_call_15 rfl (by decide) (by decide) (by decide) (fun j hj e => ?_) (fun e => ?_)
      · match j, hj, e with
        | 0, _, e =>
          replace h := h.1 e
          show wp d mX1_call 72 _ _ _ _
          refine a_aload_n 0 dX1_call_72 rfl rfl ?_
          refine t_ga 62 hT (by decide) q1574 rfl dX1_call_73 ?_
          refine a_iload_n 1 dX1_call_76 rfl rfl ?_
          refine t_ia (f := 62) rfl hT (by decide) h.1 dX1_call_77 ?_
          replace h := h.2
          exact a_iret rfl dX1_call_78 (hP _ _ h)
        | 1, _, e =>
          replace h := h.2.1 e
          show wp d mX1_call 79 _ _ _ _
          refine a_aload_n 0 dX1_call_79 rfl rfl ?_
          refine t_ga 63 hT (by decide) q1575 rfl dX1_call_80 ?_
          refine a_iload_n 1 dX1_call_83 rfl rfl ?_
          refine t_ia (f := 63) rfl hT (by decide) h.1 dX1_call_84 ?_
          replace h := h.2
          exact a_iret rfl dX1_call_85 (hP _ _ h)
        | 2, _, e =>
          replace h := h.2.2.1 e
          show wp d mX1_call 86 _ _ _ _
          refine a_aload_n 0 dX1_call_86 rfl rfl ?_
          refine t_ga 64 hT (by decide) q1576 rfl dX1_call_87 ?_
          refine a_iload_n 1 dX1_call_90 rfl rfl ?_
          refine t_ia (f := 64) rfl hT (by decide) h.1 dX1_call_91 ?_
          replace h := h.2
          exact a_iret rfl dX1_call_92 (hP _ _ h)
        | 3, _, e =>
          replace h := h.2.2.2.1 e
          show wp d mX1_call 93 _ _ _ _
          refine a_aload_n 0 dX1_call_93 rfl rfl ?_
          refine t_ga 65 hT (by decide) q1577 rfl dX1_call_94 ?_
          refine a_iload_n 1 dX1_call_97 rfl rfl ?_
          refine t_ia (f := 65) rfl hT (by decide) h.1 dX1_call_98 ?_
          replace h := h.2
          exact a_iret rfl dX1_call_99 (hP _ _ h)
        | 4, _, e =>
          replace h := h.2.2.2.2.1 e
          show wp d mX1_call 100 _ _ _ _
          refine a_aload_n 0 dX1_call_100 rfl rfl ?_
          refine t_ga 66 hT (by decide) q1578 rfl dX1_call_101 ?_
          refine a_iload_n 1 dX1_call_104 rfl rfl ?_
          refine t_ia (f := 66) rfl hT (by decide) h.1 dX1_call_105 ?_
          replace h := h.2
          exact a_iret rfl dX1_call_106 (hP _ _ h)
        | 5, _, e =>
          replace h := h.2.2.2.2.2.1 e
          show wp d mX1_call 107 _ _ _ _
          refine a_aload_n 0 dX1_call_107 rfl rfl ?_
          refine t_ga 67 hT (by decide) q1579 rfl dX1_call_108 ?_
          refine a_iload_n 1 dX1_call_111 rfl rfl ?_
          refine t_ia (f := 67) rfl hT (by decide) h.1 dX1_call_112 ?_
          replace h := h.2
          exact a_iret rfl dX1_call_113 (hP _ _ h)
        | 6, _, e =>
          replace h := h.2.2.2.2.2.2.1 e
          show wp d mX1_call 114 _ _ _ _
          refine a_aload_n 0 dX1_call_114 rfl rfl ?_
          refine t_ga 68 hT (by decide) q1580 rfl dX1_call_115 ?_
          refine a_iload_n 1 dX1_call_118 rfl rfl ?_
          refine t_ia (f := 68) rfl hT (by decide) h.1 dX1_call_119 ?_
          replace h := h.2
          exact a_iret rfl dX1_call_120 (hP _ _ h)
        | 7, _, e =>
          replace h := h.2.2.2.2.2.2.2.1 e
          show wp d mX1_call 121 _ _ _ _
          refine a_aload_n 0 dX1_call_121 rfl rfl ?_
          refine t_ga 69 hT (by decide) q1581 rfl dX1_call_122 ?_
          refine a_iload_n 1 dX1_call_125 rfl rfl ?_
          refine t_ia (f := 69) rfl hT (by decide) h.1 dX1_call_126 ?_
          replace h := h.2
          exact a_iret rfl dX1_call_127 (hP _ _ h)
        | 8, _, e =>
          replace h := h.2.2.2.2.2.2.2.2.1 e
          show wp d mX1_call 128 _ _ _ _
          refine a_aload_n 0 dX1_call_128 rfl rfl ?_
          refine t_ga 69 hT (by decide) q1581 rfl dX1_call_129 ?_
          refine a_iload_n 1 dX1_call_132 rfl rfl ?_
          refine t_ia (f := 69) rfl hT (by decide) h.1 dX1_call_133 ?_
          replace h := h.2
          refine a_iconst (v := 1) dX1_call_134 (by decide) ?_
          refine a_icmp_ne (tgt := 147) dX1_call_135 (by decide) (fun c_1 => ?_) (fun c_1 => ?_)
          · replace h := h.1 c_1
            refine a_iconst (v := (-1)) dX1_call_147 (by decide) ?_
            exact a_iret rfl dX1_call_148 (hP _ _ h)
          · replace h := h.2 c_1
            refine a_aload_n 0 dX1_call_138 rfl rfl ?_
            refine t_ga 70 hT (by decide) q1582 rfl dX1_call_139 ?_
            refine a_iload_n 1 dX1_call_142 rfl rfl ?_
            refine t_ia (f := 70) rfl hT (by decide) h.1 dX1_call_143 ?_
            replace h := h.2
            refine a_goto (tgt := 148) dX1_call_144 (by decide) ?_
            exact a_iret rfl dX1_call_148 (hP _ _ h)
        | 9, _, e =>
          replace h := h.2.2.2.2.2.2.2.2.2.1 e
          show wp d mX1_call 149 _ _ _ _
          refine a_aload_n 0 dX1_call_149 rfl rfl ?_
          refine t_ga 69 hT (by decide) q1581 rfl dX1_call_150 ?_
          refine a_iload_n 1 dX1_call_153 rfl rfl ?_
          refine t_ia (f := 69) rfl hT (by decide) h.1 dX1_call_154 ?_
          replace h := h.2
          refine a_iconst (v := 2) dX1_call_155 (by decide) ?_
          refine a_icmp_ne (tgt := 168) dX1_call_156 (by decide) (fun c_2 => ?_) (fun c_2 => ?_)
          · replace h := h.1 c_2
            refine a_iconst (v := (-1)) dX1_call_168 (by decide) ?_
            exact a_iret rfl dX1_call_169 (hP _ _ h)
          · replace h := h.2 c_2
            refine a_aload_n 0 dX1_call_159 rfl rfl ?_
            refine t_ga 70 hT (by decide) q1582 rfl dX1_call_160 ?_
            refine a_iload_n 1 dX1_call_163 rfl rfl ?_
            refine t_ia (f := 70) rfl hT (by decide) h.1 dX1_call_164 ?_
            replace h := h.2
            refine a_goto (tgt := 169) dX1_call_165 (by decide) ?_
            exact a_iret rfl dX1_call_169 (hP _ _ h)
        | 10, _, e =>
          replace h := h.2.2.2.2.2.2.2.2.2.2.1 e
          show wp d mX1_call 170 _ _ _ _
          refine a_aload_n 0 dX1_call_170 rfl rfl ?_
          refine t_ga 69 hT (by decide) q1581 rfl dX1_call_171 ?_
          refine a_iload_n 1 dX1_call_174 rfl rfl ?_
          refine t_ia (f := 69) rfl hT (by decide) h.1 dX1_call_175 ?_
          replace h := h.2
          refine a_if_eq (tgt := 183) dX1_call_176 (by decide) (fun c_6 => ?_) (fun c_6 => ?_)
          · replace h := h.1 c_6
            refine a_aload_n 0 dX1_call_183 rfl rfl ?_
            refine t_ga 75 hT (by decide) q1587 rfl dX1_call_184 ?_
            refine a_iload_n 1 dX1_call_187 rfl rfl ?_
            refine t_za (f := 75) rfl hT (by decide) h.1 dX1_call_188 ?_
            replace h := h.2
            refine a_if_eq (tgt := 196) dX1_call_189 (by decide) (fun c_5 => ?_) (fun c_5 => ?_)
            · replace h := h.1 c_5
              refine a_aload_n 0 dX1_call_196 rfl rfl ?_
              refine t_ga 76 hT (by decide) q1588 rfl dX1_call_197 ?_
              refine a_iload_n 1 dX1_call_200 rfl rfl ?_
              refine t_za (f := 76) rfl hT (by decide) h.1 dX1_call_201 ?_
              replace h := h.2
              refine a_if_eq (tgt := 209) dX1_call_202 (by decide) (fun c_4 => ?_) (fun c_4 => ?_)
              · replace h := h.1 c_4
                refine a_aload_n 0 dX1_call_209 rfl rfl ?_
                refine t_ga 74 hT (by decide) q1586 rfl dX1_call_210 ?_
                refine a_iload_n 1 dX1_call_213 rfl rfl ?_
                refine t_ia (f := 74) rfl hT (by decide) h.1 dX1_call_214 ?_
                replace h := h.2
                refine a_if_lt (tgt := 222) dX1_call_215 (by decide) (fun c_3 => ?_) (fun c_3 => ?_)
                · replace h := h.1 c_3
                  refine a_iconst (v := 0) dX1_call_222 (by decide) ?_
                  exact a_iret rfl dX1_call_223 (hP _ _ h)
                · replace h := h.2 c_3
                  refine a_iconst (v := 3) dX1_call_218 (by decide) ?_
                  refine a_goto (tgt := 223) dX1_call_219 (by decide) ?_
                  exact a_iret rfl dX1_call_223 (hP _ _ h)
              · replace h := h.2 c_4
                refine a_iconst (v := 2) dX1_call_205 (by decide) ?_
                refine a_goto (tgt := 223) dX1_call_206 (by decide) ?_
                exact a_iret rfl dX1_call_223 (hP _ _ h)
            · replace h := h.2 c_5
              refine a_iconst (v := 1) dX1_call_192 (by decide) ?_
              refine a_goto (tgt := 223) dX1_call_193 (by decide) ?_
              exact a_iret rfl dX1_call_223 (hP _ _ h)
          · replace h := h.2 c_6
            refine a_iconst (v := 0) dX1_call_179 (by decide) ?_
            refine a_goto (tgt := 223) dX1_call_180 (by decide) ?_
            exact a_iret rfl dX1_call_223 (hP _ _ h)
        | j + 11, hj, _ => exact absurd hj (by omega)
      · replace h := h.2.2.2.2.2.2.2.2.2.2.2 (e 0 (by decide)) (e 1 (by decide)) (e 2 (by decide)) (e 3 (by decide)) (e 4 (by decide)) (e 5 (by decide)) (e 6 (by decide)) (e 7 (by decide)) (e 8 (by decide)) (e 9 (by decide)) (e 10 (by decide))
        refine a_iconst (v := (-1)) dX1_call_224 (by decide) ?_
        exact a_iret rfl dX1_call_225 (hP _ _ h)
    · replace h := h.2 c_7
      refine a_iconst (v := (-1)) dX1_call_12 (by decide) ?_
      exact a_iret rfl dX1_call_13 (hP _ _ h)
theorem zmh_call : zmh yX1_call 2 := ⟨⟨by decide +kernel, by decide +kernel⟩, by decide +kernel⟩
abbrev mX1_fuse : zMt := (yX1_fuse, cX1_fuse, 3, some .int)
def w_fuse (x1 x2 : Int32) (t : DB) (Q : Int32 → DB → Prop) : Prop := w_isGuard x1 0 t (fun r_2 t_1 => ((¬ r_2 = 0) → ((x2 = 0 → (vp_in x1 24 ∧ (Q (t_1 36 x1.toNatClampNeg) t_1))) ∧ (x2 = 1 → (vp_in x1 24 ∧ (Q (t_1 37 x1.toNatClampNeg) t_1))) ∧ (x2 = 2 → (vp_in x1 24 ∧ (Q (t_1 38 x1.toNatClampNeg) t_1))) ∧ (¬ x2 = 0 → ¬ x2 = 1 → ¬ x2 = 2 → (Q (-1) t_1)))) ∧ ((r_2 = 0) → (Q (-1) t_1)))
set_option maxHeartbeats 4000000 in
theorem sd_fuse {d : Nat} {M : Mem} {P : Option AV → Mem → Prop} {Q : Int32 → DB → Prop} {x1 x2 : Int32} {t : DB} (hP : ∀ r t, Q r t → P (some (.inl r)) (tput M t)) (hT : TW M) (h : w_fuse x1 x2 t Q) : ct (d + 1) mX1_fuse [.inr (2, 0), .inl x1, .inl x2] (tput M t) P := by
  refine ct_of (by decide) (Nat.le_of_ble_eq_true rfl) ?_
  show wp (d + 1) mX1_fuse 0 [(0, .inr (2, 0)), (1, .inl x1), (2, .inl x2)] [] (tput M t) P
  unfold w_fuse at h
  refine a_aload_n 0 dX1_fuse_0 rfl rfl ?_
  refine a_iload_n 1 dX1_fuse_1 rfl rfl ?_
  refine a_iconst (v := 0) dX1_fuse_2 (by decide) ?_
  refine a_cv (y := mX1_isGuard) (k := 2) (i := 0) (as := [.inl x1, .inl 0]) (st := []) (n := 2) (by decide) (Or.inl q2036) qs62 q2038 q73 q2039 zmh_isGuard rfl (Nat.le_of_ble_eq_true rfl) (Nat.le_of_ble_eq_true rfl) dX1_fuse_3 (sd_isGuard (fun r_2 t_1 h => ?_) hT h)
  show wp (d + 1) mX1_fuse 6 [(0, .inr (2, 0)), (1, .inl x1), (2, .inl x2)] [.inl r_2] (tput M t_1) P
  refine a_if_ne (tgt := 11) dX1_fuse_6 (by decide) (fun c_3 => ?_) (fun c_3 => ?_)
  · replace h := h.1 c_3
    refine a_iload_n 2 dX1_fuse_11 rfl rfl ?_
    refine a_tsw (fun j => ([40, 47, 54] : List Nat).getD j 0) (tD := 61) (n := 3) dX1_fuse_12 rfl (by decide) (by decide) (by decide) (fun j hj e => ?_) (fun e => ?_)
    · match j, hj, e with
      | 0, _, e =>
        replace h := h.1 e
        show wp (d + 1) mX1_fuse 40 _ _ _ _
        refine a_aload_n 0 dX1_fuse_40 rfl rfl ?_
        refine t_ga 36 hT (by decide) q1548 rfl dX1_fuse_41 ?_
        refine a_iload_n 1 dX1_fuse_44 rfl rfl ?_
        refine t_ia (f := 36) rfl hT (by decide) h.1 dX1_fuse_45 ?_
        replace h := h.2
        exact a_iret rfl dX1_fuse_46 (hP _ _ h)
      | 1, _, e =>
        replace h := h.2.1 e
        show wp (d + 1) mX1_fuse 47 _ _ _ _
        refine a_aload_n 0 dX1_fuse_47 rfl rfl ?_
        refine t_ga 37 hT (by decide) q1549 rfl dX1_fuse_48 ?_
        refine a_iload_n 1 dX1_fuse_51 rfl rfl ?_
        refine t_ia (f := 37) rfl hT (by decide) h.1 dX1_fuse_52 ?_
        replace h := h.2
        exact a_iret rfl dX1_fuse_53 (hP _ _ h)
      | 2, _, e =>
        replace h := h.2.2.1 e
        show wp (d + 1) mX1_fuse 54 _ _ _ _
        refine a_aload_n 0 dX1_fuse_54 rfl rfl ?_
        refine t_ga 38 hT (by decide) q1550 rfl dX1_fuse_55 ?_
        refine a_iload_n 1 dX1_fuse_58 rfl rfl ?_
        refine t_ia (f := 38) rfl hT (by decide) h.1 dX1_fuse_59 ?_
        replace h := h.2
        exact a_iret rfl dX1_fuse_60 (hP _ _ h)
      | j + 3, hj, _ => exact absurd hj (by omega)
    · replace h := h.2.2.2 (e 0 (by decide)) (e 1 (by decide)) (e 2 (by decide))
      refine a_iconst (v := (-1)) dX1_fuse_61 (by decide) ?_
      exact a_iret rfl dX1_fuse_62 (hP _ _ h)
  · replace h := h.2 c_3
    refine a_iconst (v := (-1)) dX1_fuse_9 (by decide) ?_
    exact a_iret rfl dX1_fuse_10 (hP _ _ h)
theorem zmh_fuse : zmh yX1_fuse 2 := ⟨⟨by decide +kernel, by decide +kernel⟩, by decide +kernel⟩
abbrev mX1_bulkhead : zMt := (yX1_bulkhead, cX1_bulkhead, 3, some .int)
def w_bulkhead (x1 x2 : Int32) (t : DB) (Q : Int32 → DB → Prop) : Prop := w_isGuard x1 1 t (fun r_2 t_1 => ((¬ r_2 = 0) → ((x2 = 0 → (vp_in x1 24 ∧ (Q (t_1 39 x1.toNatClampNeg) t_1))) ∧ (x2 = 1 → (vp_in x1 24 ∧ (Q (t_1 40 x1.toNatClampNeg) t_1))) ∧ (x2 = 2 → (vp_in x1 24 ∧ (Q (t_1 41 x1.toNatClampNeg) t_1))) ∧ (¬ x2 = 0 → ¬ x2 = 1 → ¬ x2 = 2 → (Q (-1) t_1)))) ∧ ((r_2 = 0) → (Q (-1) t_1)))
set_option maxHeartbeats 4000000 in
theorem sd_bulkhead {d : Nat} {M : Mem} {P : Option AV → Mem → Prop} {Q : Int32 → DB → Prop} {x1 x2 : Int32} {t : DB} (hP : ∀ r t, Q r t → P (some (.inl r)) (tput M t)) (hT : TW M) (h : w_bulkhead x1 x2 t Q) : ct (d + 1) mX1_bulkhead [.inr (2, 0), .inl x1, .inl x2] (tput M t) P := by
  refine ct_of (by decide) (Nat.le_of_ble_eq_true rfl) ?_
  show wp (d + 1) mX1_bulkhead 0 [(0, .inr (2, 0)), (1, .inl x1), (2, .inl x2)] [] (tput M t) P
  unfold w_bulkhead at h
  refine a_aload_n 0 dX1_bulkhead_0 rfl rfl ?_
  refine a_iload_n 1 dX1_bulkhead_1 rfl rfl ?_
  refine a_iconst (v := 1) dX1_bulkhead_2 (by decide) ?_
  refine a_cv (y := mX1_isGuard) (k := 2) (i := 0) (as := [.inl x1, .inl 1]) (st := []) (n := 2) (by decide) (Or.inl q2036) qs62 q2038 q73 q2039 zmh_isGuard rfl (Nat.le_of_ble_eq_true rfl) (Nat.le_of_ble_eq_true rfl) dX1_bulkhead_3 (sd_isGuard (fun r_2 t_1 h => ?_) hT h)
  show wp (d + 1) mX1_bulkhead 6 [(0, .inr (2, 0)), (1, .inl x1), (2, .inl x2)] [.inl r_2] (tput M t_1) P
  refine a_if_ne (tgt := 11) dX1_bulkhead_6 (by decide) (fun c_3 => ?_) (fun c_3 => ?_)
  · replace h := h.1 c_3
    refine a_iload_n 2 dX1_bulkhead_11 rfl rfl ?_
    refine a_tsw (fun j => ([40, 47, 54] : List Nat).getD j 0) (tD := 61) (n := 3) dX1_bulkhead_12 rfl (by decide) (by decide) (by decide) (fun j hj e => ?_) (fun e => ?_)
    · match j, hj, e with
      | 0, _, e =>
        replace h := h.1 e
        show wp (d + 1) mX1_bulkhead 40 _ _ _ _
        refine a_aload_n 0 dX1_bulkhead_40 rfl rfl ?_
        refine t_ga 39 hT (by decide) q1551 rfl dX1_bulkhead_41 ?_
        refine a_iload_n 1 dX1_bulkhead_44 rfl rfl ?_
        refine t_ia (f := 39) rfl hT (by decide) h.1 dX1_bulkhead_45 ?_
        replace h := h.2
        exact a_iret rfl dX1_bulkhead_46 (hP _ _ h)
      | 1, _, e =>
        replace h := h.2.1 e
        show wp (d + 1) mX1_bulkhead 47 _ _ _ _
        refine a_aload_n 0 dX1_bulkhead_47 rfl rfl ?_
        refine t_ga 40 hT (by decide) q1552 rfl dX1_bulkhead_48 ?_
        refine a_iload_n 1 dX1_bulkhead_51 rfl rfl ?_
        refine t_ia (f := 40) rfl hT (by decide) h.1 dX1_bulkhead_52 ?_
        replace h := h.2
        exact a_iret rfl dX1_bulkhead_53 (hP _ _ h)
      | 2, _, e =>
        replace h := h.2.2.1 e
        show wp (d + 1) mX1_bulkhead 54 _ _ _ _
        refine a_aload_n 0 dX1_bulkhead_54 rfl rfl ?_
        refine t_ga 41 hT (by decide) q1553 rfl dX1_bulkhead_55 ?_
        refine a_iload_n 1 dX1_bulkhead_58 rfl rfl ?_
        refine t_ia (f := 41) rfl hT (by decide) h.1 dX1_bulkhead_59 ?_
        replace h := h.2
        exact a_iret rfl dX1_bulkhead_60 (hP _ _ h)
      | j + 3, hj, _ => exact absurd hj (by omega)
    · replace h := h.2.2.2 (e 0 (by decide)) (e 1 (by decide)) (e 2 (by decide))
      refine a_iconst (v := (-1)) dX1_bulkhead_61 (by decide) ?_
      exact a_iret rfl dX1_bulkhead_62 (hP _ _ h)
  · replace h := h.2 c_3
    refine a_iconst (v := (-1)) dX1_bulkhead_9 (by decide) ?_
    exact a_iret rfl dX1_bulkhead_10 (hP _ _ h)
theorem zmh_bulkhead : zmh yX1_bulkhead 2 := ⟨⟨by decide +kernel, by decide +kernel⟩, by decide +kernel⟩
abbrev mX1_waiting : zMt := (yX1_waiting, cX1_waiting, 3, some .int)
def w_waiting (x1 x2 : Int32) (t : DB) (Q : Int32 → DB → Prop) : Prop := w_isGuard x1 1 t (fun r_2 t_1 => ((r_2 = 0) → (Q (-1) t_1)) ∧ ((¬ r_2 = 0) → (((x2 < 0) → (Q (-1) t_1)) ∧ ((¬ x2 < 0) → (vp_in x1 24 ∧ (((x2 < (t_1 40 x1.toNatClampNeg)) → (vp_in ((10 * x1) + x2) 240 ∧ (Q (t_1 43 ((10 * x1) + x2).toNatClampNeg) t_1))) ∧ ((¬ x2 < (t_1 40 x1.toNatClampNeg)) → (Q (-1) t_1))))))))
set_option maxHeartbeats 4000000 in
theorem sd_waiting {d : Nat} {M : Mem} {P : Option AV → Mem → Prop} {Q : Int32 → DB → Prop} {x1 x2 : Int32} {t : DB} (hP : ∀ r t, Q r t → P (some (.inl r)) (tput M t)) (hT : TW M) (h : w_waiting x1 x2 t Q) : ct (d + 1) mX1_waiting [.inr (2, 0), .inl x1, .inl x2] (tput M t) P := by
  refine ct_of (by decide) (Nat.le_of_ble_eq_true rfl) ?_
  show wp (d + 1) mX1_waiting 0 [(0, .inr (2, 0)), (1, .inl x1), (2, .inl x2)] [] (tput M t) P
  unfold w_waiting at h
  refine a_aload_n 0 dX1_waiting_0 rfl rfl ?_
  refine a_iload_n 1 dX1_waiting_1 rfl rfl ?_
  refine a_iconst (v := 1) dX1_waiting_2 (by decide) ?_
  refine a_cv (y := mX1_isGuard) (k := 2) (i := 0) (as := [.inl x1, .inl 1]) (st := []) (n := 2) (by decide) (Or.inl q2036) qs62 q2038 q73 q2039 zmh_isGuard rfl (Nat.le_of_ble_eq_true rfl) (Nat.le_of_ble_eq_true rfl) dX1_waiting_3 (sd_isGuard (fun r_2 t_1 h => ?_) hT h)
  show wp (d + 1) mX1_waiting 6 [(0, .inr (2, 0)), (1, .inl x1), (2, .inl x2)] [.inl r_2] (tput M t_1) P
  refine a_if_eq (tgt := 23) dX1_waiting_6 (by decide) (fun c_5 => ?_) (fun c_5 => ?_)
  · replace h := h.1 c_5
    refine a_iconst (v := (-1)) dX1_waiting_23 (by decide) ?_
    refine a_goto (tgt := 38) dX1_waiting_24 (by decide) ?_
    exact a_iret rfl dX1_waiting_38 (hP _ _ h)
  · replace h := h.2 c_5
    refine a_iload_n 2 dX1_waiting_9 rfl rfl ?_
    refine a_if_lt (tgt := 23) dX1_waiting_10 (by decide) (fun c_4 => ?_) (fun c_4 => ?_)
    · replace h := h.1 c_4
      refine a_iconst (v := (-1)) dX1_waiting_23 (by decide) ?_
      refine a_goto (tgt := 38) dX1_waiting_24 (by decide) ?_
      exact a_iret rfl dX1_waiting_38 (hP _ _ h)
    · replace h := h.2 c_4
      refine a_iload_n 2 dX1_waiting_13 rfl rfl ?_
      refine a_aload_n 0 dX1_waiting_14 rfl rfl ?_
      refine t_ga 40 hT (by decide) q1552 rfl dX1_waiting_15 ?_
      refine a_iload_n 1 dX1_waiting_18 rfl rfl ?_
      refine t_ia (f := 40) rfl hT (by decide) h.1 dX1_waiting_19 ?_
      replace h := h.2
      refine a_icmp_lt (tgt := 27) dX1_waiting_20 (by decide) (fun c_3 => ?_) (fun c_3 => ?_)
      · replace h := h.1 c_3
        refine a_aload_n 0 dX1_waiting_27 rfl rfl ?_
        refine t_ga 43 hT (by decide) q1555 rfl dX1_waiting_28 ?_
        refine a_bipush (v := 10) dX1_waiting_31 (by decide) ?_
        refine a_iload_n 1 dX1_waiting_33 rfl rfl ?_
        refine a_imul dX1_waiting_34 ?_
        refine a_iload_n 2 dX1_waiting_35 rfl rfl ?_
        refine a_iadd dX1_waiting_36 ?_
        refine t_ia (f := 43) rfl hT (by decide) h.1 dX1_waiting_37 ?_
        replace h := h.2
        exact a_iret rfl dX1_waiting_38 (hP _ _ h)
      · replace h := h.2 c_3
        refine a_iconst (v := (-1)) dX1_waiting_23 (by decide) ?_
        refine a_goto (tgt := 38) dX1_waiting_24 (by decide) ?_
        exact a_iret rfl dX1_waiting_38 (hP _ _ h)
theorem zmh_waiting : zmh yX1_waiting 2 := ⟨⟨by decide +kernel, by decide +kernel⟩, by decide +kernel⟩
abbrev mX1_tokens : zMt := (yX1_tokens, cX1_tokens, 2, some .int)
def w_tokens (x1 : Int32) (t : DB) (Q : Int32 → DB → Prop) : Prop := w_isGuard x1 2 t (fun r_2 t_1 => ((r_2 = 0) → (Q (-1) t_1)) ∧ ((¬ r_2 = 0) → (vp_in x1 24 ∧ (Q (t_1 42 x1.toNatClampNeg) t_1))))
set_option maxHeartbeats 4000000 in
theorem sd_tokens {d : Nat} {M : Mem} {P : Option AV → Mem → Prop} {Q : Int32 → DB → Prop} {x1 : Int32} {t : DB} (hP : ∀ r t, Q r t → P (some (.inl r)) (tput M t)) (hT : TW M) (h : w_tokens x1 t Q) : ct (d + 1) mX1_tokens [.inr (2, 0), .inl x1] (tput M t) P := by
  refine ct_of (by decide) (Nat.le_of_ble_eq_true rfl) ?_
  show wp (d + 1) mX1_tokens 0 [(0, .inr (2, 0)), (1, .inl x1)] [] (tput M t) P
  unfold w_tokens at h
  refine a_aload_n 0 dX1_tokens_0 rfl rfl ?_
  refine a_iload_n 1 dX1_tokens_1 rfl rfl ?_
  refine a_iconst (v := 2) dX1_tokens_2 (by decide) ?_
  refine a_cv (y := mX1_isGuard) (k := 2) (i := 0) (as := [.inl x1, .inl 2]) (st := []) (n := 2) (by decide) (Or.inl q2036) qs62 q2038 q73 q2039 zmh_isGuard rfl (Nat.le_of_ble_eq_true rfl) (Nat.le_of_ble_eq_true rfl) dX1_tokens_3 (sd_isGuard (fun r_2 t_1 h => ?_) hT h)
  show wp (d + 1) mX1_tokens 6 [(0, .inr (2, 0)), (1, .inl x1)] [.inl r_2] (tput M t_1) P
  refine a_if_eq (tgt := 18) dX1_tokens_6 (by decide) (fun c_3 => ?_) (fun c_3 => ?_)
  · replace h := h.1 c_3
    refine a_iconst (v := (-1)) dX1_tokens_18 (by decide) ?_
    exact a_iret rfl dX1_tokens_19 (hP _ _ h)
  · replace h := h.2 c_3
    refine a_aload_n 0 dX1_tokens_9 rfl rfl ?_
    refine t_ga 42 hT (by decide) q1554 rfl dX1_tokens_10 ?_
    refine a_iload_n 1 dX1_tokens_13 rfl rfl ?_
    refine t_ia (f := 42) rfl hT (by decide) h.1 dX1_tokens_14 ?_
    replace h := h.2
    refine a_goto (tgt := 19) dX1_tokens_15 (by decide) ?_
    exact a_iret rfl dX1_tokens_19 (hP _ _ h)
theorem zmh_tokens : zmh yX1_tokens 1 := ⟨⟨by decide +kernel, by decide +kernel⟩, by decide +kernel⟩
abbrev mX1_kept : zMt := (yX1_kept, cX1_kept, 4, some .int)
def w_kept (x1 x2 x3 : Int32) (t : DB) (Q : Int32 → DB → Prop) : Prop := w_isGuard x1 7 t (fun r_2 t_1 => ((r_2 = 0) → (Q (-1) t_1)) ∧ ((¬ r_2 = 0) → (w_isStation x2 t_1 (fun r_4 t_3 => ((r_4 = 0) → (Q (-1) t_3)) ∧ ((¬ r_4 = 0) → (((x3 < 0) → (Q (-1) t_3)) ∧ ((¬ x3 < 0) → (((1 < x3) → (Q (-1) t_3)) ∧ ((¬ 1 < x3) → (vp_in ((8 * x1) + x2) 192 ∧ (((0 ≤ (t_3 45 ((8 * x1) + x2).toNatClampNeg)) → (((¬ x3 = 0) → (vp_in ((8 * x1) + x2) 192 ∧ (Q (t_3 45 ((8 * x1) + x2).toNatClampNeg) t_3))) ∧ ((x3 = 0) → (vp_in ((8 * x1) + x2) 192 ∧ (Q (t_3 44 ((8 * x1) + x2).toNatClampNeg) t_3))))) ∧ ((¬ 0 ≤ (t_3 45 ((8 * x1) + x2).toNatClampNeg)) → (Q (-1) t_3)))))))))))))
set_option maxHeartbeats 4000000 in
theorem sd_kept {d : Nat} {M : Mem} {P : Option AV → Mem → Prop} {Q : Int32 → DB → Prop} {x1 x2 x3 : Int32} {t : DB} (hP : ∀ r t, Q r t → P (some (.inl r)) (tput M t)) (hT : TW M) (h : w_kept x1 x2 x3 t Q) : ct (d + 1) mX1_kept [.inr (2, 0), .inl x1, .inl x2, .inl x3] (tput M t) P := by
  refine ct_of (by decide) (Nat.le_of_ble_eq_true rfl) ?_
  show wp (d + 1) mX1_kept 0 [(0, .inr (2, 0)), (1, .inl x1), (2, .inl x2), (3, .inl x3)] [] (tput M t) P
  unfold w_kept at h
  refine a_aload_n 0 dX1_kept_0 rfl rfl ?_
  refine a_iload_n 1 dX1_kept_1 rfl rfl ?_
  refine a_bipush (v := 7) dX1_kept_2 (by decide) ?_
  refine a_cv (y := mX1_isGuard) (k := 2) (i := 0) (as := [.inl x1, .inl 7]) (st := []) (n := 2) (by decide) (Or.inl q2036) qs62 q2038 q73 q2039 zmh_isGuard rfl (Nat.le_of_ble_eq_true rfl) (Nat.le_of_ble_eq_true rfl) dX1_kept_4 (sd_isGuard (fun r_2 t_1 h => ?_) hT h)
  show wp (d + 1) mX1_kept 7 [(0, .inr (2, 0)), (1, .inl x1), (2, .inl x2), (3, .inl x3)] [.inl r_2] (tput M t_1) P
  refine a_if_eq (tgt := 41) dX1_kept_7 (by decide) (fun c_10 => ?_) (fun c_10 => ?_)
  · replace h := h.1 c_10
    refine a_iconst (v := (-1)) dX1_kept_41 (by decide) ?_
    exact a_iret rfl dX1_kept_42 (hP _ _ h)
  · replace h := h.2 c_10
    refine a_aload_n 0 dX1_kept_10 rfl rfl ?_
    refine a_iload_n 2 dX1_kept_11 rfl rfl ?_
    refine a_cv (y := mX1_isStation) (k := 2) (i := 0) (as := [.inl x2]) (st := []) (n := 1) (by decide) (Or.inl q1852) qs28 q1854 q73 q1855 zmh_isStation rfl (Nat.le_of_ble_eq_true rfl) (Nat.le_of_ble_eq_true rfl) dX1_kept_12 (sd_isStation (fun r_4 t_3 h => ?_) hT h)
    show wp (d + 1) mX1_kept 15 [(0, .inr (2, 0)), (1, .inl x1), (2, .inl x2), (3, .inl x3)] [.inl r_4] (tput M t_3) P
    refine a_if_eq (tgt := 41) dX1_kept_15 (by decide) (fun c_9 => ?_) (fun c_9 => ?_)
    · replace h := h.1 c_9
      refine a_iconst (v := (-1)) dX1_kept_41 (by decide) ?_
      exact a_iret rfl dX1_kept_42 (hP _ _ h)
    · replace h := h.2 c_9
      refine a_iload_n 3 dX1_kept_18 rfl rfl ?_
      refine a_if_lt (tgt := 41) dX1_kept_19 (by decide) (fun c_8 => ?_) (fun c_8 => ?_)
      · replace h := h.1 c_8
        refine a_iconst (v := (-1)) dX1_kept_41 (by decide) ?_
        exact a_iret rfl dX1_kept_42 (hP _ _ h)
      · replace h := h.2 c_8
        refine a_iload_n 3 dX1_kept_22 rfl rfl ?_
        refine a_iconst (v := 1) dX1_kept_23 (by decide) ?_
        refine a_icmp_gt (tgt := 41) dX1_kept_24 (by decide) (fun c_7 => ?_) (fun c_7 => ?_)
        · replace h := h.1 c_7
          refine a_iconst (v := (-1)) dX1_kept_41 (by decide) ?_
          exact a_iret rfl dX1_kept_42 (hP _ _ h)
        · replace h := h.2 c_7
          refine a_aload_n 0 dX1_kept_27 rfl rfl ?_
          refine t_ga 45 hT (by decide) q1557 rfl dX1_kept_28 ?_
          refine a_bipush (v := 8) dX1_kept_31 (by decide) ?_
          refine a_iload_n 1 dX1_kept_33 rfl rfl ?_
          refine a_imul dX1_kept_34 ?_
          refine a_iload_n 2 dX1_kept_35 rfl rfl ?_
          refine a_iadd dX1_kept_36 ?_
          refine t_ia (f := 45) rfl hT (by decide) h.1 dX1_kept_37 ?_
          replace h := h.2
          refine a_if_ge (tgt := 43) dX1_kept_38 (by decide) (fun c_6 => ?_) (fun c_6 => ?_)
          · replace h := h.1 c_6
            refine a_iload_n 3 dX1_kept_43 rfl rfl ?_
            refine a_if_ne (tgt := 61) dX1_kept_44 (by decide) (fun c_5 => ?_) (fun c_5 => ?_)
            · replace h := h.1 c_5
              refine a_aload_n 0 dX1_kept_61 rfl rfl ?_
              refine t_ga 45 hT (by decide) q1557 rfl dX1_kept_62 ?_
              refine a_bipush (v := 8) dX1_kept_65 (by decide) ?_
              refine a_iload_n 1 dX1_kept_67 rfl rfl ?_
              refine a_imul dX1_kept_68 ?_
              refine a_iload_n 2 dX1_kept_69 rfl rfl ?_
              refine a_iadd dX1_kept_70 ?_
              refine t_ia (f := 45) rfl hT (by decide) h.1 dX1_kept_71 ?_
              replace h := h.2
              exact a_iret rfl dX1_kept_72 (hP _ _ h)
            · replace h := h.2 c_5
              refine a_aload_n 0 dX1_kept_47 rfl rfl ?_
              refine t_ga 44 hT (by decide) q1556 rfl dX1_kept_48 ?_
              refine a_bipush (v := 8) dX1_kept_51 (by decide) ?_
              refine a_iload_n 1 dX1_kept_53 rfl rfl ?_
              refine a_imul dX1_kept_54 ?_
              refine a_iload_n 2 dX1_kept_55 rfl rfl ?_
              refine a_iadd dX1_kept_56 ?_
              refine t_ia (f := 44) rfl hT (by decide) h.1 dX1_kept_57 ?_
              replace h := h.2
              refine a_goto (tgt := 72) dX1_kept_58 (by decide) ?_
              exact a_iret rfl dX1_kept_72 (hP _ _ h)
          · replace h := h.2 c_6
            refine a_iconst (v := (-1)) dX1_kept_41 (by decide) ?_
            exact a_iret rfl dX1_kept_42 (hP _ _ h)
theorem zmh_kept : zmh yX1_kept 3 := ⟨⟨by decide +kernel, by decide +kernel⟩, by decide +kernel⟩
abbrev mX1_joined : zMt := (yX1_joined, cX1_joined, 5, some .int)
def w_joined_23 : Nat → Int32 → Int32 → Int32 → DB → (Int32 → DB → Prop) → Prop
  | 0, _, _, _, _, _ => False
  | n + 1, x1, x3, x4, t, Q => (((t 61 0) ≤ x4) → (Q (-1) t)) ∧ ((¬ (t 61 0) ≤ x4) → (vp_in x4 4400 ∧ (((¬ (t 74 x4.toNatClampNeg) = x1) → (∀ x_1 : Int32, x_1 = x4 + 1 → (w_joined_23 n x1 x3 x_1 t Q))) ∧ (((t 74 x4.toNatClampNeg) = x1) → (vp_in x4 4400 ∧ ((((t 69 x4.toNatClampNeg) = 0) → (((¬ x3 = 0) → (∀ x_2 : Int32, x_2 = x3 + (-1) → (∀ x_3 : Int32, x_3 = x4 + 1 → (w_joined_23 n x1 x_2 x_3 t Q)))) ∧ ((x3 = 0) → (Q x4 t)))) ∧ ((¬ (t 69 x4.toNatClampNeg) = 0) → (∀ x_5 : Int32, x_5 = x4 + 1 → (w_joined_23 n x1 x3 x_5 t Q)))))))))
set_option maxHeartbeats 4000000 in
theorem sd_joined_23 {d : Nat} {M : Mem} {P : Option AV → Mem → Prop} {Q : Int32 → DB → Prop} (hP : ∀ r t, Q r t → P (some (.inl r)) (tput M t)) (hT : TW M) : ∀ (n : Nat) (x1 x3 x4 : Int32) (t : DB), w_joined_23 n x1 x3 x4 t Q → wp d mX1_joined 23 [(0, .inr (2, 0)), (1, .inl x1), (3, .inl x3), (4, .inl x4)] [] (tput M t) P := by
  intro n
  induction n with
  | zero => intro x1 x3 x4 t h; exact False.elim h
  | succ n ih =>
    intro x1 x3 x4 t h
    rw [w_joined_23] at h
    refine a_iload 3 dX1_joined_23 rfl ?_
    refine a_aload_n 0 dX1_joined_25 rfl rfl ?_
    refine t_gi 61 (by decide) q1573 rfl dX1_joined_26 ?_
    refine a_icmp_ge (tgt := 72) dX1_joined_29 (by decide) (fun c_8 => ?_) (fun c_8 => ?_)
    · replace h := h.1 c_8
      refine a_iconst (v := (-1)) dX1_joined_72 (by decide) ?_
      exact a_iret rfl dX1_joined_73 (hP _ _ h)
    · replace h := h.2 c_8
      refine a_aload_n 0 dX1_joined_32 rfl rfl ?_
      refine t_ga 74 hT (by decide) q1586 rfl dX1_joined_33 ?_
      refine a_iload 3 dX1_joined_36 rfl ?_
      refine t_ia (f := 74) rfl hT (by decide) h.1 dX1_joined_38 ?_
      replace h := h.2
      refine a_iload_n 1 dX1_joined_39 rfl rfl ?_
      refine a_icmp_ne (tgt := 66) dX1_joined_40 (by decide) (fun c_7 => ?_) (fun c_7 => ?_)
      · replace h := h.1 c_7
        obtain ⟨x_1, ex_1⟩ : ∃ y : Int32, y = x4 + 1 := ⟨_, rfl⟩
        replace h := h x_1 ex_1
        refine a_iinc (v := x_1) (lv' := [(4, .inl x_1), (0, .inr (2, 0)), (1, .inl x1), (3, .inl x3)]) 3 dX1_joined_66 rfl (by rw [ex_1]; rfl) (Nat.le_of_ble_eq_true rfl) rfl ?_
        refine a_goto (tgt := 23) dX1_joined_69 (by decide) ?_
        exact wp_sub (by simp) (ih x1 x3 x_1 t h)
      · replace h := h.2 c_7
        refine a_aload_n 0 dX1_joined_43 rfl rfl ?_
        refine t_ga 69 hT (by decide) q1581 rfl dX1_joined_44 ?_
        refine a_iload 3 dX1_joined_47 rfl ?_
        refine t_ia (f := 69) rfl hT (by decide) h.1 dX1_joined_49 ?_
        replace h := h.2
        refine a_if_eq (tgt := 56) dX1_joined_50 (by decide) (fun c_6 => ?_) (fun c_6 => ?_)
        · replace h := h.1 c_6
          refine a_iload_n 2 dX1_joined_56 rfl rfl ?_
          refine a_if_ne (tgt := 63) dX1_joined_57 (by decide) (fun c_4 => ?_) (fun c_4 => ?_)
          · replace h := h.1 c_4
            obtain ⟨x_2, ex_2⟩ : ∃ y : Int32, y = x3 + (-1) := ⟨_, rfl⟩
            replace h := h x_2 ex_2
            refine a_iinc (v := x_2) (lv' := [(3, .inl x_2), (0, .inr (2, 0)), (1, .inl x1), (4, .inl x4)]) 2 dX1_joined_63 rfl (by rw [ex_2]; rfl) (Nat.le_of_ble_eq_true rfl) rfl ?_
            obtain ⟨x_3, ex_3⟩ : ∃ y : Int32, y = x4 + 1 := ⟨_, rfl⟩
            replace h := h x_3 ex_3
            refine a_iinc (v := x_3) (lv' := [(4, .inl x_3), (3, .inl x_2), (0, .inr (2, 0)), (1, .inl x1)]) 3 dX1_joined_66 rfl (by rw [ex_3]; rfl) (Nat.le_of_ble_eq_true rfl) rfl ?_
            refine a_goto (tgt := 23) dX1_joined_69 (by decide) ?_
            exact wp_sub (by simp) (ih x1 x_2 x_3 t h)
          · replace h := h.2 c_4
            refine a_iload 3 dX1_joined_60 rfl ?_
            exact a_iret rfl dX1_joined_62 (hP _ _ h)
        · replace h := h.2 c_6
          refine a_goto (tgt := 66) dX1_joined_53 (by decide) ?_
          obtain ⟨x_5, ex_5⟩ : ∃ y : Int32, y = x4 + 1 := ⟨_, rfl⟩
          replace h := h x_5 ex_5
          refine a_iinc (v := x_5) (lv' := [(4, .inl x_5), (0, .inr (2, 0)), (1, .inl x1), (3, .inl x3)]) 3 dX1_joined_66 rfl (by rw [ex_5]; rfl) (Nat.le_of_ble_eq_true rfl) rfl ?_
          refine a_goto (tgt := 23) dX1_joined_69 (by decide) ?_
          exact wp_sub (by simp) (ih x1 x3 x_5 t h)
def w_joined (x1 x2 : Int32) (t : DB) (Q : Int32 → DB → Prop) : Prop := ((x1 < 0) → (Q (-1) t)) ∧ ((¬ x1 < 0) → ((((t 61 0) ≤ x1) → (Q (-1) t)) ∧ ((¬ (t 61 0) ≤ x1) → (((0 ≤ x2) → (∃ n_, w_joined_23 n_ x1 x2 0 t Q)) ∧ ((¬ 0 ≤ x2) → (Q (-1) t))))))
set_option maxHeartbeats 4000000 in
theorem sd_joined {d : Nat} {M : Mem} {P : Option AV → Mem → Prop} {Q : Int32 → DB → Prop} {x1 x2 : Int32} {t : DB} (hP : ∀ r t, Q r t → P (some (.inl r)) (tput M t)) (hT : TW M) (h : w_joined x1 x2 t Q) : ct d mX1_joined [.inr (2, 0), .inl x1, .inl x2] (tput M t) P := by
  refine ct_of (by decide) (Nat.le_of_ble_eq_true rfl) ?_
  show wp d mX1_joined 0 [(0, .inr (2, 0)), (1, .inl x1), (2, .inl x2)] [] (tput M t) P
  unfold w_joined at h
  refine a_iload_n 1 dX1_joined_0 rfl rfl ?_
  refine a_if_lt (tgt := 16) dX1_joined_1 (by decide) (fun c_3 => ?_) (fun c_3 => ?_)
  · replace h := h.1 c_3
    refine a_iconst (v := (-1)) dX1_joined_16 (by decide) ?_
    exact a_iret rfl dX1_joined_17 (hP _ _ h)
  · replace h := h.2 c_3
    refine a_iload_n 1 dX1_joined_4 rfl rfl ?_
    refine a_aload_n 0 dX1_joined_5 rfl rfl ?_
    refine t_gi 61 (by decide) q1573 rfl dX1_joined_6 ?_
    refine a_icmp_ge (tgt := 16) dX1_joined_9 (by decide) (fun c_2 => ?_) (fun c_2 => ?_)
    · replace h := h.1 c_2
      refine a_iconst (v := (-1)) dX1_joined_16 (by decide) ?_
      exact a_iret rfl dX1_joined_17 (hP _ _ h)
    · replace h := h.2 c_2
      refine a_iload_n 2 dX1_joined_12 rfl rfl ?_
      refine a_if_ge (tgt := 18) dX1_joined_13 (by decide) (fun c_1 => ?_) (fun c_1 => ?_)
      · replace h := h.1 c_1
        refine a_iload_n 2 dX1_joined_18 rfl rfl ?_
        refine a_istore_n (lv' := [(3, .inl x2), (0, .inr (2, 0)), (1, .inl x1), (2, .inl x2)]) dX1_joined_19 rfl (Nat.le_of_ble_eq_true rfl) rfl ?_
        refine a_iconst (v := 0) dX1_joined_20 (by decide) ?_
        refine a_istore (lv' := [(4, .inl 0), (3, .inl x2), (0, .inr (2, 0)), (1, .inl x1), (2, .inl x2)]) dX1_joined_21 (Nat.le_of_ble_eq_true rfl) rfl ?_
        obtain ⟨n_, h⟩ := h
        exact wp_sub (by simp) (sd_joined_23 hP hT n_ x1 x2 0 t h)
      · replace h := h.2 c_1
        refine a_iconst (v := (-1)) dX1_joined_16 (by decide) ?_
        exact a_iret rfl dX1_joined_17 (hP _ _ h)
theorem zmh_joined : zmh yX1_joined 2 := ⟨⟨by decide +kernel, by decide +kernel⟩, by decide +kernel⟩
abbrev mX1_level : zMt := (yX1_level, cX1_level, 2, some .int)
def w_level (x1 : Int32) (t : DB) (Q : Int32 → DB → Prop) : Prop := w_isStation x1 t (fun r_2 t_1 => ((r_2 = 0) → (Q (-1) t_1)) ∧ ((¬ r_2 = 0) → (vp_in x1 8 ∧ (Q (t_1 2 x1.toNatClampNeg) t_1))))
set_option maxHeartbeats 4000000 in
theorem sd_level {d : Nat} {M : Mem} {P : Option AV → Mem → Prop} {Q : Int32 → DB → Prop} {x1 : Int32} {t : DB} (hP : ∀ r t, Q r t → P (some (.inl r)) (tput M t)) (hT : TW M) (h : w_level x1 t Q) : ct (d + 1) mX1_level [.inr (2, 0), .inl x1] (tput M t) P := by
  refine ct_of (by decide) (Nat.le_of_ble_eq_true rfl) ?_
  show wp (d + 1) mX1_level 0 [(0, .inr (2, 0)), (1, .inl x1)] [] (tput M t) P
  unfold w_level at h
  refine a_aload_n 0 dX1_level_0 rfl rfl ?_
  refine a_iload_n 1 dX1_level_1 rfl rfl ?_
  refine a_cv (y := mX1_isStation) (k := 2) (i := 0) (as := [.inl x1]) (st := []) (n := 1) (by decide) (Or.inl q1852) qs28 q1854 q73 q1855 zmh_isStation rfl (Nat.le_of_ble_eq_true rfl) (Nat.le_of_ble_eq_true rfl) dX1_level_2 (sd_isStation (fun r_2 t_1 h => ?_) hT h)
  show wp (d + 1) mX1_level 5 [(0, .inr (2, 0)), (1, .inl x1)] [.inl r_2] (tput M t_1) P
  refine a_if_eq (tgt := 17) dX1_level_5 (by decide) (fun c_3 => ?_) (fun c_3 => ?_)
  · replace h := h.1 c_3
    refine a_iconst (v := (-1)) dX1_level_17 (by decide) ?_
    exact a_iret rfl dX1_level_18 (hP _ _ h)
  · replace h := h.2 c_3
    refine a_aload_n 0 dX1_level_8 rfl rfl ?_
    refine t_ga 2 hT (by decide) q1514 rfl dX1_level_9 ?_
    refine a_iload_n 1 dX1_level_12 rfl rfl ?_
    refine t_ia (f := 2) rfl hT (by decide) h.1 dX1_level_13 ?_
    replace h := h.2
    refine a_goto (tgt := 18) dX1_level_14 (by decide) ?_
    exact a_iret rfl dX1_level_18 (hP _ _ h)
theorem zmh_level : zmh yX1_level 1 := ⟨⟨by decide +kernel, by decide +kernel⟩, by decide +kernel⟩
abbrev mX1_effect : zMt := (yX1_effect, cX1_effect, 3, some .int)
def w_effect (x1 x2 : Int32) (t : DB) (Q : Int32 → DB → Prop) : Prop := ((x1 < 0) → (Q (-1) t)) ∧ ((¬ x1 < 0) → (((x1 < (t 17 0)) → ((x2 = 0 → (vp_in x1 4400 ∧ (Q (t 18 x1.toNatClampNeg) t))) ∧ (x2 = 1 → (vp_in x1 4400 ∧ (Q (t 19 x1.toNatClampNeg) t))) ∧ (x2 = 2 → (vp_in x1 4400 ∧ (Q (t 20 x1.toNatClampNeg) t))) ∧ (x2 = 3 → (vp_in x1 4400 ∧ (Q (t 21 x1.toNatClampNeg) t))) ∧ (x2 = 4 → (vp_in x1 4400 ∧ (Q (t 22 x1.toNatClampNeg) t))) ∧ (¬ x2 = 0 → ¬ x2 = 1 → ¬ x2 = 2 → ¬ x2 = 3 → ¬ x2 = 4 → (Q (-1) t)))) ∧ ((¬ x1 < (t 17 0)) → (Q (-1) t))))
set_option maxHeartbeats 4000000 in
theorem sd_effect {d : Nat} {M : Mem} {P : Option AV → Mem → Prop} {Q : Int32 → DB → Prop} {x1 x2 : Int32} {t : DB} (hP : ∀ r t, Q r t → P (some (.inl r)) (tput M t)) (hT : TW M) (h : w_effect x1 x2 t Q) : ct d mX1_effect [.inr (2, 0), .inl x1, .inl x2] (tput M t) P := by
  refine ct_of (by decide) (Nat.le_of_ble_eq_true rfl) ?_
  show wp d mX1_effect 0 [(0, .inr (2, 0)), (1, .inl x1), (2, .inl x2)] [] (tput M t) P
  unfold w_effect at h
  refine a_iload_n 1 dX1_effect_0 rfl rfl ?_
  refine a_if_lt (tgt := 12) dX1_effect_1 (by decide) (fun c_2 => ?_) (fun c_2 => ?_)
  · replace h := h.1 c_2
    refine a_iconst (v := (-1)) dX1_effect_12 (by decide) ?_
    exact a_iret rfl dX1_effect_13 (hP _ _ h)
  · replace h := h.2 c_2
    refine a_iload_n 1 dX1_effect_4 rfl rfl ?_
    refine a_aload_n 0 dX1_effect_5 rfl rfl ?_
    refine t_gi 17 (by decide) q1529 rfl dX1_effect_6 ?_
    refine a_icmp_lt (tgt := 14) dX1_effect_9 (by decide) (fun c_1 => ?_) (fun c_1 => ?_)
    · replace h := h.1 c_1
      refine a_iload_n 2 dX1_effect_14 rfl rfl ?_
      refine a_tsw (fun j => ([48, 55, 62, 69, 76] : List Nat).getD j 0) (tD := 83) (n := 5) dX1_effect_15 rfl (by decide) (by decide) (by decide) (fun j hj e => ?_) (fun e => ?_)
      · match j, hj, e with
        | 0, _, e =>
          replace h := h.1 e
          show wp d mX1_effect 48 _ _ _ _
          refine a_aload_n 0 dX1_effect_48 rfl rfl ?_
          refine t_ga 18 hT (by decide) q1530 rfl dX1_effect_49 ?_
          refine a_iload_n 1 dX1_effect_52 rfl rfl ?_
          refine t_ia (f := 18) rfl hT (by decide) h.1 dX1_effect_53 ?_
          replace h := h.2
          exact a_iret rfl dX1_effect_54 (hP _ _ h)
        | 1, _, e =>
          replace h := h.2.1 e
          show wp d mX1_effect 55 _ _ _ _
          refine a_aload_n 0 dX1_effect_55 rfl rfl ?_
          refine t_ga 19 hT (by decide) q1531 rfl dX1_effect_56 ?_
          refine a_iload_n 1 dX1_effect_59 rfl rfl ?_
          refine t_ia (f := 19) rfl hT (by decide) h.1 dX1_effect_60 ?_
          replace h := h.2
          exact a_iret rfl dX1_effect_61 (hP _ _ h)
        | 2, _, e =>
          replace h := h.2.2.1 e
          show wp d mX1_effect 62 _ _ _ _
          refine a_aload_n 0 dX1_effect_62 rfl rfl ?_
          refine t_ga 20 hT (by decide) q1532 rfl dX1_effect_63 ?_
          refine a_iload_n 1 dX1_effect_66 rfl rfl ?_
          refine t_ia (f := 20) rfl hT (by decide) h.1 dX1_effect_67 ?_
          replace h := h.2
          exact a_iret rfl dX1_effect_68 (hP _ _ h)
        | 3, _, e =>
          replace h := h.2.2.2.1 e
          show wp d mX1_effect 69 _ _ _ _
          refine a_aload_n 0 dX1_effect_69 rfl rfl ?_
          refine t_ga 21 hT (by decide) q1533 rfl dX1_effect_70 ?_
          refine a_iload_n 1 dX1_effect_73 rfl rfl ?_
          refine t_ia (f := 21) rfl hT (by decide) h.1 dX1_effect_74 ?_
          replace h := h.2
          exact a_iret rfl dX1_effect_75 (hP _ _ h)
        | 4, _, e =>
          replace h := h.2.2.2.2.1 e
          show wp d mX1_effect 76 _ _ _ _
          refine a_aload_n 0 dX1_effect_76 rfl rfl ?_
          refine t_ga 22 hT (by decide) q1534 rfl dX1_effect_77 ?_
          refine a_iload_n 1 dX1_effect_80 rfl rfl ?_
          refine t_ia (f := 22) rfl hT (by decide) h.1 dX1_effect_81 ?_
          replace h := h.2
          exact a_iret rfl dX1_effect_82 (hP _ _ h)
        | j + 5, hj, _ => exact absurd hj (by omega)
      · replace h := h.2.2.2.2.2 (e 0 (by decide)) (e 1 (by decide)) (e 2 (by decide)) (e 3 (by decide)) (e 4 (by decide))
        refine a_iconst (v := (-1)) dX1_effect_83 (by decide) ?_
        exact a_iret rfl dX1_effect_84 (hP _ _ h)
    · replace h := h.2 c_1
      refine a_iconst (v := (-1)) dX1_effect_12 (by decide) ?_
      exact a_iret rfl dX1_effect_13 (hP _ _ h)
theorem zmh_effect : zmh yX1_effect 2 := ⟨⟨by decide +kernel, by decide +kernel⟩, by decide +kernel⟩
abbrev mX1_count : zMt := (yX1_count, cX1_count, 4, some .int)
def w_count_221 : Nat → Int32 → Int32 → DB → (Int32 → DB → Prop) → Prop
  | 0, _, _, _, _ => False
  | n + 1, x2, x3, t, Q => (((t 103 0) ≤ x3) → (Q x2 t)) ∧ ((¬ (t 103 0) ≤ x3) → (vp_in x3 10 ∧ ((((t 109 x3.toNatClampNeg) = 0) → (∀ x_1 : Int32, x_1 = x2 + 0 → (∀ x_2 : Int32, x_2 = x3 + 1 → (w_count_221 n x_1 x_2 t Q)))) ∧ ((¬ (t 109 x3.toNatClampNeg) = 0) → (∀ x_3 : Int32, x_3 = x2 + 1 → (∀ x_4 : Int32, x_4 = x3 + 1 → (w_count_221 n x_3 x_4 t Q)))))))
set_option maxHeartbeats 4000000 in
theorem sd_count_221 {d : Nat} {M : Mem} {P : Option AV → Mem → Prop} {Q : Int32 → DB → Prop} (hP : ∀ r t, Q r t → P (some (.inl r)) (tput M t)) (hT : TW M) : ∀ (n : Nat) (x2 x3 : Int32) (t : DB), w_count_221 n x2 x3 t Q → wp d mX1_count 221 [(0, .inr (2, 0)), (2, .inl x2), (3, .inl x3)] [] (tput M t) P := by
  intro n
  induction n with
  | zero => intro x2 x3 t h; exact False.elim h
  | succ n ih =>
    intro x2 x3 t h
    rw [w_count_221] at h
    refine a_iload_n 2 dX1_count_221 rfl rfl ?_
    refine a_aload_n 0 dX1_count_222 rfl rfl ?_
    refine t_gi 103 (by decide) q1615 rfl dX1_count_223 ?_
    refine a_icmp_ge (tgt := 252) dX1_count_226 (by decide) (fun c_6 => ?_) (fun c_6 => ?_)
    · replace h := h.1 c_6
      refine a_iload_n 1 dX1_count_252 rfl rfl ?_
      exact a_iret rfl dX1_count_253 (hP _ _ h)
    · replace h := h.2 c_6
      refine a_iload_n 1 dX1_count_229 rfl rfl ?_
      refine a_aload_n 0 dX1_count_230 rfl rfl ?_
      refine t_ga 109 hT (by decide) q1621 rfl dX1_count_231 ?_
      refine a_iload_n 2 dX1_count_234 rfl rfl ?_
      refine t_za (f := 109) rfl hT (by decide) h.1 dX1_count_235 ?_
      replace h := h.2
      refine a_if_eq (tgt := 243) dX1_count_236 (by decide) (fun c_5 => ?_) (fun c_5 => ?_)
      · replace h := h.1 c_5
        refine a_iconst (v := 0) dX1_count_243 (by decide) ?_
        refine a_iadd dX1_count_244 ?_
        refine a_topi (fun x_1 ex_1 => ?_)
        replace h := h x_1 ex_1
        refine a_istore_n (lv' := [(2, .inl x_1), (0, .inr (2, 0)), (3, .inl x3)]) dX1_count_245 rfl (Nat.le_of_ble_eq_true rfl) rfl ?_
        obtain ⟨x_2, ex_2⟩ : ∃ y : Int32, y = x3 + 1 := ⟨_, rfl⟩
        replace h := h x_2 ex_2
        refine a_iinc (v := x_2) (lv' := [(3, .inl x_2), (2, .inl x_1), (0, .inr (2, 0))]) 2 dX1_count_246 rfl (by rw [ex_2]; rfl) (Nat.le_of_ble_eq_true rfl) rfl ?_
        refine a_goto (tgt := 221) dX1_count_249 (by decide) ?_
        exact wp_sub (by simp) (ih x_1 x_2 t h)
      · replace h := h.2 c_5
        refine a_iconst (v := 1) dX1_count_239 (by decide) ?_
        refine a_goto (tgt := 244) dX1_count_240 (by decide) ?_
        refine a_iadd dX1_count_244 ?_
        refine a_topi (fun x_3 ex_3 => ?_)
        replace h := h x_3 ex_3
        refine a_istore_n (lv' := [(2, .inl x_3), (0, .inr (2, 0)), (3, .inl x3)]) dX1_count_245 rfl (Nat.le_of_ble_eq_true rfl) rfl ?_
        obtain ⟨x_4, ex_4⟩ : ∃ y : Int32, y = x3 + 1 := ⟨_, rfl⟩
        replace h := h x_4 ex_4
        refine a_iinc (v := x_4) (lv' := [(3, .inl x_4), (2, .inl x_3), (0, .inr (2, 0))]) 2 dX1_count_246 rfl (by rw [ex_4]; rfl) (Nat.le_of_ble_eq_true rfl) rfl ?_
        refine a_goto (tgt := 221) dX1_count_249 (by decide) ?_
        exact wp_sub (by simp) (ih x_3 x_4 t h)
def w_count_173 : Nat → Int32 → Int32 → DB → (Int32 → DB → Prop) → Prop
  | 0, _, _, _, _ => False
  | n + 1, x2, x3, t, Q => (((t 50 0) ≤ x3) → (Q x2 t)) ∧ ((¬ (t 50 0) ≤ x3) → (vp_in x3 60 ∧ (((¬ (t 58 x3.toNatClampNeg) = 0) → (∀ x_1 : Int32, x_1 = x2 + 0 → (∀ x_2 : Int32, x_2 = x3 + 1 → (w_count_173 n x_1 x_2 t Q)))) ∧ (((t 58 x3.toNatClampNeg) = 0) → (∀ x_3 : Int32, x_3 = x2 + 1 → (∀ x_4 : Int32, x_4 = x3 + 1 → (w_count_173 n x_3 x_4 t Q)))))))
set_option maxHeartbeats 4000000 in
theorem sd_count_173 {d : Nat} {M : Mem} {P : Option AV → Mem → Prop} {Q : Int32 → DB → Prop} (hP : ∀ r t, Q r t → P (some (.inl r)) (tput M t)) (hT : TW M) : ∀ (n : Nat) (x2 x3 : Int32) (t : DB), w_count_173 n x2 x3 t Q → wp d mX1_count 173 [(0, .inr (2, 0)), (2, .inl x2), (3, .inl x3)] [] (tput M t) P := by
  intro n
  induction n with
  | zero => intro x2 x3 t h; exact False.elim h
  | succ n ih =>
    intro x2 x3 t h
    rw [w_count_173] at h
    refine a_iload_n 2 dX1_count_173 rfl rfl ?_
    refine a_aload_n 0 dX1_count_174 rfl rfl ?_
    refine t_gi 50 (by decide) q1562 rfl dX1_count_175 ?_
    refine a_icmp_ge (tgt := 204) dX1_count_178 (by decide) (fun c_6 => ?_) (fun c_6 => ?_)
    · replace h := h.1 c_6
      refine a_iload_n 1 dX1_count_204 rfl rfl ?_
      exact a_iret rfl dX1_count_205 (hP _ _ h)
    · replace h := h.2 c_6
      refine a_iload_n 1 dX1_count_181 rfl rfl ?_
      refine a_aload_n 0 dX1_count_182 rfl rfl ?_
      refine t_ga 58 hT (by decide) q1570 rfl dX1_count_183 ?_
      refine a_iload_n 2 dX1_count_186 rfl rfl ?_
      refine t_ia (f := 58) rfl hT (by decide) h.1 dX1_count_187 ?_
      replace h := h.2
      refine a_if_ne (tgt := 195) dX1_count_188 (by decide) (fun c_5 => ?_) (fun c_5 => ?_)
      · replace h := h.1 c_5
        refine a_iconst (v := 0) dX1_count_195 (by decide) ?_
        refine a_iadd dX1_count_196 ?_
        refine a_topi (fun x_1 ex_1 => ?_)
        replace h := h x_1 ex_1
        refine a_istore_n (lv' := [(2, .inl x_1), (0, .inr (2, 0)), (3, .inl x3)]) dX1_count_197 rfl (Nat.le_of_ble_eq_true rfl) rfl ?_
        obtain ⟨x_2, ex_2⟩ : ∃ y : Int32, y = x3 + 1 := ⟨_, rfl⟩
        replace h := h x_2 ex_2
        refine a_iinc (v := x_2) (lv' := [(3, .inl x_2), (2, .inl x_1), (0, .inr (2, 0))]) 2 dX1_count_198 rfl (by rw [ex_2]; rfl) (Nat.le_of_ble_eq_true rfl) rfl ?_
        refine a_goto (tgt := 173) dX1_count_201 (by decide) ?_
        exact wp_sub (by simp) (ih x_1 x_2 t h)
      · replace h := h.2 c_5
        refine a_iconst (v := 1) dX1_count_191 (by decide) ?_
        refine a_goto (tgt := 196) dX1_count_192 (by decide) ?_
        refine a_iadd dX1_count_196 ?_
        refine a_topi (fun x_3 ex_3 => ?_)
        replace h := h x_3 ex_3
        refine a_istore_n (lv' := [(2, .inl x_3), (0, .inr (2, 0)), (3, .inl x3)]) dX1_count_197 rfl (Nat.le_of_ble_eq_true rfl) rfl ?_
        obtain ⟨x_4, ex_4⟩ : ∃ y : Int32, y = x3 + 1 := ⟨_, rfl⟩
        replace h := h x_4 ex_4
        refine a_iinc (v := x_4) (lv' := [(3, .inl x_4), (2, .inl x_3), (0, .inr (2, 0))]) 2 dX1_count_198 rfl (by rw [ex_4]; rfl) (Nat.le_of_ble_eq_true rfl) rfl ?_
        refine a_goto (tgt := 173) dX1_count_201 (by decide) ?_
        exact wp_sub (by simp) (ih x_3 x_4 t h)
def w_count_156 (K123 : Int32 → Int32 → Int32 → DB → Prop) (x1 x3 s0 : Int32) (t : DB) (Q : Int32 → DB → Prop) : Prop := ∀ x_1 : Int32, x_1 = s0 + 1 → (∀ x_2 : Int32, x_2 = x3 + 1 → (K123 x1 x_1 x_2 t))
set_option maxHeartbeats 4000000 in
theorem sd_count_156 {d : Nat} {M : Mem} {P : Option AV → Mem → Prop} {Q : Int32 → DB → Prop} (hP : ∀ r t, Q r t → P (some (.inl r)) (tput M t)) (hT : TW M) (K123 : Int32 → Int32 → Int32 → DB → Prop) (hK123 : ∀ (z1 : Int32) (z2 : Int32) (z3 : Int32) (t : DB), K123 z1 z2 z3 t → wp d mX1_count 123 [(0, .inr (2, 0)), (1, .inl z1), (2, .inl z2), (3, .inl z3)] [] (tput M t) P) (x1 x3 s0 : Int32) (t : DB) (h : w_count_156 K123 x1 x3 s0 t Q) : wp d mX1_count 156 [(0, .inr (2, 0)), (1, .inl x1), (3, .inl x3)] [.inl s0] (tput M t) P := by
  unfold w_count_156 at h
  refine a_iconst (v := 1) dX1_count_156 (by decide) ?_
  refine a_goto (tgt := 161) dX1_count_157 (by decide) ?_
  refine a_iadd dX1_count_161 ?_
  refine a_topi (fun x_1 ex_1 => ?_)
  replace h := h x_1 ex_1
  refine a_istore_n (lv' := [(2, .inl x_1), (0, .inr (2, 0)), (1, .inl x1), (3, .inl x3)]) dX1_count_162 rfl (Nat.le_of_ble_eq_true rfl) rfl ?_
  obtain ⟨x_2, ex_2⟩ : ∃ y : Int32, y = x3 + 1 := ⟨_, rfl⟩
  replace h := h x_2 ex_2
  refine a_iinc (v := x_2) (lv' := [(3, .inl x_2), (2, .inl x_1), (0, .inr (2, 0)), (1, .inl x1)]) 3 dX1_count_163 rfl (by rw [ex_2]; rfl) (Nat.le_of_ble_eq_true rfl) rfl ?_
  refine a_goto (tgt := 123) dX1_count_166 (by decide) ?_
  exact wp_sub (by simp) (hK123 x1 x_1 x_2 t h)
def w_count_123 : Nat → Int32 → Int32 → Int32 → DB → (Int32 → DB → Prop) → Prop
  | 0, _, _, _, _, _ => False
  | n + 1, x1, x2, x3, t, Q => (((t 61 0) ≤ x3) → (Q x2 t)) ∧ ((¬ (t 61 0) ≤ x3) → (vp_in x3 4400 ∧ (((¬ (t 69 x3.toNatClampNeg) = 0) → (∀ x_1 : Int32, x_1 = x2 + 0 → (∀ x_2 : Int32, x_2 = x3 + 1 → (w_count_123 n x1 x_1 x_2 t Q)))) ∧ (((t 69 x3.toNatClampNeg) = 0) → (((x1 = 9) → (w_count_156 (fun z1 z2 z3 t => w_count_123 n z1 z2 z3 t Q) x1 x3 x2 t Q)) ∧ ((¬ x1 = 9) → (vp_in x3 4400 ∧ (((0 ≤ (t 65 x3.toNatClampNeg)) → (∀ x_3 : Int32, x_3 = x2 + 0 → (∀ x_4 : Int32, x_4 = x3 + 1 → (w_count_123 n x1 x_3 x_4 t Q)))) ∧ ((¬ 0 ≤ (t 65 x3.toNatClampNeg)) → (w_count_156 (fun z1 z2 z3 t => w_count_123 n z1 z2 z3 t Q) x1 x3 x2 t Q))))))))))
set_option maxHeartbeats 4000000 in
theorem sd_count_123 {d : Nat} {M : Mem} {P : Option AV → Mem → Prop} {Q : Int32 → DB → Prop} (hP : ∀ r t, Q r t → P (some (.inl r)) (tput M t)) (hT : TW M) : ∀ (n : Nat) (x1 x2 x3 : Int32) (t : DB), w_count_123 n x1 x2 x3 t Q → wp d mX1_count 123 [(0, .inr (2, 0)), (1, .inl x1), (2, .inl x2), (3, .inl x3)] [] (tput M t) P := by
  intro n
  induction n with
  | zero => intro x1 x2 x3 t h; exact False.elim h
  | succ n ih =>
    intro x1 x2 x3 t h
    rw [w_count_123] at h
    refine a_iload_n 3 dX1_count_123 rfl rfl ?_
    refine a_aload_n 0 dX1_count_124 rfl rfl ?_
    refine t_gi 61 (by decide) q1573 rfl dX1_count_125 ?_
    refine a_icmp_ge (tgt := 169) dX1_count_128 (by decide) (fun c_8 => ?_) (fun c_8 => ?_)
    · replace h := h.1 c_8
      refine a_iload_n 2 dX1_count_169 rfl rfl ?_
      exact a_iret rfl dX1_count_170 (hP _ _ h)
    · replace h := h.2 c_8
      refine a_iload_n 2 dX1_count_131 rfl rfl ?_
      refine a_aload_n 0 dX1_count_132 rfl rfl ?_
      refine t_ga 69 hT (by decide) q1581 rfl dX1_count_133 ?_
      refine a_iload_n 3 dX1_count_136 rfl rfl ?_
      refine t_ia (f := 69) rfl hT (by decide) h.1 dX1_count_137 ?_
      replace h := h.2
      refine a_if_ne (tgt := 160) dX1_count_138 (by decide) (fun c_7 => ?_) (fun c_7 => ?_)
      · replace h := h.1 c_7
        refine a_iconst (v := 0) dX1_count_160 (by decide) ?_
        refine a_iadd dX1_count_161 ?_
        refine a_topi (fun x_1 ex_1 => ?_)
        replace h := h x_1 ex_1
        refine a_istore_n (lv' := [(2, .inl x_1), (0, .inr (2, 0)), (1, .inl x1), (3, .inl x3)]) dX1_count_162 rfl (Nat.le_of_ble_eq_true rfl) rfl ?_
        obtain ⟨x_2, ex_2⟩ : ∃ y : Int32, y = x3 + 1 := ⟨_, rfl⟩
        replace h := h x_2 ex_2
        refine a_iinc (v := x_2) (lv' := [(3, .inl x_2), (2, .inl x_1), (0, .inr (2, 0)), (1, .inl x1)]) 3 dX1_count_163 rfl (by rw [ex_2]; rfl) (Nat.le_of_ble_eq_true rfl) rfl ?_
        refine a_goto (tgt := 123) dX1_count_166 (by decide) ?_
        exact wp_sub (by simp) (ih x1 x_1 x_2 t h)
      · replace h := h.2 c_7
        refine a_iload_n 1 dX1_count_141 rfl rfl ?_
        refine a_bipush (v := 9) dX1_count_142 (by decide) ?_
        refine a_icmp_eq (tgt := 156) dX1_count_144 (by decide) (fun c_6 => ?_) (fun c_6 => ?_)
        · replace h := h.1 c_6
          exact wp_sub (by simp) (sd_count_156 hP hT _ ih x1 x3 x2 t h)
        · replace h := h.2 c_6
          refine a_aload_n 0 dX1_count_147 rfl rfl ?_
          refine t_ga 65 hT (by decide) q1577 rfl dX1_count_148 ?_
          refine a_iload_n 3 dX1_count_151 rfl rfl ?_
          refine t_ia (f := 65) rfl hT (by decide) h.1 dX1_count_152 ?_
          replace h := h.2
          refine a_if_ge (tgt := 160) dX1_count_153 (by decide) (fun c_5 => ?_) (fun c_5 => ?_)
          · replace h := h.1 c_5
            refine a_iconst (v := 0) dX1_count_160 (by decide) ?_
            refine a_iadd dX1_count_161 ?_
            refine a_topi (fun x_3 ex_3 => ?_)
            replace h := h x_3 ex_3
            refine a_istore_n (lv' := [(2, .inl x_3), (0, .inr (2, 0)), (1, .inl x1), (3, .inl x3)]) dX1_count_162 rfl (Nat.le_of_ble_eq_true rfl) rfl ?_
            obtain ⟨x_4, ex_4⟩ : ∃ y : Int32, y = x3 + 1 := ⟨_, rfl⟩
            replace h := h x_4 ex_4
            refine a_iinc (v := x_4) (lv' := [(3, .inl x_4), (2, .inl x_3), (0, .inr (2, 0)), (1, .inl x1)]) 3 dX1_count_163 rfl (by rw [ex_4]; rfl) (Nat.le_of_ble_eq_true rfl) rfl ?_
            refine a_goto (tgt := 123) dX1_count_166 (by decide) ?_
            exact wp_sub (by simp) (ih x1 x_3 x_4 t h)
          · replace h := h.2 c_5
            exact wp_sub (by simp) (sd_count_156 hP hT _ ih x1 x3 x2 t h)
def w_count (x1 : Int32) (t : DB) (Q : Int32 → DB → Prop) : Prop := (x1 = 0 → (Q (t 1 0) t)) ∧ (x1 = 1 → (Q (t 5 0) t)) ∧ (x1 = 2 → (Q (t 11 0) t)) ∧ (x1 = 3 → (Q (t 30 0) t)) ∧ (x1 = 4 → (Q (t 47 0) t)) ∧ (x1 = 5 → (Q (t 50 0) t)) ∧ (x1 = 6 → (Q (t 61 0) t)) ∧ (x1 = 7 → (Q (t 23 0) t)) ∧ (x1 = 8 → (Q (t 17 0) t)) ∧ (x1 = 9 → (∃ n_, w_count_123 n_ x1 0 0 t Q)) ∧ (x1 = 10 → (∃ n_, w_count_123 n_ x1 0 0 t Q)) ∧ (x1 = 11 → (∃ n_, w_count_173 n_ 0 0 t Q)) ∧ (x1 = 12 → (vp_in 10 11 ∧ (Q (t 48 (10 : Int32).toNatClampNeg) t))) ∧ (x1 = 13 → (Q (t 89 0) t)) ∧ (x1 = 14 → (∃ n_, w_count_221 n_ 0 0 t Q)) ∧ (¬ x1 = 0 → ¬ x1 = 1 → ¬ x1 = 2 → ¬ x1 = 3 → ¬ x1 = 4 → ¬ x1 = 5 → ¬ x1 = 6 → ¬ x1 = 7 → ¬ x1 = 8 → ¬ x1 = 9 → ¬ x1 = 10 → ¬ x1 = 11 → ¬ x1 = 12 → ¬ x1 = 13 → ¬ x1 = 14 → (Q (-1) t))
set_option maxHeartbeats 4000000 in
theorem sd_count {d : Nat} {M : Mem} {P : Option AV → Mem → Prop} {Q : Int32 → DB → Prop} {x1 : Int32} {t : DB} (hP : ∀ r t, Q r t → P (some (.inl r)) (tput M t)) (hT : TW M) (h : w_count x1 t Q) : ct d mX1_count [.inr (2, 0), .inl x1] (tput M t) P := by
  refine ct_of (by decide) (Nat.le_of_ble_eq_true rfl) ?_
  show wp d mX1_count 0 [(0, .inr (2, 0)), (1, .inl x1)] [] (tput M t) P
  unfold w_count at h
  refine a_iconst (v := 0) dX1_count_0 (by decide) ?_
  refine a_istore_n (lv' := [(2, .inl 0), (0, .inr (2, 0)), (1, .inl x1)]) dX1_count_1 rfl (Nat.le_of_ble_eq_true rfl) rfl ?_
  refine a_iload_n 2 dX1_count_2 rfl rfl ?_
  refine a_tsw (fun j => ([76, 81, 86, 91, 96, 101, 106, 111, 116, 121, 121, 171, 206, 214, 219] : List Nat).getD j 0) (tD := 254) (n := 15) dX1_count_3 rfl (by decide) (by decide) (by decide) (fun j hj e => ?_) (fun e => ?_)
  · match j, hj, e with
    | 0, _, e =>
      replace h := h.1 e
      show wp d mX1_count 76 _ _ _ _
      refine a_aload_n 1 dX1_count_76 rfl rfl ?_
      refine t_gi 1 (by decide) q1513 rfl dX1_count_77 ?_
      exact a_iret rfl dX1_count_80 (hP _ _ h)
    | 1, _, e =>
      replace h := h.2.1 e
      show wp d mX1_count 81 _ _ _ _
      refine a_aload_n 1 dX1_count_81 rfl rfl ?_
      refine t_gi 5 (by decide) q1517 rfl dX1_count_82 ?_
      exact a_iret rfl dX1_count_85 (hP _ _ h)
    | 2, _, e =>
      replace h := h.2.2.1 e
      show wp d mX1_count 86 _ _ _ _
      refine a_aload_n 1 dX1_count_86 rfl rfl ?_
      refine t_gi 11 (by decide) q1523 rfl dX1_count_87 ?_
      exact a_iret rfl dX1_count_90 (hP _ _ h)
    | 3, _, e =>
      replace h := h.2.2.2.1 e
      show wp d mX1_count 91 _ _ _ _
      refine a_aload_n 1 dX1_count_91 rfl rfl ?_
      refine t_gi 30 (by decide) q1542 rfl dX1_count_92 ?_
      exact a_iret rfl dX1_count_95 (hP _ _ h)
    | 4, _, e =>
      replace h := h.2.2.2.2.1 e
      show wp d mX1_count 96 _ _ _ _
      refine a_aload_n 1 dX1_count_96 rfl rfl ?_
      refine t_gi 47 (by decide) q1559 rfl dX1_count_97 ?_
      exact a_iret rfl dX1_count_100 (hP _ _ h)
    | 5, _, e =>
      replace h := h.2.2.2.2.2.1 e
      show wp d mX1_count 101 _ _ _ _
      refine a_aload_n 1 dX1_count_101 rfl rfl ?_
      refine t_gi 50 (by decide) q1562 rfl dX1_count_102 ?_
      exact a_iret rfl dX1_count_105 (hP _ _ h)
    | 6, _, e =>
      replace h := h.2.2.2.2.2.2.1 e
      show wp d mX1_count 106 _ _ _ _
      refine a_aload_n 1 dX1_count_106 rfl rfl ?_
      refine t_gi 61 (by decide) q1573 rfl dX1_count_107 ?_
      exact a_iret rfl dX1_count_110 (hP _ _ h)
    | 7, _, e =>
      replace h := h.2.2.2.2.2.2.2.1 e
      show wp d mX1_count 111 _ _ _ _
      refine a_aload_n 1 dX1_count_111 rfl rfl ?_
      refine t_gi 23 (by decide) q1535 rfl dX1_count_112 ?_
      exact a_iret rfl dX1_count_115 (hP _ _ h)
    | 8, _, e =>
      replace h := h.2.2.2.2.2.2.2.2.1 e
      show wp d mX1_count 116 _ _ _ _
      refine a_aload_n 1 dX1_count_116 rfl rfl ?_
      refine t_gi 17 (by decide) q1529 rfl dX1_count_117 ?_
      exact a_iret rfl dX1_count_120 (hP _ _ h)
    | 9, _, e =>
      replace h := h.2.2.2.2.2.2.2.2.2.1 e
      show wp d mX1_count 121 _ _ _ _
      refine a_iconst (v := 0) dX1_count_121 (by decide) ?_
      refine a_istore_n (lv' := [(3, .inl 0), (2, .inl 0), (0, .inr (2, 0)), (1, .inl x1)]) dX1_count_122 rfl (Nat.le_of_ble_eq_true rfl) rfl ?_
      obtain ⟨n_, h⟩ := h
      exact wp_sub (by simp) (sd_count_123 hP hT n_ x1 0 0 t h)
    | 10, _, e =>
      replace h := h.2.2.2.2.2.2.2.2.2.2.1 e
      show wp d mX1_count 121 _ _ _ _
      refine a_iconst (v := 0) dX1_count_121 (by decide) ?_
      refine a_istore_n (lv' := [(3, .inl 0), (2, .inl 0), (0, .inr (2, 0)), (1, .inl x1)]) dX1_count_122 rfl (Nat.le_of_ble_eq_true rfl) rfl ?_
      obtain ⟨n_, h⟩ := h
      exact wp_sub (by simp) (sd_count_123 hP hT n_ x1 0 0 t h)
    | 11, _, e =>
      replace h := h.2.2.2.2.2.2.2.2.2.2.2.1 e
      show wp d mX1_count 171 _ _ _ _
      refine a_iconst (v := 0) dX1_count_171 (by decide) ?_
      refine a_istore_n (lv' := [(3, .inl 0), (2, .inl 0), (0, .inr (2, 0)), (1, .inl x1)]) dX1_count_172 rfl (Nat.le_of_ble_eq_true rfl) rfl ?_
      obtain ⟨n_, h⟩ := h
      exact wp_sub (by simp) (sd_count_173 hP hT n_ 0 0 t h)
    | 12, _, e =>
      replace h := h.2.2.2.2.2.2.2.2.2.2.2.2.1 e
      show wp d mX1_count 206 _ _ _ _
      refine a_aload_n 1 dX1_count_206 rfl rfl ?_
      refine t_ga 48 hT (by decide) q1560 rfl dX1_count_207 ?_
      refine a_bipush (v := 10) dX1_count_210 (by decide) ?_
      refine t_ia (f := 48) rfl hT (by decide) h.1 dX1_count_212 ?_
      replace h := h.2
      exact a_iret rfl dX1_count_213 (hP _ _ h)
    | 13, _, e =>
      replace h := h.2.2.2.2.2.2.2.2.2.2.2.2.2.1 e
      show wp d mX1_count 214 _ _ _ _
      refine a_aload_n 1 dX1_count_214 rfl rfl ?_
      refine t_gi 89 (by decide) q1601 rfl dX1_count_215 ?_
      exact a_iret rfl dX1_count_218 (hP _ _ h)
    | 14, _, e =>
      replace h := h.2.2.2.2.2.2.2.2.2.2.2.2.2.2.1 e
      show wp d mX1_count 219 _ _ _ _
      refine a_iconst (v := 0) dX1_count_219 (by decide) ?_
      refine a_istore_n (lv' := [(3, .inl 0), (2, .inl 0), (0, .inr (2, 0)), (1, .inl x1)]) dX1_count_220 rfl (Nat.le_of_ble_eq_true rfl) rfl ?_
      obtain ⟨n_, h⟩ := h
      exact wp_sub (by simp) (sd_count_221 hP hT n_ 0 0 t h)
    | j + 15, hj, _ => exact absurd hj (by omega)
  · replace h := h.2.2.2.2.2.2.2.2.2.2.2.2.2.2.2 (e 0 (by decide)) (e 1 (by decide)) (e 2 (by decide)) (e 3 (by decide)) (e 4 (by decide)) (e 5 (by decide)) (e 6 (by decide)) (e 7 (by decide)) (e 8 (by decide)) (e 9 (by decide)) (e 10 (by decide)) (e 11 (by decide)) (e 12 (by decide)) (e 13 (by decide)) (e 14 (by decide))
    refine a_iconst (v := (-1)) dX1_count_254 (by decide) ?_
    exact a_iret rfl dX1_count_255 (hP _ _ h)
theorem zmh_count : zmh yX1_count 1 := ⟨⟨by decide +kernel, by decide +kernel⟩, by decide +kernel⟩
