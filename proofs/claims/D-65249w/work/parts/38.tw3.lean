set_option maxRecDepth 100000
abbrev mX1_gone : zMt := (yX1_gone, cX1_gone, 4, none)
def w_gone_4 : Nat → Int32 → Int32 → DB → (DB → Prop) → Prop
  | 0, _, _, _, _ => False
  | n + 1, x1, x3, t, Q => (((t 61 0) ≤ x3) → (Q t)) ∧ ((¬ (t 61 0) ≤ x3) → (vp_in x3 4400 ∧ (((¬ (t 74 x3.toNatClampNeg) = x1) → (∀ x_1 : Int32, x_1 = x3 + 1 → (w_gone_4 n x1 x_1 t Q))) ∧ (((t 74 x3.toNatClampNeg) = x1) → (vp_in x3 4400 ∧ ((((t 69 x3.toNatClampNeg) = 0) → (w_add 5 x1 x3 0 0 t (fun t_2 => w_add 2 x3 13 0 0 t_2 (fun t_4 => Q t_4)))) ∧ ((¬ (t 69 x3.toNatClampNeg) = 0) → (∀ x_6 : Int32, x_6 = x3 + 1 → (w_gone_4 n x1 x_6 t Q)))))))))
set_option maxHeartbeats 4000000 in
theorem sd_gone_4 {d : Nat} {M : Mem} {P : Option AV → Mem → Prop} {Q : DB → Prop} (hP : ∀ t, Q t → P none (tput M t)) (hT : TW M) : ∀ (n : Nat) (x1 x3 : Int32) (t : DB), w_gone_4 n x1 x3 t Q → wp (d + 1) mX1_gone 4 [(0, .inr (2, 0)), (1, .inl x1), (3, .inl x3)] [] (tput M t) P := by
  intro n
  induction n with
  | zero => intro x1 x3 t h; exact False.elim h
  | succ n ih =>
    intro x1 x3 t h
    rw [w_gone_4] at h
    refine a_iload_n 2 dX1_gone_4 rfl rfl ?_
    refine a_aload_n 0 dX1_gone_5 rfl rfl ?_
    refine t_gi 61 (by decide) q1573 rfl dX1_gone_6 ?_
    refine a_icmp_ge (tgt := 60) dX1_gone_9 (by decide) (fun c_9 => ?_) (fun c_9 => ?_)
    · replace h := h.1 c_9
      exact a_vret rfl dX1_gone_60 (hP _ h)
    · replace h := h.2 c_9
      refine a_aload_n 0 dX1_gone_12 rfl rfl ?_
      refine t_ga 74 hT (by decide) q1586 rfl dX1_gone_13 ?_
      refine a_iload_n 2 dX1_gone_16 rfl rfl ?_
      refine t_ia (f := 74) rfl hT (by decide) h.1 dX1_gone_17 ?_
      replace h := h.2
      refine a_iload_n 1 dX1_gone_18 rfl rfl ?_
      refine a_icmp_ne (tgt := 54) dX1_gone_19 (by decide) (fun c_8 => ?_) (fun c_8 => ?_)
      · replace h := h.1 c_8
        obtain ⟨x_1, ex_1⟩ : ∃ y : Int32, y = x3 + 1 := ⟨_, rfl⟩
        replace h := h x_1 ex_1
        refine a_iinc (v := x_1) (lv' := [(3, .inl x_1), (0, .inr (2, 0)), (1, .inl x1)]) 2 dX1_gone_54 rfl (by rw [ex_1]; rfl) (Nat.le_of_ble_eq_true rfl) rfl ?_
        refine a_goto (tgt := 4) dX1_gone_57 (by decide) ?_
        exact wp_sub (by simp) (ih x1 x_1 t h)
      · replace h := h.2 c_8
        refine a_aload_n 0 dX1_gone_22 rfl rfl ?_
        refine t_ga 69 hT (by decide) q1581 rfl dX1_gone_23 ?_
        refine a_iload_n 2 dX1_gone_26 rfl rfl ?_
        refine t_ia (f := 69) rfl hT (by decide) h.1 dX1_gone_27 ?_
        replace h := h.2
        refine a_if_eq (tgt := 34) dX1_gone_28 (by decide) (fun c_7 => ?_) (fun c_7 => ?_)
        · replace h := h.1 c_7
          refine a_aload_n 0 dX1_gone_34 rfl rfl ?_
          refine a_iconst (v := 5) dX1_gone_35 (by decide) ?_
          refine a_iload_n 1 dX1_gone_36 rfl rfl ?_
          refine a_iload_n 2 dX1_gone_37 rfl rfl ?_
          refine a_iconst (v := 0) dX1_gone_38 (by decide) ?_
          refine a_iconst (v := 0) dX1_gone_39 (by decide) ?_
          refine a_cv (y := mX1_add) (k := 2) (i := 0) (as := [.inl 5, .inl x1, .inl x3, .inl 0, .inl 0]) (st := []) (n := 5) (by decide) (Or.inl q1916) qs37 q1918 q73 q1919 zmh_add rfl (Nat.le_of_ble_eq_true rfl) (Nat.le_of_ble_eq_true rfl) dX1_gone_40 (sd_add (fun t_2 h => ?_) hT h)
          show wp (d + 1) mX1_gone 43 [(0, .inr (2, 0)), (1, .inl x1), (3, .inl x3)] [] (tput M t_2) P
          refine a_aload_n 0 dX1_gone_43 rfl rfl ?_
          refine a_iconst (v := 2) dX1_gone_44 (by decide) ?_
          refine a_iload_n 2 dX1_gone_45 rfl rfl ?_
          refine a_bipush (v := 13) dX1_gone_46 (by decide) ?_
          refine a_iconst (v := 0) dX1_gone_48 (by decide) ?_
          refine a_iconst (v := 0) dX1_gone_49 (by decide) ?_
          refine a_cv (y := mX1_add) (k := 2) (i := 0) (as := [.inl 2, .inl x3, .inl 13, .inl 0, .inl 0]) (st := []) (n := 5) (by decide) (Or.inl q1916) qs37 q1918 q73 q1919 zmh_add rfl (Nat.le_of_ble_eq_true rfl) (Nat.le_of_ble_eq_true rfl) dX1_gone_50 (sd_add (fun t_4 h => ?_) hT h)
          show wp (d + 1) mX1_gone 53 [(0, .inr (2, 0)), (1, .inl x1), (3, .inl x3)] [] (tput M t_4) P
          exact a_vret rfl dX1_gone_53 (hP _ h)
        · replace h := h.2 c_7
          refine a_goto (tgt := 54) dX1_gone_31 (by decide) ?_
          obtain ⟨x_6, ex_6⟩ : ∃ y : Int32, y = x3 + 1 := ⟨_, rfl⟩
          replace h := h x_6 ex_6
          refine a_iinc (v := x_6) (lv' := [(3, .inl x_6), (0, .inr (2, 0)), (1, .inl x1)]) 2 dX1_gone_54 rfl (by rw [ex_6]; rfl) (Nat.le_of_ble_eq_true rfl) rfl ?_
          refine a_goto (tgt := 4) dX1_gone_57 (by decide) ?_
          exact wp_sub (by simp) (ih x1 x_6 t h)
def w_gone (x1 x2 : Int32) (t : DB) (Q : DB → Prop) : Prop := ∀ x_1 : Int32, x_1 = x2 + 1 → (∃ n_, w_gone_4 n_ x1 x_1 t Q)
set_option maxHeartbeats 4000000 in
theorem sd_gone {d : Nat} {M : Mem} {P : Option AV → Mem → Prop} {Q : DB → Prop} {x1 x2 : Int32} {t : DB} (hP : ∀ t, Q t → P none (tput M t)) (hT : TW M) (h : w_gone x1 x2 t Q) : ct (d + 1) mX1_gone [.inr (2, 0), .inl x1, .inl x2] (tput M t) P := by
  refine ct_of (by decide) (Nat.le_of_ble_eq_true rfl) ?_
  show wp (d + 1) mX1_gone 0 [(0, .inr (2, 0)), (1, .inl x1), (2, .inl x2)] [] (tput M t) P
  unfold w_gone at h
  refine a_iload_n 2 dX1_gone_0 rfl rfl ?_
  refine a_iconst (v := 1) dX1_gone_1 (by decide) ?_
  refine a_iadd dX1_gone_2 ?_
  refine a_topi (fun x_1 ex_1 => ?_)
  replace h := h x_1 ex_1
  refine a_istore_n (lv' := [(3, .inl x_1), (0, .inr (2, 0)), (1, .inl x1), (2, .inl x2)]) dX1_gone_3 rfl (Nat.le_of_ble_eq_true rfl) rfl ?_
  obtain ⟨n_, h⟩ := h
  exact wp_sub (by simp) (sd_gone_4 hP hT n_ x1 x_1 t h)
theorem zmh_gone : zmh yX1_gone 2 := ⟨⟨by decide +kernel, by decide +kernel⟩, by decide +kernel⟩
abbrev mX1_takenBack : zMt := (yX1_takenBack, cX1_takenBack, 7, none)
def w_takenBack_190 (x3 : Int32) (t : DB) (Q : DB → Prop) : Prop := vp_in x3 4400 ∧ ((((t 78 x3.toNatClampNeg) = 0) → (Q t)) ∧ ((¬ (t 78 x3.toNatClampNeg) = 0) → (w_add 5 x3 (-1) 0 0 t (fun t_1 => Q t_1))))
set_option maxHeartbeats 4000000 in
theorem sd_takenBack_190 {d : Nat} {M : Mem} {P : Option AV → Mem → Prop} {Q : DB → Prop} (hP : ∀ t, Q t → P none (tput M t)) (hT : TW M) (x3 : Int32) (t : DB) (h : w_takenBack_190 x3 t Q) : wp (d + 1) mX1_takenBack 190 [(0, .inr (2, 0)), (3, .inl x3)] [] (tput M t) P := by
  unfold w_takenBack_190 at h
  refine a_aload_n 0 dX1_takenBack_190 rfl rfl ?_
  refine t_ga 78 hT (by decide) q1590 rfl dX1_takenBack_191 ?_
  refine a_iload_n 1 dX1_takenBack_194 rfl rfl ?_
  refine t_za (f := 78) rfl hT (by decide) h.1 dX1_takenBack_195 ?_
  replace h := h.2
  refine a_if_eq (tgt := 208) dX1_takenBack_196 (by decide) (fun c_3 => ?_) (fun c_3 => ?_)
  · replace h := h.1 c_3
    exact a_vret rfl dX1_takenBack_208 (hP _ h)
  · replace h := h.2 c_3
    refine a_aload_n 0 dX1_takenBack_199 rfl rfl ?_
    refine a_iconst (v := 5) dX1_takenBack_200 (by decide) ?_
    refine a_iload_n 1 dX1_takenBack_201 rfl rfl ?_
    refine a_iconst (v := (-1)) dX1_takenBack_202 (by decide) ?_
    refine a_iconst (v := 0) dX1_takenBack_203 (by decide) ?_
    refine a_iconst (v := 0) dX1_takenBack_204 (by decide) ?_
    refine a_cv (y := mX1_add) (k := 2) (i := 0) (as := [.inl 5, .inl x3, .inl (-1), .inl 0, .inl 0]) (st := []) (n := 5) (by decide) (Or.inl q1916) qs37 q1918 q73 q1919 zmh_add rfl (Nat.le_of_ble_eq_true rfl) (Nat.le_of_ble_eq_true rfl) dX1_takenBack_205 (sd_add (fun t_1 h => ?_) hT h)
    show wp (d + 1) mX1_takenBack 208 [(0, .inr (2, 0)), (3, .inl x3)] [] (tput M t_1) P
    exact a_vret rfl dX1_takenBack_208 (hP _ h)
def w_takenBack_131 : Nat → Int32 → Int32 → Int32 → DB → (DB → Prop) → Prop
  | 0, _, _, _, _, _ => False
  | n + 1, x3, x4, x6, t, Q => vp_in x4 24 ∧ ((((t 40 x4.toNatClampNeg) ≤ (x6 + 1)) → (vp_in x4 24 ∧ (vp_in x4 24 ∧ (∀ t_1 : DB, t_1 = up t 40 x4.toNatClampNeg ((t 40 x4.toNatClampNeg) - 1) → (w_takenBack_190 x3 t_1 Q))))) ∧ ((¬ (t 40 x4.toNatClampNeg) ≤ (x6 + 1)) → (vp_in (((10 * x4) + x6) + 1) 240 ∧ (vp_in ((10 * x4) + x6) 240 ∧ (∀ t_2 : DB, t_2 = up t 43 ((10 * x4) + x6).toNatClampNeg (t 43 (((10 * x4) + x6) + 1).toNatClampNeg) → (∀ x_3 : Int32, x_3 = x6 + 1 → (w_takenBack_131 n x3 x4 x_3 t_2 Q)))))))
set_option maxHeartbeats 4000000 in
theorem sd_takenBack_131 {d : Nat} {M : Mem} {P : Option AV → Mem → Prop} {Q : DB → Prop} (hP : ∀ t, Q t → P none (tput M t)) (hT : TW M) : ∀ (n : Nat) (x3 x4 x6 : Int32) (t : DB), w_takenBack_131 n x3 x4 x6 t Q → wp (d + 1) mX1_takenBack 131 [(0, .inr (2, 0)), (3, .inl x3), (4, .inl x4), (6, .inl x6)] [] (tput M t) P := by
  intro n
  induction n with
  | zero => intro x3 x4 x6 t h; exact False.elim h
  | succ n ih =>
    intro x3 x4 x6 t h
    rw [w_takenBack_131] at h
    refine a_iload 3 dX1_takenBack_131 rfl ?_
    refine a_iconst (v := 1) dX1_takenBack_133 (by decide) ?_
    refine a_iadd dX1_takenBack_134 ?_
    refine a_aload_n 0 dX1_takenBack_135 rfl rfl ?_
    refine t_ga 40 hT (by decide) q1552 rfl dX1_takenBack_136 ?_
    refine a_iload 2 dX1_takenBack_139 rfl ?_
    refine t_ia (f := 40) rfl hT (by decide) h.1 dX1_takenBack_141 ?_
    replace h := h.2
    refine a_icmp_ge (tgt := 179) dX1_takenBack_142 (by decide) (fun c_4 => ?_) (fun c_4 => ?_)
    · replace h := h.1 c_4
      refine a_aload_n 0 dX1_takenBack_179 rfl rfl ?_
      refine t_ga 40 hT (by decide) q1552 rfl dX1_takenBack_180 ?_
      refine a_iload 2 dX1_takenBack_183 rfl ?_
      refine a_dup2 dX1_takenBack_185 ?_
      refine t_ia (f := 40) rfl hT (by decide) h.1 dX1_takenBack_186 ?_
      replace h := h.2
      refine a_iconst (v := 1) dX1_takenBack_187 (by decide) ?_
      refine a_isub dX1_takenBack_188 ?_
      refine t_is (f := 40) rfl hT (by decide) h.1 dX1_takenBack_189 ?_
      replace h := h.2
      refine a_topt (fun t_1 et_1 => ?_)
      replace h := h t_1 et_1
      exact wp_sub (by simp) (sd_takenBack_190 hP hT x3 t_1 h)
    · replace h := h.2 c_4
      refine a_aload_n 0 dX1_takenBack_145 rfl rfl ?_
      refine t_ga 43 hT (by decide) q1555 rfl dX1_takenBack_146 ?_
      refine a_bipush (v := 10) dX1_takenBack_149 (by decide) ?_
      refine a_iload 2 dX1_takenBack_151 rfl ?_
      refine a_imul dX1_takenBack_153 ?_
      refine a_iload 3 dX1_takenBack_154 rfl ?_
      refine a_iadd dX1_takenBack_156 ?_
      refine a_aload_n 0 dX1_takenBack_157 rfl rfl ?_
      refine t_ga 43 hT (by decide) q1555 rfl dX1_takenBack_158 ?_
      refine a_bipush (v := 10) dX1_takenBack_161 (by decide) ?_
      refine a_iload 2 dX1_takenBack_163 rfl ?_
      refine a_imul dX1_takenBack_165 ?_
      refine a_iload 3 dX1_takenBack_166 rfl ?_
      refine a_iadd dX1_takenBack_168 ?_
      refine a_iconst (v := 1) dX1_takenBack_169 (by decide) ?_
      refine a_iadd dX1_takenBack_170 ?_
      refine t_ia (f := 43) rfl hT (by decide) h.1 dX1_takenBack_171 ?_
      replace h := h.2
      refine t_is (f := 43) rfl hT (by decide) h.1 dX1_takenBack_172 ?_
      replace h := h.2
      refine a_topt (fun t_2 et_2 => ?_)
      replace h := h t_2 et_2
      obtain ⟨x_3, ex_3⟩ : ∃ y : Int32, y = x6 + 1 := ⟨_, rfl⟩
      replace h := h x_3 ex_3
      refine a_iinc (v := x_3) (lv' := [(6, .inl x_3), (0, .inr (2, 0)), (3, .inl x3), (4, .inl x4)]) 3 dX1_takenBack_173 rfl (by rw [ex_3]; rfl) (Nat.le_of_ble_eq_true rfl) rfl ?_
      refine a_goto (tgt := 131) dX1_takenBack_176 (by decide) ?_
      exact wp_sub (by simp) (ih x3 x4 x_3 t_2 h)
def w_takenBack_104 : Nat → Int32 → Int32 → Int32 → DB → (DB → Prop) → Prop
  | 0, _, _, _, _, _ => False
  | n + 1, x3, x4, x5, t, Q => vp_in ((10 * x4) + x5) 240 ∧ ((((t 43 ((10 * x4) + x5).toNatClampNeg) = x3) → (∃ n_, w_takenBack_131 n_ x3 x4 x5 t Q)) ∧ ((¬ (t 43 ((10 * x4) + x5).toNatClampNeg) = x3) → (∀ x_1 : Int32, x_1 = x5 + 1 → (w_takenBack_104 n x3 x4 x_1 t Q))))
set_option maxHeartbeats 4000000 in
theorem sd_takenBack_104 {d : Nat} {M : Mem} {P : Option AV → Mem → Prop} {Q : DB → Prop} (hP : ∀ t, Q t → P none (tput M t)) (hT : TW M) : ∀ (n : Nat) (x3 x4 x5 : Int32) (t : DB), w_takenBack_104 n x3 x4 x5 t Q → wp (d + 1) mX1_takenBack 104 [(0, .inr (2, 0)), (3, .inl x3), (4, .inl x4), (5, .inl x5)] [] (tput M t) P := by
  intro n
  induction n with
  | zero => intro x3 x4 x5 t h; exact False.elim h
  | succ n ih =>
    intro x3 x4 x5 t h
    rw [w_takenBack_104] at h
    refine a_aload_n 0 dX1_takenBack_104 rfl rfl ?_
    refine t_ga 43 hT (by decide) q1555 rfl dX1_takenBack_105 ?_
    refine a_bipush (v := 10) dX1_takenBack_108 (by decide) ?_
    refine a_iload 2 dX1_takenBack_110 rfl ?_
    refine a_imul dX1_takenBack_112 ?_
    refine a_iload 3 dX1_takenBack_113 rfl ?_
    refine a_iadd dX1_takenBack_115 ?_
    refine t_ia (f := 43) rfl hT (by decide) h.1 dX1_takenBack_116 ?_
    replace h := h.2
    refine a_iload_n 1 dX1_takenBack_117 rfl rfl ?_
    refine a_icmp_eq (tgt := 127) dX1_takenBack_118 (by decide) (fun c_2 => ?_) (fun c_2 => ?_)
    · replace h := h.1 c_2
      refine a_iload 3 dX1_takenBack_127 rfl ?_
      refine a_istore (lv' := [(6, .inl x5), (0, .inr (2, 0)), (3, .inl x3), (4, .inl x4), (5, .inl x5)]) dX1_takenBack_129 (Nat.le_of_ble_eq_true rfl) rfl ?_
      obtain ⟨n_, h⟩ := h
      exact wp_sub (by simp) (sd_takenBack_131 hP hT n_ x3 x4 x5 t h)
    · replace h := h.2 c_2
      obtain ⟨x_1, ex_1⟩ : ∃ y : Int32, y = x5 + 1 := ⟨_, rfl⟩
      replace h := h x_1 ex_1
      refine a_iinc (v := x_1) (lv' := [(5, .inl x_1), (0, .inr (2, 0)), (3, .inl x3), (4, .inl x4)]) 3 dX1_takenBack_121 rfl (by rw [ex_1]; rfl) (Nat.le_of_ble_eq_true rfl) rfl ?_
      refine a_goto (tgt := 104) dX1_takenBack_124 (by decide) ?_
      exact wp_sub (by simp) (ih x3 x4 x_1 t h)
def w_takenBack_85 (x3 x4 : Int32) (t : DB) (Q : DB → Prop) : Prop := vp_in x3 4400 ∧ ((((t 75 x3.toNatClampNeg) = 0) → (w_takenBack_190 x3 t Q)) ∧ ((¬ (t 75 x3.toNatClampNeg) = 0) → (vp_in x3 4400 ∧ (∀ t_1 : DB, t_1 = up t 75 x3.toNatClampNeg 0 → (∃ n_, w_takenBack_104 n_ x3 x4 0 t_1 Q)))))
set_option maxHeartbeats 4000000 in
theorem sd_takenBack_85 {d : Nat} {M : Mem} {P : Option AV → Mem → Prop} {Q : DB → Prop} (hP : ∀ t, Q t → P none (tput M t)) (hT : TW M) (x3 x4 : Int32) (t : DB) (h : w_takenBack_85 x3 x4 t Q) : wp (d + 1) mX1_takenBack 85 [(0, .inr (2, 0)), (3, .inl x3), (4, .inl x4)] [] (tput M t) P := by
  unfold w_takenBack_85 at h
  refine a_aload_n 0 dX1_takenBack_85 rfl rfl ?_
  refine t_ga 75 hT (by decide) q1587 rfl dX1_takenBack_86 ?_
  refine a_iload_n 1 dX1_takenBack_89 rfl rfl ?_
  refine t_za (f := 75) rfl hT (by decide) h.1 dX1_takenBack_90 ?_
  replace h := h.2
  refine a_if_eq (tgt := 190) dX1_takenBack_91 (by decide) (fun c_2 => ?_) (fun c_2 => ?_)
  · replace h := h.1 c_2
    exact wp_sub (by simp) (sd_takenBack_190 hP hT x3 t h)
  · replace h := h.2 c_2
    refine a_aload_n 0 dX1_takenBack_94 rfl rfl ?_
    refine t_ga 75 hT (by decide) q1587 rfl dX1_takenBack_95 ?_
    refine a_iload_n 1 dX1_takenBack_98 rfl rfl ?_
    refine a_iconst (v := 0) dX1_takenBack_99 (by decide) ?_
    refine t_zs (f := 75) rfl hT (by decide) (by decide) h.1 dX1_takenBack_100 ?_
    replace h := h.2
    refine a_topt (fun t_1 et_1 => ?_)
    replace h := h t_1 et_1
    refine a_iconst (v := 0) dX1_takenBack_101 (by decide) ?_
    refine a_istore (lv' := [(5, .inl 0), (0, .inr (2, 0)), (3, .inl x3), (4, .inl x4)]) dX1_takenBack_102 (Nat.le_of_ble_eq_true rfl) rfl ?_
    obtain ⟨n_, h⟩ := h
    exact wp_sub (by simp) (sd_takenBack_104 hP hT n_ x3 x4 0 t_1 h)
def w_takenBack_58 (x3 x4 : Int32) (t : DB) (Q : DB → Prop) : Prop := vp_in x3 4400 ∧ ((((t 77 x3.toNatClampNeg) = 0) → (w_takenBack_85 x3 x4 t Q)) ∧ ((¬ (t 77 x3.toNatClampNeg) = 0) → (vp_in x3 4400 ∧ (∀ t_1 : DB, t_1 = up t 77 x3.toNatClampNeg 0 → (vp_in x4 24 ∧ (vp_in x4 24 ∧ (∀ t_2 : DB, t_2 = up t_1 39 x4.toNatClampNeg ((t_1 39 x4.toNatClampNeg) - 1) → (w_takenBack_85 x3 x4 t_2 Q))))))))
set_option maxHeartbeats 4000000 in
theorem sd_takenBack_58 {d : Nat} {M : Mem} {P : Option AV → Mem → Prop} {Q : DB → Prop} (hP : ∀ t, Q t → P none (tput M t)) (hT : TW M) (x3 x4 : Int32) (t : DB) (h : w_takenBack_58 x3 x4 t Q) : wp (d + 1) mX1_takenBack 58 [(0, .inr (2, 0)), (3, .inl x3), (4, .inl x4)] [] (tput M t) P := by
  unfold w_takenBack_58 at h
  refine a_aload_n 0 dX1_takenBack_58 rfl rfl ?_
  refine t_ga 77 hT (by decide) q1589 rfl dX1_takenBack_59 ?_
  refine a_iload_n 1 dX1_takenBack_62 rfl rfl ?_
  refine t_za (f := 77) rfl hT (by decide) h.1 dX1_takenBack_63 ?_
  replace h := h.2
  refine a_if_eq (tgt := 85) dX1_takenBack_64 (by decide) (fun c_3 => ?_) (fun c_3 => ?_)
  · replace h := h.1 c_3
    exact wp_sub (by simp) (sd_takenBack_85 hP hT x3 x4 t h)
  · replace h := h.2 c_3
    refine a_aload_n 0 dX1_takenBack_67 rfl rfl ?_
    refine t_ga 77 hT (by decide) q1589 rfl dX1_takenBack_68 ?_
    refine a_iload_n 1 dX1_takenBack_71 rfl rfl ?_
    refine a_iconst (v := 0) dX1_takenBack_72 (by decide) ?_
    refine t_zs (f := 77) rfl hT (by decide) (by decide) h.1 dX1_takenBack_73 ?_
    replace h := h.2
    refine a_topt (fun t_1 et_1 => ?_)
    replace h := h t_1 et_1
    refine a_aload_n 0 dX1_takenBack_74 rfl rfl ?_
    refine t_ga 39 hT (by decide) q1551 rfl dX1_takenBack_75 ?_
    refine a_iload 2 dX1_takenBack_78 rfl ?_
    refine a_dup2 dX1_takenBack_80 ?_
    refine t_ia (f := 39) rfl hT (by decide) h.1 dX1_takenBack_81 ?_
    replace h := h.2
    refine a_iconst (v := 1) dX1_takenBack_82 (by decide) ?_
    refine a_isub dX1_takenBack_83 ?_
    refine t_is (f := 39) rfl hT (by decide) h.1 dX1_takenBack_84 ?_
    replace h := h.2
    refine a_topt (fun t_2 et_2 => ?_)
    replace h := h t_2 et_2
    exact wp_sub (by simp) (sd_takenBack_85 hP hT x3 x4 t_2 h)
def w_takenBack_18 (x1 : Int32) (t : DB) (Q : DB → Prop) : Prop := vp_in x1 4400 ∧ (∀ x_1 : Int32, x_1 = t 81 x1.toNatClampNeg → (vp_in x_1 4400 ∧ (∀ x_2 : Int32, x_2 = t 65 x_1.toNatClampNeg → (((0 ≤ x_2) → (vp_in x_1 4400 ∧ ((((t 79 x_1.toNatClampNeg) = 0) → (w_takenBack_58 x_1 x_2 t Q)) ∧ ((¬ (t 79 x_1.toNatClampNeg) = 0) → (w_opens x_2 (t 0 0) t (fun t_3 => w_takenBack_58 x_1 x_2 t_3 Q)))))) ∧ ((¬ 0 ≤ x_2) → (Q t))))))
set_option maxHeartbeats 4000000 in
theorem sd_takenBack_18 {d : Nat} {M : Mem} {P : Option AV → Mem → Prop} {Q : DB → Prop} (hP : ∀ t, Q t → P none (tput M t)) (hT : TW M) (x1 : Int32) (t : DB) (h : w_takenBack_18 x1 t Q) : wp (d + 1) mX1_takenBack 18 [(0, .inr (2, 0)), (1, .inl x1)] [] (tput M t) P := by
  unfold w_takenBack_18 at h
  refine a_aload_n 0 dX1_takenBack_18 rfl rfl ?_
  refine t_ga 81 hT (by decide) q1593 rfl dX1_takenBack_19 ?_
  refine a_iload_n 1 dX1_takenBack_22 rfl rfl ?_
  refine t_ia (f := 81) rfl hT (by decide) h.1 dX1_takenBack_23 ?_
  replace h := h.2
  refine a_topi (fun x_1 ex_1 => ?_)
  replace h := h x_1 ex_1
  refine a_istore_n (lv' := [(3, .inl x_1), (0, .inr (2, 0)), (1, .inl x1)]) dX1_takenBack_24 rfl (Nat.le_of_ble_eq_true rfl) rfl ?_
  refine a_aload_n 1 dX1_takenBack_25 rfl rfl ?_
  refine t_ga 65 hT (by decide) q1577 rfl dX1_takenBack_26 ?_
  refine a_iload_n 0 dX1_takenBack_29 rfl rfl ?_
  refine t_ia (f := 65) rfl hT (by decide) h.1 dX1_takenBack_30 ?_
  replace h := h.2
  refine a_topi (fun x_2 ex_2 => ?_)
  replace h := h x_2 ex_2
  refine a_istore (lv' := [(4, .inl x_2), (3, .inl x_1), (0, .inr (2, 0)), (1, .inl x1)]) dX1_takenBack_31 (Nat.le_of_ble_eq_true rfl) rfl ?_
  refine a_iload 0 dX1_takenBack_33 rfl ?_
  refine a_if_ge (tgt := 39) dX1_takenBack_35 (by decide) (fun c_6 => ?_) (fun c_6 => ?_)
  · replace h := h.1 c_6
    refine a_aload_n 2 dX1_takenBack_39 rfl rfl ?_
    refine t_ga 79 hT (by decide) q1591 rfl dX1_takenBack_40 ?_
    refine a_iload_n 1 dX1_takenBack_43 rfl rfl ?_
    refine t_za (f := 79) rfl hT (by decide) h.1 dX1_takenBack_44 ?_
    replace h := h.2
    refine a_if_eq (tgt := 58) dX1_takenBack_45 (by decide) (fun c_5 => ?_) (fun c_5 => ?_)
    · replace h := h.1 c_5
      exact wp_sub (by simp) (sd_takenBack_58 hP hT x_1 x_2 t h)
    · replace h := h.2 c_5
      refine a_aload_n 2 dX1_takenBack_48 rfl rfl ?_
      refine a_iload 0 dX1_takenBack_49 rfl ?_
      refine a_aload_n 2 dX1_takenBack_51 rfl rfl ?_
      refine t_gi 0 (by decide) q1512 rfl dX1_takenBack_52 ?_
      refine a_cv (y := mX1_opens) (k := 2) (i := 0) (as := [.inl x_2, .inl (t 0 0)]) (st := []) (n := 2) (by decide) (Or.inl q1968) qs50 q1970 q73 q1971 zmh_opens rfl (Nat.le_of_ble_eq_true rfl) (Nat.le_of_ble_eq_true rfl) dX1_takenBack_55 (sd_opens (fun t_3 h => ?_) hT h)
      show wp (d + 1) mX1_takenBack 58 [(4, .inl x_2), (3, .inl x_1), (0, .inr (2, 0)), (1, .inl x1)] [] (tput M t_3) P
      exact wp_sub (by simp) (sd_takenBack_58 hP hT x_1 x_2 t_3 h)
  · replace h := h.2 c_6
    exact a_vret rfl dX1_takenBack_38 (hP _ h)
def w_takenBack (x1 x2 : Int32) (t : DB) (Q : DB → Prop) : Prop := ((x2 ≤ (x1 + 1)) → (w_takenBack_18 x1 t Q)) ∧ ((¬ x2 ≤ (x1 + 1)) → (w_add 4 (x1 + 1) x2 0 0 t (fun t_1 => w_takenBack_18 x1 t_1 Q)))
set_option maxHeartbeats 4000000 in
theorem sd_takenBack {d : Nat} {M : Mem} {P : Option AV → Mem → Prop} {Q : DB → Prop} {x1 x2 : Int32} {t : DB} (hP : ∀ t, Q t → P none (tput M t)) (hT : TW M) (h : w_takenBack x1 x2 t Q) : ct (d + 1) mX1_takenBack [.inr (2, 0), .inl x1, .inl x2] (tput M t) P := by
  refine ct_of (by decide) (Nat.le_of_ble_eq_true rfl) ?_
  show wp (d + 1) mX1_takenBack 0 [(0, .inr (2, 0)), (1, .inl x1), (2, .inl x2)] [] (tput M t) P
  unfold w_takenBack at h
  refine a_iload_n 1 dX1_takenBack_0 rfl rfl ?_
  refine a_iconst (v := 1) dX1_takenBack_1 (by decide) ?_
  refine a_iadd dX1_takenBack_2 ?_
  refine a_iload_n 2 dX1_takenBack_3 rfl rfl ?_
  refine a_icmp_ge (tgt := 18) dX1_takenBack_4 (by decide) (fun c_3 => ?_) (fun c_3 => ?_)
  · replace h := h.1 c_3
    exact wp_sub (by simp) (sd_takenBack_18 hP hT x1 t h)
  · replace h := h.2 c_3
    refine a_aload_n 0 dX1_takenBack_7 rfl rfl ?_
    refine a_iconst (v := 4) dX1_takenBack_8 (by decide) ?_
    refine a_iload_n 1 dX1_takenBack_9 rfl rfl ?_
    refine a_iconst (v := 1) dX1_takenBack_10 (by decide) ?_
    refine a_iadd dX1_takenBack_11 ?_
    refine a_iload_n 2 dX1_takenBack_12 rfl rfl ?_
    refine a_iconst (v := 0) dX1_takenBack_13 (by decide) ?_
    refine a_iconst (v := 0) dX1_takenBack_14 (by decide) ?_
    refine a_cv (y := mX1_add) (k := 2) (i := 0) (as := [.inl 4, .inl (x1 + 1), .inl x2, .inl 0, .inl 0]) (st := []) (n := 5) (by decide) (Or.inl q1916) qs37 q1918 q73 q1919 zmh_add rfl (Nat.le_of_ble_eq_true rfl) (Nat.le_of_ble_eq_true rfl) dX1_takenBack_15 (sd_add (fun t_1 h => ?_) hT h)
    show wp (d + 1) mX1_takenBack 18 [(0, .inr (2, 0)), (1, .inl x1), (2, .inl x2)] [] (tput M t_1) P
    exact wp_sub (by simp) (sd_takenBack_18 hP hT x1 t_1 h)
theorem zmh_takenBack : zmh yX1_takenBack 2 := ⟨⟨by decide +kernel, by decide +kernel⟩, by decide +kernel⟩
abbrev mX1_work : zMt := (yX1_work, cX1_work, 2, none)
def w_work_0 : Nat → DB → (DB → Prop) → Prop
  | 0, _, _ => False
  | n + 1, t, Q => (((t 88 0) ≤ 0) → (Q t)) ∧ ((¬ (t 88 0) ≤ 0) → (∀ t_1 : DB, t_1 = up t 88 0 ((t 88 0) - 1) → (∀ x_2 : Int32, x_2 = t_1 88 0 → (vp_in x_2 20000 ∧ (((t_1 83 x_2.toNatClampNeg) = 0 → (vp_in x_2 20000 ∧ (vp_in x_2 20000 ∧ (vp_in x_2 20000 ∧ (vp_in x_2 20000 ∧ (w_begins (t_1 84 x_2.toNatClampNeg) (t_1 85 x_2.toNatClampNeg) (t_1 86 x_2.toNatClampNeg) (t_1 87 x_2.toNatClampNeg) t_1 (fun t_3 => w_work_0 n t_3 Q))))))) ∧ ((t_1 83 x_2.toNatClampNeg) = 1 → (vp_in x_2 20000 ∧ (vp_in x_2 20000 ∧ (vp_in x_2 20000 ∧ (vp_in x_2 20000 ∧ ((((t_1 87 x_2.toNatClampNeg) ≤ 0) → (w_ends (t_1 84 x_2.toNatClampNeg) (t_1 85 x_2.toNatClampNeg) (t_1 86 x_2.toNatClampNeg) 0 t_1 (fun t_5 => w_work_0 n t_5 Q))) ∧ ((¬ (t_1 87 x_2.toNatClampNeg) ≤ 0) → (w_ends (t_1 84 x_2.toNatClampNeg) (t_1 85 x_2.toNatClampNeg) (t_1 86 x_2.toNatClampNeg) 1 t_1 (fun t_7 => w_work_0 n t_7 Q))))))))) ∧ ((t_1 83 x_2.toNatClampNeg) = 2 → (vp_in x_2 20000 ∧ (vp_in x_2 20000 ∧ (w_failsNow (t_1 84 x_2.toNatClampNeg) (t_1 85 x_2.toNatClampNeg) t_1 (fun t_10 => w_work_0 n t_10 Q))))) ∧ ((t_1 83 x_2.toNatClampNeg) = 3 → (vp_in x_2 20000 ∧ (vp_in x_2 20000 ∧ (w_freeJoined (t_1 84 x_2.toNatClampNeg) (t_1 85 x_2.toNatClampNeg) t_1 (fun t_12 => w_work_0 n t_12 Q))))) ∧ ((t_1 83 x_2.toNatClampNeg) = 4 → (vp_in x_2 20000 ∧ (vp_in x_2 20000 ∧ (w_takenBack (t_1 84 x_2.toNatClampNeg) (t_1 85 x_2.toNatClampNeg) t_1 (fun t_14 => w_work_0 n t_14 Q))))) ∧ (¬ (t_1 83 x_2.toNatClampNeg) = 0 → ¬ (t_1 83 x_2.toNatClampNeg) = 1 → ¬ (t_1 83 x_2.toNatClampNeg) = 2 → ¬ (t_1 83 x_2.toNatClampNeg) = 3 → ¬ (t_1 83 x_2.toNatClampNeg) = 4 → (vp_in x_2 20000 ∧ (vp_in x_2 20000 ∧ (w_gone (t_1 84 x_2.toNatClampNeg) (t_1 85 x_2.toNatClampNeg) t_1 (fun t_16 => w_work_0 n t_16 Q))))))))))
set_option maxHeartbeats 4000000 in
theorem sd_work_0 {d : Nat} {M : Mem} {P : Option AV → Mem → Prop} {Q : DB → Prop} (hP : ∀ t, Q t → P none (tput M t)) (hT : TW M) : ∀ (n : Nat) (t : DB), w_work_0 n  t Q → wp (d + 6) mX1_work 0 [(0, .inr (2, 0))] [] (tput M t) P := by
  intro n
  induction n with
  | zero => intro  t h; exact False.elim h
  | succ n ih =>
    intro  t h
    rw [w_work_0] at h
    refine a_aload_n 0 dX1_work_0 rfl rfl ?_
    refine t_gi 88 (by decide) q1600 rfl dX1_work_1 ?_
    refine a_if_le (tgt := 210) dX1_work_4 (by decide) (fun c_18 => ?_) (fun c_18 => ?_)
    · replace h := h.1 c_18
      exact a_vret rfl dX1_work_210 (hP _ h)
    · replace h := h.2 c_18
      refine a_aload_n 0 dX1_work_7 rfl rfl ?_
      refine a_dup dX1_work_8 ?_
      refine t_gi 88 (by decide) q1600 rfl dX1_work_9 ?_
      refine a_iconst (v := 1) dX1_work_12 (by decide) ?_
      refine a_isub dX1_work_13 ?_
      refine t_pi 88 (by decide) q1600 rfl rfl dX1_work_14 ?_
      refine a_topt (fun t_1 et_1 => ?_)
      replace h := h t_1 et_1
      refine a_aload_n 0 dX1_work_17 rfl rfl ?_
      refine t_gi 88 (by decide) q1600 rfl dX1_work_18 ?_
      refine a_topi (fun x_2 ex_2 => ?_)
      replace h := h x_2 ex_2
      refine a_istore_n (lv' := [(1, .inl x_2), (0, .inr (2, 0))]) dX1_work_21 rfl (Nat.le_of_ble_eq_true rfl) rfl ?_
      refine a_aload_n 1 dX1_work_22 rfl rfl ?_
      refine t_ga 83 hT (by decide) q1595 rfl dX1_work_23 ?_
      refine a_iload_n 0 dX1_work_26 rfl rfl ?_
      refine t_ia (f := 83) rfl hT (by decide) h.1 dX1_work_27 ?_
      replace h := h.2
      refine a_tsw (fun j => ([64, 95, 134, 153, 172] : List Nat).getD j 0) (tD := 191) (n := 5) dX1_work_28 rfl (by decide) (by decide) (by decide) (fun j hj e => ?_) (fun e => ?_)
      · match j, hj, e with
        | 0, _, e =>
          replace h := h.1 e
          show wp (d + 6) mX1_work 64 _ _ _ _
          refine a_aload_n 1 dX1_work_64 rfl rfl ?_
          refine a_aload_n 1 dX1_work_65 rfl rfl ?_
          refine t_ga 84 hT (by decide) q1596 rfl dX1_work_66 ?_
          refine a_iload_n 0 dX1_work_69 rfl rfl ?_
          refine t_ia (f := 84) rfl hT (by decide) h.1 dX1_work_70 ?_
          replace h := h.2
          refine a_aload_n 1 dX1_work_71 rfl rfl ?_
          refine t_ga 85 hT (by decide) q1597 rfl dX1_work_72 ?_
          refine a_iload_n 0 dX1_work_75 rfl rfl ?_
          refine t_ia (f := 85) rfl hT (by decide) h.1 dX1_work_76 ?_
          replace h := h.2
          refine a_aload_n 1 dX1_work_77 rfl rfl ?_
          refine t_ga 86 hT (by decide) q1598 rfl dX1_work_78 ?_
          refine a_iload_n 0 dX1_work_81 rfl rfl ?_
          refine t_ia (f := 86) rfl hT (by decide) h.1 dX1_work_82 ?_
          replace h := h.2
          refine a_aload_n 1 dX1_work_83 rfl rfl ?_
          refine t_ga 87 hT (by decide) q1599 rfl dX1_work_84 ?_
          refine a_iload_n 0 dX1_work_87 rfl rfl ?_
          refine t_ia (f := 87) rfl hT (by decide) h.1 dX1_work_88 ?_
          replace h := h.2
          refine a_cv (y := mX1_begins) (k := 2) (i := 0) (as := [.inl (t_1 84 x_2.toNatClampNeg), .inl (t_1 85 x_2.toNatClampNeg), .inl (t_1 86 x_2.toNatClampNeg), .inl (t_1 87 x_2.toNatClampNeg)]) (st := []) (n := 4) (by decide) (Or.inl q1924) qs39 q1926 q73 q1927 zmh_begins rfl (Nat.le_of_ble_eq_true rfl) (Nat.le_of_ble_eq_true rfl) dX1_work_89 (sd_begins (fun t_3 h => ?_) hT h)
          show wp (d + 6) mX1_work 92 [(1, .inl x_2), (0, .inr (2, 0))] [] (tput M t_3) P
          refine a_goto (tgt := 207) dX1_work_92 (by decide) ?_
          refine a_goto (tgt := 0) dX1_work_207 (by decide) ?_
          exact wp_sub (by simp) (ih t_3 h)
        | 1, _, e =>
          replace h := h.2.1 e
          show wp (d + 6) mX1_work 95 _ _ _ _
          refine a_aload_n 1 dX1_work_95 rfl rfl ?_
          refine a_aload_n 1 dX1_work_96 rfl rfl ?_
          refine t_ga 84 hT (by decide) q1596 rfl dX1_work_97 ?_
          refine a_iload_n 0 dX1_work_100 rfl rfl ?_
          refine t_ia (f := 84) rfl hT (by decide) h.1 dX1_work_101 ?_
          replace h := h.2
          refine a_aload_n 1 dX1_work_102 rfl rfl ?_
          refine t_ga 85 hT (by decide) q1597 rfl dX1_work_103 ?_
          refine a_iload_n 0 dX1_work_106 rfl rfl ?_
          refine t_ia (f := 85) rfl hT (by decide) h.1 dX1_work_107 ?_
          replace h := h.2
          refine a_aload_n 1 dX1_work_108 rfl rfl ?_
          refine t_ga 86 hT (by decide) q1598 rfl dX1_work_109 ?_
          refine a_iload_n 0 dX1_work_112 rfl rfl ?_
          refine t_ia (f := 86) rfl hT (by decide) h.1 dX1_work_113 ?_
          replace h := h.2
          refine a_aload_n 1 dX1_work_114 rfl rfl ?_
          refine t_ga 87 hT (by decide) q1599 rfl dX1_work_115 ?_
          refine a_iload_n 0 dX1_work_118 rfl rfl ?_
          refine t_ia (f := 87) rfl hT (by decide) h.1 dX1_work_119 ?_
          replace h := h.2
          refine a_if_le (tgt := 127) dX1_work_120 (by decide) (fun c_9 => ?_) (fun c_9 => ?_)
          · replace h := h.1 c_9
            refine a_iconst (v := 0) dX1_work_127 (by decide) ?_
            refine a_cv (y := mX1_ends) (k := 2) (i := 0) (as := [.inl (t_1 84 x_2.toNatClampNeg), .inl (t_1 85 x_2.toNatClampNeg), .inl (t_1 86 x_2.toNatClampNeg), .inl 0]) (st := []) (n := 4) (by decide) (Or.inl q1952) qs46 q1954 q73 q1955 zmh_ends rfl (Nat.le_of_ble_eq_true rfl) (Nat.le_of_ble_eq_true rfl) dX1_work_128 (sd_ends (fun t_5 h => ?_) hT h)
            show wp (d + 6) mX1_work 131 [(1, .inl x_2), (0, .inr (2, 0))] [] (tput M t_5) P
            refine a_goto (tgt := 207) dX1_work_131 (by decide) ?_
            refine a_goto (tgt := 0) dX1_work_207 (by decide) ?_
            exact wp_sub (by simp) (ih t_5 h)
          · replace h := h.2 c_9
            refine a_iconst (v := 1) dX1_work_123 (by decide) ?_
            refine a_goto (tgt := 128) dX1_work_124 (by decide) ?_
            refine a_cv (y := mX1_ends) (k := 2) (i := 0) (as := [.inl (t_1 84 x_2.toNatClampNeg), .inl (t_1 85 x_2.toNatClampNeg), .inl (t_1 86 x_2.toNatClampNeg), .inl 1]) (st := []) (n := 4) (by decide) (Or.inl q1952) qs46 q1954 q73 q1955 zmh_ends rfl (Nat.le_of_ble_eq_true rfl) (Nat.le_of_ble_eq_true rfl) dX1_work_128 (sd_ends (fun t_7 h => ?_) hT h)
            show wp (d + 6) mX1_work 131 [(1, .inl x_2), (0, .inr (2, 0))] [] (tput M t_7) P
            refine a_goto (tgt := 207) dX1_work_131 (by decide) ?_
            refine a_goto (tgt := 0) dX1_work_207 (by decide) ?_
            exact wp_sub (by simp) (ih t_7 h)
        | 2, _, e =>
          replace h := h.2.2.1 e
          show wp (d + 6) mX1_work 134 _ _ _ _
          refine a_aload_n 1 dX1_work_134 rfl rfl ?_
          refine a_aload_n 1 dX1_work_135 rfl rfl ?_
          refine t_ga 84 hT (by decide) q1596 rfl dX1_work_136 ?_
          refine a_iload_n 0 dX1_work_139 rfl rfl ?_
          refine t_ia (f := 84) rfl hT (by decide) h.1 dX1_work_140 ?_
          replace h := h.2
          refine a_aload_n 1 dX1_work_141 rfl rfl ?_
          refine t_ga 85 hT (by decide) q1597 rfl dX1_work_142 ?_
          refine a_iload_n 0 dX1_work_145 rfl rfl ?_
          refine t_ia (f := 85) rfl hT (by decide) h.1 dX1_work_146 ?_
          replace h := h.2
          refine a_cv (y := mX1_failsNow) (k := 2) (i := 0) (as := [.inl (t_1 84 x_2.toNatClampNeg), .inl (t_1 85 x_2.toNatClampNeg)]) (st := []) (n := 2) (by decide) (Or.inl q2000) qs58 q2002 q73 q2003 zmh_failsNow rfl (Nat.le_of_ble_eq_true rfl) (Nat.le_of_ble_eq_true rfl) dX1_work_147 (sd_failsNow (fun t_10 h => ?_) hT h)
          show wp (d + 6) mX1_work 150 [(1, .inl x_2), (0, .inr (2, 0))] [] (tput M t_10) P
          refine a_goto (tgt := 207) dX1_work_150 (by decide) ?_
          refine a_goto (tgt := 0) dX1_work_207 (by decide) ?_
          exact wp_sub (by simp) (ih t_10 h)
        | 3, _, e =>
          replace h := h.2.2.2.1 e
          show wp (d + 6) mX1_work 153 _ _ _ _
          refine a_aload_n 1 dX1_work_153 rfl rfl ?_
          refine a_aload_n 1 dX1_work_154 rfl rfl ?_
          refine t_ga 84 hT (by decide) q1596 rfl dX1_work_155 ?_
          refine a_iload_n 0 dX1_work_158 rfl rfl ?_
          refine t_ia (f := 84) rfl hT (by decide) h.1 dX1_work_159 ?_
          replace h := h.2
          refine a_aload_n 1 dX1_work_160 rfl rfl ?_
          refine t_ga 85 hT (by decide) q1597 rfl dX1_work_161 ?_
          refine a_iload_n 0 dX1_work_164 rfl rfl ?_
          refine t_ia (f := 85) rfl hT (by decide) h.1 dX1_work_165 ?_
          replace h := h.2
          refine a_cv (y := mX1_freeJoined) (k := 2) (i := 0) (as := [.inl (t_1 84 x_2.toNatClampNeg), .inl (t_1 85 x_2.toNatClampNeg)]) (st := []) (n := 2) (by decide) (Or.inl q2004) qs59 q2006 q73 q2007 zmh_freeJoined rfl (Nat.le_of_ble_eq_true rfl) (Nat.le_of_ble_eq_true rfl) dX1_work_166 (sd_freeJoined (fun t_12 h => ?_) hT h)
          show wp (d + 6) mX1_work 169 [(1, .inl x_2), (0, .inr (2, 0))] [] (tput M t_12) P
          refine a_goto (tgt := 207) dX1_work_169 (by decide) ?_
          refine a_goto (tgt := 0) dX1_work_207 (by decide) ?_
          exact wp_sub (by simp) (ih t_12 h)
        | 4, _, e =>
          replace h := h.2.2.2.2.1 e
          show wp (d + 6) mX1_work 172 _ _ _ _
          refine a_aload_n 1 dX1_work_172 rfl rfl ?_
          refine a_aload_n 1 dX1_work_173 rfl rfl ?_
          refine t_ga 84 hT (by decide) q1596 rfl dX1_work_174 ?_
          refine a_iload_n 0 dX1_work_177 rfl rfl ?_
          refine t_ia (f := 84) rfl hT (by decide) h.1 dX1_work_178 ?_
          replace h := h.2
          refine a_aload_n 1 dX1_work_179 rfl rfl ?_
          refine t_ga 85 hT (by decide) q1597 rfl dX1_work_180 ?_
          refine a_iload_n 0 dX1_work_183 rfl rfl ?_
          refine t_ia (f := 85) rfl hT (by decide) h.1 dX1_work_184 ?_
          replace h := h.2
          refine a_cv (y := mX1_takenBack) (k := 2) (i := 0) (as := [.inl (t_1 84 x_2.toNatClampNeg), .inl (t_1 85 x_2.toNatClampNeg)]) (st := []) (n := 2) (by decide) (Or.inl q2008) qs60 q2010 q73 q2011 zmh_takenBack rfl (Nat.le_of_ble_eq_true rfl) (Nat.le_of_ble_eq_true rfl) dX1_work_185 (sd_takenBack (fun t_14 h => ?_) hT h)
          show wp (d + 6) mX1_work 188 [(1, .inl x_2), (0, .inr (2, 0))] [] (tput M t_14) P
          refine a_goto (tgt := 207) dX1_work_188 (by decide) ?_
          refine a_goto (tgt := 0) dX1_work_207 (by decide) ?_
          exact wp_sub (by simp) (ih t_14 h)
        | j + 5, hj, _ => exact absurd hj (by omega)
      · replace h := h.2.2.2.2.2 (e 0 (by decide)) (e 1 (by decide)) (e 2 (by decide)) (e 3 (by decide)) (e 4 (by decide))
        refine a_aload_n 1 dX1_work_191 rfl rfl ?_
        refine a_aload_n 1 dX1_work_192 rfl rfl ?_
        refine t_ga 84 hT (by decide) q1596 rfl dX1_work_193 ?_
        refine a_iload_n 0 dX1_work_196 rfl rfl ?_
        refine t_ia (f := 84) rfl hT (by decide) h.1 dX1_work_197 ?_
        replace h := h.2
        refine a_aload_n 1 dX1_work_198 rfl rfl ?_
        refine t_ga 85 hT (by decide) q1597 rfl dX1_work_199 ?_
        refine a_iload_n 0 dX1_work_202 rfl rfl ?_
        refine t_ia (f := 85) rfl hT (by decide) h.1 dX1_work_203 ?_
        replace h := h.2
        refine a_cv (y := mX1_gone) (k := 2) (i := 0) (as := [.inl (t_1 84 x_2.toNatClampNeg), .inl (t_1 85 x_2.toNatClampNeg)]) (st := []) (n := 2) (by decide) (Or.inl q2012) qs61 q2014 q73 q2015 zmh_gone rfl (Nat.le_of_ble_eq_true rfl) (Nat.le_of_ble_eq_true rfl) dX1_work_204 (sd_gone (fun t_16 h => ?_) hT h)
        show wp (d + 6) mX1_work 207 [(1, .inl x_2), (0, .inr (2, 0))] [] (tput M t_16) P
        refine a_goto (tgt := 0) dX1_work_207 (by decide) ?_
        exact wp_sub (by simp) (ih t_16 h)
def w_work (t : DB) (Q : DB → Prop) : Prop := ∃ n_, w_work_0 n_ t Q
set_option maxHeartbeats 4000000 in
theorem sd_work {d : Nat} {M : Mem} {P : Option AV → Mem → Prop} {Q : DB → Prop} {t : DB} (hP : ∀ t, Q t → P none (tput M t)) (hT : TW M) (h : w_work  t Q) : ct (d + 6) mX1_work [.inr (2, 0)] (tput M t) P := by
  refine ct_of (by decide) (Nat.le_of_ble_eq_true rfl) ?_
  show wp (d + 6) mX1_work 0 [(0, .inr (2, 0))] [] (tput M t) P
  unfold w_work at h
  obtain ⟨n_, h⟩ := h
  exact wp_sub (by simp) (sd_work_0 hP hT n_ t h)
theorem zmh_work : zmh yX1_work 0 := ⟨⟨by decide +kernel, by decide +kernel⟩, by decide +kernel⟩
abbrev mX1_made : zMt := (yX1_made, cX1_made, 7, some .int)
def w_made (x1 x2 x3 x4 x5 : Int32) (t : DB) (Q : Int32 → DB → Prop) : Prop := ∀ x_1 : Int32, x_1 = t 50 0 → (vp_in x_1 60 ∧ (∀ t_2 : DB, t_2 = up t 51 x_1.toNatClampNeg x1 → (vp_in x_1 60 ∧ (∀ t_3 : DB, t_3 = up t_2 52 x_1.toNatClampNeg x2 → (vp_in x_1 60 ∧ (∀ t_4 : DB, t_4 = up t_3 53 x_1.toNatClampNeg x3 → (vp_in x_1 60 ∧ (∀ t_5 : DB, t_5 = up t_4 54 x_1.toNatClampNeg x4 → (vp_in x_1 60 ∧ (∀ t_6 : DB, t_6 = up t_5 55 x_1.toNatClampNeg x5 → (vp_in x_1 60 ∧ (∀ t_7 : DB, t_7 = up t_6 56 x_1.toNatClampNeg (t_6 0 0) → (vp_in x_1 60 ∧ (∀ t_8 : DB, t_8 = up t_7 57 x_1.toNatClampNeg (-1) → (vp_in x_1 60 ∧ (∀ t_9 : DB, t_9 = up t_8 58 x_1.toNatClampNeg 0 → (vp_in x_1 60 ∧ (∀ t_10 : DB, t_10 = up t_9 59 x_1.toNatClampNeg (-1) → (∀ t_11 : DB, t_11 = up t_10 50 0 ((t_10 50 0) + 1) → (w_add 0 x_1 0 (-1) (-1) t_11 (fun t_12 => w_work t_12 (fun t_14 => Q x_1 t_14))))))))))))))))))))))
set_option maxHeartbeats 4000000 in
theorem sd_made {d : Nat} {M : Mem} {P : Option AV → Mem → Prop} {Q : Int32 → DB → Prop} {x1 x2 x3 x4 x5 : Int32} {t : DB} (hP : ∀ r t, Q r t → P (some (.inl r)) (tput M t)) (hT : TW M) (h : w_made x1 x2 x3 x4 x5 t Q) : ct (d + 7) mX1_made [.inr (2, 0), .inl x1, .inl x2, .inl x3, .inl x4, .inl x5] (tput M t) P := by
  refine ct_of (by decide) (Nat.le_of_ble_eq_true rfl) ?_
  show wp (d + 7) mX1_made 0 [(0, .inr (2, 0)), (1, .inl x1), (2, .inl x2), (3, .inl x3), (4, .inl x4), (5, .inl x5)] [] (tput M t) P
  unfold w_made at h
  refine a_aload_n 0 dX1_made_0 rfl rfl ?_
  refine t_gi 50 (by decide) q1562 rfl dX1_made_1 ?_
  refine a_topi (fun x_1 ex_1 => ?_)
  replace h := h x_1 ex_1
  refine a_istore (lv' := [(6, .inl x_1), (0, .inr (2, 0)), (1, .inl x1), (2, .inl x2), (3, .inl x3), (4, .inl x4), (5, .inl x5)]) dX1_made_4 (Nat.le_of_ble_eq_true rfl) rfl ?_
  refine a_aload_n 1 dX1_made_6 rfl rfl ?_
  refine t_ga 51 hT (by decide) q1563 rfl dX1_made_7 ?_
  refine a_iload 0 dX1_made_10 rfl ?_
  refine a_iload_n 2 dX1_made_12 rfl rfl ?_
  refine t_is (f := 51) rfl hT (by decide) h.1 dX1_made_13 ?_
  replace h := h.2
  refine a_topt (fun t_2 et_2 => ?_)
  replace h := h t_2 et_2
  refine a_aload_n 1 dX1_made_14 rfl rfl ?_
  refine t_ga 52 hT (by decide) q1564 rfl dX1_made_15 ?_
  refine a_iload 0 dX1_made_18 rfl ?_
  refine a_iload_n 3 dX1_made_20 rfl rfl ?_
  refine t_is (f := 52) rfl hT (by decide) h.1 dX1_made_21 ?_
  replace h := h.2
  refine a_topt (fun t_3 et_3 => ?_)
  replace h := h t_3 et_3
  refine a_aload_n 1 dX1_made_22 rfl rfl ?_
  refine t_ga 53 hT (by decide) q1565 rfl dX1_made_23 ?_
  refine a_iload 0 dX1_made_26 rfl ?_
  refine a_iload_n 4 dX1_made_28 rfl rfl ?_
  refine t_is (f := 53) rfl hT (by decide) h.1 dX1_made_29 ?_
  replace h := h.2
  refine a_topt (fun t_4 et_4 => ?_)
  replace h := h t_4 et_4
  refine a_aload_n 1 dX1_made_30 rfl rfl ?_
  refine t_ga 54 hT (by decide) q1566 rfl dX1_made_31 ?_
  refine a_iload 0 dX1_made_34 rfl ?_
  refine a_iload 5 dX1_made_36 rfl ?_
  refine t_is (f := 54) rfl hT (by decide) h.1 dX1_made_38 ?_
  replace h := h.2
  refine a_topt (fun t_5 et_5 => ?_)
  replace h := h t_5 et_5
  refine a_aload_n 1 dX1_made_39 rfl rfl ?_
  refine t_ga 55 hT (by decide) q1567 rfl dX1_made_40 ?_
  refine a_iload 0 dX1_made_43 rfl ?_
  refine a_iload 6 dX1_made_45 rfl ?_
  refine t_is (f := 55) rfl hT (by decide) h.1 dX1_made_47 ?_
  replace h := h.2
  refine a_topt (fun t_6 et_6 => ?_)
  replace h := h t_6 et_6
  refine a_aload_n 1 dX1_made_48 rfl rfl ?_
  refine t_ga 56 hT (by decide) q1568 rfl dX1_made_49 ?_
  refine a_iload 0 dX1_made_52 rfl ?_
  refine a_aload_n 1 dX1_made_54 rfl rfl ?_
  refine t_gi 0 (by decide) q1512 rfl dX1_made_55 ?_
  refine t_is (f := 56) rfl hT (by decide) h.1 dX1_made_58 ?_
  replace h := h.2
  refine a_topt (fun t_7 et_7 => ?_)
  replace h := h t_7 et_7
  refine a_aload_n 1 dX1_made_59 rfl rfl ?_
  refine t_ga 57 hT (by decide) q1569 rfl dX1_made_60 ?_
  refine a_iload 0 dX1_made_63 rfl ?_
  refine a_iconst (v := (-1)) dX1_made_65 (by decide) ?_
  refine t_is (f := 57) rfl hT (by decide) h.1 dX1_made_66 ?_
  replace h := h.2
  refine a_topt (fun t_8 et_8 => ?_)
  replace h := h t_8 et_8
  refine a_aload_n 1 dX1_made_67 rfl rfl ?_
  refine t_ga 58 hT (by decide) q1570 rfl dX1_made_68 ?_
  refine a_iload 0 dX1_made_71 rfl ?_
  refine a_iconst (v := 0) dX1_made_73 (by decide) ?_
  refine t_is (f := 58) rfl hT (by decide) h.1 dX1_made_74 ?_
  replace h := h.2
  refine a_topt (fun t_9 et_9 => ?_)
  replace h := h t_9 et_9
  refine a_aload_n 1 dX1_made_75 rfl rfl ?_
  refine t_ga 59 hT (by decide) q1571 rfl dX1_made_76 ?_
  refine a_iload 0 dX1_made_79 rfl ?_
  refine a_iconst (v := (-1)) dX1_made_81 (by decide) ?_
  refine t_is (f := 59) rfl hT (by decide) h.1 dX1_made_82 ?_
  replace h := h.2
  refine a_topt (fun t_10 et_10 => ?_)
  replace h := h t_10 et_10
  refine a_aload_n 1 dX1_made_83 rfl rfl ?_
  refine a_dup dX1_made_84 ?_
  refine t_gi 50 (by decide) q1562 rfl dX1_made_85 ?_
  refine a_iconst (v := 1) dX1_made_88 (by decide) ?_
  refine a_iadd dX1_made_89 ?_
  refine t_pi 50 (by decide) q1562 rfl rfl dX1_made_90 ?_
  refine a_topt (fun t_11 et_11 => ?_)
  replace h := h t_11 et_11
  refine a_aload_n 1 dX1_made_93 rfl rfl ?_
  refine a_iconst (v := 0) dX1_made_94 (by decide) ?_
  refine a_iload 0 dX1_made_95 rfl ?_
  refine a_iconst (v := 0) dX1_made_97 (by decide) ?_
  refine a_iconst (v := (-1)) dX1_made_98 (by decide) ?_
  refine a_iconst (v := (-1)) dX1_made_99 (by decide) ?_
  refine a_cv (y := mX1_add) (k := 2) (i := 0) (as := [.inl 0, .inl x_1, .inl 0, .inl (-1), .inl (-1)]) (st := []) (n := 5) (by decide) (Or.inl q1916) qs37 q1918 q73 q1919 zmh_add rfl (Nat.le_of_ble_eq_true rfl) (Nat.le_of_ble_eq_true rfl) dX1_made_100 (sd_add (fun t_12 h => ?_) hT h)
  show wp (d + 7) mX1_made 103 [(6, .inl x_1), (0, .inr (2, 0)), (1, .inl x1), (2, .inl x2), (3, .inl x3), (4, .inl x4), (5, .inl x5)] [] (tput M t_12) P
  refine a_aload_n 1 dX1_made_103 rfl rfl ?_
  refine a_cv (y := mX1_work) (k := 2) (i := 0) (as := []) (st := []) (n := 0) (by decide) (Or.inl q1920) qs38 q1922 q73 q1923 zmh_work rfl (Nat.le_of_ble_eq_true rfl) (Nat.le_of_ble_eq_true rfl) dX1_made_104 (sd_work (fun t_14 h => ?_) hT h)
  show wp (d + 7) mX1_made 107 [(6, .inl x_1), (0, .inr (2, 0)), (1, .inl x1), (2, .inl x2), (3, .inl x3), (4, .inl x4), (5, .inl x5)] [] (tput M t_14) P
  refine a_iload 0 dX1_made_107 rfl ?_
  exact a_iret rfl dX1_made_109 (hP _ _ h)
theorem zmh_made : zmh yX1_made 5 := ⟨⟨by decide +kernel, by decide +kernel⟩, by decide +kernel⟩
abbrev mX1_order : zMt := (yX1_order, cX1_order, 6, some .int)
def w_order (x1 x2 x3 x4 x5 : Int32) (t : DB) (Q : Int32 → DB → Prop) : Prop := w_isTower x1 t (fun r_2 t_1 => ((r_2 = 0) → (Q (-1) t_1)) ∧ ((¬ r_2 = 0) → (w_isStation x2 t_1 (fun r_4 t_3 => ((¬ r_4 = 0) → (w_isAct x3 t_3 (fun r_6 t_5 => ((r_6 = 0) → (Q (-2) t_5)) ∧ ((¬ r_6 = 0) → (w_isAmount x3 x4 t_5 (fun r_8 t_7 => ((r_8 = 0) → (Q (-2) t_7)) ∧ ((¬ r_8 = 0) → (((0 ≤ x5) → (((¬ (t_7 50 0) = 60) → (w_made x1 x2 x3 x4 x5 t_7 (fun r_10 t_9 => Q r_10 t_9))) ∧ (((t_7 50 0) = 60) → (Q (-3) t_7)))) ∧ ((¬ 0 ≤ x5) → (Q (-2) t_7)))))))))) ∧ ((r_4 = 0) → (Q (-1) t_3))))))
set_option maxHeartbeats 4000000 in
theorem sd_order {d : Nat} {M : Mem} {P : Option AV → Mem → Prop} {Q : Int32 → DB → Prop} {x1 x2 x3 x4 x5 : Int32} {t : DB} (hP : ∀ r t, Q r t → P (some (.inl r)) (tput M t)) (hT : TW M) (h : w_order x1 x2 x3 x4 x5 t Q) : ct (d + 8) mX1_order [.inr (2, 0), .inl x1, .inl x2, .inl x3, .inl x4, .inl x5] (tput M t) P := by
  refine ct_of (by decide) (Nat.le_of_ble_eq_true rfl) ?_
  show wp (d + 8) mX1_order 0 [(0, .inr (2, 0)), (1, .inl x1), (2, .inl x2), (3, .inl x3), (4, .inl x4), (5, .inl x5)] [] (tput M t) P
  unfold w_order at h
  refine a_aload_n 0 dX1_order_0 rfl rfl ?_
  refine a_iload_n 1 dX1_order_1 rfl rfl ?_
  refine a_cv (y := mX1_isTower) (k := 2) (i := 0) (as := [.inl x1]) (st := []) (n := 1) (by decide) (Or.inl q1904) qs34 q1906 q73 q1907 zmh_isTower rfl (Nat.le_of_ble_eq_true rfl) (Nat.le_of_ble_eq_true rfl) dX1_order_2 (sd_isTower (fun r_2 t_1 h => ?_) hT h)
  show wp (d + 8) mX1_order 5 [(0, .inr (2, 0)), (1, .inl x1), (2, .inl x2), (3, .inl x3), (4, .inl x4), (5, .inl x5)] [.inl r_2] (tput M t_1) P
  refine a_if_eq (tgt := 16) dX1_order_5 (by decide) (fun c_16 => ?_) (fun c_16 => ?_)
  · replace h := h.1 c_16
    refine a_iconst (v := (-1)) dX1_order_16 (by decide) ?_
    exact a_iret rfl dX1_order_17 (hP _ _ h)
  · replace h := h.2 c_16
    refine a_aload_n 0 dX1_order_8 rfl rfl ?_
    refine a_iload_n 2 dX1_order_9 rfl rfl ?_
    refine a_cv (y := mX1_isStation) (k := 2) (i := 0) (as := [.inl x2]) (st := []) (n := 1) (by decide) (Or.inl q1852) qs28 q1854 q73 q1855 zmh_isStation rfl (Nat.le_of_ble_eq_true rfl) (Nat.le_of_ble_eq_true rfl) dX1_order_10 (sd_isStation (fun r_4 t_3 h => ?_) hT h)
    show wp (d + 8) mX1_order 13 [(0, .inr (2, 0)), (1, .inl x1), (2, .inl x2), (3, .inl x3), (4, .inl x4), (5, .inl x5)] [.inl r_4] (tput M t_3) P
    refine a_if_ne (tgt := 18) dX1_order_13 (by decide) (fun c_15 => ?_) (fun c_15 => ?_)
    · replace h := h.1 c_15
      refine a_aload_n 0 dX1_order_18 rfl rfl ?_
      refine a_iload_n 3 dX1_order_19 rfl rfl ?_
      refine a_cv (y := mX1_isAct) (k := 2) (i := 0) (as := [.inl x3]) (st := []) (n := 1) (by decide) (Or.inl q1856) qs29 q1858 q73 q1859 zmh_isAct rfl (Nat.le_of_ble_eq_true rfl) (Nat.le_of_ble_eq_true rfl) dX1_order_20 (sd_isAct (fun r_6 t_5 h => ?_) hT h)
      show wp (d + 8) mX1_order 23 [(0, .inr (2, 0)), (1, .inl x1), (2, .inl x2), (3, .inl x3), (4, .inl x4), (5, .inl x5)] [.inl r_6] (tput M t_5) P
      refine a_if_eq (tgt := 41) dX1_order_23 (by decide) (fun c_14 => ?_) (fun c_14 => ?_)
      · replace h := h.1 c_14
        refine a_bipush (v := (-2)) dX1_order_41 (by decide) ?_
        exact a_iret rfl dX1_order_43 (hP _ _ h)
      · replace h := h.2 c_14
        refine a_aload_n 0 dX1_order_26 rfl rfl ?_
        refine a_iload_n 3 dX1_order_27 rfl rfl ?_
        refine a_iload 4 dX1_order_28 rfl ?_
        refine a_cv (y := mX1_isAmount) (k := 2) (i := 0) (as := [.inl x3, .inl x4]) (st := []) (n := 2) (by decide) (Or.inl q1908) qs35 q1910 q73 q1911 zmh_isAmount rfl (Nat.le_of_ble_eq_true rfl) (Nat.le_of_ble_eq_true rfl) dX1_order_30 (sd_isAmount (fun r_8 t_7 h => ?_) hT h)
        show wp (d + 8) mX1_order 33 [(0, .inr (2, 0)), (1, .inl x1), (2, .inl x2), (3, .inl x3), (4, .inl x4), (5, .inl x5)] [.inl r_8] (tput M t_7) P
        refine a_if_eq (tgt := 41) dX1_order_33 (by decide) (fun c_13 => ?_) (fun c_13 => ?_)
        · replace h := h.1 c_13
          refine a_bipush (v := (-2)) dX1_order_41 (by decide) ?_
          exact a_iret rfl dX1_order_43 (hP _ _ h)
        · replace h := h.2 c_13
          refine a_iload 5 dX1_order_36 rfl ?_
          refine a_if_ge (tgt := 44) dX1_order_38 (by decide) (fun c_12 => ?_) (fun c_12 => ?_)
          · replace h := h.1 c_12
            refine a_aload_n 0 dX1_order_44 rfl rfl ?_
            refine t_gi 50 (by decide) q1562 rfl dX1_order_45 ?_
            refine a_bipush (v := 60) dX1_order_48 (by decide) ?_
            refine a_icmp_ne (tgt := 56) dX1_order_50 (by decide) (fun c_11 => ?_) (fun c_11 => ?_)
            · replace h := h.1 c_11
              refine a_aload_n 0 dX1_order_56 rfl rfl ?_
              refine a_iload_n 1 dX1_order_57 rfl rfl ?_
              refine a_iload_n 2 dX1_order_58 rfl rfl ?_
              refine a_iload_n 3 dX1_order_59 rfl rfl ?_
              refine a_iload 4 dX1_order_60 rfl ?_
              refine a_iload 5 dX1_order_62 rfl ?_
              refine a_cv (y := mX1_made) (k := 2) (i := 0) (as := [.inl x1, .inl x2, .inl x3, .inl x4, .inl x5]) (st := []) (n := 5) (by decide) (Or.inl q1912) qs36 q1914 q73 q1915 zmh_made rfl (Nat.le_of_ble_eq_true rfl) (Nat.le_of_ble_eq_true rfl) dX1_order_64 (sd_made (fun r_10 t_9 h => ?_) hT h)
              show wp (d + 8) mX1_order 67 [(0, .inr (2, 0)), (1, .inl x1), (2, .inl x2), (3, .inl x3), (4, .inl x4), (5, .inl x5)] [.inl r_10] (tput M t_9) P
              exact a_iret rfl dX1_order_67 (hP _ _ h)
            · replace h := h.2 c_11
              refine a_bipush (v := (-3)) dX1_order_53 (by decide) ?_
              exact a_iret rfl dX1_order_55 (hP _ _ h)
          · replace h := h.2 c_12
            refine a_bipush (v := (-2)) dX1_order_41 (by decide) ?_
            exact a_iret rfl dX1_order_43 (hP _ _ h)
    · replace h := h.2 c_15
      refine a_iconst (v := (-1)) dX1_order_16 (by decide) ?_
      exact a_iret rfl dX1_order_17 (hP _ _ h)
theorem zmh_order : zmh yX1_order 5 := ⟨⟨by decide +kernel, by decide +kernel⟩, by decide +kernel⟩
abbrev mX1_cancel : zMt := (yX1_cancel, cX1_cancel, 3, some .int)
def w_cancel (x1 : Int32) (t : DB) (Q : Int32 → DB → Prop) : Prop := ((x1 < 0) → (Q (-1) t)) ∧ ((¬ x1 < 0) → (((x1 < (t 50 0)) → (vp_in x1 60 ∧ ((((t 58 x1.toNatClampNeg) = 0) → (vp_in x1 60 ∧ (∀ t_1 : DB, t_1 = up t 58 x1.toNatClampNeg 4 → (vp_in x1 60 ∧ (∀ t_2 : DB, t_2 = up t_1 57 x1.toNatClampNeg (t_1 0 0) → (w_takeBack (-1) x1 t_2 (fun r_4 t_3 => w_work t_3 (fun t_5 => Q r_4 t_5)))))))) ∧ ((¬ (t 58 x1.toNatClampNeg) = 0) → (Q (-4) t))))) ∧ ((¬ x1 < (t 50 0)) → (Q (-1) t))))
set_option maxHeartbeats 4000000 in
theorem sd_cancel {d : Nat} {M : Mem} {P : Option AV → Mem → Prop} {Q : Int32 → DB → Prop} {x1 : Int32} {t : DB} (hP : ∀ r t, Q r t → P (some (.inl r)) (tput M t)) (hT : TW M) (h : w_cancel x1 t Q) : ct (d + 7) mX1_cancel [.inr (2, 0), .inl x1] (tput M t) P := by
  refine ct_of (by decide) (Nat.le_of_ble_eq_true rfl) ?_
  show wp (d + 7) mX1_cancel 0 [(0, .inr (2, 0)), (1, .inl x1)] [] (tput M t) P
  unfold w_cancel at h
  refine a_iload_n 1 dX1_cancel_0 rfl rfl ?_
  refine a_if_lt (tgt := 12) dX1_cancel_1 (by decide) (fun c_9 => ?_) (fun c_9 => ?_)
  · replace h := h.1 c_9
    refine a_iconst (v := (-1)) dX1_cancel_12 (by decide) ?_
    exact a_iret rfl dX1_cancel_13 (hP _ _ h)
  · replace h := h.2 c_9
    refine a_iload_n 1 dX1_cancel_4 rfl rfl ?_
    refine a_aload_n 0 dX1_cancel_5 rfl rfl ?_
    refine t_gi 50 (by decide) q1562 rfl dX1_cancel_6 ?_
    refine a_icmp_lt (tgt := 14) dX1_cancel_9 (by decide) (fun c_8 => ?_) (fun c_8 => ?_)
    · replace h := h.1 c_8
      refine a_aload_n 0 dX1_cancel_14 rfl rfl ?_
      refine t_ga 58 hT (by decide) q1570 rfl dX1_cancel_15 ?_
      refine a_iload_n 1 dX1_cancel_18 rfl rfl ?_
      refine t_ia (f := 58) rfl hT (by decide) h.1 dX1_cancel_19 ?_
      replace h := h.2
      refine a_if_eq (tgt := 26) dX1_cancel_20 (by decide) (fun c_7 => ?_) (fun c_7 => ?_)
      · replace h := h.1 c_7
        refine a_aload_n 0 dX1_cancel_26 rfl rfl ?_
        refine t_ga 58 hT (by decide) q1570 rfl dX1_cancel_27 ?_
        refine a_iload_n 1 dX1_cancel_30 rfl rfl ?_
        refine a_iconst (v := 4) dX1_cancel_31 (by decide) ?_
        refine t_is (f := 58) rfl hT (by decide) h.1 dX1_cancel_32 ?_
        replace h := h.2
        refine a_topt (fun t_1 et_1 => ?_)
        replace h := h t_1 et_1
        refine a_aload_n 0 dX1_cancel_33 rfl rfl ?_
        refine t_ga 57 hT (by decide) q1569 rfl dX1_cancel_34 ?_
        refine a_iload_n 1 dX1_cancel_37 rfl rfl ?_
        refine a_aload_n 0 dX1_cancel_38 rfl rfl ?_
        refine t_gi 0 (by decide) q1512 rfl dX1_cancel_39 ?_
        refine t_is (f := 57) rfl hT (by decide) h.1 dX1_cancel_42 ?_
        replace h := h.2
        refine a_topt (fun t_2 et_2 => ?_)
        replace h := h t_2 et_2
        refine a_aload_n 0 dX1_cancel_43 rfl rfl ?_
        refine a_iconst (v := (-1)) dX1_cancel_44 (by decide) ?_
        refine a_iload_n 1 dX1_cancel_45 rfl rfl ?_
        refine a_cv (y := mX1_takeBack) (k := 2) (i := 0) (as := [.inl (-1), .inl x1]) (st := []) (n := 2) (by decide) (Or.inl q1988) qs55 q1990 q73 q1991 zmh_takeBack rfl (Nat.le_of_ble_eq_true rfl) (Nat.le_of_ble_eq_true rfl) dX1_cancel_46 (sd_takeBack (fun r_4 t_3 h => ?_) hT h)
        show wp (d + 7) mX1_cancel 49 [(0, .inr (2, 0)), (1, .inl x1)] [.inl r_4] (tput M t_3) P
        refine a_istore_n (lv' := [(2, .inl r_4), (0, .inr (2, 0)), (1, .inl x1)]) dX1_cancel_49 rfl (Nat.le_of_ble_eq_true rfl) rfl ?_
        refine a_aload_n 1 dX1_cancel_50 rfl rfl ?_
        refine a_cv (y := mX1_work) (k := 2) (i := 0) (as := []) (st := []) (n := 0) (by decide) (Or.inl q1920) qs38 q1922 q73 q1923 zmh_work rfl (Nat.le_of_ble_eq_true rfl) (Nat.le_of_ble_eq_true rfl) dX1_cancel_51 (sd_work (fun t_5 h => ?_) hT h)
        show wp (d + 7) mX1_cancel 54 [(2, .inl r_4), (0, .inr (2, 0)), (1, .inl x1)] [] (tput M t_5) P
        refine a_iload_n 0 dX1_cancel_54 rfl rfl ?_
        exact a_iret rfl dX1_cancel_55 (hP _ _ h)
      · replace h := h.2 c_7
        refine a_bipush (v := (-4)) dX1_cancel_23 (by decide) ?_
        exact a_iret rfl dX1_cancel_25 (hP _ _ h)
    · replace h := h.2 c_8
      refine a_iconst (v := (-1)) dX1_cancel_12 (by decide) ?_
      exact a_iret rfl dX1_cancel_13 (hP _ _ h)
theorem zmh_cancel : zmh yX1_cancel 1 := ⟨⟨by decide +kernel, by decide +kernel⟩, by decide +kernel⟩
abbrev mX1_plan : zMt := (yX1_plan, cX1_plan, 9, some .int)
def w_plan (x1 x2 x3 x4 x5 x6 x7 : Int32) (t : DB) (Q : Int32 → DB → Prop) : Prop := w_isTower x1 t (fun r_2 t_1 => ((r_2 = 0) → (Q (-1) t_1)) ∧ ((¬ r_2 = 0) → (w_isStation x2 t_1 (fun r_4 t_3 => ((¬ r_4 = 0) → (w_isAct x3 t_3 (fun r_6 t_5 => ((r_6 = 0) → (Q (-2) t_5)) ∧ ((¬ r_6 = 0) → (w_isAmount x3 x4 t_5 (fun r_8 t_7 => ((r_8 = 0) → (Q (-2) t_7)) ∧ ((¬ r_8 = 0) → (((x5 < 1) → (Q (-2) t_7)) ∧ ((¬ x5 < 1) → (((1000 < x5) → (Q (-2) t_7)) ∧ ((¬ 1000 < x5) → (((x6 < 0) → (Q (-2) t_7)) ∧ ((¬ x6 < 0) → (((x6 ≤ x7) → (((¬ (t_7 89 0) = 12) → (∀ x_9 : Int32, x_9 = t_7 89 0 → (vp_in x_9 12 ∧ (∀ t_10 : DB, t_10 = up t_7 90 x_9.toNatClampNeg x1 → (vp_in x_9 12 ∧ (∀ t_11 : DB, t_11 = up t_10 91 x_9.toNatClampNeg x2 → (vp_in x_9 12 ∧ (∀ t_12 : DB, t_12 = up t_11 92 x_9.toNatClampNeg x3 → (vp_in x_9 12 ∧ (∀ t_13 : DB, t_13 = up t_12 93 x_9.toNatClampNeg x4 → (vp_in x_9 12 ∧ (∀ t_14 : DB, t_14 = up t_13 94 x_9.toNatClampNeg x5 → (vp_in x_9 12 ∧ (∀ t_15 : DB, t_15 = up t_14 95 x_9.toNatClampNeg x6 → (vp_in x_9 12 ∧ (∀ t_16 : DB, t_16 = up t_15 96 x_9.toNatClampNeg x7 → (vp_in x_9 12 ∧ (∀ t_17 : DB, t_17 = up t_16 97 x_9.toNatClampNeg (t_16 0 0) → (vp_in x_9 12 ∧ (∀ t_18 : DB, t_18 = up t_17 98 x_9.toNatClampNeg 0 → (vp_in x_9 12 ∧ (∀ t_19 : DB, t_19 = up t_18 99 x_9.toNatClampNeg (-1) → (vp_in x_9 12 ∧ (∀ t_20 : DB, t_20 = up t_19 100 x_9.toNatClampNeg 0 → (vp_in x_9 12 ∧ (∀ t_21 : DB, t_21 = up t_20 101 x_9.toNatClampNeg 0 → (vp_in x_9 12 ∧ (∀ t_22 : DB, t_22 = up t_21 102 x_9.toNatClampNeg 0 → (∀ t_23 : DB, t_23 = up t_22 89 0 ((t_22 89 0) + 1) → (Q x_9 t_23)))))))))))))))))))))))))))))) ∧ (((t_7 89 0) = 12) → (Q (-3) t_7)))) ∧ ((¬ x6 ≤ x7) → (Q (-2) t_7)))))))))))))))) ∧ ((r_4 = 0) → (Q (-1) t_3))))))
set_option maxHeartbeats 4000000 in
theorem sd_plan {d : Nat} {M : Mem} {P : Option AV → Mem → Prop} {Q : Int32 → DB → Prop} {x1 x2 x3 x4 x5 x6 x7 : Int32} {t : DB} (hP : ∀ r t, Q r t → P (some (.inl r)) (tput M t)) (hT : TW M) (h : w_plan x1 x2 x3 x4 x5 x6 x7 t Q) : ct (d + 1) mX1_plan [.inr (2, 0), .inl x1, .inl x2, .inl x3, .inl x4, .inl x5, .inl x6, .inl x7] (tput M t) P := by
  refine ct_of (by decide) (Nat.le_of_ble_eq_true rfl) ?_
  show wp (d + 1) mX1_plan 0 [(0, .inr (2, 0)), (1, .inl x1), (2, .inl x2), (3, .inl x3), (4, .inl x4), (5, .inl x5), (6, .inl x6), (7, .inl x7)] [] (tput M t) P
  unfold w_plan at h
  refine a_aload_n 0 dX1_plan_0 rfl rfl ?_
  refine a_iload_n 1 dX1_plan_1 rfl rfl ?_
  refine a_cv (y := mX1_isTower) (k := 2) (i := 0) (as := [.inl x1]) (st := []) (n := 1) (by decide) (Or.inl q1904) qs34 q1906 q73 q1907 zmh_isTower rfl (Nat.le_of_ble_eq_true rfl) (Nat.le_of_ble_eq_true rfl) dX1_plan_2 (sd_isTower (fun r_2 t_1 h => ?_) hT h)
  show wp (d + 1) mX1_plan 5 [(0, .inr (2, 0)), (1, .inl x1), (2, .inl x2), (3, .inl x3), (4, .inl x4), (5, .inl x5), (6, .inl x6), (7, .inl x7)] [.inl r_2] (tput M t_1) P
  refine a_if_eq (tgt := 16) dX1_plan_5 (by decide) (fun c_32 => ?_) (fun c_32 => ?_)
  · replace h := h.1 c_32
    refine a_iconst (v := (-1)) dX1_plan_16 (by decide) ?_
    exact a_iret rfl dX1_plan_17 (hP _ _ h)
  · replace h := h.2 c_32
    refine a_aload_n 0 dX1_plan_8 rfl rfl ?_
    refine a_iload_n 2 dX1_plan_9 rfl rfl ?_
    refine a_cv (y := mX1_isStation) (k := 2) (i := 0) (as := [.inl x2]) (st := []) (n := 1) (by decide) (Or.inl q1852) qs28 q1854 q73 q1855 zmh_isStation rfl (Nat.le_of_ble_eq_true rfl) (Nat.le_of_ble_eq_true rfl) dX1_plan_10 (sd_isStation (fun r_4 t_3 h => ?_) hT h)
    show wp (d + 1) mX1_plan 13 [(0, .inr (2, 0)), (1, .inl x1), (2, .inl x2), (3, .inl x3), (4, .inl x4), (5, .inl x5), (6, .inl x6), (7, .inl x7)] [.inl r_4] (tput M t_3) P
    refine a_if_ne (tgt := 18) dX1_plan_13 (by decide) (fun c_31 => ?_) (fun c_31 => ?_)
    · replace h := h.1 c_31
      refine a_aload_n 0 dX1_plan_18 rfl rfl ?_
      refine a_iload_n 3 dX1_plan_19 rfl rfl ?_
      refine a_cv (y := mX1_isAct) (k := 2) (i := 0) (as := [.inl x3]) (st := []) (n := 1) (by decide) (Or.inl q1856) qs29 q1858 q73 q1859 zmh_isAct rfl (Nat.le_of_ble_eq_true rfl) (Nat.le_of_ble_eq_true rfl) dX1_plan_20 (sd_isAct (fun r_6 t_5 h => ?_) hT h)
      show wp (d + 1) mX1_plan 23 [(0, .inr (2, 0)), (1, .inl x1), (2, .inl x2), (3, .inl x3), (4, .inl x4), (5, .inl x5), (6, .inl x6), (7, .inl x7)] [.inl r_6] (tput M t_5) P
      refine a_if_eq (tgt := 62) dX1_plan_23 (by decide) (fun c_30 => ?_) (fun c_30 => ?_)
      · replace h := h.1 c_30
        refine a_bipush (v := (-2)) dX1_plan_62 (by decide) ?_
        exact a_iret rfl dX1_plan_64 (hP _ _ h)
      · replace h := h.2 c_30
        refine a_aload_n 0 dX1_plan_26 rfl rfl ?_
        refine a_iload_n 3 dX1_plan_27 rfl rfl ?_
        refine a_iload 4 dX1_plan_28 rfl ?_
        refine a_cv (y := mX1_isAmount) (k := 2) (i := 0) (as := [.inl x3, .inl x4]) (st := []) (n := 2) (by decide) (Or.inl q1908) qs35 q1910 q73 q1911 zmh_isAmount rfl (Nat.le_of_ble_eq_true rfl) (Nat.le_of_ble_eq_true rfl) dX1_plan_30 (sd_isAmount (fun r_8 t_7 h => ?_) hT h)
        show wp (d + 1) mX1_plan 33 [(0, .inr (2, 0)), (1, .inl x1), (2, .inl x2), (3, .inl x3), (4, .inl x4), (5, .inl x5), (6, .inl x6), (7, .inl x7)] [.inl r_8] (tput M t_7) P
        refine a_if_eq (tgt := 62) dX1_plan_33 (by decide) (fun c_29 => ?_) (fun c_29 => ?_)
        · replace h := h.1 c_29
          refine a_bipush (v := (-2)) dX1_plan_62 (by decide) ?_
          exact a_iret rfl dX1_plan_64 (hP _ _ h)
        · replace h := h.2 c_29
          refine a_iload 5 dX1_plan_36 rfl ?_
          refine a_iconst (v := 1) dX1_plan_38 (by decide) ?_
          refine a_icmp_lt (tgt := 62) dX1_plan_39 (by decide) (fun c_28 => ?_) (fun c_28 => ?_)
          · replace h := h.1 c_28
            refine a_bipush (v := (-2)) dX1_plan_62 (by decide) ?_
            exact a_iret rfl dX1_plan_64 (hP _ _ h)
          · replace h := h.2 c_28
            refine a_iload 5 dX1_plan_42 rfl ?_
            refine a_sipush (v := 1000) dX1_plan_44 (by decide) ?_
            refine a_icmp_gt (tgt := 62) dX1_plan_47 (by decide) (fun c_27 => ?_) (fun c_27 => ?_)
            · replace h := h.1 c_27
              refine a_bipush (v := (-2)) dX1_plan_62 (by decide) ?_
              exact a_iret rfl dX1_plan_64 (hP _ _ h)
            · replace h := h.2 c_27
              refine a_iload 6 dX1_plan_50 rfl ?_
              refine a_if_lt (tgt := 62) dX1_plan_52 (by decide) (fun c_26 => ?_) (fun c_26 => ?_)
              · replace h := h.1 c_26
                refine a_bipush (v := (-2)) dX1_plan_62 (by decide) ?_
                exact a_iret rfl dX1_plan_64 (hP _ _ h)
              · replace h := h.2 c_26
                refine a_iload 7 dX1_plan_55 rfl ?_
                refine a_iload 6 dX1_plan_57 rfl ?_
                refine a_icmp_ge (tgt := 65) dX1_plan_59 (by decide) (fun c_25 => ?_) (fun c_25 => ?_)
                · replace h := h.1 c_25
                  refine a_aload_n 0 dX1_plan_65 rfl rfl ?_
                  refine t_gi 89 (by decide) q1601 rfl dX1_plan_66 ?_
                  refine a_bipush (v := 12) dX1_plan_69 (by decide) ?_
                  refine a_icmp_ne (tgt := 77) dX1_plan_71 (by decide) (fun c_24 => ?_) (fun c_24 => ?_)
                  · replace h := h.1 c_24
                    refine a_aload_n 0 dX1_plan_77 rfl rfl ?_
                    refine t_gi 89 (by decide) q1601 rfl dX1_plan_78 ?_
                    refine a_topi (fun x_9 ex_9 => ?_)
                    replace h := h x_9 ex_9
                    refine a_istore (lv' := [(8, .inl x_9), (0, .inr (2, 0)), (1, .inl x1), (2, .inl x2), (3, .inl x3), (4, .inl x4), (5, .inl x5), (6, .inl x6), (7, .inl x7)]) dX1_plan_81 (Nat.le_of_ble_eq_true rfl) rfl ?_
                    refine a_aload_n 1 dX1_plan_83 rfl rfl ?_
                    refine t_ga 90 hT (by decide) q1602 rfl dX1_plan_84 ?_
                    refine a_iload 0 dX1_plan_87 rfl ?_
                    refine a_iload_n 2 dX1_plan_89 rfl rfl ?_
                    refine t_is (f := 90) rfl hT (by decide) h.1 dX1_plan_90 ?_
                    replace h := h.2
                    refine a_topt (fun t_10 et_10 => ?_)
                    replace h := h t_10 et_10
                    refine a_aload_n 1 dX1_plan_91 rfl rfl ?_
                    refine t_ga 91 hT (by decide) q1603 rfl dX1_plan_92 ?_
                    refine a_iload 0 dX1_plan_95 rfl ?_
                    refine a_iload_n 3 dX1_plan_97 rfl rfl ?_
                    refine t_is (f := 91) rfl hT (by decide) h.1 dX1_plan_98 ?_
                    replace h := h.2
                    refine a_topt (fun t_11 et_11 => ?_)
                    replace h := h t_11 et_11
                    refine a_aload_n 1 dX1_plan_99 rfl rfl ?_
                    refine t_ga 92 hT (by decide) q1604 rfl dX1_plan_100 ?_
                    refine a_iload 0 dX1_plan_103 rfl ?_
                    refine a_iload_n 4 dX1_plan_105 rfl rfl ?_
                    refine t_is (f := 92) rfl hT (by decide) h.1 dX1_plan_106 ?_
                    replace h := h.2
                    refine a_topt (fun t_12 et_12 => ?_)
                    replace h := h t_12 et_12
                    refine a_aload_n 1 dX1_plan_107 rfl rfl ?_
                    refine t_ga 93 hT (by decide) q1605 rfl dX1_plan_108 ?_
                    refine a_iload 0 dX1_plan_111 rfl ?_
                    refine a_iload 5 dX1_plan_113 rfl ?_
                    refine t_is (f := 93) rfl hT (by decide) h.1 dX1_plan_115 ?_
                    replace h := h.2
                    refine a_topt (fun t_13 et_13 => ?_)
                    replace h := h t_13 et_13
                    refine a_aload_n 1 dX1_plan_116 rfl rfl ?_
                    refine t_ga 94 hT (by decide) q1606 rfl dX1_plan_117 ?_
                    refine a_iload 0 dX1_plan_120 rfl ?_
                    refine a_iload 6 dX1_plan_122 rfl ?_
                    refine t_is (f := 94) rfl hT (by decide) h.1 dX1_plan_124 ?_
                    replace h := h.2
                    refine a_topt (fun t_14 et_14 => ?_)
                    replace h := h t_14 et_14
                    refine a_aload_n 1 dX1_plan_125 rfl rfl ?_
                    refine t_ga 95 hT (by decide) q1607 rfl dX1_plan_126 ?_
                    refine a_iload 0 dX1_plan_129 rfl ?_
                    refine a_iload 7 dX1_plan_131 rfl ?_
                    refine t_is (f := 95) rfl hT (by decide) h.1 dX1_plan_133 ?_
                    replace h := h.2
                    refine a_topt (fun t_15 et_15 => ?_)
                    replace h := h t_15 et_15
                    refine a_aload_n 1 dX1_plan_134 rfl rfl ?_
                    refine t_ga 96 hT (by decide) q1608 rfl dX1_plan_135 ?_
                    refine a_iload 0 dX1_plan_138 rfl ?_
                    refine a_iload 8 dX1_plan_140 rfl ?_
                    refine t_is (f := 96) rfl hT (by decide) h.1 dX1_plan_142 ?_
                    replace h := h.2
                    refine a_topt (fun t_16 et_16 => ?_)
                    replace h := h t_16 et_16
                    refine a_aload_n 1 dX1_plan_143 rfl rfl ?_
                    refine t_ga 97 hT (by decide) q1609 rfl dX1_plan_144 ?_
                    refine a_iload 0 dX1_plan_147 rfl ?_
                    refine a_aload_n 1 dX1_plan_149 rfl rfl ?_
                    refine t_gi 0 (by decide) q1512 rfl dX1_plan_150 ?_
                    refine t_is (f := 97) rfl hT (by decide) h.1 dX1_plan_153 ?_
                    replace h := h.2
                    refine a_topt (fun t_17 et_17 => ?_)
                    replace h := h t_17 et_17
                    refine a_aload_n 1 dX1_plan_154 rfl rfl ?_
                    refine t_ga 98 hT (by decide) q1610 rfl dX1_plan_155 ?_
                    refine a_iload 0 dX1_plan_158 rfl ?_
                    refine a_iconst (v := 0) dX1_plan_160 (by decide) ?_
                    refine t_is (f := 98) rfl hT (by decide) h.1 dX1_plan_161 ?_
                    replace h := h.2
                    refine a_topt (fun t_18 et_18 => ?_)
                    replace h := h t_18 et_18
                    refine a_aload_n 1 dX1_plan_162 rfl rfl ?_
                    refine t_ga 99 hT (by decide) q1611 rfl dX1_plan_163 ?_
                    refine a_iload 0 dX1_plan_166 rfl ?_
                    refine a_iconst (v := (-1)) dX1_plan_168 (by decide) ?_
                    refine t_is (f := 99) rfl hT (by decide) h.1 dX1_plan_169 ?_
                    replace h := h.2
                    refine a_topt (fun t_19 et_19 => ?_)
                    replace h := h t_19 et_19
                    refine a_aload_n 1 dX1_plan_170 rfl rfl ?_
                    refine t_ga 100 hT (by decide) q1612 rfl dX1_plan_171 ?_
                    refine a_iload 0 dX1_plan_174 rfl ?_
                    refine a_iconst (v := 0) dX1_plan_176 (by decide) ?_
                    refine t_is (f := 100) rfl hT (by decide) h.1 dX1_plan_177 ?_
                    replace h := h.2
                    refine a_topt (fun t_20 et_20 => ?_)
                    replace h := h t_20 et_20
                    refine a_aload_n 1 dX1_plan_178 rfl rfl ?_
                    refine t_ga 101 hT (by decide) q1613 rfl dX1_plan_179 ?_
                    refine a_iload 0 dX1_plan_182 rfl ?_
                    refine a_iconst (v := 0) dX1_plan_184 (by decide) ?_
                    refine t_is (f := 101) rfl hT (by decide) h.1 dX1_plan_185 ?_
                    replace h := h.2
                    refine a_topt (fun t_21 et_21 => ?_)
                    replace h := h t_21 et_21
                    refine a_aload_n 1 dX1_plan_186 rfl rfl ?_
                    refine t_ga 102 hT (by decide) q1614 rfl dX1_plan_187 ?_
                    refine a_iload 0 dX1_plan_190 rfl ?_
                    refine a_iconst (v := 0) dX1_plan_192 (by decide) ?_
                    refine t_zs (f := 102) rfl hT (by decide) (by decide) h.1 dX1_plan_193 ?_
                    replace h := h.2
                    refine a_topt (fun t_22 et_22 => ?_)
                    replace h := h t_22 et_22
                    refine a_aload_n 1 dX1_plan_194 rfl rfl ?_
                    refine a_dup dX1_plan_195 ?_
                    refine t_gi 89 (by decide) q1601 rfl dX1_plan_196 ?_
                    refine a_iconst (v := 1) dX1_plan_199 (by decide) ?_
                    refine a_iadd dX1_plan_200 ?_
                    refine t_pi 89 (by decide) q1601 rfl rfl dX1_plan_201 ?_
                    refine a_topt (fun t_23 et_23 => ?_)
                    replace h := h t_23 et_23
                    refine a_iload 0 dX1_plan_204 rfl ?_
                    exact a_iret rfl dX1_plan_206 (hP _ _ h)
                  · replace h := h.2 c_24
                    refine a_bipush (v := (-3)) dX1_plan_74 (by decide) ?_
                    exact a_iret rfl dX1_plan_76 (hP _ _ h)
                · replace h := h.2 c_25
                  refine a_bipush (v := (-2)) dX1_plan_62 (by decide) ?_
                  exact a_iret rfl dX1_plan_64 (hP _ _ h)
    · replace h := h.2 c_31
      refine a_iconst (v := (-1)) dX1_plan_16 (by decide) ?_
      exact a_iret rfl dX1_plan_17 (hP _ _ h)
theorem zmh_plan : zmh yX1_plan 7 := ⟨⟨by decide +kernel, by decide +kernel⟩, by decide +kernel⟩
abbrev mX1_stop : zMt := (yX1_stop, cX1_stop, 2, some .int)
def w_stop (x1 : Int32) (t : DB) (Q : Int32 → DB → Prop) : Prop := ((x1 < 0) → (Q (-1) t)) ∧ ((¬ x1 < 0) → (((x1 < (t 89 0)) → (vp_in x1 12 ∧ ((((t 102 x1.toNatClampNeg) = 0) → (vp_in x1 12 ∧ (∀ t_1 : DB, t_1 = up t 102 x1.toNatClampNeg 1 → (vp_in x1 12 ∧ (Q (t_1 98 x1.toNatClampNeg) t_1))))) ∧ ((¬ (t 102 x1.toNatClampNeg) = 0) → (Q (-4) t))))) ∧ ((¬ x1 < (t 89 0)) → (Q (-1) t))))
set_option maxHeartbeats 4000000 in
theorem sd_stop {d : Nat} {M : Mem} {P : Option AV → Mem → Prop} {Q : Int32 → DB → Prop} {x1 : Int32} {t : DB} (hP : ∀ r t, Q r t → P (some (.inl r)) (tput M t)) (hT : TW M) (h : w_stop x1 t Q) : ct d mX1_stop [.inr (2, 0), .inl x1] (tput M t) P := by
  refine ct_of (by decide) (Nat.le_of_ble_eq_true rfl) ?_
  show wp d mX1_stop 0 [(0, .inr (2, 0)), (1, .inl x1)] [] (tput M t) P
  unfold w_stop at h
  refine a_iload_n 1 dX1_stop_0 rfl rfl ?_
  refine a_if_lt (tgt := 12) dX1_stop_1 (by decide) (fun c_4 => ?_) (fun c_4 => ?_)
  · replace h := h.1 c_4
    refine a_iconst (v := (-1)) dX1_stop_12 (by decide) ?_
    exact a_iret rfl dX1_stop_13 (hP _ _ h)
  · replace h := h.2 c_4
    refine a_iload_n 1 dX1_stop_4 rfl rfl ?_
    refine a_aload_n 0 dX1_stop_5 rfl rfl ?_
    refine t_gi 89 (by decide) q1601 rfl dX1_stop_6 ?_
    refine a_icmp_lt (tgt := 14) dX1_stop_9 (by decide) (fun c_3 => ?_) (fun c_3 => ?_)
    · replace h := h.1 c_3
      refine a_aload_n 0 dX1_stop_14 rfl rfl ?_
      refine t_ga 102 hT (by decide) q1614 rfl dX1_stop_15 ?_
      refine a_iload_n 1 dX1_stop_18 rfl rfl ?_
      refine t_za (f := 102) rfl hT (by decide) h.1 dX1_stop_19 ?_
      replace h := h.2
      refine a_if_eq (tgt := 26) dX1_stop_20 (by decide) (fun c_2 => ?_) (fun c_2 => ?_)
      · replace h := h.1 c_2
        refine a_aload_n 0 dX1_stop_26 rfl rfl ?_
        refine t_ga 102 hT (by decide) q1614 rfl dX1_stop_27 ?_
        refine a_iload_n 1 dX1_stop_30 rfl rfl ?_
        refine a_iconst (v := 1) dX1_stop_31 (by decide) ?_
        refine t_zs (f := 102) rfl hT (by decide) (by decide) h.1 dX1_stop_32 ?_
        replace h := h.2
        refine a_topt (fun t_1 et_1 => ?_)
        replace h := h t_1 et_1
        refine a_aload_n 0 dX1_stop_33 rfl rfl ?_
        refine t_ga 98 hT (by decide) q1610 rfl dX1_stop_34 ?_
        refine a_iload_n 1 dX1_stop_37 rfl rfl ?_
        refine t_ia (f := 98) rfl hT (by decide) h.1 dX1_stop_38 ?_
        replace h := h.2
        exact a_iret rfl dX1_stop_39 (hP _ _ h)
      · replace h := h.2 c_2
        refine a_bipush (v := (-4)) dX1_stop_23 (by decide) ?_
        exact a_iret rfl dX1_stop_25 (hP _ _ h)
    · replace h := h.2 c_3
      refine a_iconst (v := (-1)) dX1_stop_12 (by decide) ?_
      exact a_iret rfl dX1_stop_13 (hP _ _ h)
theorem zmh_stop : zmh yX1_stop 1 := ⟨⟨by decide +kernel, by decide +kernel⟩, by decide +kernel⟩
abbrev mX1_planned : zMt := (yX1_planned, cX1_planned, 3, some .int)
def w_planned (x1 x2 : Int32) (t : DB) (Q : Int32 → DB → Prop) : Prop := ((x1 < 0) → (Q (-1) t)) ∧ ((¬ x1 < 0) → (((x1 < (t 89 0)) → ((x2 = 0 → (vp_in x1 12 ∧ (Q (t 98 x1.toNatClampNeg) t))) ∧ (x2 = 1 → (vp_in x1 12 ∧ (Q (t 99 x1.toNatClampNeg) t))) ∧ (x2 = 2 → (vp_in x1 12 ∧ (Q (t 100 x1.toNatClampNeg) t))) ∧ (x2 = 3 → (vp_in x1 12 ∧ (Q (t 101 x1.toNatClampNeg) t))) ∧ (x2 = 4 → (vp_in x1 12 ∧ ((((t 102 x1.toNatClampNeg) = 0) → (Q 1 t)) ∧ ((¬ (t 102 x1.toNatClampNeg) = 0) → (Q 0 t))))) ∧ (¬ x2 = 0 → ¬ x2 = 1 → ¬ x2 = 2 → ¬ x2 = 3 → ¬ x2 = 4 → (Q (-1) t)))) ∧ ((¬ x1 < (t 89 0)) → (Q (-1) t))))
set_option maxHeartbeats 4000000 in
theorem sd_planned {d : Nat} {M : Mem} {P : Option AV → Mem → Prop} {Q : Int32 → DB → Prop} {x1 x2 : Int32} {t : DB} (hP : ∀ r t, Q r t → P (some (.inl r)) (tput M t)) (hT : TW M) (h : w_planned x1 x2 t Q) : ct d mX1_planned [.inr (2, 0), .inl x1, .inl x2] (tput M t) P := by
  refine ct_of (by decide) (Nat.le_of_ble_eq_true rfl) ?_
  show wp d mX1_planned 0 [(0, .inr (2, 0)), (1, .inl x1), (2, .inl x2)] [] (tput M t) P
  unfold w_planned at h
  refine a_iload_n 1 dX1_planned_0 rfl rfl ?_
  refine a_if_lt (tgt := 12) dX1_planned_1 (by decide) (fun c_3 => ?_) (fun c_3 => ?_)
  · replace h := h.1 c_3
    refine a_iconst (v := (-1)) dX1_planned_12 (by decide) ?_
    exact a_iret rfl dX1_planned_13 (hP _ _ h)
  · replace h := h.2 c_3
    refine a_iload_n 1 dX1_planned_4 rfl rfl ?_
    refine a_aload_n 0 dX1_planned_5 rfl rfl ?_
    refine t_gi 89 (by decide) q1601 rfl dX1_planned_6 ?_
    refine a_icmp_lt (tgt := 14) dX1_planned_9 (by decide) (fun c_2 => ?_) (fun c_2 => ?_)
    · replace h := h.1 c_2
      refine a_iload_n 2 dX1_planned_14 rfl rfl ?_
      refine a_tsw (fun j => ([48, 55, 62, 69, 76] : List Nat).getD j 0) (tD := 91) (n := 5) dX1_planned_15 rfl (by decide) (by decide) (by decide) (fun j hj e => ?_) (fun e => ?_)
      · match j, hj, e with
        | 0, _, e =>
          replace h := h.1 e
          show wp d mX1_planned 48 _ _ _ _
          refine a_aload_n 0 dX1_planned_48 rfl rfl ?_
          refine t_ga 98 hT (by decide) q1610 rfl dX1_planned_49 ?_
          refine a_iload_n 1 dX1_planned_52 rfl rfl ?_
          refine t_ia (f := 98) rfl hT (by decide) h.1 dX1_planned_53 ?_
          replace h := h.2
          exact a_iret rfl dX1_planned_54 (hP _ _ h)
        | 1, _, e =>
          replace h := h.2.1 e
          show wp d mX1_planned 55 _ _ _ _
          refine a_aload_n 0 dX1_planned_55 rfl rfl ?_
          refine t_ga 99 hT (by decide) q1611 rfl dX1_planned_56 ?_
          refine a_iload_n 1 dX1_planned_59 rfl rfl ?_
          refine t_ia (f := 99) rfl hT (by decide) h.1 dX1_planned_60 ?_
          replace h := h.2
          exact a_iret rfl dX1_planned_61 (hP _ _ h)
        | 2, _, e =>
          replace h := h.2.2.1 e
          show wp d mX1_planned 62 _ _ _ _
          refine a_aload_n 0 dX1_planned_62 rfl rfl ?_
          refine t_ga 100 hT (by decide) q1612 rfl dX1_planned_63 ?_
          refine a_iload_n 1 dX1_planned_66 rfl rfl ?_
          refine t_ia (f := 100) rfl hT (by decide) h.1 dX1_planned_67 ?_
          replace h := h.2
          exact a_iret rfl dX1_planned_68 (hP _ _ h)
        | 3, _, e =>
          replace h := h.2.2.2.1 e
          show wp d mX1_planned 69 _ _ _ _
          refine a_aload_n 0 dX1_planned_69 rfl rfl ?_
          refine t_ga 101 hT (by decide) q1613 rfl dX1_planned_70 ?_
          refine a_iload_n 1 dX1_planned_73 rfl rfl ?_
          refine t_ia (f := 101) rfl hT (by decide) h.1 dX1_planned_74 ?_
          replace h := h.2
          exact a_iret rfl dX1_planned_75 (hP _ _ h)
        | 4, _, e =>
          replace h := h.2.2.2.2.1 e
          show wp d mX1_planned 76 _ _ _ _
          refine a_aload_n 0 dX1_planned_76 rfl rfl ?_
          refine t_ga 102 hT (by decide) q1614 rfl dX1_planned_77 ?_
          refine a_iload_n 1 dX1_planned_80 rfl rfl ?_
          refine t_za (f := 102) rfl hT (by decide) h.1 dX1_planned_81 ?_
          replace h := h.2
          refine a_if_eq (tgt := 89) dX1_planned_82 (by decide) (fun c_1 => ?_) (fun c_1 => ?_)
          · replace h := h.1 c_1
            refine a_iconst (v := 1) dX1_planned_89 (by decide) ?_
            exact a_iret rfl dX1_planned_90 (hP _ _ h)
          · replace h := h.2 c_1
            refine a_iconst (v := 0) dX1_planned_85 (by decide) ?_
            refine a_goto (tgt := 90) dX1_planned_86 (by decide) ?_
            exact a_iret rfl dX1_planned_90 (hP _ _ h)
        | j + 5, hj, _ => exact absurd hj (by omega)
      · replace h := h.2.2.2.2.2 (e 0 (by decide)) (e 1 (by decide)) (e 2 (by decide)) (e 3 (by decide)) (e 4 (by decide))
        refine a_iconst (v := (-1)) dX1_planned_91 (by decide) ?_
        exact a_iret rfl dX1_planned_92 (hP _ _ h)
    · replace h := h.2 c_2
      refine a_iconst (v := (-1)) dX1_planned_12 (by decide) ?_
      exact a_iret rfl dX1_planned_13 (hP _ _ h)
theorem zmh_planned : zmh yX1_planned 2 := ⟨⟨by decide +kernel, by decide +kernel⟩, by decide +kernel⟩
abbrev mX1_isGuard : zMt := (yX1_isGuard, cX1_isGuard, 3, some .boolean)
def w_isGuard (x1 x2 : Int32) (t : DB) (Q : Int32 → DB → Prop) : Prop := ((x1 < 0) → (Q 0 t)) ∧ ((¬ x1 < 0) → ((((t 30 0) ≤ x1) → (Q 0 t)) ∧ ((¬ (t 30 0) ≤ x1) → (vp_in x1 24 ∧ (((¬ (t 31 x1.toNatClampNeg) = x2) → (Q 0 t)) ∧ (((t 31 x1.toNatClampNeg) = x2) → (Q 1 t)))))))
set_option maxHeartbeats 4000000 in
theorem sd_isGuard {d : Nat} {M : Mem} {P : Option AV → Mem → Prop} {Q : Int32 → DB → Prop} {x1 x2 : Int32} {t : DB} (hP : ∀ r t, Q r t → P (some (.inl r)) (tput M t)) (hT : TW M) (h : w_isGuard x1 x2 t Q) : ct d mX1_isGuard [.inr (2, 0), .inl x1, .inl x2] (tput M t) P := by
  refine ct_of (by decide) (Nat.le_of_ble_eq_true rfl) ?_
  show wp d mX1_isGuard 0 [(0, .inr (2, 0)), (1, .inl x1), (2, .inl x2)] [] (tput M t) P
  unfold w_isGuard at h
  refine a_iload_n 1 dX1_isGuard_0 rfl rfl ?_
  refine a_if_lt (tgt := 26) dX1_isGuard_1 (by decide) (fun c_3 => ?_) (fun c_3 => ?_)
  · replace h := h.1 c_3
    refine a_iconst (v := 0) dX1_isGuard_26 (by decide) ?_
    exact a_zret rfl (by decide) dX1_isGuard_27 (hP _ _ h)
  · replace h := h.2 c_3
    refine a_iload_n 1 dX1_isGuard_4 rfl rfl ?_
    refine a_aload_n 0 dX1_isGuard_5 rfl rfl ?_
    refine t_gi 30 (by decide) q1542 rfl dX1_isGuard_6 ?_
    refine a_icmp_ge (tgt := 26) dX1_isGuard_9 (by decide) (fun c_2 => ?_) (fun c_2 => ?_)
    · replace h := h.1 c_2
      refine a_iconst (v := 0) dX1_isGuard_26 (by decide) ?_
      exact a_zret rfl (by decide) dX1_isGuard_27 (hP _ _ h)
    · replace h := h.2 c_2
      refine a_aload_n 0 dX1_isGuard_12 rfl rfl ?_
      refine t_ga 31 hT (by decide) q1543 rfl dX1_isGuard_13 ?_
      refine a_iload_n 1 dX1_isGuard_16 rfl rfl ?_
      refine t_ia (f := 31) rfl hT (by decide) h.1 dX1_isGuard_17 ?_
      replace h := h.2
      refine a_iload_n 2 dX1_isGuard_18 rfl rfl ?_
      refine a_icmp_ne (tgt := 26) dX1_isGuard_19 (by decide) (fun c_1 => ?_) (fun c_1 => ?_)
      · replace h := h.1 c_1
        refine a_iconst (v := 0) dX1_isGuard_26 (by decide) ?_
        exact a_zret rfl (by decide) dX1_isGuard_27 (hP _ _ h)
      · replace h := h.2 c_1
        refine a_iconst (v := 1) dX1_isGuard_22 (by decide) ?_
        refine a_goto (tgt := 27) dX1_isGuard_23 (by decide) ?_
        exact a_zret rfl (by decide) dX1_isGuard_27 (hP _ _ h)
theorem zmh_isGuard : zmh yX1_isGuard 2 := ⟨⟨by decide +kernel, by decide +kernel⟩, by decide +kernel⟩
abbrev mX1_alarm : zMt := (yX1_alarm, cX1_alarm, 5, some .int)
def w_alarm_117 (x1 x2 x3 s0 : Int32) (t : DB) (Q : Int32 → DB → Prop) : Prop := ((¬ s0 = 0) → (((¬ (t 103 0) = 10) → (vp_in (t 103 0) 10 ∧ (∀ t_1 : DB, t_1 = up t 104 (t 103 0).toNatClampNeg x1 → (vp_in (t_1 103 0) 10 ∧ (∀ t_2 : DB, t_2 = up t_1 105 (t_1 103 0).toNatClampNeg x2 → (vp_in (t_2 103 0) 10 ∧ (∀ t_3 : DB, t_3 = up t_2 106 (t_2 103 0).toNatClampNeg x3 → (vp_in (t_3 103 0) 10 ∧ (∀ t_4 : DB, t_4 = up t_3 107 (t_3 103 0).toNatClampNeg 0 → (vp_in (t_4 103 0) 10 ∧ (∀ t_5 : DB, t_5 = up t_4 108 (t_4 103 0).toNatClampNeg (-1) → (vp_in (t_5 103 0) 10 ∧ (∀ t_6 : DB, t_6 = up t_5 109 (t_5 103 0).toNatClampNeg 0 → (∀ t_7 : DB, t_7 = up t_6 103 0 ((t_6 103 0) + 1) → (Q ((t_7 103 0) - 1) t_7))))))))))))))) ∧ (((t 103 0) = 10) → (Q (-3) t)))) ∧ ((s0 = 0) → (Q (-2) t))
set_option maxHeartbeats 4000000 in
theorem sd_alarm_117 {d : Nat} {M : Mem} {P : Option AV → Mem → Prop} {Q : Int32 → DB → Prop} (hP : ∀ r t, Q r t → P (some (.inl r)) (tput M t)) (hT : TW M) (x1 x2 x3 s0 : Int32) (t : DB) (h : w_alarm_117 x1 x2 x3 s0 t Q) : wp (d + 1) mX1_alarm 117 [(0, .inr (2, 0)), (1, .inl x1), (2, .inl x2), (3, .inl x3)] [.inl s0] (tput M t) P := by
  unfold w_alarm_117 at h
  refine a_istore (lv' := [(4, .inl s0), (0, .inr (2, 0)), (1, .inl x1), (2, .inl x2), (3, .inl x3)]) dX1_alarm_117 (Nat.le_of_ble_eq_true rfl) rfl ?_
  refine a_iload 0 dX1_alarm_119 rfl ?_
  refine a_if_ne (tgt := 127) dX1_alarm_121 (by decide) (fun c_9 => ?_) (fun c_9 => ?_)
  · replace h := h.1 c_9
    refine a_aload_n 1 dX1_alarm_127 rfl rfl ?_
    refine t_gi 103 (by decide) q1615 rfl dX1_alarm_128 ?_
    refine a_bipush (v := 10) dX1_alarm_131 (by decide) ?_
    refine a_icmp_ne (tgt := 139) dX1_alarm_133 (by decide) (fun c_8 => ?_) (fun c_8 => ?_)
    · replace h := h.1 c_8
      refine a_aload_n 1 dX1_alarm_139 rfl rfl ?_
      refine t_ga 104 hT (by decide) q1616 rfl dX1_alarm_140 ?_
      refine a_aload_n 1 dX1_alarm_143 rfl rfl ?_
      refine t_gi 103 (by decide) q1615 rfl dX1_alarm_144 ?_
      refine a_iload_n 2 dX1_alarm_147 rfl rfl ?_
      refine t_is (f := 104) rfl hT (by decide) h.1 dX1_alarm_148 ?_
      replace h := h.2
      refine a_topt (fun t_1 et_1 => ?_)
      replace h := h t_1 et_1
      refine a_aload_n 1 dX1_alarm_149 rfl rfl ?_
      refine t_ga 105 hT (by decide) q1617 rfl dX1_alarm_150 ?_
      refine a_aload_n 1 dX1_alarm_153 rfl rfl ?_
      refine t_gi 103 (by decide) q1615 rfl dX1_alarm_154 ?_
      refine a_iload_n 3 dX1_alarm_157 rfl rfl ?_
      refine t_is (f := 105) rfl hT (by decide) h.1 dX1_alarm_158 ?_
      replace h := h.2
      refine a_topt (fun t_2 et_2 => ?_)
      replace h := h t_2 et_2
      refine a_aload_n 1 dX1_alarm_159 rfl rfl ?_
      refine t_ga 106 hT (by decide) q1618 rfl dX1_alarm_160 ?_
      refine a_aload_n 1 dX1_alarm_163 rfl rfl ?_
      refine t_gi 103 (by decide) q1615 rfl dX1_alarm_164 ?_
      refine a_iload_n 4 dX1_alarm_167 rfl rfl ?_
      refine t_is (f := 106) rfl hT (by decide) h.1 dX1_alarm_168 ?_
      replace h := h.2
      refine a_topt (fun t_3 et_3 => ?_)
      replace h := h t_3 et_3
      refine a_aload_n 1 dX1_alarm_169 rfl rfl ?_
      refine t_ga 107 hT (by decide) q1619 rfl dX1_alarm_170 ?_
      refine a_aload_n 1 dX1_alarm_173 rfl rfl ?_
      refine t_gi 103 (by decide) q1615 rfl dX1_alarm_174 ?_
      refine a_iconst (v := 0) dX1_alarm_177 (by decide) ?_
      refine t_is (f := 107) rfl hT (by decide) h.1 dX1_alarm_178 ?_
      replace h := h.2
      refine a_topt (fun t_4 et_4 => ?_)
      replace h := h t_4 et_4
      refine a_aload_n 1 dX1_alarm_179 rfl rfl ?_
      refine t_ga 108 hT (by decide) q1620 rfl dX1_alarm_180 ?_
      refine a_aload_n 1 dX1_alarm_183 rfl rfl ?_
      refine t_gi 103 (by decide) q1615 rfl dX1_alarm_184 ?_
      refine a_iconst (v := (-1)) dX1_alarm_187 (by decide) ?_
      refine t_is (f := 108) rfl hT (by decide) h.1 dX1_alarm_188 ?_
      replace h := h.2
      refine a_topt (fun t_5 et_5 => ?_)
      replace h := h t_5 et_5
      refine a_aload_n 1 dX1_alarm_189 rfl rfl ?_
      refine t_ga 109 hT (by decide) q1621 rfl dX1_alarm_190 ?_
      refine a_aload_n 1 dX1_alarm_193 rfl rfl ?_
      refine t_gi 103 (by decide) q1615 rfl dX1_alarm_194 ?_
      refine a_iconst (v := 0) dX1_alarm_197 (by decide) ?_
      refine t_zs (f := 109) rfl hT (by decide) (by decide) h.1 dX1_alarm_198 ?_
      replace h := h.2
      refine a_topt (fun t_6 et_6 => ?_)
      replace h := h t_6 et_6
      refine a_aload_n 1 dX1_alarm_199 rfl rfl ?_
      refine a_dup dX1_alarm_200 ?_
      refine t_gi 103 (by decide) q1615 rfl dX1_alarm_201 ?_
      refine a_iconst (v := 1) dX1_alarm_204 (by decide) ?_
      refine a_iadd dX1_alarm_205 ?_
      refine t_pi 103 (by decide) q1615 rfl rfl dX1_alarm_206 ?_
      refine a_topt (fun t_7 et_7 => ?_)
      replace h := h t_7 et_7
      refine a_aload_n 1 dX1_alarm_209 rfl rfl ?_
      refine t_gi 103 (by decide) q1615 rfl dX1_alarm_210 ?_
      refine a_iconst (v := 1) dX1_alarm_213 (by decide) ?_
      refine a_isub dX1_alarm_214 ?_
      exact a_iret rfl dX1_alarm_215 (hP _ _ h)
    · replace h := h.2 c_8
      refine a_bipush (v := (-3)) dX1_alarm_136 (by decide) ?_
      exact a_iret rfl dX1_alarm_138 (hP _ _ h)
  · replace h := h.2 c_9
    refine a_bipush (v := (-2)) dX1_alarm_124 (by decide) ?_
    exact a_iret rfl dX1_alarm_126 (hP _ _ h)
def w_alarm_42 (x1 x2 x3 : Int32) (t : DB) (Q : Int32 → DB → Prop) : Prop := ((¬ x1 = 0) → (((¬ x1 = 1) → (((¬ x1 = 2) → (((¬ x1 = 3) → (w_alarm_117 x1 x2 x3 0 t Q)) ∧ ((x1 = 3) → (((¬ x2 = 0) → (w_alarm_117 x1 x2 x3 0 t Q)) ∧ ((x2 = 0) → (w_in x3 0 1000000 t (fun r_2 t_1 => ((r_2 = 0) → (w_alarm_117 x1 x2 x3 0 t_1 Q)) ∧ ((¬ r_2 = 0) → (w_alarm_117 x1 x2 x3 1 t_1 Q))))))))) ∧ ((x1 = 2) → (w_in x3 1 10 t (fun r_7 t_6 => w_alarm_117 x1 x2 x3 r_7 t_6 Q))))) ∧ ((x1 = 1) → (w_in x3 0 1000000 t (fun r_10 t_9 => w_alarm_117 x1 x2 x3 r_10 t_9 Q))))) ∧ ((x1 = 0) → (((¬ x3 = 0) → (w_alarm_117 x1 x2 x3 0 t Q)) ∧ ((x3 = 0) → (w_alarm_117 x1 x2 x3 1 t Q))))
set_option maxHeartbeats 4000000 in
theorem sd_alarm_42 {d : Nat} {M : Mem} {P : Option AV → Mem → Prop} {Q : Int32 → DB → Prop} (hP : ∀ r t, Q r t → P (some (.inl r)) (tput M t)) (hT : TW M) (x1 x2 x3 : Int32) (t : DB) (h : w_alarm_42 x1 x2 x3 t Q) : wp (d + 1) mX1_alarm 42 [(0, .inr (2, 0)), (1, .inl x1), (2, .inl x2), (3, .inl x3)] [] (tput M t) P := by
  unfold w_alarm_42 at h
  refine a_iload_n 1 dX1_alarm_42 rfl rfl ?_
  refine a_if_ne (tgt := 58) dX1_alarm_43 (by decide) (fun c_13 => ?_) (fun c_13 => ?_)
  · replace h := h.1 c_13
    refine a_iload_n 1 dX1_alarm_58 rfl rfl ?_
    refine a_iconst (v := 1) dX1_alarm_59 (by decide) ?_
    refine a_icmp_ne (tgt := 75) dX1_alarm_60 (by decide) (fun c_11 => ?_) (fun c_11 => ?_)
    · replace h := h.1 c_11
      refine a_iload_n 1 dX1_alarm_75 rfl rfl ?_
      refine a_iconst (v := 2) dX1_alarm_76 (by decide) ?_
      refine a_icmp_ne (tgt := 91) dX1_alarm_77 (by decide) (fun c_8 => ?_) (fun c_8 => ?_)
      · replace h := h.1 c_8
        refine a_iload_n 1 dX1_alarm_91 rfl rfl ?_
        refine a_iconst (v := 3) dX1_alarm_92 (by decide) ?_
        refine a_icmp_ne (tgt := 116) dX1_alarm_93 (by decide) (fun c_5 => ?_) (fun c_5 => ?_)
        · replace h := h.1 c_5
          refine a_iconst (v := 0) dX1_alarm_116 (by decide) ?_
          exact wp_sub (by simp) (sd_alarm_117 hP hT x1 x2 x3 0 t h)
        · replace h := h.2 c_5
          refine a_iload_n 2 dX1_alarm_96 rfl rfl ?_
          refine a_if_ne (tgt := 116) dX1_alarm_97 (by decide) (fun c_4 => ?_) (fun c_4 => ?_)
          · replace h := h.1 c_4
            refine a_iconst (v := 0) dX1_alarm_116 (by decide) ?_
            exact wp_sub (by simp) (sd_alarm_117 hP hT x1 x2 x3 0 t h)
          · replace h := h.2 c_4
            refine a_aload_n 0 dX1_alarm_100 rfl rfl ?_
            refine a_iload_n 3 dX1_alarm_101 rfl rfl ?_
            refine a_iconst (v := 0) dX1_alarm_102 (by decide) ?_
            refine a_ldcw (v := 1000000) dX1_alarm_103 q1847 ?_
            refine a_cv (y := mX1_in) (k := 2) (i := 0) (as := [.inl x3, .inl 0, .inl 1000000]) (st := []) (n := 3) (by decide) (Or.inl q1888) qs33 q1890 q73 q1891 zmh_in rfl (Nat.le_of_ble_eq_true rfl) (Nat.le_of_ble_eq_true rfl) dX1_alarm_106 (sd_in (fun r_2 t_1 h => ?_) hT h)
            show wp (d + 1) mX1_alarm 109 [(0, .inr (2, 0)), (1, .inl x1), (2, .inl x2), (3, .inl x3)] [.inl r_2] (tput M t_1) P
            refine a_if_eq (tgt := 116) dX1_alarm_109 (by decide) (fun c_3 => ?_) (fun c_3 => ?_)
            · replace h := h.1 c_3
              refine a_iconst (v := 0) dX1_alarm_116 (by decide) ?_
              exact wp_sub (by simp) (sd_alarm_117 hP hT x1 x2 x3 0 t_1 h)
            · replace h := h.2 c_3
              refine a_iconst (v := 1) dX1_alarm_112 (by decide) ?_
              refine a_goto (tgt := 117) dX1_alarm_113 (by decide) ?_
              exact wp_sub (by simp) (sd_alarm_117 hP hT x1 x2 x3 1 t_1 h)
      · replace h := h.2 c_8
        refine a_aload_n 0 dX1_alarm_80 rfl rfl ?_
        refine a_iload_n 3 dX1_alarm_81 rfl rfl ?_
        refine a_iconst (v := 1) dX1_alarm_82 (by decide) ?_
        refine a_bipush (v := 10) dX1_alarm_83 (by decide) ?_
        refine a_cv (y := mX1_in) (k := 2) (i := 0) (as := [.inl x3, .inl 1, .inl 10]) (st := []) (n := 3) (by decide) (Or.inl q1888) qs33 q1890 q73 q1891 zmh_in rfl (Nat.le_of_ble_eq_true rfl) (Nat.le_of_ble_eq_true rfl) dX1_alarm_85 (sd_in (fun r_7 t_6 h => ?_) hT h)
        show wp (d + 1) mX1_alarm 88 [(0, .inr (2, 0)), (1, .inl x1), (2, .inl x2), (3, .inl x3)] [.inl r_7] (tput M t_6) P
        refine a_goto (tgt := 117) dX1_alarm_88 (by decide) ?_
        exact wp_sub (by simp) (sd_alarm_117 hP hT x1 x2 x3 r_7 t_6 h)
    · replace h := h.2 c_11
      refine a_aload_n 0 dX1_alarm_63 rfl rfl ?_
      refine a_iload_n 3 dX1_alarm_64 rfl rfl ?_
      refine a_iconst (v := 0) dX1_alarm_65 (by decide) ?_
      refine a_ldcw (v := 1000000) dX1_alarm_66 q1847 ?_
      refine a_cv (y := mX1_in) (k := 2) (i := 0) (as := [.inl x3, .inl 0, .inl 1000000]) (st := []) (n := 3) (by decide) (Or.inl q1888) qs33 q1890 q73 q1891 zmh_in rfl (Nat.le_of_ble_eq_true rfl) (Nat.le_of_ble_eq_true rfl) dX1_alarm_69 (sd_in (fun r_10 t_9 h => ?_) hT h)
      show wp (d + 1) mX1_alarm 72 [(0, .inr (2, 0)), (1, .inl x1), (2, .inl x2), (3, .inl x3)] [.inl r_10] (tput M t_9) P
      refine a_goto (tgt := 117) dX1_alarm_72 (by decide) ?_
      exact wp_sub (by simp) (sd_alarm_117 hP hT x1 x2 x3 r_10 t_9 h)
  · replace h := h.2 c_13
    refine a_iload_n 3 dX1_alarm_46 rfl rfl ?_
    refine a_if_ne (tgt := 54) dX1_alarm_47 (by decide) (fun c_12 => ?_) (fun c_12 => ?_)
    · replace h := h.1 c_12
      refine a_iconst (v := 0) dX1_alarm_54 (by decide) ?_
      refine a_goto (tgt := 117) dX1_alarm_55 (by decide) ?_
      exact wp_sub (by simp) (sd_alarm_117 hP hT x1 x2 x3 0 t h)
    · replace h := h.2 c_12
      refine a_iconst (v := 1) dX1_alarm_50 (by decide) ?_
      refine a_goto (tgt := 117) dX1_alarm_51 (by decide) ?_
      exact wp_sub (by simp) (sd_alarm_117 hP hT x1 x2 x3 1 t h)
def w_alarm_26 (x1 x2 x3 : Int32) (t : DB) (Q : Int32 → DB → Prop) : Prop := ((¬ x1 = 2) → (w_alarm_42 x1 x2 x3 t Q)) ∧ ((x1 = 2) → (w_isGuard x2 1 t (fun r_2 t_1 => ((¬ r_2 = 0) → (w_alarm_42 x1 x2 x3 t_1 Q)) ∧ ((r_2 = 0) → (Q (-1) t_1)))))
set_option maxHeartbeats 4000000 in
theorem sd_alarm_26 {d : Nat} {M : Mem} {P : Option AV → Mem → Prop} {Q : Int32 → DB → Prop} (hP : ∀ r t, Q r t → P (some (.inl r)) (tput M t)) (hT : TW M) (x1 x2 x3 : Int32) (t : DB) (h : w_alarm_26 x1 x2 x3 t Q) : wp (d + 1) mX1_alarm 26 [(0, .inr (2, 0)), (1, .inl x1), (2, .inl x2), (3, .inl x3)] [] (tput M t) P := by
  unfold w_alarm_26 at h
  refine a_iload_n 1 dX1_alarm_26 rfl rfl ?_
  refine a_iconst (v := 2) dX1_alarm_27 (by decide) ?_
  refine a_icmp_ne (tgt := 42) dX1_alarm_28 (by decide) (fun c_4 => ?_) (fun c_4 => ?_)
  · replace h := h.1 c_4
    exact wp_sub (by simp) (sd_alarm_42 hP hT x1 x2 x3 t h)
  · replace h := h.2 c_4
    refine a_aload_n 0 dX1_alarm_31 rfl rfl ?_
    refine a_iload_n 2 dX1_alarm_32 rfl rfl ?_
    refine a_iconst (v := 1) dX1_alarm_33 (by decide) ?_
    refine a_cv (y := mX1_isGuard) (k := 2) (i := 0) (as := [.inl x2, .inl 1]) (st := []) (n := 2) (by decide) (Or.inl q2036) qs62 q2038 q73 q2039 zmh_isGuard rfl (Nat.le_of_ble_eq_true rfl) (Nat.le_of_ble_eq_true rfl) dX1_alarm_34 (sd_isGuard (fun r_2 t_1 h => ?_) hT h)
    show wp (d + 1) mX1_alarm 37 [(0, .inr (2, 0)), (1, .inl x1), (2, .inl x2), (3, .inl x3)] [.inl r_2] (tput M t_1) P
    refine a_if_ne (tgt := 42) dX1_alarm_37 (by decide) (fun c_3 => ?_) (fun c_3 => ?_)
    · replace h := h.1 c_3
      exact wp_sub (by simp) (sd_alarm_42 hP hT x1 x2 x3 t_1 h)
    · replace h := h.2 c_3
      refine a_iconst (v := (-1)) dX1_alarm_40 (by decide) ?_
      exact a_iret rfl dX1_alarm_41 (hP _ _ h)
def w_alarm_13 (x1 x2 x3 : Int32) (t : DB) (Q : Int32 → DB → Prop) : Prop := ((¬ x1 = 1) → (w_alarm_26 x1 x2 x3 t Q)) ∧ ((x1 = 1) → (w_isStation x2 t (fun r_2 t_1 => ((r_2 = 0) → (Q (-1) t_1)) ∧ ((¬ r_2 = 0) → (w_alarm_26 x1 x2 x3 t_1 Q)))))
set_option maxHeartbeats 4000000 in
theorem sd_alarm_13 {d : Nat} {M : Mem} {P : Option AV → Mem → Prop} {Q : Int32 → DB → Prop} (hP : ∀ r t, Q r t → P (some (.inl r)) (tput M t)) (hT : TW M) (x1 x2 x3 : Int32) (t : DB) (h : w_alarm_13 x1 x2 x3 t Q) : wp (d + 1) mX1_alarm 13 [(0, .inr (2, 0)), (1, .inl x1), (2, .inl x2), (3, .inl x3)] [] (tput M t) P := by
  unfold w_alarm_13 at h
  refine a_iload_n 1 dX1_alarm_13 rfl rfl ?_
  refine a_iconst (v := 1) dX1_alarm_14 (by decide) ?_
  refine a_icmp_ne (tgt := 26) dX1_alarm_15 (by decide) (fun c_4 => ?_) (fun c_4 => ?_)
  · replace h := h.1 c_4
    exact wp_sub (by simp) (sd_alarm_26 hP hT x1 x2 x3 t h)
  · replace h := h.2 c_4
    refine a_aload_n 0 dX1_alarm_18 rfl rfl ?_
    refine a_iload_n 2 dX1_alarm_19 rfl rfl ?_
    refine a_cv (y := mX1_isStation) (k := 2) (i := 0) (as := [.inl x2]) (st := []) (n := 1) (by decide) (Or.inl q1852) qs28 q1854 q73 q1855 zmh_isStation rfl (Nat.le_of_ble_eq_true rfl) (Nat.le_of_ble_eq_true rfl) dX1_alarm_20 (sd_isStation (fun r_2 t_1 h => ?_) hT h)
    show wp (d + 1) mX1_alarm 23 [(0, .inr (2, 0)), (1, .inl x1), (2, .inl x2), (3, .inl x3)] [.inl r_2] (tput M t_1) P
    refine a_if_eq (tgt := 40) dX1_alarm_23 (by decide) (fun c_3 => ?_) (fun c_3 => ?_)
    · replace h := h.1 c_3
      refine a_iconst (v := (-1)) dX1_alarm_40 (by decide) ?_
      exact a_iret rfl dX1_alarm_41 (hP _ _ h)
    · replace h := h.2 c_3
      exact wp_sub (by simp) (sd_alarm_26 hP hT x1 x2 x3 t_1 h)
def w_alarm (x1 x2 x3 : Int32) (t : DB) (Q : Int32 → DB → Prop) : Prop := ((¬ x1 = 0) → (w_alarm_13 x1 x2 x3 t Q)) ∧ ((x1 = 0) → (w_isGuard x2 0 t (fun r_2 t_1 => ((r_2 = 0) → (Q (-1) t_1)) ∧ ((¬ r_2 = 0) → (w_alarm_13 x1 x2 x3 t_1 Q)))))
set_option maxHeartbeats 4000000 in
theorem sd_alarm {d : Nat} {M : Mem} {P : Option AV → Mem → Prop} {Q : Int32 → DB → Prop} {x1 x2 x3 : Int32} {t : DB} (hP : ∀ r t, Q r t → P (some (.inl r)) (tput M t)) (hT : TW M) (h : w_alarm x1 x2 x3 t Q) : ct (d + 1) mX1_alarm [.inr (2, 0), .inl x1, .inl x2, .inl x3] (tput M t) P := by
  refine ct_of (by decide) (Nat.le_of_ble_eq_true rfl) ?_
  show wp (d + 1) mX1_alarm 0 [(0, .inr (2, 0)), (1, .inl x1), (2, .inl x2), (3, .inl x3)] [] (tput M t) P
  unfold w_alarm at h
  refine a_iload_n 1 dX1_alarm_0 rfl rfl ?_
  refine a_if_ne (tgt := 13) dX1_alarm_1 (by decide) (fun c_4 => ?_) (fun c_4 => ?_)
  · replace h := h.1 c_4
    exact wp_sub (by simp) (sd_alarm_13 hP hT x1 x2 x3 t h)
  · replace h := h.2 c_4
    refine a_aload_n 0 dX1_alarm_4 rfl rfl ?_
    refine a_iload_n 2 dX1_alarm_5 rfl rfl ?_
    refine a_iconst (v := 0) dX1_alarm_6 (by decide) ?_
    refine a_cv (y := mX1_isGuard) (k := 2) (i := 0) (as := [.inl x2, .inl 0]) (st := []) (n := 2) (by decide) (Or.inl q2036) qs62 q2038 q73 q2039 zmh_isGuard rfl (Nat.le_of_ble_eq_true rfl) (Nat.le_of_ble_eq_true rfl) dX1_alarm_7 (sd_isGuard (fun r_2 t_1 h => ?_) hT h)
    show wp (d + 1) mX1_alarm 10 [(0, .inr (2, 0)), (1, .inl x1), (2, .inl x2), (3, .inl x3)] [.inl r_2] (tput M t_1) P
    refine a_if_eq (tgt := 40) dX1_alarm_10 (by decide) (fun c_3 => ?_) (fun c_3 => ?_)
    · replace h := h.1 c_3
      refine a_iconst (v := (-1)) dX1_alarm_40 (by decide) ?_
      exact a_iret rfl dX1_alarm_41 (hP _ _ h)
    · replace h := h.2 c_3
      exact wp_sub (by simp) (sd_alarm_13 hP hT x1 x2 x3 t_1 h)
theorem zmh_alarm : zmh yX1_alarm 3 := ⟨⟨by decide +kernel, by decide +kernel⟩, by decide +kernel⟩
abbrev mX1_alarmed : zMt := (yX1_alarmed, cX1_alarmed, 3, some .int)
def w_alarmed (x1 x2 : Int32) (t : DB) (Q : Int32 → DB → Prop) : Prop := ((x1 < 0) → (Q (-1) t)) ∧ ((¬ x1 < 0) → (((x1 < (t 103 0)) → ((x2 = 0 → (vp_in x1 10 ∧ ((((t 109 x1.toNatClampNeg) = 0) → (Q 0 t)) ∧ ((¬ (t 109 x1.toNatClampNeg) = 0) → (Q 1 t))))) ∧ (x2 = 1 → (vp_in x1 10 ∧ (Q (t 107 x1.toNatClampNeg) t))) ∧ (x2 = 2 → (vp_in x1 10 ∧ (Q (t 108 x1.toNatClampNeg) t))) ∧ (¬ x2 = 0 → ¬ x2 = 1 → ¬ x2 = 2 → (Q (-1) t)))) ∧ ((¬ x1 < (t 103 0)) → (Q (-1) t))))
set_option maxHeartbeats 4000000 in
theorem sd_alarmed {d : Nat} {M : Mem} {P : Option AV → Mem → Prop} {Q : Int32 → DB → Prop} {x1 x2 : Int32} {t : DB} (hP : ∀ r t, Q r t → P (some (.inl r)) (tput M t)) (hT : TW M) (h : w_alarmed x1 x2 t Q) : ct d mX1_alarmed [.inr (2, 0), .inl x1, .inl x2] (tput M t) P := by
  refine ct_of (by decide) (Nat.le_of_ble_eq_true rfl) ?_
  show wp d mX1_alarmed 0 [(0, .inr (2, 0)), (1, .inl x1), (2, .inl x2)] [] (tput M t) P
  unfold w_alarmed at h
  refine a_iload_n 1 dX1_alarmed_0 rfl rfl ?_
  refine a_if_lt (tgt := 12) dX1_alarmed_1 (by decide) (fun c_3 => ?_) (fun c_3 => ?_)
  · replace h := h.1 c_3
    refine a_iconst (v := (-1)) dX1_alarmed_12 (by decide) ?_
    exact a_iret rfl dX1_alarmed_13 (hP _ _ h)
  · replace h := h.2 c_3
    refine a_iload_n 1 dX1_alarmed_4 rfl rfl ?_
    refine a_aload_n 0 dX1_alarmed_5 rfl rfl ?_
    refine t_gi 103 (by decide) q1615 rfl dX1_alarmed_6 ?_
    refine a_icmp_lt (tgt := 14) dX1_alarmed_9 (by decide) (fun c_2 => ?_) (fun c_2 => ?_)
    · replace h := h.1 c_2
      refine a_iload_n 2 dX1_alarmed_14 rfl rfl ?_
      refine a_tsw (fun j => ([40, 55, 62] : List Nat).getD j 0) (tD := 69) (n := 3) dX1_alarmed_15 rfl (by decide) (by decide) (by decide) (fun j hj e => ?_) (fun e => ?_)
      · match j, hj, e with
        | 0, _, e =>
          replace h := h.1 e
          show wp d mX1_alarmed 40 _ _ _ _
          refine a_aload_n 0 dX1_alarmed_40 rfl rfl ?_
          refine t_ga 109 hT (by decide) q1621 rfl dX1_alarmed_41 ?_
          refine a_iload_n 1 dX1_alarmed_44 rfl rfl ?_
          refine t_za (f := 109) rfl hT (by decide) h.1 dX1_alarmed_45 ?_
          replace h := h.2
          refine a_if_eq (tgt := 53) dX1_alarmed_46 (by decide) (fun c_1 => ?_) (fun c_1 => ?_)
          · replace h := h.1 c_1
            refine a_iconst (v := 0) dX1_alarmed_53 (by decide) ?_
            exact a_iret rfl dX1_alarmed_54 (hP _ _ h)
          · replace h := h.2 c_1
            refine a_iconst (v := 1) dX1_alarmed_49 (by decide) ?_
            refine a_goto (tgt := 54) dX1_alarmed_50 (by decide) ?_
            exact a_iret rfl dX1_alarmed_54 (hP _ _ h)
        | 1, _, e =>
          replace h := h.2.1 e
          show wp d mX1_alarmed 55 _ _ _ _
          refine a_aload_n 0 dX1_alarmed_55 rfl rfl ?_
          refine t_ga 107 hT (by decide) q1619 rfl dX1_alarmed_56 ?_
          refine a_iload_n 1 dX1_alarmed_59 rfl rfl ?_
          refine t_ia (f := 107) rfl hT (by decide) h.1 dX1_alarmed_60 ?_
          replace h := h.2
          exact a_iret rfl dX1_alarmed_61 (hP _ _ h)
        | 2, _, e =>
          replace h := h.2.2.1 e
          show wp d mX1_alarmed 62 _ _ _ _
          refine a_aload_n 0 dX1_alarmed_62 rfl rfl ?_
          refine t_ga 108 hT (by decide) q1620 rfl dX1_alarmed_63 ?_
          refine a_iload_n 1 dX1_alarmed_66 rfl rfl ?_
          refine t_ia (f := 108) rfl hT (by decide) h.1 dX1_alarmed_67 ?_
          replace h := h.2
          exact a_iret rfl dX1_alarmed_68 (hP _ _ h)
        | j + 3, hj, _ => exact absurd hj (by omega)
      · replace h := h.2.2.2 (e 0 (by decide)) (e 1 (by decide)) (e 2 (by decide))
        refine a_iconst (v := (-1)) dX1_alarmed_69 (by decide) ?_
        exact a_iret rfl dX1_alarmed_70 (hP _ _ h)
    · replace h := h.2 c_2
      refine a_iconst (v := (-1)) dX1_alarmed_12 (by decide) ?_
      exact a_iret rfl dX1_alarmed_13 (hP _ _ h)
theorem zmh_alarmed : zmh yX1_alarmed 2 := ⟨⟨by decide +kernel, by decide +kernel⟩, by decide +kernel⟩
abbrev mX1_isSo : zMt := (yX1_isSo, cX1_isSo, 5, some .boolean)
def w_isSo_103 : Nat → Int32 → Int32 → Int32 → DB → (Int32 → DB → Prop) → Prop
  | 0, _, _, _, _, _ => False
  | n + 1, x1, x3, x4, t, Q => (((t 50 0) ≤ x4) → ((x3 = 0 ∨ x3 = 1) ∧ Q x3 t)) ∧ ((¬ (t 50 0) ≤ x4) → (vp_in x4 60 ∧ (((¬ (t 58 x4.toNatClampNeg) = 0) → (∀ x_1 : Int32, x_1 = x3 ||| 0 → (∀ x_2 : Int32, x_2 = x4 + 1 → (w_isSo_103 n x1 x_1 x_2 t Q)))) ∧ (((t 58 x4.toNatClampNeg) = 0) → (vp_in x4 60 ∧ (vp_in x1 10 ∧ (((((t 0 0) - (t 56 x4.toNatClampNeg)) ≤ (t 106 x1.toNatClampNeg)) → (∀ x_3 : Int32, x_3 = x3 ||| 0 → (∀ x_4 : Int32, x_4 = x4 + 1 → (w_isSo_103 n x1 x_3 x_4 t Q)))) ∧ ((¬ ((t 0 0) - (t 56 x4.toNatClampNeg)) ≤ (t 106 x1.toNatClampNeg)) → (∀ x_5 : Int32, x_5 = x3 ||| 1 → (∀ x_6 : Int32, x_6 = x4 + 1 → (w_isSo_103 n x1 x_5 x_6 t Q)))))))))))
set_option maxHeartbeats 4000000 in
theorem sd_isSo_103 {d : Nat} {M : Mem} {P : Option AV → Mem → Prop} {Q : Int32 → DB → Prop} (hP : ∀ r t, Q r t → P (some (.inl r)) (tput M t)) (hT : TW M) : ∀ (n : Nat) (x1 x3 x4 : Int32) (t : DB), w_isSo_103 n x1 x3 x4 t Q → wp d mX1_isSo 103 [(0, .inr (2, 0)), (1, .inl x1), (3, .inl x3), (4, .inl x4)] [] (tput M t) P := by
  intro n
  induction n with
  | zero => intro x1 x3 x4 t h; exact False.elim h
  | succ n ih =>
    intro x1 x3 x4 t h
    rw [w_isSo_103] at h
    refine a_iload 3 dX1_isSo_103 rfl ?_
    refine a_aload_n 0 dX1_isSo_105 rfl rfl ?_
    refine t_gi 50 (by decide) q1562 rfl dX1_isSo_106 ?_
    refine a_icmp_ge (tgt := 157) dX1_isSo_109 (by decide) (fun c_9 => ?_) (fun c_9 => ?_)
    · replace h := h.1 c_9
      refine a_iload_n 2 dX1_isSo_157 rfl rfl ?_
      exact a_zret rfl h.1 dX1_isSo_158 (hP _ _ h.2)
    · replace h := h.2 c_9
      refine a_iload_n 2 dX1_isSo_112 rfl rfl ?_
      refine a_aload_n 0 dX1_isSo_113 rfl rfl ?_
      refine t_ga 58 hT (by decide) q1570 rfl dX1_isSo_114 ?_
      refine a_iload 3 dX1_isSo_117 rfl ?_
      refine t_ia (f := 58) rfl hT (by decide) h.1 dX1_isSo_119 ?_
      replace h := h.2
      refine a_if_ne (tgt := 148) dX1_isSo_120 (by decide) (fun c_8 => ?_) (fun c_8 => ?_)
      · replace h := h.1 c_8
        refine a_iconst (v := 0) dX1_isSo_148 (by decide) ?_
        refine a_ior dX1_isSo_149 ?_
        refine a_topi (fun x_1 ex_1 => ?_)
        replace h := h x_1 ex_1
        refine a_istore_n (lv' := [(3, .inl x_1), (0, .inr (2, 0)), (1, .inl x1), (4, .inl x4)]) dX1_isSo_150 rfl (Nat.le_of_ble_eq_true rfl) rfl ?_
        obtain ⟨x_2, ex_2⟩ : ∃ y : Int32, y = x4 + 1 := ⟨_, rfl⟩
        replace h := h x_2 ex_2
        refine a_iinc (v := x_2) (lv' := [(4, .inl x_2), (3, .inl x_1), (0, .inr (2, 0)), (1, .inl x1)]) 3 dX1_isSo_151 rfl (by rw [ex_2]; rfl) (Nat.le_of_ble_eq_true rfl) rfl ?_
        refine a_goto (tgt := 103) dX1_isSo_154 (by decide) ?_
        exact wp_sub (by simp) (ih x1 x_1 x_2 t h)
      · replace h := h.2 c_8
        refine a_aload_n 0 dX1_isSo_123 rfl rfl ?_
        refine t_gi 0 (by decide) q1512 rfl dX1_isSo_124 ?_
        refine a_aload_n 0 dX1_isSo_127 rfl rfl ?_
        refine t_ga 56 hT (by decide) q1568 rfl dX1_isSo_128 ?_
        refine a_iload 3 dX1_isSo_131 rfl ?_
        refine t_ia (f := 56) rfl hT (by decide) h.1 dX1_isSo_133 ?_
        replace h := h.2
        refine a_isub dX1_isSo_134 ?_
        refine a_aload_n 0 dX1_isSo_135 rfl rfl ?_
        refine t_ga 106 hT (by decide) q1618 rfl dX1_isSo_136 ?_
        refine a_iload_n 1 dX1_isSo_139 rfl rfl ?_
        refine t_ia (f := 106) rfl hT (by decide) h.1 dX1_isSo_140 ?_
        replace h := h.2
        refine a_icmp_le (tgt := 148) dX1_isSo_141 (by decide) (fun c_7 => ?_) (fun c_7 => ?_)
        · replace h := h.1 c_7
          refine a_iconst (v := 0) dX1_isSo_148 (by decide) ?_
          refine a_ior dX1_isSo_149 ?_
          refine a_topi (fun x_3 ex_3 => ?_)
          replace h := h x_3 ex_3
          refine a_istore_n (lv' := [(3, .inl x_3), (0, .inr (2, 0)), (1, .inl x1), (4, .inl x4)]) dX1_isSo_150 rfl (Nat.le_of_ble_eq_true rfl) rfl ?_
          obtain ⟨x_4, ex_4⟩ : ∃ y : Int32, y = x4 + 1 := ⟨_, rfl⟩
          replace h := h x_4 ex_4
          refine a_iinc (v := x_4) (lv' := [(4, .inl x_4), (3, .inl x_3), (0, .inr (2, 0)), (1, .inl x1)]) 3 dX1_isSo_151 rfl (by rw [ex_4]; rfl) (Nat.le_of_ble_eq_true rfl) rfl ?_
          refine a_goto (tgt := 103) dX1_isSo_154 (by decide) ?_
          exact wp_sub (by simp) (ih x1 x_3 x_4 t h)
        · replace h := h.2 c_7
          refine a_iconst (v := 1) dX1_isSo_144 (by decide) ?_
          refine a_goto (tgt := 149) dX1_isSo_145 (by decide) ?_
          refine a_ior dX1_isSo_149 ?_
          refine a_topi (fun x_5 ex_5 => ?_)
          replace h := h x_5 ex_5
          refine a_istore_n (lv' := [(3, .inl x_5), (0, .inr (2, 0)), (1, .inl x1), (4, .inl x4)]) dX1_isSo_150 rfl (Nat.le_of_ble_eq_true rfl) rfl ?_
          obtain ⟨x_6, ex_6⟩ : ∃ y : Int32, y = x4 + 1 := ⟨_, rfl⟩
          replace h := h x_6 ex_6
          refine a_iinc (v := x_6) (lv' := [(4, .inl x_6), (3, .inl x_5), (0, .inr (2, 0)), (1, .inl x1)]) 3 dX1_isSo_151 rfl (by rw [ex_6]; rfl) (Nat.le_of_ble_eq_true rfl) rfl ?_
          refine a_goto (tgt := 103) dX1_isSo_154 (by decide) ?_
          exact wp_sub (by simp) (ih x1 x_5 x_6 t h)
def w_isSo (x1 : Int32) (t : DB) (Q : Int32 → DB → Prop) : Prop := vp_in x1 10 ∧ (∀ x_1 : Int32, x_1 = t 105 x1.toNatClampNeg → (vp_in x1 10 ∧ (((t 104 x1.toNatClampNeg) = 0 → (vp_in x_1 24 ∧ (((¬ (t 36 x_1.toNatClampNeg) = 1) → (Q 0 t)) ∧ (((t 36 x_1.toNatClampNeg) = 1) → (Q 1 t))))) ∧ ((t 104 x1.toNatClampNeg) = 1 → (vp_in x_1 8 ∧ (vp_in x1 10 ∧ ((((t 106 x1.toNatClampNeg) ≤ (t 2 x_1.toNatClampNeg)) → (Q 0 t)) ∧ ((¬ (t 106 x1.toNatClampNeg) ≤ (t 2 x_1.toNatClampNeg)) → (Q 1 t)))))) ∧ ((t 104 x1.toNatClampNeg) = 2 → (vp_in x_1 24 ∧ (vp_in x1 10 ∧ ((((t 40 x_1.toNatClampNeg) < (t 106 x1.toNatClampNeg)) → (Q 0 t)) ∧ ((¬ (t 40 x_1.toNatClampNeg) < (t 106 x1.toNatClampNeg)) → (Q 1 t)))))) ∧ (¬ (t 104 x1.toNatClampNeg) = 0 → ¬ (t 104 x1.toNatClampNeg) = 1 → ¬ (t 104 x1.toNatClampNeg) = 2 → (∃ n_, w_isSo_103 n_ x1 0 0 t Q)))))
set_option maxHeartbeats 4000000 in
theorem sd_isSo {d : Nat} {M : Mem} {P : Option AV → Mem → Prop} {Q : Int32 → DB → Prop} {x1 : Int32} {t : DB} (hP : ∀ r t, Q r t → P (some (.inl r)) (tput M t)) (hT : TW M) (h : w_isSo x1 t Q) : ct d mX1_isSo [.inr (2, 0), .inl x1] (tput M t) P := by
  refine ct_of (by decide) (Nat.le_of_ble_eq_true rfl) ?_
  show wp d mX1_isSo 0 [(0, .inr (2, 0)), (1, .inl x1)] [] (tput M t) P
  unfold w_isSo at h
  refine a_aload_n 0 dX1_isSo_0 rfl rfl ?_
  refine t_ga 105 hT (by decide) q1617 rfl dX1_isSo_1 ?_
  refine a_iload_n 1 dX1_isSo_4 rfl rfl ?_
  refine t_ia (f := 105) rfl hT (by decide) h.1 dX1_isSo_5 ?_
  replace h := h.2
  refine a_topi (fun x_1 ex_1 => ?_)
  replace h := h x_1 ex_1
  refine a_istore_n (lv' := [(2, .inl x_1), (0, .inr (2, 0)), (1, .inl x1)]) dX1_isSo_6 rfl (Nat.le_of_ble_eq_true rfl) rfl ?_
  refine a_aload_n 1 dX1_isSo_7 rfl rfl ?_
  refine t_ga 104 hT (by decide) q1616 rfl dX1_isSo_8 ?_
  refine a_iload_n 2 dX1_isSo_11 rfl rfl ?_
  refine t_ia (f := 104) rfl hT (by decide) h.1 dX1_isSo_12 ?_
  replace h := h.2
  refine a_tsw (fun j => ([40, 56, 77] : List Nat).getD j 0) (tD := 98) (n := 3) dX1_isSo_13 rfl (by decide) (by decide) (by decide) (fun j hj e => ?_) (fun e => ?_)
  · match j, hj, e with
    | 0, _, e =>
      replace h := h.1 e
      show wp d mX1_isSo 40 _ _ _ _
      refine a_aload_n 1 dX1_isSo_40 rfl rfl ?_
      refine t_ga 36 hT (by decide) q1548 rfl dX1_isSo_41 ?_
      refine a_iload_n 0 dX1_isSo_44 rfl rfl ?_
      refine t_ia (f := 36) rfl hT (by decide) h.1 dX1_isSo_45 ?_
      replace h := h.2
      refine a_iconst (v := 1) dX1_isSo_46 (by decide) ?_
      refine a_icmp_ne (tgt := 54) dX1_isSo_47 (by decide) (fun c_2 => ?_) (fun c_2 => ?_)
      · replace h := h.1 c_2
        refine a_iconst (v := 0) dX1_isSo_54 (by decide) ?_
        exact a_zret rfl (by decide) dX1_isSo_55 (hP _ _ h)
      · replace h := h.2 c_2
        refine a_iconst (v := 1) dX1_isSo_50 (by decide) ?_
        refine a_goto (tgt := 55) dX1_isSo_51 (by decide) ?_
        exact a_zret rfl (by decide) dX1_isSo_55 (hP _ _ h)
    | 1, _, e =>
      replace h := h.2.1 e
      show wp d mX1_isSo 56 _ _ _ _
      refine a_aload_n 1 dX1_isSo_56 rfl rfl ?_
      refine t_ga 2 hT (by decide) q1514 rfl dX1_isSo_57 ?_
      refine a_iload_n 0 dX1_isSo_60 rfl rfl ?_
      refine t_ia (f := 2) rfl hT (by decide) h.1 dX1_isSo_61 ?_
      replace h := h.2
      refine a_aload_n 1 dX1_isSo_62 rfl rfl ?_
      refine t_ga 106 hT (by decide) q1618 rfl dX1_isSo_63 ?_
      refine a_iload_n 2 dX1_isSo_66 rfl rfl ?_
      refine t_ia (f := 106) rfl hT (by decide) h.1 dX1_isSo_67 ?_
      replace h := h.2
      refine a_icmp_ge (tgt := 75) dX1_isSo_68 (by decide) (fun c_3 => ?_) (fun c_3 => ?_)
      · replace h := h.1 c_3
        refine a_iconst (v := 0) dX1_isSo_75 (by decide) ?_
        exact a_zret rfl (by decide) dX1_isSo_76 (hP _ _ h)
      · replace h := h.2 c_3
        refine a_iconst (v := 1) dX1_isSo_71 (by decide) ?_
        refine a_goto (tgt := 76) dX1_isSo_72 (by decide) ?_
        exact a_zret rfl (by decide) dX1_isSo_76 (hP _ _ h)
    | 2, _, e =>
      replace h := h.2.2.1 e
      show wp d mX1_isSo 77 _ _ _ _
      refine a_aload_n 1 dX1_isSo_77 rfl rfl ?_
      refine t_ga 40 hT (by decide) q1552 rfl dX1_isSo_78 ?_
      refine a_iload_n 0 dX1_isSo_81 rfl rfl ?_
      refine t_ia (f := 40) rfl hT (by decide) h.1 dX1_isSo_82 ?_
      replace h := h.2
      refine a_aload_n 1 dX1_isSo_83 rfl rfl ?_
      refine t_ga 106 hT (by decide) q1618 rfl dX1_isSo_84 ?_
      refine a_iload_n 2 dX1_isSo_87 rfl rfl ?_
      refine t_ia (f := 106) rfl hT (by decide) h.1 dX1_isSo_88 ?_
      replace h := h.2
      refine a_icmp_lt (tgt := 96) dX1_isSo_89 (by decide) (fun c_4 => ?_) (fun c_4 => ?_)
      · replace h := h.1 c_4
        refine a_iconst (v := 0) dX1_isSo_96 (by decide) ?_
        exact a_zret rfl (by decide) dX1_isSo_97 (hP _ _ h)
      · replace h := h.2 c_4
        refine a_iconst (v := 1) dX1_isSo_92 (by decide) ?_
        refine a_goto (tgt := 97) dX1_isSo_93 (by decide) ?_
        exact a_zret rfl (by decide) dX1_isSo_97 (hP _ _ h)
    | j + 3, hj, _ => exact absurd hj (by omega)
  · replace h := h.2.2.2 (e 0 (by decide)) (e 1 (by decide)) (e 2 (by decide))
    refine a_iconst (v := 0) dX1_isSo_98 (by decide) ?_
    refine a_istore_n (lv' := [(3, .inl 0), (2, .inl x_1), (0, .inr (2, 0)), (1, .inl x1)]) dX1_isSo_99 rfl (Nat.le_of_ble_eq_true rfl) rfl ?_
    refine a_iconst (v := 0) dX1_isSo_100 (by decide) ?_
    refine a_istore (lv' := [(4, .inl 0), (3, .inl 0), (2, .inl x_1), (0, .inr (2, 0)), (1, .inl x1)]) dX1_isSo_101 (Nat.le_of_ble_eq_true rfl) rfl ?_
    obtain ⟨n_, h⟩ := h
    exact wp_sub (by simp) (sd_isSo_103 hP hT n_ x1 0 0 t h)
theorem zmh_isSo : zmh yX1_isSo 1 := ⟨⟨by decide +kernel, by decide +kernel⟩, by decide +kernel⟩
