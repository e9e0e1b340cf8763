set_option maxRecDepth 100000
/-! count; the queries as calls of the law -/
theorem ap_count {X : Mem} {m : Nat} {N : Mem} {t : DB} (h : SS X m 60 [] 100000 N t) (x1 : Int32) : APQ (w_count x1 t) (v_X0_count (1, 0) x1 N) N t := by
  have ten : (10 : Int32).toNatClampNeg = 10 := rfl
  have v10 : vp_in 10 11 := by show vp_in (nI 10) 11; exact vp_in_nI (by decide) (by decide)
  by_cases w0 : x1 = 0
  · subst w0
    have hL : N.2.1 1 0 2 = (30, 2) := h.W.1 2 (by decide) (by decide)
    have hs : N.1 30 2 0 = t 1 0 := h.S (2, 1, 0) (by decide)
    exact ⟨t 1 0, fun Q hQ => by simp [w_count, hQ], fun Q hQ => by simp [v_X0_count, hL, hs, hQ, kt, lk]⟩
  by_cases w1 : x1 = 1
  · subst w1
    have hL : N.2.1 1 0 3 = (30, 3) := h.W.1 3 (by decide) (by decide)
    have hs : N.1 30 3 0 = t 5 0 := h.S (3, 5, 0) (by decide)
    exact ⟨t 5 0, fun Q hQ => by simp [w_count, hQ], fun Q hQ => by simp [v_X0_count, hL, hs, hQ, kt, lk]⟩
  by_cases w2 : x1 = 2
  · subst w2
    have hL : N.2.1 1 0 4 = (30, 4) := h.W.1 4 (by decide) (by decide)
    have hs : N.1 30 4 0 = t 11 0 := h.S (4, 11, 0) (by decide)
    exact ⟨t 11 0, fun Q hQ => by simp [w_count, hQ], fun Q hQ => by simp [v_X0_count, hL, hs, hQ, kt, lk]⟩
  by_cases w3 : x1 = 3
  · subst w3
    have hL : N.2.1 1 0 5 = (30, 5) := h.W.1 5 (by decide) (by decide)
    have hs : N.1 30 5 0 = t 30 0 := h.S (5, 30, 0) (by decide)
    exact ⟨t 30 0, fun Q hQ => by simp [w_count, hQ], fun Q hQ => by simp [v_X0_count, hL, hs, hQ, kt, lk]⟩
  by_cases w4 : x1 = 4
  · subst w4
    have hL : N.2.1 1 0 7 = (30, 7) := h.W.1 7 (by decide) (by decide)
    have hs : N.1 30 7 0 = t 47 0 := h.S (7, 47, 0) (by decide)
    exact ⟨t 47 0, fun Q hQ => by simp [w_count, hQ], fun Q hQ => by simp [v_X0_count, hL, hs, hQ, kt, lk]⟩
  by_cases w5 : x1 = 5
  · subst w5
    have hL : N.2.1 1 0 8 = (30, 8) := h.W.1 8 (by decide) (by decide)
    have hs : N.1 30 8 0 = t 50 0 := h.S (8, 50, 0) (by decide)
    exact ⟨t 50 0, fun Q hQ => by simp [w_count, hQ], fun Q hQ => by simp [v_X0_count, hL, hs, hQ, kt, lk]⟩
  by_cases w6 : x1 = 6
  · subst w6
    have hL : N.2.1 1 0 9 = (30, 9) := h.W.1 9 (by decide) (by decide)
    have hs : N.1 30 9 0 = t 61 0 := h.S (9, 61, 0) (by decide)
    exact ⟨t 61 0, fun Q hQ => by simp [w_count, hQ], fun Q hQ => by simp [v_X0_count, hL, hs, hQ, kt, lk]⟩
  by_cases w7 : x1 = 7
  · subst w7
    have hL : N.2.1 1 0 10 = (30, 10) := h.W.1 10 (by decide) (by decide)
    have hs : N.1 30 10 0 = t 23 0 := h.S (10, 23, 0) (by decide)
    exact ⟨t 23 0, fun Q hQ => by simp [w_count, hQ], fun Q hQ => by simp [v_X0_count, hL, hs, hQ, kt, lk]⟩
  by_cases w8 : x1 = 8
  · subst w8
    have hL : N.2.1 1 0 11 = (30, 11) := h.W.1 11 (by decide) (by decide)
    have hs : N.1 30 11 0 = t 17 0 := h.S (11, 17, 0) (by decide)
    exact ⟨t 17 0, fun Q hQ => by simp [w_count, hQ], fun Q hQ => by simp [v_X0_count, hL, hs, hQ, kt, lk]⟩
  by_cases w12 : x1 = 12
  · subst w12
    have hL : N.2.1 1 0 6 = (30, 6) := h.W.1 6 (by decide) (by decide)
    have hs : N.1 30 6 0 = t 48 10 := h.S (6, 48, 10) (by decide)
    exact ⟨t 48 10, fun Q hQ => by simp [w_count, hQ, ten, v10], fun Q hQ => by simp [v_X0_count, hL, hs, hQ, kt, lk]⟩
  by_cases w13 : x1 = 13
  · subst w13
    have hL : N.2.1 1 0 12 = (30, 12) := h.W.1 12 (by decide) (by decide)
    have hs : N.1 30 12 0 = t 89 0 := h.S (12, 89, 0) (by decide)
    exact ⟨t 89 0, fun Q hQ => by simp [w_count, hQ], fun Q hQ => by simp [v_X0_count, hL, hs, hQ, kt, lk]⟩
  by_cases w9 : x1 = 9
  · subst w9
    obtain ⟨v, v1, v2⟩ := cnt9_l h (x1 := 9) (cn t 61) 0 0 (by omega)
    exact ⟨v, fun Q hQ => by simp [w_count]; exact ⟨_, v1 Q hQ⟩, fun Q hQ => by simp [v_X0_count]; exact ⟨_, v2 Q hQ⟩⟩
  by_cases w10 : x1 = 10
  · subst w10
    obtain ⟨v, v1, v2⟩ := cnt9_l h (x1 := 10) (cn t 61) 0 0 (by omega)
    exact ⟨v, fun Q hQ => by simp [w_count]; exact ⟨_, v1 Q hQ⟩, fun Q hQ => by simp [v_X0_count]; exact ⟨_, v2 Q hQ⟩⟩
  by_cases w11 : x1 = 11
  · subst w11
    obtain ⟨v, v1, v2⟩ := cnt11_l h (cn t 50) 0 0 (by omega)
    exact ⟨v, fun Q hQ => by simp [w_count]; exact ⟨_, v1 Q hQ⟩, fun Q hQ => by simp [v_X0_count]; exact ⟨_, v2 Q hQ⟩⟩
  by_cases w14 : x1 = 14
  · subst w14
    obtain ⟨v, v1, v2⟩ := cnt14_l h (cn t 103) 0 0 (by omega)
    exact ⟨v, fun Q hQ => by simp [w_count]; exact ⟨_, v1 Q hQ⟩, fun Q hQ => by simp [v_X0_count]; exact ⟨_, v2 Q hQ⟩⟩
  exact ⟨-1, fun Q hQ => by simp [w_count, w0, w1, w2, w3, w4, w5, w6, w7, w8, w9, w10, w11, w12, w13, w14, hQ], fun Q hQ => by simp [v_X0_count, w0, w1, w2, w3, w4, w5, w6, w7, w8, w9, w10, w11, w12, w13, w14, hQ]⟩
theorem api_planned (x1 x2 : Int32) : AP mX0_planned [.inl x1, .inl x2] (w_planned x1 x2) := by
  intro n X m N t hn hm q
  obtain ⟨r, h1, h2⟩ := ap_planned q.1 x1 x2
  show cq (n + 16 + 4) mX0_planned [.inr (1, 0), .inl x1, .inl x2] N _
  exact sv_X0_planned (d := n + 16) (Q := fun r' N' => r' = r ∧ N' = N) (fun r' N' e => ⟨r, t, by rw [e.1], by rw [e.2]; exact q.mup (Nat.le_succ m) hm, h1⟩) (h2 _ ⟨rfl, rfl⟩)
theorem api_alarmed (x1 x2 : Int32) : AP mX0_alarmed [.inl x1, .inl x2] (w_alarmed x1 x2) := by
  intro n X m N t hn hm q
  obtain ⟨r, h1, h2⟩ := ap_alarmed q.1 x1 x2
  show cq (n + 16 + 4) mX0_alarmed [.inr (1, 0), .inl x1, .inl x2] N _
  exact sv_X0_alarmed (d := n + 16) (Q := fun r' N' => r' = r ∧ N' = N) (fun r' N' e => ⟨r, t, by rw [e.1], by rw [e.2]; exact q.mup (Nat.le_succ m) hm, h1⟩) (h2 _ ⟨rfl, rfl⟩)
theorem api_now : AP mX0_now [] w_now := by
  intro n X m N t hn hm q
  obtain ⟨r, h1, h2⟩ := ap_now q.1 
  show cq (n + 20 + 0) mX0_now [.inr (1, 0)] N _
  exact sv_X0_now (d := n + 20) (Q := fun r' N' => r' = r ∧ N' = N) (fun r' N' e => ⟨r, t, by rw [e.1], by rw [e.2]; exact q.mup (Nat.le_succ m) hm, h1⟩) (h2 _ ⟨rfl, rfl⟩)
theorem api_outcome (x1 : Int32) : AP mX0_outcome [.inl x1] (w_outcome x1) := by
  intro n X m N t hn hm q
  obtain ⟨r, h1, h2⟩ := ap_outcome q.1 x1
  show cq (n + 16 + 4) mX0_outcome [.inr (1, 0), .inl x1] N _
  exact sv_X0_outcome (d := n + 16) (Q := fun r' N' => r' = r ∧ N' = N) (fun r' N' e => ⟨r, t, by rw [e.1], by rw [e.2]; exact q.mup (Nat.le_succ m) hm, h1⟩) (h2 _ ⟨rfl, rfl⟩)
theorem api_of (x1 x2 : Int32) : AP mX0_of [.inl x1, .inl x2] (w_of x1 x2) := by
  intro n X m N t hn hm q
  obtain ⟨r, h1, h2⟩ := ap_of q.1 x1 x2
  show cq (n + 16 + 4) mX0_of [.inr (1, 0), .inl x1, .inl x2] N _
  exact sv_X0_of (d := n + 16) (Q := fun r' N' => r' = r ∧ N' = N) (fun r' N' e => ⟨r, t, by rw [e.1], by rw [e.2]; exact q.mup (Nat.le_succ m) hm, h1⟩) (h2 _ ⟨rfl, rfl⟩)
theorem api_failure (x1 x2 : Int32) : AP mX0_failure [.inl x1, .inl x2] (w_failure x1 x2) := by
  intro n X m N t hn hm q
  obtain ⟨r, h1, h2⟩ := ap_failure q.1 x1 x2
  show cq (n + 16 + 4) mX0_failure [.inr (1, 0), .inl x1, .inl x2] N _
  exact sv_X0_failure (d := n + 16) (Q := fun r' N' => r' = r ∧ N' = N) (fun r' N' e => ⟨r, t, by rw [e.1], by rw [e.2]; exact q.mup (Nat.le_succ m) hm, h1⟩) (h2 _ ⟨rfl, rfl⟩)
theorem api_call (x1 x2 : Int32) : AP mX0_call [.inl x1, .inl x2] (w_call x1 x2) := by
  intro n X m N t hn hm q
  obtain ⟨r, h1, h2⟩ := ap_call q.1 x1 x2
  show cq (n + 16 + 4) mX0_call [.inr (1, 0), .inl x1, .inl x2] N _
  exact sv_X0_call (d := n + 16) (Q := fun r' N' => r' = r ∧ N' = N) (fun r' N' e => ⟨r, t, by rw [e.1], by rw [e.2]; exact q.mup (Nat.le_succ m) hm, h1⟩) (h2 _ ⟨rfl, rfl⟩)
theorem api_fuse (x1 x2 : Int32) : AP mX0_fuse [.inl x1, .inl x2] (w_fuse x1 x2) := by
  intro n X m N t hn hm q
  obtain ⟨r, h1, h2⟩ := ap_fuse q.1 x1 x2
  show cq (n + 15 + 5) mX0_fuse [.inr (1, 0), .inl x1, .inl x2] N _
  exact sv_X0_fuse (d := n + 15) (Q := fun r' N' => r' = r ∧ N' = N) (fun r' N' e => ⟨r, t, by rw [e.1], by rw [e.2]; exact q.mup (Nat.le_succ m) hm, h1⟩) (h2 _ ⟨rfl, rfl⟩)
theorem api_bulkhead (x1 x2 : Int32) : AP mX0_bulkhead [.inl x1, .inl x2] (w_bulkhead x1 x2) := by
  intro n X m N t hn hm q
  obtain ⟨r, h1, h2⟩ := ap_bulkhead q.1 x1 x2
  show cq (n + 15 + 5) mX0_bulkhead [.inr (1, 0), .inl x1, .inl x2] N _
  exact sv_X0_bulkhead (d := n + 15) (Q := fun r' N' => r' = r ∧ N' = N) (fun r' N' e => ⟨r, t, by rw [e.1], by rw [e.2]; exact q.mup (Nat.le_succ m) hm, h1⟩) (h2 _ ⟨rfl, rfl⟩)
theorem api_waiting (x1 x2 : Int32) : AP mX0_waiting [.inl x1, .inl x2] (w_waiting x1 x2) := by
  intro n X m N t hn hm q
  obtain ⟨r, h1, h2⟩ := ap_waiting q.1 x1 x2
  show cq (n + 15 + 5) mX0_waiting [.inr (1, 0), .inl x1, .inl x2] N _
  exact sv_X0_waiting (d := n + 15) (Q := fun r' N' => r' = r ∧ N' = N) (fun r' N' e => ⟨r, t, by rw [e.1], by rw [e.2]; exact q.mup (Nat.le_succ m) hm, h1⟩) (h2 _ ⟨rfl, rfl⟩)
theorem api_tokens (x1 : Int32) : AP mX0_tokens [.inl x1] (w_tokens x1) := by
  intro n X m N t hn hm q
  obtain ⟨r, h1, h2⟩ := ap_tokens q.1 x1
  show cq (n + 16 + 4) mX0_tokens [.inr (1, 0), .inl x1] N _
  exact sv_X0_tokens (d := n + 16) (Q := fun r' N' => r' = r ∧ N' = N) (fun r' N' e => ⟨r, t, by rw [e.1], by rw [e.2]; exact q.mup (Nat.le_succ m) hm, h1⟩) (h2 _ ⟨rfl, rfl⟩)
theorem api_kept (x1 x2 x3 : Int32) : AP mX0_kept [.inl x1, .inl x2, .inl x3] (w_kept x1 x2 x3) := by
  intro n X m N t hn hm q
  obtain ⟨r, h1, h2⟩ := ap_kept q.1 x1 x2 x3
  show cq (n + 16 + 4) mX0_kept [.inr (1, 0), .inl x1, .inl x2, .inl x3] N _
  exact sv_X0_kept (d := n + 16) (Q := fun r' N' => r' = r ∧ N' = N) (fun r' N' e => ⟨r, t, by rw [e.1], by rw [e.2]; exact q.mup (Nat.le_succ m) hm, h1⟩) (h2 _ ⟨rfl, rfl⟩)
theorem api_joined (x1 x2 : Int32) : AP mX0_joined [.inl x1, .inl x2] (w_joined x1 x2) := by
  intro n X m N t hn hm q
  obtain ⟨r, h1, h2⟩ := ap_joined q.1 x1 x2
  show cq (n + 16 + 4) mX0_joined [.inr (1, 0), .inl x1, .inl x2] N _
  exact sv_X0_joined (d := n + 16) (Q := fun r' N' => r' = r ∧ N' = N) (fun r' N' e => ⟨r, t, by rw [e.1], by rw [e.2]; exact q.mup (Nat.le_succ m) hm, h1⟩) (h2 _ ⟨rfl, rfl⟩)
theorem api_level (x1 : Int32) : AP mX0_level [.inl x1] (w_level x1) := by
  intro n X m N t hn hm q
  obtain ⟨r, h1, h2⟩ := ap_level q.1 x1
  show cq (n + 16 + 4) mX0_level [.inr (1, 0), .inl x1] N _
  exact sv_X0_level (d := n + 16) (Q := fun r' N' => r' = r ∧ N' = N) (fun r' N' e => ⟨r, t, by rw [e.1], by rw [e.2]; exact q.mup (Nat.le_succ m) hm, h1⟩) (h2 _ ⟨rfl, rfl⟩)
theorem api_effect (x1 x2 : Int32) : AP mX0_effect [.inl x1, .inl x2] (w_effect x1 x2) := by
  intro n X m N t hn hm q
  obtain ⟨r, h1, h2⟩ := ap_effect q.1 x1 x2
  show cq (n + 16 + 4) mX0_effect [.inr (1, 0), .inl x1, .inl x2] N _
  exact sv_X0_effect (d := n + 16) (Q := fun r' N' => r' = r ∧ N' = N) (fun r' N' e => ⟨r, t, by rw [e.1], by rw [e.2]; exact q.mup (Nat.le_succ m) hm, h1⟩) (h2 _ ⟨rfl, rfl⟩)
theorem api_isOf (x1 x2 : Int32) : AP mX0_isOf [.inl x1, .inl x2] (w_isOf x1 x2) := by
  intro n X m N t hn hm q
  obtain ⟨r, h1, h2⟩ := ap_isOf q.1 x1 x2
  show cq (n + 19 + 1) mX0_isOf [.inr (1, 0), .inl x1, .inl x2] N _
  exact sv_X0_isOf (d := n + 19) (Q := fun r' N' => r' = r ∧ N' = N) (fun r' N' e => ⟨r, t, by rw [e.1], by rw [e.2]; exact q.mup (Nat.le_succ m) hm, h1⟩) (h2 _ ⟨rfl, rfl⟩)
theorem api_count (x1 : Int32) : AP mX0_count [.inl x1] (w_count x1) := by
  intro n X m N t hn hm q
  obtain ⟨r, h1, h2⟩ := ap_count q.1 x1
  show cq (n + 16 + 4) mX0_count [.inr (1, 0), .inl x1] N _
  exact sv_X0_count (d := n + 16) (Q := fun r' N' => r' = r ∧ N' = N) (fun r' N' e => ⟨r, t, by rw [e.1], by rw [e.2]; exact q.mup (Nat.le_succ m) hm, h1⟩) (h2 _ ⟨rfl, rfl⟩)
