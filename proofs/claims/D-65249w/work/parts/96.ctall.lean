set_option maxRecDepth 100000
/-! the ring is closed -/
theorem CT_of {b dp n : Nat} (hb1 : b ≤ 1) (h2 : CE b dp (n + 2)) (h3 : CE b dp (n + 3)) (hE0 : b ≠ 0 → CE 0 5 n) (hE2 : b ≠ 0 → CE 0 5 (n + 2)) : CT b dp (n + 4) := by
  intro X m z P N t h p c g s q
  have hs : s ≤ 9 := q.F.hs
  have : s = 0 ∨ s = 1 ∨ (s = 2 ∨ s = 3) ∨ s = 4 ∨ s = 5 ∨ s = 6 ∨ s = 7 ∨ s = 8 ∨ s = 9 := by omega
  rcases this with e | e | e | e | e | e | e | e | e
  · subst e; exact told_0 h2 q
  · subst e; exact told_1 h2 q
  · exact told_23 h2 q e
  · subst e; exact told_4 h2 q
  · subst e; exact told_5 h2 hE0 q
  · subst e; exact told_6 h2 h3 q
  · subst e; exact told_7 h2 q
  · subst e; exact told_8 hb1 hE2 q
  · subst e; exact told_9 h2 h3 q
theorem CE_b0 : ∀ (dp n : Nat), 2 + 6 * dp ≤ n → CE 0 dp n := by
  intro dp
  induction dp with
  | zero =>
    intro n hn
    obtain ⟨k, rfl⟩ : ∃ k, n = k + 2 := ⟨n - 2, by omega⟩
    exact CE_0
  | succ dp ih =>
    intro n hn
    obtain ⟨k, rfl⟩ : ∃ k, n = k + 4 + 2 := ⟨n - 6, by omega⟩
    exact CE_s (CT_of (by decide) (ih (k + 2) (by omega)) (ih (k + 3) (by omega)) (fun w => absurd rfl w) (fun w => absurd rfl w))
theorem CE_b1 : ∀ (dp n : Nat), 40 + 6 * dp ≤ n → CE 1 dp n := by
  intro dp
  induction dp with
  | zero =>
    intro n hn
    obtain ⟨k, rfl⟩ : ∃ k, n = k + 2 := ⟨n - 2, by omega⟩
    exact CE_0
  | succ dp ih =>
    intro n hn
    obtain ⟨k, rfl⟩ : ∃ k, n = k + 4 + 2 := ⟨n - 6, by omega⟩
    exact CE_s (CT_of (by decide) (ih (k + 2) (by omega)) (ih (k + 3) (by omega)) (fun _ => CE_b0 5 k (by omega)) (fun _ => CE_b0 5 (k + 2) (by omega)))
/-- a call's end, whatever it leads to -/
theorem CE1 {n : Nat} (hn : 70 ≤ n) : CE 1 5 n := CE_b1 5 n (by omega)
theorem CE05 {n : Nat} (hn : 32 ≤ n) : CE 0 5 n := CE_b0 5 n (by omega)
