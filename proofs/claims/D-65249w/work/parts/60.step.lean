set_option maxRecDepth 100000
/-! the reference's pile: pushing, and a step of 'work' -/
def psh (t : DB) (h : Nat) (a b c d e : Int32) : DB := up (up (up (up (up (up t 83 h a) 84 h b) 85 h c) 86 h d) 87 h e) 88 0 (nI (h + 1))
theorem w_add_s {a b c d e : Int32} {t : DB} {h : Nat} {K : DB → Prop} (hh : t 88 0 = nI h) (h2 : h < 20000) (k : K (psh t h a b c d e)) : w_add a b c d e t K := by
  have hv : vp_in (nI h) 20000 := vp_in_nI h2 (by decide)
  have hc : (nI h).toNatClampNeg = h := nI_clamp (by omega)
  have e1 : (up t 83 h a) 88 0 = nI h := (up_f (by decide)).trans hh
  have e2 : (up (up t 83 h a) 84 h b) 88 0 = nI h := (up_f (by decide)).trans e1
  have e3 : (up (up (up t 83 h a) 84 h b) 85 h c) 88 0 = nI h := (up_f (by decide)).trans e2
  have e4 : (up (up (up (up t 83 h a) 84 h b) 85 h c) 86 h d) 88 0 = nI h := (up_f (by decide)).trans e3
  have e5 : (up (up (up (up (up t 83 h a) 84 h b) 85 h c) 86 h d) 87 h e) 88 0 = nI h := (up_f (by decide)).trans e4
  unfold w_add
  simp only [forall_eq, hh, hc, hv, e1, e2, e3, e4, e5, nI_1, true_and]
  exact k
theorem psh_88 {t : DB} {h : Nat} {a b c d e : Int32} : psh t h a b c d e 88 0 = nI (h + 1) := up_s
theorem psh_83 {t : DB} {h : Nat} {a b c d e : Int32} : psh t h a b c d e 83 h = a := by simp [psh, up]
theorem psh_84 {t : DB} {h : Nat} {a b c d e : Int32} : psh t h a b c d e 84 h = b := by simp [psh, up]
theorem psh_85 {t : DB} {h : Nat} {a b c d e : Int32} : psh t h a b c d e 85 h = c := by simp [psh, up]
theorem psh_86 {t : DB} {h : Nat} {a b c d e : Int32} : psh t h a b c d e 86 h = d := by simp [psh, up]
theorem psh_87 {t : DB} {h : Nat} {a b c d e : Int32} : psh t h a b c d e 87 h = e := by simp [psh, up]
def RUN (t t' : DB) : Prop := ∀ Q, (∃ n, w_work_0 n t' Q) → ∃ n, w_work_0 n t Q
theorem RUN.rf {t : DB} : RUN t t := fun _ h => h
theorem RUN.tr {t u v : DB} (h : RUN t u) (h2 : RUN u v) : RUN t v := fun Q h3 => h Q (h2 Q h3)
/-- the pile's upper end is taken off -/
abbrev pop (t : DB) (h : Nat) : DB := up t 88 0 (nI h)
theorem run_st {t u : DB} {h : Nat} (hh : t 88 0 = nI (h + 1)) (h2 : h < 20000)
    (hw : ∀ K : DB → Prop, K u → (t 83 h = 0 ∧ w_begins (t 84 h) (t 85 h) (t 86 h) (t 87 h) (pop t h) K) ∨ (t 83 h = 1 ∧ w_ends (t 84 h) (t 85 h) (t 86 h) (if t 87 h ≤ 0 then 0 else 1) (pop t h) K) ∨ (t 83 h = 2 ∧ w_failsNow (t 84 h) (t 85 h) (pop t h) K) ∨ (t 83 h = 3 ∧ w_freeJoined (t 84 h) (t 85 h) (pop t h) K) ∨ (t 83 h = 4 ∧ w_takenBack (t 84 h) (t 85 h) (pop t h) K) ∨ (t 83 h = 5 ∧ w_gone (t 84 h) (t 85 h) (pop t h) K)) : RUN t u := by
  intro Q hQ
  obtain ⟨n, hn⟩ := hQ
  refine ⟨n + 1, ?_⟩
  have hv : vp_in (nI h) 20000 := vp_in_nI h2 (by decide)
  have hc : (nI h).toNatClampNeg = h := nI_clamp (by omega)
  have hp : ¬ nI (h + 1) ≤ 0 := nI_nle (by omega) (by omega)
  have e0 : t 88 0 - 1 = nI h := by rw [hh]; exact nI_pred h
  have e1 : (up t 88 0 (nI h)) 88 0 = nI h := up_s
  have r83 : (up t 88 0 (nI h)) 83 h = t 83 h := up_f (by decide)
  have r84 : (up t 88 0 (nI h)) 84 h = t 84 h := up_f (by decide)
  have r85 : (up t 88 0 (nI h)) 85 h = t 85 h := up_f (by decide)
  have r86 : (up t 88 0 (nI h)) 86 h = t 86 h := up_f (by decide)
  have r87 : (up t 88 0 (nI h)) 87 h = t 87 h := up_f (by decide)
  refine ⟨fun hle => absurd (by rw [← hh]; exact hle) hp, fun _ t1 et1 x2 ex2 => ?_⟩
  rw [e0] at et1
  subst et1
  rw [e1] at ex2
  subst ex2
  rw [hc, r83, r84, r85, r86, r87]
  have hK := hw (fun v => w_work_0 n v Q) hn
  refine ⟨hv, fun q => ?_, fun q => ?_, fun q => ?_, fun q => ?_, fun q => ?_, fun q0 q1 q2 q3 q4 => ?_⟩
  · rcases hK with ⟨h1, h3⟩ | ⟨h1, h3⟩ | ⟨h1, h3⟩ | ⟨h1, h3⟩ | ⟨h1, h3⟩ | ⟨h1, h3⟩
    · exact ⟨hv, hv, hv, hv, h3⟩
    all_goals exact absurd (h1.symm.trans q) (by decide)
  · rcases hK with ⟨h1, h3⟩ | ⟨h1, h3⟩ | ⟨h1, h3⟩ | ⟨h1, h3⟩ | ⟨h1, h3⟩ | ⟨h1, h3⟩
    rotate_left
    · refine ⟨hv, hv, hv, hv, fun hb => ?_, fun hb => ?_⟩
      · rw [if_pos hb] at h3; exact h3
      · rw [if_neg hb] at h3; exact h3
    all_goals exact absurd (h1.symm.trans q) (by decide)
  · rcases hK with ⟨h1, h3⟩ | ⟨h1, h3⟩ | ⟨h1, h3⟩ | ⟨h1, h3⟩ | ⟨h1, h3⟩ | ⟨h1, h3⟩
    rotate_left 2
    · exact ⟨hv, hv, h3⟩
    all_goals exact absurd (h1.symm.trans q) (by decide)
  · rcases hK with ⟨h1, h3⟩ | ⟨h1, h3⟩ | ⟨h1, h3⟩ | ⟨h1, h3⟩ | ⟨h1, h3⟩ | ⟨h1, h3⟩
    rotate_left 3
    · exact ⟨hv, hv, h3⟩
    all_goals exact absurd (h1.symm.trans q) (by decide)
  · rcases hK with ⟨h1, h3⟩ | ⟨h1, h3⟩ | ⟨h1, h3⟩ | ⟨h1, h3⟩ | ⟨h1, h3⟩ | ⟨h1, h3⟩
    rotate_left 4
    · exact ⟨hv, hv, h3⟩
    all_goals exact absurd (h1.symm.trans q) (by decide)
  · rcases hK with ⟨h1, h3⟩ | ⟨h1, h3⟩ | ⟨h1, h3⟩ | ⟨h1, h3⟩ | ⟨h1, h3⟩ | ⟨h1, h3⟩
    · exact absurd h1 q0
    · exact absurd h1 q1
    · exact absurd h1 q2
    · exact absurd h1 q3
    · exact absurd h1 q4
    · exact ⟨hv, hv, h3⟩
/-- with nothing on the pile, work is at its end -/
theorem run_0 {t : DB} {Q : DB → Prop} (hh : t 88 0 = 0) (h : Q t) : w_work t Q := ⟨1, fun _ => h, fun hz => absurd (by rw [hh]; decide) hz⟩
theorem RUN.work {t t' : DB} {Q : DB → Prop} (h : RUN t t') (hh : t' 88 0 = 0) (hq : Q t') : w_work t Q := h Q (run_0 hh hq)
/-- the pile below a height is as it was -/
def pfr (h : Nat) (t t' : DB) : Prop := t' 88 0 = nI h ∧ ∀ f, 83 ≤ f → f ≤ 87 → ∀ i, i < h → t' f i = t f i
theorem pfr.tr {h : Nat} {t u v : DB} (a : pfr h t u) (b : pfr h u v) : pfr h t v := ⟨b.1, fun f h1 h2 i hi => (b.2 f h1 h2 i hi).trans (a.2 f h1 h2 i hi)⟩
theorem pfr.lo {h k : Nat} {t u v : DB} (a : pfr h t u) (b : pfr k u v) (hk : k ≤ h) : pfr k t v := ⟨b.1, fun f h1 h2 i hi => (b.2 f h1 h2 i hi).trans (a.2 f h1 h2 i (by omega))⟩
theorem pfr_psh {t : DB} {h : Nat} {a b c d e : Int32} : pfr (h + 1) t (psh t h a b c d e) ∨ True := Or.inr trivial
theorem psh_lo {t : DB} {h : Nat} {a b c d e : Int32} {f i : Nat} (h1 : 83 ≤ f) (h2 : f ≤ 87) (hi : i < h) : psh t h a b c d e f i = t f i := by
  unfold psh
  rw [up_f (by omega), up_n (by omega), up_n (by omega), up_n (by omega), up_n (by omega), up_n (by omega)]
theorem psh_f {t : DB} {h : Nat} {a b c d e : Int32} {f i : Nat} (hf : f < 83 ∨ 88 < f) : psh t h a b c d e f i = t f i := by
  unfold psh
  rw [up_f (by omega), up_f (by omega), up_f (by omega), up_f (by omega), up_f (by omega), up_f (by omega)]
theorem psh_TF {t : DB} {h : Nat} {a b c d e : Int32} : TF t (psh t h a b c d e) [83, 84, 85, 86, 87, 88] := (((((TF.rf.wu _ _ (by decide)).wu _ _ (by decide)).wu _ _ (by decide)).wu _ _ (by decide)).wu _ _ (by decide)).wu _ _ (by decide)
theorem pop_TF {t : DB} {h : Nat} : TF t (pop t h) [83, 84, 85, 86, 87, 88] := TF.rf.wu _ _ (by decide)
