set_option maxRecDepth 100000
/-! the guards are told -/
theorem sI_id {N : Mem} {k i f : Nat} {v : Int32} (h : N.1 k i f = v) : sI N k i f v = N := by
  obtain ⟨a, b⟩ := N
  refine Prod.ext ?_ rfl
  funext k' i' f'
  show (if _ then _ else _) = _
  split
  · rename_i e; rw [e.1, e.2.1, e.2.2]; exact h.symm
  · rfl
theorem sR_id {N : Mem} {k i f : Nat} {v : Nat × Nat} (h : N.2.1 k i f = v) : sR N k i f v = N := by
  obtain ⟨a, b, c⟩ := N
  refine Prod.ext rfl (Prod.ext ?_ rfl)
  funext k' i' f'
  show (if _ then _ else _) = _
  split
  · rename_i e; rw [e.1, e.2.1, e.2.2]; exact h.symm
  · rfl
theorem sI_ne {N : Mem} {k i f k' i' f' : Nat} {v : Int32} (h : ¬ (k' = k ∧ i' = i ∧ f' = f)) : (sI N k i f v).1 k' i' f' = N.1 k' i' f' := if_neg h
theorem sR_ne {N : Mem} {k i f k' i' f' : Nat} {v : Nat × Nat} (h : ¬ (k' = k ∧ i' = i ∧ f' = f)) : (sR N k i f v).2.1 k' i' f' = N.2.1 k' i' f' := if_neg h
theorem ne021 {k : Nat} (h : ((0, 0) : Nat × Nat) = (21, k)) : False := absurd (congrArg Prod.fst h) (by show ¬ (0 = 21); decide)
theorem w_told_br {t : DB} {Q : DB → Prop} {p c g s : Nat} (hp : p < 4400) (hc : c < 4400) (hg : g < 24) (h65 : t 65 p = nI g) (h31 : t 31 g = nI s) (hs : s ≤ 9)
    (h0 : s = 0 → w_fuseTold (nI p) (nI c) (nI g) t (fun t_2 => w_alike (nI p) (nI c) t_2 Q))
    (h1 : s = 1 → w_alike (nI p) (nI c) (up (up t 77 p 0) 39 g (t 39 g - 1)) Q)
    (h2 : s = 2 → w_alike (nI p) (nI c) t Q) (h3 : s = 3 → w_alike (nI p) (nI c) t Q)
    (h4 : s = 4 → w_retryTold (nI p) (nI c) (nI g) t Q) (h5 : s = 5 → w_hedgeTold (nI p) (nI c) t Q) (h6 : s = 6 → w_fallbackTold (nI p) (nI c) (nI g) t Q)
    (h7 : s = 7 → (¬ t 69 c = 1 → w_alike (nI p) (nI c) t Q) ∧ (t 69 c = 1 → vp_in (t 62 p) 60 ∧ (¬ t 53 (t 62 p).toNatClampNeg = 0 → w_alike (nI p) (nI c) t Q) ∧ (t 53 (t 62 p).toNatClampNeg = 0 → ∃ k, k < 192 ∧ 8 * nI g + t 52 (t 62 p).toNatClampNeg = nI k ∧ (t 71 c = 0 ∨ t 71 c = 1) ∧ w_alike (nI p) (nI c) (up (up (up t 44 k (t 70 c)) 45 k (t 0 0)) 46 k (t 71 c)) Q)))
    (h8 : s = 8 → w_add 3 (nI p) (-1) 0 0 t (fun t_32 => w_alike (nI p) (nI c) t_32 Q))
    (h9 : s = 9 → w_isNamed (nI c) (nI g) t (fun r u => (r = 0 → w_alike (nI p) (nI c) u Q) ∧ (¬ r = 0 → vp_in (nI g) 24 ∧ w_fails (u 33 g) (nI g) (-1) u (fun f v => vp_in (nI c) 4400 ∧ vp_in f 4400 ∧ ∀ t1, t1 = up v 28 f.toNatClampNeg (v 70 c) → w_add 1 (nI p) 2 f 0 t1 Q)))) : w_told (nI p) (nI c) t Q := by
  have vp : vp_in (nI p) 4400 := vp_in_nI hp (by decide)
  have vc : vp_in (nI c) 4400 := vp_in_nI hc (by decide)
  have vg : vp_in (nI g) 24 := vp_in_nI hg (by decide)
  have cp : (nI p).toNatClampNeg = p := nI_clamp (by omega)
  have cc : (nI c).toNatClampNeg = c := nI_clamp (by omega)
  have cg : (nI g).toNatClampNeg = g := nI_clamp (by omega)
  have es : ∀ k : Nat, k ≤ 9 → nI s = nI k → s = k := fun k hk e => (nI_eq (by omega) (by omega)).mp e
  unfold w_told
  rw [cp, cc]
  refine ⟨vp, fun x ex => ?_⟩
  rw [h65] at ex
  subst ex
  rw [cg, h31]
  refine ⟨vg, fun e => h0 (es 0 (by decide) e), fun e => ⟨vp, fun t6 e6 => ⟨vg, vg, fun t7 e7 => ?_⟩⟩, fun e => h2 (es 2 (by decide) e), fun e => h3 (es 3 (by decide) e), fun e => h4 (es 4 (by decide) e), fun e => h5 (es 5 (by decide) e), fun e => h6 (es 6 (by decide) e), fun e => ?_, fun e => h8 (es 8 (by decide) e), fun e => ?_, fun a0 a1 a2 a3 a4 a5 a6 a7 a8 a9 => ?_⟩
  · subst e6; subst e7
    exact h1 (es 1 (by decide) e)
  · obtain ⟨k1, k2⟩ := h7 (es 7 (by decide) e)
    refine ⟨vc, k1, fun q => ?_⟩
    obtain ⟨k3, k4, k5⟩ := k2 q
    refine ⟨vp, k3, k4, fun q2 => ⟨vp, k3, fun x ex => ?_⟩⟩
    obtain ⟨k, hk, ek, k6, k7⟩ := k5 q2
    rw [ek] at ex
    subst ex
    have ck : (nI k).toNatClampNeg = k := nI_clamp (by omega)
    have vk : vp_in (nI k) 192 := vp_in_nI hk (by decide)
    rw [ck]
    refine ⟨vc, vk, fun t1 e1 => ⟨vk, fun t2 e2 => ⟨vc, ?_, vk, fun t3 e3 => ?_⟩⟩⟩
    · subst e1; subst e2; exact k6
    · subst e1; subst e2; subst e3; exact k7
  · exact h9 (es 9 (by decide) e)
  · exfalso
    have : s = 0 ∨ s = 1 ∨ s = 2 ∨ s = 3 ∨ s = 4 ∨ s = 5 ∨ s = 6 ∨ s = 7 ∨ s = 8 ∨ s = 9 := by omega
    rcases this with e | e | e | e | e | e | e | e | e | e <;> subst e
    · exact a0 rfl
    · exact a1 rfl
    · exact a2 rfl
    · exact a3 rfl
    · exact a4 rfl
    · exact a5 rfl
    · exact a6 rfl
    · exact a7 rfl
    · exact a8 rfl
    · exact a9 rfl
/-- what is known of a guard that is told -/
def CTF (b dp : Nat) (X : Mem) (m z : Nat) (P : List Nat) (N : Mem) (t : DB) (h p c g s : Nat) : Prop := (SZ X m z P 100000 N t) ∧ (SZ X m z P p N t) ∧ (p < cn t 61) ∧ (c < cn t 61) ∧ (cn t 61 ≤ 4020) ∧ (g < cn t 30) ∧ (cn t 30 ≤ 24) ∧ (t 64 c = nI p) ∧ (t 69 p = 0) ∧ (p ∉ P) ∧ (t 69 c = 1 ∨ t 69 c = 2) ∧ (t 65 p = nI g) ∧ (t 31 g = nI s) ∧ (s ≤ 9) ∧ (N.1 (10 + s) g 0 = nI g) ∧ (N.1 (10 + s) g 2 = t 32 g) ∧ (N.1 (10 + s) g 3 = t 33 g) ∧ (N.1 (10 + s) g 4 = t 34 g) ∧ (N.2.1 (10 + s) g 6 = (1, 0)) ∧ (N.2.1 (10 + s) g (lastf s) = (1, 0)) ∧ (t 88 0 = nI h) ∧ (h + 1000 * b ≤ 10000 ∧ 60 ≤ z)
theorem CTF.hS {b dp : Nat} {X : Mem} {m z : Nat} {P : List Nat} {N : Mem} {t : DB} {h p c g s : Nat} (q : CTF b dp X m z P N t h p c g s) : SZ X m z P 100000 N t := q.1
theorem CTF.hD {b dp : Nat} {X : Mem} {m z : Nat} {P : List Nat} {N : Mem} {t : DB} {h p c g s : Nat} (q : CTF b dp X m z P N t h p c g s) : SZ X m z P p N t := q.2.1
theorem CTF.hp {b dp : Nat} {X : Mem} {m z : Nat} {P : List Nat} {N : Mem} {t : DB} {h p c g s : Nat} (q : CTF b dp X m z P N t h p c g s) : p < cn t 61 := q.2.2.1
theorem CTF.hc {b dp : Nat} {X : Mem} {m z : Nat} {P : List Nat} {N : Mem} {t : DB} {h p c g s : Nat} (q : CTF b dp X m z P N t h p c g s) : c < cn t 61 := q.2.2.2.1
theorem CTF.hn {b dp : Nat} {X : Mem} {m z : Nat} {P : List Nat} {N : Mem} {t : DB} {h p c g s : Nat} (q : CTF b dp X m z P N t h p c g s) : cn t 61 ≤ 4020 := q.2.2.2.2.1
theorem CTF.hg {b dp : Nat} {X : Mem} {m z : Nat} {P : List Nat} {N : Mem} {t : DB} {h p c g s : Nat} (q : CTF b dp X m z P N t h p c g s) : g < cn t 30 := q.2.2.2.2.2.1
theorem CTF.hg2 {b dp : Nat} {X : Mem} {m z : Nat} {P : List Nat} {N : Mem} {t : DB} {h p c g s : Nat} (q : CTF b dp X m z P N t h p c g s) : cn t 30 ≤ 24 := q.2.2.2.2.2.2.1
theorem CTF.h64 {b dp : Nat} {X : Mem} {m z : Nat} {P : List Nat} {N : Mem} {t : DB} {h p c g s : Nat} (q : CTF b dp X m z P N t h p c g s) : t 64 c = nI p := q.2.2.2.2.2.2.2.1
theorem CTF.h69 {b dp : Nat} {X : Mem} {m z : Nat} {P : List Nat} {N : Mem} {t : DB} {h p c g s : Nat} (q : CTF b dp X m z P N t h p c g s) : t 69 p = 0 := q.2.2.2.2.2.2.2.2.1
theorem CTF.hpP {b dp : Nat} {X : Mem} {m z : Nat} {P : List Nat} {N : Mem} {t : DB} {h p c g s : Nat} (q : CTF b dp X m z P N t h p c g s) : p ∉ P := q.2.2.2.2.2.2.2.2.2.1
theorem CTF.hhow {b dp : Nat} {X : Mem} {m z : Nat} {P : List Nat} {N : Mem} {t : DB} {h p c g s : Nat} (q : CTF b dp X m z P N t h p c g s) : t 69 c = 1 ∨ t 69 c = 2 := q.2.2.2.2.2.2.2.2.2.2.1
theorem CTF.h65 {b dp : Nat} {X : Mem} {m z : Nat} {P : List Nat} {N : Mem} {t : DB} {h p c g s : Nat} (q : CTF b dp X m z P N t h p c g s) : t 65 p = nI g := q.2.2.2.2.2.2.2.2.2.2.2.1
theorem CTF.h31 {b dp : Nat} {X : Mem} {m z : Nat} {P : List Nat} {N : Mem} {t : DB} {h p c g s : Nat} (q : CTF b dp X m z P N t h p c g s) : t 31 g = nI s := q.2.2.2.2.2.2.2.2.2.2.2.2.1
theorem CTF.hs {b dp : Nat} {X : Mem} {m z : Nat} {P : List Nat} {N : Mem} {t : DB} {h p c g s : Nat} (q : CTF b dp X m z P N t h p c g s) : s ≤ 9 := q.2.2.2.2.2.2.2.2.2.2.2.2.2.1
theorem CTF.n0 {b dp : Nat} {X : Mem} {m z : Nat} {P : List Nat} {N : Mem} {t : DB} {h p c g s : Nat} (q : CTF b dp X m z P N t h p c g s) : N.1 (10 + s) g 0 = nI g := q.2.2.2.2.2.2.2.2.2.2.2.2.2.2.1
theorem CTF.n2 {b dp : Nat} {X : Mem} {m z : Nat} {P : List Nat} {N : Mem} {t : DB} {h p c g s : Nat} (q : CTF b dp X m z P N t h p c g s) : N.1 (10 + s) g 2 = t 32 g := q.2.2.2.2.2.2.2.2.2.2.2.2.2.2.2.1
theorem CTF.n3 {b dp : Nat} {X : Mem} {m z : Nat} {P : List Nat} {N : Mem} {t : DB} {h p c g s : Nat} (q : CTF b dp X m z P N t h p c g s) : N.1 (10 + s) g 3 = t 33 g := q.2.2.2.2.2.2.2.2.2.2.2.2.2.2.2.2.1
theorem CTF.n4 {b dp : Nat} {X : Mem} {m z : Nat} {P : List Nat} {N : Mem} {t : DB} {h p c g s : Nat} (q : CTF b dp X m z P N t h p c g s) : N.1 (10 + s) g 4 = t 34 g := q.2.2.2.2.2.2.2.2.2.2.2.2.2.2.2.2.2.1
theorem CTF.n6 {b dp : Nat} {X : Mem} {m z : Nat} {P : List Nat} {N : Mem} {t : DB} {h p c g s : Nat} (q : CTF b dp X m z P N t h p c g s) : N.2.1 (10 + s) g 6 = (1, 0) := q.2.2.2.2.2.2.2.2.2.2.2.2.2.2.2.2.2.2.1
theorem CTF.nl {b dp : Nat} {X : Mem} {m z : Nat} {P : List Nat} {N : Mem} {t : DB} {h p c g s : Nat} (q : CTF b dp X m z P N t h p c g s) : N.2.1 (10 + s) g (lastf s) = (1, 0) := q.2.2.2.2.2.2.2.2.2.2.2.2.2.2.2.2.2.2.2.1
theorem CTF.h88 {b dp : Nat} {X : Mem} {m z : Nat} {P : List Nat} {N : Mem} {t : DB} {h p c g s : Nat} (q : CTF b dp X m z P N t h p c g s) : t 88 0 = nI h := q.2.2.2.2.2.2.2.2.2.2.2.2.2.2.2.2.2.2.2.2.1
theorem CTF.hh {b dp : Nat} {X : Mem} {m z : Nat} {P : List Nat} {N : Mem} {t : DB} {h p c g s : Nat} (q : CTF b dp X m z P N t h p c g s) : (h + 1000 * b ≤ 10000 ∧ 60 ≤ z) := q.2.2.2.2.2.2.2.2.2.2.2.2.2.2.2.2.2.2.2.2.2
theorem CTP.F {b dp : Nat} {X : Mem} {m z : Nat} {P : List Nat} {N : Mem} {t : DB} {h p c g s : Nat} (q : CTP b dp X m z P N t h p c g s) : CTF b dp X m z P N t h p c g s := by
  obtain ⟨q1, q2, q3, q4, q5, q6, q7, q8, q9, q10, q11, q12, q13, q14, q15, q16, q17, -⟩ := q
  have hn := q1.nC
  have hg2 : cn t 30 ≤ 24 := q1.iB.2.2.2.1.2
  have hp : p < cn t 61 := by omega
  obtain ⟨s', a1, a2, a3, a4, a5, a6, a7, a8, a9, a10, a11⟩ := q1.G g q11
  have hss : s' = s := (nI_eq (by omega) (by omega)).mp (a2.symm.trans q12)
  subst hss
  exact ⟨q1, q1.dying (fun _ => q1.inner hp q5 q6), hp, q5, hn, q11, hg2, q6, q7, q8, q9, q10, q12, q13, a4, a6, a7, a8, a10, a11, q17, q3⟩
theorem told_23 {b dp n : Nat} (hE : CE b dp n) {X : Mem} {m z : Nat} {P : List Nat} {N : Mem} {t : DB} {h p c g s : Nat} (q : CTP b dp X m z P N t h p c g s) (hs : s = 2 ∨ s = 3) : CTG b (n + 2) X m z P N t h p c g s := by
  have F := q.F
  have hn := F.hn
  have hg2 := F.hg2
  have hp := F.hp
  have hc := F.hc
  have hg := F.hg
  have hA := told_al hE q (by omega) F.hD (TF.rf (C := [])) MO.rf (by decide)
  have hw : ∀ K : DB → Prop, K (psh t h 1 (nI p) (t 69 c) (t 70 c) (t 71 c)) → w_told (nI p) (nI c) t K := fun K hK =>
    w_told_br (by omega) (by omega) (by omega) F.h65 F.h31 F.hs (fun e => by omega) (fun e => by omega) (fun _ => hA.1 K hK) (fun _ => hA.1 K hK) (fun e => by omega) (fun e => by omega) (fun e => by omega) (fun e => by omega) (fun e => by omega) (fun e => by omega)
  have key : cq (n + 1 + 11) mX4_told [.inr (10 + s, g), .inr (21, p), .inr (21, c)] N (fun r N' => r = none ∧ ∃ u t', (∀ K : DB → Prop, K u → w_told (nI p) (nI c) t K) ∧ PT b X m z P N' t' h t u (t 62 p) p) := by
    refine sv_X4_told (Q := fun N' => ∃ u t', (∀ K : DB → Prop, K u → w_told (nI p) (nI c) t K) ∧ PT b X m z P N' t' h t u (t 62 p) p) (fun N' w => ⟨rfl, w⟩) ⟨?_, fun e1 ee1 => ⟨?_, ?_⟩⟩
    · exact ⟨by show 10 ≤ 10 + s; omega, by show 10 + s ≤ 19; omega⟩
    · rw [ee1, F.n6]; rfl
    · rw [ee1, F.n6]
      exact hA.2.mono (fun r N' ⟨hr, t', w⟩ => ⟨hr, _, t', hw, w⟩)
  rcases hs with e | e <;> subst e <;> exact key
abbrev TG (b : Nat) (X : Mem) (m z : Nat) (P : List Nat) (t : DB) (h p c : Nat) (N' : Mem) : Prop := ∃ u t', (∀ K : DB → Prop, K u → w_told (nI p) (nI c) t K) ∧ PT b X m z P N' t' h t u (t 62 p) p
theorem told_fin {k : Nat} {mt : zMt} {args : List AV} {N1 : Mem} {b : Nat} {X : Mem} {m z : Nat} {P : List Nat} {t u : DB} {h p c : Nat} (hw : ∀ K : DB → Prop, K u → w_told (nI p) (nI c) t K) (hc : cq k mt args N1 (fun r N' => r = none ∧ ∃ t', PT b X m z P N' t' h t u (t 62 p) p)) : cq k mt args N1 (fun r N' => r = none ∧ TG b X m z P t h p c N') :=
  hc.mono (fun _ _ ⟨hr, t', w⟩ => ⟨hr, u, t', hw, w⟩)
theorem told_1 {b dp n : Nat} (hE : CE b dp n) {X : Mem} {m z : Nat} {P : List Nat} {N : Mem} {t : DB} {h p c g : Nat} (q : CTP b dp X m z P N t h p c g 1) : CTG b (n + 2) X m z P N t h p c g 1 := by
  have F := q.F
  have hn := F.hn
  have hg2 := F.hg2
  have hp := F.hp
  have hc := F.hc
  have hg := F.hg
  have ht : TF t (up (up t 77 p 0) 39 g (t 39 g - 1)) [77, 39] := (TF.rf.wu _ _ (by decide)).wu _ _ (by decide)
  have hS1 : SZ X m z P p (sI N 11 g 8 (t 39 g - 1)) (up (up t 77 p 0) 39 g (t 39 g - 1)) := (F.hD.t77 (Or.inl rfl) F.h65 F.h31 hg (fun hl => by
    rcases hl with ⟨-, e⟩ | e
    · exact absurd rfl e
    · exact absurd e F.hpP)).b39
  have hA := told_al hE q (by decide) hS1 ht (MO.of ht (by decide)) (by decide)
  have hw : ∀ K : DB → Prop, K (psh (up (up t 77 p 0) 39 g (t 39 g - 1)) h 1 (nI p) (t 69 c) (t 70 c) (t 71 c)) → w_told (nI p) (nI c) t K := fun K hK =>
    w_told_br (by omega) (by omega) (by omega) F.h65 F.h31 F.hs (fun e => by omega) (fun e => hA.1 K hK) (fun e => by omega) (fun e => by omega) (fun e => by omega) (fun e => by omega) (fun e => by omega) (fun e => by omega) (fun e => by omega) (fun e => by omega)
  have e8 : N.1 11 g 8 = t 39 g := (F.hS.G1 g hg F.h31).2.1
  show cq (n + 1 + 11) mX6_told [.inr (11, g), .inr (21, p), .inr (21, c)] N _
  refine sv_X6_told (Q := TG b X m z P t h p c) (fun N' w => ⟨rfl, w⟩) ⟨rfl, rfl, fun M1 eM1 => ⟨rfl, fun e2 ee2 => ?_⟩⟩
  rw [show N.1 (11, g).1 (11, g).2 8 = t 39 g from e8] at eM1
  subst eM1
  have e6 : e2 = (1, 0) := ee2.trans F.nl
  subst e6
  exact ⟨rfl, told_fin hw hA.2⟩
theorem told_0 {b dp n : Nat} (hE : CE b dp n) {X : Mem} {m z : Nat} {P : List Nat} {N : Mem} {t : DB} {h p c g : Nat} (q : CTP b dp X m z P N t h p c g 0) : CTG b (n + 2) X m z P N t h p c g 0 := by
  have F := q.F
  have hn := F.hn
  have hg2 := F.hg2
  have hp := F.hp
  have hc := F.hc
  have hg := F.hg
  have h31 : t 31 g = 0 := F.h31
  obtain ⟨g7, g8, g9⟩ := F.hS.G0 g hg h31
  have hlp : lvv t P 100000 p := Or.inl ⟨F.h69, by omega⟩
  have hQp := ((F.hS.Q p hp hlp).2 g F.h65 hg).1 h31
  have h79 := (F.hS.iH p hp).2.2.2.2.2.2.2.2.1
  have hQk : ∀ k, k < cn t 61 → lvv t P p k → t 65 k = nI g → (t 79 k = 1 → t 36 g = 2) ∧ (t 79 k = 1 ↔ N.2.1 10 g 10 = (21, k)) := fun k hk hl e => ((F.hD.Q k hk hl).2 g e hg).1 h31
  have ga : ∃ a, 1 ≤ a ∧ a ≤ 20 ∧ t 32 g = nI a := by
    obtain ⟨s', a1, a2, a3, a4, -⟩ := F.hS.iG g hg
    have hss : s' = 0 := (nI_eq (by omega) (by omega)).mp (a2.symm.trans F.h31)
    exact (a4 hss).2
  have c1 : (nI p).toNatClampNeg = p := nI_clamp (by omega)
  have c2 : (nI c).toNatClampNeg = c := nI_clamp (by omega)
  have c3 : (nI g).toNatClampNeg = g := nI_clamp (by omega)
  have v1 : vp_in (nI p) 4400 := vp_in_nI (by omega) (by decide)
  have v3 : vp_in (nI g) 24 := vp_in_nI (by omega) (by decide)
  have tm : N.1 1 0 0 = t 0 0 := F.hS.W.2.1
  have nl : N.2.1 10 g 11 = (1, 0) := F.nl
  have n3 : N.1 10 g 3 = t 33 g := F.n3
  have n2 : N.1 10 g 2 = t 32 g := F.n2
  -- every outcome: the new memory, the new table
  have fin : ∀ (N1 : Mem) (t1 : DB), SZ X m z P p N1 t1 → TF t t1 [36, 37, 38] → (∀ K : DB → Prop, K t1 → w_fuseTold (nI p) (nI c) (nI g) t K) → cq (n + 1 + 10) mX0_alike [.inr (1, 0), .inr (21, p), .inr (21, c)] N1 (fun r N' => r = none ∧ TG b X m z P t h p c N') := by
    intro N1 t1 hS1 ht hf
    have hA := told_al hE q (by decide) hS1 ht (MO.of ht (by decide)) (by decide)
    exact told_fin (fun K hK => w_told_br (by omega) (by omega) (by omega) F.h65 F.h31 F.hs (fun _ => hf _ (hA.1 K hK)) (fun e => by omega) (fun e => by omega) (fun e => by omega) (fun e => by omega) (fun e => by omega) (fun e => by omega) (fun e => by omega) (fun e => by omega) (fun e => by omega)) hA.2
  have tf : ∀ a b' d, TF t (up (up (up t 36 g a) 37 g b') 38 g d) [36, 37, 38] := fun a b' d => ((TF.rf.wu _ _ (by decide)).wu _ _ (by decide)).wu _ _ (by decide)
  show cq (n + 1 + 11) mX5_told [.inr (10, g), .inr (21, p), .inr (21, c)] N _
  refine sv_X5_told (Q := TG b X m z P t h p c) (fun N' w => ⟨rfl, w⟩) ⟨rfl, fun e1 ee1 => ⟨fun hne => ⟨rfl, fun h7 => ⟨rfl, fun e2 ee2 => ?_⟩, fun h7 => ⟨rfl, ?_⟩⟩, fun heq => ⟨rfl, ?_⟩⟩⟩
  · -- no trial, not closed
    have e6 : e2 = (1, 0) := ee2.trans nl
    subst e6
    have n79 : t 79 p = 0 := by
      rcases h79 with w | w
      · exact w
      · exact absurd ((hQp.2.mp w).symm.trans ee1.symm) (fun y => hne y)
    refine ⟨rfl, fin N t F.hD TF.rf (fun K hK => w_isNamed_s F.hS hc hg ?_)⟩
    rw [c1, c3]
    refine ⟨v1, fun _ => ⟨v3, fun _ => hK, fun w => absurd (g7.trans w) h7⟩, fun w => absurd n79 w⟩
  · -- no trial, closed: counted
    have n79 : t 79 p = 0 := by
      rcases h79 with w | w
      · exact w
      · exact absurd ((hQp.2.mp w).symm.trans ee1.symm) (fun y => hne y)
    have h36 : t 36 g = 0 := g7.symm.trans h7
    have hq0 : ∀ k, k < cn t 61 → lvv t P p k → t 65 k = nI g → t 79 k ≠ 1 := fun k hk hl e w => absurd (h36.symm.trans ((hQk k hk hl e).1 w)) (by decide)
    refine v_names_s (s := 0) F.hS hc hg F.h31 (by decide) ?_
    have go : ∀ (v : Int32), (nmd t c g = false → v = 0) → (nmd t c g = true → v = t 37 g + 1) → v_X5_told_68 (n + 1) (10, g) (21, p) (21, c) v (10, g) N (TG b X m z P t h p c) := by
      intro v hv0 hv1
      have hwf : ∀ K : DB → Prop, (nmd t c g = true → v = t 32 g → K (up (up (up t 37 g v) 36 g 1) 38 g (t 0 0 + t 33 g))) → ((nmd t c g = false ∨ v ≠ t 32 g) → K (up t 37 g v)) → w_fuseTold (nI p) (nI c) (nI g) t K := by
        intro K k1 k2
        refine w_isNamed_s F.hS hc hg ?_
        rw [c1, c3]
        refine ⟨v1, fun _ => ⟨v3, fun w => absurd h36 w, fun _ => ⟨fun w => ?_, fun w => ⟨v3, ?_⟩⟩⟩, fun w => absurd n79 w⟩
        · have hf : nmd t c g = false := by
            cases hb : nmd t c g
            · rfl
            · rw [hb] at w; exact absurd w (by decide)
          refine ⟨v3, fun t1 et1 => ⟨fun _ => ?_, fun w2 => absurd w w2⟩⟩
          rw [c3] at et1
          subst et1
          have := k2 (Or.inl hf)
          rw [hv0 hf] at this
          exact this
        · have hf : nmd t c g = true := by
            cases hb : nmd t c g
            · rw [hb] at w; exact absurd rfl w
            · rfl
          refine ⟨v3, fun t1 et1 => ⟨fun w2 => absurd w2 w, fun _ => ⟨v3, v3, ?_⟩⟩⟩
          rw [c3] at et1
          rw [c3]
          rw [← hv1 hf] at et1
          subst et1
          rw [up_s]
          refine ⟨fun w3 => k2 (Or.inr w3), fun w3 => ⟨v3, v3, fun t2 et2 => ⟨v3, fun t3 et3 => ?_⟩⟩⟩
          rw [c3] at et2 et3
          subst et2; subst et3
          exact k1 hf w3
      refine ⟨rfl, fun M1 eM1 => ⟨rfl, rfl, fun w => ⟨rfl, fun e2 ee2 => ?_⟩, fun w => ⟨rfl, fun e5 ee5 => ⟨?_, rfl, rfl, ?_⟩⟩⟩⟩
      · subst eM1
        have e6 : e2 = (1, 0) := ee2.trans nl
        subst e6
        have hS1 := F.hD.fuse (g := g) (s := 0) (c := v) (u := t 38 g) (r := N.2.1 10 g 10) (Or.inl rfl) h31 (fun k hk hl e => ⟨fun y => absurd y (hq0 k hk hl e), (hQk k hk hl e).2⟩) hg (F.hD.GT g hg h31)
        rw [sI_id (k := 10) (f := 7) h7] at hS1
        rw [up_id (f := 36) h36] at hS1
        rw [sI_id (k := 10) (i := g) (f := 9) ((sI_ne (by simp)).trans g9), sR_id (N := sI N 10 g 8 v) (k := 10) (i := g) (f := 10) (v := N.2.1 10 g 10) rfl, up_id (t := up t 37 g v) (f := 38) (i := g) (v := t 38 g) rfl] at hS1
        refine ⟨rfl, fin _ _ hS1 (TF.rf.wu _ _ (by decide)) (fun K hK => hwf K (fun _ y => ?_) (fun _ => hK))⟩
        refine absurd ?_ w
        show (if _ then _ else _) = (if _ then _ else _)
        rw [if_pos ⟨rfl, rfl, rfl⟩, if_neg (by simp), n2]
        exact y
      · subst eM1
        rw [ee5, show (sI N (10, g).1 (10, g).2 8 v).2.1 (10, g).1 (10, g).2 11 = (1, 0) from nl]; rfl
      · subst eM1
        have e6 : e5 = (1, 0) := ee5.trans nl
        subst e6
        have hv : v = t 32 g := by
          have w' : (if (10, g).1 = (10, g).1 ∧ (10, g).2 = (10, g).2 ∧ 8 = 8 then v else N.1 10 g 8) = (if (10, g).1 = (10, g).1 ∧ (10, g).2 = (10, g).2 ∧ 2 = 8 then v else N.1 10 g 2) := w
          rw [if_pos ⟨rfl, rfl, rfl⟩, if_neg (by simp), n2] at w'
          exact w'
        refine ⟨rfl, fun M2 eM2 => ⟨rfl, fun M3 eM3 => ⟨rfl, fun M4 eM4 => ⟨rfl, fun e8 ee8 => ?_⟩⟩⟩⟩
        have ex : (sI N (10, g).1 (10, g).2 8 v).1 (1, 0).1 (1, 0).2 0 + (sI N (10, g).1 (10, g).2 8 v).1 (10, g).1 (10, g).2 3 = t 0 0 + t 33 g := by
          rw [sI_ne (by simp), sI_ne (by simp)]
          exact congr (congrArg _ tm) n3
        rw [ex] at eM3
        subst eM2; subst eM3; subst eM4
        have e9 : e8 = (1, 0) := by
          rw [ee8]
          show (if _ then _ else _) = _
          rw [if_neg (by simp)]
          exact nl
        subst e9
        have hnm : nmd t c g = true := by
          cases hb : nmd t c g
          · exfalso
            obtain ⟨a, a1, a2, a3⟩ := ga
            have := hv0 hb
            rw [hv, a3] at this
            exact nI_ne0 (by omega) (by omega) this
          · rfl
        have hS1 := F.hD.fuse (g := g) (s := 1) (c := v) (u := t 0 0 + t 33 g) (r := (0, 0)) (Or.inr (Or.inl rfl)) h31 (fun k hk hl e => ⟨fun y => absurd y (hq0 k hk hl e), fun y => absurd y (hq0 k hk hl e), fun y => (ne021 y).elim⟩) hg (Or.inl rfl)
        have e10 : sI (sI N 10 g 7 1) 10 g 8 v = sI (sI N 10 g 8 v) 10 g 7 1 := by
          refine Prod.ext ?_ rfl
          funext k' i' f'
          show (if _ then _ else if _ then _ else _) = (if _ then _ else if _ then _ else _)
          by_cases y1 : k' = 10 ∧ i' = g ∧ f' = 8
          · rw [if_pos y1, if_neg (by omega), if_pos y1]
          · rw [if_neg y1, if_neg y1]
        have e11 : up (up t 36 g 1) 37 g v = up (up t 37 g v) 36 g 1 := by
          funext f' i'
          show (if _ then _ else if _ then _ else _) = (if _ then _ else if _ then _ else _)
          by_cases y1 : f' = 37 ∧ i' = g
          · rw [if_pos y1, if_neg (by omega), if_pos y1]
          · rw [if_neg y1, if_neg y1]
        rw [e10, e11] at hS1
        exact ⟨rfl, fin _ _ hS1 (((TF.rf.wu _ _ (by decide)).wu _ _ (by decide)).wu _ _ (by decide)) (fun K hK => hwf K (fun _ _ => hK) (fun y => by
          rcases y with y | y
          · rw [hnm] at y; exact absurd y (by decide)
          · exact absurd hv y))⟩
    refine ⟨fun w => go 0 (fun _ => rfl) (fun y => ?_), fun w => ⟨rfl, go _ (fun y => ?_) (fun _ => congrArg (· + 1) g8)⟩⟩
    · rw [y] at w; exact absurd w (by decide)
    · rw [y] at w; exact absurd rfl w
  · -- the trial
    have htr : N.2.1 10 g 10 = (21, p) := ee1.symm.trans heq.symm
    have h1 : t 79 p = 1 := hQp.2.mpr htr
    have hq0 : ∀ k, k < cn t 61 → lvv t P p k → t 65 k = nI g → t 79 k ≠ 1 := fun k hk hl e w => by
      have := (hQk k hk hl e).2.mp w
      rw [htr] at this
      have : p = k := congrArg Prod.snd this
      subst this
      rcases hl with ⟨-, y⟩ | y
      · exact y rfl
      · exact F.hpP y
    have hq1 : ∀ s' : Int32, ∀ k, k < cn t 61 → lvv t P p k → t 65 k = nI g → (t 79 k = 1 → s' = 2) ∧ (t 79 k = 1 ↔ ((0, 0) : Nat × Nat) = (21, k)) := fun s' k hk hl e => ⟨fun y => absurd y (hq0 k hk hl e), fun y => absurd y (hq0 k hk hl e), fun y => (ne021 y).elim⟩
    refine v_names_s (s := 0) F.hS hc hg F.h31 (by decide) ?_
    refine ⟨fun w => ⟨rfl, rfl, fun M1 eM1 => ⟨rfl, fun M2 eM2 => ⟨rfl, fun M3 eM3 => ⟨rfl, fun e8 ee8 => ?_⟩⟩⟩⟩, fun w => ⟨rfl, fun e5 ee5 => ?_⟩⟩
    · subst eM1; subst eM2; subst eM3
      have e9 : e8 = (1, 0) := by
        rw [ee8]
        show (if _ then _ else _) = _
        rw [if_neg (by simp)]
        exact nl
      subst e9
      have hS1 := F.hD.fuse (g := g) (s := 0) (c := 0) (u := t 38 g) (r := (0, 0)) (Or.inl rfl) h31 (hq1 0) hg (Or.inl rfl)
      have e10 : (sI (sI N 10 g 7 0) 10 g 8 0).1 10 g 9 = t 38 g := (sI_ne (by simp)).trans ((sI_ne (by simp)).trans g9)
      rw [sI_id e10, up_id (f := 38) (show (up (up t 36 g 0) 37 g 0) 38 g = t 38 g from rfl)] at hS1
      refine ⟨rfl, fin _ _ hS1 ((TF.rf.wu _ _ (by decide)).wu _ _ (by decide)) (fun K hK => w_isNamed_s F.hS hc hg ?_)⟩
      rw [c1, c3]
      refine ⟨v1, fun y => absurd (h1.symm.trans y) (by decide), fun _ => ⟨fun _ => ⟨v3, fun t5 et5 => ⟨v3, fun t6 et6 => ?_⟩⟩, fun y => absurd w y⟩⟩
      subst et5; subst et6
      exact hK
    · have e6 : e5 = (1, 0) := ee5.trans nl
      subst e6
      refine ⟨rfl, rfl, rfl, rfl, fun M1 eM1 => ⟨rfl, fun M2 eM2 => ⟨rfl, fun M3 eM3 => ⟨rfl, fun e8 ee8 => ?_⟩⟩⟩⟩
      have ex : N.1 (1, 0).1 (1, 0).2 0 + N.1 (10, g).1 (10, g).2 3 = t 0 0 + t 33 g := congr (congrArg _ tm) n3
      rw [ex] at eM2
      subst eM1; subst eM2; subst eM3
      have e9 : e8 = (1, 0) := by
        rw [ee8]
        show (if _ then _ else _) = _
        rw [if_neg (by simp)]
        exact nl
      subst e9
      have hS1 := F.hD.fuse (g := g) (s := 1) (c := t 37 g) (u := t 0 0 + t 33 g) (r := (0, 0)) (Or.inr (Or.inl rfl)) h31 (hq1 1) hg (Or.inl rfl)
      have e10 : (sI N 10 g 7 1).1 10 g 8 = t 37 g := (sI_ne (by simp)).trans g8
      rw [sI_id e10, up_id (f := 37) (show (up t 36 g 1) 37 g = t 37 g from rfl)] at hS1
      refine ⟨rfl, fin _ _ hS1 ((TF.rf.wu _ _ (by decide)).wu _ _ (by decide)) (fun K hK => w_isNamed_s F.hS hc hg ?_)⟩
      rw [c1, c3]
      refine ⟨v1, fun y => absurd (h1.symm.trans y) (by decide), fun _ => ⟨fun y => absurd y w, fun _ => ⟨v3, v3, fun t5 et5 => ⟨v3, fun t6 et6 => ?_⟩⟩⟩⟩
      rw [c3] at et5 et6
      subst et5; subst et6
      exact hK
