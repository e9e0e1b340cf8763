set_option maxRecDepth 100000
/-! a call is refused -/
theorem MO.nF {X : Mem} {m z : Nat} {P : List Nat} {x : Nat} {N : Mem} {t : DB} (h : SZ X m z P x N t) {k g s : Int32} : MO t (nFt t (cn t 23) k g s) := by
  have ht2 : TF t (nFt t (cn t 23) k g s) [23, 24, 25, 26, 27, 28, 29] := nFt_TF
  have hb := (nF_b h).2
  have h23' : cn (nFt t (cn t 23) k g s) 23 = cn t 23 + 1 := by
    show (up _ 23 0 (nI (cn t 23 + 1)) 23 0).toNatClampNeg = _
    rw [up_s, nI_clamp (by omega)]
  refine ⟨ht2.mono (by decide), ?_, fun i hi => ⟨fun f hf => ?_, fun y => ?_, fun _ _ _ => ⟨fun _ => ?_, fun _ => ?_⟩⟩, fun i h1 h2 => ?_, ?_, MK.of ht2 (by decide) (by decide)⟩
  · rw [ht2.cn (by decide)]; exact Nat.le_refl _
  · rw [ht2 f ((by decide : ∀ f ∈ KC, f ∉ [23, 24, 25, 26, 27, 28, 29]) f hf)]
  · rw [ht2 69 (by decide), ht2 70 (by decide), ht2 71 (by decide)]; exact ⟨rfl, rfl, rfl⟩
  · rw [ht2 73 (by decide)]
  · rw [ht2 72 (by decide)]
  · rw [ht2.cn (by decide)] at h2; omega
  · rw [h23']; omega
theorem SZ.slack {X : Mem} {m z : Nat} {P : List Nat} {N : Mem} {t : DB} (h : SZ X m z P 100000 N t) {c : Nat} (hc : c < cn t 61) (h0 : t 69 c = 0) : cn t 23 + 1 + sumTo (cn t 61) (undW t c) ≤ cn t 61 := by
  have := und_one h0 hc (by have := h.nC; omega)
  have := h.iU.2.1
  omega
/-- FAIL against 'refuses' -/
theorem refuse_x {b dp n : Nat} (hE : CE b dp n) {X : Mem} {m z : Nat} {P : List Nat} {N : Mem} {t : DB} {h c g s kd : Nat} (hS : SS X m z P c N t) (hsl0 : cn t 23 + 1 + sumTo (cn t 61) (undW t c) ≤ cn t 61) (hh : (h + 1000 * b ≤ 10000 ∧ 60 ≤ z)) (hc : c < cn t 61) (h0 : t 69 c = 0) (hcP : c ∉ P) (hch : ∀ k, k < cn t 61 → t 64 k = nI c → t 69 k ≠ 0) (hd : (t 63 c).toNatClampNeg ≤ dp) (hNL : b = 0 → NL t c) (h65 : t 65 c = nI g) (hg : g < cn t 30) (hs : t 31 g = nI s) (hs9 : s ≤ 9) (hk : kd ≤ 15) (h88 : t 88 0 = nI (h + 1)) (h83 : t 83 h = 2) (h84 : t 84 h = nI c) (h85 : t 85 h = nI kd) :
    cq (n + 1 + 10) mX4_refuses [.inr (10 + s, g), .inr (21, c), .inl (nI kd)] N (fun r N' => r = none ∧ ∃ t', PT b X m z P N' t' h t t (t 62 c) c) := by
  have hn := hS.1.nC
  have h24 : cn t 30 ≤ 24 := hS.iB.2.2.2.1.2
  have vc : vp_in (nI c) 4400 := vp_in_nI (by omega) (by decide)
  have cc : (nI c).toNatClampNeg = c := nI_clamp (by omega)
  have hz : ∀ f, f ∉ [83, 84, 85, 86, 87, 88] → pop t h f = t f := fun f hf => pop_TF f hf
  have hS0 : SS X m z P c N (pop t h) := hS.pop
  generalize hpp : pop t h = t0 at *
  have c61 : cn t0 61 = cn t 61 := cn_fr (hz 61 (by decide))
  have z69 := hz 69 (by decide)
  have hD : SZ X m z P c N t0 := hS0.1
  have hsl : cn t0 23 + 1 + sumTo (cn t0 61) (undW t0 c) ≤ cn t0 61 := by
    have eu : undW t0 c = undW t c := by
      funext i
      unfold undW
      rw [z69]
    rw [c61, eu, cn_fr (hz 23 (by decide))]
    exact hsl0
  have hS1 := hD.newF (k := kd) (g := nI g) (s := -1) hk hsl
  have hM1 : MO t0 (nFt t0 (cn t0 23) (nI kd) (nI g) (-1)) := MO.nF hS0.1
  have ht1 : TF t0 (nFt t0 (cn t0 23) (nI kd) (nI g) (-1)) [23, 24, 25, 26, 27, 28, 29] := nFt_TF
  have hP1 : I_P (nFt t0 (cn t0 23) (nI kd) (nI g) (-1)) := hS0.2.fr ht1 (by decide)
  have hb := (nF_b hS0.1).2
  have e23 : cn (nFt t0 (cn t0 23) (nI kd) (nI g) (-1)) 23 = cn t0 23 + 1 := by
    show (up _ 23 0 (nI (cn t0 23 + 1)) 23 0).toNatClampNeg = _
    rw [up_s, nI_clamp (by omega)]
  have z1 : ∀ f, f ∉ [23, 24, 25, 26, 27, 28, 29] → f ∉ [83, 84, 85, 86, 87, 88] → nFt t0 (cn t0 23) (nI kd) (nI g) (-1) f = t f := fun f hf hf2 => (ht1 f hf).trans (hz f hf2)
  have y88 : nFt t0 (cn t0 23) (nI kd) (nI g) (-1) 88 0 = nI h := by rw [ht1 88 (by decide), ← hpp]; exact up_s
  have hlo : ∀ f, 83 ≤ f → f ≤ 87 → ∀ i, i < h → nFt t0 (cn t0 23) (nI kd) (nI g) (-1) f i = t f i := fun f h1 h2 i _ => by
    rw [ht1 f (by simp; omega), ← hpp]
    exact up_f (by omega)
  have hrun : RUN t (psh (nFt t0 (cn t0 23) (nI kd) (nI g) (-1)) h 1 (nI c) 2 (nI (cn t0 23)) 0) := by
    refine run_st h88 (by omega) (fun K hK => Or.inr (Or.inr (Or.inl ⟨h83, ?_⟩)))
    rw [hpp, h84, h85]
    unfold w_failsNow
    rw [cc, z69]
    refine ⟨vc, fun y => absurd h0 y, fun _ => ⟨vc, ?_⟩⟩
    rw [hz 65 (by decide), h65]
    exact w_fails_s hS0.1 (w_add_s y88 (by omega) hK)
  generalize hT1 : nFt t0 (cn t0 23) (nI kd) (nI g) (-1) = t1 at *
  have k61 : cn t1 61 = cn t 61 := cn_fr (z1 61 (by decide) (by decide))
  have hA := (end_c hE (h := h) (how := 2) (val := nI (cn t0 23)) (by_ := 0) ⟨hS1, hP1⟩ hh (by rw [k61]; exact hc) (by rw [z1 69 (by decide) (by decide)]; exact h0) hcP (by rw [k61, z1 64 (by decide) (by decide), z1 69 (by decide) (by decide)]; exact hch) (by rw [z1 63 (by decide) (by decide)]; exact hd) (fun hb0 => by
    unfold NL
    rw [k61, z1 62 (by decide) (by decide), z1 69 (by decide) (by decide), z1 78 (by decide) (by decide)]
    exact hNL hb0) y88).2 rfl rfl (cn t0 23) (by rw [e23]; omega) rfl
  rw [z1 62 (by decide) (by decide)] at hA
  obtain ⟨s', a1, a2, -, a4, -, -, -, -, -, a10, -⟩ := hS.G g hg
  have es : s' = s := (nI_eq (by omega) (by omega)).mp (a2.symm.trans hs)
  subst es
  refine sv_X4_refuses (d := n) (Q := fun N' => ∃ t', PT b X m z P N' t' h t t (t 62 c) c) (fun N' w => ⟨rfl, w⟩) ?_
  have gks : gk (10 + s') := ⟨by omega, by omega⟩
  refine ⟨gks, fun e1 ee1 => ⟨gks, fun e2 ee2 => ⟨gks, ?_⟩⟩⟩
  have w1 : e1 = (1, 0) := ee1.trans a10
  have w2 : e2 = (1, 0) := ee2.trans a10
  subst w1; subst w2
  refine ⟨rfl, ?_⟩
  show v_X0_failed (1, 0) (nI kd) (N.1 (10 + s') g 0) (-1) N _
  rw [a4]
  refine v_failed_s hS0.1 ⟨rfl, hA.mono ?_⟩
  rintro r N' ⟨hr, t', q1, q2, q3, q4, q5, q6⟩
  have hWt : WA t t1 := by
    have : WA t t0 := by rw [← hpp]; exact WA.pop
    exact this.tr (WA.of ht1 (by decide))
  have hMt : MO t t1 := by
    have : MO t t0 := by rw [← hpp]; exact MO.pop
    exact this.tr hM1
  refine ⟨hr, t', hrun.tr q1, ⟨q2.1, fun f h1 h2 i hi => (q2.2 f h1 h2 i hi).trans (hlo f h1 h2 i hi)⟩, q3, hMt.tr q4, fun hb0 k hk0 hne => ?_, q6.pre hWt⟩
  rw [q5 hb0 k (by rw [k61]; exact hk0) (by rw [z1 62 (by decide) (by decide)]; exact hne), z1 69 (by decide) (by decide)]
/-- FAIL against 'refuses', of a call that is reckoned with -/
theorem refuse_c {b dp n : Nat} (hE : CE b dp n) {X : Mem} {m z : Nat} {P : List Nat} {N : Mem} {t : DB} {h c g s kd : Nat} (hS : SS X m z P 100000 N t) (hh : (h + 1000 * b ≤ 10000 ∧ 60 ≤ z)) (hc : c < cn t 61) (h0 : t 69 c = 0) (hcP : c ∉ P) (hch : ∀ k, k < cn t 61 → t 64 k = nI c → t 69 k ≠ 0) (hd : (t 63 c).toNatClampNeg ≤ dp) (hNL : b = 0 → NL t c) (hq : t 75 c = 1 → t 73 c ≠ 0) (h65 : t 65 c = nI g) (hg : g < cn t 30) (hs : t 31 g = nI s) (hs9 : s ≤ 9) (hk : kd ≤ 15) (h88 : t 88 0 = nI (h + 1)) (h83 : t 83 h = 2) (h84 : t 84 h = nI c) (h85 : t 85 h = nI kd) :
    cq (n + 1 + 10) mX4_refuses [.inr (10 + s, g), .inr (21, c), .inl (nI kd)] N (fun r N' => r = none ∧ ∃ t', PT b X m z P N' t' h t t (t 62 c) c) :=
  refuse_x hE ⟨hS.1.dying hq, hS.2⟩ (hS.1.slack hc h0) hh hc h0 hcP hch hd hNL h65 hg hs hs9 hk h88 h83 h84 h85
