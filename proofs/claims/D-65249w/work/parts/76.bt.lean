set_option maxRecDepth 100000
/-! what the new call costs -/
theorem capL_1 (l : List Nat) : 1 ≤ capL l := by
  cases l
  · exact Nat.le_refl _
  · show 1 ≤ 1 + _; omega
theorem sumTo_one {f g : Nat → Nat} {p k : Nat} (h1 : ∀ i, i ≠ p → g i ≤ f i) (h2 : g p + k ≤ f p) : ∀ {n : Nat}, p < n → sumTo n g + k ≤ sumTo n f
  | n + 1, hp => by
    show sumTo n g + g n + k ≤ sumTo n f + f n
    by_cases e : p = n
    · subst e
      have := sumTo_le (f := g) (g := f) (n := p) (fun i hi => h1 i (by omega))
      omega
    · have := sumTo_one h1 h2 (n := n) (by omega)
      have := h1 n (fun q => e q.symm)
      omega
theorem srt_drop {t : DB} {T h d : Nat} (hd : d < h) : (srt t T h).drop d = (t 31 (t 49 (5 * T + d)).toNatClampNeg).toNatClampNeg :: (srt t T h).drop (d + 1) := by
  have hl : (srt t T h).length = h := by simp [srt]
  rw [List.drop_eq_getElem_cons (by rw [hl]; exact hd)]
  congr 1
  simp [srt]
/-- the new call's own cost -/
theorem rem_new {t t' : DB} {c o d T h p : Nat} {pb : Bool} {gv sv jv lv : Int32} (a : NCt t t' c o d pb p gv sv jv lv) (ho : o < 2 ^ 31) (hT : t 51 o = nI T) (hT2 : T < 2 ^ 31) (hh : t 48 T = nI h) (hh2 : h ≤ 5) (hdh : d ≤ h) (hg : gv = -1 ∨ (d < h ∧ gv = t 49 (5 * T + d) ∧ ¬ gv < 0)) : remC t' c + 1 ≤ capL ((srt t T h).drop d) := by
  obtain ⟨ht, a61, av⟩ := a
  have v : ∀ f, 62 ≤ f → f ≤ 79 → t' f c = nV o d (if pb then nI p else -1) gv sv (t 0 0) jv lv f := fun f h1 h2 => by rw [av f h1 h2, if_pos rfl]
  have e65 : t' 65 c = gv := v 65 (by decide) (by decide)
  have e73 : t' 73 c = 0 := v 73 (by decide) (by decide)
  have e62 : t' 62 c = nI o := v 62 (by decide) (by decide)
  have e63 : t' 63 c = nI d := v 63 (by decide) (by decide)
  rcases hg with y | ⟨y1, y2, y3⟩
  · have : remC t' c = 0 := by
      unfold remC
      rw [e65, y, if_pos (by decide)]
    rw [this]
    exact capL_1 _
  · have eD : capD t' c = capL ((srt t T h).drop (d + 1)) := by
      unfold capD srt
      have k1 : (nI o).toNatClampNeg = o := nI_clamp ho
      have k2 : (nI T).toNatClampNeg = T := nI_clamp hT2
      have k3 : (nI h).toNatClampNeg = h := nI_clamp (by omega)
      have k4 : (nI d).toNatClampNeg = d := nI_clamp (by omega)
      rw [e62, e63, k1, ht 51 (by decide), hT, k2, ht 48 (by decide), hh, k3, k4, ht 31 (by decide), ht 49 (by decide)]
    rw [srt_drop y1, ← y2]
    unfold remC
    rw [e65, if_neg y3, e73, eD, ht 31 (by decide)]
    generalize (t 31 gv.toNatClampNeg).toNatClampNeg = s
    rw [show capL (s :: (srt t T h).drop (d + 1)) = 1 + (if s = 4 then 6 * capL ((srt t T h).drop (d + 1)) else if s = 5 then 2 * capL ((srt t T h).drop (d + 1)) else if s = 6 then capL ((srt t T h).drop (d + 1)) + 1 else capL ((srt t T h).drop (d + 1))) from rfl]
    generalize capL ((srt t T h).drop (d + 1)) = K
    show (if s = 4 then (6 - 0) * K else if s = 5 then (2 - 0) * K else if s = 6 then (if 0 = 0 then K + 1 else if 0 = 1 then 1 else 0) else (1 - 0) * K) + 1 ≤ _
    show _ ≤ 1 + (if s = 4 then 6 * K else if s = 5 then 2 * K else if s = 6 then K + 1 else K)
    by_cases s4 : s = 4
    · rw [if_pos s4, if_pos s4]; omega
    · rw [if_neg s4, if_neg s4]
      by_cases s5 : s = 5
      · rw [if_pos s5, if_pos s5]; omega
      · rw [if_neg s5, if_neg s5]
        by_cases s6 : s = 6
        · rw [if_pos s6, if_pos s6, if_pos rfl]; omega
        · rw [if_neg s6, if_neg s6]; omega
/-- within p: paid out of p's -/
theorem rem_par {X : Mem} {m z : Nat} {P : List Nat} {N : Mem} {t t' : DB} {c o d p : Nat} {gv sv fb jv lv : Int32} (h : SZ X m z P 100000 N t) (hcd : cn t 61 = c) (a : NCt t t' c o d true p gv sv jv lv) (w : NCp t c o d true p gv sv fb jv lv) (h6 : ∀ g, g < cn t 30 → t 65 p = nI g → t 31 g = 6 → t 73 p = 1 → gv = -1) : sumTo c (remC t') + remC t' c + c + 1 ≤ 67 * cn t 50 := by
  obtain ⟨wo, ⟨T, hh, wT1, wT2, wT3, wT4, wd, wpar, wg⟩, -, wp, -, -⟩ := w
  have h50 : cn t 50 ≤ 60 := h.iB.2.2.2.2.2.1.2
  have h47 : cn t 47 ≤ 10 := h.iB.2.2.2.2.1.2
  have h24 : cn t 30 ≤ 24 := h.iB.2.2.2.1.2
  have hn := h.nC
  obtain ⟨hT', i1, i2, i3, -⟩ := h.iT T (Or.inl wT2)
  have : hT' = hh := (nI_eq (by omega) (by omega)).mp (i2.symm.trans wT3)
  subst this
  rcases wpar with ⟨-, y⟩ | ⟨e, -, hpc, e62, hde, e63, heh, e65⟩
  · exact absurd y (by decide)
  obtain ⟨g, hg, eg⟩ := i3 e heh
  have e65' := e65.trans eg
  obtain ⟨w1, w2, w3⟩ := wp rfl
  obtain ⟨-, n, e73, n6, n2, n1, -⟩ := w3 g hg e65'
  have hnew := rem_new a (by omega) wT1 (by omega) wT3 wT4 wd (by
    rcases wg with ⟨y, -⟩ | ⟨y1, y2, -⟩
    · exact Or.inl y
    · obtain ⟨g', hg', eg'⟩ := i3 d y1
      exact Or.inr ⟨y1, y2, by rw [y2, eg']; exact nI_pos (by omega)⟩)
  obtain ⟨ht, a61, av⟩ := a
  have hpc' : p ≠ c := by omega
  have vo : ∀ f, 62 ≤ f → f ≤ 79 → f ≠ 73 → ∀ i, i ≠ c → t' f i = t f i := fun f h1 h2 h3 i hi => by rw [av f h1 h2, if_neg hi, if_neg (fun e => h3 e.1)]
  have v73 : t' 73 p = nI (n + 1) := by rw [av 73 (by decide) (by decide), if_neg hpc', if_pos ⟨rfl, rfl, rfl⟩, e73, nI_1]
  have eD : ∀ i, i ≠ c → capD t' i = capD t i := fun i hi => by
    unfold capD srt
    rw [vo 62 (by decide) (by decide) (by decide) i hi, vo 63 (by decide) (by decide) (by decide) i hi, ht 51 (by decide), ht 48 (by decide), ht 31 (by decide), ht 49 (by decide)]
  have eK : capD t p = capL ((srt t T hT').drop d) := by
    unfold capD
    have k1 : (nI o).toNatClampNeg = o := nI_clamp (by omega)
    have k2 : (nI T).toNatClampNeg = T := nI_clamp (by omega)
    have k3 : (nI hT').toNatClampNeg = hT' := nI_clamp (by omega)
    have k4 : (nI e).toNatClampNeg = e := nI_clamp (by omega)
    rw [e62, e63, k1, wT1, k2, wT3, k3, k4, hde]
  have hsame : ∀ i, i < c → i ≠ p → remC t' i = remC t i := fun i hi hip => by
    have hic : i ≠ c := by omega
    have e73i : t' 73 i = t 73 i := by rw [av 73 (by decide) (by decide), if_neg hic, if_neg (fun q => hip q.2.2)]
    unfold remC
    rw [eD i hic, vo 65 (by decide) (by decide) (by decide) i hic, ht 31 (by decide), e73i]
  have hp : remC t' p + (remC t' c + 1) ≤ remC t p := by
    have hK : remC t' c + 1 ≤ capD t p := by rw [eK]; exact hnew
    have h1 : ∀ gv', gv = gv' → gv' = -1 → remC t' c = 0 := fun gv' q1 q2 => by
      have : t' 65 c = gv := by rw [av 65 (by decide) (by decide), if_pos rfl]; rfl
      unfold remC
      rw [this, q1, q2, if_pos (by decide)]
    have ncl : ∀ k, k ≤ 10 → (nI k).toNatClampNeg = k := fun k hk => nI_clamp (by omega)
    unfold remC at ⊢
    rw [eD p hpc', vo 65 (by decide) (by decide) (by decide) p hpc', e65', if_neg (nI_pos (by omega)), if_neg (nI_pos (by omega)), nI_clamp (by omega), ht 31 (by decide), v73, e73, ncl (n + 1) (by omega), ncl n (by omega)]
    obtain ⟨s, s9, es, -⟩ := h.iG g hg
    rw [es] at n2 n1
    have q6 := h6 g hg e65'
    rw [es, e73] at q6
    rw [es, nI_clamp (by omega)]
    have ns : ∀ k : Nat, k ≤ 9 → (nI s = nI k ↔ s = k) := fun k hk => nI_eq (by omega) (by omega)
    have n2' : s ≠ 4 → n < 2 := fun q => n2 (fun y => q ((ns 4 (by decide)).mp y))
    have n1' : s ≠ 4 → s ≠ 5 → s ≠ 6 → n < 1 := fun a1 a2 a3 => n1 (fun y => a1 ((ns 4 (by decide)).mp y)) (fun y => a2 ((ns 5 (by decide)).mp y)) (fun y => a3 ((ns 6 (by decide)).mp y))
    have q6' : s = 6 → n = 1 → gv = -1 := fun a1 a2 => q6 ((ns 6 (by decide)).mpr a1) (by rw [a2]; rfl)
    clear n2 n1 q6
    have fold : (if t' 65 c < 0 then 0 else
        let s := (t 31 (t' 65 c).toNatClampNeg).toNatClampNeg
        let n := (t' 73 c).toNatClampNeg
        if s = 4 then (6 - n) * capD t' c else if s = 5 then (2 - n) * capD t' c else if s = 6 then (if n = 0 then capD t' c + 1 else if n = 1 then 1 else 0) else (1 - n) * capD t' c) = remC t' c := by
      unfold remC; rw [ht 31 (by decide)]
    rw [fold]
    generalize capD t p = K at *
    generalize remC t' c = R at *
    dsimp only
    by_cases s4 : s = 4
    · rw [if_pos s4, if_pos s4]
      have : (6 - n) * K = (6 - (n + 1)) * K + K := by
        rw [show 6 - n = (6 - (n + 1)) + 1 from by omega, Nat.succ_mul]
      omega
    · rw [if_neg s4, if_neg s4]
      have n2 := n2' s4
      by_cases s5 : s = 5
      · rw [if_pos s5, if_pos s5]
        have : (2 - n) * K = (2 - (n + 1)) * K + K := by
          rw [show 2 - n = (2 - (n + 1)) + 1 from by omega, Nat.succ_mul]
        omega
      · rw [if_neg s5, if_neg s5]
        by_cases s6 : s = 6
        · rw [if_pos s6, if_pos s6]
          by_cases e0 : n = 0
          · subst e0
            show 1 + (R + 1) ≤ K + 1
            omega
          · have e1 : n = 1 := by omega
            subst e1
            have := h1 gv rfl (q6' s6 rfl)
            show 0 + (R + 1) ≤ 1
            omega
        · rw [if_neg s6, if_neg s6]
          have : n = 0 := by have := n1' s4 s5 s6; omega
          subst this
          show (1 - (0 + 1)) * K + (R + 1) ≤ (1 - 0) * K
          omega
  obtain ⟨u1, -⟩ := h.iU
  rw [hcd] at u1
  have : ∀ n, p < n → n ≤ c → sumTo n (remC t') + (remC t' c + 1) ≤ sumTo n (remC t) := by
    intro n
    induction n with
    | zero => intro q; omega
    | succ n ih =>
      intro q1 q2
      show sumTo n (remC t') + remC t' n + _ ≤ sumTo n (remC t) + remC t n
      by_cases ep : p = n
      · subst ep
        have : sumTo p (remC t') = sumTo p (remC t) := sumTo_congr (fun i hi => hsame i (by omega) (by omega))
        omega
      · have := ih (by omega) (by omega)
        have := hsame n (by omega) (fun q => ep q.symm)
        omega
  have := this c hpc (Nat.le_refl _)
  omega
