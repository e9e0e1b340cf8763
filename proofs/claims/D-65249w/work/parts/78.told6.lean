set_option maxRecDepth 100000
/-! a fallback is told -/
theorem w_otherOf_l {t : DB} {p c k n : Nat} {Q : Int32 → DB → Prop} (h61 : t 61 0 = nI n) (hn : n ≤ 4020) (hc : c < n) (hk : k < n) (h64 : t 64 k = nI p) (hkc : k ≠ c) (hu : ∀ j, j < n → t 64 j = nI p → j ≠ c → j = k) (hQ : Q (nI k) t) : ∀ (r j : Nat), j + r = n → w_otherOf_5 (r + 1) (nI p) (nI c) (if k < j then nI k else -1) (nI j) t Q := by
  intro r
  induction r with
  | zero =>
    intro j hj
    rw [if_pos (by omega)]
    exact ⟨fun _ => hQ, fun y => absurd (by rw [h61]; exact nI_le (by omega) (by omega)) y⟩
  | succ r ih =>
    intro j hj
    have cj : (nI j).toNatClampNeg = j := nI_clamp (by omega)
    have vj : vp_in (nI j) 4400 := vp_in_nI (by omega) (by decide)
    have IH := ih (j + 1) (by omega)
    have no : j ≠ k → ∀ x, x = nI j + 1 → w_otherOf_5 (r + 1) (nI p) (nI c) (if k < j then nI k else -1) x t Q := fun y x ex => by
      rw [ex, nI_1]
      by_cases e : k < j
      · rw [if_pos (by omega)] at IH; rw [if_pos e]; exact IH
      · rw [if_neg (by omega)] at IH; rw [if_neg e]; exact IH
    refine ⟨fun y => absurd y (by rw [h61]; exact nI_ge (by omega) (by omega)), fun _ => ⟨vj, ?_⟩⟩
    rw [cj]
    refine ⟨fun y => no (fun e => y (by rw [e]; exact h64)), fun y => ⟨fun y2 => no (fun e => hkc (by
      have := (nI_eq (by omega) (by omega)).mp y2
      omega)), fun y2 x ex => ?_⟩⟩
    have : j = k := hu j (by omega) y (fun e => y2 (by rw [e]))
    subst this
    rw [if_pos (by omega)] at IH
    rw [ex, nI_1]
    exact IH
theorem w_otherOf_s {t : DB} {p c k n : Nat} {Q : Int32 → DB → Prop} (h61 : t 61 0 = nI n) (hn : n ≤ 4020) (hc : c < n) (hk : k < n) (h64 : t 64 k = nI p) (hkc : k ≠ c) (hu : ∀ j, j < n → t 64 j = nI p → j ≠ c → j = k) (hQ : Q (nI k) t) : w_otherOf (nI p) (nI c) t Q := by
  have := w_otherOf_l h61 hn hc hk h64 hkc hu hQ n 0 (by omega)
  rw [if_neg (by omega)] at this
  exact ⟨n + 1, this⟩
theorem w_otherOf_n {t : DB} {p c n : Nat} {Q : Int32 → DB → Prop} (h61 : t 61 0 = nI n) (hn : n ≤ 4020) (hc : c < n) (hu : ∀ j, j < n → t 64 j = nI p → j = c) (hQ : Q (-1) t) : w_otherOf (nI p) (nI c) t Q := by
  have L : ∀ (r j : Nat), j + r = n → w_otherOf_5 (r + 1) (nI p) (nI c) (-1) (nI j) t Q := by
    intro r
    induction r with
    | zero =>
      intro j hj
      exact ⟨fun _ => hQ, fun y => absurd (by rw [h61]; exact nI_le (by omega) (by omega)) y⟩
    | succ r ih =>
      intro j hj
      have cj : (nI j).toNatClampNeg = j := nI_clamp (by omega)
      have vj : vp_in (nI j) 4400 := vp_in_nI (by omega) (by decide)
      have IH := ih (j + 1) (by omega)
      have no : ∀ x, x = nI j + 1 → w_otherOf_5 (r + 1) (nI p) (nI c) (-1) x t Q := fun x ex => by rw [ex, nI_1]; exact IH
      refine ⟨fun y => absurd y (by rw [h61]; exact nI_ge (by omega) (by omega)), fun _ => ⟨vj, ?_⟩⟩
      rw [cj]
      exact ⟨fun _ => no, fun y => ⟨fun _ => no, fun y2 => absurd (by rw [hu j (by omega) y]) y2⟩⟩
  exact ⟨n + 1, L n 0 (by omega)⟩
theorem told_6 {b dp n : Nat} (hE : CE b dp n) (hE1 : CE b dp (n + 1)) {X : Mem} {m z : Nat} {P : List Nat} {N : Mem} {t : DB} {h p c g : Nat} (q : CTP b dp X m z P N t h p c g 6) : CTG b (n + 2) X m z P N t h p c g 6 := by
  have F := q.F
  have hn := F.hn
  have hg2 := F.hg2
  have hp := F.hp
  have hc := F.hc
  have hg := F.hg
  have hch := q.ch (by decide)
  have hSB : SBc 6 p c t := q.2.2.2.2.2.2.2.2.2.2.2.2.2.1
  have c1 : (nI p).toNatClampNeg = p := nI_clamp (by omega)
  have c2 : (nI c).toNatClampNeg = c := nI_clamp (by omega)
  have c3 : (nI g).toNatClampNeg = g := nI_clamp (by omega)
  have v1 : vp_in (nI p) 4400 := vp_in_nI (by omega) (by decide)
  have v2 : vp_in (nI c) 4400 := vp_in_nI (by omega) (by decide)
  have v3 : vp_in (nI g) 24 := vp_in_nI (by omega) (by decide)
  have nl : N.2.1 16 g 7 = (1, 0) := F.nl
  have n2 : N.1 16 g 2 = t 32 g := F.n2
  have n3 : N.1 16 g 3 = t 33 g := F.n3
  have h31 : t 31 g = 6 := F.h31
  have e61 : t 61 0 = nI (cn t 61) := F.hS.iB.2.2.2.2.2.2.1.1
  obtain ⟨nn, e73, -, hnn, -, -⟩ := F.hS.iD p hp g hg F.h65
  have hnn2 := hnn (by rw [h31]; decide)
  have hnn0 : nn ≠ 0 := fun e => F.hS.inner hp hc F.h64 (by rw [e73, e]; rfl)
  have w7 := (F.hS.C p hp).2.1
  have ws : N.1 31 p 0 = nI nn := (F.hS.I (31, 0, 73, 61) (by decide) p hp).trans e73
  obtain ⟨V1, V2, V3, V4⟩ := F.hS.V p hp
  have e10 := V4 g hg F.h65 h31
  rw [e73, nI_clamp (by omega)] at V1 V2 V3
  obtain ⟨jc, hjc, ejc⟩ := V2 c hc F.h64
  have hlast : jc = nn - 1 := by
    by_cases y : jc < nn - 1
    · exfalso
      obtain ⟨k, hk, e1, e2⟩ := V1 (nn - 1) (by omega)
      have := V3 jc (nn - 1) c k y (by omega) ejc e1
      rcases hSB k hk (by omega) e2 with ⟨w, -⟩ | ⟨-, w, -⟩
      · exact absurd w (by decide)
      · omega
    · omega
  have br : ∀ K : DB → Prop, w_fallbackTold (nI p) (nI c) (nI g) t K → w_told (nI p) (nI c) t K := fun K hK =>
    w_told_br (by omega) (by omega) (by omega) F.h65 F.h31 F.hs (fun e => by omega) (fun e => by omega) (fun e => by omega) (fun e => by omega) (fun e => by omega) (fun e => by omega) (fun _ => hK) (fun e => by omega) (fun e => by omega) (fun e => by omega)
  have e11 : N.1 21 c 11 = t 69 c := F.hS.I (21, 11, 69, 61) (by decide) c hc
  have Cc := F.hS.C c hc
  show cq (n + 1 + 11) mX11_told [.inr (16, g), .inr (21, p), .inr (21, c)] N _
  refine sv_X11_told (Q := TG b X m z P t h p c) (fun N' w => ⟨rfl, w⟩) ⟨rfl, fun w10 => ⟨rfl, v_names_s (s := 6) F.hS hc hg F.h31 (by decide) ⟨fun w => ⟨rfl, fun wa => ⟨rfl, fun M3 g3 => ⟨rfl, fun e4 ee4 => ⟨rfl, fun e5 ee5 => ⟨rfl, rfl, ?_⟩⟩⟩⟩, fun wa => ⟨rfl, fun e8 ee8 => ⟨rfl, ?_⟩⟩⟩, fun w => ⟨rfl, fun e12 ee12 => ?_⟩⟩⟩, fun w10 => ⟨rfl, fun w11 => ⟨rfl, fun e16 ee16 => ⟨rfl, fun e17 ee17 => ?_⟩⟩, fun w11 => ⟨rfl, fun e24 ee24 => ⟨rfl, ?_⟩⟩⟩⟩
  · -- a try at the other station
    have h73 : nn = 1 := by
      have w10' : N.1 21 p 10 = 0 := w10
      rw [e73] at e10
      by_cases y : nn = 2
      · rw [y, if_pos (by decide)] at e10; exact absurd (e10.symm.trans w10') (by decide)
      · omega
    have hf : nmd t c g = true := by
      cases hb : nmd t c g
      · rw [hb] at w; exact absurd rfl w
      · rfl
    have wa' : ¬ t 32 g = 0 := fun y => wa (n2.trans y)
    obtain ⟨i, hi, ei⟩ : ∃ i, i < cn t 1 ∧ t 33 g = nI i := by
      obtain ⟨s', a1, a2, a3, -, -, -, -, a6, -⟩ := F.hS.iG g hg
      rcases a6 ((nI_eq (by omega) (by omega)).mp (a2.symm.trans F.h31)) with y | ⟨-, y⟩
      · exact absurd y wa'
      · exact y
    have h8 : cn t 1 ≤ 8 := F.hS.iB.1.2
    obtain ⟨o, s, ho, ho2, e62, eo4, -⟩ := F.hS.ord hp
    obtain ⟨_, T, hT, d, _, _, _, _, _, hT5, hdT, e63, -, -⟩ := F.hS.iC p hp
    have n1 : N.1 21 p 1 = nI d := (F.hS.I (21, 1, 63, 61) (by decide) p hp).trans e63
    have hch2 : ∀ k, k < cn t 61 → t 64 k = nI p → t 69 k = 2 := fun k hk e => by
      by_cases ek : k = c
      · rw [ek]; exact nmd_2 hf
      · rcases hSB k hk ek e with ⟨y, -⟩ | ⟨-, -, y⟩
        · exact absurd y (by decide)
        · exact y
    have hh := F.hh
    obtain ⟨t', R1, R2, R3, R4, R6, R5⟩ := bt_in (h := h) (p := p) (o := o) (s := i) (g := g) (e := d) F.hS (q.2.1.all hch) (by omega) F.h88 hp F.h69 hch2 F.h65 hg h31 (by rw [e73, h73]; rfl) ho e62 (by omega) e63 hi
    subst g3
    have q4 : e4 = (1, 0) := ee4.trans nl
    subst q4
    have q5 : e5 = (20, o) := ee5.trans eo4
    subst q5
    refine ⟨rfl, ?_⟩
    have x1 : (sI N (21, p).1 (21, p).2 10 1).1 (21, p).1 (21, p).2 1 = nI d := by rw [sI_ne (by simp)]; exact n1
    have x2 : (sI N (21, p).1 (21, p).2 10 1).1 (16, g).1 (16, g).2 3 = nI i := by rw [sI_ne (by simp)]; exact n3.trans ei
    rw [x1, x2]
    refine R5 _ (fun N' hN' => ⟨psh t h 0 (nI o) (nI d + 1) (nI p) (nI i), t', fun K hK => br K ⟨v1, fun _ => w_isNamed_s F.hS hc hg ⟨fun _ => ⟨v3, fun _ => ⟨v1, v1, v3, ?_⟩, fun y => absurd (by rw [c3] at y; exact y) wa'⟩, fun y => absurd y w⟩, fun y => ?_⟩, R1, R2, hN', R3, fun _ k hk _ => R4 k hk, R6⟩)
    · rw [c1, c3, e62, e63, ei]
      exact w_add_s F.h88 (by omega) hK
    · rw [c1, e73, h73] at y; exact absurd y (by decide)
  · -- a plain answer
    have w10' : N.1 21 p 10 = 0 := w10
    have h73 : nn ≠ 2 := fun y => by
      rw [e73, y, if_pos (by decide)] at e10; exact absurd (e10.symm.trans w10') (by decide)
    have wa' : t 32 g = 0 := n2.symm.trans wa
    have q8 : e8 = (1, 0) := ee8.trans nl
    subst q8
    have hh := F.hh
    have hA := (told_end hE1 (how := 1) (val := t 33 g) (by_ := 1) q (by decide) F.hD (TF.rf (C := [])) MO.rf (by decide)).1 rfl (Or.inr rfl)
    refine ⟨rfl, ?_⟩
    rw [show N.1 (16, g).1 (16, g).2 3 = t 33 g from n3]
    refine told_fin (fun K hK => br K ⟨v1, fun _ => w_isNamed_s F.hS hc hg ⟨fun _ => ⟨v3, fun y => absurd ?_ y, fun _ => ⟨v3, ?_⟩⟩, fun y => absurd y w⟩, fun y => ?_⟩) hA
    · rw [c3]; exact wa'
    · rw [c3]; exact w_add_s F.h88 (by omega) hK
    · rw [c1, e73] at y
      exact absurd ((nI_eq (by omega) (by omega)).mp (show nI nn = nI 2 from y)) h73
  · -- not named
    have w10' : N.1 21 p 10 = 0 := w10
    have h73 : nn ≠ 2 := fun y => by
      rw [e73, y, if_pos (by decide)] at e10; exact absurd (e10.symm.trans w10') (by decide)
    have q8 : e12 = (1, 0) := ee12.trans nl
    subst q8
    have hA := told_al hE q (by decide) F.hD (TF.rf (C := [])) MO.rf (by decide)
    refine ⟨rfl, told_fin (fun K hK => br K ⟨v1, fun _ => w_isNamed_s F.hS hc hg ⟨fun y => absurd w y, fun _ => hA.1 K hK⟩, fun y => ?_⟩) hA.2⟩
    rw [c1, e73] at y
    exact absurd ((nI_eq (by omega) (by omega)).mp (show nI nn = nI 2 from y)) h73
  · -- it failed there, too
    have h73 : nn = 2 := by
      by_cases y : nn = 2
      · exact y
      · have h1 : nn = 1 := by omega
        rw [e73, h1, if_neg (by decide)] at e10
        exact absurd e10 w10
    have h2 : t 69 c = 2 := F.hhow.resolve_left (fun y => w11 (e11.trans y))
    obtain ⟨fc, hfc, efc⟩ := (F.hS.iH c hc).2.1 h2
    have hF := (nF_b F.hS).2
    have e16c := Cc.2.2.2
    rw [if_pos h2, efc, rn_j (by omega)] at e16c
    obtain ⟨k, hk, ek, ek2⟩ := V1 0 (by omega)
    have hkc : k ≠ c := fun y => by
      subst y
      have := V3 0 jc k k (by omega) hjc ek ejc
      omega
    have h2k : t 69 k = 2 := by
      rcases hSB k hk hkc ek2 with ⟨y, -⟩ | ⟨-, -, y⟩
      · exact absurd y (by decide)
      · exact y
    obtain ⟨f, hf, ef⟩ := (F.hS.iH k hk).2.1 h2k
    have eck := (F.hS.C k hk).2.2.2
    rw [if_pos h2k, ef, rn_j (by omega)] at eck
    have hu : ∀ j, j < cn t 61 → t 64 j = nI p → j ≠ c → j = k := fun j hj e hjc' => by
      obtain ⟨l, hl, el⟩ := V2 j hj e
      have : l = 0 ∨ l = jc := by omega
      rcases this with y | y
      · rw [y] at el; exact congrArg Prod.snd (el.symm.trans ek)
      · rw [y] at el; exact absurd (congrArg Prod.snd (el.symm.trans ejc)) hjc'
    have q16 : e16 = (22, fc) := ee16.trans e16c
    subst q16
    have q17 : e17 = (31, p) := ee17.trans w7
    subst q17
    refine ⟨lk31, ⟨by decide, ?_⟩, fun e18 ee18 => ?_⟩
    · show (0 : Int32) < N.1 31 p 0
      rw [ws, h73]; decide
    have q18 : e18 = (21, k) := ee18.trans ek
    subst q18
    refine ⟨rfl, rfl, fun e19 ee19 => ?_⟩
    have q19 : e19 = (22, f) := ee19.trans eck
    subst q19
    refine ⟨rfl, fun M20 g20 => ⟨rfl, fun e21 ee21 => ?_⟩⟩
    subst g20
    have q21 : e21 = (1, 0) := by
      rw [ee21, sR_ne (by simp)]; exact nl
    subst q21
    have ht : TF t (up t 28 fc (nI f)) [28] := TF.rf.wu _ _ (by decide)
    have hA := told_al hE q (by decide) (F.hD.cau (f := fc) hf) ht (MO.of ht (by decide)) (by decide)
    refine ⟨rfl, told_fin (fun K hK => br K ⟨v1, fun y => absurd ?_ y, fun _ => ⟨v2, fun _ => ⟨v2, w_otherOf_s e61 hn hc hk ek2 hkc hu ⟨vp_in_nI (by omega) (by decide), ?_, fun t13 e13 => ?_⟩⟩, fun y => absurd (by rw [c2] at y; exact y) (fun z => w11 (e11.trans z))⟩⟩) hA.2⟩
    · rw [c1, e73, h73]; decide
    · rw [c2, efc]; exact vp_in_nI (by omega) (by decide)
    · rw [c2, efc, nI_clamp (by omega), nI_clamp (by omega), ef] at e13
      subst e13
      exact hA.1 K hK
  · -- it was good there
    have h73 : nn = 2 := by
      by_cases y : nn = 2
      · exact y
      · have h1 : nn = 1 := by omega
        rw [e73, h1, if_neg (by decide)] at e10
        exact absurd e10 w10
    have h1 : t 69 c = 1 := e11.symm.trans w11
    have e12 := Cc.2.2.1
    rw [if_pos h1] at e12
    have q24 : e24 = (1, 0) := ee24.trans nl
    subst q24
    have hh := F.hh
    have hA := (told_end hE1 (how := 1) (val := t 70 c) (by_ := 1) q (by decide) F.hD (TF.rf (C := [])) MO.rf (by decide)).1 rfl (Or.inr rfl)
    refine ⟨rfl, ?_⟩
    rw [show N.1 (21, c).1 (21, c).2 12 = t 70 c from e12]
    refine told_fin (fun K hK => br K ⟨v1, fun y => absurd ?_ y, fun _ => ⟨v2, fun y => absurd ?_ y, fun _ => ⟨v2, ?_⟩⟩⟩) hA
    · rw [c1, e73, h73]; decide
    · rw [c2]; exact h1
    · rw [c2]; exact w_add_s F.h88 (by omega) hK
