set_option maxRecDepth 100000
/-! who lies within whom; a hedge's inner calls -/
theorem wi_62 {X : Mem} {m z : Nat} {P : List Nat} {x : Nat} {N : Mem} {t : DB} (h : SZ X m z P x N t) {c : Nat} (hc : c < cn t 61) : ∀ (n k : Nat), k ≤ n → k < cn t 61 → wi t c k = true → t 62 k = t 62 c ∧ (t 63 c).toNatClampNeg ≤ (t 63 k).toNatClampNeg := by
  have hn := h.nC
  intro n
  induction n with
  | zero =>
    intro k hkn hk w
    rw [wi_s h hk] at w
    rcases h.par k hk with q | ⟨p, q1, -⟩
    · rw [q, if_pos (by decide), Bool.or_false] at w
      have : k = c := by simpa using w
      subst this
      exact ⟨rfl, Nat.le_refl _⟩
    · omega
  | succ n ih =>
    intro k hkn hk w
    rw [wi_s h hk] at w
    by_cases e : k = c
    · subst e
      exact ⟨rfl, Nat.le_refl _⟩
    · have hkb : (k == c) = false := by simpa using e
      rw [hkb, Bool.false_or] at w
      obtain ⟨o, T, hh, d, a1, a2, a3, a4, a5, a6, a7, a8, a9, -⟩ := h.iC k hk
      rcases a9 with ⟨-, q⟩ | ⟨p, e', b1, b2, b3, b4, b5, b6, b7⟩
      · rw [q, if_pos (by decide)] at w; exact absurd w (by decide)
      · rw [b2, if_neg (nI_pos (by omega)), nI_clamp (by omega)] at w
        have := ih p (by omega) (by omega) w
        rw [b3, b5, nI_clamp (by omega)] at this
        rw [a2, a8, nI_clamp (by omega)]
        exact ⟨this.1, by omega⟩
theorem wi_self {X : Mem} {m z : Nat} {P : List Nat} {x : Nat} {N : Mem} {t : DB} (h : SZ X m z P x N t) {c : Nat} (hc : c < cn t 61) : wi t c c = true := by
  rw [wi_s h hc]; simp
theorem wi_up {X : Mem} {m z : Nat} {P : List Nat} {x : Nat} {N : Mem} {t : DB} (h : SZ X m z P x N t) {c k p : Nat} (hk : k < cn t 61) (hp : p < 2 ^ 31) (h64 : t 64 k = nI p) (w : wi t c p = true) : wi t c k = true := by
  rw [wi_s h hk, h64, if_neg (nI_pos hp), nI_clamp hp, w, Bool.or_true]
/-- the reference's marks, where all within c are meant -/
theorem wi_F {X : Mem} {m z : Nat} {P : List Nat} {x : Nat} {N : Mem} {t : DB} (h : SZ X m z P x N t) {c : Nat} (hc : c < cn t 61) : ∀ k, k < cn t 61 → (wi t c k = true ↔ (nI k = nI c ∨ (¬ (-1 : Int32) < 0 ∧ t 62 k = -1) ∨ ∃ p, p < k ∧ t 64 k = nI p ∧ wi t c p = true)) := by
  have hn := h.nC
  intro k hk
  rw [wi_s h hk]
  constructor
  · intro w
    by_cases e : k = c
    · exact Or.inl (by rw [e])
    · have hkb : (k == c) = false := by simpa using e
      rw [hkb, Bool.false_or] at w
      rcases h.par k hk with q | ⟨p, q1, q2⟩
      · rw [q, if_pos (by decide)] at w; exact absurd w (by decide)
      · rw [q2, if_neg (nI_pos (by omega)), nI_clamp (by omega)] at w
        exact Or.inr (Or.inr ⟨p, q1, q2, w⟩)
  · rintro (e | ⟨e, -⟩ | ⟨p, e1, e2, e3⟩)
    · have : k = c := (nI_eq (by omega) (by omega)).mp e
      rw [this]; simp
    · exact absurd (by decide) e
    · rw [e2, if_neg (nI_pos (by omega)), nI_clamp (by omega), e3, Bool.or_true]
/-- after the marking, those beside stand right again -/
theorem mk_IP {X : Mem} {m z : Nat} {P : List Nat} {x : Nat} {N : Mem} {t : DB} (hS : SZ X m z P x N t) {p c : Nat} {F : Nat → Bool} (hc : c < cn t 61) (hI : IPx p t) (hF : ∀ k, k < cn t 61 → F k = wi t c k) (h64 : t 64 c = nI p ∧ p < cn t 61 ∨ (t 64 c = -1 ∧ cn t 61 ≤ p)) (hsib : ∀ k, k < cn t 61 → k ≠ c → t 64 k = t 64 c → t 69 k ≠ 0) : I_P (tMk t F (cn t 61)) := by
  have hn := hS.nC
  have ht1 := tMk_TF (t := t) (F := F) (j := cn t 61)
  intro k hk h0 q hq e64
  rw [ht1.cn (by decide)] at hk hq
  rw [ht1 64 (by decide)] at e64
  rw [tMk_69] at h0
  have hkL : k ∉ LF t F (cn t 61) := fun y => by rw [if_pos y] at h0; exact absurd h0 (by decide)
  rw [if_neg hkL] at h0
  have nwk : ¬ wi t c k = true := fun y => hkL (LF_mem.mpr ⟨hk, (hF k hk).trans y, h0⟩)
  have kc : k ≠ c := fun e => nwk (by rw [e]; exact wi_self hS hc)
  have nwq : ¬ wi t c q = true := fun y => nwk (wi_up hS hk (by omega) e64 y)
  have qp : q ≠ p := fun e => by
    rcases h64 with ⟨w, -⟩ | ⟨-, w⟩
    · exact hsib k hk kc (by rw [e64, w, e]) h0
    · omega
  obtain ⟨i1, i2⟩ := hI k hk h0 q hq qp e64
  have un : ∀ j, j < cn t 61 → ¬ wi t c j = true → tMk t F (cn t 61) 69 j = t 69 j := fun j hj w => by
    rw [tMk_69, if_neg (fun y => w ((hF j hj).symm.trans (LF_mem.mp y).2.1))]
  refine ⟨(un q hq nwq).trans i1, fun g hg h65 j hj hjk e => ?_⟩
  rw [ht1.cn (by decide)] at hg hj
  rw [ht1 65 (by decide)] at h65
  rw [ht1 64 (by decide)] at e
  rw [ht1 31 (by decide), un j hj (fun w => ?_)]
  · exact i2 g hg h65 j hj hjk e
  · rw [wi_s hS hj, e, if_neg (nI_pos (by omega)), nI_clamp (by omega)] at w
    by_cases ejc : j = c
    · subst ejc
      rcases h64 with ⟨w', w2⟩ | ⟨w', -⟩
      · exact qp ((nI_eq (by omega) (by omega)).mp (e.symm.trans w'))
      · exact nI_m1 (by omega) (e.symm.trans w')
    · have hkb : (j == c) = false := by simpa using ejc
      rw [hkb, Bool.false_or] at w
      exact nwq w
/-- the marking harms the one call alone in which c0 began -/
theorem mk_W {X : Mem} {m z : Nat} {P : List Nat} {x : Nat} {N : Mem} {t : DB} (hS : SZ X m z P x N t) {c : Nat} {F : Nat → Bool} {E : Nat → Prop} (hF : ∀ k, k < cn t 61 → F k = wi t c k) (hE : ∀ p, p < cn t 61 → t 64 c = nI p → E p) (h : I_W E t) : I_W E (tMk t F (cn t 61)) := by
  have hn := hS.nC
  have ht1 := tMk_TF (t := t) (F := F) (j := cn t 61)
  intro p hp h0 hpE g hg h65 j hj e
  rw [ht1.cn (by decide)] at hp hg hj
  rw [ht1 64 (by decide)] at e
  rw [ht1 65 (by decide)] at h65
  rw [tMk_69] at h0 ⊢
  have hpL : p ∉ LF t F (cn t 61) := fun y => by rw [if_pos y] at h0; exact absurd h0 (by decide)
  rw [if_neg hpL] at h0
  have nwp : ¬ wi t c p = true := fun y => hpL (LF_mem.mpr ⟨hp, (hF p hp).trans y, h0⟩)
  rw [ht1 76 (by decide), ht1 31 (by decide), if_neg (fun y => ?_)]
  · exact h p hp h0 hpE g hg h65 j hj e
  · have w := (hF j hj).symm.trans (LF_mem.mp y).2.1
    rw [wi_s hS hj, e, if_neg (nI_pos (by omega)), nI_clamp (by omega)] at w
    by_cases ejc : j = c
    · subst ejc
      exact hpE (hE p hp e)
    · have hkb : (j == c) = false := by simpa using ejc
      rw [hkb, Bool.false_or] at w
      exact nwp w
/-- no first call is marked -/
theorem mk_O {X : Mem} {m z : Nat} {P : List Nat} {x : Nat} {N : Mem} {t : DB} (hS : SZ X m z P x N t) {c : Nat} {F : Nat → Bool} (hF : ∀ k, k < cn t 61 → F k = wi t c k) (h64 : t 64 c ≠ -1) : ∀ N', NF N N' [21, 33] → S_O z N' (tMk t F (cn t 61)) := by
  intro N' hf o ho hoz
  have ht1 := tMk_TF (t := t) (F := F) (j := cn t 61)
  rw [ht1.cn (by decide)] at ho
  obtain ⟨a1, k, a2, a3, a4, a5, a6⟩ := hS.O o ho hoz
  have f20 := hf 20 (by decide)
  rw [f20.1, f20.2.1, ht1 58 (by decide), ht1 59 (by decide), ht1 62 (by decide), ht1 64 (by decide), ht1 70 (by decide), ht1 71 (by decide), ht1.cn (f := 61) (by decide)]
  refine ⟨a1, k, a2, a3, a4, a5, ?_⟩
  rw [tMk_69, if_neg (fun y => ?_)]
  · exact a6
  · have w := (hF k a2).symm.trans (LF_mem.mp y).2.1
    rw [wi_s hS a2, a5, if_pos (by decide), Bool.or_false] at w
    have : k = c := by simpa using w
    rw [this] at a5
    exact h64 a5
theorem psh_pop {t : DB} {h : Nat} {a b c d e : Int32} (h83 : t 83 h = a) (h84 : t 84 h = b) (h85 : t 85 h = c) (h86 : t 86 h = d) (h87 : t 87 h = e) (h88 : t 88 0 = nI (h + 1)) : psh (pop t h) h a b c d e = t := by
  unfold psh
  have u : ∀ (v : DB) (f g i j : Nat) (x y : Int32), f ≠ g → up (up v f i x) g j y = up (up v g j y) f i x := fun v f g i j x y hne => by
    funext a b
    show (if _ then _ else (if _ then _ else _)) = (if _ then _ else (if _ then _ else _))
    by_cases q1 : a = g ∧ b = j
    · rw [if_pos q1, if_neg (fun w => hne (w.1.symm.trans q1.1)), if_pos q1]
    · rw [if_neg q1]
      by_cases q2 : a = f ∧ b = i
      · rw [if_pos q2, if_pos q2]
      · rw [if_neg q2, if_neg q2, if_neg q1]
  have o : ∀ (v : DB) (f i : Nat) (x y : Int32), up (up v f i x) f i y = up v f i y := fun v f i x y => by
    funext a b
    show (if _ then _ else (if _ then _ else _)) = (if _ then _ else _)
    by_cases q1 : a = f ∧ b = i
    · rw [if_pos q1, if_pos q1]
    · rw [if_neg q1, if_neg q1, if_neg q1]
  rw [u _ 88 83 _ _ _ _ (by decide), u _ 88 84 _ _ _ _ (by decide), u _ 88 85 _ _ _ _ (by decide), u _ 88 86 _ _ _ _ (by decide), u _ 88 87 _ _ _ _ (by decide), o, up_id h83, up_id h84, up_id h85, up_id h86, up_id h87, up_id h88]
/-- at most two inner ones -/
theorem SZ.two {X : Mem} {m z : Nat} {P : List Nat} {x : Nat} {N : Mem} {t : DB} (h : SZ X m z P x N t) {p c k nn : Nat} (hp : p < cn t 61) (h73 : t 73 p = nI nn) (hnn : nn ≤ 2) (hc : c < cn t 61) (hk : k < cn t 61) (ec : t 64 c = nI p) (ek : t 64 k = nI p) (hne : k ≠ c) : ∀ j, j < cn t 61 → t 64 j = nI p → j ≠ c → j = k := by
  obtain ⟨V1, V2, V3, -⟩ := h.V p hp
  rw [h73, nI_clamp (by omega)] at V1 V2 V3
  intro j hj ej hjc
  obtain ⟨a, ha, ea⟩ := V2 c hc ec
  obtain ⟨b, hb, eb⟩ := V2 k hk ek
  obtain ⟨d, hd, ed⟩ := V2 j hj ej
  have dist : ∀ (i i' u v : Nat), N.2.1 31 p i = (21, u) → N.2.1 31 p i' = (21, v) → u ≠ v → i ≠ i' := fun i i' u v h1 h2 h3 e => by
    subst e
    exact h3 (congrArg Prod.snd (h1.symm.trans h2))
  have d1 := dist a b c k ea eb (fun e => hne e.symm)
  have d2 := dist a d c j ea ed (fun e => hjc e.symm)
  refine Classical.byContradiction fun w => ?_
  have d3 := dist b d k j eb ed (fun e => w e.symm)
  omega
/-- down to the hedge's depth an order has one call under way -/
theorem uq {X : Mem} {m z : Nat} {P : List Nat} {x : Nat} {N : Mem} {t : DB} (h : SZ X m z P x N t) {p g e : Nat} (hI : IPx p t) (hp : p < cn t 61) (h65 : t 65 p = nI g) (hg : g < cn t 30) (h31 : t 31 g = 5) (he : e ≤ 5) (h63 : t 63 p = nI e) :
    ∀ (d a a' : Nat), d ≤ e → a < cn t 61 → a' < cn t 61 → t 62 a = t 62 p → t 62 a' = t 62 p → t 63 a = nI d → t 63 a' = nI d → t 69 a = 0 → t 69 a' = 0 → a = a' := by
  have hn := h.nC
  have h24 : cn t 30 ≤ 24 := h.iB.2.2.2.1.2
  intro d
  induction d with
  | zero =>
    intro a a' _ ha ha' e62 e62' e63 e63' _ _
    have root : ∀ i, i < cn t 61 → t 63 i = nI 0 → t 64 i = -1 := fun i hi e => by
      obtain ⟨o, T, hh, d, a1, a2, a3, a4, a5, a6, a7, a8, a9, -⟩ := h.iC i hi
      rcases a9 with ⟨-, q⟩ | ⟨p, e', b1, b2, b3, b4, b5, b6, b7⟩
      · exact q
      · have : d = 0 := (nI_eq (by omega) (by omega)).mp (a8.symm.trans e)
        omega
    exact h.iR a a' ha ha' (root a ha e63) (root a' ha' e63') (e62.trans e62'.symm)
  | succ d ih =>
    intro a a' hd ha ha' e62 e62' e63 e63' h0 h0'
    have par : ∀ i, i < cn t 61 → t 63 i = nI (d + 1) → ∃ q, q < i ∧ t 64 i = nI q ∧ t 62 q = t 62 i ∧ t 63 q = nI d := fun i hi e => by
      obtain ⟨o, T, hh, d', a1, a2, a3, a4, a5, a6, a7, a8, a9, -⟩ := h.iC i hi
      have ed : d' = d + 1 := (nI_eq (by omega) (by omega)).mp (a8.symm.trans e)
      rcases a9 with ⟨q, -⟩ | ⟨q, e', b1, b2, b3, b4, b5, b6, b7⟩
      · omega
      · exact ⟨q, b1, b2, b3.trans a2.symm, by rw [b5, show e' = d from by omega]⟩
    obtain ⟨q, q1, q2, q3, q4⟩ := par a ha e63
    obtain ⟨q', q1', q2', q3', q4'⟩ := par a' ha' e63'
    have qp : ∀ i, t 63 i = nI d → i ≠ p := fun i ei e => by
      rw [e, h63] at ei
      have := (nI_eq (by omega) (by omega)).mp ei
      omega
    obtain ⟨u1, u2⟩ := hI a ha h0 q (by omega) (qp q q4) q2
    obtain ⟨u1', -⟩ := hI a' ha' h0' q' (by omega) (qp q' q4') q2'
    have eqq : q = q' := ih q q' (by omega) (by omega) (by omega) (q3.trans e62) (q3'.trans e62') q4 q4' u1 u1'
    subst eqq
    refine Classical.byContradiction fun w => ?_
    rcases h.grd (c := q) (by omega) with w65 | ⟨f, s, hf, w65, ws, ws9⟩
    · obtain ⟨o, T, hh, d', a1, a2, a3, a4, a5, a6, a7, a8, a9, -⟩ := h.iC a ha
      rcases a9 with ⟨-, y⟩ | ⟨q'', e', b1, b2, b3, b4, b5, b6, b7⟩
      · exact nI_m1 (by omega) (q2.symm.trans y)
      · have eq2 : q = q'' := (nI_eq (by omega) (by omega)).mp (q2.symm.trans b2)
        subst eq2
        obtain ⟨hh2, c1, c2, c3, -⟩ := h.iT T (Or.inl a4)
        have h47 : cn t 47 ≤ 10 := h.iB.2.2.2.2.1.2
        have eh2 : hh = hh2 := (nI_eq (by omega) (by omega)).mp (a5.symm.trans c2)
        subst eh2
        obtain ⟨f, hf, ef⟩ := c3 e' b6
        rw [b7, ef] at w65
        exact nI_m1 (by omega) w65
    · rcases u2 f hf w65 a' ha' (fun y => w y.symm) q2' with ⟨y, -⟩ | ⟨-, -, y⟩
      · have := (h.sg (k := q) (l := p) (by omega) hp (q3.trans e62) w65 hf h65 hg (y.trans h31.symm)).2
        rw [q4, h63] at this
        have := (nI_eq (by omega) (by omega)).mp this
        omega
      · rw [h0'] at y; exact absurd y (by decide)
/-- the way up from a call that lies deeper -/
theorem anc {X : Mem} {m z : Nat} {P : List Nat} {x : Nat} {N : Mem} {t : DB} (h : SZ X m z P x N t) {p e : Nat} (hI : IPx p t) (hp : p < cn t 61) (hp0 : t 69 p = 0) (he : e ≤ 5) (h63 : t 63 p = nI e) :
    ∀ (r j : Nat), j < cn t 61 → t 69 j = 0 → t 62 j = t 62 p → t 63 j = nI (e + 1 + r) → r ≤ 5 → ∃ a b, a < cn t 61 ∧ b < cn t 61 ∧ t 62 a = t 62 p ∧ t 63 a = nI e ∧ t 69 a = 0 ∧ t 64 b = nI a ∧ t 69 b = 0 ∧ wi t b j = true := by
  have hn := h.nC
  intro r
  induction r with
  | zero =>
    intro j hj h0 e62 e63 _
    obtain ⟨o, T, hh, d', a1, a2, a3, a4, a5, a6, a7, a8, a9, -⟩ := h.iC j hj
    have ed : d' = e + 1 := (nI_eq (by omega) (by omega)).mp (a8.symm.trans e63)
    rcases a9 with ⟨y, -⟩ | ⟨q, e', b1, b2, b3, b4, b5, b6, b7⟩
    · omega
    · refine ⟨q, j, by omega, hj, b3.trans (a2.symm.trans e62), by rw [b5, show e' = e from by omega], ?_, b2, h0, wi_self h hj⟩
      by_cases eq : q = p
      · rw [eq]; exact hp0
      · exact (hI j hj h0 q (by omega) eq b2).1
  | succ r ih =>
    intro j hj h0 e62 e63 hr
    obtain ⟨o, T, hh, d', a1, a2, a3, a4, a5, a6, a7, a8, a9, -⟩ := h.iC j hj
    have ed : d' = e + 1 + (r + 1) := (nI_eq (by omega) (by omega)).mp (a8.symm.trans e63)
    rcases a9 with ⟨y, -⟩ | ⟨q, e', b1, b2, b3, b4, b5, b6, b7⟩
    · omega
    · have qp : q ≠ p := fun y => by
        rw [y, h63] at b5
        have := (nI_eq (by omega) (by omega)).mp b5
        omega
      have q0 := (hI j hj h0 q (by omega) qp b2).1
      obtain ⟨a, b, c1, c2, c3, c4, c5, c6, c7, c8⟩ := ih q (by omega) q0 (b3.trans (a2.symm.trans e62)) (by rw [b5, show e' = e + 1 + r from by omega]) (by omega)
      exact ⟨a, b, c1, c2, c3, c4, c5, c6, c7, wi_up h hj (by omega) b2 c8⟩
