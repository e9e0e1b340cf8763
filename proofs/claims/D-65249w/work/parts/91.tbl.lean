set_option maxRecDepth 100000
/-! the loop over those taken back -/
theorem gn_j {t : DB} {g s : Nat} (hg : g < 2 ^ 31) (hs : t 31 g = nI s) (hs9 : s ≤ 9) : gn t (nI g) = (10 + s, g) := by
  unfold gn
  rw [if_neg (nI_pos hg), nI_clamp hg, hs, nI_clamp (by omega)]
theorem tk_l {n : Nat} {X : Mem} {m z : Nat} {P L : List Nat} {T0 u : DB} {h s i : Nat} {S : Int32 → Prop} {Q : Int32 → Mem → Prop} (hE : (∃ k, k ∈ L ∧ T0 78 k = 1) → CE 0 5 n ∧ h + 2 ≤ 10000) (hh : h ≤ 15000 ∧ 60 ≤ z) (hx : X.2.2.1 33 i ≠ 0) (hx1 : X.1 33 i 0 = nI L.length) (hx2 : ∀ a k, L[a]? = some k → X.2.1 33 i a = (21, k))
    (h81 : ∀ a k, L[a]? = some k → T0 81 (s + a) = nI k) (hsl : s + L.length ≤ 4020) (h82 : s + L.length ≤ cn T0 82) (hL : ∀ k ∈ L, k < cn T0 61 ∧ T0 69 k = 3) (hnd : L.Nodup) (hLP : ∀ k ∈ L, k ∉ P) (hLf : ∀ k ∈ L, T0 78 k = 1 → LFr T0 k) (hSS : ∀ j k, j < cn T0 61 → T0 69 j = 0 → k ∈ L → T0 74 j = nI k → S (T0 62 j))
    (hQ : ∀ N t, SS X m z P 100000 N t → AC T0 u h S t → t 88 0 = nI h → Q (nI L.length) N) :
    ∀ (r a : Nat), a + r = L.length → ∀ (N : Mem) (t : DB), SS X m z (L.drop a ++ P) 100000 N t → AC T0 u h S t → (a < L.length → t 88 0 = nI (h + 1) ∧ t 83 h = 4 ∧ t 84 h = nI (s + a) ∧ t 85 h = nI (s + L.length)) → (a = L.length → t 88 0 = nI h) → v_X0_takeBack_126 (n + 2) (r + 1) (33, i) (nI a) N Q := by
  have lst : ∀ {N : Mem}, S_F X N → N.1 33 i 0 = nI L.length ∧ ∀ a k, L[a]? = some k → N.2.1 33 i a = (21, k) := fun {N} hF => by
    obtain ⟨f1, f2, -⟩ := hF.2 i hx
    exact ⟨by rw [f1]; exact hx1, fun a k e => by rw [f2]; exact hx2 a k e⟩
  intro r
  induction r with
  | zero =>
    intro a ha N t hS hA _ h88
    have : a = L.length := by omega
    subst this
    have sz : N.1 (33, i).1 (33, i).2 0 = nI L.length := (lst hS.F).1
    rw [List.drop_length, List.nil_append] at hS
    refine ⟨lk33, fun _ => ⟨lk33, ?_⟩, fun w => ?_⟩
    · rw [sz]; exact hQ N t hS hA (h88 rfl)
    · rw [sz] at w
      exact absurd (nI_le (Nat.le_refl _) (by omega)) w
  | succ r ih =>
    intro a ha N t hS hA hj _
    have hal : a < L.length := by omega
    obtain ⟨j88, j83, j84, j85⟩ := hj hal
    have hk : L[a]? = some L[a] := List.getElem?_eq_getElem hal
    have hdr : L.drop a = L[a] :: L.drop (a + 1) := List.drop_eq_getElem_cons hal
    rw [hdr] at hS
    have hnd2 : L[a] ∉ L.drop (a + 1) := by
      have := (List.nodup_append.mp (show (L.take a ++ L.drop a).Nodup from by rw [List.take_append_drop]; exact hnd)).2.1
      rw [hdr] at this
      exact (List.nodup_cons.mp this).1
    have hm : L[a] ∈ L := List.getElem_mem hal
    generalize L[a] = k at *
    have hkP : k ∉ L.drop (a + 1) ++ P := fun y => (List.mem_append.mp y).elim hnd2 (hLP k hm)
    have hn := hS.1.nC
    have h24 : cn t 30 ≤ 24 := hS.iB.2.2.2.1.2
    have hA' := hA
    obtain ⟨A1, A2, A3, A4, A5⟩ := hA
    have hk0 := (hL k hm).1
    have hkt : k < cn t 61 := Nat.lt_of_lt_of_le hk0 A2.2.1
    obtain ⟨sz0, el⟩ := lst hS.F
    have sz : N.1 (33, i).1 (33, i).2 0 = nI L.length := sz0
    have ca : (nI a).toNatClampNeg = a := nI_clamp (by omega)
    have inb : ¬ nI a < 0 ∧ nI a < N.1 (33, i).1 (33, i).2 0 := ⟨nI_pos (by omega), by rw [sz]; exact nI_lt hal (by omega)⟩
    -- the pile: the next ones wait
    have key : ∃ (tb : DB) (h' : Nat), SS X m z (k :: (L.drop (a + 1) ++ P)) 100000 N tb ∧ tb 88 0 = nI h' ∧ h ≤ h' ∧ h' ≤ h + 1 ∧ (∀ K : DB → Prop, w_takenBack_18 (nI (s + a)) tb K → w_takenBack (t 84 h) (t 85 h) (pop t h) K) ∧ (∀ f i, f < 83 ∨ 88 < f → tb f i = t f i) ∧ (MO t tb ∧ WA t tb) ∧ (∀ f, 83 ≤ f → f ≤ 87 → ∀ i, i < h → tb f i = t f i) ∧ (a + 1 < L.length → h' = h + 1 ∧ tb 83 h = 4 ∧ tb 84 h = nI (s + (a + 1)) ∧ tb 85 h = nI (s + L.length)) ∧ (a + 1 = L.length → h' = h) := by
      by_cases q : a + 1 < L.length
      · refine ⟨psh (pop t h) h 4 (nI (s + (a + 1))) (nI (s + L.length)) 0 0, h + 1, hS.pop.psh, psh_88, by omega, by omega, fun K hK => ?_, fun f i hf => ?_, ⟨MO.pop.tr MO.psh, WA.pop.tr WA.psh⟩, fun f h1 h2 i hi => ?_, fun _ => ⟨rfl, psh_83, psh_84, psh_85⟩, fun y => by omega⟩
        · rw [j84, j85]
          unfold w_takenBack
          rw [nI_1]
          refine ⟨fun y => absurd y (nI_ge (by omega) (by omega)), fun _ => ?_⟩
          exact w_add_s up_s (by omega) hK
        · rw [psh_f hf]; exact up_f (by omega)
        · rw [psh_lo h1 h2 hi]; exact up_f (by omega)
      · refine ⟨pop t h, h, hS.pop, up_s, Nat.le_refl _, by omega, fun K hK => ?_, fun f i hf => up_f (by omega), ⟨MO.pop, WA.pop⟩, fun f h1 h2 i hi => up_f (by omega), fun y => absurd y q, fun _ => rfl⟩
        rw [j84, j85]
        unfold w_takenBack
        rw [nI_1]
        exact ⟨fun _ => hK, fun y => absurd (nI_le (by omega) (by omega)) y⟩
    obtain ⟨tb, h', kS, k88, kh1, kh2, kw, kf, ⟨kM, kW⟩, klo, kn1, kn2⟩ := key
    have kc : ∀ f, f < 83 ∨ 88 < f → tb f = t f := fun f hf => funext fun i => kf f i hf
    have kn : cn tb 61 = cn t 61 := cn_fr (kc 61 (by decide))
    have hMT : MO T0 tb := A2.tr kM
    have e78 : tb 78 k = T0 78 k := (hMT.2.2.1 k hk0).1 78 (by decide)
    have e81 : tb 81 (s + a) = nI k := (hMT.2.2.2.2.2.2 (s + a) (by omega)).trans (h81 a k hk)
    obtain ⟨t2, m1, m2, m3⟩ := tk_step (n := n) (h := h') (fun y => ⟨(hE ⟨k, hm, e78.symm.trans y⟩).1, by have := (hE ⟨k, hm, e78.symm.trans y⟩).2; omega⟩) kS hkP (by rw [kn]; exact hkt) (by omega) e81 k88 ⟨by omega, hh.2⟩ (fun y => (hLf k hm (e78.symm.trans y)).mo hk0 hMT)
    have hrun : RUN t t2 := run_st j88 (by omega) (fun K hK => Or.inr (Or.inr (Or.inr (Or.inr (Or.inl ⟨j83, kw K (m1 K hK)⟩)))))
    have hSJ : ∀ j, j < cn T0 61 → JS tb k (tb 62 j) → S (T0 62 j) := fun j hj0 w => by
      obtain ⟨l, l1, l2, l3, l4⟩ := w
      have lo : l < cn T0 61 := Nat.lt_of_not_le fun v => by
        have := (hMT.2.2.2.1 l v l1).2.2
        rw [l3] at this
        exact nI_m1 (by omega) this
      have := hSS l k lo (Classical.byContradiction fun q => q (((hMT.2.2.1 l lo).2.1 q).1.symm.trans l2)) hm (((hMT.2.2.1 l lo).1 74 (by decide)).symm.trans l3)
      rw [← (hMT.2.2.1 l lo).1 62 (by decide), l4, (hMT.2.2.1 j hj0).1 62 (by decide)] at this
      exact this
    have next : ∀ (N' : Mem) (t' : DB), SS X m z (L.drop (a + 1) ++ P) 100000 N' t' → AC tb t2 h' (JS tb k) t' → t' 88 0 = nI h' → v_X0_takeBack_126 (n + 2) (r + 1) (33, i) (nI a + 1) N' Q := fun N' t' w1 w2 w3 => by
      rw [nI_1]
      refine ih (a + 1) (by omega) N' t' w1 (hA'.tr hrun kM kW (kc 69 (by decide)) klo w2 kh1 hSJ) (fun y => ?_) (fun y => ?_)
      · obtain ⟨y1, y2, y3, y4⟩ := kn1 y
        obtain ⟨-, -, w5, -⟩ := w2
        rw [w5 83 (by decide) (by decide) h (by omega), w5 84 (by decide) (by decide) h (by omega), w5 85 (by decide) (by decide) h (by omega)]
        rw [y1] at w3
        exact ⟨w3, y2, y3, y4⟩
      · rw [kn2 y] at w3; exact w3
    have e6 : N.2.1 21 k 6 = gn t (t 65 k) := (hS.C k hkt).1
    refine ⟨lk33, fun w => ?_, fun _ => ⟨lk33, inb, fun e1 ee1 => ?_⟩⟩
    · rw [sz] at w; exact absurd w (nI_ge hal (by omega))
    rw [ca] at ee1
    have q1 : e1 = (21, k) := ee1.trans (el a k hk)
    subst q1
    refine ⟨rfl, rfl, fun e2 ee2 => ?_⟩
    have q2 : e2 = gn t (t 65 k) := ee2.trans e6
    rcases hS.1.grd hkt with h65 | ⟨g, sg, hg, h65, hs, hs9⟩
    · have z2 : e2 = (0, 0) := by rw [q2, h65]; rfl
      subst z2
      refine ⟨fun _ x3 g3 => ?_, fun y => absurd rfl y⟩
      subst g3
      obtain ⟨et, hSt⟩ := m2 (by rw [kf 65 k (by decide)]; exact h65)
      subst et
      exact next N t2 hSt (AC.of (TF.rf (C := [])) (by decide)) k88
    · rw [h65, gn_j (by omega) hs hs9] at q2 e6
      subst q2
      refine ⟨fun y => absurd (congrArg Prod.fst y) (by show ¬ 10 + sg = 0; omega), fun _ => ⟨lk33, inb, fun e4 ee4 => ?_⟩⟩
      rw [ca] at ee4
      have q4 : e4 = (21, k) := ee4.trans (el a k hk)
      subst q4
      refine ⟨rfl, rfl, fun e5 ee5 => ?_⟩
      have q5 : e5 = (10 + sg, g) := ee5.trans e6
      subst q5
      refine ⟨lk33, inb, fun e7 ee7 => ?_⟩
      rw [ca] at ee7
      have q7 : e7 = (21, k) := ee7.trans (el a k hk)
      subst q7
      refine ⟨rfl, ⟨by show 10 ≤ 10 + sg; omega, by show 10 + sg ≤ 19; omega⟩, ?_⟩
      have hm3 := m3 g sg (by rw [kf 65 k (by decide)]; exact h65) (by rw [cn_fr (kc 30 (by decide))]; exact hg) (by rw [kf 31 g (by decide)]; exact hs) hs9
      refine hm3.mono ?_
      rintro rr N' ⟨hr, t', w1, w2, w3⟩
      refine ⟨hr, fun x9 g9 => ?_⟩
      subst g9
      exact next N' t' w1 w2 w3
