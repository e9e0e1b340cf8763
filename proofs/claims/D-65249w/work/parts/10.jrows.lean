set_option maxRecDepth 100000
theorem gk_castO {k : Nat} (h : gk k) : Cond.castable (zname k) "java/lang/Object" ∈ lw_tbl := by
  rcases gkc h with e | e | e | e | e | e | e | e | e | e <;> subst e
  · exact q2140
  · exact q2141
  · exact q2142
  · exact q2143
  · exact q2144
  · exact q2145
  · exact q2146
  · exact q2147
  · exact q2148
  · exact q2149
theorem gk_castG {k : Nat} (h : gk k) : Cond.castable (zname k) "WaterWorks$Guard" ∈ lw_tbl := by
  rcases gkc h with e | e | e | e | e | e | e | e | e | e <;> subst e
  · exact q2123
  · exact q2120
  · exact q2126
  · exact q2121
  · exact q2128
  · exact q2124
  · exact q2122
  · exact q2127
  · exact q2125
  · exact q2129
theorem ak_castO {k : Nat} (h : ak k) : Cond.castable (zname k) "java/lang/Object" ∈ lw_tbl := by
  rcases akc h with e | e | e | e <;> subst e
  · exact q2155
  · exact q2156
  · exact q2157
  · exact q2158
theorem ak_castA {k : Nat} (h : ak k) : Cond.castable (zname k) "WaterWorks$Alarm" ∈ lw_tbl := by
  rcases akc h with e | e | e | e <;> subst e
  · exact q2131
  · exact q2132
  · exact q2133
  · exact q2130
theorem ekk_cast {k : Nat} (h : ekk k = true) : Cond.castable (zname k) "java/lang/Object" ∈ lw_tbl := by
  rcases ekkc h with e | e | e | e | e | e | e | e | e | e | e | e
  · subst e; exact q2138
  · subst e; exact q2139
  · subst e; exact q2139
  · subst e; exact q2139
  · exact gk_castO e
  · subst e; exact q2150
  · subst e; exact q2151
  · subst e; exact q2152
  · subst e; exact q2153
  · subst e; exact q2154
  · exact ak_castO e
  · subst e; exact q2165
section JRows
variable {d : Nat} {mt : zMt} {pc : Nat} {lv : List (Nat × AV)} {st : List AV} {M : Mem} {Q : Option AV → Mem → Prop}
theorem a_ckg {x : Nat × Nat} {index : Nat} (hlink : Cond.classLink mt.1.cls index "WaterWorks$Guard" ∈ lw_all) (hk : gk x.1) (hd : decode mt.2.1 pc = .ok (.checkcast index, 3)) (kk : wp d mt (pc + 3) lv (.inr x :: st) M Q) : wp d mt pc lv (.inr x :: st) M Q :=
  a_cast hlink (Or.inr (Or.inr (gk_castG hk))) hd kk
theorem a_ckk {x : Nat × Nat} {index : Nat} (hlink : Cond.classLink mt.1.cls index "WaterWorks$Alarm" ∈ lw_all) (hk : ak x.1) (hd : decode mt.2.1 pc = .ok (.checkcast index, 3)) (kk : wp d mt (pc + 3) lv (.inr x :: st) M Q) : wp d mt pc lv (.inr x :: st) M Q :=
  a_cast hlink (Or.inr (Or.inr (ak_castA hk))) hd kk
theorem a_xaast {e v : Nat × Nat} {x : Int32} (h : arSM M e x v) (hd : decode mt.2.1 pc = .ok (.aastore, 1)) (kk : wp d mt (pc + 1) lv st (sR M e.1 e.2 x.toNatClampNeg v) Q) : wp d mt pc lv (.inr v :: .inl x :: .inr e :: st) M Q :=
  a_aast (k := e.1) (i := e.2) (E0 := "java/lang/Object") (kt_nz2 (Or.inl h.1)) h.2.1 (Or.inl h.1) (by rw [h.1]; rfl) (ln_of h.2.2.1) h.2.2.2.1 (h.2.2.2.2.imp id ekk_cast) hd kk
theorem a_xaastG {e v : Nat × Nat} {x : Int32} (h : arSN M e x v) (hs : stk e.1 = false) (hd : decode mt.2.1 pc = .ok (.aastore, 1)) (kk : wp d mt (pc + 1) lv st (sR M e.1 e.2 x.toNatClampNeg v) Q) : wp d mt pc lv (.inr v :: .inl x :: .inr e :: st) M Q :=
  a_aast (k := e.1) (i := e.2) (E0 := "WaterWorks$Guard") (kt_nz2 (Or.inr h.1)) hs (Or.inr h.1) (by rw [h.1]; rfl) (ln_of h.2.1) h.2.2.1 (Or.inr (gk_castG h.2.2.2)) hd kk
theorem zVA_cpy {lc : Nat → Nat → Nat} {i0 i1 a b n : Nat} : zVA lc (sC M i0 i1 a b n) 40 i1 = fun j => va_cpy (zVA lc M 40 i0) (zVA lc M 40 i1) a b n j := by
  funext j
  have h : ¬ (kt 40 = 100 ∨ kt 40 = 101) := by decide
  unfold va_cpy zVA
  rw [if_neg h, if_neg h, if_neg h]
  have e : (sC M i0 i1 a b n).2.1 40 i1 j = if b ≤ j ∧ j < b + n then M.2.1 40 i0 (a + (j - b)) else M.2.1 40 i1 j := if_pos ⟨rfl, rfl⟩
  rw [e]
  split <;> rfl
theorem zVA_40 {lc : Nat → Nat → Nat} {i j : Nat} : zVA lc M 40 i j = cv lc (.inr (M.2.1 40 i j)) := by
  unfold zVA
  rw [if_neg (by decide)]
set_option maxHeartbeats 4000000 in
theorem a_acpy {e0 e1 : Nat × Nat} {index : Nat} {sp dp n : Int32} (h : arC M e0 sp e1 dp n) (hlink : Cond.methodLink mt.1.cls index arraycopyName ∈ lw_all) (hst : st.length ≤ 8) (hd : decode mt.2.1 pc = .ok (.invokestatic index, 3))
    (kk : wp (d + 1) mt (pc + 3) lv st (sC M e0.2 e1.2 sp.toNatClampNeg dp.toNatClampNeg n.toNatClampNeg) Q) : wp (d + 1) mt pc lv (.inl n :: .inl dp :: .inr e1 :: .inl sp :: .inr e0 :: st) M Q := by
  obtain ⟨k0, i0⟩ := e0
  obtain ⟨k1, i1⟩ := e1
  obtain ⟨rfl, rfl, hl0, hl1, h1, h2, h3, h4, h5, hel⟩ := h
  dsimp only at hl0 hl1 h4 h5 hel kk
  have nn : ∀ z : Int32, ¬ z < 0 → z.toInt = (z.toNatClampNeg : Int) := by
    intro z hz
    have hz0 : (0 : Int) ≤ z.toInt := by
      have := Int32.not_lt.mp hz
      simpa using Int32.le_iff_toInt_le.mp this
    show z.toInt = ((z.toInt.toNat : Nat) : Int)
    omega
  intro p l e s m args below meth c H locs G lc lc0 M0 ls C R E B L S
  have hK := C.2.2.2.2.2.2.2.1
  have hts : ∀ w ∈ lw_all, w.before args s = true := fun w hw => hK.2.1 w hw _
  have hA := hK.arr (t := 102) (by decide)
  have hc0 := (zAt.arr (by decide)).mp (R.1 40 i0 (by decide) hl0).1
  have hc1 := (zAt.arr (by decide)).mp (R.1 40 i1 (by decide) hl1).1
  obtain ⟨-, kc0, hk0, cm0, hkk0⟩ := hA.1 (M.2.2.1 40 i0 - 1) (zVA lc M 40 i0)
  obtain ⟨-, kc1, hk1, cm1, hkk1⟩ := hA.1 (M.2.2.1 40 i1 - 1) (zVA lc M 40 i1)
  simp only [List.map_cons]
  rw [cv_nn (k := (40, i0)) (Nat.succ_ne_zero 39), cv_nn (k := (40, i1)) (Nat.succ_ne_zero 39)]
  intro T hT X
  obtain ⟨vm', X', step⟩ := X.arraycopy C.1 C.2.2.2.2.2.1 (hts _ hlink) (hts _ q294) (hts _ q293) (hts _ q78) (src := lc 40 i0) (dst := lc 40 i1) (cs := arrV (G.2.1 2) (M.2.2.1 40 i0 - 1) (zVA lc M 40 i0)) (cd := arrV (G.2.1 2) (M.2.2.1 40 i1 - 1) (zVA lc M 40 i1)) (srcPos := sp) (destPos := dp) (n := n) (by rw [hT]; exact hc0) (by rw [hT]; exact hc1)
    (fun _ h => by cases h) (fun _ h => by cases h) (fun h => by cases h) (fun h => by cases h) hk0 hk1 hkk0 hkk1 rfl h1 h2 h3
    (by rw [nn sp h1, nn n h3, arrV_size]; omega)
    (by rw [nn dp h2, nn n h3, arrV_size]; omega)
    (fun vm₁ hal i hi => by
      have e : (arrV (G.2.1 2) (M.2.2.1 40 i0 - 1) (zVA lc M 40 i0)).slots.getD (sp.toNatClampNeg + i) .null = cv lc (.inr (M.2.1 40 i0 (sp.toNatClampNeg + i))) := by
        rw [Array.getD_eq_getD_getElem?, arrV_read _ _ (by omega), zVA_40]
        rfl
      rw [e]
      rcases hel i hi with hz | hz
      · rw [hz]; exact ⟨rfl, trivial⟩
      · have hnz := ekk_nz hz
        have hok := R.2.2.1 40 i0 (sp.toNatClampNeg + i) (by decide) hl0
        have hlive : M.2.2.1 (M.2.1 40 i0 (sp.toNatClampNeg + i)).1 (M.2.1 40 i0 (sp.toNatClampNeg + i)).2 ≠ 0 := by
          rcases hok with q | q
          · exact absurd (by rw [q]) hnz
          · exact q.2
        rw [cv_nn hnz]
        obtain ⟨cellV, g1, g2, g3⟩ := R.cls hK hnz hlive
        obtain ⟨kA, comp, r1, r2, r3, -⟩ := hA.2
        cases hk1.symm.trans r1
        cases hkk1.symm.trans r2
        obtain ⟨kC, hkC, -⟩ := Vm.findClass_spec g3
        obtain ⟨kE, hkE, -⟩ := Vm.findClass_spec r3
        obtain ⟨kC', hkC', -⟩ := hal.2.2 _ _ hkC
        obtain ⟨kE', hkE', -⟩ := hal.2.2 _ _ hkE
        obtain ⟨c0, t1, f1, f2, f3⟩ := Cond.castable_spec (va_Nw.use (A := args) rfl (hK.2.2.1 _ (ekk_cast hz) rfl))
        cases g3.symm.trans f1
        cases r3.symm.trans f2
        refine ⟨rfl, cellV, (show T.heap[lc _ _]? = some cellV by rw [hT]; exact g1), (fun q h => by rw [g2] at h; cases h), ⟨kC', hkC'⟩, ?_, ?_⟩
        · exact ⟨kE', hkE'⟩
        · show vm₁.assignable _ _ = true
          rw [hal.assignable]
          exact f3)
    (g := F0 m pc ls (.int n :: .int dp :: .ref (lc 40 i1) :: .int sp :: .ref (lc 40 i0) :: st.map (cv lc))) rfl (by rw [C.2.2.2.2.1]; exact L.1.1) (rest := st.map (cv lc)) rfl (by rw [C.2.1]; exact hd) (by show 1 ≤ d + 1; omega) (by
      have hs := cv_sum lc st
      have hw : nativeFrameWords "java/lang/System" "arraycopy" 5 = 7 := by decide
      show 2 * 0 + _ + _ ≤ 41 * (d + 1)
      rw [hw]
      omega)
  have e1 : copied (arrV (G.2.1 2) (M.2.2.1 40 i0 - 1) (zVA lc M 40 i0)) (arrV (G.2.1 2) (M.2.2.1 40 i1 - 1) (zVA lc M 40 i1)) sp dp n = arrV (G.2.1 2) (M.2.2.1 40 i1 - 1) (zVA lc (sC M i0 i1 sp.toNatClampNeg dp.toNatClampNeg n.toNatClampNeg) 40 i1) := by
    rw [zVA_cpy]
    exact va_copied (fun z => z) _ _ (zVA lc M 40 i0) (zVA lc M 40 i1) h4
  rw [e1] at X' step
  have hlt : lc 40 i1 < H.size := (Array.getElem?_eq_some_iff.mp hc1).1
  generalize hM1 : sC M i0 i1 sp.toNatClampNeg dp.toNatClampNeg n.toNatClampNeg = M1 at X' step kk
  have hm2 : M1.2.2 = M.2.2 := by rw [← hM1]; rfl
  have hheap : ((T.setVm vm').setCell (lc 40 i1) (arrV (G.2.1 2) (M.2.2.1 40 i1 - 1) (zVA lc M1 40 i1))).heap = H.setIfInBounds (lc 40 i1) (arrV (G.2.1 2) (M.2.2.1 40 i1 - 1) (zVA lc M1 40 i1)) := by rw [← hT]; rfl
  have hR : Rep G lc M1 s (H.setIfInBounds (lc 40 i1) (arrV (G.2.1 2) (M.2.2.1 40 i1 - 1) (zVA lc M1 40 i1))) := by
    refine R.upd (k := 40) (i := i1) (by decide) hl1 rfl hm2 ?_ ?_ ?_ ?_ ?_ ?_
    · intro k' i' f hne
      rw [← hM1]
      exact ⟨rfl, if_neg hne⟩
    · intro f
      rw [← hM1]
      show okk M (if _ then _ else _)
      rw [if_pos ⟨rfl, rfl⟩]
      split
      · exact R.2.2.1 40 i0 _ (by decide) hl0
      · exact R.2.2.1 40 i1 _ (by decide) hl1
    · intro q hq
      simp [Array.getElem?_setIfInBounds, Ne.symm hq]
    · rw [hc1]
      simp [Array.getElem?_setIfInBounds, hlt, arrV_size]
    · simp
    · refine (zAt.arr (by decide)).mpr ?_
      rw [hm2]
      simp [Array.getElem?_setIfInBounds, hlt]
      rfl
  obtain ⟨t, a1, b1⟩ := kk p l e s m args below meth c _ _ G lc lc0 M0 ls C hR (E.tr (Ext.mm hm2)) (fun q hq => by
      rcases List.mem_append.mp hq with h | h
      · exact B q h
      · obtain ⟨z, -, hz⟩ := List.mem_map.mp h
        rw [← hz]
        exact (R.1 40 i1 (by decide) hl1).2 rfl) (L.ext (Ext.mm hm2)) (Sok.mm hm2 S.t.t.t.t.t) _ hheap X'
  exact ⟨t, step t a1, b1⟩
end JRows

