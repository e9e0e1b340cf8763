set_option maxRecDepth 100000
/-- the class of a kind of object -/
def zname (k : Nat) : String := if kt k = 100 then "[I" else if kt k = 101 then "[Z" else if kt k = 102 then "[Ljava/lang/Object;" else if kt k = 103 then "[LWaterWorks$Guard;" else ((zCl[kt k]?).getD (RX0, TX0, 14)).1
/-- element type of an array kind -/
def zel (t : Nat) : FieldType := if t = 100 then .int else if t = 101 then .boolean else if t = 102 then .object "java/lang/Object" else .object "WaterWorks$Guard"
/-- an array kind's values -/
def zVA (lc : Nat → Nat → Nat) (M : Mem) (k i : Nat) (j : Nat) : Value := if kt k = 100 ∨ kt k = 101 then .int (M.1 k i j) else cv lc (.inr (M.2.1 k i j))
theorem zAt.arr {G : zG} {lc : Nat → Nat → Nat} {M : Mem} {k i : Nat} {H : Heap} (hk : 100 ≤ kt k ∧ kt k ≤ 103) : zAt G lc M k i H ↔ H[lc k i]? = some (arrV (G.2.1 (kt k - 100)) (M.2.2.1 k i - 1) (zVA lc M k i)) := by
  have hA : kt k = 100 ∨ kt k = 101 → zVA lc M k i = fun j => .int (M.1 k i j) := fun h => funext fun j => if_pos h
  have hB : ¬ (kt k = 100 ∨ kt k = 101) → zVA lc M k i = fun j => cv lc (.inr (M.2.1 k i j)) := fun h => funext fun j => if_neg h
  unfold zAt
  by_cases c0 : kt k = 100
  · rw [if_pos c0, hA (Or.inl c0), c0]
  by_cases c1 : kt k = 101
  · rw [if_neg c0, if_pos c1, hA (Or.inr c1), c1]
  rw [hB (by omega)]
  by_cases c2 : kt k = 102
  · rw [if_neg c0, if_neg c1, if_pos c2, c2]
  have c3 : kt k = 103 := by omega
  rw [if_neg c0, if_neg c1, if_neg c2, if_pos c3, c3]
theorem Kst.arr {G : zG} {s : State} (hK : Kst G s) {t : Nat} (ht : 100 ≤ t ∧ t ≤ 103) : ArrOfT s (G.2.1 (t - 100)) (zel t) ∧ va_RA s (G.2.1 (t - 100)) (zel t) := by
  have h : t = 100 ∨ t = 101 ∨ t = 102 ∨ t = 103 := by omega
  rcases h with h | h | h | h <;> subst h
  · exact hK.1.2 0 _ rfl
  · exact hK.1.2 1 _ rfl
  · exact hK.1.2 2 _ rfl
  · exact hK.1.2 3 _ rfl
/-- the cell of an object, and its class -/
theorem Rep.cls {G : zG} {lc : Nat → Nat → Nat} {M : Mem} {s : State} {H : Heap} (R : Rep G lc M s H) (hK : Kst G s) {k i : Nat} (hk : k ≠ 0) (hl : M.2.2.1 k i ≠ 0) : ∃ cell : Cell, H[lc k i]? = some cell ∧ cell.vm = .none ∧ s.vm.findClass (zname k) = some cell.cls := by
  have h := (R.1 k i hk hl).1
  by_cases ht : 100 ≤ kt k ∧ kt k ≤ 103
  · have h1 := (zAt.arr ht).mp h
    refine ⟨_, h1, rfl, ?_⟩
    have h2 := (hK.arr ht).2
    have h3 : kt k = 100 ∨ kt k = 101 ∨ kt k = 102 ∨ kt k = 103 := by omega
    unfold zname
    rcases h3 with h3 | h3 | h3 | h3
    · rw [if_pos h3]; rw [h3] at h2 ⊢; exact h2
    · rw [if_neg (by omega), if_pos h3]; rw [h3] at h2 ⊢; exact h2
    · rw [if_neg (by omega), if_neg (by omega), if_pos h3]; rw [h3] at h2 ⊢; obtain ⟨_, _, _, _, _, h2⟩ := h2; exact h2
    · rw [if_neg (by omega), if_neg (by omega), if_neg (by omega), if_pos h3]; rw [h3] at h2 ⊢; obtain ⟨_, _, _, _, _, h2⟩ := h2; exact h2
  · unfold zAt at h
    rw [if_neg (by omega), if_neg (by omega), if_neg (by omega), if_neg (by omega)] at h
    obtain ⟨r, hr, cell, q1, q2, q3, q4⟩ := h
    refine ⟨cell, q1, q3, ?_⟩
    unfold zname
    rw [if_neg (by omega), if_neg (by omega), if_neg (by omega), if_neg (by omega), hr, q2]
    exact (hK.1.1 _ _ hr).2.1
theorem Sok.mm {M M' : Mem} (h : M'.2.2 = M.2.2) {st : List AV} (hs : Sok M st) : Sok M' st := Sok.ext (Ext.mm (lc := fun _ _ => 0) h) hs
theorem arrz {cA : ClassId} {n : Nat} {f : Nat → Value} {x : Int32} (h : vp_in x n) : ¬ (x < 0 ∨ (arrV cA n f).slots.size ≤ x.toNatClampNeg) := by rw [arrV_size]; exact h
theorem arrr {cA : ClassId} {n : Nat} {f : Nat → Value} {x : Int32} (h : vp_in x n) : (arrV cA n f).slots[x.toNatClampNeg]? = some (f x.toNatClampNeg) := arrV_read _ _ (Nat.not_le.mp fun q => h (Or.inr q))
/-- an array's store, in the memory -/
theorem zast {G : zG} {lc : Nat → Nat → Nat} {M : Mem} {s : State} {H H1 : Heap} (R : Rep G lc M s H) {k i j : Nat} {v : AV} (hk : k ≠ 0) (hs : stk k = false) (ht : 100 ≤ kt k ∧ kt k ≤ 103) (hv : okv M v) (hz : zVA lc (sV M k i j v) k i j = cv lc v) (hl : M.2.2.1 k i ≠ 0) {n : Nat} (hn : M.2.2.1 k i = n + 1)
    (e1 : H1[lc k i]? = some ((arrV (G.2.1 (kt k - 100)) n (zVA lc M k i)).setSlot j (cv lc v))) (e2 : H1.size = H.size) (e3 : ∀ q, q ≠ lc k i → H1[q]? = H[q]?) : Rep G lc (sV M k i j v) s H1 := by
  have h0 := (zAt.arr ht).mp (R.1 k i hk hl).1
  refine R.upd hk hl hs (sV.mm ..) (fun k' i' f' h => sV.off h) (sV.ok hv fun g => R.2.2.1 k i g hk hl) e3 ?_ e2 ?_
  · rw [e1, h0, hn]
    simp [Cell.setSlot, arrV_size]
  · refine (zAt.arr ht).mpr ?_
    rw [e1, arrV_store, sV.mm, hn]
    congr 2
    funext q
    unfold updV
    split
    · rename_i e; rw [e, hz]
    · rename_i e
      unfold zVA
      cases v with
      | inl x => simp [sV, sI, e]
      | inr y => simp [sV, sR, e]
section ArrRows
variable {d : Nat} {mt : zMt} {pc : Nat} {lv : List (Nat × AV)} {st : List AV} {M : Mem} {Q : Option AV → Mem → Prop}
theorem a_iald {k i n : Nat} {x : Int32} (hk : k ≠ 0) (ht : kt k = 100) (hn : M.2.2.1 k i = n + 1) (hin : vp_in x n) (hd : decode mt.2.1 pc = .ok (.iaload, 1)) (kk : wp d mt (pc + 1) lv (.inl (M.1 k i x.toNatClampNeg) :: st) M Q) : wp d mt pc lv (.inl x :: .inr (k, i) :: st) M Q := by
  intro p l e s m args below meth c H locs G lc lc0 M0 ls C R E B L S
  have hl := live_of S.t.h hk
  have hK := C.2.2.2.2.2.2.2.1
  have h0 := (zAt.arr (by omega)).mp (R.1 k i hk hl).1
  rw [hn, Nat.add_sub_cancel] at h0
  have hA := (hK.arr (t := kt k) (by omega)).1
  rw [show zel (kt k) = .int by rw [ht]; rfl] at hA
  rw [List.map_cons, List.map_cons, cv_nn (show (k, i).1 ≠ 0 from hk)]
  refine W.iald C.1 C.2.1 h0 (hA _ _) (fun q => by cases q) (arrz hin) ((arrr hin).trans ?_) rfl rfl hd (kk p l e s m args below meth c H locs G lc lc0 M0 ls C R E B L (S.t.t.c trivial))
  unfold zVA
  rw [if_pos (Or.inl ht)]; rfl
theorem a_zald {k i n : Nat} {x : Int32} (hk : k ≠ 0) (ht : kt k = 101) (hn : M.2.2.1 k i = n + 1) (hin : vp_in x n) (hd : decode mt.2.1 pc = .ok (.baload, 1)) (kk : wp d mt (pc + 1) lv (.inl (M.1 k i x.toNatClampNeg) :: st) M Q) : wp d mt pc lv (.inl x :: .inr (k, i) :: st) M Q := by
  intro p l e s m args below meth c H locs G lc lc0 M0 ls C R E B L S
  have hl := live_of S.t.h hk
  have hK := C.2.2.2.2.2.2.2.1
  have h0 := (zAt.arr (by omega)).mp (R.1 k i hk hl).1
  rw [hn, Nat.add_sub_cancel] at h0
  have hA := (hK.arr (t := kt k) (by omega)).1
  rw [show zel (kt k) = .boolean by rw [ht]; rfl] at hA
  rw [List.map_cons, List.map_cons, cv_nn (show (k, i).1 ≠ 0 from hk)]
  refine W.zald C.1 C.2.1 h0 (hA _ _) (fun q => by cases q) (arrz hin) ((arrr hin).trans ?_) rfl rfl hd (kk p l e s m args below meth c H locs G lc lc0 M0 ls C R E B L (S.t.t.c trivial))
  unfold zVA
  rw [if_pos (Or.inr ht)]; rfl
theorem a_aald {k i n : Nat} {x : Int32} (hk : k ≠ 0) (ht : kt k = 102 ∨ kt k = 103) (hn : M.2.2.1 k i = n + 1) (hin : vp_in x n) (hd : decode mt.2.1 pc = .ok (.aaload, 1)) (kk : wp d mt (pc + 1) lv (.inr (M.2.1 k i x.toNatClampNeg) :: st) M Q) : wp d mt pc lv (.inl x :: .inr (k, i) :: st) M Q := by
  intro p l e s m args below meth c H locs G lc lc0 M0 ls C R E B L S
  have hl := live_of S.t.h hk
  have hK := C.2.2.2.2.2.2.2.1
  have h0 := (zAt.arr (by omega)).mp (R.1 k i hk hl).1
  rw [hn, Nat.add_sub_cancel] at h0
  have hA := (hK.arr (t := kt k) (by omega)).1
  rw [List.map_cons, List.map_cons, cv_nn (show (k, i).1 ≠ 0 from hk)]
  refine W.aald C.1 C.2.1 h0 (hA _ _) (by rcases ht with h | h <;> rw [h] <;> rfl) (fun q => by cases q) (arrz hin) ((arrr hin).trans ?_) rfl rfl hd (kk p l e s m args below meth c H locs G lc lc0 M0 ls C R E B L (S.t.t.c (R.2.2.1 k i _ hk hl)))
  unfold zVA
  rw [if_neg (by omega)]
theorem a_alen {k i n : Nat} (hk : k ≠ 0) (ht : 100 ≤ kt k ∧ kt k ≤ 103) (hn : M.2.2.1 k i = n + 1) (hd : decode mt.2.1 pc = .ok (.arraylength, 1)) (kk : wp d mt (pc + 1) lv (.inl (nI n) :: st) M Q) : wp d mt pc lv (.inr (k, i) :: st) M Q := by
  intro p l e s m args below meth c H locs G lc lc0 M0 ls C R E B L S
  have hl := live_of S.h hk
  have hK := C.2.2.2.2.2.2.2.1
  have h0 := (zAt.arr ht).mp (R.1 k i hk hl).1
  rw [hn, Nat.add_sub_cancel] at h0
  have hA := (hK.arr ht).1
  rw [List.map_cons, cv_nn (show (k, i).1 ≠ 0 from hk)]
  exact W.alen C.1 C.2.1 h0 (hA _ _) (by rw [arrV_size]; rfl) rfl rfl hd (kk p l e s m args below meth c H locs G lc lc0 M0 ls C R E B L (S.t.c trivial))
theorem a_iast {k i n : Nat} {x v : Int32} (hk : k ≠ 0) (hs : stk k = false) (ht : kt k = 100) (hn : M.2.2.1 k i = n + 1) (hin : vp_in x n) (hd : decode mt.2.1 pc = .ok (.iastore, 1)) (kk : wp d mt (pc + 1) lv st (sI M k i x.toNatClampNeg v) Q) : wp d mt pc lv (.inl v :: .inl x :: .inr (k, i) :: st) M Q := by
  intro p l e s m args below meth c H locs G lc lc0 M0 ls C R E B L S
  have hl := live_of S.t.t.h hk
  have hK := C.2.2.2.2.2.2.2.1
  have h0 := (zAt.arr (by omega)).mp (R.1 k i hk hl).1
  rw [hn, Nat.add_sub_cancel] at h0
  have hA := (hK.arr (t := kt k) (by omega)).1
  rw [show zel (kt k) = .int by rw [ht]; rfl] at hA
  rw [List.map_cons, List.map_cons, List.map_cons, cv_nn (show (k, i).1 ≠ 0 from hk)]
  refine W.iast C.1 C.2.1 h0 (hA _ _) (fun q => by cases q) (arrz hin) rfl rfl hd fun H1 e1 e2 e3 => ?_
  refine kk p l e s m args below meth c H1 _ G lc lc0 M0 ls C (zast (v := .inl v) R hk hs (by omega) trivial (by unfold zVA; rw [if_pos (Or.inl ht)]; simp [sV, sI, cv]) hl hn e1 e2 e3) (E.tr (Ext.mm rfl)) (fun q hq => ?_) (L.ext (Ext.mm rfl)) (Sok.mm rfl S.t.t.t)
  rcases List.mem_append.mp hq with h | h
  · exact B q h
  · rw [List.mem_singleton.mp h]; exact (R.1 k i hk hl).2 hs
theorem a_zast {k i n : Nat} {x v : Int32} (hk : k ≠ 0) (hs : stk k = false) (ht : kt k = 101) (hv : v = 0 ∨ v = 1) (hn : M.2.2.1 k i = n + 1) (hin : vp_in x n) (hd : decode mt.2.1 pc = .ok (.bastore, 1)) (kk : wp d mt (pc + 1) lv st (sI M k i x.toNatClampNeg v) Q) : wp d mt pc lv (.inl v :: .inl x :: .inr (k, i) :: st) M Q := by
  intro p l e s m args below meth c H locs G lc lc0 M0 ls C R E B L S
  have hl := live_of S.t.t.h hk
  have hK := C.2.2.2.2.2.2.2.1
  have h0 := (zAt.arr (by omega)).mp (R.1 k i hk hl).1
  rw [hn, Nat.add_sub_cancel] at h0
  have hA := (hK.arr (t := kt k) (by omega)).1
  rw [show zel (kt k) = .boolean by rw [ht]; rfl] at hA
  have hnv : narrow .boolean (.int v) = .int v := by rcases hv with h | h <;> rw [h] <;> rfl
  rw [List.map_cons, List.map_cons, List.map_cons, cv_nn (show (k, i).1 ≠ 0 from hk)]
  refine W.zast C.1 C.2.1 h0 (hA _ _) (fun q => by cases q) (arrz hin) rfl rfl hd fun H1 e1 e2 e3 => ?_
  rw [hnv] at e1
  refine kk p l e s m args below meth c H1 _ G lc lc0 M0 ls C (zast (v := .inl v) R hk hs (by omega) trivial (by unfold zVA; rw [if_pos (Or.inr ht)]; simp [sV, sI, cv]) hl hn e1 e2 e3) (E.tr (Ext.mm rfl)) (fun q hq => ?_) (L.ext (Ext.mm rfl)) (Sok.mm rfl S.t.t.t)
  rcases List.mem_append.mp hq with h | h
  · exact B q h
  · rw [List.mem_singleton.mp h]; exact (R.1 k i hk hl).2 hs
theorem a_aast {k i n : Nat} {E0 : String} {x : Int32} {v : Nat × Nat} (hk : k ≠ 0) (hs : stk k = false) (ht : kt k = 102 ∨ kt k = 103) (hE : zel (kt k) = .object E0) (hn : M.2.2.1 k i = n + 1) (hin : vp_in x n) (hc : v = (0, 0) ∨ Cond.castable (zname v.1) E0 ∈ lw_tbl) (hd : decode mt.2.1 pc = .ok (.aastore, 1)) (kk : wp d mt (pc + 1) lv st (sR M k i x.toNatClampNeg v) Q) : wp d mt pc lv (.inr v :: .inl x :: .inr (k, i) :: st) M Q := by
  intro p l e s m args below meth c H locs G lc lc0 M0 ls C R E B L S
  have hl := live_of S.t.t.h hk
  have hK := C.2.2.2.2.2.2.2.1
  have h0 := (zAt.arr (by omega)).mp (R.1 k i hk hl).1
  rw [hn, Nat.add_sub_cancel] at h0
  have hA := hK.arr (t := kt k) (by omega)
  rw [hE] at hA
  have hgo := fun (H1 : Heap) (e1 : H1[lc k i]? = some ((arrV (G.2.1 (kt k - 100)) n (zVA lc M k i)).setSlot x.toNatClampNeg (cv lc (.inr v)))) (e2 : H1.size = H.size) (e3 : ∀ q, q ≠ lc k i → H1[q]? = H[q]?) =>
    kk p l e s m args below meth c H1 (locs ++ [⟨lc k i, x.toNatClampNeg⟩]) G lc lc0 M0 ls C (zast (v := .inr v) R hk hs (by omega) S.h (by unfold zVA; rw [if_neg (by omega)]; simp [sV, sR]) hl hn e1 e2 e3) (E.tr (Ext.mm rfl)) (fun q hq => by
      rcases List.mem_append.mp hq with h | h
      · exact B q h
      · rw [List.mem_singleton.mp h]; exact (R.1 k i hk hl).2 hs) (L.ext (Ext.mm rfl)) (Sok.mm rfl S.t.t.t)
  rw [List.map_cons, List.map_cons, List.map_cons, cv_nn (show (k, i).1 ≠ 0 from hk)]
  have hnull : v = (0, 0) → W p l e (rmd d M0) s m args below meth c H locs (cB M0) (sB M0) (MQ below (Qct G lc0 M0 Q) args s (cB M0) (sB M0) (fun q => G.2.2 ≤ q)) (F0 m pc ls (cv lc (.inr v) :: cv lc (.inl x) :: .ref (lc (k, i).1 (k, i).2) :: st.map (cv lc))) := by
    intro h
    subst h
    exact va_WaastN (C := E0) C.1 C.2.1 h0 (hA.1 _ _) (fun h => by cases h) (arrz hin) rfl rfl hd hgo
  rcases hc with hc | hc
  · exact hnull hc
  · rcases S.h with h | ⟨h1, h2⟩
    · exact hnull h
    · have hcell := R.cls hK h1 h2
      obtain ⟨cell, g1, g2, g3⟩ := hcell
      obtain ⟨kA, comp, k1, k2, k3, -⟩ := hA.2
      obtain ⟨kE, hkE, -⟩ := Vm.findClass_spec k3
      obtain ⟨c0, t1, f1, f2, f3⟩ := Cond.castable_spec (va_Nw.use (A := args) rfl (hK.2.2.1 _ hc rfl))
      cases g3.symm.trans f1
      cases k3.symm.trans f2
      obtain ⟨kC, hkC, -⟩ := Vm.findClass_spec g3
      rw [cv_nn h1] at hgo ⊢
      have hlt : x.toNatClampNeg < n := Nat.not_le.mp fun q => hin (Or.inr q)
      exact W.aast C.1 C.2.1 h0 (fun q h => by cases h) (fun h => by cases h) k1 k2 rfl hkE ⟨fun q => hin (Or.inl q), by rw [arrV_size]; exact hlt⟩ g1 (fun q h => by rw [g2] at h; cases h) hkC f3 rfl rfl hd hgo
end ArrRows
