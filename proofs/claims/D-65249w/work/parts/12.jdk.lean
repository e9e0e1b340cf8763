set_option maxRecDepth 100000
abbrev mJ0_init : zMt := (yJ0_init, cJ0_init, 1, none)
theorem zmh_J0_init : zmh yJ0_init 0 := ⟨⟨by decide +kernel, by decide +kernel⟩, by decide +kernel⟩
abbrev mJ1_init : zMt := (yJ1_init, cJ1_init, 1, none)
theorem zmh_J1_init : zmh yJ1_init 0 := ⟨⟨by decide +kernel, by decide +kernel⟩, by decide +kernel⟩
abbrev mJ2_init : zMt := (yJ2_init, cJ2_init, 1, none)
theorem zmh_J2_init : zmh yJ2_init 0 := ⟨⟨by decide +kernel, by decide +kernel⟩, by decide +kernel⟩
abbrev mJ2_size : zMt := (yJ2_size, cJ2_size, 1, some .int)
theorem zmh_J2_size : zmh yJ2_size 0 := ⟨⟨by decide +kernel, by decide +kernel⟩, by decide +kernel⟩
abbrev mJ5_copyOf_2 : zMt := (yJ5_copyOf_2, cJ5_copyOf_2, 4, some (.array (.object "java/lang/Object")))
theorem zmh_J5_copyOf_2 : zmh yJ5_copyOf_2 3 := ⟨⟨by decide +kernel, by decide +kernel⟩, by decide +kernel⟩
abbrev mJ3_newLength : zMt := (yJ3_newLength, cJ3_newLength, 4, some .int)
theorem zmh_J3_newLength : zmh yJ3_newLength 3 := ⟨⟨by decide +kernel, by decide +kernel⟩, by decide +kernel⟩
abbrev mJ2_grow_2 : zMt := (yJ2_grow_2, cJ2_grow_2, 4, some (.array (.object "java/lang/Object")))
theorem zmh_J2_grow_2 : zmh yJ2_grow_2 1 := ⟨⟨by decide +kernel, by decide +kernel⟩, by decide +kernel⟩
abbrev mJ2_grow : zMt := (yJ2_grow, cJ2_grow, 1, some (.array (.object "java/lang/Object")))
theorem zmh_J2_grow : zmh yJ2_grow 0 := ⟨⟨by decide +kernel, by decide +kernel⟩, by decide +kernel⟩
abbrev mJ2_add_2 : zMt := (yJ2_add_2, cJ2_add_2, 4, none)
theorem zmh_J2_add_2 : zmh yJ2_add_2 3 := ⟨⟨by decide +kernel, by decide +kernel⟩, by decide +kernel⟩
abbrev mJ2_add : zMt := (yJ2_add, cJ2_add, 2, some .boolean)
theorem zmh_J2_add : zmh yJ2_add 1 := ⟨⟨by decide +kernel, by decide +kernel⟩, by decide +kernel⟩
abbrev mJ2_elementData : zMt := (yJ2_elementData, cJ2_elementData, 2, some (.object "java/lang/Object"))
theorem zmh_J2_elementData : zmh yJ2_elementData 1 := ⟨⟨by decide +kernel, by decide +kernel⟩, by decide +kernel⟩
abbrev mJ7_checkIndex : zMt := (yJ7_checkIndex, cJ7_checkIndex, 3, some .int)
theorem zmh_J7_checkIndex : zmh yJ7_checkIndex 3 := ⟨⟨by decide +kernel, by decide +kernel⟩, by decide +kernel⟩
abbrev mJ6_checkIndex : zMt := (yJ6_checkIndex, cJ6_checkIndex, 2, some .int)
theorem zmh_J6_checkIndex : zmh yJ6_checkIndex 2 := ⟨⟨by decide +kernel, by decide +kernel⟩, by decide +kernel⟩
abbrev mJ2_get : zMt := (yJ2_get, cJ2_get, 2, some (.object "java/lang/Object"))
theorem zmh_J2_get : zmh yJ2_get 1 := ⟨⟨by decide +kernel, by decide +kernel⟩, by decide +kernel⟩
abbrev mJ2_clear : zMt := (yJ2_clear, cJ2_clear, 4, none)
theorem zmh_J2_clear : zmh yJ2_clear 0 := ⟨⟨by decide +kernel, by decide +kernel⟩, by decide +kernel⟩
abbrev mJ2_fastRemove : zMt := (yJ2_fastRemove, cJ2_fastRemove, 4, none)
theorem zmh_J2_fastRemove : zmh yJ2_fastRemove 2 := ⟨⟨by decide +kernel, by decide +kernel⟩, by decide +kernel⟩
abbrev mJ2_remove : zMt := (yJ2_remove, cJ2_remove, 5, some .boolean)
theorem zmh_J2_remove : zmh yJ2_remove 1 := ⟨⟨by decide +kernel, by decide +kernel⟩, by decide +kernel⟩
abbrev mJ2_remove_2 : zMt := (yJ2_remove_2, cJ2_remove_2, 4, some (.object "java/lang/Object"))
theorem zmh_J2_remove_2 : zmh yJ2_remove_2 1 := ⟨⟨by decide +kernel, by decide +kernel⟩, by decide +kernel⟩
theorem zmh_J8_equals : zmh yJ8_equals 1 := ⟨⟨by decide +kernel, by decide +kernel⟩, by decide +kernel⟩
abbrev mJ5_copyOf : zMt := (yJ5_copyOf, cJ5_copyOf, 2, some (.array (.object "java/lang/Object")))
theorem zmh_J5_copyOf : zmh yJ5_copyOf 2 := ⟨⟨by decide +kernel, by decide +kernel⟩, by decide +kernel⟩
section MathRows
variable {d : Nat} {mt : zMt} {pc : Nat} {lv : List (Nat × AV)} {st : List AV} {M : Mem} {Q : Option AV → Mem → Prop}
theorem a_mmax {index : Nat} {x y : Int32} (hlink : Cond.methodLink mt.1.cls index yJ4_max ∈ lw_all) (hst : st.length ≤ 8) (hd : decode mt.2.1 pc = .ok (.invokestatic index, 3)) (kk : wp (d + 1) mt (pc + 3) lv (.inl (if x < y then y else x) :: st) M Q) : wp (d + 1) mt pc lv (.inl y :: .inl x :: st) M Q := by
  intro p l e s m args below meth c H locs G lc lc0 M0 ls C R E B L S
  have hK := C.2.2.2.2.2.2.2.1
  have hts : ∀ w ∈ lw_all, w.before args s = true := fun w hw => hK.2.1 w hw _
  have hs := cv_sum lc st
  simp only [List.map_cons]
  exact va_mmax C.1 C.2.1 (by rw [C.2.2.2.2.1]; exact L.1.1.symm) C.2.2.2.2.2.1 (hts _ hlink) (hts _ q246) (hts _ q76) (hts _ q247) (by show 1 ≤ d + 1; omega) (by show _ ≤ 41 * (d + 1); rw [hs]; omega) (Nat.le_refl _) (Nat.le_refl _) hd (kk p l e s m args below meth c H locs G lc lc0 M0 ls C R E B L (S.t.t.c trivial))
theorem a_mmin {index : Nat} {x y : Int32} (hlink : Cond.methodLink mt.1.cls index yJ4_min ∈ lw_all) (hst : st.length ≤ 8) (hd : decode mt.2.1 pc = .ok (.invokestatic index, 3)) (kk : wp (d + 1) mt (pc + 3) lv (.inl (if y < x then y else x) :: st) M Q) : wp (d + 1) mt pc lv (.inl y :: .inl x :: st) M Q := by
  intro p l e s m args below meth c H locs G lc lc0 M0 ls C R E B L S
  have hK := C.2.2.2.2.2.2.2.1
  have hts : ∀ w ∈ lw_all, w.before args s = true := fun w hw => hK.2.1 w hw _
  have hs := cv_sum lc st
  simp only [List.map_cons]
  exact va_mmin C.1 C.2.1 (by rw [C.2.2.2.2.1]; exact L.1.1.symm) C.2.2.2.2.2.1 (hts _ hlink) (hts _ q290) (hts _ q76) (hts _ q291) (by show 1 ≤ d + 1; omega) (by show _ ≤ 41 * (d + 1); rw [hs]; omega) (Nat.le_refl _) (Nat.le_refl _) hd (kk p l e s m args below meth c H locs G lc lc0 M0 ls C R E B L (S.t.t.c trivial))
theorem a_mabs {index : Nat} {x : Int32} (hlink : Cond.methodLink mt.1.cls index yJ4_abs ∈ lw_all) (hst : st.length ≤ 8) (hd : decode mt.2.1 pc = .ok (.invokestatic index, 3)) (kk : wp (d + 1) mt (pc + 3) lv (.inl (if 0 ≤ x then x else 0 - x) :: st) M Q) : wp (d + 1) mt pc lv (.inl x :: st) M Q := by
  intro p l e s m args below meth c H locs G lc lc0 M0 ls C R E B L S
  have hK := C.2.2.2.2.2.2.2.1
  have hts : ∀ w ∈ lw_all, w.before args s = true := fun w hw => hK.2.1 w hw _
  have hs := cv_sum lc st
  simp only [List.map_cons]
  exact va_mabs C.1 C.2.1 (by rw [C.2.2.2.2.1]; exact L.1.1.symm) C.2.2.2.2.2.1 (hts _ hlink) (hts _ q1161) (hts _ q76) (hts _ q1162) (by show 1 ≤ d + 1; omega) (by show _ ≤ 41 * (d + 1); rw [hs]; omega) (Nat.le_refl _) (Nat.le_refl _) hd (kk p l e s m args below meth c H locs G lc lc0 M0 ls C R E B L (S.t.c trivial))
theorem eqSteps {p : Program} {e : Env} {below : List Frame} {V : State} {mk : MethodId} {cY c : Code} {methY : Method} {g : JFrame} {ig : Instr} {rx ry : Option Nat} {r : List Frame} (hexec : p.tables.exec = Jvm.exec) (hA : At V mk cY below) (hbY : cY.code = cJ8_equals)
    (hrY : methY.sig.returnType = some .boolean) (hkY : methY.locks = false)
    (hfr : V.frames = .java (entryFrame mk #[va_rf rx, va_rf ry] 2) :: .java g :: r) (hcg : V.code? g.method = some c) (hdg : decode c.code g.pc = .ok (ig, 3)) (hmV : V.vm.method? mk = some methY) :
    Steps p.tables e below (V.setTop (entryFrame mk #[va_rf rx, va_rf ry] 2)) ((V.setFrames (.java g :: r)).setTop { g with pc := g.pc + 3, stack := [.int (if rx = ry then 1 else 0)] ++ g.stack }) := by
  have hl := fun (f : JFrame) (acts : List Action) (v : Option Value) (h1 : f.method = mk) (h2 : f.locked = none) (h3 : f.entered = []) => doReturn_leave (e := e) (f := f) (v := v) acts hfr (by rw [h1]; exact hmV) hkY h2 h3 hcg hdg
  have e0 : entryFrame mk #[va_rf rx, va_rf ry] 2 = F0 mk 0 #[.val (va_rf rx), .val (va_rf ry)] [] := by
    cases rx <;> cases ry <;> rfl
  rw [e0]
  have s0 : ∀ target, Steps p.tables e below (V.setTop (F0 mk 1 #[.val (va_rf rx), .val (va_rf ry)] [va_rf rx])) target → Steps p.tables e below (V.setTop (F0 mk 0 #[.val (va_rf rx), .val (va_rf ry)] [])) target := by
    intro target a
    cases rx <;> (jvm_step hA [hA.top, hexec, hbY, dJ8_equals_0, va_rf, Value.isRef]; exact a)
  have s1 : ∀ target, Steps p.tables e below (V.setTop (F0 mk 2 #[.val (va_rf rx), .val (va_rf ry)] [va_rf ry, va_rf rx])) target → Steps p.tables e below (V.setTop (F0 mk 1 #[.val (va_rf rx), .val (va_rf ry)] [va_rf rx])) target := by
    intro target a
    cases ry <;> (jvm_step hA [hA.top, hexec, hbY, dJ8_equals_1, va_rf, Value.isRef]; exact a)
  have s2 : rx = ry → ∀ target, Steps p.tables e below (V.setTop (F0 mk 5 #[.val (va_rf rx), .val (va_rf ry)] [])) target → Steps p.tables e below (V.setTop (F0 mk 2 #[.val (va_rf rx), .val (va_rf ry)] [va_rf ry, va_rf rx])) target := by
    intro hP target a
    subst hP
    cases rx <;> (jvm_step hA [hA.top, hexec, hbY, dJ8_equals_2, va_rf, Value.asRef?, Op.if_acmp.holds]; exact a)
  have s2n : ¬ rx = ry → ∀ target, Steps p.tables e below (V.setTop (F0 mk 9 #[.val (va_rf rx), .val (va_rf ry)] [])) target → Steps p.tables e below (V.setTop (F0 mk 2 #[.val (va_rf rx), .val (va_rf ry)] [va_rf ry, va_rf rx])) target := by
    intro hP target a
    cases rx with
    | none => cases ry with
      | none => exact absurd rfl hP
      | some y => jvm_step hA [hA.top, hexec, hbY, dJ8_equals_2, va_rf, Value.asRef?, Op.if_acmp.holds]; exact a
    | some x => cases ry with
      | none => jvm_step hA [hA.top, hexec, hbY, dJ8_equals_2, va_rf, Value.asRef?, Op.if_acmp.holds]; exact a
      | some y =>
        have hxy : ¬ x = y := fun q => hP (by rw [q])
        jvm_step hA [hA.top, hexec, hbY, dJ8_equals_2, va_rf, Value.asRef?, Op.if_acmp.holds, hxy]; exact a
  have s5 : ∀ target, Steps p.tables e below (V.setTop (F0 mk 6 #[.val (va_rf rx), .val (va_rf ry)] [.int 1])) target → Steps p.tables e below (V.setTop (F0 mk 5 #[.val (va_rf rx), .val (va_rf ry)] [])) target := by
    intro target a
    jvm_step hA [hA.top, hexec, hbY, dJ8_equals_5]; exact a
  have s6 : ∀ target, Steps p.tables e below (V.setTop (F0 mk 10 #[.val (va_rf rx), .val (va_rf ry)] [.int 1])) target → Steps p.tables e below (V.setTop (F0 mk 6 #[.val (va_rf rx), .val (va_rf ry)] [.int 1])) target := by
    intro target a
    jvm_step hA [hA.top, hexec, hbY, dJ8_equals_6]; exact a
  have s9 : ∀ target, Steps p.tables e below (V.setTop (F0 mk 10 #[.val (va_rf rx), .val (va_rf ry)] [.int 0])) target → Steps p.tables e below (V.setTop (F0 mk 9 #[.val (va_rf rx), .val (va_rf ry)] [])) target := by
    intro target a
    jvm_step hA [hA.top, hexec, hbY, dJ8_equals_9]; exact a
  have s10 : ∀ v : Int32, (v = 0 ∨ v = 1) → Steps p.tables e below (V.setTop (F0 mk 10 #[.val (va_rf rx), .val (va_rf ry)] [.int v])) ((V.setFrames (.java g :: r)).setTop { g with pc := g.pc + 3, stack := [.int v] ++ g.stack }) := by
    intro v hv
    have hn : narrow .boolean (.int v) = .int v := by rcases hv with h | h <;> rw [h] <;> rfl
    jvm_step hA [hA.top, hexec, hbY, dJ8_equals_10, hmV, hrY, hn]
    (try refine ⟨rfl, ?_⟩); (try refine ⟨rfl, ?_⟩)
    first | (intro acts; rw [hl _ acts _ rfl rfl rfl]) | rw [hl _ _ _ rfl rfl rfl]
    exact Steps.refl _
  apply s0; apply s1
  by_cases hP : rx = ry
  · apply s2 hP; apply s5; apply s6
    rw [if_pos hP]; exact s10 1 (Or.inr rfl)
  · apply s2n hP; apply s9
    rw [if_neg hP]; exact s10 0 (Or.inl rfl)
/-- Object.equals: no entry of the machine's stands for it; its class' state is not said, so by steps -/
theorem eqBack {l : Launch} {R : Room} {p : Program} {e : Env} {below : List Frame} {s : State} {sargs : Array Value} (hexec : p.tables.exec = Jvm.exec) (hf : 1 ≤ R.frames) (hlo : 21 ≤ R.locals) (hc : ∀ (a : Array Value) (U : State), s.WarmedH U.vm → (Cond.code yJ8_equals cJ8_equals 2 (some .boolean)).before a U = true) :
    Back l R p e below s sargs yJ8_equals 3 8 (fun _ a => ∃ rx ry : Option Nat, a = #[va_rf rx, va_rf ry]) (fun A a v B => B = A ∧ ∃ rx ry : Option Nat, a = #[va_rf rx, va_rf ry] ∧ v = some (.int (if rx = ry then 1 else 0))) := by
  intro m meth c A g ig mk a X hg hsize hdg hW hn ha
  obtain ⟨rx, ry, rfl⟩ := ha
  obtain ⟨U, Ls, c0, s0⟩ := A
  dsimp only [Pt.U, Pt.locs, Pt.cells, Pt.slots] at X hn ⊢
  obtain ⟨methY, cY, hmY, hcY, hbY, hlY, hrY, hkY, -, -⟩ := Cond.code_spec hn (hc #[] _ X.warmed)
  refine ⟨some (.int (if rx = ry then 1 else 0)), ⟨U, Ls, c0, s0⟩, X, ⟨rfl, rx, ry, rfl, rfl⟩, ?_⟩
  have h : At U g.method c below := by rw [hg]; exact X.here
  have hroom := X.notFull (g := g) hsize (vars := cY.maxLocals) hf (by rw [hlY]; omega)
  rw [doInvoke_enter h.top [] hmY hcY hkY hroom]
  have hfr := frames_entered (g := g) h.top (.java (entryFrame mk #[va_rf rx, va_rf ry] cY.maxLocals))
  have hA := h.enter #[va_rf rx, va_rf ry] hmY hcY (State.plainMethod.of_named (x := yJ8_equals) (by decide +kernel) hn hmY)
  rw [hlY] at hA hfr ⊢
  have hcg : ((U.setTop g).pushFrame (.java (entryFrame mk #[va_rf rx, va_rf ry] 2))).code? g.method = some c := by
    have := h.code
    rw [State.code?_eq] at this ⊢
    simpa [State.pushFrame, State.setFrames] using this
  have hmV : ((U.setTop g).pushFrame (.java (entryFrame mk #[va_rf rx, va_rf ry] 2))).vm.method? mk = some methY := by simpa [State.pushFrame, State.setFrames] using hmY
  have hback := setFrames_entered (g := g) h.top (.java (entryFrame mk #[va_rf rx, va_rf ry] 2))
  generalize (U.setTop g).pushFrame (.java (entryFrame mk #[va_rf rx, va_rf ry] 2)) = V at hA hfr hcg hmV hback ⊢
  have hs := eqSteps (e := e) (rx := rx) (ry := ry) hexec hA hbY hrY hkY hfr hcg hdg hmV
  rw [hback, State.setTop_setTop] at hs
  exact hs
theorem va_rf_inj {a b : Option Nat} (h : va_rf a = va_rf b) : a = b := by
  cases a <;> cases b <;> simp [va_rf] at h ⊢
  exact h
theorem a_eqO {x y : Nat × Nat} {index : Nat} (hk : kt x.1 = 16) (hlink : Cond.methodLink mt.1.cls index yJ8_equals ∈ lw_all) (hst : st.length ≤ 8) (hd : decode mt.2.1 pc = .ok (.invokevirtual index, 3)) (ky : x = y → wp (d + 1) mt (pc + 3) lv (.inl 1 :: st) M Q) (kn : ¬ x = y → wp (d + 1) mt (pc + 3) lv (.inl 0 :: st) M Q) : wp (d + 1) mt pc lv (.inr y :: .inr x :: st) M Q := by
  intro p l e s m args below meth c H locs G lc lc0 M0 ls C R E B L S
  have hK := C.2.2.2.2.2.2.2.1
  have hts : ∀ w ∈ lw_all, w.before args s = true := fun w hw => hK.2.1 w hw _
  have hnz : x.1 ≠ 0 := kt_nz (r := (RX16, TX16, 17)) rfl hk
  have hx : okk M x := S.t.h
  have hy : okk M y := S.h
  have hl : M.2.2.1 x.1 x.2 ≠ 0 := by
    rcases hx with q | q
    · exact absurd (by rw [q]) hnz
    · exact q.2
  obtain ⟨cell, g1, g2, g3⟩ := R.cls hK hnz hl
  have hsum := cv_sum lc st
  simp only [List.map_cons]
  rw [cv_nn hnz]
  intro T hT X
  obtain ⟨v, vm₁, Bp, hW₁, X', ⟨hB, rx, ry, ha, hv⟩, st'⟩ := va_callVU X C.1 (C := zname x.1) (owner := "java/lang/Object") (x := yJ8_equals) (y := yJ8_equals) (bytes := cJ8_equals) (maxL := 2) (ret := some .boolean) C.2.2.2.2.2.1 (hts _ hlink) (hts _ q985) (va_Decl.abs (hK.2.2.1 _ q982 rfl)) ⟨by decide, by decide⟩ (by rw [zname_of (r := (RX16, TX16, 17)) rfl hk]; exact hts _ q989) (hts _ q984) (hts _ q1009)
    (eqBack C.1 (by show 1 ≤ d + 1; omega) (by show 21 ≤ 41 * (d + 1); omega) (fun a U hW => word_at hW (lw_self _ q1009).2 (hK.2.1 _ q1009 #[]))) (by rw [hT]; exact g1) (by rw [g2]; rfl) g3 (g := F0 m pc ls (cv lc (.inr y) :: .ref (lc x.1 x.2) :: st.map (cv lc))) rfl (by rw [C.2.2.2.2.1]; exact L.1.1) (argsL := [cv lc (.inr y)]) (rest := st.map (cv lc)) (fun sig h => zmh_J8_equals.len sig h) rfl (lv_room (by rw [hsum]; exact hst)) (by rw [C.2.1]; exact hd)
    (fun vm₁ hW₁ => ⟨some (lc x.1 x.2), _, by rw [zrf y]; rfl⟩)
  subst hB
  dsimp only [Pt.U, Pt.locs, Pt.cells, Pt.slots] at X' st'
  have ha' : Value.ref (lc x.1 x.2) = va_rf rx ∧ cv lc (.inr y) = va_rf ry := by
    have := congrArg Array.toList ha
    simpa using this
  have hrx : rx = (if x.1 = 0 then none else some (lc x.1 x.2)) := by
    rw [if_neg hnz]
    exact (va_rf_inj (show va_rf (some (lc x.1 x.2)) = va_rf rx from ha'.1)).symm
  have hry : ry = (if y.1 = 0 then none else some (lc y.1 y.2)) := (va_rf_inj (by rw [← zrf y]; exact ha'.2)).symm
  have hR : T.heap = H := hT
  by_cases hxy : x = y
  · have e1 : rx = ry := by rw [hrx, hry, hxy]
    rw [if_pos e1] at hv
    subst hv
    obtain ⟨t, a1, b1⟩ := ky hxy p l e s m args below meth c H locs G lc lc0 M0 ls C R E B L (S.t.t.c trivial) (T.setVm vm₁) hT X'
    exact ⟨t, st' t a1, b1⟩
  · have e1 : ¬ rx = ry := fun q => hxy (zinj R hx hy (by rw [← hrx, ← hry]; exact q))
    rw [if_neg e1] at hv
    subst hv
    obtain ⟨t, a1, b1⟩ := kn hxy p l e s m args below meth c H locs G lc lc0 M0 ls C R E B L (S.t.t.c trivial) (T.setVm vm₁) hT X'
    exact ⟨t, st' t a1, b1⟩
end MathRows

def v_J0_init (r0 : Nat × Nat) (M : Mem) (Q : Mem → Prop) : Prop := ¬ r0.1 = 0 ∧ (Q M)
set_option maxHeartbeats 4000000 in
theorem sv_J0_init {d : Nat} {M : Mem} {P : Option AV → Mem → Prop} {Q : Mem → Prop} {r0 : Nat × Nat} (hP : ∀ M, Q M → P none M) (h : v_J0_init r0 M Q) : ct (d + 1) mJ0_init [.inr r0] M P := by
  refine ct_of (by decide) (Nat.le_of_ble_eq_true rfl) ?_
  show wp (d + 1) mJ0_init 0 [(0, .inr r0)] [] M P
  unfold v_J0_init at h
  refine a_aload_n 0 dJ0_init_0 rfl rfl ?_
  refine a_obj h.1 q122 q109 q110 (Nat.le_of_ble_eq_true rfl) dJ0_init_1 ?_
  replace h := h.2
  exact a_vret rfl dJ0_init_4 (hP _ h)
def v_J1_init (r0 : Nat × Nat) (M : Mem) (Q : Mem → Prop) : Prop := ¬ r0.1 = 0 ∧ (v_J0_init r0 M (fun M_1 => kt r0.1 = 25 ∧ (∀ M_3 : Mem, M_3 = sI M_1 r0.1 r0.2 0 0 → (Q M_3))))
set_option maxHeartbeats 4000000 in
theorem sv_J1_init {d : Nat} {M : Mem} {P : Option AV → Mem → Prop} {Q : Mem → Prop} {r0 : Nat × Nat} (hP : ∀ M, Q M → P none M) (h : v_J1_init r0 M Q) : ct (d + 2) mJ1_init [.inr r0] M P := by
  refine ct_of (by decide) (Nat.le_of_ble_eq_true rfl) ?_
  show wp (d + 2) mJ1_init 0 [(0, .inr r0)] [] M P
  unfold v_J1_init at h
  refine a_aload_n 0 dJ1_init_0 rfl rfl ?_
  refine a_ci (y := mJ0_init) (k := r0.1) (i := r0.2) (as := []) (st := []) (n := 0) h.1 rfl rfl (Or.inl q119) q120 q70 q121 zmh_J0_init rfl (Nat.le_of_ble_eq_true rfl) (Nat.le_of_ble_eq_true rfl) dJ1_init_1 (sv_J0_init (fun M_1 h => ?_) h.2)
  show wp (d + 2) mJ1_init 4 [(0, .inr r0)] [] M_1 P
  refine a_aload_n 0 dJ1_init_4 rfl rfl ?_
  refine a_iconst (v := 0) dJ1_init_5 (by decide) ?_
  refine a_pI (ci := 25) (r := (RJ2, TJ2, 3)) (f := 0) rfl (by decide) (Or.inl q127) (Or.inl rfl) rfl (Or.inl rfl) h.1 dJ1_init_6 ?_
  refine a_topm (fun M_3 eM_3 => ?_)
  replace h := h.2 M_3 eM_3
  exact a_vret rfl dJ1_init_9 (hP _ h)
def v_J2_init (r0 : Nat × Nat) (M : Mem) (Q : Mem → Prop) : Prop := ¬ r0.1 = 0 ∧ (v_J1_init r0 M (fun M_1 => kt r0.1 = 25 ∧ (∀ M_3 : Mem, M_3 = sR M_1 r0.1 r0.2 1 (41, 0) → (Q M_3))))
set_option maxHeartbeats 4000000 in
theorem sv_J2_init {d : Nat} {M : Mem} {P : Option AV → Mem → Prop} {Q : Mem → Prop} {r0 : Nat × Nat} (hP : ∀ M, Q M → P none M) (h : v_J2_init r0 M Q) : ct (d + 3) mJ2_init [.inr r0] M P := by
  refine ct_of (by decide) (Nat.le_of_ble_eq_true rfl) ?_
  show wp (d + 3) mJ2_init 0 [(0, .inr r0)] [] M P
  unfold v_J2_init at h
  refine a_aload_n 0 dJ2_init_0 rfl rfl ?_
  refine a_ci (y := mJ1_init) (k := r0.1) (i := r0.2) (as := []) (st := []) (n := 0) h.1 rfl rfl (Or.inl q116) q117 q71 q118 zmh_J1_init rfl (Nat.le_of_ble_eq_true rfl) (Nat.le_of_ble_eq_true rfl) dJ2_init_1 (sv_J1_init (fun M_1 h => ?_) h.2)
  show wp (d + 3) mJ2_init 4 [(0, .inr r0)] [] M_1 P
  refine a_aload_n 0 dJ2_init_4 rfl rfl ?_
  refine a_empty q123 dJ2_init_5 ?_
  refine a_pR (ci := 25) (r := (RJ2, TJ2, 3)) (f := 1) rfl (by decide) (Or.inl q125) (Or.inl rfl) rfl rfl h.1 dJ2_init_8 ?_
  refine a_topm (fun M_3 eM_3 => ?_)
  replace h := h.2 M_3 eM_3
  exact a_vret rfl dJ2_init_11 (hP _ h)
def v_J2_size (r0 : Nat × Nat) (M : Mem) (Q : Int32 → Mem → Prop) : Prop := kt r0.1 = 25 ∧ (Q (M.1 r0.1 r0.2 2) M)
set_option maxHeartbeats 4000000 in
theorem sv_J2_size {d : Nat} {M : Mem} {P : Option AV → Mem → Prop} {Q : Int32 → Mem → Prop} {r0 : Nat × Nat} (hP : ∀ r M, Q r M → P (some (.inl r)) M) (h : v_J2_size r0 M Q) : ct d mJ2_size [.inr r0] M P := by
  refine ct_of (by decide) (Nat.le_of_ble_eq_true rfl) ?_
  show wp d mJ2_size 0 [(0, .inr r0)] [] M P
  unfold v_J2_size at h
  refine a_aload_n 0 dJ2_size_0 rfl rfl ?_
  refine a_gI (ci := 25) (r := (RJ2, TJ2, 3)) (f := 2) rfl (by decide) rfl (Or.inl q126) (Or.inl rfl) h.1 dJ2_size_1 ?_
  replace h := h.2
  exact a_iret rfl dJ2_size_4 (hP _ _ h)
def v_J5_copyOf_2_6 (r0 : Nat × Nat) (x1 : Int32) (M : Mem) (Q : Nat × Nat → Mem → Prop) : Prop := ¬ x1 < 0 ∧ x1.toNatClampNeg ≤ 100000 ∧ rom M x1.toNatClampNeg ∧ (∃ i_1 : Nat, M.2.2.1 40 i_1 = 0 ∧ ∀ M_2 : Mem, M_2 = sN M 40 i_1 x1.toNatClampNeg x1.toNatClampNeg → (arL M_2 r0 ∧ (arC M_2 r0 0 (40, i_1) 0 (if x1 < (nI (M_2.2.2.1 r0.1 r0.2 - 1)) then x1 else (nI (M_2.2.2.1 r0.1 r0.2 - 1))) ∧ (∀ M_3 : Mem, M_3 = sC M_2 r0.2 i_1 (0 : Int32).toNatClampNeg (0 : Int32).toNatClampNeg (if x1 < (nI (M_2.2.2.1 r0.1 r0.2 - 1)) then x1 else (nI (M_2.2.2.1 r0.1 r0.2 - 1))).toNatClampNeg → (Q (40, i_1) M_3)))))
set_option maxHeartbeats 4000000 in
theorem sv_J5_copyOf_2_6 {d : Nat} {P : Option AV → Mem → Prop} {Q : Nat × Nat → Mem → Prop} (hP : ∀ r M, Q r M → P (some (.inr r)) M) (r0 : Nat × Nat) (x1 : Int32) (M : Mem) (h : v_J5_copyOf_2_6 r0 x1 M Q) : wp (d + 1) mJ5_copyOf_2 6 [(0, .inr r0), (1, .inl x1)] [] M P := by
  unfold v_J5_copyOf_2_6 at h
  refine a_iload_n 1 dJ5_copyOf_2_6 rfl rfl ?_
  obtain ⟨h1, h2, h3, i_1, ei_1, h⟩ := h
  refine a_nwr (k := 40) (i := i_1) (by decide) (Or.inl rfl) rfl h1 h2 h3 ei_1 q288 dJ5_copyOf_2_7 ?_
  refine a_topm (fun M_2 eM_2 => ?_)
  replace h := h M_2 eM_2
  refine a_goto (tgt := 24) dJ5_copyOf_2_10 (by decide) ?_
  refine a_astore_n (lv' := [(3, .inr (40, i_1)), (0, .inr r0), (1, .inl x1)]) dJ5_copyOf_2_24 rfl (Nat.le_of_ble_eq_true rfl) rfl ?_
  refine a_aload_n 1 dJ5_copyOf_2_25 rfl rfl ?_
  refine a_iconst (v := 0) dJ5_copyOf_2_26 (by decide) ?_
  refine a_aload_n 0 dJ5_copyOf_2_27 rfl rfl ?_
  refine a_iconst (v := 0) dJ5_copyOf_2_28 (by decide) ?_
  refine a_aload_n 1 dJ5_copyOf_2_29 rfl rfl ?_
  refine a_xalen h.1 dJ5_copyOf_2_30 ?_
  replace h := h.2
  refine a_iload_n 2 dJ5_copyOf_2_31 rfl rfl ?_
  refine a_mmin q289 (Nat.le_of_ble_eq_true rfl) dJ5_copyOf_2_32 ?_
  refine a_acpy (st := []) h.1 q292 (Nat.le_of_ble_eq_true rfl) dJ5_copyOf_2_35 ?_
  refine a_topm (fun M_3 eM_3 => ?_)
  replace h := h.2 M_3 eM_3
  refine a_aload_n 0 dJ5_copyOf_2_38 rfl rfl ?_
  exact a_aret rfl (Or.inr ⟨_, rfl⟩) dJ5_copyOf_2_39 (hP _ _ h)
/-! Arrays.copyOf of an array of objects, to no smaller length -/
def v_J5_copyOf (r0 : Nat × Nat) (x1 : Int32) (M : Mem) (Q : Nat × Nat → Mem → Prop) : Prop := r0.1 = 40 ∧ M.2.2.1 40 r0.2 ≠ 0 ∧ v_J5_copyOf_2_6 r0 x1 M Q
set_option maxHeartbeats 4000000 in
theorem cp2 {d : Nat} {M : Mem} {Q : Option AV → Mem → Prop} {l : Launch} {G : zG} {lc : Nat → Nat → Nat} {mi j : Nat} {x1 : Int32} (hj : M.2.2.1 40 j ≠ 0) (h : wp (d + 2) mJ5_copyOf_2 6 [(0, .inr (40, j)), (1, .inl x1)] [] M Q) :
    Met l yJ5_copyOf_2 (ws_ yJ5_copyOf_2 cJ5_copyOf_2 4 (some (.array (.object "java/lang/Object")))) (rmd (d + 2) M) (va_Pc [.ref (lc 40 j), .int x1, .ref mi] (fun U => (Kst G U ∧ va_Mi "[Ljava/lang/Object;" mi U) ∧ Rep G lc M U U.heap)) (Qct G lc M Q) (cB M) (sB M) (fun q => G.2.2 ≤ q) := by
  refine Met.ofW (cc := cJ5_copyOf_2) (maxL := 4) (ret := some (.array (.object "java/lang/Object"))) (by decide) rfl ?_
  intro p e s m args below meth c s₁ B hml hv
  obtain ⟨rfl, ⟨hK, hMi⟩, hR⟩ := hv
  have hl := lv_entry [.ref (lc 40 j), .int x1, .ref mi] (n := 4) (Nat.le_of_ble_eq_true rfl)
  rw [lg_entry_eq]
  generalize (lg_sl [.ref (lc 40 j), .int x1, .ref mi] ++ List.replicate (4 - (lg_sl [.ref (lc 40 j), .int x1, .ref mi]).length) Slot.unset).toArray = ls at hl ⊢
  refine W.widen (k := cB M) (n := sB M) (Nat.zero_le _) (Nat.zero_le _) ?_
  have hname := (name_of_methodNamed B.named B.method).1
  have C : Cx p s m meth c mJ5_copyOf_2 G M := ⟨B.exec, B.bytes, B.returns, B.notSynchronized, hml, findClass_of_methodNamed B.named, hname, hK, hR.2.2.2.1, hR.2.2.2.2.1⟩
  have hts : ∀ (a : Array Value), ∀ w ∈ lw_all, w.before a s = true := fun a w hw => hK.2.1 w hw _
  refine lv_aload_n C.1 C.2.1 dJ5_copyOf_2_0 rfl (lv_at hl 2 rfl) ?_
  refine va_ldcM C.1 C.2.1 C.2.2.2.2.2.1 (hts _ _ q286) hMi dJ5_copyOf_2_1 ?_
  refine lv_acmp_ne (rx := some mi) (ry := some mi) C.1 C.2.1 (tgt := 13) dJ5_copyOf_2_3 (by decide) (fun h => absurd rfl h) (fun _ => ?_)
  exact h p l e s m _ below meth c s.heap [] G lc lc M ls C hR Ext.rf (fun q hq => by cases hq) ⟨lv_sub hl [0, 1] rfl, fun q hq => by
    rcases List.mem_cons.mp hq with e | hq
    · rw [e]; exact Or.inr ⟨Nat.succ_ne_zero 39, hj⟩
    · rcases List.mem_cons.mp hq with e | hq
      · rw [e]; trivial
      · cases hq⟩ (fun v hv => by cases hv)
set_option maxHeartbeats 4000000 in
theorem sv_J5_copyOf {d : Nat} {M : Mem} {P : Option AV → Mem → Prop} {Q : Nat × Nat → Mem → Prop} {r0 : Nat × Nat} {x1 : Int32} (hP : ∀ r M, Q r M → P (some (.inr r)) M) (h : v_J5_copyOf r0 x1 M Q) : ct (d + 3) mJ5_copyOf [.inr r0, .inl x1] M P := by
  obtain ⟨k, j⟩ := r0
  obtain ⟨rfl, hj, h⟩ := h
  dsimp only at hj
  refine ct_of (by decide) (Nat.le_of_ble_eq_true rfl) ?_
  show wp (d + 3) mJ5_copyOf 0 [(0, .inr (40, j)), (1, .inl x1)] [] M P
  refine a_aload_n 0 dJ5_copyOf_0 rfl rfl ?_
  refine a_iload_n 1 dJ5_copyOf_1 rfl rfl ?_
  refine a_aload_n 0 dJ5_copyOf_2 rfl rfl ?_
  intro p l e s m args below meth c H locs G lc lc0 M0 ls C R E B L S
  have hK := C.2.2.2.2.2.2.2.1
  have hts : ∀ w ∈ lw_all, w.before args s = true := fun w hw => hK.2.1 w hw _
  obtain ⟨mi, hMi⟩ := hK.2.2.2.2.2.2
  obtain ⟨cell, g1, g2, g3⟩ := R.cls hK (k := 40) (by decide) hj
  simp only [List.map_cons, List.map_nil]
  rw [cv_nn (k := (40, j)) (Nat.succ_ne_zero 39)]
  refine va_getC C.1 C.2.1 (by rw [C.2.2.2.2.1]; exact L.1.1.symm) C.2.2.2.2.2.1 (hts _ q255) (va_Nw.use rfl (hK.2.2.1 _ q2161 rfl)) (hts _ q2160) (hts _ q256) (hts _ q282) hMi ⟨cell, g1, by rw [g2]; rfl, g3⟩ (by show 1 ≤ d + 3; omega) (by show 2 + 14 ≤ 41 * (d + 3); omega) dJ5_copyOf_3 ?_
  have hw : wp (d + 2) mJ5_copyOf_2 6 [(0, .inr (40, j)), (1, .inl x1)] [] M (fun r M' => wp (d + 3) mJ5_copyOf 9 [(0, .inr (40, j)), (1, .inl x1)] (r.toList ++ []) M' P) :=
    sv_J5_copyOf_2_6 (fun r M' h => by
      show wp (d + 3) mJ5_copyOf 9 [(0, .inr (40, j)), (1, .inl x1)] [.inr r] M' P
      exact a_aret rfl (Or.inr ⟨_, rfl⟩) dJ5_copyOf_9 (hP _ _ h)) _ _ _ h
  have hM := cp2 (l := l) (G := G) (lc := lc) (mi := mi) hj hw
  have hp : PreS s H (va_Pc [.ref (lc 40 j), .int x1, .ref mi] (fun U => (Kst G U ∧ va_Mi "[Ljava/lang/Object;" mi U) ∧ Rep G lc M U U.heap)) [.ref (lc 40 j), .int x1, .ref mi] := ⟨fun a U g mk h => by
    obtain ⟨h1, ⟨h2, h4⟩, h3⟩ := h
    exact ⟨h1, ⟨Kst.moved (s := U) (U := U.calling g mk a) (State.WarmedH.refl U) h2, h4⟩, Rep.same (u := U) (U := U.calling g mk a) (Vm.Alike.refl U.vm) h3⟩, fun U hU hW => ⟨rfl, ⟨hK.moved hW, va_Mi.moved hW.alike hMi⟩, by rw [hU]; exact R.same hW.alike⟩⟩
  have hroom : (rmd (d + 2) M).frames + 1 ≤ (rmd (d + 3) M0).frames ∧ 8 + (4 + 11) + (rmd (d + 2) M).locals ≤ (rmd (d + 3) M0).locals := by
    constructor
    · exact Nat.le_refl _
    · show 8 + (4 + 11) + 41 * (d + 2) ≤ 41 * (d + 3)
      omega
  have hc := R.2.2.2.2.2.2.2.2.1
  have hs := R.2.2.2.2.2.2.2.2.2
  have hcost : M.2.2.2.1 - M0.2.2.2.1 + cB M ≤ (rmd (d + 3) M0).cells ∧ M.2.2.2.2 - M0.2.2.2.2 + sB M ≤ (rmd (d + 3) M0).slots := by
    have e1 := E.2.1
    have e2 := E.2.2
    constructor
    · show _ ≤ cB M0; unfold cB; omega
    · show _ ≤ sB M0; unfold sB; omega
  refine zcall (pc := 6) (st := []) C R E B L (fun v hv => by cases hv) (a := #[.ref (lc 40 j), .int x1, .ref mi]) ?_
  exact va_runS (Ts := lw_all) ⟨C.1, C.2.1, C.2.2.2.2.1, C.2.2.2.2.2.1, hts⟩ hM ⟨⟨rfl, rfl, hroom.1, hroom.2, zpay (y := mJ5_copyOf_2) hK q285, List.mem_cons_self, hts _ q285, hts _ q77, zmh_J5_copyOf_2.1, zmh_J5_copyOf_2.len, hts _ q283⟩, hts _ q284⟩ hp rfl rfl L.1.1 rfl (lv_room (by simp)) dJ5_copyOf_6 hcost

def v_J3_newLength (x0 : Int32) (x1 : Int32) (x2 : Int32) (M : Mem) (Q : Int32 → Mem → Prop) : Prop := ∀ x_1 : Int32, x_1 = x0 + (if x1 < x2 then x2 else x1) → (((x_1 ≤ 0) → (False)) ∧ ((¬ x_1 ≤ 0) → (((2147483639 < x_1) → (False)) ∧ ((¬ 2147483639 < x_1) → (Q x_1 M)))))
set_option maxHeartbeats 4000000 in
theorem sv_J3_newLength {d : Nat} {M : Mem} {P : Option AV → Mem → Prop} {Q : Int32 → Mem → Prop} {x0 : Int32} {x1 : Int32} {x2 : Int32} (hP : ∀ r M, Q r M → P (some (.inl r)) M) (h : v_J3_newLength x0 x1 x2 M Q) : ct (d + 1) mJ3_newLength [.inl x0, .inl x1, .inl x2] M P := by
  refine ct_of (by decide) (Nat.le_of_ble_eq_true rfl) ?_
  show wp (d + 1) mJ3_newLength 0 [(0, .inl x0), (1, .inl x1), (2, .inl x2)] [] M P
  unfold v_J3_newLength at h
  refine a_iload_n 0 dJ3_newLength_0 rfl rfl ?_
  refine a_iload_n 1 dJ3_newLength_1 rfl rfl ?_
  refine a_iload_n 2 dJ3_newLength_2 rfl rfl ?_
  refine a_mmax q245 (Nat.le_of_ble_eq_true rfl) dJ3_newLength_3 ?_
  refine a_iadd dJ3_newLength_6 ?_
  refine a_topi (fun x_1 ex_1 => ?_)
  replace h := h x_1 ex_1
  refine a_istore_n (lv' := [(3, .inl x_1), (0, .inl x0), (1, .inl x1), (2, .inl x2)]) dJ3_newLength_7 rfl (Nat.le_of_ble_eq_true rfl) rfl ?_
  refine a_iconst (v := 0) dJ3_newLength_8 (by decide) ?_
  refine a_iload_n 0 dJ3_newLength_9 rfl rfl ?_
  refine a_icmp_ge (tgt := 21) dJ3_newLength_10 (by decide) (fun c_3 => ?_) (fun c_3 => ?_)
  · replace h := h.1 c_3
    refine a_iload_n 1 dJ3_newLength_21 rfl rfl ?_
    refine a_iload_n 2 dJ3_newLength_22 rfl rfl ?_
    exact h.elim
  · replace h := h.2 c_3
    refine a_iload_n 0 dJ3_newLength_13 rfl rfl ?_
    refine a_ldc (v := 2147483639) dJ3_newLength_14 q248 ?_
    refine a_icmp_gt (tgt := 21) dJ3_newLength_16 (by decide) (fun c_2 => ?_) (fun c_2 => ?_)
    · replace h := h.1 c_2
      refine a_iload_n 1 dJ3_newLength_21 rfl rfl ?_
      refine a_iload_n 2 dJ3_newLength_22 rfl rfl ?_
      exact h.elim
    · replace h := h.2 c_2
      refine a_iload_n 0 dJ3_newLength_19 rfl rfl ?_
      exact a_iret rfl dJ3_newLength_20 (hP _ _ h)
def v_J2_grow_2_20 (r0 : Nat × Nat) (x1 : Int32) (x2 : Int32) (M : Mem) (Q : Nat × Nat → Mem → Prop) : Prop := (v_J3_newLength x2 (x1 - x2) (x2 >>> (1 &&& 31)) M (fun r_2 M_1 => kt r0.1 = 25 ∧ (∀ e_3 : Nat × Nat, e_3 = M_1.2.1 r0.1 r0.2 1 → ((v_J5_copyOf e_3 r_2 M_1 (fun e_5 M_4 => kt r0.1 = 25 ∧ (∀ M_6 : Mem, M_6 = sR M_4 r0.1 r0.2 1 e_5 → (Q e_5 M_6))))))))
set_option maxHeartbeats 4000000 in
theorem sv_J2_grow_2_20 {d : Nat} {P : Option AV → Mem → Prop} {Q : Nat × Nat → Mem → Prop} (hP : ∀ r M, Q r M → P (some (.inr r)) M) (r0 : Nat × Nat) (x1 : Int32) (x2 : Int32) (M : Mem) (h : v_J2_grow_2_20 r0 x1 x2 M Q) : wp (d + 4) mJ2_grow_2 20 [(0, .inr r0), (1, .inl x1), (2, .inl x2)] [] M P := by
  unfold v_J2_grow_2_20 at h
  refine a_iload_n 2 dJ2_grow_2_20 rfl rfl ?_
  refine a_iload_n 1 dJ2_grow_2_21 rfl rfl ?_
  refine a_iload_n 2 dJ2_grow_2_22 rfl rfl ?_
  refine a_isub dJ2_grow_2_23 ?_
  refine a_iload_n 2 dJ2_grow_2_24 rfl rfl ?_
  refine a_iconst (v := 1) dJ2_grow_2_25 (by decide) ?_
  refine a_ishr dJ2_grow_2_26 ?_
  refine a_cs (y := mJ3_newLength) (as := [.inl x2, .inl (x1 - x2), .inl (x2 >>> (1 &&& 31))]) (st := []) (n := 3) (Or.inl q242) q243 q75 q244 zmh_J3_newLength rfl (Nat.le_of_ble_eq_true rfl) (Nat.le_of_ble_eq_true rfl) dJ2_grow_2_27 (sv_J3_newLength (fun r_2 M_1 h => ?_) h)
  show wp (d + 4) mJ2_grow_2 30 [(0, .inr r0), (1, .inl x1), (2, .inl x2)] [.inl r_2] M_1 P
  refine a_istore_n (lv' := [(3, .inl r_2), (0, .inr r0), (1, .inl x1), (2, .inl x2)]) dJ2_grow_2_30 rfl (Nat.le_of_ble_eq_true rfl) rfl ?_
  refine a_aload_n 1 dJ2_grow_2_31 rfl rfl ?_
  refine a_aload_n 1 dJ2_grow_2_32 rfl rfl ?_
  refine a_gR (ci := 25) (r := (RJ2, TJ2, 3)) (f := 1) rfl (by decide) rfl (Or.inl q125) (Or.inl rfl) h.1 dJ2_grow_2_33 ?_
  refine a_topr (fun e_3 ee_3 => ?_)
  replace h := h.2 e_3 ee_3
  refine a_iload_n 0 dJ2_grow_2_36 rfl rfl ?_
  refine a_cs (y := mJ5_copyOf) (as := [.inr e_3, .inl r_2]) (st := [.inr r0]) (n := 2) (Or.inl q252) q253 q77 q254 zmh_J5_copyOf rfl (Nat.le_of_ble_eq_true rfl) (Nat.le_of_ble_eq_true rfl) dJ2_grow_2_37 (sv_J5_copyOf (fun e_5 M_4 h => ?_) h)
  show wp (d + 4) mJ2_grow_2 40 [(3, .inl r_2), (0, .inr r0), (1, .inl x1), (2, .inl x2)] [.inr e_5, .inr r0] M_4 P
  refine a_dup_x1 dJ2_grow_2_40 ?_
  refine a_pR (ci := 25) (r := (RJ2, TJ2, 3)) (f := 1) rfl (by decide) (Or.inl q125) (Or.inl rfl) rfl rfl h.1 dJ2_grow_2_41 ?_
  refine a_topm (fun M_6 eM_6 => ?_)
  replace h := h.2 M_6 eM_6
  exact a_aret rfl (Or.inr ⟨_, rfl⟩) dJ2_grow_2_44 (hP _ _ h)
def v_J2_grow_2 (r0 : Nat × Nat) (x1 : Int32) (M : Mem) (Q : Nat × Nat → Mem → Prop) : Prop := kt r0.1 = 25 ∧ (∀ e_1 : Nat × Nat, e_1 = M.2.1 r0.1 r0.2 1 → (arL M e_1 ∧ (∀ x_2 : Int32, x_2 = nI (M.2.2.1 e_1.1 e_1.2 - 1) → (((0 < x_2) → (v_J2_grow_2_20 r0 x1 x_2 M Q)) ∧ ((¬ 0 < x_2) → (kt r0.1 = 25 ∧ (∀ e_3 : Nat × Nat, e_3 = M.2.1 r0.1 r0.2 1 → (((e_3 = (41, 0)) → (¬ (if 10 < x1 then x1 else 10) < 0 ∧ ((if 10 < x1 then x1 else 10)).toNatClampNeg ≤ 100000 ∧ rom M ((if 10 < x1 then x1 else 10)).toNatClampNeg ∧ (∃ i_4 : Nat, M.2.2.1 40 i_4 = 0 ∧ ∀ M_5 : Mem, M_5 = sN M 40 i_4 ((if 10 < x1 then x1 else 10)).toNatClampNeg ((if 10 < x1 then x1 else 10)).toNatClampNeg → (kt r0.1 = 25 ∧ (∀ M_6 : Mem, M_6 = sR M_5 r0.1 r0.2 1 (40, i_4) → (Q (40, i_4) M_6)))))) ∧ ((¬ e_3 = (41, 0)) → (v_J2_grow_2_20 r0 x1 x_2 M Q))))))))))
set_option maxHeartbeats 4000000 in
theorem sv_J2_grow_2 {d : Nat} {M : Mem} {P : Option AV → Mem → Prop} {Q : Nat × Nat → Mem → Prop} {r0 : Nat × Nat} {x1 : Int32} (hP : ∀ r M, Q r M → P (some (.inr r)) M) (h : v_J2_grow_2 r0 x1 M Q) : ct (d + 4) mJ2_grow_2 [.inr r0, .inl x1] M P := by
  refine ct_of (by decide) (Nat.le_of_ble_eq_true rfl) ?_
  show wp (d + 4) mJ2_grow_2 0 [(0, .inr r0), (1, .inl x1)] [] M P
  unfold v_J2_grow_2 at h
  refine a_aload_n 0 dJ2_grow_2_0 rfl rfl ?_
  refine a_gR (ci := 25) (r := (RJ2, TJ2, 3)) (f := 1) rfl (by decide) rfl (Or.inl q125) (Or.inl rfl) h.1 dJ2_grow_2_1 ?_
  refine a_topr (fun e_1 ee_1 => ?_)
  replace h := h.2 e_1 ee_1
  refine a_xalen h.1 dJ2_grow_2_4 ?_
  replace h := h.2
  refine a_topi (fun x_2 ex_2 => ?_)
  replace h := h x_2 ex_2
  refine a_istore_n (lv' := [(2, .inl x_2), (0, .inr r0), (1, .inl x1)]) dJ2_grow_2_5 rfl (Nat.le_of_ble_eq_true rfl) rfl ?_
  refine a_iload_n 0 dJ2_grow_2_6 rfl rfl ?_
  refine a_if_gt (tgt := 20) dJ2_grow_2_7 (by decide) (fun c_8 => ?_) (fun c_8 => ?_)
  · replace h := h.1 c_8
    exact a_sub (by simp) (sv_J2_grow_2_20 hP r0 x1 x_2 M h)
  · replace h := h.2 c_8
    refine a_aload_n 1 dJ2_grow_2_10 rfl rfl ?_
    refine a_gR (ci := 25) (r := (RJ2, TJ2, 3)) (f := 1) rfl (by decide) rfl (Or.inl q125) (Or.inl rfl) h.1 dJ2_grow_2_11 ?_
    refine a_topr (fun e_3 ee_3 => ?_)
    replace h := h.2 e_3 ee_3
    refine a_empty q123 dJ2_grow_2_14 ?_
    refine a_acmp_eq (tgt := 45) dJ2_grow_2_17 (by decide) (fun c_7 => ?_) (fun c_7 => ?_)
    · replace h := h.1 c_7
      refine a_aload_n 1 dJ2_grow_2_45 rfl rfl ?_
      refine a_bipush (v := 10) dJ2_grow_2_46 (by decide) ?_
      refine a_iload_n 2 dJ2_grow_2_48 rfl rfl ?_
      refine a_mmax q295 (Nat.le_of_ble_eq_true rfl) dJ2_grow_2_49 ?_
      obtain ⟨h1, h2, h3, i_4, ei_4, h⟩ := h
      refine a_nwr (k := 40) (i := i_4) (by decide) (Or.inl rfl) rfl h1 h2 h3 ei_4 q296 dJ2_grow_2_52 ?_
      refine a_topm (fun M_5 eM_5 => ?_)
      replace h := h M_5 eM_5
      refine a_dup_x1 dJ2_grow_2_55 ?_
      refine a_pR (ci := 25) (r := (RJ2, TJ2, 3)) (f := 1) rfl (by decide) (Or.inl q125) (Or.inl rfl) rfl rfl h.1 dJ2_grow_2_56 ?_
      refine a_topm (fun M_6 eM_6 => ?_)
      replace h := h.2 M_6 eM_6
      exact a_aret rfl (Or.inr ⟨_, rfl⟩) dJ2_grow_2_59 (hP _ _ h)
    · replace h := h.2 c_7
      exact a_sub (by simp) (sv_J2_grow_2_20 hP r0 x1 x_2 M h)
def v_J2_grow (r0 : Nat × Nat) (M : Mem) (Q : Nat × Nat → Mem → Prop) : Prop := kt r0.1 = 25 ∧ (kt r0.1 = 25 ∧ (v_J2_grow_2 r0 ((M.1 r0.1 r0.2 2) + 1) M (fun e_2 M_1 => Q e_2 M_1)))
set_option maxHeartbeats 4000000 in
theorem sv_J2_grow {d : Nat} {M : Mem} {P : Option AV → Mem → Prop} {Q : Nat × Nat → Mem → Prop} {r0 : Nat × Nat} (hP : ∀ r M, Q r M → P (some (.inr r)) M) (h : v_J2_grow r0 M Q) : ct (d + 5) mJ2_grow [.inr r0] M P := by
  refine ct_of (by decide) (Nat.le_of_ble_eq_true rfl) ?_
  show wp (d + 5) mJ2_grow 0 [(0, .inr r0)] [] M P
  unfold v_J2_grow at h
  refine a_aload_n 0 dJ2_grow_0 rfl rfl ?_
  refine a_aload_n 0 dJ2_grow_1 rfl rfl ?_
  refine a_gI (ci := 25) (r := (RJ2, TJ2, 3)) (f := 2) rfl (by decide) rfl (Or.inl q126) (Or.inl rfl) h.1 dJ2_grow_2 ?_
  replace h := h.2
  refine a_iconst (v := 1) dJ2_grow_5 (by decide) ?_
  refine a_iadd dJ2_grow_6 ?_
  refine a_cvo (y := mJ2_grow_2) (ci := 25) (r := (RJ2, TJ2, 3)) (e := r0) (as := [.inl ((M.1 r0.1 r0.2 2) + 1)]) (st := []) (n := 1) rfl h.1 (Or.inl q238) qs2 q240 q72 q241 zmh_J2_grow_2 rfl (Nat.le_of_ble_eq_true rfl) (Nat.le_of_ble_eq_true rfl) dJ2_grow_7 (sv_J2_grow_2 (fun e_2 M_1 h => ?_) h.2)
  show wp (d + 5) mJ2_grow 10 [(0, .inr r0)] [.inr e_2] M_1 P
  exact a_aret rfl (Or.inr ⟨_, rfl⟩) dJ2_grow_10 (hP _ _ h)
def v_J2_add_2_11 (r0 : Nat × Nat) (r1 : Nat × Nat) (r2 : Nat × Nat) (x3 : Int32) (M : Mem) (Q : Mem → Prop) : Prop := arSM M r2 x3 r1 ∧ (∀ M_1 : Mem, M_1 = sR M r2.1 r2.2 x3.toNatClampNeg r1 → (kt r0.1 = 25 ∧ (∀ M_2 : Mem, M_2 = sI M_1 r0.1 r0.2 2 (x3 + 1) → (Q M_2))))
set_option maxHeartbeats 4000000 in
theorem sv_J2_add_2_11 {d : Nat} {P : Option AV → Mem → Prop} {Q : Mem → Prop} (hP : ∀ M, Q M → P none M) (r0 : Nat × Nat) (r1 : Nat × Nat) (r2 : Nat × Nat) (x3 : Int32) (M : Mem) (h : v_J2_add_2_11 r0 r1 r2 x3 M Q) : wp (d + 6) mJ2_add_2 11 [(0, .inr r0), (1, .inr r1), (2, .inr r2), (3, .inl x3)] [] M P := by
  unfold v_J2_add_2_11 at h
  refine a_aload_n 2 dJ2_add_2_11 rfl rfl ?_
  refine a_iload_n 3 dJ2_add_2_12 rfl rfl ?_
  refine a_aload_n 1 dJ2_add_2_13 rfl rfl ?_
  refine a_xaast h.1 dJ2_add_2_14 ?_
  refine a_topm (fun M_1 eM_1 => ?_)
  replace h := h.2 M_1 eM_1
  refine a_aload_n 0 dJ2_add_2_15 rfl rfl ?_
  refine a_iload_n 3 dJ2_add_2_16 rfl rfl ?_
  refine a_iconst (v := 1) dJ2_add_2_17 (by decide) ?_
  refine a_iadd dJ2_add_2_18 ?_
  refine a_pI (ci := 25) (r := (RJ2, TJ2, 3)) (f := 2) rfl (by decide) (Or.inl q126) (Or.inl rfl) rfl (Or.inl rfl) h.1 dJ2_add_2_19 ?_
  refine a_topm (fun M_2 eM_2 => ?_)
  replace h := h.2 M_2 eM_2
  exact a_vret rfl dJ2_add_2_22 (hP _ h)
def v_J2_add_2 (r0 : Nat × Nat) (r1 : Nat × Nat) (r2 : Nat × Nat) (x3 : Int32) (M : Mem) (Q : Mem → Prop) : Prop := arL M r2 ∧ (((¬ x3 = (nI (M.2.2.1 r2.1 r2.2 - 1))) → (v_J2_add_2_11 r0 r1 r2 x3 M Q)) ∧ ((x3 = (nI (M.2.2.1 r2.1 r2.2 - 1))) → (kt r0.1 = 25 ∧ (v_J2_grow r0 M (fun e_2 M_1 => v_J2_add_2_11 r0 r1 e_2 x3 M_1 Q)))))
set_option maxHeartbeats 4000000 in
theorem sv_J2_add_2 {d : Nat} {M : Mem} {P : Option AV → Mem → Prop} {Q : Mem → Prop} {r0 : Nat × Nat} {r1 : Nat × Nat} {r2 : Nat × Nat} {x3 : Int32} (hP : ∀ M, Q M → P none M) (h : v_J2_add_2 r0 r1 r2 x3 M Q) : ct (d + 6) mJ2_add_2 [.inr r0, .inr r1, .inr r2, .inl x3] M P := by
  refine ct_of (by decide) (Nat.le_of_ble_eq_true rfl) ?_
  show wp (d + 6) mJ2_add_2 0 [(0, .inr r0), (1, .inr r1), (2, .inr r2), (3, .inl x3)] [] M P
  unfold v_J2_add_2 at h
  refine a_iload_n 3 dJ2_add_2_0 rfl rfl ?_
  refine a_aload_n 2 dJ2_add_2_1 rfl rfl ?_
  refine a_xalen h.1 dJ2_add_2_2 ?_
  replace h := h.2
  refine a_icmp_ne (tgt := 11) dJ2_add_2_3 (by decide) (fun c_3 => ?_) (fun c_3 => ?_)
  · replace h := h.1 c_3
    exact a_sub (by simp) (sv_J2_add_2_11 hP r0 r1 r2 x3 M h)
  · replace h := h.2 c_3
    refine a_aload_n 0 dJ2_add_2_6 rfl rfl ?_
    refine a_cvo (y := mJ2_grow) (ci := 25) (r := (RJ2, TJ2, 3)) (e := r0) (as := []) (st := []) (n := 0) rfl h.1 (Or.inl q234) qs1 q236 q72 q237 zmh_J2_grow rfl (Nat.le_of_ble_eq_true rfl) (Nat.le_of_ble_eq_true rfl) dJ2_add_2_7 (sv_J2_grow (fun e_2 M_1 h => ?_) h.2)
    show wp (d + 6) mJ2_add_2 10 [(0, .inr r0), (1, .inr r1), (2, .inr r2), (3, .inl x3)] [.inr e_2] M_1 P
    refine a_astore_n (lv' := [(2, .inr e_2), (0, .inr r0), (1, .inr r1), (3, .inl x3)]) dJ2_add_2_10 rfl (Nat.le_of_ble_eq_true rfl) rfl ?_
    exact a_sub (by simp) (sv_J2_add_2_11 hP r0 r1 e_2 x3 M_1 h)
def v_J2_add (r0 : Nat × Nat) (r1 : Nat × Nat) (M : Mem) (Q : Int32 → Mem → Prop) : Prop := kt r0.1 = 25 ∧ (kt r0.1 = 25 ∧ (∀ M_1 : Mem, M_1 = sI M r0.1 r0.2 0 ((M.1 r0.1 r0.2 0) + 1) → (kt r0.1 = 25 ∧ (∀ e_2 : Nat × Nat, e_2 = M_1.2.1 r0.1 r0.2 1 → (kt r0.1 = 25 ∧ (kt r0.1 = 25 ∧ (v_J2_add_2 r0 r1 e_2 (M_1.1 r0.1 r0.2 2) M_1 (fun M_3 => Q 1 M_3))))))))
set_option maxHeartbeats 4000000 in
theorem sv_J2_add {d : Nat} {M : Mem} {P : Option AV → Mem → Prop} {Q : Int32 → Mem → Prop} {r0 : Nat × Nat} {r1 : Nat × Nat} (hP : ∀ r M, Q r M → P (some (.inl r)) M) (h : v_J2_add r0 r1 M Q) : ct (d + 7) mJ2_add [.inr r0, .inr r1] M P := by
  refine ct_of (by decide) (Nat.le_of_ble_eq_true rfl) ?_
  show wp (d + 7) mJ2_add 0 [(0, .inr r0), (1, .inr r1)] [] M P
  unfold v_J2_add at h
  refine a_aload_n 0 dJ2_add_0 rfl rfl ?_
  refine a_dup dJ2_add_1 ?_
  refine a_gI (ci := 25) (r := (RJ2, TJ2, 3)) (f := 0) rfl (by decide) rfl (Or.inl q128) (Or.inr q129) h.1 dJ2_add_2 ?_
  replace h := h.2
  refine a_iconst (v := 1) dJ2_add_5 (by decide) ?_
  refine a_iadd dJ2_add_6 ?_
  refine a_pI (ci := 25) (r := (RJ2, TJ2, 3)) (f := 0) rfl (by decide) (Or.inl q128) (Or.inr q129) rfl (Or.inl rfl) h.1 dJ2_add_7 ?_
  refine a_topm (fun M_1 eM_1 => ?_)
  replace h := h.2 M_1 eM_1
  refine a_aload_n 0 dJ2_add_10 rfl rfl ?_
  refine a_aload_n 1 dJ2_add_11 rfl rfl ?_
  refine a_aload_n 0 dJ2_add_12 rfl rfl ?_
  refine a_gR (ci := 25) (r := (RJ2, TJ2, 3)) (f := 1) rfl (by decide) rfl (Or.inl q125) (Or.inl rfl) h.1 dJ2_add_13 ?_
  refine a_topr (fun e_2 ee_2 => ?_)
  replace h := h.2 e_2 ee_2
  refine a_aload_n 0 dJ2_add_16 rfl rfl ?_
  refine a_gI (ci := 25) (r := (RJ2, TJ2, 3)) (f := 2) rfl (by decide) rfl (Or.inl q126) (Or.inl rfl) h.1 dJ2_add_17 ?_
  replace h := h.2
  refine a_cvo (y := mJ2_add_2) (ci := 25) (r := (RJ2, TJ2, 3)) (e := r0) (as := [.inr r1, .inr e_2, .inl (M_1.1 r0.1 r0.2 2)]) (st := []) (n := 3) rfl h.1 (Or.inl q230) qs0 q232 q72 q233 zmh_J2_add_2 rfl (Nat.le_of_ble_eq_true rfl) (Nat.le_of_ble_eq_true rfl) dJ2_add_20 (sv_J2_add_2 (fun M_3 h => ?_) h.2)
  show wp (d + 7) mJ2_add 23 [(0, .inr r0), (1, .inr r1)] [] M_3 P
  refine a_iconst (v := 1) dJ2_add_23 (by decide) ?_
  exact a_zret rfl (by decide) dJ2_add_24 (hP _ _ h)
def v_J2_elementData (r0 : Nat × Nat) (x1 : Int32) (M : Mem) (Q : Nat × Nat → Mem → Prop) : Prop := kt r0.1 = 25 ∧ (∀ e_1 : Nat × Nat, e_1 = M.2.1 r0.1 r0.2 1 → (arR M e_1 x1 ∧ (∀ e_2 : Nat × Nat, e_2 = M.2.1 e_1.1 e_1.2 x1.toNatClampNeg → (Q e_2 M))))
set_option maxHeartbeats 4000000 in
theorem sv_J2_elementData {d : Nat} {M : Mem} {P : Option AV → Mem → Prop} {Q : Nat × Nat → Mem → Prop} {r0 : Nat × Nat} {x1 : Int32} (hP : ∀ r M, Q r M → P (some (.inr r)) M) (h : v_J2_elementData r0 x1 M Q) : ct d mJ2_elementData [.inr r0, .inl x1] M P := by
  refine ct_of (by decide) (Nat.le_of_ble_eq_true rfl) ?_
  show wp d mJ2_elementData 0 [(0, .inr r0), (1, .inl x1)] [] M P
  unfold v_J2_elementData at h
  refine a_aload_n 0 dJ2_elementData_0 rfl rfl ?_
  refine a_gR (ci := 25) (r := (RJ2, TJ2, 3)) (f := 1) rfl (by decide) rfl (Or.inl q125) (Or.inl rfl) h.1 dJ2_elementData_1 ?_
  refine a_topr (fun e_1 ee_1 => ?_)
  replace h := h.2 e_1 ee_1
  refine a_iload_n 1 dJ2_elementData_4 rfl rfl ?_
  refine a_xaald h.1 dJ2_elementData_5 ?_
  refine a_topr (fun e_2 ee_2 => ?_)
  replace h := h.2 e_2 ee_2
  exact a_aret rfl (Or.inl ⟨_, rfl⟩) dJ2_elementData_6 (hP _ _ h)
def v_J7_checkIndex (x0 : Int32) (x1 : Int32) (r2 : Nat × Nat) (M : Mem) (Q : Int32 → Mem → Prop) : Prop := ((x0 < 0) → (False)) ∧ ((¬ x0 < 0) → (((x0 < x1) → (Q x0 M)) ∧ ((¬ x0 < x1) → (False))))
set_option maxHeartbeats 4000000 in
theorem sv_J7_checkIndex {d : Nat} {M : Mem} {P : Option AV → Mem → Prop} {Q : Int32 → Mem → Prop} {x0 : Int32} {x1 : Int32} {r2 : Nat × Nat} (hP : ∀ r M, Q r M → P (some (.inl r)) M) (h : v_J7_checkIndex x0 x1 r2 M Q) : ct d mJ7_checkIndex [.inl x0, .inl x1, .inr r2] M P := by
  refine ct_of (by decide) (Nat.le_of_ble_eq_true rfl) ?_
  show wp d mJ7_checkIndex 0 [(0, .inl x0), (1, .inl x1), (2, .inr r2)] [] M P
  unfold v_J7_checkIndex at h
  refine a_iload_n 0 dJ7_checkIndex_0 rfl rfl ?_
  refine a_if_lt (tgt := 9) dJ7_checkIndex_1 (by decide) (fun c_2 => ?_) (fun c_2 => ?_)
  · replace h := h.1 c_2
    refine a_aload_n 2 dJ7_checkIndex_9 rfl rfl ?_
    refine a_iload_n 0 dJ7_checkIndex_10 rfl rfl ?_
    refine a_iload_n 1 dJ7_checkIndex_11 rfl rfl ?_
    exact h.elim
  · replace h := h.2 c_2
    refine a_iload_n 0 dJ7_checkIndex_4 rfl rfl ?_
    refine a_iload_n 1 dJ7_checkIndex_5 rfl rfl ?_
    refine a_icmp_lt (tgt := 16) dJ7_checkIndex_6 (by decide) (fun c_1 => ?_) (fun c_1 => ?_)
    · replace h := h.1 c_1
      refine a_iload_n 0 dJ7_checkIndex_16 rfl rfl ?_
      exact a_iret rfl dJ7_checkIndex_17 (hP _ _ h)
    · replace h := h.2 c_1
      refine a_aload_n 2 dJ7_checkIndex_9 rfl rfl ?_
      refine a_iload_n 0 dJ7_checkIndex_10 rfl rfl ?_
      refine a_iload_n 1 dJ7_checkIndex_11 rfl rfl ?_
      exact h.elim
def v_J6_checkIndex (x0 : Int32) (x1 : Int32) (M : Mem) (Q : Int32 → Mem → Prop) : Prop := (v_J7_checkIndex x0 x1 (0, 0) M (fun r_2 M_1 => Q r_2 M_1))
set_option maxHeartbeats 4000000 in
theorem sv_J6_checkIndex {d : Nat} {M : Mem} {P : Option AV → Mem → Prop} {Q : Int32 → Mem → Prop} {x0 : Int32} {x1 : Int32} (hP : ∀ r M, Q r M → P (some (.inl r)) M) (h : v_J6_checkIndex x0 x1 M Q) : ct (d + 1) mJ6_checkIndex [.inl x0, .inl x1] M P := by
  refine ct_of (by decide) (Nat.le_of_ble_eq_true rfl) ?_
  show wp (d + 1) mJ6_checkIndex 0 [(0, .inl x0), (1, .inl x1)] [] M P
  unfold v_J6_checkIndex at h
  refine a_iload_n 0 dJ6_checkIndex_0 rfl rfl ?_
  refine a_iload_n 1 dJ6_checkIndex_1 rfl rfl ?_
  refine a_null dJ6_checkIndex_2 ?_
  refine a_cs (y := mJ7_checkIndex) (as := [.inl x0, .inl x1, .inr (0, 0)]) (st := []) (n := 3) (Or.inl q631) q632 q92 q633 zmh_J7_checkIndex rfl (Nat.le_of_ble_eq_true rfl) (Nat.le_of_ble_eq_true rfl) dJ6_checkIndex_3 (sv_J7_checkIndex (fun r_2 M_1 h => ?_) h)
  show wp (d + 1) mJ6_checkIndex 6 [(0, .inl x0), (1, .inl x1)] [.inl r_2] M_1 P
  exact a_iret rfl dJ6_checkIndex_6 (hP _ _ h)
def v_J2_get (r0 : Nat × Nat) (x1 : Int32) (M : Mem) (Q : Nat × Nat → Mem → Prop) : Prop := kt r0.1 = 25 ∧ ((v_J6_checkIndex x1 (M.1 r0.1 r0.2 2) M (fun r_2 M_1 => kt r0.1 = 25 ∧ (v_J2_elementData r0 x1 M_1 (fun e_4 M_3 => Q e_4 M_3)))))
set_option maxHeartbeats 4000000 in
theorem sv_J2_get {d : Nat} {M : Mem} {P : Option AV → Mem → Prop} {Q : Nat × Nat → Mem → Prop} {r0 : Nat × Nat} {x1 : Int32} (hP : ∀ r M, Q r M → P (some (.inr r)) M) (h : v_J2_get r0 x1 M Q) : ct (d + 2) mJ2_get [.inr r0, .inl x1] M P := by
  refine ct_of (by decide) (Nat.le_of_ble_eq_true rfl) ?_
  show wp (d + 2) mJ2_get 0 [(0, .inr r0), (1, .inl x1)] [] M P
  unfold v_J2_get at h
  refine a_iload_n 1 dJ2_get_0 rfl rfl ?_
  refine a_aload_n 0 dJ2_get_1 rfl rfl ?_
  refine a_gI (ci := 25) (r := (RJ2, TJ2, 3)) (f := 2) rfl (by decide) rfl (Or.inl q126) (Or.inl rfl) h.1 dJ2_get_2 ?_
  replace h := h.2
  refine a_cs (y := mJ6_checkIndex) (as := [.inl x1, .inl (M.1 r0.1 r0.2 2)]) (st := []) (n := 2) (Or.inl q628) q629 q91 q630 zmh_J6_checkIndex rfl (Nat.le_of_ble_eq_true rfl) (Nat.le_of_ble_eq_true rfl) dJ2_get_5 (sv_J6_checkIndex (fun r_2 M_1 h => ?_) h)
  show wp (d + 2) mJ2_get 8 [(0, .inr r0), (1, .inl x1)] [.inl r_2] M_1 P
  refine a_pop dJ2_get_8 ?_
  refine a_aload_n 0 dJ2_get_9 rfl rfl ?_
  refine a_iload_n 1 dJ2_get_10 rfl rfl ?_
  refine a_cvo (y := mJ2_elementData) (ci := 25) (r := (RJ2, TJ2, 3)) (e := r0) (as := [.inl x1]) (st := []) (n := 1) rfl h.1 (Or.inl q634) q636 q635 q72 q637 zmh_J2_elementData rfl (Nat.le_of_ble_eq_true rfl) (Nat.le_of_ble_eq_true rfl) dJ2_get_11 (sv_J2_elementData (fun e_4 M_3 h => ?_) h.2)
  show wp (d + 2) mJ2_get 14 [(0, .inr r0), (1, .inl x1)] [.inr e_4] M_3 P
  exact a_aret rfl (Or.inl ⟨_, rfl⟩) dJ2_get_14 (hP _ _ h)
def v_J2_clear_27 : Nat → Nat × Nat → Int32 → Int32 → Mem → (Mem → Prop) → Prop
  | 0, _, _, _, _, _ => False
  | n + 1, r1, x2, x3, M, Q => ((x2 ≤ x3) → (Q M)) ∧ ((¬ x2 ≤ x3) → (arSM M r1 x3 (0, 0) ∧ (∀ M_1 : Mem, M_1 = sR M r1.1 r1.2 x3.toNatClampNeg (0, 0) → (∀ x_2 : Int32, x_2 = x3 + 1 → (v_J2_clear_27 n r1 x2 x_2 M_1 Q)))))
set_option maxHeartbeats 4000000 in
theorem sv_J2_clear_27 {d : Nat} {P : Option AV → Mem → Prop} {Q : Mem → Prop} (hP : ∀ M, Q M → P none M) : ∀ (n : Nat) (r1 : Nat × Nat) (x2 : Int32) (x3 : Int32) (M : Mem), v_J2_clear_27 n r1 x2 x3 M Q → wp d mJ2_clear 27 [(1, .inr r1), (2, .inl x2), (3, .inl x3)] [] M P := by
  intro n
  induction n with
  | zero => intro r1 x2 x3 M h; exact False.elim h
  | succ n ih =>
    intro r1 x2 x3 M h
    rw [v_J2_clear_27] at h
    refine a_iload_n 2 dJ2_clear_27 rfl rfl ?_
    refine a_iload_n 1 dJ2_clear_28 rfl rfl ?_
    refine a_icmp_ge (tgt := 42) dJ2_clear_29 (by decide) (fun c_3 => ?_) (fun c_3 => ?_)
    · replace h := h.1 c_3
      exact a_vret rfl dJ2_clear_42 (hP _ h)
    · replace h := h.2 c_3
      refine a_aload_n 0 dJ2_clear_32 rfl rfl ?_
      refine a_iload_n 2 dJ2_clear_33 rfl rfl ?_
      refine a_null dJ2_clear_34 ?_
      refine a_xaast h.1 dJ2_clear_35 ?_
      refine a_topm (fun M_1 eM_1 => ?_)
      replace h := h.2 M_1 eM_1
      obtain ⟨x_2, ex_2⟩ : ∃ y : Int32, y = x3 + 1 := ⟨_, rfl⟩
      replace h := h x_2 ex_2
      refine a_iinc (v := x_2) (lv' := [(3, .inl x_2), (1, .inr r1), (2, .inl x2)]) 2 dJ2_clear_36 rfl (by rw [ex_2]; rfl) (Nat.le_of_ble_eq_true rfl) rfl ?_
      refine a_goto (tgt := 27) dJ2_clear_39 (by decide) ?_
      exact a_sub (by simp) (ih r1 x2 x_2 M_1 h)
def v_J2_clear (r0 : Nat × Nat) (M : Mem) (Q : Mem → Prop) : Prop := kt r0.1 = 25 ∧ (kt r0.1 = 25 ∧ (∀ M_1 : Mem, M_1 = sI M r0.1 r0.2 0 ((M.1 r0.1 r0.2 0) + 1) → (kt r0.1 = 25 ∧ (∀ e_2 : Nat × Nat, e_2 = M_1.2.1 r0.1 r0.2 1 → (kt r0.1 = 25 ∧ (∀ x_3 : Int32, x_3 = M_1.1 r0.1 r0.2 2 → (kt r0.1 = 25 ∧ (∀ M_4 : Mem, M_4 = sI M_1 r0.1 r0.2 2 0 → (∃ n, v_J2_clear_27 n e_2 x_3 0 M_4 Q)))))))))
set_option maxHeartbeats 4000000 in
theorem sv_J2_clear {d : Nat} {M : Mem} {P : Option AV → Mem → Prop} {Q : Mem → Prop} {r0 : Nat × Nat} (hP : ∀ M, Q M → P none M) (h : v_J2_clear r0 M Q) : ct d mJ2_clear [.inr r0] M P := by
  refine ct_of (by decide) (Nat.le_of_ble_eq_true rfl) ?_
  show wp d mJ2_clear 0 [(0, .inr r0)] [] M P
  unfold v_J2_clear at h
  refine a_aload_n 0 dJ2_clear_0 rfl rfl ?_
  refine a_dup dJ2_clear_1 ?_
  refine a_gI (ci := 25) (r := (RJ2, TJ2, 3)) (f := 0) rfl (by decide) rfl (Or.inl q128) (Or.inr q129) h.1 dJ2_clear_2 ?_
  replace h := h.2
  refine a_iconst (v := 1) dJ2_clear_5 (by decide) ?_
  refine a_iadd dJ2_clear_6 ?_
  refine a_pI (ci := 25) (r := (RJ2, TJ2, 3)) (f := 0) rfl (by decide) (Or.inl q128) (Or.inr q129) rfl (Or.inl rfl) h.1 dJ2_clear_7 ?_
  refine a_topm (fun M_1 eM_1 => ?_)
  replace h := h.2 M_1 eM_1
  refine a_aload_n 0 dJ2_clear_10 rfl rfl ?_
  refine a_gR (ci := 25) (r := (RJ2, TJ2, 3)) (f := 1) rfl (by decide) rfl (Or.inl q125) (Or.inl rfl) h.1 dJ2_clear_11 ?_
  refine a_topr (fun e_2 ee_2 => ?_)
  replace h := h.2 e_2 ee_2
  refine a_astore_n (lv' := [(1, .inr e_2), (0, .inr r0)]) dJ2_clear_14 rfl (Nat.le_of_ble_eq_true rfl) rfl ?_
  refine a_aload_n 1 dJ2_clear_15 rfl rfl ?_
  refine a_gI (ci := 25) (r := (RJ2, TJ2, 3)) (f := 2) rfl (by decide) rfl (Or.inl q126) (Or.inl rfl) h.1 dJ2_clear_16 ?_
  replace h := h.2
  refine a_topi (fun x_3 ex_3 => ?_)
  replace h := h x_3 ex_3
  refine a_istore_n (lv' := [(2, .inl x_3), (1, .inr e_2), (0, .inr r0)]) dJ2_clear_19 rfl (Nat.le_of_ble_eq_true rfl) rfl ?_
  refine a_aload_n 2 dJ2_clear_20 rfl rfl ?_
  refine a_iconst (v := 0) dJ2_clear_21 (by decide) ?_
  refine a_dup_x1 dJ2_clear_22 ?_
  refine a_pI (ci := 25) (r := (RJ2, TJ2, 3)) (f := 2) rfl (by decide) (Or.inl q126) (Or.inl rfl) rfl (Or.inl rfl) h.1 dJ2_clear_23 ?_
  refine a_topm (fun M_4 eM_4 => ?_)
  replace h := h.2 M_4 eM_4
  refine a_istore_n (lv' := [(3, .inl 0), (2, .inl x_3), (1, .inr e_2), (0, .inr r0)]) dJ2_clear_26 rfl (Nat.le_of_ble_eq_true rfl) rfl ?_
  obtain ⟨n, h⟩ := h
  exact a_sub (by simp) (sv_J2_clear_27 hP n e_2 x_3 0 M_4 h)
def v_J2_fastRemove_34 (r0 : Nat × Nat) (r1 : Nat × Nat) (x3 : Int32) (M : Mem) (Q : Mem → Prop) : Prop := kt r0.1 = 25 ∧ (∀ M_1 : Mem, M_1 = sI M r0.1 r0.2 2 x3 → (arSM M_1 r1 x3 (0, 0) ∧ (∀ M_2 : Mem, M_2 = sR M_1 r1.1 r1.2 x3.toNatClampNeg (0, 0) → (Q M_2))))
set_option maxHeartbeats 4000000 in
theorem sv_J2_fastRemove_34 {d : Nat} {P : Option AV → Mem → Prop} {Q : Mem → Prop} (hP : ∀ M, Q M → P none M) (r0 : Nat × Nat) (r1 : Nat × Nat) (x3 : Int32) (M : Mem) (h : v_J2_fastRemove_34 r0 r1 x3 M Q) : wp (d + 1) mJ2_fastRemove 34 [(0, .inr r0), (1, .inr r1), (3, .inl x3)] [] M P := by
  unfold v_J2_fastRemove_34 at h
  refine a_aload_n 1 dJ2_fastRemove_34 rfl rfl ?_
  refine a_aload_n 0 dJ2_fastRemove_35 rfl rfl ?_
  refine a_iload_n 2 dJ2_fastRemove_36 rfl rfl ?_
  refine a_dup_x1 dJ2_fastRemove_37 ?_
  refine a_pI (ci := 25) (r := (RJ2, TJ2, 3)) (f := 2) rfl (by decide) (Or.inl q126) (Or.inl rfl) rfl (Or.inl rfl) h.1 dJ2_fastRemove_38 ?_
  refine a_topm (fun M_1 eM_1 => ?_)
  replace h := h.2 M_1 eM_1
  refine a_null dJ2_fastRemove_41 ?_
  refine a_xaast h.1 dJ2_fastRemove_42 ?_
  refine a_topm (fun M_2 eM_2 => ?_)
  replace h := h.2 M_2 eM_2
  exact a_vret rfl dJ2_fastRemove_43 (hP _ h)
def v_J2_fastRemove (r0 : Nat × Nat) (r1 : Nat × Nat) (x2 : Int32) (M : Mem) (Q : Mem → Prop) : Prop := kt r0.1 = 25 ∧ (kt r0.1 = 25 ∧ (∀ M_1 : Mem, M_1 = sI M r0.1 r0.2 0 ((M.1 r0.1 r0.2 0) + 1) → (kt r0.1 = 25 ∧ (∀ x_2 : Int32, x_2 = (M_1.1 r0.1 r0.2 2) - 1 → (((((M_1.1 r0.1 r0.2 2) - 1) ≤ x2) → (v_J2_fastRemove_34 r0 r1 x_2 M_1 Q)) ∧ ((¬ ((M_1.1 r0.1 r0.2 2) - 1) ≤ x2) → (arC M_1 r1 (x2 + 1) r1 x2 (x_2 - x2) ∧ (∀ M_3 : Mem, M_3 = sC M_1 r1.2 r1.2 (x2 + 1).toNatClampNeg x2.toNatClampNeg (x_2 - x2).toNatClampNeg → (v_J2_fastRemove_34 r0 r1 x_2 M_3 Q)))))))))
set_option maxHeartbeats 4000000 in
theorem sv_J2_fastRemove {d : Nat} {M : Mem} {P : Option AV → Mem → Prop} {Q : Mem → Prop} {r0 : Nat × Nat} {r1 : Nat × Nat} {x2 : Int32} (hP : ∀ M, Q M → P none M) (h : v_J2_fastRemove r0 r1 x2 M Q) : ct (d + 1) mJ2_fastRemove [.inr r0, .inr r1, .inl x2] M P := by
  refine ct_of (by decide) (Nat.le_of_ble_eq_true rfl) ?_
  show wp (d + 1) mJ2_fastRemove 0 [(0, .inr r0), (1, .inr r1), (2, .inl x2)] [] M P
  unfold v_J2_fastRemove at h
  refine a_aload_n 0 dJ2_fastRemove_0 rfl rfl ?_
  refine a_dup dJ2_fastRemove_1 ?_
  refine a_gI (ci := 25) (r := (RJ2, TJ2, 3)) (f := 0) rfl (by decide) rfl (Or.inl q128) (Or.inr q129) h.1 dJ2_fastRemove_2 ?_
  replace h := h.2
  refine a_iconst (v := 1) dJ2_fastRemove_5 (by decide) ?_
  refine a_iadd dJ2_fastRemove_6 ?_
  refine a_pI (ci := 25) (r := (RJ2, TJ2, 3)) (f := 0) rfl (by decide) (Or.inl q128) (Or.inr q129) rfl (Or.inl rfl) h.1 dJ2_fastRemove_7 ?_
  refine a_topm (fun M_1 eM_1 => ?_)
  replace h := h.2 M_1 eM_1
  refine a_aload_n 0 dJ2_fastRemove_10 rfl rfl ?_
  refine a_gI (ci := 25) (r := (RJ2, TJ2, 3)) (f := 2) rfl (by decide) rfl (Or.inl q126) (Or.inl rfl) h.1 dJ2_fastRemove_11 ?_
  replace h := h.2
  refine a_iconst (v := 1) dJ2_fastRemove_14 (by decide) ?_
  refine a_isub dJ2_fastRemove_15 ?_
  refine a_dup dJ2_fastRemove_16 ?_
  refine a_topi (fun x_2 ex_2 => ?_)
  replace h := h x_2 ex_2
  refine a_istore_n (lv' := [(3, .inl x_2), (0, .inr r0), (1, .inr r1), (2, .inl x2)]) dJ2_fastRemove_17 rfl (Nat.le_of_ble_eq_true rfl) rfl ?_
  refine a_iload_n 3 dJ2_fastRemove_18 rfl rfl ?_
  refine a_icmp_le (tgt := 34) dJ2_fastRemove_19 (by decide) (fun c_4 => ?_) (fun c_4 => ?_)
  · replace h := h.1 c_4
    exact a_sub (by simp) (sv_J2_fastRemove_34 hP r0 r1 x_2 M_1 h)
  · replace h := h.2 c_4
    refine a_aload_n 2 dJ2_fastRemove_22 rfl rfl ?_
    refine a_iload_n 3 dJ2_fastRemove_23 rfl rfl ?_
    refine a_iconst (v := 1) dJ2_fastRemove_24 (by decide) ?_
    refine a_iadd dJ2_fastRemove_25 ?_
    refine a_aload_n 2 dJ2_fastRemove_26 rfl rfl ?_
    refine a_iload_n 3 dJ2_fastRemove_27 rfl rfl ?_
    refine a_iload_n 0 dJ2_fastRemove_28 rfl rfl ?_
    refine a_iload_n 3 dJ2_fastRemove_29 rfl rfl ?_
    refine a_isub dJ2_fastRemove_30 ?_
    refine a_acpy (st := []) h.1 q1014 (Nat.le_of_ble_eq_true rfl) dJ2_fastRemove_31 ?_
    refine a_topm (fun M_3 eM_3 => ?_)
    replace h := h.2 M_3 eM_3
    exact a_sub (by simp) (sv_J2_fastRemove_34 hP r0 r1 x_2 M_3 h)
def v_J2_remove_39 : Nat → Nat × Nat → Nat × Nat → Nat × Nat → Int32 → Int32 → Mem → (Int32 → Mem → Prop) → Prop
  | 0, _, _, _, _, _, _, _ => False
  | n + 1, r0, r1, r2, x3, x4, M, Q => ((x3 ≤ x4) → (Q 0 M)) ∧ ((¬ x3 ≤ x4) → (arR M r2 x4 ∧ (∀ e_1 : Nat × Nat, e_1 = M.2.1 r2.1 r2.2 x4.toNatClampNeg → (kt r1.1 = 16 ∧ ((r1 = e_1) → (kt r0.1 = 25 ∧ (v_J2_fastRemove r0 r2 x4 M (fun M_3 => Q 1 M_3)))) ∧ ((¬ r1 = e_1) → (∀ x_6 : Int32, x_6 = x4 + 1 → (v_J2_remove_39 n r0 r1 r2 x3 x_6 M Q)))))))
set_option maxHeartbeats 4000000 in
theorem sv_J2_remove_39 {d : Nat} {P : Option AV → Mem → Prop} {Q : Int32 → Mem → Prop} (hP : ∀ r M, Q r M → P (some (.inl r)) M) : ∀ (n : Nat) (r0 : Nat × Nat) (r1 : Nat × Nat) (r2 : Nat × Nat) (x3 : Int32) (x4 : Int32) (M : Mem), v_J2_remove_39 n r0 r1 r2 x3 x4 M Q → wp (d + 2) mJ2_remove 39 [(0, .inr r0), (1, .inr r1), (2, .inr r2), (3, .inl x3), (4, .inl x4)] [] M P := by
  intro n
  induction n with
  | zero => intro r0 r1 r2 x3 x4 M h; exact False.elim h
  | succ n ih =>
    intro r0 r1 r2 x3 x4 M h
    rw [v_J2_remove_39] at h
    refine a_iload 4 dJ2_remove_39 rfl ?_
    refine a_iload_n 3 dJ2_remove_41 rfl rfl ?_
    refine a_icmp_ge (tgt := 65) dJ2_remove_42 (by decide) (fun c_11 => ?_) (fun c_11 => ?_)
    · replace h := h.1 c_11
      refine a_iconst (v := 0) dJ2_remove_65 (by decide) ?_
      exact a_zret rfl (by decide) dJ2_remove_66 (hP _ _ h)
    · replace h := h.2 c_11
      refine a_aload_n 1 dJ2_remove_45 rfl rfl ?_
      refine a_aload_n 2 dJ2_remove_46 rfl rfl ?_
      refine a_iload 4 dJ2_remove_47 rfl ?_
      refine a_xaald h.1 dJ2_remove_49 ?_
      refine a_topr (fun e_1 ee_1 => ?_)
      replace h := h.2 e_1 ee_1
      refine a_eqO h.1 q983 (Nat.le_of_ble_eq_true rfl) dJ2_remove_50 (fun c_10 => ?_) (fun c_10 => ?_)
      · replace h := h.2.1 c_10
        refine a_if_eq (tgt := 59) dJ2_remove_53 (by decide) (fun c_5 => ?_) (fun c_5 => ?_)
        · exact absurd c_5 (by decide)
        · skip
          refine a_goto (tgt := 67) dJ2_remove_56 (by decide) ?_
          refine a_aload_n 0 dJ2_remove_67 rfl rfl ?_
          refine a_aload_n 2 dJ2_remove_68 rfl rfl ?_
          refine a_iload 4 dJ2_remove_69 rfl ?_
          refine a_cvo (y := mJ2_fastRemove) (ci := 25) (r := (RJ2, TJ2, 3)) (e := r0) (as := [.inr r2, .inl x4]) (st := []) (n := 2) rfl h.1 (Or.inl q1010) qs19 q1012 q72 q1013 zmh_J2_fastRemove rfl (Nat.le_of_ble_eq_true rfl) (Nat.le_of_ble_eq_true rfl) dJ2_remove_71 (sv_J2_fastRemove (fun M_3 h => ?_) h.2)
          show wp (d + 2) mJ2_remove 74 [(0, .inr r0), (1, .inr r1), (2, .inr r2), (3, .inl x3), (4, .inl x4)] [] M_3 P
          refine a_iconst (v := 1) dJ2_remove_74 (by decide) ?_
          exact a_zret rfl (by decide) dJ2_remove_75 (hP _ _ h)
      · replace h := h.2.2 c_10
        refine a_if_eq (tgt := 59) dJ2_remove_53 (by decide) (fun c_9 => ?_) (fun c_9 => ?_)
        · skip
          obtain ⟨x_6, ex_6⟩ : ∃ y : Int32, y = x4 + 1 := ⟨_, rfl⟩
          replace h := h x_6 ex_6
          refine a_iinc (v := x_6) (lv' := [(4, .inl x_6), (0, .inr r0), (1, .inr r1), (2, .inr r2), (3, .inl x3)]) 4 dJ2_remove_59 rfl (by rw [ex_6]; rfl) (Nat.le_of_ble_eq_true rfl) rfl ?_
          refine a_goto (tgt := 39) dJ2_remove_62 (by decide) ?_
          exact a_sub (by simp) (ih r0 r1 r2 x3 x_6 M h)
        · exact absurd c_9 (by decide)
def v_J2_remove_17 : Nat → Nat × Nat → Nat × Nat → Int32 → Int32 → Mem → (Int32 → Mem → Prop) → Prop
  | 0, _, _, _, _, _, _ => False
  | n + 1, r0, r2, x3, x4, M, Q => ((x3 ≤ x4) → (Q 0 M)) ∧ ((¬ x3 ≤ x4) → (arR M r2 x4 ∧ (∀ e_1 : Nat × Nat, e_1 = M.2.1 r2.1 r2.2 x4.toNatClampNeg → (((¬ e_1 = (0, 0)) → (∀ x_2 : Int32, x_2 = x4 + 1 → (v_J2_remove_17 n r0 r2 x3 x_2 M Q))) ∧ ((e_1 = (0, 0)) → (kt r0.1 = 25 ∧ (v_J2_fastRemove r0 r2 x4 M (fun M_3 => Q 1 M_3))))))))
set_option maxHeartbeats 4000000 in
theorem sv_J2_remove_17 {d : Nat} {P : Option AV → Mem → Prop} {Q : Int32 → Mem → Prop} (hP : ∀ r M, Q r M → P (some (.inl r)) M) : ∀ (n : Nat) (r0 : Nat × Nat) (r2 : Nat × Nat) (x3 : Int32) (x4 : Int32) (M : Mem), v_J2_remove_17 n r0 r2 x3 x4 M Q → wp (d + 2) mJ2_remove 17 [(0, .inr r0), (2, .inr r2), (3, .inl x3), (4, .inl x4)] [] M P := by
  intro n
  induction n with
  | zero => intro r0 r2 x3 x4 M h; exact False.elim h
  | succ n ih =>
    intro r0 r2 x3 x4 M h
    rw [v_J2_remove_17] at h
    refine a_iload 3 dJ2_remove_17 rfl ?_
    refine a_iload_n 2 dJ2_remove_19 rfl rfl ?_
    refine a_icmp_ge (tgt := 65) dJ2_remove_20 (by decide) (fun c_6 => ?_) (fun c_6 => ?_)
    · replace h := h.1 c_6
      refine a_iconst (v := 0) dJ2_remove_65 (by decide) ?_
      exact a_zret rfl (by decide) dJ2_remove_66 (hP _ _ h)
    · replace h := h.2 c_6
      refine a_aload_n 1 dJ2_remove_23 rfl rfl ?_
      refine a_iload 3 dJ2_remove_24 rfl ?_
      refine a_xaald h.1 dJ2_remove_26 ?_
      refine a_topr (fun e_1 ee_1 => ?_)
      replace h := h.2 e_1 ee_1
      refine a_ifnonnull (tgt := 33) dJ2_remove_27 (by decide) (fun c_5 => ?_) (fun c_5 => ?_)
      · replace h := h.1 c_5
        obtain ⟨x_2, ex_2⟩ : ∃ y : Int32, y = x4 + 1 := ⟨_, rfl⟩
        replace h := h x_2 ex_2
        refine a_iinc (v := x_2) (lv' := [(4, .inl x_2), (0, .inr r0), (2, .inr r2), (3, .inl x3)]) 3 dJ2_remove_33 rfl (by rw [ex_2]; rfl) (Nat.le_of_ble_eq_true rfl) rfl ?_
        refine a_goto (tgt := 17) dJ2_remove_36 (by decide) ?_
        exact a_sub (by simp) (ih r0 r2 x3 x_2 M h)
      · replace h := h.2 c_5
        refine a_goto (tgt := 67) dJ2_remove_30 (by decide) ?_
        refine a_aload_n 0 dJ2_remove_67 rfl rfl ?_
        refine a_aload_n 1 dJ2_remove_68 rfl rfl ?_
        refine a_iload 3 dJ2_remove_69 rfl ?_
        refine a_cvo (y := mJ2_fastRemove) (ci := 25) (r := (RJ2, TJ2, 3)) (e := r0) (as := [.inr r2, .inl x4]) (st := []) (n := 2) rfl h.1 (Or.inl q1010) qs19 q1012 q72 q1013 zmh_J2_fastRemove rfl (Nat.le_of_ble_eq_true rfl) (Nat.le_of_ble_eq_true rfl) dJ2_remove_71 (sv_J2_fastRemove (fun M_3 h => ?_) h.2)
        show wp (d + 2) mJ2_remove 74 [(0, .inr r0), (2, .inr r2), (3, .inl x3), (4, .inl x4)] [] M_3 P
        refine a_iconst (v := 1) dJ2_remove_74 (by decide) ?_
        exact a_zret rfl (by decide) dJ2_remove_75 (hP _ _ h)
def v_J2_remove (r0 : Nat × Nat) (r1 : Nat × Nat) (M : Mem) (Q : Int32 → Mem → Prop) : Prop := kt r0.1 = 25 ∧ (∀ e_1 : Nat × Nat, e_1 = M.2.1 r0.1 r0.2 1 → (kt r0.1 = 25 ∧ (∀ x_2 : Int32, x_2 = M.1 r0.1 r0.2 2 → (((¬ r1 = (0, 0)) → (∃ n, v_J2_remove_39 n r0 r1 e_1 x_2 0 M Q)) ∧ ((r1 = (0, 0)) → (∃ n, v_J2_remove_17 n r0 e_1 x_2 0 M Q))))))
set_option maxHeartbeats 4000000 in
theorem sv_J2_remove {d : Nat} {M : Mem} {P : Option AV → Mem → Prop} {Q : Int32 → Mem → Prop} {r0 : Nat × Nat} {r1 : Nat × Nat} (hP : ∀ r M, Q r M → P (some (.inl r)) M) (h : v_J2_remove r0 r1 M Q) : ct (d + 2) mJ2_remove [.inr r0, .inr r1] M P := by
  refine ct_of (by decide) (Nat.le_of_ble_eq_true rfl) ?_
  show wp (d + 2) mJ2_remove 0 [(0, .inr r0), (1, .inr r1)] [] M P
  unfold v_J2_remove at h
  refine a_aload_n 0 dJ2_remove_0 rfl rfl ?_
  refine a_gR (ci := 25) (r := (RJ2, TJ2, 3)) (f := 1) rfl (by decide) rfl (Or.inl q125) (Or.inl rfl) h.1 dJ2_remove_1 ?_
  refine a_topr (fun e_1 ee_1 => ?_)
  replace h := h.2 e_1 ee_1
  refine a_astore_n (lv' := [(2, .inr e_1), (0, .inr r0), (1, .inr r1)]) dJ2_remove_4 rfl (Nat.le_of_ble_eq_true rfl) rfl ?_
  refine a_aload_n 1 dJ2_remove_5 rfl rfl ?_
  refine a_gI (ci := 25) (r := (RJ2, TJ2, 3)) (f := 2) rfl (by decide) rfl (Or.inl q126) (Or.inl rfl) h.1 dJ2_remove_6 ?_
  replace h := h.2
  refine a_topi (fun x_2 ex_2 => ?_)
  replace h := h x_2 ex_2
  refine a_istore_n (lv' := [(3, .inl x_2), (2, .inr e_1), (0, .inr r0), (1, .inr r1)]) dJ2_remove_9 rfl (Nat.le_of_ble_eq_true rfl) rfl ?_
  refine a_iconst (v := 0) dJ2_remove_10 (by decide) ?_
  refine a_istore (lv' := [(4, .inl 0), (3, .inl x_2), (2, .inr e_1), (0, .inr r0), (1, .inr r1)]) dJ2_remove_11 (Nat.le_of_ble_eq_true rfl) rfl ?_
  refine a_aload_n 4 dJ2_remove_13 rfl rfl ?_
  refine a_ifnonnull (tgt := 39) dJ2_remove_14 (by decide) (fun c_3 => ?_) (fun c_3 => ?_)
  · replace h := h.1 c_3
    obtain ⟨n, h⟩ := h
    exact a_sub (by simp) (sv_J2_remove_39 hP n r0 r1 e_1 x_2 0 M h)
  · replace h := h.2 c_3
    obtain ⟨n, h⟩ := h
    exact a_sub (by simp) (sv_J2_remove_17 hP n r0 e_1 x_2 0 M h)
def v_J2_remove_2 (r0 : Nat × Nat) (x1 : Int32) (M : Mem) (Q : Nat × Nat → Mem → Prop) : Prop := kt r0.1 = 25 ∧ ((v_J6_checkIndex x1 (M.1 r0.1 r0.2 2) M (fun r_2 M_1 => kt r0.1 = 25 ∧ (∀ e_3 : Nat × Nat, e_3 = M_1.2.1 r0.1 r0.2 1 → (arR M_1 e_3 x1 ∧ (∀ e_4 : Nat × Nat, e_4 = M_1.2.1 e_3.1 e_3.2 x1.toNatClampNeg → (kt r0.1 = 25 ∧ (v_J2_fastRemove r0 e_3 x1 M_1 (fun M_5 => Q e_4 M_5)))))))))
set_option maxHeartbeats 4000000 in
theorem sv_J2_remove_2 {d : Nat} {M : Mem} {P : Option AV → Mem → Prop} {Q : Nat × Nat → Mem → Prop} {r0 : Nat × Nat} {x1 : Int32} (hP : ∀ r M, Q r M → P (some (.inr r)) M) (h : v_J2_remove_2 r0 x1 M Q) : ct (d + 2) mJ2_remove_2 [.inr r0, .inl x1] M P := by
  refine ct_of (by decide) (Nat.le_of_ble_eq_true rfl) ?_
  show wp (d + 2) mJ2_remove_2 0 [(0, .inr r0), (1, .inl x1)] [] M P
  unfold v_J2_remove_2 at h
  refine a_iload_n 1 dJ2_remove_2_0 rfl rfl ?_
  refine a_aload_n 0 dJ2_remove_2_1 rfl rfl ?_
  refine a_gI (ci := 25) (r := (RJ2, TJ2, 3)) (f := 2) rfl (by decide) rfl (Or.inl q126) (Or.inl rfl) h.1 dJ2_remove_2_2 ?_
  replace h := h.2
  refine a_cs (y := mJ6_checkIndex) (as := [.inl x1, .inl (M.1 r0.1 r0.2 2)]) (st := []) (n := 2) (Or.inl q628) q629 q91 q630 zmh_J6_checkIndex rfl (Nat.le_of_ble_eq_true rfl) (Nat.le_of_ble_eq_true rfl) dJ2_remove_2_5 (sv_J6_checkIndex (fun r_2 M_1 h => ?_) h)
  show wp (d + 2) mJ2_remove_2 8 [(0, .inr r0), (1, .inl x1)] [.inl r_2] M_1 P
  refine a_pop dJ2_remove_2_8 ?_
  refine a_aload_n 0 dJ2_remove_2_9 rfl rfl ?_
  refine a_gR (ci := 25) (r := (RJ2, TJ2, 3)) (f := 1) rfl (by decide) rfl (Or.inl q125) (Or.inl rfl) h.1 dJ2_remove_2_10 ?_
  refine a_topr (fun e_3 ee_3 => ?_)
  replace h := h.2 e_3 ee_3
  refine a_astore_n (lv' := [(2, .inr e_3), (0, .inr r0), (1, .inl x1)]) dJ2_remove_2_13 rfl (Nat.le_of_ble_eq_true rfl) rfl ?_
  refine a_aload_n 0 dJ2_remove_2_14 rfl rfl ?_
  refine a_iload_n 2 dJ2_remove_2_15 rfl rfl ?_
  refine a_xaald h.1 dJ2_remove_2_16 ?_
  refine a_topr (fun e_4 ee_4 => ?_)
  replace h := h.2 e_4 ee_4
  refine a_astore_n (lv' := [(3, .inr e_4), (2, .inr e_3), (0, .inr r0), (1, .inl x1)]) dJ2_remove_2_17 rfl (Nat.le_of_ble_eq_true rfl) rfl ?_
  refine a_aload_n 2 dJ2_remove_2_18 rfl rfl ?_
  refine a_aload_n 1 dJ2_remove_2_19 rfl rfl ?_
  refine a_iload_n 3 dJ2_remove_2_20 rfl rfl ?_
  refine a_cvo (y := mJ2_fastRemove) (ci := 25) (r := (RJ2, TJ2, 3)) (e := r0) (as := [.inr e_3, .inl x1]) (st := []) (n := 2) rfl h.1 (Or.inl q1010) qs19 q1012 q72 q1013 zmh_J2_fastRemove rfl (Nat.le_of_ble_eq_true rfl) (Nat.le_of_ble_eq_true rfl) dJ2_remove_2_21 (sv_J2_fastRemove (fun M_5 h => ?_) h.2)
  show wp (d + 2) mJ2_remove_2 24 [(3, .inr e_4), (2, .inr e_3), (0, .inr r0), (1, .inl x1)] [] M_5 P
  refine a_aload_n 0 dJ2_remove_2_24 rfl rfl ?_
  exact a_aret rfl (Or.inl ⟨_, rfl⟩) dJ2_remove_2_25 (hP _ _ h)
