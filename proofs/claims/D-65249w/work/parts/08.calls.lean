set_option maxRecDepth 100000
theorem Kst.blind {G : zG} {lc : Nat → Nat → Nat} {M : Mem} {av : List Value} : FrameBlind (va_Pc av (fun U => Kst G U ∧ Rep G lc M U U.heap)) := by
  intro a U g mk h
  obtain ⟨h1, h2, h3⟩ := h
  exact ⟨h1, Kst.moved (s := U) (U := U.calling g mk a) (State.WarmedH.refl U) h2, Rep.same (u := U) (U := U.calling g mk a) (Vm.Alike.refl U.vm) h3⟩
section CallRows
variable {d : Nat} {mt : zMt} {pc : Nat} {lv : List (Nat × AV)} {st : List AV} {M : Mem} {Q : Option AV → Mem → Prop}
/-- behind any call -/
theorem zcall {p : Program} {l : Launch} {e : Env} {s : State} {m : MethodId} {args : Array Value} {below : List Frame} {meth : Method} {c : Code} {H : Heap} {locs : List Loc} {G : zG} {lc lc0 : Nat → Nat → Nat} {M0 : Mem} {ls : Array Slot} {st0 : List Value} {a : Array Value}
    (C : Cx p s m meth c mt G M0) (R : Rep G lc M s H) (E : Ext M0 lc0 M lc) (B : ∀ q ∈ locs, G.2.2 ≤ q.base) (L : Lok lc M ls mt.2.2.1 lv) (S : Sok M st)
    (hr : va_Run p l e (rmd d M0) s m args below meth c H locs (M.2.2.2.1 - M0.2.2.2.1) (M.2.2.2.2 - M0.2.2.2.2) (cB M) (sB M) (F0 m pc ls st0) (st.map (cv lc)) (Qct G lc M (fun r M' => wp d mt (pc + 3) lv (r.toList ++ st) M' Q) a) (fun q => G.2.2 ≤ q)) :
    W p l e (rmd d M0) s m args below meth c H locs (cB M0) (sB M0) (MQ below (Qct G lc0 M0 Q) args s (cB M0) (sB M0) (fun q => G.2.2 ≤ q)) (F0 m pc ls st0) := by
  refine wexact C R ?_
  intro T hT X
  obtain ⟨v, st₀, t, T', L', h0, X', hL, e1, e2, ⟨lc', M', r, ho, hE, hRep, hok, hQ⟩, goes⟩ := hr T hT X
  have hv : v = r.map (cv lc') := Outcome.returned.inj ho
  have hal : t.vm.Alike s.vm := by
    have := X'.warmed.alike
    rw [e2] at this
    exact this.symm
  have hc := R.2.2.2.2.2.2.2.2.1
  have hs := R.2.2.2.2.2.2.2.2.2
  have k1 : M.2.2.2.1 - M0.2.2.2.1 + cB M = cB M0 := by have := E.2.1; unfold cB; omega
  have k2 : M.2.2.2.2 - M0.2.2.2.2 + sB M = sB M0 := by have := E.2.2; unfold sB; omega
  rw [k1, k2] at X'
  have hst : (r.toList ++ st).map (cv lc') = v.toList ++ st.map (cv lc) := by
    rw [List.map_append, cvs.ext hE S, hv]
    cases r <;> rfl
  have h9 := hQ p l e s m args below meth c T'.heap (locs ++ L') G lc' lc0 M0 ls C (by rw [e1]; exact hRep.same hal) (E.tr hE) (fun q hq => by
    rcases List.mem_append.mp hq with h | h
    · exact B q h
    · exact hL q h) (L.ext hE) (fun x hx => by
    rcases List.mem_append.mp hx with h | h
    · cases r with
      | none => cases h
      | some w => rw [show x = w from List.mem_singleton.mp h]; exact hok w rfl
    · exact okv.ext hE (S x h)) T' rfl X'
  rw [hst] at h9
  obtain ⟨t2, a1, b1⟩ := h9
  exact ⟨t2, goes t2 a1, b1⟩
theorem zpay {G : zG} {s : State} (hK : Kst G s) {y : zMt} (w : Cond.code y.1 y.2.1 y.2.2.1 y.2.2.2 ∈ lw_all) : ∀ x ∈ ws_ y.1 y.2.1 y.2.2.1 y.2.2.2, ∀ (a' : Array Value) (U : State), s.WarmedH U.vm → x.before a' U = true := by
  intro x hx a' U hW
  have hx2 : x ∈ lw_all := by
    rcases List.mem_cons.mp hx with h | h
    · rw [h]; exact w
    · exact h
  exact word_at hW (lw_self x hx2).2 (hK.2.1 x hx2 #[])
def zmh (y : MethodName) (n : Nat) : Prop := (y.cls ≠ "java/lang/invoke/MethodHandle" ∧ y.cls ≠ "java/lang/invoke/VarHandle") ∧ (parseMethodDescriptor y.desc).map (fun d => d.parameters.length) = some n
theorem zmh.len {y : MethodName} {n : Nat} (h : zmh y n) : ∀ sig, parseMethodDescriptor y.desc = some sig → n = sig.parameters.length := by
  intro sig hs
  have h2 := h.2
  rw [hs] at h2
  exact (Option.some.inj h2).symm
def zml (own : String) (index : Nat) (y : MethodName) : Prop := Cond.methodLink own index y ∈ lw_all ∨ ∃ host, Cond.methodLinkNest own index y host ∈ lw_tbl
/-- a static method -/
theorem a_cs {y : zMt} {as : List AV} {index n : Nat} (hlink : zml mt.1.cls index y.1) (w1 : Cond.static y.1 ∈ lw_all) (w2 : Cond.initialized y.1.cls ∈ lw_all) (w3 : Cond.code y.1 y.2.1 y.2.2.1 y.2.2.2 ∈ lw_all) (hy : zmh y.1 n) (hn : as.length = n) (hm : y.2.2.1 ≤ 22) (hst : st.length ≤ 8) (hd : decode mt.2.1 pc = .ok (.invokestatic index, 3))
    (h : ct d y as M (fun r M' => wp (d + 1) mt (pc + 3) lv (r.toList ++ st) M' Q)) : wp (d + 1) mt pc lv (as.reverse ++ st) M Q := by
  intro p l e s m args below meth c H locs G lc lc0 M0 ls C R E B L S
  have hK := C.2.2.2.2.2.2.2.1
  have hts : ∀ w ∈ lw_all, w.before args s = true := fun w hw => hK.2.1 w hw _
  have hSa : Sok M as := fun v hv => S v (List.mem_append_left _ (List.mem_reverse.mpr hv))
  have hSs : Sok M st := fun v hv => S v (List.mem_append_right _ hv)
  have hM := h l G lc hSa
  have hc := R.2.2.2.2.2.2.2.2.1
  have hs := R.2.2.2.2.2.2.2.2.2
  have hp : PreS s H (va_Pc (as.map (cv lc)) (fun U => Kst G U ∧ Rep G lc M U U.heap)) (as.map (cv lc)) := ⟨Kst.blind, fun U hU hW => ⟨rfl, hK.moved hW, by rw [hU]; exact R.same hW.alike⟩⟩
  have hroom : (rmd d M).frames + 1 ≤ (rmd (d + 1) M0).frames ∧ 8 + (y.2.2.1 + 11) + (rmd d M).locals ≤ (rmd (d + 1) M0).locals := by
    constructor
    · exact Nat.le_refl _
    · show 8 + (y.2.2.1 + 11) + 41 * d ≤ 41 * (d + 1)
      omega
  have hcost : M.2.2.2.1 - M0.2.2.2.1 + cB M ≤ (rmd (d + 1) M0).cells ∧ M.2.2.2.2 - M0.2.2.2.2 + sB M ≤ (rmd (d + 1) M0).slots := by
    have e1 := E.2.1
    have e2 := E.2.2
    constructor
    · show _ ≤ cB M0; unfold cB; omega
    · show _ ≤ sB M0; unfold sB; omega
  have hstk : (as.reverse ++ st).map (cv lc) = (as.map (cv lc)).reverse ++ st.map (cv lc) := by simp
  rw [hstk]
  refine zcall C R E B L hSs (a := (as.map (cv lc)).toArray) ?_
  rcases hlink with hlink | ⟨host, hlink⟩
  · exact va_runS (Ts := lw_all) ⟨C.1, C.2.1, C.2.2.2.2.1, C.2.2.2.2.2.1, hts⟩ hM ⟨⟨rfl, rfl, hroom.1, hroom.2, zpay hK w3, List.mem_cons_self, hts _ w3, hts _ w2, hy.1, hy.len, hts _ hlink⟩, hts _ w1⟩ hp rfl (by simpa using hn) L.1.1 rfl (lv_room (by rw [cv_sum]; exact hst)) hd hcost
  · exact va_runSN (Ts := lw_all) ⟨C.1, C.2.1, C.2.2.2.2.1, C.2.2.2.2.2.1, hts⟩ hM ⟨⟨⟨rfl, rfl, hroom.1, hroom.2, zpay hK w3, List.mem_cons_self⟩, hts _ w3, hts _ w2, hy.1, hy.len, va_Nw.use rfl (hK.2.2.1 _ hlink rfl)⟩, hts _ w1, trivial⟩ hp rfl (by simpa using hn) L.1.1 rfl (lv_room (by rw [cv_sum]; exact hst)) hd hcost
/-- a constructor -/
theorem a_ci {y : zMt} {k i : Nat} {as : List AV} {index n : Nat} (hk : k ≠ 0) (hret : y.2.2.2 = none) (hnm : y.1.name = "<init>") (hlink : zml mt.1.cls index y.1) (w1 : Cond.instanceMethod y.1 ∈ lw_all) (w2 : Cond.initialized y.1.cls ∈ lw_all) (w3 : Cond.code y.1 y.2.1 y.2.2.1 y.2.2.2 ∈ lw_all) (hy : zmh y.1 n) (hn : as.length = n) (hm : y.2.2.1 ≤ 22) (hst : st.length ≤ 8) (hd : decode mt.2.1 pc = .ok (.invokespecial index, 3))
    (h : ct d y (.inr (k, i) :: as) M (fun r M' => wp (d + 1) mt (pc + 3) lv (r.toList ++ st) M' Q)) : wp (d + 1) mt pc lv (as.reverse ++ .inr (k, i) :: st) M Q := by
  intro p l e s m args below meth c H locs G lc lc0 M0 ls C R E B L S
  have hK := C.2.2.2.2.2.2.2.1
  have hts : ∀ w ∈ lw_all, w.before args s = true := fun w hw => hK.2.1 w hw _
  have hSt : Sok M (.inr (k, i) :: st) := fun v hv => S v (List.mem_append_right _ hv)
  have hSa : Sok M (.inr (k, i) :: as) := Sok.c hSt.h fun v hv => S v (List.mem_append_left _ (List.mem_reverse.mpr hv))
  have hM := h l G lc hSa
  have hc := R.2.2.2.2.2.2.2.2.1
  have hs := R.2.2.2.2.2.2.2.2.2
  have hp : PreS s H (va_Pc ((.inr (k, i) :: as).map (cv lc)) (fun U => Kst G U ∧ Rep G lc M U U.heap)) (.ref (lc k i) :: as.map (cv lc)) := ⟨Kst.blind, fun U hU hW => ⟨by rw [List.map_cons, cv_nn (show (k, i).1 ≠ 0 from hk)], hK.moved hW, by rw [hU]; exact R.same hW.alike⟩⟩
  have hroom : (rmd d M).frames + 1 ≤ (rmd (d + 1) M0).frames ∧ 8 + (y.2.2.1 + 11) + (rmd d M).locals ≤ (rmd (d + 1) M0).locals := by
    constructor
    · exact Nat.le_refl _
    · show 8 + (y.2.2.1 + 11) + 41 * d ≤ 41 * (d + 1)
      omega
  have hcost : M.2.2.2.1 - M0.2.2.2.1 + cB M ≤ (rmd (d + 1) M0).cells ∧ M.2.2.2.2 - M0.2.2.2.2 + sB M ≤ (rmd (d + 1) M0).slots := by
    have e1 := E.2.1
    have e2 := E.2.2
    constructor
    · show _ ≤ cB M0; unfold cB; omega
    · show _ ≤ sB M0; unfold sB; omega
  have hstk : (as.reverse ++ .inr (k, i) :: st).map (cv lc) = (as.map (cv lc)).reverse ++ .ref (lc k i) :: st.map (cv lc) := by simp [cv, hk]
  rw [hstk]
  refine zcall C R E B L hSt.t (a := (.ref (lc k i) :: as.map (cv lc)).toArray) ?_
  rw [hret] at hM w3
  have hcode := w3
  rcases hlink with hlink | ⟨host, hlink⟩
  · exact va_runI (Ts := lw_all) ⟨C.1, C.2.1, C.2.2.2.2.1, C.2.2.2.2.2.1, hts⟩ hM ⟨⟨rfl, rfl, hroom.1, hroom.2, zpay (y := (y.1, y.2.1, y.2.2.1, none)) hK w3, List.mem_cons_self, hts _ w3, hts _ w2, hy.1, hy.len, hts _ hlink⟩, hnm, hts _ w1⟩ hp rfl (by simpa using hn) L.1.1 rfl (lv_room (by rw [cv_sum]; exact hst)) hd hcost
  · exact va_runIN (Ts := lw_all) ⟨C.1, C.2.1, C.2.2.2.2.1, C.2.2.2.2.2.1, hts⟩ hM ⟨⟨⟨rfl, rfl, hroom.1, hroom.2, zpay (y := (y.1, y.2.1, y.2.2.1, none)) hK w3, List.mem_cons_self⟩, hts _ w3, hts _ w2, hy.1, hy.len, va_Nw.use rfl (hK.2.2.1 _ hlink rfl)⟩, hnm, hts _ w1⟩ hp rfl (by simpa using hn) L.1.1 rfl (lv_room (by rw [cv_sum]; exact hst)) hd hcost
/-- a method of the object's own class -/
theorem a_cv {y : zMt} {k i : Nat} {as : List AV} {index n : Nat} (hk : k ≠ 0) (hlink : zml mt.1.cls index y.1) (w0 : Cond.selects (zname k) y.1 y.1 ∈ lw_all) (w1 : Cond.instanceMethod y.1 ∈ lw_all) (w2 : Cond.initialized y.1.cls ∈ lw_all) (w3 : Cond.code y.1 y.2.1 y.2.2.1 y.2.2.2 ∈ lw_all) (hy : zmh y.1 n) (hn : as.length = n) (hm : y.2.2.1 ≤ 22) (hst : st.length ≤ 8) (hd : decode mt.2.1 pc = .ok (.invokevirtual index, 3))
    (h : ct d y (.inr (k, i) :: as) M (fun r M' => wp (d + 1) mt (pc + 3) lv (r.toList ++ st) M' Q)) : wp (d + 1) mt pc lv (as.reverse ++ .inr (k, i) :: st) M Q := by
  intro p l e s m args below meth c H locs G lc lc0 M0 ls C R E B L S
  have hK := C.2.2.2.2.2.2.2.1
  have hts : ∀ w ∈ lw_all, w.before args s = true := fun w hw => hK.2.1 w hw _
  have hSt : Sok M (.inr (k, i) :: st) := fun v hv => S v (List.mem_append_right _ hv)
  have hSa : Sok M (.inr (k, i) :: as) := Sok.c hSt.h fun v hv => S v (List.mem_append_left _ (List.mem_reverse.mpr hv))
  have hM := h l G lc hSa
  have hc := R.2.2.2.2.2.2.2.2.1
  have hs := R.2.2.2.2.2.2.2.2.2
  obtain ⟨cell, g1, g2, g3⟩ := R.cls hK hk (live_of hSt.h hk)
  have hp : PreV s H (zname k) (lc k i) (va_Pc ((.inr (k, i) :: as).map (cv lc)) (fun U => Kst G U ∧ Rep G lc M U U.heap)) (as.map (cv lc)) := ⟨Kst.blind, ⟨cell, g1, by rw [g2]; rfl, g3⟩, fun U hU hW => ⟨by rw [List.map_cons, cv_nn (show (k, i).1 ≠ 0 from hk)], hK.moved hW, by rw [hU]; exact R.same hW.alike⟩⟩
  have hroom : (rmd d M).frames + 1 ≤ (rmd (d + 1) M0).frames ∧ 8 + (y.2.2.1 + 11) + (rmd d M).locals ≤ (rmd (d + 1) M0).locals := by
    constructor
    · exact Nat.le_refl _
    · show 8 + (y.2.2.1 + 11) + 41 * d ≤ 41 * (d + 1)
      omega
  have hcost : M.2.2.2.1 - M0.2.2.2.1 + cB M ≤ (rmd (d + 1) M0).cells ∧ M.2.2.2.2 - M0.2.2.2.2 + sB M ≤ (rmd (d + 1) M0).slots := by
    have e1 := E.2.1
    have e2 := E.2.2
    constructor
    · show _ ≤ cB M0; unfold cB; omega
    · show _ ≤ sB M0; unfold sB; omega
  have hstk : (as.reverse ++ .inr (k, i) :: st).map (cv lc) = (as.map (cv lc)).reverse ++ .ref (lc k i) :: st.map (cv lc) := by simp [cv, hk]
  rw [hstk]
  refine zcall C R E B L hSt.t (a := (.ref (lc k i) :: as.map (cv lc)).toArray) ?_
  rcases hlink with hlink | ⟨host, hlink⟩
  · exact va_runV (Ts := lw_all) ⟨C.1, C.2.1, C.2.2.2.2.1, C.2.2.2.2.2.1, hts⟩ hM ⟨⟨rfl, rfl, hroom.1, hroom.2, zpay hK w3, List.mem_cons_self, hts _ w3, hts _ w2, hy.1, hy.len, hts _ hlink⟩, hts _ w1, hts _ w0⟩ hp rfl (by simpa using hn) L.1.1 rfl (lv_room (by rw [cv_sum]; exact hst)) hd hcost
  · exact va_runVN (Ts := lw_all) ⟨C.1, C.2.1, C.2.2.2.2.1, C.2.2.2.2.2.1, hts⟩ hM ⟨⟨⟨rfl, rfl, hroom.1, hroom.2, zpay hK w3, List.mem_cons_self⟩, hts _ w3, hts _ w2, hy.1, hy.len, va_Nw.use rfl (hK.2.2.1 _ hlink rfl)⟩, hts _ w1, hts _ w0⟩ hp rfl (by simpa using hn) L.1.1 rfl (lv_room (by rw [cv_sum]; exact hst)) hd hcost
/-- a method named by another class (inherited, overridden, abstract): x is named, y is run -/
theorem a_cu {x : MethodName} {owner : String} {y : zMt} {k i : Nat} {as : List AV} {index n : Nat} (hk : k ≠ 0) (hlink : Cond.methodLink mt.1.cls index x ∈ lw_all) (w0 : Cond.selects (zname k) x y.1 ∈ lw_all) (w1 : Cond.instanceMethod y.1 ∈ lw_all) (w2 : Cond.initialized y.1.cls ∈ lw_all) (w3 : Cond.code y.1 y.2.1 y.2.2.1 y.2.2.2 ∈ lw_all) (w4 : Cond.sameMethod x.cls owner x.name x.desc ∈ lw_all) (w5 : (∃ b0 m0 r0, Cond.instanceMethod ⟨owner, x.name, x.desc⟩ ∈ lw_all ∧ Cond.code ⟨owner, x.name, x.desc⟩ b0 m0 r0 ∈ lw_all) ∨ Cond.declares ⟨owner, x.name, x.desc⟩ ∈ lw_tbl)
    (hy : zmh ⟨owner, x.name, x.desc⟩ n) (hn : as.length = n) (hm : y.2.2.1 ≤ 22) (hst : st.length ≤ 8) (hd : decode mt.2.1 pc = .ok (.invokevirtual index, 3))
    (h : ct d y (.inr (k, i) :: as) M (fun r M' => wp (d + 1) mt (pc + 3) lv (r.toList ++ st) M' Q)) : wp (d + 1) mt pc lv (as.reverse ++ .inr (k, i) :: st) M Q := by
  intro p l e s m args below meth c H locs G lc lc0 M0 ls C R E B L S
  have hK := C.2.2.2.2.2.2.2.1
  have hts : ∀ w ∈ lw_all, w.before args s = true := fun w hw => hK.2.1 w hw _
  have hSt : Sok M (.inr (k, i) :: st) := fun v hv => S v (List.mem_append_right _ hv)
  have hSa : Sok M (.inr (k, i) :: as) := Sok.c hSt.h fun v hv => S v (List.mem_append_left _ (List.mem_reverse.mpr hv))
  have hM := h l G lc hSa
  have hc := R.2.2.2.2.2.2.2.2.1
  have hs := R.2.2.2.2.2.2.2.2.2
  obtain ⟨cell, g1, g2, g3⟩ := R.cls hK hk (live_of hSt.h hk)
  have hp : PreV s H (zname k) (lc k i) (va_Pc ((.inr (k, i) :: as).map (cv lc)) (fun U => Kst G U ∧ Rep G lc M U U.heap)) (as.map (cv lc)) := ⟨Kst.blind, ⟨cell, g1, by rw [g2]; rfl, g3⟩, fun U hU hW => ⟨by rw [List.map_cons, cv_nn (show (k, i).1 ≠ 0 from hk)], hK.moved hW, by rw [hU]; exact R.same hW.alike⟩⟩
  have hroom : (rmd d M).frames + 1 ≤ (rmd (d + 1) M0).frames ∧ 8 + (y.2.2.1 + 11) + (rmd d M).locals ≤ (rmd (d + 1) M0).locals := by
    constructor
    · exact Nat.le_refl _
    · show 8 + (y.2.2.1 + 11) + 41 * d ≤ 41 * (d + 1)
      omega
  have hcost : M.2.2.2.1 - M0.2.2.2.1 + cB M ≤ (rmd (d + 1) M0).cells ∧ M.2.2.2.2 - M0.2.2.2.2 + sB M ≤ (rmd (d + 1) M0).slots := by
    have e1 := E.2.1
    have e2 := E.2.2
    constructor
    · show _ ≤ cB M0; unfold cB; omega
    · show _ ≤ sB M0; unfold sB; omega
  have hstk : (as.reverse ++ .inr (k, i) :: st).map (cv lc) = (as.map (cv lc)).reverse ++ .ref (lc k i) :: st.map (cv lc) := by simp [cv, hk]
  rw [hstk]
  refine zcall C R E B L hSt.t (a := (.ref (lc k i) :: as.map (cv lc)).toArray) ?_
  have hdec : va_Decl s ⟨owner, x.name, x.desc⟩ := by
    rcases w5 with ⟨b0, m0, r0, h1, h2⟩ | h1
    · exact va_Decl.of (hts _ h1) (hts _ h2)
    · exact va_Decl.abs (hK.2.2.1 _ h1 rfl)
  exact va_runU (x := x) (owner := owner) (Ts := lw_all) ⟨C.1, C.2.1, C.2.2.2.2.1, C.2.2.2.2.2.1, hts⟩ hM ⟨⟨rfl, rfl, hroom.1, hroom.2, zpay hK w3, List.mem_cons_self⟩, hts _ w3, hts _ w2, hy.1, hy.len, hts _ hlink, hts _ w4, hdec, hts _ w0, hts _ w1⟩ hp rfl (by simpa using hn) L.1.1 rfl (lv_room (by rw [cv_sum]; exact hst)) hd hcost
end CallRows
section CastRows
variable {d : Nat} {mt : zMt} {pc : Nat} {lv : List (Nat × AV)} {st : List AV} {M : Mem} {Q : Option AV → Mem → Prop}
/-- a cast that holds: null, the class itself, or by a word -/
theorem a_cast {x : Nat × Nat} {index : Nat} {nm : String} (hlink : Cond.classLink mt.1.cls index nm ∈ lw_all) (hc : x = (0, 0) ∨ zname x.1 = nm ∨ Cond.castable (zname x.1) nm ∈ lw_tbl) (hd : decode mt.2.1 pc = .ok (.checkcast index, 3)) (kk : wp d mt (pc + 3) lv (.inr x :: st) M Q) : wp d mt pc lv (.inr x :: st) M Q := by
  intro p l e s m args below meth c H locs G lc lc0 M0 ls C R E B L S
  have hK := C.2.2.2.2.2.2.2.1
  have h2 := kk p l e s m args below meth c H locs G lc lc0 M0 ls C R E B L S
  rw [List.map_cons] at h2 ⊢
  rcases S.h with h | ⟨g1, g2⟩
  · subst h
    exact lv_castN C.1 C.2.1 hd h2
  · rw [cv_nn g1] at h2 ⊢
    obtain ⟨cell, f1, f2, f3⟩ := R.cls hK g1 g2
    rcases hc with hc | hc | hc
    · exact absurd (by rw [hc]) g1
    · rw [hc] at f3
      intro T hT X
      have has : s.vm.assignable cell.cls cell.cls = true := va_asg _ _
      obtain ⟨vm', X', st'⟩ := X.checkcastYes C.1 C.2.2.2.2.2.1 (hK.2.1 _ hlink _) (by rw [hT]; exact f1) (by rw [f2]; rfl) f3 has (g := F0 m pc ls (.ref (lc x.1 x.2) :: st.map (cv lc))) rfl rfl (by rw [C.2.1]; exact hd)
      obtain ⟨t, a1, b1⟩ := h2 (T.setVm vm') hT X'
      exact ⟨t, st' t a1, b1⟩
    · exact va_castY C.1 C.2.1 C.2.2.2.2.2.1 (hK.2.1 _ hlink _) (hK.2.2.1 _ hc rfl) ⟨cell, f1, by rw [f2]; rfl, f3⟩ hd h2
theorem a_instY {x : Nat × Nat} {index : Nat} {nm : String} (hx : x ≠ (0, 0)) (hlink : Cond.classLink mt.1.cls index nm ∈ lw_all) (hc : zname x.1 = nm) (hd : decode mt.2.1 pc = .ok (.instanceof index, 3)) (kk : wp d mt (pc + 3) lv (.inl 1 :: st) M Q) : wp d mt pc lv (.inr x :: st) M Q := by
  intro p l e s m args below meth c H locs G lc lc0 M0 ls C R E B L S
  have hK := C.2.2.2.2.2.2.2.1
  have h2 := kk p l e s m args below meth c H locs G lc lc0 M0 ls C R E B L (S.t.c trivial)
  rw [List.map_cons] at h2 ⊢
  rcases S.h with h | ⟨g1, g2⟩
  · exact absurd h hx
  · rw [cv_nn g1]
    obtain ⟨cell, f1, f2, f3⟩ := R.cls hK g1 g2
    rw [hc] at f3
    intro T hT X
    obtain ⟨vm', X', st'⟩ := X.instanceofYes C.1 C.2.2.2.2.2.1 (hK.2.1 _ hlink _) (by rw [hT]; exact f1) (by rw [f2]; rfl) f3 (va_asg _ _) (g := F0 m pc ls (.ref (lc x.1 x.2) :: st.map (cv lc))) rfl rfl (by rw [C.2.1]; exact hd)
    obtain ⟨t, a1, b1⟩ := h2 (T.setVm vm') hT X'
    exact ⟨t, st' t a1, b1⟩
theorem a_instNo {x : Nat × Nat} {index : Nat} {nm : String} (hx : x ≠ (0, 0)) (hlink : Cond.classLink mt.1.cls index nm ∈ lw_all) (hc : (zname x.1, nm) ∈ zNo) (hd : decode mt.2.1 pc = .ok (.instanceof index, 3)) (kk : wp d mt (pc + 3) lv (.inl 0 :: st) M Q) : wp d mt pc lv (.inr x :: st) M Q := by
  intro p l e s m args below meth c H locs G lc lc0 M0 ls C R E B L S
  have hK := C.2.2.2.2.2.2.2.1
  have h2 := kk p l e s m args below meth c H locs G lc lc0 M0 ls C R E B L (S.t.c trivial)
  rw [List.map_cons] at h2 ⊢
  rcases S.h with h | ⟨g1, g2⟩
  · exact absurd h hx
  · rw [cv_nn g1]
    obtain ⟨cell, f1, f2, f3⟩ := R.cls hK g1 g2
    exact va_instNo C.1 C.2.1 C.2.2.2.2.2.1 (hK.2.1 _ hlink _) (hK.2.2.2.2.2.1 _ hc) ⟨cell, f1, by rw [f2]; rfl, f3⟩ hd h2
theorem a_above {index : Nat} (hlink : Cond.fieldLink mt.1.cls index RX0 "ABOVE" "[I" ∈ lw_all) (hd : decode mt.2.1 pc = .ok (.getstatic index, 3)) (kk : wp d mt (pc + 3) lv (.inr (44, 0) :: st) M Q) : wp d mt pc lv st M Q := by
  intro p l e s m args below meth c H locs G lc lc0 M0 ls C R E B L S
  have hK := C.2.2.2.2.2.2.2.1
  have h2 := kk p l e s m args below meth c H locs G lc lc0 M0 ls C R E B L (S.c (Or.inr ⟨by decide, R.2.2.2.2.2.2.1⟩))
  obtain ⟨cf, kf, fi, f, a, cell, h1, hh2, h3, h4, h5, h6, h7, h8⟩ := R.2.2.2.2.2.1.1
  exact W.gets C.1 C.2.1 C.2.2.2.2.2.1 (hK.2.1 _ hlink _) h1 hh2 h3 h4 h5 (fun e => by rw [e] at h6; cases h6) h7 rfl hd h2
theorem a_empty {index : Nat} (hlink : Cond.fieldLink mt.1.cls index RJ2 "DEFAULTCAPACITY_EMPTY_ELEMENTDATA" "[Ljava/lang/Object;" ∈ lw_all) (hd : decode mt.2.1 pc = .ok (.getstatic index, 3)) (kk : wp d mt (pc + 3) lv (.inr (41, 0) :: st) M Q) : wp d mt pc lv st M Q := by
  intro p l e s m args below meth c H locs G lc lc0 M0 ls C R E B L S
  have hK := C.2.2.2.2.2.2.2.1
  have h2 := kk p l e s m args below meth c H locs G lc lc0 M0 ls C R E B L (S.c (Or.inr ⟨by decide, R.2.2.2.2.2.2.2.1⟩))
  obtain ⟨cf, kf, fi, f, a, cell, h1, hh2, h3, h4, h5, h6, h7, h8⟩ := R.2.2.2.2.2.1.2
  exact W.gets C.1 C.2.1 C.2.2.2.2.2.1 (hK.2.1 _ hlink _) h1 hh2 h3 h4 h5 (fun e => by rw [e] at h6; cases h6) h7 rfl hd h2
theorem a_obj {index : Nat} {x : Nat × Nat} (hx : x.1 ≠ 0) (hlink : Cond.methodLink mt.1.cls index objectInit ∈ lw_all) (w1 : Cond.instanceMethod objectInit ∈ lw_all) (w2 : Cond.code objectInit ⟨#[0xb1]⟩ 1 none ∈ lw_all) (hst : st.length ≤ 8) (hd : decode mt.2.1 pc = .ok (.invokespecial index, 3)) (kk : wp (d + 1) mt (pc + 3) lv st M Q) : wp (d + 1) mt pc lv (.inr x :: st) M Q := by
  intro p l e s m args below meth c H locs G lc lc0 M0 ls C R E B L S
  have hK := C.2.2.2.2.2.2.2.1
  have h2 := kk p l e s m args below meth c H locs G lc lc0 M0 ls C R E B L S.t
  rw [List.map_cons, cv_nn hx]
  refine W.objInit C.1 C.2.1 C.2.2.2.2.2.1 (hK.2.1 _ hlink _) (hK.2.1 _ w1 _) (hK.2.1 _ w2 _) rfl (by rw [C.2.2.2.2.1]; exact L.1.1) rfl hd (by show 1 ≤ d + 1; omega) ?_ h2
  have := lv_room (m := m) (pc := pc) (ls := ls) (rest := (.ref (lc x.1 x.2) :: st.map (cv lc))) (st := st.map (cv lc)) (by rw [cv_sum]; exact hst)
  have h3 : (rmd (d + 1) M0).locals = 41 * (d + 1) := rfl
  rw [h3]
  omega
end CastRows
