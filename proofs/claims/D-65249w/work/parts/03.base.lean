set_option maxRecDepth 100000
/-! THE LAYER: a memory of named objects, and what a method does to it (wp at an instruction, ct of a method) -/
abbrev AV : Type := Int32 ⊕ (Nat × Nat)
/-- ints, references, length + 1 (0: not there), cells made, slots made -/
abbrev Mem : Type := (Nat → Nat → Nat → Int32) × (Nat → Nat → Nat → Nat × Nat) × (Nat → Nat → Nat) × Nat × Nat
/-- classes' object layouts known; arrays' classes; the start's heap size -/
abbrev zG : Type := va_G × (Nat → ClassId) × Nat
abbrev zMt : Type := MethodName × ByteArray × Nat × Option FieldType
def zCl : List vw_C := [(RX0, TX0, 14), (RX1, TX1, 110), (RX2, TX2, 3), (RX3, TX3, 5), (RX0, TX0, 14), (RX5, TX5, 12), (RX6, TX6, 11), (RX7, TX7, 9), (RX8, TX8, 8), (RX9, TX9, 8), (RX10, TX10, 8), (RX11, TX11, 8), (RX12, TX12, 11), (RX13, TX13, 8), (RX14, TX14, 8), (RX15, TX15, 10), (RX16, TX16, 17), (RX17, TX17, 7), (RX18, TX18, 5), (RX19, TX19, 14), (RX0, TX0, 14), (RX21, TX21, 6), (RX22, TX22, 7), (RX23, TX23, 7), (RX24, TX24, 6), (RJ2, TJ2, 3)]
def zTy (ci : Nat) : Nat → FieldType := match ci with
  | 0 => tyX0 | 1 => tyX1 | 2 => tyX2 | 3 => tyX3 | 4 => tyX0 | 5 => tyX5 | 6 => tyX6 | 7 => tyX7 | 8 => tyX8 | 9 => tyX9 | 10 => tyX10 | 11 => tyX11 | 12 => tyX12 | 13 => tyX13 | 14 => tyX14 | 15 => tyX15 | 16 => tyX16 | 17 => tyX17 | 18 => tyX18 | 19 => tyX19 | 20 => tyX0 | 21 => tyX21 | 22 => tyX22 | 23 => tyX23 | 24 => tyX24 | _ => tyJ2
def zIsR (t : FieldType) : Bool := match t with
  | .object _ => true
  | .array _ => true
  | _ => false
/-- what a kind of object is: a class by its place in zCl, or an array (100 ints, 101 booleans, 102 objects, 103 guards) -/
def kt (k : Nat) : Nat := match k with
  | 1 => 0 | 2 => 1 | 3 => 2 | 4 => 3 | 5 => 3 | 6 => 3
  | 10 => 5 | 11 => 6 | 12 => 7 | 13 => 8 | 14 => 9 | 15 => 10 | 16 => 11 | 17 => 12 | 18 => 13 | 19 => 14
  | 20 => 15 | 21 => 16 | 22 => 17 | 23 => 18 | 24 => 19 | 25 => 21 | 26 => 22 | 27 => 23 | 28 => 24
  | 30 => 25 | 31 => 25 | 32 => 25 | 33 => 25
  | 40 => 102 | 41 => 102 | 42 => 103 | 43 => 100 | 44 => 100 | 45 => 100 | 46 => 100 | 47 => 100 | 48 => 101
  | 146 => 101 | 171 => 101 | 175 => 101 | 176 => 101 | 177 => 101 | 178 => 101 | 179 => 101 | 180 => 101 | 202 => 101 | 209 => 101
  | _ => 100
/-- kinds that stand at the start and are never written -/
def stk (k : Nat) : Bool := k == 41 || k == 44 || k == 45
def cv (lc : Nat → Nat → Nat) (v : AV) : Value := match v with
  | .inl x => .int x
  | .inr k => if k.1 = 0 then .null else .ref (lc k.1 k.2)
def okk (M : Mem) (k : Nat × Nat) : Prop := k = (0, 0) ∨ (k.1 ≠ 0 ∧ M.2.2.1 k.1 k.2 ≠ 0)
def okv (M : Mem) (v : AV) : Prop := match v with
  | .inl _ => True
  | .inr k => okk M k
def zV (lc : Nat → Nat → Nat) (M : Mem) (k i ci f : Nat) : Value := if zIsR (zTy ci f) then cv lc (.inr (M.2.1 k i f)) else .int (M.1 k i f)
def zAt (G : zG) (lc : Nat → Nat → Nat) (M : Mem) (k i : Nat) (H : Heap) : Prop :=
  if kt k = 100 then H[lc k i]? = some (arrV (G.2.1 0) (M.2.2.1 k i - 1) (fun j => .int (M.1 k i j)))
  else if kt k = 101 then H[lc k i]? = some (arrV (G.2.1 1) (M.2.2.1 k i - 1) (fun j => .int (M.1 k i j)))
  else if kt k = 102 then H[lc k i]? = some (arrV (G.2.1 2) (M.2.2.1 k i - 1) (fun j => cv lc (.inr (M.2.1 k i j))))
  else if kt k = 103 then H[lc k i]? = some (arrV (G.2.1 3) (M.2.2.1 k i - 1) (fun j => cv lc (.inr (M.2.1 k i j))))
  else ∃ r : vw_C, zCl[kt k]? = some r ∧ t_OB (lc k i) (G.1.1 (kt k)) r.2.2 (G.1.2 (kt k)) H (zV lc M k i (kt k))
def zSum (H : Heap) (a : Nat) : Nat := ((H.toList.drop a).map (·.slots.size)).sum
/-- the statics that are read: WaterWorks.ABOVE, ArrayList's empty array -/
def zStat (G : zG) (lc : Nat → Nat → Nat) (U : State) (H : Heap) : Prop :=
  va_Z RX0 "ABOVE" "[I" (.ref (lc 44 0)) (fun q => G.2.2 ≤ q) U H ∧ va_Z RJ2 "DEFAULTCAPACITY_EMPTY_ELEMENTDATA" "[Ljava/lang/Object;" (.ref (lc 41 0)) (fun q => G.2.2 ≤ q) U H

/-- words that ride beside lw_all -/
def nstw (w : Cond) : Bool := match w with
  | .fieldLinkNest _ _ _ _ _ _ => true
  | .methodLinkNest _ _ _ _ => true
  | .castable _ _ => true
  | .declares _ => true
  | _ => false
def zNo : List (String × String) := (([5, 6, 7, 8, 9, 10, 11, 12, 13, 14] : List Nat).flatMap fun a => ([5, 6, 7, 12] : List Nat).filterMap fun b => if a = b then none else some (a, b)).map fun q => (((zCl[q.1]?).getD (RX0, TX0, 14)).1, ((zCl[q.2]?).getD (RX0, TX0, 14)).1)
def Kst (G : zG) (U : State) : Prop := va_K G.1 zCl [(G.2.1 0, .int), (G.2.1 1, .boolean), (G.2.1 2, .object "java/lang/Object"), (G.2.1 3, .object "WaterWorks$Guard")] U ∧ (∀ w ∈ lw_all, ∀ a, w.before a U = true) ∧ (∀ w ∈ lw_tbl, nstw w = true → va_Nw w U) ∧ va_AO "java/lang/Object" U ∧ va_AO "WaterWorks$Guard" U ∧ (∀ q ∈ zNo, va_Nc q.1 q.2 U) ∧ ∃ mi : Nat, va_Mi "[Ljava/lang/Object;" mi U
def Rep (G : zG) (lc : Nat → Nat → Nat) (M : Mem) (U : State) (H : Heap) : Prop :=
  (∀ k i, k ≠ 0 → M.2.2.1 k i ≠ 0 → zAt G lc M k i H ∧ (stk k = false → G.2.2 ≤ lc k i)) ∧
  (∀ k i k' i', k ≠ 0 → k' ≠ 0 → M.2.2.1 k i ≠ 0 → M.2.2.1 k' i' ≠ 0 → lc k i = lc k' i' → k = k' ∧ i = i') ∧
  (∀ k i f, k ≠ 0 → M.2.2.1 k i ≠ 0 → okk M (M.2.1 k i f)) ∧
  H.size = G.2.2 + M.2.2.2.1 ∧ zSum H G.2.2 = M.2.2.2.2 ∧ zStat G lc U H ∧ M.2.2.1 44 0 ≠ 0 ∧ M.2.2.1 41 0 ≠ 0 ∧ M.2.2.2.1 ≤ 600000 ∧ M.2.2.2.2 ≤ 7302250
def Ext (M : Mem) (lc : Nat → Nat → Nat) (M' : Mem) (lc' : Nat → Nat → Nat) : Prop := (∀ k i, k ≠ 0 → M.2.2.1 k i ≠ 0 → lc' k i = lc k i ∧ M'.2.2.1 k i ≠ 0) ∧ M.2.2.2.1 ≤ M'.2.2.2.1 ∧ M.2.2.2.2 ≤ M'.2.2.2.2
def cB (M : Mem) : Nat := 600000 - M.2.2.2.1
def sB (M : Mem) : Nat := 7302250 - M.2.2.2.2
def rmd (d : Nat) (M : Mem) : Room := { frames := d, cells := cB M, slots := sB M, locals := 41 * d }
def Qct (G : zG) (lc : Nat → Nat → Nat) (M : Mem) (Q : Option AV → Mem → Prop) : Array Value → State → Outcome → State → Prop := fun _ _ o t =>
  ∃ (lc' : Nat → Nat → Nat) (M' : Mem) (r : Option AV), o = .returned (r.map (cv lc')) ∧ Ext M lc M' lc' ∧ Rep G lc' M' t t.heap ∧ (∀ v, r = some v → okv M' v) ∧ Q r M'
def Sok (M : Mem) (st : List AV) : Prop := ∀ v ∈ st, okv M v
def Lok (lc : Nat → Nat → Nat) (M : Mem) (ls : Array Slot) (n : Nat) (lv : List (Nat × AV)) : Prop := lv_has ls n (lv.map fun q => (q.1, cv lc q.2)) ∧ ∀ q ∈ lv, okv M q.2
def Cx (p : Program) (s : State) (m : MethodId) (meth : Method) (c : Code) (mt : zMt) (G : zG) (M0 : Mem) : Prop :=
  p.tables.exec = Jvm.exec ∧ c.code = mt.2.1 ∧ meth.sig.returnType = mt.2.2.2 ∧ meth.locks = false ∧ c.maxLocals = mt.2.2.1 ∧ s.vm.findClass mt.1.cls = some m.cls ∧ meth.name = mt.1.name ∧ Kst G s ∧ s.heap.size = G.2.2 + M0.2.2.2.1 ∧ zSum s.heap G.2.2 = M0.2.2.2.2
/-- at an instruction, with these locals and this stack, over this memory: the method comes to its end, with Q of its answer and of the memory then -/
def wp (d : Nat) (mt : zMt) (pc : Nat) (lv : List (Nat × AV)) (st : List AV) (M : Mem) (Q : Option AV → Mem → Prop) : Prop :=
  ∀ (p : Program) (l : Launch) (e : Env) (s : State) (m : MethodId) (args : Array Value) (below : List Frame) (meth : Method) (c : Code) (H : Heap) (locs : List Loc) (G : zG) (lc lc0 : Nat → Nat → Nat) (M0 : Mem) (ls : Array Slot),
    Cx p s m meth c mt G M0 → Rep G lc M s H → Ext M0 lc0 M lc → (∀ q ∈ locs, G.2.2 ≤ q.base) → Lok lc M ls mt.2.2.1 lv → Sok M st →
    W p l e (rmd d M0) s m args below meth c H locs (cB M0) (sB M0) (MQ below (Qct G lc0 M0 Q) args s (cB M0) (sB M0) (fun q => G.2.2 ≤ q)) (F0 m pc ls (st.map (cv lc)))
/-- a method called with these arguments over this memory, d frames below it free -/
def ct (d : Nat) (mt : zMt) (as : List AV) (M : Mem) (Q : Option AV → Mem → Prop) : Prop :=
  ∀ (l : Launch) (G : zG) (lc : Nat → Nat → Nat), Sok M as → Met l mt.1 (ws_ mt.1 mt.2.1 mt.2.2.1 mt.2.2.2) (rmd d M) (va_Pc (as.map (cv lc)) (fun U => Kst G U ∧ Rep G lc M U U.heap)) (Qct G lc M Q) (cB M) (sB M) (fun q => G.2.2 ≤ q)
theorem Ext.rf {M : Mem} {lc : Nat → Nat → Nat} : Ext M lc M lc := ⟨fun _ _ _ h => ⟨rfl, h⟩, Nat.le_refl _, Nat.le_refl _⟩
theorem Ext.tr {M M1 M2 : Mem} {lc lc1 lc2 : Nat → Nat → Nat} (h : Ext M lc M1 lc1) (h2 : Ext M1 lc1 M2 lc2) : Ext M lc M2 lc2 := ⟨fun k i hk hl => ⟨(h2.1 k i hk (h.1 k i hk hl).2).1.trans (h.1 k i hk hl).1, (h2.1 k i hk (h.1 k i hk hl).2).2⟩, Nat.le_trans h.2.1 h2.2.1, Nat.le_trans h.2.2 h2.2.2⟩
theorem okk.ext {M M1 : Mem} {lc lc1 : Nat → Nat → Nat} (h : Ext M lc M1 lc1) {k : Nat × Nat} (hk : okk M k) : okk M1 k := by
  rcases hk with hk | ⟨h1, h2⟩
  · exact Or.inl hk
  · exact Or.inr ⟨h1, (h.1 _ _ h1 h2).2⟩
theorem okv.ext {M M1 : Mem} {lc lc1 : Nat → Nat → Nat} (h : Ext M lc M1 lc1) {v : AV} (hv : okv M v) : okv M1 v := by
  cases v with
  | inl x => trivial
  | inr k => exact okk.ext h hv
theorem cv.ext {M M1 : Mem} {lc lc1 : Nat → Nat → Nat} (h : Ext M lc M1 lc1) {v : AV} (hv : okv M v) : cv lc1 v = cv lc v := by
  cases v with
  | inl x => rfl
  | inr k =>
    rcases hv with hk | ⟨h1, h2⟩
    · subst hk; rfl
    · simp [cv, h1, (h.1 _ _ h1 h2).1]
theorem cvs.ext {M M1 : Mem} {lc lc1 : Nat → Nat → Nat} (h : Ext M lc M1 lc1) {st : List AV} (hv : Sok M st) : st.map (cv lc1) = st.map (cv lc) := List.map_congr_left fun v hm => cv.ext h (hv v hm)
theorem Sok.ext {M M1 : Mem} {lc lc1 : Nat → Nat → Nat} (h : Ext M lc M1 lc1) {st : List AV} (hv : Sok M st) : Sok M1 st := fun v hm => okv.ext h (hv v hm)
theorem Lok.ext {M M1 : Mem} {lc lc1 : Nat → Nat → Nat} (h : Ext M lc M1 lc1) {ls : Array Slot} {n : Nat} {lv : List (Nat × AV)} (hl : Lok lc M ls n lv) : Lok lc1 M1 ls n lv := by
  refine ⟨?_, fun q hq => okv.ext h (hl.2 q hq)⟩
  have e : (lv.map fun q => (q.1, cv lc1 q.2)) = lv.map fun q => (q.1, cv lc q.2) := List.map_congr_left fun q hq => by rw [cv.ext h (hl.2 q hq)]
  rw [e]; exact hl.1
theorem cv_cat (lc : Nat → Nat → Nat) (v : AV) : (cv lc v).category = 1 := by
  cases v with
  | inl x => rfl
  | inr k => unfold cv; dsimp only; split <;> rfl
theorem cv_sum (lc : Nat → Nat → Nat) (st : List AV) : ((st.map (cv lc)).map fun v => v.category).sum = st.length := by
  induction st with
  | nil => rfl
  | cons a t ih => simp only [List.map_cons, List.sum_cons, ih, cv_cat, List.length_cons]; omega
theorem Lok.at {lc : Nat → Nat → Nat} {M : Mem} {ls : Array Slot} {n : Nat} {lv : List (Nat × AV)} (h : Lok lc M ls n lv) (k : Nat) {i : Nat} {v : AV} (hk : lv[k]? = some (i, v)) : ls[i]? = some (.val (cv lc v)) :=
  lv_at h.1 k (by rw [List.getElem?_map, hk]; rfl)
theorem Lok.ok {lc : Nat → Nat → Nat} {M : Mem} {ls : Array Slot} {n : Nat} {lv : List (Nat × AV)} (h : Lok lc M ls n lv) (k : Nat) {i : Nat} {v : AV} (hk : lv[k]? = some (i, v)) : okv M v := h.2 _ (List.mem_of_getElem? hk)
theorem Lok.sub {lc : Nat → Nat → Nat} {M : Mem} {ls : Array Slot} {n : Nat} {lv lv' : List (Nat × AV)} (h : Lok lc M ls n lv) (hs : ∀ q ∈ lv', q ∈ lv) : Lok lc M ls n lv' :=
  ⟨⟨h.1.1, h.1.2.1, fun q hq => by
    obtain ⟨x, hx, rfl⟩ := List.mem_map.mp hq
    exact h.1.2.2 _ (List.mem_map.mpr ⟨x, hs x hx, rfl⟩)⟩, fun q hq => h.2 q (hs q hq)⟩
/-- a method's contract out of its first instruction -/
def zA (n : Nat) : List AV → List (Nat × AV)
  | [] => []
  | v :: l => (n, v) :: zA (n + 1) l
theorem zA_sl (lc : Nat → Nat → Nat) (as : List AV) : lg_sl (as.map (cv lc)) = as.map (fun v => Slot.val (cv lc v)) := by
  induction as with
  | nil => rfl
  | cons a t ih =>
    rw [List.map_cons, List.map_cons, ← ih]
    have h := cv_cat lc a
    unfold lg_sl
    simp [h]
theorem zA_args (lc : Nat → Nat → Nat) (as : List AV) : ∀ n, lv_args n (as.map (cv lc)) = (zA n as).map fun q => (q.1, cv lc q.2) := by
  induction as with
  | nil => intro n; rfl
  | cons a t ih =>
    intro n
    have h := cv_cat lc a
    show (n, cv lc a) :: lv_args (if (cv lc a).category = 2 then n + 2 else n + 1) (t.map (cv lc)) = (n, cv lc a) :: ((zA (n + 1) t).map fun q => (q.1, cv lc q.2))
    rw [if_neg (by rw [h]; decide), ih]
theorem zA_mem (as : List AV) : ∀ n, ∀ q ∈ zA n as, q.2 ∈ as := by
  induction as with
  | nil => intro n q h; cases h
  | cons a t ih =>
    intro n q h
    rcases List.mem_cons.mp h with h | h
    · subst h; exact List.mem_cons_self
    · exact List.mem_cons_of_mem _ (ih _ q h)
theorem Kst.moved {G : zG} {s U : State} (hW : s.WarmedH U.vm) (hK : Kst G s) : Kst G U := by
  refine ⟨va_K.moved hW.alike hK.1, fun w hw a => word_at hW (lw_self w hw).2 (hK.2.1 w hw #[]), fun w hw hn => ?_, va_AO.moved hW.alike hK.2.2.2.1, va_AO.moved hW.alike hK.2.2.2.2.1, fun q hq => va_Nc.moved hW.alike (hK.2.2.2.2.2.1 q hq), hK.2.2.2.2.2.2.imp fun _ h => va_Mi.moved hW.alike h⟩
  have h2 := hK.2.2.1 w hw hn
  unfold nstw at hn
  split at hn
  · exact va_Nw.warmF hW h2
  · exact va_Nw.warmM hW h2
  · exact va_Nw.warmC hW h2
  · exact va_Nw.warmD hW h2
  · cases hn
theorem Rep.same {G : zG} {lc : Nat → Nat → Nat} {M : Mem} {u U : State} {H : Heap} (h : u.vm.Alike U.vm) (hR : Rep G lc M u H) : Rep G lc M U H :=
  ⟨hR.1, hR.2.1, hR.2.2.1, hR.2.2.2.1, hR.2.2.2.2.1, ⟨va_Z.moved h hR.2.2.2.2.2.1.1, va_Z.moved h hR.2.2.2.2.2.1.2⟩, hR.2.2.2.2.2.2⟩
/-- a method's contract out of its first instruction -/
theorem ct_of {d : Nat} {mt : zMt} {as : List AV} {M : Mem} {Q : Option AV → Mem → Prop} (hy : plainName mt.1.cls = true) (hn : as.length ≤ mt.2.2.1) (h : wp d mt 0 (zA 0 as) [] M Q) : ct d mt as M Q := by
  intro l G lc hok
  refine Met.ofW (cc := mt.2.1) (maxL := mt.2.2.1) (ret := mt.2.2.2) hy rfl ?_
  intro p e s m args below meth c s₁ B hml hv
  obtain ⟨rfl, hK, hR⟩ := hv
  have hl := lv_entry (as.map (cv lc)) (n := mt.2.2.1) (by rw [zA_sl]; simpa using hn)
  rw [lg_entry_eq]
  generalize (lg_sl (as.map (cv lc)) ++ List.replicate (mt.2.2.1 - (lg_sl (as.map (cv lc))).length) Slot.unset).toArray = ls at hl ⊢
  refine W.widen (k := cB M) (n := sB M) (Nat.zero_le _) (Nat.zero_le _) ?_
  have hname := (name_of_methodNamed B.named B.method).1
  exact h p l e s m _ below meth c s.heap [] G lc lc M ls ⟨B.exec, B.bytes, B.returns, B.notSynchronized, hml, findClass_of_methodNamed B.named, hname, hK, hR.2.2.2.1, hR.2.2.2.2.1⟩ hR Ext.rf (fun q hq => by cases hq) ⟨by rw [← zA_args]; exact hl, fun q hq => hok _ (zA_mem _ _ q hq)⟩ (fun v hv => by cases hv)
theorem ct.mono {d : Nat} {mt : zMt} {as : List AV} {M : Mem} {Q Q' : Option AV → Mem → Prop} (h : ct d mt as M Q) (hq : ∀ r M', Q r M' → Q' r M') : ct d mt as M Q' := by
  intro l G lc hok p e h1 h2 h3 s m args below h4 h5 h6 h7
  obtain ⟨n, o, g1, g2, g3, ⟨lc', M', r, f1, f2, f3, f4, f5⟩, g4⟩ := h l G lc hok p e h1 h2 h3 s m args below h4 h5 h6 h7
  exact ⟨n, o, g1, g2, g3, ⟨lc', M', r, f1, f2, f3, f4, hq r M' f5⟩, g4⟩
/-! the room left, by the heap itself -/
theorem zSum_split {A B : Heap} {a b : Nat} (hab : a ≤ b) (hb : B.size = b) (h : ∀ q, q < b → (A[q]?).map (·.slots.size) = (B[q]?).map (·.slots.size)) (hs : b ≤ A.size) : zSum A a = zSum B a + zSum A b := by
  unfold zSum
  have e1 : A.toList.drop a = (A.toList.drop a).take (b - a) ++ A.toList.drop b := by
    conv => lhs; rw [← List.take_append_drop (b - a) (A.toList.drop a)]
    rw [List.drop_drop, show a + (b - a) = b by omega]
  rw [e1, List.map_append, List.sum_append_nat]
  congr 2
  apply List.ext_getElem?
  intro i
  rw [List.getElem?_map, List.getElem?_map, List.getElem?_take, List.getElem?_drop, List.getElem?_drop]
  by_cases hi : i < b - a
  · rw [if_pos hi]
    have := h (a + i) (by omega)
    simpa using this
  · rw [if_neg hi]
    have : B.toList[a + i]? = none := by
      rw [List.getElem?_eq_none_iff]; simp; omega
    rw [this, Option.map_none]
section RoomRows
variable {p : Program} {l : Launch} {e : Env} {R : Room} {s : State} {m : MethodId} {args : Array Value} {below : List Frame} {meth : Method} {c : Code} {H : Heap} {locs : List Loc} {cells slots : Nat} {Q : State → Prop}
theorem W_narrow {k n a : Nat} {g : JFrame} (ha : a ≤ s.heap.size) (hk : H.size ≤ s.heap.size + k) (hn : zSum H a ≤ zSum s.heap a + n) (w : W p l e R s m args below meth c H locs k n Q g) : W p l e R s m args below meth c H locs cells slots Q g := by
  intro T hT X
  have hs := X.same
  obtain ⟨s1, s2, s3, s4, s5, s6⟩ := hs
  have hh : (T.setVm s.vm).heap = H := hT
  have e := zSum_split (A := H) (B := s.heap) (a := a) (b := s.heap.size) ha rfl (fun q hq => by
    obtain ⟨c', h1, h2, h3, -⟩ := s6 q s.heap[q] (Array.getElem?_eq_some_iff.mpr ⟨hq, rfl⟩)
    rw [hh] at h1
    rw [h1, Array.getElem?_eq_getElem hq]
    simp [h3]) (by rw [← hh]; exact s2)
  refine w T hT { X with same := ⟨s1, s2, by rw [hh]; exact hk, s4, ?_, s6⟩ }
  rw [hh]
  have : zSum H s.heap.size ≤ n := by omega
  exact this
end RoomRows
