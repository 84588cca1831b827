/-! ===== new Wrong(): an exception of the program's own, made by a class of its nest, with fields of its own ===== -/
set_option maxRecDepth 100000
def b_wrA (own : String) (ic : Nat) (X : String) (names : List String) (host : String) : List Cond :=
  Bundle.throwableAtoms ++ Bundle.chain0Atoms X names ++
  [.methodLinkNest own ic (Bundle.init0 X) host, .instantiable X 8, .castable X X, .selects X Bundle.tFill0 Bundle.tFill0, .selects X Bundle.tFill Bundle.tFill,
   .lays X Bundle.tN "cause" "Ljava/lang/Throwable;", .lays X Bundle.tN "stackTrace" Bundle.steD, .lays X Bundle.tN "suppressedExceptions" Bundle.listD, .lays X Bundle.tN "detailMessage" "Ljava/lang/String;",
   .isRef (.static Bundle.tN "UNASSIGNED_STACK" Bundle.steD), .isRef (.static Bundle.tN "SUPPRESSED_SENTINEL" Bundle.listD),
   .fieldLink Bundle.tN 198 Bundle.tN "backtrace" "Ljava/lang/Object;", .lays Bundle.tN Bundle.tN "backtrace" "Ljava/lang/Object;", .lays X Bundle.tN "backtrace" "Ljava/lang/Object;"]
theorem b_setSl {x : Cell} {i j : Nat} {v w0 : Value} (h : x.slots[j]? = some w0) : ∃ w', (x.setSlot i v).slots[j]? = some w' ∧ (w' = v ∨ w' = w0) ∧ (i ≠ j → w' = w0) := by
  have hj := (Array.getElem?_eq_some_iff.mp h).1
  by_cases e : i = j
  · subst e
    exact ⟨v, by simp [Cell.setSlot, Array.getElem?_setIfInBounds, hj], Or.inl rfl, fun h => absurd rfl h⟩
  · exact ⟨w0, by simp [Cell.setSlot, Array.getElem?_setIfInBounds, e, h], Or.inr rfl, fun _ => rfl⟩
section B_WRK
variable {p : Program} {l : Launch} {e : Env} {R : Room} {s : State} {m₀ : MethodId} {args : Array Value} {below : List Frame} {meth : Method} {c : Code} {W : State} {locs : List Loc} {cells slots : Nat}
set_option maxHeartbeats 1000000 in
theorem b_ctorMadeN (X : Stand p l e R s m₀ args below meth c W locs cells slots) (hexec : p.tables.exec = Jvm.exec) (htr : e.platform.stackTraces = false) {own cls host : String} {names : List String} {ic : Nat}
    (hown : s.vm.findClass own = some m₀.cls) (hcls : Bundle.fit cls = true) (hnames : ∀ n ∈ names, Bundle.fit n = true)
    (h : ∀ a ∈ b_wrA own ic cls names host, a.before args s = true)
    (hlocs : ∀ x ∈ locs, ∀ cell, s.heap[x.base]? = some cell → cell.vm.isStatics = false)
    {a : Addr} {cX : ClassId} {kX : Class} (hfoundX : s.vm.findClass cls = some cX) (hkX : s.vm.classes[cX]? = some kX) (hcell : W.heap[a]? = some (freshCell cX kX)) (hnew : s.heap.size ≤ a)
    {g : JFrame} (hg : g.method = m₀) (hsize : g.locals.size = c.maxLocals) {rest : List Value} (hstack : g.stack = .ref a :: .ref a :: rest)
    (hd6 : decode c.code g.pc = .ok (.invokespecial ic, 3))
    (hRframes : names.length + 3 < R.frames) (hRlocals : 2 * g.monitorRoom + ((Value.ref a :: rest).map fun v => v.category).sum + (13 * (names.length + 1) + 41) ≤ R.locals) :
    ∃ (V : State) (ce : Cell) (L : List Loc), Stand p l e R s m₀ args below meth c (V.setCell a ce) (locs ++ L) cells slots ∧ (∀ y ∈ L, y.base = a) ∧ a < V.heap.size ∧ ce.cls = cX ∧ ce.vm = .none ∧ (∀ (O name desc : String) (ty : FieldType) (c' i : Nat) (k' : Class) (f : Field), parseFieldDescriptor desc = some ty → s.fieldFound? O name desc = some (c', k', i, f) → (Cond.lays cls O name desc).before args s = true → ∃ w, ce.slots[f.slot]? = some w ∧ (w = defaultValue ty ∨ w.isRef = true) ∧ (name ≠ "cause" → name ≠ "stackTrace" → name ≠ "suppressedExceptions" → w = defaultValue ty)) ∧
      ∀ target, Steps p.tables e below ((V.setCell a ce).setTop { g with stack := .ref a :: rest, pc := g.pc + 3 }) target → Steps p.tables e below (W.setTop g) target := by
  have howns : e.platform.frameOwnsMonitors = true := by rw [X.admits.platform]
  have hfin : e.platform.finalization = false := by rw [X.admits.platform]
  have hpl : e.platform.magicAccessors = ({} : Platform).magicAccessors := by rw [X.admits.platform]
  have a' : ∀ x, x ∈ b_wrA own ic cls names host → x.holds args s none s [] = true := fun x hx => h x hx
  obtain ⟨T, Z, L, LZ, Y⟩ := ThrowableC.of_atoms (args := args) howns hfin hpl (fun x hx => h x (by simp [b_wrA, hx]))
  obtain ⟨P1, Ps, hlen, L1, hL, hP1m, hlink1, hlink⟩ := Bundle.chain0 (args := args) hpl Y.init0 names cls hcls hnames (fun x hx => h x (by simp [b_wrA, hx]))
  have hfound : s.vm.findClass cls = some P1.m.cls := findClass_of_methodNamed hP1m
  cases Option.some.inj (hfoundX.symm.trans hfound)
  obtain ⟨c1, kX', hc1, hk, hord, -, -, hn6⟩ := Cond.instantiable_spec (a' (.instantiable cls 8) (by simp [b_wrA]))
  cases Option.some.inj (hc1.symm.trans hfound)
  cases Option.some.inj (hkX.symm.trans hk)
  have hsel0 : selectMethod e.platform s.vm P1.m.cls T.fill0 = .method T.fill0 := by
    obtain ⟨c2, r2, m2, q1, q2, q3, q4, -⟩ := Cond.selects_spec (a' (.selects cls Bundle.tFill0 Bundle.tFill0) (by simp [b_wrA]))
    cases Option.some.inj (q1.symm.trans hfound)
    cases Option.some.inj (q2.symm.trans (State.methodFound?_of_named Y.fill0 (by decide)))
    cases Option.some.inj (q3.symm.trans Y.fill0)
    rw [Launch.admits_selectMethod X.admits]; exact q4
  have hselF : selectMethod e.platform s.vm P1.m.cls T.fill = .method T.fill := by
    obtain ⟨c2, r2, m2, q1, q2, q3, q4, -⟩ := Cond.selects_spec (a' (.selects cls Bundle.tFill Bundle.tFill) (by simp [b_wrA]))
    cases Option.some.inj (q1.symm.trans hfound)
    cases Option.some.inj (q2.symm.trans (State.methodFound?_of_named Y.fill (by decide)))
    cases Option.some.inj (q3.symm.trans Y.fill)
    rw [Launch.admits_selectMethod X.admits]; exact q4
  obtain ⟨cellS0, hcS0, hiss⟩ := Y.statics
  obtain ⟨u0, hu0⟩ := Cond.staticRefV Y.unassigned L.unassignedStatic L.statics hcS0 hiss (a' (.isRef (.static Bundle.tN "UNASSIGNED_STACK" Bundle.steD)) (by simp [b_wrA]))
  obtain ⟨sen, hsen⟩ := Cond.staticRefV Y.sentinel L.sentinelStatic L.statics hcS0 hiss (a' (.isRef (.static Bundle.tN "SUPPRESSED_SENTINEL" Bundle.listD)) (by simp [b_wrA]))
  obtain ⟨ci198, i198, fB, hk198, hg198, ha198, hsB, -, hnB, htB, hffB⟩ := Cond.ownField (t := .object "java/lang/Object") Y.found L.cls (by decide +kernel) (a' (.fieldLink Bundle.tN 198 Bundle.tN "backtrace" "Ljava/lang/Object;") (by simp [b_wrA])) (a' (.lays Bundle.tN Bundle.tN "backtrace" "Ljava/lang/Object;") (by simp [b_wrA])) e.platform hpl
  obtain ⟨cellS, hcS', heS, -, hkeep⟩ := X.same.2.2.2.2.2 T.aS cellS0 hcS0
  have hcellS : W.heap[T.aS]? = some cellS := hcS'
  have hout' : ∀ i, (⟨T.aS, i⟩ : Loc) ∉ locs := fun i hmem => by
    have := hlocs _ hmem cellS0 hcS0
    rw [hiss] at this; cases this
  have hknownS : cellS.vm ≠ .unknown := by
    rw [heS]; intro hu
    rw [show cellS0.vm = .unknown from hu] at hiss
    cases hiss
  have hneS : T.aS ≠ a := Nat.ne_of_lt (Nat.lt_of_lt_of_le (Array.getElem?_eq_some_iff.mp hcS0).1 hnew)
  obtain ⟨iM, hffM⟩ := Y.msg
  obtain ⟨tyC, dC, hdC, hdnC⟩ := Cond.laysAt hfound hk Y.cause (a' (.lays cls Bundle.tN "cause" "Ljava/lang/Throwable;") (by simp [b_wrA]))
  obtain ⟨tyS, dS, hdS, hdnS⟩ := Cond.laysAt hfound hk Y.stack (a' (.lays cls Bundle.tN "stackTrace" Bundle.steD) (by simp [b_wrA]))
  obtain ⟨tyP, dP, hdP, hdnP⟩ := Cond.laysAt hfound hk Y.supp (a' (.lays cls Bundle.tN "suppressedExceptions" Bundle.listD) (by simp [b_wrA]))
  obtain ⟨tyM, dM, hdM, hdnM⟩ := Cond.laysAt hfound hk hffM (a' (.lays cls Bundle.tN "detailMessage" "Ljava/lang/String;") (by simp [b_wrA]))
  obtain ⟨tyB, dB, hdB, hdnB⟩ := Cond.laysAt hfound hk hffB (a' (.lays cls Bundle.tN "backtrace" "Ljava/lang/Object;") (by simp [b_wrA]))
  have bC := Cond.laysApart hdB hdC hdnB hdnC (by rw [hnB, Y.causeName]; decide)
  have bS := Cond.laysApart hdB hdS hdnB hdnS (by rw [hnB, Y.stackName]; decide)
  have bP := Cond.laysApart hdB hdP hdnB hdnP (by rw [hnB, Y.suppName]; decide)
  have hskip : SkipFacts T e.platform s (fun u => u) u0 ((preparedCellV T.toThrowableT (freshCell P1.m.cls kX) a u0 sen).withEntry W.cur) :=
    ⟨{ ci198 := ci198, i198 := i198, fBack := fB }, ⟨hk198, hg198, ha198, hsB⟩, by
      have := fresh_default (c := P1.m.cls) tyB
      rw [htB] at this
      simpa [preparedCellV, Cell.setSlot, Cell.withEntry, Array.getElem?_setIfInBounds, bC, bS, bP, bC.symm, bS.symm, bP.symm, defaultValue] using this, fun _ _ => rfl⟩
  obtain ⟨tm, methC, cdC, kC, vm₁, hnC, -, -, -, -, -, -, -, hW₁, st1⟩ := Steps.initColdArgsNest (tb := p.tables) (e := e) (below := below) (s := s) (U := W) X.here hexec X.warmed hpl hown (host := host) (t := Bundle.init0 cls) rfl (Bundle.fit_spec hcls).2 (args := args)
    (a' (.methodLinkNest own ic (Bundle.init0 cls) host) (by simp [b_wrA])) (h (.instanceMethod (Bundle.init0 cls)) (by cases names <;> simp [b_wrA, Bundle.chain0Atoms, Bundle.passAtoms])) (bytes := Bundle.five) (maxL := 1) (h (.code (Bundle.init0 cls) Bundle.five 1 none) (by cases names <;> simp [b_wrA, Bundle.chain0Atoms, Bundle.passAtoms]))
    (f := g) hg (a := a) (argsL := []) (rest := .ref a :: rest) (fun sig hs => by
      have h9 : parseMethodDescriptor (Bundle.init0 cls).desc = some ⟨[], none⟩ := show parseMethodDescriptor "()V" = some ⟨[], none⟩ by decide
      rw [h9] at hs
      rw [← Option.some.inj hs]
      rfl) hstack hd6
  cases Option.some.inj (hnC.symm.trans hP1m)
  have X₁ := X.noted hW₁
  obtain ⟨vm₂, X₂, st2⟩ := X₁.ctorPlainOffV hexec (g := { g with stack := .ref a :: rest }) hg hsize T L Z LZ (P1 :: Ps)
    (fun P hP => by rcases List.mem_cons.mp hP with rfl | hP; exact L1; exact hL P hP) ⟨hlink1, hlink⟩ (u0 := u0) (sen := sen) (self := a) (cell := freshCell P1.m.cls kX) (cellS := cellS)
    hcell (fun _ => by simp) (by simp) rfl rfl hsel0 hselF hcellS hneS hknownS (by rw [hkeep _ (hout' _)]; exact hu0) (by rw [hkeep _ (hout' _)]; exact hsen)
    (Takes.of_laid hk hord tyC (by rw [Y.causeType]; rfl)) (Takes.of_laid hk hord tyS (by rw [Y.stackType]; exact fits_refV_array _ u0)) (Takes.of_laid hk hord tyP (by rw [Y.suppType]; exact fits_refV_object _ sen)) Y.objLocals hskip htr [] hd6
    (by simp only [List.length_cons, hlen]; omega) (by simp only [List.length_cons, hlen]; exact hRlocals)
  have hlt : a < ((W.setVm vm₁).setVm vm₂).heap.size := (Array.getElem?_eq_some_iff.mp hcell).1
  refine ⟨(W.setVm vm₁).setVm vm₂, _, _, X₂, fun y hy => ?_, hlt, rfl, rfl, fun O name desc ty c' i k' f hpd hff hly => ?_, fun target hwalk => st1 _ (fun acts => ?_)⟩
  · simp only [List.mem_cons, List.not_mem_nil, or_false] at hy
    rcases hy with rfl | rfl | rfl | rfl <;> rfl
  · obtain ⟨tyF, dF, hdF, hdnF⟩ := Cond.laysAt hfound hk hff hly
    obtain ⟨hnF, htF⟩ := State.fieldFound?_type hff hpd
    rw [htF] at tyF
    have h0 : (freshCell P1.m.cls kX).slots[f.slot]? = some (defaultValue ty) := by simp [tyF]
    obtain ⟨w1, a1, b1, d1⟩ := b_setSl (i := T.fCause.slot) (v := .ref a) h0
    obtain ⟨w2, a2, b2, d2⟩ := b_setSl (i := T.fStack.slot) (v := u0.v) a1
    obtain ⟨w3, a3, b3, d3⟩ := b_setSl (i := T.fSupp.slot) (v := sen.v) a2
    obtain ⟨w4, a4, b4, d4⟩ := b_setSl (i := T.fStack.slot) (v := u0.v) a3
    refine ⟨w4, a4, ?_, fun n1 n2 n3 => ?_⟩
    · have hr1 : w1 = defaultValue ty ∨ w1.isRef = true := by rcases b1 with h | h; exact Or.inr (by rw [h]; rfl); exact Or.inl h
      have hr2 : w2 = defaultValue ty ∨ w2.isRef = true := by rcases b2 with h | h; exact Or.inr (by rw [h]; exact u0.ok); rw [h]; exact hr1
      have hr3 : w3 = defaultValue ty ∨ w3.isRef = true := by rcases b3 with h | h; exact Or.inr (by rw [h]; exact sen.ok); rw [h]; exact hr2
      rcases b4 with h | h
      · exact Or.inr (by rw [h]; exact u0.ok)
      · rw [h]; exact hr3
    · have xC := Cond.laysApart hdC hdF hdnC hdnF (by rw [Y.causeName, hnF]; exact Ne.symm n1)
      have xS := Cond.laysApart hdS hdF hdnS hdnF (by rw [Y.stackName, hnF]; exact Ne.symm n2)
      have xP := Cond.laysApart hdP hdF hdnP hdnF (by rw [Y.suppName, hnF]; exact Ne.symm n3)
      rw [d4 xS, d3 xP, d2 xS, d1 xC]
  · rw [doInvoke_state]
    exact st2 _ hwalk
end B_WRK
section B_WRK2
variable {p : Program} {l : Launch} {e : Env} {R : Room} {s : State} {m : MethodId} {args : Array Value} {below : List Frame} {meth : Method} {c : Code} {H : Heap} {locs : List Loc} {cells slots : Nat} {Q : State → Prop}
variable {ls : Array Slot} {rest : List Value} {D : va_G} {cl : List vw_C} {tys : List (ClassId × FieldType)} {ws : va_W}
theorem b_makeN {cc : ByteArray} {pc : Nat} (hexec : p.tables.exec = Jvm.exec) (hb : c.code = cc) (hl : l.stackTraces = false) {own cls host : String} {names : List String} {ik ic ci : Nat} {A : Nat → Prop} {T0 : u_T} {N : Nat} (hT0 : ∀ k, k < N → (∃ ty, parseFieldDescriptor (T0 k).2.2.1 = some ty) ∧ Cond.lays cls (T0 k).1 (T0 k).2.1 (T0 k).2.2.1 ∈ lw_all) (hLall : ∀ w ∈ lw_all, w.before args s = true)
    (hown : s.vm.findClass own = some m.cls) (hcls : Bundle.fit cls = true) (hnames : ∀ n ∈ names, Bundle.fit n = true)
    (hk : (Cond.classLink own ik cls).before args s = true) (hini : (Cond.initialized cls).before args s = true) (hat : ∀ w ∈ (b_wrA own ic cls names host).filter vx_no, w.before args s = true)
    (hgood : ∀ w ∈ Cond.classLink own ik cls :: Cond.initialized cls :: (b_wrA own ic cls names host).filter vx_no, vx_ot w = true)
    (hU : vx_Zq Bundle.tN "UNASSIGNED_STACK" Bundle.steD A s s.heap) (hN : vx_Zq Bundle.tN "SUPPRESSED_SENTINEL" Bundle.listD A s s.heap) (hS : va_S A s.heap H locs) (hsize : ls.size = c.maxLocals)
    (d0 : decode cc pc = .ok (.new ik, 3)) (d3 : decode cc (pc + 3) = .ok (.dup, 1)) (d4 : decode cc (pc + 4) = .ok (.invokespecial ic, 3))
    (hK : va_K D cl tys s) (hP : va_P D cl ws H) (hD : va_D A ws) (hA : ∀ q, s.heap.size ≤ q → A q) (hc : cl[ci]? = some (cls, T0, N))
    (hRframes : names.length + 3 < R.frames) (hRlocals : (rest.map fun v => v.category).sum + (13 * (names.length + 1) + 42) ≤ R.locals) (hRcells : cells + 1 ≤ R.cells) (hRslots : slots + 8 ≤ R.slots)
    (kk : ∀ (q : Nat) (H1 : Heap) (fs : List Value), fs.length = N → (∀ k, k < N → ∀ ty, parseFieldDescriptor (T0 k).2.2.1 = some ty → (fs.getD k .null = defaultValue ty ∨ (fs.getD k .null).isRef = true) ∧ ((T0 k).2.1 ≠ "cause" → (T0 k).2.1 ≠ "stackTrace" → (T0 k).2.1 ≠ "suppressedExceptions" → fs.getD k .null = defaultValue ty)) → va_P D cl (ws ++ [(q, .inr (ci, fs))]) H1 → va_D A (ws ++ [(q, .inr (ci, fs))]) → va_S A s.heap H1 locs → W p l e R s m args below meth c H1 locs (cells + 1) (slots + 8) Q (F0 m (pc + 7) ls (.ref q :: rest))) :
    W p l e R s m args below meth c H locs cells slots Q (F0 m pc ls rest) := by
  intro T hT X
  subst hT
  have htr : e.platform.stackTraces = false := (show e.platform.stackTraces = l.stackTraces by rw [X.admits.platform]).trans hl
  have Y := vx_rebase X (R' := { frames := R.frames, locals := R.locals, cells := 1, slots := 8 }) (Nat.le_refl _) (Nat.le_refl _) hRcells hRslots
  obtain ⟨s', hA'⟩ : ∃ z, z = (T.setVm s.vm).setFrames (.invoking m args :: below) := ⟨_, rfl⟩
  rw [← hA'] at Y
  have hvm : s'.vm = s.vm := by rw [hA']; rfl
  have hhp : s'.heap = T.heap := by rw [hA']; rfl
  have hW0 : s.WarmedH s'.vm := by rw [hvm]; exact State.WarmedH.refl s
  have hat' : ∀ w ∈ (b_wrA own ic cls names host).filter vx_no, w.before args s' = true := fun w hw => vx_ot_at hW0 hvm.symm (hgood w (List.mem_cons_of_mem _ (List.mem_cons_of_mem _ hw))) (hat w hw)
  have hk' : (Cond.classLink own ik cls).before args s' = true := vx_ot_at hW0 hvm.symm (hgood _ List.mem_cons_self) hk
  have hini' : (Cond.initialized cls).before args s' = true := vx_ot_at hW0 hvm.symm (hgood _ (List.mem_cons_of_mem _ List.mem_cons_self)) hini
  have hU' : vx_Zq Bundle.tN "UNASSIGNED_STACK" Bundle.steD A s' s'.heap := by rw [hhp]; exact vx_Zq.moved hW0.alike (hU.kept hS.2.1)
  have hN' : vx_Zq Bundle.tN "SUPPRESSED_SENTINEL" Bundle.listD A s' s'.heap := by rw [hhp]; exact vx_Zq.moved hW0.alike (hN.kept hS.2.1)
  have h : ∀ w ∈ b_wrA own ic cls names host, w.before args s' = true := vx_own hat' (vx_isRefq hU'.1) (vx_isRefq hN'.1) hU'.2.word hN'.2.word
  have hown' : s'.vm.findClass own = some m.cls := by rw [hvm]; exact hown
  have hins : (Cond.instantiable cls 8).before args s' = true := h _ (by simp [b_wrA])
  obtain ⟨vm₁, cX, kX, hfX, hkX, -, -, X₁, st1⟩ := Y.newCold hexec (own := own) (C := cls) (index := ik) (n := 8) hown' hk' hins hini'
    (g := F0 m pc ls rest) rfl (by rw [hb]; exact d0) (Nat.le_refl _) (Nat.le_refl _)
  generalize hT1 : (T.setVm vm₁).pushCell { cls := cX, slots := kX.instanceTypes.map defaultValue, vm := .none } = T1 at X₁ st1
  have hcat : (Value.ref T.heap.size).category = 1 := rfl
  have hcellA : T1.heap[T.heap.size]? = some (freshCell cX kX) := by rw [← hT1]; exact State.heap_pushCell_size _ _
  have d3' : decode c.code (pc + 3) = .ok (.dup, 1) := by rw [hb]; exact d3
  obtain ⟨V, ce, L, Z, hL, hlt, hcl9, hvm9, hsl9, st⟩ := b_ctorMadeN X₁ hexec htr (own := own) (cls := cls) (names := names) (ic := ic) hown' hcls hnames h (fun x hx => nomatch hx) hfX hkX hcellA (by rw [hhp]; exact Nat.le_refl _)
    (g := { method := m, pc := pc + 4, locals := ls, stack := .ref T.heap.size :: .ref T.heap.size :: rest, locked := none }) rfl hsize (rest := rest) rfl
    (by rw [hb]; exact d4) hRframes (by simp only [List.map_cons, List.sum_cons, hcat]; omega)
  have Z0 := Stand.forget (locs := []) Z (fun y hy => by rw [hL y hy, hhp]; exact Nat.le_refl _)
  obtain ⟨f1, f2⟩ := vx_frame Z0.same
  rw [hhp] at f1 f2
  have hcid : ce.cls = D.1 ci := by
    rw [hcl9]
    have h1 := (hK.1 ci _ hc).2.1
    rw [hvm] at hfX
    exact Option.some.inj (hfX.symm.trans h1)
  have hh : (V.setCell T.heap.size ce).heap[T.heap.size]? = some ce := heapAt_setCell_self (s := V) ce hlt
  subst hA'
  have X5 := vx_back9 X Y Z0
  have X6 : Stand p l e R s m args below meth c (V.setCell T.heap.size ce) locs (cells + 1) (slots + 8) := { X5 with same := X5.same.mono (by omega) (by omega) }
  have hk9 : ∀ (k : Nat) (x : Nat × va_E), ws[k]? = some x → (V.setCell T.heap.size ce).heap[x.1]? = T.heap[x.1]? := fun k x hx => f2 x.1 ((hP k x hx).lt) (fun z hz => nomatch hz)
  have hsl : ∀ k, k < N → ∃ w, ce.slots[D.2 ci k]? = some w ∧ ∀ ty, parseFieldDescriptor (T0 k).2.2.1 = some ty → (w = defaultValue ty ∨ w.isRef = true) ∧ ((T0 k).2.1 ≠ "cause" → (T0 k).2.1 ≠ "stackTrace" → (T0 k).2.1 ≠ "suppressedExceptions" → w = defaultValue ty) := by
    intro k hk
    obtain ⟨⟨ty, hty⟩, hly⟩ := hT0 k hk
    obtain ⟨cf, kf, fi, fd, hff, hsd⟩ := (hK.1 ci _ hc).1 k hk
    obtain ⟨w, w1, w2, w3⟩ := hsl9 (T0 k).1 (T0 k).2.1 (T0 k).2.2.1 ty cf fi kf fd hty hff (hLall _ hly)
    rw [hsd] at w1
    refine ⟨w, w1, fun ty' hty' => ?_⟩
    cases hty.symm.trans hty'
    exact ⟨w2, w3⟩
  have hfs : ∀ k, k < N → ((List.range N).map fun k => (ce.slots[D.2 ci k]?).getD .null).getD k .null = (ce.slots[D.2 ci k]?).getD .null := fun k hk => by
    rw [List.getD_eq_getElem?_getD, List.getElem?_map, List.getElem?_range hk]
    rfl
  obtain ⟨t, a1, b1⟩ := kk T.heap.size (V.setCell T.heap.size ce).heap ((List.range N).map fun k => (ce.slots[D.2 ci k]?).getD .null) (by rw [List.length_map, List.length_range]) (fun k hk ty hty => by
      obtain ⟨w, w1, w2⟩ := hsl k hk
      rw [hfs k hk, w1]
      exact w2 ty hty) ((hP.kept hk9).app (fun k x hx => by
      have hz : k < 1 := (List.getElem?_eq_some_iff.mp hx).1
      rw [show k = 0 by omega] at hx
      cases hx
      refine ⟨_, hc, ce, hh, hcid, hvm9, fun k hk => ?_⟩
      obtain ⟨w, w1, w2⟩ := hsl k hk
      show _ = some (((List.range N).map fun k => (ce.slots[D.2 ci k]?).getD .null).getD k .null)
      rw [hfs k hk, w1]
      rfl)) (hD.push hP rfl (hA _ hS.1)) ⟨Nat.le_trans hS.1 f1, fun q h1 h2 => (f2 q (Nat.lt_of_lt_of_le h1 hS.1) (fun z hz => nomatch hz)).trans (hS.2.1 q h1 h2), hS.2.2⟩ _ rfl X6
  refine ⟨t, st1 _ ?_, b1⟩
  show Steps p.tables e below (T1.setTop { method := m, pc := pc + 3, locals := ls, stack := .ref T.heap.size :: rest, locked := none }) _
  jvm_step X₁.here [X₁.here.top, hexec, d3', Value.category]
  exact st _ a1
end B_WRK2
