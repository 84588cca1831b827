/-! ===== casts that fail; instanceof and casts of arrays; stores and new arrays that throw ===== -/
set_option maxRecDepth 100000
theorem b_fcS {vm : Vm} {name : String} {c : ClassId} (h : vm.findClass name = some c) : ∃ k, vm.classes[c]? = some k ∧ k.name = name ∧ k.hidden = none ∧ k.loader = none := by
  obtain ⟨hlt, hp, _⟩ := Array.findIdx?_eq_some_iff_getElem.mp h
  refine ⟨vm.classes[c], by simp [hlt], ?_⟩
  simp only [Bool.and_eq_true, beq_iff_eq, Option.isNone_iff_eq_none] at hp
  exact ⟨hp.1.1.1, hp.1.1.2, hp.2⟩
theorem b_home {vm : Vm} {k : Class} (hm : (vm.modules.all fun m => m.loader.isSome || m.name == "java.base" || !(castPackages_1.any fun p => m.packages.contains p)) = true) (hl : k.loader = none) (hp : castPackages_1.contains (packageOf k.name) = true) : (vm.home k).toList.length ≤ 40 := by
  have h2 : vm.loaderName k.loader = "'bootstrap'" := by rw [hl]; rfl
  have h1 : ∀ mi, vm.moduleOf k = some mi → mi.name = "java.base" := by
    intro mi h
    unfold Vm.moduleOf at h
    split at h
    · have := List.find?_some h
      simpa using this
    · have h3 := List.find?_some h
      have h4 := List.mem_of_find?_eq_some h
      have h5 := List.all_eq_true.mp hm mi h4
      rw [hl] at h3
      simp only [Bool.and_eq_true, beq_iff_eq] at h3
      simp only [Bool.or_eq_true, beq_iff_eq, Bool.not_eq_true'] at h5
      rcases h5 with (h5 | h5) | h5
      · rw [h3.1] at h5; cases h5
      · exact h5
      · have h6 : (castPackages_1.any fun p => mi.packages.contains p) = true := List.any_eq_true.mpr ⟨packageOf k.name, by simpa using hp, h3.2⟩
        rw [h6] at h5; cases h5
  unfold Vm.home
  rw [h2]
  cases hq : vm.moduleOf k with
  | none => decide
  | some mi =>
    show ("module " ++ mi.name ++ " of loader " ++ "'bootstrap'").toList.length ≤ 40
    rw [h1 mi hq]
    decide
theorem b_tl {a b : String} {n k : Nat} (h1 : a.toList.length ≤ n) (h2 : b.toList.length ≤ k) : (a ++ b).toList.length ≤ n + k := by
  rw [String.toList_append, List.length_append]; omega
theorem b_tlb {s : String} {n : Nat} (h : s.toList.length ≤ n) : (stringBytes (stringToUtf16 s)).size ≤ 4 * n := by
  have b1 := stringBytes_size_le (stringToUtf16 s)
  have b2 := utf16_size_le s
  omega
theorem b_nmod {s : String} {c : Char} {r : List Char} (h : s.toList = c :: r) (hc : c ≠ '\u0000') : (s == notModelled) = false := by
  rw [beq_eq_false_iff_ne]
  intro h1
  have h2 := congrArg String.toList h1
  have h4 : notModelled.toList = '\u0000' :: " a message that is not modelled".toList := by decide
  rw [h, h4] at h2
  cases h2
  exact hc rfl
/-- the text of a failing cast between two of the start's classes: bounded, and no 'not modelled' -/
theorem b_ccTx {vm : Vm} {ks kt : Class} (hm : (vm.modules.all fun m => m.loader.isSome || m.name == "java.base" || !(castPackages_1.any fun p => m.packages.contains p)) = true) (l1 : ks.loader = none) (l2 : kt.loader = none) (p1 : castPackages_1.contains (packageOf ks.name) = true) (p2 : castPackages_1.contains (packageOf kt.name) = true) (n1 : ks.shown.toList.length ≤ 4) (n2 : kt.shown.toList.length ≤ 4) :
    ((checkcast.message vm ks kt) == notModelled) = false ∧ (stringBytes (stringToUtf16 (checkcast.message vm ks kt))).size ≤ 1000 := by
  have h1 := b_home hm l1 p1
  have h2 := b_home hm l2 p2
  have hh : (vm.homes ks kt).toList.length ≤ 120 := by
    unfold Vm.homes
    split
    · show (toString ks.shown ++ toString " and " ++ toString kt.shown ++ toString " are in " ++ toString (vm.home ks)).toList.length ≤ 120
      exact Nat.le_trans (b_tl (b_tl (b_tl (b_tl n1 (k := 5) (by decide)) n2) (k := 8) (by decide)) h1) (by omega)
    · show (toString ks.shown ++ toString " is in " ++ toString (vm.home ks) ++ toString "; " ++ toString kt.shown ++ toString " is in " ++ toString (vm.home kt)).toList.length ≤ 120
      exact Nat.le_trans (b_tl (b_tl (b_tl (b_tl (b_tl (b_tl n1 (k := 7) (by decide)) h1) (k := 2) (by decide)) n2) (k := 7) (by decide)) h2) (by omega)
  have hl : (checkcast.message vm ks kt).toList.length ≤ 200 := by
    show (toString "class " ++ toString ks.shown ++ toString " cannot be cast to class " ++ toString kt.shown ++ toString " (" ++ toString (vm.homes ks kt) ++ toString ")").toList.length ≤ 200
    refine Nat.le_trans (b_tl (b_tl (b_tl (b_tl (b_tl (b_tl (n := 6) (by decide) n1) (k := 25) (by decide)) n2) (k := 2) (by decide)) hh) (k := 1) (by decide)) (by omega)
  refine ⟨b_nmod (c := 'c') (r := "lass ".toList ++ ks.shown.toList ++ " cannot be cast to class ".toList ++ kt.shown.toList ++ " (".toList ++ (vm.homes ks kt).toList ++ ")".toList) ?_ (by decide), Nat.le_trans (b_tlb hl) (by omega)⟩
  show (toString "class " ++ toString ks.shown ++ toString " cannot be cast to class " ++ toString kt.shown ++ toString " (" ++ toString (vm.homes ks kt) ++ toString ")").toList = _
  simp only [String.toList_append]
  rfl
section B_OPK0
variable {p : Program} {l : Launch} {e : Env} {R : Room} {s : State} {m : MethodId} {args : Array Value} {below : List Frame} {meth : Method} {c : Code} {H : Heap} {locs : List Loc} {cells slots : Nat} {Q : State → Prop}
variable {cc : ByteArray} {pc : Nat} {ls : Array Slot} {rest : List Value} {a : Nat}
theorem b_castX (hexec : p.tables.exec = Jvm.exec) (hb : c.code = cc) {own C nm : String} {index : Nat} (hown : s.vm.findClass own = some m.cls) (hlink : (Cond.classLink own index nm).before args s = true) (hc : va_Nc C nm s)
    (hr : ∃ cell : Cell, H[a]? = some cell ∧ cell.vm.isStatics = false ∧ s.vm.findClass C = some cell.cls) (hdg : decode cc pc = .ok (.checkcast index, 3))
    (k : ∀ (vm' : Vm) (ks kt : Class), s.WarmedH vm' → vm'.findClass C = s.vm.findClass C → (∃ q, vm'.findClass C = some q ∧ vm'.classes[q]? = some ks) → (∃ q, vm'.findClass nm = some q ∧ vm'.classes[q]? = some kt) → vx_Note p l e R s m args below meth c H locs cells slots Q (F0 m pc ls (.ref a :: rest)) "java/lang/ClassCastException" (checkcast.message vm' ks kt)) : W p l e R s m args below meth c H locs cells slots Q (F0 m pc ls (.ref a :: rest)) := by
  obtain ⟨cell, hcell, hobj, h3⟩ := hr
  obtain ⟨c0, cT, f1, f2, f3⟩ := hc
  cases h3.symm.trans f1
  intro T hT X
  obtain ⟨ks, hks, -⟩ := Vm.findClass_spec h3
  have hpl : e.platform.magicAccessors = ({} : Platform).magicAccessors := by rw [X.admits.platform]
  obtain ⟨c', hc', hcl⟩ := Cond.classLink_spec hown hlink e.platform hpl
  cases f2.symm.trans hc'
  obtain ⟨dk, _, _, kt, hd, _, _, _, _, hkt, _, hopen⟩ := hcl.here
  have hcl₀ := X.warmed.classLinks hcl
  have hW' : s.WarmedH (T.vm.noted m.cls index (.cls cT)) := X.warmed.noted hd hopen (State.rightAt_cls hcl)
  obtain ⟨ks', hks', -⟩ := hW'.alike.2.2 _ _ hks
  obtain ⟨kt', hkt', -⟩ := hW'.alike.2.2 _ _ hkt
  obtain ⟨t, st, q⟩ := k _ ks' kt' hW' (hW'.alike.findClass _ _) ⟨_, by rw [hW'.alike.findClass]; exact h3, hks'⟩ ⟨_, by rw [hW'.alike.findClass]; exact f2, hkt'⟩ (T.setVm (T.vm.noted m.cls index (.cls cT))) hT (X.noted hW')
  refine ⟨t, ?_, q⟩
  have hdg' : decode c.code pc = .ok (.checkcast index, 3) := by rw [hb]; exact hdg
  jvm_step X.here [hexec, hdg', checkcast.wp_cold (e := e) (s := T) (f := F0 m pc ls (.ref a :: rest)) X.here.top rfl (resolveClass_links e.toSetting hcl₀) hcl₀.ready,
    checkcast.wp_ready (e := e) (s := T.setVm (T.vm.noted m.cls index (.cls cT))) (f := F0 m pc ls (.ref a :: rest)) X.here.top hcl₀.ready rfl]
  refine ⟨cell, by rw [hT]; exact hcell, VmData.noStatics_of hobj, ks', hks', kt', hkt', ?_⟩
  have h1 : (T.vm.noted m.cls index (Resolved.cls cT)).assignable cell.cls cT = false := by rw [hW'.alike.assignable]; exact f3
  simp only [h1, Bool.false_eq_true, if_false]
  exact st
end B_OPK0
