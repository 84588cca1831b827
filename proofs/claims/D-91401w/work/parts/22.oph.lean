/-! ===== calls by kind ===== -/
set_option maxRecDepth 100000
section B_OPH
variable {nm : Nat → MethodName} {bc : Nat → ByteArray} {mL : Nat → Nat} {rt : Nat → Option FieldType} {hh : Nat → List (Nat × Nat × Nat × Nat)} {T : Tb} {y pc nx tgt d : Nat} {L : Lc} {st : List Value} {σ : Sg}
def b_np (x : MethodName) (n : Nat) : Prop := (parseMethodDescriptor x.desc).map (fun d => d.parameters.length) = some n
theorem b_np_len {x : MethodName} {n : Nat} (h : b_np x n) : ∀ sig, parseMethodDescriptor x.desc = some sig → n = sig.parameters.length := by
  intro sig hs
  unfold b_np at h
  rw [hs] at h
  exact (Option.some.inj h).symm
def b_pkS (y' : Nat) : List Value → Sg → Option Nat := fun _ _ => some y'
theorem ok_callS {own : String} {idx n y' wd : Nat} {vd : Bool} {hc : List (Nat × Nat)} (hd : decode (bc y) pc = .ok (.invokestatic idx, 3)) (hown : own = (nm y).cls) (hHC : b_HC nm hh y pc hc) (hF : b_MF nm bc mL rt hh y') (hwd : wd ≤ mL y') (h0 : hh y' = []) (q1 : Cond.methodLink own idx (nm y') ∈ lw_all) (q2 : Cond.static (nm y') ∈ lw_all) (hn : b_np (nm y') n) : b_OK nm bc mL rt hh T y pc (i_call (b_pkS y') n wd vd hc (pc + 3)) := by
  refine ok_call hHC (fun As σ y'' h => by cases h; exact ⟨hF, hwd⟩) ?_
  intro As σ y'' hp hlen d p l e R s m args below meth c D tys z wsE hcx ws H locs ls mAs rest cells slots hH hV hls hr8 Pre Post PostX hK T0 hT0 X hpre
  cases hp
  subst hown
  obtain ⟨hx, hbc, hfo, hts, -⟩ := hcx
  obtain ⟨f1, f2, f3, f4⟩ := hF
  rcases f1 with ⟨-, f1⟩ | ⟨f1, -⟩
  · have hl : mAs.length = n := by rw [← VRs_len hV]; exact hlen
    have := vx_callS X hx hfo (hts _ q1) (hts _ q2) (hts _ f2) (hts _ f1) f4 hK (g := F0 m pc ls (mAs.reverse ++ rest)) rfl hls (argsL := mAs) (rest := rest) (fun sig h => hl.trans (b_np_len hn sig h)) rfl (by show 2 * 0 + _ ≤ 8; omega) (by rw [hbc]; exact hd) hpre
    exact this
  · exact absurd h0 f1
/-- by the receiver's class -/
def b_pkV (tt : List (Nat × Nat)) : List Value → Sg → Option Nat := fun As σ => match As with
  | .ref a :: _ => b_lkN tt (b_tg σ a)
  | _ => none
/-- the receiver's cell -/
theorem b_rcv {d : Nat} {p : Program} {l : Launch} {R : Room} {s : State} {m : MethodId} {args : Array Value} {meth : Method} {c : Code} {D : va_G} {tys : List (ClassId × FieldType)} {z : Nat} {wsE : List Nat} (hcx : b_Cx nm bc mL rt hh y d p l R s m args meth c D tys z wsE) {ws : va_W} {H : Heap} {locs : List Loc} (hH : b_Hr D tys z wsE ws s σ H locs) {a b t : Nat} {r : vw_C} (hb : (b_G wsE ws)[a]? = some b) (ht : b_tg σ a = t) (h0 : 0 < t) (hr : b_cl[t - 1]? = some r) :
    ∃ cell : Cell, H[b]? = some cell ∧ cell.vm.isStatics = false ∧ s.vm.findClass r.1 = some cell.cls ∧ ∃ kB : Class, s.vm.classes[cell.cls]? = some kB := by
  obtain ⟨hx, hbc, hfo, hts, -, -, -, -, -, hW, -⟩ := hcx
  obtain ⟨cell, c1, c2, c3, c4, -⟩ := b_RDo (b_Hr_rd hts hW hH hb) (ci := t - 1) (show (σ.2.2.2 a).1 = t - 1 + 1 by show b_tg σ a = _; omega) hr
  obtain ⟨k1, kC, k3, -⟩ := (hW.1.1.1 _ _ hr).2
  have k5 : cell.cls = D.1 (t - 1) := Option.some.inj (c4.symm.trans k1)
  exact ⟨cell, c1, c2, c4, kC, by rw [k5]; exact k3⟩
/-- the ways in which a receiver's class answers a call: its own method (1), by a nest mate's link (2), with handlers (3), an abstract one that it has (4) -/
def b_VF (own : String) (idx n t y' : Nat) (nm : Nat → MethodName) (bc : Nat → ByteArray) (mL : Nat → Nat) (rt : Nat → Option FieldType) (hh : Nat → List (Nat × Nat × Nat × Nat)) : Prop := 0 < t ∧ ∃ r : vw_C, b_cl[t - 1]? = some r ∧ Cond.instanceMethod (nm y') ∈ lw_all ∧
  ((hh y' = [] ∧ Cond.methodLink own idx (nm y') ∈ lw_all ∧ Cond.selects r.1 (nm y') (nm y') ∈ lw_all ∧ b_np (nm y') n) ∨
   (hh y' = [] ∧ (∃ host, Cond.methodLinkNest own idx (nm y') host ∈ lw_tbl) ∧ Cond.selects r.1 (nm y') (nm y') ∈ lw_all ∧ b_np (nm y') n) ∨
   (hh y' ≠ [] ∧ Cond.methodLink own idx (nm y') ∈ lw_all ∧ Cond.selects r.1 (nm y') (nm y') ∈ lw_all ∧ b_np (nm y') n) ∨
   (hh y' = [] ∧ ∃ x : MethodName, Cond.methodLink own idx x ∈ lw_all ∧ Cond.sameMethod x.cls x.cls x.name x.desc ∈ lw_all ∧ Cond.declares x ∈ lw_tbl ∧ Cond.selects r.1 x (nm y') ∈ lw_all ∧ b_np x n ∧ (x.cls ≠ "java/lang/invoke/MethodHandle" ∧ x.cls ≠ "java/lang/invoke/VarHandle")))
theorem ok_callV {own : String} {idx n wd : Nat} {tt : List (Nat × Nat)} {vd : Bool} {hc : List (Nat × Nat)} (hd : decode (bc y) pc = .ok (.invokevirtual idx, 3)) (hown : own = (nm y).cls) (hHC : b_HC nm hh y pc hc) (hF : ∀ q ∈ tt, b_MF nm bc mL rt hh q.2 ∧ wd ≤ mL q.2 ∧ b_VF own idx n q.1 q.2 nm bc mL rt hh) : b_OK nm bc mL rt hh T y pc (i_call (b_pkV tt) (n + 1) wd vd hc (pc + 3)) := by
  refine ok_call hHC (fun As σ y'' h => ?_) ?_
  · unfold b_pkV at h
    split at h
    · exact ⟨(hF _ (b_lkN_mem h)).1, (hF _ (b_lkN_mem h)).2.1⟩
    · cases h
  · intro As σ y'' hp hlen d p l e R s m args below meth c D tys z wsE hcx ws H locs ls mAs rest cells slots hH hV hls hr8 Pre Post PostX hK T0 hT0 X hpre
    unfold b_pkV at hp
    split at hp
    · next a As' =>
      obtain ⟨⟨f1, f2, f3, f4⟩, -, h0, r, g1, g2, g3⟩ := hF _ (b_lkN_mem hp)
      obtain ⟨w, mAs', rfl, hw, hV'⟩ := VRs_cons hV
      obtain ⟨b, hb, rfl⟩ := hw
      obtain ⟨cell, c1, c2, c3, kB, c5⟩ := b_rcv hcx hH hb rfl h0 g1
      subst hown
      obtain ⟨hx, hbc, hfo, hts, -, -, -, -, -, hW, -⟩ := hcx
      have hl : mAs'.length = n := by
        rw [← VRs_len hV']
        simpa using hlen
      have hst : (F0 m pc ls ((Value.ref b :: mAs').reverse ++ rest)).stack = mAs'.reverse ++ .ref b :: rest := by simp
      rcases g3 with ⟨e0, e1, e2, e3⟩ | ⟨e0, ⟨host, e1⟩, e2, e3⟩ | ⟨e0, e1, e2, e3⟩ | ⟨e0, x, e1, e2, e3, e4, e5, e6⟩
      · rcases f1 with ⟨-, f1⟩ | ⟨f1, -⟩
        · exact vx_callV X hx hfo (hts _ e1) (hts _ g2) (hts _ e2) (hts _ f1) f4 hK (by rw [hT0]; exact c1) c2 c3 rfl hls (fun sig h => hl.trans (b_np_len e3 sig h)) hst (by show 2 * 0 + _ ≤ 8; omega) (by rw [hbc]; exact hd) hpre
        · exact absurd e0 f1
      · rcases f1 with ⟨-, f1⟩ | ⟨f1, -⟩
        · exact vx_callVN X hx hfo (va_Nw.use rfl (hW.2.1 _ e1 rfl)) (hts _ g2) (hts _ e2) (hts _ f1) f4 hK (by rw [hT0]; exact c1) c2 c3 rfl hls (fun sig h => hl.trans (b_np_len e3 sig h)) hst (by show 2 * 0 + _ ≤ 8; omega) (by rw [hbc]; exact hd) hpre
        · exact absurd e0 f1
      · rcases f1 with ⟨f1, -⟩ | ⟨-, f1⟩
        · exact absurd f1 e0
        · exact vx_callVX X hx hfo (hts _ e1) (hts _ g2) (hts _ e2) (hts _ f1) f4 hK (by rw [hT0]; exact c1) c2 c3 rfl hls (fun sig h => hl.trans (b_np_len e3 sig h)) hst (by show 2 * 0 + _ ≤ 8; omega) (by rw [hbc]; exact hd) hpre
      · rcases f1 with ⟨-, f1⟩ | ⟨f1, -⟩
        · exact vx_callVU X hx hfo (hts _ e1) (hts _ e2) (va_Decl.abs (hW.2.1 _ e3 rfl)) e6 (hts _ e4) (hts _ g2) (hts _ f1) hK (by rw [hT0]; exact c1) c2 c3 rfl hls (fun sig h => hl.trans (b_np_len e5 sig h)) hst (by show 2 * 0 + _ ≤ 8; omega) (by rw [hbc]; exact hd) hpre
        · exact absurd e0 f1
    · cases hp
def b_pkI (y' : Nat) : List Value → Sg → Option Nat := fun As _ => match As with
  | .ref _ :: _ => some y'
  | _ => none
/-- a constructor: by its own link, or a nest mate's -/
theorem ok_callI {own : String} {idx n y' wd : Nat} {hc : List (Nat × Nat)} (hd : decode (bc y) pc = .ok (.invokespecial idx, 3)) (hown : own = (nm y).cls) (hHC : b_HC nm hh y pc hc) (hF : b_MF nm bc mL rt hh y') (hwd : wd ≤ mL y') (h0 : hh y' = []) (hrt : rt y' = none) (hy1 : (nm y').name = "<init>") (q1 : Cond.methodLink own idx (nm y') ∈ lw_all ∨ ∃ host, Cond.methodLinkNest own idx (nm y') host ∈ lw_tbl) (q2 : Cond.instanceMethod (nm y') ∈ lw_all) (hn : b_np (nm y') n) : b_OK nm bc mL rt hh T y pc (i_call (b_pkI y') (n + 1) wd true hc (pc + 3)) := by
  refine ok_call hHC (fun As σ y'' h => ?_) ?_
  · unfold b_pkI at h
    split at h
    · cases h; exact ⟨hF, hwd⟩
    · cases h
  · intro As σ y'' hp hlen d p l e R s m args below meth c D tys z wsE hcx ws H locs ls mAs rest cells slots hH hV hls hr8 Pre Post PostX hK T0 hT0 X hpre
    unfold b_pkI at hp
    split at hp
    · next a As' =>
      cases hp
      subst hown
      obtain ⟨hx, hbc, hfo, hts, -, -, -, -, -, hW, -⟩ := hcx
      obtain ⟨f1, f2, f3, f4⟩ := hF
      rcases f1 with ⟨-, f1⟩ | ⟨f1, -⟩
      · rw [hrt] at f1
        obtain ⟨w, mAs', rfl, hw, hV'⟩ := VRs_cons hV
        obtain ⟨b, hb, rfl⟩ := hw
        have hl : mAs'.length = n := by
          rw [← VRs_len hV']
          simpa using hlen
        have hst : (F0 m pc ls ((Value.ref b :: mAs').reverse ++ rest)).stack = mAs'.reverse ++ .ref b :: rest := by simp
        rcases q1 with q1 | ⟨host, q1⟩
        · exact vx_callI X hx hfo hy1 (hts _ q1) (hts _ q2) (hts _ f1) f4 hK rfl hls (fun sig h => hl.trans (b_np_len hn sig h)) hst (by show 2 * 0 + _ ≤ 8; omega) (by rw [hbc]; exact hd) hpre
        · exact vx_callIN X hx hfo hy1 (va_Nw.use rfl (hW.2.1 _ q1 rfl)) (hts _ q2) (hts _ f1) f4 hK rfl hls (fun sig h => hl.trans (b_np_len hn sig h)) hst (by show 2 * 0 + _ ≤ 8; omega) (by rw [hbc]; exact hd) hpre
      · exact absurd h0 f1
    · cases hp
/-- super's method -/
theorem ok_callSU {own : String} {idx n y' wd : Nat} {ots : List Nat} {vd : Bool} {hc : List (Nat × Nat)} (hd : decode (bc y) pc = .ok (.invokespecial idx, 3)) (hown : own = (nm y).cls) (hHC : b_HC nm hh y pc hc) (hF : b_MF nm bc mL rt hh y') (hwd : wd ≤ mL y') (h0 : hh y' = []) (hy1 : (nm y').name ≠ "<init>") (q1 : Cond.methodLink own idx (nm y') ∈ lw_all) (q2 : Cond.instanceMethod (nm y') ∈ lw_all) (q3 : Cond.sameMethod (nm y').cls (nm y').cls (nm y').name (nm y').desc ∈ lw_all) (q4 : Cond.superclass own (nm y').cls ∈ lw_all) (hn : b_np (nm y') n) (ho : ∀ o ∈ ots, 0 < o ∧ ∃ r, b_cl[o - 1]? = some r) : b_OK nm bc mL rt hh T y pc (i_call (b_pkV (ots.map fun o => (o, y'))) (n + 1) wd vd hc (pc + 3)) := by
  refine ok_call hHC (fun As σ y'' h => ?_) ?_
  · unfold b_pkV at h
    split at h
    · obtain ⟨o, ho1, ho2⟩ := List.mem_map.mp (b_lkN_mem h)
      cases ho2
      exact ⟨hF, hwd⟩
    · cases h
  · intro As σ y'' hp hlen d p l e R s m args below meth c D tys z wsE hcx ws H locs ls mAs rest cells slots hH hV hls hr8 Pre Post PostX hK T0 hT0 X hpre
    unfold b_pkV at hp
    split at hp
    · next a As' =>
      obtain ⟨o, ho1, ho2⟩ := List.mem_map.mp (b_lkN_mem hp)
      have ho3 : o = b_tg σ a := congrArg Prod.fst ho2
      have ho4 : y' = y'' := congrArg Prod.snd ho2
      subst ho4
      obtain ⟨h1, r, h2⟩ := ho o ho1
      obtain ⟨f1, f2, f3, f4⟩ := hF
      obtain ⟨w, mAs', rfl, hw, hV'⟩ := VRs_cons hV
      obtain ⟨b, hb, rfl⟩ := hw
      obtain ⟨cell, c1, c2, c3, kB, c5⟩ := b_rcv hcx hH hb ho3.symm h1 h2
      subst hown
      obtain ⟨hx, hbc, hfo, hts, -, -, -, -, -, hW, -⟩ := hcx
      have hl : mAs'.length = n := by
        rw [← VRs_len hV']
        simpa using hlen
      have hst : (F0 m pc ls ((Value.ref b :: mAs').reverse ++ rest)).stack = mAs'.reverse ++ .ref b :: rest := by simp
      rcases f1 with ⟨-, f1⟩ | ⟨f1, -⟩
      · exact vx_callSU X hx hfo (hts _ q1) (hts _ q3) (hts _ q4) (hts _ q2) (hts _ f1) hy1 hK (by rw [hT0]; exact c1) c2 c5 rfl hls (fun sig h => hl.trans (b_np_len hn sig h)) hst (by show 2 * 0 + _ ≤ 8; omega) (by rw [hbc]; exact hd) hpre
      · exact absurd h0 f1
    · cases hp
/-- an interface's method, of an object of class tag t -/
theorem ok_callF {own : String} {idx n cnt t y' wd : Nat} {x : MethodName} {r : vw_C} {vd : Bool} {hc : List (Nat × Nat)} (hd : decode (bc y) pc = .ok (.invokeinterface idx cnt, 5)) (hown : own = (nm y).cls) (hHC : b_HC nm hh y pc hc) (hF : b_MF nm bc mL rt hh y') (hwd : wd ≤ mL y') (h0 : hh y' = []) (ht : 0 < t) (hr : b_cl[t - 1]? = some r)
    (q1 : Cond.methodLink own idx x ∈ lw_all) (q2 : Cond.instanceMethod (nm y') ∈ lw_all) (q3 : Cond.selects r.1 x (nm y') ∈ lw_all) (w1 : Cond.declares x ∈ lw_tbl) (w2 : Cond.interfaceMethod x.cls x.cls x.name x.desc ∈ lw_tbl) (w3 : Cond.publicMethod (nm y') ∈ lw_tbl) (w4 : Cond.unhidden r.1 x.name x.desc ∈ lw_tbl) (w5 : Cond.castable r.1 x.cls ∈ lw_tbl) (hx1 : x.cls ≠ "java/lang/invoke/MethodHandle" ∧ x.cls ≠ "java/lang/invoke/VarHandle") (hn : b_np x n) : b_OK nm bc mL rt hh T y pc (i_call (b_pkV [(t, y')]) (n + 1) wd vd hc (pc + 5)) := by
  refine ok_call hHC (fun As σ y'' h => ?_) ?_
  · unfold b_pkV at h
    split at h
    · have := b_lkN_mem h
      rw [List.mem_singleton] at this
      cases this
      exact ⟨hF, hwd⟩
    · cases h
  · intro As σ y'' hp hlen d p l e R s m args below meth c D tys z wsE hcx ws H locs ls mAs rest cells slots hH hV hls hr8 Pre Post PostX hK T0 hT0 X hpre
    unfold b_pkV at hp
    split at hp
    · next a As' =>
      have hmem := b_lkN_mem hp
      rw [List.mem_singleton] at hmem
      have ho3 : b_tg σ a = t := congrArg Prod.fst hmem
      have ho4 : y'' = y' := congrArg Prod.snd hmem
      subst ho4
      obtain ⟨f1, f2, f3, f4⟩ := hF
      obtain ⟨w, mAs', rfl, hw, hV'⟩ := VRs_cons hV
      obtain ⟨b, hb, rfl⟩ := hw
      obtain ⟨cell, c1, c2, c3, kB, c5⟩ := b_rcv hcx hH hb ho3 ht hr
      subst hown
      obtain ⟨hx, hbc, hfo, hts, -, -, -, -, -, hW, -⟩ := hcx
      have hl : mAs'.length = n := by
        rw [← VRs_len hV']
        simpa using hlen
      have hst : (F0 m pc ls ((Value.ref b :: mAs').reverse ++ rest)).stack = mAs'.reverse ++ .ref b :: rest := by simp
      obtain ⟨z1, z2, z3, z4, z5⟩ := hW.2.2.2.1 r.1 x (nm y'') w1 w2 w3 w4 w5 hx1
      rcases f1 with ⟨-, f1⟩ | ⟨f1, -⟩
      · exact vx_callIF X hx hfo (hts _ q1) (va_tabs rfl rfl z1) (va_tabs rfl rfl z2) (hts _ q3) (hts _ q2) (va_tabs rfl rfl z3) (va_tabs rfl rfl z4) (va_tabs rfl rfl z5) (hts _ f1) hx1 hK (by rw [hT0]; exact c1) c2 c3 c5 rfl hls (fun sig h => hl.trans (b_np_len hn sig h)) hst (by show 2 * 0 + _ ≤ 8; omega) (by rw [hbc]; exact hd) hpre
      · exact absurd h0 f1
    · cases hp
/-! what a call does in the abstract machine -/
def b_cv (q : Option Rs) (k : Value → Sg → Option Rs) (hx : Nat → Sg → Option Rs) : Option Rs := match q with
  | none => none
  | some (.inl (some v), σ) => k v σ
  | some (.inl none, _) => none
  | some (.inr a, σ) => hx a σ
def b_cu (q : Option Rs) (k : Sg → Option Rs) (hx : Nat → Sg → Option Rs) : Option Rs := match q with
  | none => none
  | some (.inl none, σ) => k σ
  | some (.inl (some _), _) => none
  | some (.inr a, σ) => hx a σ
def b_th (a : Nat) (σ : Sg) : Option Rs := some (.inr a, σ)
theorem cv_some {v : Value} {σ : Sg} {k : Value → Sg → Option Rs} {hx : Nat → Sg → Option Rs} : b_cv (some (.inl (some v), σ)) k hx = k v σ := rfl
theorem cv_thr {a : Nat} {σ : Sg} {k : Value → Sg → Option Rs} {hx : Nat → Sg → Option Rs} : b_cv (some (.inr a, σ)) k hx = hx a σ := rfl
theorem cu_none {σ : Sg} {k : Sg → Option Rs} {hx : Nat → Sg → Option Rs} : b_cu (some (.inl none, σ)) k hx = k σ := rfl
theorem cu_thr {a : Nat} {σ : Sg} {k : Sg → Option Rs} {hx : Nat → Sg → Option Rs} : b_cu (some (.inr a, σ)) k hx = hx a σ := rfl
theorem th_def {a : Nat} {σ : Sg} : b_th a σ = some (.inr a, σ) := rfl
theorem ev_callv {pick : List Value → Sg → Option Nat} {na wd y' : Nat} {As st0 : List Value} (h : b_lk (T y) pc = some (i_call pick na wd false [] nx)) (hst : st0 = As.reverse ++ st) (hl : As.length = na) (hw : (As.map fun v => v.category).sum ≤ wd) (hp : pick As σ = some y') (hs : (st.map fun v => v.category).sum ≤ 8) :
    b_F T d y pc L st0 σ = b_cv (b_M T d y' As σ) (fun v σ' => b_F T d y nx L (v :: st) σ') b_th := by
  have e1 : st0.take na = As.reverse := by rw [hst, ← hl, ← List.length_reverse (as := As), List.take_left]
  have e2 : st0.drop na = st := by rw [hst, ← hl, ← List.length_reverse (as := As), List.drop_left]
  rw [b_F_at h]
  unfold i_call
  rw [e1, e2, List.reverse_reverse, if_pos ⟨by rw [hst, List.length_append, List.length_reverse]; omega, hs, hw⟩, hp]
  dsimp only
  cases hq : b_M T d y' As σ with
  | none => rfl
  | some q =>
    obtain ⟨out, σ'⟩ := q
    cases out with
    | inl v => cases v <;> rfl
    | inr a => rfl
theorem ev_callu {pick : List Value → Sg → Option Nat} {na wd y' : Nat} {As st0 : List Value} (h : b_lk (T y) pc = some (i_call pick na wd true [] nx)) (hst : st0 = As.reverse ++ st) (hl : As.length = na) (hw : (As.map fun v => v.category).sum ≤ wd) (hp : pick As σ = some y') (hs : (st.map fun v => v.category).sum ≤ 8) :
    b_F T d y pc L st0 σ = b_cu (b_M T d y' As σ) (fun σ' => b_F T d y nx L st σ') b_th := by
  have e1 : st0.take na = As.reverse := by rw [hst, ← hl, ← List.length_reverse (as := As), List.take_left]
  have e2 : st0.drop na = st := by rw [hst, ← hl, ← List.length_reverse (as := As), List.drop_left]
  rw [b_F_at h]
  unfold i_call
  rw [e1, e2, List.reverse_reverse, if_pos ⟨by rw [hst, List.length_append, List.length_reverse]; omega, hs, hw⟩, hp]
  dsimp only
  cases hq : b_M T d y' As σ with
  | none => rfl
  | some q =>
    obtain ⟨out, σ'⟩ := q
    cases out with
    | inl v => cases v <;> rfl
    | inr a => rfl
theorem ev_callvH {pick : List Value → Sg → Option Nat} {na wd y' : Nat} {th : Nat × Nat} {hc' : List (Nat × Nat)} {As st0 : List Value} (h : b_lk (T y) pc = some (i_call pick na wd false (th :: hc') nx)) (hst : st0 = As.reverse ++ st) (hl : As.length = na) (hw : (As.map fun v => v.category).sum ≤ wd) (hp : pick As σ = some y') (hs : (st.map fun v => v.category).sum ≤ 8) :
    b_F T d y pc L st0 σ = b_cv (b_M T d y' As σ) (fun v σ' => b_F T d y nx L (v :: st) σ') (fun a σ' => match b_lkN (th :: hc') (b_xci σ' a) with
      | none => none
      | some hpc => if 0 < b_tg σ' a ∨ b_ex ≤ a then b_F T d y hpc L [b_xv a] σ' else none) := by
  have e1 : st0.take na = As.reverse := by rw [hst, ← hl, ← List.length_reverse (as := As), List.take_left]
  have e2 : st0.drop na = st := by rw [hst, ← hl, ← List.length_reverse (as := As), List.drop_left]
  rw [b_F_at h]
  unfold i_call
  rw [e1, e2, List.reverse_reverse, if_pos ⟨by rw [hst, List.length_append, List.length_reverse]; omega, hs, hw⟩, hp]
  dsimp only
  cases hq : b_M T d y' As σ with
  | none => rfl
  | some q =>
    obtain ⟨out, σ'⟩ := q
    cases out with
    | inl v => cases v <;> rfl
    | inr a =>
      show b_go T d y (match b_lkN (th :: hc') (b_xci σ' a) with
        | none => none
        | some hpc => if 0 < b_tg σ' a ∨ b_ex ≤ a then some (.inl (hpc, L, [b_xv a], σ')) else none) = match b_lkN (th :: hc') (b_xci σ' a) with
        | none => none
        | some hpc => if 0 < b_tg σ' a ∨ b_ex ≤ a then b_F T d y hpc L [b_xv a] σ' else none
      cases b_lkN (th :: hc') (b_xci σ' a) with
      | none => rfl
      | some hpc =>
        dsimp only
        by_cases hz : 0 < b_tg σ' a ∨ b_ex ≤ a
        · rw [if_pos hz, if_pos hz]; rfl
        · rw [if_neg hz, if_neg hz]; rfl
/-- athrow, of an object of class tag t, where no handler covers -/
def i_throw (t : Nat) : Fn := fun _ _ st σ => match st with
  | .ref a :: _ => if b_tg σ a = t ∧ b_E ≤ a ∧ a < b_ex then some (.inr (.inr a, σ)) else none
  | _ => none
theorem ok_throw {t : Nat} {r : vw_C} (hd : decode (bc y) pc = .ok (.athrow, 1)) (ht : 0 < t) (hr : b_cl[t - 1]? = some r) (hHC : ∀ x ∈ tableOf (hh y), covers x pc = false) : b_OK nm bc mL rt hh T y pc (i_throw t) := by
  refine ⟨fun g _ L st σ r' h => ?_, ?_⟩
  · unfold i_throw at h
    split at h
    · split at h
      · cases h; exact ⟨Nat.le_refl _, Nat.le_refl _⟩
      · cases h
    · cases h
  · intro d p l e R s m args below meth c D tys z wsE ih hc Q c0 s0 L st σ ws H locs ls mst cells slots hH hL hV hcl hsl r' h hcb hsb hK
    unfold i_throw at h
    split at h
    · split at h
      · next a st0 hta =>
        cases h
        obtain ⟨_, m1, rfl, h1, hV1⟩ := VRs_cons hV
        obtain ⟨b, hb, rfl⟩ := h1
        obtain ⟨hx, hbc, hfo, hts, -, -, -, -, -, hW, -, -, htab⟩ := hc
        have htc : (σ.2.2.2 a).1 = t - 1 + 1 := by
          have : b_tg σ a = t := hta.1
          show b_tg σ a = _
          omega
        obtain ⟨fs, he, -, -⟩ := b_ent_o hW hH hb hta.2.1 htc hr
        obtain ⟨r2, g1, cell, q1, q2, q3, q4⟩ := hH.1 _ _ he
        have hrr : r2 = r := Option.some.inj (g1.symm.trans hr)
        subst hrr
        have hcls := (hW.1.1.1 _ _ hr).2.1
        refine vx_athrow hx hbc hd ?_
        exact hK pc ws H locs ls m1 cells slots b r2 cell (List.prefix_refl _) hH (Or.inl ⟨hta.2.2, hb, by rw [htc]; exact hr, by rw [htc]; exact Nat.succ_pos _⟩) q1 q3 (by rw [q2]; exact hcls) ⟨_, hfo, fun x hx => Or.inl (hHC x (by rw [← htab]; exact hx))⟩ hcl hsl
      · cases h
    · cases h
theorem ev_throw {a t : Nat} (h : b_lk (T y) pc = some (i_throw t)) (ht : b_tg σ a = t) (hE : b_E ≤ a) (hx : a < b_ex) : b_F T d y pc L (.ref a :: st) σ = some (.inr a, σ) := by
  rw [b_F_at h]; unfold i_throw; dsimp only; rw [if_pos ⟨ht, hE, hx⟩]; rfl
end B_OPH
