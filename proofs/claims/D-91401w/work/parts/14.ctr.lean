/-! ===== every run of a method gives its contract ===== -/
section B_CTR
variable {nm : Nat → MethodName} {bc : Nat → ByteArray} {mL : Nat → Nat} {rt : Nat → Option FieldType} {hh : Nat → List (Nat × Nat × Nat × Nat)} {T : Tb}
theorem b_back {y : Nat} {p : Program} {l : Launch} {e : Env} {s : State} {m : MethodId} {args : Array Value} {below : List Frame} {meth : Method} {c : Code} {D : va_G} {tys : List (ClassId × FieldType)} {z : Nat} {wsE : List Nat} {ws : va_W} {σ σ' : Sg} {out : Out} {R : Room}
    (hx : p.tables.exec = Jvm.exec) (hb : c.code = bc y) (hr : meth.sig.returnType = rt y) (hlocks : meth.locks = false) (hmo1 : σ.2.1 ≤ σ'.2.1) (hmo2 : σ.2.2.1 ≤ σ'.2.2.1) :
    b_Kn bc mL rt y p l e R s m args below meth c D tys z wsE ws (bx_MQ below (b_Qc out D tys z wsE ws σ') (b_XC out D tys z wsE ws σ') args s (σ'.2.1 - σ.2.1) (σ'.2.2.1 - σ.2.2.1) (b_A z)) σ.2.1 σ.2.2.1 (.inr (out, σ')) := by
  cases out with
  | inr a =>
    intro pc ws' H' locs' ls' rest cells' slots' q r ce hp hH' hxr hce hvm hfc hout hcc hss
    obtain ⟨own, ho1, ho2⟩ := hout
    refine bx_outP ho1 hlocks ho2 hce hvm hfc (fun t ht hal => ⟨a, ws', r, rfl, hp, hxr, rfl, locs', by rw [ht]; exact hH'⟩) (b_Hr_lt hH') (by omega) (by omega)
  | inl v =>
    intro pc i ws' H' locs' ls' w cells' slots' hd hri hp hH' hvo hfit hnone hcc hss
    have e1 : σ'.2.1 - σ.2.1 = cells' := by omega
    have e2 : σ'.2.2.1 - σ.2.2.1 = slots' := by omega
    rw [e1, e2]
    have hq : ∀ t : State, t.heap = H' → s.WarmedH t.vm → b_Qc (.inl v) D tys z wsE ws σ' args s (.returned w) t := fun t ht _ => ⟨v, w, ws', rfl, rfl, hp, hvo, locs', by rw [ht]; exact hH'⟩
    refine bx_ret ?_
    cases hrt : rt y with
    | none =>
      rw [hrt] at hri hr
      have hri : i = .return_ := hri
      subst hri
      cases hnone hrt
      exact W.vret hx hb hr hq (b_Hr_lt hH') hd
    | some ty =>
      rw [hrt] at hri hr
      obtain ⟨w', rfl, hn, hf⟩ := hfit ty hrt
      cases ty with
      | int =>
        have hri : i = .ireturn := hri
        subst hri
        cases w' with
        | int x => exact W.zret hx hb hr hn hq (b_Hr_lt hH') hd
        | _ => exact absurd hf Bool.false_ne_true
      | boolean =>
        have hri : i = .ireturn := hri
        subst hri
        cases w' with
        | int x => exact W.zret hx hb hr hn hq (b_Hr_lt hH') hd
        | _ => exact absurd hf Bool.false_ne_true
      | byte =>
        have hri : i = .ireturn := hri
        subst hri
        cases w' with
        | int x => exact W.zret hx hb hr hn hq (b_Hr_lt hH') hd
        | _ => exact absurd hf Bool.false_ne_true
      | char =>
        have hri : i = .ireturn := hri
        subst hri
        cases w' with
        | int x => exact W.zret hx hb hr hn hq (b_Hr_lt hH') hd
        | _ => exact absurd hf Bool.false_ne_true
      | long =>
        have hri : i = .lreturn := hri
        subst hri
        cases w' with
        | long x => exact W.lret hx hb hr hq (b_Hr_lt hH') hd
        | _ => exact absurd hf Bool.false_ne_true
      | object n =>
        have hri : i = .areturn := hri
        subst hri
        refine W.aret hx hb hr (Or.inl ⟨n, rfl⟩) ?_ hq (b_Hr_lt hH') hd
        cases w' with
        | null => exact Or.inl rfl
        | ref a => exact Or.inr ⟨_, rfl⟩
        | _ => exact absurd hf Bool.false_ne_true
      | array n =>
        have hri : i = .areturn := hri
        subst hri
        refine W.aret hx hb hr (Or.inr ⟨n, rfl⟩) ?_ hq (b_Hr_lt hH') hd
        cases w' with
        | null => exact Or.inl rfl
        | ref a => exact Or.inr ⟨_, rfl⟩
        | _ => exact absurd hf Bool.false_ne_true
      | short => exact hri.elim
      | float => exact hri.elim
      | double => exact hri.elim
theorem bx_ofWF {l : Launch} {y : MethodName} {ws ws' : List Cond} {rm : Room} {Pc : Array Value → State → Prop} {Qc : Array Value → State → Outcome → State → Prop} {XC : String → Addr → State → State → Prop} {mc ms : Nat} {free : Addr → Prop} {cc : ByteArray} {maxL : Nat} {ret : Option FieldType}
    (hy : plainFor y = true) (hw : ws = Cond.code y cc maxL ret :: ws')
    (body : ∀ p e s m args below meth c s₁, BodyLoose p l y (headSpec ws rm) cc maxL ret e s m args below meth c s₁ → c.maxLocals = maxL → (∀ x ∈ c.exceptionTable.toList, False) → Pc args s →
      W p l e (headSpec ws rm).room s m args below meth c s.heap [] 0 0 (bx_MQ below Qc XC args s mc ms free) (entryFrame m args maxL)) : bx_Met l y ws rm Pc Qc XC mc ms free := by
  refine MetFree.of_bodySF (code := cc) (maxLocals := maxL) (ret := ret) hy ?_ ?_
  · intro args s m h hn
    obtain ⟨meth, c, h1, h2, h3, h4, h5, h6, -, -⟩ := Cond.code_spec hn (atoms_spec (ws := ws) h _ (by rw [hw]; exact List.mem_cons_self))
    exact ⟨meth, c, h1, h2, h3, h4, h5, h6⟩
  · intro p e s m args below meth c s₁ B hml hP _
    have hh0 : s₁.heap = s.heap := by rw [B.state]; rfl
    have ht : ∀ x ∈ c.exceptionTable.toList, False := by
      obtain ⟨meth9, c9, h1, h2, -, -, -, -, h7, -⟩ := Cond.code_spec B.named (atoms_spec (ws := ws) B.pre _ (by rw [hw]; exact List.mem_cons_self))
      cases Option.some.inj (h1.symm.trans B.method)
      cases Option.some.inj (h2.symm.trans (Stand.of_body B).code)
      intro x hx
      rw [Array.isEmpty_iff.mp h7] at hx
      cases hx
    obtain ⟨t, a1, o, b1, b2, b3⟩ := body p e s m args below meth c s₁ B hml ht hP s₁ hh0 (Stand.of_body B)
    exact ⟨t, o, a1, b1, b2, b3⟩
theorem b_ctr (hT : ∀ (y pc : Nat) (f : Fn), b_lk (T y) pc = some f → b_OK nm bc mL rt hh T y pc f) (hN : ∀ y, T y ≠ [] → plainName (nm y).cls = true ∨ (plainFor (nm y) = true ∧ hh y = [])) {l : Launch} (hfl : l.flags = flags0) : ∀ d y, b_Ctr nm bc mL rt hh T l d y
  | 0, y => fun As σ out σ' h => by cases h
  | d + 1, y => by
    have ih := b_ctr hT hN hfl d
    intro As σ out σ' h hws D tys z wsE ws mAs hV
    have hMO : ∀ (y pc : Nat) (f : Fn), b_lk (T y) pc = some f → b_MO f := fun y pc f h => (hT y pc f h).1
    have hmo := b_M_mo hMO (d + 1) y As σ out σ' h
    obtain ⟨n, hn⟩ := b_lim_of (show b_lim (b_M T d) T y (0, b_ent As, [], σ) = some (out, σ') from h)
    have hTy : T y ≠ [] := by
      intro hz
      cases n with
      | zero => cases hn
      | succ n =>
        unfold b_fr at hn
        rw [hz] at hn
        cases hn
    have hbody : ∀ (p : Program) (e : Env) (s : State) (m : MethodId) (args : Array Value) (below : List Frame) (meth : Method) (c : Code) (s₁ : State), BodyLoose p l (nm y) (headSpec (b_ws nm bc mL rt hh y) (b_rm (d + 1) (σ'.2.1 - σ.2.1) (σ'.2.2.1 - σ.2.2.1))) (bc y) (mL y) (rt y) e s m args below meth c s₁ → c.maxLocals = mL y → (∀ w ∈ lw_all, w.before args s = true) → c.exceptionTable.toList = tableOf (hh y) → b_Pc D tys z wsE ws σ mAs args s →
        W p l e (b_rm (d + 1) (σ'.2.1 - σ.2.1) (σ'.2.2.1 - σ.2.2.1)) s m args below meth c s.heap [] 0 0 (bx_MQ below (b_Qc out D tys z wsE ws σ') (b_XC out D tys z wsE ws σ') args s (σ'.2.1 - σ.2.1) (σ'.2.2.1 - σ.2.2.1) (b_A z)) (entryFrame m args (mL y)) := by
      intro p e s m args below meth c s₁ B hml hts htb hP
      obtain ⟨rfl, hWd, hHr⟩ := hP
      rw [lg_entry_eq]
      refine b_sim hT ih (R := b_rm (d + 1) (σ'.2.1 - σ.2.1) (σ'.2.2.1 - σ.2.2.1)) ⟨B.exec, B.bytes, findClass_of_methodNamed B.named, hts, hml, B.returns, B.notSynchronized, (name_of_methodNamed B.named B.method).1, hfl, hWd, ?_, ?_, htb⟩ (c0 := σ.2.1) (s0 := σ.2.2.1) n 0 (b_ent As) [] σ (out, σ') hn ws s.heap [] _ [] 0 0 hHr (b_entry hV hws) trivial (by omega) (by omega) ?_ ?_ ?_
      · show d + 21 ≤ d + 1 + 20
        omega
      · show 64 * d + 10464 ≤ 64 * (d + 1) + 10400
        omega
      · show σ'.2.1 ≤ σ'.2.1 - σ.2.1 + σ.2.1
        omega
      · show σ'.2.2.1 ≤ σ'.2.2.1 - σ.2.2.1 + σ.2.2.1
        omega
      · exact b_back B.exec B.bytes B.returns B.notSynchronized hmo.1 hmo.2
    rcases hN y hTy with hN1 | hN1
    · by_cases hz : hh y = []
      · have ew : b_ws nm bc mL rt hh y = Cond.code (nm y) (bc y) (mL y) (rt y) :: lw_all := by unfold b_ws; rw [if_pos hz]
        refine bx_ofW hN1 ew ?_
        intro p e s m args below meth c s₁ B hml ht hP
        have hts := atoms_spec (ws := b_ws nm bc mL rt hh y) B.pre
        refine hbody p e s m args below meth c s₁ B hml (fun w h => hts w (by rw [ew]; exact List.mem_cons_of_mem _ h)) ?_ hP
        rw [hz]
        cases hq : c.exceptionTable.toList with
        | nil => rfl
        | cons x xs => exact (ht x (by rw [hq]; exact List.mem_cons_self)).elim
      · have ew : b_ws nm bc mL rt hh y = Cond.codeWith (nm y) (bc y) (mL y) (rt y) (hh y) :: lw_all := by unfold b_ws; rw [if_neg hz]
        refine bx_ofWH hN1 ew ?_
        intro p e s m args below meth c s₁ B hml hP
        have hts := atoms_spec (ws := b_ws nm bc mL rt hh y) B.pre
        exact hbody p e s m args below meth c s₁ B hml (fun w h => hts w (by rw [ew]; exact List.mem_cons_of_mem _ h)) (vx_table (x := nm y) B (hts _ (by rw [ew]; exact List.mem_cons_self))) hP
    · have hz := hN1.2
      have ew : b_ws nm bc mL rt hh y = Cond.code (nm y) (bc y) (mL y) (rt y) :: lw_all := by unfold b_ws; rw [if_pos hz]
      refine bx_ofWF hN1.1 ew ?_
      intro p e s m args below meth c s₁ B hml ht hP
      have hts := atoms_spec (ws := b_ws nm bc mL rt hh y) B.pre
      refine hbody p e s m args below meth c s₁ B hml (fun w h => hts w (by rw [ew]; exact List.mem_cons_of_mem _ h)) ?_ hP
      rw [hz]
      cases hq : c.exceptionTable.toList with
      | nil => rfl
      | cons x xs => exact (ht x (by rw [hq]; exact List.mem_cons_self)).elim
end B_CTR
