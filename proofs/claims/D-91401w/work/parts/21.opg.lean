/-! ===== calls ===== -/
set_option maxRecDepth 100000
section B_OPG
variable {nm : Nat → MethodName} {bc : Nat → ByteArray} {mL : Nat → Nat} {rt : Nat → Option FieldType} {hh : Nat → List (Nat × Nat × Nat × Nat)} {T : Tb} {y pc nx tgt d : Nat} {L : Lc} {st : List Value} {σ : Sg}
theorem b_Pc_blind {D : va_G} {tys : List (ClassId × FieldType)} {z : Nat} {wsE : List Nat} {ws : va_W} {σ : Sg} {mAs : List Value} : FrameBlind (b_Pc D tys z wsE ws σ mAs) := by
  intro a U g mk h
  obtain ⟨h1, h2, g1, g2, g3, g4, g5, g6⟩ := h
  exact ⟨h1, h2.moved (U := U.calling g mk a) (State.WarmedH.refl U) (Nat.le_refl _) (fun _ _ _ => rfl), g1, g2, va_S.rf, g4, g5, fun a' q hq => (g6 a' q hq).moved (U := U.calling g mk a) (Vm.Alike.refl U.vm)⟩
/-- what a method's contract asks of the tables -/
def b_MF (nm : Nat → MethodName) (bc : Nat → ByteArray) (mL : Nat → Nat) (rt : Nat → Option FieldType) (hh : Nat → List (Nat × Nat × Nat × Nat)) (y : Nat) : Prop := (hh y = [] ∧ Cond.code (nm y) (bc y) (mL y) (rt y) ∈ lw_all ∨ hh y ≠ [] ∧ Cond.codeWith (nm y) (bc y) (mL y) (rt y) (hh y) ∈ lw_all) ∧ Cond.initialized (nm y).cls ∈ lw_all ∧ mL y ≤ 45 ∧ ((nm y).cls ≠ "java/lang/invoke/MethodHandle" ∧ (nm y).cls ≠ "java/lang/invoke/VarHandle")
theorem b_bk {l : Launch} {y' d : Nat} {D : va_G} {tys : List (ClassId × FieldType)} {z : Nat} {wsE : List Nat} {ws : va_W} {σ σ' : Sg} {out : Out} {As mAs : List Value} {p : Program} {e : Env} {R : Room} {below : List Frame} {s : State} {args : Array Value} {len : Nat} (hts : ∀ w ∈ lw_all, w.before args s = true) (hF : b_MF nm bc mL rt hh y') (hC : b_Ctr nm bc mL rt hh T l d y')
    (hM : b_M T d y' As σ = some (out, σ')) (hwd : (As.map fun v => v.category).sum ≤ mL y') (hV : VRs (b_G wsE ws) As mAs) (hfr : d + 21 ≤ R.frames) (hlo : 64 * d + 10464 ≤ R.locals) :
    vx_Back l R p e below s args (nm y') len 8 (PreOf R (σ'.2.1 - σ.2.1) (σ'.2.2.1 - σ.2.2.1) (b_Pc D tys z wsE ws σ mAs)) (PostOf (b_Qc out D tys z wsE ws σ') (σ'.2.1 - σ.2.1) (σ'.2.2.1 - σ.2.2.1) (b_A z)) (bx_Post (b_XC out D tys z wsE ws σ') (σ'.2.1 - σ.2.1) (σ'.2.2.1 - σ.2.2.1) (b_A z)) := by
  have hm := hC As σ out σ' hM hwd D tys z wsE ws mAs hV
  obtain ⟨h1, h2, h3, h4⟩ := hF
  have hini : ∀ (a' : Array Value) (U : State), s.WarmedH U.vm → (Cond.initialized (nm y').cls).before a' U = true := fun a' U hW => word_at hW (lw_self _ h2).2 (hts _ h2)
  have hfr' : (b_rm d (σ'.2.1 - σ.2.1) (σ'.2.2.1 - σ.2.2.1)).frames + 1 ≤ R.frames := by show d + 20 + 1 ≤ _; omega
  have hlo' : 8 + (mL y' + 11) + (b_rm d (σ'.2.1 - σ.2.1) (σ'.2.2.1 - σ.2.2.1)).locals ≤ R.locals := by show 8 + (mL y' + 11) + (64 * d + 10400) ≤ _; omega
  rcases h1 with ⟨h0, h1⟩ | ⟨h0, h1⟩
  · have ew : b_ws nm bc mL rt hh y' = ws_ (nm y') (bc y') (mL y') (rt y') := by unfold b_ws; rw [if_pos h0]
    rw [ew] at hm
    have hg := lw_meth h1
    exact bx_back hm b_Pc_blind rfl rfl hfr' hlo' (fun w hw a' U hW => word_at hW (hg w hw).2 (hts w (hg w hw).1)) List.mem_cons_self hini
  · have ew : b_ws nm bc mL rt hh y' = wsW_ (nm y') (bc y') (mL y') (rt y') (hh y') := by unfold b_ws; rw [if_neg h0]
    rw [ew] at hm
    have hg := lw_methW h1
    exact bx_backW hm b_Pc_blind rfl rfl hfr' hlo' (fun w hw a' U hW => word_at hW (hg w hw).2 (hts w (hg w hw).1)) List.mem_cons_self hini
/-- a call's two ends -/
def b_Dj (p : Program) (l : Launch) (e : Env) (R : Room) (s : State) (m : MethodId) (args : Array Value) (below : List Frame) (meth : Method) (c : Code) (T : State) (locs : List Loc) (cells slots : Nat) (g : JFrame) (len : Nat) (rest : List Value) (a : Array Value) (Post : Pt → Array Value → Option Value → Pt → Prop) (PostX : Pt → Array Value → Addr → Pt → Prop) : Prop :=
  (∃ (v : Option Value) (vm₁ : Vm) (B : Pt), s.WarmedH vm₁ ∧ Stand p l e R s m args below meth c B.U B.locs B.cells B.slots ∧ Post ⟨T.setVm vm₁, locs, cells, slots⟩ a v B ∧
      ∀ target, Steps p.tables e below (B.U.setTop { g with pc := g.pc + len, stack := v.toList ++ rest }) target → Steps p.tables e below (T.setTop g) target) ∨
    (∃ (q : Addr) (vm₁ : Vm) (B : Pt), s.WarmedH vm₁ ∧ Stand p l e R s m args below meth c B.U B.locs B.cells B.slots ∧ PostX ⟨T.setVm vm₁, locs, cells, slots⟩ a q B ∧
      Steps p.tables e below (T.setTop g) ((B.U.setTop { g with stack := rest }).pushFrame (.throwing q)))
theorem b_S_trans {z : Nat} {H0 H H1 : Heap} {locs locs2 : List Loc} (h : va_S (b_A z) H0 H locs) (h1 : va_S (b_A z) H H1 locs2) {L : List Loc} (hL : ∀ q ∈ L, b_A z q.base) : va_S (b_A z) H0 H1 (locs ++ L) := by
  refine ⟨Nat.le_trans h.1 h1.1, fun q hq hn => ?_, fun q hq => ?_⟩
  · rw [h1.2.1 q (Nat.lt_of_lt_of_le hq h.1) hn]
    exact h.2.1 q hq hn
  · rcases List.mem_append.mp hq with h2 | h2
    · exact h.2.2 q h2
    · exact hL q h2
theorem b_join {p : Program} {l : Launch} {e : Env} {R : Room} {s : State} {m : MethodId} {args : Array Value} {below : List Frame} {meth : Method} {c : Code} {H : Heap} {locs : List Loc} {cells slots : Nat} {Q : State → Prop} {ls : Array Slot} {st0 rest : List Value} {len : Nat} {a : Array Value} {mc ms : Nat}
    {D : va_G} {tys : List (ClassId × FieldType)} {z : Nat} {wsE : List Nat} {ws : va_W} {σ σ' : Sg} {out : Out} (hH : b_Hr D tys z wsE ws s σ H locs)
    (hcall : ∀ T : State, T.heap = H → Stand p l e R s m args below meth c T locs cells slots → b_Dj p l e R s m args below meth c T locs cells slots (F0 m pc ls st0) len rest a (PostOf (b_Qc out D tys z wsE ws σ') mc ms (b_A z)) (bx_Post (b_XC out D tys z wsE ws σ') mc ms (b_A z)))
    (kr : ∀ (v w : Option Value) (ws' : va_W) (H' : Heap) (locs' : List Loc), out = .inl v → b_G wsE ws <+: b_G wsE ws' → b_Hr D tys z wsE ws' s σ' H' locs' → b_vo (b_G wsE ws') v w → W p l e R s m args below meth c H' locs' (cells + mc) (slots + ms) Q (F0 m (pc + len) ls (w.toList ++ rest)))
    (kx : ∀ (a0 q : Nat) (ws' : va_W) (H' : Heap) (locs' : List Loc) (r : vw_C) (ce : Cell), out = .inr a0 → b_G wsE ws <+: b_G wsE ws' → b_Hr D tys z wsE ws' s σ' H' locs' → b_xr (b_G wsE ws') σ' a0 q r → H'[q]? = some ce → ce.vm = .none → s.vm.findClass r.1 = some ce.cls → vx_W p l e R s m args below meth c H' locs' (cells + mc) (slots + ms) Q (F0 m pc ls rest) q) :
    W p l e R s m args below meth c H locs cells slots Q (F0 m pc ls st0) := by
  intro T hT X
  rcases hcall T hT X with ⟨v, vm₁, ⟨U', l2, c2, s2⟩, hW₁, X', ⟨g', mk, t, L, e1, e2, hq, h1, hL, h2, h3⟩, st⟩ | ⟨q, vm₁, ⟨U', l2, c2, s2⟩, hW₁, X', ⟨g', mk, t, L, E, ce, e1, e2, hq, hce, hcv, hcl, h1, hL, h2, h3⟩, st⟩
  · dsimp only [Pt.U, Pt.locs, Pt.cells, Pt.slots] at X' e1 e2 h1 h2 h3 st
    subst h1; subst h2; subst h3
    obtain ⟨v0, w, ws', rfl, hv, hp, hvo, locs2, g1, g2, g3, g4, g5, g6⟩ := hq
    cases hv
    have hS' : va_S (b_A z) s.heap t.heap (locs ++ L) := b_S_trans hH.2.2.1 (by have : va_S (b_A z) (T.setVm vm₁).heap t.heap locs2 := g3; rw [show (T.setVm vm₁).heap = H from hT] at this; exact this) hL
    obtain ⟨t2, a1, b1⟩ := kr v0 v ws' t.heap (locs ++ L) rfl hp ⟨g1, g2, hS', g4, g5, fun a' q' hq' => (g6 a' q' hq').moved (U := s) hW₁.alike.symm⟩ hvo U' e1 X'
    exact ⟨t2, st t2 a1, b1⟩
  · dsimp only [Pt.U, Pt.locs, Pt.cells, Pt.slots] at X' e1 e2 h1 h2 h3 st hcl
    subst h1; subst h2; subst h3
    obtain ⟨a0, ws', r, rfl, hp, hxr, hE, locs2, g1, g2, g3, g4, g5, g6⟩ := hq
    have hS' : va_S (b_A z) s.heap t.heap (locs ++ L) := b_S_trans hH.2.2.1 (by have : va_S (b_A z) (T.setVm vm₁).heap t.heap locs2 := g3; rw [show (T.setVm vm₁).heap = H from hT] at this; exact this) hL
    obtain ⟨t2, a1, b1⟩ := kx a0 q ws' t.heap (locs ++ L) r ce rfl hp ⟨g1, g2, hS', g4, g5, fun a' q' hq' => (g6 a' q' hq').moved (U := s) hW₁.alike.symm⟩ hxr hce hcv (by rw [hE]; exact vx_cls hW₁ hcl) U' e1 X'
    exact ⟨t2, st.trans a1, b1⟩
def b_lkN : List (Nat × Nat) → Nat → Option Nat
  | [], _ => none
  | q :: l, t => cond (Nat.beq q.1 t) (some q.2) (b_lkN l t)
theorem b_lkN_mem : ∀ {l : List (Nat × Nat)} {t y' : Nat}, b_lkN l t = some y' → (t, y') ∈ l
  | [], _, _, h => by cases h
  | q :: l, t, y', h => by
    unfold b_lkN at h
    cases hq : Nat.beq q.1 t with
    | true =>
      rw [hq] at h
      have h1 : q.1 = t := Nat.eq_of_beq_eq_true hq
      have h2 : q.2 = y' := Option.some.inj h
      rw [← h1, ← h2]
      exact List.mem_cons_self
    | false =>
      rw [hq] at h
      exact List.mem_cons_of_mem _ (b_lkN_mem h)
/-- the class number of what is thrown; the value that a handler finds -/
def b_xci (σ : Sg) (a : Nat) : Nat := if a < b_ex then b_tg σ a - 1 else a - b_ex
def b_xv (a : Nat) : Value := if a < b_ex then .ref a else .float 2
/-- a call: who is called is picked by the arguments; na of them, of wd words -/
def i_call (pick : List Value → Sg → Option Nat) (na wd : Nat) (vd : Bool) (hc : List (Nat × Nat)) (nx : Nat) : Fn := fun g L st σ =>
  if na ≤ st.length ∧ ((st.drop na).map fun v => v.category).sum ≤ 8 ∧ ((st.take na).reverse.map fun v => v.category).sum ≤ wd then
    match pick (st.take na).reverse σ with
    | none => none
    | some y' => match g y' (st.take na).reverse σ with
      | none => none
      | some (.inl (some v), σ') => if vd = false then some (.inl (nx, L, v :: st.drop na, σ')) else none
      | some (.inl none, σ') => if vd = true then some (.inl (nx, L, st.drop na, σ')) else none
      | some (.inr a, σ') => match hc with
        | [] => some (.inr (.inr a, σ'))
        | _ :: _ => match b_lkN hc (b_xci σ' a) with
          | none => none
          | some hpc => if 0 < b_tg σ' a ∨ b_ex ≤ a then some (.inl (hpc, L, [b_xv a], σ')) else none
  else none
theorem i_call_mo {pick : List Value → Sg → Option Nat} {na wd : Nat} {vd : Bool} {hc : List (Nat × Nat)} {nx : Nat} : b_MO (i_call pick na wd vd hc nx) := by
  intro g hg L st σ r h
  unfold i_call at h
  split at h
  · split at h
    · cases h
    · next y' _ =>
      split at h
      · cases h
      · next v σ' hq =>
        split at h
        · cases h; exact hg _ _ _ _ _ hq
        · cases h
      · next σ' hq =>
        split at h
        · cases h; exact hg _ _ _ _ _ hq
        · cases h
      · next a σ' hq =>
        split at h
        · cases h; exact hg _ _ _ _ _ hq
        · split at h
          · cases h
          · split at h
            · cases h; exact hg _ _ _ _ _ hq
            · cases h
  · cases h
/-- what a handler's place asks: none covers this pc, or the first that does and isn't passed catches this class -/
def b_HC (nm : Nat → MethodName) (hh : Nat → List (Nat × Nat × Nat × Nat)) (y pc : Nat) (hc : List (Nat × Nat)) : Prop := (hc = [] ∧ ∀ x ∈ tableOf (hh y), covers x pc = false) ∨ (hc ≠ [] ∧ ∀ ci hpc, b_lkN hc ci = some hpc → ∃ (pre suf : List ExceptionTableEntry) (x : ExceptionTableEntry) (r : vw_C), tableOf (hh y) = pre ++ x :: suf ∧ b_cl[ci]? = some r ∧
  (∀ w ∈ pre, covers w pc = false ∨ (w.catchType ≠ 0 ∧ ∃ n', Cond.classLink (nm y).cls w.catchType n' ∈ lw_all ∧ Cond.not (.castable r.1 n') ∈ flatC (Jvm.Cond.and given_1 narrow_1))) ∧ covers x pc = true ∧ x.catchType ≠ 0 ∧ x.handlerPc = hpc ∧ ∃ n', Cond.classLink (nm y).cls x.catchType n' ∈ lw_all ∧ Cond.castable r.1 n' ∈ lw_tbl)
/-- a throw at pc, of a class whose handler is here -/
theorem b_catch {d : Nat} {p : Program} {l : Launch} {e : Env} {R : Room} {s : State} {m : MethodId} {args : Array Value} {below : List Frame} {meth : Method} {c : Code} {D : va_G} {tys : List (ClassId × FieldType)} {z : Nat} {wsE : List Nat} (hcx : b_Cx nm bc mL rt hh y d p l R s m args meth c D tys z wsE) {hc : List (Nat × Nat)} (hHC : b_HC nm hh y pc hc) {ci hpc : Nat} (hlk : b_lkN hc ci = some hpc) {r : vw_C} (hr : b_cl[ci]? = some r)
    {H : Heap} {locs : List Loc} {cells slots : Nat} {Q : State → Prop} {ls : Array Slot} {rest : List Value} {q : Nat} {ce : Cell} (hce : H[q]? = some ce) (hcv : ce.vm = .none) (hcl : s.vm.findClass r.1 = some ce.cls) (kk : W p l e R s m args below meth c H locs cells slots Q (F0 m hpc ls [.ref q])) : vx_W p l e R s m args below meth c H locs cells slots Q (F0 m pc ls rest) q := by
  obtain ⟨hx, hbc, hfo, hts, -, -, -, -, -, hW, -, -, htab⟩ := hcx
  rcases hHC with ⟨h0, -⟩ | ⟨-, h1⟩
  · subst h0
    cases hlk
  · obtain ⟨pre, suf, x, r', e1, e2, e3, e4, e5, e6, n', e7, e8⟩ := h1 ci hpc hlk
    cases e2.symm.trans hr
    refine vx_catch hfo pre x suf (by rw [htab]; exact e1) (fun w hw => ?_) e4 e5 (hts _ e7) (va_Nw.use rfl (hW.2.1 _ e8 rfl)) hce hcv hcl ?_
    · rcases e3 w hw with h | ⟨h, n2, h2, h3⟩
      · exact Or.inl h
      · exact Or.inr ⟨h, n2, hts _ h2, hW.2.2.2.2.1.1 _ _ h3⟩
    · rw [e6]
      exact kk
theorem ok_call {pick : List Value → Sg → Option Nat} {na wd : Nat} {vd : Bool} {hc : List (Nat × Nat)} {len : Nat} (hHC : b_HC nm hh y pc hc) (hF : ∀ As σ y', pick As σ = some y' → b_MF nm bc mL rt hh y' ∧ wd ≤ mL y')
    (hrow : ∀ (As : List Value) (σ : Sg) (y' : Nat), pick As σ = some y' → As.length = na → ∀ (d : Nat) (p : Program) (l : Launch) (e : Env) (R : Room) (s : State) (m : MethodId) (args : Array Value) (below : List Frame) (meth : Method) (c : Code) (D : va_G) (tys : List (ClassId × FieldType)) (z : Nat) (wsE : List Nat),
      b_Cx nm bc mL rt hh y d p l R s m args meth c D tys z wsE → ∀ (ws : va_W) (H : Heap) (locs : List Loc) (ls : Array Slot) (mAs rest : List Value) (cells slots : Nat), b_Hr D tys z wsE ws s σ H locs → VRs (b_G wsE ws) As mAs → ls.size = c.maxLocals → (rest.map fun v => v.category).sum ≤ 8 →
      ∀ (Pre : Pt → Array Value → Prop) (Post : Pt → Array Value → Option Value → Pt → Prop) (PostX : Pt → Array Value → Addr → Pt → Prop), vx_Back l R p e below s args (nm y') len 8 Pre Post PostX →
      ∀ (T0 : State), T0.heap = H → Stand p l e R s m args below meth c T0 locs cells slots → (∀ vm₁, s.WarmedH vm₁ → Pre ⟨T0.setVm vm₁, locs, cells, slots⟩ mAs.toArray) → b_Dj p l e R s m args below meth c T0 locs cells slots (F0 m pc ls (mAs.reverse ++ rest)) len rest mAs.toArray Post PostX) :
    b_OK nm bc mL rt hh T y pc (i_call pick na wd vd hc (pc + len)) := by
  refine ⟨i_call_mo, ?_⟩
  intro d p l e R s m args below meth c D tys z wsE ih hcx Q c0 s0 L st σ ws H locs ls mst cells slots hH hL hV hcl hsl r hr hcb hsb hK
  unfold i_call at hr
  split at hr
  · next hcond =>
    obtain ⟨hlen, hsum, hwd⟩ := hcond
    split at hr
    · cases hr
    · next y' hy' =>
      obtain ⟨hMF, hwd2⟩ := hF _ _ _ hy'
      rw [← List.take_append_drop na st] at hV
      obtain ⟨m1, m2, rfl, hV1, hV2⟩ := VRs_split hV
      have hVr := VRs_rev hV1
      have hls : ls.size = c.maxLocals := by
        obtain ⟨lv, hlv, -⟩ := id hL
        rw [hcx.2.2.2.2.1]
        exact hlv.1
      have hrest8 : (m2.map fun v => v.category).sum ≤ 8 := by rw [VRs_cats hV2]; exact hsum
      have hW : b_Wd D tys z wsE s := hcx.2.2.2.2.2.2.2.2.2.1
      obtain ⟨hx, hbc, hfo, hts, -, -, -, -, -, -, hfr, hlo, htab⟩ := id hcx
      -- what follows for an answer of the callee
      have main : ∀ (out : Out) (σ' : Sg), b_M T d y' (st.take na).reverse σ = some (out, σ') → σ'.2.1 ≤ R.cells + c0 → σ'.2.2.1 ≤ R.slots + s0 → σ.2.1 ≤ σ'.2.1 → σ.2.2.1 ≤ σ'.2.2.1 →
          (∀ (v w : Option Value) (ws' : va_W) (H' : Heap) (locs' : List Loc), out = .inl v → b_G wsE ws <+: b_G wsE ws' → b_Hr D tys z wsE ws' s σ' H' locs' → b_vo (b_G wsE ws') v w → W p l e R s m args below meth c H' locs' (cells + (σ'.2.1 - σ.2.1)) (slots + (σ'.2.2.1 - σ.2.2.1)) Q (F0 m (pc + len) ls (w.toList ++ m2))) →
          (∀ (a0 q : Nat) (ws' : va_W) (H' : Heap) (locs' : List Loc) (r : vw_C) (ce : Cell), out = .inr a0 → b_G wsE ws <+: b_G wsE ws' → b_Hr D tys z wsE ws' s σ' H' locs' → b_xr (b_G wsE ws') σ' a0 q r → H'[q]? = some ce → ce.vm = .none → s.vm.findClass r.1 = some ce.cls → vx_W p l e R s m args below meth c H' locs' (cells + (σ'.2.1 - σ.2.1)) (slots + (σ'.2.2.1 - σ.2.2.1)) Q (F0 m pc ls m2) q) →
          W p l e R s m args below meth c H locs cells slots Q (F0 m pc ls (m1 ++ m2)) := by
        intro out σ' hM hcb hsb hm1 hm2 kr kx
        have hB := b_bk (len := len) (D := D) (tys := tys) (z := z) (e := e) (p := p) (below := below) hts hMF (ih.2 y') hM (by omega) hVr hfr hlo
        refine b_join (len := len) (rest := m2) (a := m1.reverse.toArray) hH ?_ kr kx
        intro T0 hT0 X
        have := hrow _ σ y' hy' (by rw [List.length_reverse, List.length_take]; omega) d p l e R s m args below meth c D tys z wsE hcx ws H locs ls m1.reverse m2 cells slots hH hVr hls hrest8 _ _ _ hB T0 hT0 X
          (fun vm₁ hW₁ => ⟨by show cells + _ ≤ _; omega, by show slots + _ ≤ _; omega, rfl, hW.moved (U := T0.setVm vm₁) hW₁ (by show s.heap.size ≤ T0.heap.size; rw [hT0]; exact hH.2.2.1.1) (fun q hq hn => by show T0.heap[q]? = _; rw [hT0]; exact hH.2.2.1.2.1 q hq hn), by
            show b_Hr D tys z wsE ws (T0.setVm vm₁) σ T0.heap []
            rw [hT0]
            exact ⟨hH.1, hH.2.1, by show va_S (b_A z) T0.heap H []; rw [hT0]; exact va_S.rf, hH.2.2.2.1, hH.2.2.2.2.1, fun a' q' hq' => (hH.2.2.2.2.2 a' q' hq').moved (U := T0.setVm vm₁) hW₁.alike⟩⟩)
        rw [List.reverse_reverse] at this
        exact this
      -- what is thrown, and not caught here
      split at hr
      · cases hr
      · next v σ' hq =>
        split at hr
        · cases hr
          have hm := ih.1 _ _ _ _ _ hq
          refine main _ σ' hq hcb hsb hm.1 hm.2 ?_ (fun a0 q ws' H' locs' r ce h => by cases h)
          intro v0 w ws' H' locs' h hp hH' hvo
          cases h
          cases w with
          | none => exact hvo.elim
          | some w => exact hK ws' H' locs' ls (w :: m2) _ _ hp hH' (Lr_mono hp hL) (VRs_mk hvo (VRs_mono hp hV2)) (by omega) (by omega)
        · cases hr
      · next σ' hq =>
        split at hr
        · cases hr
          have hm := ih.1 _ _ _ _ _ hq
          refine main _ σ' hq hcb hsb hm.1 hm.2 ?_ (fun a0 q ws' H' locs' r ce h => by cases h)
          intro v0 w ws' H' locs' h hp hH' hvo
          cases h
          cases w with
          | some w => exact hvo.elim
          | none => exact hK ws' H' locs' ls m2 _ _ hp hH' (Lr_mono hp hL) (VRs_mono hp hV2) (by omega) (by omega)
        · cases hr
      · next a σ' hq =>
        have hm := ih.1 _ _ _ _ _ hq
        cases hc with
        | nil =>
          cases hr
          refine main _ σ' hq hcb hsb hm.1 hm.2 (fun v w ws' H' locs' h => by cases h) ?_
          intro a0 q ws' H' locs' r ce h hp hH' hxr hce hcv hcl'
          cases h
          rcases hHC with ⟨-, hHC⟩ | ⟨h0, -⟩
          · exact hK pc ws' H' locs' ls m2 _ _ q r ce hp hH' hxr hce hcv hcl' ⟨_, hcx.2.2.1, fun x hx => Or.inl (hHC x (by rw [← htab]; exact hx))⟩ (by omega) (by omega)
          · exact absurd rfl h0
        | cons th hc' =>
          dsimp only at hr
          split at hr
          · cases hr
          · next hpc hlk =>
            split at hr
            · next hpos =>
              cases hr
              refine main _ σ' hq hcb hsb hm.1 hm.2 (fun v w ws' H' locs' h => by cases h) ?_
              intro a0 q ws' H' locs' r ce h hp hH' hxr hce hcv hcl'
              cases h
              have hci : b_cl[b_xci σ' a]? = some r ∧ VR (b_G wsE ws') (b_xv a) (.ref q) := by
                unfold b_xci b_xv
                rcases hxr with ⟨h1, h2, h3, h4⟩ | ⟨h1, h2⟩
                · rw [if_pos h1, if_pos h1]
                  exact ⟨h3, q, h2, rfl⟩
                · rw [if_neg (by omega), if_neg (by omega)]
                  exact ⟨h2, (Or.inr ⟨q, rfl⟩ : (Value.ref q = .null ∨ ∃ b, Value.ref q = .ref b))⟩
              exact b_catch hcx hHC hlk hci.1 hce hcv hcl' (hK ws' H' locs' ls [.ref q] _ _ hp hH' (Lr_mono hp hL) (VRs_mk hci.2 trivial) (by omega) (by omega))
            · cases hr
  · cases hr
end B_OPG
