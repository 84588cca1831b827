/-! ===== instructions that read the heap ===== -/
set_option maxRecDepth 100000
theorem b_in : ∀ (ci : Nat) (r : vw_C), b_cl[ci]? = some r → ∀ w ∈ u_ws r.1 r.2.1 r.2.2, w ∈ lw_all := by
  intro ci r h
  match ci, h with
  | 0, h => cases h; exact in_X0
  | 1, h => cases h; exact in_X1
  | 2, h => cases h; exact in_X2
  | 3, h => cases h; exact in_X3
  | 4, h => cases h; exact in_X4
  | 5, h => cases h; exact in_X5
  | 6, h => cases h; exact in_X6
  | 7, h => cases h; exact in_X7
  | 8, h => cases h; exact in_X8
  | 9, h => cases h; exact in_X10
  | 10, h => cases h; exact in_X11
  | 11, h => cases h; exact in_X12
  | 12, h => cases h; exact in_X14
  | 13, h => cases h; exact in_X15
  | 14, h => cases h; exact in_X16
  | 15, h => cases h; exact in_X17
  | 16, h => cases h; exact in_X18
  | 17, h => cases h; exact in_J3
  | 18, h => cases h; exact in_J9
  | 19, h => cases h; exact in_J14
  | 20, h => cases h; exact fun w hw => nomatch hw
  | 21, h => cases h; exact fun w hw => nomatch hw
  | 22, h => cases h; exact fun w hw => nomatch hw
  | 23, h => cases h; exact fun w hw => nomatch hw
  | n + 24, h => simp [b_cl] at h
theorem vp_cell_arr (cA : ClassId) (x : vp_A) : vp_cell cA x = arrV cA x.1 (b_arr x) := by
  obtain ⟨n, f | f | f | f | f⟩ := x <;> rfl
theorem b_clL {ci : Nat} {r : vw_C} (h : b_cl[ci]? = some r) : ci < 99 := by
  have h1 := (List.getElem?_eq_some_iff.mp h).1
  have h2 : b_cl.length = 24 := rfl
  omega
theorem b_tyLL {t : Nat} {ty : FieldType} (h : b_tyL[t]? = some ty) : t < 14 := by
  have h1 := (List.getElem?_eq_some_iff.mp h).1
  have h2 : b_tyL.length = 14 := rfl
  omega
section B_RDS
variable {D : va_G} {tys : List (ClassId × FieldType)} {z : Nat} {wsE : List Nat} {ws : va_W} {s : State} {σ : Sg} {H : Heap} {locs : List Loc} {args : Array Value}
/-- an entry of the world is a cell that can be read -/
theorem b_CR_RD (hts : ∀ w ∈ lw_all, w.before args s = true) (hW : b_Wd D tys z wsE s) {G : List Nat} {c : Cl} {q : Nat × va_E} (hP : va_at D b_cl q H) (h : b_CR G tys c q.2) : b_RD G c q.1 s H := by
  obtain ⟨a, e⟩ := q
  rcases h with h | h
  · exact Or.inl h
  · cases e with
    | inl x =>
      obtain ⟨cA, x⟩ := x
      obtain ⟨t, ty, h1, h2, h3, h4, h5, h6, h7⟩ := h
      have hP : H[a]? = some (vp_cell cA x) := hP
      rw [vp_cell_arr] at hP
      refine Or.inr (Or.inl ⟨t, ty, _, h3, h1, hP, (hW.1.1.2 t _ h2).1 x.1 (b_arr x), (fun z => by cases z), by rw [arrV_size]; exact h4.symm, by rw [h4]; exact h5, fun j hj => ?_⟩)
      rw [h4] at hj
      exact ⟨b_arr x j, arrV_read _ _ hj, h7 j hj⟩
    | inr o =>
      obtain ⟨ci, fs⟩ := o
      obtain ⟨r, h1, h2, h3, h4, h5⟩ := h
      obtain ⟨r', g1, cell, q1, q2, q3, q4⟩ := hP
      cases h3.symm.trans g1
      obtain ⟨hS, hfc, kC, hkC, hkind⟩ := hW.1.1.1 ci _ h3
      refine Or.inr (Or.inr ⟨ci, r, cell, h1, h3, q1, by rw [q3]; rfl, by rw [q3]; exact (fun z => nomatch z), by rw [q2]; exact hfc, fun k hk => ?_⟩)
      obtain ⟨cf, kf, fi, f, hi, hsl⟩ := hS k hk
      obtain ⟨ty, e1, e2⟩ := h5 k hk
      exact ⟨cf, kf, fi, f, fs.getD k .null, ty, hi, (u_facts hfc hkC (u_lays hts (b_in ci r h3) hk) hi).1, by rw [hsl]; exact q4 k hk, e1, e2⟩
theorem b_Gw {ws : va_W} {a b : Nat} (hE : wsE.length = b_E) (h : (b_G wsE ws)[a]? = some b) (ha : b_E ≤ a) : ∃ e, ws[a - b_E]? = some (b, e) := by
  unfold b_G at h
  rw [List.getElem?_append_right (by omega), hE, List.getElem?_map] at h
  cases hq : ws[a - b_E]? with
  | none => rw [hq] at h; cases h
  | some q => rw [hq] at h; cases h; exact ⟨q.2, rfl⟩
theorem b_Hr_rd (hts : ∀ w ∈ lw_all, w.before args s = true) (hW : b_Wd D tys z wsE s) (hH : b_Hr D tys z wsE ws s σ H locs) {a b : Nat} (h : (b_G wsE ws)[a]? = some b) : b_RD (b_G wsE ws) (σ.2.2.2 a) b s H := by
  have hE : wsE.length = b_E := hW.2.2.2.2.2.1.2.2.1
  obtain ⟨h1, h2, h3, h4, h5, h6⟩ := hH
  by_cases ha : a < wsE.length
  · refine (h6 a b ?_).1
    unfold b_G at h
    rwa [List.getElem?_append_left ha] at h
  · obtain ⟨e, he⟩ := b_Gw hE h (by omega)
    have h7 := h5 _ _ he
    rw [show b_E + (a - b_E) = a by omega] at h7
    exact b_CR_RD hts hW (h1 _ _ he) h7
/-- an array's cell, by its tag -/
theorem b_RDa {G : List Nat} {c : Cl} {q t : Nat} {ty : FieldType} (h : b_RD G c q s H) (ht : c.1 = 100 + t) (hty : b_tyL[t]? = some ty) : ∃ cell : Cell, H[q]? = some cell ∧ s.isArrayOf cell ty ∧ cell.vm ≠ .unknown ∧ cell.slots.size = c.2.1 ∧ c.2.1 < 2147483648 ∧ ∀ j, j < c.2.1 → ∃ w, cell.slots[j]? = some w ∧ VRt G ty (c.2.2 j) w := by
  rcases h with h | ⟨t', ty', cell, h1, h2, h3, h4, h5, h6, h7, h8⟩ | ⟨ci, r, cell, h1, h2, h3, -⟩
  · omega
  · have e : t' = t := by omega
    subst e
    cases h2.symm.trans hty
    exact ⟨cell, h3, h4, h5, h6, h7, h8⟩
  · have := b_clL h2
    omega
/-- an object's cell, by its tag -/
theorem b_RDo {G : List Nat} {c : Cl} {q ci : Nat} {r : vw_C} (h : b_RD G c q s H) (ht : c.1 = ci + 1) (hr : b_cl[ci]? = some r) : ∃ cell : Cell, H[q]? = some cell ∧ cell.vm.isStatics = false ∧ cell.vm ≠ .unknown ∧ s.vm.findClass r.1 = some cell.cls ∧
    ∀ k, k < r.2.2 → ∃ (cf : ClassId) (kc : Class) (i : Nat) (f : Field) (w : Value) (ty : FieldType), s.fieldFound? (r.2.1 k).1 (r.2.1 k).2.1 (r.2.1 k).2.2.1 = some (cf, kc, i, f) ∧ f.isStatic = false ∧ cell.slots[f.slot]? = some w ∧ parseFieldDescriptor (r.2.1 k).2.2.1 = some ty ∧ VRt G ty (c.2.2 k) w := by
  have hl := b_clL hr
  rcases h with h | ⟨t', ty', cell, h1, h2, h3, h4, h5, h6, h7, h8⟩ | ⟨ci', r', cell, h1, h2, h3⟩
  · omega
  · omega
  · have e : ci' = ci := by omega
    subst e
    cases h2.symm.trans hr
    exact ⟨cell, h3⟩
end B_RDS
section B_OPC
variable {nm : Nat → MethodName} {bc : Nat → ByteArray} {mL : Nat → Nat} {rt : Nat → Option FieldType} {hh : Nat → List (Nat × Nat × Nat × Nat)} {T : Tb} {y pc nx tgt d : Nat} {L : Lc} {st : List Value} {σ : Sg}
/-- an instruction that reads: its answer keeps the heap and the locals -/
theorem ok_read {f : Fn} (h : ∀ g L st σ r, f g L st σ = some r → ∃ pc' st', r = .inl (pc', L, st', σ) ∧ ∀ (d : Nat) (p : Program) (l : Launch) (e : Env) (R : Room) (s : State) (m : MethodId) (args : Array Value) (below : List Frame) (meth : Method) (c : Code) (D : va_G) (tys : List (ClassId × FieldType)) (z : Nat) (wsE : List Nat),
    b_Cx nm bc mL rt hh y d p l R s m args meth c D tys z wsE → ∀ (Q : State → Prop) (ws : va_W) (H : Heap) (locs : List Loc) (ls : Array Slot) (mst : List Value) (cells slots : Nat), b_Hr D tys z wsE ws s σ H locs → VRs (b_G wsE ws) st mst →
    (∀ mst', VRs (b_G wsE ws) st' mst' → W p l e R s m args below meth c H locs cells slots Q (F0 m pc' ls mst')) → W p l e R s m args below meth c H locs cells slots Q (F0 m pc ls mst)) : b_OK nm bc mL rt hh T y pc f := by
  refine ⟨fun g _ L st σ r hr => ?_, ?_⟩
  · obtain ⟨pc', st', rfl, -⟩ := h g L st σ r hr
    exact ⟨Nat.le_refl _, Nat.le_refl _⟩
  · intro d p l e R s m args below meth c D tys z wsE ih hc Q c0 s0 L st σ ws H locs ls mst cells slots hH hL hV hcl hsl r hr hcb hsb hK
    obtain ⟨pc', st', rfl, h2⟩ := h _ L st σ r hr
    exact h2 d p l e R s m args below meth c D tys z wsE hc Q ws H locs ls mst cells slots hH hV (fun mst' hV' => hK ws H locs ls mst' cells slots (List.prefix_refl _) hH hL hV' hcl hsl)
/-- what the tables say of a field's entry, for an object of class number ci -/
def b_FF (own : String) (idx ci k : Nat) (ty : FieldType) : Prop := ∃ (r : vw_C) (ref : String), b_cl[ci]? = some r ∧ k < r.2.2 ∧ parseFieldDescriptor (r.2.1 k).2.2.1 = some ty ∧ (Cond.fieldLink own idx ref (r.2.1 k).2.1 (r.2.1 k).2.2.1 ∈ lw_all ∨ ∃ host, Cond.fieldLinkNest own idx ref (r.2.1 k).2.1 (r.2.1 k).2.2.1 host ∈ lw_tbl) ∧ (ref = (r.2.1 k).1 ∨ Cond.sameField ref (r.2.1 k).1 (r.2.1 k).2.1 (r.2.1 k).2.2.1 ∈ lw_all)
theorem b_same {args : Array Value} {s : State} (hts : ∀ w ∈ lw_all, w.before args s = true) {ref o n d : String} (h : ref = o ∨ Cond.sameField ref o n d ∈ lw_all) : ∀ x, s.fieldFound? o n d = some x → s.fieldFound? ref n d = some x := by
  rcases h with rfl | h
  · exact fun x hx => hx
  · exact u_same (hts _ h)
/-- the machine reads a field -/
theorem b_getf {own : String} {idx ci k : Nat} {ty : FieldType} (hF : b_FF own idx ci k ty) {p : Program} {l : Launch} {e : Env} {R : Room} {s : State} {m : MethodId} {args : Array Value} {below : List Frame} {meth : Method} {c : Code} {D : va_G} {tys : List (ClassId × FieldType)} {z : Nat} {wsE : List Nat} (hown : own = (nm y).cls)
    (hd : decode (bc y) pc = .ok (.getfield idx, 3)) (hc : b_Cx nm bc mL rt hh y d p l R s m args meth c D tys z wsE) {Q : State → Prop} {ws : va_W} {H : Heap} {locs : List Loc} {ls : Array Slot} {rest : List Value} {cells slots : Nat} (hH : b_Hr D tys z wsE ws s σ H locs) {a b : Nat} (hb : (b_G wsE ws)[a]? = some b) (ht : b_tg σ a = ci + 1)
    (k' : ∀ w, VRt (b_G wsE ws) ty (b_vl σ a k) w → W p l e R s m args below meth c H locs cells slots Q (F0 m (pc + 3) ls (w :: rest))) : W p l e R s m args below meth c H locs cells slots Q (F0 m pc ls (.ref b :: rest)) := by
  obtain ⟨hx, hbc, hfo, hts, -, -, -, -, -, hW, -⟩ := hc
  obtain ⟨r, ref, h1, h2, h3, h4, h5⟩ := hF
  have hrd := b_Hr_rd hts hW hH hb
  obtain ⟨cell, q1, q2, q3, q4, q5⟩ := b_RDo hrd ht h1
  obtain ⟨cf, kc, i, f, w, ty', e1, e2, e3, e4, e5⟩ := q5 k h2
  cases h3.symm.trans e4
  have hi := b_same hts h5 _ e1
  subst hown
  rcases h4 with h4 | ⟨host, h4⟩
  · exact W.getf hx hbc hfo (hts _ h4) hi e2 q1 q3 e3 rfl rfl hd (k' w e5)
  · exact va_Wgetf hx hbc hfo (va_Nw.use rfl (hW.2.1 _ h4 rfl)) hi e2 q1 q3 e3 rfl rfl hd (k' w e5)
def b_ilike (ty : FieldType) : Bool := match ty with
  | .int => true
  | .boolean => true
  | .byte => true
  | .short => true
  | .char => true
  | _ => false
theorem b_VRtI {G : List Nat} {ty : FieldType} {v w : Value} (h : VRt G ty v w) (ht : b_ilike ty = true) : ∃ x, w = .int x ∧ v = .int x := by
  obtain ⟨h1, -, h3⟩ := h
  have hp : b_prim ty = true := by cases ty <;> first | rfl | exact absurd ht Bool.false_ne_true
  have he := h3 hp
  subst he
  cases v with
  | int x => exact ⟨x, rfl, rfl⟩
  | _ => cases ty <;> first | exact absurd h1 Bool.false_ne_true | exact absurd ht Bool.false_ne_true
theorem b_VRtL {G : List Nat} {v w : Value} (h : VRt G .long v w) : ∃ x, w = .long x ∧ v = .long x := by
  obtain ⟨h1, -, h3⟩ := h
  have he := h3 rfl
  subst he
  cases v with
  | long x => exact ⟨x, rfl, rfl⟩
  | _ => exact absurd h1 Bool.false_ne_true
def i_getI (ts : List Nat) (k nx : Nat) : Fn := fun _ L st σ => match st with
  | .ref a :: st => if b_tg σ a ∈ ts then some (.inl (nx, L, vI (b_ia σ a k) :: st, σ)) else none
  | _ => none
def i_getR (ts : List Nat) (k nx : Nat) : Fn := fun _ L st σ => match st with
  | .ref a :: st => if b_tg σ a ∈ ts then some (.inl (nx, L, b_vl σ a k :: st, σ)) else none
  | _ => none
theorem ok_getI {own : String} {idx k : Nat} {ts : List Nat} {ty : FieldType} (hd : decode (bc y) pc = .ok (.getfield idx, 3)) (hown : own = (nm y).cls) (hty : b_ilike ty = true) (hF : ∀ t ∈ ts, 0 < t ∧ b_FF own idx (t - 1) k ty) : b_OK nm bc mL rt hh T y pc (i_getI ts k (pc + 3)) :=
  ok_read fun g L st σ r hr => by
    unfold i_getI at hr
    split at hr
    · split at hr
      · next a st0 ht =>
        cases hr
        refine ⟨_, _, rfl, fun d p l e R s m args below meth c D tys z wsE hc Q ws H locs ls mst cells slots hH hV kk => ?_⟩
        obtain ⟨_, m1, rfl, h1, hV1⟩ := VRs_cons hV
        obtain ⟨b, hb, rfl⟩ := h1
        obtain ⟨g1, g2⟩ := hF _ ht
        refine b_getf g2 hown hd hc hH hb (by omega) fun w hw => ?_
        obtain ⟨x, rfl, e2⟩ := b_VRtI hw hty
        refine kk _ (VRs_mk ?_ hV1)
        unfold b_ia
        rw [e2]
        show .int x = vI x.toInt
        exact vI_of x
      · cases hr
    · cases hr
theorem ok_getR {own : String} {idx k : Nat} {ts : List Nat} {ty : FieldType} (hd : decode (bc y) pc = .ok (.getfield idx, 3)) (hown : own = (nm y).cls) (hF : ∀ t ∈ ts, 0 < t ∧ b_FF own idx (t - 1) k ty) : b_OK nm bc mL rt hh T y pc (i_getR ts k (pc + 3)) :=
  ok_read fun g L st σ r hr => by
    unfold i_getR at hr
    split at hr
    · split at hr
      · next a st0 ht =>
        cases hr
        refine ⟨_, _, rfl, fun d p l e R s m args below meth c D tys z wsE hc Q ws H locs ls mst cells slots hH hV kk => ?_⟩
        obtain ⟨_, m1, rfl, h1, hV1⟩ := VRs_cons hV
        obtain ⟨b, hb, rfl⟩ := h1
        obtain ⟨g1, g2⟩ := hF _ ht
        exact b_getf g2 hown hd hc hH hb (by omega) fun w hw => kk _ (VRs_mk hw.2.1 hV1)
      · cases hr
    · cases hr
theorem ev_getI {a k : Nat} {ts : List Nat} (h : b_lk (T y) pc = some (i_getI ts k nx)) (ht : b_tg σ a ∈ ts) : b_F T d y pc L (.ref a :: st) σ = b_F T d y nx L (vI (b_ia σ a k) :: st) σ := by
  rw [b_F_at h]; unfold i_getI; dsimp only; rw [if_pos ht]; rfl
theorem ev_getR {a k : Nat} {ts : List Nat} (h : b_lk (T y) pc = some (i_getR ts k nx)) (ht : b_tg σ a ∈ ts) : b_F T d y pc L (.ref a :: st) σ = b_F T d y nx L (b_vl σ a k :: st) σ := by
  rw [b_F_at h]; unfold i_getR; dsimp only; rw [if_pos ht]; rfl
/-! arrays -/
theorem w32_clamp {x : Int32} (h : ¬ x < 0) : x.toNatClampNeg = x.toInt.toNat := rfl
theorem b_vpin {x : Int32} {n : Nat} (h0 : 0 ≤ x.toInt) (h1 : x.toInt.toNat < n) : ¬ (x < 0 ∨ n ≤ x.toNatClampNeg) := by
  rintro (q | q)
  · rw [Int32.lt_iff_toInt_lt] at q
    have : (0 : Int32).toInt = 0 := rfl
    omega
  · have : x.toNatClampNeg = x.toInt.toNat := rfl
    omega
/-- an array's int is read: tag tg -/
def i_aldI (tg nx : Nat) : Fn := fun _ L st σ => match st with
  | .int i :: .ref a :: st => if b_tg σ a = tg ∧ 0 ≤ i.toInt ∧ i.toInt.toNat < b_ln σ a then some (.inl (nx, L, vI (b_ia σ a i.toInt.toNat) :: st, σ)) else none
  | _ => none
def i_aldL (nx : Nat) : Fn := fun _ L st σ => match st with
  | .int i :: .ref a :: st => if b_tg σ a = 104 ∧ 0 ≤ i.toInt ∧ i.toInt.toNat < b_ln σ a then some (.inl (nx, L, vL (b_la σ a i.toInt.toNat) :: st, σ)) else none
  | _ => none
def i_aldR (tgs : List Nat) (nx : Nat) : Fn := fun _ L st σ => match st with
  | .int i :: .ref a :: st => if b_tg σ a ∈ tgs ∧ 0 ≤ i.toInt ∧ i.toInt.toNat < b_ln σ a then some (.inl (nx, L, b_vl σ a i.toInt.toNat :: st, σ)) else none
  | _ => none
/-- the machine's part of an array read, for any row -/
theorem b_ald {f : Fn} {t : Nat} {ty : FieldType} {vf : Sg → Nat → Nat → Value} {tg : Nat} (hty : b_tyL[t]? = some ty) (htg : tg = 100 + t) (hvf : ∀ G σ a j w, VRt G ty (b_vl σ a j) w → VR G (vf σ a j) w)
    (hrow : ∀ (p : Program) (l : Launch) (e : Env) (R : Room) (s : State) (m : MethodId) (args : Array Value) (below : List Frame) (meth : Method) (c : Code) (H : Heap) (locs : List Loc) (cells slots : Nat) (Q : State → Prop) (ls : Array Slot) (rest : List Value) (a : Nat) (cell : Cell) (i : Int32) (v : Value), p.tables.exec = Jvm.exec → c.code = bc y → H[a]? = some cell → s.isArrayOf cell ty → cell.vm ≠ .unknown → ¬ (i < 0 ∨ cell.slots.size ≤ i.toNatClampNeg) → cell.slots[i.toNatClampNeg]? = some v →
      W p l e R s m args below meth c H locs cells slots Q (F0 m (pc + 1) ls (v :: rest)) → W p l e R s m args below meth c H locs cells slots Q (F0 m pc ls (.int i :: .ref a :: rest)))
    {i : Int32} {a : Nat} {st : List Value} {σ : Sg} (ht : b_tg σ a = tg ∧ 0 ≤ i.toInt ∧ i.toInt.toNat < b_ln σ a) : ∀ (d : Nat) (p : Program) (l : Launch) (e : Env) (R : Room) (s : State) (m : MethodId) (args : Array Value) (below : List Frame) (meth : Method) (c : Code) (D : va_G) (tys : List (ClassId × FieldType)) (z : Nat) (wsE : List Nat),
    b_Cx nm bc mL rt hh y d p l R s m args meth c D tys z wsE → ∀ (Q : State → Prop) (ws : va_W) (H : Heap) (locs : List Loc) (ls : Array Slot) (mst : List Value) (cells slots : Nat), b_Hr D tys z wsE ws s σ H locs → VRs (b_G wsE ws) (.int i :: .ref a :: st) mst →
    (∀ mst', VRs (b_G wsE ws) (vf σ a i.toInt.toNat :: st) mst' → W p l e R s m args below meth c H locs cells slots Q (F0 m (pc + 1) ls mst')) → W p l e R s m args below meth c H locs cells slots Q (F0 m pc ls mst) := by
  intro d p l e R s m args below meth c D tys z wsE hc Q ws H locs ls mst cells slots hH hV kk
  obtain ⟨_, m1, rfl, h1, hV1⟩ := VRs_cons hV
  obtain ⟨_, m2, rfl, h2, hV2⟩ := VRs_cons hV1
  cases h1
  obtain ⟨b, hb, rfl⟩ := h2
  obtain ⟨hx, hbc, hfo, hts, -, -, -, -, -, hW, -⟩ := hc
  obtain ⟨cell, q1, q2, q3, q4, q5, q6⟩ := b_RDa (b_Hr_rd hts hW hH hb) (show (σ.2.2.2 a).1 = 100 + t from ht.1.trans htg) hty
  obtain ⟨w, e1, e2⟩ := q6 i.toInt.toNat ht.2.2
  exact hrow p l e R s m args below meth c H locs cells slots Q ls m2 b cell i w hx hbc q1 q2 q3 (by rw [q4]; exact b_vpin ht.2.1 ht.2.2) e1 (kk _ (VRs_mk (hvf _ _ _ _ _ e2) hV2))
theorem b_vfI {ty : FieldType} (hty : b_ilike ty = true) : ∀ G σ a j w, VRt G ty (b_vl σ a j) w → VR G (vI (b_ia σ a j)) w := by
  intro G σ a j w h
  obtain ⟨x, rfl, e2⟩ := b_VRtI h hty
  unfold b_ia
  rw [e2]
  show .int x = vI x.toInt
  exact vI_of x
theorem b_vfL : ∀ G σ a j w, VRt G .long (b_vl σ a j) w → VR G (vL (b_la σ a j)) w := by
  intro G σ a j w h
  obtain ⟨x, rfl, e2⟩ := b_VRtL h
  unfold b_la
  rw [e2]
  show .long x = vL x.toInt
  exact vL_of x
theorem ok_iald (hd : decode (bc y) pc = .ok (.iaload, 1)) : b_OK nm bc mL rt hh T y pc (i_aldI 103 (pc + 1)) :=
  ok_read fun g L st σ r hr => by
    unfold i_aldI at hr
    split at hr
    · split at hr
      · next ht =>
        cases hr
        exact ⟨_, _, rfl, b_ald (f := fun _ _ _ _ => none) (t := 3) (ty := .int) (tg := 103) (vf := fun σ a j => vI (b_ia σ a j)) rfl rfl (b_vfI rfl) (fun p l e R s m args below meth c H locs cells slots Q ls rest a cell i v hx hb h1 h2 h3 h4 h5 k => W.iald hx hb h1 h2 h3 h4 h5 rfl rfl hd k) ht⟩
      · cases hr
    · cases hr
theorem ok_bald (hd : decode (bc y) pc = .ok (.baload, 1)) : b_OK nm bc mL rt hh T y pc (i_aldI 101 (pc + 1)) :=
  ok_read fun g L st σ r hr => by
    unfold i_aldI at hr
    split at hr
    · split at hr
      · next ht =>
        cases hr
        exact ⟨_, _, rfl, b_ald (f := fun _ _ _ _ => none) (t := 1) (ty := .byte) (tg := 101) (vf := fun σ a j => vI (b_ia σ a j)) rfl rfl (b_vfI rfl) (fun p l e R s m args below meth c H locs cells slots Q ls rest a cell i v hx hb h1 h2 h3 h4 h5 k => W.bald hx hb h1 h2 h3 h4 h5 rfl rfl hd k) ht⟩
      · cases hr
    · cases hr
theorem ok_zald (hd : decode (bc y) pc = .ok (.baload, 1)) : b_OK nm bc mL rt hh T y pc (i_aldI 100 (pc + 1)) :=
  ok_read fun g L st σ r hr => by
    unfold i_aldI at hr
    split at hr
    · split at hr
      · next ht =>
        cases hr
        exact ⟨_, _, rfl, b_ald (f := fun _ _ _ _ => none) (t := 0) (ty := .boolean) (tg := 100) (vf := fun σ a j => vI (b_ia σ a j)) rfl rfl (b_vfI rfl) (fun p l e R s m args below meth c H locs cells slots Q ls rest a cell i v hx hb h1 h2 h3 h4 h5 k => W.zald hx hb h1 h2 h3 h4 h5 rfl rfl hd k) ht⟩
      · cases hr
    · cases hr
theorem ok_sald (hd : decode (bc y) pc = .ok (.saload, 1)) : b_OK nm bc mL rt hh T y pc (i_aldI 102 (pc + 1)) :=
  ok_read fun g L st σ r hr => by
    unfold i_aldI at hr
    split at hr
    · split at hr
      · next ht =>
        cases hr
        exact ⟨_, _, rfl, b_ald (f := fun _ _ _ _ => none) (t := 2) (ty := .short) (tg := 102) (vf := fun σ a j => vI (b_ia σ a j)) rfl rfl (b_vfI rfl) (fun p l e R s m args below meth c H locs cells slots Q ls rest a cell i v hx hb h1 h2 h3 h4 h5 k => W.sald hx hb h1 h2 h3 h4 h5 rfl rfl hd k) ht⟩
      · cases hr
    · cases hr
theorem ok_lald (hd : decode (bc y) pc = .ok (.laload, 1)) : b_OK nm bc mL rt hh T y pc (i_aldL (pc + 1)) :=
  ok_read fun g L st σ r hr => by
    unfold i_aldL at hr
    split at hr
    · split at hr
      · next ht =>
        cases hr
        exact ⟨_, _, rfl, b_ald (f := fun _ _ _ _ => none) (t := 4) (ty := .long) (tg := 104) (vf := fun σ a j => vL (b_la σ a j)) rfl rfl b_vfL (fun p l e R s m args below meth c H locs cells slots Q ls rest a cell i v hx hb h1 h2 h3 h4 h5 k => W.lald hx hb h1 h2 h3 h4 h5 rfl rfl hd k) ht⟩
      · cases hr
    · cases hr
theorem ok_aald {tgs : List Nat} (hd : decode (bc y) pc = .ok (.aaload, 1)) (hg : ∀ tg ∈ tgs, ∃ t ty, tg = 100 + t ∧ b_tyL[t]? = some ty ∧ ty.isReference = true) : b_OK nm bc mL rt hh T y pc (i_aldR tgs (pc + 1)) :=
  ok_read fun g L st σ r hr => by
    unfold i_aldR at hr
    split at hr
    · split at hr
      · next ht =>
        cases hr
        obtain ⟨t, ty, e1, e2, e3⟩ := hg _ ht.1
        exact ⟨_, _, rfl, b_ald (f := fun _ _ _ _ => none) (t := t) (ty := ty) (tg := 100 + t) (vf := fun σ a j => b_vl σ a j) e2 rfl (fun G σ a j w h => h.2.1) (fun p l e R s m args below meth c H locs cells slots Q ls rest a cell i v hx hb h1 h2 h3 h4 h5 k => W.aald hx hb h1 h2 e3 h3 h4 h5 rfl rfl hd k) ⟨e1, ht.2⟩⟩
      · cases hr
    · cases hr
theorem ev_aldI {a tg : Nat} {i : Int} (h : b_lk (T y) pc = some (i_aldI tg nx)) (ht : b_tg σ a = tg) (h0 : 0 ≤ w32 i) (h1 : (w32 i).toNat < b_ln σ a) : b_F T d y pc L (vI i :: .ref a :: st) σ = b_F T d y nx L (vI (b_ia σ a (w32 i).toNat) :: st) σ := by
  rw [b_F_at h]; unfold i_aldI vI; dsimp only; rw [if_pos ⟨ht, h0, h1⟩]; rfl
theorem ev_aldL {a : Nat} {i : Int} (h : b_lk (T y) pc = some (i_aldL nx)) (ht : b_tg σ a = 104) (h0 : 0 ≤ w32 i) (h1 : (w32 i).toNat < b_ln σ a) : b_F T d y pc L (vI i :: .ref a :: st) σ = b_F T d y nx L (vL (b_la σ a (w32 i).toNat) :: st) σ := by
  rw [b_F_at h]; unfold i_aldL vI; dsimp only; rw [if_pos ⟨ht, h0, h1⟩]; rfl
theorem ev_aldR {a : Nat} {tgs : List Nat} {i : Int} (h : b_lk (T y) pc = some (i_aldR tgs nx)) (ht : b_tg σ a ∈ tgs) (h0 : 0 ≤ w32 i) (h1 : (w32 i).toNat < b_ln σ a) : b_F T d y pc L (vI i :: .ref a :: st) σ = b_F T d y nx L (b_vl σ a (w32 i).toNat :: st) σ := by
  rw [b_F_at h]; unfold i_aldR vI; dsimp only; rw [if_pos ⟨ht, h0, h1⟩]; rfl
def i_len (nx : Nat) : Fn := fun _ L st σ => match st with
  | .ref a :: st => if 100 ≤ b_tg σ a ∧ b_tg σ a < 114 then some (.inl (nx, L, vI (b_ln σ a) :: st, σ)) else none
  | _ => none
theorem ok_len (hd : decode (bc y) pc = .ok (.arraylength, 1)) : b_OK nm bc mL rt hh T y pc (i_len (pc + 1)) :=
  ok_read fun g L st σ r hr => by
    unfold i_len at hr
    split at hr
    · split at hr
      · next a st0 ht =>
        cases hr
        refine ⟨_, _, rfl, fun d p l e R s m args below meth c D tys z wsE hc Q ws H locs ls mst cells slots hH hV kk => ?_⟩
        obtain ⟨_, m1, rfl, h1, hV1⟩ := VRs_cons hV
        obtain ⟨b, hb, rfl⟩ := h1
        obtain ⟨hx, hbc, hfo, hts, -, -, -, -, -, hW, -⟩ := hc
        have hl : b_tg σ a - 100 < b_tyL.length := by
          have : b_tyL.length = 14 := rfl
          omega
        obtain ⟨cell, q1, q2, q3, q4, q5, q6⟩ := b_RDa (b_Hr_rd hts hW hH hb) (t := b_tg σ a - 100) (show (σ.2.2.2 a).1 = 100 + (b_tg σ a - 100) by show b_tg σ a = _; omega) (List.getElem?_eq_getElem hl)
        refine W.alen hx hbc q1 q2 rfl rfl rfl hd (kk _ (VRs_mk ?_ hV1))
        show Value.int _ = vI _
        unfold vI
        rw [q4]
        rfl
      · cases hr
    · cases hr
theorem ev_len {a : Nat} (h : b_lk (T y) pc = some (i_len nx)) (h0 : 100 ≤ b_tg σ a) (h1 : b_tg σ a < 114) : b_F T d y pc L (.ref a :: st) σ = b_F T d y nx L (vI (b_ln σ a) :: st) σ := by
  rw [b_F_at h]; unfold i_len; dsimp only; rw [if_pos ⟨h0, h1⟩]; rfl
end B_OPC
