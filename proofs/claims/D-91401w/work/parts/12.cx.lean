/-! ===== the claim's classes and arrays; the world; what an instruction's law is ===== -/
set_option maxRecDepth 100000
abbrev b_cl : List vw_C := [(RX0, TX0, 41), (RX1, TX1, 10), (RX2, TX2, 8), (RX3, TX3, 1), (RX4, TX4, 82), (RX5, TX5, 5), (RX6, TX6, 7), (RX7, TX7, 1), (RX8, TX8, 4), (RX10, TX10, 1), (RX11, TX11, 1), (RX12, TX12, 1), (RX14, TX14, 2), (RX15, TX15, 1), (RX16, TX16, 1), (RX17, TX17, 3), (RX18, TX18, 3), (RJ3, TJ3, 2), (RJ9, TJ9, 3), (RJ14, TJ14, 1), (RJ16, TJ16, 0), (RJ17, TJ17, 0), (RJ19, TJ19, 0), (RJ20, TJ20, 0)]
def b_tyL : List FieldType := [.boolean, .byte, .short, .int, .long, .object "BoneYard$Row", .object "BoneYard$Element", .object "BoneYard$Bone", .array .boolean, .object "java/lang/String", .object "BoneYard$Key", .array .int, .object "java/lang/Object", .object "java/lang/Integer"]
/-- how many cells of the start the world knows: the script (0), the cache of small Integers (1), three Integers, eighteen Strings with their bytes; the class object of Object[] (41) -/
def b_E : Nat := 42
theorem b_findIdx {vm vm' : Vm} (h : vm.Alike vm') (f : Class → Bool) (hf : ∀ k : Class, f k.bare = f k) : vm'.classes.findIdx? f = vm.classes.findIdx? f := by
  have e : ∀ v : Vm, v.bare.classes.findIdx? f = v.classes.findIdx? f := fun v => by
    simp only [Vm.bare, Array.findIdx?_map]
    congr 1; funext k; exact hf k
  rw [← e vm', ← e vm, h.bare_eq]
theorem b_AO_setVm {args : Array Value} {s : State} {vm' : Vm} (h : s.vm.Alike vm') (ty : FieldType) : (Cond.arrayOver ty).before args (s.setVm vm') = (Cond.arrayOver ty).before args s := by
  simp only [Cond.before, Cond.holds, Cond.value, State.vm_setVm, h.findClass]
  congr 1
  congr 1
  funext comp
  rw [b_findIdx h _ (fun k => rfl)]
  congr 1
  funext c
  exact h.class_map _ (fun k r _ _ => rfl) c
theorem b_AO_warm {ty : FieldType} {s U : State} (hvm : s.vm.Alike U.vm) (h : va_Nw (.arrayOver ty) s) : va_Nw (.arrayOver ty) U := by
  have h1 : (Cond.arrayOver ty).before #[] (s.setVm U.vm) = true := by
    rw [b_AO_setVm hvm]
    exact h
  have e : (Cond.arrayOver ty).before #[] (s.setVm U.vm) = (Cond.arrayOver ty).before #[] U := by
    simp only [Cond.before, Cond.holds, Cond.value, State.vm_setVm]
    rfl
  rw [e] at h1
  exact h1
def b_nwk : Cond → Bool
  | .fieldLinkNest .. => true
  | .methodLinkNest .. => true
  | .castable .. => true
  | .declares .. => true
  | _ => false
theorem b_nw_warm {w : Cond} {s U : State} (hk : b_nwk w = true) (hW : s.WarmedH U.vm) (h : va_Nw w s) : va_Nw w U := by
  unfold b_nwk at hk
  split at hk
  · exact va_Nw.warmF hW h
  · exact va_Nw.warmM hW h
  · exact va_Nw.warmC hW h
  · exact va_Nw.warmD hW h
  · cases hk
theorem b_nw_tab {w : Cond} (hk : b_nwk w = true) : w.onTables = true := by
  unfold b_nwk at hk
  split at hk
  · rfl
  · rfl
  · rfl
  · rfl
  · cases hk
def b_A (z : Nat) : Nat → Prop := fun q => z ≤ q
/-- String constants: class, entry, text, its place among the known cells -/
def b_strs : List (String × Nat × String × Nat) := [(RX1, 17, "a", 5), (RX1, 19, "b", 7), (RX1, 21, "c", 9), (RX1, 23, "d", 11), (RX1, 25, "e", 13), (RX1, 27, "f", 15), (RX1, 29, "side", 17), (RX1, 31, "zones", 19), (RX1, 33, "ends", 21), (RX1, 35, "wear", 23), (RX1, 37, "then", 25), (RX1, 39, "else", 27), (RX1, 41, "go", 29), (RX1, 43, "is", 31), (RX1, 45, "none", 33), (RX1, 47, "or", 35), (RX1, 49, "and", 37), (RX1, 51, "not", 39),
  (RX4, 337, "side", 17), (RX4, 338, "zones", 19), (RX4, 339, "ends", 21), (RX4, 340, "wear", 23), (RX4, 397, "then", 25), (RX4, 407, "else", 27), (RX4, 376, "go", 29), (RX4, 384, "is", 31), (RX4, 371, "none", 33), (RX4, 369, "or", 35), (RX4, 364, "and", 37), (RX4, 359, "not", 39)]
/-- where the abstract addresses lie: the start's known cells, then the world's -/
def b_G (wsE : List Nat) (ws : va_W) : List Nat := wsE ++ ws.map (·.1)
/-- what holds of the tables and of the statics all through the run -/
def b_Wd (D : va_G) (tys : List (ClassId × FieldType)) (z : Nat) (wsE : List Nat) (U : State) : Prop :=
  (va_K D b_cl tys U ∧ tys.map (·.2) = b_tyL) ∧ (∀ w ∈ lw_tbl, b_nwk w = true → va_Nw w U) ∧ (∀ ty : FieldType, Cond.arrayOver ty ∈ lw_tbl → va_Nw (.arrayOver ty) U) ∧
  (∀ (C : String) (x y : MethodName), Cond.declares x ∈ lw_tbl → Cond.interfaceMethod x.cls x.cls x.name x.desc ∈ lw_tbl → Cond.publicMethod y ∈ lw_tbl → Cond.unhidden C x.name x.desc ∈ lw_tbl → Cond.castable C x.cls ∈ lw_tbl → (x.cls ≠ "java/lang/invoke/MethodHandle" ∧ x.cls ≠ "java/lang/invoke/VarHandle") → va_Fw C x y U) ∧
  ((∀ C T : String, Cond.not (.castable C T) ∈ flatC (Jvm.Cond.and given_1 narrow_1) → va_Nc C T U) ∧ modulesRight_1 U = true ∧ ∃ q, wsE[41]? = some q ∧ va_Mi "[Ljava/lang/Object;" q U) ∧
  (z ≤ U.heap.size ∧ (∀ k q : Nat, wsE[k]? = some q → k ≠ 41 → q < z) ∧ wsE.length = b_E ∧ ∀ e ∈ b_strs, ∃ q, wsE[e.2.2.2]? = some q ∧ vk_R e.1 e.2.1 e.2.2.1 q U) ∧
  (va_Z "java/lang/Integer$IntegerCache" "high" "I" (.int 127) (b_A z) U U.heap ∧ va_Z "java/lang/String" "COMPACT_STRINGS" "Z" (.int 1) (b_A z) U U.heap ∧
    (∃ b, wsE[1]? = some b ∧ va_Z "java/lang/Integer$IntegerCache" "cache" "[Ljava/lang/Integer;" (.ref b) (b_A z) U U.heap) ∧
    va_Zq "jdk/internal/util/Preconditions" "SIOOBE_FORMATTER" "Ljava/util/function/BiFunction;" (b_A z) U U.heap ∧
    vx_Zq Bundle.tN "UNASSIGNED_STACK" Bundle.steD (b_A z) U U.heap ∧ vx_Zq Bundle.tN "SUPPRESSED_SENTINEL" Bundle.listD (b_A z) U U.heap)
theorem b_Wd.moved {D : va_G} {tys : List (ClassId × FieldType)} {z : Nat} {wsE : List Nat} {u U : State} (hW : u.WarmedH U.vm) (hz : u.heap.size ≤ U.heap.size) (hk : ∀ q : Nat, q < u.heap.size → ¬ b_A z q → U.heap[q]? = u.heap[q]?) (h : b_Wd D tys z wsE u) : b_Wd D tys z wsE U := by
  obtain ⟨⟨h1, h1'⟩, h2, h3, h4, h5, ⟨h6, h7, h8, h9⟩, g1, g2, ⟨b, g3, g3'⟩, g4, g5, g6⟩ := h
  have ha := hW.alike
  refine ⟨⟨va_K.moved ha h1, h1'⟩, fun w hw hb => b_nw_warm hb hW (h2 w hw hb), fun ty hty => b_AO_warm ha (h3 ty hty), fun C x y q1 q2 q3 q4 q5 q6 => (h4 C x y q1 q2 q3 q4 q5 q6).moved q6 ha, ⟨fun C T q => (h5.1 C T q).moved ha, by have e := hW.1; unfold modulesRight_1; rw [e]; exact h5.2.1, by obtain ⟨q, m1, m2⟩ := h5.2.2; exact ⟨q, m1, m2.moved ha⟩⟩, ⟨by omega, h7, h8, fun e he => ?_⟩,
    (g1.kept hk).moved ha, (g2.kept hk).moved ha, ⟨b, g3, (g3'.kept hk).moved ha⟩, (g4.kept hk).moved ha, (g5.kept hk).moved ha, (g6.kept hk).moved ha⟩
  obtain ⟨q, e1, e2⟩ := h9 e he
  exact ⟨q, e1, e2.warm hW⟩
def b_prim (ty : FieldType) : Bool := match ty with
  | .object _ => false
  | .array _ => false
  | _ => true
/-- an abstract value and the machine's, of a type: what is no reference is known -/
def VRt (G : List Nat) (ty : FieldType) (v w : Value) : Prop := fits ty w = true ∧ VR G v w ∧ (b_prim ty = true → v = w)
theorem VRt_mono {G G' : List Nat} {ty : FieldType} {v w : Value} (hp : G <+: G') (h : VRt G ty v w) : VRt G' ty v w := ⟨h.1, VR_mono hp h.2.1, h.2.2⟩
/-- a cell that can be read -/
def b_RD (G : List Nat) (c : Cl) (q : Nat) (U : State) (H : Heap) : Prop := c.1 = 0 ∨
  (∃ (t : Nat) (ty : FieldType) (cell : Cell), c.1 = 100 + t ∧ b_tyL[t]? = some ty ∧ H[q]? = some cell ∧ U.isArrayOf cell ty ∧ cell.vm ≠ .unknown ∧ cell.slots.size = c.2.1 ∧ c.2.1 < 2147483648 ∧ ∀ j, j < c.2.1 → ∃ w, cell.slots[j]? = some w ∧ VRt G ty (c.2.2 j) w) ∨
  (∃ (ci : Nat) (r : vw_C) (cell : Cell), c.1 = ci + 1 ∧ b_cl[ci]? = some r ∧ H[q]? = some cell ∧ cell.vm.isStatics = false ∧ cell.vm ≠ .unknown ∧ U.vm.findClass r.1 = some cell.cls ∧
    ∀ k, k < r.2.2 → ∃ (cf : ClassId) (kc : Class) (i : Nat) (f : Field) (w : Value) (ty : FieldType), U.fieldFound? (r.2.1 k).1 (r.2.1 k).2.1 (r.2.1 k).2.2.1 = some (cf, kc, i, f) ∧ f.isStatic = false ∧ cell.slots[f.slot]? = some w ∧ parseFieldDescriptor (r.2.1 k).2.2.1 = some ty ∧ VRt G ty (c.2.2 k) w)
theorem b_RD.moved {G : List Nat} {c : Cl} {q : Nat} {u U : State} {H : Heap} (ha : u.vm.Alike U.vm) (h : b_RD G c q u H) : b_RD G c q U H := by
  rcases h with h | ⟨t, ty, cell, h1, h2, h3, h4, h5⟩ | ⟨ci, r, cell, h1, h2, h3, h4, h5, h6, h7⟩
  · exact Or.inl h
  · exact Or.inr (Or.inl ⟨t, ty, cell, h1, h2, h3, State.isArrayOf_alike ha h4, h5⟩)
  · refine Or.inr (Or.inr ⟨ci, r, cell, h1, h2, h3, h4, h5, by rw [ha.findClass]; exact h6, fun k hk => ?_⟩)
    obtain ⟨cf, kc, i, f, w, ty, q1, q2, q3⟩ := h7 k hk
    obtain ⟨k', hi', he⟩ := State.fieldFound?_setVm ha q1
    exact ⟨cf, k', i, f, w, ty, hi', q2, q3⟩
theorem b_RD.kept {G : List Nat} {c : Cl} {q : Nat} {U : State} {H H1 : Heap} (hq : H1[q]? = H[q]?) (h : b_RD G c q U H) : b_RD G c q U H1 := by
  rcases h with h | ⟨t, ty, cell, h1, h2, h3, h4⟩ | ⟨ci, r, cell, h1, h2, h3, h4⟩
  · exact Or.inl h
  · exact Or.inr (Or.inl ⟨t, ty, cell, h1, h2, by rw [hq]; exact h3, h4⟩)
  · exact Or.inr (Or.inr ⟨ci, r, cell, h1, h2, by rw [hq]; exact h3, h4⟩)
theorem b_RD.grow {G G' : List Nat} {c : Cl} {q : Nat} {U : State} {H : Heap} (hp : G <+: G') (h : b_RD G c q U H) : b_RD G' c q U H := by
  rcases h with h | ⟨t, ty, cell, h1, h2, h3, h4, h5, h6, h7, h8⟩ | ⟨ci, r, cell, h1, h2, h3, h4, h5, h6, h7⟩
  · exact Or.inl h
  · refine Or.inr (Or.inl ⟨t, ty, cell, h1, h2, h3, h4, h5, h6, h7, fun j hj => ?_⟩)
    obtain ⟨w, q1, q2⟩ := h8 j hj
    exact ⟨w, q1, VRt_mono hp q2⟩
  · refine Or.inr (Or.inr ⟨ci, r, cell, h1, h2, h3, h4, h5, h6, fun k hk => ?_⟩)
    obtain ⟨cf, kc, i, f, w, ty, q1, q2, q3, q4, q5⟩ := h7 k hk
    exact ⟨cf, kc, i, f, w, ty, q1, q2, q3, q4, VRt_mono hp q5⟩
def b_arr (x : vp_A) (j : Nat) : Value := match x.2 with
  | .inl f => .int (f j)
  | .inr (.inl f) => .long (f j)
  | .inr (.inr (.inl f)) => .float (f j)
  | .inr (.inr (.inr (.inl f))) => .double (f j)
  | .inr (.inr (.inr (.inr f))) => va_rf (f j)
/-- which contents an array has, by its elements' type -/
def b_KO (ty : FieldType) (x : vp_A) : Prop := match ty with
  | .long => ∃ f, x.2 = .inr (.inl f)
  | .float => False
  | .double => False
  | .object _ => ∃ f, x.2 = .inr (.inr (.inr (.inr f)))
  | .array _ => ∃ f, x.2 = .inr (.inr (.inr (.inr f)))
  | _ => ∃ f, x.2 = .inl f
/-- an abstract cell and the world's entry for it -/
def b_CR (G : List Nat) (tys : List (ClassId × FieldType)) (c : Cl) (e : va_E) : Prop := c.1 = 0 ∨ match e with
  | .inl (cA, x) => ∃ (t : Nat) (ty : FieldType), b_tyL[t]? = some ty ∧ tys[t]? = some (cA, ty) ∧ c.1 = 100 + t ∧ c.2.1 = x.1 ∧ x.1 < 2147483648 ∧ b_KO ty x ∧ ∀ j, j < x.1 → VRt G ty (c.2.2 j) (b_arr x j)
  | .inr (ci, fs) => ∃ r : vw_C, c.1 = ci + 1 ∧ ci < 99 ∧ b_cl[ci]? = some r ∧ fs.length = r.2.2 ∧ ∀ k, k < r.2.2 → ∃ ty, parseFieldDescriptor (r.2.1 k).2.2.1 = some ty ∧ VRt G ty (c.2.2 k) (fs.getD k .null)
theorem b_CR.grow {G G' : List Nat} {tys : List (ClassId × FieldType)} {c : Cl} {e : va_E} (hp : G <+: G') (h : b_CR G tys c e) : b_CR G' tys c e := by
  rcases h with h | h
  · exact Or.inl h
  · refine Or.inr ?_
    cases e with
    | inl x =>
      obtain ⟨t, ty, h1, h2, h3, h4, h5, h6, h7⟩ := h
      exact ⟨t, ty, h1, h2, h3, h4, h5, h6, fun j hj => VRt_mono hp (h7 j hj)⟩
    | inr x =>
      obtain ⟨r, h1, h2, h3, h4, h5⟩ := h
      refine ⟨r, h1, h2, h3, h4, fun k hk => ?_⟩
      obtain ⟨ty, e1, e2⟩ := h5 k hk
      exact ⟨ty, e1, VRt_mono hp e2⟩
/-- a cell of the start; of the class object (41) nothing is read -/
def b_RE (G : List Nat) (a : Nat) (c : Cl) (q : Nat) (U : State) (H : Heap) : Prop := b_RD G c q U H ∧ (a = 41 → c.1 = 0)
theorem b_RE.moved {G : List Nat} {a : Nat} {c : Cl} {q : Nat} {u U : State} {H : Heap} (ha : u.vm.Alike U.vm) (h : b_RE G a c q u H) : b_RE G a c q U H := ⟨h.1.moved ha, h.2⟩
theorem b_RE.grow {G G' : List Nat} {a : Nat} {c : Cl} {q : Nat} {U : State} {H : Heap} (hp : G <+: G') (h : b_RE G a c q U H) : b_RE G' a c q U H := ⟨h.1.grow hp, h.2⟩
theorem b_RE.kept {G : List Nat} {a : Nat} {c : Cl} {q : Nat} {U : State} {H H1 : Heap} (hq : a ≠ 41 → H1[q]? = H[q]?) (h : b_RE G a c q U H) : b_RE G a c q U H1 := by
  refine ⟨?_, h.2⟩
  by_cases e : a = 41
  · exact Or.inl (h.2 e)
  · exact h.1.kept (hq e)
/-- the abstract heap and the machine's -/
def b_Hr (D : va_G) (tys : List (ClassId × FieldType)) (z : Nat) (wsE : List Nat) (ws : va_W) (s : State) (σ : Sg) (H : Heap) (locs : List Loc) : Prop :=
  va_P D b_cl ws H ∧ va_D (b_A z) ws ∧ va_S (b_A z) s.heap H locs ∧ σ.1 = b_E + ws.length ∧ (∀ (k : Nat) (e : Nat × va_E), ws[k]? = some e → b_CR (b_G wsE ws) tys (σ.2.2.2 (b_E + k)) e.2) ∧ ∀ (a q : Nat), wsE[a]? = some q → b_RE (b_G wsE ws) a (σ.2.2.2 a) q s H
section B_CX
variable (nm : Nat → MethodName) (bc : Nat → ByteArray) (mL : Nat → Nat) (rt : Nat → Option FieldType) (hh : Nat → List (Nat × Nat × Nat × Nat)) (T : Tb)
def b_rm (d mc ms : Nat) : Room := { frames := d + 20, cells := mc, slots := ms, locals := 64 * d + 10400 }
/-- the words of a contract -/
def b_ws (y : Nat) : List Cond := if hh y = [] then ws_ (nm y) (bc y) (mL y) (rt y) else wsW_ (nm y) (bc y) (mL y) (rt y) (hh y)
def b_Cx (y d : Nat) (p : Program) (l : Launch) (R : Room) (s : State) (m : MethodId) (args : Array Value) (meth : Method) (c : Code) (D : va_G) (tys : List (ClassId × FieldType)) (z : Nat) (wsE : List Nat) : Prop :=
  p.tables.exec = Jvm.exec ∧ c.code = bc y ∧ s.vm.findClass (nm y).cls = some m.cls ∧ (∀ w ∈ lw_all, w.before args s = true) ∧ c.maxLocals = mL y ∧ meth.sig.returnType = rt y ∧ meth.locks = false ∧ meth.name = (nm y).name ∧ l.flags = flags0 ∧ b_Wd D tys z wsE s ∧ d + 21 ≤ R.frames ∧ 64 * d + 10464 ≤ R.locals ∧
  c.exceptionTable.toList = tableOf (hh y)
/-- the contract of a method that the abstract machine runs -/
def b_Pc (D : va_G) (tys : List (ClassId × FieldType)) (z : Nat) (wsE : List Nat) (ws : va_W) (σ : Sg) (mAs : List Value) : Array Value → State → Prop :=
  va_Pc mAs (fun U => b_Wd D tys z wsE U ∧ b_Hr D tys z wsE ws U σ U.heap [])
def b_vo (G : List Nat) (v w : Option Value) : Prop := match v, w with
  | none, none => True
  | some v, some w => VR G v w
  | _, _ => False
def b_Qc (out : Out) (D : va_G) (tys : List (ClassId × FieldType)) (z : Nat) (wsE : List Nat) (ws : va_W) (σ' : Sg) : Array Value → State → Outcome → State → Prop := fun _ st oc t =>
  ∃ (v : Option Value) (w : Option Value) (ws' : va_W), out = .inl v ∧ oc = .returned w ∧ b_G wsE ws <+: b_G wsE ws' ∧ b_vo (b_G wsE ws') v w ∧ (∃ locs, b_Hr D tys z wsE ws' st σ' t.heap locs)
/-- a thrown abstract address from here on: some object of the class of that number, of which nothing else is known -/
def b_ex : Nat := 1000000000
def b_xr (G : List Nat) (σ : Sg) (a q : Nat) (r : vw_C) : Prop := (a < b_ex ∧ G[a]? = some q ∧ b_cl[(σ.2.2.2 a).1 - 1]? = some r ∧ 0 < (σ.2.2.2 a).1) ∨ (b_ex ≤ a ∧ b_cl[a - b_ex]? = some r)
def b_XC (out : Out) (D : va_G) (tys : List (ClassId × FieldType)) (z : Nat) (wsE : List Nat) (ws : va_W) (σ' : Sg) : String → Addr → State → State → Prop := fun E q st t =>
  ∃ (a : Nat) (ws' : va_W) (r : vw_C), out = .inr a ∧ b_G wsE ws <+: b_G wsE ws' ∧ b_xr (b_G wsE ws') σ' a q r ∧ r.1 = E ∧ (∃ locs, b_Hr D tys z wsE ws' st σ' t.heap locs)
def b_Ctr (l : Launch) (d y : Nat) : Prop := ∀ (As : List Value) (σ : Sg) (out : Out) (σ' : Sg), b_M T d y As σ = some (out, σ') → (As.map fun v => v.category).sum ≤ mL y →
  ∀ (D : va_G) (tys : List (ClassId × FieldType)) (z : Nat) (wsE : List Nat) (ws : va_W) (mAs : List Value), VRs (b_G wsE ws) As mAs →
  bx_Met l (nm y) (b_ws nm bc mL rt hh y) (b_rm d (σ'.2.1 - σ.2.1) (σ'.2.2.1 - σ.2.2.1)) (b_Pc D tys z wsE ws σ mAs) (b_Qc out D tys z wsE ws σ') (b_XC out D tys z wsE ws σ') (σ'.2.1 - σ.2.1) (σ'.2.2.1 - σ.2.2.1) (b_A z)
def b_cn (r : Nx ⊕ Rs) : Nat := match r with
  | .inl x => x.2.2.2.2.1
  | .inr r => r.2.2.1
def b_sn (r : Nx ⊕ Rs) : Nat := match r with
  | .inl x => x.2.2.2.2.2.1
  | .inr r => r.2.2.2.1
def b_gmo (g : Gm) : Prop := ∀ (y : Nat) (As : List Value) (σ : Sg) (out : Out) (σ' : Sg), g y As σ = some (out, σ') → σ.2.1 ≤ σ'.2.1 ∧ σ.2.2.1 ≤ σ'.2.2.1
/-- the counts do not fall -/
def b_MO (f : Fn) : Prop := ∀ g, b_gmo g → ∀ (L : Lc) (st : List Value) (σ : Sg) (r : Nx ⊕ Rs), f g L st σ = some r → σ.2.1 ≤ b_cn r ∧ σ.2.2.1 ≤ b_sn r
def b_retI (ty : Option FieldType) (i : Instr) : Prop := match ty with
  | none => i = .return_
  | some .long => i = .lreturn
  | some .int => i = .ireturn
  | some .boolean => i = .ireturn
  | some .byte => i = .ireturn
  | some .char => i = .ireturn
  | some (.object _) => i = .areturn
  | some (.array _) => i = .areturn
  | _ => False
/-- behind an instruction: its answer's continuation -/
def b_Kn (y : Nat) (p : Program) (l : Launch) (e : Env) (R : Room) (s : State) (m : MethodId) (args : Array Value) (below : List Frame) (meth : Method) (c : Code) (D : va_G) (tys : List (ClassId × FieldType)) (z : Nat) (wsE : List Nat) (ws : va_W) (Q : State → Prop) (c0 s0 : Nat) (r : Nx ⊕ Rs) : Prop := match r with
  | .inl (pc', L', st', σ') => ∀ (ws' : va_W) (H' : Heap) (locs' : List Loc) (ls' : Array Slot) (mst' : List Value) (cells' slots' : Nat), b_G wsE ws <+: b_G wsE ws' → b_Hr D tys z wsE ws' s σ' H' locs' → b_Lr (b_G wsE ws') L' ls' (mL y) → VRs (b_G wsE ws') st' mst' → cells' + c0 = σ'.2.1 → slots' + s0 = σ'.2.2.1 → W p l e R s m args below meth c H' locs' cells' slots' Q (F0 m pc' ls' mst')
  | .inr (.inl v, σ') => ∀ (pc : Nat) (i : Instr) (ws' : va_W) (H' : Heap) (locs' : List Loc) (ls' : Array Slot) (w : Option Value) (cells' slots' : Nat), decode (bc y) pc = .ok (i, 1) → b_retI (rt y) i → b_G wsE ws <+: b_G wsE ws' → b_Hr D tys z wsE ws' s σ' H' locs' → b_vo (b_G wsE ws') v w → (∀ ty, rt y = some ty → ∃ w', w = some w' ∧ narrow ty w' = w' ∧ fits ty w' = true) → (rt y = none → w = none) → cells' + c0 = σ'.2.1 → slots' + s0 = σ'.2.2.1 → W p l e R s m args below meth c H' locs' cells' slots' Q (F0 m pc ls' w.toList)
  | .inr (.inr a, σ') => ∀ (pc : Nat) (ws' : va_W) (H' : Heap) (locs' : List Loc) (ls' : Array Slot) (rest : List Value) (cells' slots' : Nat) (q : Nat) (r : vw_C) (ce : Cell), b_G wsE ws <+: b_G wsE ws' → b_Hr D tys z wsE ws' s σ' H' locs' → b_xr (b_G wsE ws') σ' a q r → H'[q]? = some ce → ce.vm = .none → s.vm.findClass r.1 = some ce.cls → (∃ own : String, s.vm.findClass own = some m.cls ∧ ∀ x ∈ c.exceptionTable.toList, covers x pc = false ∨ (x.catchType ≠ 0 ∧ ∃ n' : String, (Cond.classLink own x.catchType n').before args s = true ∧ va_Nc r.1 n' s)) → cells' + c0 = σ'.2.1 → slots' + s0 = σ'.2.2.1 → vx_W p l e R s m args below meth c H' locs' cells' slots' Q (F0 m pc ls' rest) q
/-- the law of an instruction (or of a run of some) at pc -/
def b_OK (y pc : Nat) (f : Fn) : Prop := b_MO f ∧ ∀ (d : Nat) (p : Program) (l : Launch) (e : Env) (R : Room) (s : State) (m : MethodId) (args : Array Value) (below : List Frame) (meth : Method) (c : Code) (D : va_G) (tys : List (ClassId × FieldType)) (z : Nat) (wsE : List Nat),
  (b_gmo (b_M T d) ∧ ∀ y, b_Ctr nm bc mL rt hh T l d y) → b_Cx nm bc mL rt hh y d p l R s m args meth c D tys z wsE →
  ∀ (Q : State → Prop) (c0 s0 : Nat) (L : Lc) (st : List Value) (σ : Sg) (ws : va_W) (H : Heap) (locs : List Loc) (ls : Array Slot) (mst : List Value) (cells slots : Nat),
  b_Hr D tys z wsE ws s σ H locs → b_Lr (b_G wsE ws) L ls (mL y) → VRs (b_G wsE ws) st mst → cells + c0 = σ.2.1 → slots + s0 = σ.2.2.1 →
  ∀ r, f (b_M T d) L st σ = some r → b_cn r ≤ R.cells + c0 → b_sn r ≤ R.slots + s0 → b_Kn bc mL rt y p l e R s m args below meth c D tys z wsE ws Q c0 s0 r → W p l e R s m args below meth c H locs cells slots Q (F0 m pc ls mst)
end B_CX
