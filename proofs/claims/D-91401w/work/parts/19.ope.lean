/-! ===== instructions: constants of the tables, answers, switches, casts, new cells, reference stores ===== -/
set_option maxRecDepth 100000
section B_OPE
variable {nm : Nat → MethodName} {bc : Nat → ByteArray} {mL : Nat → Nat} {rt : Nat → Option FieldType} {hh : Nat → List (Nat × Nat × Nat × Nat)} {T : Tb} {y pc nx tgt d : Nat} {L : Lc} {st : List Value} {σ : Sg}
/-- a value that the tables tell is pushed -/
theorem ok_push {v : Value} (h : ∀ (d : Nat) (p : Program) (l : Launch) (e : Env) (R : Room) (s : State) (m : MethodId) (args : Array Value) (below : List Frame) (meth : Method) (c : Code) (D : va_G) (tys : List (ClassId × FieldType)) (z : Nat) (wsE : List Nat) (σ : Sg),
    b_Cx nm bc mL rt hh y d p l R s m args meth c D tys z wsE → ∀ (Q : State → Prop) (ws : va_W) (H : Heap) (locs : List Loc) (ls : Array Slot) (rest : List Value) (cells slots : Nat), b_Hr D tys z wsE ws s σ H locs →
    (∀ w, VR (b_G wsE ws) v w → W p l e R s m args below meth c H locs cells slots Q (F0 m nx ls (w :: rest))) → W p l e R s m args below meth c H locs cells slots Q (F0 m pc ls rest)) : b_OK nm bc mL rt hh T y pc (i_const v nx) :=
  ok_read fun g L st σ r hr => by
    cases hr
    exact ⟨_, _, rfl, fun d p l e R s m args below meth c D tys z wsE hc Q ws H locs ls mst cells slots hH hV kk => h d p l e R s m args below meth c D tys z wsE σ hc Q ws H locs ls mst cells slots hH fun w hw => kk _ (VRs_mk hw hV)⟩
theorem ok_ldc2 {own : String} {idx : Nat} {k : Int} (hd : decode (bc y) pc = .ok (.ldc2_w idx, 3)) (hown : own = (nm y).cls) (hq : Cond.constantLong own idx (Int64.ofInt k) ∈ lw_all) : b_OK nm bc mL rt hh T y pc (i_const (vL k) (pc + 3)) :=
  ok_push fun d p l e R s m args below meth c D tys z wsE σ hc Q ws H locs ls rest cells slots hH kk => by
    subst hown
    exact lv_ldc2 hc.1 hc.2.1 hc.2.2.1 (hc.2.2.2.1 _ hq) hd (kk _ rfl)
theorem ok_ldcI {own : String} {idx : Nat} {k : Int} (hd : decode (bc y) pc = .ok (.ldc idx, 2)) (hown : own = (nm y).cls) (hq : Cond.constant own idx (Int32.ofInt k) ∈ lw_all) : b_OK nm bc mL rt hh T y pc (i_const (vI k) (pc + 2)) :=
  ok_push fun d p l e R s m args below meth c D tys z wsE σ hc Q ws H locs ls rest cells slots hH kk => by
    subst hown
    exact lv_ldc hc.1 hc.2.1 hc.2.2.1 (hc.2.2.2.1 _ hq) hd (kk _ rfl)
theorem b_G_ext {wsE : List Nat} {ws : va_W} {k q : Nat} (h : wsE[k]? = some q) : (b_G wsE ws)[k]? = some q := by
  unfold b_G
  rw [List.getElem?_append_left (List.getElem?_eq_some_iff.mp h).1]
  exact h
theorem ok_ldcS {own tx : String} {idx k : Nat} (hd : decode (bc y) pc = .ok (.ldc idx, 2)) (hown : own = (nm y).cls) (hq : (own, idx, tx, k) ∈ b_strs) : b_OK nm bc mL rt hh T y pc (i_const (.ref k) (pc + 2)) :=
  ok_push fun d p l e R s m args below meth c D tys z wsE σ hc Q ws H locs ls rest cells slots hH kk => by
    subst hown
    obtain ⟨q, h1, h2⟩ := hc.2.2.2.2.2.2.2.2.2.1.2.2.2.2.2.1.2.2.2 _ hq
    exact va_ldcS hc.1 hc.2.1 hc.2.2.1 h2 hd (kk _ ⟨q, b_G_ext h1, rfl⟩)
theorem ok_ldcSW {own tx : String} {idx k : Nat} (hd : decode (bc y) pc = .ok (.ldc_w idx, 3)) (hown : own = (nm y).cls) (hq : (own, idx, tx, k) ∈ b_strs) : b_OK nm bc mL rt hh T y pc (i_const (.ref k) (pc + 3)) :=
  ok_push fun d p l e R s m args below meth c D tys z wsE σ hc Q ws H locs ls rest cells slots hH kk => by
    subst hown
    obtain ⟨q, h1, h2⟩ := hc.2.2.2.2.2.2.2.2.2.1.2.2.2.2.2.1.2.2.2 _ hq
    have k2 := kk _ ⟨q, b_G_ext h1, rfl⟩
    have hx := hc.1
    have hb := hc.2.1
    have hown := hc.2.2.1
    intro T hT X
    obtain ⟨t, a1, b1⟩ := k2 T hT X
    exact ⟨t, X.ldcStringW hx hown (text := tx) (a := q) h2.1 h2.2 (g := F0 m pc ls rest) rfl (by rw [hb]; exact hd) t a1, b1⟩
/-- a static of the start -/
theorem ok_gets {own C n ds ref : String} {idx : Nat} {v : Value} (hd : decode (bc y) pc = .ok (.getstatic idx, 3)) (hown : own = (nm y).cls) (hl : Cond.fieldLink own idx ref n ds ∈ lw_all) (href : ref = C) (hZ : ∀ (D : va_G) (tys : List (ClassId × FieldType)) (z : Nat) (wsE : List Nat) (ws : va_W) (s : State), b_Wd D tys z wsE s → ∃ w, va_Z C n ds w (b_A z) s s.heap ∧ VR (b_G wsE ws) v w) : b_OK nm bc mL rt hh T y pc (i_const v (pc + 3)) :=
  ok_push fun d p l e R s m args below meth c D tys z wsE σ hc Q ws H locs ls rest cells slots hH kk => by
    subst hown
    subst href
    obtain ⟨w, h1, h2⟩ := hZ D tys z wsE ws s hc.2.2.2.2.2.2.2.2.2.1
    exact va_gets hc.1 hc.2.1 h1 hH.2.2.1 hc.2.2.1 (hc.2.2.2.1 _ hl) (fun _ h => h) hd (kk _ h2)
theorem b_zHigh {D : va_G} {tys : List (ClassId × FieldType)} {z : Nat} {wsE : List Nat} {ws : va_W} {s : State} (h : b_Wd D tys z wsE s) : ∃ w, va_Z "java/lang/Integer$IntegerCache" "high" "I" w (b_A z) s s.heap ∧ VR (b_G wsE ws) (vI 127) w := ⟨_, h.2.2.2.2.2.2.1, rfl⟩
theorem b_zComp {D : va_G} {tys : List (ClassId × FieldType)} {z : Nat} {wsE : List Nat} {ws : va_W} {s : State} (h : b_Wd D tys z wsE s) : ∃ w, va_Z "java/lang/String" "COMPACT_STRINGS" "Z" w (b_A z) s s.heap ∧ VR (b_G wsE ws) (vI 1) w := ⟨_, h.2.2.2.2.2.2.2.1, rfl⟩
theorem b_zCache {D : va_G} {tys : List (ClassId × FieldType)} {z : Nat} {wsE : List Nat} {ws : va_W} {s : State} (h : b_Wd D tys z wsE s) : ∃ w, va_Z "java/lang/Integer$IntegerCache" "cache" "[Ljava/lang/Integer;" w (b_A z) s s.heap ∧ VR (b_G wsE ws) (.ref 1) w := by
  obtain ⟨b, h1, h2⟩ := h.2.2.2.2.2.2.2.2.1
  exact ⟨_, h2, b, b_G_ext h1, rfl⟩
theorem b_zSio {D : va_G} {tys : List (ClassId × FieldType)} {z : Nat} {wsE : List Nat} {ws : va_W} {s : State} (h : b_Wd D tys z wsE s) : ∃ w, va_Z "jdk/internal/util/Preconditions" "SIOOBE_FORMATTER" "Ljava/util/function/BiFunction;" w (b_A z) s s.heap ∧ VR (b_G wsE ws) (.float 2) w := by
  rcases h.2.2.2.2.2.2.2.2.2.1 with h1 | ⟨t, h1⟩
  · exact ⟨_, h1, (Or.inl rfl : (Value.null = .null ∨ ∃ b, Value.null = .ref b))⟩
  · exact ⟨_, h1, (Or.inr ⟨t, rfl⟩ : (Value.ref t = .null ∨ ∃ b, Value.ref t = .ref b))⟩
/-! answers -/
def i_retI (f : Int32 → Bool) : Fn := fun _ _ st σ => match st with
  | [.int x] => if f x = true then some (.inr (.inl (some (.int x)), σ)) else none
  | _ => none
def i_retL : Fn := fun _ _ st σ => match st with
  | [.long x] => some (.inr (.inl (some (.long x)), σ))
  | _ => none
def i_retV : Fn := fun _ _ st σ => match st with
  | [] => some (.inr (.inl none, σ))
  | _ => none
def i_retA : Fn := fun _ _ st σ => match st with
  | [v] => if b_isA v = true then some (.inr (.inl (some v), σ)) else none
  | _ => none
def b_fz (x : Int32) : Bool := decide (x = 0 ∨ x = 1)
def b_fb (x : Int32) : Bool := decide (fits .byte (.int x) = true ∧ x.toInt8.toInt32 = x)
def b_fc (x : Int32) : Bool := decide (fits .char (.int x) = true ∧ narrow .char (.int x) = .int x)
theorem ok_retI {f : Int32 → Bool} {ty : FieldType} (hd : decode (bc y) pc = .ok (.ireturn, 1)) (hr : rt y = some ty) (hi : b_retI (some ty) .ireturn) (hf : ∀ x, f x = true → narrow ty (.int x) = .int x ∧ fits ty (.int x) = true) : b_OK nm bc mL rt hh T y pc (i_retI f) := by
  refine ⟨fun g _ L st σ r h => ?_, ?_⟩
  · unfold i_retI at h
    split at h
    · split at h
      · cases h; exact ⟨Nat.le_refl _, Nat.le_refl _⟩
      · cases h
    · cases h
  · intro d p l e R s m args below meth c D tys z wsE ih hc Q c0 s0 L st σ ws H locs ls mst cells slots hH hL hV hcl hsl r h hcb hsb hK
    unfold i_retI at h
    split at h
    · split at h
      · next x hx =>
        cases h
        obtain ⟨_, m1, rfl, h1, hV1⟩ := VRs_cons hV
        cases h1
        cases VRs_nil hV1
        obtain ⟨g1, g2⟩ := hf x hx
        exact hK pc .ireturn ws H locs ls (some (.int x)) cells slots hd (by rw [hr]; exact hi) (List.prefix_refl _) hH rfl (fun ty' h' => by rw [hr] at h'; cases h'; exact ⟨_, rfl, g1, g2⟩) (fun h' => by rw [hr] at h'; cases h') hcl hsl
      · cases h
    · cases h
theorem ok_ireturn (hd : decode (bc y) pc = .ok (.ireturn, 1)) (hr : rt y = some .int) : b_OK nm bc mL rt hh T y pc (i_retI fun _ => true) := ok_retI hd hr rfl fun x _ => ⟨rfl, rfl⟩
theorem ok_zreturn (hd : decode (bc y) pc = .ok (.ireturn, 1)) (hr : rt y = some .boolean) : b_OK nm bc mL rt hh T y pc (i_retI b_fz) := ok_retI hd hr rfl fun x hx => by
  rcases (of_decide_eq_true hx : x = 0 ∨ x = 1) with rfl | rfl <;> exact ⟨rfl, rfl⟩
theorem ok_breturn (hd : decode (bc y) pc = .ok (.ireturn, 1)) (hr : rt y = some .byte) : b_OK nm bc mL rt hh T y pc (i_retI b_fb) := ok_retI hd hr rfl fun x hx => by
  have h := (of_decide_eq_true hx : fits .byte (.int x) = true ∧ x.toInt8.toInt32 = x)
  exact ⟨show Value.int _ = _ by rw [h.2], h.1⟩
theorem ok_creturn (hd : decode (bc y) pc = .ok (.ireturn, 1)) (hr : rt y = some .char) : b_OK nm bc mL rt hh T y pc (i_retI b_fc) := ok_retI hd hr rfl fun x hx => by
  have h := (of_decide_eq_true hx : fits .char (.int x) = true ∧ narrow .char (.int x) = .int x)
  exact ⟨h.2, h.1⟩
theorem ok_lreturn (hd : decode (bc y) pc = .ok (.lreturn, 1)) (hr : rt y = some .long) : b_OK nm bc mL rt hh T y pc i_retL := by
  refine ⟨fun g _ L st σ r h => ?_, ?_⟩
  · unfold i_retL at h
    split at h
    · cases h; exact ⟨Nat.le_refl _, Nat.le_refl _⟩
    · cases h
  · intro d p l e R s m args below meth c D tys z wsE ih hc Q c0 s0 L st σ ws H locs ls mst cells slots hH hL hV hcl hsl r h hcb hsb hK
    unfold i_retL at h
    split at h
    · next x =>
      cases h
      obtain ⟨_, m1, rfl, h1, hV1⟩ := VRs_cons hV
      cases h1
      cases VRs_nil hV1
      exact hK pc .lreturn ws H locs ls (some (.long x)) cells slots hd (by rw [hr]; rfl) (List.prefix_refl _) hH rfl (fun ty' h' => by rw [hr] at h'; cases h'; exact ⟨_, rfl, rfl, rfl⟩) (fun h' => by rw [hr] at h'; cases h') hcl hsl
    · cases h
theorem ok_return (hd : decode (bc y) pc = .ok (.return_, 1)) (hr : rt y = none) : b_OK nm bc mL rt hh T y pc i_retV := by
  refine ⟨fun g _ L st σ r h => ?_, ?_⟩
  · unfold i_retV at h
    split at h
    · cases h; exact ⟨Nat.le_refl _, Nat.le_refl _⟩
    · cases h
  · intro d p l e R s m args below meth c D tys z wsE ih hc Q c0 s0 L st σ ws H locs ls mst cells slots hH hL hV hcl hsl r h hcb hsb hK
    unfold i_retV at h
    split at h
    · cases h
      cases VRs_nil hV
      exact hK pc .return_ ws H locs ls none cells slots hd (by rw [hr]; rfl) (List.prefix_refl _) hH trivial (fun ty' h' => by rw [hr] at h'; cases h') (fun _ => rfl) hcl hsl
    · cases h
theorem ok_areturn {ty : FieldType} (hd : decode (bc y) pc = .ok (.areturn, 1)) (hr : rt y = some ty) (hty : b_prim ty = false) : b_OK nm bc mL rt hh T y pc i_retA := by
  refine ⟨fun g _ L st σ r h => ?_, ?_⟩
  · unfold i_retA at h
    split at h
    · split at h
      · cases h; exact ⟨Nat.le_refl _, Nat.le_refl _⟩
      · cases h
    · cases h
  · intro d p l e R s m args below meth c D tys z wsE ih hc Q c0 s0 L st σ ws H locs ls mst cells slots hH hL hV hcl hsl r h hcb hsb hK
    unfold i_retA at h
    split at h
    · split at h
      · next v hv =>
        cases h
        obtain ⟨w, m1, rfl, h1, hV1⟩ := VRs_cons hV
        cases VRs_nil hV1
        obtain ⟨q1, q2⟩ := b_isA_fits hv h1 hty
        exact hK pc .areturn ws H locs ls (some w) cells slots hd (by rw [hr]; cases ty <;> first | rfl | exact absurd hty (by decide)) (List.prefix_refl _) hH h1 (fun ty' h' => by rw [hr] at h'; cases h'; exact ⟨_, rfl, q2, q1.1⟩) (fun h' => by rw [hr] at h'; cases h') hcl hsl
      · cases h
    · cases h
theorem ev_ireturn {x : Int} (h : b_lk (T y) pc = some (i_retI fun _ => true)) : b_F T d y pc L [vI x] σ = some (.inl (some (vI x)), σ) := b_F_at h
theorem ev_zreturn {x : Int} (h : b_lk (T y) pc = some (i_retI b_fz)) (hx : w32 x = 0 ∨ w32 x = 1) : b_F T d y pc L [vI x] σ = some (.inl (some (vI x)), σ) := by
  have hx2 : b_fz (Int32.ofInt x) = true := decide_eq_true (hx.imp (fun h => w32_eq0.mpr h) (fun h => (w32_eq (b := 1)).mpr h))
  rw [b_F_at h]; unfold i_retI vI; dsimp only; rw [if_pos hx2]; rfl
theorem ev_lreturn {x : Int} (h : b_lk (T y) pc = some i_retL) : b_F T d y pc L [vL x] σ = some (.inl (some (vL x)), σ) := b_F_at h
theorem ev_return (h : b_lk (T y) pc = some i_retV) : b_F T d y pc L [] σ = some (.inl none, σ) := b_F_at h
theorem ev_areturn {v : Value} (h : b_lk (T y) pc = some i_retA) (hv : b_isA v = true) : b_F T d y pc L [v] σ = some (.inl (some v), σ) := by
  rw [b_F_at h]; unfold i_retA; dsimp only; rw [if_pos hv]; rfl
/-! switches, null -/
def b_swt (x lo : Int) (tgts : List Nat) (dflt : Nat) : Nat := if x < lo then dflt else (tgts[(x - lo).toNat]?).getD dflt
def i_tsw (lo : Int) (tgts : List Nat) (dflt : Nat) : Fn := fun _ L st σ => match st with
  | .int x :: st => some (.inl (b_swt x.toInt lo tgts dflt, L, st, σ))
  | _ => none
theorem ok_tsw {dfl lo hi : Int} {offs : Array Int} {len dflt : Nat} {tgts : List Nat} (hd : decode (bc y) pc = .ok (.tableswitch dfl lo hi offs, len)) (hdf : (pc : Int) + dfl = (dflt : Int)) (hn : (tgts.length : Int) = hi - lo + 1) (ho : offs.toList.map (fun o => (pc : Int) + o) = tgts.map (fun t : Nat => (t : Int))) : b_OK nm bc mL rt hh T y pc (i_tsw lo tgts dflt) :=
  ok_stk fun g L st σ r hr => by
    unfold i_tsw at hr
    split at hr
    · next x st0 =>
      cases hr
      refine ⟨_, _, rfl, fun G mst hV => ?_⟩
      obtain ⟨_, m1, rfl, h1, hV1⟩ := VRs_cons hV
      cases h1
      refine ⟨_, hV1, fun p l e R s m args below meth c H locs cells slots Q ls hx hb k => ?_⟩
      unfold b_swt at k
      by_cases h1 : x.toInt < lo
      · rw [if_pos h1] at k
        exact lv_tableOut hx hb hd (Or.inl h1) hdf k
      · rw [if_neg h1] at k
        by_cases h2 : hi < x.toInt
        · rw [List.getElem?_eq_none (by omega)] at k
          exact lv_tableOut hx hb hd (Or.inr h2) hdf k
        · have hlt : (x.toInt - lo).toNat < tgts.length := by omega
          rw [List.getElem?_eq_getElem hlt] at k
          have hlen : offs.toList.length = tgts.length := by
            have := congrArg List.length ho
            simpa using this
          have e1 : (offs.toList.map (fun o => (pc : Int) + o))[(x.toInt - lo).toNat]? = some (tgts[(x.toInt - lo).toNat] : Int) := by
            rw [ho, List.getElem?_map, List.getElem?_eq_getElem hlt]
            rfl
          rw [List.getElem?_map] at e1
          cases hoo : offs.toList[(x.toInt - lo).toNat]? with
          | none => rw [hoo] at e1; cases e1
          | some o =>
            rw [hoo] at e1
            exact lv_tableIn hx hb hd h1 h2 (by rw [← Array.getElem?_toList]; exact hoo) (Option.some.inj e1) k
    · cases hr
theorem ev_tsw {x lo : Int} {tgts : List Nat} {dflt : Nat} (h : b_lk (T y) pc = some (i_tsw lo tgts dflt)) : b_F T d y pc L (vI x :: st) σ = b_F T d y (b_swt (w32 x) lo tgts dflt) L st σ := b_F_at h
def i_ifn (nl : Bool) (tgt nx : Nat) : Fn := fun _ L st σ => match st with
  | .ref _ :: st => some (.inl (cond nl nx tgt, L, st, σ))
  | .null :: st => some (.inl (cond nl tgt nx, L, st, σ))
  | _ => none
theorem ok_ifnull {off : Int} (hd : decode (bc y) pc = .ok (.ifnull off, 3)) (ht : (pc : Int) + off = (tgt : Int)) : b_OK nm bc mL rt hh T y pc (i_ifn true tgt (pc + 3)) :=
  ok_stk fun g L st σ r hr => by
    unfold i_ifn at hr
    split at hr
    · cases hr
      refine ⟨_, _, rfl, fun G mst hV => ?_⟩
      obtain ⟨_, m1, rfl, h1, hV1⟩ := VRs_cons hV
      obtain ⟨b, -, rfl⟩ := h1
      exact ⟨_, hV1, fun p l e R s m args below meth c H locs cells slots Q ls hx hb k => lv_ifnull hx hb hd k⟩
    · cases hr
      refine ⟨_, _, rfl, fun G mst hV => ?_⟩
      obtain ⟨_, m1, rfl, h1, hV1⟩ := VRs_cons hV
      cases h1
      exact ⟨_, hV1, fun p l e R s m args below meth c H locs cells slots Q ls hx hb k => lv_ifnullN hx hb hd ht k⟩
    · cases hr
theorem ok_ifnonnull {off : Int} (hd : decode (bc y) pc = .ok (.ifnonnull off, 3)) (ht : (pc : Int) + off = (tgt : Int)) : b_OK nm bc mL rt hh T y pc (i_ifn false tgt (pc + 3)) :=
  ok_stk fun g L st σ r hr => by
    unfold i_ifn at hr
    split at hr
    · cases hr
      refine ⟨_, _, rfl, fun G mst hV => ?_⟩
      obtain ⟨_, m1, rfl, h1, hV1⟩ := VRs_cons hV
      obtain ⟨b, -, rfl⟩ := h1
      exact ⟨_, hV1, fun p l e R s m args below meth c H locs cells slots Q ls hx hb k => lv_ifnonnull hx hb hd ht k⟩
    · cases hr
      refine ⟨_, _, rfl, fun G mst hV => ?_⟩
      obtain ⟨_, m1, rfl, h1, hV1⟩ := VRs_cons hV
      cases h1
      exact ⟨_, hV1, fun p l e R s m args below meth c H locs cells slots Q ls hx hb k => lv_ifnonnullN hx hb hd k⟩
    · cases hr
theorem ev_ifnR {a : Nat} {nl : Bool} (h : b_lk (T y) pc = some (i_ifn nl tgt nx)) : b_F T d y pc L (.ref a :: st) σ = b_F T d y (cond nl nx tgt) L st σ := b_F_at h
theorem ev_ifnN {nl : Bool} (h : b_lk (T y) pc = some (i_ifn nl tgt nx)) : b_F T d y pc L (.null :: st) σ = b_F T d y (cond nl tgt nx) L st σ := b_F_at h
end B_OPE
