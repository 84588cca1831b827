/-! ===== instructions: constants, locals, stack, arithmetic, branches ===== -/
section B_OPA
variable {nm : Nat → MethodName} {bc : Nat → ByteArray} {mL : Nat → Nat} {rt : Nat → Option FieldType} {hh : Nat → List (Nat × Nat × Nat × Nat)} {T : Tb} {y pc nx d : Nat} {L : Lc} {st : List Value} {σ : Sg}
/-- one step of the machine, any frame below -/
def b_Rw (cc : ByteArray) (pc pc' : Nat) (mst mst' : List Value) : Prop := ∀ (p : Program) (l : Launch) (e : Env) (R : Room) (s : State) (m : MethodId) (args : Array Value) (below : List Frame) (meth : Method) (c : Code) (H : Heap) (locs : List Loc) (cells slots : Nat) (Q : State → Prop) (ls : Array Slot), p.tables.exec = Jvm.exec → c.code = cc → W p l e R s m args below meth c H locs cells slots Q (F0 m pc' ls mst') → W p l e R s m args below meth c H locs cells slots Q (F0 m pc ls mst)
theorem ok_stk {f : Fn} (h : ∀ g L st σ r, f g L st σ = some r → ∃ pc' st', r = .inl (pc', L, st', σ) ∧ ∀ G mst, VRs G st mst → ∃ mst', VRs G st' mst' ∧ b_Rw (bc y) pc pc' mst mst') : b_OK nm bc mL rt hh T y pc f := by
  refine ⟨fun g _ L st σ r hr => ?_, ?_⟩
  · obtain ⟨pc', st', rfl, -⟩ := h g L st σ r hr
    exact ⟨Nat.le_refl _, Nat.le_refl _⟩
  · intro d p l e R s m args below meth c D tys z wsE ih hc Q c0 s0 L st σ ws H locs ls mst cells slots hH hL hV hcl hsl r hr hcb hsb hK
    obtain ⟨pc', st', rfl, h2⟩ := h _ L st σ r hr
    obtain ⟨mst', h3, h4⟩ := h2 _ _ hV
    exact h4 p l e R s m args below meth c H locs cells slots Q ls hc.1 hc.2.1 (hK ws H locs ls mst' cells slots (List.prefix_refl _) hH hL h3 hcl hsl)
def i_const (v : Value) (nx : Nat) : Fn := fun _ L st σ => some (.inl (nx, L, v :: st, σ))
theorem ok_const {v : Value} (hv : ∀ G, VR G v v) (h : ∀ mst, b_Rw (bc y) pc nx mst (v :: mst)) : b_OK nm bc mL rt hh T y pc (i_const v nx) :=
  ok_stk fun g L st σ r hr => by cases hr; exact ⟨_, _, rfl, fun G mst hV => ⟨_, VRs_mk (hv G) hV, h mst⟩⟩
theorem ok_iconst {n : Int} (hd : decode (bc y) pc = .ok (.iconst n, 1)) : b_OK nm bc mL rt hh T y pc (i_const (vI n) (pc + 1)) := ok_const (fun _ => rfl) fun mst p l e R s m args below meth c H locs cells slots Q ls hx hb k => lv_iconst hx hb hd rfl k
theorem ok_bipush {n : Int} (hd : decode (bc y) pc = .ok (.bipush n, 2)) (hn : (Int8.ofInt n).toInt32 = Int32.ofInt n) : b_OK nm bc mL rt hh T y pc (i_const (vI n) (pc + 2)) := ok_const (fun _ => rfl) fun mst p l e R s m args below meth c H locs cells slots Q ls hx hb k => lv_bipush hx hb hd hn k
theorem ok_sipush {n : Int} (hd : decode (bc y) pc = .ok (.sipush n, 3)) (hn : (Int16.ofInt n).toInt32 = Int32.ofInt n) : b_OK nm bc mL rt hh T y pc (i_const (vI n) (pc + 3)) := ok_const (fun _ => rfl) fun mst p l e R s m args below meth c H locs cells slots Q ls hx hb k => lv_sipush hx hb hd hn k
theorem ok_lconst {n : Fin 2} {k : Int} (hd : decode (bc y) pc = .ok (.lconst n, 1)) (hn : Int64.ofNat n = Int64.ofInt k) : b_OK nm bc mL rt hh T y pc (i_const (vL k) (pc + 1)) := ok_const (fun _ => rfl) fun mst p l e R s m args below meth c H locs cells slots Q ls hx hb k => lv_lconst hx hb hd hn k
theorem ok_null (hd : decode (bc y) pc = .ok (.aconst_null, 1)) : b_OK nm bc mL rt hh T y pc (i_const .null (pc + 1)) := ok_const (fun _ => rfl) fun mst p l e R s m args below meth c H locs cells slots Q ls hx hb k => lv_null hx hb hd k
theorem ev_const {v : Value} (h : b_lk (T y) pc = some (i_const v nx)) : b_F T d y pc L st σ = b_F T d y nx L (v :: st) σ := b_F_at h
/-! binary and unary operations -/
def i_bin (f : Int32 → Int32 → Int32) (nx : Nat) : Fn := fun _ L st σ => match st with
  | .int b :: .int a :: st => some (.inl (nx, L, .int (f a b) :: st, σ))
  | _ => none
theorem ok_bin {f : Int32 → Int32 → Int32} (h : ∀ a b mst, b_Rw (bc y) pc nx (.int b :: .int a :: mst) (.int (f a b) :: mst)) : b_OK nm bc mL rt hh T y pc (i_bin f nx) :=
  ok_stk fun g L st σ r hr => by
    unfold i_bin at hr
    split at hr
    · cases hr
      refine ⟨_, _, rfl, fun G mst hV => ?_⟩
      obtain ⟨_, m1, rfl, h1, hV1⟩ := VRs_cons hV
      obtain ⟨_, m2, rfl, h2, hV2⟩ := VRs_cons hV1
      cases h1
      cases h2
      exact ⟨_, VRs_mk rfl hV2, h _ _ _⟩
    · cases hr
theorem ok_iadd (hd : decode (bc y) pc = .ok (.iadd, 1)) : b_OK nm bc mL rt hh T y pc (i_bin (fun a b => a + b) (pc + 1)) := ok_bin fun a b mst p l e R s m args below meth c H locs cells slots Q ls hx hb k => lv_iadd hx hb hd k
theorem ok_isub (hd : decode (bc y) pc = .ok (.isub, 1)) : b_OK nm bc mL rt hh T y pc (i_bin (fun a b => a - b) (pc + 1)) := ok_bin fun a b mst p l e R s m args below meth c H locs cells slots Q ls hx hb k => lv_isub hx hb hd k
theorem ok_imul (hd : decode (bc y) pc = .ok (.imul, 1)) : b_OK nm bc mL rt hh T y pc (i_bin (fun a b => a * b) (pc + 1)) := ok_bin fun a b mst p l e R s m args below meth c H locs cells slots Q ls hx hb k => lv_imul hx hb hd k
theorem ok_iand (hd : decode (bc y) pc = .ok (.iand, 1)) : b_OK nm bc mL rt hh T y pc (i_bin (fun a b => a &&& b) (pc + 1)) := ok_bin fun a b mst p l e R s m args below meth c H locs cells slots Q ls hx hb k => lv_iand hx hb hd k
theorem ok_ior (hd : decode (bc y) pc = .ok (.ior, 1)) : b_OK nm bc mL rt hh T y pc (i_bin (fun a b => a ||| b) (pc + 1)) := ok_bin fun a b mst p l e R s m args below meth c H locs cells slots Q ls hx hb k => lv_ior hx hb hd k
theorem ok_ixor (hd : decode (bc y) pc = .ok (.ixor, 1)) : b_OK nm bc mL rt hh T y pc (i_bin (fun a b => a ^^^ b) (pc + 1)) := ok_bin fun a b mst p l e R s m args below meth c H locs cells slots Q ls hx hb k => lv_ixor hx hb hd k
theorem ok_ishl (hd : decode (bc y) pc = .ok (.ishl, 1)) : b_OK nm bc mL rt hh T y pc (i_bin (fun a b => a <<< (b &&& 31)) (pc + 1)) := ok_bin fun a b mst p l e R s m args below meth c H locs cells slots Q ls hx hb k => lv_ishl hx hb hd k
theorem ok_ishr (hd : decode (bc y) pc = .ok (.ishr, 1)) : b_OK nm bc mL rt hh T y pc (i_bin (fun a b => a >>> (b &&& 31)) (pc + 1)) := ok_bin fun a b mst p l e R s m args below meth c H locs cells slots Q ls hx hb k => lv_ishr hx hb hd k
def andI (a b : Int) : Int := (Int32.ofInt a &&& Int32.ofInt b).toInt
def orI (a b : Int) : Int := (Int32.ofInt a ||| Int32.ofInt b).toInt
def xorI (a b : Int) : Int := (Int32.ofInt a ^^^ Int32.ofInt b).toInt
def shlI (a b : Int) : Int := (Int32.ofInt a <<< (Int32.ofInt b &&& 31)).toInt
def shrI (a b : Int) : Int := (Int32.ofInt a >>> (Int32.ofInt b &&& 31)).toInt
theorem vI_of (x : Int32) : Value.int x = vI x.toInt := by unfold vI; rw [Int32.ofInt_toInt]
theorem vL_of (x : Int64) : Value.long x = vL x.toInt := by unfold vL; rw [Int64.ofInt_toInt]
theorem ev_iadd {a b : Int} (h : b_lk (T y) pc = some (i_bin (fun a b => a + b) nx)) : b_F T d y pc L (vI b :: vI a :: st) σ = b_F T d y nx L (vI (a + b) :: st) σ := by
  rw [show vI (a + b) = .int (Int32.ofInt a + Int32.ofInt b) by unfold vI; rw [Int32.ofInt_add]]
  exact b_F_at h
theorem ev_isub {a b : Int} (h : b_lk (T y) pc = some (i_bin (fun a b => a - b) nx)) : b_F T d y pc L (vI b :: vI a :: st) σ = b_F T d y nx L (vI (a - b) :: st) σ := by
  rw [show vI (a - b) = .int (Int32.ofInt a - Int32.ofInt b) by unfold vI; rw [Int32.ofInt_sub]]
  exact b_F_at h
theorem ev_imul {a b : Int} (h : b_lk (T y) pc = some (i_bin (fun a b => a * b) nx)) : b_F T d y pc L (vI b :: vI a :: st) σ = b_F T d y nx L (vI (a * b) :: st) σ := by
  rw [show vI (a * b) = .int (Int32.ofInt a * Int32.ofInt b) by unfold vI; rw [Int32.ofInt_mul]]
  exact b_F_at h
theorem ev_iand {a b : Int} (h : b_lk (T y) pc = some (i_bin (fun a b => a &&& b) nx)) : b_F T d y pc L (vI b :: vI a :: st) σ = b_F T d y nx L (vI (andI a b) :: st) σ := by
  rw [show vI (andI a b) = .int (Int32.ofInt a &&& Int32.ofInt b) from (vI_of _).symm]
  exact b_F_at h
theorem ev_ior {a b : Int} (h : b_lk (T y) pc = some (i_bin (fun a b => a ||| b) nx)) : b_F T d y pc L (vI b :: vI a :: st) σ = b_F T d y nx L (vI (orI a b) :: st) σ := by
  rw [show vI (orI a b) = .int (Int32.ofInt a ||| Int32.ofInt b) from (vI_of _).symm]
  exact b_F_at h
theorem ev_ixor {a b : Int} (h : b_lk (T y) pc = some (i_bin (fun a b => a ^^^ b) nx)) : b_F T d y pc L (vI b :: vI a :: st) σ = b_F T d y nx L (vI (xorI a b) :: st) σ := by
  rw [show vI (xorI a b) = .int (Int32.ofInt a ^^^ Int32.ofInt b) from (vI_of _).symm]
  exact b_F_at h
theorem ev_ishl {a b : Int} (h : b_lk (T y) pc = some (i_bin (fun a b => a <<< (b &&& 31)) nx)) : b_F T d y pc L (vI b :: vI a :: st) σ = b_F T d y nx L (vI (shlI a b) :: st) σ := by
  rw [show vI (shlI a b) = .int (Int32.ofInt a <<< (Int32.ofInt b &&& 31)) from (vI_of _).symm]
  exact b_F_at h
theorem ev_ishr {a b : Int} (h : b_lk (T y) pc = some (i_bin (fun a b => a >>> (b &&& 31)) nx)) : b_F T d y pc L (vI b :: vI a :: st) σ = b_F T d y nx L (vI (shrI a b) :: st) σ := by
  rw [show vI (shrI a b) = .int (Int32.ofInt a >>> (Int32.ofInt b &&& 31)) from (vI_of _).symm]
  exact b_F_at h
/-- division: not by nought -/
def i_div (f : Int32 → Int32 → Int32) (nx : Nat) : Fn := fun _ L st σ => match st with
  | .int b :: .int a :: st => if b = 0 then none else some (.inl (nx, L, .int (f a b) :: st, σ))
  | _ => none
theorem ok_div {f : Int32 → Int32 → Int32} (h : ∀ a b mst, ¬ b = 0 → b_Rw (bc y) pc nx (.int b :: .int a :: mst) (.int (f a b) :: mst)) : b_OK nm bc mL rt hh T y pc (i_div f nx) :=
  ok_stk fun g L st σ r hr => by
    unfold i_div at hr
    split at hr
    · split at hr
      · cases hr
      · next hb =>
        cases hr
        refine ⟨_, _, rfl, fun G mst hV => ?_⟩
        obtain ⟨_, m1, rfl, h1, hV1⟩ := VRs_cons hV
        obtain ⟨_, m2, rfl, h2, hV2⟩ := VRs_cons hV1
        cases h1
        cases h2
        exact ⟨_, VRs_mk rfl hV2, h _ _ _ hb⟩
    · cases hr
theorem ok_idiv (hd : decode (bc y) pc = .ok (.idiv, 1)) : b_OK nm bc mL rt hh T y pc (i_div (fun a b => a / b) (pc + 1)) := ok_div fun a b mst hne p l e R s m args below meth c H locs cells slots Q ls hx hb k => lv_idiv hx hb hd hne k
theorem ok_irem (hd : decode (bc y) pc = .ok (.irem, 1)) : b_OK nm bc mL rt hh T y pc (i_div (fun a b => a - a / b * b) (pc + 1)) := ok_div fun a b mst hne p l e R s m args below meth c H locs cells slots Q ls hx hb k => lv_irem hx hb hd hne k
theorem w32_ne {b : Int} (hb : w32 b ≠ 0) : ¬ Int32.ofInt b = 0 := fun h => hb (by unfold w32; rw [h]; rfl)
theorem vI_div {a b : Int} : vI ((w32 a).tdiv (w32 b)) = .int (Int32.ofInt a / Int32.ofInt b) := by
  unfold vI w32
  congr 1
  apply Int32.toInt_inj.mp
  rw [Int32.toInt_div, Int32.toInt_ofInt]
theorem ev_idiv {a b : Int} (h : b_lk (T y) pc = some (i_div (fun a b => a / b) nx)) (hb : w32 b ≠ 0) : b_F T d y pc L (vI b :: vI a :: st) σ = b_F T d y nx L (vI ((w32 a).tdiv (w32 b)) :: st) σ := by
  rw [vI_div, b_F_at h]
  unfold i_div vI
  dsimp only
  rw [if_neg (w32_ne hb)]
  rfl
theorem ev_irem {a b : Int} (h : b_lk (T y) pc = some (i_div (fun a b => a - a / b * b) nx)) (hb : w32 b ≠ 0) : b_F T d y pc L (vI b :: vI a :: st) σ = b_F T d y nx L (vI ((w32 a).tmod (w32 b)) :: st) σ := by
  have e : vI ((w32 a).tmod (w32 b)) = .int (Int32.ofInt a - Int32.ofInt a / Int32.ofInt b * Int32.ofInt b) := by
    rw [Int.tmod_def]
    have e1 := vI_div (a := a) (b := b)
    unfold vI at e1 ⊢
    rw [Int32.ofInt_sub, Int32.ofInt_mul]
    rw [Value.int.inj e1]
    unfold w32
    rw [Int32.ofInt_toInt, Int32.ofInt_toInt, Int32.mul_comm]
  rw [e, b_F_at h]
  unfold i_div vI
  dsimp only
  rw [if_neg (w32_ne hb)]
  rfl
def i_un (f : Int32 → Int32) (nx : Nat) : Fn := fun _ L st σ => match st with
  | .int a :: st => some (.inl (nx, L, .int (f a) :: st, σ))
  | _ => none
theorem ok_un {f : Int32 → Int32} (h : ∀ a mst, b_Rw (bc y) pc nx (.int a :: mst) (.int (f a) :: mst)) : b_OK nm bc mL rt hh T y pc (i_un f nx) :=
  ok_stk fun g L st σ r hr => by
    unfold i_un at hr
    split at hr
    · cases hr
      refine ⟨_, _, rfl, fun G mst hV => ?_⟩
      obtain ⟨_, m1, rfl, h1, hV1⟩ := VRs_cons hV
      cases h1
      exact ⟨_, VRs_mk rfl hV1, h _ _⟩
    · cases hr
theorem ok_ineg (hd : decode (bc y) pc = .ok (.ineg, 1)) : b_OK nm bc mL rt hh T y pc (i_un (fun a => -a) (pc + 1)) := ok_un fun a mst p l e R s m args below meth c H locs cells slots Q ls hx hb k => lv_ineg hx hb hd k
theorem ok_i2b (hd : decode (bc y) pc = .ok (.i2b, 1)) : b_OK nm bc mL rt hh T y pc (i_un (fun a => a.toInt8.toInt32) (pc + 1)) := ok_un fun a mst p l e R s m args below meth c H locs cells slots Q ls hx hb k => lv_i2b hx hb hd rfl k
theorem ok_i2s (hd : decode (bc y) pc = .ok (.i2s, 1)) : b_OK nm bc mL rt hh T y pc (i_un (fun a => a.toInt16.toInt32) (pc + 1)) := ok_un fun a mst p l e R s m args below meth c H locs cells slots Q ls hx hb k => lv_i2s hx hb hd rfl k
theorem ok_i2c (hd : decode (bc y) pc = .ok (.i2c, 1)) : b_OK nm bc mL rt hh T y pc (i_un (fun a => (a.toUInt32 % 65536).toInt32) (pc + 1)) := ok_un fun a mst p l e R s m args below meth c H locs cells slots Q ls hx hb k => lv_i2c hx hb hd rfl k
def sx8 (a : Int) : Int := (Int32.ofInt a).toInt8.toInt32.toInt
def sx16 (a : Int) : Int := (Int32.ofInt a).toInt16.toInt32.toInt
def zx16 (a : Int) : Int := ((Int32.ofInt a).toUInt32 % 65536).toInt32.toInt
theorem ev_ineg {a : Int} (h : b_lk (T y) pc = some (i_un (fun a => -a) nx)) : b_F T d y pc L (vI a :: st) σ = b_F T d y nx L (vI (-a) :: st) σ := by
  rw [show vI (-a) = .int (-Int32.ofInt a) by unfold vI; rw [Int32.ofInt_neg]]
  exact b_F_at h
theorem ev_i2b {a : Int} (h : b_lk (T y) pc = some (i_un (fun a => a.toInt8.toInt32) nx)) : b_F T d y pc L (vI a :: st) σ = b_F T d y nx L (vI (sx8 a) :: st) σ := by
  rw [show vI (sx8 a) = .int (Int32.ofInt a).toInt8.toInt32 from (vI_of _).symm]
  exact b_F_at h
theorem ev_i2s {a : Int} (h : b_lk (T y) pc = some (i_un (fun a => a.toInt16.toInt32) nx)) : b_F T d y pc L (vI a :: st) σ = b_F T d y nx L (vI (sx16 a) :: st) σ := by
  rw [show vI (sx16 a) = .int (Int32.ofInt a).toInt16.toInt32 from (vI_of _).symm]
  exact b_F_at h
theorem ev_i2c {a : Int} (h : b_lk (T y) pc = some (i_un (fun a => (a.toUInt32 % 65536).toInt32) nx)) : b_F T d y pc L (vI a :: st) σ = b_F T d y nx L (vI (zx16 a) :: st) σ := by
  rw [show vI (zx16 a) = .int ((Int32.ofInt a).toUInt32 % 65536).toInt32 from (vI_of _).symm]
  exact b_F_at h
end B_OPA
