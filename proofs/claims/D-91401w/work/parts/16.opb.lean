/-! ===== instructions: longs, locals, stack, branches (printed by gen/mkopb.py) ===== -/
section B_OPB
variable {nm : Nat → MethodName} {bc : Nat → ByteArray} {mL : Nat → Nat} {rt : Nat → Option FieldType} {hh : Nat → List (Nat × Nat × Nat × Nat)} {T : Tb} {y pc nx tgt d : Nat} {L : Lc} {st : List Value} {σ : Sg}
def i_lbin (f : Int64 → Int64 → Int64) (nx : Nat) : Fn := fun _ L st σ => match st with
  | .long b :: .long a :: st => some (.inl (nx, L, .long (f a b) :: st, σ))
  | _ => none
theorem ok_lbin {f : Int64 → Int64 → Int64} (h : ∀ a b mst, b_Rw (bc y) pc nx (.long b :: .long a :: mst) (.long (f a b) :: mst)) : b_OK nm bc mL rt hh T y pc (i_lbin f nx) :=
  ok_stk fun g L st σ r hr => by
    unfold i_lbin at hr
    split at hr
    · cases hr
      refine ⟨_, _, rfl, fun G mst hV => ?_⟩
      obtain ⟨_, m1, rfl, h1, hV1⟩ := VRs_cons hV
      obtain ⟨_, m2, rfl, h2, hV2⟩ := VRs_cons hV1
      cases h1
      cases h2
      exact ⟨_, VRs_mk rfl hV2, h _ _ _⟩
    · cases hr
def andL (a b : Int) : Int := (Int64.ofInt a &&& Int64.ofInt b).toInt
def orL (a b : Int) : Int := (Int64.ofInt a ||| Int64.ofInt b).toInt
theorem ok_ladd (hd : decode (bc y) pc = .ok (.ladd, 1)) : b_OK nm bc mL rt hh T y pc (i_lbin (fun a b => a + b) (pc + 1)) := ok_lbin fun a b mst p l e R s m args below meth c H locs cells slots Q ls hx hb k => lv_ladd hx hb hd k
theorem ev_ladd {a b : Int} (h : b_lk (T y) pc = some (i_lbin (fun a b => a + b) nx)) : b_F T d y pc L (vL b :: vL a :: st) σ = b_F T d y nx L (vL (a + b) :: st) σ := by
  rw [show vL (a + b) = .long (Int64.ofInt a + Int64.ofInt b) by unfold vL; rw [Int64.ofInt_add]]
  exact b_F_at h
theorem ok_lsub (hd : decode (bc y) pc = .ok (.lsub, 1)) : b_OK nm bc mL rt hh T y pc (i_lbin (fun a b => a - b) (pc + 1)) := ok_lbin fun a b mst p l e R s m args below meth c H locs cells slots Q ls hx hb k => lv_lsub hx hb hd k
theorem ev_lsub {a b : Int} (h : b_lk (T y) pc = some (i_lbin (fun a b => a - b) nx)) : b_F T d y pc L (vL b :: vL a :: st) σ = b_F T d y nx L (vL (a - b) :: st) σ := by
  rw [show vL (a - b) = .long (Int64.ofInt a - Int64.ofInt b) by unfold vL; rw [Int64.ofInt_sub]]
  exact b_F_at h
theorem ok_lmul (hd : decode (bc y) pc = .ok (.lmul, 1)) : b_OK nm bc mL rt hh T y pc (i_lbin (fun a b => a * b) (pc + 1)) := ok_lbin fun a b mst p l e R s m args below meth c H locs cells slots Q ls hx hb k => lv_lmul hx hb hd k
theorem ev_lmul {a b : Int} (h : b_lk (T y) pc = some (i_lbin (fun a b => a * b) nx)) : b_F T d y pc L (vL b :: vL a :: st) σ = b_F T d y nx L (vL (a * b) :: st) σ := by
  rw [show vL (a * b) = .long (Int64.ofInt a * Int64.ofInt b) by unfold vL; rw [Int64.ofInt_mul]]
  exact b_F_at h
theorem ok_land (hd : decode (bc y) pc = .ok (.land, 1)) : b_OK nm bc mL rt hh T y pc (i_lbin (fun a b => a &&& b) (pc + 1)) := ok_lbin fun a b mst p l e R s m args below meth c H locs cells slots Q ls hx hb k => lv_land hx hb hd k
theorem ev_land {a b : Int} (h : b_lk (T y) pc = some (i_lbin (fun a b => a &&& b) nx)) : b_F T d y pc L (vL b :: vL a :: st) σ = b_F T d y nx L (vL (andL a b) :: st) σ := by
  rw [show vL (andL a b) = .long (Int64.ofInt a &&& Int64.ofInt b) from (vL_of _).symm]
  exact b_F_at h
theorem ok_lor (hd : decode (bc y) pc = .ok (.lor, 1)) : b_OK nm bc mL rt hh T y pc (i_lbin (fun a b => a ||| b) (pc + 1)) := ok_lbin fun a b mst p l e R s m args below meth c H locs cells slots Q ls hx hb k => lv_lor hx hb hd k
theorem ev_lor {a b : Int} (h : b_lk (T y) pc = some (i_lbin (fun a b => a ||| b) nx)) : b_F T d y pc L (vL b :: vL a :: st) σ = b_F T d y nx L (vL (orL a b) :: st) σ := by
  rw [show vL (orL a b) = .long (Int64.ofInt a ||| Int64.ofInt b) from (vL_of _).symm]
  exact b_F_at h
def i_ldiv (nx : Nat) : Fn := fun _ L st σ => match st with
  | .long b :: .long a :: st => if b = 0 then none else some (.inl (nx, L, .long (a / b) :: st, σ))
  | _ => none
theorem ok_ldiv (hd : decode (bc y) pc = .ok (.ldiv, 1)) : b_OK nm bc mL rt hh T y pc (i_ldiv (pc + 1)) :=
  ok_stk fun g L st σ r hr => by
    unfold i_ldiv at hr
    split at hr
    · split at hr
      · cases hr
      · next hne =>
        cases hr
        refine ⟨_, _, rfl, fun G mst hV => ?_⟩
        obtain ⟨_, m1, rfl, h1, hV1⟩ := VRs_cons hV
        obtain ⟨_, m2, rfl, h2, hV2⟩ := VRs_cons hV1
        cases h1
        cases h2
        exact ⟨_, VRs_mk rfl hV2, fun p l e R s m args below meth c H locs cells slots Q ls hx hb k => lv_ldiv hx hb hd hne k⟩
    · cases hr
theorem w64_ne {b : Int} (hb : w64 b ≠ 0) : ¬ Int64.ofInt b = 0 := fun h => hb (by unfold w64; rw [h]; rfl)
theorem ev_ldiv {a b : Int} (h : b_lk (T y) pc = some (i_ldiv nx)) (hb : w64 b ≠ 0) : b_F T d y pc L (vL b :: vL a :: st) σ = b_F T d y nx L (vL ((w64 a).tdiv (w64 b)) :: st) σ := by
  have e : vL ((w64 a).tdiv (w64 b)) = .long (Int64.ofInt a / Int64.ofInt b) := by
    unfold vL w64
    congr 1
    apply Int64.toInt_inj.mp
    rw [Int64.toInt_div, Int64.toInt_ofInt]
  rw [e, b_F_at h]
  unfold i_ldiv vL
  dsimp only
  rw [if_neg (w64_ne hb)]
  rfl
def i_lcmp (nx : Nat) : Fn := fun _ L st σ => match st with
  | .long b :: .long a :: st => some (.inl (nx, L, .int (lg_cmp a b) :: st, σ))
  | _ => none
theorem ok_lcmp (hd : decode (bc y) pc = .ok (.lcmp, 1)) : b_OK nm bc mL rt hh T y pc (i_lcmp (pc + 1)) :=
  ok_stk fun g L st σ r hr => by
    unfold i_lcmp at hr
    split at hr
    · cases hr
      refine ⟨_, _, rfl, fun G mst hV => ?_⟩
      obtain ⟨_, m1, rfl, h1, hV1⟩ := VRs_cons hV
      obtain ⟨_, m2, rfl, h2, hV2⟩ := VRs_cons hV1
      cases h1
      cases h2
      exact ⟨_, VRs_mk rfl hV2, fun p l e R s m args below meth c H locs cells slots Q ls hx hb k => W.lcmp hx hb hd k⟩
    · cases hr
def lcI (a b : Int) : Int := if w64 a < w64 b then -1 else if w64 a = w64 b then 0 else 1
theorem ev_lcmp {a b : Int} (h : b_lk (T y) pc = some (i_lcmp nx)) : b_F T d y pc L (vL b :: vL a :: st) σ = b_F T d y nx L (vI (lcI a b) :: st) σ := by
  have e : vI (lcI a b) = .int (lg_cmp (Int64.ofInt a) (Int64.ofInt b)) := by
    unfold lcI lg_cmp vI w64
    simp only [gt_iff_lt, Int64.lt_iff_toInt_lt, ← Int64.toInt_inj]
    by_cases h1 : (Int64.ofInt a).toInt < (Int64.ofInt b).toInt
    · rw [if_pos h1, if_neg (by omega), if_neg (by omega)]; rfl
    · rw [if_neg h1]
      by_cases h2 : (Int64.ofInt a).toInt = (Int64.ofInt b).toInt
      · rw [if_pos h2, if_neg (by omega), if_pos h2]; rfl
      · rw [if_neg h2, if_pos (by omega)]; rfl
  rw [e]
  exact b_F_at h
def i_lshl (nx : Nat) : Fn := fun _ L st σ => match st with
  | .int b :: .long a :: st => some (.inl (nx, L, .long (a <<< (b.toInt64 &&& 63)) :: st, σ))
  | _ => none
theorem ok_lshl (hd : decode (bc y) pc = .ok (.lshl, 1)) : b_OK nm bc mL rt hh T y pc (i_lshl (pc + 1)) :=
  ok_stk fun g L st σ r hr => by
    unfold i_lshl at hr
    split at hr
    · cases hr
      refine ⟨_, _, rfl, fun G mst hV => ?_⟩
      obtain ⟨_, m1, rfl, h1, hV1⟩ := VRs_cons hV
      obtain ⟨_, m2, rfl, h2, hV2⟩ := VRs_cons hV1
      cases h1
      cases h2
      exact ⟨_, VRs_mk rfl hV2, fun p l e R s m args below meth c H locs cells slots Q ls hx hb k => lv_lshl hx hb hd rfl k⟩
    · cases hr
def shlL (a b : Int) : Int := (Int64.ofInt a <<< ((Int32.ofInt b).toInt64 &&& 63)).toInt
theorem ev_lshl {a b : Int} (h : b_lk (T y) pc = some (i_lshl nx)) : b_F T d y pc L (vI b :: vL a :: st) σ = b_F T d y nx L (vL (shlL a b) :: st) σ := by
  rw [show vL (shlL a b) = .long (Int64.ofInt a <<< ((Int32.ofInt b).toInt64 &&& 63)) from (vL_of _).symm]
  exact b_F_at h
def i_i2l (nx : Nat) : Fn := fun _ L st σ => match st with
  | .int a :: st => some (.inl (nx, L, .long a.toInt64 :: st, σ))
  | _ => none
theorem ok_i2l (hd : decode (bc y) pc = .ok (.i2l, 1)) : b_OK nm bc mL rt hh T y pc (i_i2l (pc + 1)) :=
  ok_stk fun g L st σ r hr => by
    unfold i_i2l at hr
    split at hr
    · cases hr
      refine ⟨_, _, rfl, fun G mst hV => ?_⟩
      obtain ⟨_, m1, rfl, h1, hV1⟩ := VRs_cons hV
      cases h1
      exact ⟨_, VRs_mk rfl hV1, fun p l e R s m args below meth c H locs cells slots Q ls hx hb k => lv_i2l hx hb hd rfl k⟩
    · cases hr
theorem ev_i2l {a : Int} (h : b_lk (T y) pc = some (i_i2l nx)) : b_F T d y pc L (vI a :: st) σ = b_F T d y nx L (vL (w32 a) :: st) σ := by
  have e : vL (w32 a) = .long (Int32.ofInt a).toInt64 := by
    rw [vL_of, Int32.toInt_toInt64]
    rfl
  rw [e]
  exact b_F_at h
def i_l2i (nx : Nat) : Fn := fun _ L st σ => match st with
  | .long a :: st => some (.inl (nx, L, .int a.toInt32 :: st, σ))
  | _ => none
theorem ok_l2i (hd : decode (bc y) pc = .ok (.l2i, 1)) : b_OK nm bc mL rt hh T y pc (i_l2i (pc + 1)) :=
  ok_stk fun g L st σ r hr => by
    unfold i_l2i at hr
    split at hr
    · cases hr
      refine ⟨_, _, rfl, fun G mst hV => ?_⟩
      obtain ⟨_, m1, rfl, h1, hV1⟩ := VRs_cons hV
      cases h1
      exact ⟨_, VRs_mk rfl hV1, fun p l e R s m args below meth c H locs cells slots Q ls hx hb k => lv_l2i hx hb hd rfl k⟩
    · cases hr
theorem ev_l2i {a : Int} (h : b_lk (T y) pc = some (i_l2i nx)) : b_F T d y pc L (vL a :: st) σ = b_F T d y nx L (vI (w64 a) :: st) σ := by
  have e : vI (w64 a) = .int (Int64.ofInt a).toInt32 := by
    unfold vI w64
    congr 1
  rw [e]
  exact b_F_at h
/-! stack -/
def b_c1 (v : Value) : Bool := match v with
  | .long _ => false
  | .double _ => false
  | _ => true
theorem b_c1_cat {G : List Nat} {v w : Value} (h : b_c1 v = true) (hv : VR G v w) : w.category = 1 := by
  rw [VR_cat hv]
  cases v <;> first | rfl | exact absurd h Bool.false_ne_true
def i_pop (nx : Nat) : Fn := fun _ L st σ => match st with
  | v :: st => if b_c1 v = true then some (.inl (nx, L, st, σ)) else none
  | _ => none
def i_dup (nx : Nat) : Fn := fun _ L st σ => match st with
  | v :: st => if b_c1 v = true then some (.inl (nx, L, v :: v :: st, σ)) else none
  | _ => none
def i_dupx1 (nx : Nat) : Fn := fun _ L st σ => match st with
  | v :: w :: st => if b_c1 v = true ∧ b_c1 w = true then some (.inl (nx, L, v :: w :: v :: st, σ)) else none
  | _ => none
def i_dup2 (nx : Nat) : Fn := fun _ L st σ => match st with
  | v :: w :: st => if b_c1 v = true ∧ b_c1 w = true then some (.inl (nx, L, v :: w :: v :: w :: st, σ)) else none
  | _ => none
theorem ok_pop (hd : decode (bc y) pc = .ok (.pop, 1)) : b_OK nm bc mL rt hh T y pc (i_pop (pc + 1)) :=
  ok_stk fun g L st σ r hr => by
    unfold i_pop at hr
    split at hr
    · split at hr
      · next hc =>
        cases hr
        refine ⟨_, _, rfl, fun G mst hV => ?_⟩
        obtain ⟨_, m1, rfl, h1, hV1⟩ := VRs_cons hV
        exact ⟨_, hV1, fun p l e R s m args below meth c H locs cells slots Q ls hx hb k => lv_pop hx hb hd (b_c1_cat hc h1) k⟩
      · cases hr
    · cases hr
theorem ok_dup (hd : decode (bc y) pc = .ok (.dup, 1)) : b_OK nm bc mL rt hh T y pc (i_dup (pc + 1)) :=
  ok_stk fun g L st σ r hr => by
    unfold i_dup at hr
    split at hr
    · split at hr
      · next hc =>
        cases hr
        refine ⟨_, _, rfl, fun G mst hV => ?_⟩
        obtain ⟨_, m1, rfl, h1, hV1⟩ := VRs_cons hV
        exact ⟨_, VRs_mk h1 (VRs_mk h1 hV1), fun p l e R s m args below meth c H locs cells slots Q ls hx hb k => lv_dup hx hb hd (b_c1_cat hc h1) k⟩
      · cases hr
    · cases hr
theorem ok_dupx1 (hd : decode (bc y) pc = .ok (.dup_x1, 1)) : b_OK nm bc mL rt hh T y pc (i_dupx1 (pc + 1)) :=
  ok_stk fun g L st σ r hr => by
    unfold i_dupx1 at hr
    split at hr
    · split at hr
      · next hc =>
        cases hr
        refine ⟨_, _, rfl, fun G mst hV => ?_⟩
        obtain ⟨_, m1, rfl, h1, hV1⟩ := VRs_cons hV
        obtain ⟨_, m2, rfl, h2, hV2⟩ := VRs_cons hV1
        exact ⟨_, VRs_mk h1 (VRs_mk h2 (VRs_mk h1 hV2)), fun p l e R s m args below meth c H locs cells slots Q ls hx hb k => lv_dup_x1 hx hb hd (b_c1_cat hc.1 h1) (b_c1_cat hc.2 h2) k⟩
      · cases hr
    · cases hr
theorem ok_dup2 (hd : decode (bc y) pc = .ok (.dup2, 1)) : b_OK nm bc mL rt hh T y pc (i_dup2 (pc + 1)) :=
  ok_stk fun g L st σ r hr => by
    unfold i_dup2 at hr
    split at hr
    · split at hr
      · next hc =>
        cases hr
        refine ⟨_, _, rfl, fun G mst hV => ?_⟩
        obtain ⟨_, m1, rfl, h1, hV1⟩ := VRs_cons hV
        obtain ⟨_, m2, rfl, h2, hV2⟩ := VRs_cons hV1
        exact ⟨_, VRs_mk h1 (VRs_mk h2 (VRs_mk h1 (VRs_mk h2 hV2))), fun p l e R s m args below meth c H locs cells slots Q ls hx hb k => lv_dup2_11 hx hb hd (b_c1_cat hc.1 h1) (b_c1_cat hc.2 h2) k⟩
      · cases hr
    · cases hr
theorem ev_pop {v : Value} (h : b_lk (T y) pc = some (i_pop nx)) (hv : b_c1 v = true) : b_F T d y pc L (v :: st) σ = b_F T d y nx L st σ := by
  rw [b_F_at h]; unfold i_pop; dsimp only; rw [if_pos hv]; rfl
theorem ev_dup {v : Value} (h : b_lk (T y) pc = some (i_dup nx)) (hv : b_c1 v = true) : b_F T d y pc L (v :: st) σ = b_F T d y nx L (v :: v :: st) σ := by
  rw [b_F_at h]; unfold i_dup; dsimp only; rw [if_pos hv]; rfl
theorem ev_dupx1 {v w : Value} (h : b_lk (T y) pc = some (i_dupx1 nx)) (hv : b_c1 v = true) (hw : b_c1 w = true) : b_F T d y pc L (v :: w :: st) σ = b_F T d y nx L (v :: w :: v :: st) σ := by
  rw [b_F_at h]; unfold i_dupx1; dsimp only; rw [if_pos ⟨hv, hw⟩]; rfl
theorem ev_dup2 {v w : Value} (h : b_lk (T y) pc = some (i_dup2 nx)) (hv : b_c1 v = true) (hw : b_c1 w = true) : b_F T d y pc L (v :: w :: st) σ = b_F T d y nx L (v :: w :: v :: w :: st) σ := by
  rw [b_F_at h]; unfold i_dup2; dsimp only; rw [if_pos ⟨hv, hw⟩]; rfl
/-! locals -/
theorem ok_frm {f : Fn} (h : ∀ g L st σ r, f g L st σ = some r → ∃ pc' L' st', r = .inl (pc', L', st', σ) ∧ ∀ (G : List Nat) (ls : Array Slot) (mst : List Value), b_Lr G L ls (mL y) → VRs G st mst → ∀ (p : Program) (l : Launch) (e : Env) (R : Room) (s : State) (m : MethodId) (args : Array Value) (below : List Frame) (meth : Method) (c : Code) (H : Heap) (locs : List Loc) (cells slots : Nat) (Q : State → Prop), p.tables.exec = Jvm.exec → c.code = bc y →
    (∀ (ls' : Array Slot) (mst' : List Value), b_Lr G L' ls' (mL y) → VRs G st' mst' → W p l e R s m args below meth c H locs cells slots Q (F0 m pc' ls' mst')) → W p l e R s m args below meth c H locs cells slots Q (F0 m pc ls mst)) : b_OK nm bc mL rt hh T y pc f := by
  refine ⟨fun g _ L st σ r hr => ?_, ?_⟩
  · obtain ⟨pc', L', st', rfl, -⟩ := h g L st σ r hr
    exact ⟨Nat.le_refl _, Nat.le_refl _⟩
  · intro d p l e R s m args below meth c D tys z wsE ih hc Q c0 s0 L st σ ws H locs ls mst cells slots hH hL hV hcl hsl r hr hcb hsb hK
    obtain ⟨pc', L', st', rfl, h2⟩ := h _ L st σ r hr
    exact h2 _ ls mst hL hV p l e R s m args below meth c H locs cells slots Q hc.1 hc.2.1 (fun ls' mst' hL' hV' => hK ws H locs ls' mst' cells slots (List.prefix_refl _) hH hL' hV' hcl hsl)
def i_ldI (i nx : Nat) : Fn := fun _ L st σ => match L[i]? with
  | some (.int x) => some (.inl (nx, L, .int x :: st, σ))
  | _ => none
def i_ldL (i nx : Nat) : Fn := fun _ L st σ => match L[i]? with
  | some (.long x) => if L[i + 1]? = some b_h2 then some (.inl (nx, L, .long x :: st, σ)) else none
  | _ => none
def i_ldA (i nx : Nat) : Fn := fun _ L st σ => match L[i]? with
  | some (.ref x) => some (.inl (nx, L, .ref x :: st, σ))
  | some .null => some (.inl (nx, L, .null :: st, σ))
  | _ => none
theorem ok_nldI {i : Nat} {k : Fin 4} (hd : decode (bc y) pc = .ok (.iload_n k, 1)) (hi : (k : Nat) = i) : b_OK nm bc mL rt hh T y pc (i_ldI i (pc + 1)) :=
  ok_frm fun g L st σ r hr => by
    unfold i_ldI at hr
    split at hr
    · next x hx0 =>
      cases hr
      refine ⟨_, _, _, rfl, fun G ls mst hL hV p l e R s m args below meth c H locs cells slots Q hx hb k => ?_⟩
      obtain ⟨w, hw, hs⟩ := Lr_get hL hx0 (by simp [b_hl]) (by simp [b_h2]) (Or.inl rfl)
      cases hw
      exact lv_iload_n hx hb hd hi hs (k ls _ hL (VRs_mk rfl hV))
    · cases hr
theorem ok_wldI {i : Nat} (hd : decode (bc y) pc = .ok (.iload i, 2)) : b_OK nm bc mL rt hh T y pc (i_ldI i (pc + 2)) :=
  ok_frm fun g L st σ r hr => by
    unfold i_ldI at hr
    split at hr
    · next x hx0 =>
      cases hr
      refine ⟨_, _, _, rfl, fun G ls mst hL hV p l e R s m args below meth c H locs cells slots Q hx hb k => ?_⟩
      obtain ⟨w, hw, hs⟩ := Lr_get hL hx0 (by simp [b_hl]) (by simp [b_h2]) (Or.inl rfl)
      cases hw
      exact lv_iload hx hb hd hs (k ls _ hL (VRs_mk rfl hV))
    · cases hr
theorem ok_nldL {i : Nat} {k : Fin 4} (hd : decode (bc y) pc = .ok (.lload_n k, 1)) (hi : (k : Nat) = i) : b_OK nm bc mL rt hh T y pc (i_ldL i (pc + 1)) :=
  ok_frm fun g L st σ r hr => by
    unfold i_ldL at hr
    split at hr
    · next x hx0 =>
      split at hr
      · next h2 =>
        cases hr
        refine ⟨_, _, _, rfl, fun G ls mst hL hV p l e R s m args below meth c H locs cells slots Q hx hb k => ?_⟩
        obtain ⟨w, hw, hs⟩ := Lr_get hL hx0 (by simp [b_hl]) (by simp [b_h2]) (Or.inr h2)
        cases hw
        exact lv_lload_n hx hb hd hi hs (k ls _ hL (VRs_mk rfl hV))
      · cases hr
    · cases hr
theorem ok_wldL {i : Nat} (hd : decode (bc y) pc = .ok (.lload i, 2)) : b_OK nm bc mL rt hh T y pc (i_ldL i (pc + 2)) :=
  ok_frm fun g L st σ r hr => by
    unfold i_ldL at hr
    split at hr
    · next x hx0 =>
      split at hr
      · next h2 =>
        cases hr
        refine ⟨_, _, _, rfl, fun G ls mst hL hV p l e R s m args below meth c H locs cells slots Q hx hb k => ?_⟩
        obtain ⟨w, hw, hs⟩ := Lr_get hL hx0 (by simp [b_hl]) (by simp [b_h2]) (Or.inr h2)
        cases hw
        exact lv_lload hx hb hd hs (k ls _ hL (VRs_mk rfl hV))
      · cases hr
    · cases hr
theorem ok_nldA {i : Nat} {k : Fin 4} (hd : decode (bc y) pc = .ok (.aload_n k, 1)) (hi : (k : Nat) = i) : b_OK nm bc mL rt hh T y pc (i_ldA i (pc + 1)) :=
  ok_frm fun g L st σ r hr => by
    unfold i_ldA at hr
    split at hr
    · next x hx0 =>
      cases hr
      refine ⟨_, _, _, rfl, fun G ls mst hL hV p l e R s m args below meth c H locs cells slots Q hx hb k => ?_⟩
      obtain ⟨w, hw, hs⟩ := Lr_get hL hx0 (by simp [b_hl]) (by simp [b_h2]) (Or.inl rfl)
      obtain ⟨b, hb1, rfl⟩ := id hw
      exact lv_aload_n hx hb hd hi hs (k ls _ hL (VRs_mk hw hV))
    · next hx0 =>
      cases hr
      refine ⟨_, _, _, rfl, fun G ls mst hL hV p l e R s m args below meth c H locs cells slots Q hx hb k => ?_⟩
      obtain ⟨w, hw, hs⟩ := Lr_get hL hx0 (by simp [b_hl]) (by simp [b_h2]) (Or.inl rfl)
      cases hw
      exact lv_aload_nN hx hb hd hi hs (k ls _ hL (VRs_mk rfl hV))
    · cases hr
theorem ok_wldA {i : Nat} (hd : decode (bc y) pc = .ok (.aload i, 2)) : b_OK nm bc mL rt hh T y pc (i_ldA i (pc + 2)) :=
  ok_frm fun g L st σ r hr => by
    unfold i_ldA at hr
    split at hr
    · next x hx0 =>
      cases hr
      refine ⟨_, _, _, rfl, fun G ls mst hL hV p l e R s m args below meth c H locs cells slots Q hx hb k => ?_⟩
      obtain ⟨w, hw, hs⟩ := Lr_get hL hx0 (by simp [b_hl]) (by simp [b_h2]) (Or.inl rfl)
      obtain ⟨b, hb1, rfl⟩ := id hw
      exact lv_aload hx hb hd hs (k ls _ hL (VRs_mk hw hV))
    · next hx0 =>
      cases hr
      refine ⟨_, _, _, rfl, fun G ls mst hL hV p l e R s m args below meth c H locs cells slots Q hx hb k => ?_⟩
      obtain ⟨w, hw, hs⟩ := Lr_get hL hx0 (by simp [b_hl]) (by simp [b_h2]) (Or.inl rfl)
      cases hw
      exact lv_aloadN hx hb hd hs (k ls _ hL (VRs_mk rfl hV))
    · cases hr
theorem ev_ldI {i : Nat} {a : Int} (h : b_lk (T y) pc = some (i_ldI i nx)) (hL : L[i]? = some (vI a)) : b_F T d y pc L st σ = b_F T d y nx L (vI a :: st) σ := by
  rw [b_F_at h]; unfold i_ldI; rw [hL]; rfl
theorem ev_ldL {i : Nat} {a : Int} (h : b_lk (T y) pc = some (i_ldL i nx)) (hL : L[i]? = some (vL a)) (h2 : L[i + 1]? = some b_h2) : b_F T d y pc L st σ = b_F T d y nx L (vL a :: st) σ := by
  rw [b_F_at h]
  unfold i_ldL
  rw [hL]
  show b_go T d y (if L[i + 1]? = some b_h2 then _ else none) = _
  rw [if_pos h2]
  rfl
theorem ev_ldA {i a : Nat} (h : b_lk (T y) pc = some (i_ldA i nx)) (hL : L[i]? = some (.ref a)) : b_F T d y pc L st σ = b_F T d y nx L (.ref a :: st) σ := by
  rw [b_F_at h]; unfold i_ldA; rw [hL]; rfl
theorem ev_ldN {i : Nat} (h : b_lk (T y) pc = some (i_ldA i nx)) (hL : L[i]? = some .null) : b_F T d y pc L st σ = b_F T d y nx L (.null :: st) σ := by
  rw [b_F_at h]; unfold i_ldA; rw [hL]; rfl
def i_stI (i nx : Nat) : Fn := fun _ L st σ => match st with
  | .int x :: st => some (.inl (nx, b_set i L (.int x), st, σ))
  | _ => none
def i_stL (i nx : Nat) : Fn := fun _ L st σ => match st with
  | .long x :: st => some (.inl (nx, b_set (i + 1) (b_set i L (.long x)) b_h2, st, σ))
  | _ => none
def i_stA (i nx : Nat) : Fn := fun _ L st σ => match st with
  | .ref x :: st => some (.inl (nx, b_set i L (.ref x), st, σ))
  | .null :: st => some (.inl (nx, b_set i L .null, st, σ))
  | _ => none
theorem ok_nstI {i : Nat} {k : Fin 4} (hd : decode (bc y) pc = .ok (.istore_n k, 1)) (hi : (k : Nat) = i) (hn : i < mL y) : b_OK nm bc mL rt hh T y pc (i_stI i (pc + 1)) :=
  ok_frm fun g L st σ r hr => by
    unfold i_stI at hr
    split at hr
    · cases hr
      refine ⟨_, _, _, rfl, fun G ls mst hL hV p l e R s m args below meth c H locs cells slots Q hx hb k => ?_⟩
      obtain ⟨_, m1, rfl, h1, hV1⟩ := VRs_cons hV
      cases h1
      obtain ⟨lv, hlv, hre⟩ := hL
      exact lv_istore_n hx hb hd hi hlv hn rfl (fun ls hl => k ls _ (Lr_set1 hre rfl rfl (by simp [b_h2]) rfl hl) hV1)
    · cases hr
theorem ok_wstI {i : Nat} (hd : decode (bc y) pc = .ok (.istore i, 2)) (hn : i < mL y) : b_OK nm bc mL rt hh T y pc (i_stI i (pc + 2)) :=
  ok_frm fun g L st σ r hr => by
    unfold i_stI at hr
    split at hr
    · cases hr
      refine ⟨_, _, _, rfl, fun G ls mst hL hV p l e R s m args below meth c H locs cells slots Q hx hb k => ?_⟩
      obtain ⟨_, m1, rfl, h1, hV1⟩ := VRs_cons hV
      cases h1
      obtain ⟨lv, hlv, hre⟩ := hL
      exact lv_istore hx hb hd hlv hn rfl (fun ls hl => k ls _ (Lr_set1 hre rfl rfl (by simp [b_h2]) rfl hl) hV1)
    · cases hr
theorem ok_nstL {i : Nat} {k : Fin 4} (hd : decode (bc y) pc = .ok (.lstore_n k, 1)) (hi : (k : Nat) = i) (hn : i + 1 < mL y) : b_OK nm bc mL rt hh T y pc (i_stL i (pc + 1)) :=
  ok_frm fun g L st σ r hr => by
    unfold i_stL at hr
    split at hr
    · cases hr
      refine ⟨_, _, _, rfl, fun G ls mst hL hV p l e R s m args below meth c H locs cells slots Q hx hb k => ?_⟩
      obtain ⟨_, m1, rfl, h1, hV1⟩ := VRs_cons hV
      cases h1
      obtain ⟨lv, hlv, hre⟩ := hL
      exact lv_lstore_n hx hb hd hi hlv hn rfl (fun ls hl => k ls _ (Lr_set2 hre rfl (by simp [b_h2]) rfl hl) hV1)
    · cases hr
theorem ok_wstL {i : Nat} (hd : decode (bc y) pc = .ok (.lstore i, 2)) (hn : i + 1 < mL y) : b_OK nm bc mL rt hh T y pc (i_stL i (pc + 2)) :=
  ok_frm fun g L st σ r hr => by
    unfold i_stL at hr
    split at hr
    · cases hr
      refine ⟨_, _, _, rfl, fun G ls mst hL hV p l e R s m args below meth c H locs cells slots Q hx hb k => ?_⟩
      obtain ⟨_, m1, rfl, h1, hV1⟩ := VRs_cons hV
      cases h1
      obtain ⟨lv, hlv, hre⟩ := hL
      exact lv_lstore hx hb hd hlv hn rfl (fun ls hl => k ls _ (Lr_set2 hre rfl (by simp [b_h2]) rfl hl) hV1)
    · cases hr
theorem ok_nstA {i : Nat} {k : Fin 4} (hd : decode (bc y) pc = .ok (.astore_n k, 1)) (hi : (k : Nat) = i) (hn : i < mL y) : b_OK nm bc mL rt hh T y pc (i_stA i (pc + 1)) :=
  ok_frm fun g L st σ r hr => by
    unfold i_stA at hr
    split at hr
    · cases hr
      refine ⟨_, _, _, rfl, fun G ls mst hL hV p l e R s m args below meth c H locs cells slots Q hx hb k => ?_⟩
      obtain ⟨_, m1, rfl, h1, hV1⟩ := VRs_cons hV
      obtain ⟨b, hb1, rfl⟩ := id h1
      obtain ⟨lv, hlv, hre⟩ := hL
      exact lv_astore_n hx hb hd hi hlv hn rfl (fun ls hl => k ls _ (Lr_set1 hre h1 rfl (by simp [b_h2]) rfl hl) hV1)
    · cases hr
      refine ⟨_, _, _, rfl, fun G ls mst hL hV p l e R s m args below meth c H locs cells slots Q hx hb k => ?_⟩
      obtain ⟨_, m1, rfl, h1, hV1⟩ := VRs_cons hV
      cases h1
      obtain ⟨lv, hlv, hre⟩ := hL
      exact lv_astore_nN hx hb hd hi hlv hn rfl (fun ls hl => k ls _ (Lr_set1 hre rfl rfl (by simp [b_h2]) rfl hl) hV1)
    · cases hr
theorem ok_wstA {i : Nat} (hd : decode (bc y) pc = .ok (.astore i, 2)) (hn : i < mL y) : b_OK nm bc mL rt hh T y pc (i_stA i (pc + 2)) :=
  ok_frm fun g L st σ r hr => by
    unfold i_stA at hr
    split at hr
    · cases hr
      refine ⟨_, _, _, rfl, fun G ls mst hL hV p l e R s m args below meth c H locs cells slots Q hx hb k => ?_⟩
      obtain ⟨_, m1, rfl, h1, hV1⟩ := VRs_cons hV
      obtain ⟨b, hb1, rfl⟩ := id h1
      obtain ⟨lv, hlv, hre⟩ := hL
      exact lv_astore hx hb hd hlv hn rfl (fun ls hl => k ls _ (Lr_set1 hre h1 rfl (by simp [b_h2]) rfl hl) hV1)
    · cases hr
      refine ⟨_, _, _, rfl, fun G ls mst hL hV p l e R s m args below meth c H locs cells slots Q hx hb k => ?_⟩
      obtain ⟨_, m1, rfl, h1, hV1⟩ := VRs_cons hV
      cases h1
      obtain ⟨lv, hlv, hre⟩ := hL
      exact lv_astoreN hx hb hd hlv hn rfl (fun ls hl => k ls _ (Lr_set1 hre rfl rfl (by simp [b_h2]) rfl hl) hV1)
    · cases hr
theorem ev_stI {i : Nat} {a : Int} (h : b_lk (T y) pc = some (i_stI i nx)) : b_F T d y pc L (vI a :: st) σ = b_F T d y nx (b_set i L (vI a)) st σ := b_F_at h
theorem ev_stL {i : Nat} {a : Int} (h : b_lk (T y) pc = some (i_stL i nx)) : b_F T d y pc L (vL a :: st) σ = b_F T d y nx (b_set (i + 1) (b_set i L (vL a)) b_h2) st σ := b_F_at h
theorem ev_stA {i a : Nat} (h : b_lk (T y) pc = some (i_stA i nx)) : b_F T d y pc L (.ref a :: st) σ = b_F T d y nx (b_set i L (.ref a)) st σ := b_F_at h
theorem ev_stN {i : Nat} (h : b_lk (T y) pc = some (i_stA i nx)) : b_F T d y pc L (.null :: st) σ = b_F T d y nx (b_set i L .null) st σ := b_F_at h
def i_inc (i : Nat) (n : Int) (nx : Nat) : Fn := fun _ L st σ => match L[i]? with
  | some (.int x) => some (.inl (nx, b_set i L (.int (x + Int32.ofInt n)), st, σ))
  | _ => none
theorem ok_inc {i : Nat} {n : Int} (hd : decode (bc y) pc = .ok (.iinc i n, 3)) (hn : i < mL y) : b_OK nm bc mL rt hh T y pc (i_inc i n (pc + 3)) :=
  ok_frm fun g L st σ r hr => by
    unfold i_inc at hr
    split at hr
    · next x hx0 =>
      cases hr
      refine ⟨_, _, _, rfl, fun G ls mst hL hV p l e R s m args below meth c H locs cells slots Q hx hb k => ?_⟩
      obtain ⟨lv, hlv, hre⟩ := hL
      have hre0 := hre
      rcases hre i _ hx0 with h | h | ⟨h, -⟩ | ⟨w, h1, h2⟩
      · exact absurd h (by simp [b_hl])
      · exact absurd h (by simp [b_h2])
      · exact absurd h (by simp [Value.category])
      · cases h1
        obtain ⟨j, hj⟩ := List.getElem?_of_mem h2
        exact lv_iinc hx hb hd hlv hj rfl hn rfl (fun ls hl => k ls _ (Lr_set1 hre0 rfl rfl (by simp [b_h2]) rfl hl) hV)
    · cases hr
theorem ev_inc {i : Nat} {n a : Int} (h : b_lk (T y) pc = some (i_inc i n nx)) (hL : L[i]? = some (vI a)) : b_F T d y pc L st σ = b_F T d y nx (b_set i L (vI (a + n))) st σ := by
  rw [show vI (a + n) = .int (Int32.ofInt a + Int32.ofInt n) by unfold vI; rw [Int32.ofInt_add], b_F_at h]
  unfold i_inc
  rw [hL]
  rfl
/-! branches -/
def i_goto (tgt : Nat) : Fn := fun _ L st σ => some (.inl (tgt, L, st, σ))
theorem ok_goto {off : Int} (hd : decode (bc y) pc = .ok (.goto off, 3)) (ht : (pc : Int) + off = (tgt : Int)) : b_OK nm bc mL rt hh T y pc (i_goto tgt) :=
  ok_stk fun g L st σ r hr => by cases hr; exact ⟨_, _, rfl, fun G mst hV => ⟨_, hV, fun p l e R s m args below meth c H locs cells slots Q ls hx hb k => lv_goto hx hb hd ht k⟩⟩
theorem ev_goto (h : b_lk (T y) pc = some (i_goto tgt)) : b_F T d y pc L st σ = b_F T d y tgt L st σ := b_F_at h
def i_if1 (p : Int32 → Bool) (tgt nx : Nat) : Fn := fun _ L st σ => match st with
  | .int a :: st => some (.inl (cond (p a) tgt nx, L, st, σ))
  | _ => none
theorem ok_if1 {p : Int32 → Bool} (h : ∀ a mst, b_Rw (bc y) pc (cond (p a) tgt nx) (.int a :: mst) mst) : b_OK nm bc mL rt hh T y pc (i_if1 p tgt nx) :=
  ok_stk fun g L st σ r hr => by
    unfold i_if1 at hr
    split at hr
    · cases hr
      refine ⟨_, _, rfl, fun G mst hV => ?_⟩
      obtain ⟨_, m1, rfl, h1, hV1⟩ := VRs_cons hV
      cases h1
      exact ⟨_, hV1, h _ _⟩
    · cases hr
def i_if2 (p : Int32 → Int32 → Bool) (tgt nx : Nat) : Fn := fun _ L st σ => match st with
  | .int b :: .int a :: st => some (.inl (cond (p a b) tgt nx, L, st, σ))
  | _ => none
theorem ok_if2 {p : Int32 → Int32 → Bool} (h : ∀ a b mst, b_Rw (bc y) pc (cond (p a b) tgt nx) (.int b :: .int a :: mst) mst) : b_OK nm bc mL rt hh T y pc (i_if2 p tgt nx) :=
  ok_stk fun g L st σ r hr => by
    unfold i_if2 at hr
    split at hr
    · cases hr
      refine ⟨_, _, rfl, fun G mst hV => ?_⟩
      obtain ⟨_, m1, rfl, h1, hV1⟩ := VRs_cons hV
      obtain ⟨_, m2, rfl, h2, hV2⟩ := VRs_cons hV1
      cases h1
      cases h2
      exact ⟨_, hV2, h _ _ _⟩
    · cases hr
theorem w32_eq {a b : Int} : Int32.ofInt a = Int32.ofInt b ↔ w32 a = w32 b := Int32.toInt_inj.symm
theorem w32_lt {a b : Int} : Int32.ofInt a < Int32.ofInt b ↔ w32 a < w32 b := Int32.lt_iff_toInt_lt
theorem w32_le {a b : Int} : Int32.ofInt a ≤ Int32.ofInt b ↔ w32 a ≤ w32 b := Int32.le_iff_toInt_le
theorem w32_eq0 {a : Int} : Int32.ofInt a = 0 ↔ w32 a = 0 := w32_eq (b := 0)
theorem w32_lt0 {a : Int} : Int32.ofInt a < 0 ↔ w32 a < 0 := w32_lt (b := 0)
theorem w32_le0 {a : Int} : Int32.ofInt a ≤ 0 ↔ w32 a ≤ 0 := w32_le (b := 0)
theorem w32_gt0 {a : Int} : 0 < Int32.ofInt a ↔ 0 < w32 a := w32_lt (a := 0)
theorem w32_ge0 {a : Int} : 0 ≤ Int32.ofInt a ↔ 0 ≤ w32 a := w32_le (a := 0)
theorem b_cond_if {c : Prop} {hc : Decidable c} {b : Bool} (h : b = true ↔ c) {x z : Nat} : b_F T d y (cond b x z) L st σ = if c then b_F T d y x L st σ else b_F T d y z L st σ := by
  by_cases q : c
  · rw [if_pos q, h.mpr q]; rfl
  · rw [if_neg q, show b = false from Bool.eq_false_iff.mpr fun z => q (h.mp z)]; rfl
theorem ok_if_eq {off : Int} (hd : decode (bc y) pc = .ok (.ifCond .eq off, 3)) (ht : (pc : Int) + off = (tgt : Int)) : b_OK nm bc mL rt hh T y pc (i_if1 (fun a => decide (a = 0)) tgt (pc + 3)) :=
  ok_if1 fun a mst p l e R s m args below meth c H locs cells slots Q ls hx hb k => by
    refine lv_if_eq hx hb hd ht (fun hc => ?_) (fun hc => ?_)
    · rw [decide_eq_true (p := a = 0) hc] at k
      exact k
    · rw [decide_eq_false (p := a = 0) hc] at k
      exact k
theorem ev_if_eq {a : Int} (h : b_lk (T y) pc = some (i_if1 (fun a => decide (a = 0)) tgt nx)) : b_F T d y pc L (vI a :: st) σ = if w32 a = 0 then b_F T d y tgt L st σ else b_F T d y nx L st σ := by
  rw [b_F_at h]
  exact b_cond_if (by rw [decide_eq_true_iff]; exact w32_eq0)
theorem ok_ic_eq {off : Int} (hd : decode (bc y) pc = .ok (.if_icmp .eq off, 3)) (ht : (pc : Int) + off = (tgt : Int)) : b_OK nm bc mL rt hh T y pc (i_if2 (fun a b => decide (a = b)) tgt (pc + 3)) :=
  ok_if2 fun a b mst p l e R s m args below meth c H locs cells slots Q ls hx hb k => by
    refine lv_icmp_eq hx hb hd ht (fun hc => ?_) (fun hc => ?_)
    · rw [decide_eq_true (p := a = b) hc] at k
      exact k
    · rw [decide_eq_false (p := a = b) hc] at k
      exact k
theorem ev_ic_eq {a b : Int} (h : b_lk (T y) pc = some (i_if2 (fun a b => decide (a = b)) tgt nx)) : b_F T d y pc L (vI b :: vI a :: st) σ = if w32 a = w32 b then b_F T d y tgt L st σ else b_F T d y nx L st σ := by
  rw [b_F_at h]
  exact b_cond_if (by rw [decide_eq_true_iff]; exact w32_eq)
theorem ok_if_ne {off : Int} (hd : decode (bc y) pc = .ok (.ifCond .ne off, 3)) (ht : (pc : Int) + off = (tgt : Int)) : b_OK nm bc mL rt hh T y pc (i_if1 (fun a => decide (¬ a = 0)) tgt (pc + 3)) :=
  ok_if1 fun a mst p l e R s m args below meth c H locs cells slots Q ls hx hb k => by
    refine lv_if_ne hx hb hd ht (fun hc => ?_) (fun hc => ?_)
    · rw [decide_eq_true (p := ¬ a = 0) hc] at k
      exact k
    · rw [decide_eq_false (p := ¬ a = 0) (fun z => z hc)] at k
      exact k
theorem ev_if_ne {a : Int} (h : b_lk (T y) pc = some (i_if1 (fun a => decide (¬ a = 0)) tgt nx)) : b_F T d y pc L (vI a :: st) σ = if ¬ w32 a = 0 then b_F T d y tgt L st σ else b_F T d y nx L st σ := by
  rw [b_F_at h]
  exact b_cond_if (by rw [decide_eq_true_iff]; exact not_congr w32_eq0)
theorem ok_ic_ne {off : Int} (hd : decode (bc y) pc = .ok (.if_icmp .ne off, 3)) (ht : (pc : Int) + off = (tgt : Int)) : b_OK nm bc mL rt hh T y pc (i_if2 (fun a b => decide (¬ a = b)) tgt (pc + 3)) :=
  ok_if2 fun a b mst p l e R s m args below meth c H locs cells slots Q ls hx hb k => by
    refine lv_icmp_ne hx hb hd ht (fun hc => ?_) (fun hc => ?_)
    · rw [decide_eq_true (p := ¬ a = b) hc] at k
      exact k
    · rw [decide_eq_false (p := ¬ a = b) (fun z => z hc)] at k
      exact k
theorem ev_ic_ne {a b : Int} (h : b_lk (T y) pc = some (i_if2 (fun a b => decide (¬ a = b)) tgt nx)) : b_F T d y pc L (vI b :: vI a :: st) σ = if ¬ w32 a = w32 b then b_F T d y tgt L st σ else b_F T d y nx L st σ := by
  rw [b_F_at h]
  exact b_cond_if (by rw [decide_eq_true_iff]; exact not_congr w32_eq)
theorem ok_if_lt {off : Int} (hd : decode (bc y) pc = .ok (.ifCond .lt off, 3)) (ht : (pc : Int) + off = (tgt : Int)) : b_OK nm bc mL rt hh T y pc (i_if1 (fun a => decide (a < 0)) tgt (pc + 3)) :=
  ok_if1 fun a mst p l e R s m args below meth c H locs cells slots Q ls hx hb k => by
    refine lv_if_lt hx hb hd ht (fun hc => ?_) (fun hc => ?_)
    · rw [decide_eq_true (p := a < 0) hc] at k
      exact k
    · rw [decide_eq_false (p := a < 0) hc] at k
      exact k
theorem ev_if_lt {a : Int} (h : b_lk (T y) pc = some (i_if1 (fun a => decide (a < 0)) tgt nx)) : b_F T d y pc L (vI a :: st) σ = if w32 a < 0 then b_F T d y tgt L st σ else b_F T d y nx L st σ := by
  rw [b_F_at h]
  exact b_cond_if (by rw [decide_eq_true_iff]; exact w32_lt0)
theorem ok_ic_lt {off : Int} (hd : decode (bc y) pc = .ok (.if_icmp .lt off, 3)) (ht : (pc : Int) + off = (tgt : Int)) : b_OK nm bc mL rt hh T y pc (i_if2 (fun a b => decide (a < b)) tgt (pc + 3)) :=
  ok_if2 fun a b mst p l e R s m args below meth c H locs cells slots Q ls hx hb k => by
    refine lv_icmp_lt hx hb hd ht (fun hc => ?_) (fun hc => ?_)
    · rw [decide_eq_true (p := a < b) hc] at k
      exact k
    · rw [decide_eq_false (p := a < b) hc] at k
      exact k
theorem ev_ic_lt {a b : Int} (h : b_lk (T y) pc = some (i_if2 (fun a b => decide (a < b)) tgt nx)) : b_F T d y pc L (vI b :: vI a :: st) σ = if w32 a < w32 b then b_F T d y tgt L st σ else b_F T d y nx L st σ := by
  rw [b_F_at h]
  exact b_cond_if (by rw [decide_eq_true_iff]; exact w32_lt)
theorem ok_if_ge {off : Int} (hd : decode (bc y) pc = .ok (.ifCond .ge off, 3)) (ht : (pc : Int) + off = (tgt : Int)) : b_OK nm bc mL rt hh T y pc (i_if1 (fun a => decide (0 ≤ a)) tgt (pc + 3)) :=
  ok_if1 fun a mst p l e R s m args below meth c H locs cells slots Q ls hx hb k => by
    refine lv_if_ge hx hb hd ht (fun hc => ?_) (fun hc => ?_)
    · rw [decide_eq_true (p := 0 ≤ a) hc] at k
      exact k
    · rw [decide_eq_false (p := 0 ≤ a) hc] at k
      exact k
theorem ev_if_ge {a : Int} (h : b_lk (T y) pc = some (i_if1 (fun a => decide (0 ≤ a)) tgt nx)) : b_F T d y pc L (vI a :: st) σ = if 0 ≤ w32 a then b_F T d y tgt L st σ else b_F T d y nx L st σ := by
  rw [b_F_at h]
  exact b_cond_if (by rw [decide_eq_true_iff]; exact w32_ge0)
theorem ok_ic_ge {off : Int} (hd : decode (bc y) pc = .ok (.if_icmp .ge off, 3)) (ht : (pc : Int) + off = (tgt : Int)) : b_OK nm bc mL rt hh T y pc (i_if2 (fun a b => decide (b ≤ a)) tgt (pc + 3)) :=
  ok_if2 fun a b mst p l e R s m args below meth c H locs cells slots Q ls hx hb k => by
    refine lv_icmp_ge hx hb hd ht (fun hc => ?_) (fun hc => ?_)
    · rw [decide_eq_true (p := b ≤ a) hc] at k
      exact k
    · rw [decide_eq_false (p := b ≤ a) hc] at k
      exact k
theorem ev_ic_ge {a b : Int} (h : b_lk (T y) pc = some (i_if2 (fun a b => decide (b ≤ a)) tgt nx)) : b_F T d y pc L (vI b :: vI a :: st) σ = if w32 b ≤ w32 a then b_F T d y tgt L st σ else b_F T d y nx L st σ := by
  rw [b_F_at h]
  exact b_cond_if (by rw [decide_eq_true_iff]; exact w32_le)
theorem ok_if_gt {off : Int} (hd : decode (bc y) pc = .ok (.ifCond .gt off, 3)) (ht : (pc : Int) + off = (tgt : Int)) : b_OK nm bc mL rt hh T y pc (i_if1 (fun a => decide (0 < a)) tgt (pc + 3)) :=
  ok_if1 fun a mst p l e R s m args below meth c H locs cells slots Q ls hx hb k => by
    refine lv_if_gt hx hb hd ht (fun hc => ?_) (fun hc => ?_)
    · rw [decide_eq_true (p := 0 < a) hc] at k
      exact k
    · rw [decide_eq_false (p := 0 < a) hc] at k
      exact k
theorem ev_if_gt {a : Int} (h : b_lk (T y) pc = some (i_if1 (fun a => decide (0 < a)) tgt nx)) : b_F T d y pc L (vI a :: st) σ = if 0 < w32 a then b_F T d y tgt L st σ else b_F T d y nx L st σ := by
  rw [b_F_at h]
  exact b_cond_if (by rw [decide_eq_true_iff]; exact w32_gt0)
theorem ok_ic_gt {off : Int} (hd : decode (bc y) pc = .ok (.if_icmp .gt off, 3)) (ht : (pc : Int) + off = (tgt : Int)) : b_OK nm bc mL rt hh T y pc (i_if2 (fun a b => decide (b < a)) tgt (pc + 3)) :=
  ok_if2 fun a b mst p l e R s m args below meth c H locs cells slots Q ls hx hb k => by
    refine lv_icmp_gt hx hb hd ht (fun hc => ?_) (fun hc => ?_)
    · rw [decide_eq_true (p := b < a) hc] at k
      exact k
    · rw [decide_eq_false (p := b < a) hc] at k
      exact k
theorem ev_ic_gt {a b : Int} (h : b_lk (T y) pc = some (i_if2 (fun a b => decide (b < a)) tgt nx)) : b_F T d y pc L (vI b :: vI a :: st) σ = if w32 b < w32 a then b_F T d y tgt L st σ else b_F T d y nx L st σ := by
  rw [b_F_at h]
  exact b_cond_if (by rw [decide_eq_true_iff]; exact w32_lt)
theorem ok_if_le {off : Int} (hd : decode (bc y) pc = .ok (.ifCond .le off, 3)) (ht : (pc : Int) + off = (tgt : Int)) : b_OK nm bc mL rt hh T y pc (i_if1 (fun a => decide (a ≤ 0)) tgt (pc + 3)) :=
  ok_if1 fun a mst p l e R s m args below meth c H locs cells slots Q ls hx hb k => by
    refine lv_if_le hx hb hd ht (fun hc => ?_) (fun hc => ?_)
    · rw [decide_eq_true (p := a ≤ 0) hc] at k
      exact k
    · rw [decide_eq_false (p := a ≤ 0) hc] at k
      exact k
theorem ev_if_le {a : Int} (h : b_lk (T y) pc = some (i_if1 (fun a => decide (a ≤ 0)) tgt nx)) : b_F T d y pc L (vI a :: st) σ = if w32 a ≤ 0 then b_F T d y tgt L st σ else b_F T d y nx L st σ := by
  rw [b_F_at h]
  exact b_cond_if (by rw [decide_eq_true_iff]; exact w32_le0)
theorem ok_ic_le {off : Int} (hd : decode (bc y) pc = .ok (.if_icmp .le off, 3)) (ht : (pc : Int) + off = (tgt : Int)) : b_OK nm bc mL rt hh T y pc (i_if2 (fun a b => decide (a ≤ b)) tgt (pc + 3)) :=
  ok_if2 fun a b mst p l e R s m args below meth c H locs cells slots Q ls hx hb k => by
    refine lv_icmp_le hx hb hd ht (fun hc => ?_) (fun hc => ?_)
    · rw [decide_eq_true (p := a ≤ b) hc] at k
      exact k
    · rw [decide_eq_false (p := a ≤ b) hc] at k
      exact k
theorem ev_ic_le {a b : Int} (h : b_lk (T y) pc = some (i_if2 (fun a b => decide (a ≤ b)) tgt nx)) : b_F T d y pc L (vI b :: vI a :: st) σ = if w32 a ≤ w32 b then b_F T d y tgt L st σ else b_F T d y nx L st σ := by
  rw [b_F_at h]
  exact b_cond_if (by rw [decide_eq_true_iff]; exact w32_le)
end B_OPB
