/-! ===== instructions: new cells, reference stores, casts ===== -/
set_option maxRecDepth 100000
section B_OPF
variable {nm : Nat → MethodName} {bc : Nat → ByteArray} {mL : Nat → Nat} {rt : Nat → Option FieldType} {hh : Nat → List (Nat × Nat × Nat × Nat)} {T : Tb} {y pc nx tgt d : Nat} {L : Lc} {st : List Value} {σ : Sg}
/-- an instruction that makes a cell -/
theorem ok_alloc {f : Fn} (h : ∀ g L st σ r, f g L st σ = some r → ∃ pc' st' t n F, r = .inl (pc', L, .ref σ.1 :: st', b_nw σ t n F) ∧ ∀ (d : Nat) (p : Program) (l : Launch) (e : Env) (R : Room) (s : State) (m : MethodId) (args : Array Value) (below : List Frame) (meth : Method) (c : Code) (D : va_G) (tys : List (ClassId × FieldType)) (z : Nat) (wsE : List Nat),
    b_Cx nm bc mL rt hh y d p l R s m args meth c D tys z wsE → ∀ (Q : State → Prop) (ws : va_W) (H : Heap) (locs : List Loc) (ls : Array Slot) (mst : List Value) (cells slots : Nat), b_Hr D tys z wsE ws s σ H locs → VRs (b_G wsE ws) st mst → cells + 1 ≤ R.cells → slots + n ≤ R.slots →
    (∀ (b : Nat) (e0 : va_E) (H1 : Heap) (mst' : List Value), va_P D b_cl (ws ++ [(b, e0)]) H1 → va_D (b_A z) (ws ++ [(b, e0)]) → va_S (b_A z) s.heap H1 locs → (∀ G, b_CR G tys (t, n, F) e0) → VRs (b_G wsE ws) st' mst' → W p l e R s m args below meth c H1 locs (cells + 1) (slots + n) Q (F0 m pc' ls (.ref b :: mst'))) → W p l e R s m args below meth c H locs cells slots Q (F0 m pc ls mst)) : b_OK nm bc mL rt hh T y pc f := by
  refine ⟨fun g _ L st σ r hr => ?_, ?_⟩
  · obtain ⟨pc', st', t, n, F, rfl, -⟩ := h g L st σ r hr
    exact ⟨Nat.le_succ _, Nat.le_add_right _ _⟩
  · intro d p l e R s m args below meth c D tys z wsE ih hc Q c0 s0 L st σ ws H locs ls mst cells slots hH hL hV hcl hsl r hr hcb hsb hK
    obtain ⟨pc', st', t, n, F, rfl, h3⟩ := h _ L st σ r hr
    have hcb : σ.2.1 + 1 ≤ R.cells + c0 := hcb
    have hsb : σ.2.2.1 + n ≤ R.slots + s0 := hsb
    refine h3 d p l e R s m args below meth c D tys z wsE hc Q ws H locs ls mst cells slots hH hV (by omega) (by omega) ?_
    intro b e0 H1 mst' hP hD hS hC hV'
    have hW : b_Wd D tys z wsE s := hc.2.2.2.2.2.2.2.2.2.1
    obtain ⟨g1, g2, g3⟩ := b_Hr_new (σ' := b_nw σ t n F) hW hH hP hD hS rfl (fun a' ha' => by show (if a' = σ.1 then _ else σ.2.2.2 a') = _; rw [if_neg ha']) (by show b_CR _ tys (if σ.1 = σ.1 then _ else _) e0; rw [if_pos rfl]; exact hC _)
    exact hK _ H1 locs ls (.ref b :: mst') (cells + 1) (slots + n) g2 g1 (Lr_mono g2 hL) (VRs_mk ⟨b, g3, rfl⟩ (VRs_mono g2 hV')) (by show cells + 1 + c0 = σ.2.1 + 1; omega) (by show slots + n + s0 = σ.2.2.1 + n; omega)
def b_okd (ty : FieldType) : Bool := match ty with
  | .float => false
  | .double => false
  | _ => true
theorem b_okd_VRt {G : List Nat} {ty : FieldType} (h : b_okd ty = true) : VRt G ty (defaultValue ty) (defaultValue ty) := by
  cases ty <;> first | exact ⟨rfl, rfl, fun _ => rfl⟩ | exact absurd h Bool.false_ne_true
def i_new (t N : Nat) (dfl : List Value) (nx : Nat) : Fn := fun _ L st σ => some (.inl (nx, L, .ref σ.1 :: st, b_nw σ t N (fun k => dfl.getD k .null)))
theorem ok_new {own : String} {idx ci : Nat} {r : vw_C} {dfl : List Value} {ty0 : Nat → FieldType} (hd : decode (bc y) pc = .ok (.new idx, 3)) (hown : own = (nm y).cls) (hr : b_cl[ci]? = some r) (q1 : Cond.classLink own idx r.1 ∈ lw_all) (q2 : Cond.instantiable r.1 r.2.2 ∈ lw_all) (q3 : Cond.initialized r.1 ∈ lw_all)
    (hty : ∀ k, k < r.2.2 → parseFieldDescriptor (r.2.1 k).2.2.1 = some (ty0 k)) (hl : dfl.length = r.2.2) (hdf : ∀ j, j < r.2.2 → b_okd (ty0 j) = true ∧ defaultValue (ty0 j) = dfl.getD j .null) : b_OK nm bc mL rt hh T y pc (i_new (ci + 1) r.2.2 dfl (pc + 3)) :=
  ok_alloc fun g L st σ r' h => by
    cases h
    refine ⟨_, _, _, _, _, rfl, fun d p l e R s m args below meth c D tys z wsE hc Q ws H locs ls mst cells slots hH hV hcb hsb kk => ?_⟩
    subst hown
    obtain ⟨hx, hbc, hfo, hts, -, -, -, -, -, hW, -⟩ := hc
    refine va_new hx hbc hts (b_in ci r hr) ty0 hty hfo (hts _ q1) (hts _ q2) (hts _ q3) hW.1.1 hH.1 hH.2.1 hH.2.2.1 (fun q h => Nat.le_trans hW.2.2.2.2.2.1.1 h) hr (fs := dfl) (fun j hj => (hdf j hj).2) hcb hsb hd fun q H1 hP1 hD1 hS1 => ?_
    refine kk q _ H1 mst hP1 hD1 hS1 (fun G => Or.inr ⟨r, rfl, b_clL hr, hr, hl, fun k hk => ⟨ty0 k, hty k hk, ?_⟩⟩) hV
    show VRt G (ty0 k) (dfl.getD k .null) (dfl.getD k .null)
    rw [← (hdf k hk).2]
    exact b_okd_VRt (hdf k hk).1
theorem ev_new {t N : Nat} {dfl : List Value} (h : b_lk (T y) pc = some (i_new t N dfl nx)) : b_F T d y pc L st σ = b_F T d y nx L (.ref σ.1 :: st) (b_nw σ t N (fun k => dfl.getD k .null)) := b_F_at h
/-- the array class of a type is one -/
theorem b_cA {D : va_G} {tys : List (ClassId × FieldType)} {z : Nat} {wsE : List Nat} {s : State} {cA : ClassId} {t : Nat} {ty : FieldType} (hW : b_Wd D tys z wsE s) (hK : va_K D b_cl (tys ++ [(cA, ty)]) s) (hty : b_tyL[t]? = some ty) : tys[t]? = some (cA, ty) := by
  have h1 : (tys.map (·.2))[t]? = some ty := by rw [hW.1.2]; exact hty
  rw [List.getElem?_map] at h1
  cases hq : tys[t]? with
  | none => rw [hq] at h1; cases h1
  | some q =>
    rw [hq] at h1
    obtain ⟨c', ty'⟩ := q
    have hty' : ty' = ty := Option.some.inj h1
    rw [hty'] at hq ⊢
    have h2 := (hK.2 t (c', ty) (by rw [List.getElem?_append_left (List.getElem?_eq_some_iff.mp hq).1]; exact hq)).2
    have h3 := (hK.2 tys.length (cA, ty) (by rw [List.getElem?_append_right (Nat.le_refl _), Nat.sub_self]; rfl)).2
    have e : s.vm.findClass ("[" ++ ty.toString) = some c' ∧ s.vm.findClass ("[" ++ ty.toString) = some cA := by
      cases ty with
      | object C =>
        obtain ⟨_, _, -, -, -, a4⟩ := h2
        obtain ⟨_, _, -, -, -, b4⟩ := h3
        exact ⟨a4, b4⟩
      | _ => exact ⟨h2, h3⟩
    cases e.1.symm.trans e.2
    rfl
def b_ad (t : Nat) : Value := if t = 4 then .long 0 else if t < 4 then .int 0 else .null
def i_newa (t nx : Nat) : Fn := fun _ L st σ => match st with
  | .int n :: st => if 0 ≤ n.toInt ∧ n.toInt ≤ 100000 then some (.inl (nx, L, .ref σ.1 :: st, b_nw σ (100 + t) n.toInt.toNat (fun _ => b_ad t))) else none
  | _ => none
theorem b_n0 {n : Int32} (h : 0 ≤ n.toInt) : ¬ n < 0 := by
  rw [Int32.lt_iff_toInt_lt]
  have : (0 : Int32).toInt = 0 := rfl
  omega
theorem ok_newa {atype : ArrayType} {t : Nat} {ty : FieldType} {X : Nat → vp_A} (hd : decode (bc y) pc = .ok (.newarray atype, 2)) (hat : newarray.typeOf atype = ty) (hty : b_tyL[t]? = some ty) (q1 : Cond.arrayClass (newarray.typeOf atype) ∈ lw_all) (hX1 : ∀ n, (X n).1 = n) (hX2 : ∀ n cA, vp_cell cA (X n) = arrV cA n (fun _ => defaultValue ty)) (hX3 : ∀ n, b_KO ty (X n)) (hX4 : ∀ n j, b_arr (X n) j = b_ad t) (hX5 : ∀ G, VRt G ty (b_ad t) (b_ad t)) (hcb8 : componentBytes ty ≤ 8) : b_OK nm bc mL rt hh T y pc (i_newa t (pc + 2)) :=
  ok_alloc fun g L st σ r' h => by
    unfold i_newa at h
    split at h
    · split at h
      · next n st0 hn =>
        cases h
        refine ⟨_, _, _, _, _, rfl, fun d p l e R s m args below meth c D tys z wsE hc Q ws H locs ls mst cells slots hH hV hcb hsb kk => ?_⟩
        obtain ⟨_, m1, rfl, h1, hV1⟩ := VRs_cons hV
        cases h1
        obtain ⟨hx, hbc, hfo, hts, -, -, -, -, -, hW, -⟩ := hc
        refine va_newa (a0 := X n.toInt.toNat) (N' := n.toInt.toNat) hx hbc (hts _ q1) hat hW.1.1 hH.1 hH.2.1 hH.2.2.1 (fun q h => Nat.le_trans hW.2.2.2.2.2.1.1 h) (hX2 _) (b_n0 hn.1) rfl ?_ hcb hsb hd fun q cA H1 hK1 hP1 hD1 hS1 => ?_
        · have h8 : n.toInt.toNat * componentBytes ty ≤ 100000 * 8 := Nat.mul_le_mul (by omega) hcb8
          omega
        · refine kk q _ H1 m1 hP1 hD1 hS1 (fun G => Or.inr ⟨t, ty, hty, b_cA hW hK1 hty, rfl, (hX1 _).symm, by rw [hX1]; omega, hX3 _, fun j hj => ?_⟩) hV1
          rw [hX4]
          exact hX5 G
      · cases h
    · cases h
theorem ok_newI (hd : decode (bc y) pc = .ok (.newarray .int, 2)) : b_OK nm bc mL rt hh T y pc (i_newa 3 (pc + 2)) := ok_newa (ty := .int) (X := fun n => (n, .inl fun _ => 0)) hd rfl rfl q255 (fun _ => rfl) (fun _ _ => rfl) (fun _ => ⟨_, rfl⟩) (fun _ _ => rfl) (fun _ => ⟨rfl, rfl, fun _ => rfl⟩) (by decide)
theorem ok_newZ (hd : decode (bc y) pc = .ok (.newarray .boolean, 2)) : b_OK nm bc mL rt hh T y pc (i_newa 0 (pc + 2)) := ok_newa (ty := .boolean) (X := fun n => (n, .inl fun _ => 0)) hd rfl rfl q419 (fun _ => rfl) (fun _ _ => rfl) (fun _ => ⟨_, rfl⟩) (fun _ _ => rfl) (fun _ => ⟨rfl, rfl, fun _ => rfl⟩) (by decide)
theorem ok_newB (hd : decode (bc y) pc = .ok (.newarray .byte, 2)) : b_OK nm bc mL rt hh T y pc (i_newa 1 (pc + 2)) := ok_newa (ty := .byte) (X := fun n => (n, .inl fun _ => 0)) hd rfl rfl q249 (fun _ => rfl) (fun _ _ => rfl) (fun _ => ⟨_, rfl⟩) (fun _ _ => rfl) (fun _ => ⟨rfl, rfl, fun _ => rfl⟩) (by decide)
theorem ok_newS (hd : decode (bc y) pc = .ok (.newarray .short, 2)) : b_OK nm bc mL rt hh T y pc (i_newa 2 (pc + 2)) := ok_newa (ty := .short) (X := fun n => (n, .inl fun _ => 0)) hd rfl rfl q254 (fun _ => rfl) (fun _ _ => rfl) (fun _ => ⟨_, rfl⟩) (fun _ _ => rfl) (fun _ => ⟨rfl, rfl, fun _ => rfl⟩) (by decide)
theorem ok_newL (hd : decode (bc y) pc = .ok (.newarray .long, 2)) : b_OK nm bc mL rt hh T y pc (i_newa 4 (pc + 2)) := ok_newa (ty := .long) (X := fun n => (n, .inr (.inl fun _ => 0))) hd rfl rfl q256 (fun _ => rfl) (fun _ _ => rfl) (fun _ => ⟨_, rfl⟩) (fun _ _ => rfl) (fun _ => ⟨rfl, rfl, fun _ => rfl⟩) (by decide)
theorem ev_newa {t : Nat} {n : Int} (h : b_lk (T y) pc = some (i_newa t nx)) (h0 : 0 ≤ w32 n) (h1 : w32 n ≤ 100000) : b_F T d y pc L (vI n :: st) σ = b_F T d y nx L (.ref σ.1 :: st) (b_nw σ (100 + t) (w32 n).toNat (fun _ => b_ad t)) := by
  rw [b_F_at h]; unfold i_newa vI; dsimp only; rw [if_pos ⟨h0, h1⟩]; rfl
theorem ok_anew {own C : String} {idx t : Nat} (hd : decode (bc y) pc = .ok (.anewarray idx, 3)) (hown : own = (nm y).cls) (hty : b_tyL[t]? = some (.object C)) (h4 : 4 < t) (q1 : Cond.classLink own idx C ∈ lw_all) (q2 : Cond.arrayOver (.object C) ∈ lw_tbl) : b_OK nm bc mL rt hh T y pc (i_newa t (pc + 3)) :=
  ok_alloc fun g L st σ r' h => by
    unfold i_newa at h
    split at h
    · split at h
      · next n st0 hn =>
        cases h
        refine ⟨_, _, _, _, _, rfl, fun d p l e R s m args below meth c D tys z wsE hc Q ws H locs ls mst cells slots hH hV hcb hsb kk => ?_⟩
        obtain ⟨_, m1, rfl, h1, hV1⟩ := VRs_cons hV
        cases h1
        subst hown
        obtain ⟨hx, hbc, hfo, hts, -, -, -, -, -, hW, -⟩ := hc
        refine va_newq (N' := n.toInt.toNat) hx hbc hfo (hts _ q1) (hW.2.2.1 _ q2) hW.1.1 hH.1 hH.2.1 hH.2.2.1 (fun q h => Nat.le_trans hW.2.2.2.2.2.1.1 h) (b_n0 hn.1) rfl (by omega) hcb hsb hd fun q cA H1 hK1 hP1 hD1 hS1 => ?_
        refine kk q _ H1 m1 hP1 hD1 hS1 (fun G => Or.inr ⟨t, .object C, hty, b_cA hW hK1 hty, rfl, rfl, by show n.toInt.toNat < _; omega, ⟨_, rfl⟩, fun j hj => ?_⟩) hV1
        show VRt G (.object C) (b_ad t) .null
        unfold b_ad
        rw [if_neg (by omega), if_neg (by omega)]
        exact ⟨rfl, rfl, fun _ => rfl⟩
      · cases h
    · cases h
/-! reference stores -/
def i_aast (tg : Nat) (ots : List Nat) (nx : Nat) : Fn := fun _ L st σ => match st with
  | .ref v :: .int i :: .ref a :: st => if b_tg σ a = tg ∧ b_E ≤ a ∧ 0 ≤ i.toInt ∧ i.toInt.toNat < b_ln σ a ∧ b_tg σ v ∈ ots then some (.inl (nx, L, st, b_pt σ a i.toInt.toNat (.ref v))) else none
  | .null :: .int i :: .ref a :: st => if b_tg σ a = tg ∧ b_E ≤ a ∧ 0 ≤ i.toInt ∧ i.toInt.toNat < b_ln σ a then some (.inl (nx, L, st, b_pt σ a i.toInt.toNat .null)) else none
  | _ => none
theorem b_up_arr {n : Nat} {f : Nat → Option Nat} {j : Nat} {v : Option Nat} : ∀ i, b_arr (n, .inr (.inr (.inr (.inr (va_up f j v))))) i = if i = j then va_rf v else b_arr (n, .inr (.inr (.inr (.inr f)))) i := by
  intro i
  show va_rf (va_up f j v i) = if i = j then va_rf v else va_rf (f i)
  by_cases h : i = j
  · subst h
    rw [if_pos rfl]
    unfold va_up
    rw [if_pos rfl]
  · rw [if_neg h]
    unfold va_up
    rw [if_neg h]
theorem ok_aast {t : Nat} {E : String} {ots : List Nat} (hd : decode (bc y) pc = .ok (.aastore, 1)) (hty : b_tyL[t]? = some (.object E)) (ho : ∀ o ∈ ots, 0 < o ∧ ∃ r, b_cl[o - 1]? = some r ∧ (r.1 = E ∨ Cond.castable r.1 E ∈ lw_tbl)) : b_OK nm bc mL rt hh T y pc (i_aast (100 + t) ots (pc + 1)) :=
  ok_write fun g L st σ r hr => by
    unfold i_aast at hr
    split at hr
    · split at hr
      · next v i a st0 ht =>
        cases hr
        refine ⟨_, _, _, rfl, rfl, rfl, fun d p l e R s m args below meth c D tys z wsE hc Q ws H locs ls mst cells slots hH hV kk => ?_⟩
        obtain ⟨_, m1, rfl, h1, hV1⟩ := VRs_cons hV
        obtain ⟨_, m2, rfl, h2, hV2⟩ := VRs_cons hV1
        obtain ⟨_, m3, rfl, h3, hV3⟩ := VRs_cons hV2
        have hvv := h1
        obtain ⟨bv, hbv, rfl⟩ := h1
        cases h2
        obtain ⟨b, hb, rfl⟩ := h3
        obtain ⟨hx, hbc, hfo, hts, -, -, -, -, -, hW, -⟩ := hc
        obtain ⟨cA, xa, e1, e2, e3, e4, e5, e6⟩ := b_ent_a hW hH hb ht.2.1 (t := t) (ty := .object E) ht.1 hty
        obtain ⟨n, xa⟩ := xa
        obtain ⟨f, hf⟩ := e5
        have hf : xa = .inr (.inr (.inr (.inr f))) := hf
        subst hf
        obtain ⟨g0, r, g1, g2⟩ := ho _ ht.2.2.2.2
        obtain ⟨cell, c1, c2, c3, c4, -⟩ := b_RDo (b_Hr_rd hts hW hH hbv) (ci := b_tg σ v - 1) (show (σ.2.2.2 v).1 = b_tg σ v - 1 + 1 by show b_tg σ v = _; omega) g1
        have hcls := (hW.1.1.1 _ _ g1).2
        have hany : va_Any E s H bv := by
          refine ⟨cell, c1, c2, ?_, fun comp hcomp => ?_⟩
          · obtain ⟨k1, k2⟩ := hcls
            obtain ⟨kC, k3, -⟩ := k2
            have k5 : cell.cls = D.1 (b_tg σ v - 1) := Option.some.inj (c4.symm.trans k1)
            exact ⟨kC, by rw [k5]; exact k3⟩
          · rcases g2 with g2 | g2
            · rw [g2] at c4
              cases c4.symm.trans hcomp
              exact va_asg _ _
            · obtain ⟨c0, t1, f1, f2, f3⟩ := Cond.castable_spec (va_Nw.use (A := args) rfl (hW.2.1 _ g2 rfl))
              cases c4.symm.trans f1
              cases hcomp.symm.trans f2
              exact f3
        refine va_astqM hx hbc hW.1.1 hH.1 hH.2.1 hH.2.2.1 (a - b_E) t e1 e2 hany (b_vpin ht.2.2.1 (by show i.toInt.toNat < n; have : b_ln σ a = n := e3; rw [← this]; exact ht.2.2.2.1)) hd fun H1 locs1 hP1 hD1 hS1 => ?_
        rw [show i.toNatClampNeg = i.toInt.toNat from rfl] at hP1 hD1
        exact kk _ H1 locs1 m3 (b_G_set e1) (b_Hr_ast (t := t) (ty := .object E) (x' := (n, .inr (.inr (.inr (.inr (va_up f i.toInt.toNat (some bv))))))) hW hH ht.2.1 e1 ht.1 hty e2 e3 e4 e6 rfl ⟨_, rfl⟩ b_up_arr ⟨rfl, hvv, fun z => by cases z⟩ hP1 hD1 hS1) hV3
      · cases hr
    · split at hr
      · next i a st0 ht =>
        cases hr
        refine ⟨_, _, _, rfl, rfl, rfl, fun d p l e R s m args below meth c D tys z wsE hc Q ws H locs ls mst cells slots hH hV kk => ?_⟩
        obtain ⟨_, m1, rfl, h1, hV1⟩ := VRs_cons hV
        obtain ⟨_, m2, rfl, h2, hV2⟩ := VRs_cons hV1
        obtain ⟨_, m3, rfl, h3, hV3⟩ := VRs_cons hV2
        cases h1
        cases h2
        obtain ⟨b, hb, rfl⟩ := h3
        obtain ⟨hx, hbc, hfo, hts, -, -, -, -, -, hW, -⟩ := hc
        obtain ⟨cA, xa, e1, e2, e3, e4, e5, e6⟩ := b_ent_a hW hH hb ht.2.1 (t := t) (ty := .object E) ht.1 hty
        obtain ⟨n, xa⟩ := xa
        obtain ⟨f, hf⟩ := e5
        have hf : xa = .inr (.inr (.inr (.inr f))) := hf
        subst hf
        refine va_astqN hx hbc hW.1.1 hH.1 hH.2.1 hH.2.2.1 (a - b_E) t e1 e2 (b_vpin ht.2.2.1 (by show i.toInt.toNat < n; have : b_ln σ a = n := e3; rw [← this]; exact ht.2.2.2)) hd fun H1 locs1 hP1 hD1 hS1 => ?_
        rw [show i.toNatClampNeg = i.toInt.toNat from rfl] at hP1 hD1
        exact kk _ H1 locs1 m3 (b_G_set e1) (b_Hr_ast (t := t) (ty := .object E) (x' := (n, .inr (.inr (.inr (.inr (va_up f i.toInt.toNat none)))))) hW hH ht.2.1 e1 ht.1 hty e2 e3 e4 e6 rfl ⟨_, rfl⟩ b_up_arr ⟨rfl, rfl, fun z => by cases z⟩ hP1 hD1 hS1) hV3
      · cases hr
    · cases hr
theorem ev_aast {a tg v : Nat} {ots : List Nat} {i : Int} (h : b_lk (T y) pc = some (i_aast tg ots nx)) (ht : b_tg σ a = tg) (hE : b_E ≤ a) (h0 : 0 ≤ w32 i) (h1 : (w32 i).toNat < b_ln σ a) (hv : b_tg σ v ∈ ots) : b_F T d y pc L (.ref v :: vI i :: .ref a :: st) σ = b_F T d y nx L st (b_pt σ a (w32 i).toNat (.ref v)) := by
  rw [b_F_at h]; unfold i_aast vI; dsimp only; rw [if_pos ⟨ht, hE, h0, h1, hv⟩]; rfl
theorem ev_aastN {a tg : Nat} {ots : List Nat} {i : Int} (h : b_lk (T y) pc = some (i_aast tg ots nx)) (ht : b_tg σ a = tg) (hE : b_E ≤ a) (h0 : 0 ≤ w32 i) (h1 : (w32 i).toNat < b_ln σ a) : b_F T d y pc L (.null :: vI i :: .ref a :: st) σ = b_F T d y nx L st (b_pt σ a (w32 i).toNat .null) := by
  rw [b_F_at h]; unfold i_aast vI; dsimp only; rw [if_pos ⟨ht, hE, h0, h1⟩]; rfl
/-! casts of objects -/
def i_cast (ots : List Nat) (nx : Nat) : Fn := fun _ L st σ => match st with
  | .ref a :: st => if b_tg σ a ∈ ots then some (.inl (nx, L, .ref a :: st, σ)) else none
  | .null :: st => some (.inl (nx, L, .null :: st, σ))
  | _ => none
theorem ok_cast {own nam : String} {idx : Nat} {ots : List Nat} (hd : decode (bc y) pc = .ok (.checkcast idx, 3)) (hown : own = (nm y).cls) (q1 : Cond.classLink own idx nam ∈ lw_all) (ho : ∀ o ∈ ots, 0 < o ∧ ∃ r, b_cl[o - 1]? = some r ∧ (r.1 = nam ∨ Cond.castable r.1 nam ∈ lw_tbl)) : b_OK nm bc mL rt hh T y pc (i_cast ots (pc + 3)) :=
  ok_read fun g L st σ r hr => by
    unfold i_cast at hr
    split at hr
    · split at hr
      · next a st0 ht =>
        cases hr
        refine ⟨_, _, rfl, fun d p l e R s m args below meth c D tys z wsE hc Q ws H locs ls mst cells slots hH hV kk => ?_⟩
        obtain ⟨_, m1, rfl, h1, hV1⟩ := VRs_cons hV
        have hvv := h1
        obtain ⟨b, hb, rfl⟩ := h1
        subst hown
        obtain ⟨hx, hbc, hfo, hts, -, -, -, -, -, hW, -⟩ := hc
        obtain ⟨g0, r, g1, g2⟩ := ho _ ht
        obtain ⟨cell, c1, c2, c3, c4, -⟩ := b_RDo (b_Hr_rd hts hW hH hb) (ci := b_tg σ a - 1) (show (σ.2.2.2 a).1 = b_tg σ a - 1 + 1 by show b_tg σ a = _; omega) g1
        rcases g2 with g2 | g2
        · exact va_castE hx hbc hfo (hts _ q1) ⟨cell, c1, c2, by rw [← g2]; exact c4⟩ hd (kk _ (VRs_mk hvv hV1))
        · exact va_castY hx hbc hfo (hts _ q1) (hW.2.1 _ g2 rfl) ⟨cell, c1, c2, c4⟩ hd (kk _ (VRs_mk hvv hV1))
      · cases hr
    · next st0 =>
      cases hr
      refine ⟨_, _, rfl, fun d p l e R s m args below meth c D tys z wsE hc Q ws H locs ls mst cells slots hH hV kk => ?_⟩
      obtain ⟨_, m1, rfl, h1, hV1⟩ := VRs_cons hV
      cases h1
      exact lv_castN hc.1 hc.2.1 hd (kk _ (VRs_mk rfl hV1))
    · cases hr
theorem ev_cast {a : Nat} {ots : List Nat} (h : b_lk (T y) pc = some (i_cast ots nx)) (ht : b_tg σ a ∈ ots) : b_F T d y pc L (.ref a :: st) σ = b_F T d y nx L (.ref a :: st) σ := by
  rw [b_F_at h]; unfold i_cast; dsimp only; rw [if_pos ht]; rfl
/-- java/lang/Object.<init> -/
def i_oinit (nx : Nat) : Fn := fun _ L st σ => match st with
  | .ref _ :: st => if (st.map fun v => v.category).sum ≤ 8 then some (.inl (nx, L, st, σ)) else none
  | _ => none
theorem ok_oinit {own : String} {idx : Nat} (hd : decode (bc y) pc = .ok (.invokespecial idx, 3)) (hown : own = (nm y).cls) (q1 : Cond.methodLink own idx Lib.objectInit ∈ lw_all) (q2 : Cond.instanceMethod Lib.objectInit ∈ lw_all) (q3 : Cond.code Lib.objectInit ⟨#[0xb1]⟩ 1 none ∈ lw_all) : b_OK nm bc mL rt hh T y pc (i_oinit (pc + 3)) := by
  refine ⟨fun g _ L st σ r hr => ?_, ?_⟩
  · unfold i_oinit at hr
    split at hr
    · split at hr
      · cases hr; exact ⟨Nat.le_refl _, Nat.le_refl _⟩
      · cases hr
    · cases hr
  · intro d p l e R s m args below meth c D tys z wsE ih hc Q c0 s0 L st σ ws H locs ls mst cells slots hH hL hV hcl hsl r hr hcb hsb hK
    unfold i_oinit at hr
    split at hr
    · split at hr
      · next a st0 hsum =>
        cases hr
        obtain ⟨_, m1, rfl, h1, hV1⟩ := VRs_cons hV
        obtain ⟨b, hb, rfl⟩ := h1
        subst hown
        obtain ⟨hx, hbc, hfo, hts, hml, -, -, -, -, hW, hfr, hlo, -⟩ := hc
        have hls : ls.size = c.maxLocals := by
          obtain ⟨lv, hlv, -⟩ := id hL
          rw [hml]
          exact hlv.1
        refine W.objInit hx hbc hfo (hts _ q1) (hts _ q2) (hts _ q3) rfl hls rfl hd (by omega) (by rw [VRs_cats hV1]; show 2 * 0 + _ + 12 ≤ R.locals; omega) ?_
        exact hK ws H locs ls m1 cells slots (List.prefix_refl _) hH hL hV1 hcl hsl
      · cases hr
    · cases hr
theorem ev_oinit {a : Nat} (h : b_lk (T y) pc = some (i_oinit nx)) (hs : (st.map fun v => v.category).sum ≤ 8) : b_F T d y pc L (.ref a :: st) σ = b_F T d y nx L st σ := by
  rw [b_F_at h]; unfold i_oinit; dsimp only; rw [if_pos hs]; rfl
end B_OPF
