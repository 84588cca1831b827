/-! ===== class objects; copying arrays of references; a comparison of equal references ===== -/
set_option maxRecDepth 100000
section B_OPO
variable {nm : Nat → MethodName} {bc : Nat → ByteArray} {mL : Nat → Nat} {rt : Nat → Option FieldType} {hh : Nat → List (Nat × Nat × Nat × Nat)} {T : Tb} {y pc nx tgt d : Nat} {L : Lc} {st : List Value} {σ : Sg}
theorem b_mir {D : va_G} {tys : List (ClassId × FieldType)} {z : Nat} {wsE : List Nat} {s : State} (hW : b_Wd D tys z wsE s) (ws : va_W) : ∃ q, (b_G wsE ws)[41]? = some q ∧ va_Mi "[Ljava/lang/Object;" q s := by
  obtain ⟨q, h1, h2⟩ := hW.2.2.2.2.1.2.2
  exact ⟨q, b_G_ext h1, h2⟩
/-- getClass() of an Object[] -/
def i_getC (nx : Nat) : Fn := fun _ L st σ => match st with
  | .ref a :: st => if b_E ≤ a ∧ b_tg σ a = 112 ∧ (st.map fun v => v.category).sum ≤ 8 then some (.inl (nx, L, .ref 41 :: st, σ)) else none
  | _ => none
def b_gcN : MethodName := ⟨"java/lang/Object", "getClass", "()Ljava/lang/Class;"⟩
theorem ok_getC {own : String} {idx : Nat} (hd : decode (bc y) pc = .ok (.invokevirtual idx, 3)) (hown : own = (nm y).cls) (q1 : Cond.methodLink own idx b_gcN ∈ lw_all) (q2 : Cond.declares b_gcN ∈ lw_tbl) (q3 : Cond.selects "[Ljava/lang/Object;" b_gcN b_gcN ∈ lw_all) (q4 : Cond.instanceMethod b_gcN ∈ lw_all) (q5 : Cond.native b_gcN ∈ lw_all) : b_OK nm bc mL rt hh T y pc (i_getC (pc + 3)) := by
  refine ⟨fun g _ L st σ r hr => ?_, ?_⟩
  · unfold i_getC at hr
    split at hr
    · split at hr
      · cases hr; exact ⟨Nat.le_refl _, Nat.le_refl _⟩
      · cases hr
    · cases hr
  · intro d p l e R s m args below meth c D tys z wsE ih hcx Q c0 s0 L st σ ws H locs ls mst cells slots hH hL hV hcl hsl r hr hcb hsb hK
    unfold i_getC at hr
    split at hr
    · split at hr
      · next a st0 hta =>
        cases hr
        obtain ⟨_, m1, rfl, h1, hV1⟩ := VRs_cons hV
        obtain ⟨b, hb, rfl⟩ := h1
        subst hown
        have hsz := b_lsz hcx hL
        obtain ⟨hx, hbc, hfo, hts, -, -, -, -, -, hW, hfr, hlo, -⟩ := hcx
        obtain ⟨q, g1, g2⟩ := b_mir hW ws
        have hc := b_arrc (t := 12) hW hH hb hta.1 hta.2.1 (by decide)
        have hn : b_aN 12 = "[Ljava/lang/Object;" := by decide +kernel
        rw [hn] at hc
        exact va_getC hx hbc hsz.symm hfo (hts _ q1) (va_Nw.use rfl (hW.2.1 _ q2 rfl)) (hts _ q3) (hts _ q4) (hts _ q5) g2 hc (by omega) (by rw [VRs_cats hV1]; omega) hd
          (hK ws H locs ls (.ref q :: m1) cells slots (List.prefix_refl _) hH hL (VRs_mk ⟨q, g1, rfl⟩ hV1) hcl hsl)
      · cases hr
    · cases hr
theorem ev_getC {a : Nat} (h : b_lk (T y) pc = some (i_getC nx)) (hE : b_E ≤ a) (ht : b_tg σ a = 112) (hs : (st.map fun v => v.category).sum ≤ 8) : b_F T d y pc L (.ref a :: st) σ = b_F T d y nx L (.ref 41 :: st) σ := by
  rw [b_F_at h]; unfold i_getC; dsimp only; rw [if_pos ⟨hE, ht, hs⟩]; rfl
theorem ok_ldcM {own : String} {idx : Nat} (hd : decode (bc y) pc = .ok (.ldc idx, 2)) (hown : own = (nm y).cls) (q1 : Cond.classLink own idx "[Ljava/lang/Object;" ∈ lw_all) : b_OK nm bc mL rt hh T y pc (i_const (.ref 41) (pc + 2)) := by
  refine ⟨fun g _ L st σ r hr => ?_, ?_⟩
  · cases hr; exact ⟨Nat.le_refl _, Nat.le_refl _⟩
  · intro d p l e R s m args below meth c D tys z wsE ih hcx Q c0 s0 L st σ ws H locs ls mst cells slots hH hL hV hcl hsl r hr hcb hsb hK
    cases hr
    subst hown
    obtain ⟨hx, hbc, hfo, hts, -, -, -, -, -, hW, hfr, hlo, -⟩ := hcx
    obtain ⟨q, g1, g2⟩ := b_mir hW ws
    exact va_ldcM hx hbc hfo (hts _ q1) g2 hd (hK ws H locs ls (.ref q :: mst) cells slots (List.prefix_refl _) hH hL (VRs_mk ⟨q, g1, rfl⟩ hV) hcl hsl)
/-- if_acmpne of two references known to be equal -/
def i_acmE (nx : Nat) : Fn := fun _ L st σ => match st with
  | .ref a :: .ref b :: st => if a = b then some (.inl (nx, L, st, σ)) else none
  | _ => none
theorem ok_acmE {off : Int} {tgt : Nat} (hd : decode (bc y) pc = .ok (.if_acmp .ne off, 3)) (ht : (pc : Int) + off = (tgt : Int)) : b_OK nm bc mL rt hh T y pc (i_acmE (pc + 3)) :=
  ok_read fun g L st σ r hr => by
    unfold i_acmE at hr
    split at hr
    · split at hr
      · next a b st0 hab =>
        cases hr
        subst hab
        refine ⟨_, _, rfl, fun d p l e R s m args below meth c D tys z wsE hc Q ws H locs ls mst cells slots hH hV kk => ?_⟩
        obtain ⟨_, m1, rfl, h1, hV1⟩ := VRs_cons hV
        obtain ⟨_, m2, rfl, h2, hV2⟩ := VRs_cons hV1
        obtain ⟨b1, hb1, rfl⟩ := h1
        obtain ⟨b2, hb2, rfl⟩ := h2
        have e : b2 = b1 := Option.some.inj (hb2.symm.trans hb1)
        exact lv_acmp_ne (rx := some b2) (ry := some b1) hc.1 hc.2.1 hd ht (fun h => absurd (by rw [e]) h) (fun _ => kk _ hV2)
      · cases hr
    · cases hr
theorem ev_acmE {a : Nat} (h : b_lk (T y) pc = some (i_acmE nx)) : b_F T d y pc L (.ref a :: .ref a :: st) σ = b_F T d y nx L st σ := by
  rw [b_F_at h]; unfold i_acmE; dsimp only; rw [if_pos rfl]; rfl
def b_okEl (σ : Sg) (ots : List Nat) (v : Value) : Bool := match v with
  | .null => true
  | .ref a => ots.contains (b_tg σ a)
  | _ => false
def i_acopyQ (ots : List Nat) (nx : Nat) : Fn := fun _ L st σ => match st with
  | .int n :: .int dp :: .ref a :: .int sp :: .ref a0 :: st => if b_E ≤ a ∧ b_E ≤ a0 ∧ b_tg σ a = 112 ∧ b_tg σ a0 = 112 ∧ b_inR σ a0 a sp dp n ∧ (st.map fun v => v.category).sum ≤ 8 ∧ (List.range n.toInt.toNat).all (fun i => b_okEl σ ots (b_vl σ a0 (sp.toInt.toNat + i))) = true then some (.inl (nx, L, st, b_cpyS σ a0 sp.toInt.toNat a dp.toInt.toNat n.toInt.toNat)) else none
  | _ => none
theorem ok_acopyQ {own : String} {idx : Nat} {ots : List Nat} (hd : decode (bc y) pc = .ok (.invokestatic idx, 3)) (hown : own = (nm y).cls) (q1 : Cond.methodLink own idx arraycopyName ∈ lw_all) (q2 : Cond.native arraycopyName ∈ lw_all) (q3 : Cond.static arraycopyName ∈ lw_all) (q4 : Cond.initialized "java/lang/System" ∈ lw_all) (ho : ∀ o ∈ ots, 0 < o ∧ ∃ r, b_cl[o - 1]? = some r ∧ Cond.castable r.1 "java/lang/Object" ∈ lw_tbl) : b_OK nm bc mL rt hh T y pc (i_acopyQ ots (pc + 3)) := by
  refine ⟨fun g _ L st σ r hr => ?_, ?_⟩
  · unfold i_acopyQ at hr
    split at hr
    · split at hr
      · cases hr; exact ⟨Nat.le_refl _, Nat.le_refl _⟩
      · cases hr
    · cases hr
  · intro d p l e R s m args below meth c D tys z wsE ih hcx Q c0 s0 L st σ ws H locs ls mst cells slots hH hL hV hcl hsl r hr hcb hsb hK
    unfold i_acopyQ at hr
    split at hr
    · split at hr
      · next n dp a sp a0 st0 hta =>
        cases hr
        obtain ⟨_, m1, rfl, h1, hV1⟩ := VRs_cons hV
        obtain ⟨_, m2, rfl, h2, hV2⟩ := VRs_cons hV1
        obtain ⟨_, m3, rfl, h3, hV3⟩ := VRs_cons hV2
        obtain ⟨_, m4, rfl, h4, hV4⟩ := VRs_cons hV3
        obtain ⟨_, m5, rfl, h5, hV5⟩ := VRs_cons hV4
        cases h1; cases h2; cases h4
        obtain ⟨b, hb, rfl⟩ := h3
        obtain ⟨b0, hb0, rfl⟩ := h5
        subst hown
        have hsz := b_lsz hcx hL
        obtain ⟨hx, hbc, hfo, hts, -, -, -, -, -, hW, hfr, hlo, -⟩ := hcx
        obtain ⟨gE, gE0, gt, gt0, ⟨i1, i2, i3, i4, i5⟩, gs, gel⟩ := hta
        obtain ⟨cA, xa, e1, e2, e3, e4, e5, e6⟩ := b_ent_a hW hH hb gE (t := 12) (ty := .object "java/lang/Object") gt rfl
        obtain ⟨cA0, xa0, f1, f2, f3, f4, f5, f6⟩ := b_ent_a hW hH hb0 gE0 (t := 12) (ty := .object "java/lang/Object") gt0 rfl
        obtain ⟨n1, xa⟩ := xa
        obtain ⟨n0, xa0⟩ := xa0
        obtain ⟨g, hg⟩ := e5
        have hg : xa = .inr (.inr (.inr (.inr g))) := hg
        subst hg
        obtain ⟨f, hf⟩ := f5
        have hf : xa0 = .inr (.inr (.inr (.inr f))) := hf
        subst hf
        have e3 : b_ln σ a = n1 := e3
        have f3 : b_ln σ a0 = n0 := f3
        rw [f3] at i4
        rw [e3] at i5
        have hnw : nativeFrameWords "java/lang/System" "arraycopy" 5 + 11 ≤ 10240 := by decide +kernel
        refine va_copyM hx hbc hsz.symm hfo (hts _ q1) (hts _ q2) (hts _ q3) (hts _ q4) hW.1.1 hH.1 hH.2.1 hH.2.2.1 (a0 - b_E) (a - b_E) 12 12 f1 e1 f2 e2 (b_i0 i1) (b_i0 i2) (b_i0 i3) i4 i5 (fun i hi v hv => ?_) (by omega) (by rw [VRs_cats hV5]; omega) hd fun H1 locs1 hP1 hD1 hS1 => ?_
        · have hi : i < n.toInt.toNat := hi
          have hv : f (sp.toInt.toNat + i) = some v := hv
          have h9 := f6 (sp.toInt.toNat + i) (by show _ < n0; omega)
          have h8 := List.all_eq_true.mp gel i (List.mem_range.mpr hi)
          have h7 : VRt (b_G wsE ws) (.object "java/lang/Object") (b_vl σ a0 (sp.toInt.toNat + i)) (va_rf (f (sp.toInt.toNat + i))) := h9
          rw [hv] at h7
          revert h8 h7
          generalize b_vl σ a0 (sp.toInt.toNat + i) = w
          intro h8 h7
          cases w with
          | ref q =>
            obtain ⟨bv, hbv, hbe⟩ := h7.2.1
            have hbe : Value.ref v = .ref bv := hbe
            cases hbe
            have h8 : ots.contains (b_tg σ q) = true := h8
            have h8 : b_tg σ q ∈ ots := by simpa using h8
            obtain ⟨g0, r, g1, g2⟩ := ho _ h8
            obtain ⟨cell, c1, c2, c3, c4, -⟩ := b_RDo (b_Hr_rd hts hW hH hbv) (ci := b_tg σ q - 1) (show (σ.2.2.2 q).1 = b_tg σ q - 1 + 1 by show b_tg σ q = _; omega) g1
            have hcls := (hW.1.1.1 _ _ g1).2
            refine ⟨cell, c1, c2, ?_, fun comp hcomp => ?_⟩
            · obtain ⟨k1, k2⟩ := hcls
              obtain ⟨kC, k3, -⟩ := k2
              have k5 : cell.cls = D.1 (b_tg σ q - 1) := Option.some.inj (c4.symm.trans k1)
              exact ⟨kC, by rw [k5]; exact k3⟩
            · obtain ⟨c0, t1, w1, w2, w3⟩ := Cond.castable_spec (va_Nw.use (A := args) rfl (hW.2.1 _ g2 rfl))
              cases c4.symm.trans w1
              cases hcomp.symm.trans w2
              exact w3
          | null =>
            have h6 : Value.ref v = .null := h7.2.1
            cases h6
          | _ => cases h8
        · refine hK _ H1 locs1 ls m5 cells slots (by rw [b_G_set e1]; exact List.prefix_refl _) (b_Hr_st (t := 12) (ty := .object "java/lang/Object") (x' := (n1, .inr (.inr (.inr (.inr (va_cpy f g sp.toInt.toNat dp.toInt.toNat n.toInt.toNat)))))) hW hH gE e1 gt rfl e2 e3 e4 rfl ⟨_, rfl⟩ (fun j hj => ?_) hP1 hD1 hS1) (by rw [b_G_set e1]; exact hL) (by rw [b_G_set e1]; exact hV5) hcl hsl
          show VRt _ _ (if dp.toInt.toNat ≤ j ∧ j < dp.toInt.toNat + n.toInt.toNat then b_vl σ a0 (sp.toInt.toNat + (j - dp.toInt.toNat)) else b_vl σ a j) (va_rf (va_cpy f g sp.toInt.toNat dp.toInt.toNat n.toInt.toNat j))
          unfold va_cpy
          have hj : j < n1 := hj
          by_cases hin : dp.toInt.toNat ≤ j ∧ j < dp.toInt.toNat + n.toInt.toNat
          · rw [if_pos hin, if_pos hin]
            exact f6 _ (by show _ < n0; omega)
          · rw [if_neg hin, if_neg hin]
            exact e6 _ hj
      · cases hr
    · cases hr
theorem ev_acopyQ {a a0 : Nat} {ots : List Nat} {sp dp n : Int} (h : b_lk (T y) pc = some (i_acopyQ ots nx)) (hE : b_E ≤ a) (hE0 : b_E ≤ a0) (ht : b_tg σ a = 112) (ht0 : b_tg σ a0 = 112) (hin : b_inR σ a0 a (Int32.ofInt sp) (Int32.ofInt dp) (Int32.ofInt n)) (hs : (st.map fun v => v.category).sum ≤ 8) (hel : ∀ i, i < (w32 n).toNat → b_okEl σ ots (b_vl σ a0 ((w32 sp).toNat + i)) = true) : b_F T d y pc L (vI n :: vI dp :: .ref a :: vI sp :: .ref a0 :: st) σ = b_F T d y nx L st (b_cpyS σ a0 (w32 sp).toNat a (w32 dp).toNat (w32 n).toNat) := by
  rw [b_F_at h]; unfold i_acopyQ vI; dsimp only
  rw [if_pos ⟨hE, hE0, ht, ht0, hin, hs, List.all_eq_true.mpr fun i hi => hel i (List.mem_range.mp hi)⟩]; rfl
end B_OPO
