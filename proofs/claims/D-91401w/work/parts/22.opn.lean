/-! ===== System.arraycopy as an instruction ===== -/
set_option maxRecDepth 100000
def b_cpyS (σ : Sg) (a0 sp a dp n : Nat) : Sg := b_st σ a (fun j => if dp ≤ j ∧ j < dp + n then b_vl σ a0 (sp + (j - dp)) else b_vl σ a j)
section B_OPN
variable {nm : Nat → MethodName} {bc : Nat → ByteArray} {mL : Nat → Nat} {rt : Nat → Option FieldType} {hh : Nat → List (Nat × Nat × Nat × Nat)} {T : Tb} {y pc nx tgt d : Nat} {L : Lc} {st : List Value} {σ : Sg}
theorem b_Hr_st {D : va_G} {tys : List (ClassId × FieldType)} {z : Nat} {wsE : List Nat} {ws : va_W} {s : State} {H H1 : Heap} {locs locs1 : List Loc} (hW : b_Wd D tys z wsE s) (hH : b_Hr D tys z wsE ws s σ H locs) {a b t : Nat} {ty : FieldType} {cA : ClassId} {x x' : vp_A} {F : Nat → Value} (ha : b_E ≤ a) (he : ws[a - b_E]? = some (b, .inl (cA, x))) (ht : (σ.2.2.2 a).1 = 100 + t) (hty : b_tyL[t]? = some ty) (hti : tys[t]? = some (cA, ty)) (hn : (σ.2.2.2 a).2.1 = x.1) (hlt : x.1 < 2147483648)
    (hx1 : x'.1 = x.1) (hKO : b_KO ty x') (hnew : ∀ j, j < x'.1 → VRt (b_G wsE ws) ty (F j) (b_arr x' j))
    (hP : va_P D b_cl (ws.set (a - b_E) (b, .inl (cA, x'))) H1) (hD : va_D (b_A z) (ws.set (a - b_E) (b, .inl (cA, x')))) (hS : va_S (b_A z) s.heap H1 locs1) : b_Hr D tys z wsE (ws.set (a - b_E) (b, .inl (cA, x'))) s (b_st σ a F) H1 locs1 := by
  refine b_Hr_put hW hH ha he hP hD hS rfl (fun a' ha' => ?_) (Or.inr ⟨t, ty, hty, hti, ?_, ?_, by rw [hx1]; exact hlt, hKO, fun i hi => ?_⟩)
  · show (if a' = a then _ else σ.2.2.2 a') = _
    rw [if_neg ha']
  · show (if a = a then _ else σ.2.2.2 a).1 = _
    rw [if_pos rfl]
    exact ht
  · show (if a = a then ((σ.2.2.2 a).1, (σ.2.2.2 a).2.1, _) else σ.2.2.2 a).2.1 = _
    rw [if_pos rfl, hx1]
    exact hn
  · show VRt _ ty ((if a = a then ((σ.2.2.2 a).1, (σ.2.2.2 a).2.1, F) else σ.2.2.2 a).2.2 i) _
    rw [if_pos rfl]
    exact hnew i hi
abbrev b_inR (σ : Sg) (a0 a : Nat) (sp dp n : Int32) : Prop := 0 ≤ sp.toInt ∧ 0 ≤ dp.toInt ∧ 0 ≤ n.toInt ∧ sp.toInt.toNat + n.toInt.toNat ≤ b_ln σ a0 ∧ dp.toInt.toNat + n.toInt.toNat ≤ b_ln σ a
def i_acopy (t nx : Nat) : Fn := fun _ L st σ => match st with
  | .int n :: .int dp :: .ref a :: .int sp :: .ref a0 :: st => if b_E ≤ a ∧ b_E ≤ a0 ∧ b_tg σ a = 100 + t ∧ b_tg σ a0 = 100 + t ∧ b_inR σ a0 a sp dp n ∧ (st.map fun v => v.category).sum ≤ 8 then some (.inl (nx, L, st, b_cpyS σ a0 sp.toInt.toNat a dp.toInt.toNat n.toInt.toNat)) else none
  | _ => none
def i_xcopy (t : Nat) (hc : List (Nat × Nat)) : Fn := fun _ L st σ => match st with
  | .int n :: .int dp :: .ref a :: .int sp :: .ref a0 :: st => if b_E ≤ a ∧ b_E ≤ a0 ∧ b_tg σ a = 100 + t ∧ b_tg σ a0 = 100 + t ∧ ¬ b_inR σ a0 a sp dp n ∧ (st.map fun v => v.category).sum ≤ 8 then b_tx hc 22 3 410 L σ else none
  | _ => none
theorem b_i0 {x : Int32} (h : 0 ≤ x.toInt) : ¬ x < 0 := by
  rw [Int32.lt_iff_toInt_lt]
  have : (0 : Int32).toInt = 0 := rfl
  omega
theorem b_i1 {x : Int32} (h : ¬ x < 0) : 0 ≤ x.toInt := by
  rw [Int32.lt_iff_toInt_lt] at h
  have : (0 : Int32).toInt = 0 := rfl
  omega
theorem b_cpF {ty : FieldType} {n0 n1 : Nat} {sp dp n : Int32} (h : ¬ (0 ≤ sp.toInt ∧ 0 ≤ dp.toInt ∧ 0 ≤ n.toInt ∧ sp.toInt.toNat + n.toInt.toNat ≤ n0 ∧ dp.toInt.toNat + n.toInt.toNat ≤ n1)) : ∃ what, copyFault ty ty n0 n1 sp dp n = some what := by
  unfold copyFault
  split
  · exact ⟨_, rfl⟩
  · next h1 =>
    split
    · exact ⟨_, rfl⟩
    · next h2 =>
      split
      · exact ⟨_, rfl⟩
      · next h3 =>
        split
        · exact ⟨_, rfl⟩
        · next h4 =>
          split
          · exact ⟨_, rfl⟩
          · next h5 =>
            have g1 := b_i1 h1
            have g2 := b_i1 h2
            have g3 := b_i1 h3
            exact absurd ⟨g1, g2, g3, by omega, by omega⟩ h
theorem b_kd {D : va_G} {tys : List (ClassId × FieldType)} {z : Nat} {wsE : List Nat} {s : State} (hW : b_Wd D tys z wsE s) {cA : ClassId} {ty : FieldType} {t : Nat} (h : tys[t]? = some (cA, ty)) (x : vp_A) : (vp_cell cA x).vm = .none ∧ (vp_cell cA x).slots.size = x.1 ∧ ∃ k cm, s.vm.classes[(vp_cell cA x).cls]? = some k ∧ k.kind = .array cm ty := by
  obtain ⟨-, k0, hk0, cm0, hkk0⟩ := (hW.1.1.2 t _ h).1 x.1 (b_arr x)
  rw [vp_cell_arr]
  exact ⟨rfl, arrV_size _ _ _, k0, cm0, hk0, hkk0⟩
theorem b_KOi {ty : FieldType} {x : vp_A} (hil : b_ilike ty = true) (h : b_KO ty x) : ∃ f, x.2 = .inl f := by
  cases ty <;> first | exact h | cases hil
theorem b_KOo {ty : FieldType} {n : Nat} {f : Nat → Int32} (hil : b_ilike ty = true) : b_KO ty (n, .inl f) := by
  cases ty <;> first | exact ⟨_, rfl⟩ | cases hil
theorem ok_acopyI {own : String} {idx t : Nat} {ty : FieldType} (hd : decode (bc y) pc = .ok (.invokestatic idx, 3)) (hown : own = (nm y).cls) (q1 : Cond.methodLink own idx arraycopyName ∈ lw_all) (q2 : Cond.native arraycopyName ∈ lw_all) (q3 : Cond.static arraycopyName ∈ lw_all) (q4 : Cond.initialized "java/lang/System" ∈ lw_all) (hty : b_tyL[t]? = some ty) (hil : b_ilike ty = true) (hrk : refKind ty = false) : b_OK nm bc mL rt hh T y pc (i_acopy t (pc + 3)) := by
  refine ⟨fun g _ L st σ r hr => ?_, ?_⟩
  · unfold i_acopy at hr
    split at hr
    · split at hr
      · cases hr; exact ⟨Nat.le_refl _, Nat.le_refl _⟩
      · cases hr
    · cases hr
  · intro d p l e R s m args below meth c D tys z wsE ih hcx Q c0 s0 L st σ ws H locs ls mst cells slots hH hL hV hcl hsl r hr hcb hsb hK
    unfold i_acopy at hr
    split at hr
    · split at hr
      · next n dp a sp a0 st0 hta =>
        cases hr
        obtain ⟨_, m1, rfl, h1, hV1⟩ := VRs_cons hV
        obtain ⟨_, m2, rfl, h2, hV2⟩ := VRs_cons hV1
        obtain ⟨_, m3, rfl, h3, hV3⟩ := VRs_cons hV2
        obtain ⟨_, m4, rfl, h4, hV4⟩ := VRs_cons hV3
        obtain ⟨_, m5, rfl, h5, hV5⟩ := VRs_cons hV4
        cases h1; cases h2; cases h4
        obtain ⟨b, hb, rfl⟩ := h3
        obtain ⟨b0, hb0, rfl⟩ := h5
        subst hown
        have hsz := b_lsz hcx hL
        obtain ⟨hx, hbc, hfo, hts, -, -, -, -, -, hW, hfr, hlo, -⟩ := hcx
        obtain ⟨gE, gE0, gt, gt0, ⟨i1, i2, i3, i4, i5⟩, gs⟩ := hta
        obtain ⟨cA, xa, e1, e2, e3, e4, e5, e6⟩ := b_ent_a hW hH hb gE (t := t) (ty := ty) gt hty
        obtain ⟨cA0, xa0, f1, f2, f3, f4, f5, f6⟩ := b_ent_a hW hH hb0 gE0 (t := t) (ty := ty) gt0 hty
        obtain ⟨n1, xa⟩ := xa
        obtain ⟨n0, xa0⟩ := xa0
        obtain ⟨g, hg⟩ := b_KOi hil e5
        have hg : xa = .inl g := hg
        subst hg
        obtain ⟨f, hf⟩ := b_KOi hil f5
        have hf : xa0 = .inl f := hf
        subst hf
        have e3 : b_ln σ a = n1 := e3
        have f3 : b_ln σ a0 = n0 := f3
        rw [f3] at i4
        rw [e3] at i5
        have hnw : nativeFrameWords "java/lang/System" "arraycopy" 5 + 11 ≤ 10240 := by decide +kernel
        refine va_copyi hx hbc hsz.symm hfo (hts _ q1) (hts _ q2) (hts _ q3) (hts _ q4) hW.1.1 hH.1 hH.2.1 hH.2.2.1 (a0 - b_E) (a - b_E) t t f1 e1 f2 e2 hrk (b_i0 i1) (b_i0 i2) (b_i0 i3) i4 i5 (fun i hi => ?_) (by omega) (by rw [VRs_cats hV5]; omega) hd fun H1 locs1 hP1 hD1 hS1 => ?_
        · have h9 := (f6 (sp.toInt.toNat + i) (by show _ < n0; have : i < n.toInt.toNat := hi; omega)).1
          exact h9
        · refine hK _ H1 locs1 ls m5 cells slots (by rw [b_G_set e1]; exact List.prefix_refl _) (b_Hr_st (t := t) (ty := ty) (x' := (n1, .inl (va_cpy f g sp.toInt.toNat dp.toInt.toNat n.toInt.toNat))) hW hH gE e1 gt hty e2 e3 e4 rfl ?_ (fun j hj => ?_) hP1 hD1 hS1) (by rw [b_G_set e1]; exact hL) (by rw [b_G_set e1]; exact hV5) hcl hsl
          · exact b_KOo hil
          · show VRt _ _ (if dp.toInt.toNat ≤ j ∧ j < dp.toInt.toNat + n.toInt.toNat then b_vl σ a0 (sp.toInt.toNat + (j - dp.toInt.toNat)) else b_vl σ a j) (.int (va_cpy f g sp.toInt.toNat dp.toInt.toNat n.toInt.toNat j))
            unfold va_cpy
            have hj : j < n1 := hj
            by_cases hin : dp.toInt.toNat ≤ j ∧ j < dp.toInt.toNat + n.toInt.toNat
            · rw [if_pos hin, if_pos hin]
              exact f6 _ (by show _ < n0; omega)
            · rw [if_neg hin, if_neg hin]
              exact e6 _ hj
      · cases hr
    · cases hr
theorem ok_acopyL {own : String} {idx t : Nat} {ty : FieldType} (hd : decode (bc y) pc = .ok (.invokestatic idx, 3)) (hown : own = (nm y).cls) (q1 : Cond.methodLink own idx arraycopyName ∈ lw_all) (q2 : Cond.native arraycopyName ∈ lw_all) (q3 : Cond.static arraycopyName ∈ lw_all) (q4 : Cond.initialized "java/lang/System" ∈ lw_all) (hty : b_tyL[t]? = some ty) (hty4 : ty = .long) (hrk : refKind ty = false) : b_OK nm bc mL rt hh T y pc (i_acopy t (pc + 3)) := by
  refine ⟨fun g _ L st σ r hr => ?_, ?_⟩
  · unfold i_acopy at hr
    split at hr
    · split at hr
      · cases hr; exact ⟨Nat.le_refl _, Nat.le_refl _⟩
      · cases hr
    · cases hr
  · intro d p l e R s m args below meth c D tys z wsE ih hcx Q c0 s0 L st σ ws H locs ls mst cells slots hH hL hV hcl hsl r hr hcb hsb hK
    unfold i_acopy at hr
    split at hr
    · split at hr
      · next n dp a sp a0 st0 hta =>
        cases hr
        obtain ⟨_, m1, rfl, h1, hV1⟩ := VRs_cons hV
        obtain ⟨_, m2, rfl, h2, hV2⟩ := VRs_cons hV1
        obtain ⟨_, m3, rfl, h3, hV3⟩ := VRs_cons hV2
        obtain ⟨_, m4, rfl, h4, hV4⟩ := VRs_cons hV3
        obtain ⟨_, m5, rfl, h5, hV5⟩ := VRs_cons hV4
        cases h1; cases h2; cases h4
        obtain ⟨b, hb, rfl⟩ := h3
        obtain ⟨b0, hb0, rfl⟩ := h5
        subst hown
        have hsz := b_lsz hcx hL
        obtain ⟨hx, hbc, hfo, hts, -, -, -, -, -, hW, hfr, hlo, -⟩ := hcx
        obtain ⟨gE, gE0, gt, gt0, ⟨i1, i2, i3, i4, i5⟩, gs⟩ := hta
        obtain ⟨cA, xa, e1, e2, e3, e4, e5, e6⟩ := b_ent_a hW hH hb gE (t := t) (ty := ty) gt hty
        obtain ⟨cA0, xa0, f1, f2, f3, f4, f5, f6⟩ := b_ent_a hW hH hb0 gE0 (t := t) (ty := ty) gt0 hty
        obtain ⟨n1, xa⟩ := xa
        obtain ⟨n0, xa0⟩ := xa0
        subst hty4
        obtain ⟨g, hg⟩ := e5
        have hg : xa = .inr (.inl g) := hg
        subst hg
        obtain ⟨f, hf⟩ := f5
        have hf : xa0 = .inr (.inl f) := hf
        subst hf
        have e3 : b_ln σ a = n1 := e3
        have f3 : b_ln σ a0 = n0 := f3
        rw [f3] at i4
        rw [e3] at i5
        have hnw : nativeFrameWords "java/lang/System" "arraycopy" 5 + 11 ≤ 10240 := by decide +kernel
        refine va_copyl hx hbc hsz.symm hfo (hts _ q1) (hts _ q2) (hts _ q3) (hts _ q4) hW.1.1 hH.1 hH.2.1 hH.2.2.1 (a0 - b_E) (a - b_E) t t f1 e1 f2 e2 hrk (b_i0 i1) (b_i0 i2) (b_i0 i3) i4 i5 (fun i hi => ?_) (by omega) (by rw [VRs_cats hV5]; omega) hd fun H1 locs1 hP1 hD1 hS1 => ?_
        · have h9 := (f6 (sp.toInt.toNat + i) (by show _ < n0; have : i < n.toInt.toNat := hi; omega)).1
          exact h9
        · refine hK _ H1 locs1 ls m5 cells slots (by rw [b_G_set e1]; exact List.prefix_refl _) (b_Hr_st (t := t) (ty := .long) (x' := (n1, .inr (.inl (va_cpy f g sp.toInt.toNat dp.toInt.toNat n.toInt.toNat)))) hW hH gE e1 gt hty e2 e3 e4 rfl ?_ (fun j hj => ?_) hP1 hD1 hS1) (by rw [b_G_set e1]; exact hL) (by rw [b_G_set e1]; exact hV5) hcl hsl
          · exact ⟨_, rfl⟩
          · show VRt _ _ (if dp.toInt.toNat ≤ j ∧ j < dp.toInt.toNat + n.toInt.toNat then b_vl σ a0 (sp.toInt.toNat + (j - dp.toInt.toNat)) else b_vl σ a j) (.long (va_cpy f g sp.toInt.toNat dp.toInt.toNat n.toInt.toNat j))
            unfold va_cpy
            have hj : j < n1 := hj
            by_cases hin : dp.toInt.toNat ≤ j ∧ j < dp.toInt.toNat + n.toInt.toNat
            · rw [if_pos hin, if_pos hin]
              exact f6 _ (by show _ < n0; omega)
            · rw [if_neg hin, if_neg hin]
              exact e6 _ hj
      · cases hr
    · cases hr
theorem ok_xcopy {own : String} {idx t : Nat} {ty : FieldType} {hc : List (Nat × Nat)} (hd : decode (bc y) pc = .ok (.invokestatic idx, 3)) (hown : own = (nm y).cls) (q1 : Cond.methodLink own idx arraycopyName ∈ lw_all) (q2 : Cond.native arraycopyName ∈ lw_all) (q3 : Cond.static arraycopyName ∈ lw_all) (q4 : Cond.initialized "java/lang/System" ∈ lw_all) (hty : b_tyL[t]? = some ty) (hrk : refKind ty = false) (hkn : (Native.java_lang_System.arraycopy.kindName ty).toList.length ≤ 7) (hHP : b_HP nm hh y pc hc 22) : b_OK nm bc mL rt hh T y pc (i_xcopy t hc) := by
  refine ok_tx (fun g L st σ r hr => ?_) ?_
  · unfold i_xcopy at hr
    split at hr
    · split at hr
      · exact ⟨_, _, _, _, hr⟩
      · cases hr
    · cases hr
  · intro d p l e R s m args below meth c D tys z wsE hcx Q c0 s0 g L st σ ws H locs ls mst cells slots hH hL hV hcl hsl r hr hcb hsb hK
    unfold i_xcopy at hr
    split at hr
    · split at hr
      · next n dp a sp a0 st0 hta =>
        obtain ⟨_, m1, rfl, h1, hV1⟩ := VRs_cons hV
        obtain ⟨_, m2, rfl, h2, hV2⟩ := VRs_cons hV1
        obtain ⟨_, m3, rfl, h3, hV3⟩ := VRs_cons hV2
        obtain ⟨_, m4, rfl, h4, hV4⟩ := VRs_cons hV3
        obtain ⟨_, m5, rfl, h5, hV5⟩ := VRs_cons hV4
        cases h1; cases h2; cases h4
        obtain ⟨b, hb, rfl⟩ := h3
        obtain ⟨b0, hb0, rfl⟩ := h5
        subst hown
        have hsz := b_lsz hcx hL
        have hcx' := hcx
        obtain ⟨hx, hbc, hfo, hts, -, -, hlk, -, hfl, hW, hfr, hlo, -⟩ := hcx'
        obtain ⟨gE, gE0, gt, gt0, gin, gs⟩ := hta
        obtain ⟨cA, xa, e1, e2, e3, e4, -⟩ := b_ent_a hW hH hb gE (t := t) (ty := ty) gt hty
        obtain ⟨cA0, xa0, f1, f2, f3, f4, -⟩ := b_ent_a hW hH hb0 gE0 (t := t) (ty := ty) gt0 hty
        have e3 : b_ln σ a = xa.1 := e3
        have f3 : b_ln σ a0 = xa0.1 := f3
        unfold b_inR at gin
        rw [e3, f3] at gin
        obtain ⟨v1, v2, k1, cm1, v3, v4⟩ := b_kd hW e2 xa
        obtain ⟨u1, u2, k0, cm0, u3, u4⟩ := b_kd hW f2 xa0
        obtain ⟨what, hw⟩ := b_cpF (ty := ty) gin
        have tx := b_cpTx hkn f4 e4 hw
        have hn := tx_cn hr
        exact b_copyX (nb := 400) (A := b_A z) (cs := vp_cell cA0 xa0) (cd := vp_cell cA xa) hx hbc (b_noTr hfl) hsz hfo (hts _ q1) (hts _ q2) (hts _ q3) (hts _ q4) (hH.1 _ _ f1) (hH.1 _ _ e1) u1 v1 u3 v3 u4 v4 hrk (by rw [u2, v2]; exact hw)
          (b_hat hts hW b_aio1 b_aio2) (b_gn_ot b_aio2) hW.2.2.2.2.2.2.2.2.2.2.1 hW.2.2.2.2.2.2.2.2.2.2.2 hH.2.2.1 tx.1 tx.2 (by omega) (by omega) (by rw [VRs_cats hV5]; omega) (by omega) (by omega) hlk hd
          (fun H1 q9 ce g1 g2 g3 g4 g5 g6 => b_vmx hcx hHP rfl hr hH hL hcl hsl hK g2 g3 g4 g5 g6)
      · cases hr
    · cases hr
theorem ev_acopy {a a0 t : Nat} {sp dp n : Int} (h : b_lk (T y) pc = some (i_acopy t nx)) (hE : b_E ≤ a) (hE0 : b_E ≤ a0) (ht : b_tg σ a = 100 + t) (ht0 : b_tg σ a0 = 100 + t) (hin : b_inR σ a0 a (Int32.ofInt sp) (Int32.ofInt dp) (Int32.ofInt n)) (hs : (st.map fun v => v.category).sum ≤ 8) : b_F T d y pc L (vI n :: vI dp :: .ref a :: vI sp :: .ref a0 :: st) σ = b_F T d y nx L st (b_cpyS σ a0 (w32 sp).toNat a (w32 dp).toNat (w32 n).toNat) := by
  rw [b_F_at h]; unfold i_acopy vI; dsimp only; rw [if_pos ⟨hE, hE0, ht, ht0, hin, hs⟩]; rfl
end B_OPN
