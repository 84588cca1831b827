/-! ===== new Wrong() as one instruction ===== -/
set_option maxRecDepth 100000
def b_wrL : List Cond := (b_wrA "BoneYard$Reader" 59 "BoneYard$Wrong" ["java/lang/Exception"] "BoneYard").filter vx_no
theorem b_wr1 : b_inT b_wrL = true := by decide +kernel
theorem b_wr2 : b_gn b_wrL = true := by decide +kernel
theorem b_wr3 : b_inT [Cond.classLink "BoneYard$Reader" 57 "BoneYard$Wrong", Cond.initialized "BoneYard$Wrong"] = true := by decide +kernel
theorem b_wr4 : b_gn [Cond.classLink "BoneYard$Reader" 57 "BoneYard$Wrong", Cond.initialized "BoneYard$Wrong"] = true := by decide +kernel
def b_wrLs : List Cond := (List.range 8).map fun k => Cond.lays "BoneYard$Wrong" (TX2 k).1 (TX2 k).2.1 (TX2 k).2.2.1
theorem b_wr5 : b_inT b_wrLs = true := by decide +kernel
theorem b_wr6 : (b_wrLs.all fun w => goodWord w) = true := by decide +kernel
theorem b_wr7 : ∀ k, k < 8 → (∃ ty, parseFieldDescriptor (TX2 k).2.2.1 = some ty) ∧ Cond.lays "BoneYard$Wrong" (TX2 k).1 (TX2 k).2.1 (TX2 k).2.2.1 ∈ lw_all := by
  intro k hk
  have hm : Cond.lays "BoneYard$Wrong" (TX2 k).1 (TX2 k).2.1 (TX2 k).2.2.1 ∈ b_wrLs := List.mem_map.mpr ⟨k, List.mem_range.mpr hk, rfl⟩
  exact ⟨⟨_, tyX2_ok k hk⟩, List.mem_filter.mpr ⟨b_inT_of b_wr5 hm, List.all_eq_true.mp b_wr6 _ hm⟩⟩
def b_wrF : Nat → Value := fun k => if k < 5 then .float 2 else .int 0
theorem b_wrT : ∀ k, k < 8 → (k < 5 → (tyX2 k).isReference = true ∧ defaultValue (tyX2 k) = .null) ∧ (¬ k < 5 → tyX2 k = .int ∧ (TX2 k).2.1 ≠ "cause" ∧ (TX2 k).2.1 ≠ "stackTrace" ∧ (TX2 k).2.1 ≠ "suppressedExceptions") := by decide +kernel
theorem b_refFits {t : FieldType} (h : t.isReference = true) {v : Value} (hv : v = .null ∨ ∃ a, v = .ref a) : fits t v = true := Jvm.Free.Multi.refFits h v hv
theorem b_isRef {v : Value} (h : v.isRef = true) : v = .null ∨ ∃ a, v = .ref a := by
  cases v with
  | null => exact Or.inl rfl
  | ref a => exact Or.inr ⟨a, rfl⟩
  | _ => cases h
section B_OPR
variable {nm : Nat → MethodName} {bc : Nat → ByteArray} {mL : Nat → Nat} {rt : Nat → Option FieldType} {hh : Nat → List (Nat × Nat × Nat × Nat)} {T : Tb} {y pc nx tgt d : Nat} {L : Lc} {st : List Value} {σ : Sg}
def i_newW (nx : Nat) : Fn := fun _ L st σ => if (st.map fun v => v.category).sum ≤ 8 then some (.inl (nx, L, .ref σ.1 :: st, b_nw σ 3 8 b_wrF)) else none
theorem ok_newW (d0 : decode (bc y) pc = .ok (.new 57, 3)) (d3 : decode (bc y) (pc + 3) = .ok (.dup, 1)) (d4 : decode (bc y) (pc + 4) = .ok (.invokespecial 59, 3)) (hown : (nm y).cls = "BoneYard$Reader") : b_OK nm bc mL rt hh T y pc (i_newW (pc + 7)) := by
  refine ⟨fun g _ L st σ r hr => ?_, ?_⟩
  · unfold i_newW at hr
    split at hr
    · cases hr; exact ⟨Nat.le_succ _, Nat.le_add_right _ _⟩
    · cases hr
  · intro d p l e R s m args below meth c D tys z wsE ih hcx Q c0 s0 L st σ ws H locs ls mst cells slots hH hL hV hcl hsl r hr hcb hsb hK
    unfold i_newW at hr
    split at hr
    · next hs =>
      cases hr
      have hsz := b_lsz hcx hL
      obtain ⟨hx, hbc, hfo, hts, -, -, -, -, hfl, hW, hfr, hlo, -⟩ := hcx
      have hcb : σ.2.1 + 1 ≤ R.cells + c0 := hcb
      have hsb : σ.2.2.1 + 8 ≤ R.slots + s0 := hsb
      rw [hown] at hfo
      refine b_makeN (A := b_A z) (own := "BoneYard$Reader") (host := "BoneYard") (cls := "BoneYard$Wrong") (names := ["java/lang/Exception"]) (ik := 57) (ic := 59) (ci := 2) (T0 := TX2) (N := 8) (D := D) (cl := b_cl) (tys := tys) (ws := ws) hx hbc (b_noTr hfl) b_wr7 hts hfo (by decide +kernel) (by decide +kernel)
        (b_hat hts hW b_wr3 b_wr4 _ List.mem_cons_self) (b_hat hts hW b_wr3 b_wr4 _ (List.mem_cons_of_mem _ List.mem_cons_self)) (b_hat hts hW b_wr1 b_wr2) (fun w hw => ?_)
        hW.2.2.2.2.2.2.2.2.2.2.1 hW.2.2.2.2.2.2.2.2.2.2.2 hH.2.2.1 hsz d0 d3 d4 hW.1.1 hH.1 hH.2.1 (fun q h => Nat.le_trans hW.2.2.2.2.2.1.1 h) rfl (by show 1 + 3 < R.frames; omega) (by rw [VRs_cats hV]; show _ + (13 * (1 + 1) + 42) ≤ R.locals; omega) (by omega) (by omega) (fun q H1 fs hl hfs hP1 hD1 hS1 => ?_)
      · rcases List.mem_cons.mp hw with e | hw
        · exact b_gn_ot b_wr4 _ (by rw [e]; exact List.mem_cons_self)
        · rcases List.mem_cons.mp hw with e | hw
          · exact b_gn_ot b_wr4 _ (by rw [e]; exact List.mem_cons_of_mem _ List.mem_cons_self)
          · exact b_gn_ot b_wr2 _ hw
      · obtain ⟨g1, g2, g3⟩ := b_Hr_new (σ' := b_nw σ 3 8 b_wrF) (e := .inr (2, fs)) hW hH hP1 hD1 hS1 rfl (fun a' ha' => by show (if a' = σ.1 then _ else σ.2.2.2 a') = _; rw [if_neg ha']) (by
          show b_CR _ tys (if σ.1 = σ.1 then (3, 8, b_wrF) else σ.2.2.2 σ.1) _
          rw [if_pos rfl]
          refine Or.inr ⟨(RX2, TX2, 8), rfl, by decide, rfl, hl, fun k hk => ⟨tyX2 k, tyX2_ok k hk, ?_⟩⟩
          obtain ⟨h1, h2⟩ := hfs k hk _ (tyX2_ok k hk)
          obtain ⟨t1, t2⟩ := b_wrT k hk
          show VRt _ (tyX2 k) (if k < 5 then .float 2 else .int 0) (fs.getD k .null)
          by_cases h5 : k < 5
          · rw [if_pos h5]
            obtain ⟨t3, t4⟩ := t1 h5
            have h3 : fs.getD k .null = .null ∨ ∃ a, fs.getD k .null = .ref a := by
              rcases h1 with h | h
              · exact Or.inl (h.trans t4)
              · exact b_isRef h
            refine ⟨b_refFits t3 h3, h3, fun hp => ?_⟩
            revert t3 hp
            cases tyX2 k <;> first | (intro a b; exact absurd a Bool.false_ne_true) | (intro a b; exact absurd b Bool.false_ne_true)
          · rw [if_neg h5]
            obtain ⟨t3, t4, t5, t6⟩ := t2 h5
            rw [h2 t4 t5 t6, t3]
            exact ⟨rfl, rfl, fun _ => rfl⟩)
        exact hK _ H1 locs ls (.ref q :: mst) (cells + 1) (slots + 8) g2 g1 (Lr_mono g2 hL) (VRs_mk ⟨q, g3, rfl⟩ (VRs_mono g2 hV)) (by show cells + 1 + c0 = σ.2.1 + 1; omega) (by show slots + 8 + s0 = σ.2.2.1 + 8; omega)
    · cases hr
theorem ev_newW (h : b_lk (T y) pc = some (i_newW nx)) (hs : (st.map fun v => v.category).sum ≤ 8) : b_F T d y pc L st σ = b_F T d y nx L (.ref σ.1 :: st) (b_nw σ 3 8 b_wrF) := by
  rw [b_F_at h]; unfold i_newW; rw [if_pos hs]; rfl
end B_OPR
