/-! ===== instanceof and casts of arrays; stores, casts and new arrays that throw ===== -/
set_option maxRecDepth 100000
def b_fl (w : Cond) : Bool := (flatC (Jvm.Cond.and given_1 narrow_1)).any fun v => decide (v = w)
theorem b_fl_of {w : Cond} (h : b_fl w = true) : w ∈ flatC (Jvm.Cond.and given_1 narrow_1) := by
  obtain ⟨v, hv, h2⟩ := List.any_eq_true.mp h
  rw [← of_decide_eq_true h2]
  exact hv
def b_aN (t : Nat) : String := match b_tyL[t]? with
  | some ty => "[" ++ ty.toString
  | none => ""
theorem b_RAn {s : State} {cA : ClassId} {ty : FieldType} (h : va_RA s cA ty) : s.vm.findClass ("[" ++ ty.toString) = some cA := by
  cases ty with
  | object C =>
    obtain ⟨_, _, -, -, -, a4⟩ := h
    exact a4
  | _ => exact h
theorem b_out {i : Int32} {n : Nat} (h : ¬ (0 ≤ i.toInt ∧ i.toInt.toNat < n)) : ¬ vp_in i n := by
  intro h1
  unfold vp_in at h1
  by_cases h2 : i < 0
  · exact h1 (Or.inl h2)
  · refine h ⟨?_, ?_⟩
    · have h3 : ¬ i.toInt < 0 := fun h4 => h2 (Int32.lt_iff_toInt_lt.mpr (by simpa using h4))
      omega
    · refine Nat.lt_of_not_le fun h3 => h1 (Or.inr ?_)
      rw [w32_clamp h2]
      exact h3
section B_OPL
variable {nm : Nat → MethodName} {bc : Nat → ByteArray} {mL : Nat → Nat} {rt : Nat → Option FieldType} {hh : Nat → List (Nat × Nat × Nat × Nat)} {T : Tb} {y pc nx tgt d : Nat} {L : Lc} {st : List Value} {σ : Sg}
theorem b_arrc {D : va_G} {tys : List (ClassId × FieldType)} {z : Nat} {wsE : List Nat} {s : State} {ws : va_W} {H : Heap} {locs : List Loc} {a b t : Nat} (hW : b_Wd D tys z wsE s) (hH : b_Hr D tys z wsE ws s σ H locs) (hb : (b_G wsE ws)[a]? = some b) (ha : b_E ≤ a) (ht : b_tg σ a = 100 + t) (htl : t < 14) : ∃ cell : Cell, H[b]? = some cell ∧ cell.vm.isStatics = false ∧ s.vm.findClass (b_aN t) = some cell.cls := by
  obtain ⟨ty, hty⟩ : ∃ ty, b_tyL[t]? = some ty := ⟨b_tyL[t]'htl, List.getElem?_eq_getElem htl⟩
  obtain ⟨cA, xa, e1, e2, -⟩ := b_ent_a hW hH hb ha ht hty
  have h1 : H[b]? = some (vp_cell cA xa) := hH.1 _ _ e1
  rw [vp_cell_arr] at h1
  refine ⟨_, h1, rfl, ?_⟩
  have h2 := b_RAn (hW.1.1.2 t _ e2).2
  have h3 : b_aN t = "[" ++ ty.toString := by unfold b_aN; rw [hty]
  rw [h3, h2]
  rfl
/-- instanceof of an array class -/
def i_inst (t : Nat) (no : List Nat) (nx : Nat) : Fn := fun _ L st σ => match st with
  | .ref a :: st => if b_E ≤ a then (if b_tg σ a = 100 + t then some (.inl (nx, L, .int 1 :: st, σ)) else if b_tg σ a ∈ no then some (.inl (nx, L, .int 0 :: st, σ)) else none) else none
  | .null :: st => some (.inl (nx, L, .int 0 :: st, σ))
  | _ => none
theorem ok_inst {own nam : String} {idx t : Nat} {no : List Nat} (hd : decode (bc y) pc = .ok (.instanceof idx, 3)) (hown : own = (nm y).cls) (q1 : Cond.classLink own idx nam ∈ lw_all) (hn : b_aN t = nam) (ht : t < 14) (hno : ∀ o ∈ no, ∃ t', o = 100 + t' ∧ t' < 14 ∧ Cond.not (.castable (b_aN t') nam) ∈ flatC (Jvm.Cond.and given_1 narrow_1)) : b_OK nm bc mL rt hh T y pc (i_inst t no (pc + 3)) :=
  ok_read fun g L st σ r hr => by
    unfold i_inst at hr
    split at hr
    · next a st0 =>
      split at hr
      · next hE =>
        split at hr
        · next hta =>
          cases hr
          refine ⟨_, _, rfl, fun d p l e R s m args below meth c D tys z wsE hc Q ws H locs ls mst cells slots hH hV kk => ?_⟩
          obtain ⟨_, m1, rfl, h1, hV1⟩ := VRs_cons hV
          obtain ⟨b, hb, rfl⟩ := h1
          subst hown; subst hn
          obtain ⟨hx, hbc, hfo, hts, -, -, -, -, -, hW, -⟩ := hc
          exact va_instE hx hbc hfo (hts _ q1) (b_arrc hW hH hb hE hta ht) hd (kk _ (VRs_mk rfl hV1))
        · split at hr
          · next hta =>
            cases hr
            refine ⟨_, _, rfl, fun d p l e R s m args below meth c D tys z wsE hc Q ws H locs ls mst cells slots hH hV kk => ?_⟩
            obtain ⟨_, m1, rfl, h1, hV1⟩ := VRs_cons hV
            obtain ⟨b, hb, rfl⟩ := h1
            subst hown; subst hn
            obtain ⟨hx, hbc, hfo, hts, -, -, -, -, -, hW, -⟩ := hc
            obtain ⟨t', e1, e2, e3⟩ := hno _ hta
            exact va_instNo hx hbc hfo (hts _ q1) (hW.2.2.2.2.1.1 _ _ e3) (b_arrc hW hH hb hE e1 e2) hd (kk _ (VRs_mk rfl hV1))
          · cases hr
      · cases hr
    · next st0 =>
      cases hr
      refine ⟨_, _, rfl, fun d p l e R s m args below meth c D tys z wsE hc Q ws H locs ls mst cells slots hH hV kk => ?_⟩
      obtain ⟨_, m1, rfl, h1, hV1⟩ := VRs_cons hV
      cases h1
      exact lv_instN hc.1 hc.2.1 hd (kk _ (VRs_mk rfl hV1))
    · cases hr
theorem ev_instY {a t : Nat} {no : List Nat} (h : b_lk (T y) pc = some (i_inst t no nx)) (hE : b_E ≤ a) (ht : b_tg σ a = 100 + t) : b_F T d y pc L (.ref a :: st) σ = b_F T d y nx L (vI 1 :: st) σ := by
  rw [b_F_at h]; unfold i_inst; dsimp only; rw [if_pos hE, if_pos ht]; rfl
theorem ev_instNo {a t : Nat} {no : List Nat} (h : b_lk (T y) pc = some (i_inst t no nx)) (hE : b_E ≤ a) (ht : b_tg σ a ≠ 100 + t) (hn : b_tg σ a ∈ no) : b_F T d y pc L (.ref a :: st) σ = b_F T d y nx L (vI 0 :: st) σ := by
  rw [b_F_at h]; unfold i_inst; dsimp only; rw [if_pos hE, if_neg ht, if_pos hn]; rfl
theorem ev_instN {t : Nat} {no : List Nat} (h : b_lk (T y) pc = some (i_inst t no nx)) : b_F T d y pc L (.null :: st) σ = b_F T d y nx L (vI 0 :: st) σ := b_F_at h
/-- a cast to an array class that comes through -/
def i_cstA (t nx : Nat) : Fn := fun _ L st σ => match st with
  | .ref a :: st => if b_E ≤ a ∧ b_tg σ a = 100 + t then some (.inl (nx, L, .ref a :: st, σ)) else none
  | .null :: st => some (.inl (nx, L, .null :: st, σ))
  | _ => none
theorem ok_cstA {own nam : String} {idx t : Nat} (hd : decode (bc y) pc = .ok (.checkcast idx, 3)) (hown : own = (nm y).cls) (q1 : Cond.classLink own idx nam ∈ lw_all) (hn : b_aN t = nam) (ht : t < 14) : b_OK nm bc mL rt hh T y pc (i_cstA t (pc + 3)) :=
  ok_read fun g L st σ r hr => by
    unfold i_cstA at hr
    split at hr
    · split at hr
      · next a st0 hta =>
        cases hr
        refine ⟨_, _, rfl, fun d p l e R s m args below meth c D tys z wsE hc Q ws H locs ls mst cells slots hH hV kk => ?_⟩
        obtain ⟨_, m1, rfl, h1, hV1⟩ := VRs_cons hV
        have hvv := h1
        obtain ⟨b, hb, rfl⟩ := h1
        subst hown; subst hn
        obtain ⟨hx, hbc, hfo, hts, -, -, -, -, -, hW, -⟩ := hc
        exact va_castE hx hbc hfo (hts _ q1) (b_arrc hW hH hb hta.1 hta.2 ht) hd (kk _ (VRs_mk hvv hV1))
      · cases hr
    · next st0 =>
      cases hr
      refine ⟨_, _, rfl, fun d p l e R s m args below meth c D tys z wsE hc Q ws H locs ls mst cells slots hH hV kk => ?_⟩
      obtain ⟨_, m1, rfl, h1, hV1⟩ := VRs_cons hV
      cases h1
      exact lv_castN hc.1 hc.2.1 hd (kk _ (VRs_mk rfl hV1))
    · cases hr
theorem ev_cstA {a t : Nat} (h : b_lk (T y) pc = some (i_cstA t nx)) (hE : b_E ≤ a) (ht : b_tg σ a = 100 + t) : b_F T d y pc L (.ref a :: st) σ = b_F T d y nx L (.ref a :: st) σ := by
  rw [b_F_at h]; unfold i_cstA; dsimp only; rw [if_pos ⟨hE, ht⟩]; rfl
theorem ev_cstN {t : Nat} (h : b_lk (T y) pc = some (i_cstA t nx)) : b_F T d y pc L (.null :: st) σ = b_F T d y nx L (.null :: st) σ := b_F_at h
/-- a handler's astore of what nothing is known of -/
def i_stU (i nx : Nat) : Fn := fun _ L st σ => match st with
  | .float q :: st => if q = 2 then some (.inl (nx, b_set i L (.float 2), st, σ)) else none
  | _ => none
theorem ok_wstU {i : Nat} (hd : decode (bc y) pc = .ok (.astore i, 2)) (hn : i < mL y) : b_OK nm bc mL rt hh T y pc (i_stU i (pc + 2)) :=
  ok_frm fun g L st σ r hr => by
    unfold i_stU at hr
    split at hr
    · split at hr
      · next q st0 hq =>
        cases hr
        subst hq
        refine ⟨_, _, _, rfl, fun G ls mst hL hV p l e R s m args below meth c H locs cells slots Q hx hb k => ?_⟩
        obtain ⟨w, m1, rfl, h1, hV1⟩ := VRs_cons hV
        obtain ⟨lv, hlv, hre⟩ := hL
        have h2 : w = .null ∨ ∃ b, w = .ref b := h1
        rcases h2 with rfl | ⟨b, rfl⟩
        · exact lv_astoreN hx hb hd hlv hn rfl (fun ls hl => k ls _ (Lr_set1 hre h1 rfl (by simp [b_h2]) rfl hl) hV1)
        · exact lv_astore hx hb hd hlv hn rfl (fun ls hl => k ls _ (Lr_set1 hre h1 rfl (by simp [b_h2]) rfl hl) hV1)
      · cases hr
    · cases hr
theorem ok_nstU {i : Nat} {k : Fin 4} (hd : decode (bc y) pc = .ok (.astore_n k, 1)) (hi : (k : Nat) = i) (hn : i < mL y) : b_OK nm bc mL rt hh T y pc (i_stU i (pc + 1)) :=
  ok_frm fun g L st σ r hr => by
    unfold i_stU at hr
    split at hr
    · split at hr
      · next q st0 hq =>
        cases hr
        subst hq
        refine ⟨_, _, _, rfl, fun G ls mst hL hV p l e R s m args below meth c H locs cells slots Q hx hb k => ?_⟩
        obtain ⟨w, m1, rfl, h1, hV1⟩ := VRs_cons hV
        obtain ⟨lv, hlv, hre⟩ := hL
        have h2 : w = .null ∨ ∃ b, w = .ref b := h1
        rcases h2 with rfl | ⟨b, rfl⟩
        · exact lv_astore_nN hx hb hd hi hlv hn rfl (fun ls hl => k ls _ (Lr_set1 hre h1 rfl (by simp [b_h2]) rfl hl) hV1)
        · exact lv_astore_n hx hb hd hi hlv hn rfl (fun ls hl => k ls _ (Lr_set1 hre h1 rfl (by simp [b_h2]) rfl hl) hV1)
      · cases hr
    · cases hr
theorem ev_stU {i : Nat} (h : b_lk (T y) pc = some (i_stU i nx)) : b_F T d y pc L (.float 2 :: st) σ = b_F T d y nx (b_set i L (.float 2)) st σ := b_F_at h
/-- a cast to an array class that fails -/
def i_xcst (bad : List Nat) (hc : List (Nat × Nat)) : Fn := fun _ L st σ => match st with
  | .ref a :: st => if b_E ≤ a ∧ b_tg σ a ∈ bad ∧ (st.map fun v => v.category).sum ≤ 8 then b_tx hc 23 3 1010 L σ else none
  | _ => none
theorem ok_tx {f : Fn} (h1 : ∀ g L st σ r, f g L st σ = some r → ∃ hc ci dc ds, b_tx hc ci dc ds L σ = some r)
    (h : ∀ (d : Nat) (p : Program) (l : Launch) (e : Env) (R : Room) (s : State) (m : MethodId) (args : Array Value) (below : List Frame) (meth : Method) (c : Code) (D : va_G) (tys : List (ClassId × FieldType)) (z : Nat) (wsE : List Nat),
    b_Cx nm bc mL rt hh y d p l R s m args meth c D tys z wsE → ∀ (Q : State → Prop) (c0 s0 : Nat) (g : Gm) (L : Lc) (st : List Value) (σ : Sg) (ws : va_W) (H : Heap) (locs : List Loc) (ls : Array Slot) (mst : List Value) (cells slots : Nat), b_Hr D tys z wsE ws s σ H locs → b_Lr (b_G wsE ws) L ls (mL y) → VRs (b_G wsE ws) st mst → cells + c0 = σ.2.1 → slots + s0 = σ.2.2.1 →
    ∀ r, f g L st σ = some r → b_cn r ≤ R.cells + c0 → b_sn r ≤ R.slots + s0 → b_Kn bc mL rt y p l e R s m args below meth c D tys z wsE ws Q c0 s0 r → W p l e R s m args below meth c H locs cells slots Q (F0 m pc ls mst)) : b_OK nm bc mL rt hh T y pc f := by
  refine ⟨fun g _ L st σ r hr => ?_, ?_⟩
  · obtain ⟨hc, ci, dc, ds, h2⟩ := h1 g L st σ r hr
    have h3 := tx_cn h2
    omega
  · intro d p l e R s m args below meth c D tys z wsE ih hc Q c0 s0 L st σ ws H locs ls mst cells slots hH hL hV hcl hsl r hr hcb hsb hK
    exact h d p l e R s m args below meth c D tys z wsE hc Q c0 s0 _ L st σ ws H locs ls mst cells slots hH hL hV hcl hsl r hr hcb hsb hK
theorem ok_xcst {own nam : String} {idx t : Nat} {bad : List Nat} {hc : List (Nat × Nat)} (hd : decode (bc y) pc = .ok (.checkcast idx, 3)) (hown : own = (nm y).cls) (q1 : Cond.classLink own idx nam ∈ lw_all) (hn : b_aN t = nam) (hp : castPackages_1.contains (packageOf nam) = true) (hl : (dotted nam).toList.length ≤ 4) (hbad : ∀ o ∈ bad, ∃ t', o = 100 + t' ∧ t' < 14 ∧ Cond.not (.castable (b_aN t') nam) ∈ flatC (Jvm.Cond.and given_1 narrow_1) ∧ castPackages_1.contains (packageOf (b_aN t')) = true ∧ (dotted (b_aN t')).toList.length ≤ 4)
    (hHP : b_HP nm hh y pc hc 23) : b_OK nm bc mL rt hh T y pc (i_xcst bad hc) := by
  refine ok_tx (fun g L st σ r hr => ?_) ?_
  · unfold i_xcst at hr
    split at hr
    · split at hr
      · exact ⟨_, _, _, _, hr⟩
      · cases hr
    · cases hr
  · intro d p l e R s m args below meth c D tys z wsE hcx Q c0 s0 g L st σ ws H locs ls mst cells slots hH hL hV hcl hsl r hr hcb hsb hK
    unfold i_xcst at hr
    split at hr
    · split at hr
      · next a st0 hta =>
        obtain ⟨_, m1, rfl, h1, hV1⟩ := VRs_cons hV
        obtain ⟨b, hb, rfl⟩ := h1
        subst hown
        have hcx' := hcx
        obtain ⟨hx, hbc, hfo, hts, -, -, -, -, -, hW, -⟩ := hcx'
        obtain ⟨t', e1, e2, e3, e4, e5⟩ := hbad _ hta.2.1
        refine b_castX hx hbc hfo (hts _ q1) (hW.2.2.2.2.1.1 _ _ e3) (b_arrc hW hH hb hta.1 e1 e2) hd fun vm' ks kt hWv _ hks hkt => ?_
        have hm : (vm'.modules.all fun m => m.loader.isSome || m.name == "java.base" || !(castPackages_1.any fun p => m.packages.contains p)) = true := by
          have e := hWv.1
          rw [e]
          exact hW.2.2.2.2.1.2.1
        obtain ⟨q, hq1, hq2⟩ := hks
        obtain ⟨q', hq1', hq2'⟩ := hkt
        obtain ⟨k1, g1, g2, g3, g4⟩ := b_fcS hq1
        obtain ⟨k2, f1, f2, f3, f4⟩ := b_fcS hq1'
        cases hq2.symm.trans g1
        cases hq2'.symm.trans f1
        have tx := b_ccTx hm g4 f4 (by rw [g2]; exact e4) (by rw [f2]; exact hp) (by unfold Class.shown; rw [g3, g2]; exact e5) (by unfold Class.shown; rw [f3, f2]; exact hl)
        exact b_msg (names := b_rteN) hcx (by decide +kernel) (by decide +kernel) (by decide +kernel) (by decide +kernel) b_cce1 b_cce2 (by decide) tx.1 tx.2 (by omega) hHP rfl rfl hr hH hL hcl hsl hcb hsb (by simp only [List.map_cons, List.sum_cons]; have := VRs_cats hV1; rw [this]; show 1 + _ ≤ 16; omega) hK
      · cases hr
    · cases hr
theorem ev_xcst {a hpc : Nat} {bad : List Nat} {hc : List (Nat × Nat)} {f : Fn} (h : b_lk (T y) pc = some (i_or f (i_xcst bad hc))) (hf : ∀ g, f g L (.ref a :: st) σ = none) (hE : b_E ≤ a) (ht : b_tg σ a ∈ bad) (hs : (st.map fun v => v.category).sum ≤ 8) (hl : hc ≠ []) (hp : b_lkN hc 23 = some hpc) : b_F T d y pc L (.ref a :: st) σ = b_F T d y hpc L [.float 2] (b_bump σ 3 1010) := by
  rw [b_F_at h]; unfold i_or; rw [hf]; dsimp only; unfold i_xcst; dsimp only; rw [if_pos ⟨hE, ht, hs⟩]; unfold b_tx
  cases hc with
  | nil => exact absurd rfl hl
  | cons q hc => dsimp only; rw [hp]; rfl
/-- newarray of fewer than none -/
def i_xnewa (hc : List (Nat × Nat)) : Fn := fun _ L st σ => match st with
  | .int n :: st => if n.toInt < 0 ∧ (st.map fun v => v.category).sum ≤ 8 then b_tx hc 20 3 54 L σ else none
  | _ => none
theorem ok_xnewa {atype : ArrayType} {hc : List (Nat × Nat)} (hd : decode (bc y) pc = .ok (.newarray atype, 2)) (hHP : b_HP nm hh y pc hc 20) : b_OK nm bc mL rt hh T y pc (i_xnewa hc) := by
  refine ok_tx (fun g L st σ r hr => ?_) ?_
  · unfold i_xnewa at hr
    split at hr
    · split at hr
      · exact ⟨_, _, _, _, hr⟩
      · cases hr
    · cases hr
  · intro d p l e R s m args below meth c D tys z wsE hcx Q c0 s0 g L st σ ws H locs ls mst cells slots hH hL hV hcl hsl r hr hcb hsb hK
    unfold i_xnewa at hr
    split at hr
    · split at hr
      · next n st0 hta =>
        obtain ⟨_, m1, rfl, h1, hV1⟩ := VRs_cons hV
        cases h1
        have hn0 : n < 0 := Int32.lt_iff_toInt_lt.mpr (by simpa using hta.1)
        refine vx_newarrayZ hcx.1 hcx.2.1 hn0 hd fun tx htx => ?_
        subst htx
        exact b_msg (names := b_rteN) (nb := 44) hcx (by decide +kernel) (by decide +kernel) (by decide +kernel) (by decide +kernel) b_nas1 b_nas2 (by decide) (negative_text_modelled hn0) (negative_text_bytes n) (by omega) hHP rfl rfl hr hH hL hcl hsl hcb hsb (by have := VRs_cats hV1; rw [this]; omega) hK
      · cases hr
    · cases hr
theorem ev_xnewa {n : Int} {hpc : Nat} {hc : List (Nat × Nat)} {f : Fn} (h : b_lk (T y) pc = some (i_or f (i_xnewa hc))) (hf : ∀ g, f g L (vI n :: st) σ = none) (hn : w32 n < 0) (hs : (st.map fun v => v.category).sum ≤ 8) (hl : hc ≠ []) (hp : b_lkN hc 20 = some hpc) : b_F T d y pc L (vI n :: st) σ = b_F T d y hpc L [.float 2] (b_bump σ 3 54) := by
  rw [b_F_at h]; unfold i_or; rw [hf]; dsimp only; unfold i_xnewa vI; dsimp only; rw [if_pos ⟨hn, hs⟩]; unfold b_tx
  cases hc with
  | nil => exact absurd rfl hl
  | cons q hc => dsimp only; rw [hp]; rfl
/-- stores: a null array, an index out of bounds -/
def i_xastI (t : Nat) (hN hA : List (Nat × Nat)) : Fn := fun _ L st σ => match st with
  | .int _ :: .int _ :: .null :: st => if (st.map fun v => v.category).sum ≤ 8 then b_tx hN 21 1 8 L σ else none
  | .int _ :: .int i :: .ref a :: st => if b_E ≤ a ∧ b_tg σ a = 100 + t ∧ ¬ (0 ≤ i.toInt ∧ i.toInt.toNat < b_ln σ a) ∧ (st.map fun v => v.category).sum ≤ 8 then b_tx hA 22 3 222 L σ else none
  | _ => none
def i_xastL (t : Nat) (hN hA : List (Nat × Nat)) : Fn := fun _ L st σ => match st with
  | .long _ :: .int _ :: .null :: st => if (st.map fun v => v.category).sum ≤ 8 then b_tx hN 21 1 8 L σ else none
  | .long _ :: .int i :: .ref a :: st => if b_E ≤ a ∧ b_tg σ a = 100 + t ∧ ¬ (0 ≤ i.toInt ∧ i.toInt.toNat < b_ln σ a) ∧ (st.map fun v => v.category).sum ≤ 8 then b_tx hA 22 3 222 L σ else none
  | _ => none
theorem ok_xbast {hN hA : List (Nat × Nat)} (hd : decode (bc y) pc = .ok (.bastore, 1)) (hHN : b_HP nm hh y pc hN 21) (hHA : b_HP nm hh y pc hA 22) : b_OK nm bc mL rt hh T y pc (i_xastI 1 hN hA) := by
  refine ok_tx (fun g L st σ r hr => ?_) ?_
  · unfold i_xastI at hr
    split at hr
    · split at hr
      · exact ⟨_, _, _, _, hr⟩
      · cases hr
    · split at hr
      · exact ⟨_, _, _, _, hr⟩
      · cases hr
    · cases hr
  · intro d p l e R s m args below meth c D tys z wsE hcx Q c0 s0 g L st σ ws H locs ls mst cells slots hH hL hV hcl hsl r hr hcb hsb hK
    have hcx' := hcx
    obtain ⟨hx, hbc, hfo, hts, -, -, -, -, -, hW, -⟩ := hcx'
    unfold i_xastI at hr
    split at hr
    · split at hr
      · next x i st0 hta =>
        obtain ⟨_, m1, rfl, h1, hV1⟩ := VRs_cons hV
        obtain ⟨_, m2, rfl, h2, hV2⟩ := VRs_cons hV1
        obtain ⟨_, m3, rfl, h3, hV3⟩ := VRs_cons hV2
        cases h1; cases h2; cases h3
        exact vx_bastoreN hx hbc hd (b_npe hcx hHN hr hH hL hcl hsl hcb hsb (by have := VRs_cats hV3; rw [this]; omega) hK)
      · cases hr
    · split at hr
      · next x i a st0 hta =>
        obtain ⟨_, m1, rfl, h1, hV1⟩ := VRs_cons hV
        obtain ⟨_, m2, rfl, h2, hV2⟩ := VRs_cons hV1
        obtain ⟨_, m3, rfl, h3, hV3⟩ := VRs_cons hV2
        cases h1; cases h2
        obtain ⟨b, hb, rfl⟩ := h3
        obtain ⟨cA, xa, e1, e2, e3, e4, e5, e6⟩ := b_ent_a hW hH hb hta.1 (t := 1) (ty := .byte) hta.2.1 rfl
        obtain ⟨n, xa⟩ := xa
        obtain ⟨f, hf⟩ := e5
        have hf : xa = .inl f := hf
        subst hf
        have e3 : b_ln σ a = n := e3
        refine vx_bastZ hx hbc hW.1.1 hH.1 (a - b_E) 1 e1 e2 (b_out (by rw [← e3]; exact hta.2.2.1)) hd fun tx htx => ?_
        have hb1 : (stringBytes (stringToUtf16 tx)).size ≤ 212 := by rw [htx]; exact index_text_bytes i (show n < 2 ^ 31 by have : n < 2147483648 := e4; omega)
        have hb2 : (tx == notModelled) = false := by rw [htx]; exact index_text_modelled i n
        exact b_msg (names := b_aioN) (nb := 212) hcx (by decide +kernel) (by decide +kernel) (by decide +kernel) (by decide +kernel) b_aio1 b_aio2 (by decide) hb2 hb1 (by omega) hHA rfl rfl hr hH hL hcl hsl hcb hsb (by have := VRs_cats hV3; rw [this]; omega) hK
      · cases hr
    · cases hr
theorem ok_xsast {hN hA : List (Nat × Nat)} (hd : decode (bc y) pc = .ok (.sastore, 1)) (hHN : b_HP nm hh y pc hN 21) (hHA : b_HP nm hh y pc hA 22) : b_OK nm bc mL rt hh T y pc (i_xastI 2 hN hA) := by
  refine ok_tx (fun g L st σ r hr => ?_) ?_
  · unfold i_xastI at hr
    split at hr
    · split at hr
      · exact ⟨_, _, _, _, hr⟩
      · cases hr
    · split at hr
      · exact ⟨_, _, _, _, hr⟩
      · cases hr
    · cases hr
  · intro d p l e R s m args below meth c D tys z wsE hcx Q c0 s0 g L st σ ws H locs ls mst cells slots hH hL hV hcl hsl r hr hcb hsb hK
    have hcx' := hcx
    obtain ⟨hx, hbc, hfo, hts, -, -, -, -, -, hW, -⟩ := hcx'
    unfold i_xastI at hr
    split at hr
    · split at hr
      · next x i st0 hta =>
        obtain ⟨_, m1, rfl, h1, hV1⟩ := VRs_cons hV
        obtain ⟨_, m2, rfl, h2, hV2⟩ := VRs_cons hV1
        obtain ⟨_, m3, rfl, h3, hV3⟩ := VRs_cons hV2
        cases h1; cases h2; cases h3
        exact vx_sastoreN hx hbc hd (b_npe hcx hHN hr hH hL hcl hsl hcb hsb (by have := VRs_cats hV3; rw [this]; omega) hK)
      · cases hr
    · split at hr
      · next x i a st0 hta =>
        obtain ⟨_, m1, rfl, h1, hV1⟩ := VRs_cons hV
        obtain ⟨_, m2, rfl, h2, hV2⟩ := VRs_cons hV1
        obtain ⟨_, m3, rfl, h3, hV3⟩ := VRs_cons hV2
        cases h1; cases h2
        obtain ⟨b, hb, rfl⟩ := h3
        obtain ⟨cA, xa, e1, e2, e3, e4, e5, e6⟩ := b_ent_a hW hH hb hta.1 (t := 2) (ty := .short) hta.2.1 rfl
        obtain ⟨n, xa⟩ := xa
        obtain ⟨f, hf⟩ := e5
        have hf : xa = .inl f := hf
        subst hf
        have e3 : b_ln σ a = n := e3
        refine vx_sastZ hx hbc hW.1.1 hH.1 (a - b_E) 2 e1 e2 (b_out (by rw [← e3]; exact hta.2.2.1)) hd fun tx htx => ?_
        have hb1 : (stringBytes (stringToUtf16 tx)).size ≤ 212 := by rw [htx]; exact index_text_bytes i (show n < 2 ^ 31 by have : n < 2147483648 := e4; omega)
        have hb2 : (tx == notModelled) = false := by rw [htx]; exact index_text_modelled i n
        exact b_msg (names := b_aioN) (nb := 212) hcx (by decide +kernel) (by decide +kernel) (by decide +kernel) (by decide +kernel) b_aio1 b_aio2 (by decide) hb2 hb1 (by omega) hHA rfl rfl hr hH hL hcl hsl hcb hsb (by have := VRs_cats hV3; rw [this]; omega) hK
      · cases hr
    · cases hr
theorem ok_xiast {hN hA : List (Nat × Nat)} (hd : decode (bc y) pc = .ok (.iastore, 1)) (hHN : b_HP nm hh y pc hN 21) (hHA : b_HP nm hh y pc hA 22) : b_OK nm bc mL rt hh T y pc (i_xastI 3 hN hA) := by
  refine ok_tx (fun g L st σ r hr => ?_) ?_
  · unfold i_xastI at hr
    split at hr
    · split at hr
      · exact ⟨_, _, _, _, hr⟩
      · cases hr
    · split at hr
      · exact ⟨_, _, _, _, hr⟩
      · cases hr
    · cases hr
  · intro d p l e R s m args below meth c D tys z wsE hcx Q c0 s0 g L st σ ws H locs ls mst cells slots hH hL hV hcl hsl r hr hcb hsb hK
    have hcx' := hcx
    obtain ⟨hx, hbc, hfo, hts, -, -, -, -, -, hW, -⟩ := hcx'
    unfold i_xastI at hr
    split at hr
    · split at hr
      · next x i st0 hta =>
        obtain ⟨_, m1, rfl, h1, hV1⟩ := VRs_cons hV
        obtain ⟨_, m2, rfl, h2, hV2⟩ := VRs_cons hV1
        obtain ⟨_, m3, rfl, h3, hV3⟩ := VRs_cons hV2
        cases h1; cases h2; cases h3
        exact vx_iastoreN hx hbc hd (b_npe hcx hHN hr hH hL hcl hsl hcb hsb (by have := VRs_cats hV3; rw [this]; omega) hK)
      · cases hr
    · split at hr
      · next x i a st0 hta =>
        obtain ⟨_, m1, rfl, h1, hV1⟩ := VRs_cons hV
        obtain ⟨_, m2, rfl, h2, hV2⟩ := VRs_cons hV1
        obtain ⟨_, m3, rfl, h3, hV3⟩ := VRs_cons hV2
        cases h1; cases h2
        obtain ⟨b, hb, rfl⟩ := h3
        obtain ⟨cA, xa, e1, e2, e3, e4, e5, e6⟩ := b_ent_a hW hH hb hta.1 (t := 3) (ty := .int) hta.2.1 rfl
        obtain ⟨n, xa⟩ := xa
        obtain ⟨f, hf⟩ := e5
        have hf : xa = .inl f := hf
        subst hf
        have e3 : b_ln σ a = n := e3
        refine vx_iastZ hx hbc hW.1.1 hH.1 (a - b_E) 3 e1 e2 (b_out (by rw [← e3]; exact hta.2.2.1)) hd fun tx htx => ?_
        have hb1 : (stringBytes (stringToUtf16 tx)).size ≤ 212 := by rw [htx]; exact index_text_bytes i (show n < 2 ^ 31 by have : n < 2147483648 := e4; omega)
        have hb2 : (tx == notModelled) = false := by rw [htx]; exact index_text_modelled i n
        exact b_msg (names := b_aioN) (nb := 212) hcx (by decide +kernel) (by decide +kernel) (by decide +kernel) (by decide +kernel) b_aio1 b_aio2 (by decide) hb2 hb1 (by omega) hHA rfl rfl hr hH hL hcl hsl hcb hsb (by have := VRs_cats hV3; rw [this]; omega) hK
      · cases hr
    · cases hr
theorem ok_xlast {hN hA : List (Nat × Nat)} (hd : decode (bc y) pc = .ok (.lastore, 1)) (hHN : b_HP nm hh y pc hN 21) (hHA : b_HP nm hh y pc hA 22) : b_OK nm bc mL rt hh T y pc (i_xastL 4 hN hA) := by
  refine ok_tx (fun g L st σ r hr => ?_) ?_
  · unfold i_xastL at hr
    split at hr
    · split at hr
      · exact ⟨_, _, _, _, hr⟩
      · cases hr
    · split at hr
      · exact ⟨_, _, _, _, hr⟩
      · cases hr
    · cases hr
  · intro d p l e R s m args below meth c D tys z wsE hcx Q c0 s0 g L st σ ws H locs ls mst cells slots hH hL hV hcl hsl r hr hcb hsb hK
    have hcx' := hcx
    obtain ⟨hx, hbc, hfo, hts, -, -, -, -, -, hW, -⟩ := hcx'
    unfold i_xastL at hr
    split at hr
    · split at hr
      · next x i st0 hta =>
        obtain ⟨_, m1, rfl, h1, hV1⟩ := VRs_cons hV
        obtain ⟨_, m2, rfl, h2, hV2⟩ := VRs_cons hV1
        obtain ⟨_, m3, rfl, h3, hV3⟩ := VRs_cons hV2
        cases h1; cases h2; cases h3
        exact vx_lastoreN hx hbc hd (b_npe hcx hHN hr hH hL hcl hsl hcb hsb (by have := VRs_cats hV3; rw [this]; omega) hK)
      · cases hr
    · split at hr
      · next x i a st0 hta =>
        obtain ⟨_, m1, rfl, h1, hV1⟩ := VRs_cons hV
        obtain ⟨_, m2, rfl, h2, hV2⟩ := VRs_cons hV1
        obtain ⟨_, m3, rfl, h3, hV3⟩ := VRs_cons hV2
        cases h1; cases h2
        obtain ⟨b, hb, rfl⟩ := h3
        obtain ⟨cA, xa, e1, e2, e3, e4, e5, e6⟩ := b_ent_a hW hH hb hta.1 (t := 4) (ty := .long) hta.2.1 rfl
        obtain ⟨n, xa⟩ := xa
        obtain ⟨f, hf⟩ := e5
        have hf : xa = .inr (.inl f) := hf
        subst hf
        have e3 : b_ln σ a = n := e3
        refine vx_lastZ hx hbc hW.1.1 hH.1 (a - b_E) 4 e1 e2 (b_out (by rw [← e3]; exact hta.2.2.1)) hd fun tx htx => ?_
        have hb1 : (stringBytes (stringToUtf16 tx)).size ≤ 212 := by rw [htx]; exact index_text_bytes i (show n < 2 ^ 31 by have : n < 2147483648 := e4; omega)
        have hb2 : (tx == notModelled) = false := by rw [htx]; exact index_text_modelled i n
        exact b_msg (names := b_aioN) (nb := 212) hcx (by decide +kernel) (by decide +kernel) (by decide +kernel) (by decide +kernel) b_aio1 b_aio2 (by decide) hb2 hb1 (by omega) hHA rfl rfl hr hH hL hcl hsl hcb hsb (by have := VRs_cats hV3; rw [this]; omega) hK
      · cases hr
    · cases hr
theorem ev_xastIN {tg : Nat} {F : Int32 → Int32} {bl : Bool} {t : Nat} {x i : Int} (h : b_lk (T y) pc = some (i_or (i_astI tg F bl nx) (i_xastI t [] []))) (hs : (st.map fun v => v.category).sum ≤ 8) : b_F T d y pc L (vI x :: vI i :: .null :: st) σ = some (.inr (b_ex + 21), b_bump σ 1 8) := by
  rw [b_F_at h]; unfold i_or i_astI i_xastI vI ; dsimp only; rw [if_pos hs]; rfl
theorem ev_xastIO {tg : Nat} {F : Int32 → Int32} {bl : Bool} {t a : Nat} {x i : Int} (h : b_lk (T y) pc = some (i_or (i_astI tg F bl nx) (i_xastI t [] []))) (hE : b_E ≤ a) (ht : b_tg σ a = 100 + t) (ho : ¬ (0 ≤ w32 i ∧ (w32 i).toNat < b_ln σ a)) (hs : (st.map fun v => v.category).sum ≤ 8) : b_F T d y pc L (vI x :: vI i :: .ref a :: st) σ = some (.inr (b_ex + 22), b_bump σ 3 222) := by
  rw [b_F_at h]; unfold i_or i_astI i_xastI vI ; dsimp only; rw [if_neg (fun h => ho ⟨h.2.2.1, h.2.2.2.1⟩)]; dsimp only; rw [if_pos ⟨hE, ht, ho, hs⟩]; rfl
theorem ev_xastLN {t : Nat} {x i : Int} (h : b_lk (T y) pc = some (i_or (i_astL nx) (i_xastL t [] []))) (hs : (st.map fun v => v.category).sum ≤ 8) : b_F T d y pc L (vL x :: vI i :: .null :: st) σ = some (.inr (b_ex + 21), b_bump σ 1 8) := by
  rw [b_F_at h]; unfold i_or i_astL i_xastL vI vL; dsimp only; rw [if_pos hs]; rfl
theorem ev_xastLO {t a : Nat} {x i : Int} (h : b_lk (T y) pc = some (i_or (i_astL nx) (i_xastL t [] []))) (hE : b_E ≤ a) (ht : b_tg σ a = 100 + t) (ho : ¬ (0 ≤ w32 i ∧ (w32 i).toNat < b_ln σ a)) (hs : (st.map fun v => v.category).sum ≤ 8) : b_F T d y pc L (vL x :: vI i :: .ref a :: st) σ = some (.inr (b_ex + 22), b_bump σ 3 222) := by
  rw [b_F_at h]; unfold i_or i_astL i_xastL vI vL; dsimp only; rw [if_neg (fun h => ho ⟨h.2.2.1, h.2.2.2⟩)]; dsimp only; rw [if_pos ⟨hE, ht, ho, hs⟩]; rfl
theorem ev_xastIY {tg : Nat} {F : Int32 → Int32} {f2 : Fn} {a : Nat} {x i : Int} (h : b_lk (T y) pc = some (i_or (i_astI tg F false nx) f2)) (hE : b_E ≤ a) (ht : b_tg σ a = tg) (h0 : 0 ≤ w32 i) (h1 : (w32 i).toNat < b_ln σ a) : b_F T d y pc L (vI x :: vI i :: .ref a :: st) σ = b_F T d y nx L st (b_pt σ a (w32 i).toNat (.int (F (Int32.ofInt x)))) := by
  rw [b_F_at h]; unfold i_or i_astI vI; dsimp only; rw [if_pos ⟨ht, hE, h0, h1, fun z => by cases z⟩]; rfl
theorem ev_xastLY {f2 : Fn} {a : Nat} {x i : Int} (h : b_lk (T y) pc = some (i_or (i_astL nx) f2)) (hE : b_E ≤ a) (ht : b_tg σ a = 104) (h0 : 0 ≤ w32 i) (h1 : (w32 i).toNat < b_ln σ a) : b_F T d y pc L (vL x :: vI i :: .ref a :: st) σ = b_F T d y nx L st (b_pt σ a (w32 i).toNat (vL x)) := by
  rw [b_F_at h]; unfold i_or i_astL vI vL; dsimp only; rw [if_pos ⟨ht, hE, h0, h1⟩]; rfl
theorem ev_xcstY {a t : Nat} {f2 : Fn} (h : b_lk (T y) pc = some (i_or (i_cstA t nx) f2)) (hE : b_E ≤ a) (ht : b_tg σ a = 100 + t) : b_F T d y pc L (.ref a :: st) σ = b_F T d y nx L (.ref a :: st) σ := by
  rw [b_F_at h]; unfold i_or i_cstA; dsimp only; rw [if_pos ⟨hE, ht⟩]; rfl
theorem ev_xcstN {t : Nat} {f2 : Fn} (h : b_lk (T y) pc = some (i_or (i_cstA t nx) f2)) : b_F T d y pc L (.null :: st) σ = b_F T d y nx L (.null :: st) σ := b_F_at h
theorem ev_xnewaY {t : Nat} {n : Int} {f2 : Fn} (h : b_lk (T y) pc = some (i_or (i_newa t nx) f2)) (h0 : 0 ≤ w32 n) (h1 : w32 n ≤ 100000) : b_F T d y pc L (vI n :: st) σ = b_F T d y nx L (.ref σ.1 :: st) (b_nw σ (100 + t) (w32 n).toNat (fun _ => b_ad t)) := by
  rw [b_F_at h]; unfold i_or i_newa vI; dsimp only; rw [if_pos ⟨h0, h1⟩]; rfl
end B_OPL
