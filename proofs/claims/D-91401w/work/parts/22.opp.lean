/-! ===== arrays of arrays, made at once ===== -/
set_option maxRecDepth 100000
section B_HRL
variable {D : va_G} {tys : List (ClassId × FieldType)} {z : Nat} {wsE : List Nat} {ws : va_W} {s : State} {σ σ' : Sg} {H H1 : Heap} {locs locs1 : List Loc}
theorem b_Hr_newL (hW : b_Wd D tys z wsE s) (hH : b_Hr D tys z wsE ws s σ H locs) {es : va_W} (hP : va_P D b_cl (ws ++ es) H1) (hD : va_D (b_A z) (ws ++ es)) (hS : va_S (b_A z) s.heap H1 locs1)
    (h1 : σ'.1 = σ.1 + es.length) (ho : ∀ a', (a' < σ.1 ∨ σ.1 + es.length ≤ a') → σ'.2.2.2 a' = σ.2.2.2 a') (hC : ∀ k q, es[k]? = some q → b_CR (b_G wsE (ws ++ es)) tys (σ'.2.2.2 (σ.1 + k)) q.2) : b_Hr D tys z wsE (ws ++ es) s σ' H1 locs1 := by
  obtain ⟨-, -, g3, g4, g5, g6⟩ := hH
  have hE : wsE.length = b_E := hW.2.2.2.2.2.1.2.2.1
  have hpre : b_G wsE ws <+: b_G wsE (ws ++ es) := ⟨es.map (·.1), by unfold b_G; rw [List.map_append, List.append_assoc]⟩
  refine ⟨hP, hD, hS, by rw [h1, g4, List.length_append]; omega, fun k q hk => ?_, fun a' q hq => ?_⟩
  · by_cases hk2 : k < ws.length
    · rw [List.getElem?_append_left hk2] at hk
      rw [ho _ (Or.inl (by omega))]
      exact (g5 k q hk).grow hpre
    · rw [List.getElem?_append_right (by omega)] at hk
      have h9 := hC _ _ hk
      rw [g4, show b_E + ws.length + (k - ws.length) = b_E + k by omega] at h9
      exact h9
  · have hl2 := (List.getElem?_eq_some_iff.mp hq).1
    rw [ho a' (Or.inl (by omega))]
    exact ((g6 a' q hq).grow hpre).kept (b_ext_kept hW g3 hS hq)
theorem b_GL (hW : b_Wd D tys z wsE s) (hH : b_Hr D tys z wsE ws s σ H locs) {es : va_W} {k : Nat} {q : Nat × va_E} (hk : es[k]? = some q) : (b_G wsE (ws ++ es))[σ.1 + k]? = some q.1 := by
  have hE : wsE.length = b_E := hW.2.2.2.2.2.1.2.2.1
  have g4 := hH.2.2.2.1
  unfold b_G
  rw [List.getElem?_append_right (by omega), hE, g4, List.map_append, List.getElem?_append_right (by rw [List.length_map]; omega), List.length_map, show b_E + ws.length + k - b_E - ws.length = k by omega, List.getElem?_map, hk]
  rfl
end B_HRL
def b_mnw (σ : Sg) (tO tI n k : Nat) : Sg := (σ.1 + (1 + n), σ.2.1 + (1 + n), σ.2.2.1 + (n + n * k), fun b => if b = σ.1 then (100 + tO, n, fun j => .ref (σ.1 + 1 + j)) else if σ.1 < b ∧ b < σ.1 + (1 + n) then (100 + tI, k, fun _ => .int 0) else σ.2.2.2 b)
def i_mnew (tO tI nx : Nat) : Fn := fun _ L st σ => match st with
  | .int k :: .int n :: st => if 0 ≤ n.toInt ∧ 0 ≤ k.toInt ∧ n.toInt ≤ 1000 ∧ k.toInt ≤ 1000 then some (.inl (nx, L, .ref σ.1 :: st, b_mnw σ tO tI n.toInt.toNat k.toInt.toNat)) else none
  | _ => none
theorem b_outer (c : ClassId) (N h0 : Nat) : Jvm.Free.Multi.outerC c N h0 N = vp_cell c (N, .inr (.inr (.inr (.inr (fun j => if j < N then some (h0 + 1 + j) else none))))) := by
  have key : ∀ i, Jvm.Free.Multi.outerC c N h0 i = { cls := c, slots := (Jvm.Free.Multi.outerC c N h0 i).slots, vm := .none } := by
    intro i
    induction i with
    | zero => rfl
    | succ i ih =>
      show (Jvm.Free.Multi.outerC c N h0 i).setSlot i _ = { cls := c, slots := ((Jvm.Free.Multi.outerC c N h0 i).setSlot i _).slots, vm := .none }
      rw [ih]
      rfl
  rw [key N, vp_cell_arr]
  unfold arrV
  have e : (Jvm.Free.Multi.outerC c N h0 N).slots = Array.ofFn (n := N) fun j => b_arr (N, .inr (.inr (.inr (.inr (fun j => if j < N then some (h0 + 1 + j) else none))))) j.val := by
    have hsz := (Jvm.Free.Multi.outerC_facts c N h0 N).2.2
    refine Array.ext (by rw [hsz, Array.size_ofFn]) fun i h1 h2 => ?_
    have hi : i < N := by rw [hsz] at h1; exact h1
    have h3 := Jvm.Free.Multi.outerC_slot c N h0 N i hi
    rw [if_pos hi, Array.getElem?_eq_getElem h1] at h3
    rw [Option.some.inj h3, Array.getElem_ofFn]
    show _ = va_rf (if i < N then some (h0 + 1 + i) else none)
    rw [if_pos hi]
    rfl
  rw [e]
theorem b_inner (c : ClassId) (M : Nat) : Jvm.Free.Multi.innerC c M (.int 0) = vp_cell c (M, .inl fun _ => 0) := by
  rw [vp_cell_arr]
  unfold arrV Jvm.Free.Multi.innerC
  have e : Array.replicate M (Value.int 0) = Array.ofFn (n := M) fun j => b_arr (M, .inl fun _ => 0) j.val := by
    refine Array.ext (by rw [Array.size_replicate, Array.size_ofFn]) fun i h1 h2 => ?_
    rw [Array.getElem_ofFn, Array.getElem_replicate]
    rfl
  rw [e]
theorem b_tyAt {D : va_G} {tys : List (ClassId × FieldType)} {z : Nat} {wsE : List Nat} {s : State} (hW : b_Wd D tys z wsE s) {t : Nat} {ty : FieldType} (hty : b_tyL[t]? = some ty) : ∃ c, tys[t]? = some (c, ty) := by
  have h1 : (tys.map (·.2))[t]? = some ty := by rw [hW.1.2]; exact hty
  rw [List.getElem?_map] at h1
  cases hq : tys[t]? with
  | none => rw [hq] at h1; cases h1
  | some q =>
    rw [hq] at h1
    obtain ⟨c', ty'⟩ := q
    have hty' : ty' = ty := Option.some.inj h1
    exact ⟨c', by rw [hty']⟩
def b_mEs (cA comp : ClassId) (N M h0 : Nat) : va_W := (h0, .inl (cA, N, .inr (.inr (.inr (.inr (fun j => if j < N then some (h0 + 1 + j) else none)))))) :: (List.range N).map fun j => (h0 + 1 + j, .inl (comp, M, .inl fun _ => 0))
theorem b_mEs_len {cA comp : ClassId} {N M h0 : Nat} : (b_mEs cA comp N M h0).length = 1 + N := by
  unfold b_mEs
  rw [List.length_cons, List.length_map, List.length_range]
  omega
theorem b_mEs_get {cA comp : ClassId} {N M h0 : Nat} (i : Nat) (q : Nat × va_E) (h : (b_mEs cA comp N M h0)[i]? = some q) : q.1 = h0 + i ∧ (i = 0 ∧ q.2 = .inl (cA, N, .inr (.inr (.inr (.inr (fun j => if j < N then some (h0 + 1 + j) else none))))) ∨ 0 < i ∧ i < 1 + N ∧ q.2 = .inl (comp, M, .inl fun _ => 0)) := by
  cases i with
  | zero =>
    cases h
    exact ⟨rfl, Or.inl ⟨rfl, rfl⟩⟩
  | succ i =>
    unfold b_mEs at h
    rw [List.getElem?_cons_succ, List.getElem?_map] at h
    cases hq : (List.range N)[i]? with
    | none => rw [hq] at h; cases h
    | some j =>
      rw [hq] at h
      have hl := (List.getElem?_eq_some_iff.mp hq).1
      rw [List.length_range] at hl
      rw [List.getElem?_range hl] at hq
      cases hq
      cases h
      exact ⟨by show h0 + 1 + i = _; omega, Or.inr ⟨by omega, by omega, rfl⟩⟩
section B_OPP
variable {nm : Nat → MethodName} {bc : Nat → ByteArray} {mL : Nat → Nat} {rt : Nat → Option FieldType} {hh : Nat → List (Nat × Nat × Nat × Nat)} {T : Tb} {y pc nx tgt d : Nat} {L : Lc} {st : List Value} {σ : Sg}
theorem ok_mnew {own : String} {idx tO tI : Nat} {ty : FieldType} (hd : decode (bc y) pc = .ok (.multianewarray idx 2, 4)) (hown : own = (nm y).cls) (q1 : Cond.classLink own idx ("[" ++ (FieldType.array ty).toString) ∈ lw_all) (q2 : Cond.arrayOver (.array ty) ∈ lw_tbl) (q3 : Cond.arrayClass ty ∈ lw_all) (hO : b_tyL[tO]? = some (.array ty)) (hI : b_tyL[tI]? = some ty) (hil : b_ilike ty = true) (hdv : defaultValue ty = .int 0) (hcb : componentBytes ty ≤ 8) (hft : fits ty (.int 0) = true) : b_OK nm bc mL rt hh T y pc (i_mnew tO tI (pc + 4)) := by
  refine ⟨fun g _ L st σ r hr => ?_, ?_⟩
  · unfold i_mnew at hr
    split at hr
    · split at hr
      · cases hr; exact ⟨Nat.le_add_right _ _, Nat.le_add_right _ _⟩
      · cases hr
    · cases hr
  · intro d p l e R s m args below meth c D tys z wsE ih hcx Q c0 s0 L st σ ws H locs ls mst cells slots hH hL hV hcl hsl r hr hcb hsb hK
    unfold i_mnew at hr
    split at hr
    · split at hr
      · next k n st0 hta =>
        cases hr
        obtain ⟨_, m1, rfl, h1, hV1⟩ := VRs_cons hV
        obtain ⟨_, m2, rfl, h2, hV2⟩ := VRs_cons hV1
        cases h1; cases h2
        subst hown
        obtain ⟨hx, hbc, hfo, hts, -, -, -, -, -, hW, hfr, hlo, -⟩ := hcx
        obtain ⟨i1, i2, i3, i4⟩ := hta
        have n1 : n.toNatClampNeg = n.toInt.toNat := rfl
        have k1 : k.toNatClampNeg = k.toInt.toNat := rfl
        have hcb : σ.2.1 + (1 + n.toInt.toNat) ≤ R.cells + c0 := hcb
        have hsb : σ.2.2.1 + (n.toInt.toNat + n.toInt.toNat * k.toInt.toNat) ≤ R.slots + s0 := hsb
        have hkb : k.toInt.toNat * componentBytes ty ≤ 1000 * 8 := Nat.mul_le_mul (by omega) ‹_›
        intro T hT X
        obtain ⟨vm₁, cA, comp, hWv, hfA, hfC, -, -, X1, step⟩ := X.multianewarray2F hx (own := (nm y).cls) (index := idx) (ty := ty) hfo (hts _ q1) (show (Cond.arrayOver (.array ty)).before args s = true from hW.2.2.1 _ q2) (hts _ q3) (g := F0 m pc ls (.int k :: .int n :: m2)) rfl (by rw [hbc]; exact hd) (n := n) (k := k) (rest := m2) rfl (b_i0 i1) (b_i0 i2) (by rw [n1]; omega) (by rw [k1]; omega) (by rw [k1]; omega) (by rw [hdv]; exact hft) (by rw [hdv]; rfl) (by rw [n1]; omega) (by rw [n1, k1]; omega)
        rw [n1, k1, hdv] at X1 step
        generalize hN : n.toInt.toNat = N at *
        generalize hM : k.toInt.toNat = M at *
        have hE : wsE.length = b_E := hW.2.2.2.2.2.1.2.2.1
        have hz : z ≤ s.heap.size := hW.2.2.2.2.2.1.1
        have hTh : (T.setVm vm₁).heap = T.heap := rfl
        have ff := Jvm.Free.Multi.fill_facts (T.setVm vm₁) cA comp N M (.int 0) N
        have fo := fun (a : Nat) (ha : a < (T.setVm vm₁).heap.size) => Jvm.Free.Multi.fill_old (T.setVm vm₁) cA comp N M (.int 0) ha N
        have fi := fun (j : Nat) (hj : j < N) => Jvm.Free.Multi.fill_inner (T.setVm vm₁) cA comp N M (.int 0) N j hj
        rw [hTh, hT] at ff fo fi
        have hstk : (F0 m pc ls (.int k :: .int n :: m2)).pc = pc := rfl
        generalize hfl : Jvm.Free.Multi.fill (T.setVm vm₁) cA comp N M (.int 0) N = F at *
        obtain ⟨f1, f2, f3, f4⟩ := ff
        rw [b_outer] at f2
        obtain ⟨cO, hO'⟩ := b_tyAt hW hO
        obtain ⟨cI, hI'⟩ := b_tyAt hW hI
        have eO := b_RAn (hW.1.1.2 tO _ hO').2
        have eI := b_RAn (hW.1.1.2 tI _ hI').2
        have hO' : tys[tO]? = some (cA, .array ty) := by rw [Option.some.inj (hfA.symm.trans eO)]; exact hO'
        have hfC : s.vm.findClass ("[" ++ ty.toString) = some comp := hfC
        have hI' : tys[tI]? = some (comp, ty) := by rw [Option.some.inj (hfC.symm.trans eI)]; exact hI'
        have hes : ∀ (i : Nat) (q : Nat × va_E), (b_mEs cA comp N M H.size)[i]? = some q → q.1 = H.size + i ∧ (i = 0 ∧ q.2 = .inl (cA, N, .inr (.inr (.inr (.inr (fun j => if j < N then some (H.size + 1 + j) else none))))) ∨ 0 < i ∧ i < 1 + N ∧ q.2 = .inl (comp, M, .inl fun _ => 0)) := b_mEs_get
        have hlen : (b_mEs cA comp N M H.size).length = 1 + N := b_mEs_len
        have hS := hH.2.2.1
        have hP1 : va_P D b_cl (ws ++ b_mEs cA comp N M H.size) F.heap := (hH.1.kept (fun k x hx => fo _ ((hH.1 k x hx).lt))).app (fun i q hq => by
          obtain ⟨a1, a2⟩ := hes i q hq
          obtain ⟨qa, qe⟩ := q
          rcases a2 with ⟨i0, a2⟩ | ⟨i0, i1', a2⟩
          · have a2 : qe = _ := a2
            have a1 : qa = _ := a1
            subst a2; subst i0; subst a1
            exact f2
          · have a2 : qe = _ := a2
            have a1 : qa = _ := a1
            subst a2; subst a1
            show F.heap[H.size + i]? = some (vp_cell comp (M, .inl fun _ => 0))
            rw [← b_inner, show H.size + i = H.size + 1 + (i - 1) by omega]
            exact fi _ (by omega))
        have hD1 : va_D (b_A z) (ws ++ b_mEs cA comp N M H.size) := hH.2.1.app ⟨fun i j x w hx hw e => by
            have := (hes i x hx).1
            have := (hes j w hw).1
            omega, fun i x hx => by
            have := (hes i x hx).1
            show z ≤ x.1
            have := hS.1
            omega⟩ (fun i j x w hx hw e => by
            have h8 := (hH.1 i x hx).lt
            have := (hes j w hw).1
            omega)
        have hS1 : va_S (b_A z) s.heap F.heap locs := ⟨by have := hS.1; omega, fun q h1 h2 => (fo q (by have := hS.1; omega)).trans (hS.2.1 q h1 h2), hS.2.2⟩
        have hH1 : b_Hr D tys z wsE (ws ++ b_mEs cA comp N M H.size) s (b_mnw σ tO tI N M) F.heap locs := b_Hr_newL hW hH hP1 hD1 hS1 (by rw [hlen]; rfl) (fun a' ha' => by
            rw [hlen] at ha'
            show (if a' = σ.1 then _ else if σ.1 < a' ∧ a' < σ.1 + (1 + N) then _ else σ.2.2.2 a') = _
            rw [if_neg (by omega), if_neg (by omega)]) (fun i q hq => by
            obtain ⟨a1, a2⟩ := hes i q hq
            obtain ⟨qa, qe⟩ := q
            rcases a2 with ⟨i0, a2⟩ | ⟨i0, i1', a2⟩
            · have a2 : qe = _ := a2
              subst a2; subst i0
              have e9 : (b_mnw σ tO tI N M).2.2.2 (σ.1 + 0) = (100 + tO, N, fun j => .ref (σ.1 + 1 + j)) := by
                show (if σ.1 + 0 = σ.1 then _ else _) = _
                rw [if_pos (Nat.add_zero _)]
              rw [e9]
              refine Or.inr ⟨tO, .array ty, hO, hO', rfl, rfl, by show N < _; omega, ⟨_, rfl⟩, fun j hj => ⟨by show fits (.array ty) (va_rf (if j < N then some (H.size + 1 + j) else none)) = true; rw [if_pos (show j < N from hj)]; rfl, ?_, fun z => by cases z⟩⟩
              have hj : j < N := hj
              obtain ⟨q9, hq9⟩ : ∃ q9, (b_mEs cA comp N M H.size)[1 + j]? = some q9 := ⟨_, List.getElem?_eq_getElem (by rw [hlen]; omega)⟩
              have h8 := b_GL hW hH hq9
              rw [(hes _ _ hq9).1] at h8
              show VR _ (.ref (σ.1 + 1 + j)) (va_rf (if j < N then some (H.size + 1 + j) else none))
              rw [if_pos hj]
              exact ⟨H.size + 1 + j, by rw [show σ.1 + 1 + j = σ.1 + (1 + j) by omega, h8, show H.size + 1 + j = H.size + (1 + j) by omega], rfl⟩
            · have a2 : qe = _ := a2
              subst a2
              have e9 : (b_mnw σ tO tI N M).2.2.2 (σ.1 + i) = (100 + tI, M, fun _ => .int 0) := by
                show (if σ.1 + i = σ.1 then _ else if σ.1 < σ.1 + i ∧ σ.1 + i < σ.1 + (1 + N) then _ else _) = _
                rw [if_neg (by omega), if_pos (by omega)]
              rw [e9]
              exact Or.inr ⟨tI, ty, hI, hI', rfl, rfl, by show M < _; omega, b_KOo hil, fun j hj => ⟨hft, rfl, fun _ => rfl⟩⟩)
        have hpre : b_G wsE ws <+: b_G wsE (ws ++ b_mEs cA comp N M H.size) := ⟨(b_mEs cA comp N M H.size).map (·.1), by unfold b_G; rw [List.map_append, List.append_assoc]⟩
        have hg0 : (b_G wsE (ws ++ b_mEs cA comp N M H.size))[σ.1 + 0]? = some H.size := b_GL hW hH (q := (H.size, _)) rfl
        have hfin := hK (ws ++ b_mEs cA comp N M H.size) F.heap locs ls (.ref H.size :: m2) (cells + 1 + N) (slots + N + N * M) hpre hH1 (Lr_mono hpre hL) (VRs_mk ⟨H.size, hg0, rfl⟩ (VRs_mono hpre hV2)) (by show cells + 1 + N + c0 = σ.2.1 + (1 + N); omega) (by show slots + N + N * M + s0 = σ.2.2.1 + (N + N * M); omega)
        obtain ⟨t, a1, b1⟩ := hfin F rfl X1
        refine ⟨t, step t ?_, b1⟩
        rw [hT]
        exact a1
      · cases hr
    · cases hr
theorem ev_mnew {n k : Int} {tO tI : Nat} (h : b_lk (T y) pc = some (i_mnew tO tI nx)) (h1 : 0 ≤ w32 n) (h2 : 0 ≤ w32 k) (h3 : w32 n ≤ 1000) (h4 : w32 k ≤ 1000) : b_F T d y pc L (vI k :: vI n :: st) σ = b_F T d y nx L (.ref σ.1 :: st) (b_mnw σ tO tI (w32 n).toNat (w32 k).toNat) := by
  rw [b_F_at h]; unfold i_mnew vI; dsimp only; rw [if_pos ⟨h1, h2, h3, h4⟩]; rfl
end B_OPP
