/-! ===== chains of sums, under way ===== -/
set_option maxRecDepth 100000
theorem okE_x {δ : Sg} {v : Nat} (h : 156 ≤ v) (h2 : 1 ≤ b_tg δ v ∧ b_tg δ v ≤ 20) : okE δ v := ⟨Or.inr h, h2⟩
theorem Lb_pt0 {δ : Sg} {l e c : Nat} {xs : List Nat} {v : Value} (H : Lb δ l e xs c) : Lb (b_pt δ l 0 v) l e xs c := by
  obtain ⟨⟨a1, a2, a3, a4, a5⟩, a6, a7, a8, a9, a10, a11, a14⟩ := H
  refine ⟨⟨a1, a2, a3, a4, a5⟩, ?_, ?_, ?_, ?_, ?_, a11, fun i y hy => ?_⟩
  · simp (disch := first | omega | fail) only [tg_pt, ln_pt, vl_pt, ia_pt, tg_nw, ln_nw, vl_nw, ia_nw, tg_cpy, ln_cpy, vl_cpy, pt_1, nw_1, cpy_1, vi_vI, w32_id, if_pos, if_neg, Nat.reduceEqDiff, and_true, true_and, and_false, false_and, and_self, eq_self, ↓reduceIte]; exact a6
  · simp (disch := first | omega | fail) only [tg_pt, ln_pt, vl_pt, ia_pt, tg_nw, ln_nw, vl_nw, ia_nw, tg_cpy, ln_cpy, vl_cpy, pt_1, nw_1, cpy_1, vi_vI, w32_id, if_pos, if_neg, Nat.reduceEqDiff, and_true, true_and, and_false, false_and, and_self, eq_self, ↓reduceIte]; exact a7
  · simp (disch := first | omega | fail) only [tg_pt, ln_pt, vl_pt, ia_pt, tg_nw, ln_nw, vl_nw, ia_nw, tg_cpy, ln_cpy, vl_cpy, pt_1, nw_1, cpy_1, vi_vI, w32_id, if_pos, if_neg, Nat.reduceEqDiff, and_true, true_and, and_false, false_and, and_self, eq_self, ↓reduceIte]; exact a8
  · simp (disch := first | omega | fail) only [tg_pt, ln_pt, vl_pt, ia_pt, tg_nw, ln_nw, vl_nw, ia_nw, tg_cpy, ln_cpy, vl_cpy, pt_1, nw_1, cpy_1, vi_vI, w32_id, if_pos, if_neg, Nat.reduceEqDiff, and_true, true_and, and_false, false_and, and_self, eq_self, ↓reduceIte]; exact a9
  · simp (disch := first | omega | fail) only [tg_pt, ln_pt, vl_pt, ia_pt, tg_nw, ln_nw, vl_nw, ia_nw, tg_cpy, ln_cpy, vl_cpy, pt_1, nw_1, cpy_1, vi_vI, w32_id, if_pos, if_neg, Nat.reduceEqDiff, and_true, true_and, and_false, false_and, and_self, eq_self, ↓reduceIte]; exact a10
  · simp (disch := first | omega | fail) only [tg_pt, ln_pt, vl_pt, ia_pt, tg_nw, ln_nw, vl_nw, ia_nw, tg_cpy, ln_cpy, vl_cpy, pt_1, nw_1, cpy_1, vi_vI, w32_id, if_pos, if_neg, Nat.reduceEqDiff, and_true, true_and, and_false, false_and, and_self, eq_self, ↓reduceIte]; exact a14 i y hy
theorem L_addN {d : Nat} (hd : 8 ≤ d) {S : Mm} {δ : Sg} {l e x c : Nat} {xs : List Nat} (H : Lb δ l e xs c) (hl : xs.length ≤ 500) (hv : okE δ x) (h : xs.length < c) : b_M TT d 6006 [.ref l, .ref x] (ov S δ) = some (.inl (some (vI 1)), ov S (b_pt (b_pt (b_pt δ l 0 (vI (b_ia δ l 0 + 1))) e xs.length (.ref x)) l 2 (vI ((xs.length : Int) + 1)))) := by
  have H1 : Lb (b_pt δ l 0 (vI (b_ia δ l 0 + 1))) l e xs c := Lb_pt0 H
  obtain ⟨⟨a1, a2, a3, a4, a5⟩, a6, a7, a8, a9, a10, ⟨a11, a12, a13⟩, a14⟩ := H
  obtain ⟨d, rfl⟩ : ∃ k, d = k + 1 := ⟨d - 1, by omega⟩
  have P1 := L_put' (d := d) (by omega) (S := S) (x := x) H1 hl ⟨hv.1, by rw [tg_pt]; exact hv.2⟩ h
  have a7' := H1.2.2.1
  have a8' := H1.2.2.2.1
  clear H1 a14
  rw [b_M_succ]
  generalize xs.length = n at *
  simp (disch := first | assumption | omega | exact b2_01d | decide | (simp (disch := omega) only [a6, tg_pt, w32_id, w32_gi, w32_w32, w32_b2, Int.toNat_natCast, gi_up, vi_vI, tgd, lnd, and_true, true_and, and_false, false_and, Nat.reduceLeDiff, Nat.reduceLT, ↓reduceIte, b_c1I, b_c1R, b_c1N, cs_0, cs_nil, cs_I, cs_L, cs_R, cs_N] <;> omega) | fail) only [vI_def, vI_sx8, vI_sx16, sx8_sx8, sx16_sx16, w32_sx8, w32_sx16, xci_ex, xv_ex, lk_21, lk_22, lk_2, tgd, lnd, vld, iad, lad, ptd, std, nw_ov, bump_ov, ov_1, cv_ret, cu_ret, cv_thr, cu_thr, th_eq, ent_nil, ent_I, ent_L, ent_R, ent_N, List.tail_cons, List.tail_nil, w32_gi, w32_w32, w32_b2, b2_eq0, b2_eq1, b2_ne0, b2_01, w64_gi, w64_gl, w64_w32, w64_w64, vI_w32, vL_w64, gi_up, gl_up, vi_vI, vlg_vL, swt_nil, swt_cons, F_ite, and_true, true_and, and_false, false_and, and_self, or_true, true_or, or_false, false_or, not_true_eq_false, not_false_eq_true, b_c1I, b_c1R, b_c1N, cs_0, w32_lc, lc_lt, lc_gt, lc_le, lc_ge, lc_eq, w32_id, w64_id, eq_self, Nat.reduceEqDiff, Nat.reduceLeDiff, Nat.reduceAdd, Nat.reduceMul, Int.reduceLT, Int.reduceLE, Int.reduceEq, Int.reduceNeg, Int.reduceAdd, Int.reduceSub, Int.reduceMul, Int.reduceToNat, Int.toNat_natCast, nc_lit, Int.add_sub_cancel, Int.tmod_eq_emod_of_nonneg, Int.tdiv_eq_ediv_of_nonneg, Int.natCast_add, Int.natCast_mul, if_pos, if_neg, ↓reduceIte, e6006_0, e6006_1, e6006_2, e6006_5, e6006_6, e6006_7, e6006_10, e6006_11, e6006_11N, e6006_12, e6006_13, e6006_16, e6006_17, e6006_20, e6006_23, e6006_24, a6, a7', a8', P1]
theorem Lb_new {δ : Sg} {a e c : Nat} (h1 : 156 ≤ a ∧ a < δ.1 ∧ 156 ≤ e ∧ e < δ.1 ∧ a ≠ e) (h2 : b_tg δ a = 19) (h3 : b_ia δ a 2 = 0) (h4 : b_vl δ a 1 = .ref e) (h5 : b_tg δ e = 112) (h6 : b_ln δ e = c) (hc : 2 ≤ c ∧ c ≤ 4) : Lb δ a e [] c := ⟨h1, h2, h3, h4, h5, h6, ⟨Nat.zero_le _, hc.1, hc.2⟩, fun i x h => by cases h⟩
/-- a new list of c places -/
def nl (δ : Sg) (c : Nat) : Sg := b_pt (b_nw (b_pt (b_nw δ 19 3 fun k => dflJ9.getD k .null) δ.1 0 (vI 0)) 112 c fun _ => .null) δ.1 1 (.ref (δ.1 + 1))
theorem nl_1 {δ : Sg} {c : Nat} : (nl δ c).1 = δ.1 + 2 := rfl
theorem nl_at {δ : Sg} {c a : Nat} (h : a < δ.1) : (nl δ c).2.2.2 a = δ.2.2.2 a := by
  unfold nl
  rw [pt_at (by omega), nw_at (show a ≠ δ.1 + 1 by omega), pt_at (by omega), nw_at (by omega)]
theorem nl_tg {δ : Sg} {c a : Nat} (h : a < δ.1) : b_tg (nl δ c) a = b_tg δ a := congrArg Prod.fst (nl_at h)
theorem nl_init {d : Nat} (hd : 4 ≤ d) {S : Mm} {δ : Sg} (h0 : 156 ≤ δ.1) {c : Nat} (hc : c = 2 ∨ c = 4) : b_M TT d 6001 [.ref δ.1, vI (c : Int)] (ov S (b_nw δ 19 3 fun k => dflJ9.getD k .null)) = some (.inl none, ov S (nl δ c)) := L_init hd h0 (Nat.lt_succ_self _) (by rw [tg_nw, if_pos rfl]) hc
theorem nl_Lb {δ : Sg} (h0 : 156 ≤ δ.1) {c : Nat} (hc : c = 2 ∨ c = 4) : Lb (nl δ c) δ.1 (δ.1 + 1) [] c := by
  have e1 : (b_pt (b_nw δ 19 3 fun k => dflJ9.getD k .null) δ.1 0 (vI 0)).1 = δ.1 + 1 := rfl
  refine Lb_new ⟨h0, ?_, ?_, ?_, ?_⟩ ?_ ?_ ?_ ?_ ?_ ?_
  · rw [nl_1]; omega
  · omega
  · rw [nl_1]; omega
  · omega
  · unfold nl; simp (disch := first | omega | fail) only [e1, tg_pt, ln_pt, vl_pt, ia_pt, tg_nw, ln_nw, vl_nw, ia_nw, tg_cpy, ln_cpy, vl_cpy, pt_1, nw_1, cpy_1, vi_vI, w32_id, if_pos, if_neg, Nat.reduceEqDiff, and_true, true_and, and_false, false_and, and_self, eq_self, ↓reduceIte]
  · unfold nl; simp (disch := first | omega | fail) only [e1, tg_pt, ln_pt, vl_pt, ia_pt, tg_nw, ln_nw, vl_nw, ia_nw, tg_cpy, ln_cpy, vl_cpy, pt_1, nw_1, cpy_1, vi_vI, w32_id, if_pos, if_neg, Nat.reduceEqDiff, and_true, true_and, and_false, false_and, and_self, eq_self, ↓reduceIte]; rfl
  · unfold nl; simp (disch := first | omega | fail) only [e1, tg_pt, ln_pt, vl_pt, ia_pt, tg_nw, ln_nw, vl_nw, ia_nw, tg_cpy, ln_cpy, vl_cpy, pt_1, nw_1, cpy_1, vi_vI, w32_id, if_pos, if_neg, Nat.reduceEqDiff, and_true, true_and, and_false, false_and, and_self, eq_self, ↓reduceIte]
  · unfold nl; simp (disch := first | omega | fail) only [e1, tg_pt, ln_pt, vl_pt, ia_pt, tg_nw, ln_nw, vl_nw, ia_nw, tg_cpy, ln_cpy, vl_cpy, pt_1, nw_1, cpy_1, vi_vI, w32_id, if_pos, if_neg, Nat.reduceEqDiff, and_true, true_and, and_false, false_and, and_self, eq_self, ↓reduceIte]
  · unfold nl; simp (disch := first | omega | fail) only [e1, tg_pt, ln_pt, vl_pt, ia_pt, tg_nw, ln_nw, vl_nw, ia_nw, tg_cpy, ln_cpy, vl_cpy, pt_1, nw_1, cpy_1, vi_vI, w32_id, if_pos, if_neg, Nat.reduceEqDiff, and_true, true_and, and_false, false_and, and_self, eq_self, ↓reduceIte]
  · omega
theorem nl_ia {δ : Sg} {c : Nat} : b_ia (nl δ c) δ.1 0 = 0 := by
  have e1 : (b_pt (b_nw δ 19 3 fun k => dflJ9.getD k .null) δ.1 0 (vI 0)).1 = δ.1 + 1 := rfl
  unfold nl; simp (disch := first | omega | fail) only [e1, tg_pt, ln_pt, vl_pt, ia_pt, tg_nw, ln_nw, vl_nw, ia_nw, tg_cpy, ln_cpy, vl_cpy, pt_1, nw_1, cpy_1, vi_vI, w32_id, if_pos, if_neg, Nat.reduceEqDiff, and_true, true_and, and_false, false_and, and_self, eq_self, ↓reduceIte]
theorem tg_of {δ δ' : Sg} {a : Nat} (h : δ'.2.2.2 a = δ.2.2.2 a) : b_tg δ' a = b_tg δ a := congrArg Prod.fst h
theorem vl_of {δ δ' : Sg} {a k : Nat} (h : δ'.2.2.2 a = δ.2.2.2 a) : b_vl δ' a k = b_vl δ a k := congrArg (fun x : Cl => x.2.2 k) h
theorem ln_of {δ δ' : Sg} {a : Nat} (h : δ'.2.2.2 a = δ.2.2.2 a) : b_ln δ' a = b_ln δ a := congrArg (fun x : Cl => x.2.1) h
theorem ia_of {δ δ' : Sg} {a k : Nat} (h : δ'.2.2.2 a = δ.2.2.2 a) : b_ia δ' a k = b_ia δ a k := congrArg b_vi (vl_of h)
/-- lists stand where nothing is written -/
theorem Lb_of {δ δ' : Sg} {l e c : Nat} {xs : List Nat} (H : Lb δ l e xs c) (h1 : δ.1 ≤ δ'.1) (h2 : δ'.2.2.2 l = δ.2.2.2 l) (h3 : δ'.2.2.2 e = δ.2.2.2 e) : Lb δ' l e xs c := by
  obtain ⟨⟨a1, a2, a3, a4, a5⟩, a6, a7, a8, a9, a10, a11, a14⟩ := H
  exact ⟨⟨a1, by omega, a3, by omega, a5⟩, (tg_of h2).trans a6, (ia_of h2).trans a7, (vl_of h2).trans a8, (tg_of h3).trans a9, (ln_of h3).trans a10, a11, fun i x hx => (vl_of h3).trans (a14 i x hx)⟩
theorem Lb_LR {δ : Sg} {l e c : Nat} {xs : List Nat} (H : Lb δ l e xs c) (hl : xs.length ≤ 490) : LR δ l xs := by
  obtain ⟨⟨a1, a2, a3, a4, a5⟩, a6, a7, a8, a9, a10, ⟨a11, a12, a13⟩, a14⟩ := H
  exact ⟨a1, a2, a6, a7, e, a8, a3, a4, a9, by omega, by omega, a14⟩
/-- a chain made anew -/
theorem C_init {d : Nat} (hd : 9 ≤ d) {S : Mm} {δ : Sg} {c x : Nat} (h0 : 156 ≤ c ∧ c < δ.1) (ht : b_tg δ c = 13) (hx : okE δ x) (hx2 : x < δ.1) :
    ∃ δ', b_M TT d 3801 [.ref c, .ref x] (ov S δ) = some (.inl none, ov S δ') ∧ (δ'.1 = δ.1 + 4 ∧ δ'.2.1 = δ.2.1 + 4 ∧ δ'.2.2.1 = δ.2.2.1 + 10) ∧ (∀ a, a < δ.1 → a ≠ c → δ'.2.2.2 a = δ.2.2.2 a) ∧ b_tg δ' c = 13 ∧ b_vl δ' c 0 = .ref δ.1 ∧ b_vl δ' c 1 = .ref (δ.1 + 2) ∧ Lb δ' δ.1 (δ.1 + 1) [x] 2 ∧ Lb δ' (δ.1 + 2) (δ.1 + 3) [] 2 := by
  have hz : 156 ≤ δ.1 := by omega
  have e0 : ∀ d, 1 ≤ d → ∀ σ, b_M TT d 3601 [.ref c] σ = some (.inl none, σ) := by
    intro d hd σ
    (obtain ⟨d, rfl⟩ : ∃ k, d = k + 1 := ⟨d - 1, by omega⟩); rw [b_M_succ]; simp (disch := first | assumption | omega | exact b2_01d | decide | (simp (disch := omega) only [b2_eq0, w32_id, w32_gi, w32_w32, w32_b2, Int.toNat_natCast, gi_up, vi_vI, tgd, lnd, and_true, true_and, and_false, false_and, Nat.reduceLeDiff, Nat.reduceLT, ↓reduceIte, b_c1I, b_c1R, b_c1N, cs_0, cs_nil, cs_I, cs_L, cs_R, cs_N] <;> omega) | fail) only [vI_def, vI_sx8, vI_sx16, sx8_sx8, sx16_sx16, w32_sx8, w32_sx16, xci_ex, xv_ex, lk_21, lk_22, lk_2, tgd, lnd, vld, iad, lad, ptd, std, nw_ov, bump_ov, ov_1, cv_ret, cu_ret, cv_thr, cu_thr, th_eq, ent_nil, ent_I, ent_L, ent_R, ent_N, List.tail_cons, List.tail_nil, w32_gi, w32_w32, w32_b2, b2_eq0, b2_eq1, b2_ne0, b2_01, w64_gi, w64_gl, w64_w32, w64_w64, vI_w32, vL_w64, gi_up, gl_up, vi_vI, vlg_vL, swt_nil, swt_cons, F_ite, and_true, true_and, and_false, false_and, and_self, or_true, true_or, or_false, false_or, not_true_eq_false, not_false_eq_true, b_c1I, b_c1R, b_c1N, cs_0, w32_lc, lc_lt, lc_gt, lc_le, lc_ge, lc_eq, w32_id, w64_id, eq_self, Nat.reduceEqDiff, Nat.reduceLeDiff, Nat.reduceAdd, Nat.reduceMul, Int.reduceLT, Int.reduceLE, Int.reduceEq, Int.reduceNeg, Int.reduceAdd, Int.reduceSub, Int.reduceMul, Int.reduceToNat, Int.toNat_natCast, nc_lit, Int.add_sub_cancel, Int.tmod_eq_emod_of_nonneg, Int.tdiv_eq_ediv_of_nonneg, Int.natCast_add, Int.natCast_mul, if_pos, if_neg, ↓reduceIte, e3601_0, e3601_1, e3601_4]
    done
  obtain ⟨δ3, e3⟩ : ∃ s, s = b_pt (nl δ 2) c 0 (.ref δ.1) := ⟨_, rfl⟩
  have h31 : δ3.1 = δ.1 + 2 := by rw [e3]; rfl
  obtain ⟨δ6, e6⟩ : ∃ s, s = b_pt (nl δ3 2) c 1 (.ref (δ.1 + 2)) := ⟨_, rfl⟩
  have h61 : δ6.1 = δ.1 + 4 := by rw [e6, pt_1, nl_1, h31]
  have i1 : ∀ d, 4 ≤ d → b_M TT d 6001 [.ref δ.1, vI 2] (ov S (b_nw δ 19 3 fun k => dflJ9.getD k .null)) = some (.inl none, ov S (nl δ 2)) := fun d hd => nl_init (d := d) hd (S := S) (δ := δ) hz (c := 2) (Or.inl rfl)
  have i2 : ∀ d, 4 ≤ d → b_M TT d 6001 [.ref δ3.1, vI 2] (ov S (b_nw δ3 19 3 fun k => dflJ9.getD k .null)) = some (.inl none, ov S (nl δ3 2)) := fun d hd => nl_init (d := d) hd (S := S) (δ := δ3) (by omega) (c := 2) (Or.inl rfl)
  rw [h31] at i2
  have t1 : b_tg (nl δ 2) c = 13 := (nl_tg h0.2).trans ht
  have t3 : b_tg δ3 c = 13 := by rw [e3, tg_pt]; exact t1
  have t4 : b_tg (nl δ3 2) c = 13 := (nl_tg (by omega)).trans t3
  have t6 : b_tg δ6 c = 13 := by rw [e6, tg_pt]; exact t4
  have v3 : b_vl δ3 c 0 = .ref δ.1 := by rw [e3, vl_pt, if_pos rfl, if_pos rfl]
  have v6 : b_vl δ6 c 0 = .ref δ.1 := by rw [e6, vl_pt, if_pos rfl, if_neg (by decide)]; exact (vl_of (nl_at (by omega))).trans v3
  have w6 : b_vl δ6 c 1 = .ref (δ.1 + 2) := by rw [e6, vl_pt, if_pos rfl, if_pos rfl]
  have at3 : ∀ a, a < δ.1 + 2 → a ≠ c → δ3.2.2.2 a = (nl δ 2).2.2.2 a := fun a _ h2 => by rw [e3]; exact pt_at h2
  have at6 : ∀ a, a < δ.1 + 2 → a ≠ c → δ6.2.2.2 a = δ3.2.2.2 a := fun a h1 h2 => by rw [e6, pt_at h2]; exact nl_at (by omega)
  have L1 : Lb δ6 δ.1 (δ.1 + 1) [] 2 := Lb_of (nl_Lb hz (Or.inl rfl)) (by rw [h61, nl_1]; omega) ((at6 _ (by omega) (by omega)).trans (at3 _ (by omega) (by omega))) ((at6 _ (by omega) (by omega)).trans (at3 _ (by omega) (by omega)))
  have L2 : Lb δ6 (δ.1 + 2) (δ.1 + 3) [] 2 := by
    have := nl_Lb (δ := δ3) (by omega) (c := 2) (Or.inl rfl)
    rw [h31] at this
    refine Lb_of this (by rw [h61, nl_1]; omega) ?_ ?_
    · rw [e6]; exact pt_at (by omega)
    · rw [e6]; exact pt_at (by omega)
  have m6 : b_ia δ6 δ.1 0 = 0 := (ia_of ((at6 _ (by omega) (by omega)).trans (at3 _ (by omega) (by omega)))).trans nl_ia
  have hx6 : okE δ6 x := by
    refine ⟨hx.1, ?_⟩
    have : b_tg δ6 x = b_tg δ x := by
      by_cases q : x = c
      · rw [q, t6, ht]
      · exact tg_of ((at6 x (by omega) q).trans ((at3 x (by omega) q).trans (nl_at hx2)))
    rw [this]; exact hx.2
  have i3 := fun (d : Nat) (hd : 8 ≤ d) => L_addN (d := d) hd (S := S) (x := x) L1 (by decide) hx6 (by decide)
  rw [m6] at i3
  refine ⟨b_pt (b_pt (b_pt δ6 δ.1 0 (vI (0 + 1))) (δ.1 + 1) 0 (.ref x)) δ.1 2 (vI (0 + 1)), ?_, ⟨h61, ?_, ?_⟩, fun a h1 h2 => ?_, ?_, ?_, ?_, ?_, ?_⟩
  · have L1t := L1.2.1
    clear L1 L2 at3 at6 hx6
    have i3' : ∀ d, 8 ≤ d → b_M TT d 6006 [.ref δ.1, .ref x] (ov S (b_pt (nl δ3 2) c 1 (.ref (δ.1 + 2)))) = some (.inl (some (vI 1)), ov S (b_pt (b_pt (b_pt δ6 δ.1 0 (vI (0 + 1))) (δ.1 + 1) 0 (.ref x)) δ.1 2 (vI (0 + 1)))) := by
      rw [← e6]; exact i3
    have v6' : b_vl (b_pt (nl δ3 2) c 1 (.ref (δ.1 + 2))) c 0 = .ref δ.1 := by rw [← e6]; exact v6
    have t6' : b_tg (b_pt (nl δ3 2) c 1 (.ref (δ.1 + 2))) c = 13 := by rw [← e6]; exact t6
    have u1 : b_tg (b_pt (nl δ3 2) c 1 (.ref (δ.1 + 2))) δ.1 = 19 := by rw [← e6]; exact L1t
    obtain ⟨d, rfl⟩ : ∃ k, d = k + 1 := ⟨d - 1, by omega⟩
    rw [b_M_succ]
    simp (disch := first | assumption | omega | exact b2_01d | decide | (simp (disch := omega) only [t1, t4, t6', u1, w32_id, w32_gi, w32_w32, w32_b2, Int.toNat_natCast, gi_up, vi_vI, tgd, lnd, and_true, true_and, and_false, false_and, Nat.reduceLeDiff, Nat.reduceLT, ↓reduceIte, b_c1I, b_c1R, b_c1N, cs_0, cs_nil, cs_I, cs_L, cs_R, cs_N] <;> omega) | fail) only [vI_def, vI_sx8, vI_sx16, sx8_sx8, sx16_sx16, w32_sx8, w32_sx16, xci_ex, xv_ex, lk_21, lk_22, lk_2, tgd, lnd, vld, iad, lad, ptd, std, nw_ov, bump_ov, ov_1, cv_ret, cu_ret, cv_thr, cu_thr, th_eq, ent_nil, ent_I, ent_L, ent_R, ent_N, List.tail_cons, List.tail_nil, w32_gi, w32_w32, w32_b2, b2_eq0, b2_eq1, b2_ne0, b2_01, w64_gi, w64_gl, w64_w32, w64_w64, vI_w32, vL_w64, gi_up, gl_up, vi_vI, vlg_vL, swt_nil, swt_cons, F_ite, and_true, true_and, and_false, false_and, and_self, or_true, true_or, or_false, false_or, not_true_eq_false, not_false_eq_true, b_c1I, b_c1R, b_c1N, cs_0, w32_lc, lc_lt, lc_gt, lc_le, lc_ge, lc_eq, w32_id, w64_id, eq_self, Nat.reduceEqDiff, Nat.reduceLeDiff, Nat.reduceAdd, Nat.reduceMul, Int.reduceLT, Int.reduceLE, Int.reduceEq, Int.reduceNeg, Int.reduceAdd, Int.reduceSub, Int.reduceMul, Int.reduceToNat, Int.toNat_natCast, nc_lit, Int.add_sub_cancel, Int.tmod_eq_emod_of_nonneg, Int.tdiv_eq_ediv_of_nonneg, Int.natCast_add, Int.natCast_mul, if_pos, if_neg, ↓reduceIte, e3801_0, e3801_1, e3801_4, e3801_5, e3801_8, e3801_9, e3801_10, e3801_13, e3801_13N, e3801_16, e3801_17, e3801_20, e3801_21, e3801_22, e3801_25, e3801_25N, e3801_28, e3801_29, e3801_32, e3801_32N, e3801_33, e3801_38, e3801_39, e0, i1, t1, ← e3, h31, i2, t4, i3', v6', t6', u1]
  · rw [e6, e3]; rfl
  · rw [e6, e3]; rfl
  · rw [pt_at (by omega), pt_at (by omega), pt_at (by omega), at6 a (by omega) h2, at3 a (by omega) h2, nl_at h1]
  · simp (disch := first | omega | fail) only [tg_pt, ln_pt, vl_pt, ia_pt, tg_nw, ln_nw, vl_nw, ia_nw, tg_cpy, ln_cpy, vl_cpy, pt_1, nw_1, cpy_1, vi_vI, w32_id, if_pos, if_neg, Nat.reduceEqDiff, and_true, true_and, and_false, false_and, and_self, eq_self, ↓reduceIte]; exact t6
  · simp (disch := first | omega | fail) only [tg_pt, ln_pt, vl_pt, ia_pt, tg_nw, ln_nw, vl_nw, ia_nw, tg_cpy, ln_cpy, vl_cpy, pt_1, nw_1, cpy_1, vi_vI, w32_id, if_pos, if_neg, Nat.reduceEqDiff, and_true, true_and, and_false, false_and, and_self, eq_self, ↓reduceIte]; exact v6
  · simp (disch := first | omega | fail) only [tg_pt, ln_pt, vl_pt, ia_pt, tg_nw, ln_nw, vl_nw, ia_nw, tg_cpy, ln_cpy, vl_cpy, pt_1, nw_1, cpy_1, vi_vI, w32_id, if_pos, if_neg, Nat.reduceEqDiff, and_true, true_and, and_false, false_and, and_self, eq_self, ↓reduceIte]; exact w6
  · exact Lb_put (Lb_pt0 L1) (by decide) (by decide)
  · exact Lb_of L2 (Nat.le_refl _) (by rw [pt_at (by omega), pt_at (by omega), pt_at (by omega)]) (by rw [pt_at (by omega), pt_at (by omega), pt_at (by omega)])
/-- a chain under way: its object c, its lists, what it holds, apart from its own cells -/
def ChI (lo : Nat) (δ : Sg) (N0 c lp ep ls es x : Nat) (xs ys : List Nat) (g : PF) (gs : List PF) (cp cs : Nat) (own : List Nat) : Prop :=
  (156 ≤ lo ∧ lo ≤ c ∧ c < δ.1 ∧ c ≠ lp ∧ c ≠ ep ∧ c ≠ ls ∧ c ≠ es ∧ lp ≠ ls ∧ lp ≠ es ∧ ep ≠ ls ∧ ep ≠ es) ∧ (c ∈ own ∧ lp ∈ own ∧ ep ∈ own ∧ ls ∈ own ∧ es ∈ own) ∧ (∀ a ∈ own, lo ≤ a ∧ a < δ.1) ∧
  b_tg δ c = 13 ∧ b_vl δ c 0 = .ref lp ∧ b_vl δ c 1 = .ref ls ∧ Lb δ lp ep (x :: xs) cp ∧ Lb δ ls es ys cs ∧ xs.length = ys.length ∧ gs.length = ys.length ∧ (∀ y ∈ ys, y = 2 ∨ y = 3 ∨ y = 4) ∧
  (∀ N, N0 ≤ N → SR (rst (Qo lo own) δ) N x g) ∧ ∀ (i z : Nat) (h : PF), xs[i]? = some z → gs[i]? = some h → ∀ N, N0 ≤ N → SR (rst (Qo lo own) δ) N z h
theorem SR_tg {P : Nat → Bool} {δ : Sg} {N x : Nat} {g : PF} (h : SR (rst P δ) N x g) : 156 ≤ x ∧ x < δ.1 ∧ P x = true ∧ okE δ x := by
  cases N with
  | zero => exact h.elim
  | succ N =>
    obtain ⟨h1, h2, h3⟩ := h
    have ht : b_tg (rst P δ) x = 13 ∨ b_tg (rst P δ) x = 14 ∨ b_tg (rst P δ) x = 15 := by
      rcases h3 with ⟨q, _⟩ | ⟨q, _⟩ | ⟨q, _⟩
      · exact Or.inr (Or.inr q)
      · exact Or.inr (Or.inl q)
      · exact Or.inl q
    obtain ⟨h5, h6⟩ := rst_tg (show b_tg (rst P δ) x ≠ 0 by omega)
    have h7 : b_tg (rst P δ) x = b_tg δ x := congrArg Prod.fst h6
    exact ⟨h1, h2, h5, Or.inr h1, by omega⟩
theorem ChI_grow {lo : Nat} {δ δ' : Sg} {N0 c lp ep ls es x : Nat} {xs ys : List Nat} {g : PF} {gs : List PF} {cp cs : Nat} {own : List Nat} (H : ChI lo δ N0 c lp ep ls es x xs ys g gs cp cs own) (G : Grw δ δ') : ChI lo δ' N0 c lp ep ls es x xs ys g gs cp cs own := by
  obtain ⟨h1, h2, h3, h4, h5, h6, h7, h8, h9, h10, h11, h12, h13⟩ := H
  have E : Ext0 (rst (Qo lo own) δ) (rst (Qo lo own) δ') := rst_go G.1 fun a q1 q2 q3 => ⟨G.2 a q2, q1, q3⟩
  have o1 := h3 c h2.1
  have o2 := h3 lp h2.2.1
  have o3 := h3 ep h2.2.2.1
  have o4 := h3 ls h2.2.2.2.1
  have o5 := h3 es h2.2.2.2.2
  have g1 := G.1
  exact ⟨⟨h1.1, h1.2.1, by omega, h1.2.2.2⟩, h2, fun a ha => ⟨(h3 a ha).1, by have := (h3 a ha).2; omega⟩, (tg_of (G.2 c o1.2)).trans h4, (vl_of (G.2 c o1.2)).trans h5, (vl_of (G.2 c o1.2)).trans h6, Lb_of h7 g1 (G.2 _ o2.2) (G.2 _ o3.2), Lb_of h8 g1 (G.2 _ o4.2) (G.2 _ o5.2), h9, h10, h11, fun N hN => SR_ext0 E (h12 N hN), fun i z h q1 q2 N hN => SR_ext0 E (h13 i z h q1 q2 N hN)⟩
theorem ChI_SR {lo : Nat} {δ : Sg} {N0 c lp ep ls es x : Nat} {xs ys : List Nat} {g : PF} {gs : List PF} {cp cs : Nat} {own : List Nat} (H : ChI lo δ N0 c lp ep ls es x xs ys g gs cp cs own) (hl : xs.length ≤ 450) : ∀ N, N0 + 1 ≤ N → SR (rst (Qo lo []) δ) N c (pChain g ys gs) := by
  obtain ⟨h1, h2, h3, h4, h5, h6, h7, h8, h9, h10, h11, h12, h13⟩ := H
  intro N hN
  obtain ⟨N, rfl⟩ : ∃ k, N = k + 1 := ⟨N - 1, by omega⟩
  have E : Ext0 (rst (Qo lo own) δ) (rst (Qo lo []) δ) := rst_go (Nat.le_refl _) fun a q1 q2 q3 => ⟨rfl, q1, by simp⟩
  have at_ : ∀ a, lo ≤ a → (rst (Qo lo []) δ).2.2.2 a = δ.2.2.2 a := fun a ha => if_pos (Qo_iff.mpr ⟨ha, by simp⟩)
  have o2 := h3 lp h2.2.1
  have o3 := h3 ep h2.2.2.1
  have o4 := h3 ls h2.2.2.2.1
  have o5 := h3 es h2.2.2.2.2
  have L1 : Lb (rst (Qo lo []) δ) lp ep (x :: xs) cp := Lb_of h7 (Nat.le_refl _) (at_ _ o2.1) (at_ _ o3.1)
  have L2 : Lb (rst (Qo lo []) δ) ls es ys cs := Lb_of h8 (Nat.le_refl _) (at_ _ o4.1) (at_ _ o5.1)
  exact ⟨by omega, h1.2.2.1, Or.inr (Or.inr ⟨(tg_of (at_ c h1.2.1)).trans h4, lp, ls, x, xs, ys, g, gs, (vl_of (at_ c h1.2.1)).trans h5, (vl_of (at_ c h1.2.1)).trans h6, Lb_LR L1 (by rw [List.length_cons]; omega), Lb_LR L2 (by omega), h9, h10, h11, SR_ext0 E (h12 N (by omega)), fun i z h q1 q2 => SR_ext0 E (h13 i z h q1 q2 N (by omega)), fun o => rfl⟩)⟩
/-- the box of a sign -/
def sgC (y : Nat) : Int := if y = 3 then 43 else if y = 4 then 45 else 42
def BxF (δ : Sg) : Prop := b_tg δ 1 = 113 ∧ b_ln δ 1 = 256 ∧ b_vl δ 1 170 = .ref 2 ∧ b_vl δ 1 171 = .ref 3 ∧ b_vl δ 1 173 = .ref 4 ∧ b_tg δ 2 = 20 ∧ b_tg δ 3 = 20 ∧ b_tg δ 4 = 20 ∧ b_ia δ 2 0 = 42 ∧ b_ia δ 3 0 = 43 ∧ b_ia δ 4 0 = 45
theorem BxF_of {h : Nat → Cl} {δ : Sg} (H : H0 h) (e : ∀ a, a < 42 → δ.2.2.2 a = h a) : BxF δ := by
  have := H.2
  unfold BxF b_ia b_tg b_vl b_ln
  rw [e 1 (by omega), e 2 (by omega), e 3 (by omega), e 4 (by omega)]
  exact this
theorem BxF_grow {δ δ' : Sg} (F : BxF δ) (e : ∀ a, a < 42 → δ'.2.2.2 a = δ.2.2.2 a) : BxF δ' := by
  unfold BxF b_ia b_tg b_vl b_ln at F ⊢
  rw [e 1 (by omega), e 2 (by omega), e 3 (by omega), e 4 (by omega)]
  exact F
theorem J_box {d : Nat} (hd : 1 ≤ d) {S : Mm} {δ : Sg} (F : BxF δ) {y : Nat} (hy : y = 2 ∨ y = 3 ∨ y = 4) : b_M TT d 7001 [vI (sgC y)] (ov S δ) = some (.inl (some (.ref y)), ov S δ) := by
  obtain ⟨f1, f2, f3, f4, f5, _⟩ := F
  rcases hy with rfl | rfl | rfl
  · have e : sgC 2 = 42 := rfl
    rw [e]
    (obtain ⟨d, rfl⟩ : ∃ k, d = k + 1 := ⟨d - 1, by omega⟩); rw [b_M_succ]; simp (disch := first | assumption | omega | exact b2_01d | decide | (simp (disch := omega) only [b2_eq0, w32_id, w32_gi, w32_w32, w32_b2, Int.toNat_natCast, gi_up, vi_vI, tgd, lnd, and_true, true_and, and_false, false_and, Nat.reduceLeDiff, Nat.reduceLT, ↓reduceIte, b_c1I, b_c1R, b_c1N, cs_0, cs_nil, cs_I, cs_L, cs_R, cs_N] <;> omega) | fail) only [vI_def, vI_sx8, vI_sx16, sx8_sx8, sx16_sx16, w32_sx8, w32_sx16, xci_ex, xv_ex, lk_21, lk_22, lk_2, tgd, lnd, vld, iad, lad, ptd, std, nw_ov, bump_ov, ov_1, cv_ret, cu_ret, cv_thr, cu_thr, th_eq, ent_nil, ent_I, ent_L, ent_R, ent_N, List.tail_cons, List.tail_nil, w32_gi, w32_w32, w32_b2, b2_eq0, b2_eq1, b2_ne0, b2_01, w64_gi, w64_gl, w64_w32, w64_w64, vI_w32, vL_w64, gi_up, gl_up, vi_vI, vlg_vL, swt_nil, swt_cons, F_ite, and_true, true_and, and_false, false_and, and_self, or_true, true_or, or_false, false_or, not_true_eq_false, not_false_eq_true, b_c1I, b_c1R, b_c1N, cs_0, w32_lc, lc_lt, lc_gt, lc_le, lc_ge, lc_eq, w32_id, w64_id, eq_self, Nat.reduceEqDiff, Nat.reduceLeDiff, Nat.reduceAdd, Nat.reduceMul, Int.reduceLT, Int.reduceLE, Int.reduceEq, Int.reduceNeg, Int.reduceAdd, Int.reduceSub, Int.reduceMul, Int.reduceToNat, Int.toNat_natCast, nc_lit, Int.add_sub_cancel, Int.tmod_eq_emod_of_nonneg, Int.tdiv_eq_ediv_of_nonneg, Int.natCast_add, Int.natCast_mul, if_pos, if_neg, ↓reduceIte, e7001_0, e7001_1, e7001_3, e7001_6, e7001_7, e7001_10, e7001_13, e7001_16, e7001_17, e7001_20, e7001_21, e7001_22, e7001_22N, e7001_23, e7001_26, e7001_27, e7001_28, e7001_31, e7001_31N, f1, f2, f3]
  · have e : sgC 3 = 43 := rfl
    rw [e]
    (obtain ⟨d, rfl⟩ : ∃ k, d = k + 1 := ⟨d - 1, by omega⟩); rw [b_M_succ]; simp (disch := first | assumption | omega | exact b2_01d | decide | (simp (disch := omega) only [b2_eq0, w32_id, w32_gi, w32_w32, w32_b2, Int.toNat_natCast, gi_up, vi_vI, tgd, lnd, and_true, true_and, and_false, false_and, Nat.reduceLeDiff, Nat.reduceLT, ↓reduceIte, b_c1I, b_c1R, b_c1N, cs_0, cs_nil, cs_I, cs_L, cs_R, cs_N] <;> omega) | fail) only [vI_def, vI_sx8, vI_sx16, sx8_sx8, sx16_sx16, w32_sx8, w32_sx16, xci_ex, xv_ex, lk_21, lk_22, lk_2, tgd, lnd, vld, iad, lad, ptd, std, nw_ov, bump_ov, ov_1, cv_ret, cu_ret, cv_thr, cu_thr, th_eq, ent_nil, ent_I, ent_L, ent_R, ent_N, List.tail_cons, List.tail_nil, w32_gi, w32_w32, w32_b2, b2_eq0, b2_eq1, b2_ne0, b2_01, w64_gi, w64_gl, w64_w32, w64_w64, vI_w32, vL_w64, gi_up, gl_up, vi_vI, vlg_vL, swt_nil, swt_cons, F_ite, and_true, true_and, and_false, false_and, and_self, or_true, true_or, or_false, false_or, not_true_eq_false, not_false_eq_true, b_c1I, b_c1R, b_c1N, cs_0, w32_lc, lc_lt, lc_gt, lc_le, lc_ge, lc_eq, w32_id, w64_id, eq_self, Nat.reduceEqDiff, Nat.reduceLeDiff, Nat.reduceAdd, Nat.reduceMul, Int.reduceLT, Int.reduceLE, Int.reduceEq, Int.reduceNeg, Int.reduceAdd, Int.reduceSub, Int.reduceMul, Int.reduceToNat, Int.toNat_natCast, nc_lit, Int.add_sub_cancel, Int.tmod_eq_emod_of_nonneg, Int.tdiv_eq_ediv_of_nonneg, Int.natCast_add, Int.natCast_mul, if_pos, if_neg, ↓reduceIte, e7001_0, e7001_1, e7001_3, e7001_6, e7001_7, e7001_10, e7001_13, e7001_16, e7001_17, e7001_20, e7001_21, e7001_22, e7001_22N, e7001_23, e7001_26, e7001_27, e7001_28, e7001_31, e7001_31N, f1, f2, f4]
  · have e : sgC 4 = 45 := rfl
    rw [e]
    (obtain ⟨d, rfl⟩ : ∃ k, d = k + 1 := ⟨d - 1, by omega⟩); rw [b_M_succ]; simp (disch := first | assumption | omega | exact b2_01d | decide | (simp (disch := omega) only [b2_eq0, w32_id, w32_gi, w32_w32, w32_b2, Int.toNat_natCast, gi_up, vi_vI, tgd, lnd, and_true, true_and, and_false, false_and, Nat.reduceLeDiff, Nat.reduceLT, ↓reduceIte, b_c1I, b_c1R, b_c1N, cs_0, cs_nil, cs_I, cs_L, cs_R, cs_N] <;> omega) | fail) only [vI_def, vI_sx8, vI_sx16, sx8_sx8, sx16_sx16, w32_sx8, w32_sx16, xci_ex, xv_ex, lk_21, lk_22, lk_2, tgd, lnd, vld, iad, lad, ptd, std, nw_ov, bump_ov, ov_1, cv_ret, cu_ret, cv_thr, cu_thr, th_eq, ent_nil, ent_I, ent_L, ent_R, ent_N, List.tail_cons, List.tail_nil, w32_gi, w32_w32, w32_b2, b2_eq0, b2_eq1, b2_ne0, b2_01, w64_gi, w64_gl, w64_w32, w64_w64, vI_w32, vL_w64, gi_up, gl_up, vi_vI, vlg_vL, swt_nil, swt_cons, F_ite, and_true, true_and, and_false, false_and, and_self, or_true, true_or, or_false, false_or, not_true_eq_false, not_false_eq_true, b_c1I, b_c1R, b_c1N, cs_0, w32_lc, lc_lt, lc_gt, lc_le, lc_ge, lc_eq, w32_id, w64_id, eq_self, Nat.reduceEqDiff, Nat.reduceLeDiff, Nat.reduceAdd, Nat.reduceMul, Int.reduceLT, Int.reduceLE, Int.reduceEq, Int.reduceNeg, Int.reduceAdd, Int.reduceSub, Int.reduceMul, Int.reduceToNat, Int.toNat_natCast, nc_lit, Int.add_sub_cancel, Int.tmod_eq_emod_of_nonneg, Int.tdiv_eq_ediv_of_nonneg, Int.natCast_add, Int.natCast_mul, if_pos, if_neg, ↓reduceIte, e7001_0, e7001_1, e7001_3, e7001_6, e7001_7, e7001_10, e7001_13, e7001_16, e7001_17, e7001_20, e7001_21, e7001_22, e7001_22N, e7001_23, e7001_26, e7001_27, e7001_28, e7001_31, e7001_31N, f1, f2, f5]
theorem okE_box {δ : Sg} (F : BxF δ) {y : Nat} (hy : y = 2 ∨ y = 3 ∨ y = 4) : okE δ y := by
  obtain ⟨f1, f2, f3, f4, f5, f6, f7, f8, _⟩ := F
  rcases hy with rfl | rfl | rfl
  · exact ⟨Or.inl (by omega), by omega⟩
  · exact ⟨Or.inl (by omega), by omega⟩
  · exact ⟨Or.inl (by omega), by omega⟩
/-- one more sign, one more sum -/
theorem ChI_add {d : Nat} (hd : 9 ≤ d) {S : Mm} {lo lo1 : Nat} {δ : Sg} {N0 c lp ep ls es x w y : Nat} {xs ys : List Nat} {g h : PF} {gs : List PF} {cp cs : Nat} {own : List Nat} (H : ChI lo δ N0 c lp ep ls es x xs ys g gs cp cs own) (F : BxF δ) (hl : xs.length ≤ 450) (hy : y = 2 ∨ y = 3 ∨ y = 4) (hlo : lo ≤ lo1) (hlo2 : ∀ a ∈ own, a < lo1) (hw : ∀ N, N0 ≤ N → SR (rst (Qo lo1 []) δ) N w h) :
    ∃ δ' ep' es' cp' cs' own', b_M TT d 3802 [.ref c, vI (sgC y), .ref w] (ov S δ) = some (.inl none, ov S δ') ∧ ChI lo δ' N0 c lp ep' ls es' x (xs ++ [w]) (ys ++ [y]) g (gs ++ [h]) cp' cs' own' ∧ (∀ a, a < lo → δ'.2.2.2 a = δ.2.2.2 a) ∧ δ.1 ≤ δ'.1 ∧ δ'.1 ≤ δ.1 + 2 ∧ δ'.2.1 ≤ δ.2.1 + 2 ∧ δ'.2.2.1 + 4 * cp + 4 * cs ≤ δ.2.2.1 + 4 * cp' + 4 * cs' := by
  obtain ⟨h1, h2, h3, h4, h5, h6, h7, h8, h9, h10, h11, h12, h13⟩ := H
  have o1 := h3 c h2.1
  have o2 := h3 lp h2.2.1
  have o3 := h3 ep h2.2.2.1
  have o4 := h3 ls h2.2.2.2.1
  have o5 := h3 es h2.2.2.2.2
  obtain ⟨w1, w2, w3, w4⟩ := SR_tg (hw N0 (Nat.le_refl _))
  have w5 := (Qo_iff.mp w3).1
  obtain ⟨d, rfl⟩ : ∃ k, d = k + 1 := ⟨d - 1, by omega⟩
  obtain ⟨δ1, es', cs', m1, L1, k1, k2, k3, k4, k5, k6⟩ := L_add (d := d) (by omega) (S := S) h8 (by omega) (fun z hz => by
    have q := h11 z hz
    exact ⟨by omega, okE_box F q⟩) (okE_box F hy) (by omega)
  have a1 : δ1.2.2.2 c = δ.2.2.2 c := k3 c o1.2 h1.2.2.2.2.2.1 h1.2.2.2.2.2.2.1
  have Lp1 : Lb δ1 lp ep (x :: xs) cp := Lb_of h7 k1 (k3 lp o2.2 h1.2.2.2.2.2.2.2.1 h1.2.2.2.2.2.2.2.2.1) (k3 ep o3.2 h1.2.2.2.2.2.2.2.2.2.1 h1.2.2.2.2.2.2.2.2.2.2)
  have tgS : ∀ {z : Nat} {f : PF}, SR (rst (Qo lo own) δ) N0 z f → z < δ.1 ∧ okE δ1 z := fun q => by
    obtain ⟨q1, q2, q3, q4⟩ := SR_tg q
    have q5 := (Qo_iff.mp q3).2
    refine ⟨q2, q4.1, ?_⟩
    rw [tg_of (k3 _ q2 (fun z => q5 (z ▸ h2.2.2.2.1)) fun z => q5 (z ▸ h2.2.2.2.2))]
    exact q4.2
  have ww : okE δ1 w := ⟨w4.1, by
    rw [tg_of (k3 w w2 (by have := hlo2 ls h2.2.2.2.1; omega) (by have := hlo2 es h2.2.2.2.2; omega))]
    exact w4.2⟩
  obtain ⟨δ2, ep', cp', m2, L2, j1, j2, j3, j4, j5, j6⟩ := L_add (d := d) (by omega) (S := S) (x := w) Lp1 (by rw [List.length_cons]; omega) (fun z hz => by
    rcases List.mem_cons.mp hz with rfl | hz
    · have := tgS (h12 N0 (Nat.le_refl _))
      exact ⟨by omega, this.2⟩
    · obtain ⟨i, hi⟩ := List.mem_iff_getElem?.mp hz
      have hil : i < gs.length := by
        have : i < xs.length := by
          refine Classical.byContradiction fun q => ?_
          rw [List.getElem?_eq_none (by omega)] at hi
          cases hi
        omega
      have := tgS (h13 i z gs[i] hi (List.getElem?_eq_getElem hil) N0 (Nat.le_refl _))
      exact ⟨by omega, this.2⟩) ww (by omega)
  have a2 : δ2.2.2.2 c = δ1.2.2.2 c := j3 c (by omega) h1.2.2.2.1 h1.2.2.2.2.1
  have n1 : es' ≠ lp ∧ es' ≠ ep ∧ es' ≠ c := by
    rcases k4 with q | q
    · rw [q]; exact ⟨fun z => h1.2.2.2.2.2.2.2.2.1 z.symm, fun z => h1.2.2.2.2.2.2.2.2.2.2 z.symm, fun z => h1.2.2.2.2.2.2.1 z.symm⟩
    · omega
  have hes : es' < δ1.1 := L1.1.2.2.2.1
  have n2 : ep' ≠ ls ∧ ep' ≠ es' ∧ ep' ≠ c := by
    rcases j4 with q | q
    · rw [q]; exact ⟨h1.2.2.2.2.2.2.2.2.2.1, fun z => n1.2.1 z.symm, fun z => h1.2.2.2.2.1 z.symm⟩
    · omega
  have hep : ep' < δ2.1 := L2.1.2.2.2.1
  have L1' : Lb δ2 ls es' (ys ++ [y]) cs' := Lb_of L1 j1 (j3 ls (by omega) (fun z => h1.2.2.2.2.2.2.2.1 z.symm) fun z => h1.2.2.2.2.2.2.2.2.2.1 z.symm) (j3 es' hes n1.1 n1.2.1)
  have E : Ext0 (rst (Qo lo own) δ) (rst (Qo lo (ep' :: es' :: own)) δ2) := rst_go (by omega) fun a q1 q2 q3 => by
    refine ⟨(j3 a (by omega) (fun z => q3 (z ▸ h2.2.1)) fun z => q3 (z ▸ h2.2.2.1)).trans (k3 a q2 (fun z => q3 (z ▸ h2.2.2.2.1)) fun z => q3 (z ▸ h2.2.2.2.2)), q1, fun z => ?_⟩
    rcases List.mem_cons.mp z with z | z
    · rcases j4 with q | q
      · rw [q] at z; exact q3 (z ▸ h2.2.2.1)
      · omega
    · rcases List.mem_cons.mp z with z | z
      · rcases k4 with q | q
        · rw [q] at z; exact q3 (z ▸ h2.2.2.2.2)
        · omega
      · exact q3 z
  have E2 : Ext0 (rst (Qo lo1 []) δ) (rst (Qo lo (ep' :: es' :: own)) δ2) := rst_go (by omega) fun a q1 q2 _ => by
    have q3 : a ∉ own := fun z => by have := hlo2 a z; omega
    refine ⟨(j3 a (by omega) (fun z => q3 (z ▸ h2.2.1)) fun z => q3 (z ▸ h2.2.2.1)).trans (k3 a q2 (fun z => q3 (z ▸ h2.2.2.2.1)) fun z => q3 (z ▸ h2.2.2.2.2)), by omega, fun z => ?_⟩
    rcases List.mem_cons.mp z with z | z
    · rcases j4 with q | q
      · rw [q] at z; exact q3 (z ▸ h2.2.2.1)
      · omega
    · rcases List.mem_cons.mp z with z | z
      · rcases k4 with q | q
        · rw [q] at z; exact q3 (z ▸ h2.2.2.2.2)
        · omega
      · exact q3 z
  have bx := fun (d : Nat) (hd : 1 ≤ d) => J_box (d := d) hd (S := S) F hy
  have v1 : b_vl δ1 c 0 = .ref lp := (vl_of a1).trans h5
  have t1 : b_tg δ1 c = 13 := (tg_of a1).trans h4
  have tl : b_tg δ ls = 19 := h8.2.1
  have tp : b_tg δ1 lp = 19 := Lp1.2.1
  refine ⟨δ2, ep', es', cp', cs', ep' :: es' :: own, ?_, ⟨⟨h1.1, h1.2.1, by omega, h1.2.2.2.1, fun z => n2.2.2 z.symm, h1.2.2.2.2.2.1, fun z => n1.2.2 z.symm, h1.2.2.2.2.2.2.2.1, fun z => n1.1 z.symm, n2.1, n2.2.1⟩, ?_, fun a ha => ?_, (tg_of a2).trans t1, (vl_of a2).trans v1, (vl_of a2).trans ((vl_of a1).trans h6), L2, L1', ?_, ?_, fun z hz => ?_, fun N hN => SR_ext0 E (h12 N hN), fun i z f q1 q2 N hN => ?_⟩, fun a ha => ?_, by omega, by omega, by omega, by omega⟩
  · have lo156 := h1.1
    clear L1 L2 L1' E E2 Lp1 h7 h8 h12 h13 hw h3 hlo2 tgS F
    rw [b_M_succ]
    simp (disch := first | assumption | omega | exact b2_01d | decide | (simp (disch := omega) only [h4, tl, tp, t1, w32_id, w32_gi, w32_w32, w32_b2, Int.toNat_natCast, gi_up, vi_vI, tgd, lnd, and_true, true_and, and_false, false_and, Nat.reduceLeDiff, Nat.reduceLT, ↓reduceIte, b_c1I, b_c1R, b_c1N, cs_0, cs_nil, cs_I, cs_L, cs_R, cs_N] <;> omega) | fail) only [vI_def, vI_sx8, vI_sx16, sx8_sx8, sx16_sx16, w32_sx8, w32_sx16, xci_ex, xv_ex, lk_21, lk_22, lk_2, tgd, lnd, vld, iad, lad, ptd, std, nw_ov, bump_ov, ov_1, cv_ret, cu_ret, cv_thr, cu_thr, th_eq, ent_nil, ent_I, ent_L, ent_R, ent_N, List.tail_cons, List.tail_nil, w32_gi, w32_w32, w32_b2, b2_eq0, b2_eq1, b2_ne0, b2_01, w64_gi, w64_gl, w64_w32, w64_w64, vI_w32, vL_w64, gi_up, gl_up, vi_vI, vlg_vL, swt_nil, swt_cons, F_ite, and_true, true_and, and_false, false_and, and_self, or_true, true_or, or_false, false_or, not_true_eq_false, not_false_eq_true, b_c1I, b_c1R, b_c1N, cs_0, w32_lc, lc_lt, lc_gt, lc_le, lc_ge, lc_eq, w32_id, w64_id, eq_self, Nat.reduceEqDiff, Nat.reduceLeDiff, Nat.reduceAdd, Nat.reduceMul, Int.reduceLT, Int.reduceLE, Int.reduceEq, Int.reduceNeg, Int.reduceAdd, Int.reduceSub, Int.reduceMul, Int.reduceToNat, Int.toNat_natCast, nc_lit, Int.add_sub_cancel, Int.tmod_eq_emod_of_nonneg, Int.tdiv_eq_ediv_of_nonneg, Int.natCast_add, Int.natCast_mul, if_pos, if_neg, ↓reduceIte, e3802_0, e3802_1, e3802_4, e3802_5, e3802_8, e3802_13, e3802_14, e3802_15, e3802_18, e3802_18N, e3802_19, e3802_24, e3802_25, h4, h6, bx, m1, t1, v1, m2]
  · exact ⟨List.mem_cons_of_mem _ (List.mem_cons_of_mem _ h2.1), List.mem_cons_of_mem _ (List.mem_cons_of_mem _ h2.2.1), List.mem_cons_self, List.mem_cons_of_mem _ (List.mem_cons_of_mem _ h2.2.2.2.1), List.mem_cons_of_mem _ List.mem_cons_self⟩
  · rcases List.mem_cons.mp ha with q | ha
    · rw [q]
      refine ⟨?_, hep⟩
      rcases j4 with q | q <;> omega
    · rcases List.mem_cons.mp ha with q | ha
      · rw [q]
        refine ⟨?_, by omega⟩
        rcases k4 with q | q <;> omega
      · have := h3 a ha
        exact ⟨this.1, by omega⟩
  · rw [List.length_append, List.length_append, List.length_singleton, List.length_singleton, h9]
  · rw [List.length_append, List.length_append, List.length_singleton, List.length_singleton, h10]
  · rcases List.mem_append.mp hz with hz | hz
    · exact h11 z hz
    · rw [List.mem_singleton.mp hz]; exact hy
  · rcases Lb_at q1 with ⟨q3, q4⟩ | ⟨q3, q4⟩
    · rw [List.getElem?_append_left (by omega)] at q2
      exact SR_ext0 E (h13 i z f q4 q2 N hN)
    · rw [List.getElem?_append_right (by omega), show i - gs.length = 0 by omega] at q2
      cases q2
      rw [q4]
      exact SR_ext0 E2 (hw N hN)
  · have q3 : a ∉ own := fun z => by have := h3 a z; omega
    exact (j3 a (by omega) (fun z => q3 (z ▸ h2.2.1)) fun z => q3 (z ▸ h2.2.2.1)).trans (k3 a (by omega) (fun z => q3 (z ▸ h2.2.2.2.1)) fun z => q3 (z ▸ h2.2.2.2.2))
