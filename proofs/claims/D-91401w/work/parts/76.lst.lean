/-! ===== lists that grow: what they hold; what belongs to whom ===== -/
set_option maxRecDepth 100000
/-- a list under way: l with its array e, of c places -/
def Lb (δ : Sg) (l e : Nat) (xs : List Nat) (c : Nat) : Prop := (156 ≤ l ∧ l < δ.1 ∧ 156 ≤ e ∧ e < δ.1 ∧ l ≠ e) ∧ b_tg δ l = 19 ∧ b_ia δ l 2 = xs.length ∧ b_vl δ l 1 = .ref e ∧ b_tg δ e = 112 ∧ b_ln δ e = c ∧ (xs.length ≤ c ∧ 2 ≤ c ∧ c ≤ 2 * xs.length + 4) ∧ ∀ i x, xs[i]? = some x → b_vl δ e i = .ref x
def okE (δ : Sg) (v : Nat) : Prop := (v < 42 ∨ 156 ≤ v) ∧ 1 ≤ b_tg δ v ∧ b_tg δ v ≤ 20
theorem okE_mem {S : Mm} {δ : Sg} {v : Nat} (h : okE δ v) : b_tg (ov S δ) v ∈ [1, 2, 3, 4, 5, 6, 7, 8, 9, 10, 11, 12, 13, 14, 15, 16, 17, 18, 19, 20] := by
  rw [tgd h.1]
  have h1 := h.2.1
  have h2 := h.2.2
  generalize b_tg δ v = k at *
  have : ∀ j : Fin 21, 1 ≤ j.1 → j.1 ∈ [1, 2, 3, 4, 5, 6, 7, 8, 9, 10, 11, 12, 13, 14, 15, 16, 17, 18, 19, 20] := by decide
  exact this ⟨k, by omega⟩ h1
theorem okE_el {S : Mm} {δ : Sg} {v : Nat} (h : okE δ v) : b_okEl (ov S δ) [1, 2, 3, 4, 5, 6, 7, 8, 9, 10, 11, 12, 13, 14, 15, 16, 17, 18, 19, 20] (.ref v) = true := by
  have := okE_mem (S := S) h
  unfold b_okEl
  simpa using this
theorem shr1 {x : Nat} (h : x ≤ 1000) : shrI (x : Int) 1 = ((x / 2 : Nat) : Int) := by
  have key : ∀ y : Fin 1001, shrI (y.1 : Int) 1 = ((y.1 / 2 : Nat) : Int) := by decide +kernel
  exact key ⟨x, by omega⟩
theorem J_newLen {d : Nat} (hd : 2 ≤ d) {c : Nat} (h : 2 ≤ c ∧ c ≤ 1000) {σ : Sg} : b_M TT d 6401 [vI (c : Int), vI 1, vI ((c / 2 : Nat) : Int)] σ = some (.inl (some (vI ((c + c / 2 : Nat) : Int))), σ) := by
  have e : max (1 : Int) ((c / 2 : Nat) : Int) = ((c / 2 : Nat) : Int) := by omega
  have e2 : (c : Int) + ((c / 2 : Nat) : Int) = ((c + c / 2 : Nat) : Int) := by omega
  have hk : c / 2 ≤ 500 ∧ 1 ≤ c / 2 := by omega
  generalize c / 2 = k at *
  have hs : c + k ≤ 1500 := by omega
  generalize c + k = s at *
  (obtain ⟨d, rfl⟩ : ∃ k, d = k + 1 := ⟨d - 1, by omega⟩); rw [b_M_succ]; simp (disch := first | assumption | omega | exact b2_01d | decide | (simp (disch := omega) only [b2_eq0, w32_id, w32_gi, w32_w32, w32_b2, Int.toNat_natCast, gi_up, vi_vI, tgd, lnd, and_true, true_and, and_false, false_and, Nat.reduceLeDiff, Nat.reduceLT, ↓reduceIte, b_c1I, b_c1R, b_c1N, cs_0, cs_nil, cs_I, cs_L, cs_R, cs_N] <;> omega) | fail) only [vI_def, vI_sx8, vI_sx16, sx8_sx8, sx16_sx16, w32_sx8, w32_sx16, xci_ex, xv_ex, lk_21, lk_22, lk_2, tgd, lnd, vld, iad, lad, ptd, std, nw_ov, bump_ov, ov_1, cv_ret, cu_ret, cv_thr, cu_thr, th_eq, ent_nil, ent_I, ent_L, ent_R, ent_N, List.tail_cons, List.tail_nil, w32_gi, w32_w32, w32_b2, b2_eq0, b2_eq1, b2_ne0, b2_01, w64_gi, w64_gl, w64_w32, w64_w64, vI_w32, vL_w64, gi_up, gl_up, vi_vI, vlg_vL, swt_nil, swt_cons, F_ite, and_true, true_and, and_false, false_and, and_self, or_true, true_or, or_false, false_or, not_true_eq_false, not_false_eq_true, b_c1I, b_c1R, b_c1N, cs_0, w32_lc, lc_lt, lc_gt, lc_le, lc_ge, lc_eq, w32_id, w64_id, eq_self, Nat.reduceEqDiff, Nat.reduceLeDiff, Nat.reduceAdd, Nat.reduceMul, Int.reduceLT, Int.reduceLE, Int.reduceEq, Int.reduceNeg, Int.reduceAdd, Int.reduceSub, Int.reduceMul, Int.reduceToNat, Int.toNat_natCast, nc_lit, Int.add_sub_cancel, Int.tmod_eq_emod_of_nonneg, Int.tdiv_eq_ediv_of_nonneg, Int.natCast_add, Int.natCast_mul, if_pos, if_neg, ↓reduceIte, e6401_0, e6401_1, e6401_2, e6401_3, e6401_6, e6401_7, e6401_8, e6401_9, e6401_10, e6401_13, e6401_14, e6401_16, e6401_19, e6401_20, e6401_21, e6401_22, e6401_23, e6401_26, J_max, e, e2]
theorem cpy_ov {S : Mm} {σ : Sg} {e a n : Nat} (he : 156 ≤ e) (ha : 156 ≤ a) : b_cpyS (ov S σ) e 0 a 0 n = ov S (b_cpyS σ e 0 a 0 n) := by
  unfold b_cpyS
  rw [std (Or.inr ha)]
  simp only [vld (Or.inr he), vld (Or.inr ha)]
theorem tg_cpy {σ : Sg} {e a n b : Nat} : b_tg (b_cpyS σ e 0 a 0 n) b = b_tg σ b := by
  unfold b_cpyS b_st b_tg
  dsimp only
  split <;> rfl
theorem ln_cpy {σ : Sg} {e a n b : Nat} : b_ln (b_cpyS σ e 0 a 0 n) b = b_ln σ b := by
  unfold b_cpyS b_st b_ln
  dsimp only
  split <;> rfl
theorem vl_cpy {σ : Sg} {e a n b j : Nat} : b_vl (b_cpyS σ e 0 a 0 n) b j = if b = a then (if j < n then b_vl σ e j else b_vl σ a j) else b_vl σ b j := by
  unfold b_cpyS b_st
  show (if b = a then ((σ.2.2.2 b).1, (σ.2.2.2 b).2.1, fun j => if 0 ≤ j ∧ j < 0 + n then b_vl σ e (0 + (j - 0)) else b_vl σ a j) else σ.2.2.2 b).2.2 j = _
  by_cases h : b = a
  · rw [if_pos h, if_pos h]
    show (if 0 ≤ j ∧ j < 0 + n then b_vl σ e (0 + (j - 0)) else b_vl σ a j) = _
    by_cases h2 : j < n
    · rw [if_pos (by omega), if_pos h2, Nat.sub_zero, Nat.zero_add]
    · rw [if_neg (by omega), if_neg h2]
  · rw [if_neg h, if_neg h]; rfl
theorem cpy_1 {σ : Sg} {e a n : Nat} : (b_cpyS σ e 0 a 0 n).1 = σ.1 := rfl
theorem copyOf {d : Nat} (hd : 3 ≤ d) {S : Mm} {δ : Sg} {e c c' : Nat} (h0 : 156 ≤ δ.1) (h1 : 156 ≤ e ∧ e < δ.1) (h2 : b_tg δ e = 112) (h3 : b_ln δ e = c) (h4 : c ≤ c' ∧ c' ≤ 10000) (hx : ∀ i, i < c → ∃ v : Nat, b_vl δ e i = .ref v ∧ v < δ.1 ∧ okE δ v) : b_M TT d 6601 [.ref e, vI (c' : Int)] (ov S δ) = some (.inl (some (.ref δ.1)), ov S (b_cpyS (b_nw δ 112 c' fun _ => .null) e 0 δ.1 0 c)) := by
  have e1 : min (c : Int) c' = c := by omega
  have ht : b_tg (b_nw δ 112 c' fun _ => .null) δ.1 = 112 := by rw [tg_nw, if_pos rfl]
  have ht0 : b_tg (b_nw δ 112 c' fun _ => .null) e = 112 := by rw [tg_nw, if_neg (by omega)]; exact h2
  have hl0 : b_ln (b_nw δ 112 c' fun _ => .null) e = c := by rw [ln_nw, if_neg (by omega)]; exact h3
  have z0 : (w32 0).toNat = 0 := by decide
  have zc : (w32 (c : Int)).toNat = c := by rw [w32_id (by omega) (by omega)]; omega
  have hel : ∀ i, i < (w32 (c : Int)).toNat → b_okEl (ov S (b_nw δ 112 c' fun _ => .null)) [1, 2, 3, 4, 5, 6, 7, 8, 9, 10, 11, 12, 13, 14, 15, 16, 17, 18, 19, 20] (b_vl (ov S (b_nw δ 112 c' fun _ => .null)) e ((w32 0).toNat + i)) = true := by
    intro i hi
    rw [zc] at hi
    obtain ⟨v, v1, v2, v3⟩ := hx i hi
    rw [z0, Nat.zero_add, vld (Or.inr h1.1), vl_nw, if_neg (by omega), v1]
    refine okE_el ⟨v3.1, ?_⟩
    rw [tg_nw, if_neg (by omega)]
    exact v3.2
  have hin : b_inR (ov S (b_nw δ 112 c' fun _ => .null)) e δ.1 (Int32.ofInt 0) (Int32.ofInt 0) (Int32.ofInt (c : Int)) := by
    have e2 : (Int32.ofInt (c : Int)).toInt = c := w32_id (by omega) (by omega)
    have e3 : (Int32.ofInt 0).toInt = 0 := by decide
    unfold b_inR
    rw [e2, e3, lnd (Or.inr h1.1), lnd (Or.inr h0), hl0, ln_nw, if_pos rfl]
    omega
  have M : ∀ d, 2 ≤ d → b_M TT d 6602 [.ref e, vI (c' : Int), .ref 41] (ov S δ) = some (.inl (some (.ref δ.1)), ov S (b_cpyS (b_nw δ 112 c' fun _ => .null) e 0 δ.1 0 c)) := by
    intro d hd
    obtain ⟨d, rfl⟩ : ∃ k, d = k + 1 := ⟨d - 1, by omega⟩
    rw [b_M_succ]
    have J := fun σ => J_min (d := d) (by omega) (a := (c : Int)) (b := (c' : Int)) (σ := σ)
    rw [w32_id (show -2147483648 ≤ (c : Int) by omega) (by omega), w32_id (show -2147483648 ≤ (c' : Int) by omega) (by omega), e1] at J
    clear hx
    simp (disch := first | assumption | omega | exact b2_01d | decide | (simp (disch := omega) only [ht, ht0, w32_id, w32_gi, w32_w32, w32_b2, Int.toNat_natCast, gi_up, vi_vI, tgd, lnd, and_true, true_and, and_false, false_and, Nat.reduceLeDiff, Nat.reduceLT, ↓reduceIte, b_c1I, b_c1R, b_c1N, cs_0, cs_nil, cs_I, cs_L, cs_R, cs_N] <;> omega) | fail) only [vI_def, vI_sx8, vI_sx16, sx8_sx8, sx16_sx16, w32_sx8, w32_sx16, xci_ex, xv_ex, lk_21, lk_22, lk_2, tgd, lnd, vld, iad, lad, ptd, std, nw_ov, bump_ov, ov_1, cv_ret, cu_ret, cv_thr, cu_thr, th_eq, ent_nil, ent_I, ent_L, ent_R, ent_N, List.tail_cons, List.tail_nil, w32_gi, w32_w32, w32_b2, b2_eq0, b2_eq1, b2_ne0, b2_01, w64_gi, w64_gl, w64_w32, w64_w64, vI_w32, vL_w64, gi_up, gl_up, vi_vI, vlg_vL, swt_nil, swt_cons, F_ite, and_true, true_and, and_false, false_and, and_self, or_true, true_or, or_false, false_or, not_true_eq_false, not_false_eq_true, b_c1I, b_c1R, b_c1N, cs_0, w32_lc, lc_lt, lc_gt, lc_le, lc_ge, lc_eq, w32_id, w64_id, eq_self, Nat.reduceEqDiff, Nat.reduceLeDiff, Nat.reduceAdd, Nat.reduceMul, Int.reduceLT, Int.reduceLE, Int.reduceEq, Int.reduceNeg, Int.reduceAdd, Int.reduceSub, Int.reduceMul, Int.reduceToNat, Int.toNat_natCast, nc_lit, Int.add_sub_cancel, Int.tmod_eq_emod_of_nonneg, Int.tdiv_eq_ediv_of_nonneg, Int.natCast_add, Int.natCast_mul, if_pos, if_neg, ↓reduceIte, e6602_0, e6602_0N, e6602_1, e6602_3, e6602_6, e6602_7, e6602_10, e6602_13, e6602_13N, e6602_24, e6602_24N, e6602_25, e6602_26, e6602_27, e6602_27N, e6602_28, e6602_29, e6602_30, e6602_31, e6602_32, e6602_38, e6602_38N, e6602_39, e6602_39N, ht, ht0, hl0, J]
    rw [e6602_35 (by omega) (by omega) (by rw [tgd (Or.inr h0)]; exact ht) (by rw [tgd (Or.inr h1.1)]; exact ht0) hin (of_eq_true cs_0) hel, z0, zc, cpy_ov h1.1 h0]
    clear hel hin
    simp (disch := first | assumption | omega | exact b2_01d | decide | (simp (disch := omega) only [b2_eq0, w32_id, w32_gi, w32_w32, w32_b2, Int.toNat_natCast, gi_up, vi_vI, tgd, lnd, and_true, true_and, and_false, false_and, Nat.reduceLeDiff, Nat.reduceLT, ↓reduceIte, b_c1I, b_c1R, b_c1N, cs_0, cs_nil, cs_I, cs_L, cs_R, cs_N] <;> omega) | fail) only [vI_def, vI_sx8, vI_sx16, sx8_sx8, sx16_sx16, w32_sx8, w32_sx16, xci_ex, xv_ex, lk_21, lk_22, lk_2, tgd, lnd, vld, iad, lad, ptd, std, nw_ov, bump_ov, ov_1, cv_ret, cu_ret, cv_thr, cu_thr, th_eq, ent_nil, ent_I, ent_L, ent_R, ent_N, List.tail_cons, List.tail_nil, w32_gi, w32_w32, w32_b2, b2_eq0, b2_eq1, b2_ne0, b2_01, w64_gi, w64_gl, w64_w32, w64_w64, vI_w32, vL_w64, gi_up, gl_up, vi_vI, vlg_vL, swt_nil, swt_cons, F_ite, and_true, true_and, and_false, false_and, and_self, or_true, true_or, or_false, false_or, not_true_eq_false, not_false_eq_true, b_c1I, b_c1R, b_c1N, cs_0, w32_lc, lc_lt, lc_gt, lc_le, lc_ge, lc_eq, w32_id, w64_id, eq_self, Nat.reduceEqDiff, Nat.reduceLeDiff, Nat.reduceAdd, Nat.reduceMul, Int.reduceLT, Int.reduceLE, Int.reduceEq, Int.reduceNeg, Int.reduceAdd, Int.reduceSub, Int.reduceMul, Int.reduceToNat, Int.toNat_natCast, nc_lit, Int.add_sub_cancel, Int.tmod_eq_emod_of_nonneg, Int.tdiv_eq_ediv_of_nonneg, Int.natCast_add, Int.natCast_mul, if_pos, if_neg, ↓reduceIte, e6602_0, e6602_0N, e6602_1, e6602_3, e6602_6, e6602_7, e6602_10, e6602_13, e6602_13N, e6602_24, e6602_24N, e6602_25, e6602_26, e6602_27, e6602_27N, e6602_28, e6602_29, e6602_30, e6602_31, e6602_32, e6602_38, e6602_38N, e6602_39, e6602_39N]
  obtain ⟨d, rfl⟩ : ∃ k, d = k + 1 := ⟨d - 1, by omega⟩
  rw [b_M_succ]
  clear hel hin hx
  simp (disch := first | assumption | omega | exact b2_01d | decide | (simp (disch := omega) only [h2, w32_id, w32_gi, w32_w32, w32_b2, Int.toNat_natCast, gi_up, vi_vI, tgd, lnd, and_true, true_and, and_false, false_and, Nat.reduceLeDiff, Nat.reduceLT, ↓reduceIte, b_c1I, b_c1R, b_c1N, cs_0, cs_nil, cs_I, cs_L, cs_R, cs_N] <;> omega) | fail) only [vI_def, vI_sx8, vI_sx16, sx8_sx8, sx16_sx16, w32_sx8, w32_sx16, xci_ex, xv_ex, lk_21, lk_22, lk_2, tgd, lnd, vld, iad, lad, ptd, std, nw_ov, bump_ov, ov_1, cv_ret, cu_ret, cv_thr, cu_thr, th_eq, ent_nil, ent_I, ent_L, ent_R, ent_N, List.tail_cons, List.tail_nil, w32_gi, w32_w32, w32_b2, b2_eq0, b2_eq1, b2_ne0, b2_01, w64_gi, w64_gl, w64_w32, w64_w64, vI_w32, vL_w64, gi_up, gl_up, vi_vI, vlg_vL, swt_nil, swt_cons, F_ite, and_true, true_and, and_false, false_and, and_self, or_true, true_or, or_false, false_or, not_true_eq_false, not_false_eq_true, b_c1I, b_c1R, b_c1N, cs_0, w32_lc, lc_lt, lc_gt, lc_le, lc_ge, lc_eq, w32_id, w64_id, eq_self, Nat.reduceEqDiff, Nat.reduceLeDiff, Nat.reduceAdd, Nat.reduceMul, Int.reduceLT, Int.reduceLE, Int.reduceEq, Int.reduceNeg, Int.reduceAdd, Int.reduceSub, Int.reduceMul, Int.reduceToNat, Int.toNat_natCast, nc_lit, Int.add_sub_cancel, Int.tmod_eq_emod_of_nonneg, Int.tdiv_eq_ediv_of_nonneg, Int.natCast_add, Int.natCast_mul, if_pos, if_neg, ↓reduceIte, e6601_0, e6601_1, e6601_2, e6601_3, e6601_6, e6601_9, e6601_9N, M, h2]
theorem L_grow {d : Nat} (hd : 6 ≤ d) {S : Mm} {δ : Sg} {l e c : Nat} {xs : List Nat} (H : Lb δ l e xs c) (hc : xs.length = c) (hc2 : c ≤ 900) (hx : ∀ y ∈ xs, y < δ.1 ∧ okE δ y) : b_M TT d 6008 [.ref l] (ov S δ) = some (.inl (some (.ref δ.1)), ov S (b_pt (b_cpyS (b_nw δ 112 (c + c / 2) fun _ => .null) e 0 δ.1 0 c) l 1 (.ref δ.1))) := by
  obtain ⟨⟨a1, a2, a3, a4, a5⟩, a6, a7, a8, a9, a10, ⟨a11, a12, a13⟩, a14⟩ := H
  have hcp := fun (d : Nat) (hd : 3 ≤ d) => copyOf (d := d) hd (S := S) (δ := δ) (e := e) (c := c) (c' := c + c / 2) (by omega) ⟨a3, a4⟩ a9 a10 (by omega) (fun i hi => by
    obtain ⟨x, ex⟩ : ∃ x, xs[i]? = some x := ⟨xs[i]'(by omega), List.getElem?_eq_getElem (by omega)⟩
    exact ⟨x, a14 i x ex, hx x (List.mem_of_getElem? ex)⟩)
  have hnl := fun (d : Nat) (hd : 2 ≤ d) (σ : Sg) => J_newLen (d := d) hd (c := c) (by omega) (σ := σ)
  have es := shr1 (x := c) (by omega)
  have ez : (c : Int) + 1 - c = 1 := by omega
  rw [hc] at a7
  clear a14 hx
  have M : ∀ d, 5 ≤ d → b_M TT d 6009 [.ref l, vI ((c : Int) + 1)] (ov S δ) = some (.inl (some (.ref δ.1)), ov S (b_pt (b_cpyS (b_nw δ 112 (c + c / 2) fun _ => .null) e 0 δ.1 0 c) l 1 (.ref δ.1))) := by
    intro d hd
    have tl : b_tg (b_cpyS (b_nw δ 112 (c + c / 2) fun _ => .null) e 0 δ.1 0 c) l = 19 := by rw [tg_cpy, tg_nw, if_neg (by omega)]; exact a6
    generalize c + c / 2 = s at *
    generalize c / 2 = k at *
    (obtain ⟨d, rfl⟩ : ∃ k, d = k + 1 := ⟨d - 1, by omega⟩); rw [b_M_succ]; simp (disch := first | assumption | omega | exact b2_01d | decide | (simp (disch := omega) only [a6, a8, a9, tl, w32_id, w32_gi, w32_w32, w32_b2, Int.toNat_natCast, gi_up, vi_vI, tgd, lnd, and_true, true_and, and_false, false_and, Nat.reduceLeDiff, Nat.reduceLT, ↓reduceIte, b_c1I, b_c1R, b_c1N, cs_0, cs_nil, cs_I, cs_L, cs_R, cs_N] <;> omega) | fail) only [vI_def, vI_sx8, vI_sx16, sx8_sx8, sx16_sx16, w32_sx8, w32_sx16, xci_ex, xv_ex, lk_21, lk_22, lk_2, tgd, lnd, vld, iad, lad, ptd, std, nw_ov, bump_ov, ov_1, cv_ret, cu_ret, cv_thr, cu_thr, th_eq, ent_nil, ent_I, ent_L, ent_R, ent_N, List.tail_cons, List.tail_nil, w32_gi, w32_w32, w32_b2, b2_eq0, b2_eq1, b2_ne0, b2_01, w64_gi, w64_gl, w64_w32, w64_w64, vI_w32, vL_w64, gi_up, gl_up, vi_vI, vlg_vL, swt_nil, swt_cons, F_ite, and_true, true_and, and_false, false_and, and_self, or_true, true_or, or_false, false_or, not_true_eq_false, not_false_eq_true, b_c1I, b_c1R, b_c1N, cs_0, w32_lc, lc_lt, lc_gt, lc_le, lc_ge, lc_eq, w32_id, w64_id, eq_self, Nat.reduceEqDiff, Nat.reduceLeDiff, Nat.reduceAdd, Nat.reduceMul, Int.reduceLT, Int.reduceLE, Int.reduceEq, Int.reduceNeg, Int.reduceAdd, Int.reduceSub, Int.reduceMul, Int.reduceToNat, Int.toNat_natCast, nc_lit, Int.add_sub_cancel, Int.tmod_eq_emod_of_nonneg, Int.tdiv_eq_ediv_of_nonneg, Int.natCast_add, Int.natCast_mul, if_pos, if_neg, ↓reduceIte, e6009_0, e6009_1, e6009_4, e6009_5, e6009_6, e6009_7, e6009_10, e6009_11, e6009_20, e6009_21, e6009_22, e6009_23, e6009_24, e6009_25, e6009_26, e6009_27, e6009_30, e6009_31, e6009_32, e6009_33, e6009_36, e6009_37, e6009_40, e6009_41, e6009_41N, e6009_44, e6009_44N, e6009_45, e6009_46, e6009_48, e6009_49, e6009_52, e6009_55, e6009_56, e6009_56N, e6009_59, e6009_59N, a6, a8, a9, a10, es, ez, hnl, hcp]
    done
  (obtain ⟨d, rfl⟩ : ∃ k, d = k + 1 := ⟨d - 1, by omega⟩); rw [b_M_succ]; simp (disch := first | assumption | omega | exact b2_01d | decide | (simp (disch := omega) only [a6, w32_id, w32_gi, w32_w32, w32_b2, Int.toNat_natCast, gi_up, vi_vI, tgd, lnd, and_true, true_and, and_false, false_and, Nat.reduceLeDiff, Nat.reduceLT, ↓reduceIte, b_c1I, b_c1R, b_c1N, cs_0, cs_nil, cs_I, cs_L, cs_R, cs_N] <;> omega) | fail) only [vI_def, vI_sx8, vI_sx16, sx8_sx8, sx16_sx16, w32_sx8, w32_sx16, xci_ex, xv_ex, lk_21, lk_22, lk_2, tgd, lnd, vld, iad, lad, ptd, std, nw_ov, bump_ov, ov_1, cv_ret, cu_ret, cv_thr, cu_thr, th_eq, ent_nil, ent_I, ent_L, ent_R, ent_N, List.tail_cons, List.tail_nil, w32_gi, w32_w32, w32_b2, b2_eq0, b2_eq1, b2_ne0, b2_01, w64_gi, w64_gl, w64_w32, w64_w64, vI_w32, vL_w64, gi_up, gl_up, vi_vI, vlg_vL, swt_nil, swt_cons, F_ite, and_true, true_and, and_false, false_and, and_self, or_true, true_or, or_false, false_or, not_true_eq_false, not_false_eq_true, b_c1I, b_c1R, b_c1N, cs_0, w32_lc, lc_lt, lc_gt, lc_le, lc_ge, lc_eq, w32_id, w64_id, eq_self, Nat.reduceEqDiff, Nat.reduceLeDiff, Nat.reduceAdd, Nat.reduceMul, Int.reduceLT, Int.reduceLE, Int.reduceEq, Int.reduceNeg, Int.reduceAdd, Int.reduceSub, Int.reduceMul, Int.reduceToNat, Int.toNat_natCast, nc_lit, Int.add_sub_cancel, Int.tmod_eq_emod_of_nonneg, Int.tdiv_eq_ediv_of_nonneg, Int.natCast_add, Int.natCast_mul, if_pos, if_neg, ↓reduceIte, e6008_0, e6008_1, e6008_2, e6008_5, e6008_6, e6008_7, e6008_10, e6008_10N, a6, a7, M]
theorem L_put {d : Nat} (hd : 7 ≤ d) {S : Mm} {δ : Sg} {l e x c : Nat} {xs : List Nat} (H : Lb δ l e xs c) (hl : xs.length ≤ 500) (hx : ∀ y ∈ xs, y < δ.1 ∧ okE δ y) (hv : okE δ x) (hv2 : x < δ.1) (h : xs.length = c) : b_M TT d 6007 [.ref l, .ref x, .ref e, vI (xs.length : Int)] (ov S δ) = some (.inl none, ov S (b_pt (b_pt (b_pt (b_cpyS (b_nw δ 112 (c + c / 2) fun _ => .null) e 0 δ.1 0 c) l 1 (.ref δ.1)) δ.1 xs.length (.ref x)) l 2 (vI ((xs.length : Int) + 1)))) := by
  have G := fun (d : Nat) (hd : 6 ≤ d) => L_grow (d := d) hd (S := S) H h (by omega) hx
  obtain ⟨⟨a1, a2, a3, a4, a5⟩, a6, a7, a8, a9, a10, ⟨a11, a12, a13⟩, a14⟩ := H
  clear hx a14
  generalize xs.length = n at *
  obtain ⟨d, rfl⟩ : ∃ k, d = k + 1 := ⟨d - 1, by omega⟩
  rw [b_M_succ]
  have hm2 : b_tg (ov S (b_pt (b_cpyS (b_nw δ 112 (c + c / 2) fun _ => .null) e 0 δ.1 0 c) l 1 (.ref δ.1))) x ∈ [1, 2, 3, 4, 5, 6, 7, 8, 9, 10, 11, 12, 13, 14, 15, 16, 17, 18, 19, 20] := okE_mem ⟨hv.1, by
    rw [tg_pt, tg_cpy, tg_nw, if_neg (by omega)]; exact hv.2⟩
  have ht : b_tg (b_pt (b_cpyS (b_nw δ 112 (c + c / 2) fun _ => .null) e 0 δ.1 0 c) l 1 (.ref δ.1)) δ.1 = 112 := by rw [tg_pt, tg_cpy, tg_nw, if_pos rfl]
  have hln : b_ln (b_pt (b_cpyS (b_nw δ 112 (c + c / 2) fun _ => .null) e 0 δ.1 0 c) l 1 (.ref δ.1)) δ.1 = c + c / 2 := by rw [ln_pt, ln_cpy, ln_nw, if_pos rfl]
  have ht2 : b_tg (b_pt (b_cpyS (b_nw δ 112 (c + c / 2) fun _ => .null) e 0 δ.1 0 c) l 1 (.ref δ.1)) l = 19 := by rw [tg_pt, tg_cpy, tg_nw, if_neg (by omega)]; exact a6
  have hn : n < c + c / 2 := by omega
  subst h
  simp (disch := first | assumption | omega | exact b2_01d | decide | (simp (disch := omega) only [a6, a9, w32_id, w32_gi, w32_w32, w32_b2, Int.toNat_natCast, gi_up, vi_vI, tgd, lnd, and_true, true_and, and_false, false_and, Nat.reduceLeDiff, Nat.reduceLT, ↓reduceIte, b_c1I, b_c1R, b_c1N, cs_0, cs_nil, cs_I, cs_L, cs_R, cs_N] <;> omega) | fail) only [vI_def, vI_sx8, vI_sx16, sx8_sx8, sx16_sx16, w32_sx8, w32_sx16, xci_ex, xv_ex, lk_21, lk_22, lk_2, tgd, lnd, vld, iad, lad, ptd, std, nw_ov, bump_ov, ov_1, cv_ret, cu_ret, cv_thr, cu_thr, th_eq, ent_nil, ent_I, ent_L, ent_R, ent_N, List.tail_cons, List.tail_nil, w32_gi, w32_w32, w32_b2, b2_eq0, b2_eq1, b2_ne0, b2_01, w64_gi, w64_gl, w64_w32, w64_w64, vI_w32, vL_w64, gi_up, gl_up, vi_vI, vlg_vL, swt_nil, swt_cons, F_ite, and_true, true_and, and_false, false_and, and_self, or_true, true_or, or_false, false_or, not_true_eq_false, not_false_eq_true, b_c1I, b_c1R, b_c1N, cs_0, w32_lc, lc_lt, lc_gt, lc_le, lc_ge, lc_eq, w32_id, w64_id, eq_self, Nat.reduceEqDiff, Nat.reduceLeDiff, Nat.reduceAdd, Nat.reduceMul, Int.reduceLT, Int.reduceLE, Int.reduceEq, Int.reduceNeg, Int.reduceAdd, Int.reduceSub, Int.reduceMul, Int.reduceToNat, Int.toNat_natCast, nc_lit, Int.add_sub_cancel, Int.tmod_eq_emod_of_nonneg, Int.tdiv_eq_ediv_of_nonneg, Int.natCast_add, Int.natCast_mul, if_pos, if_neg, ↓reduceIte, e6007_0, e6007_1, e6007_1N, e6007_2, e6007_3, e6007_6, e6007_7, e6007_10, e6007_10N, e6007_11, e6007_11N, e6007_12, e6007_13, e6007_13N, e6007_15, e6007_16, e6007_17, e6007_18, e6007_19, e6007_22, a6, a9, a10, G]
  generalize b_pt (b_cpyS (b_nw δ 112 (n + n / 2) fun _ => .null) e 0 δ.1 0 n) l 1 (.ref δ.1) = δ2 at *
  rw [e6007_14 (by rw [tgd (Or.inr (by omega))]; exact ht) (by omega) (by rw [w32_id (by omega) (by omega)]; omega) (by rw [w32_id (by omega) (by omega), lnd (Or.inr (by omega)), hln]; omega) hm2, w32_id (by omega) (by omega), Int.toNat_natCast]
  clear G
  simp (disch := first | assumption | omega | exact b2_01d | decide | (simp (disch := omega) only [ht2, tg_pt, w32_id, w32_gi, w32_w32, w32_b2, Int.toNat_natCast, gi_up, vi_vI, tgd, lnd, and_true, true_and, and_false, false_and, Nat.reduceLeDiff, Nat.reduceLT, ↓reduceIte, b_c1I, b_c1R, b_c1N, cs_0, cs_nil, cs_I, cs_L, cs_R, cs_N] <;> omega) | fail) only [vI_def, vI_sx8, vI_sx16, sx8_sx8, sx16_sx16, w32_sx8, w32_sx16, xci_ex, xv_ex, lk_21, lk_22, lk_2, tgd, lnd, vld, iad, lad, ptd, std, nw_ov, bump_ov, ov_1, cv_ret, cu_ret, cv_thr, cu_thr, th_eq, ent_nil, ent_I, ent_L, ent_R, ent_N, List.tail_cons, List.tail_nil, w32_gi, w32_w32, w32_b2, b2_eq0, b2_eq1, b2_ne0, b2_01, w64_gi, w64_gl, w64_w32, w64_w64, vI_w32, vL_w64, gi_up, gl_up, vi_vI, vlg_vL, swt_nil, swt_cons, F_ite, and_true, true_and, and_false, false_and, and_self, or_true, true_or, or_false, false_or, not_true_eq_false, not_false_eq_true, b_c1I, b_c1R, b_c1N, cs_0, w32_lc, lc_lt, lc_gt, lc_le, lc_ge, lc_eq, w32_id, w64_id, eq_self, Nat.reduceEqDiff, Nat.reduceLeDiff, Nat.reduceAdd, Nat.reduceMul, Int.reduceLT, Int.reduceLE, Int.reduceEq, Int.reduceNeg, Int.reduceAdd, Int.reduceSub, Int.reduceMul, Int.reduceToNat, Int.toNat_natCast, nc_lit, Int.add_sub_cancel, Int.tmod_eq_emod_of_nonneg, Int.tdiv_eq_ediv_of_nonneg, Int.natCast_add, Int.natCast_mul, if_pos, if_neg, ↓reduceIte, e6007_0, e6007_1, e6007_1N, e6007_2, e6007_3, e6007_6, e6007_7, e6007_10, e6007_10N, e6007_11, e6007_11N, e6007_12, e6007_13, e6007_13N, e6007_15, e6007_16, e6007_17, e6007_18, e6007_19, e6007_22, ht2]
theorem L_put' {d : Nat} (hd : 7 ≤ d) {S : Mm} {δ : Sg} {l e x c : Nat} {xs : List Nat} (H : Lb δ l e xs c) (hl : xs.length ≤ 500) (hv : okE δ x) (h : xs.length < c) : b_M TT d 6007 [.ref l, .ref x, .ref e, vI (xs.length : Int)] (ov S δ) = some (.inl none, ov S (b_pt (b_pt δ e xs.length (.ref x)) l 2 (vI ((xs.length : Int) + 1)))) := by
  obtain ⟨⟨a1, a2, a3, a4, a5⟩, a6, a7, a8, a9, a10, ⟨a11, a12, a13⟩, a14⟩ := H
  have hm := okE_mem (S := S) hv
  clear a14
  generalize xs.length = n at *
  have hne : ¬ (c : Int) = (n : Int) := by omega
  have hne2 : ¬ (n : Int) = (c : Int) := by omega
  obtain ⟨d, rfl⟩ : ∃ k, d = k + 1 := ⟨d - 1, by omega⟩
  rw [b_M_succ]
  simp (disch := first | assumption | omega | exact b2_01d | decide | (simp (disch := omega) only [a6, a9, w32_id, w32_gi, w32_w32, w32_b2, Int.toNat_natCast, gi_up, vi_vI, tgd, lnd, and_true, true_and, and_false, false_and, Nat.reduceLeDiff, Nat.reduceLT, ↓reduceIte, b_c1I, b_c1R, b_c1N, cs_0, cs_nil, cs_I, cs_L, cs_R, cs_N] <;> omega) | fail) only [vI_def, vI_sx8, vI_sx16, sx8_sx8, sx16_sx16, w32_sx8, w32_sx16, xci_ex, xv_ex, lk_21, lk_22, lk_2, tgd, lnd, vld, iad, lad, ptd, std, nw_ov, bump_ov, ov_1, cv_ret, cu_ret, cv_thr, cu_thr, th_eq, ent_nil, ent_I, ent_L, ent_R, ent_N, List.tail_cons, List.tail_nil, w32_gi, w32_w32, w32_b2, b2_eq0, b2_eq1, b2_ne0, b2_01, w64_gi, w64_gl, w64_w32, w64_w64, vI_w32, vL_w64, gi_up, gl_up, vi_vI, vlg_vL, swt_nil, swt_cons, F_ite, and_true, true_and, and_false, false_and, and_self, or_true, true_or, or_false, false_or, not_true_eq_false, not_false_eq_true, b_c1I, b_c1R, b_c1N, cs_0, w32_lc, lc_lt, lc_gt, lc_le, lc_ge, lc_eq, w32_id, w64_id, eq_self, Nat.reduceEqDiff, Nat.reduceLeDiff, Nat.reduceAdd, Nat.reduceMul, Int.reduceLT, Int.reduceLE, Int.reduceEq, Int.reduceNeg, Int.reduceAdd, Int.reduceSub, Int.reduceMul, Int.reduceToNat, Int.toNat_natCast, nc_lit, Int.add_sub_cancel, Int.tmod_eq_emod_of_nonneg, Int.tdiv_eq_ediv_of_nonneg, Int.natCast_add, Int.natCast_mul, if_pos, if_neg, ↓reduceIte, e6007_0, e6007_1, e6007_1N, e6007_2, e6007_3, e6007_6, e6007_7, e6007_10, e6007_10N, e6007_11, e6007_11N, e6007_12, e6007_13, e6007_13N, e6007_15, e6007_16, e6007_17, e6007_18, e6007_19, e6007_22, a6, a9, a10, hne, hne2]
  rw [e6007_14 (by rw [tgd (Or.inr a3)]; exact a9) (by omega) (by rw [w32_id (by omega) (by omega)]; omega) (by rw [w32_id (by omega) (by omega), lnd (Or.inr a3), a10]; omega) hm, w32_id (by omega) (by omega), Int.toNat_natCast]
  simp (disch := first | assumption | omega | exact b2_01d | decide | (simp (disch := omega) only [a6, tg_pt, w32_id, w32_gi, w32_w32, w32_b2, Int.toNat_natCast, gi_up, vi_vI, tgd, lnd, and_true, true_and, and_false, false_and, Nat.reduceLeDiff, Nat.reduceLT, ↓reduceIte, b_c1I, b_c1R, b_c1N, cs_0, cs_nil, cs_I, cs_L, cs_R, cs_N] <;> omega) | fail) only [vI_def, vI_sx8, vI_sx16, sx8_sx8, sx16_sx16, w32_sx8, w32_sx16, xci_ex, xv_ex, lk_21, lk_22, lk_2, tgd, lnd, vld, iad, lad, ptd, std, nw_ov, bump_ov, ov_1, cv_ret, cu_ret, cv_thr, cu_thr, th_eq, ent_nil, ent_I, ent_L, ent_R, ent_N, List.tail_cons, List.tail_nil, w32_gi, w32_w32, w32_b2, b2_eq0, b2_eq1, b2_ne0, b2_01, w64_gi, w64_gl, w64_w32, w64_w64, vI_w32, vL_w64, gi_up, gl_up, vi_vI, vlg_vL, swt_nil, swt_cons, F_ite, and_true, true_and, and_false, false_and, and_self, or_true, true_or, or_false, false_or, not_true_eq_false, not_false_eq_true, b_c1I, b_c1R, b_c1N, cs_0, w32_lc, lc_lt, lc_gt, lc_le, lc_ge, lc_eq, w32_id, w64_id, eq_self, Nat.reduceEqDiff, Nat.reduceLeDiff, Nat.reduceAdd, Nat.reduceMul, Int.reduceLT, Int.reduceLE, Int.reduceEq, Int.reduceNeg, Int.reduceAdd, Int.reduceSub, Int.reduceMul, Int.reduceToNat, Int.toNat_natCast, nc_lit, Int.add_sub_cancel, Int.tmod_eq_emod_of_nonneg, Int.tdiv_eq_ediv_of_nonneg, Int.natCast_add, Int.natCast_mul, if_pos, if_neg, ↓reduceIte, e6007_0, e6007_1, e6007_1N, e6007_2, e6007_3, e6007_6, e6007_7, e6007_10, e6007_10N, e6007_11, e6007_11N, e6007_12, e6007_13, e6007_13N, e6007_15, e6007_16, e6007_17, e6007_18, e6007_19, e6007_22, a6]
theorem pt_at {σ : Sg} {a k b : Nat} {v : Value} (h : b ≠ a) : (b_pt σ a k v).2.2.2 b = σ.2.2.2 b := if_neg h
theorem nw_at {σ : Sg} {t n b : Nat} {f : Nat → Value} (h : b ≠ σ.1) : (b_nw σ t n f).2.2.2 b = σ.2.2.2 b := if_neg h
theorem cpy_at {σ : Sg} {e a n b : Nat} (h : b ≠ a) : (b_cpyS σ e 0 a 0 n).2.2.2 b = σ.2.2.2 b := if_neg h
theorem Lb_at {xs : List Nat} {x i y : Nat} (h : (xs ++ [x])[i]? = some y) : (i < xs.length ∧ xs[i]? = some y) ∨ (i = xs.length ∧ y = x) := by
  by_cases q : i < xs.length
  · rw [List.getElem?_append_left q] at h; exact Or.inl ⟨q, h⟩
  · rw [List.getElem?_append_right (by omega)] at h
    by_cases q2 : i = xs.length
    · subst q2; rw [Nat.sub_self] at h; cases h; exact Or.inr ⟨rfl, rfl⟩
    · rw [List.getElem?_eq_none (by rw [List.length_singleton]; omega)] at h; cases h
theorem Lb_put {δ : Sg} {l e x c : Nat} {xs : List Nat} (H : Lb δ l e xs c) (hl : xs.length ≤ 500) (hc2 : xs.length < c) : Lb (b_pt (b_pt δ e xs.length (.ref x)) l 2 (vI ((xs.length : Int) + 1))) l e (xs ++ [x]) c := by
  obtain ⟨⟨a1, a2, a3, a4, a5⟩, a6, a7, a8, a9, a10, ⟨a11, a12, a13⟩, a14⟩ := H
  refine ⟨⟨a1, a2, a3, a4, a5⟩, ?_, ?_, ?_, ?_, ?_, ?_, fun i y hy => ?_⟩
  · simp (disch := first | omega | fail) only [tg_pt, ln_pt, vl_pt, ia_pt, tg_nw, ln_nw, vl_nw, ia_nw, tg_cpy, ln_cpy, vl_cpy, pt_1, nw_1, cpy_1, vi_vI, w32_id, if_pos, if_neg, Nat.reduceEqDiff, and_true, true_and, and_false, false_and, and_self, eq_self, ↓reduceIte]; exact a6
  · rw [ia_pt, if_pos ⟨rfl, rfl⟩, vi_vI, List.length_append, List.length_singleton, w32_id (by omega) (by omega)]; omega
  · simp (disch := first | omega | fail) only [tg_pt, ln_pt, vl_pt, ia_pt, tg_nw, ln_nw, vl_nw, ia_nw, tg_cpy, ln_cpy, vl_cpy, pt_1, nw_1, cpy_1, vi_vI, w32_id, if_pos, if_neg, Nat.reduceEqDiff, and_true, true_and, and_false, false_and, and_self, eq_self, ↓reduceIte]; exact a8
  · simp (disch := first | omega | fail) only [tg_pt, ln_pt, vl_pt, ia_pt, tg_nw, ln_nw, vl_nw, ia_nw, tg_cpy, ln_cpy, vl_cpy, pt_1, nw_1, cpy_1, vi_vI, w32_id, if_pos, if_neg, Nat.reduceEqDiff, and_true, true_and, and_false, false_and, and_self, eq_self, ↓reduceIte]; exact a9
  · simp (disch := first | omega | fail) only [tg_pt, ln_pt, vl_pt, ia_pt, tg_nw, ln_nw, vl_nw, ia_nw, tg_cpy, ln_cpy, vl_cpy, pt_1, nw_1, cpy_1, vi_vI, w32_id, if_pos, if_neg, Nat.reduceEqDiff, and_true, true_and, and_false, false_and, and_self, eq_self, ↓reduceIte]; exact a10
  · rw [List.length_append, List.length_singleton]; omega
  · rcases Lb_at hy with ⟨q1, q2⟩ | ⟨q1, q2⟩
    · simp (disch := first | omega | fail) only [tg_pt, ln_pt, vl_pt, ia_pt, tg_nw, ln_nw, vl_nw, ia_nw, tg_cpy, ln_cpy, vl_cpy, pt_1, nw_1, cpy_1, vi_vI, w32_id, if_pos, if_neg, Nat.reduceEqDiff, and_true, true_and, and_false, false_and, and_self, eq_self, ↓reduceIte]; exact a14 i y q2
    · rw [q2, q1]; simp (disch := first | omega | fail) only [tg_pt, ln_pt, vl_pt, ia_pt, tg_nw, ln_nw, vl_nw, ia_nw, tg_cpy, ln_cpy, vl_cpy, pt_1, nw_1, cpy_1, vi_vI, w32_id, if_pos, if_neg, Nat.reduceEqDiff, and_true, true_and, and_false, false_and, and_self, eq_self, ↓reduceIte]
theorem Lb_grow {δ : Sg} {l e c : Nat} {xs : List Nat} (H : Lb δ l e xs c) (hl : xs.length ≤ 500) (hc : xs.length = c) : Lb (b_pt (b_cpyS (b_nw δ 112 (c + c / 2) fun _ => .null) e 0 δ.1 0 c) l 1 (.ref δ.1)) l δ.1 xs (c + c / 2) := by
  obtain ⟨⟨a1, a2, a3, a4, a5⟩, a6, a7, a8, a9, a10, ⟨a11, a12, a13⟩, a14⟩ := H
  refine ⟨⟨a1, ?_, ?_, ?_, by omega⟩, ?_, ?_, ?_, ?_, ?_, by omega, fun i y hy => ?_⟩
  · rw [pt_1, cpy_1, nw_1]; omega
  · omega
  · rw [pt_1, cpy_1, nw_1]; omega
  · simp (disch := first | omega | fail) only [tg_pt, ln_pt, vl_pt, ia_pt, tg_nw, ln_nw, vl_nw, ia_nw, tg_cpy, ln_cpy, vl_cpy, pt_1, nw_1, cpy_1, vi_vI, w32_id, if_pos, if_neg, Nat.reduceEqDiff, and_true, true_and, and_false, false_and, and_self, eq_self, ↓reduceIte]; exact a6
  · rw [← a7]
    unfold b_ia
    simp (disch := first | omega | fail) only [tg_pt, ln_pt, vl_pt, ia_pt, tg_nw, ln_nw, vl_nw, ia_nw, tg_cpy, ln_cpy, vl_cpy, pt_1, nw_1, cpy_1, vi_vI, w32_id, if_pos, if_neg, Nat.reduceEqDiff, and_true, true_and, and_false, false_and, and_self, eq_self, ↓reduceIte]
  · simp (disch := first | omega | fail) only [tg_pt, ln_pt, vl_pt, ia_pt, tg_nw, ln_nw, vl_nw, ia_nw, tg_cpy, ln_cpy, vl_cpy, pt_1, nw_1, cpy_1, vi_vI, w32_id, if_pos, if_neg, Nat.reduceEqDiff, and_true, true_and, and_false, false_and, and_self, eq_self, ↓reduceIte]
  · simp (disch := first | omega | fail) only [tg_pt, ln_pt, vl_pt, ia_pt, tg_nw, ln_nw, vl_nw, ia_nw, tg_cpy, ln_cpy, vl_cpy, pt_1, nw_1, cpy_1, vi_vI, w32_id, if_pos, if_neg, Nat.reduceEqDiff, and_true, true_and, and_false, false_and, and_self, eq_self, ↓reduceIte]
  · simp (disch := first | omega | fail) only [tg_pt, ln_pt, vl_pt, ia_pt, tg_nw, ln_nw, vl_nw, ia_nw, tg_cpy, ln_cpy, vl_cpy, pt_1, nw_1, cpy_1, vi_vI, w32_id, if_pos, if_neg, Nat.reduceEqDiff, and_true, true_and, and_false, false_and, and_self, eq_self, ↓reduceIte]
  · have hi : i < xs.length := by
      refine Classical.byContradiction fun z => ?_
      rw [List.getElem?_eq_none (by omega)] at hy
      cases hy
    simp (disch := first | omega | fail) only [tg_pt, ln_pt, vl_pt, ia_pt, tg_nw, ln_nw, vl_nw, ia_nw, tg_cpy, ln_cpy, vl_cpy, pt_1, nw_1, cpy_1, vi_vI, w32_id, if_pos, if_neg, Nat.reduceEqDiff, and_true, true_and, and_false, false_and, and_self, eq_self, ↓reduceIte]; exact a14 i y hy
/-- one more -/
theorem L_add {d : Nat} (hd : 8 ≤ d) {S : Mm} {δ : Sg} {l e x c : Nat} {xs : List Nat} (H : Lb δ l e xs c) (hl : xs.length ≤ 500) (hx : ∀ y ∈ xs, y < δ.1 ∧ okE δ y) (hv : okE δ x) (hv2 : x < δ.1) :
    ∃ δ' e' c', b_M TT d 6006 [.ref l, .ref x] (ov S δ) = some (.inl (some (vI 1)), ov S δ') ∧ Lb δ' l e' (xs ++ [x]) c' ∧ δ.1 ≤ δ'.1 ∧ δ'.1 ≤ δ.1 + 1 ∧ (∀ a, a < δ.1 → a ≠ l → a ≠ e → δ'.2.2.2 a = δ.2.2.2 a) ∧ (e' = e ∨ δ.1 ≤ e') ∧ δ'.2.1 ≤ δ.2.1 + 1 ∧ δ'.2.2.1 + 4 * c ≤ δ.2.2.1 + 4 * c' := by
  obtain ⟨⟨a1, a2, a3, a4, a5⟩, a6, a7, a8, a9, a10, ⟨a11, a12, a13⟩, a14⟩ := H
  have H1 : Lb (b_pt δ l 0 (vI (b_ia δ l 0 + 1))) l e xs c := by
    refine ⟨⟨a1, a2, a3, a4, a5⟩, ?_, ?_, ?_, ?_, ?_, ⟨a11, a12, a13⟩, fun i y hy => ?_⟩
    · simp (disch := first | omega | fail) only [tg_pt, ln_pt, vl_pt, ia_pt, tg_nw, ln_nw, vl_nw, ia_nw, tg_cpy, ln_cpy, vl_cpy, pt_1, nw_1, cpy_1, vi_vI, w32_id, if_pos, if_neg, Nat.reduceEqDiff, and_true, true_and, and_false, false_and, and_self, eq_self, ↓reduceIte]; exact a6
    · simp (disch := first | omega | fail) only [tg_pt, ln_pt, vl_pt, ia_pt, tg_nw, ln_nw, vl_nw, ia_nw, tg_cpy, ln_cpy, vl_cpy, pt_1, nw_1, cpy_1, vi_vI, w32_id, if_pos, if_neg, Nat.reduceEqDiff, and_true, true_and, and_false, false_and, and_self, eq_self, ↓reduceIte]; exact a7
    · simp (disch := first | omega | fail) only [tg_pt, ln_pt, vl_pt, ia_pt, tg_nw, ln_nw, vl_nw, ia_nw, tg_cpy, ln_cpy, vl_cpy, pt_1, nw_1, cpy_1, vi_vI, w32_id, if_pos, if_neg, Nat.reduceEqDiff, and_true, true_and, and_false, false_and, and_self, eq_self, ↓reduceIte]; exact a8
    · simp (disch := first | omega | fail) only [tg_pt, ln_pt, vl_pt, ia_pt, tg_nw, ln_nw, vl_nw, ia_nw, tg_cpy, ln_cpy, vl_cpy, pt_1, nw_1, cpy_1, vi_vI, w32_id, if_pos, if_neg, Nat.reduceEqDiff, and_true, true_and, and_false, false_and, and_self, eq_self, ↓reduceIte]; exact a9
    · simp (disch := first | omega | fail) only [tg_pt, ln_pt, vl_pt, ia_pt, tg_nw, ln_nw, vl_nw, ia_nw, tg_cpy, ln_cpy, vl_cpy, pt_1, nw_1, cpy_1, vi_vI, w32_id, if_pos, if_neg, Nat.reduceEqDiff, and_true, true_and, and_false, false_and, and_self, eq_self, ↓reduceIte]; exact a10
    · simp (disch := first | omega | fail) only [tg_pt, ln_pt, vl_pt, ia_pt, tg_nw, ln_nw, vl_nw, ia_nw, tg_cpy, ln_cpy, vl_cpy, pt_1, nw_1, cpy_1, vi_vI, w32_id, if_pos, if_neg, Nat.reduceEqDiff, and_true, true_and, and_false, false_and, and_self, eq_self, ↓reduceIte]; exact a14 i y hy
  have P := fun (d : Nat) (hd : 7 ≤ d) (hc : xs.length = c) => L_put (d := d) hd (S := S) (x := x) H1 hl (fun y hy => ⟨(hx y hy).1, (hx y hy).2.1, by rw [tg_pt]; exact (hx y hy).2.2⟩) ⟨hv.1, by rw [tg_pt]; exact hv.2⟩ hv2 hc
  obtain ⟨d, rfl⟩ : ∃ k, d = k + 1 := ⟨d - 1, by omega⟩
  clear hx a14
  by_cases h : xs.length < c
  · have P1 : b_M TT d 6007 [.ref l, .ref x, .ref e, vI (xs.length : Int)] (ov S (b_pt δ l 0 (vI (b_ia δ l 0 + 1)))) = some (.inl none, ov S (b_pt (b_pt (b_pt δ l 0 (vI (b_ia δ l 0 + 1))) e xs.length (.ref x)) l 2 (vI ((xs.length : Int) + 1)))) := by
      exact L_put' (by omega) H1 hl ⟨hv.1, by rw [tg_pt]; exact hv.2⟩ h
    refine ⟨b_pt (b_pt (b_pt δ l 0 (vI (b_ia δ l 0 + 1))) e xs.length (.ref x)) l 2 (vI ((xs.length : Int) + 1)), e, c, ?_, Lb_put H1 hl h, Nat.le_refl _, Nat.le_succ _, fun a h1 h2 h3 => ?_, Or.inl rfl, Nat.le_succ _, Nat.le_refl _⟩
    · have a7' := H1.2.2.1
      have a8' := H1.2.2.2.1
      clear P H1
      rw [b_M_succ]
      generalize xs.length = n at *
      simp (disch := first | assumption | omega | exact b2_01d | decide | (simp (disch := omega) only [a6, tg_pt, w32_id, w32_gi, w32_w32, w32_b2, Int.toNat_natCast, gi_up, vi_vI, tgd, lnd, and_true, true_and, and_false, false_and, Nat.reduceLeDiff, Nat.reduceLT, ↓reduceIte, b_c1I, b_c1R, b_c1N, cs_0, cs_nil, cs_I, cs_L, cs_R, cs_N] <;> omega) | fail) only [vI_def, vI_sx8, vI_sx16, sx8_sx8, sx16_sx16, w32_sx8, w32_sx16, xci_ex, xv_ex, lk_21, lk_22, lk_2, tgd, lnd, vld, iad, lad, ptd, std, nw_ov, bump_ov, ov_1, cv_ret, cu_ret, cv_thr, cu_thr, th_eq, ent_nil, ent_I, ent_L, ent_R, ent_N, List.tail_cons, List.tail_nil, w32_gi, w32_w32, w32_b2, b2_eq0, b2_eq1, b2_ne0, b2_01, w64_gi, w64_gl, w64_w32, w64_w64, vI_w32, vL_w64, gi_up, gl_up, vi_vI, vlg_vL, swt_nil, swt_cons, F_ite, and_true, true_and, and_false, false_and, and_self, or_true, true_or, or_false, false_or, not_true_eq_false, not_false_eq_true, b_c1I, b_c1R, b_c1N, cs_0, w32_lc, lc_lt, lc_gt, lc_le, lc_ge, lc_eq, w32_id, w64_id, eq_self, Nat.reduceEqDiff, Nat.reduceLeDiff, Nat.reduceAdd, Nat.reduceMul, Int.reduceLT, Int.reduceLE, Int.reduceEq, Int.reduceNeg, Int.reduceAdd, Int.reduceSub, Int.reduceMul, Int.reduceToNat, Int.toNat_natCast, nc_lit, Int.add_sub_cancel, Int.tmod_eq_emod_of_nonneg, Int.tdiv_eq_ediv_of_nonneg, Int.natCast_add, Int.natCast_mul, if_pos, if_neg, ↓reduceIte, e6006_0, e6006_1, e6006_2, e6006_5, e6006_6, e6006_7, e6006_10, e6006_11, e6006_11N, e6006_12, e6006_13, e6006_16, e6006_17, e6006_20, e6006_23, e6006_24, a6, a7', a8', P1]
    · rw [pt_at h2, pt_at h3, pt_at h2]
  · have hc : xs.length = c := by omega
    have P1 := P d (by omega) hc
    refine ⟨_, (b_pt δ l 0 (vI (b_ia δ l 0 + 1))).1, c + c / 2, ?_, Lb_put (Lb_grow (δ := b_pt δ l 0 (vI (b_ia δ l 0 + 1))) H1 hl hc) hl (by omega), ?_, ?_, fun a h1 h2 h3 => ?_, Or.inr (Nat.le_refl _), ?_, ?_⟩
    · have a7' := H1.2.2.1
      have a8' := H1.2.2.2.1
      clear P H1
      rw [b_M_succ]
      generalize xs.length = n at *
      simp (disch := first | assumption | omega | exact b2_01d | decide | (simp (disch := omega) only [a6, tg_pt, w32_id, w32_gi, w32_w32, w32_b2, Int.toNat_natCast, gi_up, vi_vI, tgd, lnd, and_true, true_and, and_false, false_and, Nat.reduceLeDiff, Nat.reduceLT, ↓reduceIte, b_c1I, b_c1R, b_c1N, cs_0, cs_nil, cs_I, cs_L, cs_R, cs_N] <;> omega) | fail) only [vI_def, vI_sx8, vI_sx16, sx8_sx8, sx16_sx16, w32_sx8, w32_sx16, xci_ex, xv_ex, lk_21, lk_22, lk_2, tgd, lnd, vld, iad, lad, ptd, std, nw_ov, bump_ov, ov_1, cv_ret, cu_ret, cv_thr, cu_thr, th_eq, ent_nil, ent_I, ent_L, ent_R, ent_N, List.tail_cons, List.tail_nil, w32_gi, w32_w32, w32_b2, b2_eq0, b2_eq1, b2_ne0, b2_01, w64_gi, w64_gl, w64_w32, w64_w64, vI_w32, vL_w64, gi_up, gl_up, vi_vI, vlg_vL, swt_nil, swt_cons, F_ite, and_true, true_and, and_false, false_and, and_self, or_true, true_or, or_false, false_or, not_true_eq_false, not_false_eq_true, b_c1I, b_c1R, b_c1N, cs_0, w32_lc, lc_lt, lc_gt, lc_le, lc_ge, lc_eq, w32_id, w64_id, eq_self, Nat.reduceEqDiff, Nat.reduceLeDiff, Nat.reduceAdd, Nat.reduceMul, Int.reduceLT, Int.reduceLE, Int.reduceEq, Int.reduceNeg, Int.reduceAdd, Int.reduceSub, Int.reduceMul, Int.reduceToNat, Int.toNat_natCast, nc_lit, Int.add_sub_cancel, Int.tmod_eq_emod_of_nonneg, Int.tdiv_eq_ediv_of_nonneg, Int.natCast_add, Int.natCast_mul, if_pos, if_neg, ↓reduceIte, e6006_0, e6006_1, e6006_2, e6006_5, e6006_6, e6006_7, e6006_10, e6006_11, e6006_11N, e6006_12, e6006_13, e6006_16, e6006_17, e6006_20, e6006_23, e6006_24, a6, a7', a8', P1]
    · show δ.1 ≤ δ.1 + 1
      omega
    · exact Nat.le_refl _
    · rw [pt_at h2, pt_at (show a ≠ (b_pt δ l 0 (vI (b_ia δ l 0 + 1))).1 by rw [pt_1]; omega), pt_at h2, cpy_at (show a ≠ (b_pt δ l 0 (vI (b_ia δ l 0 + 1))).1 by rw [pt_1]; omega), nw_at (show a ≠ (b_pt δ l 0 (vI (b_ia δ l 0 + 1))).1 by rw [pt_1]; omega), pt_at h2]
    · exact Nat.le_refl _
    · show δ.2.2.1 + (c + c / 2) + 4 * c ≤ δ.2.2.1 + 4 * (c + c / 2)
      omega
/-- a list made anew -/
theorem L_init {d : Nat} (hd : 4 ≤ d) {S : Mm} {δ : Sg} {l c : Nat} (h0 : 156 ≤ l) (h1 : l < δ.1) (ht : b_tg δ l = 19) (hc : c = 2 ∨ c = 4) : b_M TT d 6001 [.ref l, vI (c : Int)] (ov S δ) = some (.inl none, ov S (b_pt (b_nw (b_pt δ l 0 (vI 0)) 112 c fun _ => .null) l 1 (.ref δ.1))) := by
  have e1 : ∀ d, 1 ≤ d → ∀ σ, b_M TT d 5601 [.ref l] σ = some (.inl none, σ) := by
    intro d hd σ
    (obtain ⟨d, rfl⟩ : ∃ k, d = k + 1 := ⟨d - 1, by omega⟩); rw [b_M_succ]; simp (disch := first | assumption | omega | exact b2_01d | decide | (simp (disch := omega) only [b2_eq0, w32_id, w32_gi, w32_w32, w32_b2, Int.toNat_natCast, gi_up, vi_vI, tgd, lnd, and_true, true_and, and_false, false_and, Nat.reduceLeDiff, Nat.reduceLT, ↓reduceIte, b_c1I, b_c1R, b_c1N, cs_0, cs_nil, cs_I, cs_L, cs_R, cs_N] <;> omega) | fail) only [vI_def, vI_sx8, vI_sx16, sx8_sx8, sx16_sx16, w32_sx8, w32_sx16, xci_ex, xv_ex, lk_21, lk_22, lk_2, tgd, lnd, vld, iad, lad, ptd, std, nw_ov, bump_ov, ov_1, cv_ret, cu_ret, cv_thr, cu_thr, th_eq, ent_nil, ent_I, ent_L, ent_R, ent_N, List.tail_cons, List.tail_nil, w32_gi, w32_w32, w32_b2, b2_eq0, b2_eq1, b2_ne0, b2_01, w64_gi, w64_gl, w64_w32, w64_w64, vI_w32, vL_w64, gi_up, gl_up, vi_vI, vlg_vL, swt_nil, swt_cons, F_ite, and_true, true_and, and_false, false_and, and_self, or_true, true_or, or_false, false_or, not_true_eq_false, not_false_eq_true, b_c1I, b_c1R, b_c1N, cs_0, w32_lc, lc_lt, lc_gt, lc_le, lc_ge, lc_eq, w32_id, w64_id, eq_self, Nat.reduceEqDiff, Nat.reduceLeDiff, Nat.reduceAdd, Nat.reduceMul, Int.reduceLT, Int.reduceLE, Int.reduceEq, Int.reduceNeg, Int.reduceAdd, Int.reduceSub, Int.reduceMul, Int.reduceToNat, Int.toNat_natCast, nc_lit, Int.add_sub_cancel, Int.tmod_eq_emod_of_nonneg, Int.tdiv_eq_ediv_of_nonneg, Int.natCast_add, Int.natCast_mul, if_pos, if_neg, ↓reduceIte, e5601_0, e5601_1, e5601_4]
    done
  have e2 : ∀ d, 2 ≤ d → b_M TT d 5801 [.ref l] (ov S δ) = some (.inl none, ov S (b_pt δ l 0 (vI 0))) := by
    intro d hd
    (obtain ⟨d, rfl⟩ : ∃ k, d = k + 1 := ⟨d - 1, by omega⟩); rw [b_M_succ]; simp (disch := first | assumption | omega | exact b2_01d | decide | (simp (disch := omega) only [b2_eq0, w32_id, w32_gi, w32_w32, w32_b2, Int.toNat_natCast, gi_up, vi_vI, tgd, lnd, and_true, true_and, and_false, false_and, Nat.reduceLeDiff, Nat.reduceLT, ↓reduceIte, b_c1I, b_c1R, b_c1N, cs_0, cs_nil, cs_I, cs_L, cs_R, cs_N] <;> omega) | fail) only [vI_def, vI_sx8, vI_sx16, sx8_sx8, sx16_sx16, w32_sx8, w32_sx16, xci_ex, xv_ex, lk_21, lk_22, lk_2, tgd, lnd, vld, iad, lad, ptd, std, nw_ov, bump_ov, ov_1, cv_ret, cu_ret, cv_thr, cu_thr, th_eq, ent_nil, ent_I, ent_L, ent_R, ent_N, List.tail_cons, List.tail_nil, w32_gi, w32_w32, w32_b2, b2_eq0, b2_eq1, b2_ne0, b2_01, w64_gi, w64_gl, w64_w32, w64_w64, vI_w32, vL_w64, gi_up, gl_up, vi_vI, vlg_vL, swt_nil, swt_cons, F_ite, and_true, true_and, and_false, false_and, and_self, or_true, true_or, or_false, false_or, not_true_eq_false, not_false_eq_true, b_c1I, b_c1R, b_c1N, cs_0, w32_lc, lc_lt, lc_gt, lc_le, lc_ge, lc_eq, w32_id, w64_id, eq_self, Nat.reduceEqDiff, Nat.reduceLeDiff, Nat.reduceAdd, Nat.reduceMul, Int.reduceLT, Int.reduceLE, Int.reduceEq, Int.reduceNeg, Int.reduceAdd, Int.reduceSub, Int.reduceMul, Int.reduceToNat, Int.toNat_natCast, nc_lit, Int.add_sub_cancel, Int.tmod_eq_emod_of_nonneg, Int.tdiv_eq_ediv_of_nonneg, Int.natCast_add, Int.natCast_mul, if_pos, if_neg, ↓reduceIte, e5801_0, e5801_1, e5801_4, e5801_5, e5801_6, e5801_9, ht, e1]
    done
  have hz : 156 ≤ (b_pt δ l 0 (vI 0)).1 := by rw [pt_1]; omega
  have tl : ∀ c, b_tg (b_nw (b_pt δ l 0 (vI 0)) 112 c fun _ => .null) l = 19 := fun c => by rw [tg_nw, pt_1, if_neg (by omega), tg_pt]; exact ht
  rcases hc with rfl | rfl
  · (obtain ⟨d, rfl⟩ : ∃ k, d = k + 1 := ⟨d - 1, by omega⟩); rw [b_M_succ]; simp (disch := first | assumption | omega | exact b2_01d | decide | (simp (disch := omega) only [ht, tl, w32_id, w32_gi, w32_w32, w32_b2, Int.toNat_natCast, gi_up, vi_vI, tgd, lnd, and_true, true_and, and_false, false_and, Nat.reduceLeDiff, Nat.reduceLT, ↓reduceIte, b_c1I, b_c1R, b_c1N, cs_0, cs_nil, cs_I, cs_L, cs_R, cs_N] <;> omega) | fail) only [vI_def, vI_sx8, vI_sx16, sx8_sx8, sx16_sx16, w32_sx8, w32_sx16, xci_ex, xv_ex, lk_21, lk_22, lk_2, tgd, lnd, vld, iad, lad, ptd, std, nw_ov, bump_ov, ov_1, cv_ret, cu_ret, cv_thr, cu_thr, th_eq, ent_nil, ent_I, ent_L, ent_R, ent_N, List.tail_cons, List.tail_nil, w32_gi, w32_w32, w32_b2, b2_eq0, b2_eq1, b2_ne0, b2_01, w64_gi, w64_gl, w64_w32, w64_w64, vI_w32, vL_w64, gi_up, gl_up, vi_vI, vlg_vL, swt_nil, swt_cons, F_ite, and_true, true_and, and_false, false_and, and_self, or_true, true_or, or_false, false_or, not_true_eq_false, not_false_eq_true, b_c1I, b_c1R, b_c1N, cs_0, w32_lc, lc_lt, lc_gt, lc_le, lc_ge, lc_eq, w32_id, w64_id, eq_self, Nat.reduceEqDiff, Nat.reduceLeDiff, Nat.reduceAdd, Nat.reduceMul, Int.reduceLT, Int.reduceLE, Int.reduceEq, Int.reduceNeg, Int.reduceAdd, Int.reduceSub, Int.reduceMul, Int.reduceToNat, Int.toNat_natCast, nc_lit, Int.add_sub_cancel, Int.tmod_eq_emod_of_nonneg, Int.tdiv_eq_ediv_of_nonneg, Int.natCast_add, Int.natCast_mul, if_pos, if_neg, ↓reduceIte, e6001_0, e6001_1, e6001_4, e6001_5, e6001_8, e6001_9, e6001_10, e6001_13, e6001_13N, e6001_16, e6001_19, e6001_20, e6001_23, e6001_27, e6001_27N, e6001_30, e6001_36, e6001_40, e6001_60, e2, pt_1]
  · (obtain ⟨d, rfl⟩ : ∃ k, d = k + 1 := ⟨d - 1, by omega⟩); rw [b_M_succ]; simp (disch := first | assumption | omega | exact b2_01d | decide | (simp (disch := omega) only [ht, tl, w32_id, w32_gi, w32_w32, w32_b2, Int.toNat_natCast, gi_up, vi_vI, tgd, lnd, and_true, true_and, and_false, false_and, Nat.reduceLeDiff, Nat.reduceLT, ↓reduceIte, b_c1I, b_c1R, b_c1N, cs_0, cs_nil, cs_I, cs_L, cs_R, cs_N] <;> omega) | fail) only [vI_def, vI_sx8, vI_sx16, sx8_sx8, sx16_sx16, w32_sx8, w32_sx16, xci_ex, xv_ex, lk_21, lk_22, lk_2, tgd, lnd, vld, iad, lad, ptd, std, nw_ov, bump_ov, ov_1, cv_ret, cu_ret, cv_thr, cu_thr, th_eq, ent_nil, ent_I, ent_L, ent_R, ent_N, List.tail_cons, List.tail_nil, w32_gi, w32_w32, w32_b2, b2_eq0, b2_eq1, b2_ne0, b2_01, w64_gi, w64_gl, w64_w32, w64_w64, vI_w32, vL_w64, gi_up, gl_up, vi_vI, vlg_vL, swt_nil, swt_cons, F_ite, and_true, true_and, and_false, false_and, and_self, or_true, true_or, or_false, false_or, not_true_eq_false, not_false_eq_true, b_c1I, b_c1R, b_c1N, cs_0, w32_lc, lc_lt, lc_gt, lc_le, lc_ge, lc_eq, w32_id, w64_id, eq_self, Nat.reduceEqDiff, Nat.reduceLeDiff, Nat.reduceAdd, Nat.reduceMul, Int.reduceLT, Int.reduceLE, Int.reduceEq, Int.reduceNeg, Int.reduceAdd, Int.reduceSub, Int.reduceMul, Int.reduceToNat, Int.toNat_natCast, nc_lit, Int.add_sub_cancel, Int.tmod_eq_emod_of_nonneg, Int.tdiv_eq_ediv_of_nonneg, Int.natCast_add, Int.natCast_mul, if_pos, if_neg, ↓reduceIte, e6001_0, e6001_1, e6001_4, e6001_5, e6001_8, e6001_9, e6001_10, e6001_13, e6001_13N, e6001_16, e6001_19, e6001_20, e6001_23, e6001_27, e6001_27N, e6001_30, e6001_36, e6001_40, e6001_60, e2, pt_1]
