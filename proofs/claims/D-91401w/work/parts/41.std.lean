/-! ===== truth as numbers; numbers in range; the standing laws of a walk ===== -/
set_option maxRecDepth 100000
def b2 (P : Prop) [Decidable P] : Int := if P then 1 else 0
theorem b2_t {P : Prop} [Decidable P] (h : P) : b2 P = 1 := if_pos h
theorem b2_f {P : Prop} [Decidable P] (h : ¬ P) : b2 P = 0 := if_neg h
theorem b2_or {P : Prop} [Decidable P] : b2 P = 0 ∨ b2 P = 1 := by unfold b2; split <;> simp
theorem w32_b2 {P : Prop} [Decidable P] : w32 (b2 P) = b2 P := by unfold b2; split <;> rfl
theorem b2_eq0 {P : Prop} [Decidable P] : (b2 P = 0) = ¬ P := by unfold b2; split <;> simp_all
theorem b2_eq1 {P : Prop} [Decidable P] : (b2 P = 1) = P := by unfold b2; split <;> simp_all
theorem b2_ne0 {P : Prop} [Decidable P] : (¬ b2 P = 0) = P := by unfold b2; split <;> simp_all
theorem b2_01 {P : Prop} [Decidable P] : (w32 (b2 P) = 0 ∨ w32 (b2 P) = 1) = True := by rw [w32_b2]; exact eq_true b2_or
theorem b2_01d {P : Prop} [Decidable P] : w32 (b2 P) = 0 ∨ w32 (b2 P) = 1 := by rw [w32_b2]; exact b2_or
theorem b2_ite {P : Prop} [Decidable P] : (if P then (1 : Int) else 0) = b2 P := rfl
theorem b2_lo {P : Prop} [Decidable P] : 0 ≤ b2 P := by unfold b2; split <;> decide
theorem b2_hi {P : Prop} [Decidable P] : b2 P ≤ 1 := by unfold b2; split <;> decide
theorem b2_cong {P : Prop} [Decidable P] {Q : Prop} [Decidable Q] (h : P ↔ Q) : b2 P = b2 Q := by
  unfold b2
  by_cases hp : P
  · rw [if_pos hp, if_pos (h.mp hp)]
  · rw [if_neg hp, if_neg fun q => hp (h.mpr q)]
theorem swt_nil {x lo : Int} {n : Nat} : b_swt x lo [] n = n := by unfold b_swt; split <;> simp
theorem swt_cons {x lo : Int} {t n : Nat} {ts : List Nat} : b_swt x lo (t :: ts) n = if x = lo then t else b_swt x (lo + 1) ts n := by
  unfold b_swt
  by_cases h : x = lo
  · subst h; rw [if_neg (by omega), if_pos rfl, Int.sub_self]; rfl
  · rw [if_neg h]
    by_cases h2 : x < lo
    · rw [if_pos h2, if_pos (by omega)]
    · rw [if_neg h2, if_neg (by omega), show (x - lo).toNat = (x - (lo + 1)).toNat + 1 by omega, List.getElem?_cons_succ]
theorem F_ite {c : Prop} [Decidable c] {d y p q : Nat} {L : Lc} {st : List Value} {σ : Sg} : b_F TT d y (if c then p else q) L st σ = if c then b_F TT d y p L st σ else b_F TT d y q L st σ := by split <;> rfl
theorem vI_def {x : Int} : Value.int (Int32.ofInt x) = vI x := rfl
theorem sx8_id {x : Int} (h : -128 ≤ x ∧ x ≤ 127) : sx8 x = x := by
  unfold sx8
  rw [Int8.toInt_toInt32, Int32.toInt_toInt8, show (Int32.ofInt x).toInt = x from w32_id (by omega) (by omega)]
  exact Int.bmod_eq_of_le (by omega) (by omega)
theorem sx8_lo (x : Int) : -128 ≤ sx8 x := by
  unfold sx8
  rw [Int8.toInt_toInt32]
  exact Int8.minValue_le_toInt _
theorem sx8_hi (x : Int) : sx8 x ≤ 127 := by
  unfold sx8
  rw [Int8.toInt_toInt32]
  have := Int8.toInt_lt (Int32.ofInt x).toInt8
  omega
theorem w32_sx8 {x : Int} : w32 (sx8 x) = sx8 x := by
  have := sx8_lo x
  have := sx8_hi x
  exact w32_id (by omega) (by omega)
theorem sx8_sx8 {x : Int} : sx8 (sx8 x) = sx8 x := sx8_id ⟨sx8_lo x, sx8_hi x⟩
theorem sx16_id {x : Int} (h : -32768 ≤ x ∧ x ≤ 32767) : sx16 x = x := by
  unfold sx16
  rw [Int16.toInt_toInt32, Int32.toInt_toInt16, show (Int32.ofInt x).toInt = x from w32_id (by omega) (by omega)]
  exact Int.bmod_eq_of_le (by omega) (by omega)
theorem sx16_lo (x : Int) : -32768 ≤ sx16 x := by
  unfold sx16
  rw [Int16.toInt_toInt32]
  exact Int16.minValue_le_toInt _
theorem sx16_hi (x : Int) : sx16 x ≤ 32767 := by
  unfold sx16
  rw [Int16.toInt_toInt32]
  have := Int16.toInt_lt (Int32.ofInt x).toInt16
  omega
theorem w32_sx16 {x : Int} : w32 (sx16 x) = sx16 x := by
  have := sx16_lo x
  have := sx16_hi x
  exact w32_id (by omega) (by omega)
theorem sx16_sx16 {x : Int} : sx16 (sx16 x) = sx16 x := sx16_id ⟨sx16_lo x, sx16_hi x⟩
theorem vI_sx8 {x : Int} : Value.int (Int32.ofInt x).toInt8.toInt32 = vI (sx8 x) := by
  unfold vI sx8
  rw [Int32.ofInt_toInt]
theorem vI_sx16 {x : Int} : Value.int (Int32.ofInt x).toInt16.toInt32 = vI (sx16 x) := by
  unfold vI sx16
  rw [Int32.ofInt_toInt]
theorem xci_ex {σ : Sg} {n : Nat} : b_xci σ (b_ex + n) = n := by
  unfold b_xci
  rw [if_neg (by omega)]
  omega
theorem xv_ex {n : Nat} : b_xv (b_ex + n) = .float 2 := if_neg (by omega)
theorem lk_21 : b_lkN [(21, 9), (22, 14)] 21 = some 9 := rfl
theorem lk_22 : b_lkN [(21, 9), (22, 14)] 22 = some 14 := rfl
theorem lk_2 : b_lkN [(2, 75)] 2 = some 75 := rfl
theorem nc_lit {n : Nat} : ((no_index (OfNat.ofNat n) : Nat) : Int) = (OfNat.ofNat n : Int) := rfl
theorem b_c1I {x : Int} : (b_c1 (vI x) = true) = True := eq_true rfl
theorem b_c1R {x : Nat} : (b_c1 (.ref x) = true) = True := eq_true rfl
theorem b_c1N : (b_c1 .null = true) = True := eq_true rfl
theorem w64_lo (x : Int) : -9223372036854775808 ≤ w64 x := Int64.minValue_le_toInt _
theorem w64_hi (x : Int) : w64 x ≤ 9223372036854775807 := by
  have := Int64.toInt_lt (Int64.ofInt x)
  unfold w64
  omega
theorem vlg_lo (v : Value) : -9223372036854775808 ≤ b_vlg v := by
  cases v <;> simp only [b_vlg] <;> first | exact Int64.minValue_le_toInt _ | omega
theorem vlg_hi (v : Value) : b_vlg v ≤ 9223372036854775807 := by
  cases v <;> simp only [b_vlg] <;> first | (have := Int64.toInt_lt ‹Int64›; omega) | omega
theorem gl_lo {S : Mm} {a k : Nat} : -9223372036854775808 ≤ gl S a k := vlg_lo _
theorem gl_hi {S : Mm} {a k : Nat} : gl S a k ≤ 9223372036854775807 := vlg_hi _
theorem w64_gl {S : Mm} {a k : Nat} : w64 (gl S a k) = gl S a k := w64_id gl_lo gl_hi
theorem w64_w64 (x : Int) : w64 (w64 x) = w64 x := w64_id (w64_lo x) (w64_hi x)
theorem w64_w32 {x : Int} : w64 (w32 x) = w32 x := by
  have := w32_lo x
  have := w32_hi x
  exact w64_id (by omega) (by omega)
theorem w64_gi {S : Mm} {a k : Nat} : w64 (gi S a k) = gi S a k := by rw [← w32_gi, w64_w32]
theorem lc_or (a b : Int) : lcI a b = -1 ∨ lcI a b = 0 ∨ lcI a b = 1 := by
  unfold lcI
  split
  · simp
  · split <;> simp
theorem w32_lc {a b : Int} : w32 (lcI a b) = lcI a b := by
  rcases lc_or a b with h | h | h <;> rw [h] <;> rfl
theorem lc_lt {a b : Int} : (lcI a b < 0) = (w64 a < w64 b) := by
  unfold lcI
  by_cases h : w64 a < w64 b
  · simp [h]
  · rw [if_neg h]; split <;> simp [h]
theorem lc_gt {a b : Int} : (0 < lcI a b) = (w64 b < w64 a) := by
  unfold lcI
  by_cases h : w64 a < w64 b
  · rw [if_pos h]; simp; omega
  · rw [if_neg h]; split <;> simp <;> omega
theorem lc_le {a b : Int} : (lcI a b ≤ 0) = (w64 a ≤ w64 b) := by
  unfold lcI
  by_cases h : w64 a < w64 b
  · rw [if_pos h]; simp; omega
  · rw [if_neg h]; split <;> simp <;> omega
theorem lc_ge {a b : Int} : (0 ≤ lcI a b) = (w64 b ≤ w64 a) := by
  unfold lcI
  by_cases h : w64 a < w64 b
  · rw [if_pos h]; simp; omega
  · rw [if_neg h]; split <;> simp <;> omega
theorem lc_eq {a b : Int} : (lcI a b = 0) = (w64 a = w64 b) := by
  unfold lcI
  by_cases h : w64 a < w64 b
  · rw [if_pos h]; simp; omega
  · rw [if_neg h]; split <;> simp <;> omega
theorem cs_0 : (b_cs [] ≤ 8) = True := eq_true (by decide)
theorem w32_hl {x : Int} : w32 x < 2147483648 := by have := w32_hi x; omega
theorem J_max {d : Nat} (hd : 1 ≤ d) {a b : Int} {σ : Sg} : b_M TT d 4801 [vI a, vI b] σ = some (.inl (some (vI (max (w32 a) (w32 b)))), σ) := by
  (obtain ⟨d, rfl⟩ : ∃ k, d = k + 1 := ⟨d - 1, by omega⟩); rw [b_M_succ]
  simp (disch := first | assumption | omega | exact b2_01d | decide | (simp (disch := omega) only [b2_eq0, w32_id, w32_gi, w32_w32, w32_b2, Int.toNat_natCast, gi_up, vi_vI, tgd, lnd, and_true, true_and, and_false, false_and, Nat.reduceLeDiff, Nat.reduceLT, ↓reduceIte, b_c1I, b_c1R, b_c1N, cs_0, cs_nil, cs_I, cs_L, cs_R, cs_N] <;> omega) | fail) only [vI_def, vI_sx8, vI_sx16, sx8_sx8, sx16_sx16, w32_sx8, w32_sx16, xci_ex, xv_ex, lk_21, lk_22, lk_2, tgd, lnd, vld, iad, lad, ptd, std, nw_ov, bump_ov, ov_1, cv_ret, cu_ret, cv_thr, cu_thr, th_eq, ent_nil, ent_I, ent_L, ent_R, ent_N, List.tail_cons, List.tail_nil, w32_gi, w32_w32, w32_b2, b2_eq0, b2_eq1, b2_ne0, b2_01, w64_gi, w64_gl, w64_w32, w64_w64, vI_w32, vL_w64, gi_up, gl_up, vi_vI, vlg_vL, swt_nil, swt_cons, F_ite, and_true, true_and, and_false, false_and, and_self, or_true, true_or, or_false, false_or, not_true_eq_false, not_false_eq_true, b_c1I, b_c1R, b_c1N, cs_0, w32_lc, lc_lt, lc_gt, lc_le, lc_ge, lc_eq, w32_id, w64_id, eq_self, Nat.reduceEqDiff, Nat.reduceLeDiff, Nat.reduceAdd, Nat.reduceMul, Int.reduceLT, Int.reduceLE, Int.reduceEq, Int.reduceNeg, Int.reduceAdd, Int.reduceSub, Int.reduceMul, Int.reduceToNat, Int.toNat_natCast, nc_lit, Int.add_sub_cancel, Int.tmod_eq_emod_of_nonneg, Int.tdiv_eq_ediv_of_nonneg, Int.natCast_add, Int.natCast_mul, if_pos, if_neg, ↓reduceIte, e4801_0, e4801_1, e4801_2, e4801_5, e4801_6, e4801_9, e4801_10]
  split
  · rw [Int.max_eq_right (by omega), vI_w32]
  · rw [Int.max_eq_left (by omega), vI_w32]
theorem J_min {d : Nat} (hd : 1 ≤ d) {a b : Int} {σ : Sg} : b_M TT d 4802 [vI a, vI b] σ = some (.inl (some (vI (min (w32 a) (w32 b)))), σ) := by
  (obtain ⟨d, rfl⟩ : ∃ k, d = k + 1 := ⟨d - 1, by omega⟩); rw [b_M_succ]
  simp (disch := first | assumption | omega | exact b2_01d | decide | (simp (disch := omega) only [b2_eq0, w32_id, w32_gi, w32_w32, w32_b2, Int.toNat_natCast, gi_up, vi_vI, tgd, lnd, and_true, true_and, and_false, false_and, Nat.reduceLeDiff, Nat.reduceLT, ↓reduceIte, b_c1I, b_c1R, b_c1N, cs_0, cs_nil, cs_I, cs_L, cs_R, cs_N] <;> omega) | fail) only [vI_def, vI_sx8, vI_sx16, sx8_sx8, sx16_sx16, w32_sx8, w32_sx16, xci_ex, xv_ex, lk_21, lk_22, lk_2, tgd, lnd, vld, iad, lad, ptd, std, nw_ov, bump_ov, ov_1, cv_ret, cu_ret, cv_thr, cu_thr, th_eq, ent_nil, ent_I, ent_L, ent_R, ent_N, List.tail_cons, List.tail_nil, w32_gi, w32_w32, w32_b2, b2_eq0, b2_eq1, b2_ne0, b2_01, w64_gi, w64_gl, w64_w32, w64_w64, vI_w32, vL_w64, gi_up, gl_up, vi_vI, vlg_vL, swt_nil, swt_cons, F_ite, and_true, true_and, and_false, false_and, and_self, or_true, true_or, or_false, false_or, not_true_eq_false, not_false_eq_true, b_c1I, b_c1R, b_c1N, cs_0, w32_lc, lc_lt, lc_gt, lc_le, lc_ge, lc_eq, w32_id, w64_id, eq_self, Nat.reduceEqDiff, Nat.reduceLeDiff, Nat.reduceAdd, Nat.reduceMul, Int.reduceLT, Int.reduceLE, Int.reduceEq, Int.reduceNeg, Int.reduceAdd, Int.reduceSub, Int.reduceMul, Int.reduceToNat, Int.toNat_natCast, nc_lit, Int.add_sub_cancel, Int.tmod_eq_emod_of_nonneg, Int.tdiv_eq_ediv_of_nonneg, Int.natCast_add, Int.natCast_mul, if_pos, if_neg, ↓reduceIte, e4802_0, e4802_1, e4802_2, e4802_5, e4802_6, e4802_9, e4802_10]
  split
  · rw [Int.min_eq_right (by omega), vI_w32]
  · rw [Int.min_eq_left (by omega), vI_w32]
theorem M_in {d : Nat} (hd : 1 ≤ d) {v l h : Int} {σ : Sg} : b_M TT d 1004 [vL v, vL l, vL h] σ = some (.inl (some (vI (b2 (w64 l ≤ w64 v ∧ w64 v ≤ w64 h)))), σ) := by
  (obtain ⟨d, rfl⟩ : ∃ k, d = k + 1 := ⟨d - 1, by omega⟩); rw [b_M_succ]
  simp (disch := first | assumption | omega | exact b2_01d | decide | (simp (disch := omega) only [b2_eq0, w32_id, w32_gi, w32_w32, w32_b2, Int.toNat_natCast, gi_up, vi_vI, tgd, lnd, and_true, true_and, and_false, false_and, Nat.reduceLeDiff, Nat.reduceLT, ↓reduceIte, b_c1I, b_c1R, b_c1N, cs_0, cs_nil, cs_I, cs_L, cs_R, cs_N] <;> omega) | fail) only [vI_def, vI_sx8, vI_sx16, sx8_sx8, sx16_sx16, w32_sx8, w32_sx16, xci_ex, xv_ex, lk_21, lk_22, lk_2, tgd, lnd, vld, iad, lad, ptd, std, nw_ov, bump_ov, ov_1, cv_ret, cu_ret, cv_thr, cu_thr, th_eq, ent_nil, ent_I, ent_L, ent_R, ent_N, List.tail_cons, List.tail_nil, w32_gi, w32_w32, w32_b2, b2_eq0, b2_eq1, b2_ne0, b2_01, w64_gi, w64_gl, w64_w32, w64_w64, vI_w32, vL_w64, gi_up, gl_up, vi_vI, vlg_vL, swt_nil, swt_cons, F_ite, and_true, true_and, and_false, false_and, and_self, or_true, true_or, or_false, false_or, not_true_eq_false, not_false_eq_true, b_c1I, b_c1R, b_c1N, cs_0, w32_lc, lc_lt, lc_gt, lc_le, lc_ge, lc_eq, w32_id, w64_id, eq_self, Nat.reduceEqDiff, Nat.reduceLeDiff, Nat.reduceAdd, Nat.reduceMul, Int.reduceLT, Int.reduceLE, Int.reduceEq, Int.reduceNeg, Int.reduceAdd, Int.reduceSub, Int.reduceMul, Int.reduceToNat, Int.toNat_natCast, nc_lit, Int.add_sub_cancel, Int.tmod_eq_emod_of_nonneg, Int.tdiv_eq_ediv_of_nonneg, Int.natCast_add, Int.natCast_mul, if_pos, if_neg, ↓reduceIte, e1004_0, e1004_1, e1004_2, e1004_3, e1004_6, e1004_7, e1004_9, e1004_10, e1004_13, e1004_14, e1004_17, e1004_18]
  split
  · rw [b2_f (by omega)]
  · split
    · rw [b2_f (by omega)]
    · rw [b2_t (by omega)]
theorem M_isPlace {d : Nat} (hd : 2 ≤ d) {k : Int} {σ : Sg} : b_M TT d 1003 [vI k] σ = some (.inl (some (vI (b2 (0 ≤ w32 k ∧ w32 k ≤ 3)))), σ) := by
  (obtain ⟨d, rfl⟩ : ∃ k, d = k + 1 := ⟨d - 1, by omega⟩); rw [b_M_succ]
  simp (disch := first | assumption | omega | exact b2_01d | decide | (simp (disch := omega) only [b2_eq0, w32_id, w32_gi, w32_w32, w32_b2, Int.toNat_natCast, gi_up, vi_vI, tgd, lnd, and_true, true_and, and_false, false_and, Nat.reduceLeDiff, Nat.reduceLT, ↓reduceIte, b_c1I, b_c1R, b_c1N, cs_0, cs_nil, cs_I, cs_L, cs_R, cs_N] <;> omega) | fail) only [vI_def, vI_sx8, vI_sx16, sx8_sx8, sx16_sx16, w32_sx8, w32_sx16, xci_ex, xv_ex, lk_21, lk_22, lk_2, tgd, lnd, vld, iad, lad, ptd, std, nw_ov, bump_ov, ov_1, cv_ret, cu_ret, cv_thr, cu_thr, th_eq, ent_nil, ent_I, ent_L, ent_R, ent_N, List.tail_cons, List.tail_nil, w32_gi, w32_w32, w32_b2, b2_eq0, b2_eq1, b2_ne0, b2_01, w64_gi, w64_gl, w64_w32, w64_w64, vI_w32, vL_w64, gi_up, gl_up, vi_vI, vlg_vL, swt_nil, swt_cons, F_ite, and_true, true_and, and_false, false_and, and_self, or_true, true_or, or_false, false_or, not_true_eq_false, not_false_eq_true, b_c1I, b_c1R, b_c1N, cs_0, w32_lc, lc_lt, lc_gt, lc_le, lc_ge, lc_eq, w32_id, w64_id, eq_self, Nat.reduceEqDiff, Nat.reduceLeDiff, Nat.reduceAdd, Nat.reduceMul, Int.reduceLT, Int.reduceLE, Int.reduceEq, Int.reduceNeg, Int.reduceAdd, Int.reduceSub, Int.reduceMul, Int.reduceToNat, Int.toNat_natCast, nc_lit, Int.add_sub_cancel, Int.tmod_eq_emod_of_nonneg, Int.tdiv_eq_ediv_of_nonneg, Int.natCast_add, Int.natCast_mul, if_pos, if_neg, ↓reduceIte, e1003_0, e1003_1, e1003_2, e1003_3, e1003_6, e1003_9, M_in]
theorem M_isLayer {d : Nat} (hd : 2 ≤ d) {k : Int} {S : Mm} {δ : Sg} : b_M TT d 1015 [.ref 106, vI k] (ov S δ) = some (.inl (some (vI (b2 (0 ≤ w32 k ∧ w32 k ≤ w32 (gi S 106 8 - 1))))), ov S δ) := by
  (obtain ⟨d, rfl⟩ : ∃ k, d = k + 1 := ⟨d - 1, by omega⟩); rw [b_M_succ]
  simp (disch := first | assumption | omega | exact b2_01d | decide | (simp (disch := omega) only [tg_106, ia_106_8, pt_106_8, w32_id, w32_gi, w32_w32, w32_b2, Int.toNat_natCast, gi_up, vi_vI, tgd, lnd, and_true, true_and, and_false, false_and, Nat.reduceLeDiff, Nat.reduceLT, ↓reduceIte, b_c1I, b_c1R, b_c1N, cs_0, cs_nil, cs_I, cs_L, cs_R, cs_N] <;> omega) | fail) only [vI_def, vI_sx8, vI_sx16, sx8_sx8, sx16_sx16, w32_sx8, w32_sx16, xci_ex, xv_ex, lk_21, lk_22, lk_2, tgd, lnd, vld, iad, lad, ptd, std, nw_ov, bump_ov, ov_1, cv_ret, cu_ret, cv_thr, cu_thr, th_eq, ent_nil, ent_I, ent_L, ent_R, ent_N, List.tail_cons, List.tail_nil, w32_gi, w32_w32, w32_b2, b2_eq0, b2_eq1, b2_ne0, b2_01, w64_gi, w64_gl, w64_w32, w64_w64, vI_w32, vL_w64, gi_up, gl_up, vi_vI, vlg_vL, swt_nil, swt_cons, F_ite, and_true, true_and, and_false, false_and, and_self, or_true, true_or, or_false, false_or, not_true_eq_false, not_false_eq_true, b_c1I, b_c1R, b_c1N, cs_0, w32_lc, lc_lt, lc_gt, lc_le, lc_ge, lc_eq, w32_id, w64_id, eq_self, Nat.reduceEqDiff, Nat.reduceLeDiff, Nat.reduceAdd, Nat.reduceMul, Int.reduceLT, Int.reduceLE, Int.reduceEq, Int.reduceNeg, Int.reduceAdd, Int.reduceSub, Int.reduceMul, Int.reduceToNat, Int.toNat_natCast, nc_lit, Int.add_sub_cancel, Int.tmod_eq_emod_of_nonneg, Int.tdiv_eq_ediv_of_nonneg, Int.natCast_add, Int.natCast_mul, if_pos, if_neg, ↓reduceIte, e1015_0, e1015_1, e1015_2, e1015_3, e1015_4, e1015_7, e1015_8, e1015_9, e1015_10, e1015_13, tg_106, ia_106_8, pt_106_8, M_in]
theorem M_bounds {d : Nat} (hd : 2 ≤ d) {a b : Nat} (ha : a < 16) (hb : b < 16) {S : Mm} {δ : Sg} : b_M TT d 1019 [.ref 106, vI a, vI b] (ov S δ) = some (.inl (some (vI (b2 (gi S 137 a < gi S 137 b ∨ gi S 138 a < gi S 138 b)))), ov (up (up S 137 a (vI (max (gi S 137 a) (gi S 137 b)))) 138 b (vI (min (gi S 138 b) (gi S 138 a)))) δ) := by
  (obtain ⟨d, rfl⟩ : ∃ k, d = k + 1 := ⟨d - 1, by omega⟩); rw [b_M_succ]
  simp (disch := first | assumption | omega | exact b2_01d | decide | (simp (disch := omega) only [tg_106, vc_106_43, tg_137, ln_137, ia_137, pt_137, vc_106_44, tg_138, ln_138, ia_138, pt_138, w32_id, w32_gi, w32_w32, w32_b2, Int.toNat_natCast, gi_up, vi_vI, tgd, lnd, and_true, true_and, and_false, false_and, Nat.reduceLeDiff, Nat.reduceLT, ↓reduceIte, b_c1I, b_c1R, b_c1N, cs_0, cs_nil, cs_I, cs_L, cs_R, cs_N] <;> omega) | fail) only [vI_def, vI_sx8, vI_sx16, sx8_sx8, sx16_sx16, w32_sx8, w32_sx16, xci_ex, xv_ex, lk_21, lk_22, lk_2, tgd, lnd, vld, iad, lad, ptd, std, nw_ov, bump_ov, ov_1, cv_ret, cu_ret, cv_thr, cu_thr, th_eq, ent_nil, ent_I, ent_L, ent_R, ent_N, List.tail_cons, List.tail_nil, w32_gi, w32_w32, w32_b2, b2_eq0, b2_eq1, b2_ne0, b2_01, w64_gi, w64_gl, w64_w32, w64_w64, vI_w32, vL_w64, gi_up, gl_up, vi_vI, vlg_vL, swt_nil, swt_cons, F_ite, and_true, true_and, and_false, false_and, and_self, or_true, true_or, or_false, false_or, not_true_eq_false, not_false_eq_true, b_c1I, b_c1R, b_c1N, cs_0, w32_lc, lc_lt, lc_gt, lc_le, lc_ge, lc_eq, w32_id, w64_id, eq_self, Nat.reduceEqDiff, Nat.reduceLeDiff, Nat.reduceAdd, Nat.reduceMul, Int.reduceLT, Int.reduceLE, Int.reduceEq, Int.reduceNeg, Int.reduceAdd, Int.reduceSub, Int.reduceMul, Int.reduceToNat, Int.toNat_natCast, nc_lit, Int.add_sub_cancel, Int.tmod_eq_emod_of_nonneg, Int.tdiv_eq_ediv_of_nonneg, Int.natCast_add, Int.natCast_mul, if_pos, if_neg, ↓reduceIte, e1019_0, e1019_1, e1019_4, e1019_5, e1019_6, e1019_7, e1019_10, e1019_11, e1019_12, e1019_15, e1019_16, e1019_19, e1019_20, e1019_21, e1019_22, e1019_25, e1019_26, e1019_27, e1019_30, e1019_31, e1019_34, e1019_35, e1019_36, e1019_37, e1019_40, e1019_41, e1019_42, e1019_45, e1019_46, e1019_47, e1019_48, e1019_51, e1019_52, e1019_53, e1019_56, e1019_57, e1019_58, e1019_61, e1019_62, e1019_63, e1019_66, e1019_67, e1019_68, e1019_69, e1019_72, e1019_73, e1019_74, e1019_77, e1019_78, e1019_79, tg_106, vc_106_43, tg_137, ln_137, ia_137, pt_137, vc_106_44, tg_138, ln_138, ia_138, pt_138, J_max, J_min, Int.toNat_natCast]
  all_goals ((repeat' split) <;> first | with_reducible rfl | (exfalso; omega) | (rw [b2_t (by omega)]) | (rw [b2_f (by omega)]) | rfl)
