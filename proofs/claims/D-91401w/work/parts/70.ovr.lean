/-! ===== over: its ends, joined ===== -/
set_option maxRecDepth 100000
theorem over_xR {d n A B : Nat} (hd : 2 ≤ d) {S S1 : Mm} {δ : Sg} (hn : gi S 42 8 = n) (hn2 : n ≤ 16) (hA : A < n) (hB : B < n) (hAB : (A : Int) ≠ B) (x1 : b_M TT d 1217 [.ref 42] (ov S δ) = some (.inl none, ov S1 δ)) (q1 : gi S1 (54 + B) A = 1) : b_M TT (d + 1) 1216 [.ref 42, vI A, vI B] (ov S δ) = some (.inl (some (vI (-7))), ov S1 δ) := by
  rw [b_M_succ]
  simp (disch := first | assumption | omega | exact b2_01d | decide | (simp (disch := omega) only [tg_42, vc_42_18, tg_53, ln_53, vr_53, tgs_54, lns_54, ias_54, pts_54, ia_42_14, pt_42_14, ia_42_13, pt_42_13, w32_id, w32_gi, w32_w32, w32_b2, Int.toNat_natCast, gi_up, vi_vI, tgd, lnd, and_true, true_and, and_false, false_and, Nat.reduceLeDiff, Nat.reduceLT, ↓reduceIte, b_c1I, b_c1R, b_c1N, cs_0, cs_nil, cs_I, cs_L, cs_R, cs_N] <;> omega) | fail) only [vI_def, vI_sx8, vI_sx16, sx8_sx8, sx16_sx16, w32_sx8, w32_sx16, xci_ex, xv_ex, lk_21, lk_22, lk_2, tgd, lnd, vld, iad, lad, ptd, std, nw_ov, bump_ov, ov_1, cv_ret, cu_ret, cv_thr, cu_thr, th_eq, ent_nil, ent_I, ent_L, ent_R, ent_N, List.tail_cons, List.tail_nil, w32_gi, w32_w32, w32_b2, b2_eq0, b2_eq1, b2_ne0, b2_01, w64_gi, w64_gl, w64_w32, w64_w64, vI_w32, vL_w64, gi_up, gl_up, vi_vI, vlg_vL, swt_nil, swt_cons, F_ite, and_true, true_and, and_false, false_and, and_self, or_true, true_or, or_false, false_or, not_true_eq_false, not_false_eq_true, b_c1I, b_c1R, b_c1N, cs_0, w32_lc, lc_lt, lc_gt, lc_le, lc_ge, lc_eq, w32_id, w64_id, eq_self, Nat.reduceEqDiff, Nat.reduceLeDiff, Nat.reduceAdd, Nat.reduceMul, Int.reduceLT, Int.reduceLE, Int.reduceEq, Int.reduceNeg, Int.reduceAdd, Int.reduceSub, Int.reduceMul, Int.reduceToNat, Int.toNat_natCast, nc_lit, Int.add_sub_cancel, Int.tmod_eq_emod_of_nonneg, Int.tdiv_eq_ediv_of_nonneg, Int.natCast_add, Int.natCast_mul, if_pos, if_neg, ↓reduceIte, e1216_0, e1216_1, e1216_2, e1216_5, e1216_8, e1216_9, e1216_10, e1216_13, e1216_16, e1216_17, e1216_18, e1216_21, e1216_23, e1216_24, e1216_25, e1216_28, e1216_29, e1216_32, e1216_33, e1216_34, e1216_35, e1216_36, e1216_39, e1216_41, e1216_42, e1216_43, e1216_46, e1216_48, e1216_51, e1216_52, e1216_53, e1216_54, e1216_57, e1216_58, e1216_61, e1216_62, e1216_63, e1216_64, e1216_67, e1216_68, e1216_69, e1216_72, e1216_73, e1216_76, e1216_78, e1216_81, e1216_83, e1216_84, e1216_85, e1216_86, e1216_87, e1216_90, e1216_91, e1216_94, e1216_97, e1216_98, e1216_99, e1216_102, e1216_103, e1216_104, e1216_107, e1216_109, e1216_110, e1216_111, e1216_112, e1216_115, e1216_116, e1216_117, e1216_120, e1216_121, tg_42, vc_42_18, tg_53, ln_53, vr_53, tgs_54, lns_54, ias_54, pts_54, ia_42_14, pt_42_14, ia_42_13, pt_42_13, X_isLayer, hn, hAB, x1, q1]
theorem over_mR {d n A B : Nat} (hd : 2 ≤ d) {S T1 : Mm} {δ : Sg} (hn : gi S 106 8 = n) (hn2 : n ≤ 16) (hA : A < n) (hB : B < n) (hAB : (A : Int) ≠ B) (y1 : b_M TT d 1016 [.ref 106] (ov (up S 106 0 (vI 0)) δ) = some (.inl none, ov T1 δ)) (q : gi T1 139 (16 * B + A) = 1 ∨ (gi T1 139 (16 * B + A) = 0 ∧ gi T1 140 (16 * A + B) = 1)) : b_M TT (d + 1) 1014 [.ref 106, vI A, vI B] (ov S δ) = some (.inl (some (vI (-7))), ov T1 δ) := by
  have ix1 : (16 * (B : Int) + A).toNat = 16 * B + A := by omega
  have ix2 : (16 * (A : Int) + B).toNat = 16 * A + B := by omega
  rw [b_M_succ]
  rcases q with q | ⟨q, q2⟩
  · simp (disch := first | assumption | omega | exact b2_01d | decide | (simp (disch := omega) only [tg_106, ia_106_0, pt_106_0, vc_106_45, tg_139, ln_139, ia_139, pt_139, vc_106_46, tg_140, ln_140, ia_140, pt_140, ia_106_12, pt_106_12, vc_106_22, tg_119, ln_119, ia_119, pt_119, vc_106_23, tg_120, ln_120, ia_120, pt_120, w32_id, w32_gi, w32_w32, w32_b2, Int.toNat_natCast, gi_up, vi_vI, tgd, lnd, and_true, true_and, and_false, false_and, Nat.reduceLeDiff, Nat.reduceLT, ↓reduceIte, b_c1I, b_c1R, b_c1N, cs_0, cs_nil, cs_I, cs_L, cs_R, cs_N] <;> omega) | fail) only [vI_def, vI_sx8, vI_sx16, sx8_sx8, sx16_sx16, w32_sx8, w32_sx16, xci_ex, xv_ex, lk_21, lk_22, lk_2, tgd, lnd, vld, iad, lad, ptd, std, nw_ov, bump_ov, ov_1, cv_ret, cu_ret, cv_thr, cu_thr, th_eq, ent_nil, ent_I, ent_L, ent_R, ent_N, List.tail_cons, List.tail_nil, w32_gi, w32_w32, w32_b2, b2_eq0, b2_eq1, b2_ne0, b2_01, w64_gi, w64_gl, w64_w32, w64_w64, vI_w32, vL_w64, gi_up, gl_up, vi_vI, vlg_vL, swt_nil, swt_cons, F_ite, and_true, true_and, and_false, false_and, and_self, or_true, true_or, or_false, false_or, not_true_eq_false, not_false_eq_true, b_c1I, b_c1R, b_c1N, cs_0, w32_lc, lc_lt, lc_gt, lc_le, lc_ge, lc_eq, w32_id, w64_id, eq_self, Nat.reduceEqDiff, Nat.reduceLeDiff, Nat.reduceAdd, Nat.reduceMul, Int.reduceLT, Int.reduceLE, Int.reduceEq, Int.reduceNeg, Int.reduceAdd, Int.reduceSub, Int.reduceMul, Int.reduceToNat, Int.toNat_natCast, nc_lit, Int.add_sub_cancel, Int.tmod_eq_emod_of_nonneg, Int.tdiv_eq_ediv_of_nonneg, Int.natCast_add, Int.natCast_mul, if_pos, if_neg, ↓reduceIte, e1014_0, e1014_1, e1014_2, e1014_5, e1014_6, e1014_7, e1014_10, e1014_13, e1014_14, e1014_15, e1014_18, e1014_21, e1014_22, e1014_23, e1014_26, e1014_28, e1014_29, e1014_30, e1014_33, e1014_34, e1014_37, e1014_39, e1014_40, e1014_41, e1014_42, e1014_43, e1014_44, e1014_47, e1014_48, e1014_51, e1014_53, e1014_54, e1014_55, e1014_56, e1014_57, e1014_58, e1014_61, e1014_63, e1014_64, e1014_65, e1014_68, e1014_70, e1014_73, e1014_74, e1014_77, e1014_78, e1014_79, e1014_80, e1014_83, e1014_84, e1014_87, e1014_88, e1014_89, e1014_90, e1014_93, e1014_94, e1014_97, e1014_98, e1014_99, e1014_100, e1014_101, e1014_104, e1014_105, e1014_106, e1014_109, e1014_110, e1014_113, e1014_115, e1014_117, e1014_120, e1014_121, e1014_124, e1014_125, e1014_126, e1014_129, e1014_130, e1014_131, e1014_134, e1014_136, e1014_139, e1014_141, e1014_144, e1014_145, e1014_148, e1014_150, e1014_153, e1014_154, tg_106, ia_106_0, pt_106_0, vc_106_45, tg_139, ln_139, ia_139, pt_139, vc_106_46, tg_140, ln_140, ia_140, pt_140, ia_106_12, pt_106_12, vc_106_22, tg_119, ln_119, ia_119, pt_119, vc_106_23, tg_120, ln_120, ia_120, pt_120, M_isLayer, hn, hAB, y1, ix1, ix2, q]
  · simp (disch := first | assumption | omega | exact b2_01d | decide | (simp (disch := omega) only [tg_106, ia_106_0, pt_106_0, vc_106_45, tg_139, ln_139, ia_139, pt_139, vc_106_46, tg_140, ln_140, ia_140, pt_140, ia_106_12, pt_106_12, vc_106_22, tg_119, ln_119, ia_119, pt_119, vc_106_23, tg_120, ln_120, ia_120, pt_120, w32_id, w32_gi, w32_w32, w32_b2, Int.toNat_natCast, gi_up, vi_vI, tgd, lnd, and_true, true_and, and_false, false_and, Nat.reduceLeDiff, Nat.reduceLT, ↓reduceIte, b_c1I, b_c1R, b_c1N, cs_0, cs_nil, cs_I, cs_L, cs_R, cs_N] <;> omega) | fail) only [vI_def, vI_sx8, vI_sx16, sx8_sx8, sx16_sx16, w32_sx8, w32_sx16, xci_ex, xv_ex, lk_21, lk_22, lk_2, tgd, lnd, vld, iad, lad, ptd, std, nw_ov, bump_ov, ov_1, cv_ret, cu_ret, cv_thr, cu_thr, th_eq, ent_nil, ent_I, ent_L, ent_R, ent_N, List.tail_cons, List.tail_nil, w32_gi, w32_w32, w32_b2, b2_eq0, b2_eq1, b2_ne0, b2_01, w64_gi, w64_gl, w64_w32, w64_w64, vI_w32, vL_w64, gi_up, gl_up, vi_vI, vlg_vL, swt_nil, swt_cons, F_ite, and_true, true_and, and_false, false_and, and_self, or_true, true_or, or_false, false_or, not_true_eq_false, not_false_eq_true, b_c1I, b_c1R, b_c1N, cs_0, w32_lc, lc_lt, lc_gt, lc_le, lc_ge, lc_eq, w32_id, w64_id, eq_self, Nat.reduceEqDiff, Nat.reduceLeDiff, Nat.reduceAdd, Nat.reduceMul, Int.reduceLT, Int.reduceLE, Int.reduceEq, Int.reduceNeg, Int.reduceAdd, Int.reduceSub, Int.reduceMul, Int.reduceToNat, Int.toNat_natCast, nc_lit, Int.add_sub_cancel, Int.tmod_eq_emod_of_nonneg, Int.tdiv_eq_ediv_of_nonneg, Int.natCast_add, Int.natCast_mul, if_pos, if_neg, ↓reduceIte, e1014_0, e1014_1, e1014_2, e1014_5, e1014_6, e1014_7, e1014_10, e1014_13, e1014_14, e1014_15, e1014_18, e1014_21, e1014_22, e1014_23, e1014_26, e1014_28, e1014_29, e1014_30, e1014_33, e1014_34, e1014_37, e1014_39, e1014_40, e1014_41, e1014_42, e1014_43, e1014_44, e1014_47, e1014_48, e1014_51, e1014_53, e1014_54, e1014_55, e1014_56, e1014_57, e1014_58, e1014_61, e1014_63, e1014_64, e1014_65, e1014_68, e1014_70, e1014_73, e1014_74, e1014_77, e1014_78, e1014_79, e1014_80, e1014_83, e1014_84, e1014_87, e1014_88, e1014_89, e1014_90, e1014_93, e1014_94, e1014_97, e1014_98, e1014_99, e1014_100, e1014_101, e1014_104, e1014_105, e1014_106, e1014_109, e1014_110, e1014_113, e1014_115, e1014_117, e1014_120, e1014_121, e1014_124, e1014_125, e1014_126, e1014_129, e1014_130, e1014_131, e1014_134, e1014_136, e1014_139, e1014_141, e1014_144, e1014_145, e1014_148, e1014_150, e1014_153, e1014_154, tg_106, ia_106_0, pt_106_0, vc_106_45, tg_139, ln_139, ia_139, pt_139, vc_106_46, tg_140, ln_140, ia_140, pt_140, ia_106_12, pt_106_12, vc_106_22, tg_119, ln_119, ia_119, pt_119, vc_106_23, tg_120, ln_120, ia_120, pt_120, M_isLayer, hn, hAB, y1, ix1, ix2, q, q2]
theorem over_reach {h : Nat → Cl} {c d : Nat} {S : Mm} {δ : Sg} {n m o j A B : Nat} (hd : 2 ≤ d) (R : Rel h c S δ) (H : DtH S n m o j) (hA : A < n) (hB : B < n) (hAB : (A : Int) ≠ B) (hre : TcN (rX S n m) B A) : OpR h c (d + 1) S δ 1216 1014 [vI A, vI B] := by
  obtain ⟨hE, hin⟩ := EdM_in H
  obtain ⟨S1, x1, x2, x3⟩ := goes_of (d := d) (by omega) (δ := δ) H
  obtain ⟨T1, y1, y2, y3, y4⟩ := lays_of (d := d) (by omega) (T := up S1 106 0 (vI 0)) (δ := δ) H (agr_up (sTD_rc x2) rfl)
  have q1 : gi S1 (54 + B) A = 1 := by
    rcases x3 B A hB hA with ⟨q, _⟩ | ⟨_, q⟩
    · exact q
    · exact absurd hre q
  have q2 : gi T1 139 (16 * B + A) = 1 ∨ (gi T1 139 (16 * B + A) = 0 ∧ gi T1 140 (16 * A + B) = 1) := by
    rcases y4 B A hB hA with ⟨q, _⟩ | ⟨q, q2⟩
    · exact Or.inl q
    · refine Or.inr ⟨q, ?_⟩
      rcases (reach_iff hE hin).mp hre with z | z
      · exact absurd z q2
      · rcases y3 A B hA hB with ⟨w, _⟩ | ⟨_, w⟩
        · exact w
        · exact absurd (one_sym z) w
  have hn1 : gi S1 106 8 = (n : Int) := (agr_gi x2 rfl).trans H.2.1
  exact OpR_ask (r := -7) R (over_xR hd H.1 H.2.2.1 hA hB hAB x1 q1) (over_mR hd hn1 H.2.2.1 hA hB hAB y1 q2) (scr_rc x2) (agr_trans agr_th (scr_ly y2))
theorem rc_at {S S1 : Mm} (x2 : agr sRc S S1) (x y : Nat) (q : x < 54 ∨ 70 ≤ x) : S1 x y = S x y := x2 x y (by unfold sRc; rcases q with q | q; rw [decide_eq_false (show ¬ 54 ≤ x by omega)]; rfl; rw [decide_eq_false (show ¬ x < 70 by omega), Bool.and_false])
theorem rc_scr {S S1 : Mm} (x2 : agr sRc S S1) (x y : Nat) (e : scr x y = false) : S1 x y = S x y := scr_rc x2 x y e
theorem dt_at {S S1 : Mm} (x2 : agr sDt S S1) (x y : Nat) (q1 : x ≠ 51) (q2 : x ≠ 52) : S1 x y = S x y := x2 x y (by unfold sDt; rw [decide_eq_false q1, decide_eq_false q2]; rfl)
theorem over_set {d : Nat} (hd : 5 ≤ d) {S : Mm} {δ : Sg} {n m o j A B : Nat} (H : DtH S n m o j) (hm : m < 142) (ho : o < 61) (hA : A < n) (hB : B < n) (hre : ¬ TcN (rX S n m) B A) (eo : gi S 42 14 = (o : Int)) :
    ∃ (S1 S2 : Mm) (r : Int), b_M TT d 1217 [.ref 42] (ov S δ) = some (.inl none, ov S1 δ) ∧ gi S1 (54 + B) A = 0 ∧ gi S1 42 13 = (m : Int) ∧ gi S1 42 14 = (o : Int) ∧
      b_M TT d 1219 [.ref 42] (ov (up (up (up S1 49 m (vI A)) 50 m (vI B)) 42 13 (vI ((m : Int) + 1))) δ) = some (.inl (some (vI r)), ov S2 δ) ∧ gi S2 42 13 = ((m + 1 : Nat) : Int) ∧ gi S2 42 14 = (o : Int) ∧ (r = 0 ∨ r = 1) ∧
      (r = 1 ↔ ∃ y : Nat → Int, (∀ l, l < n → gi (ovU S m o A B) 117 l ≤ y l ∧ y l ≤ gi (ovU S m o A B) 118 l) ∧ ∀ a b, EdM (ovU S m o A B) (o + 1) j a b → y b ≤ y a) ∧
      (∀ x y : Nat, scr x y = false → S2 x y = up (up (up S 49 m (vI A)) 50 m (vI B)) 42 13 (vI (m + 1 : Nat)) x y) ∧ (∀ x y : Nat, 106 ≤ x → S2 x y = S x y) ∧
      (∀ T : Mm, agr sTD (ovU S m o A B) T → ∃ T1, b_M TT d 1018 [.ref 106] (ov T δ) = some (.inl (some (vI r)), ov T1 δ) ∧ agr sDm T T1 ∧ True) := by
  have HU := ovU_H H hm ho hA hB
  have em : gi S 42 13 = (m : Int) := H.2.2.2.1
  obtain ⟨S1, x1, x2, x3⟩ := goes_of (d := d) (by omega) (δ := δ) H
  have hS1 := rc_at x2
  have hV : agr sVD (ovU S m o A B) (up (up (up S1 49 m (vI A)) 50 m (vI B)) 42 13 (vI (m + 1 : Nat))) := by
    intro x y e
    simp only [sVD, Bool.or_eq_false_iff, Bool.and_eq_false_iff, decide_eq_false_iff_not] at e
    unfold ovU
    rw [ne_up (by omega) (a := 106), ne_up (by omega) (a := 120), ne_up (by omega) (a := 119), up_at, up_at, up_at, up_at, up_at, up_at, hS1 x y (by omega)]
  obtain ⟨S2, r, a1, a2, a3, a4, a5, a6, a7, a8⟩ := dates_both (d := d) (by omega) (δ := δ) HU hV
  have hS2 := dt_at a2
  have w1 : w32 ((m + 1 : Nat) : Int) = (m + 1 : Nat) := w32_id (by omega) (by omega)
  have em' : gi S1 42 13 = (m : Int) := (congrArg b_vi (hS1 42 13 (by omega))).trans em
  have eo' : gi S1 42 14 = (o : Int) := (congrArg b_vi (hS1 42 14 (by omega))).trans eo
  refine ⟨S1, S2, r, x1, ?_, em', eo', a1, ?_, ?_, a3, a4, fun x y e => ?_, fun x y q => ?_, fun T hT => ?_⟩
  · rcases x3 B A hB hA with ⟨_, q⟩ | ⟨q, _⟩
    · exact absurd q hre
    · exact q
  · show b_vi (S2 42 13) = _
    rw [hS2 42 13 (by omega) (by omega), up_at, if_pos ⟨rfl, rfl⟩]; exact w1
  · show b_vi (S2 42 14) = _
    rw [hS2 42 14 (by omega) (by omega), ne_up (by omega), ne_up (by omega), ne_up (by omega)]; exact eo'
  · rw [scr_dt a2 x y e, up_at, up_at, up_at, up_at, up_at, up_at, rc_scr x2 x y e]
  · rw [hS2 x y (by omega) (by omega), ne_up (by omega), ne_up (by omega), ne_up (by omega), hS1 x y (by omega)]
  · obtain ⟨T1, b1, b2, _⟩ := a8 T hT
    exact ⟨T1, b1, b2, trivial⟩
theorem over_bad {h : Nat → Cl} {c d : Nat} (hd : 5 ≤ d) {S S1 S2 : Mm} {δ : Sg} {n m o j A B : Nat} {r : Int} (R : Rel h c S δ) (H : DtH S n m o j) (hm : m < 142) (ho : o < 61) (hA : A < n) (hB : B < n) (hAB : (A : Int) ≠ B) (hre : ¬ TcN (rX S n m) B A)
    (x1 : b_M TT d 1217 [.ref 42] (ov S δ) = some (.inl none, ov S1 δ)) (hq1 : gi S1 (54 + B) A = 0) (em' : gi S1 42 13 = (m : Int)) (eo' : gi S1 42 14 = (o : Int)) (a1 : b_M TT d 1219 [.ref 42] (ov (up (up (up S1 49 m (vI A)) 50 m (vI B)) 42 13 (vI ((m : Int) + 1))) δ) = some (.inl (some (vI r)), ov S2 δ)) (f13 : gi S2 42 13 = ((m + 1 : Nat) : Int)) (f14 : gi S2 42 14 = (o : Int)) (a3 : r = 0 ∨ r = 1)
    (hS2s : ∀ x y : Nat, scr x y = false → S2 x y = up (up (up S 49 m (vI A)) 50 m (vI B)) 42 13 (vI (m + 1 : Nat)) x y) (hS2m : ∀ x y : Nat, 106 ≤ x → S2 x y = S x y)
    (a8 : ∀ T : Mm, agr sTD (ovU S m o A B) T → ∃ T1, b_M TT d 1018 [.ref 106] (ov T δ) = some (.inl (some (vI r)), ov T1 δ) ∧ agr sDm T T1 ∧ True) (hf : o = 60 ∨ r = 0) : OpR h c (d + 1) S δ 1216 1014 [vI A, vI B] := by
  obtain ⟨T1, T3, y1, y2, y3, y4, y5, y6, y7⟩ := over_M (d := d) (by omega) (δ := δ) (r := r) H ho hA hB hre a8 (up S2 42 13 (vI m)) (fun x y q => by rw [ne_up (by omega)]; exact hS2m x y q)
  have hn1 : gi (up S2 42 13 (vI m)) 106 8 = (n : Int) := by
    rw [gi_up, if_neg (by omega)]
    show b_vi (S2 106 8) = _
    rw [hS2m _ _ (by omega)]; exact H.2.1
  obtain ⟨k1, k2, _⟩ := X_overF (d := d) (by omega) H.1 H.2.2.1 hA hB hAB x1 hq1 em' hm eo' (by omega) a1 f13 f14
  obtain ⟨l1, l2, _⟩ := M_overF (d := d) (by omega) hn1 H.2.2.1 hA hB hAB y1 y2 y3 y4 ho y5 y6
  have hfin : Rel h (c + 1) (up T3 106 12 (vI o)) δ := over_fail R H.2.2.2.1 H.2.2.2.2.2.1 hm ho hS2s _ fun x y e => by
    rw [up_at, up_at (a := 106)]
    by_cases q : x = 106 ∧ y = 12
    · rw [if_pos q, if_pos q]
    · rw [if_neg q, if_neg q, y7 x y e]
  rcases a3 with hr | hr
  · exact ⟨-7, _, δ, _, k2 hr, l2 hr, hfin⟩
  · have h60 : o = 60 := by omega
    exact ⟨-3, _, δ, _, k1 h60 hr, l1 h60 hr, hfin⟩
theorem over_good {h : Nat → Cl} {c d : Nat} (hd : 5 ≤ d) {S S1 S2 : Mm} {δ : Sg} {n m o j A B : Nat} {r : Int} (R : Rel h c S δ) (H : DtH S n m o j) (hm : m < 142) (ho : o < 60) (hA : A < n) (hB : B < n) (hAB : (A : Int) ≠ B) (hac : ∀ u v, oN S o u v → ¬ TcN (rX S n m) v u) (hre : ¬ TcN (rX S n m) B A)
    (x1 : b_M TT d 1217 [.ref 42] (ov S δ) = some (.inl none, ov S1 δ)) (hq1 : gi S1 (54 + B) A = 0) (em' : gi S1 42 13 = (m : Int)) (eo' : gi S1 42 14 = (o : Int)) (a1 : b_M TT d 1219 [.ref 42] (ov (up (up (up S1 49 m (vI A)) 50 m (vI B)) 42 13 (vI ((m : Int) + 1))) δ) = some (.inl (some (vI r)), ov S2 δ)) (f13 : gi S2 42 13 = ((m + 1 : Nat) : Int)) (f14 : gi S2 42 14 = (o : Int)) (hr : r = 1)
    (hy : ∃ y : Nat → Int, (∀ l, l < n → gi (ovU S m o A B) 117 l ≤ y l ∧ y l ≤ gi (ovU S m o A B) 118 l) ∧ ∀ a b, EdM (ovU S m o A B) (o + 1) j a b → y b ≤ y a)
    (hS2s : ∀ x y : Nat, scr x y = false → S2 x y = up (up (up S 49 m (vI A)) 50 m (vI B)) 42 13 (vI (m + 1 : Nat)) x y) (hS2m : ∀ x y : Nat, 106 ≤ x → S2 x y = S x y)
    (a8 : ∀ T : Mm, agr sTD (ovU S m o A B) T → ∃ T1, b_M TT d 1018 [.ref 106] (ov T δ) = some (.inl (some (vI r)), ov T1 δ) ∧ agr sDm T T1 ∧ True) : OpR h c (d + 1) S δ 1216 1014 [vI A, vI B] := by
  have h60 : o ≠ 60 := by omega
  have ho2 : o < 61 := by omega
  obtain ⟨T1, T3, y1, y2, y3, y4, y5, y6, y7⟩ := over_M (d := d) (by omega) (δ := δ) (r := r) H ho2 hA hB hre a8 (up S2 42 14 (vI ((o : Int) + 1))) (fun x y q => by rw [ne_up (by omega)]; exact hS2m x y q)
  have hn1 : gi (up S2 42 14 (vI ((o : Int) + 1))) 106 8 = (n : Int) := by
    rw [gi_up, if_neg (by omega)]
    show b_vi (S2 106 8) = _
    rw [hS2m _ _ (by omega)]; exact H.2.1
  obtain ⟨_, _, k3⟩ := X_overF (d := d) (by omega) H.1 H.2.2.1 hA hB hAB x1 hq1 em' hm eo' (by omega) a1 f13 f14
  obtain ⟨_, _, l3⟩ := M_overF (d := d) (by omega) hn1 H.2.2.1 hA hB hAB y1 y2 y3 y4 ho2 y5 y6
  refine ⟨0, _, δ, _, k3 h60 hr, l3 h60 hr, over_ok R H hm ho hA hB hac hre hy fun x y e => ?_⟩
  rw [y7 x y e, up_at, up_at, up_at, up_at, hS2s x y e]
  exact over_eq x y
theorem over_no {h : Nat → Cl} {c d : Nat} {S : Mm} {δ : Sg} (hd : 8 ≤ d) {a b : Int} (ha : (-2147483648 ≤ a ∧ a ≤ 2147483647)) (hb : (-2147483648 ≤ b ∧ b ≤ 2147483647)) (R : Rel h c S δ) (hp : ¬ ((0 ≤ a ∧ a < gi S 106 8) ∧ (0 ≤ b ∧ b < gi S 106 8) ∧ a ≠ b)) : OpR h c d S δ 1216 1014 [vI a, vI b] := by
  have r5 := R.2.2.2.2.1.1
  have hn5 := R.2.2.2.2.1.2.1
  refine OpR_ask (r := -2) (S1 := S) (S2 := up S 106 0 (vI 0)) R ?_ ?_ agr_refl agr_th
  · clear R
    (obtain ⟨d, rfl⟩ : ∃ k, d = k + 1 := ⟨d - 1, by omega⟩); rw [b_M_succ]; simp (disch := first | assumption | omega | exact b2_01d | decide | (simp (disch := omega) only [tg_42, vc_42_18, tg_53, ln_53, vr_53, tgs_54, lns_54, ias_54, pts_54, ia_42_14, pt_42_14, ia_42_13, pt_42_13, w32_id, w32_gi, w32_w32, w32_b2, Int.toNat_natCast, gi_up, vi_vI, tgd, lnd, and_true, true_and, and_false, false_and, Nat.reduceLeDiff, Nat.reduceLT, ↓reduceIte, b_c1I, b_c1R, b_c1N, cs_0, cs_nil, cs_I, cs_L, cs_R, cs_N] <;> omega) | fail) only [vI_def, vI_sx8, vI_sx16, sx8_sx8, sx16_sx16, w32_sx8, w32_sx16, xci_ex, xv_ex, lk_21, lk_22, lk_2, tgd, lnd, vld, iad, lad, ptd, std, nw_ov, bump_ov, ov_1, cv_ret, cu_ret, cv_thr, cu_thr, th_eq, ent_nil, ent_I, ent_L, ent_R, ent_N, List.tail_cons, List.tail_nil, w32_gi, w32_w32, w32_b2, b2_eq0, b2_eq1, b2_ne0, b2_01, w64_gi, w64_gl, w64_w32, w64_w64, vI_w32, vL_w64, gi_up, gl_up, vi_vI, vlg_vL, swt_nil, swt_cons, F_ite, and_true, true_and, and_false, false_and, and_self, or_true, true_or, or_false, false_or, not_true_eq_false, not_false_eq_true, b_c1I, b_c1R, b_c1N, cs_0, w32_lc, lc_lt, lc_gt, lc_le, lc_ge, lc_eq, w32_id, w64_id, eq_self, Nat.reduceEqDiff, Nat.reduceLeDiff, Nat.reduceAdd, Nat.reduceMul, Int.reduceLT, Int.reduceLE, Int.reduceEq, Int.reduceNeg, Int.reduceAdd, Int.reduceSub, Int.reduceMul, Int.reduceToNat, Int.toNat_natCast, nc_lit, Int.add_sub_cancel, Int.tmod_eq_emod_of_nonneg, Int.tdiv_eq_ediv_of_nonneg, Int.natCast_add, Int.natCast_mul, if_pos, if_neg, ↓reduceIte, e1216_0, e1216_1, e1216_2, e1216_5, e1216_8, e1216_9, e1216_10, e1216_13, e1216_16, e1216_17, e1216_18, e1216_21, e1216_23, e1216_24, e1216_25, e1216_28, e1216_29, e1216_32, e1216_33, e1216_34, e1216_35, e1216_36, e1216_39, e1216_41, e1216_42, e1216_43, e1216_46, e1216_48, e1216_51, e1216_52, e1216_53, e1216_54, e1216_57, e1216_58, e1216_61, e1216_62, e1216_63, e1216_64, e1216_67, e1216_68, e1216_69, e1216_72, e1216_73, e1216_76, e1216_78, e1216_81, e1216_83, e1216_84, e1216_85, e1216_86, e1216_87, e1216_90, e1216_91, e1216_94, e1216_97, e1216_98, e1216_99, e1216_102, e1216_103, e1216_104, e1216_107, e1216_109, e1216_110, e1216_111, e1216_112, e1216_115, e1216_116, e1216_117, e1216_120, e1216_121, tg_42, vc_42_18, tg_53, ln_53, vr_53, tgs_54, lns_54, ias_54, pts_54, ia_42_14, pt_42_14, ia_42_13, pt_42_13, X_isLayer, r5]
    all_goals ((repeat' split) <;> first | with_reducible rfl | (exfalso; omega) | (rw [b2_t (by omega)]) | (rw [b2_f (by omega)]) | rfl)
  · clear R
    (obtain ⟨d, rfl⟩ : ∃ k, d = k + 1 := ⟨d - 1, by omega⟩); rw [b_M_succ]; simp (disch := first | assumption | omega | exact b2_01d | decide | (simp (disch := omega) only [tg_106, ia_106_0, pt_106_0, vc_106_45, tg_139, ln_139, ia_139, pt_139, vc_106_46, tg_140, ln_140, ia_140, pt_140, ia_106_12, pt_106_12, vc_106_22, tg_119, ln_119, ia_119, pt_119, vc_106_23, tg_120, ln_120, ia_120, pt_120, w32_id, w32_gi, w32_w32, w32_b2, Int.toNat_natCast, gi_up, vi_vI, tgd, lnd, and_true, true_and, and_false, false_and, Nat.reduceLeDiff, Nat.reduceLT, ↓reduceIte, b_c1I, b_c1R, b_c1N, cs_0, cs_nil, cs_I, cs_L, cs_R, cs_N] <;> omega) | fail) only [vI_def, vI_sx8, vI_sx16, sx8_sx8, sx16_sx16, w32_sx8, w32_sx16, xci_ex, xv_ex, lk_21, lk_22, lk_2, tgd, lnd, vld, iad, lad, ptd, std, nw_ov, bump_ov, ov_1, cv_ret, cu_ret, cv_thr, cu_thr, th_eq, ent_nil, ent_I, ent_L, ent_R, ent_N, List.tail_cons, List.tail_nil, w32_gi, w32_w32, w32_b2, b2_eq0, b2_eq1, b2_ne0, b2_01, w64_gi, w64_gl, w64_w32, w64_w64, vI_w32, vL_w64, gi_up, gl_up, vi_vI, vlg_vL, swt_nil, swt_cons, F_ite, and_true, true_and, and_false, false_and, and_self, or_true, true_or, or_false, false_or, not_true_eq_false, not_false_eq_true, b_c1I, b_c1R, b_c1N, cs_0, w32_lc, lc_lt, lc_gt, lc_le, lc_ge, lc_eq, w32_id, w64_id, eq_self, Nat.reduceEqDiff, Nat.reduceLeDiff, Nat.reduceAdd, Nat.reduceMul, Int.reduceLT, Int.reduceLE, Int.reduceEq, Int.reduceNeg, Int.reduceAdd, Int.reduceSub, Int.reduceMul, Int.reduceToNat, Int.toNat_natCast, nc_lit, Int.add_sub_cancel, Int.tmod_eq_emod_of_nonneg, Int.tdiv_eq_ediv_of_nonneg, Int.natCast_add, Int.natCast_mul, if_pos, if_neg, ↓reduceIte, e1014_0, e1014_1, e1014_2, e1014_5, e1014_6, e1014_7, e1014_10, e1014_13, e1014_14, e1014_15, e1014_18, e1014_21, e1014_22, e1014_23, e1014_26, e1014_28, e1014_29, e1014_30, e1014_33, e1014_34, e1014_37, e1014_39, e1014_40, e1014_41, e1014_42, e1014_43, e1014_44, e1014_47, e1014_48, e1014_51, e1014_53, e1014_54, e1014_55, e1014_56, e1014_57, e1014_58, e1014_61, e1014_63, e1014_64, e1014_65, e1014_68, e1014_70, e1014_73, e1014_74, e1014_77, e1014_78, e1014_79, e1014_80, e1014_83, e1014_84, e1014_87, e1014_88, e1014_89, e1014_90, e1014_93, e1014_94, e1014_97, e1014_98, e1014_99, e1014_100, e1014_101, e1014_104, e1014_105, e1014_106, e1014_109, e1014_110, e1014_113, e1014_115, e1014_117, e1014_120, e1014_121, e1014_124, e1014_125, e1014_126, e1014_129, e1014_130, e1014_131, e1014_134, e1014_136, e1014_139, e1014_141, e1014_144, e1014_145, e1014_148, e1014_150, e1014_153, e1014_154, tg_106, ia_106_0, pt_106_0, vc_106_45, tg_139, ln_139, ia_139, pt_139, vc_106_46, tg_140, ln_140, ia_140, pt_140, ia_106_12, pt_106_12, vc_106_22, tg_119, ln_119, ia_119, pt_119, vc_106_23, tg_120, ln_120, ia_120, pt_120, M_isLayer]
    all_goals ((repeat' split) <;> first | with_reducible rfl | (exfalso; omega) | (rw [b2_t (by omega)]) | (rw [b2_f (by omega)]) | rfl)
theorem op_over {h : Nat → Cl} {c d : Nat} {S : Mm} {δ : Sg} (hd : 8 ≤ d) {a b : Int} (ha : (-2147483648 ≤ a ∧ a ≤ 2147483647)) (hb : (-2147483648 ≤ b ∧ b ≤ 2147483647)) (R : Rel h c S δ) : OpR h c d S δ 1216 1014 [vI a, vI b] := by
  by_cases hp : (0 ≤ a ∧ a < gi S 106 8) ∧ (0 ≤ b ∧ b < gi S 106 8) ∧ a ≠ b
  · obtain ⟨p1, p2, p3⟩ := hp
    have hn5 := R.2.2.2.2.1.2.1
    have H := DtH_of R
    have rG := R.2.2.2.2.2.2.1
    have hac := RG_ac H rG.2.2.2.2.2.2.2.2.2.2
    have hm0 := rG.2.2.2.2.1
    have ho0 := rG.2.1
    have hj0 := rG.2.2.2.1
    have hx0 := rG.1
    obtain ⟨n, en⟩ : ∃ n : Nat, n = (gi S 106 8).toNat := ⟨_, rfl⟩
    obtain ⟨m, em⟩ : ∃ m : Nat, m = (gi S 42 13).toNat := ⟨_, rfl⟩
    obtain ⟨o, eo⟩ : ∃ o : Nat, o = (gi S 106 12).toNat := ⟨_, rfl⟩
    obtain ⟨j, ej⟩ : ∃ j : Nat, j = (gi S 106 13).toNat := ⟨_, rfl⟩
    rw [← en, ← em, ← eo, ← ej] at H
    rw [← en, ← em, ← eo] at hac
    clear rG
    obtain ⟨A, rfl⟩ : ∃ A : Nat, a = A := ⟨a.toNat, by omega⟩
    obtain ⟨B, rfl⟩ : ∃ B : Nat, b = B := ⟨b.toNat, by omega⟩
    have hA : A < n := by omega
    have hB : B < n := by omega
    have hm : m < 142 := by omega
    have ho : o < 61 := by omega
    have hxo : gi S 42 14 = (o : Int) := by omega
    clear em eo ej en hm0 ho0 hj0 hx0 p1 p2 hn5 ha hb
    obtain ⟨d, rfl⟩ : ∃ e, d = e + 1 := ⟨d - 1, by omega⟩
    have hd5 : 5 ≤ d := by omega
    by_cases hre : TcN (rX S n m) B A
    · exact over_reach (by omega) R H hA hB p3 hre
    · obtain ⟨S1, S2, r, x1, x2, x3, x4, x5, x6, x7, x8, x9, x10, x11, x12⟩ := over_set (δ := δ) hd5 H hm ho hA hB hre hxo
      by_cases hf : o = 60 ∨ r = 0
      · exact over_bad hd5 R H hm ho hA hB p3 hre x1 x2 x3 x4 x5 x6 x7 x8 x10 x11 x12 hf
      · have hr : r = 1 := x8.resolve_left fun z => hf (Or.inr z)
        have ho60 : o < 60 := by
          have : o ≠ 60 := fun z => hf (Or.inl z)
          omega
        exact over_good hd5 R H hm ho60 hA hB p3 hac hre x1 x2 x3 x4 x5 x6 x7 hr (x9.mp hr) x10 x11 x12
  · exact over_no hd ha hb R hp
