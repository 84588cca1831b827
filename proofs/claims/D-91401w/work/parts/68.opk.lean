/-! ===== pairs of methods: what lies over what ===== -/
set_option maxRecDepth 100000
theorem RG_tail {S S' : Mm} (R : RG S) (f1 : gi S' 42 13 = gi S 42 13) (f2 : gi S' 42 14 = gi S 42 14) (f3 : gi S' 42 15 = gi S 42 15) (f4 : gi S' 106 8 = gi S 106 8) (f5 : gi S' 106 9 = gi S 106 9) (f6 : gi S' 106 12 = gi S 106 12) (f7 : gi S' 106 13 = gi S 106 13)
    (hw : ∀ w : Nat, (w : Int) < gi S 42 13 → gi S' 49 w = gi S 49 w ∧ gi S' 50 w = gi S 50 w) (ho : ∀ k : Nat, (k : Int) < gi S 106 12 → gi S' 119 k = gi S 119 k ∧ gi S' 120 k = gi S 120 k) (hj : ∀ k : Nat, (k : Int) < gi S 106 13 → gi S' 121 k = gi S 121 k ∧ gi S' 122 k = gi S 122 k)
    (hr : ∀ k, gi S' 123 k = gi S 123 k ∧ gi S' 117 k = gi S 117 k ∧ gi S' 118 k = gi S 118 k) : RG S' := by
  have e1 : eX S' = eX S := by
    funext a b
    refine propext ⟨?_, ?_⟩
    · rintro ⟨w, w1, w2, w3⟩
      rw [f1] at w1
      exact ⟨w, w1, (hw w w1).1.symm.trans w2, (hw w w1).2.symm.trans w3⟩
    · rintro ⟨w, w1, w2, w3⟩
      exact ⟨w, by rw [f1]; exact w1, (hw w w1).1.trans w2, (hw w w1).2.trans w3⟩
  have e2 : eO S' = eO S := by
    funext a b
    refine propext ⟨?_, ?_⟩
    · rintro ⟨w, w1, w2, w3⟩
      rw [f6] at w1
      exact ⟨w, w1, (ho w w1).1.symm.trans w2, (ho w w1).2.symm.trans w3⟩
    · rintro ⟨w, w1, w2, w3⟩
      exact ⟨w, by rw [f6]; exact w1, (ho w w1).1.trans w2, (ho w w1).2.trans w3⟩
  have e3 : eJ S' = eJ S := by
    funext a b
    refine propext ⟨?_, ?_⟩
    · rintro ⟨w, w1, w2⟩
      rw [f7] at w1
      rw [(hj w w1).1, (hj w w1).2, (hr _).1, (hr _).1] at w2
      exact ⟨w, w1, w2⟩
    · rintro ⟨w, w1, w2⟩
      exact ⟨w, by rw [f7]; exact w1, by rw [(hj w w1).1, (hj w w1).2, (hr _).1, (hr _).1]; exact w2⟩
  have e4 : ∀ y, okY S' (eX S') y ↔ okY S (eX S) y := fun y => by
    unfold okY
    rw [e1, f4]
    constructor
    · rintro ⟨h1, h2⟩
      exact ⟨fun l hl => by have := h1 l hl; rw [(hr l).2.1, (hr l).2.2] at this; exact this, h2⟩
    · rintro ⟨h1, h2⟩
      exact ⟨fun l hl => by rw [(hr l).2.1, (hr l).2.2]; exact h1 l hl, h2⟩
  obtain ⟨g1, g2, g3, g4, g5, g6, g7, g8, g9, ⟨y, g10⟩, g11⟩ := R
  unfold RG
  rw [f1, f2, f3, f4, f5, f6, f7, e1, e2, e3]
  refine ⟨g1, g2, g3, g4, g5, fun w h => ?_, fun w h => ?_, fun w h => ?_, g9, ⟨y, ?_⟩, g11⟩
  · rw [(hw w h).1, (hw w h).2]; exact g6 w h
  · rw [(ho w h).1, (ho w h).2]; exact g7 w h
  · rw [(hj w h).1, (hj w h).2]; exact g8 w h
  · rw [← e1]; exact (e4 y).mpr g10
theorem X_tells {d : Nat} (hd : 1 ≤ d) {a b : Int} (ha : (-2147483648 ≤ a ∧ a ≤ 2147483647)) (hb : (-2147483648 ≤ b ∧ b ≤ 2147483647)) {S : Mm} {δ : Sg} (hw : 0 ≤ gi S 42 13 ∧ gi S 42 13 < 142) : b_M TT d 1218 [.ref 42, vI a, vI b] (ov S δ) = some (.inl none, ov (up (up (up S 49 (gi S 42 13).toNat (vI a)) 50 (gi S 42 13).toNat (vI b)) 42 13 (vI (gi S 42 13 + 1))) δ) := by
  (obtain ⟨d, rfl⟩ : ∃ k, d = k + 1 := ⟨d - 1, by omega⟩); rw [b_M_succ]; simp (disch := first | assumption | omega | exact b2_01d | decide | (simp (disch := omega) only [tg_42, vc_42_11, tg_49, ln_49, ia_49, pt_49, ia_42_13, pt_42_13, vc_42_12, tg_50, ln_50, ia_50, pt_50, w32_id, w32_gi, w32_w32, w32_b2, Int.toNat_natCast, gi_up, vi_vI, tgd, lnd, and_true, true_and, and_false, false_and, Nat.reduceLeDiff, Nat.reduceLT, ↓reduceIte, b_c1I, b_c1R, b_c1N, cs_0, cs_nil, cs_I, cs_L, cs_R, cs_N] <;> omega) | fail) only [vI_def, vI_sx8, vI_sx16, sx8_sx8, sx16_sx16, w32_sx8, w32_sx16, xci_ex, xv_ex, lk_21, lk_22, lk_2, tgd, lnd, vld, iad, lad, ptd, std, nw_ov, bump_ov, ov_1, cv_ret, cu_ret, cv_thr, cu_thr, th_eq, ent_nil, ent_I, ent_L, ent_R, ent_N, List.tail_cons, List.tail_nil, w32_gi, w32_w32, w32_b2, b2_eq0, b2_eq1, b2_ne0, b2_01, w64_gi, w64_gl, w64_w32, w64_w64, vI_w32, vL_w64, gi_up, gl_up, vi_vI, vlg_vL, swt_nil, swt_cons, F_ite, and_true, true_and, and_false, false_and, and_self, or_true, true_or, or_false, false_or, not_true_eq_false, not_false_eq_true, b_c1I, b_c1R, b_c1N, cs_0, w32_lc, lc_lt, lc_gt, lc_le, lc_ge, lc_eq, w32_id, w64_id, eq_self, Nat.reduceEqDiff, Nat.reduceLeDiff, Nat.reduceAdd, Nat.reduceMul, Int.reduceLT, Int.reduceLE, Int.reduceEq, Int.reduceNeg, Int.reduceAdd, Int.reduceSub, Int.reduceMul, Int.reduceToNat, Int.toNat_natCast, nc_lit, Int.add_sub_cancel, Int.tmod_eq_emod_of_nonneg, Int.tdiv_eq_ediv_of_nonneg, Int.natCast_add, Int.natCast_mul, if_pos, if_neg, ↓reduceIte, e1218_0, e1218_1, e1218_4, e1218_5, e1218_8, e1218_9, e1218_10, e1218_11, e1218_14, e1218_15, e1218_18, e1218_19, e1218_20, e1218_21, e1218_22, e1218_25, e1218_26, e1218_27, e1218_30, tg_42, vc_42_11, tg_49, ln_49, ia_49, pt_49, ia_42_13, pt_42_13, vc_42_12, tg_50, ln_50, ia_50, pt_50]
theorem oneP_congr {S T : Mm} {n j : Nat} (h : ∀ i, jA T i = jA S i ∧ jB T i = jB S i) : oneP T n j = oneP S n j := by
  funext a b
  unfold oneP
  simp only [fun i => (h i).1, fun i => (h i).2]
theorem lieP_congr {S T : Mm} {n o j : Nat} (h : ∀ i, jA T i = jA S i ∧ jB T i = jB S i) (h2 : ∀ i, uM T i = uM S i ∧ vM T i = vM S i) : lieP T n o j = lieP S n o j := by
  funext a b
  unfold lieP
  rw [oneP_congr h]
  simp only [fun i => (h2 i).1, fun i => (h2 i).2]
theorem sTD_gi {S T : Mm} (h : agr sTD S T) : (∀ a k : Nat, 106 < a ∧ a < 139 → gi T a k = gi S a k) ∧ ∀ k : Nat, k ≠ 0 → gi T 106 k = gi S 106 k :=
  ⟨fun a k q => agr_gi h (by unfold sTD; rw [decide_eq_false (show ¬ a < 106 by omega), decide_eq_false (show ¬ a = 106 by omega), decide_eq_false (show ¬ 139 ≤ a by omega)]; rfl),
   fun k q => agr_gi h (by unfold sTD; rw [decide_eq_false (show ¬ 106 < 106 by omega), decide_eq_false q, Bool.and_false]; rfl)⟩
theorem lays_of {d : Nat} (hd : 2 ≤ d) {S T : Mm} {δ : Sg} {n m o j : Nat} (H : DtH S n m o j) (hT : agr sTD S T) : ∃ T', b_M TT d 1016 [.ref 106] (ov T δ) = some (.inl none, ov T' δ) ∧ agr sLy T T' ∧ Tbl (fun _ => 140) (fun a b => 16 * a + b) n (TcN (oneP S n j)) T' ∧ Tbl (fun _ => 139) (fun a b => 16 * a + b) n (TcN (lieP S n o j)) T' := by
  obtain ⟨h1, h2, h3, h4, h5, h6, h7, h8, h9, h10, h11, h12, h13, h14⟩ := H
  obtain ⟨gT, gM⟩ := sTD_gi hT
  have := M_lays (d := d) hd (S := T) (δ := δ) (n := n) (o := o) (j := j) ((gM 8 (by omega)).trans h2) h3 ((gM 12 (by omega)).trans h6) h7 ((gM 13 (by omega)).trans h8) h9 (fun k hk => by rw [gT _ _ (by omega), gT _ _ (by omega)]; exact h12 k hk) (fun k hk => by rw [gT 121 _ (by omega), gT 122 _ (by omega), gT 123 _ (by omega), gT 123 _ (by omega)]; exact h13 k hk)
  have e1 : ∀ i, jA T i = jA S i ∧ jB T i = jB S i := fun i => by
    unfold jA jB
    rw [gT 121 _ (by omega), gT 122 _ (by omega), gT 123 _ (by omega), gT 123 _ (by omega)]
    exact ⟨rfl, rfl⟩
  have e2 : ∀ i, uM T i = uM S i ∧ vM T i = vM S i := fun i => by
    unfold uM vM
    rw [gT 119 _ (by omega), gT 120 _ (by omega)]
    exact ⟨rfl, rfl⟩
  rw [oneP_congr e1, lieP_congr e1 e2] at this
  exact this
theorem goes_of {d : Nat} (hd : 1 ≤ d) {S : Mm} {δ : Sg} {n m o j : Nat} (H : DtH S n m o j) : ∃ S', b_M TT d 1217 [.ref 42] (ov S δ) = some (.inl none, ov S' δ) ∧ agr sRc S S' ∧ Tbl (fun a => 54 + a) (fun _ b => b) n (TcN (rX S n m)) S' := by
  obtain ⟨h1, h2, h3, h4, h5, h6, h7, h8, h9, h10, h11, h12, h13, h14⟩ := H
  exact X_goesOver hd h1 h3 h4 h5 h11
theorem scr_rc {S S' : Mm} (h : agr sRc S S') : agr scr S S' := agr_sub h fun a k e => by
  simp only [sRc, Bool.and_eq_true, decide_eq_true_iff] at e
  have : ∀ x : Nat, x < 16 → ∀ k, scr (54 + x) k = true := by
    intro x hx k
    have e2 : ∀ y : Nat, y < 16 → (54 + y ≠ 42 ∧ 54 + y ≠ 106 ∧ 54 + y ≠ 71 ∧ 54 + y ≠ 73) ∧ [51, 52, 53, 54, 55, 56, 57, 58, 59, 60, 61, 62, 63, 64, 65, 66, 67, 68, 69, 75, 76, 80, 81, 91, 92, 93, 94, 95, 96, 97, 98, 99, 100, 101, 110, 137, 138, 139, 140, 141, 142, 143, 145, 146, 147, 148, 149, 150, 151, 152, 153, 154, 155].contains (54 + y) = true := by decide
    obtain ⟨⟨q1, q2, q3, q4⟩, q5⟩ := e2 x hx
    unfold scr
    rw [if_neg q1, if_neg q2, if_neg q3, if_neg q4, q5]
  have := this (a - 54) (by omega) k
  rwa [show 54 + (a - 54) = a by omega] at this
theorem scr_ly {S S' : Mm} (h : agr sLy S S') : agr scr S S' := agr_sub h fun a k e => by
  simp only [sLy, Bool.or_eq_true, decide_eq_true_iff] at e
  rcases e with rfl | rfl <;> rfl
theorem sTD_rc {S S' : Mm} (h : agr sRc S S') : agr sTD S S' := agr_sub h fun a k e => by
  simp only [sRc, Bool.and_eq_true, decide_eq_true_iff] at e
  unfold sTD
  rw [decide_eq_true (show a < 106 by omega)]; rfl
theorem EdM_in {S : Mm} {n m o j : Nat} (H : DtH S n m o j) : (∀ a b, (∃ w, w < m ∧ aX S w = a ∧ bX S w = b) ↔ EdM S o j a b) ∧ ∀ a b, EdM S o j a b → a < n ∧ b < n := by
  obtain ⟨h1, h2, h3, h4, h5, h6, h7, h8, h9, h10, h11, h12, h13, h14⟩ := H
  have hed := ed_iff h4 h6 h8 h11 h12 h13 h14
  refine ⟨hed, fun a b hab => ?_⟩
  obtain ⟨w, q1, q2, q3⟩ := (hed a b).mpr hab
  have := h11 w q1
  unfold aX at q2
  unfold bX at q3
  omega
/-- both tables with one pair more -/
def ovU (S : Mm) (m o A B : Nat) : Mm := up (up (up (up (up (up S 49 m (vI A)) 50 m (vI B)) 42 13 (vI (m + 1 : Nat))) 119 o (vI A)) 120 o (vI B)) 106 12 (vI (o + 1 : Nat))
theorem ovU_H {S : Mm} {n m o j A B : Nat} (H : DtH S n m o j) (hm : m < 142) (ho : o < 61) (hA : A < n) (hB : B < n) : DtH (ovU S m o A B) n (m + 1) (o + 1) j := by
  obtain ⟨h1, h2, h3, h4, h5, h6, h7, h8, h9, h10, h11, h12, h13, h14⟩ := H
  have w1 : w32 ((m + 1 : Nat) : Int) = (m + 1 : Nat) := w32_id (by omega) (by omega)
  have w2 : w32 ((o + 1 : Nat) : Int) = (o + 1 : Nat) := w32_id (by omega) (by omega)
  have w3 : w32 (A : Int) = A := w32_id (by omega) (by omega)
  have w4 : w32 (B : Int) = B := w32_id (by omega) (by omega)
  have f : ∀ a k : Nat, a ≠ 42 → a ≠ 106 → a ≠ 49 → a ≠ 50 → a ≠ 119 → a ≠ 120 → gi (ovU S m o A B) a k = gi S a k := fun a k q1 q2 q3 q4 q5 q6 => by
    unfold ovU
    rw [gi_up, if_neg (by omega), gi_up, if_neg (by omega), gi_up, if_neg (by omega), gi_up, if_neg (by omega), gi_up, if_neg (by omega), gi_up, if_neg (by omega)]
  have f42 : ∀ k : Nat, k ≠ 13 → gi (ovU S m o A B) 42 k = gi S 42 k := fun k q => by
    unfold ovU
    rw [gi_up, if_neg (by omega), gi_up, if_neg (by omega), gi_up, if_neg (by omega), gi_up, if_neg (by omega), gi_up, if_neg (by omega), gi_up, if_neg (by omega)]
  have f106 : ∀ k : Nat, k ≠ 12 → gi (ovU S m o A B) 106 k = gi S 106 k := fun k q => by
    unfold ovU
    rw [gi_up, if_neg (by omega), gi_up, if_neg (by omega), gi_up, if_neg (by omega), gi_up, if_neg (by omega), gi_up, if_neg (by omega), gi_up, if_neg (by omega)]
  have f13 : gi (ovU S m o A B) 42 13 = (m + 1 : Nat) := by
    unfold ovU
    simp (disch := omega) only [gi_up, gl_up, gi_fill, gl_fill, up_at, fill_at, if_pos, if_neg, vi_vI, vlg_vL, eq_self, true_and, and_true, ↓reduceIte]
    exact w1
  have f12 : gi (ovU S m o A B) 106 12 = (o + 1 : Nat) := by
    unfold ovU
    simp (disch := omega) only [gi_up, gl_up, gi_fill, gl_fill, up_at, fill_at, if_pos, if_neg, vi_vI, vlg_vL, eq_self, true_and, and_true, ↓reduceIte]
    exact w2
  have f49 : ∀ w : Nat, gi (ovU S m o A B) 49 w = if w = m then (A : Int) else gi S 49 w := fun w => by
    unfold ovU
    by_cases e : w = m
    · simp (disch := omega) only [gi_up, gl_up, gi_fill, gl_fill, up_at, fill_at, if_pos, if_neg, vi_vI, vlg_vL, eq_self, true_and, and_true, ↓reduceIte]
      exact w3
    · simp (disch := omega) only [gi_up, gl_up, gi_fill, gl_fill, up_at, fill_at, if_pos, if_neg, vi_vI, vlg_vL, eq_self, true_and, and_true, ↓reduceIte]
  have f50 : ∀ w : Nat, gi (ovU S m o A B) 50 w = if w = m then (B : Int) else gi S 50 w := fun w => by
    unfold ovU
    by_cases e : w = m
    · simp (disch := omega) only [gi_up, gl_up, gi_fill, gl_fill, up_at, fill_at, if_pos, if_neg, vi_vI, vlg_vL, eq_self, true_and, and_true, ↓reduceIte]
      exact w4
    · simp (disch := omega) only [gi_up, gl_up, gi_fill, gl_fill, up_at, fill_at, if_pos, if_neg, vi_vI, vlg_vL, eq_self, true_and, and_true, ↓reduceIte]
  have f119 : ∀ w : Nat, gi (ovU S m o A B) 119 w = if w = o then (A : Int) else gi S 119 w := fun w => by
    unfold ovU
    by_cases e : w = o
    · simp (disch := omega) only [gi_up, gl_up, gi_fill, gl_fill, up_at, fill_at, if_pos, if_neg, vi_vI, vlg_vL, eq_self, true_and, and_true, ↓reduceIte]
      exact w3
    · simp (disch := omega) only [gi_up, gl_up, gi_fill, gl_fill, up_at, fill_at, if_pos, if_neg, vi_vI, vlg_vL, eq_self, true_and, and_true, ↓reduceIte]
  have f120 : ∀ w : Nat, gi (ovU S m o A B) 120 w = if w = o then (B : Int) else gi S 120 w := fun w => by
    unfold ovU
    by_cases e : w = o
    · simp (disch := omega) only [gi_up, gl_up, gi_fill, gl_fill, up_at, fill_at, if_pos, if_neg, vi_vI, vlg_vL, eq_self, true_and, and_true, ↓reduceIte]
      exact w4
    · simp (disch := omega) only [gi_up, gl_up, gi_fill, gl_fill, up_at, fill_at, if_pos, if_neg, vi_vI, vlg_vL, eq_self, true_and, and_true, ↓reduceIte]
  refine ⟨(f42 8 (by omega)).trans h1, (f106 8 (by omega)).trans h2, h3, f13, by omega, f12, by omega, (f106 13 (by omega)).trans h8, h9, fun l hl => ?_, fun w hw => ?_, fun k hk => ?_, fun k hk => ?_, fun x y => ?_⟩
  · rw [f 47 _ (by omega) (by omega) (by omega) (by omega) (by omega) (by omega), f 48 _ (by omega) (by omega) (by omega) (by omega) (by omega) (by omega), f 117 _ (by omega) (by omega) (by omega) (by omega) (by omega) (by omega), f 118 _ (by omega) (by omega) (by omega) (by omega) (by omega) (by omega)]
    exact h10 l hl
  · rw [f49, f50]
    by_cases e : w = m
    · rw [if_pos e, if_pos e]; omega
    · rw [if_neg e, if_neg e]; exact h11 w (by omega)
  · rw [f119, f120]
    by_cases e : k = o
    · rw [if_pos e, if_pos e]; omega
    · rw [if_neg e, if_neg e]; exact h12 k (by omega)
  · rw [f 121 _ (by omega) (by omega) (by omega) (by omega) (by omega) (by omega), f 122 _ (by omega) (by omega) (by omega) (by omega) (by omega) (by omega), f 123 _ (by omega) (by omega) (by omega) (by omega) (by omega) (by omega), f 123 _ (by omega) (by omega) (by omega) (by omega) (by omega) (by omega)]
    exact h13 k hk
  · have eJe : eJ (ovU S m o A B) x y ↔ eJ S x y := by
      unfold eJ
      rw [f106 13 (by omega)]
      simp only [f 121 _ (show 121 ≠ 42 by omega) (by omega) (by omega) (by omega) (by omega) (by omega), f 122 _ (show 122 ≠ 42 by omega) (by omega) (by omega) (by omega) (by omega) (by omega), f 123 _ (show 123 ≠ 42 by omega) (by omega) (by omega) (by omega) (by omega) (by omega)]
    have eXe : eX (ovU S m o A B) x y ↔ eX S x y ∨ (x = A ∧ y = B) := by
      constructor
      · rintro ⟨w, q1, q2, q3⟩
        rw [f13] at q1
        rw [f49] at q2
        rw [f50] at q3
        by_cases e : w = m
        · rw [if_pos e] at q2 q3; exact Or.inr ⟨q2.symm, q3.symm⟩
        · rw [if_neg e] at q2 q3; exact Or.inl ⟨w, by omega, q2, q3⟩
      · rintro (⟨w, q1, q2, q3⟩ | ⟨q1, q2⟩)
        · exact ⟨w, by rw [f13]; omega, by rw [f49, if_neg (by omega)]; exact q2, by rw [f50, if_neg (by omega)]; exact q3⟩
        · exact ⟨m, by rw [f13]; omega, by rw [f49, if_pos rfl]; exact q1.symm, by rw [f50, if_pos rfl]; exact q2.symm⟩
    have eOe : eO (ovU S m o A B) x y ↔ eO S x y ∨ (x = A ∧ y = B) := by
      constructor
      · rintro ⟨w, q1, q2, q3⟩
        rw [f12] at q1
        rw [f119] at q2
        rw [f120] at q3
        by_cases e : w = o
        · rw [if_pos e] at q2 q3; exact Or.inr ⟨q2.symm, q3.symm⟩
        · rw [if_neg e] at q2 q3; exact Or.inl ⟨w, by omega, q2, q3⟩
      · rintro (⟨w, q1, q2, q3⟩ | ⟨q1, q2⟩)
        · exact ⟨w, by rw [f12]; omega, by rw [f119, if_neg (by omega)]; exact q2, by rw [f120, if_neg (by omega)]; exact q3⟩
        · exact ⟨o, by rw [f12]; omega, by rw [f119, if_pos rfl]; exact q1.symm, by rw [f120, if_pos rfl]; exact q2.symm⟩
    rw [eXe, eOe, eJe, h14 x y]
    constructor
    · rintro ((q | q) | q)
      · exact Or.inl (Or.inl q)
      · exact Or.inr q
      · exact Or.inl (Or.inr q)
    · rintro ((q | q) | q)
      · exact Or.inl (Or.inl q)
      · exact Or.inr q
      · exact Or.inl (Or.inr q)
theorem ovU_ac {S : Mm} {n m o j A B : Nat} (H : DtH S n m o j) (hm : m < 142) (ho : o < 61) (hA : A < n) (hB : B < n) (hac : ∀ u v, oN S o u v → ¬ TcN (rX S n m) v u) (hno : ¬ TcN (rX S n m) B A) : ∀ u v, oN (ovU S m o A B) (o + 1) u v → ¬ TcN (rX (ovU S m o A B) n (m + 1)) v u := by
  have HU := ovU_H H hm ho hA hB
  obtain ⟨hE, hin⟩ := EdM_in H
  have w3 : w32 (A : Int) = A := by have := H.2.2.1; exact w32_id (by omega) (by omega)
  have w4 : w32 (B : Int) = B := by have := H.2.2.1; exact w32_id (by omega) (by omega)
  have aU : ∀ w, aX (ovU S m o A B) w = if w = m then A else aX S w := fun w => by
    unfold aX ovU
    by_cases e : w = m
    · simp (disch := omega) only [gi_up, gl_up, gi_fill, gl_fill, up_at, fill_at, if_pos, if_neg, vi_vI, vlg_vL, eq_self, true_and, and_true, ↓reduceIte]
      rw [w3]; rfl
    · simp (disch := omega) only [gi_up, gl_up, gi_fill, gl_fill, up_at, fill_at, if_pos, if_neg, vi_vI, vlg_vL, eq_self, true_and, and_true, ↓reduceIte]
  have bU : ∀ w, bX (ovU S m o A B) w = if w = m then B else bX S w := fun w => by
    unfold bX ovU
    by_cases e : w = m
    · simp (disch := omega) only [gi_up, gl_up, gi_fill, gl_fill, up_at, fill_at, if_pos, if_neg, vi_vI, vlg_vL, eq_self, true_and, and_true, ↓reduceIte]
      rw [w4]; rfl
    · simp (disch := omega) only [gi_up, gl_up, gi_fill, gl_fill, up_at, fill_at, if_pos, if_neg, vi_vI, vlg_vL, eq_self, true_and, and_true, ↓reduceIte]
  have uU : ∀ w, uM (ovU S m o A B) w = if w = o then A else uM S w := fun w => by
    unfold uM ovU
    by_cases e : w = o
    · simp (disch := omega) only [gi_up, gl_up, gi_fill, gl_fill, up_at, fill_at, if_pos, if_neg, vi_vI, vlg_vL, eq_self, true_and, and_true, ↓reduceIte]
      rw [w3]; rfl
    · simp (disch := omega) only [gi_up, gl_up, gi_fill, gl_fill, up_at, fill_at, if_pos, if_neg, vi_vI, vlg_vL, eq_self, true_and, and_true, ↓reduceIte]
  have vU : ∀ w, vM (ovU S m o A B) w = if w = o then B else vM S w := fun w => by
    unfold vM ovU
    by_cases e : w = o
    · simp (disch := omega) only [gi_up, gl_up, gi_fill, gl_fill, up_at, fill_at, if_pos, if_neg, vi_vI, vlg_vL, eq_self, true_and, and_true, ↓reduceIte]
      rw [w4]; rfl
    · simp (disch := omega) only [gi_up, gl_up, gi_fill, gl_fill, up_at, fill_at, if_pos, if_neg, vi_vI, vlg_vL, eq_self, true_and, and_true, ↓reduceIte]
  have refl : ∀ {x}, x < n → TcN (rX S n m) x x := fun h => TcN_of ⟨h, h, Or.inl rfl⟩
  have key : ∀ {x y}, TcN (rX (ovU S m o A B) n (m + 1)) x y → TcN (rX S n m) x y ∨ (TcN (rX S n m) x A ∧ TcN (rX S n m) B y) := by
    intro x y h
    refine TcN_min (T := fun x y => TcN (rX S n m) x y ∨ (TcN (rX S n m) x A ∧ TcN (rX S n m) B y)) (fun x y q => ?_) (fun x y z q1 q2 => ?_) h
    · obtain ⟨q1, q2, q3⟩ := q
      rcases q3 with q3 | ⟨w, w1, w2, w3⟩
      · exact Or.inl (TcN_of ⟨q1, q2, Or.inl q3⟩)
      · rw [aU] at w2
        rw [bU] at w3
        by_cases e : w = m
        · rw [if_pos e] at w2 w3
          subst w2
          subst w3
          exact Or.inr ⟨refl hA, refl hB⟩
        · rw [if_neg e] at w2 w3
          exact Or.inl (TcN_of ⟨q1, q2, Or.inr ⟨w, by omega, w2, w3⟩⟩)
    · rcases q1 with q1 | ⟨q1, q1'⟩ <;> rcases q2 with q2 | ⟨q2, q2'⟩
      · exact Or.inl (TcN_tr q1 q2)
      · exact Or.inr ⟨TcN_tr q1 q2, q2'⟩
      · exact Or.inr ⟨q1, TcN_tr q1' q2⟩
      · exact Or.inr ⟨q1, q2'⟩
  rintro u v ⟨k, k1, k2, k3⟩ h
  rw [uU] at k2
  rw [vU] at k3
  by_cases e : k = o
  · rw [if_pos e] at k2 k3
    subst k2
    subst k3
    rcases key h with q | ⟨q, _⟩ <;> exact hno q
  · rw [if_neg e] at k2 k3
    have ho : oN S o u v := ⟨k, by omega, k2, k3⟩
    have hed : EdM S o j u v := Or.inl ⟨k, by omega, k2, k3⟩
    rcases key h with q | ⟨q1, q2⟩
    · exact hac u v ho q
    · exact hno (TcN_tr q2 (TcN_tr (TcN_of ⟨(hin _ _ hed).1, (hin _ _ hed).2, Or.inr ((hE _ _).mpr hed)⟩) q1))
theorem X_overF {d n m o A B : Nat} (hd : 2 ≤ d) {S S1 S2 : Mm} {δ : Sg} {r : Int} (hn : gi S 42 8 = n) (hn2 : n ≤ 16) (hA : A < n) (hB : B < n) (hAB : (A : Int) ≠ B) (x1 : b_M TT d 1217 [.ref 42] (ov S δ) = some (.inl none, ov S1 δ)) (hq1 : gi S1 (54 + B) A = 0) (em : gi S1 42 13 = (m : Int)) (hm : m < 142) (eo : gi S1 42 14 = (o : Int)) (ho : o < 62) (a1 : b_M TT d 1219 [.ref 42] (ov (up (up (up S1 49 m (vI A)) 50 m (vI B)) 42 13 (vI ((m : Int) + 1))) δ) = some (.inl (some (vI r)), ov S2 δ)) (f13 : gi S2 42 13 = ((m + 1 : Nat) : Int)) (f14 : gi S2 42 14 = (o : Int)) :
    (o = 60 → r = 1 → b_M TT (d + 1) 1216 [.ref 42, vI A, vI B] (ov S δ) = some (.inl (some (vI (-3))), ov (up S2 42 13 (vI m)) δ)) ∧ (r = 0 → b_M TT (d + 1) 1216 [.ref 42, vI A, vI B] (ov S δ) = some (.inl (some (vI (-7))), ov (up S2 42 13 (vI m)) δ)) ∧ (o ≠ 60 → r = 1 → b_M TT (d + 1) 1216 [.ref 42, vI A, vI B] (ov S δ) = some (.inl (some (vI 0)), ov (up S2 42 14 (vI ((o : Int) + 1))) δ)) := by
  refine ⟨fun h1 h2 => ?_, fun h2 => ?_, fun h1 h2 => ?_⟩
  · rw [h2] at a1
    rw [b_M_succ]
    simp (disch := first | assumption | omega | exact b2_01d | decide | (simp (disch := omega) only [tg_42, vc_42_18, tg_53, ln_53, vr_53, tgs_54, lns_54, ias_54, pts_54, ia_42_14, pt_42_14, ia_42_13, pt_42_13, w32_id, w32_gi, w32_w32, w32_b2, Int.toNat_natCast, gi_up, vi_vI, tgd, lnd, and_true, true_and, and_false, false_and, Nat.reduceLeDiff, Nat.reduceLT, ↓reduceIte, b_c1I, b_c1R, b_c1N, cs_0, cs_nil, cs_I, cs_L, cs_R, cs_N] <;> omega) | fail) only [vI_def, vI_sx8, vI_sx16, sx8_sx8, sx16_sx16, w32_sx8, w32_sx16, xci_ex, xv_ex, lk_21, lk_22, lk_2, tgd, lnd, vld, iad, lad, ptd, std, nw_ov, bump_ov, ov_1, cv_ret, cu_ret, cv_thr, cu_thr, th_eq, ent_nil, ent_I, ent_L, ent_R, ent_N, List.tail_cons, List.tail_nil, w32_gi, w32_w32, w32_b2, b2_eq0, b2_eq1, b2_ne0, b2_01, w64_gi, w64_gl, w64_w32, w64_w64, vI_w32, vL_w64, gi_up, gl_up, vi_vI, vlg_vL, swt_nil, swt_cons, F_ite, and_true, true_and, and_false, false_and, and_self, or_true, true_or, or_false, false_or, not_true_eq_false, not_false_eq_true, b_c1I, b_c1R, b_c1N, cs_0, w32_lc, lc_lt, lc_gt, lc_le, lc_ge, lc_eq, w32_id, w64_id, eq_self, Nat.reduceEqDiff, Nat.reduceLeDiff, Nat.reduceAdd, Nat.reduceMul, Int.reduceLT, Int.reduceLE, Int.reduceEq, Int.reduceNeg, Int.reduceAdd, Int.reduceSub, Int.reduceMul, Int.reduceToNat, Int.toNat_natCast, nc_lit, Int.add_sub_cancel, Int.tmod_eq_emod_of_nonneg, Int.tdiv_eq_ediv_of_nonneg, Int.natCast_add, Int.natCast_mul, if_pos, if_neg, ↓reduceIte, e1216_0, e1216_1, e1216_2, e1216_5, e1216_8, e1216_9, e1216_10, e1216_13, e1216_16, e1216_17, e1216_18, e1216_21, e1216_23, e1216_24, e1216_25, e1216_28, e1216_29, e1216_32, e1216_33, e1216_34, e1216_35, e1216_36, e1216_39, e1216_41, e1216_42, e1216_43, e1216_46, e1216_48, e1216_51, e1216_52, e1216_53, e1216_54, e1216_57, e1216_58, e1216_61, e1216_62, e1216_63, e1216_64, e1216_67, e1216_68, e1216_69, e1216_72, e1216_73, e1216_76, e1216_78, e1216_81, e1216_83, e1216_84, e1216_85, e1216_86, e1216_87, e1216_90, e1216_91, e1216_94, e1216_97, e1216_98, e1216_99, e1216_102, e1216_103, e1216_104, e1216_107, e1216_109, e1216_110, e1216_111, e1216_112, e1216_115, e1216_116, e1216_117, e1216_120, e1216_121, tg_42, vc_42_18, tg_53, ln_53, vr_53, tgs_54, lns_54, ias_54, pts_54, ia_42_14, pt_42_14, ia_42_13, pt_42_13, X_isLayer, hn, hAB, x1, hq1, X_tells, em, eo, a1, f13, f14, h1]
  · rw [h2] at a1
    rw [b_M_succ]
    by_cases h1 : o = 60
    · simp (disch := first | assumption | omega | exact b2_01d | decide | (simp (disch := omega) only [tg_42, vc_42_18, tg_53, ln_53, vr_53, tgs_54, lns_54, ias_54, pts_54, ia_42_14, pt_42_14, ia_42_13, pt_42_13, w32_id, w32_gi, w32_w32, w32_b2, Int.toNat_natCast, gi_up, vi_vI, tgd, lnd, and_true, true_and, and_false, false_and, Nat.reduceLeDiff, Nat.reduceLT, ↓reduceIte, b_c1I, b_c1R, b_c1N, cs_0, cs_nil, cs_I, cs_L, cs_R, cs_N] <;> omega) | fail) only [vI_def, vI_sx8, vI_sx16, sx8_sx8, sx16_sx16, w32_sx8, w32_sx16, xci_ex, xv_ex, lk_21, lk_22, lk_2, tgd, lnd, vld, iad, lad, ptd, std, nw_ov, bump_ov, ov_1, cv_ret, cu_ret, cv_thr, cu_thr, th_eq, ent_nil, ent_I, ent_L, ent_R, ent_N, List.tail_cons, List.tail_nil, w32_gi, w32_w32, w32_b2, b2_eq0, b2_eq1, b2_ne0, b2_01, w64_gi, w64_gl, w64_w32, w64_w64, vI_w32, vL_w64, gi_up, gl_up, vi_vI, vlg_vL, swt_nil, swt_cons, F_ite, and_true, true_and, and_false, false_and, and_self, or_true, true_or, or_false, false_or, not_true_eq_false, not_false_eq_true, b_c1I, b_c1R, b_c1N, cs_0, w32_lc, lc_lt, lc_gt, lc_le, lc_ge, lc_eq, w32_id, w64_id, eq_self, Nat.reduceEqDiff, Nat.reduceLeDiff, Nat.reduceAdd, Nat.reduceMul, Int.reduceLT, Int.reduceLE, Int.reduceEq, Int.reduceNeg, Int.reduceAdd, Int.reduceSub, Int.reduceMul, Int.reduceToNat, Int.toNat_natCast, nc_lit, Int.add_sub_cancel, Int.tmod_eq_emod_of_nonneg, Int.tdiv_eq_ediv_of_nonneg, Int.natCast_add, Int.natCast_mul, if_pos, if_neg, ↓reduceIte, e1216_0, e1216_1, e1216_2, e1216_5, e1216_8, e1216_9, e1216_10, e1216_13, e1216_16, e1216_17, e1216_18, e1216_21, e1216_23, e1216_24, e1216_25, e1216_28, e1216_29, e1216_32, e1216_33, e1216_34, e1216_35, e1216_36, e1216_39, e1216_41, e1216_42, e1216_43, e1216_46, e1216_48, e1216_51, e1216_52, e1216_53, e1216_54, e1216_57, e1216_58, e1216_61, e1216_62, e1216_63, e1216_64, e1216_67, e1216_68, e1216_69, e1216_72, e1216_73, e1216_76, e1216_78, e1216_81, e1216_83, e1216_84, e1216_85, e1216_86, e1216_87, e1216_90, e1216_91, e1216_94, e1216_97, e1216_98, e1216_99, e1216_102, e1216_103, e1216_104, e1216_107, e1216_109, e1216_110, e1216_111, e1216_112, e1216_115, e1216_116, e1216_117, e1216_120, e1216_121, tg_42, vc_42_18, tg_53, ln_53, vr_53, tgs_54, lns_54, ias_54, pts_54, ia_42_14, pt_42_14, ia_42_13, pt_42_13, X_isLayer, hn, hAB, x1, hq1, X_tells, em, eo, a1, f13, f14, h1]
    · simp (disch := first | assumption | omega | exact b2_01d | decide | (simp (disch := omega) only [tg_42, vc_42_18, tg_53, ln_53, vr_53, tgs_54, lns_54, ias_54, pts_54, ia_42_14, pt_42_14, ia_42_13, pt_42_13, w32_id, w32_gi, w32_w32, w32_b2, Int.toNat_natCast, gi_up, vi_vI, tgd, lnd, and_true, true_and, and_false, false_and, Nat.reduceLeDiff, Nat.reduceLT, ↓reduceIte, b_c1I, b_c1R, b_c1N, cs_0, cs_nil, cs_I, cs_L, cs_R, cs_N] <;> omega) | fail) only [vI_def, vI_sx8, vI_sx16, sx8_sx8, sx16_sx16, w32_sx8, w32_sx16, xci_ex, xv_ex, lk_21, lk_22, lk_2, tgd, lnd, vld, iad, lad, ptd, std, nw_ov, bump_ov, ov_1, cv_ret, cu_ret, cv_thr, cu_thr, th_eq, ent_nil, ent_I, ent_L, ent_R, ent_N, List.tail_cons, List.tail_nil, w32_gi, w32_w32, w32_b2, b2_eq0, b2_eq1, b2_ne0, b2_01, w64_gi, w64_gl, w64_w32, w64_w64, vI_w32, vL_w64, gi_up, gl_up, vi_vI, vlg_vL, swt_nil, swt_cons, F_ite, and_true, true_and, and_false, false_and, and_self, or_true, true_or, or_false, false_or, not_true_eq_false, not_false_eq_true, b_c1I, b_c1R, b_c1N, cs_0, w32_lc, lc_lt, lc_gt, lc_le, lc_ge, lc_eq, w32_id, w64_id, eq_self, Nat.reduceEqDiff, Nat.reduceLeDiff, Nat.reduceAdd, Nat.reduceMul, Int.reduceLT, Int.reduceLE, Int.reduceEq, Int.reduceNeg, Int.reduceAdd, Int.reduceSub, Int.reduceMul, Int.reduceToNat, Int.toNat_natCast, nc_lit, Int.add_sub_cancel, Int.tmod_eq_emod_of_nonneg, Int.tdiv_eq_ediv_of_nonneg, Int.natCast_add, Int.natCast_mul, if_pos, if_neg, ↓reduceIte, e1216_0, e1216_1, e1216_2, e1216_5, e1216_8, e1216_9, e1216_10, e1216_13, e1216_16, e1216_17, e1216_18, e1216_21, e1216_23, e1216_24, e1216_25, e1216_28, e1216_29, e1216_32, e1216_33, e1216_34, e1216_35, e1216_36, e1216_39, e1216_41, e1216_42, e1216_43, e1216_46, e1216_48, e1216_51, e1216_52, e1216_53, e1216_54, e1216_57, e1216_58, e1216_61, e1216_62, e1216_63, e1216_64, e1216_67, e1216_68, e1216_69, e1216_72, e1216_73, e1216_76, e1216_78, e1216_81, e1216_83, e1216_84, e1216_85, e1216_86, e1216_87, e1216_90, e1216_91, e1216_94, e1216_97, e1216_98, e1216_99, e1216_102, e1216_103, e1216_104, e1216_107, e1216_109, e1216_110, e1216_111, e1216_112, e1216_115, e1216_116, e1216_117, e1216_120, e1216_121, tg_42, vc_42_18, tg_53, ln_53, vr_53, tgs_54, lns_54, ias_54, pts_54, ia_42_14, pt_42_14, ia_42_13, pt_42_13, X_isLayer, hn, hAB, x1, hq1, X_tells, em, eo, a1, f13, f14]
  · rw [h2] at a1
    rw [b_M_succ]
    simp (disch := first | assumption | omega | exact b2_01d | decide | (simp (disch := omega) only [tg_42, vc_42_18, tg_53, ln_53, vr_53, tgs_54, lns_54, ias_54, pts_54, ia_42_14, pt_42_14, ia_42_13, pt_42_13, w32_id, w32_gi, w32_w32, w32_b2, Int.toNat_natCast, gi_up, vi_vI, tgd, lnd, and_true, true_and, and_false, false_and, Nat.reduceLeDiff, Nat.reduceLT, ↓reduceIte, b_c1I, b_c1R, b_c1N, cs_0, cs_nil, cs_I, cs_L, cs_R, cs_N] <;> omega) | fail) only [vI_def, vI_sx8, vI_sx16, sx8_sx8, sx16_sx16, w32_sx8, w32_sx16, xci_ex, xv_ex, lk_21, lk_22, lk_2, tgd, lnd, vld, iad, lad, ptd, std, nw_ov, bump_ov, ov_1, cv_ret, cu_ret, cv_thr, cu_thr, th_eq, ent_nil, ent_I, ent_L, ent_R, ent_N, List.tail_cons, List.tail_nil, w32_gi, w32_w32, w32_b2, b2_eq0, b2_eq1, b2_ne0, b2_01, w64_gi, w64_gl, w64_w32, w64_w64, vI_w32, vL_w64, gi_up, gl_up, vi_vI, vlg_vL, swt_nil, swt_cons, F_ite, and_true, true_and, and_false, false_and, and_self, or_true, true_or, or_false, false_or, not_true_eq_false, not_false_eq_true, b_c1I, b_c1R, b_c1N, cs_0, w32_lc, lc_lt, lc_gt, lc_le, lc_ge, lc_eq, w32_id, w64_id, eq_self, Nat.reduceEqDiff, Nat.reduceLeDiff, Nat.reduceAdd, Nat.reduceMul, Int.reduceLT, Int.reduceLE, Int.reduceEq, Int.reduceNeg, Int.reduceAdd, Int.reduceSub, Int.reduceMul, Int.reduceToNat, Int.toNat_natCast, nc_lit, Int.add_sub_cancel, Int.tmod_eq_emod_of_nonneg, Int.tdiv_eq_ediv_of_nonneg, Int.natCast_add, Int.natCast_mul, if_pos, if_neg, ↓reduceIte, e1216_0, e1216_1, e1216_2, e1216_5, e1216_8, e1216_9, e1216_10, e1216_13, e1216_16, e1216_17, e1216_18, e1216_21, e1216_23, e1216_24, e1216_25, e1216_28, e1216_29, e1216_32, e1216_33, e1216_34, e1216_35, e1216_36, e1216_39, e1216_41, e1216_42, e1216_43, e1216_46, e1216_48, e1216_51, e1216_52, e1216_53, e1216_54, e1216_57, e1216_58, e1216_61, e1216_62, e1216_63, e1216_64, e1216_67, e1216_68, e1216_69, e1216_72, e1216_73, e1216_76, e1216_78, e1216_81, e1216_83, e1216_84, e1216_85, e1216_86, e1216_87, e1216_90, e1216_91, e1216_94, e1216_97, e1216_98, e1216_99, e1216_102, e1216_103, e1216_104, e1216_107, e1216_109, e1216_110, e1216_111, e1216_112, e1216_115, e1216_116, e1216_117, e1216_120, e1216_121, tg_42, vc_42_18, tg_53, ln_53, vr_53, tgs_54, lns_54, ias_54, pts_54, ia_42_14, pt_42_14, ia_42_13, pt_42_13, X_isLayer, hn, hAB, x1, hq1, X_tells, em, eo, a1, f13, f14]
theorem M_overF {d n o A B : Nat} (hd : 2 ≤ d) {S T1 T3 : Mm} {δ : Sg} {r : Int} (hn : gi S 106 8 = n) (hn2 : n ≤ 16) (hA : A < n) (hB : B < n) (hAB : (A : Int) ≠ B) (y1 : b_M TT d 1016 [.ref 106] (ov (up S 106 0 (vI 0)) δ) = some (.inl none, ov T1 δ)) (y2 : gi T1 139 (16 * B + A) = 0) (y3 : gi T1 140 (16 * A + B) = 0) (y4 : gi T1 106 12 = (o : Int)) (ho : o < 61) (y5 : b_M TT d 1018 [.ref 106] (ov (up (up (up T1 119 o (vI A)) 120 o (vI B)) 106 12 (vI ((o : Int) + 1))) δ) = some (.inl (some (vI r)), ov T3 δ)) (y6 : gi T3 106 12 = ((o + 1 : Nat) : Int)) :
    (o = 60 → r = 1 → b_M TT (d + 1) 1014 [.ref 106, vI A, vI B] (ov S δ) = some (.inl (some (vI (-3))), ov (up T3 106 12 (vI o)) δ)) ∧ (r = 0 → b_M TT (d + 1) 1014 [.ref 106, vI A, vI B] (ov S δ) = some (.inl (some (vI (-7))), ov (up T3 106 12 (vI o)) δ)) ∧ (o ≠ 60 → r = 1 → b_M TT (d + 1) 1014 [.ref 106, vI A, vI B] (ov S δ) = some (.inl (some (vI 0)), ov T3 δ)) := by
  have ix1 : (16 * (B : Int) + A).toNat = 16 * B + A := by omega
  have ix2 : (16 * (A : Int) + B).toNat = 16 * A + B := by omega
  refine ⟨fun h1 h2 => ?_, fun h2 => ?_, fun h1 h2 => ?_⟩
  · rw [h2] at y5
    subst h1
    have y5' : b_M TT d 1018 [.ref 106] (ov (up (up (up T1 119 60 (vI A)) 120 60 (vI B)) 106 12 (vI 61)) δ) = some (.inl (some (vI 1)), ov T3 δ) := y5
    have y6' : gi T3 106 12 = 61 := y6
    have y4' : gi T1 106 12 = 60 := y4
    rw [b_M_succ]
    simp (disch := first | assumption | omega | exact b2_01d | decide | (simp (disch := omega) only [tg_106, ia_106_0, pt_106_0, vc_106_45, tg_139, ln_139, ia_139, pt_139, vc_106_46, tg_140, ln_140, ia_140, pt_140, ia_106_12, pt_106_12, vc_106_22, tg_119, ln_119, ia_119, pt_119, vc_106_23, tg_120, ln_120, ia_120, pt_120, w32_id, w32_gi, w32_w32, w32_b2, Int.toNat_natCast, gi_up, vi_vI, tgd, lnd, and_true, true_and, and_false, false_and, Nat.reduceLeDiff, Nat.reduceLT, ↓reduceIte, b_c1I, b_c1R, b_c1N, cs_0, cs_nil, cs_I, cs_L, cs_R, cs_N] <;> omega) | fail) only [vI_def, vI_sx8, vI_sx16, sx8_sx8, sx16_sx16, w32_sx8, w32_sx16, xci_ex, xv_ex, lk_21, lk_22, lk_2, tgd, lnd, vld, iad, lad, ptd, std, nw_ov, bump_ov, ov_1, cv_ret, cu_ret, cv_thr, cu_thr, th_eq, ent_nil, ent_I, ent_L, ent_R, ent_N, List.tail_cons, List.tail_nil, w32_gi, w32_w32, w32_b2, b2_eq0, b2_eq1, b2_ne0, b2_01, w64_gi, w64_gl, w64_w32, w64_w64, vI_w32, vL_w64, gi_up, gl_up, vi_vI, vlg_vL, swt_nil, swt_cons, F_ite, and_true, true_and, and_false, false_and, and_self, or_true, true_or, or_false, false_or, not_true_eq_false, not_false_eq_true, b_c1I, b_c1R, b_c1N, cs_0, w32_lc, lc_lt, lc_gt, lc_le, lc_ge, lc_eq, w32_id, w64_id, eq_self, Nat.reduceEqDiff, Nat.reduceLeDiff, Nat.reduceAdd, Nat.reduceMul, Int.reduceLT, Int.reduceLE, Int.reduceEq, Int.reduceNeg, Int.reduceAdd, Int.reduceSub, Int.reduceMul, Int.reduceToNat, Int.toNat_natCast, nc_lit, Int.add_sub_cancel, Int.tmod_eq_emod_of_nonneg, Int.tdiv_eq_ediv_of_nonneg, Int.natCast_add, Int.natCast_mul, if_pos, if_neg, ↓reduceIte, e1014_0, e1014_1, e1014_2, e1014_5, e1014_6, e1014_7, e1014_10, e1014_13, e1014_14, e1014_15, e1014_18, e1014_21, e1014_22, e1014_23, e1014_26, e1014_28, e1014_29, e1014_30, e1014_33, e1014_34, e1014_37, e1014_39, e1014_40, e1014_41, e1014_42, e1014_43, e1014_44, e1014_47, e1014_48, e1014_51, e1014_53, e1014_54, e1014_55, e1014_56, e1014_57, e1014_58, e1014_61, e1014_63, e1014_64, e1014_65, e1014_68, e1014_70, e1014_73, e1014_74, e1014_77, e1014_78, e1014_79, e1014_80, e1014_83, e1014_84, e1014_87, e1014_88, e1014_89, e1014_90, e1014_93, e1014_94, e1014_97, e1014_98, e1014_99, e1014_100, e1014_101, e1014_104, e1014_105, e1014_106, e1014_109, e1014_110, e1014_113, e1014_115, e1014_117, e1014_120, e1014_121, e1014_124, e1014_125, e1014_126, e1014_129, e1014_130, e1014_131, e1014_134, e1014_136, e1014_139, e1014_141, e1014_144, e1014_145, e1014_148, e1014_150, e1014_153, e1014_154, tg_106, ia_106_0, pt_106_0, vc_106_45, tg_139, ln_139, ia_139, pt_139, vc_106_46, tg_140, ln_140, ia_140, pt_140, ia_106_12, pt_106_12, vc_106_22, tg_119, ln_119, ia_119, pt_119, vc_106_23, tg_120, ln_120, ia_120, pt_120, M_isLayer, hn, hAB, y1, ix1, ix2, y2, y3, y4', y5', y6']
  · rw [h2] at y5
    rw [b_M_succ]
    by_cases h1 : o = 60
    · subst h1
      have y5' : b_M TT d 1018 [.ref 106] (ov (up (up (up T1 119 60 (vI A)) 120 60 (vI B)) 106 12 (vI 61)) δ) = some (.inl (some (vI 0)), ov T3 δ) := y5
      have y6' : gi T3 106 12 = 61 := y6
      have y4' : gi T1 106 12 = 60 := y4
      simp (disch := first | assumption | omega | exact b2_01d | decide | (simp (disch := omega) only [tg_106, ia_106_0, pt_106_0, vc_106_45, tg_139, ln_139, ia_139, pt_139, vc_106_46, tg_140, ln_140, ia_140, pt_140, ia_106_12, pt_106_12, vc_106_22, tg_119, ln_119, ia_119, pt_119, vc_106_23, tg_120, ln_120, ia_120, pt_120, w32_id, w32_gi, w32_w32, w32_b2, Int.toNat_natCast, gi_up, vi_vI, tgd, lnd, and_true, true_and, and_false, false_and, Nat.reduceLeDiff, Nat.reduceLT, ↓reduceIte, b_c1I, b_c1R, b_c1N, cs_0, cs_nil, cs_I, cs_L, cs_R, cs_N] <;> omega) | fail) only [vI_def, vI_sx8, vI_sx16, sx8_sx8, sx16_sx16, w32_sx8, w32_sx16, xci_ex, xv_ex, lk_21, lk_22, lk_2, tgd, lnd, vld, iad, lad, ptd, std, nw_ov, bump_ov, ov_1, cv_ret, cu_ret, cv_thr, cu_thr, th_eq, ent_nil, ent_I, ent_L, ent_R, ent_N, List.tail_cons, List.tail_nil, w32_gi, w32_w32, w32_b2, b2_eq0, b2_eq1, b2_ne0, b2_01, w64_gi, w64_gl, w64_w32, w64_w64, vI_w32, vL_w64, gi_up, gl_up, vi_vI, vlg_vL, swt_nil, swt_cons, F_ite, and_true, true_and, and_false, false_and, and_self, or_true, true_or, or_false, false_or, not_true_eq_false, not_false_eq_true, b_c1I, b_c1R, b_c1N, cs_0, w32_lc, lc_lt, lc_gt, lc_le, lc_ge, lc_eq, w32_id, w64_id, eq_self, Nat.reduceEqDiff, Nat.reduceLeDiff, Nat.reduceAdd, Nat.reduceMul, Int.reduceLT, Int.reduceLE, Int.reduceEq, Int.reduceNeg, Int.reduceAdd, Int.reduceSub, Int.reduceMul, Int.reduceToNat, Int.toNat_natCast, nc_lit, Int.add_sub_cancel, Int.tmod_eq_emod_of_nonneg, Int.tdiv_eq_ediv_of_nonneg, Int.natCast_add, Int.natCast_mul, if_pos, if_neg, ↓reduceIte, e1014_0, e1014_1, e1014_2, e1014_5, e1014_6, e1014_7, e1014_10, e1014_13, e1014_14, e1014_15, e1014_18, e1014_21, e1014_22, e1014_23, e1014_26, e1014_28, e1014_29, e1014_30, e1014_33, e1014_34, e1014_37, e1014_39, e1014_40, e1014_41, e1014_42, e1014_43, e1014_44, e1014_47, e1014_48, e1014_51, e1014_53, e1014_54, e1014_55, e1014_56, e1014_57, e1014_58, e1014_61, e1014_63, e1014_64, e1014_65, e1014_68, e1014_70, e1014_73, e1014_74, e1014_77, e1014_78, e1014_79, e1014_80, e1014_83, e1014_84, e1014_87, e1014_88, e1014_89, e1014_90, e1014_93, e1014_94, e1014_97, e1014_98, e1014_99, e1014_100, e1014_101, e1014_104, e1014_105, e1014_106, e1014_109, e1014_110, e1014_113, e1014_115, e1014_117, e1014_120, e1014_121, e1014_124, e1014_125, e1014_126, e1014_129, e1014_130, e1014_131, e1014_134, e1014_136, e1014_139, e1014_141, e1014_144, e1014_145, e1014_148, e1014_150, e1014_153, e1014_154, tg_106, ia_106_0, pt_106_0, vc_106_45, tg_139, ln_139, ia_139, pt_139, vc_106_46, tg_140, ln_140, ia_140, pt_140, ia_106_12, pt_106_12, vc_106_22, tg_119, ln_119, ia_119, pt_119, vc_106_23, tg_120, ln_120, ia_120, pt_120, M_isLayer, hn, hAB, y1, ix1, ix2, y2, y3, y4', y5', y6']
    · simp (disch := first | assumption | omega | exact b2_01d | decide | (simp (disch := omega) only [tg_106, ia_106_0, pt_106_0, vc_106_45, tg_139, ln_139, ia_139, pt_139, vc_106_46, tg_140, ln_140, ia_140, pt_140, ia_106_12, pt_106_12, vc_106_22, tg_119, ln_119, ia_119, pt_119, vc_106_23, tg_120, ln_120, ia_120, pt_120, w32_id, w32_gi, w32_w32, w32_b2, Int.toNat_natCast, gi_up, vi_vI, tgd, lnd, and_true, true_and, and_false, false_and, Nat.reduceLeDiff, Nat.reduceLT, ↓reduceIte, b_c1I, b_c1R, b_c1N, cs_0, cs_nil, cs_I, cs_L, cs_R, cs_N] <;> omega) | fail) only [vI_def, vI_sx8, vI_sx16, sx8_sx8, sx16_sx16, w32_sx8, w32_sx16, xci_ex, xv_ex, lk_21, lk_22, lk_2, tgd, lnd, vld, iad, lad, ptd, std, nw_ov, bump_ov, ov_1, cv_ret, cu_ret, cv_thr, cu_thr, th_eq, ent_nil, ent_I, ent_L, ent_R, ent_N, List.tail_cons, List.tail_nil, w32_gi, w32_w32, w32_b2, b2_eq0, b2_eq1, b2_ne0, b2_01, w64_gi, w64_gl, w64_w32, w64_w64, vI_w32, vL_w64, gi_up, gl_up, vi_vI, vlg_vL, swt_nil, swt_cons, F_ite, and_true, true_and, and_false, false_and, and_self, or_true, true_or, or_false, false_or, not_true_eq_false, not_false_eq_true, b_c1I, b_c1R, b_c1N, cs_0, w32_lc, lc_lt, lc_gt, lc_le, lc_ge, lc_eq, w32_id, w64_id, eq_self, Nat.reduceEqDiff, Nat.reduceLeDiff, Nat.reduceAdd, Nat.reduceMul, Int.reduceLT, Int.reduceLE, Int.reduceEq, Int.reduceNeg, Int.reduceAdd, Int.reduceSub, Int.reduceMul, Int.reduceToNat, Int.toNat_natCast, nc_lit, Int.add_sub_cancel, Int.tmod_eq_emod_of_nonneg, Int.tdiv_eq_ediv_of_nonneg, Int.natCast_add, Int.natCast_mul, if_pos, if_neg, ↓reduceIte, e1014_0, e1014_1, e1014_2, e1014_5, e1014_6, e1014_7, e1014_10, e1014_13, e1014_14, e1014_15, e1014_18, e1014_21, e1014_22, e1014_23, e1014_26, e1014_28, e1014_29, e1014_30, e1014_33, e1014_34, e1014_37, e1014_39, e1014_40, e1014_41, e1014_42, e1014_43, e1014_44, e1014_47, e1014_48, e1014_51, e1014_53, e1014_54, e1014_55, e1014_56, e1014_57, e1014_58, e1014_61, e1014_63, e1014_64, e1014_65, e1014_68, e1014_70, e1014_73, e1014_74, e1014_77, e1014_78, e1014_79, e1014_80, e1014_83, e1014_84, e1014_87, e1014_88, e1014_89, e1014_90, e1014_93, e1014_94, e1014_97, e1014_98, e1014_99, e1014_100, e1014_101, e1014_104, e1014_105, e1014_106, e1014_109, e1014_110, e1014_113, e1014_115, e1014_117, e1014_120, e1014_121, e1014_124, e1014_125, e1014_126, e1014_129, e1014_130, e1014_131, e1014_134, e1014_136, e1014_139, e1014_141, e1014_144, e1014_145, e1014_148, e1014_150, e1014_153, e1014_154, tg_106, ia_106_0, pt_106_0, vc_106_45, tg_139, ln_139, ia_139, pt_139, vc_106_46, tg_140, ln_140, ia_140, pt_140, ia_106_12, pt_106_12, vc_106_22, tg_119, ln_119, ia_119, pt_119, vc_106_23, tg_120, ln_120, ia_120, pt_120, M_isLayer, hn, hAB, y1, ix1, ix2, y2, y3, y4, y5, y6]
  · rw [h2] at y5
    rw [b_M_succ]
    simp (disch := first | assumption | omega | exact b2_01d | decide | (simp (disch := omega) only [tg_106, ia_106_0, pt_106_0, vc_106_45, tg_139, ln_139, ia_139, pt_139, vc_106_46, tg_140, ln_140, ia_140, pt_140, ia_106_12, pt_106_12, vc_106_22, tg_119, ln_119, ia_119, pt_119, vc_106_23, tg_120, ln_120, ia_120, pt_120, w32_id, w32_gi, w32_w32, w32_b2, Int.toNat_natCast, gi_up, vi_vI, tgd, lnd, and_true, true_and, and_false, false_and, Nat.reduceLeDiff, Nat.reduceLT, ↓reduceIte, b_c1I, b_c1R, b_c1N, cs_0, cs_nil, cs_I, cs_L, cs_R, cs_N] <;> omega) | fail) only [vI_def, vI_sx8, vI_sx16, sx8_sx8, sx16_sx16, w32_sx8, w32_sx16, xci_ex, xv_ex, lk_21, lk_22, lk_2, tgd, lnd, vld, iad, lad, ptd, std, nw_ov, bump_ov, ov_1, cv_ret, cu_ret, cv_thr, cu_thr, th_eq, ent_nil, ent_I, ent_L, ent_R, ent_N, List.tail_cons, List.tail_nil, w32_gi, w32_w32, w32_b2, b2_eq0, b2_eq1, b2_ne0, b2_01, w64_gi, w64_gl, w64_w32, w64_w64, vI_w32, vL_w64, gi_up, gl_up, vi_vI, vlg_vL, swt_nil, swt_cons, F_ite, and_true, true_and, and_false, false_and, and_self, or_true, true_or, or_false, false_or, not_true_eq_false, not_false_eq_true, b_c1I, b_c1R, b_c1N, cs_0, w32_lc, lc_lt, lc_gt, lc_le, lc_ge, lc_eq, w32_id, w64_id, eq_self, Nat.reduceEqDiff, Nat.reduceLeDiff, Nat.reduceAdd, Nat.reduceMul, Int.reduceLT, Int.reduceLE, Int.reduceEq, Int.reduceNeg, Int.reduceAdd, Int.reduceSub, Int.reduceMul, Int.reduceToNat, Int.toNat_natCast, nc_lit, Int.add_sub_cancel, Int.tmod_eq_emod_of_nonneg, Int.tdiv_eq_ediv_of_nonneg, Int.natCast_add, Int.natCast_mul, if_pos, if_neg, ↓reduceIte, e1014_0, e1014_1, e1014_2, e1014_5, e1014_6, e1014_7, e1014_10, e1014_13, e1014_14, e1014_15, e1014_18, e1014_21, e1014_22, e1014_23, e1014_26, e1014_28, e1014_29, e1014_30, e1014_33, e1014_34, e1014_37, e1014_39, e1014_40, e1014_41, e1014_42, e1014_43, e1014_44, e1014_47, e1014_48, e1014_51, e1014_53, e1014_54, e1014_55, e1014_56, e1014_57, e1014_58, e1014_61, e1014_63, e1014_64, e1014_65, e1014_68, e1014_70, e1014_73, e1014_74, e1014_77, e1014_78, e1014_79, e1014_80, e1014_83, e1014_84, e1014_87, e1014_88, e1014_89, e1014_90, e1014_93, e1014_94, e1014_97, e1014_98, e1014_99, e1014_100, e1014_101, e1014_104, e1014_105, e1014_106, e1014_109, e1014_110, e1014_113, e1014_115, e1014_117, e1014_120, e1014_121, e1014_124, e1014_125, e1014_126, e1014_129, e1014_130, e1014_131, e1014_134, e1014_136, e1014_139, e1014_141, e1014_144, e1014_145, e1014_148, e1014_150, e1014_153, e1014_154, tg_106, ia_106_0, pt_106_0, vc_106_45, tg_139, ln_139, ia_139, pt_139, vc_106_46, tg_140, ln_140, ia_140, pt_140, ia_106_12, pt_106_12, vc_106_22, tg_119, ln_119, ia_119, pt_119, vc_106_23, tg_120, ln_120, ia_120, pt_120, M_isLayer, hn, hAB, y1, ix1, ix2, y2, y3, y4, y5, y6]
theorem Rel_tell {h : Nat → Cl} {c : Nat} {S T : Mm} {δ : Sg} (R : Rel h c S δ) (kV : ∀ x y : Nat, scr x y = false → (x ≠ 49 ∧ x ≠ 50 ∧ x ≠ 119 ∧ x ≠ 120 ∧ x ≠ 121 ∧ x ≠ 122) → ¬ (x = 42 ∧ (y = 13 ∨ y = 14 ∨ y = 15)) → ¬ (x = 106 ∧ (y = 12 ∨ y = 13)) → T x y = S x y) (rg : RG T) : Rel h (c + 1) T δ := by
  obtain ⟨r1, r2, r3, r4, r5, r6, r7, r8, r9, r10, r11, r12, r13, r14⟩ := Rel_c R
  have key : ∀ B : Nat → Nat → Bool, (∀ a k, scr a k = true → B a k = true) → (∀ k, B 49 k = true) → (∀ k, B 50 k = true) → (∀ k, B 119 k = true) → (∀ k, B 120 k = true) → (∀ k, B 121 k = true) → (∀ k, B 122 k = true) → B 42 13 = true → B 42 14 = true → B 42 15 = true → B 106 12 = true → B 106 13 = true → agr B S T := by
    intro B h1 b1 b2 b3 b4 b5 b6 c1 c2 c3 c4 c5 x y e
    refine kV x y ?_ ⟨?_, ?_, ?_, ?_, ?_, ?_⟩ ?_ ?_
    · cases q : scr x y with
      | false => rfl
      | true => rw [h1 x y q] at e; cases e
    · rintro rfl; rw [b1] at e; cases e
    · rintro rfl; rw [b2] at e; cases e
    · rintro rfl; rw [b3] at e; cases e
    · rintro rfl; rw [b4] at e; cases e
    · rintro rfl; rw [b5] at e; cases e
    · rintro rfl; rw [b6] at e; cases e
    · rintro ⟨rfl, rfl | rfl | rfl⟩
      · rw [c1] at e; cases e
      · rw [c2] at e; cases e
      · rw [c3] at e; cases e
    · rintro ⟨rfl, rfl | rfl⟩
      · rw [c4] at e; cases e
      · rw [c5] at e; cases e
  exact ⟨r1, fr_RT (key _ (fun _ _ => sRT_scr) (fun _ => rfl) (fun _ => rfl) (fun _ => rfl) (fun _ => rfl) (fun _ => rfl) (fun _ => rfl) rfl rfl rfl rfl rfl) r2, fr_RR (key _ (fun _ _ => sRR_scr) (fun _ => rfl) (fun _ => rfl) (fun _ => rfl) (fun _ => rfl) (fun _ => rfl) (fun _ => rfl) rfl rfl rfl rfl rfl) r3, fr_RE (key _ (fun _ _ => sRE_scr) (fun _ => rfl) (fun _ => rfl) (fun _ => rfl) (fun _ => rfl) (fun _ => rfl) (fun _ => rfl) rfl rfl rfl rfl rfl) r4, fr_RL (key _ (fun _ _ => sRL_scr) (fun _ => rfl) (fun _ => rfl) (fun _ => rfl) (fun _ => rfl) (fun _ => rfl) (fun _ => rfl) rfl rfl rfl rfl rfl) r5, fr_RB (key _ (fun _ _ => sRB_scr) (fun _ => rfl) (fun _ => rfl) (fun _ => rfl) (fun _ => rfl) (fun _ => rfl) (fun _ => rfl) rfl rfl rfl rfl rfl) r6, rg, fr_RH (key _ (fun _ _ => sRH_scr) (fun _ => rfl) (fun _ => rfl) (fun _ => rfl) (fun _ => rfl) (fun _ => rfl) (fun _ => rfl) rfl rfl rfl rfl rfl) r8, fr_RA (key _ (fun _ _ => sRA_scr) (fun _ => rfl) (fun _ => rfl) (fun _ => rfl) (fun _ => rfl) (fun _ => rfl) (fun _ => rfl) rfl rfl rfl rfl rfl) r9, fr_RP (key _ (fun _ _ => sRP_scr) (fun _ => rfl) (fun _ => rfl) (fun _ => rfl) (fun _ => rfl) (fun _ => rfl) (fun _ => rfl) rfl rfl rfl rfl rfl) r10, fr_RQ (key _ (fun _ _ => sRQ_scr) (fun _ => rfl) (fun _ => rfl) (fun _ => rfl) (fun _ => rfl) (fun _ => rfl) (fun _ => rfl) rfl rfl rfl rfl rfl) r11, fr_RY (key _ (fun _ _ => sRY_scr) (fun _ => rfl) (fun _ => rfl) (fun _ => rfl) (fun _ => rfl) (fun _ => rfl) (fun _ => rfl) rfl rfl rfl rfl rfl) r12, fr_RF (key _ (fun _ _ => sRF_scr) (fun _ => rfl) (fun _ => rfl) (fun _ => rfl) (fun _ => rfl) (fun _ => rfl) (fun _ => rfl) rfl rfl rfl rfl rfl) r13, fr_RK (key _ (fun _ _ => sRK_scr) (fun _ => rfl) (fun _ => rfl) (fun _ => rfl) (fun _ => rfl) (fun _ => rfl) (fun _ => rfl) rfl rfl rfl rfl rfl) r14⟩
