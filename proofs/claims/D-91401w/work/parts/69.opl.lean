/-! ===== pairs of methods: what lies over what, joined ===== -/
set_option maxRecDepth 100000
set_option maxHeartbeats 4000000
theorem over_eq {S : Mm} {m o A B : Nat} (x y : Nat) : (if x = 106 ∧ y = 12 then vI (o + 1 : Nat) else if x = 120 ∧ y = o then vI B else if x = 119 ∧ y = o then vI A else if x = 42 ∧ y = 14 then vI ((o : Int) + 1) else up (up (up S 49 m (vI A)) 50 m (vI B)) 42 13 (vI (m + 1 : Nat)) x y) = up (ovU S m o A B) 42 14 (vI ((o : Int) + 1)) x y := by
  unfold ovU
  by_cases q : x = 42 ∧ y = 14
  · rw [up_at (a := 42) (k := 14), if_pos q, if_pos q, if_neg (by omega), if_neg (by omega), if_neg (by omega)]
  · rw [ne_up q, if_neg q, up_at (a := 106), up_at (a := 120), up_at (a := 119)]
theorem over_ok {h : Nat → Cl} {c : Nat} {S T : Mm} {δ : Sg} {n m o j A B : Nat} (R : Rel h c S δ) (H : DtH S n m o j) (hm : m < 142) (ho : o < 60) (hA : A < n) (hB : B < n) (hac : ∀ u v, oN S o u v → ¬ TcN (rX S n m) v u) (hno : ¬ TcN (rX S n m) B A)
    (hy : ∃ y : Nat → Int, (∀ l, l < n → gi (ovU S m o A B) 117 l ≤ y l ∧ y l ≤ gi (ovU S m o A B) 118 l) ∧ ∀ a b, EdM (ovU S m o A B) (o + 1) j a b → y b ≤ y a)
    (hT : ∀ x y : Nat, scr x y = false → T x y = up (ovU S m o A B) 42 14 (vI ((o : Int) + 1)) x y) : Rel h (c + 1) T δ := by
  have rG := R.2.2.2.2.2.2.1
  have HU := ovU_H H hm (by omega : o < 61) hA hB
  have hacU := ovU_ac H hm (by omega : o < 61) hA hB hac hno
  have g : ∀ a k : Nat, ¬ (a = 42 ∧ k = 14) → gi (up (ovU S m o A B) 42 14 (vI ((o : Int) + 1))) a k = gi (ovU S m o A B) a k := fun a k q => by rw [gi_up, if_neg q]
  have g14 : gi (up (ovU S m o A B) 42 14 (vI ((o : Int) + 1))) 42 14 = (o : Int) + 1 := by rw [gi_up, if_pos ⟨rfl, rfl⟩, vi_vI, w32_id (by omega) (by omega)]
  have gU : ∀ a k : Nat, (a ≠ 49 ∧ a ≠ 50 ∧ a ≠ 119 ∧ a ≠ 120) → ¬ (a = 42 ∧ k = 13) → ¬ (a = 106 ∧ k = 12) → ovU S m o A B a k = S a k := fun a k q1 q2 q3 => by
    unfold ovU
    rw [ne_up q3, ne_up (by omega), ne_up (by omega), ne_up q2, ne_up (by omega), ne_up (by omega)]
  have RW : Rel h (c + 1) (up (ovU S m o A B) 42 14 (vI ((o : Int) + 1))) δ := by
    refine Rel_tell R (fun x y e q1 q2 q3 => ?_) ?_
    · rw [ne_up (by omega), gU x y ⟨q1.1, q1.2.1, q1.2.2.1, q1.2.2.2.1⟩ (by omega) (by omega)]
    · have HW : DtH (up (ovU S m o A B) 42 14 (vI ((o : Int) + 1))) n (m + 1) (o + 1) j := by
        unfold DtH eX eO eJ at HU ⊢
        simp (disch := omega) only [g] at HU ⊢
        exact HU
      have hacW : ∀ u v, oN (up (ovU S m o A B) 42 14 (vI ((o : Int) + 1))) (o + 1) u v → ¬ TcN (rX (up (ovU S m o A B) 42 14 (vI ((o : Int) + 1))) n (m + 1)) v u := by
        unfold oN rX uM vM aX bX at hacU ⊢
        simp (disch := omega) only [g] at hacU ⊢
        exact hacU
      obtain ⟨h1, h2, h3, h4, h5, h6, h7, h8, h9, h10, h11, h12, h13, h14⟩ := HW
      have g9' : gi (up (ovU S m o A B) 42 14 (vI ((o : Int) + 1))) 106 9 = gi S 106 9 := by
        rw [g _ _ (by omega)]
        exact congrArg b_vi (gU _ _ (by omega) (by omega) (by omega))
      have g15 : gi (up (ovU S m o A B) 42 14 (vI ((o : Int) + 1))) 42 15 = gi S 42 15 := by
        rw [g _ _ (by omega)]
        exact congrArg b_vi (gU _ _ (by omega) (by omega) (by omega))
      have g121 : ∀ k, gi (up (ovU S m o A B) 42 14 (vI ((o : Int) + 1))) 121 k = gi S 121 k ∧ gi (up (ovU S m o A B) 42 14 (vI ((o : Int) + 1))) 122 k = gi S 122 k := fun k => by
        rw [g _ _ (by omega), g _ _ (by omega)]
        exact ⟨congrArg b_vi (gU _ _ (by omega) (by omega) (by omega)), congrArg b_vi (gU _ _ (by omega) (by omega) (by omega))⟩
      have hj0 := H.2.2.2.2.2.2.2.1
      have hm0 := H.2.2.2.1
      have ho0 := H.2.2.2.2.2.1
      refine ⟨by rw [g14, h6]; omega, by rw [h6]; omega, by rw [g15, h8, rG.2.2.1, hj0], by rw [h8]; have := rG.2.2.2.1; omega, by rw [h4, h6, h8]; have := rG.2.2.2.2.1; omega, fun w hw => ?_, fun k hk => ?_, fun k hk => ?_, h14, ?_, ac_RG ⟨h1, h2, h3, h4, h5, h6, h7, h8, h9, h10, h11, h12, h13, h14⟩ hacW⟩
      · rw [h2]; exact h11 w (by omega)
      · rw [h2]; exact h12 k (by omega)
      · rw [(g121 k).1, (g121 k).2, g9']
        exact rG.2.2.2.2.2.2.2.1 k (by omega)
      · obtain ⟨y, y1, y2⟩ := hy
        refine ⟨y, fun l hl => ?_, fun a b hab => ?_⟩
        · rw [h2] at hl
          rw [g _ _ (by omega), g _ _ (by omega)]
          exact y1 l (by omega)
        · obtain ⟨w, w1, w2, w3⟩ := hab
          rw [g _ _ (by omega)] at w1 w2 w3
          have hw := HU.2.2.2.1
          refine y2 _ _ ((EdM_in HU).1 _ _ |>.mp ⟨w, by omega, ?_, ?_⟩)
          · unfold aX; rw [w2]
          · unfold bX; rw [w3]
  exact Rel_scr hT RW
theorem over_M {d n m o j A B : Nat} (hd : 2 ≤ d) {S : Mm} {δ : Sg} {r : Int} (H : DtH S n m o j) (ho : o < 61) (hA : A < n) (hB : B < n) (hre : ¬ TcN (rX S n m) B A)
    (a8 : ∀ T : Mm, agr sTD (ovU S m o A B) T → ∃ T1, b_M TT d 1018 [.ref 106] (ov T δ) = some (.inl (some (vI r)), ov T1 δ) ∧ agr sDm T T1 ∧ True) (SX : Mm) (hSX : ∀ x y : Nat, 106 ≤ x → SX x y = S x y) :
    ∃ T1 T3, b_M TT d 1016 [.ref 106] (ov (up SX 106 0 (vI 0)) δ) = some (.inl none, ov T1 δ) ∧ gi T1 139 (16 * B + A) = 0 ∧ gi T1 140 (16 * A + B) = 0 ∧ gi T1 106 12 = (o : Int) ∧ b_M TT d 1018 [.ref 106] (ov (up (up (up T1 119 o (vI A)) 120 o (vI B)) 106 12 (vI (o + 1 : Nat))) δ) = some (.inl (some (vI r)), ov T3 δ) ∧ gi T3 106 12 = ((o + 1 : Nat) : Int) ∧ ∀ x y : Nat, scr x y = false → T3 x y = (up (up (up SX 119 o (vI A)) 120 o (vI B)) 106 12 (vI (o + 1 : Nat))) x y := by
  obtain ⟨hE, hin⟩ := EdM_in H
  have w2 : w32 ((o + 1 : Nat) : Int) = (o + 1 : Nat) := w32_id (by omega) (by omega)
  have eo : gi S 106 12 = (o : Int) := H.2.2.2.2.2.1
  have sX : agr sTD S (up SX 106 0 (vI 0)) := by
    intro x y e
    simp only [sTD, Bool.or_eq_false_iff, Bool.and_eq_false_iff, decide_eq_false_iff_not] at e
    rw [ne_up (by omega), hSX x y (by omega)]
  obtain ⟨T1, y1, y2, y3, y4⟩ := lays_of (d := d) (by omega) (δ := δ) H sX
  have hT1 : ∀ x y : Nat, x ≠ 139 → x ≠ 140 → T1 x y = up SX 106 0 (vI 0) x y := fun x y q1 q2 => y2 x y (by unfold sLy; rw [decide_eq_false q1, decide_eq_false q2]; rfl)
  have sT : agr sTD (ovU S m o A B) (up (up (up T1 119 o (vI A)) 120 o (vI B)) 106 12 (vI (o + 1 : Nat))) := by
    intro x y e
    simp only [sTD, Bool.or_eq_false_iff, Bool.and_eq_false_iff, decide_eq_false_iff_not] at e
    unfold ovU
    rw [up_at, up_at, up_at, up_at, up_at, up_at, ne_up (by omega) (a := 42), ne_up (by omega) (a := 50), ne_up (by omega) (a := 49), hT1 x y (by omega) (by omega), ne_up (by omega), hSX x y (by omega)]
  obtain ⟨T3, b1, b2, b3⟩ := a8 _ sT
  have hT3 : ∀ x y : Nat, x ≠ 137 → x ≠ 138 → T3 x y = up (up (up T1 119 o (vI A)) 120 o (vI B)) 106 12 (vI (o + 1 : Nat)) x y := fun x y q1 q2 => b2 x y (by unfold sDm; rw [decide_eq_false q1, decide_eq_false q2]; rfl)
  refine ⟨T1, T3, y1, ?_, ?_, ?_, b1, ?_, fun x y e => ?_⟩
  · rcases y4 B A hB hA with ⟨_, q⟩ | ⟨q, _⟩
    · exact absurd ((reach_iff hE hin).mpr (Or.inl q)) hre
    · exact q
  · rcases y3 A B hA hB with ⟨_, q⟩ | ⟨q, _⟩
    · exact absurd ((reach_iff hE hin).mpr (Or.inr (one_sym q))) hre
    · exact q
  · show b_vi (T1 106 12) = _
    rw [hT1 106 12 (by omega) (by omega), ne_up (by omega), hSX 106 12 (by omega)]
    show gi S 106 12 = _
    omega
  · show b_vi (T3 106 12) = _
    rw [hT3 106 12 (by omega) (by omega), up_at, if_pos ⟨rfl, rfl⟩]; exact w2
  · have n1 : x ≠ 137 ∧ x ≠ 138 ∧ x ≠ 139 ∧ x ≠ 140 := by
      refine ⟨?_, ?_, ?_, ?_⟩ <;> (rintro rfl; cases e)
    have n2 : ¬ (x = 106 ∧ y = 0) := by
      rintro ⟨rfl, rfl⟩; cases e
    rw [hT3 x y n1.1 n1.2.1, up_at, up_at, up_at, up_at, up_at, up_at, hT1 x y n1.2.2.1 n1.2.2.2, ne_up n2]
theorem over_fail {h : Nat → Cl} {c : Nat} {S S2 : Mm} {δ : Sg} {m o A B : Nat} (R : Rel h c S δ) (em : gi S 42 13 = (m : Int)) (eo : gi S 106 12 = (o : Int)) (hm : m < 142) (ho : o < 61) (hS2s : ∀ x y : Nat, scr x y = false → S2 x y = up (up (up S 49 m (vI A)) 50 m (vI B)) 42 13 (vI (m + 1 : Nat)) x y)
    (TM : Mm) (hTM : ∀ x y : Nat, scr x y = false → TM x y = up (up (up (up (up S2 42 13 (vI m)) 119 o (vI A)) 120 o (vI B)) 106 12 (vI (o + 1 : Nat))) 106 12 (vI o) x y) : Rel h (c + 1) TM δ := by
  have rG := R.2.2.2.2.2.2.1
  have g : ∀ x y : Nat, scr x y = false → (x ≠ 49 ∨ y ≠ m) → (x ≠ 50 ∨ y ≠ m) → (x ≠ 119 ∨ y ≠ o) → (x ≠ 120 ∨ y ≠ o) → ¬ (x = 42 ∧ y = 13) → ¬ (x = 106 ∧ y = 12) → TM x y = S x y := by
    intro x y e q1 q2 q3 q4 q5 q6
    rw [hTM x y e, ne_up q6, ne_up q6, ne_up (by omega), ne_up (by omega), ne_up q5, hS2s x y e, ne_up q5, ne_up (by omega), ne_up (by omega)]
  have gI : ∀ x y : Nat, scr x y = false → (x ≠ 49 ∨ y ≠ m) → (x ≠ 50 ∨ y ≠ m) → (x ≠ 119 ∨ y ≠ o) → (x ≠ 120 ∨ y ≠ o) → ¬ (x = 42 ∧ y = 13) → ¬ (x = 106 ∧ y = 12) → gi TM x y = gi S x y := fun x y e q1 q2 q3 q4 q5 q6 => congrArg b_vi (g x y e q1 q2 q3 q4 q5 q6)
  refine Rel_tell R (fun x y e q1 q2 q3 => g x y e (by omega) (by omega) (by omega) (by omega) (by omega) (by omega)) ?_
  refine RG_tail rG ?_ (gI _ _ rfl (by omega) (by omega) (by omega) (by omega) (by omega) (by omega)) (gI _ _ rfl (by omega) (by omega) (by omega) (by omega) (by omega) (by omega)) (gI _ _ rfl (by omega) (by omega) (by omega) (by omega) (by omega) (by omega)) (gI _ _ rfl (by omega) (by omega) (by omega) (by omega) (by omega) (by omega)) ?_ (gI _ _ rfl (by omega) (by omega) (by omega) (by omega) (by omega) (by omega))
    (fun w hw => ⟨gI _ _ rfl (by omega) (by omega) (by omega) (by omega) (by omega) (by omega), gI _ _ rfl (by omega) (by omega) (by omega) (by omega) (by omega) (by omega)⟩) (fun w hw => ⟨gI _ _ rfl (by omega) (by omega) (by omega) (by omega) (by omega) (by omega), gI _ _ rfl (by omega) (by omega) (by omega) (by omega) (by omega) (by omega)⟩) (fun w hw => ⟨gI _ _ rfl (by omega) (by omega) (by omega) (by omega) (by omega) (by omega), gI _ _ rfl (by omega) (by omega) (by omega) (by omega) (by omega) (by omega)⟩) (fun k => ⟨gI _ _ rfl (by omega) (by omega) (by omega) (by omega) (by omega) (by omega), gI _ _ rfl (by omega) (by omega) (by omega) (by omega) (by omega) (by omega), gI _ _ rfl (by omega) (by omega) (by omega) (by omega) (by omega) (by omega)⟩)
  · show b_vi (TM 42 13) = _
    rw [hTM 42 13 rfl, ne_up (by omega), ne_up (by omega), ne_up (by omega), ne_up (by omega), up_at, if_pos ⟨rfl, rfl⟩, vi_vI, w32_id (by omega) (by omega)]
    omega
  · show b_vi (TM 106 12) = _
    rw [hTM 106 12 rfl, up_at, if_pos ⟨rfl, rfl⟩, vi_vI, w32_id (by omega) (by omega)]
    omega
theorem op_over {h : Nat → Cl} {c d : Nat} {S : Mm} {δ : Sg} (hd : 8 ≤ d) {a b : Int} (ha : (-2147483648 ≤ a ∧ a ≤ 2147483647)) (hb : (-2147483648 ≤ b ∧ b ≤ 2147483647)) (R : Rel h c S δ) : OpR h c d S δ 1216 1014 [vI a, vI b] := by
  have r5 := R.2.2.2.2.1
  have hn5 := r5.2.1
  by_cases hp : (0 ≤ a ∧ a < gi S 106 8) ∧ (0 ≤ b ∧ b < gi S 106 8) ∧ a ≠ b
  · obtain ⟨p1, p2, p3⟩ := hp
    have H := DtH_of R
    have rG := R.2.2.2.2.2.2.1
    have hac := RG_ac H rG.2.2.2.2.2.2.2.2.2.2
    have hm0 := rG.2.2.2.2.1
    have ho0 := rG.2.1
    have hj0 := rG.2.2.2.1
    have hx0 := rG.1
    obtain ⟨n, en⟩ : ∃ n : Nat, n = (gi S 106 8).toNat := ⟨_, rfl⟩
    obtain ⟨m, em⟩ : ∃ m : Nat, m = (gi S 42 13).toNat := ⟨_, rfl⟩
    obtain ⟨o, eo⟩ : ∃ o : Nat, o = (gi S 106 12).toNat := ⟨_, rfl⟩
    obtain ⟨j, ej⟩ : ∃ j : Nat, j = (gi S 106 13).toNat := ⟨_, rfl⟩
    rw [← en, ← em, ← eo, ← ej] at H
    rw [← en, ← em, ← eo] at hac
    obtain ⟨A, rfl⟩ : ∃ A : Nat, a = A := ⟨a.toNat, by omega⟩
    obtain ⟨B, rfl⟩ : ∃ B : Nat, b = B := ⟨b.toNat, by omega⟩
    have hA : A < n := by omega
    have hB : B < n := by omega
    obtain ⟨hE, hin⟩ := EdM_in H
    obtain ⟨S1, x1, x2, x3⟩ := goes_of (d := d - 1) (by omega) (δ := δ) H
    have sS1 : agr sTD S S1 := sTD_rc x2
    by_cases hre : TcN (rX S n m) B A
    · -- it lies the other way round
      obtain ⟨T1, y1, y2, y3, y4⟩ := lays_of (d := d - 1) (by omega) (T := up S1 106 0 (vI 0)) (δ := δ) H (agr_up sS1 rfl)
      refine OpR_ask (r := -7) (S1 := S1) (S2 := T1) R ?_ ?_ (scr_rc x2) (agr_trans agr_th (scr_ly y2))
      · have q1 : gi S1 (54 + B) A = 1 := by
          rcases x3 B A hB hA with ⟨q, _⟩ | ⟨_, q⟩
          · exact q
          · exact absurd hre q
        (obtain ⟨d, rfl⟩ : ∃ k, d = k + 1 := ⟨d - 1, by omega⟩); rw [b_M_succ]; rw [show d + 1 - 1 = d from rfl] at x1
        simp (disch := first | assumption | omega | exact b2_01d | decide | (simp (disch := omega) only [tg_42, vc_42_18, tg_53, ln_53, vr_53, tgs_54, lns_54, ias_54, pts_54, ia_42_14, pt_42_14, ia_42_13, pt_42_13, w32_id, w32_gi, w32_w32, w32_b2, Int.toNat_natCast, gi_up, vi_vI, tgd, lnd, and_true, true_and, and_false, false_and, Nat.reduceLeDiff, Nat.reduceLT, ↓reduceIte, b_c1I, b_c1R, b_c1N, cs_0, cs_nil, cs_I, cs_L, cs_R, cs_N] <;> omega) | fail) only [vI_def, vI_sx8, vI_sx16, sx8_sx8, sx16_sx16, w32_sx8, w32_sx16, xci_ex, xv_ex, lk_21, lk_22, lk_2, tgd, lnd, vld, iad, lad, ptd, std, nw_ov, bump_ov, ov_1, cv_ret, cu_ret, cv_thr, cu_thr, th_eq, ent_nil, ent_I, ent_L, ent_R, ent_N, List.tail_cons, List.tail_nil, w32_gi, w32_w32, w32_b2, b2_eq0, b2_eq1, b2_ne0, b2_01, w64_gi, w64_gl, w64_w32, w64_w64, vI_w32, vL_w64, gi_up, gl_up, vi_vI, vlg_vL, swt_nil, swt_cons, F_ite, and_true, true_and, and_false, false_and, and_self, or_true, true_or, or_false, false_or, not_true_eq_false, not_false_eq_true, b_c1I, b_c1R, b_c1N, cs_0, w32_lc, lc_lt, lc_gt, lc_le, lc_ge, lc_eq, w32_id, w64_id, eq_self, Nat.reduceEqDiff, Nat.reduceLeDiff, Nat.reduceAdd, Nat.reduceMul, Int.reduceLT, Int.reduceLE, Int.reduceEq, Int.reduceNeg, Int.reduceAdd, Int.reduceSub, Int.reduceMul, Int.reduceToNat, Int.toNat_natCast, nc_lit, Int.add_sub_cancel, Int.tmod_eq_emod_of_nonneg, Int.tdiv_eq_ediv_of_nonneg, Int.natCast_add, Int.natCast_mul, if_pos, if_neg, ↓reduceIte, e1216_0, e1216_1, e1216_2, e1216_5, e1216_8, e1216_9, e1216_10, e1216_13, e1216_16, e1216_17, e1216_18, e1216_21, e1216_23, e1216_24, e1216_25, e1216_28, e1216_29, e1216_32, e1216_33, e1216_34, e1216_35, e1216_36, e1216_39, e1216_41, e1216_42, e1216_43, e1216_46, e1216_48, e1216_51, e1216_52, e1216_53, e1216_54, e1216_57, e1216_58, e1216_61, e1216_62, e1216_63, e1216_64, e1216_67, e1216_68, e1216_69, e1216_72, e1216_73, e1216_76, e1216_78, e1216_81, e1216_83, e1216_84, e1216_85, e1216_86, e1216_87, e1216_90, e1216_91, e1216_94, e1216_97, e1216_98, e1216_99, e1216_102, e1216_103, e1216_104, e1216_107, e1216_109, e1216_110, e1216_111, e1216_112, e1216_115, e1216_116, e1216_117, e1216_120, e1216_121, tg_42, vc_42_18, tg_53, ln_53, vr_53, tgs_54, lns_54, ias_54, pts_54, ia_42_14, pt_42_14, ia_42_13, pt_42_13, X_isLayer, r5.1, p1, p2, p3, x1, q1]
      · have hn1 : gi S1 106 8 = gi S 106 8 := agr_gi x2 rfl
        have ix1 : (16 * (B : Int) + A).toNat = 16 * B + A := by omega
        have ix2 : (16 * (A : Int) + B).toNat = 16 * A + B := by omega
        (obtain ⟨d, rfl⟩ : ∃ k, d = k + 1 := ⟨d - 1, by omega⟩); rw [b_M_succ]; rw [show d + 1 - 1 = d from rfl] at y1
        rcases y4 B A hB hA with ⟨q, _⟩ | ⟨q, q2⟩
        · have q' : gi T1 139 (16 * B + A) = 1 := q
          simp (disch := first | assumption | omega | exact b2_01d | decide | (simp (disch := omega) only [tg_106, ia_106_0, pt_106_0, vc_106_45, tg_139, ln_139, ia_139, pt_139, vc_106_46, tg_140, ln_140, ia_140, pt_140, ia_106_12, pt_106_12, vc_106_22, tg_119, ln_119, ia_119, pt_119, vc_106_23, tg_120, ln_120, ia_120, pt_120, w32_id, w32_gi, w32_w32, w32_b2, Int.toNat_natCast, gi_up, vi_vI, tgd, lnd, and_true, true_and, and_false, false_and, Nat.reduceLeDiff, Nat.reduceLT, ↓reduceIte, b_c1I, b_c1R, b_c1N, cs_0, cs_nil, cs_I, cs_L, cs_R, cs_N] <;> omega) | fail) only [vI_def, vI_sx8, vI_sx16, sx8_sx8, sx16_sx16, w32_sx8, w32_sx16, xci_ex, xv_ex, lk_21, lk_22, lk_2, tgd, lnd, vld, iad, lad, ptd, std, nw_ov, bump_ov, ov_1, cv_ret, cu_ret, cv_thr, cu_thr, th_eq, ent_nil, ent_I, ent_L, ent_R, ent_N, List.tail_cons, List.tail_nil, w32_gi, w32_w32, w32_b2, b2_eq0, b2_eq1, b2_ne0, b2_01, w64_gi, w64_gl, w64_w32, w64_w64, vI_w32, vL_w64, gi_up, gl_up, vi_vI, vlg_vL, swt_nil, swt_cons, F_ite, and_true, true_and, and_false, false_and, and_self, or_true, true_or, or_false, false_or, not_true_eq_false, not_false_eq_true, b_c1I, b_c1R, b_c1N, cs_0, w32_lc, lc_lt, lc_gt, lc_le, lc_ge, lc_eq, w32_id, w64_id, eq_self, Nat.reduceEqDiff, Nat.reduceLeDiff, Nat.reduceAdd, Nat.reduceMul, Int.reduceLT, Int.reduceLE, Int.reduceEq, Int.reduceNeg, Int.reduceAdd, Int.reduceSub, Int.reduceMul, Int.reduceToNat, Int.toNat_natCast, nc_lit, Int.add_sub_cancel, Int.tmod_eq_emod_of_nonneg, Int.tdiv_eq_ediv_of_nonneg, Int.natCast_add, Int.natCast_mul, if_pos, if_neg, ↓reduceIte, e1014_0, e1014_1, e1014_2, e1014_5, e1014_6, e1014_7, e1014_10, e1014_13, e1014_14, e1014_15, e1014_18, e1014_21, e1014_22, e1014_23, e1014_26, e1014_28, e1014_29, e1014_30, e1014_33, e1014_34, e1014_37, e1014_39, e1014_40, e1014_41, e1014_42, e1014_43, e1014_44, e1014_47, e1014_48, e1014_51, e1014_53, e1014_54, e1014_55, e1014_56, e1014_57, e1014_58, e1014_61, e1014_63, e1014_64, e1014_65, e1014_68, e1014_70, e1014_73, e1014_74, e1014_77, e1014_78, e1014_79, e1014_80, e1014_83, e1014_84, e1014_87, e1014_88, e1014_89, e1014_90, e1014_93, e1014_94, e1014_97, e1014_98, e1014_99, e1014_100, e1014_101, e1014_104, e1014_105, e1014_106, e1014_109, e1014_110, e1014_113, e1014_115, e1014_117, e1014_120, e1014_121, e1014_124, e1014_125, e1014_126, e1014_129, e1014_130, e1014_131, e1014_134, e1014_136, e1014_139, e1014_141, e1014_144, e1014_145, e1014_148, e1014_150, e1014_153, e1014_154, tg_106, ia_106_0, pt_106_0, vc_106_45, tg_139, ln_139, ia_139, pt_139, vc_106_46, tg_140, ln_140, ia_140, pt_140, ia_106_12, pt_106_12, vc_106_22, tg_119, ln_119, ia_119, pt_119, vc_106_23, tg_120, ln_120, ia_120, pt_120, M_isLayer, hn1, p1, p2, p3, y1, ix1, ix2, q']
        · have q' : gi T1 139 (16 * B + A) = 0 := q
          have q3 : gi T1 140 (16 * A + B) = 1 := by
            rcases (reach_iff hE hin).mp hre with z | z
            · exact absurd z q2
            · rcases y3 A B hA hB with ⟨w, _⟩ | ⟨_, w⟩
              · exact w
              · exact absurd (one_sym z) w
          simp (disch := first | assumption | omega | exact b2_01d | decide | (simp (disch := omega) only [tg_106, ia_106_0, pt_106_0, vc_106_45, tg_139, ln_139, ia_139, pt_139, vc_106_46, tg_140, ln_140, ia_140, pt_140, ia_106_12, pt_106_12, vc_106_22, tg_119, ln_119, ia_119, pt_119, vc_106_23, tg_120, ln_120, ia_120, pt_120, w32_id, w32_gi, w32_w32, w32_b2, Int.toNat_natCast, gi_up, vi_vI, tgd, lnd, and_true, true_and, and_false, false_and, Nat.reduceLeDiff, Nat.reduceLT, ↓reduceIte, b_c1I, b_c1R, b_c1N, cs_0, cs_nil, cs_I, cs_L, cs_R, cs_N] <;> omega) | fail) only [vI_def, vI_sx8, vI_sx16, sx8_sx8, sx16_sx16, w32_sx8, w32_sx16, xci_ex, xv_ex, lk_21, lk_22, lk_2, tgd, lnd, vld, iad, lad, ptd, std, nw_ov, bump_ov, ov_1, cv_ret, cu_ret, cv_thr, cu_thr, th_eq, ent_nil, ent_I, ent_L, ent_R, ent_N, List.tail_cons, List.tail_nil, w32_gi, w32_w32, w32_b2, b2_eq0, b2_eq1, b2_ne0, b2_01, w64_gi, w64_gl, w64_w32, w64_w64, vI_w32, vL_w64, gi_up, gl_up, vi_vI, vlg_vL, swt_nil, swt_cons, F_ite, and_true, true_and, and_false, false_and, and_self, or_true, true_or, or_false, false_or, not_true_eq_false, not_false_eq_true, b_c1I, b_c1R, b_c1N, cs_0, w32_lc, lc_lt, lc_gt, lc_le, lc_ge, lc_eq, w32_id, w64_id, eq_self, Nat.reduceEqDiff, Nat.reduceLeDiff, Nat.reduceAdd, Nat.reduceMul, Int.reduceLT, Int.reduceLE, Int.reduceEq, Int.reduceNeg, Int.reduceAdd, Int.reduceSub, Int.reduceMul, Int.reduceToNat, Int.toNat_natCast, nc_lit, Int.add_sub_cancel, Int.tmod_eq_emod_of_nonneg, Int.tdiv_eq_ediv_of_nonneg, Int.natCast_add, Int.natCast_mul, if_pos, if_neg, ↓reduceIte, e1014_0, e1014_1, e1014_2, e1014_5, e1014_6, e1014_7, e1014_10, e1014_13, e1014_14, e1014_15, e1014_18, e1014_21, e1014_22, e1014_23, e1014_26, e1014_28, e1014_29, e1014_30, e1014_33, e1014_34, e1014_37, e1014_39, e1014_40, e1014_41, e1014_42, e1014_43, e1014_44, e1014_47, e1014_48, e1014_51, e1014_53, e1014_54, e1014_55, e1014_56, e1014_57, e1014_58, e1014_61, e1014_63, e1014_64, e1014_65, e1014_68, e1014_70, e1014_73, e1014_74, e1014_77, e1014_78, e1014_79, e1014_80, e1014_83, e1014_84, e1014_87, e1014_88, e1014_89, e1014_90, e1014_93, e1014_94, e1014_97, e1014_98, e1014_99, e1014_100, e1014_101, e1014_104, e1014_105, e1014_106, e1014_109, e1014_110, e1014_113, e1014_115, e1014_117, e1014_120, e1014_121, e1014_124, e1014_125, e1014_126, e1014_129, e1014_130, e1014_131, e1014_134, e1014_136, e1014_139, e1014_141, e1014_144, e1014_145, e1014_148, e1014_150, e1014_153, e1014_154, tg_106, ia_106_0, pt_106_0, vc_106_45, tg_139, ln_139, ia_139, pt_139, vc_106_46, tg_140, ln_140, ia_140, pt_140, ia_106_12, pt_106_12, vc_106_22, tg_119, ln_119, ia_119, pt_119, vc_106_23, tg_120, ln_120, ia_120, pt_120, M_isLayer, hn1, p1, p2, p3, y1, ix1, ix2, q', q3]
    · -- it may be told
      have HU := ovU_H H (show m < 142 by omega) (show o < 61 by omega) hA hB
      have hS1 : ∀ x y : Nat, x < 54 ∨ 70 ≤ x → S1 x y = S x y := fun x y q => x2 x y (by unfold sRc; rcases q with q | q; rw [decide_eq_false (show ¬ 54 ≤ x by omega)]; rfl; rw [decide_eq_false (show ¬ x < 70 by omega), Bool.and_false])
      have gS1 : ∀ x y : Nat, x < 54 ∨ 70 ≤ x → gi S1 x y = gi S x y := fun x y q => by unfold gi; rw [hS1 x y q]
      have hV : agr sVD (ovU S m o A B) (up (up (up S1 49 m (vI A)) 50 m (vI B)) 42 13 (vI (m + 1 : Nat))) := by
        intro x y e
        simp only [sVD, Bool.or_eq_false_iff, Bool.and_eq_false_iff, decide_eq_false_iff_not] at e
        unfold ovU
        rw [ne_up (by omega) (a := 106), ne_up (by omega) (a := 120), ne_up (by omega) (a := 119), up_at, up_at, up_at, up_at, up_at, up_at, hS1 x y (by omega)]
      obtain ⟨S2, r, a1, a2, a3, a4, a5, a6, a7, a8⟩ := dates_both (d := d - 1) (by omega) (δ := δ) HU hV
      have hS2 : ∀ x y : Nat, x ≠ 51 → x ≠ 52 → S2 x y = (up (up (up S1 49 m (vI A)) 50 m (vI B)) 42 13 (vI (m + 1 : Nat))) x y := fun x y q1 q2 => a2 x y (by unfold sDt; rw [decide_eq_false q1, decide_eq_false q2]; rfl)
      have w1 : w32 ((m + 1 : Nat) : Int) = (m + 1 : Nat) := w32_id (by omega) (by omega)
      have w2 : w32 ((o + 1 : Nat) : Int) = (o + 1 : Nat) := w32_id (by omega) (by omega)
      have em' : gi S1 42 13 = (m : Int) := (gS1 42 13 (by omega)).trans (by omega)
      have eo' : gi S1 42 14 = (o : Int) := (gS1 42 14 (by omega)).trans (by omega)
      have f13 : gi S2 42 13 = ((m + 1 : Nat) : Int) := by
        show b_vi (S2 42 13) = _
        rw [hS2 42 13 (by omega) (by omega), up_at, if_pos ⟨rfl, rfl⟩]; exact w1
      have f14 : gi S2 42 14 = (o : Int) := by
        show b_vi (S2 42 14) = _
        rw [hS2 42 14 (by omega) (by omega), ne_up (by omega), ne_up (by omega), ne_up (by omega)]; exact eo'
      have hq1 : gi S1 (54 + B) A = 0 := by
        rcases x3 B A hB hA with ⟨_, q⟩ | ⟨q, _⟩
        · exact absurd q hre
        · exact q
      -- the model, after the component whatever it left behind
      have M := fun (SX : Mm) (hSX : ∀ x y : Nat, 106 ≤ x → SX x y = S x y) => over_M (d := d - 1) (by omega) (δ := δ) (r := r) H (by omega) hA hB hre (fun T hT => by
        obtain ⟨T1, b1, b2, _⟩ := a8 T hT
        exact ⟨T1, b1, b2, trivial⟩) SX hSX
      have hS2s : ∀ x y : Nat, scr x y = false → S2 x y = up (up (up S 49 m (vI A)) 50 m (vI B)) 42 13 (vI (m + 1 : Nat)) x y := by
        intro x y e
        have n1 : x ≠ 51 ∧ x ≠ 52 := by
          refine ⟨?_, ?_⟩ <;> (rintro rfl; cases e)
        have n3 : x < 54 ∨ 70 ≤ x := by
          refine Classical.byContradiction fun z => ?_
          have this : (if 54 ≤ x ∧ x < 70 then vI 1 else Value.null) = Value.null := scr_rc (S := fun _ _ => .null) (S' := fun a _ => if 54 ≤ a ∧ a < 70 then vI 1 else .null) (fun a k q => by
            simp only [sRc, Bool.and_eq_false_iff, decide_eq_false_iff_not] at q
            exact if_neg (by omega)) x y e
          rw [if_pos (by omega)] at this
          cases this
        rw [hS2 x y n1.1 n1.2, up_at, up_at, up_at, up_at, up_at, up_at, hS1 x y n3]
      have hS2m : ∀ x y : Nat, 106 ≤ x → S2 x y = S x y := fun x y q => by
        rw [hS2 x y (by omega) (by omega), ne_up (by omega), ne_up (by omega), ne_up (by omega), hS1 x y (by omega)]
      have ix1 : (16 * (B : Int) + A).toNat = 16 * B + A := by omega
      have ix2 : (16 * (A : Int) + B).toNat = 16 * A + B := by omega
      have hnn : gi S 106 8 = (n : Int) := by omega
      have hnx : gi S 42 8 = (n : Int) := by rw [r5.1]; exact hnn
      -- what fails leaves all as it was
      have failR := fun (TM : Mm) (hTM : ∀ x y : Nat, scr x y = false → TM x y = up (up (up (up (up S2 42 13 (vI m)) 119 o (vI A)) 120 o (vI B)) 106 12 (vI (o + 1 : Nat))) 106 12 (vI o) x y) => over_fail R (by omega) (by omega) (by omega) (by omega) hS2s TM hTM
      have a1' : ∀ x, b_M TT (d - 1) 1219 [.ref 42] (ov (up (up (up S1 49 m (vI A)) 50 m (vI B)) 42 13 (vI ((m : Int) + 1))) x) = b_M TT (d - 1) 1219 [.ref 42] (ov (up (up (up S1 49 m (vI A)) 50 m (vI B)) 42 13 (vI (m + 1 : Nat))) x) := fun x => rfl
      have a1'' := (a1' δ).trans a1
      by_cases hf : o = 60 ∨ r = 0
      · -- none more, or they do not go together
        obtain ⟨T1, T3, y1, y2, y3, y4, y5, y6, y7⟩ := M (up S2 42 13 (vI m)) (fun x y q => by rw [ne_up (by omega)]; exact hS2m x y q)
        have hn1 : gi (up S2 42 13 (vI m)) 106 8 = (n : Int) := by
          rw [gi_up, if_neg (by omega)]
          show b_vi (S2 106 8) = _
          rw [hS2m _ _ (by omega)]; exact hnn
        have hd1 : d = (d - 1) + 1 := by omega
        obtain ⟨k1, k2, _⟩ := X_overF (d := d - 1) (by omega) hnx (by omega) hA hB p3 x1 hq1 em' (by omega) eo' (by omega) a1'' f13 f14
        obtain ⟨l1, l2, _⟩ := M_overF (d := d - 1) (by omega) hn1 (by omega) hA hB p3 y1 y2 y3 y4 (by omega) y5 y6
        rw [← hd1] at k1 k2 l1 l2
        have hfin : Rel h (c + 1) (up T3 106 12 (vI o)) δ := failR _ fun x y e => by
          rw [up_at, up_at (a := 106)]
          by_cases q : x = 106 ∧ y = 12
          · rw [if_pos q, if_pos q]
          · rw [if_neg q, if_neg q, y7 x y e]
        rcases a3 with hr | hr
        · exact ⟨-7, _, δ, _, k2 hr, l2 hr, hfin⟩
        · have h60 : o = 60 := by omega
          exact ⟨-3, _, δ, _, k1 h60 hr, l1 h60 hr, hfin⟩
      · have h60 : o ≠ 60 := fun z => hf (Or.inl z)
        have hr : r = 1 := by
          rcases a3 with z | z
          · exact absurd (Or.inr z) hf
          · exact z
        obtain ⟨T1, T3, y1, y2, y3, y4, y5, y6, y7⟩ := M (up S2 42 14 (vI ((o : Int) + 1))) (fun x y q => by rw [ne_up (by omega)]; exact hS2m x y q)
        have hn1 : gi (up S2 42 14 (vI ((o : Int) + 1))) 106 8 = (n : Int) := by
          rw [gi_up, if_neg (by omega)]
          show b_vi (S2 106 8) = _
          rw [hS2m _ _ (by omega)]; exact hnn
        have hd1 : d = (d - 1) + 1 := by omega
        obtain ⟨_, _, k3⟩ := X_overF (d := d - 1) (by omega) hnx (by omega) hA hB p3 x1 hq1 em' (by omega) eo' (by omega) a1'' f13 f14
        obtain ⟨_, _, l3⟩ := M_overF (d := d - 1) (by omega) hn1 (by omega) hA hB p3 y1 y2 y3 y4 (by omega) y5 y6
        rw [← hd1] at k3 l3
        refine ⟨0, _, δ, _, k3 h60 hr, l3 h60 hr, over_ok R H (by omega) (by omega) hA hB hac hre (a4.mp hr) fun x y e => ?_⟩
        rw [y7 x y e, up_at, up_at, up_at, up_at, hS2s x y e]
        exact over_eq x y
  · refine OpR_ask (r := -2) (S1 := S) (S2 := up S 106 0 (vI 0)) R ?_ ?_ agr_refl agr_th
    · (obtain ⟨d, rfl⟩ : ∃ k, d = k + 1 := ⟨d - 1, by omega⟩); rw [b_M_succ]; simp (disch := first | assumption | omega | exact b2_01d | decide | (simp (disch := omega) only [tg_42, vc_42_18, tg_53, ln_53, vr_53, tgs_54, lns_54, ias_54, pts_54, ia_42_14, pt_42_14, ia_42_13, pt_42_13, w32_id, w32_gi, w32_w32, w32_b2, Int.toNat_natCast, gi_up, vi_vI, tgd, lnd, and_true, true_and, and_false, false_and, Nat.reduceLeDiff, Nat.reduceLT, ↓reduceIte, b_c1I, b_c1R, b_c1N, cs_0, cs_nil, cs_I, cs_L, cs_R, cs_N] <;> omega) | fail) only [vI_def, vI_sx8, vI_sx16, sx8_sx8, sx16_sx16, w32_sx8, w32_sx16, xci_ex, xv_ex, lk_21, lk_22, lk_2, tgd, lnd, vld, iad, lad, ptd, std, nw_ov, bump_ov, ov_1, cv_ret, cu_ret, cv_thr, cu_thr, th_eq, ent_nil, ent_I, ent_L, ent_R, ent_N, List.tail_cons, List.tail_nil, w32_gi, w32_w32, w32_b2, b2_eq0, b2_eq1, b2_ne0, b2_01, w64_gi, w64_gl, w64_w32, w64_w64, vI_w32, vL_w64, gi_up, gl_up, vi_vI, vlg_vL, swt_nil, swt_cons, F_ite, and_true, true_and, and_false, false_and, and_self, or_true, true_or, or_false, false_or, not_true_eq_false, not_false_eq_true, b_c1I, b_c1R, b_c1N, cs_0, w32_lc, lc_lt, lc_gt, lc_le, lc_ge, lc_eq, w32_id, w64_id, eq_self, Nat.reduceEqDiff, Nat.reduceLeDiff, Nat.reduceAdd, Nat.reduceMul, Int.reduceLT, Int.reduceLE, Int.reduceEq, Int.reduceNeg, Int.reduceAdd, Int.reduceSub, Int.reduceMul, Int.reduceToNat, Int.toNat_natCast, nc_lit, Int.add_sub_cancel, Int.tmod_eq_emod_of_nonneg, Int.tdiv_eq_ediv_of_nonneg, Int.natCast_add, Int.natCast_mul, if_pos, if_neg, ↓reduceIte, e1216_0, e1216_1, e1216_2, e1216_5, e1216_8, e1216_9, e1216_10, e1216_13, e1216_16, e1216_17, e1216_18, e1216_21, e1216_23, e1216_24, e1216_25, e1216_28, e1216_29, e1216_32, e1216_33, e1216_34, e1216_35, e1216_36, e1216_39, e1216_41, e1216_42, e1216_43, e1216_46, e1216_48, e1216_51, e1216_52, e1216_53, e1216_54, e1216_57, e1216_58, e1216_61, e1216_62, e1216_63, e1216_64, e1216_67, e1216_68, e1216_69, e1216_72, e1216_73, e1216_76, e1216_78, e1216_81, e1216_83, e1216_84, e1216_85, e1216_86, e1216_87, e1216_90, e1216_91, e1216_94, e1216_97, e1216_98, e1216_99, e1216_102, e1216_103, e1216_104, e1216_107, e1216_109, e1216_110, e1216_111, e1216_112, e1216_115, e1216_116, e1216_117, e1216_120, e1216_121, tg_42, vc_42_18, tg_53, ln_53, vr_53, tgs_54, lns_54, ias_54, pts_54, ia_42_14, pt_42_14, ia_42_13, pt_42_13, X_isLayer, r5.1]
      all_goals ((repeat' split) <;> first | with_reducible rfl | (exfalso; omega) | (rw [b2_t (by omega)]) | (rw [b2_f (by omega)]) | rfl)
    · (obtain ⟨d, rfl⟩ : ∃ k, d = k + 1 := ⟨d - 1, by omega⟩); rw [b_M_succ]; simp (disch := first | assumption | omega | exact b2_01d | decide | (simp (disch := omega) only [tg_106, ia_106_0, pt_106_0, vc_106_45, tg_139, ln_139, ia_139, pt_139, vc_106_46, tg_140, ln_140, ia_140, pt_140, ia_106_12, pt_106_12, vc_106_22, tg_119, ln_119, ia_119, pt_119, vc_106_23, tg_120, ln_120, ia_120, pt_120, w32_id, w32_gi, w32_w32, w32_b2, Int.toNat_natCast, gi_up, vi_vI, tgd, lnd, and_true, true_and, and_false, false_and, Nat.reduceLeDiff, Nat.reduceLT, ↓reduceIte, b_c1I, b_c1R, b_c1N, cs_0, cs_nil, cs_I, cs_L, cs_R, cs_N] <;> omega) | fail) only [vI_def, vI_sx8, vI_sx16, sx8_sx8, sx16_sx16, w32_sx8, w32_sx16, xci_ex, xv_ex, lk_21, lk_22, lk_2, tgd, lnd, vld, iad, lad, ptd, std, nw_ov, bump_ov, ov_1, cv_ret, cu_ret, cv_thr, cu_thr, th_eq, ent_nil, ent_I, ent_L, ent_R, ent_N, List.tail_cons, List.tail_nil, w32_gi, w32_w32, w32_b2, b2_eq0, b2_eq1, b2_ne0, b2_01, w64_gi, w64_gl, w64_w32, w64_w64, vI_w32, vL_w64, gi_up, gl_up, vi_vI, vlg_vL, swt_nil, swt_cons, F_ite, and_true, true_and, and_false, false_and, and_self, or_true, true_or, or_false, false_or, not_true_eq_false, not_false_eq_true, b_c1I, b_c1R, b_c1N, cs_0, w32_lc, lc_lt, lc_gt, lc_le, lc_ge, lc_eq, w32_id, w64_id, eq_self, Nat.reduceEqDiff, Nat.reduceLeDiff, Nat.reduceAdd, Nat.reduceMul, Int.reduceLT, Int.reduceLE, Int.reduceEq, Int.reduceNeg, Int.reduceAdd, Int.reduceSub, Int.reduceMul, Int.reduceToNat, Int.toNat_natCast, nc_lit, Int.add_sub_cancel, Int.tmod_eq_emod_of_nonneg, Int.tdiv_eq_ediv_of_nonneg, Int.natCast_add, Int.natCast_mul, if_pos, if_neg, ↓reduceIte, e1014_0, e1014_1, e1014_2, e1014_5, e1014_6, e1014_7, e1014_10, e1014_13, e1014_14, e1014_15, e1014_18, e1014_21, e1014_22, e1014_23, e1014_26, e1014_28, e1014_29, e1014_30, e1014_33, e1014_34, e1014_37, e1014_39, e1014_40, e1014_41, e1014_42, e1014_43, e1014_44, e1014_47, e1014_48, e1014_51, e1014_53, e1014_54, e1014_55, e1014_56, e1014_57, e1014_58, e1014_61, e1014_63, e1014_64, e1014_65, e1014_68, e1014_70, e1014_73, e1014_74, e1014_77, e1014_78, e1014_79, e1014_80, e1014_83, e1014_84, e1014_87, e1014_88, e1014_89, e1014_90, e1014_93, e1014_94, e1014_97, e1014_98, e1014_99, e1014_100, e1014_101, e1014_104, e1014_105, e1014_106, e1014_109, e1014_110, e1014_113, e1014_115, e1014_117, e1014_120, e1014_121, e1014_124, e1014_125, e1014_126, e1014_129, e1014_130, e1014_131, e1014_134, e1014_136, e1014_139, e1014_141, e1014_144, e1014_145, e1014_148, e1014_150, e1014_153, e1014_154, tg_106, ia_106_0, pt_106_0, vc_106_45, tg_139, ln_139, ia_139, pt_139, vc_106_46, tg_140, ln_140, ia_140, pt_140, ia_106_12, pt_106_12, vc_106_22, tg_119, ln_119, ia_119, pt_119, vc_106_23, tg_120, ln_120, ia_120, pt_120, M_isLayer]
      all_goals ((repeat' split) <;> first | with_reducible rfl | (exfalso; omega) | (rw [b2_t (by omega)]) | (rw [b2_f (by omega)]) | rfl)
