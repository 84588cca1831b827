/-! ===== pairs of methods: years ===== -/
set_option maxRecDepth 100000
def sTD (a k : Nat) : Bool := decide (a < 106) || (decide (a = 106) && decide (k = 0)) || decide (139 ≤ a)
def sVD (a _k : Nat) : Bool := decide (106 ≤ a) || (decide (53 ≤ a) && decide (a < 75))
theorem isMin_eq {n : Nat} {c : Nat → Int} {Ed : Nat → Nat → Prop} {e e' : Nat → Int} (h : isMin n c Ed e) (h' : isMin n c Ed e') : ∀ l, l < n → e l = e' l := fun l hl => by
  have := h.2.2 e' h'.1 h'.2.1 l hl
  have := h'.2.2 e h.1 h.2.1 l hl
  omega
theorem isMin_congr {n : Nat} {c : Nat → Int} {Ed : Nat → Nat → Prop} {e e' : Nat → Int} (hE : ∀ a b, Ed a b → a < n ∧ b < n) (h : isMin n c Ed e) (he : ∀ l, l < n → e' l = e l) : isMin n c Ed e' := by
  refine ⟨fun l hl => by rw [he l hl]; exact h.1 l hl, fun a b hab => ?_, fun y y1 y2 l hl => by rw [he l hl]; exact h.2.2 y y1 y2 l hl⟩
  obtain ⟨h1, h2⟩ := hE a b hab
  rw [he a h1, he b h2]
  exact h.2.1 a b hab
/-- the pairs of both, as places -/
theorem ed_iff {S : Mm} {n m o j : Nat} (hm : gi S 42 13 = m) (ho : gi S 106 12 = o) (hj : gi S 106 13 = j)
    (hA : ∀ w, w < m → (0 ≤ gi S 49 w ∧ gi S 49 w < n) ∧ 0 ≤ gi S 50 w ∧ gi S 50 w < n)
    (hU : ∀ k, k < o → (0 ≤ gi S 119 k ∧ gi S 119 k < n) ∧ 0 ≤ gi S 120 k ∧ gi S 120 k < n)
    (hJ : ∀ k, k < j → (0 ≤ gi S 121 k ∧ gi S 121 k < 200 ∧ 0 ≤ gi S 123 (gi S 121 k).toNat ∧ gi S 123 (gi S 121 k).toNat < n) ∧ 0 ≤ gi S 122 k ∧ gi S 122 k < 200 ∧ 0 ≤ gi S 123 (gi S 122 k).toNat ∧ gi S 123 (gi S 122 k).toNat < n)
    (hE : ∀ a b, eX S a b ↔ (eO S a b ∨ eJ S a b)) (a b : Nat) : (∃ w, w < m ∧ aX S w = a ∧ bX S w = b) ↔ EdM S o j a b := by
  constructor
  · rintro ⟨w, h1, h2, h3⟩
    have q := hA w h1
    unfold aX at h2
    unfold bX at h3
    have h4 : eX S (a : Int) (b : Int) := ⟨w, by omega, by omega, by omega⟩
    rcases (hE _ _).mp h4 with ⟨k, k1, k2, k3⟩ | ⟨k, k1, k2⟩
    · exact Or.inl ⟨k, by omega, by unfold uM; omega, by unfold vM; omega⟩
    · refine Or.inr ⟨k, by omega, ?_⟩
      unfold jA jB
      omega
  · intro h
    have h4 : eX S (a : Int) (b : Int) := by
      refine (hE _ _).mpr ?_
      rcases h with ⟨k, k1, k2, k3⟩ | ⟨k, k1, k2⟩
      · have := hU k k1
        unfold uM at k2
        unfold vM at k3
        exact Or.inl ⟨k, by omega, by omega, by omega⟩
      · have := hJ k k1
        unfold jA jB at k2
        exact Or.inr ⟨k, by omega, by omega⟩
    obtain ⟨w, h1, h2, h3⟩ := h4
    exact ⟨w, by omega, by unfold aX; omega, by unfold bX; omega⟩
theorem scr_dt {S S' : Mm} (h : agr sDt S S') : agr scr S S' := agr_sub h fun a k e => by
  rcases sDt_of e with rfl | rfl <;> rfl
theorem sDm_of {a k : Nat} (h : sDm a k = true) : a = 137 ∨ a = 138 := by
  simp only [sDm, Bool.or_eq_true, decide_eq_true_iff] at h
  exact h
theorem scr_dm {S S' : Mm} (h : agr sDm S S') : agr scr S S' := agr_sub h fun a k e => by
  rcases sDm_of e with rfl | rfl <;> rfl
/-- what RG and its kin say, as the years' walks want it -/
def DtH (S : Mm) (n m o j : Nat) : Prop := gi S 42 8 = n ∧ gi S 106 8 = n ∧ n ≤ 16 ∧ gi S 42 13 = m ∧ m ≤ 142 ∧ gi S 106 12 = o ∧ o ≤ 61 ∧ gi S 106 13 = j ∧ j ≤ 41 ∧
  (∀ l, l < n → gi S 47 l = gi S 117 l ∧ (0 ≤ gi S 117 l ∧ gi S 117 l ≤ 2000) ∧ gi S 48 l = gi S 118 l ∧ 0 ≤ gi S 118 l ∧ gi S 118 l ≤ 2000) ∧
  (∀ w, w < m → (0 ≤ gi S 49 w ∧ gi S 49 w < n) ∧ 0 ≤ gi S 50 w ∧ gi S 50 w < n) ∧
  (∀ k, k < o → (0 ≤ gi S 119 k ∧ gi S 119 k < n) ∧ 0 ≤ gi S 120 k ∧ gi S 120 k < n) ∧
  (∀ k, k < j → (0 ≤ gi S 121 k ∧ gi S 121 k < 200 ∧ 0 ≤ gi S 123 (gi S 121 k).toNat ∧ gi S 123 (gi S 121 k).toNat < n) ∧ 0 ≤ gi S 122 k ∧ gi S 122 k < 200 ∧ 0 ≤ gi S 123 (gi S 122 k).toNat ∧ gi S 123 (gi S 122 k).toNat < n) ∧
  ∀ a b, eX S a b ↔ (eO S a b ∨ eJ S a b)
theorem DtH_of {h : Nat → Cl} {c : Nat} {S : Mm} {δ : Sg} (R : Rel h c S δ) : DtH S (gi S 106 8).toNat (gi S 42 13).toNat (gi S 106 12).toNat (gi S 106 13).toNat := by
  have r5 := R.2.2.2.2.1
  have r6 := R.2.2.2.2.2.1
  obtain ⟨g1, g2, g3, g4, g5, g6, g7, g8, g9, _⟩ := R.2.2.2.2.2.2.1
  have hb := r6.2.1
  have hl := r5.2.1
  refine ⟨by rw [r5.1]; omega, by omega, by omega, by omega, by omega, by omega, by omega, by omega, by omega, fun l hl => ?_, fun w hw => ?_, fun k hk => ?_, fun k hk => ?_, g9⟩
  · exact r5.2.2 l (by omega)
  · have := g6 w (by omega); omega
  · have := g7 k (by omega); omega
  · have q := g8 k (by omega)
    obtain ⟨a, _, _, _, _, _, q2, _⟩ := r6.2.2 (gi S 121 k).toNat (by omega)
    obtain ⟨a, _, _, _, _, _, q3, _⟩ := r6.2.2 (gi S 122 k).toNat (by omega)
    omega
/-- both look at the years: alike -/
theorem dates_both {d : Nat} (hd : 4 ≤ d) {S V : Mm} {δ : Sg} {n m o j : Nat} (H : DtH S n m o j) (hV : agr sVD S V) : ∃ S1 r, b_M TT d 1219 [.ref 42] (ov V δ) = some (.inl (some (vI r)), ov S1 δ) ∧ agr sDt V S1 ∧ (r = 0 ∨ r = 1) ∧ (r = 1 ↔ ∃ y : Nat → Int, (∀ l, l < n → gi S 117 l ≤ y l ∧ y l ≤ gi S 118 l) ∧ ∀ a b, EdM S o j a b → y b ≤ y a) ∧
    (∀ y : Nat → Int, (∀ l, l < n → gi S 117 l ≤ y l ∧ y l ≤ gi S 118 l) → (∀ a b, EdM S o j a b → y b ≤ y a) → ∀ l, l < n → gi S1 51 l ≤ y l ∧ y l ≤ gi S1 52 l) ∧
    (∀ l, l < n → gi S 117 l ≤ gi S1 51 l ∧ gi S1 52 l ≤ gi S 118 l) ∧ (∀ a b, EdM S o j a b → gi S1 51 b ≤ gi S1 51 a ∧ gi S1 52 b ≤ gi S1 52 a) ∧
    ∀ T : Mm, agr sTD S T → ∃ T1, b_M TT d 1018 [.ref 106] (ov T δ) = some (.inl (some (vI r)), ov T1 δ) ∧ agr sDm T T1 ∧ (r = 1 → ∀ l, l < n → gi T1 137 l = gi S1 51 l ∧ gi T1 138 l = gi S1 52 l) := by
  obtain ⟨h1, h2, h3, h4, h5, h6, h7, h8, h9, h10, h11, h12, h13, h14⟩ := H
  have gV : ∀ a k : Nat, a < 53 → gi V a k = gi S a k := fun a k q => agr_gi hV (by unfold sVD; rw [decide_eq_false (show ¬ 106 ≤ a by omega), decide_eq_false (show ¬ 53 ≤ a by omega)]; rfl)
  obtain ⟨S1, e, g, r, x1, x2, x3, x4, x5, x6⟩ := X_dates (d := d) (by omega) (S := V) (δ := δ) ((gV _ _ (by omega)).trans h1) h3 ((gV _ _ (by omega)).trans h4) h5 (fun w hw => by rw [gV _ _ (by omega), gV _ _ (by omega)]; exact h11 w hw)
  have eA : aX V = aX S := funext fun w => by unfold aX; rw [gV _ _ (by omega)]
  have eB : bX V = bX S := funext fun w => by unfold bX; rw [gV _ _ (by omega)]
  rw [eA, eB] at x3 x4
  simp only [gV _ _ (show 47 < 53 by omega), gV _ _ (show 48 < 53 by omega)] at x3 x4
  have hed := ed_iff h4 h6 h8 h11 h12 h13 h14
  have x3' : isMin n (fun l => gi S 117 l) (EdM S o j) e := isMin_cong (fun l hl => (h10 l hl).1) hed x3
  have x4' : isMin n (fun l => - gi S 118 l) (fun a b => EdM S o j b a) g := isMin_cong (fun l hl => by rw [(h10 l hl).2.2.1]) (fun a b => by rw [← hed b a]; constructor <;> (rintro ⟨w, q1, q2, q3⟩; exact ⟨w, q1, q3, q2⟩)) x4
  have hEn : ∀ a b, EdM S o j a b → a < n ∧ b < n := fun a b hab => by
    obtain ⟨w, q1, q2, q3⟩ := (hed a b).mpr hab
    have := h11 w q1
    unfold aX at q2
    unfold bX at q3
    omega
  have hcons : (∀ l, l < n → e l ≤ - g l) ↔ ∃ y : Nat → Int, (∀ l, l < n → gi S 117 l ≤ y l ∧ y l ≤ gi S 118 l) ∧ ∀ a b, EdM S o j a b → y b ≤ y a := by
    constructor
    · intro h
      refine ⟨e, fun l hl => ⟨x3'.1 l hl, ?_⟩, x3'.2.1⟩
      have := h l hl
      have : - gi S 118 l ≤ g l := x4'.1 l hl
      omega
    · rintro ⟨y, y1, y2⟩ l hl
      have q1 := x3'.2.2 y (fun l hl => (y1 l hl).1) y2 l hl
      have q2 := x4'.2.2 (fun l => - y l) (fun l hl => by have := (y1 l hl).2; show - gi S 118 l ≤ - y l; omega) (fun a b hab => by have := y2 b a hab; omega) l hl
      omega
  refine ⟨S1, r, x1, x2, ?_, ?_, fun y y1 y2 l hl => ?_, fun l hl => ?_, fun a b hab => ?_, fun T hT => ?_⟩
  · rcases x6 with ⟨q, _⟩ | ⟨q, _⟩
    · exact Or.inr q
    · exact Or.inl q
  · rw [← hcons]
    rcases x6 with ⟨q, q2⟩ | ⟨q, l, q2, q3⟩
    · exact ⟨fun _ => q2, fun _ => q⟩
    · exact ⟨fun z => by omega, fun z => absurd (z l q2) q3⟩
  · have q1 := x3'.2.2 y (fun l hl => (y1 l hl).1) y2 l hl
    have q2 := x4'.2.2 (fun l => - y l) (fun l hl => by have := (y1 l hl).2; show - gi S 118 l ≤ - y l; omega) (fun a b hab => by have := y2 b a hab; omega) l hl
    have := x5 l hl
    omega
  · have := x5 l hl
    have : gi S 117 l ≤ e l := x3'.1 l hl
    have : - gi S 118 l ≤ g l := x4'.1 l hl
    omega
  · obtain ⟨n1, n2⟩ := hEn a b hab
    have := x5 a n1
    have := x5 b n2
    have := x3'.2.1 a b hab
    have := x4'.2.1 b a hab
    omega
  · have gT : ∀ a k : Nat, 106 < a ∧ a < 139 → gi T a k = gi S a k := fun a k q => agr_gi hT (by unfold sTD; rw [decide_eq_false (show ¬ a < 106 by omega), decide_eq_false (show ¬ a = 106 by omega), decide_eq_false (show ¬ 139 ≤ a by omega)]; rfl)
    have gM : ∀ k : Nat, k ≠ 0 → gi T 106 k = gi S 106 k := fun k q => agr_gi hT (by unfold sTD; rw [decide_eq_false (show ¬ 106 < 106 by omega), decide_eq_false q, Bool.and_false]; rfl)
    have hEq : ∀ a b, EdM T o j a b ↔ EdM S o j a b := fun a b => by
      unfold EdM uM vM jA jB
      simp only [gT _ _ (show 106 < 119 ∧ 119 < 139 by omega), gT _ _ (show 106 < 120 ∧ 120 < 139 by omega), gT _ _ (show 106 < 121 ∧ 121 < 139 by omega), gT _ _ (show 106 < 122 ∧ 122 < 139 by omega), gT _ _ (show 106 < 123 ∧ 123 < 139 by omega)]
    obtain ⟨T1, r', m1, m2, m3⟩ := M_dates (d := d) hd (S := T) (δ := δ) (n := n) (o := o) (j := j) ((gM 8 (by omega)).trans h2) h3 ((gM 12 (by omega)).trans h6) h7 ((gM 13 (by omega)).trans h8) h9
      (fun l hl => by rw [gT _ _ (by omega), gT _ _ (by omega)]; have := h10 l hl; omega)
      (fun k hk => by rw [gT _ _ (by omega), gT _ _ (by omega)]; exact h12 k hk)
      (fun k hk => by rw [gT 121 _ (by omega), gT 122 _ (by omega), gT 123 _ (by omega), gT 123 _ (by omega)]; exact h13 k hk)
    rcases m3 with ⟨q1, q2, q3, q4⟩ | ⟨q1, q2⟩
    · have q2' : isMin n (fun l => gi S 117 l) (EdM S o j) (fun l => gi T1 137 l) := isMin_cong (fun l hl => gT _ _ (by omega)) hEq q2
      have q3' : isMin n (fun l => - gi S 118 l) (fun a b => EdM S o j b a) (fun l => - gi T1 138 l) := isMin_cong (fun l hl => by rw [gT _ _ (by omega)]) (fun a b => hEq b a) q3
      have k1 := isMin_eq x3' q2'
      have k2 := isMin_eq x4' q3'
      have hr : r = 1 := by
        rcases x6 with ⟨q, _⟩ | ⟨q, l, z1, z2⟩
        · exact q
        · have := k1 l z1
          have := k2 l z1
          have := q4 l z1
          omega
      refine ⟨T1, by rw [hr, ← q1]; exact m1, m2, fun _ l hl => ?_⟩
      have := k1 l hl
      have := k2 l hl
      have := x5 l hl
      omega
    · have hr : r = 0 := by
        rcases x6 with ⟨q, z⟩ | ⟨q, _⟩
        · obtain ⟨y, y1, y2⟩ := hcons.mp z
          exact absurd ⟨y, fun l hl => by rw [gT _ _ (by omega), gT _ _ (by omega)]; exact y1 l hl, fun a b hab => y2 a b ((hEq a b).mp hab)⟩ q2
        · exact q
      exact ⟨T1, by rw [hr, ← q1]; exact m1, m2, fun z => by omega⟩
theorem op_dated {h : Nat → Cl} {c d : Nat} {S : Mm} {δ : Sg} (hd : 6 ≤ d) {l w : Int} (hl : (-2147483648 ≤ l ∧ l ≤ 2147483647)) (hw : (-2147483648 ≤ w ∧ w ≤ 2147483647)) (R : Rel h c S δ) : OpR h c d S δ 1224 1023 [vI l, vI w] := by
  have r5 := R.2.2.2.2.1
  have hn := r5.2.1
  by_cases hp : 0 ≤ l ∧ l < gi S 106 8
  · have H := DtH_of R
    obtain ⟨S1, r, a1, a2, a3, a4, a5, a6, a7, a8⟩ := dates_both (d := d - 1) (by omega) (δ := δ) H agr_refl
    have hS1 : agr sTD S S1 := agr_sub a2 fun a k e => by
      rcases sDt_of e with rfl | rfl <;> rfl
    obtain ⟨T1, b1, b2, b3⟩ := a8 (up S1 106 0 (vI 0)) (agr_up hS1 rfl)
    have hr : r = 1 := a4.mpr (by
      obtain ⟨_, _, _, _, _, g6, _, _, g9, ⟨y, y1, y2⟩, _⟩ := R.2.2.2.2.2.2.1
      refine ⟨y, fun l hl => y1 l (by omega), fun a b hab => ?_⟩
      obtain ⟨h1, h2, h3, h4, h5, h6, h7, h8, h9, h10, h11, h12, h13, h14⟩ := H
      obtain ⟨w, q1, q2, q3⟩ := (ed_iff h4 h6 h8 h11 h12 h13 h14 a b).mpr hab
      have := h11 w q1
      unfold aX at q2
      unfold bX at q3
      have := y2 a b ⟨w, by omega, by omega, by omega⟩
      exact this)
    have b3' := b3 hr l.toNat (by omega)
    by_cases hw0 : w = 0
    · refine OpR_ask (r := gi S1 51 l.toNat) (S1 := S1) (S2 := T1) R ?_ ?_ (scr_dt a2) (agr_trans (agr_up agr_refl rfl) (scr_dm b2))
      · (obtain ⟨d, rfl⟩ : ∃ k, d = k + 1 := ⟨d - 1, by omega⟩); rw [b_M_succ]; rw [show d + 1 - 1 = d from rfl] at a1
        simp (disch := first | assumption | omega | exact b2_01d | decide | (simp (disch := omega) only [tg_42, vc_42_16, tg_51, ln_51, ia_51, pt_51, vc_42_17, tg_52, ln_52, ia_52, pt_52, w32_id, w32_gi, w32_w32, w32_b2, Int.toNat_natCast, gi_up, vi_vI, tgd, lnd, and_true, true_and, and_false, false_and, Nat.reduceLeDiff, Nat.reduceLT, ↓reduceIte, b_c1I, b_c1R, b_c1N, cs_0, cs_nil, cs_I, cs_L, cs_R, cs_N] <;> omega) | fail) only [vI_def, vI_sx8, vI_sx16, sx8_sx8, sx16_sx16, w32_sx8, w32_sx16, xci_ex, xv_ex, lk_21, lk_22, lk_2, tgd, lnd, vld, iad, lad, ptd, std, nw_ov, bump_ov, ov_1, cv_ret, cu_ret, cv_thr, cu_thr, th_eq, ent_nil, ent_I, ent_L, ent_R, ent_N, List.tail_cons, List.tail_nil, w32_gi, w32_w32, w32_b2, b2_eq0, b2_eq1, b2_ne0, b2_01, w64_gi, w64_gl, w64_w32, w64_w64, vI_w32, vL_w64, gi_up, gl_up, vi_vI, vlg_vL, swt_nil, swt_cons, F_ite, and_true, true_and, and_false, false_and, and_self, or_true, true_or, or_false, false_or, not_true_eq_false, not_false_eq_true, b_c1I, b_c1R, b_c1N, cs_0, w32_lc, lc_lt, lc_gt, lc_le, lc_ge, lc_eq, w32_id, w64_id, eq_self, Nat.reduceEqDiff, Nat.reduceLeDiff, Nat.reduceAdd, Nat.reduceMul, Int.reduceLT, Int.reduceLE, Int.reduceEq, Int.reduceNeg, Int.reduceAdd, Int.reduceSub, Int.reduceMul, Int.reduceToNat, Int.toNat_natCast, nc_lit, Int.add_sub_cancel, Int.tmod_eq_emod_of_nonneg, Int.tdiv_eq_ediv_of_nonneg, Int.natCast_add, Int.natCast_mul, if_pos, if_neg, ↓reduceIte, e1224_0, e1224_1, e1224_2, e1224_5, e1224_8, e1224_10, e1224_11, e1224_12, e1224_15, e1224_16, e1224_17, e1224_20, e1224_21, e1224_24, e1224_25, e1224_26, e1224_29, e1224_30, e1224_31, e1224_34, e1224_35, e1224_38, e1224_39, e1224_40, e1224_43, e1224_45, tg_42, vc_42_16, tg_51, ln_51, ia_51, pt_51, vc_42_17, tg_52, ln_52, ia_52, pt_52, X_isLayer, r5.1, hp, a1, hw0]
      · (obtain ⟨d, rfl⟩ : ∃ k, d = k + 1 := ⟨d - 1, by omega⟩); rw [b_M_succ]; rw [show d + 1 - 1 = d from rfl] at b1
        have hn1 : gi S1 106 8 = gi S 106 8 := agr_gi a2 rfl
        simp (disch := first | assumption | omega | exact b2_01d | decide | (simp (disch := omega) only [tg_106, ia_106_0, pt_106_0, vc_106_43, tg_137, ln_137, ia_137, pt_137, vc_106_44, tg_138, ln_138, ia_138, pt_138, w32_id, w32_gi, w32_w32, w32_b2, Int.toNat_natCast, gi_up, vi_vI, tgd, lnd, and_true, true_and, and_false, false_and, Nat.reduceLeDiff, Nat.reduceLT, ↓reduceIte, b_c1I, b_c1R, b_c1N, cs_0, cs_nil, cs_I, cs_L, cs_R, cs_N] <;> omega) | fail) only [vI_def, vI_sx8, vI_sx16, sx8_sx8, sx16_sx16, w32_sx8, w32_sx16, xci_ex, xv_ex, lk_21, lk_22, lk_2, tgd, lnd, vld, iad, lad, ptd, std, nw_ov, bump_ov, ov_1, cv_ret, cu_ret, cv_thr, cu_thr, th_eq, ent_nil, ent_I, ent_L, ent_R, ent_N, List.tail_cons, List.tail_nil, w32_gi, w32_w32, w32_b2, b2_eq0, b2_eq1, b2_ne0, b2_01, w64_gi, w64_gl, w64_w32, w64_w64, vI_w32, vL_w64, gi_up, gl_up, vi_vI, vlg_vL, swt_nil, swt_cons, F_ite, and_true, true_and, and_false, false_and, and_self, or_true, true_or, or_false, false_or, not_true_eq_false, not_false_eq_true, b_c1I, b_c1R, b_c1N, cs_0, w32_lc, lc_lt, lc_gt, lc_le, lc_ge, lc_eq, w32_id, w64_id, eq_self, Nat.reduceEqDiff, Nat.reduceLeDiff, Nat.reduceAdd, Nat.reduceMul, Int.reduceLT, Int.reduceLE, Int.reduceEq, Int.reduceNeg, Int.reduceAdd, Int.reduceSub, Int.reduceMul, Int.reduceToNat, Int.toNat_natCast, nc_lit, Int.add_sub_cancel, Int.tmod_eq_emod_of_nonneg, Int.tdiv_eq_ediv_of_nonneg, Int.natCast_add, Int.natCast_mul, if_pos, if_neg, ↓reduceIte, e1023_0, e1023_1, e1023_2, e1023_5, e1023_6, e1023_7, e1023_10, e1023_13, e1023_14, e1023_15, e1023_16, e1023_17, e1023_20, e1023_23, e1023_25, e1023_26, e1023_27, e1023_30, e1023_31, e1023_32, e1023_35, e1023_36, e1023_39, e1023_40, e1023_41, e1023_44, e1023_45, e1023_48, e1023_49, e1023_50, tg_106, ia_106_0, pt_106_0, vc_106_43, tg_137, ln_137, ia_137, pt_137, vc_106_44, tg_138, ln_138, ia_138, pt_138, M_in, M_isLayer, hn1, hp, b1, hw0]
        rw [b3'.1]
    · by_cases hw1 : w = 1
      · refine OpR_ask (r := gi S1 52 l.toNat) (S1 := S1) (S2 := T1) R ?_ ?_ (scr_dt a2) (agr_trans (agr_up agr_refl rfl) (scr_dm b2))
        · (obtain ⟨d, rfl⟩ : ∃ k, d = k + 1 := ⟨d - 1, by omega⟩); rw [b_M_succ]; rw [show d + 1 - 1 = d from rfl] at a1
          simp (disch := first | assumption | omega | exact b2_01d | decide | (simp (disch := omega) only [tg_42, vc_42_16, tg_51, ln_51, ia_51, pt_51, vc_42_17, tg_52, ln_52, ia_52, pt_52, w32_id, w32_gi, w32_w32, w32_b2, Int.toNat_natCast, gi_up, vi_vI, tgd, lnd, and_true, true_and, and_false, false_and, Nat.reduceLeDiff, Nat.reduceLT, ↓reduceIte, b_c1I, b_c1R, b_c1N, cs_0, cs_nil, cs_I, cs_L, cs_R, cs_N] <;> omega) | fail) only [vI_def, vI_sx8, vI_sx16, sx8_sx8, sx16_sx16, w32_sx8, w32_sx16, xci_ex, xv_ex, lk_21, lk_22, lk_2, tgd, lnd, vld, iad, lad, ptd, std, nw_ov, bump_ov, ov_1, cv_ret, cu_ret, cv_thr, cu_thr, th_eq, ent_nil, ent_I, ent_L, ent_R, ent_N, List.tail_cons, List.tail_nil, w32_gi, w32_w32, w32_b2, b2_eq0, b2_eq1, b2_ne0, b2_01, w64_gi, w64_gl, w64_w32, w64_w64, vI_w32, vL_w64, gi_up, gl_up, vi_vI, vlg_vL, swt_nil, swt_cons, F_ite, and_true, true_and, and_false, false_and, and_self, or_true, true_or, or_false, false_or, not_true_eq_false, not_false_eq_true, b_c1I, b_c1R, b_c1N, cs_0, w32_lc, lc_lt, lc_gt, lc_le, lc_ge, lc_eq, w32_id, w64_id, eq_self, Nat.reduceEqDiff, Nat.reduceLeDiff, Nat.reduceAdd, Nat.reduceMul, Int.reduceLT, Int.reduceLE, Int.reduceEq, Int.reduceNeg, Int.reduceAdd, Int.reduceSub, Int.reduceMul, Int.reduceToNat, Int.toNat_natCast, nc_lit, Int.add_sub_cancel, Int.tmod_eq_emod_of_nonneg, Int.tdiv_eq_ediv_of_nonneg, Int.natCast_add, Int.natCast_mul, if_pos, if_neg, ↓reduceIte, e1224_0, e1224_1, e1224_2, e1224_5, e1224_8, e1224_10, e1224_11, e1224_12, e1224_15, e1224_16, e1224_17, e1224_20, e1224_21, e1224_24, e1224_25, e1224_26, e1224_29, e1224_30, e1224_31, e1224_34, e1224_35, e1224_38, e1224_39, e1224_40, e1224_43, e1224_45, tg_42, vc_42_16, tg_51, ln_51, ia_51, pt_51, vc_42_17, tg_52, ln_52, ia_52, pt_52, X_isLayer, r5.1, hp, a1, hw1]
        · (obtain ⟨d, rfl⟩ : ∃ k, d = k + 1 := ⟨d - 1, by omega⟩); rw [b_M_succ]; rw [show d + 1 - 1 = d from rfl] at b1
          have hn1 : gi S1 106 8 = gi S 106 8 := agr_gi a2 rfl
          simp (disch := first | assumption | omega | exact b2_01d | decide | (simp (disch := omega) only [tg_106, ia_106_0, pt_106_0, vc_106_43, tg_137, ln_137, ia_137, pt_137, vc_106_44, tg_138, ln_138, ia_138, pt_138, w32_id, w32_gi, w32_w32, w32_b2, Int.toNat_natCast, gi_up, vi_vI, tgd, lnd, and_true, true_and, and_false, false_and, Nat.reduceLeDiff, Nat.reduceLT, ↓reduceIte, b_c1I, b_c1R, b_c1N, cs_0, cs_nil, cs_I, cs_L, cs_R, cs_N] <;> omega) | fail) only [vI_def, vI_sx8, vI_sx16, sx8_sx8, sx16_sx16, w32_sx8, w32_sx16, xci_ex, xv_ex, lk_21, lk_22, lk_2, tgd, lnd, vld, iad, lad, ptd, std, nw_ov, bump_ov, ov_1, cv_ret, cu_ret, cv_thr, cu_thr, th_eq, ent_nil, ent_I, ent_L, ent_R, ent_N, List.tail_cons, List.tail_nil, w32_gi, w32_w32, w32_b2, b2_eq0, b2_eq1, b2_ne0, b2_01, w64_gi, w64_gl, w64_w32, w64_w64, vI_w32, vL_w64, gi_up, gl_up, vi_vI, vlg_vL, swt_nil, swt_cons, F_ite, and_true, true_and, and_false, false_and, and_self, or_true, true_or, or_false, false_or, not_true_eq_false, not_false_eq_true, b_c1I, b_c1R, b_c1N, cs_0, w32_lc, lc_lt, lc_gt, lc_le, lc_ge, lc_eq, w32_id, w64_id, eq_self, Nat.reduceEqDiff, Nat.reduceLeDiff, Nat.reduceAdd, Nat.reduceMul, Int.reduceLT, Int.reduceLE, Int.reduceEq, Int.reduceNeg, Int.reduceAdd, Int.reduceSub, Int.reduceMul, Int.reduceToNat, Int.toNat_natCast, nc_lit, Int.add_sub_cancel, Int.tmod_eq_emod_of_nonneg, Int.tdiv_eq_ediv_of_nonneg, Int.natCast_add, Int.natCast_mul, if_pos, if_neg, ↓reduceIte, e1023_0, e1023_1, e1023_2, e1023_5, e1023_6, e1023_7, e1023_10, e1023_13, e1023_14, e1023_15, e1023_16, e1023_17, e1023_20, e1023_23, e1023_25, e1023_26, e1023_27, e1023_30, e1023_31, e1023_32, e1023_35, e1023_36, e1023_39, e1023_40, e1023_41, e1023_44, e1023_45, e1023_48, e1023_49, e1023_50, tg_106, ia_106_0, pt_106_0, vc_106_43, tg_137, ln_137, ia_137, pt_137, vc_106_44, tg_138, ln_138, ia_138, pt_138, M_in, M_isLayer, hn1, hp, b1, hw1]
          rw [b3'.2]
      · refine OpR_ask (r := -2) (S1 := S1) (S2 := up S1 106 0 (vI 0)) R ?_ ?_ (scr_dt a2) agr_th
        · (obtain ⟨d, rfl⟩ : ∃ k, d = k + 1 := ⟨d - 1, by omega⟩); rw [b_M_succ]; rw [show d + 1 - 1 = d from rfl] at a1
          simp (disch := first | assumption | omega | exact b2_01d | decide | (simp (disch := omega) only [tg_42, vc_42_16, tg_51, ln_51, ia_51, pt_51, vc_42_17, tg_52, ln_52, ia_52, pt_52, w32_id, w32_gi, w32_w32, w32_b2, Int.toNat_natCast, gi_up, vi_vI, tgd, lnd, and_true, true_and, and_false, false_and, Nat.reduceLeDiff, Nat.reduceLT, ↓reduceIte, b_c1I, b_c1R, b_c1N, cs_0, cs_nil, cs_I, cs_L, cs_R, cs_N] <;> omega) | fail) only [vI_def, vI_sx8, vI_sx16, sx8_sx8, sx16_sx16, w32_sx8, w32_sx16, xci_ex, xv_ex, lk_21, lk_22, lk_2, tgd, lnd, vld, iad, lad, ptd, std, nw_ov, bump_ov, ov_1, cv_ret, cu_ret, cv_thr, cu_thr, th_eq, ent_nil, ent_I, ent_L, ent_R, ent_N, List.tail_cons, List.tail_nil, w32_gi, w32_w32, w32_b2, b2_eq0, b2_eq1, b2_ne0, b2_01, w64_gi, w64_gl, w64_w32, w64_w64, vI_w32, vL_w64, gi_up, gl_up, vi_vI, vlg_vL, swt_nil, swt_cons, F_ite, and_true, true_and, and_false, false_and, and_self, or_true, true_or, or_false, false_or, not_true_eq_false, not_false_eq_true, b_c1I, b_c1R, b_c1N, cs_0, w32_lc, lc_lt, lc_gt, lc_le, lc_ge, lc_eq, w32_id, w64_id, eq_self, Nat.reduceEqDiff, Nat.reduceLeDiff, Nat.reduceAdd, Nat.reduceMul, Int.reduceLT, Int.reduceLE, Int.reduceEq, Int.reduceNeg, Int.reduceAdd, Int.reduceSub, Int.reduceMul, Int.reduceToNat, Int.toNat_natCast, nc_lit, Int.add_sub_cancel, Int.tmod_eq_emod_of_nonneg, Int.tdiv_eq_ediv_of_nonneg, Int.natCast_add, Int.natCast_mul, if_pos, if_neg, ↓reduceIte, e1224_0, e1224_1, e1224_2, e1224_5, e1224_8, e1224_10, e1224_11, e1224_12, e1224_15, e1224_16, e1224_17, e1224_20, e1224_21, e1224_24, e1224_25, e1224_26, e1224_29, e1224_30, e1224_31, e1224_34, e1224_35, e1224_38, e1224_39, e1224_40, e1224_43, e1224_45, tg_42, vc_42_16, tg_51, ln_51, ia_51, pt_51, vc_42_17, tg_52, ln_52, ia_52, pt_52, X_isLayer, r5.1, hp, a1, hw0, hw1]
        · (obtain ⟨d, rfl⟩ : ∃ k, d = k + 1 := ⟨d - 1, by omega⟩); rw [b_M_succ]
          have hn1 : gi S1 106 8 = gi S 106 8 := agr_gi a2 rfl
          simp (disch := first | assumption | omega | exact b2_01d | decide | (simp (disch := omega) only [tg_106, ia_106_0, pt_106_0, vc_106_43, tg_137, ln_137, ia_137, pt_137, vc_106_44, tg_138, ln_138, ia_138, pt_138, w32_id, w32_gi, w32_w32, w32_b2, Int.toNat_natCast, gi_up, vi_vI, tgd, lnd, and_true, true_and, and_false, false_and, Nat.reduceLeDiff, Nat.reduceLT, ↓reduceIte, b_c1I, b_c1R, b_c1N, cs_0, cs_nil, cs_I, cs_L, cs_R, cs_N] <;> omega) | fail) only [vI_def, vI_sx8, vI_sx16, sx8_sx8, sx16_sx16, w32_sx8, w32_sx16, xci_ex, xv_ex, lk_21, lk_22, lk_2, tgd, lnd, vld, iad, lad, ptd, std, nw_ov, bump_ov, ov_1, cv_ret, cu_ret, cv_thr, cu_thr, th_eq, ent_nil, ent_I, ent_L, ent_R, ent_N, List.tail_cons, List.tail_nil, w32_gi, w32_w32, w32_b2, b2_eq0, b2_eq1, b2_ne0, b2_01, w64_gi, w64_gl, w64_w32, w64_w64, vI_w32, vL_w64, gi_up, gl_up, vi_vI, vlg_vL, swt_nil, swt_cons, F_ite, and_true, true_and, and_false, false_and, and_self, or_true, true_or, or_false, false_or, not_true_eq_false, not_false_eq_true, b_c1I, b_c1R, b_c1N, cs_0, w32_lc, lc_lt, lc_gt, lc_le, lc_ge, lc_eq, w32_id, w64_id, eq_self, Nat.reduceEqDiff, Nat.reduceLeDiff, Nat.reduceAdd, Nat.reduceMul, Int.reduceLT, Int.reduceLE, Int.reduceEq, Int.reduceNeg, Int.reduceAdd, Int.reduceSub, Int.reduceMul, Int.reduceToNat, Int.toNat_natCast, nc_lit, Int.add_sub_cancel, Int.tmod_eq_emod_of_nonneg, Int.tdiv_eq_ediv_of_nonneg, Int.natCast_add, Int.natCast_mul, if_pos, if_neg, ↓reduceIte, e1023_0, e1023_1, e1023_2, e1023_5, e1023_6, e1023_7, e1023_10, e1023_13, e1023_14, e1023_15, e1023_16, e1023_17, e1023_20, e1023_23, e1023_25, e1023_26, e1023_27, e1023_30, e1023_31, e1023_32, e1023_35, e1023_36, e1023_39, e1023_40, e1023_41, e1023_44, e1023_45, e1023_48, e1023_49, e1023_50, tg_106, ia_106_0, pt_106_0, vc_106_43, tg_137, ln_137, ia_137, pt_137, vc_106_44, tg_138, ln_138, ia_138, pt_138, M_in, M_isLayer, hn1, hp]
  · refine OpR_ask (r := -2) (S1 := S) (S2 := up S 106 0 (vI 0)) R ?_ ?_ agr_refl agr_th
    · (obtain ⟨d, rfl⟩ : ∃ k, d = k + 1 := ⟨d - 1, by omega⟩); rw [b_M_succ]; simp (disch := first | assumption | omega | exact b2_01d | decide | (simp (disch := omega) only [tg_42, vc_42_16, tg_51, ln_51, ia_51, pt_51, vc_42_17, tg_52, ln_52, ia_52, pt_52, w32_id, w32_gi, w32_w32, w32_b2, Int.toNat_natCast, gi_up, vi_vI, tgd, lnd, and_true, true_and, and_false, false_and, Nat.reduceLeDiff, Nat.reduceLT, ↓reduceIte, b_c1I, b_c1R, b_c1N, cs_0, cs_nil, cs_I, cs_L, cs_R, cs_N] <;> omega) | fail) only [vI_def, vI_sx8, vI_sx16, sx8_sx8, sx16_sx16, w32_sx8, w32_sx16, xci_ex, xv_ex, lk_21, lk_22, lk_2, tgd, lnd, vld, iad, lad, ptd, std, nw_ov, bump_ov, ov_1, cv_ret, cu_ret, cv_thr, cu_thr, th_eq, ent_nil, ent_I, ent_L, ent_R, ent_N, List.tail_cons, List.tail_nil, w32_gi, w32_w32, w32_b2, b2_eq0, b2_eq1, b2_ne0, b2_01, w64_gi, w64_gl, w64_w32, w64_w64, vI_w32, vL_w64, gi_up, gl_up, vi_vI, vlg_vL, swt_nil, swt_cons, F_ite, and_true, true_and, and_false, false_and, and_self, or_true, true_or, or_false, false_or, not_true_eq_false, not_false_eq_true, b_c1I, b_c1R, b_c1N, cs_0, w32_lc, lc_lt, lc_gt, lc_le, lc_ge, lc_eq, w32_id, w64_id, eq_self, Nat.reduceEqDiff, Nat.reduceLeDiff, Nat.reduceAdd, Nat.reduceMul, Int.reduceLT, Int.reduceLE, Int.reduceEq, Int.reduceNeg, Int.reduceAdd, Int.reduceSub, Int.reduceMul, Int.reduceToNat, Int.toNat_natCast, nc_lit, Int.add_sub_cancel, Int.tmod_eq_emod_of_nonneg, Int.tdiv_eq_ediv_of_nonneg, Int.natCast_add, Int.natCast_mul, if_pos, if_neg, ↓reduceIte, e1224_0, e1224_1, e1224_2, e1224_5, e1224_8, e1224_10, e1224_11, e1224_12, e1224_15, e1224_16, e1224_17, e1224_20, e1224_21, e1224_24, e1224_25, e1224_26, e1224_29, e1224_30, e1224_31, e1224_34, e1224_35, e1224_38, e1224_39, e1224_40, e1224_43, e1224_45, tg_42, vc_42_16, tg_51, ln_51, ia_51, pt_51, vc_42_17, tg_52, ln_52, ia_52, pt_52, X_isLayer, r5.1]
    · (obtain ⟨d, rfl⟩ : ∃ k, d = k + 1 := ⟨d - 1, by omega⟩); rw [b_M_succ]; simp (disch := first | assumption | omega | exact b2_01d | decide | (simp (disch := omega) only [tg_106, ia_106_0, pt_106_0, vc_106_43, tg_137, ln_137, ia_137, pt_137, vc_106_44, tg_138, ln_138, ia_138, pt_138, w32_id, w32_gi, w32_w32, w32_b2, Int.toNat_natCast, gi_up, vi_vI, tgd, lnd, and_true, true_and, and_false, false_and, Nat.reduceLeDiff, Nat.reduceLT, ↓reduceIte, b_c1I, b_c1R, b_c1N, cs_0, cs_nil, cs_I, cs_L, cs_R, cs_N] <;> omega) | fail) only [vI_def, vI_sx8, vI_sx16, sx8_sx8, sx16_sx16, w32_sx8, w32_sx16, xci_ex, xv_ex, lk_21, lk_22, lk_2, tgd, lnd, vld, iad, lad, ptd, std, nw_ov, bump_ov, ov_1, cv_ret, cu_ret, cv_thr, cu_thr, th_eq, ent_nil, ent_I, ent_L, ent_R, ent_N, List.tail_cons, List.tail_nil, w32_gi, w32_w32, w32_b2, b2_eq0, b2_eq1, b2_ne0, b2_01, w64_gi, w64_gl, w64_w32, w64_w64, vI_w32, vL_w64, gi_up, gl_up, vi_vI, vlg_vL, swt_nil, swt_cons, F_ite, and_true, true_and, and_false, false_and, and_self, or_true, true_or, or_false, false_or, not_true_eq_false, not_false_eq_true, b_c1I, b_c1R, b_c1N, cs_0, w32_lc, lc_lt, lc_gt, lc_le, lc_ge, lc_eq, w32_id, w64_id, eq_self, Nat.reduceEqDiff, Nat.reduceLeDiff, Nat.reduceAdd, Nat.reduceMul, Int.reduceLT, Int.reduceLE, Int.reduceEq, Int.reduceNeg, Int.reduceAdd, Int.reduceSub, Int.reduceMul, Int.reduceToNat, Int.toNat_natCast, nc_lit, Int.add_sub_cancel, Int.tmod_eq_emod_of_nonneg, Int.tdiv_eq_ediv_of_nonneg, Int.natCast_add, Int.natCast_mul, if_pos, if_neg, ↓reduceIte, e1023_0, e1023_1, e1023_2, e1023_5, e1023_6, e1023_7, e1023_10, e1023_13, e1023_14, e1023_15, e1023_16, e1023_17, e1023_20, e1023_23, e1023_25, e1023_26, e1023_27, e1023_30, e1023_31, e1023_32, e1023_35, e1023_36, e1023_39, e1023_40, e1023_41, e1023_44, e1023_45, e1023_48, e1023_49, e1023_50, tg_106, ia_106_0, pt_106_0, vc_106_43, tg_137, ln_137, ia_137, pt_137, vc_106_44, tg_138, ln_138, ia_138, pt_138, M_in, M_isLayer]
theorem op_older {h : Nat → Cl} {c d : Nat} {S : Mm} {δ : Sg} (hd : 6 ≤ d) {a b : Int} (ha : (-2147483648 ≤ a ∧ a ≤ 2147483647)) (hb : (-2147483648 ≤ b ∧ b ≤ 2147483647)) (R : Rel h c S δ) : OpR h c d S δ 1225 1024 [vI a, vI b] := by
  have r5 := R.2.2.2.2.1
  have hn := r5.2.1
  by_cases hp : (0 ≤ a ∧ a < gi S 106 8) ∧ (0 ≤ b ∧ b < gi S 106 8) ∧ a ≠ b
  · obtain ⟨p1, p2, p3⟩ := hp
    have H := DtH_of R
    obtain ⟨S1, r, a1, a2, a3, a4, a5, a6, a7, a8⟩ := dates_both (d := d - 1) (by omega) (δ := δ) H agr_refl
    have hS1 : agr sTD S S1 := agr_sub a2 fun a k e => by
      rcases sDt_of e with rfl | rfl <;> rfl
    obtain ⟨T1, b1, b2, b3⟩ := a8 (up S1 106 0 (vI 0)) (agr_up hS1 rfl)
    have hr : r = 1 := a4.mpr (by
      obtain ⟨_, _, _, _, _, g6, _, _, g9, ⟨y, y1, y2⟩, _⟩ := R.2.2.2.2.2.2.1
      refine ⟨y, fun l hl => y1 l (by omega), fun a b hab => ?_⟩
      obtain ⟨h1, h2, h3, h4, h5, h6, h7, h8, h9, h10, h11, h12, h13, h14⟩ := H
      obtain ⟨w, q1, q2, q3⟩ := (ed_iff h4 h6 h8 h11 h12 h13 h14 a b).mpr hab
      have := h11 w q1
      unfold aX at q2
      unfold bX at q3
      have := y2 a b ⟨w, by omega, by omega, by omega⟩
      exact this)
    have b3a := b3 hr a.toNat (by omega)
    have b3b := b3 hr b.toNat (by omega)
    have hn1 : gi S1 106 8 = gi S 106 8 := agr_gi a2 rfl
    refine OpR_ask (r := if gi S1 52 a.toNat < gi S1 51 b.toNat then 1 else 0) (S1 := S1) (S2 := T1) R ?_ ?_ (scr_dt a2) (agr_trans (agr_up agr_refl rfl) (scr_dm b2))
    · (obtain ⟨d, rfl⟩ : ∃ k, d = k + 1 := ⟨d - 1, by omega⟩); rw [b_M_succ]; rw [show d + 1 - 1 = d from rfl] at a1
      simp (disch := first | assumption | omega | exact b2_01d | decide | (simp (disch := omega) only [tg_42, vc_42_17, tg_52, ln_52, ia_52, pt_52, vc_42_16, tg_51, ln_51, ia_51, pt_51, w32_id, w32_gi, w32_w32, w32_b2, Int.toNat_natCast, gi_up, vi_vI, tgd, lnd, and_true, true_and, and_false, false_and, Nat.reduceLeDiff, Nat.reduceLT, ↓reduceIte, b_c1I, b_c1R, b_c1N, cs_0, cs_nil, cs_I, cs_L, cs_R, cs_N] <;> omega) | fail) only [vI_def, vI_sx8, vI_sx16, sx8_sx8, sx16_sx16, w32_sx8, w32_sx16, xci_ex, xv_ex, lk_21, lk_22, lk_2, tgd, lnd, vld, iad, lad, ptd, std, nw_ov, bump_ov, ov_1, cv_ret, cu_ret, cv_thr, cu_thr, th_eq, ent_nil, ent_I, ent_L, ent_R, ent_N, List.tail_cons, List.tail_nil, w32_gi, w32_w32, w32_b2, b2_eq0, b2_eq1, b2_ne0, b2_01, w64_gi, w64_gl, w64_w32, w64_w64, vI_w32, vL_w64, gi_up, gl_up, vi_vI, vlg_vL, swt_nil, swt_cons, F_ite, and_true, true_and, and_false, false_and, and_self, or_true, true_or, or_false, false_or, not_true_eq_false, not_false_eq_true, b_c1I, b_c1R, b_c1N, cs_0, w32_lc, lc_lt, lc_gt, lc_le, lc_ge, lc_eq, w32_id, w64_id, eq_self, Nat.reduceEqDiff, Nat.reduceLeDiff, Nat.reduceAdd, Nat.reduceMul, Int.reduceLT, Int.reduceLE, Int.reduceEq, Int.reduceNeg, Int.reduceAdd, Int.reduceSub, Int.reduceMul, Int.reduceToNat, Int.toNat_natCast, nc_lit, Int.add_sub_cancel, Int.tmod_eq_emod_of_nonneg, Int.tdiv_eq_ediv_of_nonneg, Int.natCast_add, Int.natCast_mul, if_pos, if_neg, ↓reduceIte, e1225_0, e1225_1, e1225_2, e1225_5, e1225_8, e1225_9, e1225_10, e1225_13, e1225_16, e1225_17, e1225_18, e1225_21, e1225_23, e1225_24, e1225_25, e1225_28, e1225_29, e1225_30, e1225_33, e1225_34, e1225_35, e1225_36, e1225_39, e1225_40, e1225_41, e1225_44, e1225_45, e1225_48, e1225_49, tg_42, vc_42_17, tg_52, ln_52, ia_52, pt_52, vc_42_16, tg_51, ln_51, ia_51, pt_51, X_isLayer, r5.1, p1, p2, p3, a1]
      all_goals ((repeat' split) <;> first | with_reducible rfl | (exfalso; omega) | (rw [b2_t (by omega)]) | (rw [b2_f (by omega)]) | rfl)
    · (obtain ⟨d, rfl⟩ : ∃ k, d = k + 1 := ⟨d - 1, by omega⟩); rw [b_M_succ]; rw [show d + 1 - 1 = d from rfl] at b1
      simp (disch := first | assumption | omega | exact b2_01d | decide | (simp (disch := omega) only [tg_106, ia_106_0, pt_106_0, vc_106_44, tg_138, ln_138, ia_138, pt_138, vc_106_43, tg_137, ln_137, ia_137, pt_137, w32_id, w32_gi, w32_w32, w32_b2, Int.toNat_natCast, gi_up, vi_vI, tgd, lnd, and_true, true_and, and_false, false_and, Nat.reduceLeDiff, Nat.reduceLT, ↓reduceIte, b_c1I, b_c1R, b_c1N, cs_0, cs_nil, cs_I, cs_L, cs_R, cs_N] <;> omega) | fail) only [vI_def, vI_sx8, vI_sx16, sx8_sx8, sx16_sx16, w32_sx8, w32_sx16, xci_ex, xv_ex, lk_21, lk_22, lk_2, tgd, lnd, vld, iad, lad, ptd, std, nw_ov, bump_ov, ov_1, cv_ret, cu_ret, cv_thr, cu_thr, th_eq, ent_nil, ent_I, ent_L, ent_R, ent_N, List.tail_cons, List.tail_nil, w32_gi, w32_w32, w32_b2, b2_eq0, b2_eq1, b2_ne0, b2_01, w64_gi, w64_gl, w64_w32, w64_w64, vI_w32, vL_w64, gi_up, gl_up, vi_vI, vlg_vL, swt_nil, swt_cons, F_ite, and_true, true_and, and_false, false_and, and_self, or_true, true_or, or_false, false_or, not_true_eq_false, not_false_eq_true, b_c1I, b_c1R, b_c1N, cs_0, w32_lc, lc_lt, lc_gt, lc_le, lc_ge, lc_eq, w32_id, w64_id, eq_self, Nat.reduceEqDiff, Nat.reduceLeDiff, Nat.reduceAdd, Nat.reduceMul, Int.reduceLT, Int.reduceLE, Int.reduceEq, Int.reduceNeg, Int.reduceAdd, Int.reduceSub, Int.reduceMul, Int.reduceToNat, Int.toNat_natCast, nc_lit, Int.add_sub_cancel, Int.tmod_eq_emod_of_nonneg, Int.tdiv_eq_ediv_of_nonneg, Int.natCast_add, Int.natCast_mul, if_pos, if_neg, ↓reduceIte, e1024_0, e1024_1, e1024_2, e1024_5, e1024_6, e1024_7, e1024_10, e1024_13, e1024_14, e1024_15, e1024_18, e1024_21, e1024_22, e1024_23, e1024_26, e1024_28, e1024_29, e1024_30, e1024_33, e1024_34, e1024_35, e1024_38, e1024_39, e1024_40, e1024_41, e1024_44, e1024_45, e1024_46, e1024_49, e1024_50, e1024_53, e1024_54, tg_106, ia_106_0, pt_106_0, vc_106_44, tg_138, ln_138, ia_138, pt_138, vc_106_43, tg_137, ln_137, ia_137, pt_137, M_in, M_isLayer, hn1, p1, p2, p3, b1, b3a, b3b]
      all_goals ((repeat' split) <;> first | with_reducible rfl | (exfalso; omega) | (rw [b2_t (by omega)]) | (rw [b2_f (by omega)]) | rfl)
  · refine OpR_ask (r := -2) (S1 := S) (S2 := up S 106 0 (vI 0)) R ?_ ?_ agr_refl agr_th
    · (obtain ⟨d, rfl⟩ : ∃ k, d = k + 1 := ⟨d - 1, by omega⟩); rw [b_M_succ]; simp (disch := first | assumption | omega | exact b2_01d | decide | (simp (disch := omega) only [tg_42, vc_42_17, tg_52, ln_52, ia_52, pt_52, vc_42_16, tg_51, ln_51, ia_51, pt_51, w32_id, w32_gi, w32_w32, w32_b2, Int.toNat_natCast, gi_up, vi_vI, tgd, lnd, and_true, true_and, and_false, false_and, Nat.reduceLeDiff, Nat.reduceLT, ↓reduceIte, b_c1I, b_c1R, b_c1N, cs_0, cs_nil, cs_I, cs_L, cs_R, cs_N] <;> omega) | fail) only [vI_def, vI_sx8, vI_sx16, sx8_sx8, sx16_sx16, w32_sx8, w32_sx16, xci_ex, xv_ex, lk_21, lk_22, lk_2, tgd, lnd, vld, iad, lad, ptd, std, nw_ov, bump_ov, ov_1, cv_ret, cu_ret, cv_thr, cu_thr, th_eq, ent_nil, ent_I, ent_L, ent_R, ent_N, List.tail_cons, List.tail_nil, w32_gi, w32_w32, w32_b2, b2_eq0, b2_eq1, b2_ne0, b2_01, w64_gi, w64_gl, w64_w32, w64_w64, vI_w32, vL_w64, gi_up, gl_up, vi_vI, vlg_vL, swt_nil, swt_cons, F_ite, and_true, true_and, and_false, false_and, and_self, or_true, true_or, or_false, false_or, not_true_eq_false, not_false_eq_true, b_c1I, b_c1R, b_c1N, cs_0, w32_lc, lc_lt, lc_gt, lc_le, lc_ge, lc_eq, w32_id, w64_id, eq_self, Nat.reduceEqDiff, Nat.reduceLeDiff, Nat.reduceAdd, Nat.reduceMul, Int.reduceLT, Int.reduceLE, Int.reduceEq, Int.reduceNeg, Int.reduceAdd, Int.reduceSub, Int.reduceMul, Int.reduceToNat, Int.toNat_natCast, nc_lit, Int.add_sub_cancel, Int.tmod_eq_emod_of_nonneg, Int.tdiv_eq_ediv_of_nonneg, Int.natCast_add, Int.natCast_mul, if_pos, if_neg, ↓reduceIte, e1225_0, e1225_1, e1225_2, e1225_5, e1225_8, e1225_9, e1225_10, e1225_13, e1225_16, e1225_17, e1225_18, e1225_21, e1225_23, e1225_24, e1225_25, e1225_28, e1225_29, e1225_30, e1225_33, e1225_34, e1225_35, e1225_36, e1225_39, e1225_40, e1225_41, e1225_44, e1225_45, e1225_48, e1225_49, tg_42, vc_42_17, tg_52, ln_52, ia_52, pt_52, vc_42_16, tg_51, ln_51, ia_51, pt_51, X_isLayer, r5.1]
      all_goals ((repeat' split) <;> first | with_reducible rfl | (exfalso; omega) | (rw [b2_t (by omega)]) | (rw [b2_f (by omega)]) | rfl)
    · (obtain ⟨d, rfl⟩ : ∃ k, d = k + 1 := ⟨d - 1, by omega⟩); rw [b_M_succ]; simp (disch := first | assumption | omega | exact b2_01d | decide | (simp (disch := omega) only [tg_106, ia_106_0, pt_106_0, vc_106_44, tg_138, ln_138, ia_138, pt_138, vc_106_43, tg_137, ln_137, ia_137, pt_137, w32_id, w32_gi, w32_w32, w32_b2, Int.toNat_natCast, gi_up, vi_vI, tgd, lnd, and_true, true_and, and_false, false_and, Nat.reduceLeDiff, Nat.reduceLT, ↓reduceIte, b_c1I, b_c1R, b_c1N, cs_0, cs_nil, cs_I, cs_L, cs_R, cs_N] <;> omega) | fail) only [vI_def, vI_sx8, vI_sx16, sx8_sx8, sx16_sx16, w32_sx8, w32_sx16, xci_ex, xv_ex, lk_21, lk_22, lk_2, tgd, lnd, vld, iad, lad, ptd, std, nw_ov, bump_ov, ov_1, cv_ret, cu_ret, cv_thr, cu_thr, th_eq, ent_nil, ent_I, ent_L, ent_R, ent_N, List.tail_cons, List.tail_nil, w32_gi, w32_w32, w32_b2, b2_eq0, b2_eq1, b2_ne0, b2_01, w64_gi, w64_gl, w64_w32, w64_w64, vI_w32, vL_w64, gi_up, gl_up, vi_vI, vlg_vL, swt_nil, swt_cons, F_ite, and_true, true_and, and_false, false_and, and_self, or_true, true_or, or_false, false_or, not_true_eq_false, not_false_eq_true, b_c1I, b_c1R, b_c1N, cs_0, w32_lc, lc_lt, lc_gt, lc_le, lc_ge, lc_eq, w32_id, w64_id, eq_self, Nat.reduceEqDiff, Nat.reduceLeDiff, Nat.reduceAdd, Nat.reduceMul, Int.reduceLT, Int.reduceLE, Int.reduceEq, Int.reduceNeg, Int.reduceAdd, Int.reduceSub, Int.reduceMul, Int.reduceToNat, Int.toNat_natCast, nc_lit, Int.add_sub_cancel, Int.tmod_eq_emod_of_nonneg, Int.tdiv_eq_ediv_of_nonneg, Int.natCast_add, Int.natCast_mul, if_pos, if_neg, ↓reduceIte, e1024_0, e1024_1, e1024_2, e1024_5, e1024_6, e1024_7, e1024_10, e1024_13, e1024_14, e1024_15, e1024_18, e1024_21, e1024_22, e1024_23, e1024_26, e1024_28, e1024_29, e1024_30, e1024_33, e1024_34, e1024_35, e1024_38, e1024_39, e1024_40, e1024_41, e1024_44, e1024_45, e1024_46, e1024_49, e1024_50, e1024_53, e1024_54, tg_106, ia_106_0, pt_106_0, vc_106_44, tg_138, ln_138, ia_138, pt_138, vc_106_43, tg_137, ln_137, ia_137, pt_137, M_in, M_isLayer]
      all_goals ((repeat' split) <;> first | with_reducible rfl | (exfalso; omega) | (rw [b2_t (by omega)]) | (rw [b2_f (by omega)]) | rfl)
theorem op_sealed {h : Nat → Cl} {c d : Nat} {S : Mm} {δ : Sg} (hd : 6 ≤ d) {l w : Int} (hl : (-2147483648 ≤ l ∧ l ≤ 2147483647)) (hw : (-2147483648 ≤ w ∧ w ≤ 2147483647)) (R : Rel h c S δ) : OpR h c d S δ 1220 1020 [vI l, vI w] := by
  have r5 := R.2.2.2.2.1
  have hn := r5.2.1
  by_cases hp : (0 ≤ l ∧ l < gi S 106 8) ∧ (0 ≤ w ∧ w ≤ 2000)
  · obtain ⟨p1, p2⟩ := hp
    have hL := r5.2.2 l.toNat (by omega)
    have hww : w32 w = w := w32_id hw.1 hw.2
    -- the state as both see it: the seal is told on both sides
    have H : DtH (up (up S 48 l.toNat (vI w)) 118 l.toNat (vI w)) (gi S 106 8).toNat (gi S 42 13).toNat (gi S 106 12).toNat (gi S 106 13).toNat := by
      have H0 := DtH_of R
      unfold DtH eX eO eJ at H0 ⊢
      obtain ⟨h1, h2, h3, h4, h5, h6, h7, h8, h9, h10, h11, h12, h13, h14⟩ := H0
      simp (disch := first | omega | fail) only [hww, gi_up, gl_up, gi_fill, gl_fill, up_at, fill_at, vi_vI, vlg_vL, w32_id, w64_id, w32_gi, w32_w32, w64_gl, w64_w32, Nat.reduceEqDiff, and_true, true_and, and_false, false_and, and_self, eq_self, ↓reduceIte]
      refine ⟨h1, h2, h3, h4, h5, h6, h7, h8, h9, fun j hj => ?_, h11, h12, h13, h14⟩
      have q := h10 j hj
      refine ⟨q.1, q.2.1, ?_⟩
      by_cases e : j = l.toNat
      · rw [if_pos e, if_pos e]; exact ⟨rfl, p2⟩
      · rw [if_neg e, if_neg e]; exact q.2.2
    have hV : agr sVD (up (up S 48 l.toNat (vI w)) 118 l.toNat (vI w)) (up S 48 l.toNat (vI w)) := fun a k e => (ne_up (fun z => by rw [z.1] at e; cases e)).symm
    obtain ⟨S1, r, a1, a2, a3, a4, a5, a6, a7, a8⟩ := dates_both (d := d - 1) (by omega) (δ := δ) H hV
    have gS : ∀ a k : Nat, a ≠ 51 → a ≠ 52 → S1 a k = up S 48 l.toNat (vI w) a k := fun a k e1 e2 => a2 a k (by unfold sDt; rw [decide_eq_false e1, decide_eq_false e2]; rfl)
    rcases a3 with hr | hr
    · -- no years go together
      have hT : agr sTD (up (up S 48 l.toNat (vI w)) 118 l.toNat (vI w)) (up (up (up S1 48 l.toNat (vI (gi S 48 l.toNat))) 106 0 (vI 0)) 118 l.toNat (vI w)) := by
        intro a k e
        simp only [sTD, Bool.or_eq_false_iff, Bool.and_eq_false_iff, decide_eq_false_iff_not] at e
        by_cases q : a = 118 ∧ k = l.toNat
        · exact (if_pos q).trans (if_pos q).symm
        · rw [ne_up q, ne_up q, ne_up (by omega), ne_up (by omega), gS a k (by omega) (by omega)]
      obtain ⟨T1, b1, b2, b3⟩ := a8 _ hT
      have gT : ∀ a k : Nat, a ≠ 137 → a ≠ 138 → T1 a k = (up (up (up S1 48 l.toNat (vI (gi S 48 l.toNat))) 106 0 (vI 0)) 118 l.toNat (vI w)) a k := fun a k e1 e2 => b2 a k (by unfold sDm; rw [decide_eq_false e1, decide_eq_false e2]; rfl)
      refine ⟨-7, up S1 48 l.toNat (vI (gi S 48 l.toNat)), δ, up T1 118 l.toNat (vI (gi S 118 l.toNat)), ?_, ?_, ?_⟩
      · (obtain ⟨d, rfl⟩ : ∃ k, d = k + 1 := ⟨d - 1, by omega⟩); rw [b_M_succ]; rw [show d + 1 - 1 = d from rfl] at a1
        rw [hr] at a1
        simp (disch := first | assumption | omega | exact b2_01d | decide | (simp (disch := omega) only [tg_42, vc_42_5, tg_48, ln_48, ia_48, pt_48, w32_id, w32_gi, w32_w32, w32_b2, Int.toNat_natCast, gi_up, vi_vI, tgd, lnd, and_true, true_and, and_false, false_and, Nat.reduceLeDiff, Nat.reduceLT, ↓reduceIte, b_c1I, b_c1R, b_c1N, cs_0, cs_nil, cs_I, cs_L, cs_R, cs_N] <;> omega) | fail) only [vI_def, vI_sx8, vI_sx16, sx8_sx8, sx16_sx16, w32_sx8, w32_sx16, xci_ex, xv_ex, lk_21, lk_22, lk_2, tgd, lnd, vld, iad, lad, ptd, std, nw_ov, bump_ov, ov_1, cv_ret, cu_ret, cv_thr, cu_thr, th_eq, ent_nil, ent_I, ent_L, ent_R, ent_N, List.tail_cons, List.tail_nil, w32_gi, w32_w32, w32_b2, b2_eq0, b2_eq1, b2_ne0, b2_01, w64_gi, w64_gl, w64_w32, w64_w64, vI_w32, vL_w64, gi_up, gl_up, vi_vI, vlg_vL, swt_nil, swt_cons, F_ite, and_true, true_and, and_false, false_and, and_self, or_true, true_or, or_false, false_or, not_true_eq_false, not_false_eq_true, b_c1I, b_c1R, b_c1N, cs_0, w32_lc, lc_lt, lc_gt, lc_le, lc_ge, lc_eq, w32_id, w64_id, eq_self, Nat.reduceEqDiff, Nat.reduceLeDiff, Nat.reduceAdd, Nat.reduceMul, Int.reduceLT, Int.reduceLE, Int.reduceEq, Int.reduceNeg, Int.reduceAdd, Int.reduceSub, Int.reduceMul, Int.reduceToNat, Int.toNat_natCast, nc_lit, Int.add_sub_cancel, Int.tmod_eq_emod_of_nonneg, Int.tdiv_eq_ediv_of_nonneg, Int.natCast_add, Int.natCast_mul, if_pos, if_neg, ↓reduceIte, e1220_0, e1220_1, e1220_2, e1220_5, e1220_8, e1220_9, e1220_10, e1220_11, e1220_14, e1220_17, e1220_20, e1220_22, e1220_23, e1220_24, e1220_27, e1220_28, e1220_29, e1220_30, e1220_31, e1220_34, e1220_35, e1220_36, e1220_37, e1220_38, e1220_41, e1220_44, e1220_45, e1220_46, e1220_47, e1220_50, e1220_51, e1220_52, e1220_53, e1220_55, tg_42, vc_42_5, tg_48, ln_48, ia_48, pt_48, X_in, X_isLayer, r5.1, p1, p2, a1]
      · have hn1 : gi (up S1 48 l.toNat (vI (gi S 48 l.toNat))) 106 8 = gi S 106 8 := by
          rw [gi_up, if_neg (by omega)]
          show b_vi (S1 106 8) = b_vi (S 106 8)
          rw [gS _ _ (by omega) (by omega), ne_up (by omega)]
        have hs1 : gi (up S1 48 l.toNat (vI (gi S 48 l.toNat))) 118 l.toNat = gi S 118 l.toNat := by
          rw [gi_up, if_neg (by omega)]
          show b_vi (S1 118 _) = b_vi (S 118 _)
          rw [gS _ _ (by omega) (by omega), ne_up (by omega)]
        (obtain ⟨d, rfl⟩ : ∃ k, d = k + 1 := ⟨d - 1, by omega⟩); rw [b_M_succ]; rw [show d + 1 - 1 = d from rfl] at b1
        rw [hr] at b1
        simp (disch := first | assumption | omega | exact b2_01d | decide | (simp (disch := omega) only [tg_106, ia_106_0, pt_106_0, vc_106_21, tg_118, ln_118, ia_118, pt_118, w32_id, w32_gi, w32_w32, w32_b2, Int.toNat_natCast, gi_up, vi_vI, tgd, lnd, and_true, true_and, and_false, false_and, Nat.reduceLeDiff, Nat.reduceLT, ↓reduceIte, b_c1I, b_c1R, b_c1N, cs_0, cs_nil, cs_I, cs_L, cs_R, cs_N] <;> omega) | fail) only [vI_def, vI_sx8, vI_sx16, sx8_sx8, sx16_sx16, w32_sx8, w32_sx16, xci_ex, xv_ex, lk_21, lk_22, lk_2, tgd, lnd, vld, iad, lad, ptd, std, nw_ov, bump_ov, ov_1, cv_ret, cu_ret, cv_thr, cu_thr, th_eq, ent_nil, ent_I, ent_L, ent_R, ent_N, List.tail_cons, List.tail_nil, w32_gi, w32_w32, w32_b2, b2_eq0, b2_eq1, b2_ne0, b2_01, w64_gi, w64_gl, w64_w32, w64_w64, vI_w32, vL_w64, gi_up, gl_up, vi_vI, vlg_vL, swt_nil, swt_cons, F_ite, and_true, true_and, and_false, false_and, and_self, or_true, true_or, or_false, false_or, not_true_eq_false, not_false_eq_true, b_c1I, b_c1R, b_c1N, cs_0, w32_lc, lc_lt, lc_gt, lc_le, lc_ge, lc_eq, w32_id, w64_id, eq_self, Nat.reduceEqDiff, Nat.reduceLeDiff, Nat.reduceAdd, Nat.reduceMul, Int.reduceLT, Int.reduceLE, Int.reduceEq, Int.reduceNeg, Int.reduceAdd, Int.reduceSub, Int.reduceMul, Int.reduceToNat, Int.toNat_natCast, nc_lit, Int.add_sub_cancel, Int.tmod_eq_emod_of_nonneg, Int.tdiv_eq_ediv_of_nonneg, Int.natCast_add, Int.natCast_mul, if_pos, if_neg, ↓reduceIte, e1020_0, e1020_1, e1020_2, e1020_5, e1020_6, e1020_7, e1020_10, e1020_13, e1020_14, e1020_15, e1020_16, e1020_19, e1020_22, e1020_25, e1020_27, e1020_28, e1020_29, e1020_32, e1020_33, e1020_34, e1020_35, e1020_36, e1020_39, e1020_40, e1020_41, e1020_42, e1020_43, e1020_46, e1020_49, e1020_50, e1020_51, e1020_52, e1020_55, e1020_56, e1020_57, e1020_58, e1020_60, tg_106, ia_106_0, pt_106_0, vc_106_21, tg_118, ln_118, ia_118, pt_118, M_in, M_isLayer, hn1, hs1, p1, p2, b1]
      · have key : ∀ a k : Nat, scr a k = false → (a ≠ 48 ∨ k ≠ l.toNat) → (a ≠ 118 ∨ k ≠ l.toNat) → up T1 118 l.toNat (vI (gi S 118 l.toNat)) a k = S a k := by
          intro a k e e1 e2
          have n1 : a ≠ 137 ∧ a ≠ 138 ∧ a ≠ 51 ∧ a ≠ 52 := by
            refine ⟨?_, ?_, ?_, ?_⟩ <;> (rintro rfl; cases e)
          have n2 : ¬ (a = 106 ∧ k = 0) := by
            rintro ⟨rfl, rfl⟩; cases e
          rw [ne_up (by omega), gT a k n1.1 n1.2.1, ne_up (by omega), ne_up n2, ne_up (by omega), gS a k n1.2.2.1 n1.2.2.2, ne_up (by omega)]
        have keyI : ∀ a k : Nat, scr a k = false → gi (up T1 118 l.toNat (vI (gi S 118 l.toNat))) a k = gi S a k := by
          intro a k e
          by_cases q1 : a = 118 ∧ k = l.toNat
          · rw [gi_up, if_pos q1, q1.1, q1.2, vi_vI, w32_gi]
          · by_cases q2 : a = 48 ∧ k = l.toNat
            · rw [gi_up, if_neg q1]
              show b_vi (T1 a k) = _
              rw [gT a k (by omega) (by omega), up_at, if_neg q1, ne_up (by omega), up_at, if_pos q2, q2.1, q2.2, vi_vI, w32_gi]
            · exact congrArg b_vi (key a k e (by omega) (by omega))
        obtain ⟨r1, r2, r3, r4, r5, r6, r7, r8, r9, r10, r11, r12, r13, r14⟩ := Rel_c R
        have keyA : ∀ B : Nat → Nat → Bool, (∀ a k, scr a k = true → B a k = true) → (∀ k, B 48 k = true) → (∀ k, B 118 k = true) → agr B S (up T1 118 l.toNat (vI (gi S 118 l.toNat))) := by
          intro B h1 h2 h3 a k e
          refine key a k ?_ (Or.inl ?_) (Or.inl ?_)
          · cases q : scr a k with
            | false => rfl
            | true => rw [h1 a k q] at e; cases e
          · rintro rfl; rw [h2 k] at e; cases e
          · rintro rfl; rw [h3 k] at e; cases e
        have hg : ∀ B : Nat → Nat → Bool, (∀ a k, scr a k = true → B a k = true) → ∀ a k, B a k = false → gi (up T1 118 l.toNat (vI (gi S 118 l.toNat))) a k = gi S a k := by
          intro B h1 a k e
          refine keyI a k ?_
          cases q : scr a k with
          | false => rfl
          | true => rw [h1 a k q] at e; cases e
        exact ⟨r1, fr_RT (keyA _ (fun _ _ => sRT_scr) (fun _ => rfl) (fun _ => rfl)) r2, fr_RR (keyA _ (fun _ _ => sRR_scr) (fun _ => rfl) (fun _ => rfl)) r3, fr_RE (keyA _ (fun _ _ => sRE_scr) (fun _ => rfl) (fun _ => rfl)) r4, fg_RL (hg _ fun _ _ => sRL_scr) r5, fr_RB (keyA _ (fun _ _ => sRB_scr) (fun _ => rfl) (fun _ => rfl)) r6, fg_RG (hg _ fun _ _ => sRG_scr) r7, fr_RH (keyA _ (fun _ _ => sRH_scr) (fun _ => rfl) (fun _ => rfl)) r8, fr_RA (keyA _ (fun _ _ => sRA_scr) (fun _ => rfl) (fun _ => rfl)) r9, fr_RP (keyA _ (fun _ _ => sRP_scr) (fun _ => rfl) (fun _ => rfl)) r10, fr_RQ (keyA _ (fun _ _ => sRQ_scr) (fun _ => rfl) (fun _ => rfl)) r11, fr_RY (keyA _ (fun _ _ => sRY_scr) (fun _ => rfl) (fun _ => rfl)) r12, fr_RF (keyA _ (fun _ _ => sRF_scr) (fun _ => rfl) (fun _ => rfl)) r13, fr_RK (keyA _ (fun _ _ => sRK_scr) (fun _ => rfl) (fun _ => rfl)) r14⟩
    · -- they go together
      have hT : agr sTD (up (up S 48 l.toNat (vI w)) 118 l.toNat (vI w)) (up (up S1 106 0 (vI 0)) 118 l.toNat (vI w)) := by
        intro a k e
        simp only [sTD, Bool.or_eq_false_iff, Bool.and_eq_false_iff, decide_eq_false_iff_not] at e
        by_cases q : a = 118 ∧ k = l.toNat
        · exact (if_pos q).trans (if_pos q).symm
        · rw [ne_up q, ne_up q, ne_up (by omega), gS a k (by omega) (by omega)]
      obtain ⟨T1, b1, b2, b3⟩ := a8 _ hT
      have hA : agr scr (up (up S 48 l.toNat (vI w)) 118 l.toNat (vI w)) T1 := by
        refine agr_trans ?_ (scr_dm b2)
        intro a k e
        have n1 : a ≠ 51 ∧ a ≠ 52 := by
          refine ⟨?_, ?_⟩ <;> (rintro rfl; cases e)
        have n2 : ¬ (a = 106 ∧ k = 0) := by
          rintro ⟨rfl, rfl⟩; cases e
        by_cases q : a = 118 ∧ k = l.toNat
        · exact (if_pos q).trans (if_pos q).symm
        · rw [ne_up q, ne_up q, ne_up n2, gS a k n1.1 n1.2]
      have RU : Rel h (c + 1) (up (up S 48 l.toNat (vI w)) 118 l.toNat (vI w)) δ := by
        obtain ⟨y, y1, y2⟩ := a4.mp hr
        obtain ⟨r1, r2, r3, r4, r5, r6, r7, r8, r9, r10, r11, r12, r13, r14⟩ := Rel_c R; refine ⟨r1, fr_RT (by repeat' first | exact agr_refl | refine agr_up ?_ rfl | refine agr_fill ?_ (fun _ => rfl) | assumption) r2, fr_RR (by repeat' first | exact agr_refl | refine agr_up ?_ rfl | refine agr_fill ?_ (fun _ => rfl) | assumption) r3, fr_RE (by repeat' first | exact agr_refl | refine agr_up ?_ rfl | refine agr_fill ?_ (fun _ => rfl) | assumption) r4, ?_, fr_RB (by repeat' first | exact agr_refl | refine agr_up ?_ rfl | refine agr_fill ?_ (fun _ => rfl) | assumption) r6, ?_, fr_RH (by repeat' first | exact agr_refl | refine agr_up ?_ rfl | refine agr_fill ?_ (fun _ => rfl) | assumption) r8, fr_RA (by repeat' first | exact agr_refl | refine agr_up ?_ rfl | refine agr_fill ?_ (fun _ => rfl) | assumption) r9, fr_RP (by repeat' first | exact agr_refl | refine agr_up ?_ rfl | refine agr_fill ?_ (fun _ => rfl) | assumption) r10, fr_RQ (by repeat' first | exact agr_refl | refine agr_up ?_ rfl | refine agr_fill ?_ (fun _ => rfl) | assumption) r11, fr_RY (by repeat' first | exact agr_refl | refine agr_up ?_ rfl | refine agr_fill ?_ (fun _ => rfl) | assumption) r12, fr_RF (by repeat' first | exact agr_refl | refine agr_up ?_ rfl | refine agr_fill ?_ (fun _ => rfl) | assumption) r13, fr_RK (by repeat' first | exact agr_refl | refine agr_up ?_ rfl | refine agr_fill ?_ (fun _ => rfl) | assumption) r14⟩
        · simp (disch := first | omega | fail) only [RL, hww, gi_up, gl_up, gi_fill, gl_fill, up_at, fill_at, vi_vI, vlg_vL, w32_id, w64_id, w32_gi, w32_w32, w64_gl, w64_w32, Nat.reduceEqDiff, and_true, true_and, and_false, false_and, and_self, eq_self, ↓reduceIte]
          refine ⟨r5.1, r5.2.1, fun j hj => ?_⟩
          have q := r5.2.2 j hj
          refine ⟨q.1, q.2.1, ?_⟩
          by_cases e : j = l.toNat
          · rw [if_pos e, if_pos e]; exact ⟨rfl, p2⟩
          · rw [if_neg e, if_neg e]; exact q.2.2
        · obtain ⟨g1, g2, g3, g4, g5, g6, g7, g8, g9, g10, g11⟩ := r7
          have hed : ∀ a b, eX S a b → EdM (up (up S 48 l.toNat (vI w)) 118 l.toNat (vI w)) (gi S 106 12).toNat (gi S 106 13).toNat a.toNat b.toNat := by
            intro a b hab
            obtain ⟨h1, h2, h3, h4, h5, h6, h7, h8, h9, h10, h11, h12, h13, h14⟩ := H
            refine (ed_iff h4 h6 h8 h11 h12 h13 h14 a.toNat b.toNat).mp ?_
            obtain ⟨v, v1, v2, v3⟩ := hab
            refine ⟨v, by omega, ?_, ?_⟩
            · unfold aX
              simp (disch := first | omega | fail) only [v2, gi_up, gl_up, gi_fill, gl_fill, up_at, fill_at, vi_vI, vlg_vL, w32_id, w64_id, w32_gi, w32_w32, w64_gl, w64_w32, Nat.reduceEqDiff, and_true, true_and, and_false, false_and, and_self, eq_self, ↓reduceIte]
            · unfold bX
              simp (disch := first | omega | fail) only [v3, gi_up, gl_up, gi_fill, gl_fill, up_at, fill_at, vi_vI, vlg_vL, w32_id, w64_id, w32_gi, w32_w32, w64_gl, w64_w32, Nat.reduceEqDiff, and_true, true_and, and_false, false_and, and_self, eq_self, ↓reduceIte]
          simp (disch := first | omega | fail) only [RG, eX, eO, eJ, okY, Tc, gi_up, gl_up, gi_fill, gl_fill, up_at, fill_at, vi_vI, vlg_vL, w32_id, w64_id, w32_gi, w32_w32, w64_gl, w64_w32, Nat.reduceEqDiff, and_true, true_and, and_false, false_and, and_self, eq_self, ↓reduceIte]
          refine ⟨g1, g2, g3, g4, g5, g6, g7, g8, g9, ⟨y, fun j hj => ?_, fun a b hab => y2 _ _ (hed a b hab)⟩, g11⟩
          have q := y1 j (by omega)
          revert q
          simp (disch := first | omega | fail) only [hww, gi_up, gl_up, gi_fill, gl_fill, up_at, fill_at, vi_vI, vlg_vL, w32_id, w64_id, w32_gi, w32_w32, w64_gl, w64_w32, Nat.reduceEqDiff, and_true, true_and, and_false, false_and, and_self, eq_self, ↓reduceIte]
          exact id
      refine ⟨0, S1, δ, T1, ?_, ?_, Rel_scr hA RU⟩
      · (obtain ⟨d, rfl⟩ : ∃ k, d = k + 1 := ⟨d - 1, by omega⟩); rw [b_M_succ]; rw [show d + 1 - 1 = d from rfl] at a1
        rw [hr] at a1
        simp (disch := first | assumption | omega | exact b2_01d | decide | (simp (disch := omega) only [tg_42, vc_42_5, tg_48, ln_48, ia_48, pt_48, w32_id, w32_gi, w32_w32, w32_b2, Int.toNat_natCast, gi_up, vi_vI, tgd, lnd, and_true, true_and, and_false, false_and, Nat.reduceLeDiff, Nat.reduceLT, ↓reduceIte, b_c1I, b_c1R, b_c1N, cs_0, cs_nil, cs_I, cs_L, cs_R, cs_N] <;> omega) | fail) only [vI_def, vI_sx8, vI_sx16, sx8_sx8, sx16_sx16, w32_sx8, w32_sx16, xci_ex, xv_ex, lk_21, lk_22, lk_2, tgd, lnd, vld, iad, lad, ptd, std, nw_ov, bump_ov, ov_1, cv_ret, cu_ret, cv_thr, cu_thr, th_eq, ent_nil, ent_I, ent_L, ent_R, ent_N, List.tail_cons, List.tail_nil, w32_gi, w32_w32, w32_b2, b2_eq0, b2_eq1, b2_ne0, b2_01, w64_gi, w64_gl, w64_w32, w64_w64, vI_w32, vL_w64, gi_up, gl_up, vi_vI, vlg_vL, swt_nil, swt_cons, F_ite, and_true, true_and, and_false, false_and, and_self, or_true, true_or, or_false, false_or, not_true_eq_false, not_false_eq_true, b_c1I, b_c1R, b_c1N, cs_0, w32_lc, lc_lt, lc_gt, lc_le, lc_ge, lc_eq, w32_id, w64_id, eq_self, Nat.reduceEqDiff, Nat.reduceLeDiff, Nat.reduceAdd, Nat.reduceMul, Int.reduceLT, Int.reduceLE, Int.reduceEq, Int.reduceNeg, Int.reduceAdd, Int.reduceSub, Int.reduceMul, Int.reduceToNat, Int.toNat_natCast, nc_lit, Int.add_sub_cancel, Int.tmod_eq_emod_of_nonneg, Int.tdiv_eq_ediv_of_nonneg, Int.natCast_add, Int.natCast_mul, if_pos, if_neg, ↓reduceIte, e1220_0, e1220_1, e1220_2, e1220_5, e1220_8, e1220_9, e1220_10, e1220_11, e1220_14, e1220_17, e1220_20, e1220_22, e1220_23, e1220_24, e1220_27, e1220_28, e1220_29, e1220_30, e1220_31, e1220_34, e1220_35, e1220_36, e1220_37, e1220_38, e1220_41, e1220_44, e1220_45, e1220_46, e1220_47, e1220_50, e1220_51, e1220_52, e1220_53, e1220_55, tg_42, vc_42_5, tg_48, ln_48, ia_48, pt_48, X_in, X_isLayer, r5.1, p1, p2, a1]
      · have hn1 : gi S1 106 8 = gi S 106 8 := by
          show b_vi (S1 106 8) = b_vi (S 106 8)
          rw [gS _ _ (by omega) (by omega), ne_up (by omega)]
        have hs1 : gi S1 118 l.toNat = gi S 118 l.toNat := by
          show b_vi (S1 118 _) = b_vi (S 118 _)
          rw [gS _ _ (by omega) (by omega), ne_up (by omega)]
        (obtain ⟨d, rfl⟩ : ∃ k, d = k + 1 := ⟨d - 1, by omega⟩); rw [b_M_succ]; rw [show d + 1 - 1 = d from rfl] at b1
        rw [hr] at b1
        simp (disch := first | assumption | omega | exact b2_01d | decide | (simp (disch := omega) only [tg_106, ia_106_0, pt_106_0, vc_106_21, tg_118, ln_118, ia_118, pt_118, w32_id, w32_gi, w32_w32, w32_b2, Int.toNat_natCast, gi_up, vi_vI, tgd, lnd, and_true, true_and, and_false, false_and, Nat.reduceLeDiff, Nat.reduceLT, ↓reduceIte, b_c1I, b_c1R, b_c1N, cs_0, cs_nil, cs_I, cs_L, cs_R, cs_N] <;> omega) | fail) only [vI_def, vI_sx8, vI_sx16, sx8_sx8, sx16_sx16, w32_sx8, w32_sx16, xci_ex, xv_ex, lk_21, lk_22, lk_2, tgd, lnd, vld, iad, lad, ptd, std, nw_ov, bump_ov, ov_1, cv_ret, cu_ret, cv_thr, cu_thr, th_eq, ent_nil, ent_I, ent_L, ent_R, ent_N, List.tail_cons, List.tail_nil, w32_gi, w32_w32, w32_b2, b2_eq0, b2_eq1, b2_ne0, b2_01, w64_gi, w64_gl, w64_w32, w64_w64, vI_w32, vL_w64, gi_up, gl_up, vi_vI, vlg_vL, swt_nil, swt_cons, F_ite, and_true, true_and, and_false, false_and, and_self, or_true, true_or, or_false, false_or, not_true_eq_false, not_false_eq_true, b_c1I, b_c1R, b_c1N, cs_0, w32_lc, lc_lt, lc_gt, lc_le, lc_ge, lc_eq, w32_id, w64_id, eq_self, Nat.reduceEqDiff, Nat.reduceLeDiff, Nat.reduceAdd, Nat.reduceMul, Int.reduceLT, Int.reduceLE, Int.reduceEq, Int.reduceNeg, Int.reduceAdd, Int.reduceSub, Int.reduceMul, Int.reduceToNat, Int.toNat_natCast, nc_lit, Int.add_sub_cancel, Int.tmod_eq_emod_of_nonneg, Int.tdiv_eq_ediv_of_nonneg, Int.natCast_add, Int.natCast_mul, if_pos, if_neg, ↓reduceIte, e1020_0, e1020_1, e1020_2, e1020_5, e1020_6, e1020_7, e1020_10, e1020_13, e1020_14, e1020_15, e1020_16, e1020_19, e1020_22, e1020_25, e1020_27, e1020_28, e1020_29, e1020_32, e1020_33, e1020_34, e1020_35, e1020_36, e1020_39, e1020_40, e1020_41, e1020_42, e1020_43, e1020_46, e1020_49, e1020_50, e1020_51, e1020_52, e1020_55, e1020_56, e1020_57, e1020_58, e1020_60, tg_106, ia_106_0, pt_106_0, vc_106_21, tg_118, ln_118, ia_118, pt_118, M_in, M_isLayer, hn1, hs1, p1, p2, b1]
  · refine OpR_ask (r := -2) (S1 := S) (S2 := up S 106 0 (vI 0)) R ?_ ?_ agr_refl agr_th
    · (obtain ⟨d, rfl⟩ : ∃ k, d = k + 1 := ⟨d - 1, by omega⟩); rw [b_M_succ]; simp (disch := first | assumption | omega | exact b2_01d | decide | (simp (disch := omega) only [tg_42, vc_42_5, tg_48, ln_48, ia_48, pt_48, w32_id, w32_gi, w32_w32, w32_b2, Int.toNat_natCast, gi_up, vi_vI, tgd, lnd, and_true, true_and, and_false, false_and, Nat.reduceLeDiff, Nat.reduceLT, ↓reduceIte, b_c1I, b_c1R, b_c1N, cs_0, cs_nil, cs_I, cs_L, cs_R, cs_N] <;> omega) | fail) only [vI_def, vI_sx8, vI_sx16, sx8_sx8, sx16_sx16, w32_sx8, w32_sx16, xci_ex, xv_ex, lk_21, lk_22, lk_2, tgd, lnd, vld, iad, lad, ptd, std, nw_ov, bump_ov, ov_1, cv_ret, cu_ret, cv_thr, cu_thr, th_eq, ent_nil, ent_I, ent_L, ent_R, ent_N, List.tail_cons, List.tail_nil, w32_gi, w32_w32, w32_b2, b2_eq0, b2_eq1, b2_ne0, b2_01, w64_gi, w64_gl, w64_w32, w64_w64, vI_w32, vL_w64, gi_up, gl_up, vi_vI, vlg_vL, swt_nil, swt_cons, F_ite, and_true, true_and, and_false, false_and, and_self, or_true, true_or, or_false, false_or, not_true_eq_false, not_false_eq_true, b_c1I, b_c1R, b_c1N, cs_0, w32_lc, lc_lt, lc_gt, lc_le, lc_ge, lc_eq, w32_id, w64_id, eq_self, Nat.reduceEqDiff, Nat.reduceLeDiff, Nat.reduceAdd, Nat.reduceMul, Int.reduceLT, Int.reduceLE, Int.reduceEq, Int.reduceNeg, Int.reduceAdd, Int.reduceSub, Int.reduceMul, Int.reduceToNat, Int.toNat_natCast, nc_lit, Int.add_sub_cancel, Int.tmod_eq_emod_of_nonneg, Int.tdiv_eq_ediv_of_nonneg, Int.natCast_add, Int.natCast_mul, if_pos, if_neg, ↓reduceIte, e1220_0, e1220_1, e1220_2, e1220_5, e1220_8, e1220_9, e1220_10, e1220_11, e1220_14, e1220_17, e1220_20, e1220_22, e1220_23, e1220_24, e1220_27, e1220_28, e1220_29, e1220_30, e1220_31, e1220_34, e1220_35, e1220_36, e1220_37, e1220_38, e1220_41, e1220_44, e1220_45, e1220_46, e1220_47, e1220_50, e1220_51, e1220_52, e1220_53, e1220_55, tg_42, vc_42_5, tg_48, ln_48, ia_48, pt_48, X_in, X_isLayer, r5.1]
      all_goals ((repeat' split) <;> first | with_reducible rfl | (exfalso; omega) | (rw [b2_t (by omega)]) | (rw [b2_f (by omega)]) | rfl)
    · (obtain ⟨d, rfl⟩ : ∃ k, d = k + 1 := ⟨d - 1, by omega⟩); rw [b_M_succ]; simp (disch := first | assumption | omega | exact b2_01d | decide | (simp (disch := omega) only [tg_106, ia_106_0, pt_106_0, vc_106_21, tg_118, ln_118, ia_118, pt_118, w32_id, w32_gi, w32_w32, w32_b2, Int.toNat_natCast, gi_up, vi_vI, tgd, lnd, and_true, true_and, and_false, false_and, Nat.reduceLeDiff, Nat.reduceLT, ↓reduceIte, b_c1I, b_c1R, b_c1N, cs_0, cs_nil, cs_I, cs_L, cs_R, cs_N] <;> omega) | fail) only [vI_def, vI_sx8, vI_sx16, sx8_sx8, sx16_sx16, w32_sx8, w32_sx16, xci_ex, xv_ex, lk_21, lk_22, lk_2, tgd, lnd, vld, iad, lad, ptd, std, nw_ov, bump_ov, ov_1, cv_ret, cu_ret, cv_thr, cu_thr, th_eq, ent_nil, ent_I, ent_L, ent_R, ent_N, List.tail_cons, List.tail_nil, w32_gi, w32_w32, w32_b2, b2_eq0, b2_eq1, b2_ne0, b2_01, w64_gi, w64_gl, w64_w32, w64_w64, vI_w32, vL_w64, gi_up, gl_up, vi_vI, vlg_vL, swt_nil, swt_cons, F_ite, and_true, true_and, and_false, false_and, and_self, or_true, true_or, or_false, false_or, not_true_eq_false, not_false_eq_true, b_c1I, b_c1R, b_c1N, cs_0, w32_lc, lc_lt, lc_gt, lc_le, lc_ge, lc_eq, w32_id, w64_id, eq_self, Nat.reduceEqDiff, Nat.reduceLeDiff, Nat.reduceAdd, Nat.reduceMul, Int.reduceLT, Int.reduceLE, Int.reduceEq, Int.reduceNeg, Int.reduceAdd, Int.reduceSub, Int.reduceMul, Int.reduceToNat, Int.toNat_natCast, nc_lit, Int.add_sub_cancel, Int.tmod_eq_emod_of_nonneg, Int.tdiv_eq_ediv_of_nonneg, Int.natCast_add, Int.natCast_mul, if_pos, if_neg, ↓reduceIte, e1020_0, e1020_1, e1020_2, e1020_5, e1020_6, e1020_7, e1020_10, e1020_13, e1020_14, e1020_15, e1020_16, e1020_19, e1020_22, e1020_25, e1020_27, e1020_28, e1020_29, e1020_32, e1020_33, e1020_34, e1020_35, e1020_36, e1020_39, e1020_40, e1020_41, e1020_42, e1020_43, e1020_46, e1020_49, e1020_50, e1020_51, e1020_52, e1020_55, e1020_56, e1020_57, e1020_58, e1020_60, tg_106, ia_106_0, pt_106_0, vc_106_21, tg_118, ln_118, ia_118, pt_118, M_in, M_isLayer]
      all_goals ((repeat' split) <;> first | with_reducible rfl | (exfalso; omega) | (rw [b2_t (by omega)]) | (rw [b2_f (by omega)]) | rfl)
