/-! ===== joints: the pair ===== -/
set_option maxRecDepth 100000
theorem jn_M {d n m o j A B a b : Nat} (hd : 2 ≤ d) {S : Mm} {δ : Sg} {r : Int} (H : DtH S n m o j) (hj : j < 41) (hA : A < n) (hB : B < n) (la : gi S 123 a = A) (lb : gi S 123 b = B) (hl1 : ¬ TcN (lieP S n o j) A B) (hl2 : ¬ TcN (lieP S n o j) B A)
    (a8 : ∀ T : Mm, agr sTD (jnU S m j A B a b) T → ∃ T1, b_M TT d 1018 [.ref 106] (ov T δ) = some (.inl (some (vI r)), ov T1 δ) ∧ agr sDm T T1 ∧ True) (SX : Mm) (hSX : ∀ x y : Nat, 106 ≤ x → SX x y = S x y) :
    ∃ T1 T3, b_M TT d 1016 [.ref 106] (ov (up SX 106 0 (vI 0)) δ) = some (.inl none, ov T1 δ) ∧ gi T1 123 a = A ∧ gi T1 123 b = B ∧ gi T1 139 (16 * A + B) = 0 ∧ gi T1 139 (16 * B + A) = 0 ∧ gi T1 106 13 = (j : Int) ∧ b_M TT d 1018 [.ref 106] (ov (jnM T1 j a b) δ) = some (.inl (some (vI r)), ov T3 δ) ∧ gi T3 106 13 = ((j + 1 : Nat) : Int) ∧ ∀ x y : Nat, scr x y = false → T3 x y = jnM SX j a b x y := by
  have ej : gi S 106 13 = (j : Int) := H.2.2.2.2.2.2.2.1
  have sX : agr sTD S (up SX 106 0 (vI 0)) := by
    intro x y e
    simp only [sTD, Bool.or_eq_false_iff, Bool.and_eq_false_iff, decide_eq_false_iff_not] at e
    rw [ne_up (by omega), hSX x y (by omega)]
  obtain ⟨T1, y1, y2, y3, y4⟩ := lays_of (d := d) (by omega) (δ := δ) H sX
  have hT1 : ∀ x y : Nat, x ≠ 139 → x ≠ 140 → T1 x y = up SX 106 0 (vI 0) x y := fun x y q1 q2 => y2 x y (by unfold sLy; rw [decide_eq_false q1, decide_eq_false q2]; rfl)
  have sT : agr sTD (jnU S m j A B a b) (jnM T1 j a b) := by
    intro x y e
    simp only [sTD, Bool.or_eq_false_iff, Bool.and_eq_false_iff, decide_eq_false_iff_not] at e
    unfold jnU jnM
    rw [up_at, up_at, up_at, up_at, up_at, up_at, jnX_at x y (by omega) (by omega), hT1 x y (by omega) (by omega), ne_up (by omega), hSX x y (by omega)]
  obtain ⟨T3, b1, b2, b3⟩ := a8 _ sT
  have hT3 : ∀ x y : Nat, x ≠ 137 → x ≠ 138 → T3 x y = jnM T1 j a b x y := fun x y q1 q2 => b2 x y (by unfold sDm; rw [decide_eq_false q1, decide_eq_false q2]; rfl)
  have g1 : ∀ k, gi T1 123 k = gi S 123 k := fun k => by
    unfold gi
    rw [hT1 123 k (by omega) (by omega), ne_up (by omega), hSX 123 k (by omega)]
  refine ⟨T1, T3, y1, (g1 a).trans la, (g1 b).trans lb, ?_, ?_, ?_, b1, ?_, fun x y e => ?_⟩
  · rcases y4 A B hA hB with ⟨_, q⟩ | ⟨q, _⟩
    · exact absurd q hl1
    · exact q
  · rcases y4 B A hB hA with ⟨_, q⟩ | ⟨q, _⟩
    · exact absurd q hl2
    · exact q
  · show b_vi (T1 106 13) = _
    rw [hT1 106 13 (by omega) (by omega), ne_up (by omega), hSX 106 13 (by omega)]
    exact ej
  · show b_vi (T3 106 13) = _
    rw [hT3 106 13 (by omega) (by omega)]
    unfold jnM
    rw [up_at, if_pos ⟨rfl, rfl⟩]
    exact w32n (by omega)
  · have n1 : x ≠ 137 ∧ x ≠ 138 ∧ x ≠ 139 ∧ x ≠ 140 := by
      refine ⟨?_, ?_, ?_, ?_⟩ <;> (rintro rfl; cases e)
    have n2 : ¬ (x = 106 ∧ y = 0) := by
      rintro ⟨rfl, rfl⟩; cases e
    rw [hT3 x y n1.1 n1.2.1]
    unfold jnM
    rw [up_at, up_at, up_at, up_at, up_at, up_at, hT1 x y n1.2.2.1 n1.2.2.2, ne_up n2]
theorem jn_fail {h : Nat → Cl} {c : Nat} {S SX TM : Mm} {δ : Sg} {m j a b : Nat} (R : Rel h c S δ) (em : gi S 42 13 = (m : Int)) (ej : gi S 106 13 = (j : Int)) (hm : m ≤ 142) (hj : j < 41) (hSX : ∀ x y : Nat, scr x y = false → ¬ ((x = 49 ∨ x = 50) ∧ m ≤ y) → ¬ (x = 42 ∧ y = 13) → SX x y = S x y) (hSX2 : gi SX 42 13 = (m : Int))
    (hTM : ∀ x y : Nat, scr x y = false → TM x y = up (jnM SX j a b) 106 13 (vI j) x y) : Rel h (c + 1) TM δ := by
  have rG := R.2.2.2.2.2.2.1
  have g : ∀ x y : Nat, scr x y = false → ¬ ((x = 49 ∨ x = 50) ∧ m ≤ y) → (x ≠ 121 ∨ y ≠ j) → (x ≠ 122 ∨ y ≠ j) → ¬ (x = 42 ∧ y = 13) → ¬ (x = 106 ∧ y = 13) → TM x y = S x y := by
    intro x y e q1 q3 q4 q5 q6
    rw [hTM x y e, ne_up q6]
    unfold jnM
    rw [ne_up q6, ne_up (by omega), ne_up (by omega)]
    exact hSX x y e q1 q5
  have gI : ∀ x y : Nat, scr x y = false → ¬ ((x = 49 ∨ x = 50) ∧ m ≤ y) → (x ≠ 121 ∨ y ≠ j) → (x ≠ 122 ∨ y ≠ j) → ¬ (x = 42 ∧ y = 13) → ¬ (x = 106 ∧ y = 13) → gi TM x y = gi S x y := fun x y e q1 q3 q4 q5 q6 => congrArg b_vi (g x y e q1 q3 q4 q5 q6)
  refine Rel_tell R (fun x y e q1 q2 q3 => g x y e (by omega) (by omega) (by omega) (by omega) (by omega)) ?_
  refine RG_tail rG ?_ (gI _ _ rfl (by omega) (by omega) (by omega) (by omega) (by omega)) (gI _ _ rfl (by omega) (by omega) (by omega) (by omega) (by omega)) (gI _ _ rfl (by omega) (by omega) (by omega) (by omega) (by omega)) (gI _ _ rfl (by omega) (by omega) (by omega) (by omega) (by omega)) (gI _ _ rfl (by omega) (by omega) (by omega) (by omega) (by omega)) ?_
    (fun w hw => ⟨gI _ _ rfl (by omega) (by omega) (by omega) (by omega) (by omega), gI _ _ rfl (by omega) (by omega) (by omega) (by omega) (by omega)⟩) (fun w hw => ⟨gI _ _ rfl (by omega) (by omega) (by omega) (by omega) (by omega), gI _ _ rfl (by omega) (by omega) (by omega) (by omega) (by omega)⟩) (fun w hw => ⟨gI _ _ rfl (by omega) (by omega) (by omega) (by omega) (by omega), gI _ _ rfl (by omega) (by omega) (by omega) (by omega) (by omega)⟩) (fun k => ⟨gI _ _ rfl (by omega) (by omega) (by omega) (by omega) (by omega), gI _ _ rfl (by omega) (by omega) (by omega) (by omega) (by omega), gI _ _ rfl (by omega) (by omega) (by omega) (by omega) (by omega)⟩)
  · show b_vi (TM 42 13) = _
    rw [hTM 42 13 rfl, ne_up (by omega)]
    unfold jnM
    rw [ne_up (by omega), ne_up (by omega), ne_up (by omega)]
    exact hSX2.trans em.symm
  · show b_vi (TM 106 13) = _
    rw [hTM 106 13 rfl, up_at, if_pos ⟨rfl, rfl⟩, vi_vI, w32n (by omega)]
    exact ej.symm
theorem jn_ok {h : Nat → Cl} {c : Nat} {S T : Mm} {δ : Sg} {n m o j A B a b : Nat} (R : Rel h c S δ) (H : DtH S n m o j) (hm : m + 2 ≤ 142) (hj : j < 40) (hA : A < n) (hB : B < n) (ha : (a : Int) < gi S 106 9) (hb : (b : Int) < gi S 106 9) (la : gi S 123 a = A) (lb : gi S 123 b = B) (hac : ∀ u v, oN S o u v → ¬ TcN (rX S n m) v u) (hno : TcN (rX S n m) A B ↔ TcN (rX S n m) B A)
    (hy : ∃ y : Nat → Int, (∀ l, l < n → gi (jnU S m j A B a b) 117 l ≤ y l ∧ y l ≤ gi (jnU S m j A B a b) 118 l) ∧ ∀ p q, EdM (jnU S m j A B a b) o (j + 1) p q → y q ≤ y p)
    (hT : ∀ x y : Nat, scr x y = false → T x y = up (jnU S m j A B a b) 42 15 (vI ((j : Int) + 1)) x y) : Rel h (c + 1) T δ := by
  have rG := R.2.2.2.2.2.2.1
  have hb200 := R.2.2.2.2.2.1.2.1
  have HU := jn_H H hm (by omega : j < 41) hA hB (show a < 200 by omega) (show b < 200 by omega) la lb
  have hacU := jn_ac (a := a) (b := b) H hm (by omega : j < 41) hA hB hac hno
  have g : ∀ x k : Nat, ¬ (x = 42 ∧ k = 15) → gi (up (jnU S m j A B a b) 42 15 (vI ((j : Int) + 1))) x k = gi (jnU S m j A B a b) x k := fun x k q => by rw [gi_up, if_neg q]
  have g15 : gi (up (jnU S m j A B a b) 42 15 (vI ((j : Int) + 1))) 42 15 = (j : Int) + 1 := by rw [gi_up, if_pos ⟨rfl, rfl⟩, vi_vI, w32_id (by omega) (by omega)]
  have RW : Rel h (c + 1) (up (jnU S m j A B a b) 42 15 (vI ((j : Int) + 1))) δ := by
    refine Rel_tell R (fun x y e q1 q2 q3 => ?_) ?_
    · rw [ne_up (by omega), jnU_at x y (by omega) (by omega) (by omega)]
    · have HW : DtH (up (jnU S m j A B a b) 42 15 (vI ((j : Int) + 1))) n (m + 2) o (j + 1) := by
        unfold DtH eX eO eJ at HU ⊢
        simp (disch := omega) only [g] at HU ⊢
        exact HU
      have hacW : ∀ u v, oN (up (jnU S m j A B a b) 42 15 (vI ((j : Int) + 1))) o u v → ¬ TcN (rX (up (jnU S m j A B a b) 42 15 (vI ((j : Int) + 1))) n (m + 2)) v u := by
        unfold oN rX uM vM aX bX at hacU ⊢
        simp (disch := omega) only [g] at hacU ⊢
        exact hacU
      obtain ⟨h1, h2, h3, h4, h5, h6, h7, h8, h9, h10, h11, h12, h13, h14⟩ := HW
      have g9' : gi (up (jnU S m j A B a b) 42 15 (vI ((j : Int) + 1))) 106 9 = gi S 106 9 := by
        rw [g _ _ (by omega), jnU_gi _ _ (by omega) (by omega) (by omega)]
      have g14 : gi (up (jnU S m j A B a b) 42 15 (vI ((j : Int) + 1))) 42 14 = gi S 42 14 := by
        rw [g _ _ (by omega), jnU_gi _ _ (by omega) (by omega) (by omega)]
      have g121 : ∀ k, gi (up (jnU S m j A B a b) 42 15 (vI ((j : Int) + 1))) 121 k = if k = j then (a : Int) else gi S 121 k := fun k => by
        rw [g _ _ (by omega), jnU_121 (by omega)]
      have g122 : ∀ k, gi (up (jnU S m j A B a b) 42 15 (vI ((j : Int) + 1))) 122 k = if k = j then (b : Int) else gi S 122 k := fun k => by
        rw [g _ _ (by omega), jnU_122 (by omega)]
      have hj0 := H.2.2.2.2.2.2.2.1
      have hm0 := H.2.2.2.1
      have ho0 := H.2.2.2.2.2.1
      refine ⟨by rw [g14, h6, rG.1]; exact ho0, by rw [h6]; have := rG.2.1; omega, by rw [g15, h8]; omega, by rw [h8]; omega, by rw [h4, h6, h8]; have := rG.2.2.2.2.1; omega, fun w hw => ?_, fun k hk => ?_, fun k hk => ?_, h14, ?_, ac_RG ⟨h1, h2, h3, h4, h5, h6, h7, h8, h9, h10, h11, h12, h13, h14⟩ hacW⟩
      · rw [h2]; exact h11 w (by omega)
      · rw [h2]; exact h12 k (by omega)
      · rw [g121, g122, g9']
        by_cases e : k = j
        · rw [if_pos e, if_pos e]; omega
        · rw [if_neg e, if_neg e]
          exact rG.2.2.2.2.2.2.2.1 k (by omega)
      · obtain ⟨y, y1, y2⟩ := hy
        refine ⟨y, fun l hl => ?_, fun p q hab => ?_⟩
        · rw [h2] at hl
          rw [g _ _ (by omega), g _ _ (by omega)]
          exact y1 l (by omega)
        · obtain ⟨w, w1, w2, w3⟩ := hab
          rw [g _ _ (by omega)] at w1 w2 w3
          have hw := HU.2.2.2.1
          refine y2 _ _ ((EdM_in HU).1 _ _ |>.mp ⟨w, by omega, ?_, ?_⟩)
          · unfold aX; rw [w2]
          · unfold bX; rw [w3]
  exact Rel_scr hT RW
theorem jn_lies {h : Nat → Cl} {c d : Nat} {S : Mm} {δ : Sg} {n m o j A B a b pa pb nb : Nat} (hd : 2 ≤ d) (R : Rel h c S δ) (H : DtH S n m o j) (hX : gi S 42 7 = nb) (hM : gi S 106 9 = nb) (hn2 : nb ≤ 200) (ha : a < nb) (hb : b < nb) (hab : (a : Int) ≠ b) (h1 : bnL S δ a pa A) (h2 : bnL S δ b pb B) (la : gi S 123 a = A) (lb : gi S 123 b = B) (hA : A < n) (hB : B < n) (hac : ∀ u v, oN S o u v → ¬ TcN (rX S n m) v u) (hl : TcN (lieP S n o j) A B ∨ TcN (lieP S n o j) B A) : OpR h c (d + 1) S δ 1221 1021 [vI a, vI b] := by
  obtain ⟨hE, hin⟩ := EdM_in H
  have hn16 := H.2.2.1
  obtain ⟨S1, x1, x2, x3⟩ := goes_of (d := d) (by omega) (δ := δ) H
  obtain ⟨T1, y1, y2, y3, y4⟩ := lays_of (d := d) (by omega) (T := up S1 106 0 (vI 0)) (δ := δ) H (agr_up (sTD_rc x2) rfl)
  obtain ⟨hne, hnr⟩ := (joint_iff hE hin hac).mpr hl
  have q1 : (gi S1 (54 + A) B = 1 ∧ gi S1 (54 + B) A = 0) ∨ (gi S1 (54 + A) B = 0 ∧ gi S1 (54 + B) A = 1) := by
    rcases x3 A B hA hB with ⟨q, z⟩ | ⟨q, z⟩ <;> rcases x3 B A hB hA with ⟨w, v⟩ | ⟨w, v⟩
    · exact absurd ⟨fun _ => v, fun _ => z⟩ hnr
    · exact Or.inl ⟨q, w⟩
    · exact Or.inr ⟨q, w⟩
    · exact absurd ⟨fun u => absurd u z, fun u => absurd u v⟩ hnr
  have q2 : gi T1 139 (16 * A + B) = 1 ∨ (gi T1 139 (16 * A + B) = 0 ∧ gi T1 139 (16 * B + A) = 1) := by
    rcases y4 A B hA hB with ⟨q, _⟩ | ⟨q, z⟩
    · exact Or.inl q
    · refine Or.inr ⟨q, ?_⟩
      rcases y4 B A hB hA with ⟨w, _⟩ | ⟨_, w⟩
      · exact w
      · rcases hl with u | u
        · exact absurd u z
        · exact absurd u w
  have hM1 : gi S1 106 9 = (nb : Int) := (agr_gi x2 rfl).trans hM
  have g1 : ∀ k, gi T1 123 k = gi S 123 k := fun k => by
    rw [agr_gi y2 rfl, gi_up, if_neg (by omega), agr_gi x2 rfl]
  exact OpR_ask (r := -7) R (X_jnR hd hX hn2 ha hb hab h1 h2 (by omega) (by omega) x1 (by omega) q1) (M_jnR hd hM1 hn2 ha hb hab y1 ((g1 a).trans la) ((g1 b).trans lb) (by omega) (by omega) q2) (scr_rc x2) (agr_trans agr_th (scr_ly y2))
theorem jn_q {S S1 : Mm} {n m o j A B : Nat} (H : DtH S n m o j) (hA : A < n) (hB : B < n) (x3 : Tbl (fun a => 54 + a) (fun _ b => b) n (TcN (rX S n m)) S1) (hno : A = B ∨ (TcN (rX S n m) A B ↔ TcN (rX S n m) B A)) : A = B ∨ (gi S1 (54 + A) B = 1 ∧ gi S1 (54 + B) A = 1) ∨ (gi S1 (54 + A) B = 0 ∧ gi S1 (54 + B) A = 0) := by
  rcases hno with hno | hno
  · exact Or.inl hno
  · refine Or.inr ?_
    rcases x3 A B hA hB with ⟨q, z⟩ | ⟨q, z⟩ <;> rcases x3 B A hB hA with ⟨w, v⟩ | ⟨w, v⟩
    · exact Or.inl ⟨q, w⟩
    · exact absurd (hno.mp z) v
    · exact absurd (hno.mpr v) z
    · exact Or.inr ⟨q, w⟩
/-- a joint, and there is room -/
theorem jn_room {h : Nat → Cl} {c d : Nat} {S : Mm} {δ : Sg} {n m o j A B a b pa pb nb : Nat} (hd : 5 ≤ d) (R : Rel h c S δ) (H : DtH S n m o j) (hm : m + 2 ≤ 142) (hj : j < 40) (hxj : gi S 42 15 = (j : Int)) (hX : gi S 42 7 = nb) (hM : gi S 106 9 = nb) (hn2 : nb ≤ 200) (ha : a < nb) (hb : b < nb) (hab : (a : Int) ≠ b) (h1 : bnL S δ a pa A) (h2 : bnL S δ b pb B) (la : gi S 123 a = A) (lb : gi S 123 b = B) (hA : A < n) (hB : B < n) (hac : ∀ u v, oN S o u v → ¬ TcN (rX S n m) v u) (hl1 : ¬ TcN (lieP S n o j) A B) (hl2 : ¬ TcN (lieP S n o j) B A) (hno : TcN (rX S n m) A B ↔ TcN (rX S n m) B A) : OpR h c (d + 1) S δ 1221 1021 [vI a, vI b] := by
  have hn16 := H.2.2.1
  have HU := jn_H H hm (by omega : j < 41) hA hB (show a < 200 by omega) (show b < 200 by omega) la lb
  obtain ⟨S1, x1, x2, x3⟩ := goes_of (d := d) (by omega) (δ := δ) H
  have hq := jn_q H hA hB x3 (Or.inr hno)
  have hS1 := rc_at x2
  have hV : agr sVD (jnU S m j A B a b) (jnX S1 m A B) := by
    intro x y e
    simp only [sVD, Bool.or_eq_false_iff, Bool.and_eq_false_iff, decide_eq_false_iff_not] at e
    unfold jnU
    rw [jnM_at x y (by omega) (by omega)]
    unfold jnX
    rw [up_at, up_at, up_at, up_at, up_at, up_at, up_at, up_at, up_at, up_at, up_at, up_at, hS1 x y (by omega)]
  obtain ⟨S2, r, a1, a2, a3, a4, a5, a6, a7, a8⟩ := dates_both (d := d) (by omega) (δ := δ) HU hV
  have hS2 := dt_at a2
  have em : gi S1 42 13 = (m : Int) := (congrArg b_vi (hS1 42 13 (by omega))).trans H.2.2.2.1
  have ej : gi S1 42 15 = (j : Int) := (congrArg b_vi (hS1 42 15 (by omega))).trans hxj
  have f13 : gi S2 42 13 = ((m + 2 : Nat) : Int) := by
    show b_vi (S2 42 13) = _
    rw [hS2 42 13 (by omega) (by omega)]
    unfold jnX
    rw [up_at, if_pos ⟨rfl, rfl⟩]; exact w32n (by omega)
  have f14 : gi S2 42 15 = (j : Int) := by
    show b_vi (S2 42 15) = _
    rw [hS2 42 15 (by omega) (by omega), jnX_at _ _ (by omega) (by omega)]; exact ej
  have hS2s : ∀ x y : Nat, scr x y = false → S2 x y = jnX S m A B x y := fun x y e => by
    rw [scr_dt a2 x y e]
    unfold jnX
    rw [up_at, up_at, up_at, up_at, up_at, up_at, up_at, up_at, up_at, up_at, up_at, up_at, rc_scr x2 x y e]
  have hS2m : ∀ x y : Nat, 106 ≤ x → S2 x y = S x y := fun x y q => by
    rw [hS2 x y (by omega) (by omega), jnX_at x y (by omega) (by omega), hS1 x y (by omega)]
  have a8' : ∀ T : Mm, agr sTD (jnU S m j A B a b) T → ∃ T1, b_M TT d 1018 [.ref 106] (ov T δ) = some (.inl (some (vI r)), ov T1 δ) ∧ agr sDm T T1 ∧ True := fun T hT => by
    obtain ⟨T1, b1, b2, _⟩ := a8 T hT
    exact ⟨T1, b1, b2, trivial⟩
  obtain ⟨kX0, kX1⟩ := X_jnB (d := d) (by omega) hX hn2 ha hb hab h1 h2 (by omega) (by omega) x1 hq em hm ej hj a1 f13 f14
  clear a5 a6 a7 a8
  rcases a3 with hr | hr
  · have hg : ∀ x y : Nat, 106 ≤ x → up S2 42 13 (vI m) x y = S x y := fun x y q => by rw [ne_up (by omega)]; exact hS2m x y q
    obtain ⟨T1, T3, y1, y2, y3, y4, y5, y6, y7, y8, y9⟩ := jn_M (d := d) (by omega) (δ := δ) H (by omega : j < 41) hA hB la lb hl1 hl2 a8' (up S2 42 13 (vI m)) hg
    have hM1 : gi (up S2 42 13 (vI m)) 106 9 = (nb : Int) := (congrArg b_vi (hg 106 9 (by omega))).trans hM
    obtain ⟨_, l2, _⟩ := M_jnF (d := d) (by omega) hM1 hn2 ha hb hab y1 y2 y3 (by omega) (by omega) y4 y5 y6 (by omega) y7 y8
    refine ⟨-7, _, δ, _, kX0 hr, l2 hr, jn_fail (SX := up S2 42 13 (vI m)) (a := a) (b := b) R H.2.2.2.1 H.2.2.2.2.2.2.2.1 (by omega) (by omega : j < 41) (fun x y e q1 q2 => ?_) ?_ fun x y e => ?_⟩
    · rw [ne_up q2, hS2s x y e]
      unfold jnX
      rw [ne_up q2, ne_up (by omega), ne_up (by omega), ne_up q2, ne_up (by omega), ne_up (by omega)]
    · rw [gi_up, if_pos ⟨rfl, rfl⟩, vi_vI, w32n (by omega)]
    · rw [up_at, up_at (a := 106)]
      by_cases q : x = 106 ∧ y = 13
      · rw [if_pos q, if_pos q]
      · rw [if_neg q, if_neg q, y9 x y e]
  · have hg : ∀ x y : Nat, 106 ≤ x → up S2 42 15 (vI ((j : Int) + 1)) x y = S x y := fun x y q => by rw [ne_up (by omega)]; exact hS2m x y q
    obtain ⟨T1, T3, y1, y2, y3, y4, y5, y6, y7, y8, y9⟩ := jn_M (d := d) (by omega) (δ := δ) H (by omega : j < 41) hA hB la lb hl1 hl2 a8' (up S2 42 15 (vI ((j : Int) + 1))) hg
    have hM1 : gi (up S2 42 15 (vI ((j : Int) + 1))) 106 9 = (nb : Int) := (congrArg b_vi (hg 106 9 (by omega))).trans hM
    obtain ⟨_, _, l3⟩ := M_jnF (d := d) (by omega) hM1 hn2 ha hb hab y1 y2 y3 (by omega) (by omega) y4 y5 y6 (by omega) y7 y8
    refine ⟨0, _, δ, _, kX1 hr, l3 (by omega) hr, jn_ok (a := a) (b := b) R H hm hj hA hB (by omega) (by omega) la lb hac hno (a4.mp hr) fun x y e => ?_⟩
    rw [y9 x y e]
    unfold jnU jnM
    by_cases q : x = 42 ∧ y = 15
    · rw [ne_up (by omega), ne_up (by omega), ne_up (by omega), up_at, if_pos q, up_at, if_pos q]
    · rw [up_at, up_at, up_at, ne_up q, ne_up q, up_at, up_at, up_at, hS2s x y e]
/-- a joint, and there is no room -/
theorem jn_full {h : Nat → Cl} {c d : Nat} {S : Mm} {δ : Sg} {n m o A B a b pa pb nb : Nat} (hd : 5 ≤ d) (R : Rel h c S δ) (H : DtH S n m o 40) (hm : m + 2 ≤ 142) (hxj : gi S 42 15 = 40) (hX : gi S 42 7 = nb) (hM : gi S 106 9 = nb) (hn2 : nb ≤ 200) (ha : a < nb) (hb : b < nb) (hab : (a : Int) ≠ b) (h1 : bnL S δ a pa A) (h2 : bnL S δ b pb B) (la : gi S 123 a = A) (lb : gi S 123 b = B) (hA : A < n) (hB : B < n) (hl1 : ¬ TcN (lieP S n o 40) A B) (hl2 : ¬ TcN (lieP S n o 40) B A) (hno : TcN (rX S n m) A B ↔ TcN (rX S n m) B A)
    (hy : ∃ y : Nat → Int, (∀ l, l < n → gi S 117 l ≤ y l ∧ y l ≤ gi S 118 l) ∧ ∀ p q, EdM S o 40 p q → y q ≤ y p) : OpR h c (d + 1) S δ 1221 1021 [vI a, vI b] := by
  have hn16 := H.2.2.1
  have HU := jn_H H hm (by omega : 40 < 41) hA hB (show a < 200 by omega) (show b < 200 by omega) la lb
  obtain ⟨S1, x1, x2, x3⟩ := goes_of (d := d) (by omega) (δ := δ) H
  have hq := jn_q H hA hB x3 (Or.inr hno)
  have hS1 := rc_at x2
  have hV : agr sVD S S1 := fun x y e => by
    simp only [sVD, Bool.or_eq_false_iff, Bool.and_eq_false_iff, decide_eq_false_iff_not] at e
    exact hS1 x y (by omega)
  have hVU : agr sVD (jnU S m 40 A B a b) (jnX S m A B) := by
    intro x y e
    simp only [sVD, Bool.or_eq_false_iff, Bool.and_eq_false_iff, decide_eq_false_iff_not] at e
    unfold jnU
    rw [jnM_at x y (by omega) (by omega)]
  obtain ⟨S2, r, a1, a2, a3, a4, a5, a6, a7, _⟩ := dates_both (d := d - 1) (by omega) (δ := δ) H hV
  obtain ⟨_, r', _, _, a3', a4', _, _, _, a8⟩ := dates_both (d := d) (by omega) (δ := δ) HU hVU
  have hS2 := dt_at a2
  have ej : gi S1 42 15 = 40 := (congrArg b_vi (hS1 42 15 (by omega))).trans hxj
  have hP : r' = 1 ↔ max (gi S2 51 A) (gi S2 51 B) ≤ min (gi S2 52 A) (gi S2 52 B) := by
    rw [a4']
    have cs : ∀ l, gi (jnU S m 40 A B a b) 117 l = gi S 117 l ∧ gi (jnU S m 40 A B a b) 118 l = gi S 118 l := fun l => ⟨jnU_gi _ _ (by omega) (by omega) (by omega), jnU_gi _ _ (by omega) (by omega) (by omega)⟩
    have hE := fun x y => jn_Ed (S := S) (m := m) (o := o) (A := A) (B := B) (by omega : 40 < 41) (show a < 200 by omega) (show b < 200 by omega) la lb x y
    constructor
    · rintro ⟨y, y1, y2⟩
      have y1' : ∀ l, l < n → gi S 117 l ≤ y l ∧ y l ≤ gi S 118 l := fun l hl => by rw [← (cs l).1, ← (cs l).2]; exact y1 l hl
      have q := a5 y y1' fun p q hpq => y2 p q ((hE p q).mpr (Or.inl hpq))
      have q1 := q A hA
      have q2 := q B hB
      have e1 := y2 A B ((hE A B).mpr (Or.inr (Or.inl ⟨rfl, rfl⟩)))
      have e2 := y2 B A ((hE B A).mpr (Or.inr (Or.inr ⟨rfl, rfl⟩)))
      omega
    · intro hle
      obtain ⟨y, y1, y2⟩ := hy
      have q0 := a5 y y1 y2
      refine ⟨fun l => max (gi S2 51 l) (min (gi S2 52 l) (max (gi S2 51 A) (gi S2 51 B))), fun l hl => ?_, fun p q hpq => ?_⟩
      · rw [(cs l).1, (cs l).2]
        have := a6 l hl
        have := q0 l hl
        dsimp only
        omega
      · dsimp only
        rcases (hE p q).mp hpq with z | ⟨rfl, rfl⟩ | ⟨rfl, rfl⟩
        · have := a7 p q z
          omega
        · have := q0 p hA
          have := q0 q hB
          omega
        · have := q0 p hB
          have := q0 q hA
          omega
  have a8' : ∀ T : Mm, agr sTD (jnU S m 40 A B a b) T → ∃ T1, b_M TT d 1018 [.ref 106] (ov T δ) = some (.inl (some (vI r')), ov T1 δ) ∧ agr sDm T T1 ∧ True := fun T hT => by
    obtain ⟨T1, b1, b2, _⟩ := a8 T hT
    exact ⟨T1, b1, b2, trivial⟩
  clear a4 a5 a6 a7 a8 hy
  have hg : ∀ x y : Nat, 106 ≤ x → S2 x y = S x y := fun x y q => by rw [hS2 x y (by omega) (by omega), hS1 x y (by omega)]
  have kT := X_goTog (d := d - 1) (by omega) (A := A) (B := B) (by omega) (by omega) a1
  rw [show d - 1 + 1 = d by omega] at kT
  have kX := X_jnF (d := d) (by omega) hX hn2 ha hb hab h1 h2 (by omega) (by omega) x1 hq ej kT
  obtain ⟨T1, T3, y1, y2, y3, y4, y5, y6, y7, y8, y9⟩ := jn_M (d := d) (by omega) (δ := δ) H (by omega : 40 < 41) hA hB la lb hl1 hl2 a8' S2 hg
  have hM1 : gi S2 106 9 = (nb : Int) := (congrArg b_vi (hg 106 9 (by omega))).trans hM
  obtain ⟨l1, l2, _⟩ := M_jnF (d := d) (by omega) hM1 hn2 ha hb hab y1 y2 y3 (by omega) (by omega) y4 y5 y6 (by omega) y7 y8
  have hfin : Rel h (c + 1) (up T3 106 13 (vI (40 : Nat))) δ := jn_fail (SX := S2) (a := a) (b := b) R H.2.2.2.1 H.2.2.2.2.2.2.2.1 (by omega) (by omega : 40 < 41) (fun x y e q1 q2 => by rw [scr_dt a2 x y e, rc_scr x2 x y e]) ((congrArg b_vi ((hS2 42 13 (by omega) (by omega)).trans (hS1 42 13 (by omega)))).trans H.2.2.2.1) fun x y e => by
    rw [up_at, up_at (a := 106)]
    by_cases q : x = 106 ∧ y = 13
    · rw [if_pos q, if_pos q]
    · rw [if_neg q, if_neg q, y9 x y e]
  by_cases hle : max (gi S2 51 A) (gi S2 51 B) ≤ min (gi S2 52 A) (gi S2 52 B)
  · rw [if_pos hle] at kX
    exact ⟨-3, _, δ, _, kX, l1 rfl (hP.mpr hle), hfin⟩
  · rw [if_neg hle] at kX
    exact ⟨-7, _, δ, _, kX, l2 (a3'.resolve_right fun z => hle (hP.mp z)), hfin⟩
theorem jn_no {h : Nat → Cl} {c d : Nat} {S : Mm} {δ : Sg} (hd : 8 ≤ d) {a b : Int} (ha : (-2147483648 ≤ a ∧ a ≤ 2147483647)) (hb : (-2147483648 ≤ b ∧ b ≤ 2147483647)) (R : Rel h c S δ) (hp : ¬ ((0 ≤ a ∧ a < gi S 106 9) ∧ (0 ≤ b ∧ b < gi S 106 9) ∧ a ≠ b)) : OpR h c d S δ 1221 1021 [vI a, vI b] := by
  have r6 := R.2.2.2.2.2.1.1
  have hn6 := R.2.2.2.2.2.1.2.1
  refine OpR_ask (r := -2) (S1 := S) (S2 := up S 106 0 (vI 0)) R ?_ ?_ agr_refl agr_th
  · clear R
    (obtain ⟨d, rfl⟩ : ∃ k, d = k + 1 := ⟨d - 1, by omega⟩); rw [b_M_succ]; simp (disch := first | assumption | omega | exact b2_01d | decide | (simp (disch := omega) only [tg_42, vc_42_2, tg_45, ln_45, vm_45, pt_45, vc_42_18, tg_53, ln_53, vr_53, tgs_54, lns_54, ias_54, pts_54, ia_42_15, pt_42_15, ia_42_13, pt_42_13, w32_id, w32_gi, w32_w32, w32_b2, Int.toNat_natCast, gi_up, vi_vI, tgd, lnd, and_true, true_and, and_false, false_and, Nat.reduceLeDiff, Nat.reduceLT, ↓reduceIte, b_c1I, b_c1R, b_c1N, cs_0, cs_nil, cs_I, cs_L, cs_R, cs_N] <;> omega) | fail) only [vI_def, vI_sx8, vI_sx16, sx8_sx8, sx16_sx16, w32_sx8, w32_sx16, xci_ex, xv_ex, lk_21, lk_22, lk_2, tgd, lnd, vld, iad, lad, ptd, std, nw_ov, bump_ov, ov_1, cv_ret, cu_ret, cv_thr, cu_thr, th_eq, ent_nil, ent_I, ent_L, ent_R, ent_N, List.tail_cons, List.tail_nil, w32_gi, w32_w32, w32_b2, b2_eq0, b2_eq1, b2_ne0, b2_01, w64_gi, w64_gl, w64_w32, w64_w64, vI_w32, vL_w64, gi_up, gl_up, vi_vI, vlg_vL, swt_nil, swt_cons, F_ite, and_true, true_and, and_false, false_and, and_self, or_true, true_or, or_false, false_or, not_true_eq_false, not_false_eq_true, b_c1I, b_c1R, b_c1N, cs_0, w32_lc, lc_lt, lc_gt, lc_le, lc_ge, lc_eq, w32_id, w64_id, eq_self, Nat.reduceEqDiff, Nat.reduceLeDiff, Nat.reduceAdd, Nat.reduceMul, Int.reduceLT, Int.reduceLE, Int.reduceEq, Int.reduceNeg, Int.reduceAdd, Int.reduceSub, Int.reduceMul, Int.reduceToNat, Int.toNat_natCast, nc_lit, Int.add_sub_cancel, Int.tmod_eq_emod_of_nonneg, Int.tdiv_eq_ediv_of_nonneg, Int.natCast_add, Int.natCast_mul, if_pos, if_neg, ↓reduceIte, e1221_0, e1221_1, e1221_2, e1221_5, e1221_8, e1221_9, e1221_10, e1221_13, e1221_16, e1221_17, e1221_18, e1221_21, e1221_23, e1221_24, e1221_25, e1221_28, e1221_29, e1221_30, e1221_33, e1221_34, e1221_35, e1221_38, e1221_39, e1221_40, e1221_43, e1221_45, e1221_46, e1221_49, e1221_50, e1221_52, e1221_55, e1221_56, e1221_59, e1221_60, e1221_61, e1221_63, e1221_64, e1221_65, e1221_68, e1221_70, e1221_71, e1221_72, e1221_73, e1221_76, e1221_78, e1221_79, e1221_80, e1221_83, e1221_85, e1221_88, e1221_89, e1221_90, e1221_92, e1221_95, e1221_98, e1221_100, e1221_103, e1221_105, e1221_106, e1221_107, e1221_108, e1221_110, e1221_113, e1221_114, e1221_116, e1221_117, e1221_120, e1221_121, e1221_124, e1221_127, e1221_128, e1221_129, e1221_132, e1221_133, e1221_134, e1221_137, e1221_139, e1221_140, e1221_141, e1221_142, e1221_145, e1221_146, e1221_147, e1221_150, e1221_151, tg_42, vc_42_2, tg_45, ln_45, vm_45, pt_45, vc_42_18, tg_53, ln_53, vr_53, tgs_54, lns_54, ias_54, pts_54, ia_42_15, pt_42_15, ia_42_13, pt_42_13, X_isBone, r6]
    all_goals ((repeat' split) <;> first | with_reducible rfl | (exfalso; omega) | (rw [b2_t (by omega)]) | (rw [b2_f (by omega)]) | rfl)
  · clear R
    (obtain ⟨d, rfl⟩ : ∃ k, d = k + 1 := ⟨d - 1, by omega⟩); rw [b_M_succ]; simp (disch := first | assumption | omega | exact b2_01d | decide | (simp (disch := omega) only [tg_106, ia_106_0, pt_106_0, vc_106_26, tg_123, ln_123, ia_123, pt_123, vc_106_45, tg_139, ln_139, ia_139, pt_139, ia_106_13, pt_106_13, vc_106_24, tg_121, ln_121, ia_121, pt_121, vc_106_25, tg_122, ln_122, ia_122, pt_122, w32_id, w32_gi, w32_w32, w32_b2, Int.toNat_natCast, gi_up, vi_vI, tgd, lnd, and_true, true_and, and_false, false_and, Nat.reduceLeDiff, Nat.reduceLT, ↓reduceIte, b_c1I, b_c1R, b_c1N, cs_0, cs_nil, cs_I, cs_L, cs_R, cs_N] <;> omega) | fail) only [vI_def, vI_sx8, vI_sx16, sx8_sx8, sx16_sx16, w32_sx8, w32_sx16, xci_ex, xv_ex, lk_21, lk_22, lk_2, tgd, lnd, vld, iad, lad, ptd, std, nw_ov, bump_ov, ov_1, cv_ret, cu_ret, cv_thr, cu_thr, th_eq, ent_nil, ent_I, ent_L, ent_R, ent_N, List.tail_cons, List.tail_nil, w32_gi, w32_w32, w32_b2, b2_eq0, b2_eq1, b2_ne0, b2_01, w64_gi, w64_gl, w64_w32, w64_w64, vI_w32, vL_w64, gi_up, gl_up, vi_vI, vlg_vL, swt_nil, swt_cons, F_ite, and_true, true_and, and_false, false_and, and_self, or_true, true_or, or_false, false_or, not_true_eq_false, not_false_eq_true, b_c1I, b_c1R, b_c1N, cs_0, w32_lc, lc_lt, lc_gt, lc_le, lc_ge, lc_eq, w32_id, w64_id, eq_self, Nat.reduceEqDiff, Nat.reduceLeDiff, Nat.reduceAdd, Nat.reduceMul, Int.reduceLT, Int.reduceLE, Int.reduceEq, Int.reduceNeg, Int.reduceAdd, Int.reduceSub, Int.reduceMul, Int.reduceToNat, Int.toNat_natCast, nc_lit, Int.add_sub_cancel, Int.tmod_eq_emod_of_nonneg, Int.tdiv_eq_ediv_of_nonneg, Int.natCast_add, Int.natCast_mul, if_pos, if_neg, ↓reduceIte, e1021_0, e1021_1, e1021_2, e1021_5, e1021_6, e1021_7, e1021_10, e1021_13, e1021_14, e1021_15, e1021_18, e1021_21, e1021_22, e1021_23, e1021_26, e1021_28, e1021_29, e1021_30, e1021_33, e1021_34, e1021_37, e1021_38, e1021_39, e1021_40, e1021_41, e1021_44, e1021_45, e1021_46, e1021_48, e1021_49, e1021_52, e1021_54, e1021_55, e1021_56, e1021_58, e1021_59, e1021_60, e1021_63, e1021_64, e1021_67, e1021_69, e1021_71, e1021_72, e1021_73, e1021_74, e1021_75, e1021_78, e1021_80, e1021_81, e1021_82, e1021_85, e1021_87, e1021_90, e1021_91, e1021_94, e1021_95, e1021_97, e1021_98, e1021_101, e1021_102, e1021_105, e1021_106, e1021_107, e1021_108, e1021_111, e1021_112, e1021_115, e1021_116, e1021_117, e1021_118, e1021_119, e1021_122, e1021_123, e1021_124, e1021_127, e1021_128, e1021_131, e1021_133, e1021_135, e1021_138, e1021_140, e1021_143, e1021_144, e1021_145, e1021_148, e1021_149, e1021_150, e1021_153, e1021_155, e1021_158, e1021_160, e1021_163, e1021_165, e1021_168, e1021_170, e1021_173, e1021_174, tg_106, ia_106_0, pt_106_0, vc_106_26, tg_123, ln_123, ia_123, pt_123, vc_106_45, tg_139, ln_139, ia_139, pt_139, ia_106_13, pt_106_13, vc_106_24, tg_121, ln_121, ia_121, pt_121, vc_106_25, tg_122, ln_122, ia_122, pt_122, M_isBone]
    all_goals ((repeat' split) <;> first | with_reducible rfl | (exfalso; omega) | (rw [b2_t (by omega)]) | (rw [b2_f (by omega)]) | rfl)
theorem op_joint {h : Nat → Cl} {c d : Nat} {S : Mm} {δ : Sg} (hd : 8 ≤ d) {a b : Int} (ha : (-2147483648 ≤ a ∧ a ≤ 2147483647)) (hb : (-2147483648 ≤ b ∧ b ≤ 2147483647)) (R : Rel h c S δ) : OpR h c d S δ 1221 1021 [vI a, vI b] := by
  by_cases hp : (0 ≤ a ∧ a < gi S 106 9) ∧ (0 ≤ b ∧ b < gi S 106 9) ∧ a ≠ b
  · obtain ⟨p1, p2, p3⟩ := hp
    have hn5 := R.2.2.2.2.1.2.1
    have r6 := R.2.2.2.2.2.1.1
    have hn6 := R.2.2.2.2.2.1.2.1
    have H := DtH_of R
    have rG := R.2.2.2.2.2.2.1
    have hac := RG_ac H rG.2.2.2.2.2.2.2.2.2.2
    have hm0 := rG.2.2.2.2.1
    have ho0 := rG.2.1
    have hj0 := rG.2.2.2.1
    have hx0 := rG.2.2.1
    obtain ⟨n, en⟩ : ∃ n : Nat, n = (gi S 106 8).toNat := ⟨_, rfl⟩
    obtain ⟨m, em⟩ : ∃ m : Nat, m = (gi S 42 13).toNat := ⟨_, rfl⟩
    obtain ⟨o, eo⟩ : ∃ o : Nat, o = (gi S 106 12).toNat := ⟨_, rfl⟩
    obtain ⟨j, ej⟩ : ∃ j : Nat, j = (gi S 106 13).toNat := ⟨_, rfl⟩
    obtain ⟨nb, eb⟩ : ∃ nb : Nat, nb = (gi S 106 9).toNat := ⟨_, rfl⟩
    rw [← en, ← em, ← eo, ← ej] at H
    rw [← en, ← em, ← eo] at hac
    obtain ⟨a, rfl⟩ : ∃ A : Nat, a = A := ⟨a.toNat, by omega⟩
    obtain ⟨b, rfl⟩ : ∃ B : Nat, b = B := ⟨b.toNat, by omega⟩
    obtain ⟨pa, A, h1, la, hA⟩ := bnL_of R p1.2
    obtain ⟨pb, B, h2, lb, hB⟩ := bnL_of R p2.2
    have hA' : A < n := by omega
    have hB' : B < n := by omega
    have ha' : a < nb := by omega
    have hb' : b < nb := by omega
    have hM : gi S 106 9 = (nb : Int) := by omega
    have hX : gi S 42 7 = (nb : Int) := by omega
    have hnb : nb ≤ 200 := by omega
    have hm : m + 2 ≤ 142 := by omega
    have hj : j ≤ 40 := by omega
    have hxj : gi S 42 15 = (j : Int) := by omega
    obtain ⟨d, rfl⟩ : ∃ e, d = e + 1 := ⟨d - 1, by omega⟩
    have hd5 : 5 ≤ d := by omega
    obtain ⟨hE, hin⟩ := EdM_in H
    obtain ⟨y, y1, y2⟩ := rG.2.2.2.2.2.2.2.2.2.1
    have hl0 : gi S 106 8 = (n : Int) := by omega
    have hy : ∃ y : Nat → Int, (∀ l, l < n → gi S 117 l ≤ y l ∧ y l ≤ gi S 118 l) ∧ ∀ p q, EdM S o j p q → y q ≤ y p := by
      refine ⟨y, fun l hl => y1 l (by omega), fun p q hpq => ?_⟩
      obtain ⟨w, w1, w2, w3⟩ := (hE p q).mpr hpq
      have h4 := H.2.2.2.1
      have h11 := H.2.2.2.2.2.2.2.2.2.2.1 w w1
      unfold aX at w2
      unfold bX at w3
      have := y2 (p : Int) (q : Int) ⟨w, by omega, by omega, by omega⟩
      rwa [Int.toNat_natCast, Int.toNat_natCast] at this
    clear rG en em eo ej eb hm0 ho0 hj0 hx0 p1 p2 hn5 hn6 r6 ha hb y1 y2 hA hB
    by_cases hl : TcN (lieP S n o j) A B ∨ TcN (lieP S n o j) B A
    · exact jn_lies (by omega) R H hX hM hnb ha' hb' p3 h1 h2 la lb hA' hB' hac hl
    · have hl1 : ¬ TcN (lieP S n o j) A B := fun z => hl (Or.inl z)
      have hl2 : ¬ TcN (lieP S n o j) B A := fun z => hl (Or.inr z)
      have hno : TcN (rX S n m) A B ↔ TcN (rX S n m) B A := by
        by_cases e : A = B
        · rw [e]
        · refine Classical.byContradiction fun z => hl ((joint_iff hE hin hac).mp ⟨e, z⟩)
      by_cases hf : j = 40
      · subst hf
        exact jn_full hd5 R H hm hxj hX hM hnb ha' hb' p3 h1 h2 la lb hA' hB' hl1 hl2 hno hy
      · exact jn_room hd5 R H hm (by omega) hxj hX hM hnb ha' hb' p3 h1 h2 la lb hA' hB' hac hl1 hl2 hno
  · exact jn_no hd ha hb R hp
