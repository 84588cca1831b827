/-! ===== pairs of methods: what lies over what, joined ===== -/
set_option maxRecDepth 100000
set_option maxHeartbeats 4000000
theorem over_eq {S : Mm} {m o A B : Nat} (x y : Nat) : (if x = 106 ∧ y = 12 then vI (o + 1 : Nat) else if x = 120 ∧ y = o then vI B else if x = 119 ∧ y = o then vI A else if x = 42 ∧ y = 14 then vI ((o : Int) + 1) else up (up (up S 49 m (vI A)) 50 m (vI B)) 42 13 (vI (m + 1 : Nat)) x y) = up (ovU S m o A B) 42 14 (vI ((o : Int) + 1)) x y := by
  unfold ovU
  by_cases q : x = 42 ∧ y = 14
  · rw [up_at (a := 42) (k := 14), if_pos q, if_pos q, if_neg (by omega), if_neg (by omega), if_neg (by omega)]
  · rw [ne_up q, if_neg q, up_at (a := 106), up_at (a := 120), up_at (a := 119)]
theorem over_ok {h : Nat → Cl} {c : Nat} {S T : Mm} {δ : Sg} {n m o j A B : Nat} (R : Rel h c S δ) (H : DtH S n m o j) (hm : m < 142) (ho : o < 60) (hA : A < n) (hB : B < n) (hac : ∀ u v, oN S o u v → ¬ TcN (rX S n m) v u) (hno : ¬ TcN (rX S n m) B A)
    (hy : ∃ y : Nat → Int, (∀ l, l < n → gi (ovU S m o A B) 117 l ≤ y l ∧ y l ≤ gi (ovU S m o A B) 118 l) ∧ ∀ a b, EdM (ovU S m o A B) (o + 1) j a b → y b ≤ y a)
    (hT : ∀ x y : Nat, scr x y = false → T x y = up (ovU S m o A B) 42 14 (vI ((o : Int) + 1)) x y) : Rel h (c + 1) T δ := by
  have rG := R.2.2.2.2.2.2.1
  have HU := ovU_H H hm (by omega : o < 61) hA hB
  have hacU := ovU_ac H hm (by omega : o < 61) hA hB hac hno
  have g : ∀ a k : Nat, ¬ (a = 42 ∧ k = 14) → gi (up (ovU S m o A B) 42 14 (vI ((o : Int) + 1))) a k = gi (ovU S m o A B) a k := fun a k q => by rw [gi_up, if_neg q]
  have g14 : gi (up (ovU S m o A B) 42 14 (vI ((o : Int) + 1))) 42 14 = (o : Int) + 1 := by rw [gi_up, if_pos ⟨rfl, rfl⟩, vi_vI, w32_id (by omega) (by omega)]
  have gU : ∀ a k : Nat, (a ≠ 49 ∧ a ≠ 50 ∧ a ≠ 119 ∧ a ≠ 120) → ¬ (a = 42 ∧ k = 13) → ¬ (a = 106 ∧ k = 12) → ovU S m o A B a k = S a k := fun a k q1 q2 q3 => by
    unfold ovU
    rw [ne_up q3, ne_up (by omega), ne_up (by omega), ne_up q2, ne_up (by omega), ne_up (by omega)]
  have RW : Rel h (c + 1) (up (ovU S m o A B) 42 14 (vI ((o : Int) + 1))) δ := by
    refine Rel_tell R (fun x y e q1 q2 q3 => ?_) ?_
    · rw [ne_up (by omega), gU x y ⟨q1.1, q1.2.1, q1.2.2.1, q1.2.2.2.1⟩ (by omega) (by omega)]
    · have HW : DtH (up (ovU S m o A B) 42 14 (vI ((o : Int) + 1))) n (m + 1) (o + 1) j := by
        unfold DtH eX eO eJ at HU ⊢
        simp (disch := omega) only [g] at HU ⊢
        exact HU
      have hacW : ∀ u v, oN (up (ovU S m o A B) 42 14 (vI ((o : Int) + 1))) (o + 1) u v → ¬ TcN (rX (up (ovU S m o A B) 42 14 (vI ((o : Int) + 1))) n (m + 1)) v u := by
        unfold oN rX uM vM aX bX at hacU ⊢
        simp (disch := omega) only [g] at hacU ⊢
        exact hacU
      obtain ⟨h1, h2, h3, h4, h5, h6, h7, h8, h9, h10, h11, h12, h13, h14⟩ := HW
      have g9' : gi (up (ovU S m o A B) 42 14 (vI ((o : Int) + 1))) 106 9 = gi S 106 9 := by
        rw [g _ _ (by omega)]
        exact congrArg b_vi (gU _ _ (by omega) (by omega) (by omega))
      have g15 : gi (up (ovU S m o A B) 42 14 (vI ((o : Int) + 1))) 42 15 = gi S 42 15 := by
        rw [g _ _ (by omega)]
        exact congrArg b_vi (gU _ _ (by omega) (by omega) (by omega))
      have g121 : ∀ k, gi (up (ovU S m o A B) 42 14 (vI ((o : Int) + 1))) 121 k = gi S 121 k ∧ gi (up (ovU S m o A B) 42 14 (vI ((o : Int) + 1))) 122 k = gi S 122 k := fun k => by
        rw [g _ _ (by omega), g _ _ (by omega)]
        exact ⟨congrArg b_vi (gU _ _ (by omega) (by omega) (by omega)), congrArg b_vi (gU _ _ (by omega) (by omega) (by omega))⟩
      have hj0 := H.2.2.2.2.2.2.2.1
      have hm0 := H.2.2.2.1
      have ho0 := H.2.2.2.2.2.1
      refine ⟨by rw [g14, h6]; omega, by rw [h6]; omega, by rw [g15, h8, rG.2.2.1, hj0], by rw [h8]; have := rG.2.2.2.1; omega, by rw [h4, h6, h8]; have := rG.2.2.2.2.1; omega, fun w hw => ?_, fun k hk => ?_, fun k hk => ?_, h14, ?_, ac_RG ⟨h1, h2, h3, h4, h5, h6, h7, h8, h9, h10, h11, h12, h13, h14⟩ hacW⟩
      · rw [h2]; exact h11 w (by omega)
      · rw [h2]; exact h12 k (by omega)
      · rw [(g121 k).1, (g121 k).2, g9']
        exact rG.2.2.2.2.2.2.2.1 k (by omega)
      · obtain ⟨y, y1, y2⟩ := hy
        refine ⟨y, fun l hl => ?_, fun a b hab => ?_⟩
        · rw [h2] at hl
          rw [g _ _ (by omega), g _ _ (by omega)]
          exact y1 l (by omega)
        · obtain ⟨w, w1, w2, w3⟩ := hab
          rw [g _ _ (by omega)] at w1 w2 w3
          have hw := HU.2.2.2.1
          refine y2 _ _ ((EdM_in HU).1 _ _ |>.mp ⟨w, by omega, ?_, ?_⟩)
          · unfold aX; rw [w2]
          · unfold bX; rw [w3]
  exact Rel_scr hT RW
theorem over_M {d n m o j A B : Nat} (hd : 2 ≤ d) {S : Mm} {δ : Sg} {r : Int} (H : DtH S n m o j) (ho : o < 61) (hA : A < n) (hB : B < n) (hre : ¬ TcN (rX S n m) B A)
    (a8 : ∀ T : Mm, agr sTD (ovU S m o A B) T → ∃ T1, b_M TT d 1018 [.ref 106] (ov T δ) = some (.inl (some (vI r)), ov T1 δ) ∧ agr sDm T T1 ∧ True) (SX : Mm) (hSX : ∀ x y : Nat, 106 ≤ x → SX x y = S x y) :
    ∃ T1 T3, b_M TT d 1016 [.ref 106] (ov (up SX 106 0 (vI 0)) δ) = some (.inl none, ov T1 δ) ∧ gi T1 139 (16 * B + A) = 0 ∧ gi T1 140 (16 * A + B) = 0 ∧ gi T1 106 12 = (o : Int) ∧ b_M TT d 1018 [.ref 106] (ov (up (up (up T1 119 o (vI A)) 120 o (vI B)) 106 12 (vI (o + 1 : Nat))) δ) = some (.inl (some (vI r)), ov T3 δ) ∧ gi T3 106 12 = ((o + 1 : Nat) : Int) ∧ ∀ x y : Nat, scr x y = false → T3 x y = (up (up (up SX 119 o (vI A)) 120 o (vI B)) 106 12 (vI (o + 1 : Nat))) x y := by
  obtain ⟨hE, hin⟩ := EdM_in H
  have w2 : w32 ((o + 1 : Nat) : Int) = (o + 1 : Nat) := w32_id (by omega) (by omega)
  have eo : gi S 106 12 = (o : Int) := H.2.2.2.2.2.1
  have sX : agr sTD S (up SX 106 0 (vI 0)) := by
    intro x y e
    simp only [sTD, Bool.or_eq_false_iff, Bool.and_eq_false_iff, decide_eq_false_iff_not] at e
    rw [ne_up (by omega), hSX x y (by omega)]
  obtain ⟨T1, y1, y2, y3, y4⟩ := lays_of (d := d) (by omega) (δ := δ) H sX
  have hT1 : ∀ x y : Nat, x ≠ 139 → x ≠ 140 → T1 x y = up SX 106 0 (vI 0) x y := fun x y q1 q2 => y2 x y (by unfold sLy; rw [decide_eq_false q1, decide_eq_false q2]; rfl)
  have sT : agr sTD (ovU S m o A B) (up (up (up T1 119 o (vI A)) 120 o (vI B)) 106 12 (vI (o + 1 : Nat))) := by
    intro x y e
    simp only [sTD, Bool.or_eq_false_iff, Bool.and_eq_false_iff, decide_eq_false_iff_not] at e
    unfold ovU
    rw [up_at, up_at, up_at, up_at, up_at, up_at, ne_up (by omega) (a := 42), ne_up (by omega) (a := 50), ne_up (by omega) (a := 49), hT1 x y (by omega) (by omega), ne_up (by omega), hSX x y (by omega)]
  obtain ⟨T3, b1, b2, b3⟩ := a8 _ sT
  have hT3 : ∀ x y : Nat, x ≠ 137 → x ≠ 138 → T3 x y = up (up (up T1 119 o (vI A)) 120 o (vI B)) 106 12 (vI (o + 1 : Nat)) x y := fun x y q1 q2 => b2 x y (by unfold sDm; rw [decide_eq_false q1, decide_eq_false q2]; rfl)
  refine ⟨T1, T3, y1, ?_, ?_, ?_, b1, ?_, fun x y e => ?_⟩
  · rcases y4 B A hB hA with ⟨_, q⟩ | ⟨q, _⟩
    · exact absurd ((reach_iff hE hin).mpr (Or.inl q)) hre
    · exact q
  · rcases y3 A B hA hB with ⟨_, q⟩ | ⟨q, _⟩
    · exact absurd ((reach_iff hE hin).mpr (Or.inr (one_sym q))) hre
    · exact q
  · show b_vi (T1 106 12) = _
    rw [hT1 106 12 (by omega) (by omega), ne_up (by omega), hSX 106 12 (by omega)]
    show gi S 106 12 = _
    omega
  · show b_vi (T3 106 12) = _
    rw [hT3 106 12 (by omega) (by omega), up_at, if_pos ⟨rfl, rfl⟩]; exact w2
  · have n1 : x ≠ 137 ∧ x ≠ 138 ∧ x ≠ 139 ∧ x ≠ 140 := by
      refine ⟨?_, ?_, ?_, ?_⟩ <;> (rintro rfl; cases e)
    have n2 : ¬ (x = 106 ∧ y = 0) := by
      rintro ⟨rfl, rfl⟩; cases e
    rw [hT3 x y n1.1 n1.2.1, up_at, up_at, up_at, up_at, up_at, up_at, hT1 x y n1.2.2.1 n1.2.2.2, ne_up n2]
theorem over_fail {h : Nat → Cl} {c : Nat} {S S2 : Mm} {δ : Sg} {m o A B : Nat} (R : Rel h c S δ) (em : gi S 42 13 = (m : Int)) (eo : gi S 106 12 = (o : Int)) (hm : m < 142) (ho : o < 61) (hS2s : ∀ x y : Nat, scr x y = false → S2 x y = up (up (up S 49 m (vI A)) 50 m (vI B)) 42 13 (vI (m + 1 : Nat)) x y)
    (TM : Mm) (hTM : ∀ x y : Nat, scr x y = false → TM x y = up (up (up (up (up S2 42 13 (vI m)) 119 o (vI A)) 120 o (vI B)) 106 12 (vI (o + 1 : Nat))) 106 12 (vI o) x y) : Rel h (c + 1) TM δ := by
  have rG := R.2.2.2.2.2.2.1
  have g : ∀ x y : Nat, scr x y = false → (x ≠ 49 ∨ y ≠ m) → (x ≠ 50 ∨ y ≠ m) → (x ≠ 119 ∨ y ≠ o) → (x ≠ 120 ∨ y ≠ o) → ¬ (x = 42 ∧ y = 13) → ¬ (x = 106 ∧ y = 12) → TM x y = S x y := by
    intro x y e q1 q2 q3 q4 q5 q6
    rw [hTM x y e, ne_up q6, ne_up q6, ne_up (by omega), ne_up (by omega), ne_up q5, hS2s x y e, ne_up q5, ne_up (by omega), ne_up (by omega)]
  have gI : ∀ x y : Nat, scr x y = false → (x ≠ 49 ∨ y ≠ m) → (x ≠ 50 ∨ y ≠ m) → (x ≠ 119 ∨ y ≠ o) → (x ≠ 120 ∨ y ≠ o) → ¬ (x = 42 ∧ y = 13) → ¬ (x = 106 ∧ y = 12) → gi TM x y = gi S x y := fun x y e q1 q2 q3 q4 q5 q6 => congrArg b_vi (g x y e q1 q2 q3 q4 q5 q6)
  refine Rel_tell R (fun x y e q1 q2 q3 => g x y e (by omega) (by omega) (by omega) (by omega) (by omega) (by omega)) ?_
  refine RG_tail rG ?_ (gI _ _ rfl (by omega) (by omega) (by omega) (by omega) (by omega) (by omega)) (gI _ _ rfl (by omega) (by omega) (by omega) (by omega) (by omega) (by omega)) (gI _ _ rfl (by omega) (by omega) (by omega) (by omega) (by omega) (by omega)) (gI _ _ rfl (by omega) (by omega) (by omega) (by omega) (by omega) (by omega)) ?_ (gI _ _ rfl (by omega) (by omega) (by omega) (by omega) (by omega) (by omega))
    (fun w hw => ⟨gI _ _ rfl (by omega) (by omega) (by omega) (by omega) (by omega) (by omega), gI _ _ rfl (by omega) (by omega) (by omega) (by omega) (by omega) (by omega)⟩) (fun w hw => ⟨gI _ _ rfl (by omega) (by omega) (by omega) (by omega) (by omega) (by omega), gI _ _ rfl (by omega) (by omega) (by omega) (by omega) (by omega) (by omega)⟩) (fun w hw => ⟨gI _ _ rfl (by omega) (by omega) (by omega) (by omega) (by omega) (by omega), gI _ _ rfl (by omega) (by omega) (by omega) (by omega) (by omega) (by omega)⟩) (fun k => ⟨gI _ _ rfl (by omega) (by omega) (by omega) (by omega) (by omega) (by omega), gI _ _ rfl (by omega) (by omega) (by omega) (by omega) (by omega) (by omega), gI _ _ rfl (by omega) (by omega) (by omega) (by omega) (by omega) (by omega)⟩)
  · show b_vi (TM 42 13) = _
    rw [hTM 42 13 rfl, ne_up (by omega), ne_up (by omega), ne_up (by omega), ne_up (by omega), up_at, if_pos ⟨rfl, rfl⟩, vi_vI, w32_id (by omega) (by omega)]
    omega
  · show b_vi (TM 106 12) = _
    rw [hTM 106 12 rfl, up_at, if_pos ⟨rfl, rfl⟩, vi_vI, w32_id (by omega) (by omega)]
    omega
