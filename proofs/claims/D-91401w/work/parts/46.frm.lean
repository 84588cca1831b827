/-! ===== the relation's frames ===== -/
set_option maxRecDepth 100000
def scA (a : Nat) : Bool := decide (a = 42) || decide (a = 106) || decide (a = 71) || decide (a = 73) || [51, 52, 53, 54, 55, 56, 57, 58, 59, 60, 61, 62, 63, 64, 65, 66, 67, 68, 69, 75, 76, 80, 81, 91, 92, 93, 94, 95, 96, 97, 98, 99, 100, 101, 110, 137, 138, 139, 140, 141, 142, 143, 145, 146, 147, 148, 149, 150, 151, 152, 153, 154, 155].contains a
theorem scr_of {a k : Nat} (h : scA a = false) : scr a k = false := by
  simp only [scA, Bool.or_eq_false_iff, decide_eq_false_iff_not] at h
  obtain ⟨⟨⟨⟨h1, h2⟩, h3⟩, h4⟩, h5⟩ := h
  unfold scr
  rw [if_neg h1, if_neg h2, if_neg h3, if_neg h4, h5]
theorem scr_83 {h k : Nat} (q : h < 8) : scr (83 + h) k = false := by
  have : ∀ j : Nat, j < 8 → (83 + j ≠ 42 ∧ 83 + j ≠ 106 ∧ 83 + j ≠ 71 ∧ 83 + j ≠ 73) ∧ [51, 52, 53, 54, 55, 56, 57, 58, 59, 60, 61, 62, 63, 64, 65, 66, 67, 68, 69, 75, 76, 80, 81, 91, 92, 93, 94, 95, 96, 97, 98, 99, 100, 101, 110, 137, 138, 139, 140, 141, 142, 143, 145, 146, 147, 148, 149, 150, 151, 152, 153, 154, 155].contains (83 + j) = false := by decide
  obtain ⟨⟨h1, h2, h3, h4⟩, h5⟩ := this h q
  unfold scr
  rw [if_neg h1, if_neg h2, if_neg h3, if_neg h4, h5]
theorem scr_102 {p k : Nat} (q : p < 4) : scr (102 + p) k = false := by
  have : ∀ j : Nat, j < 4 → (102 + j ≠ 42 ∧ 102 + j ≠ 106 ∧ 102 + j ≠ 71 ∧ 102 + j ≠ 73) ∧ [51, 52, 53, 54, 55, 56, 57, 58, 59, 60, 61, 62, 63, 64, 65, 66, 67, 68, 69, 75, 76, 80, 81, 91, 92, 93, 94, 95, 96, 97, 98, 99, 100, 101, 110, 137, 138, 139, 140, 141, 142, 143, 145, 146, 147, 148, 149, 150, 151, 152, 153, 154, 155].contains (102 + j) = false := by decide
  obtain ⟨⟨h1, h2, h3, h4⟩, h5⟩ := this p q
  unfold scr
  rw [if_neg h1, if_neg h2, if_neg h3, if_neg h4, h5]
theorem Rel_scr {h : Nat → Cl} {c : Nat} {S S' : Mm} {δ : Sg} (q : agr scr S S') (r : Rel h c S δ) : Rel h c S' δ := by
  obtain ⟨r1, r2, r3, r4, r5, r6, r7, r8, r9, r10, r11, r12, r13, r14⟩ := r
  have g : ∀ {a k : Nat}, scr a k = false → gi S' a k = gi S a k := fun e => agr_gi q e
  have gL : ∀ {a k : Nat}, scr a k = false → gl S' a k = gl S a k := fun e => agr_gl q e
  refine ⟨r1, ?_, ?_, ?_, ?_, ?_, ?_, ?_, ?_, ?_, ?_, ?_, ?_, ?_⟩
  · simp (disch := first | decide | exact scr_of (by decide) | fail) only [RT, g] at r2 ⊢; exact r2
  · refine ⟨fun p hp => ?_, fun p q' a b hp hq ha hb => r3.2 p q' a b hp hq ((q _ _ (scr_102 hp)).symm.trans ha) ((q _ _ (scr_102 hq)).symm.trans hb)⟩
    have := r3.1 p hp
    have e := q (102 + p) 0 (scr_102 hp)
    simp (disch := first | decide | exact scr_of (by decide) | fail) only [RR1, g, gL, e] at this ⊢
    exact this
  · simp (disch := first | decide | exact scr_of (by decide) | fail) only [RE, RE1, g, q _ _ (show scr 44 _ = false from rfl)] at r4 ⊢; exact r4
  · simp (disch := first | decide | exact scr_of (by decide) | fail) only [RL, g] at r5 ⊢; exact r5
  · refine ⟨by simp (disch := first | decide | exact scr_of (by decide) | fail) only [g]; exact r6.1, by simp (disch := first | decide | exact scr_of (by decide) | fail) only [g]; exact r6.2.1, fun b hb => ?_⟩
    have := r6.2.2 b (by rwa [g (a := 106) (k := 9) rfl] at hb)
    obtain ⟨a, k1, k2, k3, k4, k5, k6, k7, k8, k9, k10, k11, k12, k13, k14, k15, k16, k17, k18, k19, k20, k21⟩ := this
    refine ⟨a, (q _ _ rfl).trans k1, k2, k3, k4, ?_, ?_, ?_, ?_, ?_, ?_, ?_, ?_, ?_, ?_, ?_, ?_, k17, k18, k19, ?_, fun p hp => ?_⟩
    all_goals first
      | (rw [q _ _ (scr_102 hp)]; exact k21 p hp)
      | (simp (disch := first | decide | exact scr_of (by decide) | fail) only [g]; assumption)
  · simp (disch := first | decide | exact scr_of (by decide) | fail) only [RG, eX, eO, eJ, okY, Tc, g] at r7 ⊢; exact r7
  · refine ⟨by simp (disch := first | decide | exact scr_of (by decide) | fail) only [g]; exact r8.1, by simp (disch := first | decide | exact scr_of (by decide) | fail) only [g]; exact r8.2.1, fun h k h1 h2 => ?_⟩
    rw [g (a := 106) (k := 11) rfl] at h1
    have := r8.2.2 h k h1 h2
    rw [g (scr_83 (by have := r8.2.1; omega)), g (a := 131) rfl]
    exact this
  · simp (disch := first | decide | exact scr_of (by decide) | fail) only [RA, g] at r9 ⊢; exact r9
  · simp (disch := first | decide | exact scr_of (by decide) | fail) only [RP, g] at r10 ⊢; exact r10
  · simp (disch := first | decide | exact scr_of (by decide) | fail) only [RQ, g] at r11 ⊢; exact r11
  · simp (disch := first | decide | exact scr_of (by decide) | fail) only [RY, g] at r12 ⊢; exact r12
  · simp (disch := first | decide | exact scr_of (by decide) | fail) only [RF, g] at r13 ⊢; exact r13
  · have ebo : bo S' = bo S := by
      funext b i
      simp (disch := first | decide | exact scr_of (by decide) | fail) only [bo, g]
    have etx : tx S' = tx S := by
      funext b i
      simp (disch := first | decide | exact scr_of (by decide) | fail) only [tx, g]
    simp (disch := first | decide | exact scr_of (by decide) | fail) only [RK, RK1, g, ebo, etx, q _ _ (show scr 74 _ = false from rfl)] at r14 ⊢; exact r14
theorem rn_c {x c K B : Nat} (h : x ≤ B + c * K) : x ≤ B + (c + 1) * K := by
  rw [Nat.add_mul, Nat.one_mul]; omega
theorem Rel_c {h : Nat → Cl} {c : Nat} {S : Mm} {δ : Sg} (r : Rel h c S δ) : Rel h (c + 1) S δ := by
  obtain ⟨r1, r2, r3, r4, r5, r6, r7, r8, r9, r10, r11, r12, r13, r14⟩ := r
  refine ⟨?_, r2, r3, r4, r5, ?_, r7, r8, r9, r10, ?_, r12, r13, r14⟩
  · obtain ⟨a1, a2, a3, a4, a5, a6⟩ := r1
    exact ⟨a1, a2, rn_c a3, rn_c a4, rn_c a5, a6⟩
  · obtain ⟨a1, ⟨a2, a3, a4⟩, a5⟩ := r6
    exact ⟨a1, ⟨a2, a3, by omega⟩, a5⟩
  · obtain ⟨⟨a1, a2⟩, a3⟩ := r11
    exact ⟨⟨a1, by omega⟩, a3⟩
/-- what is owed of a pair of methods: they answer alike, and the relation goes on -/
def OpR (h : Nat → Cl) (c d : Nat) (S : Mm) (δ : Sg) (yX yM : Nat) (As : List Value) : Prop := ∃ (r : Int) (S1 : Mm) (δ1 : Sg) (S2 : Mm), b_M TT d yX (.ref 42 :: As) (ov S δ) = some (.inl (some (vI r)), ov S1 δ1) ∧ b_M TT d yM (.ref 106 :: As) (ov S1 δ1) = some (.inl (some (vI r)), ov S2 δ1) ∧ Rel h (c + 1) S2 δ1
theorem agr_th {S : Mm} {v : Value} : agr scr S (up S 106 0 v) := agr_up agr_refl rfl
/-- of methods that only ask -/
theorem OpR_ask {h : Nat → Cl} {c d : Nat} {S S1 S2 : Mm} {δ : Sg} {yX yM : Nat} {As : List Value} {r : Int} (R : Rel h c S δ) (h1 : b_M TT d yX (.ref 42 :: As) (ov S δ) = some (.inl (some (vI r)), ov S1 δ)) (h2 : b_M TT d yM (.ref 106 :: As) (ov S1 δ) = some (.inl (some (vI r)), ov S2 δ)) (g1 : agr scr S S1) (g2 : agr scr S1 S2) : OpR h c d S δ yX yM As :=
  ⟨r, S1, δ, S2, h1, h2, Rel_c (Rel_scr (agr_trans g1 g2) R)⟩
