/-! ===== each group of the relation hangs on its own places (printed by gen/mkfrg.py) ===== -/
set_option maxRecDepth 100000
def sRT (a k : Nat) : Bool := !(if a = 42 then [9, 10].contains k else if a = 106 then [5, 6].contains k else [46, 116].contains a)
theorem sRT_of {a k : Nat} (h : (decide (a ≠ 42) && decide (a ≠ 106) && [46, 116].contains a) = true) : sRT a k = false := by
  rw [Bool.and_eq_true, Bool.and_eq_true] at h
  unfold sRT
  rw [if_neg (of_decide_eq_true h.1.1), if_neg (of_decide_eq_true h.1.2), h.2]; rfl
def sRR (a k : Nat) : Bool := !(if a = 42 then [].contains k else if a = 106 then [].contains k else [107, 108, 109, 102, 103, 104, 105].contains a)
theorem sRR_of {a k : Nat} (h : (decide (a ≠ 42) && decide (a ≠ 106) && [107, 108, 109, 102, 103, 104, 105].contains a) = true) : sRR a k = false := by
  rw [Bool.and_eq_true, Bool.and_eq_true] at h
  unfold sRR
  rw [if_neg (of_decide_eq_true h.1.1), if_neg (of_decide_eq_true h.1.2), h.2]; rfl
def sRE (a k : Nat) : Bool := !(if a = 42 then [6].contains k else if a = 106 then [7].contains k else [44, 111, 112, 113, 114, 115].contains a)
theorem sRE_of {a k : Nat} (h : (decide (a ≠ 42) && decide (a ≠ 106) && [44, 111, 112, 113, 114, 115].contains a) = true) : sRE a k = false := by
  rw [Bool.and_eq_true, Bool.and_eq_true] at h
  unfold sRE
  rw [if_neg (of_decide_eq_true h.1.1), if_neg (of_decide_eq_true h.1.2), h.2]; rfl
def sRL (a k : Nat) : Bool := !(if a = 42 then [8].contains k else if a = 106 then [8].contains k else [47, 48, 117, 118].contains a)
theorem sRL_of {a k : Nat} (h : (decide (a ≠ 42) && decide (a ≠ 106) && [47, 48, 117, 118].contains a) = true) : sRL a k = false := by
  rw [Bool.and_eq_true, Bool.and_eq_true] at h
  unfold sRL
  rw [if_neg (of_decide_eq_true h.1.1), if_neg (of_decide_eq_true h.1.2), h.2]; rfl
def sRB (a k : Nat) : Bool := !(if a = 42 then [7].contains k else if a = 106 then [9, 8].contains k else [45, 123, 124, 125, 126, 127, 128, 129, 102, 103, 104, 105].contains a)
theorem sRB_of {a k : Nat} (h : (decide (a ≠ 42) && decide (a ≠ 106) && [45, 123, 124, 125, 126, 127, 128, 129, 102, 103, 104, 105].contains a) = true) : sRB a k = false := by
  rw [Bool.and_eq_true, Bool.and_eq_true] at h
  unfold sRB
  rw [if_neg (of_decide_eq_true h.1.1), if_neg (of_decide_eq_true h.1.2), h.2]; rfl
def sRG (a k : Nat) : Bool := !(if a = 42 then [13, 14, 15].contains k else if a = 106 then [8, 9, 12, 13].contains k else [49, 50, 119, 120, 121, 122, 123, 117, 118].contains a)
theorem sRG_of {a k : Nat} (h : (decide (a ≠ 42) && decide (a ≠ 106) && [49, 50, 119, 120, 121, 122, 123, 117, 118].contains a) = true) : sRG a k = false := by
  rw [Bool.and_eq_true, Bool.and_eq_true] at h
  unfold sRG
  rw [if_neg (of_decide_eq_true h.1.1), if_neg (of_decide_eq_true h.1.2), h.2]; rfl
def sRH (a k : Nat) : Bool := !(if a = 42 then [38].contains k else if a = 106 then [11].contains k else [83, 84, 85, 86, 87, 88, 89, 90, 131].contains a)
theorem sRH_of {a k : Nat} (h : (decide (a ≠ 42) && decide (a ≠ 106) && [83, 84, 85, 86, 87, 88, 89, 90, 131].contains a) = true) : sRH a k = false := by
  rw [Bool.and_eq_true, Bool.and_eq_true] at h
  unfold sRH
  rw [if_neg (of_decide_eq_true h.1.1), if_neg (of_decide_eq_true h.1.2), h.2]; rfl
def sRA (a k : Nat) : Bool := !(if a = 42 then [].contains k else if a = 106 then [].contains k else [79, 130].contains a)
theorem sRA_of {a k : Nat} (h : (decide (a ≠ 42) && decide (a ≠ 106) && [79, 130].contains a) = true) : sRA a k = false := by
  rw [Bool.and_eq_true, Bool.and_eq_true] at h
  unfold sRA
  rw [if_neg (of_decide_eq_true h.1.1), if_neg (of_decide_eq_true h.1.2), h.2]; rfl
def sRP (a k : Nat) : Bool := !(if a = 42 then [32].contains k else if a = 106 then [9].contains k else [77, 144].contains a)
theorem sRP_of {a k : Nat} (h : (decide (a ≠ 42) && decide (a ≠ 106) && [77, 144].contains a) = true) : sRP a k = false := by
  rw [Bool.and_eq_true, Bool.and_eq_true] at h
  unfold sRP
  rw [if_neg (of_decide_eq_true h.1.1), if_neg (of_decide_eq_true h.1.2), h.2]; rfl
def sRQ (a k : Nat) : Bool := !(if a = 42 then [31].contains k else if a = 106 then [].contains k else [78].contains a)
theorem sRQ_of {a k : Nat} (h : (decide (a ≠ 42) && decide (a ≠ 106) && [78].contains a) = true) : sRQ a k = false := by
  rw [Bool.and_eq_true, Bool.and_eq_true] at h
  unfold sRQ
  rw [if_neg (of_decide_eq_true h.1.1), if_neg (of_decide_eq_true h.1.2), h.2]; rfl
def sRY (a k : Nat) : Bool := !(if a = 42 then [20].contains k else if a = 106 then [38].contains k else [70, 134].contains a)
theorem sRY_of {a k : Nat} (h : (decide (a ≠ 42) && decide (a ≠ 106) && [70, 134].contains a) = true) : sRY a k = false := by
  rw [Bool.and_eq_true, Bool.and_eq_true] at h
  unfold sRY
  rw [if_neg (of_decide_eq_true h.1.1), if_neg (of_decide_eq_true h.1.2), h.2]; rfl
def sRF (a k : Nat) : Bool := !(if a = 42 then [24, 21, 22].contains k else if a = 106 then [39, 40].contains k else [].contains a)
theorem sRF_of {a k : Nat} (h : (decide (a ≠ 42) && decide (a ≠ 106) && [].contains a) = true) : sRF a k = false := by
  rw [Bool.and_eq_true, Bool.and_eq_true] at h
  unfold sRF
  rw [if_neg (of_decide_eq_true h.1.1), if_neg (of_decide_eq_true h.1.2), h.2]; rfl
def sRB8 (a k : Nat) : Bool := !(if a = 42 then [7].contains k else if a = 106 then [9].contains k else [45, 123, 124, 125, 126, 127, 128, 129, 102, 103, 104, 105].contains a)
theorem sRB8_of {a k : Nat} (h : (decide (a ≠ 42) && decide (a ≠ 106) && [45, 123, 124, 125, 126, 127, 128, 129, 102, 103, 104, 105].contains a) = true) : sRB8 a k = false := by
  rw [Bool.and_eq_true, Bool.and_eq_true] at h
  unfold sRB8
  rw [if_neg (of_decide_eq_true h.1.1), if_neg (of_decide_eq_true h.1.2), h.2]; rfl
def sRK7 (a k : Nat) : Bool := !(if a = 42 then [23].contains k else if a = 106 then [10, 9].contains k else [74, 135, 136, 132, 133, 124, 125, 126, 127, 128].contains a)
theorem sRK7_of {a k : Nat} (h : (decide (a ≠ 42) && decide (a ≠ 106) && [74, 135, 136, 132, 133, 124, 125, 126, 127, 128].contains a) = true) : sRK7 a k = false := by
  rw [Bool.and_eq_true, Bool.and_eq_true] at h
  unfold sRK7
  rw [if_neg (of_decide_eq_true h.1.1), if_neg (of_decide_eq_true h.1.2), h.2]; rfl
def sRK (a k : Nat) : Bool := !(if a = 42 then [23].contains k else if a = 106 then [10, 7, 9].contains k else [74, 135, 136, 132, 133, 124, 125, 126, 127, 128].contains a)
theorem sRK_of {a k : Nat} (h : (decide (a ≠ 42) && decide (a ≠ 106) && [74, 135, 136, 132, 133, 124, 125, 126, 127, 128].contains a) = true) : sRK a k = false := by
  rw [Bool.and_eq_true, Bool.and_eq_true] at h
  unfold sRK
  rw [if_neg (of_decide_eq_true h.1.1), if_neg (of_decide_eq_true h.1.2), h.2]; rfl
theorem fr_RT {S S' : Mm} (q : agr sRT S S') (r : RT S) : RT S' := by
  have g : ∀ a k : Nat, sRT a k = false → gi S' a k = gi S a k := fun a k e => agr_gi q e
  simp (disch := first | decide | exact sRT_of (by decide) | fail) only [RT, g] at r ⊢; exact r
theorem fr_RL {S S' : Mm} (q : agr sRL S S') (r : RL S) : RL S' := by
  have g : ∀ a k : Nat, sRL a k = false → gi S' a k = gi S a k := fun a k e => agr_gi q e
  simp (disch := first | decide | exact sRL_of (by decide) | fail) only [RL, g] at r ⊢; exact r
theorem fr_RA {S S' : Mm} (q : agr sRA S S') (r : RA S) : RA S' := by
  have g : ∀ a k : Nat, sRA a k = false → gi S' a k = gi S a k := fun a k e => agr_gi q e
  simp (disch := first | decide | exact sRA_of (by decide) | fail) only [RA, g] at r ⊢; exact r
theorem fr_RP {S S' : Mm} (q : agr sRP S S') (r : RP S) : RP S' := by
  have g : ∀ a k : Nat, sRP a k = false → gi S' a k = gi S a k := fun a k e => agr_gi q e
  simp (disch := first | decide | exact sRP_of (by decide) | fail) only [RP, g] at r ⊢; exact r
theorem fr_RY {S S' : Mm} (q : agr sRY S S') (r : RY S) : RY S' := by
  have g : ∀ a k : Nat, sRY a k = false → gi S' a k = gi S a k := fun a k e => agr_gi q e
  simp (disch := first | decide | exact sRY_of (by decide) | fail) only [RY, g] at r ⊢; exact r
theorem fr_RF {S S' : Mm} (q : agr sRF S S') (r : RF S) : RF S' := by
  have g : ∀ a k : Nat, sRF a k = false → gi S' a k = gi S a k := fun a k e => agr_gi q e
  simp (disch := first | decide | exact sRF_of (by decide) | fail) only [RF, g] at r ⊢; exact r
theorem fr_RQ {c : Nat} {S S' : Mm} (q : agr sRQ S S') (r : RQ c S) : RQ c S' := by
  have g : ∀ a k : Nat, sRQ a k = false → gi S' a k = gi S a k := fun a k e => agr_gi q e
  simp (disch := first | decide | exact sRQ_of (by decide) | fail) only [RQ, g] at r ⊢; exact r
theorem fr_RG {S S' : Mm} (q : agr sRG S S') (r : RG S) : RG S' := by
  have g : ∀ a k : Nat, sRG a k = false → gi S' a k = gi S a k := fun a k e => agr_gi q e
  simp (disch := first | decide | exact sRG_of (by decide) | fail) only [RG, eX, eO, eJ, okY, Tc, g] at r ⊢; exact r
theorem fg_RG {S S' : Mm} (g : ∀ a k : Nat, sRG a k = false → gi S' a k = gi S a k) (r : RG S) : RG S' := by
  simp (disch := first | decide | exact sRG_of (by decide) | fail) only [RG, eX, eO, eJ, okY, Tc, g] at r ⊢; exact r
theorem fg_RL {S S' : Mm} (g : ∀ a k : Nat, sRL a k = false → gi S' a k = gi S a k) (r : RL S) : RL S' := by
  simp (disch := first | decide | exact sRL_of (by decide) | fail) only [RL, g] at r ⊢; exact r
theorem fr_RE {S S' : Mm} {δ : Sg} (q : agr sRE S S') (r : RE S δ) : RE S' δ := by
  have g : ∀ a k : Nat, sRE a k = false → gi S' a k = gi S a k := fun a k e => agr_gi q e
  simp (disch := first | decide | exact sRE_of (by decide) | fail) only [RE, RE1, g, q _ _ (sRE_of (a := 44) (by decide))] at r ⊢; exact r
theorem sRR_102 {p k : Nat} (h : p < 4) : sRR (102 + p) k = false := by
  have : ∀ j : Nat, j < 4 → (decide (102 + j ≠ 42) && decide (102 + j ≠ 106) && [107, 108, 109, 102, 103, 104, 105].contains (102 + j)) = true := by decide
  exact sRR_of (this p h)
theorem sRB_102 {p k : Nat} (h : p < 4) : sRB (102 + p) k = false := by
  have : ∀ j : Nat, j < 4 → (decide (102 + j ≠ 42) && decide (102 + j ≠ 106) && [45, 123, 124, 125, 126, 127, 128, 129, 102, 103, 104, 105].contains (102 + j)) = true := by decide
  exact sRB_of (this p h)
theorem sRH_83 {p k : Nat} (h : p < 8) : sRH (83 + p) k = false := by
  have : ∀ j : Nat, j < 8 → (decide (83 + j ≠ 42) && decide (83 + j ≠ 106) && [83, 84, 85, 86, 87, 88, 89, 90, 131].contains (83 + j)) = true := by decide
  exact sRH_of (this p h)
theorem fr_RR {S S' : Mm} {δ : Sg} (q : agr sRR S S') (r : RR S δ) : RR S' δ := by
  have g : ∀ a k : Nat, sRR a k = false → gi S' a k = gi S a k := fun a k e => agr_gi q e
  have gL : ∀ a k : Nat, sRR a k = false → gl S' a k = gl S a k := fun a k e => agr_gl q e
  refine ⟨fun p hp => ?_, fun p q' a b hp hq ha hb => r.2 p q' a b hp hq ((q _ _ (sRR_102 hp)).symm.trans ha) ((q _ _ (sRR_102 hq)).symm.trans hb)⟩
  have := r.1 p hp
  have e := q (102 + p) 0 (sRR_102 hp)
  simp (disch := first | decide | exact sRR_of (by decide) | fail) only [RR1, g, gL, e] at this ⊢
  exact this
theorem fr_RB {c : Nat} {S S' : Mm} {δ : Sg} (q : agr sRB S S') (r : RB c S δ) : RB c S' δ := by
  have g : ∀ a k : Nat, sRB a k = false → gi S' a k = gi S a k := fun a k e => agr_gi q e
  refine ⟨by simp (disch := first | decide | exact sRB_of (by decide) | fail) only [g]; exact r.1, by simp (disch := first | decide | exact sRB_of (by decide) | fail) only [g]; exact r.2.1, fun b hb => ?_⟩
  have := r.2.2 b (by rwa [g 106 9 rfl] at hb)
  obtain ⟨a, k1, k2, k3, k4, k5, k6, k7, k8, k9, k10, k11, k12, k13, k14, k15, k16, k17, k18, k19, k20, k21⟩ := this
  refine ⟨a, (q _ _ rfl).trans k1, k2, k3, k4, ?_, ?_, ?_, ?_, ?_, ?_, ?_, ?_, ?_, ?_, ?_, ?_, k17, k18, k19, ?_, fun p hp => ?_⟩
  all_goals first
    | (rw [q _ _ (sRB_102 hp)]; exact k21 p hp)
    | (simp (disch := first | decide | exact sRB_of (by decide) | fail) only [g]; assumption)
theorem fr_RH {S S' : Mm} (q : agr sRH S S') (r : RH S) : RH S' := by
  have g : ∀ a k : Nat, sRH a k = false → gi S' a k = gi S a k := fun a k e => agr_gi q e
  refine ⟨by simp (disch := first | decide | exact sRH_of (by decide) | fail) only [g]; exact r.1, by simp (disch := first | decide | exact sRH_of (by decide) | fail) only [g]; exact r.2.1, fun h k h1 h2 => ?_⟩
  rw [g 106 11 rfl] at h1
  have := r.2.2 h k h1 h2
  rw [g _ _ (sRH_83 (by have := r.2.1; omega)), g 131 _ rfl]
  exact this
theorem fr_RK {S S' : Mm} {δ : Sg} (q : agr sRK S S') (r : RK S δ) : RK S' δ := by
  have g : ∀ a k : Nat, sRK a k = false → gi S' a k = gi S a k := fun a k e => agr_gi q e
  have ebo : bo S' = bo S := by
    funext b i
    simp (disch := first | decide | exact sRK_of (by decide) | fail) only [bo, g]
  have etx : tx S' = tx S := by
    funext b i
    simp (disch := first | decide | exact sRK_of (by decide) | fail) only [tx, g]
  simp (disch := first | decide | exact sRK_of (by decide) | fail) only [RK, RK1, g, ebo, etx, q _ _ (sRK_of (a := 74) (by decide))] at r ⊢; exact r
theorem sRB8_102 {p k : Nat} (h : p < 4) : sRB8 (102 + p) k = false := by
  have : ∀ j : Nat, j < 4 → (decide (102 + j ≠ 42) && decide (102 + j ≠ 106) && [45, 123, 124, 125, 126, 127, 128, 129, 102, 103, 104, 105].contains (102 + j)) = true := by decide
  exact sRB8_of (this p h)
theorem fr_RB8 {c : Nat} {S S' : Mm} {δ : Sg} (q : agr sRB8 S S') (hl : gi S 106 8 ≤ gi S' 106 8) (r : RB c S δ) : RB c S' δ := by
  have g : ∀ a k : Nat, sRB8 a k = false → gi S' a k = gi S a k := fun a k e => agr_gi q e
  refine ⟨by simp (disch := first | decide | exact sRB8_of (by decide) | fail) only [g]; exact r.1, by simp (disch := first | decide | exact sRB8_of (by decide) | fail) only [g]; exact r.2.1, fun b hb => ?_⟩
  have := r.2.2 b (by rwa [g 106 9 rfl] at hb)
  obtain ⟨a, k1, k2, k3, k4, k5, k6, k7, k8, k9, k10, k11, k12, k13, k14, k15, k16, k17, k18, k19, k20, k21⟩ := this
  refine ⟨a, (q _ _ rfl).trans k1, k2, k3, k4, ?_, ?_, ?_, ?_, ?_, ?_, ?_, ?_, ?_, ?_, ?_, ?_, k17, k18, k19, ?_, fun p hp => ?_⟩
  all_goals first
    | (rw [q _ _ (sRB8_102 hp)]; exact k21 p hp)
    | (rw [g 123 _ rfl]; exact ⟨k6.1, Int.lt_of_lt_of_le k6.2 hl⟩)
    | (simp (disch := first | decide | exact sRB8_of (by decide) | fail) only [g]; assumption)
theorem fr_RK7 {S S' : Mm} {δ : Sg} (q : agr sRK7 S S') (hl : gi S 106 7 ≤ gi S' 106 7) (r : RK S δ) : RK S' δ := by
  have g : ∀ a k : Nat, sRK7 a k = false → gi S' a k = gi S a k := fun a k e => agr_gi q e
  have ebo : bo S' = bo S := by
    funext b i
    simp (disch := first | decide | exact sRK7_of (by decide) | fail) only [bo, g]
  have etx : tx S' = tx S := by
    funext b i
    simp (disch := first | decide | exact sRK7_of (by decide) | fail) only [tx, g]
  refine ⟨by simp (disch := first | decide | exact sRK7_of (by decide) | fail) only [g]; exact r.1, by simp (disch := first | decide | exact sRK7_of (by decide) | fail) only [g]; exact r.2.1, fun k hk => ?_⟩
  obtain ⟨a, K, k1, k2, k3, ⟨el, r', k4, k5⟩, k6⟩ := r.2.2 k (by rwa [g 106 10 rfl] at hk)
  refine ⟨a, K, (q _ _ (sRK7_of (by decide))).trans k1, k2, by simp (disch := first | decide | exact sRK7_of (by decide) | fail) only [g]; exact k3, ⟨el, r', ⟨k4.1, Int.le_trans k4.2 hl⟩, by simp (disch := first | decide | exact sRK7_of (by decide) | fail) only [g, etx]; exact k5⟩, fun b hb => ?_⟩
  rw [g 106 9 rfl] at hb
  obtain ⟨m1, m2⟩ := k6 b hb
  simp (disch := first | decide | exact sRK7_of (by decide) | fail) only [g, ebo]
  exact ⟨m1, m2.imp_right fun z => ⟨z.1, z.2.1, Int.lt_of_lt_of_le z.2.2 hl⟩⟩
/-- the heap grows and what was there stays -/
def Grw (δ δ' : Sg) : Prop := δ.1 ≤ δ'.1 ∧ ∀ a, a < δ.1 → δ'.2.2.2 a = δ.2.2.2 a
theorem Grw_refl {δ : Sg} : Grw δ δ := ⟨Nat.le_refl _, fun _ _ => rfl⟩
theorem Grw_trans {δ δ' δ'' : Sg} (h : Grw δ δ') (h2 : Grw δ' δ'') : Grw δ δ'' := ⟨Nat.le_trans h.1 h2.1, fun a h3 => (h2.2 a (Nat.lt_of_lt_of_le h3 h.1)).trans (h.2 a h3)⟩
theorem Grw_nw {δ : Sg} {t n : Nat} {f : Nat → Value} : Grw δ (b_nw δ t n f) := by
  refine ⟨Nat.le_succ _, fun a h => ?_⟩
  unfold b_nw
  exact if_neg (by omega)
theorem Grw_bump {δ : Sg} {m n : Nat} : Grw δ (b_bump δ m n) := ⟨Nat.le_refl _, fun _ _ => rfl⟩
theorem Grw_Ext {δ δ' : Sg} (h : Grw δ δ') : Ext δ δ' := ⟨h.1, fun a _ h2 _ => h.2 a h2⟩
theorem grw {δ δ' : Sg} (h : Grw δ δ') {a : Nat} (_ : 156 ≤ a) (h2 : a < δ.1) : b_tg δ' a = b_tg δ a ∧ b_ln δ' a = b_ln δ a ∧ (∀ k, b_vl δ' a k = b_vl δ a k) ∧ (∀ k, b_ia δ' a k = b_ia δ a k) ∧ ∀ k, b_la δ' a k = b_la δ a k := by
  have e := h.2 a h2
  refine ⟨?_, ?_, fun k => ?_, fun k => ?_, fun k => ?_⟩ <;> simp only [b_tg, b_ln, b_ia, b_la, b_vl, e]
theorem gr_RR {S : Mm} {δ δ' : Sg} (h : Grw δ δ') (r : RR S δ) : RR S δ' := by
  refine ⟨fun p hp => ?_, r.2⟩
  rcases r.1 p hp with q | ⟨a, q1, q2, q3, q4, q5, q6, q7, q8⟩
  · exact Or.inl q
  · obtain ⟨t1, t2, t3, t4, t5⟩ := grw h q2 q3
    refine Or.inr ⟨a, q1, q2, Nat.lt_of_lt_of_le q3 h.1, q4, q5, t1.trans q6, by rw [t2]; exact q7, fun k hk => ?_⟩
    rw [← q8 k hk]
    unfold rwV
    rw [t4, t5]
theorem ex_RE {S : Mm} {δ δ' : Sg} (h : Ext δ δ') (r : RE S δ) : RE S δ' := by
  refine ⟨r.1, r.2.1, fun e he => ?_⟩
  obtain ⟨a, q1, q2, q3, q4, q5⟩ := r.2.2 e he
  obtain ⟨t1, t2, t3, t4⟩ := ext_tg h q2 q3 (by omega)
  refine ⟨a, q1, q2, Nat.lt_of_lt_of_le q3 h.1, t1.trans q4, ?_⟩
  simp only [t4]
  exact q5
theorem gr_RB {c : Nat} {S : Mm} {δ δ' : Sg} (h : Grw δ δ') (r : RB c S δ) : RB c S δ' := by
  refine ⟨r.1, r.2.1, fun e he => ?_⟩
  obtain ⟨a, q1, q2, q3, q4, q5⟩ := r.2.2 e he
  obtain ⟨t1, t2, t3, t4, t5⟩ := grw h q2 (by omega)
  obtain ⟨u1, u2, u3, u4, u5⟩ := grw h (a := a + 1) (by omega) q3
  refine ⟨a, q1, q2, Nat.lt_of_lt_of_le q3 h.1, t1.trans q4, ?_⟩
  simp only [t3, t4, u1, u2, u4]
  exact q5
theorem ex_RK {S : Mm} {δ δ' : Sg} (h : Ext δ δ') (r : RK S δ) : RK S δ' := by
  refine ⟨r.1, r.2.1, fun k hk => ?_⟩
  obtain ⟨a, K, q1, q2, q3⟩ := r.2.2 k hk
  exact ⟨a, K, q1, KR_ext h q2, q3⟩
theorem scr_cases {P : Nat → Nat → Prop} (h42 : P 42 36) (h106 : ∀ k, [0, 47, 48, 49, 50, 51, 52, 53, 54, 55, 56, 57, 58, 59, 60, 61, 65, 70, 72, 73, 75].contains k = true → P 106 k) (h71 : ∀ k, P 71 k) (h73 : ∀ k, P 73 k) (hA : ∀ a k, [51, 52, 53, 54, 55, 56, 57, 58, 59, 60, 61, 62, 63, 64, 65, 66, 67, 68, 69, 75, 76, 80, 81, 91, 92, 93, 94, 95, 96, 97, 98, 99, 100, 101, 110, 137, 138, 139, 140, 141, 142, 143, 145, 146, 147, 148, 149, 150, 151, 152, 153, 154, 155].contains a = true → P a k) {a k : Nat} (h : scr a k = true) : P a k := by
  unfold scr at h
  by_cases e1 : a = 42
  · rw [if_pos e1] at h
    have : k = 36 := by simpa using h
    rw [e1, this]; exact h42
  · rw [if_neg e1] at h
    by_cases e2 : a = 106
    · rw [if_pos e2] at h
      rw [e2]; exact h106 k h
    · rw [if_neg e2] at h
      by_cases e3 : a = 71
      · rw [e3]; exact h71 k
      · rw [if_neg e3] at h
        by_cases e4 : a = 73
        · rw [e4]; exact h73 k
        · rw [if_neg e4] at h
          exact hA a k h
theorem con_not {L M : List Nat} (h : ∀ x ∈ L, M.contains x = false) {a : Nat} (ha : L.contains a = true) : M.contains a = false := h a (List.contains_iff_mem.mp ha)
theorem sRT_scr {a k : Nat} (h : scr a k = true) : sRT a k = true := by
  refine scr_cases (P := fun a k => sRT a k = true) rfl (fun k hk => ?_) (fun k => rfl) (fun k => rfl) (fun a k ha => ?_) h
  · show (!([5, 6] : List Nat).contains k) = true
    rw [con_not (by decide) hk]; rfl
  · have h42 : a ≠ 42 := by rintro rfl; revert ha; decide
    have h106 : a ≠ 106 := by rintro rfl; revert ha; decide
    unfold sRT
    rw [if_neg h42, if_neg h106, con_not (M := [46, 116]) (by decide) ha]; rfl
theorem sRR_scr {a k : Nat} (h : scr a k = true) : sRR a k = true := by
  refine scr_cases (P := fun a k => sRR a k = true) rfl (fun k hk => ?_) (fun k => rfl) (fun k => rfl) (fun a k ha => ?_) h
  · show (!([] : List Nat).contains k) = true
    rw [con_not (by decide) hk]; rfl
  · have h42 : a ≠ 42 := by rintro rfl; revert ha; decide
    have h106 : a ≠ 106 := by rintro rfl; revert ha; decide
    unfold sRR
    rw [if_neg h42, if_neg h106, con_not (M := [107, 108, 109, 102, 103, 104, 105]) (by decide) ha]; rfl
theorem sRE_scr {a k : Nat} (h : scr a k = true) : sRE a k = true := by
  refine scr_cases (P := fun a k => sRE a k = true) rfl (fun k hk => ?_) (fun k => rfl) (fun k => rfl) (fun a k ha => ?_) h
  · show (!([7] : List Nat).contains k) = true
    rw [con_not (by decide) hk]; rfl
  · have h42 : a ≠ 42 := by rintro rfl; revert ha; decide
    have h106 : a ≠ 106 := by rintro rfl; revert ha; decide
    unfold sRE
    rw [if_neg h42, if_neg h106, con_not (M := [44, 111, 112, 113, 114, 115]) (by decide) ha]; rfl
theorem sRL_scr {a k : Nat} (h : scr a k = true) : sRL a k = true := by
  refine scr_cases (P := fun a k => sRL a k = true) rfl (fun k hk => ?_) (fun k => rfl) (fun k => rfl) (fun a k ha => ?_) h
  · show (!([8] : List Nat).contains k) = true
    rw [con_not (by decide) hk]; rfl
  · have h42 : a ≠ 42 := by rintro rfl; revert ha; decide
    have h106 : a ≠ 106 := by rintro rfl; revert ha; decide
    unfold sRL
    rw [if_neg h42, if_neg h106, con_not (M := [47, 48, 117, 118]) (by decide) ha]; rfl
theorem sRB_scr {a k : Nat} (h : scr a k = true) : sRB a k = true := by
  refine scr_cases (P := fun a k => sRB a k = true) rfl (fun k hk => ?_) (fun k => rfl) (fun k => rfl) (fun a k ha => ?_) h
  · show (!([9, 8] : List Nat).contains k) = true
    rw [con_not (by decide) hk]; rfl
  · have h42 : a ≠ 42 := by rintro rfl; revert ha; decide
    have h106 : a ≠ 106 := by rintro rfl; revert ha; decide
    unfold sRB
    rw [if_neg h42, if_neg h106, con_not (M := [45, 123, 124, 125, 126, 127, 128, 129, 102, 103, 104, 105]) (by decide) ha]; rfl
theorem sRG_scr {a k : Nat} (h : scr a k = true) : sRG a k = true := by
  refine scr_cases (P := fun a k => sRG a k = true) rfl (fun k hk => ?_) (fun k => rfl) (fun k => rfl) (fun a k ha => ?_) h
  · show (!([8, 9, 12, 13] : List Nat).contains k) = true
    rw [con_not (by decide) hk]; rfl
  · have h42 : a ≠ 42 := by rintro rfl; revert ha; decide
    have h106 : a ≠ 106 := by rintro rfl; revert ha; decide
    unfold sRG
    rw [if_neg h42, if_neg h106, con_not (M := [49, 50, 119, 120, 121, 122, 123, 117, 118]) (by decide) ha]; rfl
theorem sRH_scr {a k : Nat} (h : scr a k = true) : sRH a k = true := by
  refine scr_cases (P := fun a k => sRH a k = true) rfl (fun k hk => ?_) (fun k => rfl) (fun k => rfl) (fun a k ha => ?_) h
  · show (!([11] : List Nat).contains k) = true
    rw [con_not (by decide) hk]; rfl
  · have h42 : a ≠ 42 := by rintro rfl; revert ha; decide
    have h106 : a ≠ 106 := by rintro rfl; revert ha; decide
    unfold sRH
    rw [if_neg h42, if_neg h106, con_not (M := [83, 84, 85, 86, 87, 88, 89, 90, 131]) (by decide) ha]; rfl
theorem sRA_scr {a k : Nat} (h : scr a k = true) : sRA a k = true := by
  refine scr_cases (P := fun a k => sRA a k = true) rfl (fun k hk => ?_) (fun k => rfl) (fun k => rfl) (fun a k ha => ?_) h
  · show (!([] : List Nat).contains k) = true
    rw [con_not (by decide) hk]; rfl
  · have h42 : a ≠ 42 := by rintro rfl; revert ha; decide
    have h106 : a ≠ 106 := by rintro rfl; revert ha; decide
    unfold sRA
    rw [if_neg h42, if_neg h106, con_not (M := [79, 130]) (by decide) ha]; rfl
theorem sRP_scr {a k : Nat} (h : scr a k = true) : sRP a k = true := by
  refine scr_cases (P := fun a k => sRP a k = true) rfl (fun k hk => ?_) (fun k => rfl) (fun k => rfl) (fun a k ha => ?_) h
  · show (!([9] : List Nat).contains k) = true
    rw [con_not (by decide) hk]; rfl
  · have h42 : a ≠ 42 := by rintro rfl; revert ha; decide
    have h106 : a ≠ 106 := by rintro rfl; revert ha; decide
    unfold sRP
    rw [if_neg h42, if_neg h106, con_not (M := [77, 144]) (by decide) ha]; rfl
theorem sRQ_scr {a k : Nat} (h : scr a k = true) : sRQ a k = true := by
  refine scr_cases (P := fun a k => sRQ a k = true) rfl (fun k hk => ?_) (fun k => rfl) (fun k => rfl) (fun a k ha => ?_) h
  · show (!([] : List Nat).contains k) = true
    rw [con_not (by decide) hk]; rfl
  · have h42 : a ≠ 42 := by rintro rfl; revert ha; decide
    have h106 : a ≠ 106 := by rintro rfl; revert ha; decide
    unfold sRQ
    rw [if_neg h42, if_neg h106, con_not (M := [78]) (by decide) ha]; rfl
theorem sRY_scr {a k : Nat} (h : scr a k = true) : sRY a k = true := by
  refine scr_cases (P := fun a k => sRY a k = true) rfl (fun k hk => ?_) (fun k => rfl) (fun k => rfl) (fun a k ha => ?_) h
  · show (!([38] : List Nat).contains k) = true
    rw [con_not (by decide) hk]; rfl
  · have h42 : a ≠ 42 := by rintro rfl; revert ha; decide
    have h106 : a ≠ 106 := by rintro rfl; revert ha; decide
    unfold sRY
    rw [if_neg h42, if_neg h106, con_not (M := [70, 134]) (by decide) ha]; rfl
theorem sRF_scr {a k : Nat} (h : scr a k = true) : sRF a k = true := by
  refine scr_cases (P := fun a k => sRF a k = true) rfl (fun k hk => ?_) (fun k => rfl) (fun k => rfl) (fun a k ha => ?_) h
  · show (!([39, 40] : List Nat).contains k) = true
    rw [con_not (by decide) hk]; rfl
  · have h42 : a ≠ 42 := by rintro rfl; revert ha; decide
    have h106 : a ≠ 106 := by rintro rfl; revert ha; decide
    unfold sRF
    rw [if_neg h42, if_neg h106, con_not (M := []) (by decide) ha]; rfl
theorem sRB8_scr {a k : Nat} (h : scr a k = true) : sRB8 a k = true := by
  refine scr_cases (P := fun a k => sRB8 a k = true) rfl (fun k hk => ?_) (fun k => rfl) (fun k => rfl) (fun a k ha => ?_) h
  · show (!([9] : List Nat).contains k) = true
    rw [con_not (by decide) hk]; rfl
  · have h42 : a ≠ 42 := by rintro rfl; revert ha; decide
    have h106 : a ≠ 106 := by rintro rfl; revert ha; decide
    unfold sRB8
    rw [if_neg h42, if_neg h106, con_not (M := [45, 123, 124, 125, 126, 127, 128, 129, 102, 103, 104, 105]) (by decide) ha]; rfl
theorem sRK7_scr {a k : Nat} (h : scr a k = true) : sRK7 a k = true := by
  refine scr_cases (P := fun a k => sRK7 a k = true) rfl (fun k hk => ?_) (fun k => rfl) (fun k => rfl) (fun a k ha => ?_) h
  · show (!([10, 9] : List Nat).contains k) = true
    rw [con_not (by decide) hk]; rfl
  · have h42 : a ≠ 42 := by rintro rfl; revert ha; decide
    have h106 : a ≠ 106 := by rintro rfl; revert ha; decide
    unfold sRK7
    rw [if_neg h42, if_neg h106, con_not (M := [74, 135, 136, 132, 133, 124, 125, 126, 127, 128]) (by decide) ha]; rfl
theorem sRK_scr {a k : Nat} (h : scr a k = true) : sRK a k = true := by
  refine scr_cases (P := fun a k => sRK a k = true) rfl (fun k hk => ?_) (fun k => rfl) (fun k => rfl) (fun a k ha => ?_) h
  · show (!([10, 7, 9] : List Nat).contains k) = true
    rw [con_not (by decide) hk]; rfl
  · have h42 : a ≠ 42 := by rintro rfl; revert ha; decide
    have h106 : a ≠ 106 := by rintro rfl; revert ha; decide
    unfold sRK
    rw [if_neg h42, if_neg h106, con_not (M := [74, 135, 136, 132, 133, 124, 125, 126, 127, 128]) (by decide) ha]; rfl
