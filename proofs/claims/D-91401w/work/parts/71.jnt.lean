/-! ===== pairs of methods: joints ===== -/
set_option maxRecDepth 100000
/-- the component's table with both ways of a joint more -/
def jnX (S : Mm) (m A B : Nat) : Mm := up (up (up (up (up (up S 49 m (vI A)) 50 m (vI B)) 42 13 (vI (m + 1 : Nat))) 49 (m + 1) (vI B)) 50 (m + 1) (vI A)) 42 13 (vI (m + 2 : Nat))
def jnM (S : Mm) (j a b : Nat) : Mm := up (up (up S 121 j (vI a)) 122 j (vI b)) 106 13 (vI (j + 1 : Nat))
def jnU (S : Mm) (m j A B a b : Nat) : Mm := jnM (jnX S m A B) j a b
section JNT
variable {S : Mm} {n m o j A B a b : Nat}
theorem jnX_at (x k : Nat) (h : x ≠ 49 ∧ x ≠ 50) (h2 : ¬ (x = 42 ∧ k = 13)) : jnX S m A B x k = S x k := by
  unfold jnX
  rw [ne_up h2, ne_up (by omega), ne_up (by omega), ne_up h2, ne_up (by omega), ne_up (by omega)]
theorem jnM_at (x k : Nat) (h : x ≠ 121 ∧ x ≠ 122) (h2 : ¬ (x = 106 ∧ k = 13)) : jnM S j a b x k = S x k := by
  unfold jnM
  rw [ne_up h2, ne_up (by omega), ne_up (by omega)]
theorem jnU_at (x k : Nat) (h : x ≠ 49 ∧ x ≠ 50 ∧ x ≠ 121 ∧ x ≠ 122) (h2 : ¬ (x = 42 ∧ k = 13)) (h3 : ¬ (x = 106 ∧ k = 13)) : jnU S m j A B a b x k = S x k := by
  unfold jnU
  rw [jnM_at x k ⟨h.2.2.1, h.2.2.2⟩ h3, jnX_at x k ⟨h.1, h.2.1⟩ h2]
theorem jnU_gi (x k : Nat) (h : x ≠ 49 ∧ x ≠ 50 ∧ x ≠ 121 ∧ x ≠ 122) (h2 : ¬ (x = 42 ∧ k = 13)) (h3 : ¬ (x = 106 ∧ k = 13)) : gi (jnU S m j A B a b) x k = gi S x k := congrArg b_vi (jnU_at x k h h2 h3)
theorem w32n {x : Nat} (h : x < 100000) : w32 (x : Int) = x := w32_id (by omega) (by omega)
theorem jnU_13 (hm : m < 1000) : gi (jnU S m j A B a b) 42 13 = (m + 2 : Nat) := by
  unfold jnU jnM jnX
  rw [gi_up, if_neg (by omega), gi_up, if_neg (by omega), gi_up, if_neg (by omega), gi_up, if_pos ⟨rfl, rfl⟩, vi_vI, w32n (by omega)]
theorem jnU_j (hj : j < 1000) : gi (jnU S m j A B a b) 106 13 = (j + 1 : Nat) := by
  unfold jnU jnM
  rw [gi_up, if_pos ⟨rfl, rfl⟩, vi_vI, w32n (by omega)]
theorem jnU_49 (hA : A < 100) (hB : B < 100) (w : Nat) : gi (jnU S m j A B a b) 49 w = if w = m + 1 then (B : Int) else if w = m then (A : Int) else gi S 49 w := by
  unfold jnU jnM jnX
  rw [gi_up, if_neg (by omega), gi_up, if_neg (by omega), gi_up, if_neg (by omega), gi_up, if_neg (by omega), gi_up, if_neg (by omega), gi_up]
  by_cases e : w = m + 1
  · rw [if_pos ⟨rfl, e⟩, if_pos e, vi_vI, w32n (by omega)]
  · rw [if_neg (by omega), if_neg e, gi_up, if_neg (by omega), gi_up, if_neg (by omega), gi_up]
    by_cases e2 : w = m
    · rw [if_pos ⟨rfl, e2⟩, if_pos e2, vi_vI, w32n (by omega)]
    · rw [if_neg (by omega), if_neg e2]
theorem jnU_50 (hA : A < 100) (hB : B < 100) (w : Nat) : gi (jnU S m j A B a b) 50 w = if w = m + 1 then (A : Int) else if w = m then (B : Int) else gi S 50 w := by
  unfold jnU jnM jnX
  rw [gi_up, if_neg (by omega), gi_up, if_neg (by omega), gi_up, if_neg (by omega), gi_up, if_neg (by omega), gi_up]
  by_cases e : w = m + 1
  · rw [if_pos ⟨rfl, e⟩, if_pos e, vi_vI, w32n (by omega)]
  · rw [if_neg (by omega), if_neg e, gi_up, if_neg (by omega), gi_up, if_neg (by omega), gi_up]
    by_cases e2 : w = m
    · rw [if_pos ⟨rfl, e2⟩, if_pos e2, vi_vI, w32n (by omega)]
    · rw [if_neg (by omega), if_neg e2, gi_up, if_neg (by omega)]
theorem jnU_121 (ha : a < 200) (w : Nat) : gi (jnU S m j A B a b) 121 w = if w = j then (a : Int) else gi S 121 w := by
  unfold jnU jnM
  rw [gi_up, if_neg (by omega), gi_up, if_neg (by omega), gi_up]
  by_cases e : w = j
  · rw [if_pos ⟨rfl, e⟩, if_pos e, vi_vI, w32n (by omega)]
  · rw [if_neg (by omega), if_neg e]
    exact congrArg b_vi (jnX_at _ _ (by omega) (by omega))
theorem jnU_122 (hb : b < 200) (w : Nat) : gi (jnU S m j A B a b) 122 w = if w = j then (b : Int) else gi S 122 w := by
  unfold jnU jnM
  rw [gi_up, if_neg (by omega), gi_up]
  by_cases e : w = j
  · rw [if_pos ⟨rfl, e⟩, if_pos e, vi_vI, w32n (by omega)]
  · rw [if_neg (by omega), if_neg e, gi_up, if_neg (by omega)]
    exact congrArg b_vi (jnX_at _ _ (by omega) (by omega))
theorem jn_eX (hm : gi S 42 13 = m) (hm2 : m < 142) (hA : A < 100) (hB : B < 100) (x y : Int) : eX (jnU S m j A B a b) x y ↔ eX S x y ∨ (x = A ∧ y = B) ∨ (x = B ∧ y = A) := by
  constructor
  · rintro ⟨w, q1, q2, q3⟩
    rw [jnU_13 (by omega)] at q1
    rw [jnU_49 hA hB] at q2
    rw [jnU_50 hA hB] at q3
    by_cases e : w = m + 1
    · rw [if_pos e] at q2 q3; exact Or.inr (Or.inr ⟨q2.symm, q3.symm⟩)
    · rw [if_neg e] at q2 q3
      by_cases e2 : w = m
      · rw [if_pos e2] at q2 q3; exact Or.inr (Or.inl ⟨q2.symm, q3.symm⟩)
      · rw [if_neg e2] at q2 q3; exact Or.inl ⟨w, by omega, q2, q3⟩
  · rintro (⟨w, q1, q2, q3⟩ | ⟨q1, q2⟩ | ⟨q1, q2⟩)
    · exact ⟨w, by rw [jnU_13 (by omega)]; omega, by rw [jnU_49 hA hB, if_neg (by omega), if_neg (by omega)]; exact q2, by rw [jnU_50 hA hB, if_neg (by omega), if_neg (by omega)]; exact q3⟩
    · exact ⟨m, by rw [jnU_13 (by omega)]; omega, by rw [jnU_49 hA hB, if_neg (by omega), if_pos rfl]; exact q1.symm, by rw [jnU_50 hA hB, if_neg (by omega), if_pos rfl]; exact q2.symm⟩
    · exact ⟨m + 1, by rw [jnU_13 (by omega)]; omega, by rw [jnU_49 hA hB, if_pos rfl]; exact q1.symm, by rw [jnU_50 hA hB, if_pos rfl]; exact q2.symm⟩
theorem jn_eO (x y : Int) : eO (jnU S m j A B a b) x y ↔ eO S x y := by
  unfold eO
  rw [jnU_gi 106 12 (by omega) (by omega) (by omega)]
  simp only [fun k : Nat => jnU_gi (S := S) (m := m) (j := j) (A := A) (B := B) (a := a) (b := b) 119 k (by omega) (by omega) (by omega), fun k : Nat => jnU_gi (S := S) (m := m) (j := j) (A := A) (B := B) (a := a) (b := b) 120 k (by omega) (by omega) (by omega)]
theorem jn_eJ (hj : gi S 106 13 = j) (hj2 : j < 41) (ha : a < 200) (hb : b < 200) (la : gi S 123 a = A) (lb : gi S 123 b = B) (x y : Int) : eJ (jnU S m j A B a b) x y ↔ eJ S x y ∨ (x = A ∧ y = B) ∨ (x = B ∧ y = A) := by
  unfold eJ
  rw [jnU_j (by omega)]
  simp only [jnU_121 ha, jnU_122 hb, fun k : Nat => jnU_gi (S := S) (m := m) (j := j) (A := A) (B := B) (a := a) (b := b) 123 k (by omega) (by omega) (by omega)]
  constructor
  · rintro ⟨k, k1, k2⟩
    by_cases e : k = j
    · rw [if_pos e, if_pos e, Int.toNat_natCast, Int.toNat_natCast, la, lb] at k2
      exact Or.inr (by omega)
    · rw [if_neg e, if_neg e] at k2
      exact Or.inl ⟨k, by omega, k2⟩
  · rintro (⟨k, k1, k2⟩ | q)
    · refine ⟨k, by omega, ?_⟩
      rw [if_neg (by omega), if_neg (by omega)]
      exact k2
    · refine ⟨j, by omega, ?_⟩
      rw [if_pos rfl, if_pos rfl, Int.toNat_natCast, Int.toNat_natCast, la, lb]
      omega
theorem jn_H (H : DtH S n m o j) (hm : m + 2 ≤ 142) (hj : j < 41) (hA : A < n) (hB : B < n) (ha : a < 200) (hb : b < 200) (la : gi S 123 a = A) (lb : gi S 123 b = B) : DtH (jnU S m j A B a b) n (m + 2) o (j + 1) := by
  obtain ⟨h1, h2, h3, h4, h5, h6, h7, h8, h9, h10, h11, h12, h13, h14⟩ := H
  have f := fun (x k : Nat) => jnU_gi (S := S) (m := m) (j := j) (A := A) (B := B) (a := a) (b := b) x k
  refine ⟨(f 42 8 (by omega) (by omega) (by omega)).trans h1, (f 106 8 (by omega) (by omega) (by omega)).trans h2, h3, jnU_13 (by omega), hm, (f 106 12 (by omega) (by omega) (by omega)).trans h6, h7, jnU_j (by omega), by omega, fun l hl => ?_, fun w hw => ?_, fun k hk => ?_, fun k hk => ?_, fun x y => ?_⟩
  · rw [f 47 _ (by omega) (by omega) (by omega), f 48 _ (by omega) (by omega) (by omega), f 117 _ (by omega) (by omega) (by omega), f 118 _ (by omega) (by omega) (by omega)]
    exact h10 l hl
  · rw [jnU_49 (by omega) (by omega), jnU_50 (by omega) (by omega)]
    by_cases e : w = m + 1
    · rw [if_pos e, if_pos e]; omega
    · rw [if_neg e, if_neg e]
      by_cases e2 : w = m
      · rw [if_pos e2, if_pos e2]; omega
      · rw [if_neg e2, if_neg e2]; exact h11 w (by omega)
  · rw [f 119 _ (by omega) (by omega) (by omega), f 120 _ (by omega) (by omega) (by omega)]
    exact h12 k hk
  · rw [jnU_121 ha, jnU_122 hb, f 123 _ (by omega) (by omega) (by omega), f 123 _ (by omega) (by omega) (by omega)]
    by_cases e : k = j
    · rw [if_pos e, if_pos e, Int.toNat_natCast, Int.toNat_natCast, la, lb]; omega
    · rw [if_neg e, if_neg e]; exact h13 k (by omega)
  · rw [jn_eX h4 (by omega) (by omega) (by omega), jn_eO, jn_eJ h8 hj ha hb la lb, h14 x y]
    constructor
    · rintro ((q | q) | q)
      · exact Or.inl q
      · exact Or.inr (Or.inl q)
      · exact Or.inr (Or.inr q)
    · rintro (q | q | q)
      · exact Or.inl (Or.inl q)
      · exact Or.inl (Or.inr q)
      · exact Or.inr q
theorem jn_uM : uM (jnU S m j A B a b) = uM S ∧ vM (jnU S m j A B a b) = vM S := by
  refine ⟨funext fun k => ?_, funext fun k => ?_⟩
  · unfold uM; rw [jnU_gi _ _ (by omega) (by omega) (by omega)]
  · unfold vM; rw [jnU_gi _ _ (by omega) (by omega) (by omega)]
/-- the years that go together with a joint more -/
theorem jn_Ed (hj : j < 41) (ha : a < 200) (hb : b < 200) (la : gi S 123 a = A) (lb : gi S 123 b = B) (x y : Nat) : EdM (jnU S m j A B a b) o (j + 1) x y ↔ EdM S o j x y ∨ (x = A ∧ y = B) ∨ (x = B ∧ y = A) := by
  have e : ∀ i, jA (jnU S m j A B a b) i = (if i = j then A else jA S i) ∧ jB (jnU S m j A B a b) i = (if i = j then B else jB S i) := fun i => by
    unfold jA jB
    rw [jnU_121 ha, jnU_122 hb, jnU_gi 123 _ (by omega) (by omega) (by omega), jnU_gi 123 _ (by omega) (by omega) (by omega)]
    by_cases e : i = j
    · rw [if_pos e, if_pos e, if_pos e, if_pos e, Int.toNat_natCast, Int.toNat_natCast, la, lb, Int.toNat_natCast, Int.toNat_natCast]; exact ⟨rfl, rfl⟩
    · rw [if_neg e, if_neg e, if_neg e, if_neg e]; exact ⟨rfl, rfl⟩
  unfold EdM
  rw [jn_uM.1, jn_uM.2]
  constructor
  · rintro (q | ⟨k, k1, k2⟩)
    · exact Or.inl (Or.inl q)
    · rw [(e k).1, (e k).2] at k2
      by_cases z : k = j
      · rw [if_pos z, if_pos z] at k2; exact Or.inr (by omega)
      · rw [if_neg z, if_neg z] at k2; exact Or.inl (Or.inr ⟨k, by omega, k2⟩)
  · rintro ((q | ⟨k, k1, k2⟩) | q)
    · exact Or.inl q
    · refine Or.inr ⟨k, by omega, ?_⟩
      rw [(e k).1, (e k).2, if_neg (by omega), if_neg (by omega)]; exact k2
    · refine Or.inr ⟨j, by omega, ?_⟩
      rw [(e j).1, (e j).2, if_pos rfl, if_pos rfl]; omega
theorem jn_ac (H : DtH S n m o j) (hm : m + 2 ≤ 142) (hj : j < 41) (hA : A < n) (hB : B < n) (hac : ∀ u v, oN S o u v → ¬ TcN (rX S n m) v u) (hno : TcN (rX S n m) A B ↔ TcN (rX S n m) B A) : ∀ u v, oN (jnU S m j A B a b) o u v → ¬ TcN (rX (jnU S m j A B a b) n (m + 2)) v u := by
  obtain ⟨hE, hin⟩ := EdM_in H
  have h3 := H.2.2.1
  have aU : ∀ w, aX (jnU S m j A B a b) w = if w = m + 1 then B else if w = m then A else aX S w := fun w => by
    unfold aX
    rw [jnU_49 (by omega) (by omega)]
    by_cases e : w = m + 1
    · rw [if_pos e, if_pos e]; rfl
    · rw [if_neg e, if_neg e]
      by_cases e2 : w = m
      · rw [if_pos e2, if_pos e2]; rfl
      · rw [if_neg e2, if_neg e2]
  have bU : ∀ w, bX (jnU S m j A B a b) w = if w = m + 1 then A else if w = m then B else bX S w := fun w => by
    unfold bX
    rw [jnU_50 (by omega) (by omega)]
    by_cases e : w = m + 1
    · rw [if_pos e, if_pos e]; rfl
    · rw [if_neg e, if_neg e]
      by_cases e2 : w = m
      · rw [if_pos e2, if_pos e2]; rfl
      · rw [if_neg e2, if_neg e2]
  have refl : ∀ {x}, x < n → TcN (rX S n m) x x := fun h => TcN_of ⟨h, h, Or.inl rfl⟩
  have key : ∀ {x y}, TcN (rX (jnU S m j A B a b) n (m + 2)) x y → TcN (rX S n m) x y ∨ ((TcN (rX S n m) x A ∨ TcN (rX S n m) x B) ∧ (TcN (rX S n m) A y ∨ TcN (rX S n m) B y)) := by
    intro x y h
    refine TcN_min (T := fun x y => TcN (rX S n m) x y ∨ ((TcN (rX S n m) x A ∨ TcN (rX S n m) x B) ∧ (TcN (rX S n m) A y ∨ TcN (rX S n m) B y))) (fun x y q => ?_) (fun x y z q1 q2 => ?_) h
    · obtain ⟨q1, q2, q3⟩ := q
      rcases q3 with q3 | ⟨w, w1, w2, w3⟩
      · exact Or.inl (TcN_of ⟨q1, q2, Or.inl q3⟩)
      · rw [aU] at w2
        rw [bU] at w3
        by_cases e : w = m + 1
        · rw [if_pos e] at w2 w3
          rw [← w2, ← w3]
          exact Or.inr ⟨Or.inr (refl hB), Or.inl (refl hA)⟩
        · rw [if_neg e] at w2 w3
          by_cases e2 : w = m
          · rw [if_pos e2] at w2 w3
            rw [← w2, ← w3]
            exact Or.inr ⟨Or.inl (refl hA), Or.inr (refl hB)⟩
          · rw [if_neg e2] at w2 w3
            exact Or.inl (TcN_of ⟨q1, q2, Or.inr ⟨w, by omega, w2, w3⟩⟩)
    · rcases q1 with q1 | ⟨q1, q1'⟩ <;> rcases q2 with q2 | ⟨q2, q2'⟩
      · exact Or.inl (TcN_tr q1 q2)
      · exact Or.inr ⟨q2.imp (TcN_tr q1) (TcN_tr q1), q2'⟩
      · exact Or.inr ⟨q1, q1'.imp (fun z => TcN_tr z q2) fun z => TcN_tr z q2⟩
      · exact Or.inr ⟨q1, q2'⟩
  rintro u v ho h
  have ho' : oN S o u v := by
    obtain ⟨k, k1, k2, k3⟩ := ho
    rw [jn_uM.1] at k2
    rw [jn_uM.2] at k3
    exact ⟨k, k1, k2, k3⟩
  obtain ⟨k, k1, k2, k3⟩ := ho'
  have hed : EdM S o j u v := Or.inl ⟨k, k1, k2, k3⟩
  have huv : TcN (rX S n m) u v := TcN_of ⟨(hin _ _ hed).1, (hin _ _ hed).2, Or.inr ((hE _ _).mpr hed)⟩
  have hn := hac u v ⟨k, k1, k2, k3⟩
  rcases key h with q | ⟨q1 | q1, q2 | q2⟩
  · exact hn q
  · exact hn (TcN_tr q1 q2)
  · exact hn (TcN_tr q1 (TcN_tr (hno.mpr (TcN_tr q2 (TcN_tr huv q1))) q2))
  · exact hn (TcN_tr q1 (TcN_tr (hno.mp (TcN_tr q2 (TcN_tr huv q1))) q2))
  · exact hn (TcN_tr q1 q2)
end JNT
