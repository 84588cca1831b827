/-! ===== the model's years ===== -/
set_option maxRecDepth 100000
def sumN (h : Nat → Nat) : Nat → Nat
  | 0 => 0
  | n + 1 => sumN h n + h n
theorem sumN_le {h h' : Nat → Nat} {n : Nat} (q : ∀ l, l < n → h l ≤ h' l) : sumN h n ≤ sumN h' n := by
  induction n with
  | zero => exact Nat.le_refl _
  | succ n ih =>
    have := ih fun l hl => q l (by omega)
    have := q n (by omega)
    show sumN h n + h n ≤ sumN h' n + h' n
    omega
theorem sumN_lt {h h' : Nat → Nat} {n : Nat} (q : ∀ l, l < n → h l ≤ h' l) {x : Nat} (hx : x < n) (hs : h x < h' x) : sumN h n < sumN h' n := by
  induction n with
  | zero => omega
  | succ n ih =>
    show sumN h n + h n < sumN h' n + h' n
    by_cases e : x = n
    · subst e
      have := sumN_le (n := x) fun l hl => q l (by omega)
      omega
    · have := ih (fun l hl => q l (by omega)) (by omega)
      have := q n (by omega)
      omega
def muD (n : Nat) (x : Mm) : Nat := sumN (fun l => (2000 - gi x 137 l).toNat + (gi x 138 l).toNat) n
def sDm (a k : Nat) : Bool := decide (a = 137) || decide (a = 138)
/-- what holds of the bounds while they are told -/
def dJ (S : Mm) (n : Nat) (Ed : Nat → Nat → Prop) (x : Mm) : Prop := agr sDm S x ∧ (∀ l, l < n → gi S 117 l ≤ gi x 137 l ∧ gi x 138 l ≤ gi S 118 l) ∧ (∀ l, l < n → (0 ≤ gi x 137 l ∧ gi x 137 l ≤ 2000) ∧ 0 ≤ gi x 138 l ∧ gi x 138 l ≤ 2000) ∧
  (∀ y : Nat → Int, (∀ l, l < n → gi S 117 l ≤ y l) → (∀ a b, Ed a b → y b ≤ y a) → ∀ l, l < n → gi x 137 l ≤ y l) ∧ ∀ y : Nat → Int, (∀ l, l < n → y l ≤ gi S 118 l) → (∀ a b, Ed a b → y b ≤ y a) → ∀ l, l < n → y l ≤ gi x 138 l
def bnd (x : Mm) (a b : Nat) : Mm := up (up x 137 a (vI (max (gi x 137 a) (gi x 137 b)))) 138 b (vI (min (gi x 138 b) (gi x 138 a)))
def chg (x : Mm) (a b : Nat) : Prop := gi x 137 a < gi x 137 b ∨ gi x 138 a < gi x 138 b
theorem bnd_e {x : Mm} {a b l : Nat} : gi (bnd x a b) 137 l = if l = a then max (gi x 137 a) (gi x 137 b) else gi x 137 l := by
  have r1 := @gi_lo x 137 a
  have r2 := @gi_hi x 137 a
  have r3 := @gi_lo x 137 b
  have r4 := @gi_hi x 137 b
  unfold bnd
  simp (disch := first | omega | fail) only [w32_gi, gi_up, gl_up, gi_fill, gl_fill, up_at, fill_at, vi_vI, vlg_vL, w32_id, w64_id, w32_gi, w32_w32, w64_gl, w64_w32, Nat.reduceEqDiff, and_true, true_and, and_false, false_and, and_self, eq_self, ↓reduceIte]
theorem bnd_l {x : Mm} {a b l : Nat} : gi (bnd x a b) 138 l = if l = b then min (gi x 138 b) (gi x 138 a) else gi x 138 l := by
  have r1 := @gi_lo x 138 a
  have r2 := @gi_hi x 138 a
  have r3 := @gi_lo x 138 b
  have r4 := @gi_hi x 138 b
  unfold bnd
  simp (disch := first | omega | fail) only [w32_gi, gi_up, gl_up, gi_fill, gl_fill, up_at, fill_at, vi_vI, vlg_vL, w32_id, w64_id, w32_gi, w32_w32, w64_gl, w64_w32, Nat.reduceEqDiff, and_true, true_and, and_false, false_and, and_self, eq_self, ↓reduceIte]
theorem dJ_bnd {S : Mm} {n : Nat} {Ed : Nat → Nat → Prop} {x : Mm} {a b : Nat} (h : dJ S n Ed x) (ha : a < n) (hb : b < n) (hE : Ed a b) : dJ S n Ed (bnd x a b) ∧ (chg x a b → muD n (bnd x a b) < muD n x) ∧ (¬ chg x a b → ∀ l, gi (bnd x a b) 137 l = gi x 137 l ∧ gi (bnd x a b) 138 l = gi x 138 l) := by
  obtain ⟨h1, h2, h3, h4, h5⟩ := h
  have a1 := h3 a ha
  have b1 := h3 b hb
  refine ⟨⟨agr_up (agr_up h1 rfl) rfl, fun l hl => ?_, fun l hl => ?_, fun y y1 y2 l hl => ?_, fun y y1 y2 l hl => ?_⟩, fun hc => ?_, fun hc l => ?_⟩
  · have := h2 l hl
    rw [bnd_e, bnd_l]
    constructor
    · split
      · rename_i e; subst e; omega
      · omega
    · split
      · rename_i e; subst e; omega
      · omega
  · have := h3 l hl
    rw [bnd_e, bnd_l]
    constructor
    · split <;> omega
    · split <;> omega
  · have q1 := h4 y y1 y2 l hl
    rw [bnd_e]
    split
    · rename_i e
      subst e
      have q2 := h4 y y1 y2 b hb
      have q3 := y2 l b hE
      omega
    · exact q1
  · have q1 := h5 y y1 y2 l hl
    rw [bnd_l]
    split
    · rename_i e
      subst e
      have q2 := h5 y y1 y2 a ha
      have q3 := y2 a l hE
      omega
    · exact q1
  · unfold muD
    have hle : ∀ l, l < n → (2000 - gi (bnd x a b) 137 l).toNat + (gi (bnd x a b) 138 l).toNat ≤ (2000 - gi x 137 l).toNat + (gi x 138 l).toNat := by
      intro l hl
      rw [bnd_e, bnd_l]
      have e1 : (2000 - (if l = a then max (gi x 137 a) (gi x 137 b) else gi x 137 l)).toNat ≤ (2000 - gi x 137 l).toNat := by
        split
        · rename_i e; subst e; omega
        · exact Nat.le_refl _
      have e2 : (if l = b then min (gi x 138 b) (gi x 138 a) else gi x 138 l).toNat ≤ (gi x 138 l).toNat := by
        split
        · rename_i e; subst e; omega
        · exact Nat.le_refl _
      omega
    rcases hc with hc | hc
    · refine sumN_lt hle ha ?_
      rw [bnd_e, bnd_l, if_pos rfl]
      have e2 : (if a = b then min (gi x 138 b) (gi x 138 a) else gi x 138 a).toNat ≤ (gi x 138 a).toNat := by
        split
        · rename_i e; subst e; omega
        · exact Nat.le_refl _
      omega
    · refine sumN_lt hle hb ?_
      rw [bnd_e, bnd_l, if_pos rfl]
      have e2 : (2000 - (if b = a then max (gi x 137 a) (gi x 137 b) else gi x 137 b)).toNat ≤ (2000 - gi x 137 b).toNat := by
        split
        · rename_i e; subst e; omega
        · exact Nat.le_refl _
      omega
  · unfold chg at hc
    rw [bnd_e, bnd_l]
    constructor
    · split
      · rename_i e; subst e; omega
      · rfl
    · split
      · rename_i e; subst e; omega
      · rfl
/-- within a round: what began at x0 has changed, or all that was gone over holds -/
def dI (S : Mm) (n : Nat) (Ed : Nat → Nat → Prop) (x0 : Mm) (Dn : Nat → Nat → Prop) (x : Mm) (more : Int) : Prop := dJ S n Ed x ∧ ((more = 1 ∧ muD n x < muD n x0) ∨ (more = 0 ∧ (∀ l, gi x 137 l = gi x0 137 l ∧ gi x 138 l = gi x0 138 l) ∧ ∀ a b, Dn a b → gi x0 137 b ≤ gi x0 137 a ∧ gi x0 138 b ≤ gi x0 138 a))
theorem muD_cong {n : Nat} {x y : Mm} (h : ∀ l, gi x 137 l = gi y 137 l ∧ gi x 138 l = gi y 138 l) : muD n x = muD n y := by
  unfold muD
  rw [show (fun l => (2000 - gi x 137 l).toNat + (gi x 138 l).toNat) = fun l => (2000 - gi y 137 l).toNat + (gi y 138 l).toNat from funext fun l => by rw [(h l).1, (h l).2]]
theorem dI_step {S : Mm} {n : Nat} {Ed : Nat → Nat → Prop} {x0 : Mm} {Dn Dn' : Nat → Nat → Prop} {x : Mm} {more : Int} {a b : Nat} (h : dI S n Ed x0 Dn x more) (ha : a < n) (hb : b < n) (hE : Ed a b) (hD : ∀ p q, Dn' p q → Dn p q ∨ (p = a ∧ q = b)) : (chg x a b → dI S n Ed x0 Dn' (bnd x a b) 1) ∧ (¬ chg x a b → dI S n Ed x0 Dn' (bnd x a b) more) ∧ (more = 0 ∨ more = 1) := by
  obtain ⟨h1, h2⟩ := h
  obtain ⟨k1, k2, k3⟩ := dJ_bnd h1 ha hb hE
  refine ⟨fun hc => ⟨k1, Or.inl ⟨rfl, ?_⟩⟩, fun hc => ⟨k1, ?_⟩, ?_⟩
  · have := k2 hc
    rcases h2 with ⟨_, h2⟩ | ⟨_, h2, _⟩
    · omega
    · rw [muD_cong h2] at this; exact this
  · have k3' := k3 hc
    rcases h2 with ⟨h2, h3⟩ | ⟨h2, h3, h4⟩
    · exact Or.inl ⟨h2, by rw [muD_cong k3']; exact h3⟩
    · refine Or.inr ⟨h2, fun l => ⟨(k3' l).1.trans (h3 l).1, (k3' l).2.trans (h3 l).2⟩, fun p q hpq => ?_⟩
      rcases hD p q hpq with e | ⟨rfl, rfl⟩
      · exact h4 p q e
      · unfold chg at hc
        rw [(h3 p).1, (h3 q).1, (h3 p).2, (h3 q).2] at hc
        omega
  · rcases h2 with ⟨h2, _⟩ | ⟨h2, _⟩
    · exact Or.inr h2
    · exact Or.inl h2
