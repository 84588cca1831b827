/-! ===== what is built lies apart ===== -/
set_option maxRecDepth 100000
/-- the heap, as far as P goes -/
def rst (P : Nat → Bool) (δ : Sg) : Sg := (δ.1, δ.2.1, δ.2.2.1, fun a => if P a = true then δ.2.2.2 a else (0, 0, fun _ => .null))
def Qo (lo : Nat) (own : List Nat) (a : Nat) : Bool := decide (lo ≤ a) && !own.contains a
def Ext0 (δ δ' : Sg) : Prop := δ.1 ≤ δ'.1 ∧ ∀ a, a < δ.1 → b_tg δ a ≠ 0 → δ'.2.2.2 a = δ.2.2.2 a
theorem Qo_iff {lo : Nat} {own : List Nat} {a : Nat} : Qo lo own a = true ↔ lo ≤ a ∧ a ∉ own := by
  unfold Qo
  rw [Bool.and_eq_true, decide_eq_true_iff, Bool.not_eq_true', ← Bool.not_eq_true, List.contains_iff_mem]
theorem rst_tg {P : Nat → Bool} {δ : Sg} {a : Nat} (h : b_tg (rst P δ) a ≠ 0) : P a = true ∧ (rst P δ).2.2.2 a = δ.2.2.2 a := by
  unfold b_tg rst at h
  dsimp only at h
  by_cases q : P a = true
  · exact ⟨q, if_pos q⟩
  · rw [if_neg q] at h; exact absurd rfl h
theorem rst_go {lo lo' : Nat} {own own' : List Nat} {δ δ' : Sg} (h1 : δ.1 ≤ δ'.1) (h2 : ∀ a, lo ≤ a → a < δ.1 → a ∉ own → δ'.2.2.2 a = δ.2.2.2 a ∧ lo' ≤ a ∧ a ∉ own') : Ext0 (rst (Qo lo own) δ) (rst (Qo lo' own') δ') := by
  refine ⟨h1, fun a h3 h4 => ?_⟩
  obtain ⟨h5, h6⟩ := rst_tg h4
  obtain ⟨h7, h8⟩ := Qo_iff.mp h5
  obtain ⟨h9, h10, h11⟩ := h2 a h7 h3 h8
  rw [h6, ← h9]
  exact if_pos (Qo_iff.mpr ⟨h10, h11⟩)
theorem rst_full {P : Nat → Bool} {δ δ' : Sg} (h1 : δ.1 ≤ δ'.1) (h2 : ∀ a, P a = true → a < δ.1 → δ'.2.2.2 a = δ.2.2.2 a) : Ext0 (rst P δ) δ' := by
  refine ⟨h1, fun a h3 h4 => ?_⟩
  obtain ⟨h5, h6⟩ := rst_tg h4
  rw [h6]; exact h2 a h5 h3
theorem ext0_tg {δ δ' : Sg} (h : Ext0 δ δ') {a : Nat} (_ : 156 ≤ a) (h2 : a < δ.1) (h3 : b_tg δ a ≠ 0) : b_tg δ' a = b_tg δ a ∧ b_ln δ' a = b_ln δ a ∧ (∀ k, b_vl δ' a k = b_vl δ a k) ∧ (∀ k, b_ia δ' a k = b_ia δ a k) := by
  have e := h.2 a h2 h3
  refine ⟨?_, ?_, fun k => ?_, fun k => ?_⟩ <;> simp only [b_tg, b_ln, b_ia, b_vl, e]
theorem LR_ext0 {δ δ' : Sg} (h : Ext0 δ δ') {a : Nat} {xs : List Nat} (q : LR δ a xs) : LR δ' a xs := by
  obtain ⟨h1, h2, h3, h4, e, h5, h6, h7, h8, h9, h10, h11⟩ := q
  obtain ⟨t1, t2, t3, t4⟩ := ext0_tg h h1 h2 (by omega)
  obtain ⟨u1, u2, u3, u4⟩ := ext0_tg h h6 h7 (by omega)
  exact ⟨h1, Nat.lt_of_lt_of_le h2 h.1, t1.trans h3, (t4 2).trans h4, e, (t3 1).trans h5, h6, Nat.lt_of_lt_of_le h7 h.1, u1.trans h8, by rw [u2]; exact h9, by rw [u2]; exact h10, fun i x hx => (u3 i).trans (h11 i x hx)⟩
theorem SR_ext0 {δ δ' : Sg} (h : Ext0 δ δ') : ∀ {n a : Nat} {f : (Nat → Int) → Int}, SR δ n a f → SR δ' n a f
  | 0, _, _, q => q.elim
  | n + 1, a, f, q => by
    obtain ⟨h1, h2, q⟩ := q
    refine ⟨h1, Nat.lt_of_lt_of_le h2 h.1, ?_⟩
    rcases q with ⟨q1, q2⟩ | ⟨q1, q2, q3⟩ | ⟨q1, p, s, x, xs, ys, g, gs, r1, r2, r3, r4, r5, r6, r7, r8, r9, r10⟩
    · obtain ⟨t1, t2, t3, t4⟩ := ext0_tg h h1 h2 (by omega)
      exact Or.inl ⟨t1.trans q1, fun o => by rw [t4]; exact q2 o⟩
    · obtain ⟨t1, t2, t3, t4⟩ := ext0_tg h h1 h2 (by omega)
      exact Or.inr (Or.inl ⟨t1.trans q1, by rw [t4]; exact q2, fun o => by rw [t4]; exact q3 o⟩)
    · obtain ⟨t1, t2, t3, t4⟩ := ext0_tg h h1 h2 (by omega)
      exact Or.inr (Or.inr ⟨t1.trans q1, p, s, x, xs, ys, g, gs, (t3 0).trans r1, (t3 1).trans r2, LR_ext0 h r3, LR_ext0 h r4, r5, r6, r7, SR_ext0 h r8, fun i x g e1 e2 => SR_ext0 h (r9 i x g e1 e2), r10⟩)
theorem CR_ext0 {δ δ' : Sg} (h : Ext0 δ δ') : ∀ {n a : Nat} {f : (Nat → Int) → Bool}, CRp δ n a f → CRp δ' n a f
  | 0, _, _, q => q.elim
  | n + 1, a, f, q => by
    obtain ⟨h1, h2, q⟩ := q
    refine ⟨h1, Nat.lt_of_lt_of_le h2 h.1, ?_⟩
    rcases q with ⟨q1, x, y, g, g2, r1, r2, r3, r4, r5⟩ | ⟨q1, p, xs, gs, r1, r2, r3, r4, r5, r6, r7⟩
    · obtain ⟨t1, t2, t3, t4⟩ := ext0_tg h h1 h2 (by omega)
      exact Or.inl ⟨t1.trans q1, x, y, g, g2, (t3 0).trans r1, (t3 1).trans r2, SR_ext0 h r3, SR_ext0 h r4, fun o => by rw [t4]; exact r5 o⟩
    · obtain ⟨t1, t2, t3, t4⟩ := ext0_tg h h1 h2 (by omega)
      exact Or.inr ⟨by rw [t1]; exact q1, p, xs, gs, (t3 0).trans r1, LR_ext0 h r2, r3, fun i x g e1 e2 => CR_ext0 h (r4 i x g e1 e2), by rw [t1]; exact r5, by rw [t1]; exact r6, by rw [t1]; exact r7⟩
theorem GR_ext0 {δ δ' : Sg} (h : Ext0 δ δ') {a : Nat} {g : KGo} (q : GR δ a g) : GR δ' a g := by
  obtain ⟨h1, h2, h3, h4, h5, h6⟩ := q
  obtain ⟨t1, t2, t3, t4⟩ := ext0_tg h h1 h2 (by omega)
  exact ⟨h1, Nat.lt_of_lt_of_le h2 h.1, t1.trans h3, (t4 0).trans h4, (t4 1).trans h5, (t4 2).trans h6⟩
theorem StR_ext0 {δ δ' : Sg} (h : Ext0 δ δ') {n a : Nat} {s : KStp} (q : StR δ n a s) : StR δ' n a s := by
  obtain ⟨h1, h2, h3, h4, w, p, r, h5, h6, h7, h8, h9, h10⟩ := q
  obtain ⟨t1, t2, t3, t4⟩ := ext0_tg h h1 h2 (by omega)
  exact ⟨h1, Nat.lt_of_lt_of_le h2 h.1, t1.trans h3, (t4 0).trans h4, w, p, r, (t3 1).trans h5, (t3 2).trans h6, (t3 3).trans h7, CR_ext0 h h8, GR_ext0 h h9, GR_ext0 h h10⟩
theorem KR_ext0 {δ δ' : Sg} (h : Ext0 δ δ') {a : Nat} {K : List KStp} (q : KR δ a K) : KR δ' a K := by
  obtain ⟨h1, h2, h3, l, xs, h4, h5, h6, h7⟩ := q
  obtain ⟨t1, t2, t3, t4⟩ := ext0_tg h h1 h2 (by omega)
  exact ⟨h1, Nat.lt_of_lt_of_le h2 h.1, t1.trans h3, l, xs, (t3 0).trans h4, LR_ext0 h h5, h6, fun i x s e1 e2 => StR_ext0 h (h7 i x s e1 e2)⟩
