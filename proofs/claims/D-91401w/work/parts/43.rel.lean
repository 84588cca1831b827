/-! ===== what joins the component and the model: the relation, by groups ===== -/
set_option maxRecDepth 100000
/-- the heap grows; what is no row of numbers stays -/
def Ext (δ δ' : Sg) : Prop := δ.1 ≤ δ'.1 ∧ ∀ a, 156 ≤ a → a < δ.1 → (b_tg δ a < 100 ∨ b_tg δ a = 112) → δ'.2.2.2 a = δ.2.2.2 a
theorem Ext_refl {δ : Sg} : Ext δ δ := ⟨Nat.le_refl _, fun _ _ _ _ => rfl⟩
theorem Ext_trans {δ δ' δ'' : Sg} (h : Ext δ δ') (h2 : Ext δ' δ'') : Ext δ δ'' := by
  refine ⟨Nat.le_trans h.1 h2.1, fun a h1 h3 h4 => ?_⟩
  have e := h.2 a h1 h3 h4
  rw [← e]
  refine h2.2 a h1 (Nat.lt_of_lt_of_le h3 h.1) ?_
  unfold b_tg at *
  rw [e]; exact h4
theorem Ext_nw {δ : Sg} {t n : Nat} {f : Nat → Value} : Ext δ (b_nw δ t n f) := by
  refine ⟨Nat.le_succ _, fun a _ h _ => ?_⟩
  unfold b_nw
  exact if_neg (by omega)
theorem Ext_bump {δ : Sg} {m n : Nat} : Ext δ (b_bump δ m n) := ⟨Nat.le_refl _, fun _ _ _ _ => rfl⟩
theorem Ext_pt {δ : Sg} {a k : Nat} {v : Value} (h : 100 ≤ b_tg δ a ∧ b_tg δ a ≠ 112) : Ext δ (b_pt δ a k v) := by
  refine ⟨Nat.le_refl _, fun b _ _ h2 => ?_⟩
  unfold b_pt
  exact if_neg (by rintro rfl; omega)
def LR (δ : Sg) (a : Nat) (xs : List Nat) : Prop := 156 ≤ a ∧ a < δ.1 ∧ b_tg δ a = 19 ∧ b_ia δ a 2 = xs.length ∧ ∃ e : Nat, b_vl δ a 1 = .ref e ∧ 156 ≤ e ∧ e < δ.1 ∧ b_tg δ e = 112 ∧ xs.length ≤ b_ln δ e ∧ b_ln δ e ≤ 1000 ∧ ∀ i x, xs[i]? = some x → b_vl δ e i = .ref x
/-- what a sign's box does: 2 is '*', 3 is '+', 4 is '-' -/
def sgF (y : Nat) (v w : Int) : Int := if y = 3 then w32 (v + w) else if y = 4 then w32 (v - w) else w32 (v * w)
def chV (o : Nat → Int) : List Nat → List ((Nat → Int) → Int) → Int → Int
  | y :: ys, g :: gs, v => chV o ys gs (sgF y v (g o))
  | _, _, v => v
def SR (δ : Sg) : Nat → Nat → ((Nat → Int) → Int) → Prop
  | 0, _, _ => False
  | n + 1, a, f => 156 ≤ a ∧ a < δ.1 ∧ ((b_tg δ a = 15 ∧ ∀ o, f o = b_ia δ a 0) ∨ (b_tg δ a = 14 ∧ (0 ≤ b_ia δ a 0 ∧ b_ia δ a 0 ≤ 9) ∧ ∀ o, f o = o (b_ia δ a 0).toNat) ∨
    (b_tg δ a = 13 ∧ ∃ (p s x : Nat) (xs ys : List Nat) (g : (Nat → Int) → Int) (gs : List ((Nat → Int) → Int)), b_vl δ a 0 = .ref p ∧ b_vl δ a 1 = .ref s ∧ LR δ p (x :: xs) ∧ LR δ s ys ∧ xs.length = ys.length ∧ gs.length = ys.length ∧ (∀ y ∈ ys, y = 2 ∨ y = 3 ∨ y = 4) ∧
      SR δ n x g ∧ (∀ (i x : Nat) (g : (Nat → Int) → Int), xs[i]? = some x → gs[i]? = some g → SR δ n x g) ∧ ∀ o, f o = chV o ys gs (g o)))
def cmpF (s v w : Int) : Bool := if s = 60 then decide (v < w) else if s = 62 then decide (w < v) else decide (v = w)
def CRp (δ : Sg) : Nat → Nat → ((Nat → Int) → Bool) → Prop
  | 0, _, _ => False
  | n + 1, a, f => 156 ≤ a ∧ a < δ.1 ∧ ((b_tg δ a = 16 ∧ ∃ (x y : Nat) (g h : (Nat → Int) → Int), b_vl δ a 0 = .ref x ∧ b_vl δ a 1 = .ref y ∧ SR δ n x g ∧ SR δ n y h ∧ ∀ o, f o = cmpF (b_ia δ a 2) (g o) (h o)) ∨
    ((b_tg δ a = 10 ∨ b_tg δ a = 11 ∨ b_tg δ a = 12) ∧ ∃ (p : Nat) (xs : List Nat) (gs : List ((Nat → Int) → Bool)), b_vl δ a 0 = .ref p ∧ LR δ p xs ∧ gs.length = xs.length ∧
      (∀ (i x : Nat) (g : (Nat → Int) → Bool), xs[i]? = some x → gs[i]? = some g → CRp δ n x g) ∧
      (b_tg δ a = 10 → ∀ o, f o = gs.all fun g => g o) ∧ (b_tg δ a = 11 → ∀ o, f o = gs.any fun g => g o) ∧ (b_tg δ a = 12 → ∀ o, f o = !(gs.all fun g => g o))))
/-- a step: its number, its condition, where it goes if so and if not (step, name, place) -/
abbrev KGo : Type := Int × Int × Int
abbrev KStp : Type := Int × ((Nat → Int) → Bool) × KGo × KGo
def GR (δ : Sg) (a : Nat) (g : KGo) : Prop := 156 ≤ a ∧ a < δ.1 ∧ b_tg δ a = 17 ∧ b_ia δ a 0 = g.1 ∧ b_ia δ a 1 = g.2.1 ∧ b_ia δ a 2 = g.2.2
def StR (δ : Sg) (n a : Nat) (s : KStp) : Prop := 156 ≤ a ∧ a < δ.1 ∧ b_tg δ a = 9 ∧ b_ia δ a 0 = s.1 ∧ ∃ w p q : Nat, b_vl δ a 1 = .ref w ∧ b_vl δ a 2 = .ref p ∧ b_vl δ a 3 = .ref q ∧ CRp δ n w s.2.1 ∧ GR δ p s.2.2.1 ∧ GR δ q s.2.2.2
def KR (δ : Sg) (a : Nat) (K : List KStp) : Prop := 156 ≤ a ∧ a < δ.1 ∧ b_tg δ a = 8 ∧ ∃ (l : Nat) (xs : List Nat), b_vl δ a 0 = .ref l ∧ LR δ l xs ∧ xs.length = K.length ∧ ∀ (i x : Nat) (s : KStp), xs[i]? = some x → K[i]? = some s → StR δ 40 x s
theorem ext_tg {δ δ' : Sg} (h : Ext δ δ') {a : Nat} (h1 : 156 ≤ a) (h2 : a < δ.1) (h3 : b_tg δ a < 100 ∨ b_tg δ a = 112) : b_tg δ' a = b_tg δ a ∧ b_ln δ' a = b_ln δ a ∧ (∀ k, b_vl δ' a k = b_vl δ a k) ∧ (∀ k, b_ia δ' a k = b_ia δ a k) := by
  have e := h.2 a h1 h2 h3
  refine ⟨?_, ?_, fun k => ?_, fun k => ?_⟩ <;> simp only [b_tg, b_ln, b_ia, b_vl, e]
theorem LR_ext {δ δ' : Sg} (h : Ext δ δ') {a : Nat} {xs : List Nat} (q : LR δ a xs) : LR δ' a xs := by
  obtain ⟨h1, h2, h3, h4, e, h5, h6, h7, h8, h9, h10, h11⟩ := q
  obtain ⟨t1, t2, t3, t4⟩ := ext_tg h h1 h2 (by omega)
  obtain ⟨u1, u2, u3, u4⟩ := ext_tg h h6 h7 (by omega)
  exact ⟨h1, Nat.lt_of_lt_of_le h2 h.1, t1.trans h3, (t4 2).trans h4, e, (t3 1).trans h5, h6, Nat.lt_of_lt_of_le h7 h.1, u1.trans h8, by rw [u2]; exact h9, by rw [u2]; exact h10, fun i x hx => (u3 i).trans (h11 i x hx)⟩
theorem SR_ext {δ δ' : Sg} (h : Ext δ δ') : ∀ {n a : Nat} {f : (Nat → Int) → Int}, SR δ n a f → SR δ' n a f
  | 0, _, _, q => q.elim
  | n + 1, a, f, q => by
    obtain ⟨h1, h2, q⟩ := q
    refine ⟨h1, Nat.lt_of_lt_of_le h2 h.1, ?_⟩
    rcases q with ⟨q1, q2⟩ | ⟨q1, q2, q3⟩ | ⟨q1, p, s, x, xs, ys, g, gs, r1, r2, r3, r4, r5, r6, r7, r8, r9, r10⟩
    · obtain ⟨t1, t2, t3, t4⟩ := ext_tg h h1 h2 (by omega)
      exact Or.inl ⟨t1.trans q1, fun o => by rw [t4]; exact q2 o⟩
    · obtain ⟨t1, t2, t3, t4⟩ := ext_tg h h1 h2 (by omega)
      exact Or.inr (Or.inl ⟨t1.trans q1, by rw [t4]; exact q2, fun o => by rw [t4]; exact q3 o⟩)
    · obtain ⟨t1, t2, t3, t4⟩ := ext_tg h h1 h2 (by omega)
      exact Or.inr (Or.inr ⟨t1.trans q1, p, s, x, xs, ys, g, gs, (t3 0).trans r1, (t3 1).trans r2, LR_ext h r3, LR_ext h r4, r5, r6, r7, SR_ext h r8, fun i x g e1 e2 => SR_ext h (r9 i x g e1 e2), r10⟩)
theorem CR_ext {δ δ' : Sg} (h : Ext δ δ') : ∀ {n a : Nat} {f : (Nat → Int) → Bool}, CRp δ n a f → CRp δ' n a f
  | 0, _, _, q => q.elim
  | n + 1, a, f, q => by
    obtain ⟨h1, h2, q⟩ := q
    refine ⟨h1, Nat.lt_of_lt_of_le h2 h.1, ?_⟩
    rcases q with ⟨q1, x, y, g, g2, r1, r2, r3, r4, r5⟩ | ⟨q1, p, xs, gs, r1, r2, r3, r4, r5, r6, r7⟩
    · obtain ⟨t1, t2, t3, t4⟩ := ext_tg h h1 h2 (by omega)
      exact Or.inl ⟨t1.trans q1, x, y, g, g2, (t3 0).trans r1, (t3 1).trans r2, SR_ext h r3, SR_ext h r4, fun o => by rw [t4]; exact r5 o⟩
    · obtain ⟨t1, t2, t3, t4⟩ := ext_tg h h1 h2 (by omega)
      exact Or.inr ⟨by rw [t1]; exact q1, p, xs, gs, (t3 0).trans r1, LR_ext h r2, r3, fun i x g e1 e2 => CR_ext h (r4 i x g e1 e2), by rw [t1]; exact r5, by rw [t1]; exact r6, by rw [t1]; exact r7⟩
theorem GR_ext {δ δ' : Sg} (h : Ext δ δ') {a : Nat} {g : KGo} (q : GR δ a g) : GR δ' a g := by
  obtain ⟨h1, h2, h3, h4, h5, h6⟩ := q
  obtain ⟨t1, t2, t3, t4⟩ := ext_tg h h1 h2 (by omega)
  exact ⟨h1, Nat.lt_of_lt_of_le h2 h.1, t1.trans h3, (t4 0).trans h4, (t4 1).trans h5, (t4 2).trans h6⟩
theorem StR_ext {δ δ' : Sg} (h : Ext δ δ') {n a : Nat} {s : KStp} (q : StR δ n a s) : StR δ' n a s := by
  obtain ⟨h1, h2, h3, h4, w, p, r, h5, h6, h7, h8, h9, h10⟩ := q
  obtain ⟨t1, t2, t3, t4⟩ := ext_tg h h1 h2 (by omega)
  exact ⟨h1, Nat.lt_of_lt_of_le h2 h.1, t1.trans h3, (t4 0).trans h4, w, p, r, (t3 1).trans h5, (t3 2).trans h6, (t3 3).trans h7, CR_ext h h8, GR_ext h h9, GR_ext h h10⟩
theorem KR_ext {δ δ' : Sg} (h : Ext δ δ') {a : Nat} {K : List KStp} (q : KR δ a K) : KR δ' a K := by
  obtain ⟨h1, h2, h3, l, xs, h4, h5, h6, h7⟩ := q
  obtain ⟨t1, t2, t3, t4⟩ := ext_tg h h1 h2 (by omega)
  exact ⟨h1, Nat.lt_of_lt_of_le h2 h.1, t1.trans h3, l, xs, (t3 0).trans h4, LR_ext h h5, h6, fun i x s e1 e2 => StR_ext h (h7 i x s e1 e2)⟩
