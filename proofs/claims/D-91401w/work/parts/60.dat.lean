/-! ===== years of layers: the least bounds that go together, in so many rounds as there are layers ===== -/
set_option maxRecDepth 100000
def isMin (n : Nat) (c : Nat → Int) (Ed : Nat → Nat → Prop) (e : Nat → Int) : Prop := (∀ l, l < n → c l ≤ e l) ∧ (∀ a b, Ed a b → e b ≤ e a) ∧ ∀ e' : Nat → Int, (∀ l, l < n → c l ≤ e' l) → (∀ a b, Ed a b → e' b ≤ e' a) → ∀ l, l < n → e l ≤ e' l
theorem int_min {P : Int → Prop} {b : Int} (hb : ∀ x, P x → b ≤ x) (h : ∃ x, P x) : ∃ x, P x ∧ ∀ y, P y → x ≤ y := by
  obtain ⟨x0, h0⟩ := h
  have key : ∀ n : Nat, ∀ x, P x → (x - b).toNat ≤ n → ∃ x, P x ∧ ∀ y, P y → x ≤ y := by
    intro n
    induction n with
    | zero =>
      intro x hx hn
      exact ⟨x, hx, fun y hy => by have := hb y hy; have := hb x hx; omega⟩
    | succ n ih =>
      intro x hx hn
      by_cases q : ∃ y, P y ∧ y < x
      · obtain ⟨y, hy, hyx⟩ := q
        have := hb y hy
        exact ih y hy (by omega)
      · exact ⟨x, hx, fun y hy => Int.not_lt.mp fun z => q ⟨y, hy, z⟩⟩
  exact key _ x0 h0 (Nat.le_refl _)
theorem exMin {n : Nat} {c : Nat → Int} {Ed : Nat → Nat → Prop} {M : Int} (hM : ∀ l, l < n → c l ≤ M) (hE : ∀ a b, Ed a b → a < n ∧ b < n) : ∃ e, isMin n c Ed e := by
  have h : ∀ l, ∃ x, (∃ e : Nat → Int, (∀ l, l < n → c l ≤ e l) ∧ (∀ a b, Ed a b → e b ≤ e a) ∧ (l < n → e l = x)) ∧ ∀ y, (∃ e : Nat → Int, (∀ l, l < n → c l ≤ e l) ∧ (∀ a b, Ed a b → e b ≤ e a) ∧ (l < n → e l = y)) → l < n → x ≤ y := by
    intro l
    by_cases hl : l < n
    · obtain ⟨x, h1, h2⟩ := int_min (P := fun x => ∃ e : Nat → Int, (∀ l, l < n → c l ≤ e l) ∧ (∀ a b, Ed a b → e b ≤ e a) ∧ (l < n → e l = x)) (b := c l) (fun x ⟨e, h1, _, h3⟩ => by have := h1 l hl; have := h3 hl; omega) ⟨M, fun _ => M, hM, fun _ _ _ => Int.le_refl _, fun _ => rfl⟩
      exact ⟨x, h1, fun y hy _ => h2 y hy⟩
    · exact ⟨M, ⟨fun _ => M, hM, fun _ _ _ => Int.le_refl _, fun _ => rfl⟩, fun y _ q => absurd q hl⟩
  refine ⟨fun l => Classical.choose (h l), fun l hl => ?_, fun a b hab => ?_, fun e' h1 h2 l hl => ?_⟩
  · obtain ⟨⟨e, q1, q2, q3⟩, _⟩ := Classical.choose_spec (h l)
    exact Int.le_trans (q1 l hl) (Int.le_of_eq (q3 hl))
  · obtain ⟨ha, hb⟩ := hE a b hab
    obtain ⟨⟨e, q1, q2, q3⟩, _⟩ := Classical.choose_spec (h a)
    have q4 := (Classical.choose_spec (h b)).2 (e b) ⟨e, q1, q2, fun _ => rfl⟩ hb
    have q5 := q2 a b hab
    have q6 := q3 ha
    exact Int.le_trans q4 (Int.le_trans q5 (Int.le_of_eq q6))
  · exact (Classical.choose_spec (h l)).2 (e' l) ⟨e', h1, h2, fun _ => rfl⟩ hl
theorem isMin_uniq {n : Nat} {c : Nat → Int} {Ed : Nat → Nat → Prop} {e e' : Nat → Int} (h : isMin n c Ed e) (h1 : ∀ l, l < n → c l ≤ e' l) (h2 : ∀ a b, Ed a b → e' b ≤ e' a) (h3 : ∀ l, l < n → e' l ≤ e l) : ∀ l, l < n → e' l = e l := fun l hl => by
  have := h.2.2 e' h1 h2 l hl
  have := h3 l hl
  omega
def relx (A B : Nat → Nat) (w : Nat) (f : Nat → Int) : Nat → Int := fun l => if l = A w then max (f (A w)) (f (B w)) else f l
def psx (A B : Nat → Nat) (m : Nat) (f : Nat → Int) : Nat → Int := it (relx A B) m f
theorem relx_ge {A B : Nat → Nat} {w : Nat} {f : Nat → Int} (l : Nat) : f l ≤ relx A B w f l := by
  unfold relx; split
  · rename_i h; rw [h]; exact Int.le_max_left _ _
  · exact Int.le_refl _
theorem itx_ge {A B : Nat → Nat} {f : Nat → Int} (l : Nat) : ∀ m, f l ≤ it (relx A B) m f l
  | 0 => Int.le_refl _
  | m + 1 => Int.le_trans (itx_ge l m) (relx_ge l)
theorem itx_le {A B : Nat → Nat} {m : Nat} {e f : Nat → Int} (he : ∀ w, w < m → e (B w) ≤ e (A w)) (hf : ∀ l, f l ≤ e l) : ∀ l, it (relx A B) m f l ≤ e l := by
  refine it_ind (f := relx A B) (I := fun _ g => ∀ l, g l ≤ e l) hf (fun w g hw hg l => ?_)
  unfold relx
  split
  · rename_i h; rw [h]
    have := hg (A w)
    have := Int.le_trans (hg (B w)) (he w hw)
    omega
  · exact hg l
/-- an edge that is gone over: what lies ahead of it counts -/
theorem itx_edge {A B : Nat → Nat} {m w : Nat} {f : Nat → Int} (hw : w < m) : f (B w) ≤ it (relx A B) m f (A w) := by
  have h : ∀ k, w + 1 ≤ k → k ≤ m → f (B w) ≤ it (relx A B) k f (A w) := by
    intro k
    induction k with
    | zero => intro h; omega
    | succ k ih =>
      intro h1 h2
      rw [it_s]
      by_cases e : k = w
      · subst e
        unfold relx
        rw [if_pos rfl]
        exact Int.le_trans (itx_ge (B k) k) (Int.le_max_right _ _)
      · exact Int.le_trans (ih (by omega) (by omega)) (relx_ge _)
  exact h m (by omega) (Nat.le_refl _)
/-- how many below n -/
def cntP (p : Nat → Bool) : Nat → Nat
  | 0 => 0
  | n + 1 => cntP p n + (if p n = true then 1 else 0)
theorem cntP_le {p q : Nat → Bool} {n : Nat} (h : ∀ l, l < n → p l = true → q l = true) : cntP p n ≤ cntP q n := by
  induction n with
  | zero => exact Nat.le_refl _
  | succ n ih =>
    unfold cntP
    have := ih fun l hl => h l (by omega)
    by_cases hp : p n = true
    · rw [if_pos hp, if_pos (h n (by omega) hp)]; omega
    · rw [if_neg hp]; split <;> omega
theorem cntP_lt {p q : Nat → Bool} {n : Nat} (h : ∀ l, l < n → p l = true → q l = true) {x : Nat} (hx : x < n) (h1 : p x = false) (h2 : q x = true) : cntP p n < cntP q n := by
  induction n with
  | zero => omega
  | succ n ih =>
    unfold cntP
    by_cases e : x = n
    · subst e
      have := cntP_le (n := x) fun l hl => h l (by omega)
      rw [if_neg (by rw [h1]; exact Bool.false_ne_true), if_pos h2]; omega
    · have := ih (fun l hl => h l (by omega)) (by omega)
      by_cases hp : p n = true
      · rw [if_pos hp, if_pos (h n (by omega) hp)]; omega
      · rw [if_neg hp]; split <;> omega
theorem cntP_n {p : Nat → Bool} {n : Nat} : cntP p n ≤ n := by
  induction n with
  | zero => exact Nat.le_refl _
  | succ n ih => unfold cntP; split <;> omega
theorem cntP_0 {p : Nat → Bool} {n : Nat} (h : cntP p n = 0) : ∀ l, l < n → p l = false := by
  induction n with
  | zero => intro l hl; omega
  | succ n ih =>
    unfold cntP at h
    intro l hl
    by_cases hp : p n = true
    · rw [if_pos hp] at h; omega
    · by_cases e : l = n
      · rw [e]; exact Bool.not_eq_true _ |>.mp hp
      · exact ih (by omega) l (by omega)
def rnd (A B : Nat → Nat) (m : Nat) (r : Nat) (f : Nat → Int) : Nat → Int := it (fun _ g => psx A B m g) r f
/-- n rounds are enough -/
theorem rnd_min {n m : Nat} {A B : Nat → Nat} {c : Nat → Int} (hA : ∀ w, w < m → A w < n ∧ B w < n) {e : Nat → Int} (he : isMin n c (fun a b => ∃ w, w < m ∧ A w = a ∧ B w = b) e) (hout : ∀ l, n ≤ l → c l ≤ e l) : ∀ l, l < n → rnd A B m n c l = e l := by
  have hclo : ∀ w, w < m → e (B w) ≤ e (A w) := fun w hw => he.2.1 _ _ ⟨w, hw, rfl, rfl⟩
  have hc : ∀ l, c l ≤ e l := fun l => by
    by_cases hl : l < n
    · exact he.1 l hl
    · exact hout l (by omega)
  have hle : ∀ r l, rnd A B m r c l ≤ e l := by
    intro r
    induction r with
    | zero => exact hc
    | succ r ih => exact itx_le hclo ih
  have hge : ∀ r l, rnd A B m r c l ≤ rnd A B m (r + 1) c l := fun r l => itx_ge l m
  have hcr : ∀ r l, c l ≤ rnd A B m r c l := by
    intro r
    induction r with
    | zero => exact fun l => Int.le_refl _
    | succ r ih => exact fun l => Int.le_trans (ih l) (hge r l)
  have step : ∀ r, (∃ l, l < n ∧ rnd A B m r c l ≠ e l) → ∃ v, v < n ∧ rnd A B m r c v ≠ e v ∧ rnd A B m (r + 1) c v = e v := by
    rintro r ⟨l, hl, hne⟩
    refine Classical.byContradiction fun hno => ?_
    have hnoE : ∀ w, w < m → rnd A B m r c (A w) ≠ e (A w) → e (A w) = e l → rnd A B m r c (B w) = e (B w) → e (B w) ≠ e l := by
      intro w hw h1 h2 h3 h4
      refine hno ⟨A w, (hA w hw).1, h1, ?_⟩
      have q1 : rnd A B m r c (B w) ≤ rnd A B m (r + 1) c (A w) := itx_edge hw
      have q2 := hle (r + 1) (A w)
      rw [h3, h4] at q1
      rw [h2] at q2 ⊢
      omega
    have hlt := hle r l
    have hcl := hcr r l
    have key := he.2.2 (fun v => if rnd A B m r c v ≠ e v ∧ e v = e l then e l - 1 else e v) (fun v hv => ?_) (fun a b hab => ?_) l hl
    · rw [if_pos ⟨hne, rfl⟩] at key
      omega
    · split
      · rename_i h
        have := hle r v
        have := hcr r v
        have := h.1
        have := h.2
        omega
      · exact hc v
    · obtain ⟨w, hw, rfl, rfl⟩ := hab
      have q := hclo w hw
      by_cases h1 : rnd A B m r c (A w) ≠ e (A w) ∧ e (A w) = e l
      · rw [if_pos h1]
        by_cases h2 : rnd A B m r c (B w) ≠ e (B w) ∧ e (B w) = e l
        · rw [if_pos h2]; exact Int.le_refl _
        · rw [if_neg h2]
          by_cases h3 : e (B w) = e l
          · have h4 : rnd A B m r c (B w) = e (B w) := Classical.byContradiction fun z => h2 ⟨z, h3⟩
            exact absurd h3 (hnoE w hw h1.1 h1.2 h4)
          · omega
      · rw [if_neg h1]
        split
        · rename_i h2
          have := h2.2
          omega
        · exact q
  have cnt : ∀ r, cntP (fun l => decide (rnd A B m r c l ≠ e l)) n + r ≤ n ∨ ∀ l, l < n → rnd A B m r c l = e l := by
    intro r
    induction r with
    | zero => exact Or.inl (by have := @cntP_n (fun l => decide (rnd A B m 0 c l ≠ e l)) n; omega)
    | succ r ih =>
      by_cases hall : ∀ l, l < n → rnd A B m r c l = e l
      · refine Or.inr fun l hl => ?_
        have := hge r l
        have := hle (r + 1) l
        have := hall l hl
        omega
      · have hex : ∃ l, l < n ∧ rnd A B m r c l ≠ e l := Classical.byContradiction fun z => hall fun l hl => Classical.byContradiction fun q => z ⟨l, hl, q⟩
        obtain ⟨v, v1, v2, v3⟩ := step r hex
        rcases ih with ih | ih
        · left
          have := cntP_lt (p := fun l => decide (rnd A B m (r + 1) c l ≠ e l)) (q := fun l => decide (rnd A B m r c l ≠ e l)) (n := n) (fun l hl h => ?_) v1 (decide_eq_false fun z => z v3) (decide_eq_true v2)
          · omega
          · refine decide_eq_true fun z => (of_decide_eq_true h) ?_
            have := hge r l
            have := hle (r + 1) l
            omega
        · exact absurd ih hall
  intro l hl
  rcases cnt n with h | h
  · have h0 : cntP (fun l => decide (rnd A B m n c l ≠ e l)) n = 0 := by omega
    have := cntP_0 h0 l hl
    exact Classical.byContradiction fun z => by rw [decide_eq_true z] at this; cases this
  · exact h l hl
