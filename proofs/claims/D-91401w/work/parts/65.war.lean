/-! ===== what leads where: closing a table ===== -/
set_option maxRecDepth 100000
def Wk (M : Nat → Nat → Prop) : Nat → Nat → Nat → Prop
  | 0, a, b => M a b
  | k + 1, a, b => Wk M k a b ∨ (Wk M k a k ∧ Wk M k k b)
/-- the least relation that holds of M's pairs and goes on -/
def TcN (M : Nat → Nat → Prop) (a b : Nat) : Prop := ∀ T : Nat → Nat → Prop, (∀ x y, M x y → T x y) → (∀ x y z, T x y → T y z → T x z) → T a b
theorem TcN_of {M : Nat → Nat → Prop} {a b : Nat} (h : M a b) : TcN M a b := fun _ h1 _ => h1 a b h
theorem TcN_tr {M : Nat → Nat → Prop} {a b c : Nat} (h : TcN M a b) (h' : TcN M b c) : TcN M a c := fun T h1 h2 => h2 a b c (h T h1 h2) (h' T h1 h2)
theorem TcN_min {M T : Nat → Nat → Prop} (h1 : ∀ x y, M x y → T x y) (h2 : ∀ x y z, T x y → T y z → T x z) {a b : Nat} (h : TcN M a b) : T a b := h T h1 h2
theorem TcN_mono {M M' : Nat → Nat → Prop} (h : ∀ x y, M x y → M' x y) {a b : Nat} (q : TcN M a b) : TcN M' a b := q _ (fun x y m => TcN_of (h x y m)) fun _ _ _ => TcN_tr
theorem Wk_k {M : Nat → Nat → Prop} {k a : Nat} : (Wk M (k + 1) a k ↔ Wk M k a k) ∧ (Wk M (k + 1) k a ↔ Wk M k k a) := by
  refine ⟨⟨?_, Or.inl⟩, ⟨?_, Or.inl⟩⟩
  · rintro (h | ⟨h, _⟩) <;> exact h
  · rintro (h | ⟨_, h⟩) <;> exact h
theorem Wk_tr {M : Nat → Nat → Prop} : ∀ k j, j < k → ∀ a b, Wk M k a j → Wk M k j b → Wk M k a b
  | 0, j, h, _, _, _, _ => by omega
  | k + 1, j, h, a, b, h1, h2 => by
    by_cases e : j = k
    · subst e
      exact Or.inr ⟨Wk_k.1.mp h1, Wk_k.2.mp h2⟩
    · have hj : j < k := by omega
      rcases h1 with h1 | ⟨h1, h1'⟩
      · rcases h2 with h2 | ⟨h2, h2'⟩
        · exact Or.inl (Wk_tr k j hj a b h1 h2)
        · exact Or.inr ⟨Wk_tr k j hj a k h1 h2, h2'⟩
      · rcases h2 with h2 | ⟨h2, h2'⟩
        · exact Or.inr ⟨h1, Wk_tr k j hj k b h1' h2⟩
        · exact Or.inr ⟨h1, h2'⟩
theorem Wk_mono {M : Nat → Nat → Prop} {a b : Nat} (h : M a b) : ∀ k, Wk M k a b
  | 0 => h
  | k + 1 => Or.inl (Wk_mono h k)
theorem Wk_snd {M : Nat → Nat → Prop} : ∀ k a b, Wk M k a b → TcN M a b
  | 0, a, b, h => TcN_of h
  | k + 1, a, b, h => by
    rcases h with h | ⟨h1, h2⟩
    · exact Wk_snd k a b h
    · exact TcN_tr (Wk_snd k a k h1) (Wk_snd k k b h2)
theorem TcN_in {M : Nat → Nat → Prop} {n : Nat} (hM : ∀ a b, M a b → a < n ∧ b < n) {a b : Nat} (h : TcN M a b) : a < n ∧ b < n := h (fun x y => x < n ∧ y < n) hM fun _ _ _ h1 h2 => ⟨h1.1, h2.2⟩
theorem Wk_iff {M : Nat → Nat → Prop} {n : Nat} (hM : ∀ a b, M a b → a < n ∧ b < n) (a b : Nat) : Wk M n a b ↔ TcN M a b := by
  refine ⟨Wk_snd n a b, fun h => h (Wk M n) (fun x y m => Wk_mono m n) fun x y z h1 h2 => ?_⟩
  exact Wk_tr n y (TcN_in hM (Wk_snd n x y h1)).2 x z h1 h2
/-- a table of truths in memory: row a, column b at (A a, i a b) -/
def Tbl (A : Nat → Nat) (ix : Nat → Nat → Nat) (n : Nat) (P : Nat → Nat → Prop) (S : Mm) : Prop := ∀ a b, a < n → b < n → (gi S (A a) (ix a b) = 1 ∧ P a b) ∨ (gi S (A a) (ix a b) = 0 ∧ ¬ P a b)
theorem Tbl_congr {A : Nat → Nat} {ix : Nat → Nat → Nat} {n : Nat} {P Q : Nat → Nat → Prop} {S : Mm} (h : Tbl A ix n P S) (hq : ∀ a b, a < n → b < n → (P a b ↔ Q a b)) : Tbl A ix n Q S := fun a b ha hb => by
  rcases h a b ha hb with ⟨h1, h2⟩ | ⟨h1, h2⟩
  · exact Or.inl ⟨h1, (hq a b ha hb).mp h2⟩
  · exact Or.inr ⟨h1, fun z => h2 ((hq a b ha hb).mpr z)⟩
theorem Tbl_up {A : Nat → Nat} {ix : Nat → Nat → Nat} {n : Nat} {P : Nat → Nat → Prop} {S : Mm} (h : Tbl A ix n P S) {a b : Nat} (hinj : ∀ p q, p < n → q < n → A p = A a ∧ ix p q = ix a b → p = a ∧ q = b) {v : Int} (hv : v = 0 ∨ v = 1) : Tbl A ix n (fun p q => if p = a ∧ q = b then v = 1 else P p q) (up S (A a) (ix a b) (vI v)) := by
  intro p q hp hq
  rw [gi_up, vi_vI]
  dsimp only
  have hw : w32 v = v := w32_id (by omega) (by omega)
  by_cases e : p = a ∧ q = b
  · rw [if_pos (by rw [e.1, e.2]; exact ⟨rfl, rfl⟩), if_pos e, hw]
    rcases hv with hv | hv
    · exact Or.inr ⟨hv, by omega⟩
    · exact Or.inl ⟨hv, hv⟩
  · rw [if_neg (fun z => e (hinj p q hp hq z)), if_neg e]
    exact h p q hp hq
/-- where the table stands in the midst of a round -/
def Wm (M : Nat → Nat → Prop) (k a b : Nat) (p q : Nat) : Prop := if p < a ∨ (p = a ∧ q < b) then Wk M (k + 1) p q else Wk M k p q
theorem Wm_0 {M : Nat → Nat → Prop} {k p q : Nat} : Wm M k 0 0 p q ↔ Wk M k p q := by
  unfold Wm; rw [if_neg (by omega)]
theorem Wm_row {M : Nat → Nat → Prop} {n k a p q : Nat} (hq : q < n) : Wm M k a n p q ↔ Wm M k (a + 1) 0 p q := by
  unfold Wm
  by_cases h : p < a ∨ (p = a ∧ q < n)
  · rw [if_pos h, if_pos (by omega)]
  · rw [if_neg h, if_neg (by omega)]
theorem Wm_end {M : Nat → Nat → Prop} {n k p q : Nat} (hp : p < n) : Wm M k n 0 p q ↔ Wk M (k + 1) p q := by
  unfold Wm; rw [if_pos (by omega)]
/-- one place of a round -/
theorem Wm_step {M : Nat → Nat → Prop} {n k a b : Nat} (p q : Nat) (v : Int) (hv : v = 1 ↔ (Wm M k a b a b ∨ (Wm M k a b a k ∧ Wm M k a b k b))) : (if p = a ∧ q = b then v = 1 else Wm M k a b p q) ↔ Wm M k a (b + 1) p q := by
  have e1 : Wm M k a b a b ↔ Wk M k a b := by unfold Wm; rw [if_neg (by omega)]
  have e2 : Wm M k a b a k ↔ Wk M k a k := by
    unfold Wm; split
    · exact Wk_k.1
    · exact Iff.rfl
  have e3 : Wm M k a b k b ↔ Wk M k k b := by
    unfold Wm; split
    · exact Wk_k.2
    · exact Iff.rfl
  by_cases e : p = a ∧ q = b
  · rw [if_pos e, hv, e1, e2, e3, e.1, e.2]
    unfold Wm
    rw [if_pos (by omega)]
    exact Iff.rfl
  · rw [if_neg e]
    unfold Wm
    by_cases h : p < a ∨ (p = a ∧ q < b)
    · rw [if_pos h, if_pos (by omega)]
    · rw [if_neg h, if_neg (by omega)]
