/-! ===== the relation's groups ===== -/
set_option maxRecDepth 100000
/-- the start's cells: strings with their bytes, the boxes of signs -/
def H0 (h : Nat → Cl) : Prop := (∀ i, i < 18 → (h (5 + 2 * i)).1 = 18 ∧ (h (5 + 2 * i)).2.2 0 = .ref (6 + 2 * i) ∧ b_vi ((h (5 + 2 * i)).2.2 1) = 0 ∧ (h (6 + 2 * i)).1 = 101 ∧ (h (6 + 2 * i)).2.1 = (pWords.getD i []).length ∧ ∀ j, j < (pWords.getD i []).length → b_vi ((h (6 + 2 * i)).2.2 j) = (pWords.getD i []).getD j 0) ∧
  ((h 1).1 = 113 ∧ (h 1).2.1 = 256 ∧ (h 1).2.2 170 = .ref 2 ∧ (h 1).2.2 171 = .ref 3 ∧ (h 1).2.2 173 = .ref 4 ∧ (h 2).1 = 20 ∧ (h 3).1 = 20 ∧ (h 4).1 = 20 ∧ b_vi ((h 2).2.2 0) = 42 ∧ b_vi ((h 3).2.2 0) = 43 ∧ b_vi ((h 4).2.2 0) = 45)
def RN (h : Nat → Cl) (c : Nat) (δ : Sg) : Prop := 156 ≤ δ.1 ∧ δ.1 < 900000000 ∧ δ.1 ≤ 156 + c * 16000 ∧ δ.2.1 ≤ 120000 + c * 16000 ∧ δ.2.2.1 ≤ 120000 + c * 80000 ∧ ∀ a, a < 42 → δ.2.2.2 a = h a
def RT (S : Mm) : Prop := gi S 42 9 = gi S 106 5 ∧ (0 ≤ gi S 106 5 ∧ gi S 106 5 ≤ 50) ∧ gi S 42 10 = gi S 106 6 ∧ (0 ≤ gi S 106 6 ∧ gi S 106 6 ≤ 100) ∧ ∀ k, k < 8 → gi S 46 k = gi S 116 k ∧ 0 ≤ gi S 116 k ∧ gi S 116 k ≤ 1000
/-- the tag of a row by its width -/
def rwT (w : Int) : Nat := if w = 0 then 101 else if w = 1 then 102 else if w = 2 then 103 else 104
def rwV (δ : Sg) (a : Nat) (w : Int) (k : Nat) : Int := if w = 3 then b_la δ a k else b_ia δ a k
def RR1 (S : Mm) (δ : Sg) (p : Nat) : Prop := (gi S 107 p = -1 ∧ S (102 + p) 0 = .null) ∨ ∃ a : Nat, S (102 + p) 0 = .ref a ∧ 156 ≤ a ∧ a < δ.1 ∧ (0 ≤ gi S 107 p ∧ gi S 107 p ≤ 3) ∧ (0 ≤ gi S 108 p ∧ gi S 108 p ≤ 60) ∧ b_tg δ a = rwT (gi S 107 p) ∧ (b_ln δ a : Int) = gi S 108 p ∧ ∀ k : Nat, (k : Int) < gi S 108 p → rwV δ a (gi S 107 p) k = gl S 109 (60 * p + k)
def RR (S : Mm) (δ : Sg) : Prop := (∀ p, p < 4 → RR1 S δ p) ∧ ∀ p q a b : Nat, p < 4 → q < 4 → S (102 + p) 0 = .ref a → S (102 + q) 0 = .ref b → a = b → p = q
def RE1 (S : Mm) (δ : Sg) (e : Nat) : Prop := ∃ a : Nat, S 44 e = .ref a ∧ 156 ≤ a ∧ a < δ.1 ∧ b_tg δ a = 6 ∧ b_ia δ a 0 = gi S 111 e ∧ (gi S 111 e = 0 ∨ gi S 111 e = 1) ∧ b_ia δ a 1 = gi S 112 e ∧ (1 ≤ gi S 112 e ∧ gi S 112 e ≤ 8) ∧ (gi S 111 e = 1 → gi S 112 e % 2 = 0) ∧ b_ia δ a 2 = gi S 113 e ∧ (1 ≤ gi S 113 e ∧ gi S 113 e ≤ 100) ∧ b_ia δ a 3 = gi S 114 e ∧ (0 ≤ gi S 114 e ∧ gi S 114 e ≤ 200) ∧ b_ia δ a 4 = gi S 115 e ∧ (gi S 114 e ≤ gi S 115 e ∧ gi S 115 e ≤ 200)
def RE (S : Mm) (δ : Sg) : Prop := gi S 42 6 = gi S 106 7 ∧ (0 ≤ gi S 106 7 ∧ gi S 106 7 ≤ 12) ∧ ∀ e : Nat, (e : Int) < gi S 106 7 → RE1 S δ e
def RL (S : Mm) : Prop := gi S 42 8 = gi S 106 8 ∧ (0 ≤ gi S 106 8 ∧ gi S 106 8 ≤ 16) ∧ ∀ l : Nat, (l : Int) < gi S 106 8 → gi S 47 l = gi S 117 l ∧ (0 ≤ gi S 117 l ∧ gi S 117 l ≤ 2000) ∧ gi S 48 l = gi S 118 l ∧ (0 ≤ gi S 118 l ∧ gi S 118 l ≤ 2000)
def RB1 (S : Mm) (δ : Sg) (b : Nat) : Prop := ∃ a : Nat, S 45 b = .ref a ∧ 156 ≤ a ∧ a + 1 < δ.1 ∧ b_tg δ a = 7 ∧ b_ia δ a 0 = gi S 123 b ∧ (0 ≤ gi S 123 b ∧ gi S 123 b < gi S 106 8) ∧ b_ia δ a 1 = gi S 125 b ∧ (1 ≤ gi S 125 b ∧ gi S 125 b ≤ 15) ∧ b_ia δ a 2 = gi S 126 b ∧ (0 ≤ gi S 126 b ∧ gi S 126 b ≤ 2) ∧ b_ia δ a 3 = gi S 127 b ∧ (0 ≤ gi S 127 b ∧ gi S 127 b ≤ 2) ∧ b_ia δ a 4 = gi S 128 b ∧ (-1 ≤ gi S 128 b ∧ gi S 128 b ≤ 8) ∧ b_ia δ a 5 = gi S 129 b ∧ (gi S 129 b = 0 ∨ gi S 129 b = 1) ∧ b_vl δ a 6 = .ref (a + 1) ∧ b_tg δ (a + 1) = 103 ∧ b_ln δ (a + 1) = 6 ∧ (∀ m, m < 6 → b_ia δ (a + 1) m = gi S 124 (6 * b + m) ∧ 0 ≤ gi S 124 (6 * b + m) ∧ gi S 124 (6 * b + m) ≤ 9999) ∧ ∀ p, p < 4 → S (102 + p) 0 ≠ .ref (a + 1)
def RB (c : Nat) (S : Mm) (δ : Sg) : Prop := gi S 42 7 = gi S 106 9 ∧ (0 ≤ gi S 106 9 ∧ gi S 106 9 ≤ 200 ∧ gi S 106 9 ≤ c) ∧ ∀ b : Nat, (b : Int) < gi S 106 9 → RB1 S δ b
/-- what lies over what, by the component; by the model (over alone, at one) -/
def eX (S : Mm) (a b : Int) : Prop := ∃ w : Nat, (w : Int) < gi S 42 13 ∧ gi S 49 w = a ∧ gi S 50 w = b
def eO (S : Mm) (a b : Int) : Prop := ∃ k : Nat, (k : Int) < gi S 106 12 ∧ gi S 119 k = a ∧ gi S 120 k = b
def eJ (S : Mm) (a b : Int) : Prop := ∃ k : Nat, (k : Int) < gi S 106 13 ∧ ((gi S 123 (gi S 121 k).toNat = a ∧ gi S 123 (gi S 122 k).toNat = b) ∨ (gi S 123 (gi S 121 k).toNat = b ∧ gi S 123 (gi S 122 k).toNat = a))
/-- the least relation that holds of E's pairs and goes on -/
def Tc (E : Int → Int → Prop) (a b : Int) : Prop := ∀ T : Int → Int → Prop, (∀ x y, E x y → T x y) → (∀ x y z, T x y → T y z → T x z) → T a b
/-- years that go together -/
def okY (S : Mm) (E : Int → Int → Prop) (y : Nat → Int) : Prop := (∀ l : Nat, (l : Int) < gi S 106 8 → gi S 117 l ≤ y l ∧ y l ≤ gi S 118 l) ∧ ∀ a b, E a b → y b.toNat ≤ y a.toNat
def RG (S : Mm) : Prop := gi S 42 14 = gi S 106 12 ∧ (0 ≤ gi S 106 12 ∧ gi S 106 12 ≤ 60) ∧ gi S 42 15 = gi S 106 13 ∧ (0 ≤ gi S 106 13 ∧ gi S 106 13 ≤ 40) ∧ gi S 42 13 = gi S 106 12 + 2 * gi S 106 13 ∧
  (∀ w : Nat, (w : Int) < gi S 42 13 → (0 ≤ gi S 49 w ∧ gi S 49 w < gi S 106 8) ∧ 0 ≤ gi S 50 w ∧ gi S 50 w < gi S 106 8) ∧
  (∀ k : Nat, (k : Int) < gi S 106 12 → (0 ≤ gi S 119 k ∧ gi S 119 k < gi S 106 8) ∧ 0 ≤ gi S 120 k ∧ gi S 120 k < gi S 106 8) ∧
  (∀ k : Nat, (k : Int) < gi S 106 13 → (0 ≤ gi S 121 k ∧ gi S 121 k < gi S 106 9) ∧ 0 ≤ gi S 122 k ∧ gi S 122 k < gi S 106 9) ∧
  (∀ a b, eX S a b ↔ (eO S a b ∨ eJ S a b)) ∧ (∃ y, okY S (eX S) y) ∧ ∀ a b, eO S a b → ¬ Tc (eX S) b a
def RH (S : Mm) : Prop := gi S 42 38 = gi S 106 11 ∧ (0 ≤ gi S 106 11 ∧ gi S 106 11 ≤ 8) ∧ ∀ h k : Nat, (h : Int) < gi S 106 11 → k < 8 → gi S (83 + h) k = gi S 131 (8 * h + k) ∧ 0 ≤ gi S 131 (8 * h + k) ∧ gi S 131 (8 * h + k) ≤ 100
def RA (S : Mm) : Prop := gi S 130 0 = 0 ∧ ∀ k, k < 8 → gi S 79 k = gi S 130 k ∧ (0 ≤ gi S 130 k ∧ gi S 130 k ≤ 200) ∧ (k < 7 → gi S 130 k < gi S 130 (k + 1))
def RP (S : Mm) : Prop := (0 ≤ gi S 42 32 ∧ gi S 42 32 ≤ gi S 106 9) ∧ (∀ b : Nat, (b : Int) < gi S 42 32 → gi S 77 b = gi S 144 b) ∧ ∀ b : Nat, gi S 42 32 ≤ b → b < 200 → gi S 144 b = -1
def RQ (c : Nat) (S : Mm) : Prop := (0 ≤ gi S 42 31 ∧ gi S 42 31 ≤ 2400 * c) ∧ ∀ b, b < 200 → gi S 78 b ≤ gi S 42 31
def RY (S : Mm) : Prop := gi S 42 20 = gi S 106 38 ∧ (0 ≤ gi S 106 38 ∧ gi S 106 38 ≤ 400) ∧ ∀ k : Nat, (k : Int) < gi S 106 38 → gi S 70 k = gi S 134 k ∧ -128 ≤ gi S 134 k ∧ gi S 134 k ≤ 127
def RF (S : Mm) : Prop := (gi S 42 24 = 0 ∧ gi S 106 39 = -1 ∧ gi S 106 40 = -1) ∨ (gi S 42 24 = 1 ∧ gi S 42 21 = gi S 106 39 ∧ gi S 42 22 = gi S 106 40)
/-- what names of keys ask of a bone -/
def bo (S : Mm) (b : Nat) (i : Nat) : Int := if i < 6 then gi S 124 (6 * b + i) else if i = 6 then gi S 126 b else if i = 7 then gi S 125 b else if i = 8 then gi S 127 b else gi S 128 b
def tx (S : Mm) (k : Nat) (j : Nat) : Int := gi S 135 (400 * k + j)
def RK1 (S : Mm) (δ : Sg) (k : Nat) : Prop := ∃ (a : Nat) (K : List KStp), S 74 k = .ref a ∧ KR δ a K ∧ (0 ≤ gi S 136 k ∧ gi S 136 k ≤ 400) ∧ (∃ el r, (0 ≤ el ∧ el ≤ gi S 106 7) ∧ pKey (tx S k) (gi S 136 k).toNat el = some (.inr (K, r))) ∧
  ∀ b : Nat, (b : Int) < gi S 106 9 → kGo K (bo S b) 25 0 0 = some (gi S 132 (200 * k + b), gi S 133 (200 * k + b)) ∧ (gi S 132 (200 * k + b) = -1 ∨ (0 ≤ gi S 132 (200 * k + b) ∧ gi S 132 (200 * k + b) ≤ 799 ∧ gi S 132 (200 * k + b) % 100 < gi S 106 7))
def RK (S : Mm) (δ : Sg) : Prop := gi S 42 23 = gi S 106 10 ∧ (0 ≤ gi S 106 10 ∧ gi S 106 10 ≤ 12) ∧ ∀ k : Nat, (k : Int) < gi S 106 10 → RK1 S δ k
def Rel (h : Nat → Cl) (c : Nat) (S : Mm) (δ : Sg) : Prop := RN h c δ ∧ RT S ∧ RR S δ ∧ RE S δ ∧ RL S ∧ RB c S δ ∧ RG S ∧ RH S ∧ RA S ∧ RP S ∧ RQ c S ∧ RY S ∧ RF S ∧ RK S δ
/-- places that join nothing: what is written there is written anew before it is read -/
def scr (a k : Nat) : Bool := if a = 42 then k == 36 else if a = 106 then [0, 47, 48, 49, 50, 51, 52, 53, 54, 55, 56, 57, 58, 59, 60, 61, 65, 70, 72, 73, 75].contains k else if a = 71 then k != 0 && k != 1 && k != 9 else if a = 73 then true else [51, 52, 53, 54, 55, 56, 57, 58, 59, 60, 61, 62, 63, 64, 65, 66, 67, 68, 69, 75, 76, 80, 81, 91, 92, 93, 94, 95, 96, 97, 98, 99, 100, 101, 110, 137, 138, 139, 140, 141, 142, 143, 145, 146, 147, 148, 149, 150, 151, 152, 153, 154, 155].contains a
def agr (A : Nat → Nat → Bool) (S S' : Mm) : Prop := ∀ a k, A a k = false → S' a k = S a k
theorem agr_refl {A : Nat → Nat → Bool} {S : Mm} : agr A S S := fun _ _ _ => rfl
theorem agr_trans {A : Nat → Nat → Bool} {S S' S'' : Mm} (h : agr A S S') (h2 : agr A S' S'') : agr A S S'' := fun a k q => (h2 a k q).trans (h a k q)
theorem agr_up {A : Nat → Nat → Bool} {S S' : Mm} {a k : Nat} {v : Value} (h : agr A S S') (q : A a k = true) : agr A S (up S' a k v) := fun b j e => by
  rw [up_at, if_neg (by rintro ⟨rfl, rfl⟩; rw [q] at e; cases e)]
  exact h b j e
theorem agr_fill {A : Nat → Nat → Bool} {S S' : Mm} {a lo n : Nat} {g : Nat → Value} (h : agr A S S') (q : ∀ k, A a k = true) : agr A S (fill S' a lo n g) := fun b j e => by
  rw [fill_at, if_neg (by rintro ⟨rfl, _⟩; rw [q] at e; cases e)]
  exact h b j e
theorem agr_sub {A B : Nat → Nat → Bool} {S S' : Mm} (h : agr A S S') (q : ∀ a k, A a k = true → B a k = true) : agr B S S' := fun a k e => h a k (by
  cases e2 : A a k with
  | false => rfl
  | true => rw [q a k e2] at e; cases e)
theorem agr_gi {A : Nat → Nat → Bool} {S S' : Mm} (h : agr A S S') {a k : Nat} (q : A a k = false) : gi S' a k = gi S a k := by unfold gi; rw [h a k q]
theorem agr_gl {A : Nat → Nat → Bool} {S S' : Mm} (h : agr A S S') {a k : Nat} (q : A a k = false) : gl S' a k = gl S a k := by unfold gl; rw [h a k q]
