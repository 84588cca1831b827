/-! ===== what lies over what: both tables tell alike ===== -/
set_option maxRecDepth 100000
def oN (S : Mm) (o : Nat) (a b : Nat) : Prop := ∃ k, k < o ∧ uM S k = a ∧ vM S k = b
section ORD
variable {S : Mm} {n m o j : Nat}
theorem one_refl {a : Nat} (h : a < n) : TcN (oneP S n j) a a := TcN_of ⟨h, h, Or.inl rfl⟩
theorem one_sym {a b : Nat} (h : TcN (oneP S n j) a b) : TcN (oneP S n j) b a := by
  refine TcN_min (T := fun x y => TcN (oneP S n j) y x) (fun x y q => ?_) (fun x y z q1 q2 => TcN_tr q2 q1) h
  obtain ⟨h1, h2, h3⟩ := q
  refine TcN_of ⟨h2, h1, ?_⟩
  rcases h3 with h3 | ⟨i, i1, i2⟩
  · exact Or.inl h3.symm
  · exact Or.inr ⟨i, i1, i2.symm⟩
theorem one_in {a b : Nat} (h : TcN (oneP S n j) a b) : a < n ∧ b < n := TcN_in (fun _ _ q => ⟨q.1, q.2.1⟩) h
theorem lie_in {a b : Nat} (h : TcN (lieP S n o j) a b) : a < n ∧ b < n := TcN_in (fun _ _ q => ⟨q.1, q.2.1⟩) h
theorem rX_in {a b : Nat} (h : TcN (rX S n m) a b) : a < n ∧ b < n := TcN_in (fun _ _ q => ⟨q.1, q.2.1⟩) h
theorem lie_one {a b c : Nat} (h : TcN (lieP S n o j) a b) (h2 : TcN (oneP S n j) b c) : TcN (lieP S n o j) a c := by
  refine (TcN_min (T := fun x y => TcN (lieP S n o j) x y ∧ ∀ z, TcN (oneP S n j) y z → TcN (lieP S n o j) x z) (fun x y q => ⟨TcN_of q, fun z hz => ?_⟩) (fun x y z q1 q2 => ⟨TcN_tr q1.1 q2.1, fun w hw => TcN_tr q1.1 (q2.2 w hw)⟩) h).2 c h2
  obtain ⟨q1, q2, i, q3, q4, q5⟩ := q
  exact TcN_of ⟨q1, (one_in hz).2, i, q3, q4, TcN_tr q5 hz⟩
theorem one_lie {a b c : Nat} (h2 : TcN (oneP S n j) a b) (h : TcN (lieP S n o j) b c) : TcN (lieP S n o j) a c := by
  refine (TcN_min (T := fun x y => TcN (lieP S n o j) x y ∧ ∀ z, TcN (oneP S n j) z x → TcN (lieP S n o j) z y) (fun x y q => ⟨TcN_of q, fun z hz => ?_⟩) (fun x y z q1 q2 => ⟨TcN_tr q1.1 q2.1, fun w hw => TcN_tr (q1.2 w hw) q2.1⟩) h).2 a h2
  obtain ⟨q1, q2, i, q3, q4, q5⟩ := q
  exact TcN_of ⟨(one_in hz).1, q2, i, q3, TcN_tr hz q4, q5⟩
theorem reach_iff (hE : ∀ a b, (∃ w, w < m ∧ aX S w = a ∧ bX S w = b) ↔ EdM S o j a b) (hn : ∀ a b, EdM S o j a b → a < n ∧ b < n) {a b : Nat} : TcN (rX S n m) a b ↔ TcN (lieP S n o j) a b ∨ TcN (oneP S n j) a b := by
  have hone : ∀ {x y}, TcN (oneP S n j) x y → TcN (rX S n m) x y := fun h => TcN_mono (fun x y q => ⟨q.1, q.2.1, q.2.2.imp_right fun z => (hE x y).mpr (Or.inr z)⟩) h
  constructor
  · intro h
    refine TcN_min (T := fun x y => TcN (lieP S n o j) x y ∨ TcN (oneP S n j) x y) (fun x y q => ?_) (fun x y z q1 q2 => ?_) h
    · obtain ⟨h1, h2, h3⟩ := q
      rcases h3 with h3 | h3
      · exact Or.inr (TcN_of ⟨h1, h2, Or.inl h3⟩)
      · rcases (hE x y).mp h3 with ⟨k, k1, k2, k3⟩ | h4
        · exact Or.inl (TcN_of ⟨h1, h2, k, k1, by rw [k2]; exact one_refl h1, by rw [k3]; exact one_refl h2⟩)
        · exact Or.inr (TcN_of ⟨h1, h2, Or.inr h4⟩)
    · rcases q1 with q1 | q1 <;> rcases q2 with q2 | q2
      · exact Or.inl (TcN_tr q1 q2)
      · exact Or.inl (lie_one q1 q2)
      · exact Or.inl (one_lie q1 q2)
      · exact Or.inr (TcN_tr q1 q2)
  · rintro (h | h)
    · refine TcN_min (T := TcN (rX S n m)) (fun x y q => ?_) (fun _ _ _ => TcN_tr) h
      obtain ⟨h1, h2, i, h3, h4, h5⟩ := q
      have e : EdM S o j (uM S i) (vM S i) := Or.inl ⟨i, h3, rfl, rfl⟩
      exact TcN_tr (hone h4) (TcN_tr (TcN_of ⟨(hn _ _ e).1, (hn _ _ e).2, Or.inr ((hE _ _).mpr e)⟩) (hone h5))
    · exact hone h
theorem lie_mid (hE : ∀ a b, (∃ w, w < m ∧ aX S w = a ∧ bX S w = b) ↔ EdM S o j a b) (hn : ∀ a b, EdM S o j a b → a < n ∧ b < n) {a b : Nat} (h : TcN (lieP S n o j) a b) : ∃ u v, oN S o u v ∧ TcN (rX S n m) a u ∧ TcN (rX S n m) v b := by
  refine TcN_min (T := fun a b => ∃ u v, oN S o u v ∧ TcN (rX S n m) a u ∧ TcN (rX S n m) v b) (fun x y q => ?_) (fun x y z q1 q2 => ?_) h
  · obtain ⟨h1, h2, i, h3, h4, h5⟩ := q
    exact ⟨uM S i, vM S i, ⟨i, h3, rfl, rfl⟩, (reach_iff hE hn).mpr (Or.inr h4), (reach_iff hE hn).mpr (Or.inr h5)⟩
  · obtain ⟨u, v, k1, k2, k3⟩ := q1
    obtain ⟨u', v', k1', k2', k3'⟩ := q2
    obtain ⟨i, i1, i2, i3⟩ := k1'
    have e : EdM S o j u' v' := Or.inl ⟨i, i1, i2, i3⟩
    exact ⟨u, v, k1, k2, TcN_tr k3 (TcN_tr k2' (TcN_tr (TcN_of ⟨(hn _ _ e).1, (hn _ _ e).2, Or.inr ((hE _ _).mpr e)⟩) k3'))⟩
/-- no way back over what lies over: both checks of a joint tell alike -/
theorem joint_iff (hE : ∀ a b, (∃ w, w < m ∧ aX S w = a ∧ bX S w = b) ↔ EdM S o j a b) (hn : ∀ a b, EdM S o j a b → a < n ∧ b < n) (hac : ∀ u v, oN S o u v → ¬ TcN (rX S n m) v u) {x y : Nat} : (x ≠ y ∧ ¬ (TcN (rX S n m) x y ↔ TcN (rX S n m) y x)) ↔ (TcN (lieP S n o j) x y ∨ TcN (lieP S n o j) y x) := by
  have key : ∀ {x y}, TcN (lieP S n o j) x y → ¬ TcN (rX S n m) y x := by
    intro x y h h2
    obtain ⟨u, v, h3, h4, h5⟩ := lie_mid hE hn h
    exact hac u v h3 (TcN_tr h5 (TcN_tr h2 h4))
  have hr : ∀ {x y}, TcN (lieP S n o j) x y → TcN (rX S n m) x y := fun h => (reach_iff hE hn).mpr (Or.inl h)
  constructor
  · rintro ⟨h1, h2⟩
    by_cases h3 : TcN (rX S n m) x y
    · rcases (reach_iff hE hn).mp h3 with h4 | h4
      · exact Or.inl h4
      · exact absurd ⟨fun _ => (reach_iff hE hn).mpr (Or.inr (one_sym h4)), fun _ => h3⟩ h2
    · by_cases h5 : TcN (rX S n m) y x
      · rcases (reach_iff hE hn).mp h5 with h4 | h4
        · exact Or.inr h4
        · exact absurd ((reach_iff hE hn).mpr (Or.inr (one_sym h4))) h3
      · exact absurd ⟨fun z => absurd z h3, fun z => absurd z h5⟩ h2
  · rintro (h | h)
    · refine ⟨?_, fun z => key h (z.mp (hr h))⟩
      rintro rfl
      exact key h (hr h)
    · refine ⟨?_, fun z => key h (z.mpr (hr h))⟩
      rintro rfl
      exact key h (hr h)
end ORD
/-- the table of ways and the ways as ints -/
theorem Tc_rX {S : Mm} {n m : Nat} (hm : gi S 42 13 = m) (hA : ∀ w, w < m → (0 ≤ gi S 49 w ∧ gi S 49 w < n) ∧ 0 ≤ gi S 50 w ∧ gi S 50 w < n) {a b : Int} (h : Tc (eX S) a b) : TcN (rX S n m) a.toNat b.toNat := by
  refine h (fun x y => TcN (rX S n m) x.toNat y.toNat) (fun x y q => ?_) (fun _ _ _ => TcN_tr)
  obtain ⟨w, w1, w2, w3⟩ := q
  have := hA w (by omega)
  refine TcN_of ⟨by omega, by omega, Or.inr ⟨w, by omega, ?_, ?_⟩⟩
  · unfold aX; omega
  · unfold bX; omega
theorem rX_Tc {S : Mm} {n m : Nat} (hm : gi S 42 13 = m) (hA : ∀ w, w < m → (0 ≤ gi S 49 w ∧ gi S 49 w < n) ∧ 0 ≤ gi S 50 w ∧ gi S 50 w < n) {a b : Nat} (h : TcN (rX S n m) a b) : a = b ∨ Tc (eX S) a b := by
  refine TcN_min (T := fun a b : Nat => a = b ∨ Tc (eX S) a b) (fun x y q => ?_) (fun x y z q1 q2 => ?_) h
  · obtain ⟨h1, h2, h3⟩ := q
    rcases h3 with h3 | ⟨w, w1, w2, w3⟩
    · exact Or.inl h3
    · have := hA w w1
      unfold aX at w2
      unfold bX at w3
      exact Or.inr fun T t1 _ => t1 _ _ ⟨w, by omega, by omega, by omega⟩
  · rcases q1 with q1 | q1
    · rw [q1]; exact q2
    · rcases q2 with q2 | q2
      · rw [← q2]; exact Or.inr q1
      · exact Or.inr fun T t1 t2 => t2 _ _ _ (q1 T t1 t2) (q2 T t1 t2)
theorem RG_ac {S : Mm} {n m o j : Nat} (H : DtH S n m o j) (h : ∀ a b, eO S a b → ¬ Tc (eX S) b a) : ∀ u v, oN S o u v → ¬ TcN (rX S n m) v u := by
  obtain ⟨h1, h2, h3, h4, h5, h6, h7, h8, h9, h10, h11, h12, h13, h14⟩ := H
  rintro u v ⟨k, k1, k2, k3⟩ q
  have e := h12 k k1
  unfold uM at k2
  unfold vM at k3
  have e1 : eO S (u : Int) (v : Int) := ⟨k, by omega, by omega, by omega⟩
  rcases rX_Tc h4 h11 q with z | z
  · subst z
    exact h _ _ e1 fun T t1 _ => t1 _ _ ((h14 _ _).mpr (Or.inl e1))
  · exact h _ _ e1 z
theorem ac_RG {S : Mm} {n m o j : Nat} (H : DtH S n m o j) (h : ∀ u v, oN S o u v → ¬ TcN (rX S n m) v u) : ∀ a b, eO S a b → ¬ Tc (eX S) b a := by
  obtain ⟨h1, h2, h3, h4, h5, h6, h7, h8, h9, h10, h11, h12, h13, h14⟩ := H
  rintro a b ⟨k, k1, k2, k3⟩ q
  have e := h12 k (by omega)
  refine h a.toNat b.toNat ⟨k, by omega, by unfold uM; omega, by unfold vM; omega⟩ (Tc_rX h4 h11 q)
