/-! ===== the abstract machine: values, heap, frames, the limit of its runs ===== -/
def vI (k : Int) : Value := .int (Int32.ofInt k)
def vL (k : Int) : Value := .long (Int64.ofInt k)
/-- nothing is known of it; the second half of a long -/
def b_hl : Value := .float 0
def b_h2 : Value := .float 1
abbrev Cl : Type := Nat × Nat × (Nat → Value)
/-- next address, cells, slots, the cells: (tag, length, contents) -/
abbrev Sg : Type := Nat × Nat × Nat × (Nat → Cl)
abbrev Out : Type := Option Value ⊕ Nat
abbrev Rs : Type := Out × Sg
abbrev Lc : Type := List Value
abbrev Nx : Type := Nat × Lc × List Value × Sg
abbrev Gm : Type := Nat → List Value → Sg → Option Rs
abbrev Fn : Type := Gm → Lc → List Value → Sg → Option (Nx ⊕ Rs)
/-- a method's code: runs of instructions, each below a bound -/
abbrev Tb : Type := Nat → List (Nat × List (Nat × Fn))
def b_lk1 : List (Nat × Fn) → Nat → Option Fn
  | [], _ => none
  | q :: l, pc => cond (Nat.beq q.1 pc) (some q.2) (b_lk1 l pc)
def b_lk : List (Nat × List (Nat × Fn)) → Nat → Option Fn
  | [], _ => none
  | q :: l, pc => cond (Nat.blt pc q.1) (b_lk1 q.2 pc) (b_lk l pc)
theorem b_lk1_mem : ∀ {l : List (Nat × Fn)} {pc : Nat} {f : Fn}, b_lk1 l pc = some f → (pc, f) ∈ l
  | [], _, _, h => by cases h
  | q :: l, pc, f, h => by
    unfold b_lk1 at h
    cases hq : Nat.beq q.1 pc with
    | true =>
      rw [hq] at h
      have h1 : q.1 = pc := Nat.eq_of_beq_eq_true hq
      have h2 : q.2 = f := Option.some.inj h
      rw [← h1, ← h2]
      exact List.mem_cons_self
    | false =>
      rw [hq] at h
      exact List.mem_cons_of_mem _ (b_lk1_mem h)
theorem b_lk_mem : ∀ {l : List (Nat × List (Nat × Fn))} {pc : Nat} {f : Fn}, b_lk l pc = some f → ∃ q ∈ l, (pc, f) ∈ q.2
  | [], _, _, h => by cases h
  | q :: l, pc, f, h => by
    unfold b_lk at h
    cases hq : Nat.blt pc q.1 with
    | true =>
      rw [hq] at h
      exact ⟨q, List.mem_cons_self, b_lk1_mem h⟩
    | false =>
      rw [hq] at h
      obtain ⟨q2, h1, h2⟩ := b_lk_mem h
      exact ⟨q2, List.mem_cons_of_mem _ h1, h2⟩
def b_tg (σ : Sg) (a : Nat) : Nat := (σ.2.2.2 a).1
def b_ln (σ : Sg) (a : Nat) : Nat := (σ.2.2.2 a).2.1
def b_vl (σ : Sg) (a k : Nat) : Value := (σ.2.2.2 a).2.2 k
def b_vi (v : Value) : Int := match v with
  | .int x => x.toInt
  | _ => 0
def b_vlg (v : Value) : Int := match v with
  | .long x => x.toInt
  | _ => 0
def b_ia (σ : Sg) (a k : Nat) : Int := b_vi (b_vl σ a k)
def b_la (σ : Sg) (a k : Nat) : Int := b_vlg (b_vl σ a k)
def b_pt (σ : Sg) (a k : Nat) (v : Value) : Sg := (σ.1, σ.2.1, σ.2.2.1, fun b => if b = a then ((σ.2.2.2 b).1, (σ.2.2.2 b).2.1, fun j => if j = k then v else (σ.2.2.2 b).2.2 j) else σ.2.2.2 b)
/-- the contents of a cell anew -/
def b_st (σ : Sg) (a : Nat) (f : Nat → Value) : Sg := (σ.1, σ.2.1, σ.2.2.1, fun b => if b = a then ((σ.2.2.2 b).1, (σ.2.2.2 b).2.1, f) else σ.2.2.2 b)
def b_nw (σ : Sg) (t n : Nat) (f : Nat → Value) : Sg := (σ.1 + 1, σ.2.1 + 1, σ.2.2.1 + n, fun b => if b = σ.1 then (t, n, f) else σ.2.2.2 b)
def w32 (x : Int) : Int := (Int32.ofInt x).toInt
def w64 (x : Int) : Int := (Int64.ofInt x).toInt
def b_set : Nat → Lc → Value → Lc
  | 0, l, v => v :: l.tail
  | n + 1, l, v => l.headD b_hl :: b_set n l.tail v
def b_ent : List Value → Lc
  | [] => []
  | v :: vs => if v.category = 2 then v :: b_h2 :: b_ent vs else v :: b_ent vs
def b_fr (g : Gm) (T : Tb) (y : Nat) : Nat → Nx → Option Rs
  | 0, _ => none
  | n + 1, x => match b_lk (T y) x.1 with
    | none => none
    | some f => match f g x.2.1 x.2.2.1 x.2.2.2 with
      | none => none
      | some (.inl x2) => b_fr g T y n x2
      | some (.inr r) => some r
noncomputable def b_lim (g : Gm) (T : Tb) (y : Nat) (x : Nx) : Option Rs :=
  @dite _ (∃ r, ∃ n, b_fr g T y n x = some r) (Classical.propDecidable _) (fun h => some (Classical.choose h)) (fun _ => none)
noncomputable def b_M (T : Tb) : Nat → Gm
  | 0 => fun _ _ _ => none
  | d + 1 => fun y As σ => b_lim (b_M T d) T y (0, b_ent As, [], σ)
noncomputable def b_F (T : Tb) (d y pc : Nat) (L : Lc) (st : List Value) (σ : Sg) : Option Rs := b_lim (b_M T d) T y (pc, L, st, σ)
theorem b_M_succ {T : Tb} {d y : Nat} {As : List Value} {σ : Sg} : b_M T (d + 1) y As σ = b_F T d y 0 (b_ent As) [] σ := rfl
theorem b_fr_mono {g : Gm} {T : Tb} {y : Nat} : ∀ (n : Nat) (x : Nx) (r : Rs), b_fr g T y n x = some r → ∀ m, n ≤ m → b_fr g T y m x = some r
  | 0, x, r, h, _, _ => by cases h
  | n + 1, x, r, h, m, hm => by
    obtain ⟨m, rfl⟩ : ∃ k, m = k + 1 := ⟨m - 1, by omega⟩
    unfold b_fr at h ⊢
    cases hl : b_lk (T y) x.1 with
    | none => rw [hl] at h; cases h
    | some f =>
      rw [hl] at h
      dsimp only at h ⊢
      cases hf : f g x.2.1 x.2.2.1 x.2.2.2 with
      | none => rw [hf] at h; cases h
      | some q =>
        rw [hf] at h
        cases q with
        | inl x2 => exact b_fr_mono n x2 r h m (by omega)
        | inr r2 => exact h
theorem b_lim_some {g : Gm} {T : Tb} {y n : Nat} {x : Nx} {r : Rs} (h : b_fr g T y n x = some r) : b_lim g T y x = some r := by
  have hx : ∃ r, ∃ n, b_fr g T y n x = some r := ⟨r, n, h⟩
  unfold b_lim
  rw [dif_pos hx]
  obtain ⟨m, hm⟩ := Classical.choose_spec hx
  have h1 := b_fr_mono _ _ _ h (n + m) (by omega)
  have h2 := b_fr_mono _ _ _ hm (n + m) (by omega)
  rw [h1] at h2
  exact h2.symm
theorem b_lim_of {g : Gm} {T : Tb} {y : Nat} {x : Nx} {r : Rs} (h : b_lim g T y x = some r) : ∃ n, b_fr g T y n x = some r := by
  unfold b_lim at h
  by_cases hx : ∃ r, ∃ n, b_fr g T y n x = some r
  · rw [dif_pos hx] at h
    obtain ⟨m, hm⟩ := Classical.choose_spec hx
    cases h
    exact ⟨m, hm⟩
  · rw [dif_neg hx] at h
    cases h
theorem b_lim_none {g : Gm} {T : Tb} {y : Nat} {x : Nx} (h : ∀ n, b_fr g T y n x = none) : b_lim g T y x = none := by
  unfold b_lim
  rw [dif_neg]
  rintro ⟨r, n, hr⟩
  rw [h n] at hr
  cases hr
/-- what comes of an instruction's answer -/
noncomputable def b_go (T : Tb) (d y : Nat) (q : Option (Nx ⊕ Rs)) : Option Rs := match q with
  | none => none
  | some (.inl x) => b_F T d y x.1 x.2.1 x.2.2.1 x.2.2.2
  | some (.inr r) => some r
theorem b_F_at {T : Tb} {d y pc : Nat} {L : Lc} {st : List Value} {σ : Sg} {f : Fn} (h : b_lk (T y) pc = some f) : b_F T d y pc L st σ = b_go T d y (f (b_M T d) L st σ) := by
  have e : ∀ n, b_fr (b_M T d) T y (n + 1) (pc, L, st, σ) = (match f (b_M T d) L st σ with
      | none => none
      | some (.inl x2) => b_fr (b_M T d) T y n x2
      | some (.inr r) => some r) := fun n => by
    show (match b_lk (T y) pc with
      | none => none
      | some f => match f (b_M T d) L st σ with
        | none => none
        | some (.inl x2) => b_fr (b_M T d) T y n x2
        | some (.inr r) => some r) = _
    rw [h]
  unfold b_go
  cases hf : f (b_M T d) L st σ with
  | none =>
    refine b_lim_none fun n => ?_
    cases n with
    | zero => rfl
    | succ n => rw [e n, hf]
  | some q =>
    cases q with
    | inr r => exact b_lim_some (n := 1) (by rw [e 0, hf])
    | inl x2 =>
      show b_lim _ T y _ = b_lim _ T y x2
      cases hx : b_lim (b_M T d) T y x2 with
      | some r =>
        obtain ⟨n, hn⟩ := b_lim_of hx
        exact b_lim_some (n := n + 1) (by rw [e n, hf]; exact hn)
      | none =>
        refine b_lim_none fun n => ?_
        cases n with
        | zero => rfl
        | succ n =>
          rw [e n, hf]
          cases hn : b_fr (b_M T d) T y n x2 with
          | none => exact hn
          | some r => rw [b_lim_some hn] at hx; cases hx
/-! the heap's laws -/
theorem tg_pt {σ : Sg} {a k b : Nat} {v : Value} : b_tg (b_pt σ a k v) b = b_tg σ b := by
  unfold b_tg b_pt
  dsimp only
  split <;> rfl
theorem ln_pt {σ : Sg} {a k b : Nat} {v : Value} : b_ln (b_pt σ a k v) b = b_ln σ b := by
  unfold b_ln b_pt
  dsimp only
  split <;> rfl
theorem vl_pt {σ : Sg} {a k b j : Nat} {v : Value} : b_vl (b_pt σ a k v) b j = if b = a then (if j = k then v else b_vl σ b j) else b_vl σ b j := by
  unfold b_vl b_pt
  dsimp only
  split <;> rfl
theorem tg_st {σ : Sg} {a b : Nat} {f : Nat → Value} : b_tg (b_st σ a f) b = b_tg σ b := by
  unfold b_tg b_st
  dsimp only
  split <;> rfl
theorem ln_st {σ : Sg} {a b : Nat} {f : Nat → Value} : b_ln (b_st σ a f) b = b_ln σ b := by
  unfold b_ln b_st
  dsimp only
  split <;> rfl
theorem vl_st {σ : Sg} {a b j : Nat} {f : Nat → Value} : b_vl (b_st σ a f) b j = if b = a then f j else b_vl σ b j := by
  unfold b_vl b_st
  dsimp only
  split <;> rfl
theorem tg_nw {σ : Sg} {t n b : Nat} {f : Nat → Value} : b_tg (b_nw σ t n f) b = if b = σ.1 then t else b_tg σ b := by
  unfold b_tg b_nw
  dsimp only
  split <;> rfl
theorem ln_nw {σ : Sg} {t n b : Nat} {f : Nat → Value} : b_ln (b_nw σ t n f) b = if b = σ.1 then n else b_ln σ b := by
  unfold b_ln b_nw
  dsimp only
  split <;> rfl
theorem vl_nw {σ : Sg} {t n b j : Nat} {f : Nat → Value} : b_vl (b_nw σ t n f) b j = if b = σ.1 then f j else b_vl σ b j := by
  unfold b_vl b_nw
  dsimp only
  split <;> rfl
theorem pt_1 {σ : Sg} {a k : Nat} {v : Value} : (b_pt σ a k v).1 = σ.1 := rfl
theorem st_1 {σ : Sg} {a : Nat} {f : Nat → Value} : (b_st σ a f).1 = σ.1 := rfl
theorem nw_1 {σ : Sg} {t n : Nat} {f : Nat → Value} : (b_nw σ t n f).1 = σ.1 + 1 := rfl
theorem st_self {σ : Sg} {a : Nat} : b_st σ a (b_vl σ a) = σ := by
  unfold b_st b_vl
  obtain ⟨x, y, z, h⟩ := σ
  simp only [Prod.mk.injEq, true_and]
  funext b
  split
  · next e => subst e; rfl
  · rfl
theorem pt_st {σ : Sg} {a k : Nat} {v : Value} {f : Nat → Value} : b_pt (b_st σ a f) a k v = b_st σ a (fun j => if j = k then v else f j) := by
  unfold b_pt b_st
  simp only [Prod.mk.injEq, true_and]
  funext b
  split <;> rfl
theorem st_st {σ : Sg} {a : Nat} {f g : Nat → Value} : b_st (b_st σ a f) a g = b_st σ a g := by
  unfold b_st
  simp only [Prod.mk.injEq, true_and]
  funext b
  split <;> rfl
theorem pt_eq_st {σ : Sg} {a k : Nat} {v : Value} : b_pt σ a k v = b_st σ a (fun j => if j = k then v else b_vl σ a j) := by
  unfold b_pt b_st b_vl
  simp only [Prod.mk.injEq, true_and]
  funext b
  split
  · next e => subst e; rfl
  · rfl
theorem st_comm {σ : Sg} {a b : Nat} {f g : Nat → Value} (h : a ≠ b) : b_st (b_st σ a f) b g = b_st (b_st σ b g) a f := by
  unfold b_st
  simp only [Prod.mk.injEq, true_and]
  funext q
  by_cases h1 : q = a
  · subst h1
    simp [h]
  · by_cases h2 : q = b
    · subst h2
      simp [h1]
    · simp [h1, h2]
theorem pt_st_ne {σ : Sg} {a b k : Nat} {v : Value} {f : Nat → Value} (h : b ≠ a) : b_pt (b_st σ a f) b k v = b_st (b_pt σ b k v) a f := by
  have e : (fun j => if j = k then v else b_vl (b_st σ a f) b j) = fun j => if j = k then v else b_vl σ b j := funext fun j => by rw [vl_st, if_neg h]
  rw [pt_eq_st, pt_eq_st, st_comm (Ne.symm h), e]
theorem vi_vI {x : Int} : b_vi (vI x) = w32 x := rfl
theorem vlg_vL {x : Int} : b_vlg (vL x) = w64 x := rfl
theorem w32_lo (x : Int) : -2147483648 ≤ w32 x := Int32.minValue_le_toInt _
theorem w32_hi (x : Int) : w32 x ≤ 2147483647 := by
  have := Int32.toInt_lt (Int32.ofInt x)
  unfold w32
  omega
theorem w32_id {x : Int} (h1 : -2147483648 ≤ x) (h2 : x ≤ 2147483647) : w32 x = x := by
  unfold w32
  rw [Int32.toInt_ofInt]
  exact Int.bmod_eq_of_le (by unfold Int32.size; omega) (by unfold Int32.size; omega)
theorem w64_id {x : Int} (h1 : -9223372036854775808 ≤ x) (h2 : x ≤ 9223372036854775807) : w64 x = x := by
  unfold w64
  rw [Int64.toInt_ofInt]
  exact Int.bmod_eq_of_le (by unfold Int64.size; omega) (by unfold Int64.size; omega)
theorem vi_lo (v : Value) : -2147483648 ≤ b_vi v := by
  cases v <;> simp only [b_vi] <;> first | exact Int32.minValue_le_toInt _ | omega
theorem vi_hi (v : Value) : b_vi v ≤ 2147483647 := by
  cases v <;> simp only [b_vi] <;> first | (have := Int32.toInt_lt ‹Int32›; omega) | omega
theorem w32_vi (v : Value) : w32 (b_vi v) = b_vi v := w32_id (vi_lo v) (vi_hi v)
theorem w32_ia (σ : Sg) (a k : Nat) : w32 (b_ia σ a k) = b_ia σ a k := w32_vi _
theorem w32_w32 (x : Int) : w32 (w32 x) = w32 x := w32_id (w32_lo x) (w32_hi x)
theorem vI_w32 (x : Int) : vI (w32 x) = vI x := by
  unfold vI w32
  rw [Int32.ofInt_toInt]
theorem vL_w64 (x : Int) : vL (w64 x) = vL x := by
  unfold vL w64
  rw [Int64.ofInt_toInt]
theorem vI_cat (x : Int) : (vI x).category = 1 := rfl
theorem vL_cat (x : Int) : (vL x).category = 2 := rfl
theorem ent_nil : b_ent [] = [] := rfl
theorem ent_I {x : Int} {vs : List Value} : b_ent (vI x :: vs) = vI x :: b_ent vs := rfl
theorem ent_R {a : Nat} {vs : List Value} : b_ent (.ref a :: vs) = .ref a :: b_ent vs := rfl
theorem ent_N {vs : List Value} : b_ent (.null :: vs) = .null :: b_ent vs := rfl
theorem ent_H {vs : List Value} : b_ent (b_hl :: vs) = b_hl :: b_ent vs := rfl
theorem ent_L {x : Int} {vs : List Value} : b_ent (vL x :: vs) = vL x :: b_h2 :: b_ent vs := rfl
theorem set_at : ∀ (i : Nat) (L : Lc) (v : Value) (j : Nat), (b_set i L v)[j]? = if j = i then some v else if j < i then some (L[j]?.getD b_hl) else L[j]?
  | 0, L, v, j => by
    unfold b_set
    cases j with
    | zero => simp
    | succ j => cases L <;> simp
  | i + 1, L, v, j => by
    unfold b_set
    cases j with
    | zero => cases L <;> simp
    | succ j =>
      rw [List.getElem?_cons_succ, set_at i L.tail v j]
      cases L <;> simp
