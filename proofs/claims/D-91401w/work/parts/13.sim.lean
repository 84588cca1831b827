/-! ===== a run of the abstract machine is a run of the machine ===== -/
section B_SIM
variable {nm : Nat → MethodName} {bc : Nat → ByteArray} {mL : Nat → Nat} {rt : Nat → Option FieldType} {hh : Nat → List (Nat × Nat × Nat × Nat)} {T : Tb}
theorem b_fr_mo {g : Gm} (hT : ∀ (y pc : Nat) (f : Fn), b_lk (T y) pc = some f → b_MO f) (hg : b_gmo g) {y : Nat} : ∀ (n : Nat) (x : Nx) (r : Rs), b_fr g T y n x = some r → x.2.2.2.2.1 ≤ r.2.2.1 ∧ x.2.2.2.2.2.1 ≤ r.2.2.2.1
  | 0, x, r, h => by cases h
  | n + 1, x, r, h => by
    unfold b_fr at h
    cases hl : b_lk (T y) x.1 with
    | none => rw [hl] at h; cases h
    | some f =>
      rw [hl] at h
      dsimp only at h
      cases hf : f g x.2.1 x.2.2.1 x.2.2.2 with
      | none => rw [hf] at h; cases h
      | some q =>
        rw [hf] at h
        have h1 := hT y x.1 f hl g hg _ _ _ _ hf
        cases q with
        | inl x2 =>
          have h2 := b_fr_mo hT hg n x2 r h
          exact ⟨Nat.le_trans h1.1 h2.1, Nat.le_trans h1.2 h2.2⟩
        | inr r2 =>
          cases h
          exact h1
theorem b_M_mo (hT : ∀ (y pc : Nat) (f : Fn), b_lk (T y) pc = some f → b_MO f) : ∀ d, b_gmo (b_M T d)
  | 0 => fun y As σ out σ' h => by cases h
  | d + 1 => fun y As σ out σ' h => by
    obtain ⟨n, hn⟩ := b_lim_of (show b_lim (b_M T d) T y (0, b_ent As, [], σ) = some (out, σ') from h)
    exact b_fr_mo hT (b_M_mo hT d) n _ _ hn
theorem b_Kn_grow {y : Nat} {p : Program} {l : Launch} {e : Env} {R : Room} {s : State} {m : MethodId} {args : Array Value} {below : List Frame} {meth : Method} {c : Code} {D : va_G} {tys : List (ClassId × FieldType)} {z : Nat} {wsE : List Nat} {ws ws1 : va_W} {Q : State → Prop} {c0 s0 : Nat} {r : Rs}
    (hp : b_G wsE ws <+: b_G wsE ws1) (h : b_Kn bc mL rt y p l e R s m args below meth c D tys z wsE ws Q c0 s0 (.inr r)) : b_Kn bc mL rt y p l e R s m args below meth c D tys z wsE ws1 Q c0 s0 (.inr r) := by
  obtain ⟨out, σ'⟩ := r
  cases out with
  | inl v => exact fun pc i ws' H' locs' ls' w cells' slots' a1 a2 a3 => h pc i ws' H' locs' ls' w cells' slots' a1 a2 (hp.trans a3)
  | inr a => exact fun pc ws' H' locs' ls' rest cells' slots' q r ce a1 => h pc ws' H' locs' ls' rest cells' slots' q r ce (hp.trans a1)
theorem b_sim (hT : ∀ (y pc : Nat) (f : Fn), b_lk (T y) pc = some f → b_OK nm bc mL rt hh T y pc f) {y d : Nat} {p : Program} {l : Launch} {e : Env} {R : Room} {s : State} {m : MethodId} {args : Array Value} {below : List Frame} {meth : Method} {c : Code} {D : va_G} {tys : List (ClassId × FieldType)} {z : Nat} {wsE : List Nat}
    (ih : ∀ y, b_Ctr nm bc mL rt hh T l d y) (hc : b_Cx nm bc mL rt hh y d p l R s m args meth c D tys z wsE) {Q : State → Prop} {c0 s0 : Nat} :
    ∀ (n pc : Nat) (L : Lc) (st : List Value) (σ : Sg) (r : Rs), b_fr (b_M T d) T y n (pc, L, st, σ) = some r → ∀ (ws : va_W) (H : Heap) (locs : List Loc) (ls : Array Slot) (mst : List Value) (cells slots : Nat),
    b_Hr D tys z wsE ws s σ H locs → b_Lr (b_G wsE ws) L ls (mL y) → VRs (b_G wsE ws) st mst → cells + c0 = σ.2.1 → slots + s0 = σ.2.2.1 → r.2.2.1 ≤ R.cells + c0 → r.2.2.2.1 ≤ R.slots + s0 →
    b_Kn bc mL rt y p l e R s m args below meth c D tys z wsE ws Q c0 s0 (.inr r) → W p l e R s m args below meth c H locs cells slots Q (F0 m pc ls mst)
  | 0, pc, L, st, σ, r, h => by cases h
  | n + 1, pc, L, st, σ, r, h => by
    intro ws H locs ls mst cells slots hH hL hV hcl hsl hcb hsb hK
    have hMO : ∀ (y pc : Nat) (f : Fn), b_lk (T y) pc = some f → b_MO f := fun y pc f h => (hT y pc f h).1
    unfold b_fr at h
    dsimp only at h
    cases hl : b_lk (T y) pc with
    | none => rw [hl] at h; cases h
    | some f =>
      rw [hl] at h
      dsimp only at h
      cases hf : f (b_M T d) L st σ with
      | none => rw [hf] at h; cases h
      | some q =>
        rw [hf] at h
        have ok := (hT y pc f hl).2 d p l e R s m args below meth c D tys z wsE ⟨b_M_mo hMO d, ih⟩ hc Q c0 s0 L st σ ws H locs ls mst cells slots hH hL hV hcl hsl q hf
        cases q with
        | inl x2 =>
          obtain ⟨pc2, L2, st2, σ2⟩ := x2
          have hm := b_fr_mo hMO (b_M_mo hMO d) n _ _ h
          refine ok (Nat.le_trans hm.1 hcb) (Nat.le_trans hm.2 hsb) ?_
          intro ws' H' locs' ls' mst' cells' slots' hp hH' hL' hV' hcl' hsl'
          exact b_sim hT ih hc n pc2 L2 st2 σ2 r h ws' H' locs' ls' mst' cells' slots' hH' hL' hV' hcl' hsl' hcb hsb (b_Kn_grow hp hK)
        | inr r2 =>
          cases h
          exact ok hcb hsb hK
theorem lg_sl_len : ∀ vs : List Value, (lg_sl vs).length = (vs.map fun v => v.category).sum
  | [] => rfl
  | v :: vs => by
    have ih := lg_sl_len vs
    unfold lg_sl at ih ⊢
    rw [List.flatMap_cons, List.length_append, List.map_cons, List.sum_cons, ih]
    rcases lv_cat v with h | h <;> rw [h] <;> simp
theorem b_ent_lre {G : List Nat} : ∀ (As mAs : List Value) (i : Nat), VRs G As mAs → ∀ (j : Nat) (v : Value), (b_ent As)[j]? = some v → v = b_hl ∨ v = b_h2 ∨ (v.category = 2 ∧ (b_ent As)[j + 1]? ≠ some b_h2) ∨ ∃ w, VR G v w ∧ (i + j, w) ∈ lv_args i mAs
  | [], [], i, _, j, v, h => by simp [b_ent] at h
  | [], _ :: _, _, h, _, _, _ => h.elim
  | _ :: _, [], _, h, _, _, _ => h.elim
  | a :: As, w :: mAs, i, hV, j, v, h => by
    have hc := VR_cat hV.1
    unfold b_ent at h ⊢
    unfold lv_args
    by_cases h2 : a.category = 2
    · rw [if_pos h2] at h ⊢
      rw [if_pos (by rw [hc]; exact h2)]
      cases j with
      | zero =>
        cases h
        exact Or.inr (Or.inr (Or.inr ⟨w, hV.1, List.mem_cons_self⟩))
      | succ j =>
        cases j with
        | zero =>
          cases h
          exact Or.inr (Or.inl rfl)
        | succ j =>
          have h3 : (b_ent As)[j]? = some v := h
          rcases b_ent_lre As mAs (i + 2) hV.2 j v h3 with q | q | q | ⟨w', q1, q2⟩
          · exact Or.inl q
          · exact Or.inr (Or.inl q)
          · exact Or.inr (Or.inr (Or.inl q))
          · exact Or.inr (Or.inr (Or.inr ⟨w', q1, List.mem_cons_of_mem _ (by rw [show i + (j + 1 + 1) = i + 2 + j by omega]; exact q2)⟩))
    · rw [if_neg h2] at h ⊢
      rw [if_neg (by rw [hc]; exact h2)]
      cases j with
      | zero =>
        cases h
        exact Or.inr (Or.inr (Or.inr ⟨w, hV.1, List.mem_cons_self⟩))
      | succ j =>
        have h3 : (b_ent As)[j]? = some v := h
        rcases b_ent_lre As mAs (i + 1) hV.2 j v h3 with q | q | q | ⟨w', q1, q2⟩
        · exact Or.inl q
        · exact Or.inr (Or.inl q)
        · exact Or.inr (Or.inr (Or.inl q))
        · exact Or.inr (Or.inr (Or.inr ⟨w', q1, List.mem_cons_of_mem _ (by rw [show i + (j + 1) = i + 1 + j by omega]; exact q2)⟩))
theorem b_entry {G : List Nat} {As mAs : List Value} {n : Nat} (hV : VRs G As mAs) (hn : (As.map fun v => v.category).sum ≤ n) : b_Lr G (b_ent As) ((lg_sl mAs ++ List.replicate (n - (lg_sl mAs).length) Slot.unset).toArray) n := by
  refine ⟨lv_args 0 mAs, lv_entry mAs (by rw [lg_sl_len, VRs_cats hV]; exact hn), fun i v h => ?_⟩
  have := b_ent_lre As mAs 0 hV i v h
  rwa [Nat.zero_add] at this
theorem b_Hr_lt {D : va_G} {tys : List (ClassId × FieldType)} {z : Nat} {wsE : List Nat} {ws : va_W} {s : State} {σ : Sg} {H : Heap} {locs : List Loc} (h : b_Hr D tys z wsE ws s σ H locs) : ∀ q ∈ locs, b_A z q.base := h.2.2.1.2.2
end B_SIM
