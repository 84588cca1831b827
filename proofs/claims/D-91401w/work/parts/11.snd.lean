/-! ===== abstract values and the machine's ===== -/
/-- G says where each abstract address lies; .float 2: a reference of which nothing is known; another .float: a value of one slot of which nothing is known -/
def VR (G : List Nat) (v w : Value) : Prop := match v with
  | .float x => if x = 2 then (w = .null ∨ ∃ b, w = .ref b) else w.category = 1
  | .ref a => ∃ b, G[a]? = some b ∧ w = .ref b
  | v => w = v
def VRs (G : List Nat) : List Value → List Value → Prop
  | [], [] => True
  | v :: vs, w :: ws => VR G v w ∧ VRs G vs ws
  | _, _ => False
theorem VRs_cons {G : List Nat} {v : Value} {st mst : List Value} (h : VRs G (v :: st) mst) : ∃ w m', mst = w :: m' ∧ VR G v w ∧ VRs G st m' := by
  cases mst with
  | nil => exact h.elim
  | cons w m' => exact ⟨w, m', rfl, h⟩
theorem VRs_mk {G : List Nat} {v w : Value} {st mst : List Value} (h1 : VR G v w) (h2 : VRs G st mst) : VRs G (v :: st) (w :: mst) := ⟨h1, h2⟩
theorem VRs_nil {G : List Nat} {mst : List Value} (h : VRs G [] mst) : mst = [] := by
  cases mst with
  | nil => rfl
  | cons w m' => exact h.elim
theorem VR_mono {G G' : List Nat} {v w : Value} (hp : G <+: G') (h : VR G v w) : VR G' v w := by
  cases v with
  | ref a =>
    obtain ⟨b, h1, h2⟩ := h
    obtain ⟨t, rfl⟩ := hp
    exact ⟨b, by rw [List.getElem?_append_left (List.getElem?_eq_some_iff.mp h1).1]; exact h1, h2⟩
  | _ => exact h
theorem VRs_mono {G G' : List Nat} (hp : G <+: G') : ∀ {vs ws : List Value}, VRs G vs ws → VRs G' vs ws
  | [], [], _ => trivial
  | _ :: _, _ :: _, h => ⟨VR_mono hp h.1, VRs_mono hp h.2⟩
  | [], _ :: _, h => h.elim
  | _ :: _, [], h => h.elim
theorem VR_cat {G : List Nat} {v w : Value} (h : VR G v w) : w.category = v.category := by
  cases v with
  | float x =>
    unfold VR at h
    dsimp only at h
    split at h
    · rcases h with rfl | ⟨b, rfl⟩ <;> rfl
    · exact h
  | ref a => obtain ⟨b, -, rfl⟩ := h; rfl
  | int x => cases h; rfl
  | long x => cases h; rfl
  | double x => cases h; rfl
  | null => cases h; rfl
  | retAddr x => cases h; rfl
theorem VRs_len {G : List Nat} : ∀ {vs ws : List Value}, VRs G vs ws → vs.length = ws.length
  | [], [], _ => rfl
  | _ :: _, _ :: _, h => by rw [List.length_cons, List.length_cons, VRs_len h.2]
  | [], _ :: _, h => h.elim
  | _ :: _, [], h => h.elim
theorem VRs_cats {G : List Nat} : ∀ {vs ws : List Value}, VRs G vs ws → (ws.map fun v => v.category).sum = (vs.map fun v => v.category).sum
  | [], [], _ => rfl
  | _ :: _, _ :: _, h => by rw [List.map_cons, List.map_cons, List.sum_cons, List.sum_cons, VR_cat h.1, VRs_cats h.2]
  | [], _ :: _, h => h.elim
  | _ :: _, [], h => h.elim
theorem VRs_app {G : List Nat} : ∀ {vs ws vs' ws' : List Value}, VRs G vs ws → VRs G vs' ws' → VRs G (vs ++ vs') (ws ++ ws')
  | [], [], _, _, _, h' => h'
  | _ :: _, _ :: _, _, _, h, h' => ⟨h.1, VRs_app h.2 h'⟩
  | [], _ :: _, _, _, h, _ => h.elim
  | _ :: _, [], _, _, h, _ => h.elim
theorem VRs_split {G : List Nat} : ∀ {vs vs' ws : List Value}, VRs G (vs ++ vs') ws → ∃ w1 w2, ws = w1 ++ w2 ∧ VRs G vs w1 ∧ VRs G vs' w2
  | [], _, ws, h => ⟨[], ws, rfl, trivial, h⟩
  | v :: vs, vs', ws, h => by
    obtain ⟨w, m', rfl, h1, h2⟩ := VRs_cons h
    obtain ⟨w1, w2, rfl, h3, h4⟩ := VRs_split h2
    exact ⟨w :: w1, w2, rfl, ⟨h1, h3⟩, h4⟩
theorem VRs_rev {G : List Nat} : ∀ {vs ws : List Value}, VRs G vs ws → VRs G vs.reverse ws.reverse
  | [], [], _ => trivial
  | _ :: _, _ :: _, h => by
    rw [List.reverse_cons, List.reverse_cons]
    exact VRs_app (VRs_rev h.2) ⟨h.1, trivial⟩
  | [], _ :: _, h => h.elim
  | _ :: _, [], h => h.elim
/-! the locals -/
def b_Lre (G : List Nat) (L : Lc) (lv : List (Nat × Value)) : Prop := ∀ (i : Nat) (v : Value), L[i]? = some v → v = b_hl ∨ v = b_h2 ∨ (v.category = 2 ∧ L[i + 1]? ≠ some b_h2) ∨ ∃ w, VR G v w ∧ (i, w) ∈ lv
def b_Lr (G : List Nat) (L : Lc) (ls : Array Slot) (nL : Nat) : Prop := ∃ lv, lv_has ls nL lv ∧ b_Lre G L lv
theorem Lr_mono {G G' : List Nat} (hp : G <+: G') {L : Lc} {ls : Array Slot} {nL : Nat} (h : b_Lr G L ls nL) : b_Lr G' L ls nL := by
  obtain ⟨lv, h1, h2⟩ := h
  refine ⟨lv, h1, fun i v hv => ?_⟩
  rcases h2 i v hv with h | h | h | ⟨w, h3, h4⟩
  · exact Or.inl h
  · exact Or.inr (Or.inl h)
  · exact Or.inr (Or.inr (Or.inl h))
  · exact Or.inr (Or.inr (Or.inr ⟨w, VR_mono hp h3, h4⟩))
theorem Lr_get {G : List Nat} {L : Lc} {ls : Array Slot} {nL i : Nat} {v : Value} (h : b_Lr G L ls nL) (hi : L[i]? = some v) (h1 : v ≠ b_hl) (h2 : v ≠ b_h2) (h3 : v.category = 1 ∨ L[i + 1]? = some b_h2) : ∃ w, VR G v w ∧ ls[i]? = some (.val w) := by
  obtain ⟨lv, ha, hb⟩ := h
  rcases hb i v hi with h | h | ⟨h, h'⟩ | ⟨w, h4, h5⟩
  · exact absurd h h1
  · exact absurd h h2
  · rcases h3 with h3 | h3
    · rw [h] at h3; cases h3
    · exact absurd h3 h'
  · exact ⟨w, h4, ha.2.2 (i, w) h5⟩
theorem Lr_set1 {G : List Nat} {L : Lc} {lv lv' : List (Nat × Value)} {ls : Array Slot} {nL i : Nat} {v w : Value} (h : b_Lre G L lv) (hv : VR G v w) (hc : w.category = 1) (hv2 : v ≠ b_h2)
    (he : (i, w) :: lv.filter (fun q => !(q.1 == i) && !(q.1 + 1 == i && q.2.category == 2)) = lv') (hl : lv_has ls nL lv') : b_Lr G (b_set i L v) ls nL := by
  refine ⟨lv', hl, fun j x hx => ?_⟩
  rw [set_at] at hx
  by_cases hj : j = i
  · rw [if_pos hj] at hx
    cases hx
    exact Or.inr (Or.inr (Or.inr ⟨w, hv, by rw [← he, hj]; exact List.mem_cons_self⟩))
  · rw [if_neg hj] at hx
    have old : L[j]? = some x → x = b_hl ∨ x = b_h2 ∨ (x.category = 2 ∧ (b_set i L v)[j + 1]? ≠ some b_h2) ∨ ∃ w, VR G x w ∧ (j, w) ∈ lv' := by
      intro hx
      rcases h j x hx with h1 | h1 | ⟨h1, h2⟩ | ⟨w', h1, h2⟩
      · exact Or.inl h1
      · exact Or.inr (Or.inl h1)
      · refine Or.inr (Or.inr (Or.inl ⟨h1, fun q => ?_⟩))
        rw [set_at] at q
        split at q
        · cases q; exact hv2 rfl
        · split at q
          · cases hq : L[j + 1]? with
            | none => rw [hq] at q; exact absurd (Option.some.inj q) (by intro z; exact absurd z (by simp [b_hl, b_h2]))
            | some y => rw [hq] at q; exact h2 (by rw [hq]; exact q)
          · exact h2 q
      · by_cases hc2 : j + 1 = i ∧ w'.category = 2
        · refine Or.inr (Or.inr (Or.inl ⟨by rw [← VR_cat h1]; exact hc2.2, fun q => ?_⟩))
          rw [set_at, if_pos hc2.1] at q
          cases q
          exact hv2 rfl
        · refine Or.inr (Or.inr (Or.inr ⟨w', h1, ?_⟩))
          rw [← he]
          refine List.mem_cons_of_mem _ (List.mem_filter.mpr ⟨h2, ?_⟩)
          simp only [Bool.and_eq_true, Bool.not_eq_true', beq_eq_false_iff_ne, ne_eq]
          refine ⟨hj, ?_⟩
          by_cases hq : j + 1 = i
          · have : w'.category ≠ 2 := fun z => hc2 ⟨hq, z⟩
            simp [this]
          · simp [hq]
    split at hx
    · cases hL : L[j]? with
      | none => rw [hL] at hx; cases hx; exact Or.inl rfl
      | some y => rw [hL] at hx; exact old (by rw [hL]; exact hx)
    · exact old hx
theorem Lr_set2 {G : List Nat} {L : Lc} {lv lv' : List (Nat × Value)} {ls : Array Slot} {nL i : Nat} {v w : Value} (h : b_Lre G L lv) (hv : VR G v w) (hv2 : v ≠ b_h2)
    (he : (i, w) :: lv.filter (fun q => !(q.1 == i) && (!(q.1 == i + 1) && !(q.1 + 1 == i && q.2.category == 2))) = lv') (hl : lv_has ls nL lv') : b_Lr G (b_set (i + 1) (b_set i L v) b_h2) ls nL := by
  refine ⟨lv', hl, fun j x hx => ?_⟩
  rw [set_at] at hx
  by_cases hj1 : j = i + 1
  · rw [if_pos hj1] at hx
    cases hx
    exact Or.inr (Or.inl rfl)
  · rw [if_neg hj1] at hx
    have hx : (if j < i + 1 then some ((b_set i L v)[j]?.getD b_hl) else (b_set i L v)[j]?) = some x := hx
    rw [set_at] at hx
    by_cases hj : j = i
    · rw [if_pos hj, if_pos (by omega)] at hx
      cases hx
      exact Or.inr (Or.inr (Or.inr ⟨w, hv, by rw [← he, hj]; exact List.mem_cons_self⟩))
    · rw [if_neg hj] at hx
      have old : L[j]? = some x → x = b_hl ∨ x = b_h2 ∨ (x.category = 2 ∧ (b_set (i + 1) (b_set i L v) b_h2)[j + 1]? ≠ some b_h2) ∨ ∃ w, VR G x w ∧ (j, w) ∈ lv' := by
        intro hx
        rcases h j x hx with h1 | h1 | ⟨h1, h2⟩ | ⟨w', h1, h2⟩
        · exact Or.inl h1
        · exact Or.inr (Or.inl h1)
        · refine Or.inr (Or.inr (Or.inl ⟨h1, fun q => ?_⟩))
          rw [set_at, if_neg (by omega), set_at] at q
          by_cases hj2 : j + 1 = i
          · rw [if_pos hj2] at q
            split at q
            · cases q; exact hv2 rfl
            · cases q; exact hv2 rfl
          · rw [if_neg hj2] at q
            have key : ∀ o : Option Value, o = L[j + 1]? → (some (o.getD b_hl) : Option Value) = some b_h2 → False := by
              intro o ho z
              cases hq : L[j + 1]? with
              | none => rw [ho, hq] at z; exact absurd (Option.some.inj z) (by simp [b_hl, b_h2])
              | some y => rw [ho, hq] at z; exact h2 (by rw [hq]; exact z)
            split at q
            · split at q
              · exact key _ rfl (by simpa using q)
              · exact key _ rfl q
            · split at q
              · exact key _ rfl q
              · exact h2 q
        · by_cases hc2 : j + 1 = i ∧ w'.category = 2
          · refine Or.inr (Or.inr (Or.inl ⟨by rw [← VR_cat h1]; exact hc2.2, fun q => ?_⟩))
            rw [set_at, if_neg (by omega), if_pos (by omega), set_at, if_pos hc2.1] at q
            cases q
            exact hv2 rfl
          · refine Or.inr (Or.inr (Or.inr ⟨w', h1, ?_⟩))
            rw [← he]
            refine List.mem_cons_of_mem _ (List.mem_filter.mpr ⟨h2, ?_⟩)
            simp only [Bool.and_eq_true, Bool.not_eq_true', beq_eq_false_iff_ne, ne_eq]
            refine ⟨hj, hj1, ?_⟩
            by_cases hq : j + 1 = i
            · have : w'.category ≠ 2 := fun z => hc2 ⟨hq, z⟩
              simp [this]
            · simp [hq]
      have key : ∀ o : Option Value, o = L[j]? → (some (o.getD b_hl) : Option Value) = some x → x = b_hl ∨ x = b_h2 ∨ (x.category = 2 ∧ (b_set (i + 1) (b_set i L v) b_h2)[j + 1]? ≠ some b_h2) ∨ ∃ w, VR G x w ∧ (j, w) ∈ lv' := by
        intro o ho z
        cases hq : L[j]? with
        | none => rw [ho, hq] at z; cases z; exact Or.inl rfl
        | some y => rw [ho, hq] at z; exact old (by rw [hq]; exact z)
      split at hx
      · split at hx
        · exact key _ rfl (by simpa using hx)
        · exact key _ rfl hx
      · split at hx
        · exact key _ rfl hx
        · exact old hx
