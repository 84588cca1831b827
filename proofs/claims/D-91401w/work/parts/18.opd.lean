/-! ===== instructions that write the heap, or make cells (printed by gen/mkopd.py) ===== -/
set_option maxRecDepth 100000
theorem b_tyk : ∀ (ci : Nat) (r : vw_C), b_cl[ci]? = some r → ∃ ty0 : Nat → FieldType, ∀ k, k < r.2.2 → parseFieldDescriptor (r.2.1 k).2.2.1 = some (ty0 k) := by
  intro ci r h
  match ci, h with
  | 0, h => cases h; exact ⟨_, tyX0_ok⟩
  | 1, h => cases h; exact ⟨_, tyX1_ok⟩
  | 2, h => cases h; exact ⟨_, tyX2_ok⟩
  | 3, h => cases h; exact ⟨_, tyX3_ok⟩
  | 4, h => cases h; exact ⟨_, tyX4_ok⟩
  | 5, h => cases h; exact ⟨_, tyX5_ok⟩
  | 6, h => cases h; exact ⟨_, tyX6_ok⟩
  | 7, h => cases h; exact ⟨_, tyX7_ok⟩
  | 8, h => cases h; exact ⟨_, tyX8_ok⟩
  | 9, h => cases h; exact ⟨_, tyX10_ok⟩
  | 10, h => cases h; exact ⟨_, tyX11_ok⟩
  | 11, h => cases h; exact ⟨_, tyX12_ok⟩
  | 12, h => cases h; exact ⟨_, tyX14_ok⟩
  | 13, h => cases h; exact ⟨_, tyX15_ok⟩
  | 14, h => cases h; exact ⟨_, tyX16_ok⟩
  | 15, h => cases h; exact ⟨_, tyX17_ok⟩
  | 16, h => cases h; exact ⟨_, tyX18_ok⟩
  | 17, h => cases h; exact ⟨_, tyJ3_ok⟩
  | 18, h => cases h; exact ⟨_, tyJ9_ok⟩
  | 19, h => cases h; exact ⟨_, tyJ14_ok⟩
  | 20, h => cases h; exact ⟨fun _ => .int, fun k hk => absurd hk (Nat.not_lt_zero k)⟩
  | 21, h => cases h; exact ⟨fun _ => .int, fun k hk => absurd hk (Nat.not_lt_zero k)⟩
  | 22, h => cases h; exact ⟨fun _ => .int, fun k hk => absurd hk (Nat.not_lt_zero k)⟩
  | 23, h => cases h; exact ⟨fun _ => .int, fun k hk => absurd hk (Nat.not_lt_zero k)⟩
  | n + 24, h => simp [b_cl] at h
theorem b_nmk : ∀ (ci : Nat) (r : vw_C), b_cl[ci]? = some r → ∀ a, a < r.2.2 → ∀ b, b < r.2.2 → a ≠ b → (r.2.1 a).2.1 ≠ (r.2.1 b).2.1 := by
  intro ci r h
  match ci, h with
  | 0, h => cases h; exact nmX0
  | 1, h => cases h; exact nmX1
  | 2, h => cases h; exact nmX2
  | 3, h => cases h; exact nmX3
  | 4, h => cases h; exact nmX4
  | 5, h => cases h; exact nmX5
  | 6, h => cases h; exact nmX6
  | 7, h => cases h; exact nmX7
  | 8, h => cases h; exact nmX8
  | 9, h => cases h; exact nmX10
  | 10, h => cases h; exact nmX11
  | 11, h => cases h; exact nmX12
  | 12, h => cases h; exact nmX14
  | 13, h => cases h; exact nmX15
  | 14, h => cases h; exact nmX16
  | 15, h => cases h; exact nmX17
  | 16, h => cases h; exact nmX18
  | 17, h => cases h; exact nmJ3
  | 18, h => cases h; exact nmJ9
  | 19, h => cases h; exact nmJ14
  | 20, h => cases h; exact fun a ha => absurd ha (Nat.not_lt_zero a)
  | 21, h => cases h; exact fun a ha => absurd ha (Nat.not_lt_zero a)
  | 22, h => cases h; exact fun a ha => absurd ha (Nat.not_lt_zero a)
  | 23, h => cases h; exact fun a ha => absurd ha (Nat.not_lt_zero a)
  | n + 24, h => simp [b_cl] at h
theorem b_G_set {wsE : List Nat} {ws : va_W} {q0 b : Nat} {e0 e : va_E} (h : ws[q0]? = some (b, e0)) : b_G wsE (ws.set q0 (b, e)) = b_G wsE ws := by
  unfold b_G
  rw [List.map_set]
  congr 1
  apply List.ext_getElem?
  intro i
  by_cases hi : q0 = i
  · subst hi
    rw [List.getElem?_set_self (by rw [List.length_map]; exact (List.getElem?_eq_some_iff.mp h).1), List.getElem?_map, h]
    rfl
  · rw [List.getElem?_set_ne hi]
section B_WRS
variable {D : va_G} {tys : List (ClassId × FieldType)} {z : Nat} {wsE : List Nat} {ws : va_W} {s : State} {σ σ' : Sg} {H H1 : Heap} {locs locs1 : List Loc} {args : Array Value}
theorem b_ext_kept (hW : b_Wd D tys z wsE s) (hS : va_S (b_A z) s.heap H locs) (hS1 : va_S (b_A z) s.heap H1 locs1) {a q : Nat} (h : wsE[a]? = some q) (hne : a ≠ 41) : H1[q]? = H[q]? := by
  obtain ⟨hz, hlt, -⟩ := hW.2.2.2.2.2.1
  have h1 : q < z := hlt a q h hne
  have h2 : ¬ b_A z q := fun q' => absurd (show z ≤ q from q') (by omega)
  rw [hS1.2.1 q (by omega) h2, hS.2.1 q (by omega) h2]
/-- one entry of the world is written -/
theorem b_Hr_put (hW : b_Wd D tys z wsE s) (hH : b_Hr D tys z wsE ws s σ H locs) {a b : Nat} {e0 e : va_E} (ha : b_E ≤ a) (he : ws[a - b_E]? = some (b, e0)) (hP : va_P D b_cl (ws.set (a - b_E) (b, e)) H1) (hD : va_D (b_A z) (ws.set (a - b_E) (b, e))) (hS : va_S (b_A z) s.heap H1 locs1)
    (h1 : σ'.1 = σ.1) (ho : ∀ a', a' ≠ a → σ'.2.2.2 a' = σ.2.2.2 a') (hC : b_CR (b_G wsE ws) tys (σ'.2.2.2 a) e) : b_Hr D tys z wsE (ws.set (a - b_E) (b, e)) s σ' H1 locs1 := by
  obtain ⟨-, -, g3, g4, g5, g6⟩ := hH
  have hG := b_G_set (wsE := wsE) (e := e) he
  have hl := (List.getElem?_eq_some_iff.mp he).1
  refine ⟨hP, hD, hS, by rw [h1, List.length_set]; exact g4, fun k q hk => ?_, fun a' q hq => ?_⟩
  · rw [hG]
    by_cases hka : k = a - b_E
    · subst hka
      rw [List.getElem?_set_self hl] at hk
      cases hk
      rw [show b_E + (a - b_E) = a by omega]
      exact hC
    · rw [List.getElem?_set_ne (Ne.symm hka)] at hk
      rw [ho _ (by omega)]
      exact g5 k q hk
  · rw [hG]
    have hE : wsE.length = b_E := hW.2.2.2.2.2.1.2.2.1
    have hl2 := (List.getElem?_eq_some_iff.mp hq).1
    rw [ho a' (by omega)]
    exact (g6 a' q hq).kept (b_ext_kept hW g3 hS hq)
/-- an entry is added -/
theorem b_Hr_new (hW : b_Wd D tys z wsE s) (hH : b_Hr D tys z wsE ws s σ H locs) {b : Nat} {e : va_E} (hP : va_P D b_cl (ws ++ [(b, e)]) H1) (hD : va_D (b_A z) (ws ++ [(b, e)])) (hS : va_S (b_A z) s.heap H1 locs1)
    (h1 : σ'.1 = σ.1 + 1) (ho : ∀ a', a' ≠ σ.1 → σ'.2.2.2 a' = σ.2.2.2 a') (hC : b_CR (b_G wsE (ws ++ [(b, e)])) tys (σ'.2.2.2 σ.1) e) : b_Hr D tys z wsE (ws ++ [(b, e)]) s σ' H1 locs1 ∧ b_G wsE ws <+: b_G wsE (ws ++ [(b, e)]) ∧ (b_G wsE (ws ++ [(b, e)]))[σ.1]? = some b := by
  obtain ⟨-, -, g3, g4, g5, g6⟩ := hH
  have hE : wsE.length = b_E := hW.2.2.2.2.2.1.2.2.1
  have hpre : b_G wsE ws <+: b_G wsE (ws ++ [(b, e)]) := ⟨[b], by unfold b_G; rw [List.map_append, List.append_assoc]; rfl⟩
  refine ⟨⟨hP, hD, hS, by rw [h1, g4, List.length_append]; rfl, fun k q hk => ?_, fun a' q hq => ?_⟩, hpre, ?_⟩
  · by_cases hk2 : k < ws.length
    · rw [List.getElem?_append_left hk2] at hk
      rw [ho _ (by omega)]
      exact (g5 k q hk).grow hpre
    · rw [List.getElem?_append_right (by omega)] at hk
      have hz : k - ws.length < 1 := (List.getElem?_eq_some_iff.mp hk).1
      have hk0 : k = ws.length := by omega
      subst hk0
      rw [Nat.sub_self] at hk
      cases hk
      rw [← g4]
      exact hC
  · have hl2 := (List.getElem?_eq_some_iff.mp hq).1
    rw [ho a' (by omega)]
    exact ((g6 a' q hq).grow hpre).kept (b_ext_kept hW g3 hS hq)
  · unfold b_G
    rw [List.getElem?_append_right (by omega), hE, g4, List.map_append, List.getElem?_append_right (by rw [List.length_map]; omega), List.length_map, show b_E + ws.length - b_E - ws.length = 0 by omega]
    rfl
/-- the entry of an object, of an array, by the tag -/
theorem b_ent_o (hW : b_Wd D tys z wsE s) (hH : b_Hr D tys z wsE ws s σ H locs) {a b ci : Nat} {r : vw_C} (hb : (b_G wsE ws)[a]? = some b) (ha : b_E ≤ a) (ht : (σ.2.2.2 a).1 = ci + 1) (hr : b_cl[ci]? = some r) :
    ∃ fs, ws[a - b_E]? = some (b, .inr (ci, fs)) ∧ fs.length = r.2.2 ∧ ∀ k, k < r.2.2 → ∃ ty, parseFieldDescriptor (r.2.1 k).2.2.1 = some ty ∧ VRt (b_G wsE ws) ty ((σ.2.2.2 a).2.2 k) (fs.getD k .null) := by
  obtain ⟨e, he⟩ := b_Gw hW.2.2.2.2.2.1.2.2.1 hb ha
  have h7 := hH.2.2.2.2.1 _ _ he
  rw [show b_E + (a - b_E) = a by omega] at h7
  have hl := b_clL hr
  rcases h7 with h7 | h7
  · omega
  · cases e with
    | inl x =>
      obtain ⟨t, ty, q1, q2, q3, -⟩ := h7
      omega
    | inr x =>
      obtain ⟨ci', fs⟩ := x
      obtain ⟨r', q1, q2, q3, q4, q5⟩ := h7
      have : ci' = ci := by omega
      subst this
      cases q3.symm.trans hr
      exact ⟨fs, he, q4, q5⟩
theorem b_ent_a (hW : b_Wd D tys z wsE s) (hH : b_Hr D tys z wsE ws s σ H locs) {a b t : Nat} {ty : FieldType} (hb : (b_G wsE ws)[a]? = some b) (ha : b_E ≤ a) (ht : (σ.2.2.2 a).1 = 100 + t) (hty : b_tyL[t]? = some ty) :
    ∃ cA x, ws[a - b_E]? = some (b, .inl (cA, x)) ∧ tys[t]? = some (cA, ty) ∧ (σ.2.2.2 a).2.1 = x.1 ∧ x.1 < 2147483648 ∧ b_KO ty x ∧ ∀ j, j < x.1 → VRt (b_G wsE ws) ty ((σ.2.2.2 a).2.2 j) (b_arr x j) := by
  obtain ⟨e, he⟩ := b_Gw hW.2.2.2.2.2.1.2.2.1 hb ha
  have h7 := hH.2.2.2.2.1 _ _ he
  rw [show b_E + (a - b_E) = a by omega] at h7
  rcases h7 with h7 | h7
  · omega
  · cases e with
    | inl x =>
      obtain ⟨cA, x⟩ := x
      obtain ⟨t', ty', q1, q2, q3, q4, q5, q6, q7⟩ := h7
      have : t' = t := by omega
      subst this
      cases q1.symm.trans hty
      exact ⟨cA, x, he, q2, q4, q5, q6, q7⟩
    | inr x =>
      obtain ⟨r', q1, q2, -⟩ := h7
      omega
end B_WRS
section B_OPD
variable {nm : Nat → MethodName} {bc : Nat → ByteArray} {mL : Nat → Nat} {rt : Nat → Option FieldType} {hh : Nat → List (Nat × Nat × Nat × Nat)} {T : Tb} {y pc nx tgt d : Nat} {L : Lc} {st : List Value} {σ : Sg}
/-- a field of an object that the tables let one write: in a constructor of its own class, or not final -/
def b_FP (own : String) (idx ci k : Nat) (ty : FieldType) (nm : MethodName) : Prop := ∃ (r : vw_C) (ref : String), b_cl[ci]? = some r ∧ k < r.2.2 ∧ parseFieldDescriptor (r.2.1 k).2.2.1 = some ty ∧
  ((Cond.fieldLink own idx ref (r.2.1 k).2.1 (r.2.1 k).2.2.1 ∈ lw_all ∧ ((r.2.1 k).2.2.2 = false ∨ ((r.2.1 k).2.2.2 = true ∧ nm.name = "<init>" ∧ (r.2.1 k).1 = own))) ∨ ((r.2.1 k).2.2.2 = false ∧ ∃ host, Cond.fieldLinkNest own idx ref (r.2.1 k).2.1 (r.2.1 k).2.2.1 host ∈ lw_tbl)) ∧ (ref = (r.2.1 k).1 ∨ Cond.sameField ref (r.2.1 k).1 (r.2.1 k).2.1 (r.2.1 k).2.2.1 ∈ lw_all)
/-- the machine writes a field -/
theorem b_putf {own : String} {idx ci k : Nat} {ty : FieldType} (hF : b_FP own idx ci k ty (nm y)) {p : Program} {l : Launch} {e : Env} {R : Room} {s : State} {m : MethodId} {args : Array Value} {below : List Frame} {meth : Method} {c : Code} {D : va_G} {tys : List (ClassId × FieldType)} {z : Nat} {wsE : List Nat} (hown : own = (nm y).cls)
    (hd : decode (bc y) pc = .ok (.putfield idx, 3)) (hc : b_Cx nm bc mL rt hh y d p l R s m args meth c D tys z wsE) {Q : State → Prop} {ws : va_W} {H : Heap} {locs : List Loc} {ls : Array Slot} {rest : List Value} {cells slots : Nat} (hH : b_Hr D tys z wsE ws s σ H locs) {a b : Nat} {v w : Value} (hb : (b_G wsE ws)[a]? = some b) (hE : b_E ≤ a) (ht : b_tg σ a = ci + 1) (hn : narrow ty w = w) (hv : VRt (b_G wsE ws) ty v w)
    (kk : ∀ (ws' : va_W) (H1 : Heap) (locs1 : List Loc), b_G wsE ws' = b_G wsE ws → b_Hr D tys z wsE ws' s (b_pt σ a k v) H1 locs1 → W p l e R s m args below meth c H1 locs1 cells slots Q (F0 m (pc + 3) ls rest)) : W p l e R s m args below meth c H locs cells slots Q (F0 m pc ls (w :: .ref b :: rest)) := by
  obtain ⟨hx, hbc, hfo, hts, -, -, -, hmn, -, hW, -⟩ := hc
  obtain ⟨r, ref, h1, h2, h3, h4, h5⟩ := hF
  obtain ⟨fs, he, hfl, hfs⟩ := b_ent_o hW hH hb hE ht h1
  obtain ⟨ty0, hty0⟩ := b_tyk ci r h1
  have hnm := b_nmk ci r h1
  have hin := b_in ci r h1
  have hsame := b_same hts h5
  subst hown
  have fin : ∀ (H1 : Heap) (locs1 : List Loc), va_P D b_cl (ws.set (a - b_E) (b, .inr (ci, fs.set k w))) H1 → va_D (b_A z) (ws.set (a - b_E) (b, .inr (ci, fs.set k w))) → va_S (b_A z) s.heap H1 locs1 → W p l e R s m args below meth c H1 locs1 cells slots Q (F0 m (pc + 3) ls rest) := by
    intro H1 locs1 hP1 hD1 hS1
    refine kk _ H1 locs1 (b_G_set he) (b_Hr_put hW hH hE he hP1 hD1 hS1 rfl (fun a' ha' => ?_) (Or.inr ⟨r, ?_, b_clL h1, h1, by rw [List.length_set]; exact hfl, fun k' hk' => ?_⟩))
    · show (if a' = a then _ else σ.2.2.2 a') = _
      rw [if_neg ha']
    · show (if a = a then _ else σ.2.2.2 a).1 = _
      rw [if_pos rfl]
      exact ht
    · show ∃ ty, _ ∧ VRt _ ty ((if a = a then ((σ.2.2.2 a).1, (σ.2.2.2 a).2.1, fun j => if j = k then v else (σ.2.2.2 a).2.2 j) else σ.2.2.2 a).2.2 k') _
      rw [if_pos rfl]
      dsimp only
      by_cases hk2 : k' = k
      · subst hk2
        rw [if_pos rfl]
        refine ⟨ty, h3, ?_⟩
        rw [List.getD_eq_getElem?_getD, List.getElem?_set_self (by omega)]
        exact hv
      · rw [if_neg hk2]
        obtain ⟨ty1, e1, e2⟩ := hfs k' hk'
        refine ⟨ty1, e1, ?_⟩
        rw [List.getD_eq_getElem?_getD, List.getElem?_set_ne (Ne.symm hk2), ← List.getD_eq_getElem?_getD]
        exact e2
  rcases h4 with ⟨h4, h6 | ⟨h6, h7, h8⟩⟩ | ⟨h6, host, h4⟩
  · exact va_put hx hbc hts hin ty0 hty0 hnm hfo hW.1.1 hH.1 hH.2.1 hH.2.2.1 (a - b_E) he h1 k h2 (hts _ h4) hsame h6 h3 hn hv.1 (by omega) hd fin
  · exact va_putF hx hbc hts hin ty0 hty0 hnm hfo hW.1.1 hH.1 hH.2.1 hH.2.2.1 (a - b_E) he h1 k h2 (hts _ h4) hsame h6 (by rw [hmn]; exact h7) h8 h3 hn hv.1 (by omega) hd fin
  · exact va_putN hx hbc hts hin ty0 hty0 hnm hfo hW.1.1 hH.1 hH.2.1 hH.2.2.1 (a - b_E) he h1 k h2 (va_Nw.use rfl (hW.2.1 _ h4 rfl)) hsame h6 h3 hn hv.1 (by omega) hd fin
/-- an instruction that writes: the counts stay -/
theorem ok_write {f : Fn} (h : ∀ g L st σ r, f g L st σ = some r → ∃ pc' st' σ', r = .inl (pc', L, st', σ') ∧ σ'.2.1 = σ.2.1 ∧ σ'.2.2.1 = σ.2.2.1 ∧ ∀ (d : Nat) (p : Program) (l : Launch) (e : Env) (R : Room) (s : State) (m : MethodId) (args : Array Value) (below : List Frame) (meth : Method) (c : Code) (D : va_G) (tys : List (ClassId × FieldType)) (z : Nat) (wsE : List Nat),
    b_Cx nm bc mL rt hh y d p l R s m args meth c D tys z wsE → ∀ (Q : State → Prop) (ws : va_W) (H : Heap) (locs : List Loc) (ls : Array Slot) (mst : List Value) (cells slots : Nat), b_Hr D tys z wsE ws s σ H locs → VRs (b_G wsE ws) st mst →
    (∀ (ws' : va_W) (H1 : Heap) (locs1 : List Loc) (mst' : List Value), b_G wsE ws' = b_G wsE ws → b_Hr D tys z wsE ws' s σ' H1 locs1 → VRs (b_G wsE ws) st' mst' → W p l e R s m args below meth c H1 locs1 cells slots Q (F0 m pc' ls mst')) → W p l e R s m args below meth c H locs cells slots Q (F0 m pc ls mst)) : b_OK nm bc mL rt hh T y pc f := by
  refine ⟨fun g _ L st σ r hr => ?_, ?_⟩
  · obtain ⟨pc', st', σ', rfl, h1, h2, -⟩ := h g L st σ r hr
    exact ⟨Nat.le_of_eq h1.symm, Nat.le_of_eq h2.symm⟩
  · intro d p l e R s m args below meth c D tys z wsE ih hc Q c0 s0 L st σ ws H locs ls mst cells slots hH hL hV hcl hsl r hr hcb hsb hK
    obtain ⟨pc', st', σ', rfl, h1, h2, h3⟩ := h _ L st σ r hr
    exact h3 d p l e R s m args below meth c D tys z wsE hc Q ws H locs ls mst cells slots hH hV (fun ws' H1 locs1 mst' hG hH' hV' => hK ws' H1 locs1 ls mst' cells slots (by rw [hG]; exact List.prefix_refl _) hH' (by rw [hG]; exact hL) (by rw [hG]; exact hV') (by rw [h1]; exact hcl) (by rw [h2]; exact hsl))
def i_putI (ts : List Nat) (k : Nat) (bl : Bool) (nx : Nat) : Fn := fun _ L st σ => match st with
  | .int x :: .ref a :: st => if b_tg σ a ∈ ts ∧ b_E ≤ a ∧ (bl = true → x = 0 ∨ x = 1) then some (.inl (nx, L, st, b_pt σ a k (.int x))) else none
  | _ => none
def b_isA (v : Value) : Bool := match v with
  | .ref _ => true
  | .null => true
  | .float x => x == 2
  | _ => false
def i_putR (ts : List Nat) (k nx : Nat) : Fn := fun _ L st σ => match st with
  | v :: .ref a :: st => if b_tg σ a ∈ ts ∧ b_E ≤ a ∧ b_isA v = true then some (.inl (nx, L, st, b_pt σ a k v)) else none
  | _ => none
theorem b_isA_fits {G : List Nat} {ty : FieldType} {v w : Value} (h : b_isA v = true) (hv : VR G v w) (hp : b_prim ty = false) : VRt G ty v w ∧ narrow ty w = w := by
  have hw : w = .null ∨ ∃ b, w = .ref b := by
    cases v with
    | ref a => obtain ⟨b, -, rfl⟩ := hv; exact Or.inr ⟨b, rfl⟩
    | null => cases hv; exact Or.inl rfl
    | float x =>
      have hx : x = 2 := by simpa [b_isA] using h
      subst hx
      exact hv
    | _ => exact absurd h Bool.false_ne_true
  have hf : fits ty w = true ∧ narrow ty w = w := by
    rcases hw with rfl | ⟨b, rfl⟩ <;> cases ty <;> first | exact ⟨rfl, rfl⟩ | exact absurd hp (by decide)
  exact ⟨⟨hf.1, hv, fun z => by rw [hp] at z; cases z⟩, hf.2⟩
theorem ok_putI {own : String} {idx k : Nat} {ts : List Nat} {ty : FieldType} {bl : Bool} (hd : decode (bc y) pc = .ok (.putfield idx, 3)) (hown : own = (nm y).cls) (hty : (ty = .int ∧ bl = false) ∨ (ty = .boolean ∧ bl = true)) (hF : ∀ t ∈ ts, 0 < t ∧ b_FP own idx (t - 1) k ty (nm y)) : b_OK nm bc mL rt hh T y pc (i_putI ts k bl (pc + 3)) :=
  ok_write fun g L st σ r hr => by
    unfold i_putI at hr
    split at hr
    · split at hr
      · next x a st0 ht =>
        cases hr
        refine ⟨_, _, _, rfl, rfl, rfl, fun d p l e R s m args below meth c D tys z wsE hc Q ws H locs ls mst cells slots hH hV kk => ?_⟩
        obtain ⟨_, m1, rfl, h1, hV1⟩ := VRs_cons hV
        obtain ⟨_, m2, rfl, h2, hV2⟩ := VRs_cons hV1
        cases h1
        obtain ⟨b, hb, rfl⟩ := h2
        obtain ⟨g1, g2⟩ := hF _ ht.1
        refine b_putf g2 hown hd hc hH hb ht.2.1 (by omega) ?_ ?_ (fun ws' H1 locs1 hG hH' => kk ws' H1 locs1 m2 hG hH' hV2)
        · rcases hty with ⟨rfl, -⟩ | ⟨rfl, hbl⟩
          · rfl
          · rcases ht.2.2 hbl with rfl | rfl <;> rfl
        · rcases hty with ⟨rfl, -⟩ | ⟨rfl, hbl⟩
          · exact ⟨rfl, rfl, fun _ => rfl⟩
          · rcases ht.2.2 hbl with rfl | rfl <;> exact ⟨rfl, rfl, fun _ => rfl⟩
      · cases hr
    · cases hr
theorem ok_putR {own : String} {idx k : Nat} {ts : List Nat} {ty : FieldType} (hd : decode (bc y) pc = .ok (.putfield idx, 3)) (hown : own = (nm y).cls) (hty : b_prim ty = false) (hF : ∀ t ∈ ts, 0 < t ∧ b_FP own idx (t - 1) k ty (nm y)) : b_OK nm bc mL rt hh T y pc (i_putR ts k (pc + 3)) :=
  ok_write fun g L st σ r hr => by
    unfold i_putR at hr
    split at hr
    · split at hr
      · next v a st0 ht =>
        cases hr
        refine ⟨_, _, _, rfl, rfl, rfl, fun d p l e R s m args below meth c D tys z wsE hc Q ws H locs ls mst cells slots hH hV kk => ?_⟩
        obtain ⟨w, m1, rfl, h1, hV1⟩ := VRs_cons hV
        obtain ⟨_, m2, rfl, h2, hV2⟩ := VRs_cons hV1
        obtain ⟨b, hb, rfl⟩ := h2
        obtain ⟨g1, g2⟩ := hF _ ht.1
        obtain ⟨q1, q2⟩ := b_isA_fits ht.2.2 h1 hty
        exact b_putf g2 hown hd hc hH hb ht.2.1 (by omega) q2 q1 (fun ws' H1 locs1 hG hH' => kk ws' H1 locs1 m2 hG hH' hV2)
      · cases hr
    · cases hr
theorem ev_putI {a k : Nat} {ts : List Nat} {x : Int} (h : b_lk (T y) pc = some (i_putI ts k false nx)) (ht : b_tg σ a ∈ ts) (hE : b_E ≤ a) : b_F T d y pc L (vI x :: .ref a :: st) σ = b_F T d y nx L st (b_pt σ a k (vI x)) := by
  rw [b_F_at h]; unfold i_putI vI; dsimp only; rw [if_pos ⟨ht, hE, fun z => by cases z⟩]; rfl
theorem ev_putZ {a k : Nat} {ts : List Nat} {x : Int} (h : b_lk (T y) pc = some (i_putI ts k true nx)) (ht : b_tg σ a ∈ ts) (hE : b_E ≤ a) (hx : w32 x = 0 ∨ w32 x = 1) : b_F T d y pc L (vI x :: .ref a :: st) σ = b_F T d y nx L st (b_pt σ a k (vI x)) := by
  have hx2 : Int32.ofInt x = 0 ∨ Int32.ofInt x = 1 := hx.imp (fun h => w32_eq0.mpr h) (fun h => (w32_eq (b := 1)).mpr h)
  rw [b_F_at h]; unfold i_putI vI; dsimp only; rw [if_pos ⟨ht, hE, fun _ => hx2⟩]; rfl
theorem ev_putR {a k : Nat} {ts : List Nat} {v : Value} (h : b_lk (T y) pc = some (i_putR ts k nx)) (ht : b_tg σ a ∈ ts) (hE : b_E ≤ a) (hv : b_isA v = true) : b_F T d y pc L (v :: .ref a :: st) σ = b_F T d y nx L st (b_pt σ a k v) := by
  rw [b_F_at h]; unfold i_putR; dsimp only; rw [if_pos ⟨ht, hE, hv⟩]; rfl
/-! array stores -/
theorem b_Hr_ast {D : va_G} {tys : List (ClassId × FieldType)} {z : Nat} {wsE : List Nat} {ws : va_W} {s : State} {H H1 : Heap} {locs locs1 : List Loc} (hW : b_Wd D tys z wsE s) (hH : b_Hr D tys z wsE ws s σ H locs) {a b t j : Nat} {ty : FieldType} {cA : ClassId} {x x' : vp_A} {v w : Value} (ha : b_E ≤ a) (he : ws[a - b_E]? = some (b, .inl (cA, x))) (ht : (σ.2.2.2 a).1 = 100 + t) (hty : b_tyL[t]? = some ty) (hti : tys[t]? = some (cA, ty)) (hn : (σ.2.2.2 a).2.1 = x.1) (hlt : x.1 < 2147483648)
    (hold : ∀ j, j < x.1 → VRt (b_G wsE ws) ty ((σ.2.2.2 a).2.2 j) (b_arr x j)) (hx1 : x'.1 = x.1) (hKO : b_KO ty x') (hnew : ∀ i, b_arr x' i = if i = j then w else b_arr x i) (hv : VRt (b_G wsE ws) ty v w)
    (hP : va_P D b_cl (ws.set (a - b_E) (b, .inl (cA, x'))) H1) (hD : va_D (b_A z) (ws.set (a - b_E) (b, .inl (cA, x')))) (hS : va_S (b_A z) s.heap H1 locs1) : b_Hr D tys z wsE (ws.set (a - b_E) (b, .inl (cA, x'))) s (b_pt σ a j v) H1 locs1 := by
  refine b_Hr_put hW hH ha he hP hD hS rfl (fun a' ha' => ?_) (Or.inr ⟨t, ty, hty, hti, ?_, ?_, by rw [hx1]; exact hlt, hKO, fun i hi => ?_⟩)
  · show (if a' = a then _ else σ.2.2.2 a') = _
    rw [if_neg ha']
  · show (if a = a then _ else σ.2.2.2 a).1 = _
    rw [if_pos rfl]
    exact ht
  · show (if a = a then ((σ.2.2.2 a).1, (σ.2.2.2 a).2.1, _) else σ.2.2.2 a).2.1 = _
    rw [if_pos rfl, hx1]
    exact hn
  · show VRt _ ty ((if a = a then ((σ.2.2.2 a).1, (σ.2.2.2 a).2.1, fun i => if i = j then v else (σ.2.2.2 a).2.2 i) else σ.2.2.2 a).2.2 i) _
    rw [if_pos rfl, hnew i]
    dsimp only
    by_cases hij : i = j
    · rw [if_pos hij, if_pos hij]
      exact hv
    · rw [if_neg hij, if_neg hij]
      exact hold i (by rw [← hx1]; exact hi)
def i_astI (tg : Nat) (f : Int32 → Int32) (bl : Bool) (nx : Nat) : Fn := fun _ L st σ => match st with
  | .int x :: .int i :: .ref a :: st => if b_tg σ a = tg ∧ b_E ≤ a ∧ 0 ≤ i.toInt ∧ i.toInt.toNat < b_ln σ a ∧ (bl = true → x = 0 ∨ x = 1) then some (.inl (nx, L, st, b_pt σ a i.toInt.toNat (.int (f x)))) else none
  | _ => none
def i_astL (nx : Nat) : Fn := fun _ L st σ => match st with
  | .long x :: .int i :: .ref a :: st => if b_tg σ a = 104 ∧ b_E ≤ a ∧ 0 ≤ i.toInt ∧ i.toInt.toNat < b_ln σ a then some (.inl (nx, L, st, b_pt σ a i.toInt.toNat (.long x))) else none
  | _ => none
theorem b_upd_arr {n : Nat} {f : Nat → Int32} {j : Nat} {v : Int32} : ∀ i, b_arr (n, .inl (upd f j v)) i = if i = j then .int v else b_arr (n, .inl f) i := by
  intro i
  show Value.int (upd f j v i) = if i = j then .int v else .int (f i)
  unfold upd
  split <;> rfl
theorem b_updL_arr {n : Nat} {f : Nat → Int64} {j : Nat} {v : Int64} : ∀ i, b_arr (n, .inr (.inl (vp_updL f j v))) i = if i = j then .long v else b_arr (n, .inr (.inl f)) i := by
  intro i
  show Value.long (vp_updL f j v i) = if i = j then .long v else .long (f i)
  unfold vp_updL
  split <;> rfl
theorem ok_iast (hd : decode (bc y) pc = .ok (.iastore, 1)) : b_OK nm bc mL rt hh T y pc (i_astI 103 (fun x => x) false (pc + 1)) :=
  ok_write fun g L st σ r hr => by
    unfold i_astI at hr
    split at hr
    · split at hr
      · next x i a st0 ht =>
        cases hr
        refine ⟨_, _, _, rfl, rfl, rfl, fun d p l e R s m args below meth c D tys z wsE hc Q ws H locs ls mst cells slots hH hV kk => ?_⟩
        obtain ⟨_, m1, rfl, h1, hV1⟩ := VRs_cons hV
        obtain ⟨_, m2, rfl, h2, hV2⟩ := VRs_cons hV1
        obtain ⟨_, m3, rfl, h3, hV3⟩ := VRs_cons hV2
        cases h1
        cases h2
        obtain ⟨b, hb, rfl⟩ := h3
        obtain ⟨hx, hbc, hfo, hts, -, -, -, -, -, hW, -⟩ := hc
        obtain ⟨cA, xa, e1, e2, e3, e4, e5, e6⟩ := b_ent_a hW hH hb ht.2.1 (t := 3) (ty := .int) ht.1 rfl
        obtain ⟨n, xa⟩ := xa
        obtain ⟨f, hf⟩ := e5
        have hf : xa = .inl f := hf
        subst hf
        have hnar : x = x := rfl
        have hfit : VRt (b_G wsE ws) .int (.int ((fun x => x) x)) (.int (x)) := ⟨rfl, rfl, fun _ => rfl⟩
        refine va_iast hx hbc hW.1.1 hH.1 hH.2.1 hH.2.2.1 (a - b_E) 3 e1 e2 (b_vpin ht.2.2.1 (by show i.toInt.toNat < n; have : b_ln σ a = n := e3; rw [← this]; exact ht.2.2.2.1)) hd fun H1 locs1 hP1 hD1 hS1 => ?_
        rw [show i.toNatClampNeg = i.toInt.toNat from rfl] at hP1 hD1
        exact kk _ H1 locs1 m3 (b_G_set e1) (b_Hr_ast (t := 3) (ty := .int) (x' := (n, .inl (upd f i.toInt.toNat (x)))) hW hH ht.2.1 e1 ht.1 rfl e2 e3 e4 e6 rfl ⟨_, rfl⟩ b_upd_arr hfit hP1 hD1 hS1) hV3
      · cases hr
    · cases hr
theorem ok_bast (hd : decode (bc y) pc = .ok (.bastore, 1)) : b_OK nm bc mL rt hh T y pc (i_astI 101 (fun x => x.toInt8.toInt32) false (pc + 1)) :=
  ok_write fun g L st σ r hr => by
    unfold i_astI at hr
    split at hr
    · split at hr
      · next x i a st0 ht =>
        cases hr
        refine ⟨_, _, _, rfl, rfl, rfl, fun d p l e R s m args below meth c D tys z wsE hc Q ws H locs ls mst cells slots hH hV kk => ?_⟩
        obtain ⟨_, m1, rfl, h1, hV1⟩ := VRs_cons hV
        obtain ⟨_, m2, rfl, h2, hV2⟩ := VRs_cons hV1
        obtain ⟨_, m3, rfl, h3, hV3⟩ := VRs_cons hV2
        cases h1
        cases h2
        obtain ⟨b, hb, rfl⟩ := h3
        obtain ⟨hx, hbc, hfo, hts, -, -, -, -, -, hW, -⟩ := hc
        obtain ⟨cA, xa, e1, e2, e3, e4, e5, e6⟩ := b_ent_a hW hH hb ht.2.1 (t := 1) (ty := .byte) ht.1 rfl
        obtain ⟨n, xa⟩ := xa
        obtain ⟨f, hf⟩ := e5
        have hf : xa = .inl f := hf
        subst hf
        have hnar : vp_nar .byte x = x.toInt8.toInt32 := rfl
        have hfit : VRt (b_G wsE ws) .byte (.int ((fun x => x.toInt8.toInt32) x)) (.int (x.toInt8.toInt32)) := ⟨pk_fb x, rfl, fun _ => rfl⟩
        refine va_bast hx hbc hW.1.1 hH.1 hH.2.1 hH.2.2.1 (a - b_E) 1 e1 e2 (b_vpin ht.2.2.1 (by show i.toInt.toNat < n; have : b_ln σ a = n := e3; rw [← this]; exact ht.2.2.2.1)) hd fun H1 locs1 hP1 hD1 hS1 => ?_
        rw [show i.toNatClampNeg = i.toInt.toNat from rfl, hnar] at hP1 hD1
        exact kk _ H1 locs1 m3 (b_G_set e1) (b_Hr_ast (t := 1) (ty := .byte) (x' := (n, .inl (upd f i.toInt.toNat (x.toInt8.toInt32)))) hW hH ht.2.1 e1 ht.1 rfl e2 e3 e4 e6 rfl ⟨_, rfl⟩ b_upd_arr hfit hP1 hD1 hS1) hV3
      · cases hr
    · cases hr
theorem ok_sast (hd : decode (bc y) pc = .ok (.sastore, 1)) : b_OK nm bc mL rt hh T y pc (i_astI 102 (fun x => x.toInt16.toInt32) false (pc + 1)) :=
  ok_write fun g L st σ r hr => by
    unfold i_astI at hr
    split at hr
    · split at hr
      · next x i a st0 ht =>
        cases hr
        refine ⟨_, _, _, rfl, rfl, rfl, fun d p l e R s m args below meth c D tys z wsE hc Q ws H locs ls mst cells slots hH hV kk => ?_⟩
        obtain ⟨_, m1, rfl, h1, hV1⟩ := VRs_cons hV
        obtain ⟨_, m2, rfl, h2, hV2⟩ := VRs_cons hV1
        obtain ⟨_, m3, rfl, h3, hV3⟩ := VRs_cons hV2
        cases h1
        cases h2
        obtain ⟨b, hb, rfl⟩ := h3
        obtain ⟨hx, hbc, hfo, hts, -, -, -, -, -, hW, -⟩ := hc
        obtain ⟨cA, xa, e1, e2, e3, e4, e5, e6⟩ := b_ent_a hW hH hb ht.2.1 (t := 2) (ty := .short) ht.1 rfl
        obtain ⟨n, xa⟩ := xa
        obtain ⟨f, hf⟩ := e5
        have hf : xa = .inl f := hf
        subst hf
        have hnar : vp_nar .short x = x.toInt16.toInt32 := rfl
        have hfit : VRt (b_G wsE ws) .short (.int ((fun x => x.toInt16.toInt32) x)) (.int (x.toInt16.toInt32)) := ⟨pk_fs x, rfl, fun _ => rfl⟩
        refine va_sast hx hbc hW.1.1 hH.1 hH.2.1 hH.2.2.1 (a - b_E) 2 e1 e2 (b_vpin ht.2.2.1 (by show i.toInt.toNat < n; have : b_ln σ a = n := e3; rw [← this]; exact ht.2.2.2.1)) hd fun H1 locs1 hP1 hD1 hS1 => ?_
        rw [show i.toNatClampNeg = i.toInt.toNat from rfl, hnar] at hP1 hD1
        exact kk _ H1 locs1 m3 (b_G_set e1) (b_Hr_ast (t := 2) (ty := .short) (x' := (n, .inl (upd f i.toInt.toNat (x.toInt16.toInt32)))) hW hH ht.2.1 e1 ht.1 rfl e2 e3 e4 e6 rfl ⟨_, rfl⟩ b_upd_arr hfit hP1 hD1 hS1) hV3
      · cases hr
    · cases hr
theorem ok_zast (hd : decode (bc y) pc = .ok (.bastore, 1)) : b_OK nm bc mL rt hh T y pc (i_astI 100 (fun x => x) true (pc + 1)) :=
  ok_write fun g L st σ r hr => by
    unfold i_astI at hr
    split at hr
    · split at hr
      · next x i a st0 ht =>
        cases hr
        refine ⟨_, _, _, rfl, rfl, rfl, fun d p l e R s m args below meth c D tys z wsE hc Q ws H locs ls mst cells slots hH hV kk => ?_⟩
        obtain ⟨_, m1, rfl, h1, hV1⟩ := VRs_cons hV
        obtain ⟨_, m2, rfl, h2, hV2⟩ := VRs_cons hV1
        obtain ⟨_, m3, rfl, h3, hV3⟩ := VRs_cons hV2
        cases h1
        cases h2
        obtain ⟨b, hb, rfl⟩ := h3
        obtain ⟨hx, hbc, hfo, hts, -, -, -, -, -, hW, -⟩ := hc
        obtain ⟨cA, xa, e1, e2, e3, e4, e5, e6⟩ := b_ent_a hW hH hb ht.2.1 (t := 0) (ty := .boolean) ht.1 rfl
        obtain ⟨n, xa⟩ := xa
        obtain ⟨f, hf⟩ := e5
        have hf : xa = .inl f := hf
        subst hf
        have hnar : vp_nar .boolean x = x := (by rcases ht.2.2.2.2 rfl with rfl | rfl <;> rfl)
        have hfit : VRt (b_G wsE ws) .boolean (.int ((fun x => x) x)) (.int (x)) := (by rcases ht.2.2.2.2 rfl with rfl | rfl <;> exact ⟨rfl, rfl, fun _ => rfl⟩)
        refine va_zast hx hbc hW.1.1 hH.1 hH.2.1 hH.2.2.1 (a - b_E) 0 e1 e2 (b_vpin ht.2.2.1 (by show i.toInt.toNat < n; have : b_ln σ a = n := e3; rw [← this]; exact ht.2.2.2.1)) hd fun H1 locs1 hP1 hD1 hS1 => ?_
        rw [show i.toNatClampNeg = i.toInt.toNat from rfl, hnar] at hP1 hD1
        exact kk _ H1 locs1 m3 (b_G_set e1) (b_Hr_ast (t := 0) (ty := .boolean) (x' := (n, .inl (upd f i.toInt.toNat (x)))) hW hH ht.2.1 e1 ht.1 rfl e2 e3 e4 e6 rfl ⟨_, rfl⟩ b_upd_arr hfit hP1 hD1 hS1) hV3
      · cases hr
    · cases hr
theorem ok_last (hd : decode (bc y) pc = .ok (.lastore, 1)) : b_OK nm bc mL rt hh T y pc (i_astL (pc + 1)) :=
  ok_write fun g L st σ r hr => by
    unfold i_astL at hr
    split at hr
    · split at hr
      · next x i a st0 ht =>
        cases hr
        refine ⟨_, _, _, rfl, rfl, rfl, fun d p l e R s m args below meth c D tys z wsE hc Q ws H locs ls mst cells slots hH hV kk => ?_⟩
        obtain ⟨_, m1, rfl, h1, hV1⟩ := VRs_cons hV
        obtain ⟨_, m2, rfl, h2, hV2⟩ := VRs_cons hV1
        obtain ⟨_, m3, rfl, h3, hV3⟩ := VRs_cons hV2
        cases h1
        cases h2
        obtain ⟨b, hb, rfl⟩ := h3
        obtain ⟨hx, hbc, hfo, hts, -, -, -, -, -, hW, -⟩ := hc
        obtain ⟨cA, xa, e1, e2, e3, e4, e5, e6⟩ := b_ent_a hW hH hb ht.2.1 (t := 4) (ty := .long) ht.1 rfl
        obtain ⟨n, xa⟩ := xa
        obtain ⟨f, hf⟩ := e5
        have hf : xa = .inr (.inl f) := hf
        subst hf
        refine va_last hx hbc hW.1.1 hH.1 hH.2.1 hH.2.2.1 (a - b_E) 4 e1 e2 (b_vpin ht.2.2.1 (by show i.toInt.toNat < n; have : b_ln σ a = n := e3; rw [← this]; exact ht.2.2.2)) hd fun H1 locs1 hP1 hD1 hS1 => ?_
        rw [show i.toNatClampNeg = i.toInt.toNat from rfl] at hP1 hD1
        exact kk _ H1 locs1 m3 (b_G_set e1) (b_Hr_ast (t := 4) (ty := .long) (x' := (n, .inr (.inl (vp_updL f i.toInt.toNat x)))) hW hH ht.2.1 e1 ht.1 rfl e2 e3 e4 e6 rfl ⟨_, rfl⟩ b_updL_arr ⟨rfl, rfl, fun _ => rfl⟩ hP1 hD1 hS1) hV3
      · cases hr
    · cases hr
theorem ev_iast {a : Nat} {i x : Int} (h : b_lk (T y) pc = some (i_astI 103 (fun x => x) false nx)) (ht : b_tg σ a = 103) (hE : b_E ≤ a) (h0 : 0 ≤ w32 i) (h1 : (w32 i).toNat < b_ln σ a) : b_F T d y pc L (vI x :: vI i :: .ref a :: st) σ = b_F T d y nx L st (b_pt σ a (w32 i).toNat (vI x)) := by
  rw [b_F_at h]; unfold i_astI vI; dsimp only; rw [if_pos ⟨ht, hE, h0, h1, fun z => by cases z⟩]; rfl
theorem ev_bast {a : Nat} {i x : Int} (h : b_lk (T y) pc = some (i_astI 101 (fun x => x.toInt8.toInt32) false nx)) (ht : b_tg σ a = 101) (hE : b_E ≤ a) (h0 : 0 ≤ w32 i) (h1 : (w32 i).toNat < b_ln σ a) : b_F T d y pc L (vI x :: vI i :: .ref a :: st) σ = b_F T d y nx L st (b_pt σ a (w32 i).toNat (vI (sx8 x))) := by
  rw [show vI (sx8 x) = .int (Int32.ofInt x).toInt8.toInt32 from (vI_of _).symm, b_F_at h]; unfold i_astI vI; dsimp only; rw [if_pos ⟨ht, hE, h0, h1, fun z => by cases z⟩]; rfl
theorem ev_sast {a : Nat} {i x : Int} (h : b_lk (T y) pc = some (i_astI 102 (fun x => x.toInt16.toInt32) false nx)) (ht : b_tg σ a = 102) (hE : b_E ≤ a) (h0 : 0 ≤ w32 i) (h1 : (w32 i).toNat < b_ln σ a) : b_F T d y pc L (vI x :: vI i :: .ref a :: st) σ = b_F T d y nx L st (b_pt σ a (w32 i).toNat (vI (sx16 x))) := by
  rw [show vI (sx16 x) = .int (Int32.ofInt x).toInt16.toInt32 from (vI_of _).symm, b_F_at h]; unfold i_astI vI; dsimp only; rw [if_pos ⟨ht, hE, h0, h1, fun z => by cases z⟩]; rfl
theorem ev_zast {a : Nat} {i x : Int} (h : b_lk (T y) pc = some (i_astI 100 (fun x => x) true nx)) (ht : b_tg σ a = 100) (hE : b_E ≤ a) (h0 : 0 ≤ w32 i) (h1 : (w32 i).toNat < b_ln σ a) (hx : w32 x = 0 ∨ w32 x = 1) : b_F T d y pc L (vI x :: vI i :: .ref a :: st) σ = b_F T d y nx L st (b_pt σ a (w32 i).toNat (vI x)) := by
  have hx2 : Int32.ofInt x = 0 ∨ Int32.ofInt x = 1 := hx.imp (fun h => w32_eq0.mpr h) (fun h => (w32_eq (b := 1)).mpr h)
  rw [b_F_at h]; unfold i_astI vI; dsimp only; rw [if_pos ⟨ht, hE, h0, h1, fun _ => hx2⟩]; rfl
theorem ev_last {a : Nat} {i x : Int} (h : b_lk (T y) pc = some (i_astL nx)) (ht : b_tg σ a = 104) (hE : b_E ≤ a) (h0 : 0 ≤ w32 i) (h1 : (w32 i).toNat < b_ln σ a) : b_F T d y pc L (vL x :: vI i :: .ref a :: st) σ = b_F T d y nx L st (b_pt σ a (w32 i).toNat (vL x)) := by
  rw [b_F_at h]; unfold i_astL vI vL; dsimp only; rw [if_pos ⟨ht, hE, h0, h1⟩]; rfl
end B_OPD
