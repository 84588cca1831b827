/-! ===== equations of the handled calls and of Row.pastes' copy ===== -/
set_option maxRecDepth 100000
section B_OPS
variable {nm : Nat → MethodName} {T : Tb} {y pc nx tgt d : Nat} {L : Lc} {st : List Value} {σ : Sg}
theorem ev_calluH {pick : List Value → Sg → Option Nat} {na wd y' : Nat} {th : Nat × Nat} {hc' : List (Nat × Nat)} {As st0 : List Value} (h : b_lk (T y) pc = some (i_call pick na wd true (th :: hc') nx)) (hst : st0 = As.reverse ++ st) (hl : As.length = na) (hw : (As.map fun v => v.category).sum ≤ wd) (hp : pick As σ = some y') (hs : (st.map fun v => v.category).sum ≤ 8) :
    b_F T d y pc L st0 σ = b_cu (b_M T d y' As σ) (fun σ' => b_F T d y nx L st σ') (fun a σ' => match b_lkN (th :: hc') (b_xci σ' a) with
      | none => none
      | some hpc => if 0 < b_tg σ' a ∨ b_ex ≤ a then b_F T d y hpc L [b_xv a] σ' else none) := by
  have e1 : st0.take na = As.reverse := by rw [hst, ← hl, ← List.length_reverse (as := As), List.take_left]
  have e2 : st0.drop na = st := by rw [hst, ← hl, ← List.length_reverse (as := As), List.drop_left]
  rw [b_F_at h]
  unfold i_call
  rw [e1, e2, List.reverse_reverse, if_pos ⟨by rw [hst, List.length_append, List.length_reverse]; omega, hs, hw⟩, hp]
  dsimp only
  cases hq : b_M T d y' As σ with
  | none => rfl
  | some q =>
    obtain ⟨out, σ'⟩ := q
    cases out with
    | inl v => cases v <;> rfl
    | inr a =>
      show b_go T d y (match b_lkN (th :: hc') (b_xci σ' a) with
        | none => none
        | some hpc => if 0 < b_tg σ' a ∨ b_ex ≤ a then some (.inl (hpc, L, [b_xv a], σ')) else none) = match b_lkN (th :: hc') (b_xci σ' a) with
        | none => none
        | some hpc => if 0 < b_tg σ' a ∨ b_ex ≤ a then b_F T d y hpc L [b_xv a] σ' else none
      cases b_lkN (th :: hc') (b_xci σ' a) with
      | none => rfl
      | some hpc =>
        dsimp only
        by_cases hz : 0 < b_tg σ' a ∨ b_ex ≤ a
        · rw [if_pos hz, if_pos hz]; rfl
        · rw [if_neg hz, if_neg hz]; rfl
theorem or_some {f h : Fn} {g : Gm} {r : Nx ⊕ Rs} (hf : f g L st σ = some r) : i_or f h g L st σ = some r := by unfold i_or; rw [hf]
theorem or_none {f h : Fn} {g : Gm} (hf : f g L st σ = none) : i_or f h g L st σ = h g L st σ := by unfold i_or; rw [hf]
theorem acopy_no {g : Gm} {a a0 t t' : Nat} {sp dp n : Int32} (ht : b_tg σ a = 100 + t) (hne : t ≠ t') : i_acopy t' nx g L (.int n :: .int dp :: .ref a :: .int sp :: .ref a0 :: st) σ = none := if_neg (fun h => by have := h.2.2.1; omega)
theorem acopy_out {g : Gm} {a a0 t' : Nat} {sp dp n : Int32} (hin : ¬ b_inR σ a0 a sp dp n) : i_acopy t' nx g L (.int n :: .int dp :: .ref a :: .int sp :: .ref a0 :: st) σ = none := if_neg (fun h => hin h.2.2.2.2.1)
theorem acopy_yes {g : Gm} {a a0 t : Nat} {sp dp n : Int32} (hE : b_E ≤ a) (hE0 : b_E ≤ a0) (ht : b_tg σ a = 100 + t) (ht0 : b_tg σ a0 = 100 + t) (hin : b_inR σ a0 a sp dp n) (hs : (st.map fun v => v.category).sum ≤ 8) : i_acopy t nx g L (.int n :: .int dp :: .ref a :: .int sp :: .ref a0 :: st) σ = some (.inl (nx, L, st, b_cpyS σ a0 sp.toInt.toNat a dp.toInt.toNat n.toInt.toNat)) := if_pos ⟨hE, hE0, ht, ht0, hin, hs⟩
theorem xcopy_no {g : Gm} {a a0 t t' : Nat} {hc : List (Nat × Nat)} {sp dp n : Int32} (ht : b_tg σ a = 100 + t) (hne : t ≠ t') : i_xcopy t' hc g L (.int n :: .int dp :: .ref a :: .int sp :: .ref a0 :: st) σ = none := if_neg (fun h => by have := h.2.2.1; omega)
theorem xcopy_yes {g : Gm} {a a0 t : Nat} {hc : List (Nat × Nat)} {sp dp n : Int32} (hE : b_E ≤ a) (hE0 : b_E ≤ a0) (ht : b_tg σ a = 100 + t) (ht0 : b_tg σ a0 = 100 + t) (hin : ¬ b_inR σ a0 a sp dp n) (hs : (st.map fun v => v.category).sum ≤ 8) : i_xcopy t hc g L (.int n :: .int dp :: .ref a :: .int sp :: .ref a0 :: st) σ = b_tx hc 22 3 410 L σ := if_pos ⟨hE, hE0, ht, ht0, hin, hs⟩
def i_pst (hc : List (Nat × Nat)) (nx : Nat) : Fn := i_or (i_acopy 1 nx) (i_or (i_acopy 2 nx) (i_or (i_acopy 3 nx) (i_or (i_acopy 4 nx) (i_or (i_xcopy 1 hc) (i_or (i_xcopy 2 hc) (i_or (i_xcopy 3 hc) (i_xcopy 4 hc)))))))
theorem pst_yes {g : Gm} {hc : List (Nat × Nat)} {a a0 t : Nat} {sp dp n : Int32} (hT : t = 1 ∨ t = 2 ∨ t = 3 ∨ t = 4) (hE : b_E ≤ a) (hE0 : b_E ≤ a0) (ht : b_tg σ a = 100 + t) (ht0 : b_tg σ a0 = 100 + t) (hin : b_inR σ a0 a sp dp n) (hs : (st.map fun v => v.category).sum ≤ 8) : i_pst hc nx g L (.int n :: .int dp :: .ref a :: .int sp :: .ref a0 :: st) σ = some (.inl (nx, L, st, b_cpyS σ a0 sp.toInt.toNat a dp.toInt.toNat n.toInt.toNat)) := by
  unfold i_pst
  have hy := acopy_yes (g := g) (L := L) (nx := nx) hE hE0 ht ht0 hin hs
  rcases hT with rfl | rfl | rfl | rfl
  · exact or_some hy
  · rw [or_none (acopy_no ht (by decide))]
    exact or_some hy
  · rw [or_none (acopy_no ht (by decide)), or_none (acopy_no ht (by decide))]
    exact or_some hy
  · rw [or_none (acopy_no ht (by decide)), or_none (acopy_no ht (by decide)), or_none (acopy_no ht (by decide))]
    exact or_some hy
theorem pst_no {g : Gm} {hc : List (Nat × Nat)} {a a0 t : Nat} {sp dp n : Int32} {r : Nx ⊕ Rs} (hr : b_tx hc 22 3 410 L σ = some r) (hT : t = 1 ∨ t = 2 ∨ t = 3 ∨ t = 4) (hE : b_E ≤ a) (hE0 : b_E ≤ a0) (ht : b_tg σ a = 100 + t) (ht0 : b_tg σ a0 = 100 + t) (hin : ¬ b_inR σ a0 a sp dp n) (hs : (st.map fun v => v.category).sum ≤ 8) : i_pst hc nx g L (.int n :: .int dp :: .ref a :: .int sp :: .ref a0 :: st) σ = some r := by
  unfold i_pst
  rw [or_none (acopy_out hin), or_none (acopy_out hin), or_none (acopy_out hin), or_none (acopy_out hin)]
  have hy := xcopy_yes (g := g) (L := L) (hc := hc) hE hE0 ht ht0 hin hs
  rw [hr] at hy
  rcases hT with rfl | rfl | rfl | rfl
  · exact or_some hy
  · rw [or_none (xcopy_no ht (by decide))]
    exact or_some hy
  · rw [or_none (xcopy_no ht (by decide)), or_none (xcopy_no ht (by decide))]
    exact or_some hy
  · rw [or_none (xcopy_no ht (by decide)), or_none (xcopy_no ht (by decide)), or_none (xcopy_no ht (by decide))]
    exact hy
theorem ev_pst {hc : List (Nat × Nat)} {a a0 t : Nat} {sp dp n : Int} (h : b_lk (T y) pc = some (i_pst hc nx)) (hT : t = 1 ∨ t = 2 ∨ t = 3 ∨ t = 4) (hE : b_E ≤ a) (hE0 : b_E ≤ a0) (ht : b_tg σ a = 100 + t) (ht0 : b_tg σ a0 = 100 + t) (hin : b_inR σ a0 a (Int32.ofInt sp) (Int32.ofInt dp) (Int32.ofInt n)) (hs : (st.map fun v => v.category).sum ≤ 8) : b_F T d y pc L (vI n :: vI dp :: .ref a :: vI sp :: .ref a0 :: st) σ = b_F T d y nx L st (b_cpyS σ a0 (w32 sp).toNat a (w32 dp).toNat (w32 n).toNat) := by
  rw [b_F_at h]
  unfold vI
  rw [pst_yes hT hE hE0 ht ht0 hin hs]
  rfl
theorem ev_pstX {ci hp : Nat} {hc' : List (Nat × Nat)} {a a0 t : Nat} {sp dp n : Int} (h : b_lk (T y) pc = some (i_pst ((22, hp) :: hc') nx)) (hT : t = 1 ∨ t = 2 ∨ t = 3 ∨ t = 4) (hE : b_E ≤ a) (hE0 : b_E ≤ a0) (ht : b_tg σ a = 100 + t) (ht0 : b_tg σ a0 = 100 + t) (hin : ¬ b_inR σ a0 a (Int32.ofInt sp) (Int32.ofInt dp) (Int32.ofInt n)) (hs : (st.map fun v => v.category).sum ≤ 8) : b_F T d y pc L (vI n :: vI dp :: .ref a :: vI sp :: .ref a0 :: st) σ = b_F T d y hp L [.float 2] (b_bump σ 3 410) := by
  rw [b_F_at h]
  unfold vI
  rw [pst_no (r := .inl (hp, L, [.float 2], b_bump σ 3 410)) rfl hT hE hE0 ht ht0 hin hs]
  rfl
theorem ok_callSN {bc : Nat → ByteArray} {mL : Nat → Nat} {rt : Nat → Option FieldType} {hh : Nat → List (Nat × Nat × Nat × Nat)} {own : String} {idx n y' wd : Nat} {vd : Bool} {hc : List (Nat × Nat)} (hd : decode (bc y) pc = .ok (.invokestatic idx, 3)) (hown : own = (nm y).cls) (hHC : b_HC nm hh y pc hc) (hF : b_MF nm bc mL rt hh y') (hwd : wd ≤ mL y') (h0 : hh y' = []) (q1 : ∃ host, Cond.methodLinkNest own idx (nm y') host ∈ lw_tbl) (q2 : Cond.static (nm y') ∈ lw_all) (hn : b_np (nm y') n) : b_OK nm bc mL rt hh T y pc (i_call (b_pkS y') n wd vd hc (pc + 3)) := by
  refine ok_call hHC (fun As σ y'' h => by cases h; exact ⟨hF, hwd⟩) ?_
  intro As σ y'' hp hlen d p l e R s m args below meth c D tys z wsE hcx ws H locs ls mAs rest cells slots hH hV hls hr8 Pre Post PostX hK T0 hT0 X hpre
  cases hp
  subst hown
  obtain ⟨hx, hbc, hfo, hts, -, -, -, -, -, hW, -⟩ := hcx
  obtain ⟨f1, f2, f3, f4⟩ := hF
  obtain ⟨host, q1⟩ := q1
  rcases f1 with ⟨-, f1⟩ | ⟨f1, -⟩
  · have hl : mAs.length = n := by rw [← VRs_len hV]; exact hlen
    have := vx_callSN X hx hfo (va_Nw.use rfl (hW.2.1 _ q1 rfl)) (hts _ q2) (hts _ f2) (hts _ f1) f4 hK (g := F0 m pc ls (mAs.reverse ++ rest)) rfl hls (argsL := mAs) (rest := rest) (fun sig h => hl.trans (b_np_len hn sig h)) rfl (by show 2 * 0 + _ ≤ 8; omega) (by rw [hbc]; exact hd) hpre
    exact this
  · exact absurd h0 f1
end B_OPS
