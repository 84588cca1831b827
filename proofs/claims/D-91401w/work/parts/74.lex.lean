/-! ===== the tokens of a text: plain laws ===== -/
set_option maxRecDepth 100000
theorem pRun_ge {t : Nat → Int} {n : Nat} {P : Int → Bool} : ∀ m p, p ≤ pRun t n P m p
  | 0, p => Nat.le_refl p
  | m + 1, p => by
    unfold pRun
    split
    · exact Nat.le_trans (Nat.le_succ p) (pRun_ge m (p + 1))
    · exact Nat.le_refl p
theorem pRun_le {t : Nat → Int} {n : Nat} {P : Int → Bool} : ∀ m p, p ≤ n → pRun t n P m p ≤ n
  | 0, p, h => h
  | m + 1, p, h => by
    unfold pRun
    split
    · rename_i q; exact pRun_le m (p + 1) q.1
    · exact h
theorem pRun_stop {t : Nat → Int} {n : Nat} {P : Int → Bool} : ∀ m p, n - p ≤ m → ¬ (pRun t n P m p < n ∧ P (t (pRun t n P m p)) = true)
  | 0, p, h => fun q => by
    have : pRun t n P 0 p = p := rfl
    rw [this] at q; omega
  | m + 1, p, h => by
    unfold pRun
    split
    · exact pRun_stop m (p + 1) (by omega)
    · assumption
theorem pRun_all {t : Nat → Int} {n : Nat} {P : Int → Bool} : ∀ m p k, p ≤ k → k < pRun t n P m p → P (t k) = true
  | 0, p, k, h, h2 => by
    have : pRun t n P 0 p = p := rfl
    rw [this] at h2; omega
  | m + 1, p, k, h, h2 => by
    unfold pRun at h2
    split at h2
    · rename_i q
      by_cases e : k = p
      · rw [e]; exact q.2
      · exact pRun_all m (p + 1) k (by omega) h2
    · omega
theorem pRun_gt {t : Nat → Int} {n : Nat} {P : Int → Bool} {p : Nat} (h : p < n) (h2 : P (t p) = true) : p < pRun t n P (n - p) p := by
  obtain ⟨m, e⟩ : ∃ m, n - p = m + 1 := ⟨n - p - 1, by omega⟩
  rw [e]
  unfold pRun
  rw [if_pos ⟨h, h2⟩]
  exact pRun_ge m (p + 1)
section LEX
variable {t : Nat → Int} {n : Nat}
theorem pB_ge (p : Nat) : p ≤ pB t n p := pRun_ge _ p
theorem pB_le {p : Nat} (h : p ≤ n) : pB t n p ≤ n := pRun_le _ p h
theorem pN_ge {p : Nat} : pB t n p ≤ pN t n p := by
  unfold pN
  dsimp only
  split
  · exact Nat.le_refl _
  · split
    · exact pRun_ge _ _
    · split
      · exact pRun_ge _ _
      · exact Nat.le_succ _
theorem pN_gt {p : Nat} (h : pB t n p < n) : pB t n p < pN t n p := by
  unfold pN
  dsimp only
  rw [if_neg (by omega)]
  split
  · rename_i q; exact pRun_gt h q
  · split
    · rename_i q; exact pRun_gt h q
    · exact Nat.lt_succ_self _
theorem pN_le {p : Nat} (h : p ≤ n) : pN t n p ≤ n := by
  have := pB_le (t := t) h
  unfold pN
  dsimp only
  split
  · exact this
  · split
    · exact pRun_le _ _ this
    · split
      · exact pRun_le _ _ this
      · omega
theorem pS_le (p : Nat) : pS t n p ≤ 4 := by
  unfold pS
  dsimp only
  (repeat' split) <;> decide
theorem pS_0 {p : Nat} : pS t n p = 0 ↔ n ≤ pB t n p := by
  unfold pS
  dsimp only
  constructor
  · intro h
    split at h
    · assumption
    · (repeat' split at h) <;> omega
  · intro h; rw [if_pos h]
theorem pN_adv {p : Nat} (h : pS t n p ≠ 0) : p < pN t n p := by
  have h1 : ¬ n ≤ pB t n p := fun q => h (pS_0.mpr q)
  have := pB_ge (t := t) (n := n) p
  have := pN_gt (t := t) (n := n) (p := p) (by omega)
  omega
theorem pS_1 {p : Nat} : pS t n p = 1 ↔ pB t n p < n ∧ isL (t (pB t n p)) = true := by
  unfold pS
  dsimp only
  constructor
  · intro h
    split at h
    · omega
    · split at h
      · exact ⟨by omega, by assumption⟩
      · (repeat' split at h) <;> omega
  · rintro ⟨h, h2⟩; rw [if_neg (by omega), if_pos h2]
theorem isL_D {x : Int} (h : isD x = true) : isL x = false := by
  unfold isD at h
  unfold isL
  have := of_decide_eq_true h
  exact decide_eq_false (by omega)
theorem isS_n {x : Int} (h : isSg x = true) : isL x = false ∧ isD x = false ∧ 0 < x ∧ x < 128 := by
  unfold isSg at h
  unfold isL isD
  have := of_decide_eq_true h
  exact ⟨decide_eq_false (by omega), decide_eq_false (by omega), by omega, by omega⟩
theorem pS_2 {p : Nat} : pS t n p = 2 ↔ (pB t n p < n ∧ isD (t (pB t n p)) = true) ∧ pV t n p ≤ 9999 := by
  unfold pS
  dsimp only
  constructor
  · intro h
    split at h
    · omega
    · split at h
      · omega
      · split at h
        · split at h
          · exact ⟨⟨by omega, by assumption⟩, by assumption⟩
          · omega
        · (repeat' split at h) <;> omega
  · rintro ⟨⟨h, h2⟩, h3⟩
    rw [if_neg (by omega), isL_D h2, if_neg (by decide), if_pos h2, if_pos h3]
theorem pS_3 {p : Nat} : pS t n p = 3 ↔ pB t n p < n ∧ isSg (t (pB t n p)) = true := by
  unfold pS
  dsimp only
  constructor
  · intro h
    split at h
    · omega
    · split at h
      · omega
      · split at h
        · (repeat' split at h) <;> omega
        · split at h
          · exact ⟨by omega, by assumption⟩
          · omega
  · rintro ⟨h, h2⟩
    obtain ⟨k1, k2, _⟩ := isS_n h2
    rw [if_neg (by omega), k1, if_neg (by decide), k2, if_neg (by decide), if_pos h2]
theorem pSign_iff {p : Nat} {c : Int} (hc : isSg c = true) : pSign t n p c = true ↔ pB t n p < n ∧ t (pB t n p) = c := by
  unfold pSign
  rw [decide_eq_true_iff, pS_3]
  constructor
  · rintro ⟨⟨h, _⟩, h2⟩; exact ⟨h, h2⟩
  · rintro ⟨h, h2⟩; exact ⟨⟨h, by rw [h2]; exact hc⟩, h2⟩
/-- which word a slice is, looked for from the first on, the last that fits -/
def wf (m : List Int) : Nat → Nat
  | 0 => 23
  | k + 1 => if pWords[k]? = some m then k else wf m k
theorem wf_no {m : List Int} (h : m ∉ pWords) : ∀ k, wf m k = 23
  | 0 => rfl
  | k + 1 => by
    unfold wf
    rw [if_neg (fun e => h (List.mem_of_getElem? e))]
    exact wf_no h k
theorem wf_18 (m : List Int) : wf m 18 = let i := pWords.findIdx (fun w => decide (w = m)); if i < 18 then i else 23 := by
  by_cases h : m ∈ pWords
  · unfold pWords at h
    simp only [List.mem_cons, List.not_mem_nil, or_false] at h
    rcases h with rfl | rfl | rfl | rfl | rfl | rfl | rfl | rfl | rfl | rfl | rfl | rfl | rfl | rfl | rfl | rfl | rfl | rfl <;> decide
  · rw [wf_no h]
    dsimp only
    rw [if_neg]
    intro h2
    have h3 : pWords.findIdx (fun w => decide (w = m)) < pWords.length := h2
    have := List.findIdx_getElem (w := h3)
    rw [decide_eq_true_iff] at this
    exact h (this ▸ List.getElem_mem h3)
theorem pWd_or (p : Nat) : pWd t n p < 18 ∨ pWd t n p = 23 := by
  unfold pWd
  dsimp only
  split
  · split
    · left; assumption
    · right; rfl
  · right; rfl
theorem pWd_1 {p : Nat} (h : pS t n p = 1) : pWd t n p = wf (pSl t (pB t n p) (pN t n p - pB t n p)) 18 := by
  rw [wf_18]
  unfold pWd
  rw [if_pos h]
theorem pWd_no {p : Nat} (h : pS t n p ≠ 1) : pWd t n p = 23 := by
  unfold pWd
  rw [if_neg h]
theorem wf_iff {m : List Int} {k : Nat} (hk : k < 18) : wf m 18 = k ↔ pWords[k]? = some m := by
  constructor
  · intro h
    have key : ∀ j, wf m j = k → pWords[k]? = some m := by
      intro j
      induction j with
      | zero => intro q; unfold wf at q; omega
      | succ j ih =>
        intro q
        unfold wf at q
        split at q
        · rename_i z; rw [← q]; exact z
        · exact ih q
    exact key 18 h
  · intro h
    have hm : m ∈ pWords := List.mem_of_getElem? h
    unfold pWords at hm
    simp only [List.mem_cons, List.not_mem_nil, or_false] at hm
    have : ∀ w ∈ pWords, ∀ k : Fin 18, pWords[k.1]? = some w → wf w 18 = k.1 := by decide
    exact this m (by unfold pWords; simp only [List.mem_cons, List.not_mem_nil, or_false]; exact hm) ⟨k, hk⟩ h
theorem pWd_iff {p k : Nat} (hk : k < 18) : pWd t n p = k ↔ pS t n p = 1 ∧ pWords[k]? = some (pSl t (pB t n p) (pN t n p - pB t n p)) := by
  by_cases h : pS t n p = 1
  · rw [pWd_1 h, wf_iff hk]
    exact ⟨fun q => ⟨h, q⟩, fun q => q.2⟩
  · rw [pWd_no h]
    exact ⟨fun q => by omega, fun q => absurd q.1 h⟩
theorem pSl_eq {a m : Nat} {w : List Int} : pSl t a m = w ↔ m = w.length ∧ ∀ i, i < m → t (a + i) = w.getD i 0 := by
  unfold pSl
  constructor
  · rintro rfl
    refine ⟨by rw [List.length_map, List.length_range], fun i hi => ?_⟩
    rw [List.getD_eq_getElem?_getD, List.getElem?_map, List.getElem?_range hi]; rfl
  · rintro ⟨h, h2⟩
    refine List.ext_getElem? fun i => ?_
    by_cases hi : i < m
    · rw [List.getElem?_map, List.getElem?_range hi]
      have := h2 i hi
      rw [List.getD_eq_getElem?_getD, List.getElem?_eq_getElem (by omega)] at this
      rw [List.getElem?_eq_getElem (by omega)]
      exact congrArg some this
    · rw [List.getElem?_map, List.getElem?_eq_none (by rw [List.length_range]; omega), List.getElem?_eq_none (by omega)]; rfl
/-- the token as the component has it -/
def ub (x : Int) : Int := if x < 0 then x + 256 else x
def pTok (t : Nat → Int) (n p : Nat) : Int := if n ≤ pB t n p then 22 else if isL (t (pB t n p)) = true then (pWd t n p : Int) else if isD (t (pB t n p)) = true then 20 else 21
def pVx (t : Nat → Int) (n p : Nat) : Int := if n ≤ pB t n p then 0 else if isL (t (pB t n p)) = true then 0 else if isD (t (pB t n p)) = true then pV t n p else ub (t (pB t n p))
theorem pVal_hi {t : Nat → Int} : ∀ m p v, v ≤ 10000 → pVal t m p v ≤ 10000
  | 0, _, _, h => h
  | m + 1, p, v, h => by unfold pVal; exact pVal_hi m _ _ (Int.min_le_left _ _)
theorem pVal_lo {t : Nat → Int} : ∀ m p v, 0 ≤ v → (∀ k, p ≤ k → k < p + m → isD (t k) = true) → 0 ≤ pVal t m p v
  | 0, _, _, h, _ => h
  | m + 1, p, v, h, h2 => by
    unfold pVal
    have h3 := h2 p (Nat.le_refl _) (by omega)
    unfold isD at h3
    have := of_decide_eq_true h3
    exact pVal_lo m _ _ (by omega) fun k q1 q2 => h2 k (by omega) (by omega)
theorem pV_hi (p : Nat) : pV t n p ≤ 10000 := pVal_hi _ _ _ (by decide)
theorem pV_lo {p : Nat} (h : pB t n p < n) (h2 : isD (t (pB t n p)) = true) : 0 ≤ pV t n p := by
  refine pVal_lo _ _ _ (Int.le_refl _) fun k q1 q2 => ?_
  have e : pN t n p = pRun t n isD (n - pB t n p) (pB t n p) := by
    unfold pN
    dsimp only
    rw [if_neg (by omega), isL_D h2, if_neg (by decide), if_pos h2]
  rw [e] at q2
  have := pRun_ge (t := t) (n := n) (P := isD) (n - pB t n p) (pB t n p)
  exact pRun_all (n := n) (n - pB t n p) (pB t n p) k q1 (by omega)
theorem pTok_22 {p : Nat} : pTok t n p = 22 ↔ pS t n p = 0 := by
  rw [pS_0]
  unfold pTok
  have := pWd_or (t := t) (n := n) p
  constructor
  · intro h
    split at h
    · assumption
    · (repeat' split at h) <;> omega
  · intro h; rw [if_pos h]
theorem pTok_20 {p : Nat} : pTok t n p = 20 ↔ pB t n p < n ∧ isD (t (pB t n p)) = true := by
  unfold pTok
  have := pWd_or (t := t) (n := n) p
  constructor
  · intro h
    split at h
    · omega
    · split at h
      · omega
      · split at h
        · exact ⟨by omega, by assumption⟩
        · omega
  · rintro ⟨h, h2⟩
    rw [if_neg (by omega), isL_D h2, if_neg (by decide), if_pos h2]
theorem pTok_num {p : Nat} : (pTok t n p = 20 ∧ pVx t n p ≤ 9999) ↔ pS t n p = 2 := by
  rw [pTok_20, pS_2]
  constructor
  · rintro ⟨⟨h, h2⟩, h3⟩
    refine ⟨⟨h, h2⟩, ?_⟩
    unfold pVx at h3
    rwa [if_neg (by omega), isL_D h2, if_neg (by decide), if_pos h2] at h3
  · rintro ⟨⟨h, h2⟩, h3⟩
    refine ⟨⟨h, h2⟩, ?_⟩
    unfold pVx
    rwa [if_neg (by omega), isL_D h2, if_neg (by decide), if_pos h2]
theorem pVx_num {p : Nat} (h : pS t n p = 2) : pVx t n p = pV t n p := by
  obtain ⟨⟨h1, h2⟩, _⟩ := pS_2.mp h
  unfold pVx
  rw [if_neg (by omega), isL_D h2, if_neg (by decide), if_pos h2]
theorem pTok_w {p k : Nat} (hk : k < 18) : pTok t n p = k ↔ pWd t n p = k := by
  have := pWd_or (t := t) (n := n) p
  by_cases h : pS t n p = 1
  · obtain ⟨h1, h2⟩ := pS_1.mp h
    unfold pTok
    rw [if_neg (by omega), if_pos h2]
    omega
  · rw [pWd_no h]
    unfold pTok
    constructor
    · intro q
      split at q
      · omega
      · split at q
        · exact absurd (pS_1.mpr ⟨by omega, by assumption⟩) h
        · split at q <;> omega
    · intro q; omega
theorem pTok_sg {p : Nat} {c : Int} (hc : isSg c = true) (ht : ∀ k, k < n → -128 ≤ t k ∧ t k ≤ 127) : (pTok t n p = 21 ∧ pVx t n p = c) ↔ pSign t n p c = true := by
  rw [pSign_iff hc]
  obtain ⟨c1, c2, c3, c4⟩ := isS_n hc
  have := pWd_or (t := t) (n := n) p
  constructor
  · rintro ⟨h, h2⟩
    unfold pTok at h
    unfold pVx at h2
    by_cases q : n ≤ pB t n p
    · rw [if_pos q] at h; omega
    · rw [if_neg q] at h h2
      by_cases q2 : isL (t (pB t n p)) = true
      · rw [if_pos q2] at h; omega
      · rw [if_neg q2] at h h2
        by_cases q3 : isD (t (pB t n p)) = true
        · rw [if_pos q3] at h; omega
        · rw [if_neg q3] at h2
          unfold ub at h2
          have := ht (pB t n p) (by omega)
          exact ⟨by omega, by omega⟩
  · rintro ⟨h, h2⟩
    refine ⟨?_, ?_⟩
    · unfold pTok
      rw [if_neg (by omega), h2, c1, if_neg Bool.false_ne_true, c2, if_neg Bool.false_ne_true]
    · unfold pVx
      rw [if_neg (by omega), h2, c1, if_neg Bool.false_ne_true, c2, if_neg Bool.false_ne_true]
      exact if_neg (by omega)
theorem pTok_lo {p : Nat} : 0 ≤ pTok t n p ∧ pTok t n p ≤ 23 := by
  have := pWd_or (t := t) (n := n) p
  unfold pTok
  (repeat' split) <;> omega
theorem pVx_lo {p : Nat} (ht : ∀ k, k < n → -128 ≤ t k ∧ t k ≤ 127) : 0 ≤ pVx t n p ∧ pVx t n p ≤ 10000 := by
  unfold pVx
  split
  · omega
  · split
    · omega
    · split
      · exact ⟨pV_lo (by omega) (by assumption), pV_hi p⟩
      · have := ht (pB t n p) (by omega)
        unfold ub
        split <;> omega
end LEX
/-! every reading comes to an end, and a reading that goes on has taken a token -/
def gdP (n p : Nat) {α : Type} (r : PR α) : Prop := ∃ x, r = some x ∧ ∀ a q, x = .inr (a, q) → p < q ∧ q ≤ n
def gdQ (n p : Nat) {α : Type} (r : PR α) : Prop := ∃ x, r = some x ∧ ∀ a q, x = .inr (a, q) → p ≤ q ∧ q ≤ n
theorem gd_fail {t : Nat → Int} {n p k : Nat} {α : Type} {c : Int} : gdP n p (pFail t n c k : PR α) := ⟨_, rfl, fun a q h => by cases h⟩
theorem gq_fail {t : Nat → Int} {n p k : Nat} {α : Type} {c : Int} : gdQ n p (pFail t n c k : PR α) := ⟨_, rfl, fun a q h => by cases h⟩
theorem gd_ok {n p q : Nat} {α : Type} {a : α} (h : p < q) (h2 : q ≤ n) : gdP n p (pOk a q) := ⟨_, rfl, fun b r e => by cases e; exact ⟨h, h2⟩⟩
theorem gq_ok {n p q : Nat} {α : Type} {a : α} (h : p ≤ q) (h2 : q ≤ n) : gdQ n p (pOk a q) := ⟨_, rfl, fun b r e => by cases e; exact ⟨h, h2⟩⟩
theorem gd_q {n p : Nat} {α : Type} {r : PR α} (h : gdP n p r) : gdQ n p r := by
  obtain ⟨x, h1, h2⟩ := h
  exact ⟨x, h1, fun a q e => ⟨Nat.le_of_lt (h2 a q e).1, (h2 a q e).2⟩⟩
theorem gd_bind {n p p' : Nat} {α β : Type} {r : PR α} {f : α → Nat → PR β} (h : gdP n p' r) (hp : p ≤ p') (hf : ∀ a q, p' < q → q ≤ n → gdQ n q (f a q)) : gdP n p (pBind r f) := by
  obtain ⟨x, rfl, h2⟩ := h
  cases x with
  | inl e => exact ⟨_, rfl, fun a q z => by cases z⟩
  | inr x =>
    obtain ⟨a, q⟩ := x
    have := h2 a q rfl
    obtain ⟨y, h3, h4⟩ := hf a q this.1 this.2
    refine ⟨y, h3, fun b r z => ?_⟩
    have := h4 b r z
    omega
theorem gq_bind {n p p' : Nat} {α β : Type} {r : PR α} {f : α → Nat → PR β} (h : gdQ n p' r) (hp : p ≤ p') (hf : ∀ a q, p' ≤ q → q ≤ n → gdQ n q (f a q)) : gdQ n p (pBind r f) := by
  obtain ⟨x, rfl, h2⟩ := h
  cases x with
  | inl e => exact ⟨_, rfl, fun a q z => by cases z⟩
  | inr x =>
    obtain ⟨a, q⟩ := x
    have := h2 a q rfl
    obtain ⟨y, h3, h4⟩ := hf a q this.1 this.2
    refine ⟨y, h3, fun b r z => ?_⟩
    have := h4 b r z
    omega
section GD
variable {t : Nat → Int} {n : Nat}
theorem sg_adv {p : Nat} {c : Int} (h : pSign t n p c = true) (hp : p ≤ n) : p < pN t n p ∧ pN t n p ≤ n := by
  refine ⟨pN_adv ?_, pN_le hp⟩
  unfold pSign at h
  have := of_decide_eq_true h
  omega
theorem wd_adv {p : Nat} (h : pWd t n p < 18) (hp : p ≤ n) : p < pN t n p ∧ pN t n p ≤ n := by
  refine ⟨pN_adv fun q => ?_, pN_le hp⟩
  rw [pWd_no (by omega)] at h
  omega
theorem nm_adv {p : Nat} (h : pS t n p = 2) (hp : p ≤ n) : p < pN t n p ∧ pN t n p ≤ n := ⟨pN_adv (by omega), pN_le hp⟩
theorem gd_must {p : Nat} {c : Int} (hp : p ≤ n) : gdP n p (pMust t n c p) := by
  unfold pMust
  split
  · rename_i h; exact gd_ok (sg_adv h hp).1 (sg_adv h hp).2
  · exact gd_fail
theorem gd_mustW {p w : Nat} (hw : w < 18) (hp : p ≤ n) : gdP n p (pMustW t n w p) := by
  unfold pMustW
  split
  · rename_i h; exact gd_ok (wd_adv (by omega) hp).1 (wd_adv (by omega) hp).2
  · exact gd_fail
theorem gd_num {p : Nat} {hi : Int} (hp : p ≤ n) : gdP n p (pNum t n hi p) := by
  unfold pNum
  split
  · exact gd_fail
  · rename_i h
    split
    · exact gd_fail
    · exact gd_ok (nm_adv (by omega) hp).1 (nm_adv (by omega) hp).2
theorem gq_termL {fac : Nat → PR PF} (hf : ∀ q, q ≤ n → gdP n q (fac q)) : ∀ m g ys gs p, p ≤ n → n - p < m → gdQ n p (pTermL t n fac m g ys gs p)
  | 0, _, _, _, _, _, h => absurd h (Nat.not_lt_zero _)
  | m + 1, g, ys, gs, p, hp, h => by
    unfold pTermL
    split
    · rename_i e
      have a := sg_adv e hp
      refine gd_q (gd_bind (hf _ a.2) (Nat.le_of_lt a.1) fun b q h1 h2 => gq_termL hf m _ _ _ q h2 (by omega))
    · exact gq_ok (Nat.le_refl _) hp
theorem gd_term {fac : Nat → PR PF} (hf : ∀ q, q ≤ n → gdP n q (fac q)) (hn : n ≤ 400) {p : Nat} (hp : p ≤ n) : gdP n p (pTerm t n fac p) := gd_bind (hf p hp) (Nat.le_refl _) fun g q h1 h2 => gq_termL hf _ _ _ _ q h2 (by omega)
theorem gq_sumL {fac : Nat → PR PF} (hf : ∀ q, q ≤ n → gdP n q (fac q)) (hn : n ≤ 400) : ∀ m g ys gs p, p ≤ n → n - p < m → gdQ n p (pSumL t n fac m g ys gs p)
  | 0, _, _, _, _, _, h => absurd h (Nat.not_lt_zero _)
  | m + 1, g, ys, gs, p, hp, h => by
    unfold pSumL
    split
    · rename_i e
      have a := sg_adv e hp
      exact gd_q (gd_bind (gd_term hf hn a.2) (Nat.le_of_lt a.1) fun b q h1 h2 => gq_sumL hf hn m _ _ _ q h2 (by omega))
    · split
      · rename_i e
        have a := sg_adv e hp
        exact gd_q (gd_bind (gd_term hf hn a.2) (Nat.le_of_lt a.1) fun b q h1 h2 => gq_sumL hf hn m _ _ _ q h2 (by omega))
      · exact gq_ok (Nat.le_refl _) hp
theorem gd_sum {fac : Nat → PR PF} (hf : ∀ q, q ≤ n → gdP n q (fac q)) (hn : n ≤ 400) {p : Nat} (hp : p ≤ n) : gdP n p (pSum t n fac p) := gd_bind (gd_term hf hn hp) (Nat.le_refl _) fun g q h1 h2 => gq_sumL hf hn _ _ _ _ q h2 (by omega)
theorem gd_fac (hn : n ≤ 400) : ∀ k o p, p ≤ n → o ≤ 8 → 9 ≤ k + o → gdP n p (pFac t n k o p)
  | 0, o, p, _, h2, h3 => by omega
  | k + 1, o, p, hp, h2, h3 => by
    unfold pFac
    split
    · rename_i e; exact gd_ok (wd_adv (by omega) hp).1 (wd_adv (by omega) hp).2
    · split
      · rename_i e; exact gd_ok (nm_adv e hp).1 (nm_adv e hp).2
      · split
        · rename_i e
          have a := sg_adv e hp
          split
          · exact gd_fail
          · exact gd_bind (gd_sum (fun q hq => gd_fac hn k (o + 1) q hq (by omega) (by omega)) hn a.2) (Nat.le_of_lt a.1) fun f q h1 h4 => gd_q (gd_bind (gd_must h4) (Nat.le_refl _) fun _ r h5 h6 => gq_ok (Nat.le_refl _) h6)
        · exact gd_fail
theorem gd_s0 (hn : n ≤ 400) {o p : Nat} (hp : p ≤ n) (ho : o ≤ 8) : gdP n p (pS0 t n o p) := gd_sum (fun q hq => gd_fac hn 10 o q hq ho (by omega)) hn hp
theorem gd_one (hn : n ≤ 400) : ∀ k o p, p ≤ n → o ≤ 8 → 9 ≤ k + o → gdP n p (pOne t n k o p)
  | 0, o, p, _, h2, h3 => by omega
  | k + 1, o, p, hp, h2, h3 => by
    unfold pOne
    split
    · rename_i e
      have a := wd_adv (t := t) (n := n) (p := p) (by omega) hp
      split
      · exact gd_fail
      · exact gd_bind (gd_one hn k (o + 1) _ a.2 (by omega) (by omega)) (Nat.le_of_lt a.1) fun f q h1 h4 => gq_ok (Nat.le_refl _) h4
    · refine gd_bind (gd_s0 hn hp h2) (Nat.le_refl _) fun f q h1 h4 => ?_
      split
      · rename_i e
        have a : q < pN t n q ∧ pN t n q ≤ n := by
          rcases e with e | e | e <;> exact sg_adv e h4
        exact gd_q (gd_bind (gd_s0 hn a.2 h2) (Nat.le_of_lt a.1) fun _ r h5 h6 => gq_ok (Nat.le_refl _) h6)
      · exact gq_fail
theorem gq_allL (hn : n ≤ 400) : ∀ m gs p, p ≤ n → n - p < m → gdQ n p (pAllL t n m gs p)
  | 0, _, _, _, h => absurd h (Nat.not_lt_zero _)
  | m + 1, gs, p, hp, h => by
    unfold pAllL
    split
    · rename_i e
      have a := wd_adv (t := t) (n := n) (p := p) (by omega) hp
      exact gd_q (gd_bind (gd_one hn 10 0 _ a.2 (by omega) (by omega)) (Nat.le_of_lt a.1) fun b q h1 h2 => gq_allL hn m _ q h2 (by omega))
    · exact gq_ok (Nat.le_refl _) hp
theorem gd_all (hn : n ≤ 400) {p : Nat} (hp : p ≤ n) : gdP n p (pAll t n p) := gd_bind (gd_one hn 10 0 p hp (by omega) (by omega)) (Nat.le_refl _) fun g q h1 h2 => gq_bind (gq_allL hn _ _ q h2 (by omega)) (Nat.le_refl _) fun _ r _ h4 => gq_ok (Nat.le_refl _) h4
theorem gq_anyL (hn : n ≤ 400) : ∀ m gs p, p ≤ n → n - p < m → gdQ n p (pAnyL t n m gs p)
  | 0, _, _, _, h => absurd h (Nat.not_lt_zero _)
  | m + 1, gs, p, hp, h => by
    unfold pAnyL
    split
    · rename_i e
      have a := wd_adv (t := t) (n := n) (p := p) (by omega) hp
      exact gd_q (gd_bind (gd_all hn a.2) (Nat.le_of_lt a.1) fun b q h1 h2 => gq_anyL hn m _ q h2 (by omega))
    · exact gq_ok (Nat.le_refl _) hp
theorem gd_any (hn : n ≤ 400) {p : Nat} (hp : p ≤ n) : gdP n p (pAny t n p) := gd_bind (gd_all hn hp) (Nat.le_refl _) fun g q h1 h2 => gq_bind (gq_anyL hn _ _ q h2 (by omega)) (Nat.le_refl _) fun _ r _ h4 => gq_ok (Nat.le_refl _) h4
theorem gd_goal {el st : Int} {p : Nat} (hp : p ≤ n) : gdP n p (pGoal t n el st p) := by
  unfold pGoal
  split
  · rename_i e
    exact gd_ok (wd_adv (by omega) hp).1 (wd_adv (by omega) hp).2
  · split
    · rename_i e
      have a := wd_adv (t := t) (n := n) (p := p) (by omega) hp
      dsimp only
      split
      · exact gd_fail
      · rename_i e2
        have b := nm_adv (t := t) (n := n) (p := pN t n p) (by omega) a.2
        split
        · exact gd_fail
        · exact gd_ok (by omega) b.2
    · split
      · rename_i e
        have a := wd_adv (t := t) (n := n) (p := p) (by omega) hp
        exact gd_bind (gd_num a.2) (Nat.le_of_lt a.1) fun k q h1 h2 => gd_q (gd_bind (gd_must h2) (Nat.le_refl _) fun _ r h3 h4 => gd_q (gd_bind (gd_num h4) (Nat.le_refl _) fun _ s h5 h6 => gq_ok (Nat.le_refl _) h6))
      · exact gd_fail
theorem gd_step (hn : n ≤ 400) {el : Int} {K : List KStp} {p : Nat} (hp : p ≤ n) : gdP n p (pStep t n el K p) := by
  unfold pStep
  split
  · exact gd_fail
  · rename_i e
    have a := nm_adv (t := t) (n := n) (p := p) (by omega) hp
    split
    · exact gd_fail
    · split
      · exact gd_fail
      · exact gd_bind (gd_must a.2) (Nat.le_of_lt a.1) fun _ q h1 h2 => gd_q (gd_bind (gd_any hn h2) (Nat.le_refl _) fun _ q h1 h2 => gd_q (gd_bind (gd_mustW (by omega) h2) (Nat.le_refl _) fun _ q h1 h2 => gd_q (gd_bind (gd_goal h2) (Nat.le_refl _) fun _ q h1 h2 => gd_q (gd_bind (gd_mustW (by omega) h2) (Nat.le_refl _) fun _ q h1 h2 => gd_q (gd_bind (gd_goal h2) (Nat.le_refl _) fun _ q h1 h2 => gq_ok (Nat.le_refl _) h2)))))
theorem gq_stepsL (hn : n ≤ 400) {el : Int} : ∀ m K p, p ≤ n → n - p < m → gdQ n p (pStepsL t n el m K p)
  | 0, _, _, _, h => absurd h (Nat.not_lt_zero _)
  | m + 1, K, p, hp, h => by
    unfold pStepsL
    split
    · rename_i e
      have a := sg_adv e hp
      split
      · obtain ⟨x, h1, h2⟩ := gq_stepsL hn (el := el) m K (pN t n p) a.2 (by omega)
        exact ⟨x, h1, fun b q z => by have := h2 b q z; omega⟩
      · exact gd_q (gd_bind (gd_step hn a.2) (Nat.le_of_lt a.1) fun b q h1 h2 => gq_stepsL hn m _ q h2 (by omega))
    · exact gq_ok (Nat.le_refl _) hp
theorem pKey_some (hn : n ≤ 400) {el : Int} : ∃ x, pKey t n el = some x := by
  have : gdQ n 0 (pKey t n el) := by
    unfold pKey
    refine gd_q (gd_bind (gd_step hn (Nat.zero_le _)) (Nat.le_refl _) fun K q h1 h2 => gq_bind (gq_stepsL hn _ _ q h2 (by omega)) (Nat.le_refl _) fun K r h3 h4 => ?_)
    split
    · exact gq_fail
    · split
      · exact gq_ok (Nat.le_refl _) h4
      · exact ⟨_, rfl, fun a q z => by cases z⟩
  obtain ⟨x, h, _⟩ := this
  exact ⟨x, h⟩
end GD
