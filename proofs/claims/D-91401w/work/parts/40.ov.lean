/-! ===== the fixed memory: what lies at the component's and the model's addresses (printed by gen/genov.py) ===== -/
set_option maxRecDepth 100000
def sh_T : List (Nat × Nat) := [(1, 41), (105, 4), (106, 12), (107, 200), (103, 8), (103, 16), (103, 16), (103, 142), (103, 142), (103, 16), (103, 16), (108, 16), (100, 16), (100, 16), (100, 16), (100, 16), (100, 16), (100, 16), (100, 16), (100, 16), (100, 16), (100, 16), (100, 16), (100, 16), (100, 16), (100, 16), (100, 16), (100, 16), (101, 400), (2, 10), (109, 18), (3, 8), (110, 12), (103, 200), (103, 200), (103, 200), (103, 200), (103, 8), (103, 200), (103, 200), (111, 8), (103, 8), (103, 8), (103, 8), (103, 8), (103, 8), (103, 8), (103, 8), (103, 8), (111, 9), (103, 9), (103, 9), (103, 9), (103, 9), (103, 9), (103, 9), (103, 9), (103, 9), (103, 9), (103, 20), (4, 1), (4, 1), (4, 1), (4, 1), (5, 82), (103, 4), (103, 4), (104, 240), (104, 60), (100, 12), (103, 12), (103, 12), (103, 12), (103, 12), (103, 8), (103, 16), (103, 16), (103, 61), (103, 61), (103, 41), (103, 41), (103, 200), (103, 1200), (103, 200), (103, 200), (103, 200), (103, 200), (100, 200), (103, 8), (103, 64), (103, 2400), (103, 2400), (101, 400), (101, 5200), (103, 13), (103, 16), (103, 16), (100, 256), (100, 256), (103, 50), (103, 50), (103, 25), (103, 200), (103, 200), (103, 200), (100, 200), (103, 200), (103, 64), (103, 8), (103, 8), (103, 12), (103, 20), (103, 20), (104, 21000)]
def shX (a : Nat) : Nat × Nat := sh_T.getD (a - 42) (0, 0)
def cs_42 : List (Nat × Nat) := [(0, 43), (1, 44), (2, 45), (3, 46), (4, 47), (5, 48), (11, 49), (12, 50), (16, 51), (17, 52), (18, 53), (19, 70), (25, 71), (26, 74), (27, 75), (28, 76), (29, 77), (30, 78), (33, 79), (34, 80), (35, 81), (37, 82), (39, 91), (40, 101)]
def cs_71 : List (Nat × Nat) := [(0, 72), (1, 73), (9, 42)]
def cs_106 : List (Nat × Nat) := [(1, 107), (2, 108), (3, 109), (4, 110), (14, 111), (15, 112), (16, 113), (17, 114), (18, 115), (19, 116), (20, 117), (21, 118), (22, 119), (23, 120), (24, 121), (25, 122), (26, 123), (27, 124), (28, 125), (29, 126), (30, 127), (31, 128), (32, 129), (33, 130), (34, 131), (35, 132), (36, 133), (37, 134), (41, 135), (42, 136), (43, 137), (44, 138), (45, 139), (46, 140), (62, 141), (63, 142), (64, 143), (66, 144), (67, 145), (68, 146), (69, 147), (71, 148), (74, 149), (76, 150), (77, 151), (78, 152), (79, 153), (80, 154), (81, 155)]
def csT (a k : Nat) : Option Nat := cond (Nat.beq a 106) (b_lkN cs_106 k) (cond (Nat.beq a 42) (b_lkN cs_42 k) (cond (Nat.beq a 71) (b_lkN cs_71 k) (cond (Nat.beq a 43) (cond (Nat.blt k 4) (some (102 + k)) none) (cond (Nat.beq a 53) (cond (Nat.blt k 16) (some (54 + k)) none) (cond (Nat.beq a 82) (cond (Nat.blt k 8) (some (83 + k)) none) (cond (Nat.beq a 91) (cond (Nat.blt k 9) (some (92 + k)) none) (cond (Nat.beq a 72) (cond (Nat.blt k 18) (some (5 + 2 * k)) none) none)))))))
abbrev Mm : Type := Nat → Nat → Value
def up (S : Mm) (a k : Nat) (v : Value) : Mm := fun b j => if b = a ∧ j = k then v else S b j
def gi (S : Mm) (a k : Nat) : Int := b_vi (S a k)
def gl (S : Mm) (a k : Nat) : Int := b_vlg (S a k)
def cvT (S : Mm) (a k : Nat) : Value := match csT a k with
  | some b => .ref b
  | none => S a k
def inF (a : Nat) : Bool := Nat.ble 42 a && Nat.blt a 156
/-- the fixed memory S over a heap -/
def ov (S : Mm) (δ : Sg) : Sg := (δ.1, δ.2.1, δ.2.2.1, fun a => cond (inF a) ((shX a).1, (shX a).2, cvT S a) (δ.2.2.2 a))
theorem inF_no {a : Nat} (h : a < 42 ∨ 156 ≤ a) : inF a = false := by
  unfold inF
  rcases h with h | h
  · have : Nat.ble 42 a = false := by
      cases e : Nat.ble 42 a with
      | false => rfl
      | true => have := Nat.le_of_ble_eq_true e; omega
    rw [this]; rfl
  · have : Nat.blt a 156 = false := by
      cases e : Nat.blt a 156 with
      | false => rfl
      | true => have := Nat.le_of_ble_eq_true e; omega
    rw [this, Bool.and_false]
theorem inF_yes {a : Nat} (h : 42 ≤ a) (h2 : a < 156) : inF a = true := by
  unfold inF
  have e1 : Nat.ble 42 a = true := Nat.ble_eq_true_of_le h
  have e2 : Nat.blt a 156 = true := Nat.ble_eq_true_of_le h2
  rw [e1, e2]; rfl
theorem ov_1 {S : Mm} {δ : Sg} : (ov S δ).1 = δ.1 := rfl
theorem ov_c {S : Mm} {δ : Sg} : (ov S δ).2.1 = δ.2.1 := rfl
theorem ov_s {S : Mm} {δ : Sg} : (ov S δ).2.2.1 = δ.2.2.1 := rfl
theorem tg_ov {S : Mm} {δ : Sg} {a : Nat} (h : inF a = true) : b_tg (ov S δ) a = (shX a).1 := by
  unfold b_tg ov; dsimp only; rw [h]; rfl
theorem ln_ov {S : Mm} {δ : Sg} {a : Nat} (h : inF a = true) : b_ln (ov S δ) a = (shX a).2 := by
  unfold b_ln ov; dsimp only; rw [h]; rfl
theorem vl_ov {S : Mm} {δ : Sg} {a k : Nat} (h : inF a = true) : b_vl (ov S δ) a k = cvT S a k := by
  unfold b_vl ov; dsimp only; rw [h]; rfl
theorem ia_ov {S : Mm} {δ : Sg} {a k : Nat} (h : inF a = true) (hc : csT a k = none) : b_ia (ov S δ) a k = gi S a k := by
  unfold b_ia gi; rw [vl_ov h]; unfold cvT; rw [hc]
theorem la_ov {S : Mm} {δ : Sg} {a k : Nat} (h : inF a = true) (hc : csT a k = none) : b_la (ov S δ) a k = gl S a k := by
  unfold b_la gl; rw [vl_ov h]; unfold cvT; rw [hc]
theorem vm_ov {S : Mm} {δ : Sg} {a k : Nat} (h : inF a = true) (hc : csT a k = none) : b_vl (ov S δ) a k = S a k := by
  rw [vl_ov h]; unfold cvT; rw [hc]
theorem vc_ov {S : Mm} {δ : Sg} {a k b : Nat} (h : inF a = true) (hc : csT a k = some b) : b_vl (ov S δ) a k = .ref b := by
  rw [vl_ov h]; unfold cvT; rw [hc]
theorem tgd {S : Mm} {δ : Sg} {a : Nat} (h : a < 42 ∨ 156 ≤ a) : b_tg (ov S δ) a = b_tg δ a := by
  unfold b_tg ov; dsimp only; rw [inF_no h]; rfl
theorem lnd {S : Mm} {δ : Sg} {a : Nat} (h : a < 42 ∨ 156 ≤ a) : b_ln (ov S δ) a = b_ln δ a := by
  unfold b_ln ov; dsimp only; rw [inF_no h]; rfl
theorem vld {S : Mm} {δ : Sg} {a k : Nat} (h : a < 42 ∨ 156 ≤ a) : b_vl (ov S δ) a k = b_vl δ a k := by
  unfold b_vl ov; dsimp only; rw [inF_no h]; rfl
theorem iad {S : Mm} {δ : Sg} {a k : Nat} (h : a < 42 ∨ 156 ≤ a) : b_ia (ov S δ) a k = b_ia δ a k := by
  unfold b_ia; rw [vld h]
theorem lad {S : Mm} {δ : Sg} {a k : Nat} (h : a < 42 ∨ 156 ≤ a) : b_la (ov S δ) a k = b_la δ a k := by
  unfold b_la; rw [vld h]
theorem nw_ov {S : Mm} {δ : Sg} {t n : Nat} {f : Nat → Value} (h : 156 ≤ δ.1) : b_nw (ov S δ) t n f = ov S (b_nw δ t n f) := by
  unfold b_nw ov
  dsimp only
  congr 3
  funext b
  by_cases e : b = δ.1
  · subst e; rw [if_pos rfl, if_pos rfl, inF_no (Or.inr h)]; rfl
  · rw [if_neg e, if_neg e]
theorem bump_ov {S : Mm} {δ : Sg} {m n : Nat} : b_bump (ov S δ) m n = ov S (b_bump δ m n) := rfl
theorem ptd {S : Mm} {δ : Sg} {a k : Nat} {v : Value} (h : a < 42 ∨ 156 ≤ a) : b_pt (ov S δ) a k v = ov S (b_pt δ a k v) := by
  unfold b_pt ov
  dsimp only
  congr 3
  funext b
  by_cases e : b = a
  · subst e; rw [if_pos rfl, if_pos rfl, inF_no h]; rfl
  · rw [if_neg e, if_neg e]
theorem std {S : Mm} {δ : Sg} {a : Nat} {f : Nat → Value} (h : a < 42 ∨ 156 ≤ a) : b_st (ov S δ) a f = ov S (b_st δ a f) := by
  unfold b_st ov
  dsimp only
  congr 3
  funext b
  by_cases e : b = a
  · subst e; rw [if_pos rfl, if_pos rfl, inF_no h]; rfl
  · rw [if_neg e, if_neg e]
theorem pt_ov {S : Mm} {δ : Sg} {a k : Nat} {v : Value} (h : inF a = true) (hc : csT a k = none) : b_pt (ov S δ) a k v = ov (up S a k v) δ := by
  unfold b_pt ov
  dsimp only
  congr 3
  funext b
  by_cases e : b = a
  · subst e
    rw [if_pos rfl, h]
    show ((shX b).1, (shX b).2, fun j => if j = k then v else cvT S b j) = ((shX b).1, (shX b).2, cvT (up S b k v) b)
    refine congrArg (fun f : Nat → Value => ((shX b).1, (shX b).2, f)) ?_
    funext j
    show (if j = k then v else cvT S b j) = cvT (up S b k v) b j
    unfold cvT up
    by_cases ej : j = k
    · subst ej; rw [if_pos rfl, hc]; exact (if_pos ⟨rfl, rfl⟩).symm
    · rw [if_neg ej]
      cases csT b j with
      | some x => rfl
      | none => exact (if_neg fun z => ej z.2).symm
  · rw [if_neg e]
    cases inF b with
    | false => rfl
    | true =>
      refine congrArg (fun f : Nat → Value => ((shX b).1, (shX b).2, f)) ?_
      funext j
      unfold cvT up
      cases csT b j with
      | some x => rfl
      | none => exact (if_neg fun z => e z.1).symm
theorem gi_up {S : Mm} {a k b j : Nat} {v : Value} : gi (up S a k v) b j = if b = a ∧ j = k then b_vi v else gi S b j := by
  unfold gi up; split <;> rfl
theorem gl_up {S : Mm} {a k b j : Nat} {v : Value} : gl (up S a k v) b j = if b = a ∧ j = k then b_vlg v else gl S b j := by
  unfold gl up; split <;> rfl
theorem up_at {S : Mm} {a k b j : Nat} {v : Value} : up S a k v b j = if b = a ∧ j = k then v else S b j := rfl
theorem up_id {S : Mm} {a k : Nat} : up S a k (S a k) = S := by
  funext b j; unfold up; split
  · rename_i h; rw [h.1, h.2]
  · rfl
theorem gi_lo {S : Mm} {a k : Nat} : -2147483648 ≤ gi S a k := vi_lo _
theorem gi_hi {S : Mm} {a k : Nat} : gi S a k ≤ 2147483647 := vi_hi _
theorem w32_gi {S : Mm} {a k : Nat} : w32 (gi S a k) = gi S a k := w32_vi _
theorem cv_ret {v : Value} {σ : Sg} {k : Value → Sg → Option Rs} {hx : Nat → Sg → Option Rs} : b_cv (some (.inl (some v), σ)) k hx = k v σ := rfl
theorem cu_ret {σ : Sg} {k : Sg → Option Rs} {hx : Nat → Sg → Option Rs} : b_cu (some (.inl none, σ)) k hx = k σ := rfl
theorem th_eq {a : Nat} {σ : Sg} : b_th a σ = some (.inr a, σ) := rfl
theorem tg_42 {S : Mm} {δ : Sg} : b_tg (ov S δ) 42 = 1 := tg_ov rfl
theorem tg_43 {S : Mm} {δ : Sg} : b_tg (ov S δ) 43 = 105 := tg_ov rfl
theorem ln_43 {S : Mm} {δ : Sg} : b_ln (ov S δ) 43 = 4 := ln_ov rfl
theorem tg_44 {S : Mm} {δ : Sg} : b_tg (ov S δ) 44 = 106 := tg_ov rfl
theorem ln_44 {S : Mm} {δ : Sg} : b_ln (ov S δ) 44 = 12 := ln_ov rfl
theorem tg_45 {S : Mm} {δ : Sg} : b_tg (ov S δ) 45 = 107 := tg_ov rfl
theorem ln_45 {S : Mm} {δ : Sg} : b_ln (ov S δ) 45 = 200 := ln_ov rfl
theorem tg_46 {S : Mm} {δ : Sg} : b_tg (ov S δ) 46 = 103 := tg_ov rfl
theorem ln_46 {S : Mm} {δ : Sg} : b_ln (ov S δ) 46 = 8 := ln_ov rfl
theorem tg_47 {S : Mm} {δ : Sg} : b_tg (ov S δ) 47 = 103 := tg_ov rfl
theorem ln_47 {S : Mm} {δ : Sg} : b_ln (ov S δ) 47 = 16 := ln_ov rfl
theorem tg_48 {S : Mm} {δ : Sg} : b_tg (ov S δ) 48 = 103 := tg_ov rfl
theorem ln_48 {S : Mm} {δ : Sg} : b_ln (ov S δ) 48 = 16 := ln_ov rfl
theorem tg_49 {S : Mm} {δ : Sg} : b_tg (ov S δ) 49 = 103 := tg_ov rfl
theorem ln_49 {S : Mm} {δ : Sg} : b_ln (ov S δ) 49 = 142 := ln_ov rfl
theorem tg_50 {S : Mm} {δ : Sg} : b_tg (ov S δ) 50 = 103 := tg_ov rfl
theorem ln_50 {S : Mm} {δ : Sg} : b_ln (ov S δ) 50 = 142 := ln_ov rfl
theorem tg_51 {S : Mm} {δ : Sg} : b_tg (ov S δ) 51 = 103 := tg_ov rfl
theorem ln_51 {S : Mm} {δ : Sg} : b_ln (ov S δ) 51 = 16 := ln_ov rfl
theorem tg_52 {S : Mm} {δ : Sg} : b_tg (ov S δ) 52 = 103 := tg_ov rfl
theorem ln_52 {S : Mm} {δ : Sg} : b_ln (ov S δ) 52 = 16 := ln_ov rfl
theorem tg_53 {S : Mm} {δ : Sg} : b_tg (ov S δ) 53 = 108 := tg_ov rfl
theorem ln_53 {S : Mm} {δ : Sg} : b_ln (ov S δ) 53 = 16 := ln_ov rfl
theorem tg_54 {S : Mm} {δ : Sg} : b_tg (ov S δ) 54 = 100 := tg_ov rfl
theorem ln_54 {S : Mm} {δ : Sg} : b_ln (ov S δ) 54 = 16 := ln_ov rfl
theorem tg_55 {S : Mm} {δ : Sg} : b_tg (ov S δ) 55 = 100 := tg_ov rfl
theorem ln_55 {S : Mm} {δ : Sg} : b_ln (ov S δ) 55 = 16 := ln_ov rfl
theorem tg_56 {S : Mm} {δ : Sg} : b_tg (ov S δ) 56 = 100 := tg_ov rfl
theorem ln_56 {S : Mm} {δ : Sg} : b_ln (ov S δ) 56 = 16 := ln_ov rfl
theorem tg_57 {S : Mm} {δ : Sg} : b_tg (ov S δ) 57 = 100 := tg_ov rfl
theorem ln_57 {S : Mm} {δ : Sg} : b_ln (ov S δ) 57 = 16 := ln_ov rfl
theorem tg_58 {S : Mm} {δ : Sg} : b_tg (ov S δ) 58 = 100 := tg_ov rfl
theorem ln_58 {S : Mm} {δ : Sg} : b_ln (ov S δ) 58 = 16 := ln_ov rfl
theorem tg_59 {S : Mm} {δ : Sg} : b_tg (ov S δ) 59 = 100 := tg_ov rfl
theorem ln_59 {S : Mm} {δ : Sg} : b_ln (ov S δ) 59 = 16 := ln_ov rfl
theorem tg_60 {S : Mm} {δ : Sg} : b_tg (ov S δ) 60 = 100 := tg_ov rfl
theorem ln_60 {S : Mm} {δ : Sg} : b_ln (ov S δ) 60 = 16 := ln_ov rfl
theorem tg_61 {S : Mm} {δ : Sg} : b_tg (ov S δ) 61 = 100 := tg_ov rfl
theorem ln_61 {S : Mm} {δ : Sg} : b_ln (ov S δ) 61 = 16 := ln_ov rfl
theorem tg_62 {S : Mm} {δ : Sg} : b_tg (ov S δ) 62 = 100 := tg_ov rfl
theorem ln_62 {S : Mm} {δ : Sg} : b_ln (ov S δ) 62 = 16 := ln_ov rfl
theorem tg_63 {S : Mm} {δ : Sg} : b_tg (ov S δ) 63 = 100 := tg_ov rfl
theorem ln_63 {S : Mm} {δ : Sg} : b_ln (ov S δ) 63 = 16 := ln_ov rfl
theorem tg_64 {S : Mm} {δ : Sg} : b_tg (ov S δ) 64 = 100 := tg_ov rfl
theorem ln_64 {S : Mm} {δ : Sg} : b_ln (ov S δ) 64 = 16 := ln_ov rfl
theorem tg_65 {S : Mm} {δ : Sg} : b_tg (ov S δ) 65 = 100 := tg_ov rfl
theorem ln_65 {S : Mm} {δ : Sg} : b_ln (ov S δ) 65 = 16 := ln_ov rfl
theorem tg_66 {S : Mm} {δ : Sg} : b_tg (ov S δ) 66 = 100 := tg_ov rfl
theorem ln_66 {S : Mm} {δ : Sg} : b_ln (ov S δ) 66 = 16 := ln_ov rfl
theorem tg_67 {S : Mm} {δ : Sg} : b_tg (ov S δ) 67 = 100 := tg_ov rfl
theorem ln_67 {S : Mm} {δ : Sg} : b_ln (ov S δ) 67 = 16 := ln_ov rfl
theorem tg_68 {S : Mm} {δ : Sg} : b_tg (ov S δ) 68 = 100 := tg_ov rfl
theorem ln_68 {S : Mm} {δ : Sg} : b_ln (ov S δ) 68 = 16 := ln_ov rfl
theorem tg_69 {S : Mm} {δ : Sg} : b_tg (ov S δ) 69 = 100 := tg_ov rfl
theorem ln_69 {S : Mm} {δ : Sg} : b_ln (ov S δ) 69 = 16 := ln_ov rfl
theorem tg_70 {S : Mm} {δ : Sg} : b_tg (ov S δ) 70 = 101 := tg_ov rfl
theorem ln_70 {S : Mm} {δ : Sg} : b_ln (ov S δ) 70 = 400 := ln_ov rfl
theorem tg_71 {S : Mm} {δ : Sg} : b_tg (ov S δ) 71 = 2 := tg_ov rfl
theorem tg_72 {S : Mm} {δ : Sg} : b_tg (ov S δ) 72 = 109 := tg_ov rfl
theorem ln_72 {S : Mm} {δ : Sg} : b_ln (ov S δ) 72 = 18 := ln_ov rfl
theorem tg_73 {S : Mm} {δ : Sg} : b_tg (ov S δ) 73 = 3 := tg_ov rfl
theorem tg_74 {S : Mm} {δ : Sg} : b_tg (ov S δ) 74 = 110 := tg_ov rfl
theorem ln_74 {S : Mm} {δ : Sg} : b_ln (ov S δ) 74 = 12 := ln_ov rfl
theorem tg_75 {S : Mm} {δ : Sg} : b_tg (ov S δ) 75 = 103 := tg_ov rfl
theorem ln_75 {S : Mm} {δ : Sg} : b_ln (ov S δ) 75 = 200 := ln_ov rfl
theorem tg_76 {S : Mm} {δ : Sg} : b_tg (ov S δ) 76 = 103 := tg_ov rfl
theorem ln_76 {S : Mm} {δ : Sg} : b_ln (ov S δ) 76 = 200 := ln_ov rfl
theorem tg_77 {S : Mm} {δ : Sg} : b_tg (ov S δ) 77 = 103 := tg_ov rfl
theorem ln_77 {S : Mm} {δ : Sg} : b_ln (ov S δ) 77 = 200 := ln_ov rfl
theorem tg_78 {S : Mm} {δ : Sg} : b_tg (ov S δ) 78 = 103 := tg_ov rfl
theorem ln_78 {S : Mm} {δ : Sg} : b_ln (ov S δ) 78 = 200 := ln_ov rfl
theorem tg_79 {S : Mm} {δ : Sg} : b_tg (ov S δ) 79 = 103 := tg_ov rfl
theorem ln_79 {S : Mm} {δ : Sg} : b_ln (ov S δ) 79 = 8 := ln_ov rfl
theorem tg_80 {S : Mm} {δ : Sg} : b_tg (ov S δ) 80 = 103 := tg_ov rfl
theorem ln_80 {S : Mm} {δ : Sg} : b_ln (ov S δ) 80 = 200 := ln_ov rfl
theorem tg_81 {S : Mm} {δ : Sg} : b_tg (ov S δ) 81 = 103 := tg_ov rfl
theorem ln_81 {S : Mm} {δ : Sg} : b_ln (ov S δ) 81 = 200 := ln_ov rfl
theorem tg_82 {S : Mm} {δ : Sg} : b_tg (ov S δ) 82 = 111 := tg_ov rfl
theorem ln_82 {S : Mm} {δ : Sg} : b_ln (ov S δ) 82 = 8 := ln_ov rfl
theorem tg_83 {S : Mm} {δ : Sg} : b_tg (ov S δ) 83 = 103 := tg_ov rfl
theorem ln_83 {S : Mm} {δ : Sg} : b_ln (ov S δ) 83 = 8 := ln_ov rfl
theorem tg_84 {S : Mm} {δ : Sg} : b_tg (ov S δ) 84 = 103 := tg_ov rfl
theorem ln_84 {S : Mm} {δ : Sg} : b_ln (ov S δ) 84 = 8 := ln_ov rfl
theorem tg_85 {S : Mm} {δ : Sg} : b_tg (ov S δ) 85 = 103 := tg_ov rfl
theorem ln_85 {S : Mm} {δ : Sg} : b_ln (ov S δ) 85 = 8 := ln_ov rfl
theorem tg_86 {S : Mm} {δ : Sg} : b_tg (ov S δ) 86 = 103 := tg_ov rfl
theorem ln_86 {S : Mm} {δ : Sg} : b_ln (ov S δ) 86 = 8 := ln_ov rfl
theorem tg_87 {S : Mm} {δ : Sg} : b_tg (ov S δ) 87 = 103 := tg_ov rfl
theorem ln_87 {S : Mm} {δ : Sg} : b_ln (ov S δ) 87 = 8 := ln_ov rfl
theorem tg_88 {S : Mm} {δ : Sg} : b_tg (ov S δ) 88 = 103 := tg_ov rfl
theorem ln_88 {S : Mm} {δ : Sg} : b_ln (ov S δ) 88 = 8 := ln_ov rfl
theorem tg_89 {S : Mm} {δ : Sg} : b_tg (ov S δ) 89 = 103 := tg_ov rfl
theorem ln_89 {S : Mm} {δ : Sg} : b_ln (ov S δ) 89 = 8 := ln_ov rfl
theorem tg_90 {S : Mm} {δ : Sg} : b_tg (ov S δ) 90 = 103 := tg_ov rfl
theorem ln_90 {S : Mm} {δ : Sg} : b_ln (ov S δ) 90 = 8 := ln_ov rfl
theorem tg_91 {S : Mm} {δ : Sg} : b_tg (ov S δ) 91 = 111 := tg_ov rfl
theorem ln_91 {S : Mm} {δ : Sg} : b_ln (ov S δ) 91 = 9 := ln_ov rfl
theorem tg_92 {S : Mm} {δ : Sg} : b_tg (ov S δ) 92 = 103 := tg_ov rfl
theorem ln_92 {S : Mm} {δ : Sg} : b_ln (ov S δ) 92 = 9 := ln_ov rfl
theorem tg_93 {S : Mm} {δ : Sg} : b_tg (ov S δ) 93 = 103 := tg_ov rfl
theorem ln_93 {S : Mm} {δ : Sg} : b_ln (ov S δ) 93 = 9 := ln_ov rfl
theorem tg_94 {S : Mm} {δ : Sg} : b_tg (ov S δ) 94 = 103 := tg_ov rfl
theorem ln_94 {S : Mm} {δ : Sg} : b_ln (ov S δ) 94 = 9 := ln_ov rfl
theorem tg_95 {S : Mm} {δ : Sg} : b_tg (ov S δ) 95 = 103 := tg_ov rfl
theorem ln_95 {S : Mm} {δ : Sg} : b_ln (ov S δ) 95 = 9 := ln_ov rfl
theorem tg_96 {S : Mm} {δ : Sg} : b_tg (ov S δ) 96 = 103 := tg_ov rfl
theorem ln_96 {S : Mm} {δ : Sg} : b_ln (ov S δ) 96 = 9 := ln_ov rfl
theorem tg_97 {S : Mm} {δ : Sg} : b_tg (ov S δ) 97 = 103 := tg_ov rfl
theorem ln_97 {S : Mm} {δ : Sg} : b_ln (ov S δ) 97 = 9 := ln_ov rfl
theorem tg_98 {S : Mm} {δ : Sg} : b_tg (ov S δ) 98 = 103 := tg_ov rfl
theorem ln_98 {S : Mm} {δ : Sg} : b_ln (ov S δ) 98 = 9 := ln_ov rfl
theorem tg_99 {S : Mm} {δ : Sg} : b_tg (ov S δ) 99 = 103 := tg_ov rfl
theorem ln_99 {S : Mm} {δ : Sg} : b_ln (ov S δ) 99 = 9 := ln_ov rfl
theorem tg_100 {S : Mm} {δ : Sg} : b_tg (ov S δ) 100 = 103 := tg_ov rfl
theorem ln_100 {S : Mm} {δ : Sg} : b_ln (ov S δ) 100 = 9 := ln_ov rfl
theorem tg_101 {S : Mm} {δ : Sg} : b_tg (ov S δ) 101 = 103 := tg_ov rfl
theorem ln_101 {S : Mm} {δ : Sg} : b_ln (ov S δ) 101 = 20 := ln_ov rfl
theorem tg_102 {S : Mm} {δ : Sg} : b_tg (ov S δ) 102 = 4 := tg_ov rfl
theorem tg_103 {S : Mm} {δ : Sg} : b_tg (ov S δ) 103 = 4 := tg_ov rfl
theorem tg_104 {S : Mm} {δ : Sg} : b_tg (ov S δ) 104 = 4 := tg_ov rfl
theorem tg_105 {S : Mm} {δ : Sg} : b_tg (ov S δ) 105 = 4 := tg_ov rfl
theorem tg_106 {S : Mm} {δ : Sg} : b_tg (ov S δ) 106 = 5 := tg_ov rfl
theorem tg_107 {S : Mm} {δ : Sg} : b_tg (ov S δ) 107 = 103 := tg_ov rfl
theorem ln_107 {S : Mm} {δ : Sg} : b_ln (ov S δ) 107 = 4 := ln_ov rfl
theorem tg_108 {S : Mm} {δ : Sg} : b_tg (ov S δ) 108 = 103 := tg_ov rfl
theorem ln_108 {S : Mm} {δ : Sg} : b_ln (ov S δ) 108 = 4 := ln_ov rfl
theorem tg_109 {S : Mm} {δ : Sg} : b_tg (ov S δ) 109 = 104 := tg_ov rfl
theorem ln_109 {S : Mm} {δ : Sg} : b_ln (ov S δ) 109 = 240 := ln_ov rfl
theorem tg_110 {S : Mm} {δ : Sg} : b_tg (ov S δ) 110 = 104 := tg_ov rfl
theorem ln_110 {S : Mm} {δ : Sg} : b_ln (ov S δ) 110 = 60 := ln_ov rfl
theorem tg_111 {S : Mm} {δ : Sg} : b_tg (ov S δ) 111 = 100 := tg_ov rfl
theorem ln_111 {S : Mm} {δ : Sg} : b_ln (ov S δ) 111 = 12 := ln_ov rfl
theorem tg_112 {S : Mm} {δ : Sg} : b_tg (ov S δ) 112 = 103 := tg_ov rfl
theorem ln_112 {S : Mm} {δ : Sg} : b_ln (ov S δ) 112 = 12 := ln_ov rfl
theorem tg_113 {S : Mm} {δ : Sg} : b_tg (ov S δ) 113 = 103 := tg_ov rfl
theorem ln_113 {S : Mm} {δ : Sg} : b_ln (ov S δ) 113 = 12 := ln_ov rfl
theorem tg_114 {S : Mm} {δ : Sg} : b_tg (ov S δ) 114 = 103 := tg_ov rfl
theorem ln_114 {S : Mm} {δ : Sg} : b_ln (ov S δ) 114 = 12 := ln_ov rfl
theorem tg_115 {S : Mm} {δ : Sg} : b_tg (ov S δ) 115 = 103 := tg_ov rfl
theorem ln_115 {S : Mm} {δ : Sg} : b_ln (ov S δ) 115 = 12 := ln_ov rfl
theorem tg_116 {S : Mm} {δ : Sg} : b_tg (ov S δ) 116 = 103 := tg_ov rfl
theorem ln_116 {S : Mm} {δ : Sg} : b_ln (ov S δ) 116 = 8 := ln_ov rfl
theorem tg_117 {S : Mm} {δ : Sg} : b_tg (ov S δ) 117 = 103 := tg_ov rfl
theorem ln_117 {S : Mm} {δ : Sg} : b_ln (ov S δ) 117 = 16 := ln_ov rfl
theorem tg_118 {S : Mm} {δ : Sg} : b_tg (ov S δ) 118 = 103 := tg_ov rfl
theorem ln_118 {S : Mm} {δ : Sg} : b_ln (ov S δ) 118 = 16 := ln_ov rfl
theorem tg_119 {S : Mm} {δ : Sg} : b_tg (ov S δ) 119 = 103 := tg_ov rfl
theorem ln_119 {S : Mm} {δ : Sg} : b_ln (ov S δ) 119 = 61 := ln_ov rfl
theorem tg_120 {S : Mm} {δ : Sg} : b_tg (ov S δ) 120 = 103 := tg_ov rfl
theorem ln_120 {S : Mm} {δ : Sg} : b_ln (ov S δ) 120 = 61 := ln_ov rfl
theorem tg_121 {S : Mm} {δ : Sg} : b_tg (ov S δ) 121 = 103 := tg_ov rfl
theorem ln_121 {S : Mm} {δ : Sg} : b_ln (ov S δ) 121 = 41 := ln_ov rfl
theorem tg_122 {S : Mm} {δ : Sg} : b_tg (ov S δ) 122 = 103 := tg_ov rfl
theorem ln_122 {S : Mm} {δ : Sg} : b_ln (ov S δ) 122 = 41 := ln_ov rfl
theorem tg_123 {S : Mm} {δ : Sg} : b_tg (ov S δ) 123 = 103 := tg_ov rfl
theorem ln_123 {S : Mm} {δ : Sg} : b_ln (ov S δ) 123 = 200 := ln_ov rfl
theorem tg_124 {S : Mm} {δ : Sg} : b_tg (ov S δ) 124 = 103 := tg_ov rfl
theorem ln_124 {S : Mm} {δ : Sg} : b_ln (ov S δ) 124 = 1200 := ln_ov rfl
theorem tg_125 {S : Mm} {δ : Sg} : b_tg (ov S δ) 125 = 103 := tg_ov rfl
theorem ln_125 {S : Mm} {δ : Sg} : b_ln (ov S δ) 125 = 200 := ln_ov rfl
theorem tg_126 {S : Mm} {δ : Sg} : b_tg (ov S δ) 126 = 103 := tg_ov rfl
theorem ln_126 {S : Mm} {δ : Sg} : b_ln (ov S δ) 126 = 200 := ln_ov rfl
theorem tg_127 {S : Mm} {δ : Sg} : b_tg (ov S δ) 127 = 103 := tg_ov rfl
theorem ln_127 {S : Mm} {δ : Sg} : b_ln (ov S δ) 127 = 200 := ln_ov rfl
theorem tg_128 {S : Mm} {δ : Sg} : b_tg (ov S δ) 128 = 103 := tg_ov rfl
theorem ln_128 {S : Mm} {δ : Sg} : b_ln (ov S δ) 128 = 200 := ln_ov rfl
theorem tg_129 {S : Mm} {δ : Sg} : b_tg (ov S δ) 129 = 100 := tg_ov rfl
theorem ln_129 {S : Mm} {δ : Sg} : b_ln (ov S δ) 129 = 200 := ln_ov rfl
theorem tg_130 {S : Mm} {δ : Sg} : b_tg (ov S δ) 130 = 103 := tg_ov rfl
theorem ln_130 {S : Mm} {δ : Sg} : b_ln (ov S δ) 130 = 8 := ln_ov rfl
theorem tg_131 {S : Mm} {δ : Sg} : b_tg (ov S δ) 131 = 103 := tg_ov rfl
theorem ln_131 {S : Mm} {δ : Sg} : b_ln (ov S δ) 131 = 64 := ln_ov rfl
theorem tg_132 {S : Mm} {δ : Sg} : b_tg (ov S δ) 132 = 103 := tg_ov rfl
theorem ln_132 {S : Mm} {δ : Sg} : b_ln (ov S δ) 132 = 2400 := ln_ov rfl
theorem tg_133 {S : Mm} {δ : Sg} : b_tg (ov S δ) 133 = 103 := tg_ov rfl
theorem ln_133 {S : Mm} {δ : Sg} : b_ln (ov S δ) 133 = 2400 := ln_ov rfl
theorem tg_134 {S : Mm} {δ : Sg} : b_tg (ov S δ) 134 = 101 := tg_ov rfl
theorem ln_134 {S : Mm} {δ : Sg} : b_ln (ov S δ) 134 = 400 := ln_ov rfl
theorem tg_135 {S : Mm} {δ : Sg} : b_tg (ov S δ) 135 = 101 := tg_ov rfl
theorem ln_135 {S : Mm} {δ : Sg} : b_ln (ov S δ) 135 = 5200 := ln_ov rfl
theorem tg_136 {S : Mm} {δ : Sg} : b_tg (ov S δ) 136 = 103 := tg_ov rfl
theorem ln_136 {S : Mm} {δ : Sg} : b_ln (ov S δ) 136 = 13 := ln_ov rfl
theorem tg_137 {S : Mm} {δ : Sg} : b_tg (ov S δ) 137 = 103 := tg_ov rfl
theorem ln_137 {S : Mm} {δ : Sg} : b_ln (ov S δ) 137 = 16 := ln_ov rfl
theorem tg_138 {S : Mm} {δ : Sg} : b_tg (ov S δ) 138 = 103 := tg_ov rfl
theorem ln_138 {S : Mm} {δ : Sg} : b_ln (ov S δ) 138 = 16 := ln_ov rfl
theorem tg_139 {S : Mm} {δ : Sg} : b_tg (ov S δ) 139 = 100 := tg_ov rfl
theorem ln_139 {S : Mm} {δ : Sg} : b_ln (ov S δ) 139 = 256 := ln_ov rfl
theorem tg_140 {S : Mm} {δ : Sg} : b_tg (ov S δ) 140 = 100 := tg_ov rfl
theorem ln_140 {S : Mm} {δ : Sg} : b_ln (ov S δ) 140 = 256 := ln_ov rfl
theorem tg_141 {S : Mm} {δ : Sg} : b_tg (ov S δ) 141 = 103 := tg_ov rfl
theorem ln_141 {S : Mm} {δ : Sg} : b_ln (ov S δ) 141 = 50 := ln_ov rfl
theorem tg_142 {S : Mm} {δ : Sg} : b_tg (ov S δ) 142 = 103 := tg_ov rfl
theorem ln_142 {S : Mm} {δ : Sg} : b_ln (ov S δ) 142 = 50 := ln_ov rfl
theorem tg_143 {S : Mm} {δ : Sg} : b_tg (ov S δ) 143 = 103 := tg_ov rfl
theorem ln_143 {S : Mm} {δ : Sg} : b_ln (ov S δ) 143 = 25 := ln_ov rfl
theorem tg_144 {S : Mm} {δ : Sg} : b_tg (ov S δ) 144 = 103 := tg_ov rfl
theorem ln_144 {S : Mm} {δ : Sg} : b_ln (ov S δ) 144 = 200 := ln_ov rfl
theorem tg_145 {S : Mm} {δ : Sg} : b_tg (ov S δ) 145 = 103 := tg_ov rfl
theorem ln_145 {S : Mm} {δ : Sg} : b_ln (ov S δ) 145 = 200 := ln_ov rfl
theorem tg_146 {S : Mm} {δ : Sg} : b_tg (ov S δ) 146 = 103 := tg_ov rfl
theorem ln_146 {S : Mm} {δ : Sg} : b_ln (ov S δ) 146 = 200 := ln_ov rfl
theorem tg_147 {S : Mm} {δ : Sg} : b_tg (ov S δ) 147 = 100 := tg_ov rfl
theorem ln_147 {S : Mm} {δ : Sg} : b_ln (ov S δ) 147 = 200 := ln_ov rfl
theorem tg_148 {S : Mm} {δ : Sg} : b_tg (ov S δ) 148 = 103 := tg_ov rfl
theorem ln_148 {S : Mm} {δ : Sg} : b_ln (ov S δ) 148 = 200 := ln_ov rfl
theorem tg_149 {S : Mm} {δ : Sg} : b_tg (ov S δ) 149 = 103 := tg_ov rfl
theorem ln_149 {S : Mm} {δ : Sg} : b_ln (ov S δ) 149 = 64 := ln_ov rfl
theorem tg_150 {S : Mm} {δ : Sg} : b_tg (ov S δ) 150 = 103 := tg_ov rfl
theorem ln_150 {S : Mm} {δ : Sg} : b_ln (ov S δ) 150 = 8 := ln_ov rfl
theorem tg_151 {S : Mm} {δ : Sg} : b_tg (ov S δ) 151 = 103 := tg_ov rfl
theorem ln_151 {S : Mm} {δ : Sg} : b_ln (ov S δ) 151 = 8 := ln_ov rfl
theorem tg_152 {S : Mm} {δ : Sg} : b_tg (ov S δ) 152 = 103 := tg_ov rfl
theorem ln_152 {S : Mm} {δ : Sg} : b_ln (ov S δ) 152 = 12 := ln_ov rfl
theorem tg_153 {S : Mm} {δ : Sg} : b_tg (ov S δ) 153 = 103 := tg_ov rfl
theorem ln_153 {S : Mm} {δ : Sg} : b_ln (ov S δ) 153 = 20 := ln_ov rfl
theorem tg_154 {S : Mm} {δ : Sg} : b_tg (ov S δ) 154 = 103 := tg_ov rfl
theorem ln_154 {S : Mm} {δ : Sg} : b_ln (ov S δ) 154 = 20 := ln_ov rfl
theorem tg_155 {S : Mm} {δ : Sg} : b_tg (ov S δ) 155 = 104 := tg_ov rfl
theorem ln_155 {S : Mm} {δ : Sg} : b_ln (ov S δ) 155 = 21000 := ln_ov rfl
theorem vc_42_0 {S : Mm} {δ : Sg} : b_vl (ov S δ) 42 0 = .ref 43 := vc_ov rfl rfl
theorem vc_42_1 {S : Mm} {δ : Sg} : b_vl (ov S δ) 42 1 = .ref 44 := vc_ov rfl rfl
theorem vc_42_2 {S : Mm} {δ : Sg} : b_vl (ov S δ) 42 2 = .ref 45 := vc_ov rfl rfl
theorem vc_42_3 {S : Mm} {δ : Sg} : b_vl (ov S δ) 42 3 = .ref 46 := vc_ov rfl rfl
theorem vc_42_4 {S : Mm} {δ : Sg} : b_vl (ov S δ) 42 4 = .ref 47 := vc_ov rfl rfl
theorem vc_42_5 {S : Mm} {δ : Sg} : b_vl (ov S δ) 42 5 = .ref 48 := vc_ov rfl rfl
theorem ia_42_6 {S : Mm} {δ : Sg} : b_ia (ov S δ) 42 6 = gi S 42 6 := ia_ov rfl rfl
theorem pt_42_6 {S : Mm} {δ : Sg} {v : Value} : b_pt (ov S δ) 42 6 v = ov (up S 42 6 v) δ := pt_ov rfl rfl
theorem ia_42_7 {S : Mm} {δ : Sg} : b_ia (ov S δ) 42 7 = gi S 42 7 := ia_ov rfl rfl
theorem pt_42_7 {S : Mm} {δ : Sg} {v : Value} : b_pt (ov S δ) 42 7 v = ov (up S 42 7 v) δ := pt_ov rfl rfl
theorem ia_42_8 {S : Mm} {δ : Sg} : b_ia (ov S δ) 42 8 = gi S 42 8 := ia_ov rfl rfl
theorem pt_42_8 {S : Mm} {δ : Sg} {v : Value} : b_pt (ov S δ) 42 8 v = ov (up S 42 8 v) δ := pt_ov rfl rfl
theorem ia_42_9 {S : Mm} {δ : Sg} : b_ia (ov S δ) 42 9 = gi S 42 9 := ia_ov rfl rfl
theorem pt_42_9 {S : Mm} {δ : Sg} {v : Value} : b_pt (ov S δ) 42 9 v = ov (up S 42 9 v) δ := pt_ov rfl rfl
theorem ia_42_10 {S : Mm} {δ : Sg} : b_ia (ov S δ) 42 10 = gi S 42 10 := ia_ov rfl rfl
theorem pt_42_10 {S : Mm} {δ : Sg} {v : Value} : b_pt (ov S δ) 42 10 v = ov (up S 42 10 v) δ := pt_ov rfl rfl
theorem vc_42_11 {S : Mm} {δ : Sg} : b_vl (ov S δ) 42 11 = .ref 49 := vc_ov rfl rfl
theorem vc_42_12 {S : Mm} {δ : Sg} : b_vl (ov S δ) 42 12 = .ref 50 := vc_ov rfl rfl
theorem ia_42_13 {S : Mm} {δ : Sg} : b_ia (ov S δ) 42 13 = gi S 42 13 := ia_ov rfl rfl
theorem pt_42_13 {S : Mm} {δ : Sg} {v : Value} : b_pt (ov S δ) 42 13 v = ov (up S 42 13 v) δ := pt_ov rfl rfl
theorem ia_42_14 {S : Mm} {δ : Sg} : b_ia (ov S δ) 42 14 = gi S 42 14 := ia_ov rfl rfl
theorem pt_42_14 {S : Mm} {δ : Sg} {v : Value} : b_pt (ov S δ) 42 14 v = ov (up S 42 14 v) δ := pt_ov rfl rfl
theorem ia_42_15 {S : Mm} {δ : Sg} : b_ia (ov S δ) 42 15 = gi S 42 15 := ia_ov rfl rfl
theorem pt_42_15 {S : Mm} {δ : Sg} {v : Value} : b_pt (ov S δ) 42 15 v = ov (up S 42 15 v) δ := pt_ov rfl rfl
theorem vc_42_16 {S : Mm} {δ : Sg} : b_vl (ov S δ) 42 16 = .ref 51 := vc_ov rfl rfl
theorem vc_42_17 {S : Mm} {δ : Sg} : b_vl (ov S δ) 42 17 = .ref 52 := vc_ov rfl rfl
theorem vc_42_18 {S : Mm} {δ : Sg} : b_vl (ov S δ) 42 18 = .ref 53 := vc_ov rfl rfl
theorem vc_42_19 {S : Mm} {δ : Sg} : b_vl (ov S δ) 42 19 = .ref 70 := vc_ov rfl rfl
theorem ia_42_20 {S : Mm} {δ : Sg} : b_ia (ov S δ) 42 20 = gi S 42 20 := ia_ov rfl rfl
theorem pt_42_20 {S : Mm} {δ : Sg} {v : Value} : b_pt (ov S δ) 42 20 v = ov (up S 42 20 v) δ := pt_ov rfl rfl
theorem ia_42_21 {S : Mm} {δ : Sg} : b_ia (ov S δ) 42 21 = gi S 42 21 := ia_ov rfl rfl
theorem pt_42_21 {S : Mm} {δ : Sg} {v : Value} : b_pt (ov S δ) 42 21 v = ov (up S 42 21 v) δ := pt_ov rfl rfl
theorem ia_42_22 {S : Mm} {δ : Sg} : b_ia (ov S δ) 42 22 = gi S 42 22 := ia_ov rfl rfl
theorem pt_42_22 {S : Mm} {δ : Sg} {v : Value} : b_pt (ov S δ) 42 22 v = ov (up S 42 22 v) δ := pt_ov rfl rfl
theorem ia_42_23 {S : Mm} {δ : Sg} : b_ia (ov S δ) 42 23 = gi S 42 23 := ia_ov rfl rfl
theorem pt_42_23 {S : Mm} {δ : Sg} {v : Value} : b_pt (ov S δ) 42 23 v = ov (up S 42 23 v) δ := pt_ov rfl rfl
theorem ia_42_24 {S : Mm} {δ : Sg} : b_ia (ov S δ) 42 24 = gi S 42 24 := ia_ov rfl rfl
theorem pt_42_24 {S : Mm} {δ : Sg} {v : Value} : b_pt (ov S δ) 42 24 v = ov (up S 42 24 v) δ := pt_ov rfl rfl
theorem vc_42_25 {S : Mm} {δ : Sg} : b_vl (ov S δ) 42 25 = .ref 71 := vc_ov rfl rfl
theorem vc_42_26 {S : Mm} {δ : Sg} : b_vl (ov S δ) 42 26 = .ref 74 := vc_ov rfl rfl
theorem vc_42_27 {S : Mm} {δ : Sg} : b_vl (ov S δ) 42 27 = .ref 75 := vc_ov rfl rfl
theorem vc_42_28 {S : Mm} {δ : Sg} : b_vl (ov S δ) 42 28 = .ref 76 := vc_ov rfl rfl
theorem vc_42_29 {S : Mm} {δ : Sg} : b_vl (ov S δ) 42 29 = .ref 77 := vc_ov rfl rfl
theorem vc_42_30 {S : Mm} {δ : Sg} : b_vl (ov S δ) 42 30 = .ref 78 := vc_ov rfl rfl
theorem ia_42_31 {S : Mm} {δ : Sg} : b_ia (ov S δ) 42 31 = gi S 42 31 := ia_ov rfl rfl
theorem pt_42_31 {S : Mm} {δ : Sg} {v : Value} : b_pt (ov S δ) 42 31 v = ov (up S 42 31 v) δ := pt_ov rfl rfl
theorem ia_42_32 {S : Mm} {δ : Sg} : b_ia (ov S δ) 42 32 = gi S 42 32 := ia_ov rfl rfl
theorem pt_42_32 {S : Mm} {δ : Sg} {v : Value} : b_pt (ov S δ) 42 32 v = ov (up S 42 32 v) δ := pt_ov rfl rfl
theorem vc_42_33 {S : Mm} {δ : Sg} : b_vl (ov S δ) 42 33 = .ref 79 := vc_ov rfl rfl
theorem vc_42_34 {S : Mm} {δ : Sg} : b_vl (ov S δ) 42 34 = .ref 80 := vc_ov rfl rfl
theorem vc_42_35 {S : Mm} {δ : Sg} : b_vl (ov S δ) 42 35 = .ref 81 := vc_ov rfl rfl
theorem ia_42_36 {S : Mm} {δ : Sg} : b_ia (ov S δ) 42 36 = gi S 42 36 := ia_ov rfl rfl
theorem pt_42_36 {S : Mm} {δ : Sg} {v : Value} : b_pt (ov S δ) 42 36 v = ov (up S 42 36 v) δ := pt_ov rfl rfl
theorem vc_42_37 {S : Mm} {δ : Sg} : b_vl (ov S δ) 42 37 = .ref 82 := vc_ov rfl rfl
theorem ia_42_38 {S : Mm} {δ : Sg} : b_ia (ov S δ) 42 38 = gi S 42 38 := ia_ov rfl rfl
theorem pt_42_38 {S : Mm} {δ : Sg} {v : Value} : b_pt (ov S δ) 42 38 v = ov (up S 42 38 v) δ := pt_ov rfl rfl
theorem vc_42_39 {S : Mm} {δ : Sg} : b_vl (ov S δ) 42 39 = .ref 91 := vc_ov rfl rfl
theorem vc_42_40 {S : Mm} {δ : Sg} : b_vl (ov S δ) 42 40 = .ref 101 := vc_ov rfl rfl
theorem ia_106_0 {S : Mm} {δ : Sg} : b_ia (ov S δ) 106 0 = gi S 106 0 := ia_ov rfl rfl
theorem pt_106_0 {S : Mm} {δ : Sg} {v : Value} : b_pt (ov S δ) 106 0 v = ov (up S 106 0 v) δ := pt_ov rfl rfl
theorem vc_106_1 {S : Mm} {δ : Sg} : b_vl (ov S δ) 106 1 = .ref 107 := vc_ov rfl rfl
theorem vc_106_2 {S : Mm} {δ : Sg} : b_vl (ov S δ) 106 2 = .ref 108 := vc_ov rfl rfl
theorem vc_106_3 {S : Mm} {δ : Sg} : b_vl (ov S δ) 106 3 = .ref 109 := vc_ov rfl rfl
theorem vc_106_4 {S : Mm} {δ : Sg} : b_vl (ov S δ) 106 4 = .ref 110 := vc_ov rfl rfl
theorem ia_106_5 {S : Mm} {δ : Sg} : b_ia (ov S δ) 106 5 = gi S 106 5 := ia_ov rfl rfl
theorem pt_106_5 {S : Mm} {δ : Sg} {v : Value} : b_pt (ov S δ) 106 5 v = ov (up S 106 5 v) δ := pt_ov rfl rfl
theorem ia_106_6 {S : Mm} {δ : Sg} : b_ia (ov S δ) 106 6 = gi S 106 6 := ia_ov rfl rfl
theorem pt_106_6 {S : Mm} {δ : Sg} {v : Value} : b_pt (ov S δ) 106 6 v = ov (up S 106 6 v) δ := pt_ov rfl rfl
theorem ia_106_7 {S : Mm} {δ : Sg} : b_ia (ov S δ) 106 7 = gi S 106 7 := ia_ov rfl rfl
theorem pt_106_7 {S : Mm} {δ : Sg} {v : Value} : b_pt (ov S δ) 106 7 v = ov (up S 106 7 v) δ := pt_ov rfl rfl
theorem ia_106_8 {S : Mm} {δ : Sg} : b_ia (ov S δ) 106 8 = gi S 106 8 := ia_ov rfl rfl
theorem pt_106_8 {S : Mm} {δ : Sg} {v : Value} : b_pt (ov S δ) 106 8 v = ov (up S 106 8 v) δ := pt_ov rfl rfl
theorem ia_106_9 {S : Mm} {δ : Sg} : b_ia (ov S δ) 106 9 = gi S 106 9 := ia_ov rfl rfl
theorem pt_106_9 {S : Mm} {δ : Sg} {v : Value} : b_pt (ov S δ) 106 9 v = ov (up S 106 9 v) δ := pt_ov rfl rfl
theorem ia_106_10 {S : Mm} {δ : Sg} : b_ia (ov S δ) 106 10 = gi S 106 10 := ia_ov rfl rfl
theorem pt_106_10 {S : Mm} {δ : Sg} {v : Value} : b_pt (ov S δ) 106 10 v = ov (up S 106 10 v) δ := pt_ov rfl rfl
theorem ia_106_11 {S : Mm} {δ : Sg} : b_ia (ov S δ) 106 11 = gi S 106 11 := ia_ov rfl rfl
theorem pt_106_11 {S : Mm} {δ : Sg} {v : Value} : b_pt (ov S δ) 106 11 v = ov (up S 106 11 v) δ := pt_ov rfl rfl
theorem ia_106_12 {S : Mm} {δ : Sg} : b_ia (ov S δ) 106 12 = gi S 106 12 := ia_ov rfl rfl
theorem pt_106_12 {S : Mm} {δ : Sg} {v : Value} : b_pt (ov S δ) 106 12 v = ov (up S 106 12 v) δ := pt_ov rfl rfl
theorem ia_106_13 {S : Mm} {δ : Sg} : b_ia (ov S δ) 106 13 = gi S 106 13 := ia_ov rfl rfl
theorem pt_106_13 {S : Mm} {δ : Sg} {v : Value} : b_pt (ov S δ) 106 13 v = ov (up S 106 13 v) δ := pt_ov rfl rfl
theorem vc_106_14 {S : Mm} {δ : Sg} : b_vl (ov S δ) 106 14 = .ref 111 := vc_ov rfl rfl
theorem vc_106_15 {S : Mm} {δ : Sg} : b_vl (ov S δ) 106 15 = .ref 112 := vc_ov rfl rfl
theorem vc_106_16 {S : Mm} {δ : Sg} : b_vl (ov S δ) 106 16 = .ref 113 := vc_ov rfl rfl
theorem vc_106_17 {S : Mm} {δ : Sg} : b_vl (ov S δ) 106 17 = .ref 114 := vc_ov rfl rfl
theorem vc_106_18 {S : Mm} {δ : Sg} : b_vl (ov S δ) 106 18 = .ref 115 := vc_ov rfl rfl
theorem vc_106_19 {S : Mm} {δ : Sg} : b_vl (ov S δ) 106 19 = .ref 116 := vc_ov rfl rfl
theorem vc_106_20 {S : Mm} {δ : Sg} : b_vl (ov S δ) 106 20 = .ref 117 := vc_ov rfl rfl
theorem vc_106_21 {S : Mm} {δ : Sg} : b_vl (ov S δ) 106 21 = .ref 118 := vc_ov rfl rfl
theorem vc_106_22 {S : Mm} {δ : Sg} : b_vl (ov S δ) 106 22 = .ref 119 := vc_ov rfl rfl
theorem vc_106_23 {S : Mm} {δ : Sg} : b_vl (ov S δ) 106 23 = .ref 120 := vc_ov rfl rfl
theorem vc_106_24 {S : Mm} {δ : Sg} : b_vl (ov S δ) 106 24 = .ref 121 := vc_ov rfl rfl
theorem vc_106_25 {S : Mm} {δ : Sg} : b_vl (ov S δ) 106 25 = .ref 122 := vc_ov rfl rfl
theorem vc_106_26 {S : Mm} {δ : Sg} : b_vl (ov S δ) 106 26 = .ref 123 := vc_ov rfl rfl
theorem vc_106_27 {S : Mm} {δ : Sg} : b_vl (ov S δ) 106 27 = .ref 124 := vc_ov rfl rfl
theorem vc_106_28 {S : Mm} {δ : Sg} : b_vl (ov S δ) 106 28 = .ref 125 := vc_ov rfl rfl
theorem vc_106_29 {S : Mm} {δ : Sg} : b_vl (ov S δ) 106 29 = .ref 126 := vc_ov rfl rfl
theorem vc_106_30 {S : Mm} {δ : Sg} : b_vl (ov S δ) 106 30 = .ref 127 := vc_ov rfl rfl
theorem vc_106_31 {S : Mm} {δ : Sg} : b_vl (ov S δ) 106 31 = .ref 128 := vc_ov rfl rfl
theorem vc_106_32 {S : Mm} {δ : Sg} : b_vl (ov S δ) 106 32 = .ref 129 := vc_ov rfl rfl
theorem vc_106_33 {S : Mm} {δ : Sg} : b_vl (ov S δ) 106 33 = .ref 130 := vc_ov rfl rfl
theorem vc_106_34 {S : Mm} {δ : Sg} : b_vl (ov S δ) 106 34 = .ref 131 := vc_ov rfl rfl
theorem vc_106_35 {S : Mm} {δ : Sg} : b_vl (ov S δ) 106 35 = .ref 132 := vc_ov rfl rfl
theorem vc_106_36 {S : Mm} {δ : Sg} : b_vl (ov S δ) 106 36 = .ref 133 := vc_ov rfl rfl
theorem vc_106_37 {S : Mm} {δ : Sg} : b_vl (ov S δ) 106 37 = .ref 134 := vc_ov rfl rfl
theorem ia_106_38 {S : Mm} {δ : Sg} : b_ia (ov S δ) 106 38 = gi S 106 38 := ia_ov rfl rfl
theorem pt_106_38 {S : Mm} {δ : Sg} {v : Value} : b_pt (ov S δ) 106 38 v = ov (up S 106 38 v) δ := pt_ov rfl rfl
theorem ia_106_39 {S : Mm} {δ : Sg} : b_ia (ov S δ) 106 39 = gi S 106 39 := ia_ov rfl rfl
theorem pt_106_39 {S : Mm} {δ : Sg} {v : Value} : b_pt (ov S δ) 106 39 v = ov (up S 106 39 v) δ := pt_ov rfl rfl
theorem ia_106_40 {S : Mm} {δ : Sg} : b_ia (ov S δ) 106 40 = gi S 106 40 := ia_ov rfl rfl
theorem pt_106_40 {S : Mm} {δ : Sg} {v : Value} : b_pt (ov S δ) 106 40 v = ov (up S 106 40 v) δ := pt_ov rfl rfl
theorem vc_106_41 {S : Mm} {δ : Sg} : b_vl (ov S δ) 106 41 = .ref 135 := vc_ov rfl rfl
theorem vc_106_42 {S : Mm} {δ : Sg} : b_vl (ov S δ) 106 42 = .ref 136 := vc_ov rfl rfl
theorem vc_106_43 {S : Mm} {δ : Sg} : b_vl (ov S δ) 106 43 = .ref 137 := vc_ov rfl rfl
theorem vc_106_44 {S : Mm} {δ : Sg} : b_vl (ov S δ) 106 44 = .ref 138 := vc_ov rfl rfl
theorem vc_106_45 {S : Mm} {δ : Sg} : b_vl (ov S δ) 106 45 = .ref 139 := vc_ov rfl rfl
theorem vc_106_46 {S : Mm} {δ : Sg} : b_vl (ov S δ) 106 46 = .ref 140 := vc_ov rfl rfl
theorem ia_106_47 {S : Mm} {δ : Sg} : b_ia (ov S δ) 106 47 = gi S 106 47 := ia_ov rfl rfl
theorem pt_106_47 {S : Mm} {δ : Sg} {v : Value} : b_pt (ov S δ) 106 47 v = ov (up S 106 47 v) δ := pt_ov rfl rfl
theorem ia_106_48 {S : Mm} {δ : Sg} : b_ia (ov S δ) 106 48 = gi S 106 48 := ia_ov rfl rfl
theorem pt_106_48 {S : Mm} {δ : Sg} {v : Value} : b_pt (ov S δ) 106 48 v = ov (up S 106 48 v) δ := pt_ov rfl rfl
theorem ia_106_49 {S : Mm} {δ : Sg} : b_ia (ov S δ) 106 49 = gi S 106 49 := ia_ov rfl rfl
theorem pt_106_49 {S : Mm} {δ : Sg} {v : Value} : b_pt (ov S δ) 106 49 v = ov (up S 106 49 v) δ := pt_ov rfl rfl
theorem ia_106_50 {S : Mm} {δ : Sg} : b_ia (ov S δ) 106 50 = gi S 106 50 := ia_ov rfl rfl
theorem pt_106_50 {S : Mm} {δ : Sg} {v : Value} : b_pt (ov S δ) 106 50 v = ov (up S 106 50 v) δ := pt_ov rfl rfl
theorem ia_106_51 {S : Mm} {δ : Sg} : b_ia (ov S δ) 106 51 = gi S 106 51 := ia_ov rfl rfl
theorem pt_106_51 {S : Mm} {δ : Sg} {v : Value} : b_pt (ov S δ) 106 51 v = ov (up S 106 51 v) δ := pt_ov rfl rfl
theorem ia_106_52 {S : Mm} {δ : Sg} : b_ia (ov S δ) 106 52 = gi S 106 52 := ia_ov rfl rfl
theorem pt_106_52 {S : Mm} {δ : Sg} {v : Value} : b_pt (ov S δ) 106 52 v = ov (up S 106 52 v) δ := pt_ov rfl rfl
theorem ia_106_53 {S : Mm} {δ : Sg} : b_ia (ov S δ) 106 53 = gi S 106 53 := ia_ov rfl rfl
theorem pt_106_53 {S : Mm} {δ : Sg} {v : Value} : b_pt (ov S δ) 106 53 v = ov (up S 106 53 v) δ := pt_ov rfl rfl
theorem ia_106_54 {S : Mm} {δ : Sg} : b_ia (ov S δ) 106 54 = gi S 106 54 := ia_ov rfl rfl
theorem pt_106_54 {S : Mm} {δ : Sg} {v : Value} : b_pt (ov S δ) 106 54 v = ov (up S 106 54 v) δ := pt_ov rfl rfl
theorem ia_106_55 {S : Mm} {δ : Sg} : b_ia (ov S δ) 106 55 = gi S 106 55 := ia_ov rfl rfl
theorem pt_106_55 {S : Mm} {δ : Sg} {v : Value} : b_pt (ov S δ) 106 55 v = ov (up S 106 55 v) δ := pt_ov rfl rfl
theorem ia_106_56 {S : Mm} {δ : Sg} : b_ia (ov S δ) 106 56 = gi S 106 56 := ia_ov rfl rfl
theorem pt_106_56 {S : Mm} {δ : Sg} {v : Value} : b_pt (ov S δ) 106 56 v = ov (up S 106 56 v) δ := pt_ov rfl rfl
theorem ia_106_57 {S : Mm} {δ : Sg} : b_ia (ov S δ) 106 57 = gi S 106 57 := ia_ov rfl rfl
theorem pt_106_57 {S : Mm} {δ : Sg} {v : Value} : b_pt (ov S δ) 106 57 v = ov (up S 106 57 v) δ := pt_ov rfl rfl
theorem ia_106_58 {S : Mm} {δ : Sg} : b_ia (ov S δ) 106 58 = gi S 106 58 := ia_ov rfl rfl
theorem pt_106_58 {S : Mm} {δ : Sg} {v : Value} : b_pt (ov S δ) 106 58 v = ov (up S 106 58 v) δ := pt_ov rfl rfl
theorem ia_106_59 {S : Mm} {δ : Sg} : b_ia (ov S δ) 106 59 = gi S 106 59 := ia_ov rfl rfl
theorem pt_106_59 {S : Mm} {δ : Sg} {v : Value} : b_pt (ov S δ) 106 59 v = ov (up S 106 59 v) δ := pt_ov rfl rfl
theorem ia_106_60 {S : Mm} {δ : Sg} : b_ia (ov S δ) 106 60 = gi S 106 60 := ia_ov rfl rfl
theorem pt_106_60 {S : Mm} {δ : Sg} {v : Value} : b_pt (ov S δ) 106 60 v = ov (up S 106 60 v) δ := pt_ov rfl rfl
theorem ia_106_61 {S : Mm} {δ : Sg} : b_ia (ov S δ) 106 61 = gi S 106 61 := ia_ov rfl rfl
theorem pt_106_61 {S : Mm} {δ : Sg} {v : Value} : b_pt (ov S δ) 106 61 v = ov (up S 106 61 v) δ := pt_ov rfl rfl
theorem vc_106_62 {S : Mm} {δ : Sg} : b_vl (ov S δ) 106 62 = .ref 141 := vc_ov rfl rfl
theorem vc_106_63 {S : Mm} {δ : Sg} : b_vl (ov S δ) 106 63 = .ref 142 := vc_ov rfl rfl
theorem vc_106_64 {S : Mm} {δ : Sg} : b_vl (ov S δ) 106 64 = .ref 143 := vc_ov rfl rfl
theorem ia_106_65 {S : Mm} {δ : Sg} : b_ia (ov S δ) 106 65 = gi S 106 65 := ia_ov rfl rfl
theorem pt_106_65 {S : Mm} {δ : Sg} {v : Value} : b_pt (ov S δ) 106 65 v = ov (up S 106 65 v) δ := pt_ov rfl rfl
theorem vc_106_66 {S : Mm} {δ : Sg} : b_vl (ov S δ) 106 66 = .ref 144 := vc_ov rfl rfl
theorem vc_106_67 {S : Mm} {δ : Sg} : b_vl (ov S δ) 106 67 = .ref 145 := vc_ov rfl rfl
theorem vc_106_68 {S : Mm} {δ : Sg} : b_vl (ov S δ) 106 68 = .ref 146 := vc_ov rfl rfl
theorem vc_106_69 {S : Mm} {δ : Sg} : b_vl (ov S δ) 106 69 = .ref 147 := vc_ov rfl rfl
theorem ia_106_70 {S : Mm} {δ : Sg} : b_ia (ov S δ) 106 70 = gi S 106 70 := ia_ov rfl rfl
theorem pt_106_70 {S : Mm} {δ : Sg} {v : Value} : b_pt (ov S δ) 106 70 v = ov (up S 106 70 v) δ := pt_ov rfl rfl
theorem vc_106_71 {S : Mm} {δ : Sg} : b_vl (ov S δ) 106 71 = .ref 148 := vc_ov rfl rfl
theorem ia_106_72 {S : Mm} {δ : Sg} : b_ia (ov S δ) 106 72 = gi S 106 72 := ia_ov rfl rfl
theorem pt_106_72 {S : Mm} {δ : Sg} {v : Value} : b_pt (ov S δ) 106 72 v = ov (up S 106 72 v) δ := pt_ov rfl rfl
theorem ia_106_73 {S : Mm} {δ : Sg} : b_ia (ov S δ) 106 73 = gi S 106 73 := ia_ov rfl rfl
theorem pt_106_73 {S : Mm} {δ : Sg} {v : Value} : b_pt (ov S δ) 106 73 v = ov (up S 106 73 v) δ := pt_ov rfl rfl
theorem vc_106_74 {S : Mm} {δ : Sg} : b_vl (ov S δ) 106 74 = .ref 149 := vc_ov rfl rfl
theorem ia_106_75 {S : Mm} {δ : Sg} : b_ia (ov S δ) 106 75 = gi S 106 75 := ia_ov rfl rfl
theorem pt_106_75 {S : Mm} {δ : Sg} {v : Value} : b_pt (ov S δ) 106 75 v = ov (up S 106 75 v) δ := pt_ov rfl rfl
theorem vc_106_76 {S : Mm} {δ : Sg} : b_vl (ov S δ) 106 76 = .ref 150 := vc_ov rfl rfl
theorem vc_106_77 {S : Mm} {δ : Sg} : b_vl (ov S δ) 106 77 = .ref 151 := vc_ov rfl rfl
theorem vc_106_78 {S : Mm} {δ : Sg} : b_vl (ov S δ) 106 78 = .ref 152 := vc_ov rfl rfl
theorem vc_106_79 {S : Mm} {δ : Sg} : b_vl (ov S δ) 106 79 = .ref 153 := vc_ov rfl rfl
theorem vc_106_80 {S : Mm} {δ : Sg} : b_vl (ov S δ) 106 80 = .ref 154 := vc_ov rfl rfl
theorem vc_106_81 {S : Mm} {δ : Sg} : b_vl (ov S δ) 106 81 = .ref 155 := vc_ov rfl rfl
theorem vc_71_0 {S : Mm} {δ : Sg} : b_vl (ov S δ) 71 0 = .ref 72 := vc_ov rfl rfl
theorem vc_71_1 {S : Mm} {δ : Sg} : b_vl (ov S δ) 71 1 = .ref 73 := vc_ov rfl rfl
theorem vm_71_2 {S : Mm} {δ : Sg} : b_vl (ov S δ) 71 2 = S 71 2 := vm_ov rfl rfl
theorem pt_71_2 {S : Mm} {δ : Sg} {v : Value} : b_pt (ov S δ) 71 2 v = ov (up S 71 2 v) δ := pt_ov rfl rfl
theorem ia_71_3 {S : Mm} {δ : Sg} : b_ia (ov S δ) 71 3 = gi S 71 3 := ia_ov rfl rfl
theorem pt_71_3 {S : Mm} {δ : Sg} {v : Value} : b_pt (ov S δ) 71 3 v = ov (up S 71 3 v) δ := pt_ov rfl rfl
theorem ia_71_4 {S : Mm} {δ : Sg} : b_ia (ov S δ) 71 4 = gi S 71 4 := ia_ov rfl rfl
theorem pt_71_4 {S : Mm} {δ : Sg} {v : Value} : b_pt (ov S δ) 71 4 v = ov (up S 71 4 v) δ := pt_ov rfl rfl
theorem ia_71_5 {S : Mm} {δ : Sg} : b_ia (ov S δ) 71 5 = gi S 71 5 := ia_ov rfl rfl
theorem pt_71_5 {S : Mm} {δ : Sg} {v : Value} : b_pt (ov S δ) 71 5 v = ov (up S 71 5 v) δ := pt_ov rfl rfl
theorem ia_71_6 {S : Mm} {δ : Sg} : b_ia (ov S δ) 71 6 = gi S 71 6 := ia_ov rfl rfl
theorem pt_71_6 {S : Mm} {δ : Sg} {v : Value} : b_pt (ov S δ) 71 6 v = ov (up S 71 6 v) δ := pt_ov rfl rfl
theorem ia_71_7 {S : Mm} {δ : Sg} : b_ia (ov S δ) 71 7 = gi S 71 7 := ia_ov rfl rfl
theorem pt_71_7 {S : Mm} {δ : Sg} {v : Value} : b_pt (ov S δ) 71 7 v = ov (up S 71 7 v) δ := pt_ov rfl rfl
theorem ia_71_8 {S : Mm} {δ : Sg} : b_ia (ov S δ) 71 8 = gi S 71 8 := ia_ov rfl rfl
theorem pt_71_8 {S : Mm} {δ : Sg} {v : Value} : b_pt (ov S δ) 71 8 v = ov (up S 71 8 v) δ := pt_ov rfl rfl
theorem vc_71_9 {S : Mm} {δ : Sg} : b_vl (ov S δ) 71 9 = .ref 42 := vc_ov rfl rfl
theorem ia_73_6 {S : Mm} {δ : Sg} : b_ia (ov S δ) 73 6 = gi S 73 6 := ia_ov rfl rfl
theorem pt_73_6 {S : Mm} {δ : Sg} {v : Value} : b_pt (ov S δ) 73 6 v = ov (up S 73 6 v) δ := pt_ov rfl rfl
theorem ia_73_7 {S : Mm} {δ : Sg} : b_ia (ov S δ) 73 7 = gi S 73 7 := ia_ov rfl rfl
theorem pt_73_7 {S : Mm} {δ : Sg} {v : Value} : b_pt (ov S δ) 73 7 v = ov (up S 73 7 v) δ := pt_ov rfl rfl
theorem vm_102_0 {S : Mm} {δ : Sg} : b_vl (ov S δ) 102 0 = S 102 0 := vm_ov rfl rfl
theorem pt_102_0 {S : Mm} {δ : Sg} {v : Value} : b_pt (ov S δ) 102 0 v = ov (up S 102 0 v) δ := pt_ov rfl rfl
theorem vm_103_0 {S : Mm} {δ : Sg} : b_vl (ov S δ) 103 0 = S 103 0 := vm_ov rfl rfl
theorem pt_103_0 {S : Mm} {δ : Sg} {v : Value} : b_pt (ov S δ) 103 0 v = ov (up S 103 0 v) δ := pt_ov rfl rfl
theorem vm_104_0 {S : Mm} {δ : Sg} : b_vl (ov S δ) 104 0 = S 104 0 := vm_ov rfl rfl
theorem pt_104_0 {S : Mm} {δ : Sg} {v : Value} : b_pt (ov S δ) 104 0 v = ov (up S 104 0 v) δ := pt_ov rfl rfl
theorem vm_105_0 {S : Mm} {δ : Sg} : b_vl (ov S δ) 105 0 = S 105 0 := vm_ov rfl rfl
theorem pt_105_0 {S : Mm} {δ : Sg} {v : Value} : b_pt (ov S δ) 105 0 v = ov (up S 105 0 v) δ := pt_ov rfl rfl
theorem vm_44 {S : Mm} {δ : Sg} {k : Nat} : b_vl (ov S δ) 44 k = S 44 k := vm_ov rfl rfl
theorem pt_44 {S : Mm} {δ : Sg} {k : Nat} {v : Value} : b_pt (ov S δ) 44 k v = ov (up S 44 k v) δ := pt_ov rfl rfl
theorem vm_45 {S : Mm} {δ : Sg} {k : Nat} : b_vl (ov S δ) 45 k = S 45 k := vm_ov rfl rfl
theorem pt_45 {S : Mm} {δ : Sg} {k : Nat} {v : Value} : b_pt (ov S δ) 45 k v = ov (up S 45 k v) δ := pt_ov rfl rfl
theorem ia_46 {S : Mm} {δ : Sg} {k : Nat} : b_ia (ov S δ) 46 k = gi S 46 k := ia_ov rfl rfl
theorem pt_46 {S : Mm} {δ : Sg} {k : Nat} {v : Value} : b_pt (ov S δ) 46 k v = ov (up S 46 k v) δ := pt_ov rfl rfl
theorem ia_47 {S : Mm} {δ : Sg} {k : Nat} : b_ia (ov S δ) 47 k = gi S 47 k := ia_ov rfl rfl
theorem pt_47 {S : Mm} {δ : Sg} {k : Nat} {v : Value} : b_pt (ov S δ) 47 k v = ov (up S 47 k v) δ := pt_ov rfl rfl
theorem ia_48 {S : Mm} {δ : Sg} {k : Nat} : b_ia (ov S δ) 48 k = gi S 48 k := ia_ov rfl rfl
theorem pt_48 {S : Mm} {δ : Sg} {k : Nat} {v : Value} : b_pt (ov S δ) 48 k v = ov (up S 48 k v) δ := pt_ov rfl rfl
theorem ia_49 {S : Mm} {δ : Sg} {k : Nat} : b_ia (ov S δ) 49 k = gi S 49 k := ia_ov rfl rfl
theorem pt_49 {S : Mm} {δ : Sg} {k : Nat} {v : Value} : b_pt (ov S δ) 49 k v = ov (up S 49 k v) δ := pt_ov rfl rfl
theorem ia_50 {S : Mm} {δ : Sg} {k : Nat} : b_ia (ov S δ) 50 k = gi S 50 k := ia_ov rfl rfl
theorem pt_50 {S : Mm} {δ : Sg} {k : Nat} {v : Value} : b_pt (ov S δ) 50 k v = ov (up S 50 k v) δ := pt_ov rfl rfl
theorem ia_51 {S : Mm} {δ : Sg} {k : Nat} : b_ia (ov S δ) 51 k = gi S 51 k := ia_ov rfl rfl
theorem pt_51 {S : Mm} {δ : Sg} {k : Nat} {v : Value} : b_pt (ov S δ) 51 k v = ov (up S 51 k v) δ := pt_ov rfl rfl
theorem ia_52 {S : Mm} {δ : Sg} {k : Nat} : b_ia (ov S δ) 52 k = gi S 52 k := ia_ov rfl rfl
theorem pt_52 {S : Mm} {δ : Sg} {k : Nat} {v : Value} : b_pt (ov S δ) 52 k v = ov (up S 52 k v) δ := pt_ov rfl rfl
theorem ia_54 {S : Mm} {δ : Sg} {k : Nat} : b_ia (ov S δ) 54 k = gi S 54 k := ia_ov rfl rfl
theorem pt_54 {S : Mm} {δ : Sg} {k : Nat} {v : Value} : b_pt (ov S δ) 54 k v = ov (up S 54 k v) δ := pt_ov rfl rfl
theorem ia_55 {S : Mm} {δ : Sg} {k : Nat} : b_ia (ov S δ) 55 k = gi S 55 k := ia_ov rfl rfl
theorem pt_55 {S : Mm} {δ : Sg} {k : Nat} {v : Value} : b_pt (ov S δ) 55 k v = ov (up S 55 k v) δ := pt_ov rfl rfl
theorem ia_56 {S : Mm} {δ : Sg} {k : Nat} : b_ia (ov S δ) 56 k = gi S 56 k := ia_ov rfl rfl
theorem pt_56 {S : Mm} {δ : Sg} {k : Nat} {v : Value} : b_pt (ov S δ) 56 k v = ov (up S 56 k v) δ := pt_ov rfl rfl
theorem ia_57 {S : Mm} {δ : Sg} {k : Nat} : b_ia (ov S δ) 57 k = gi S 57 k := ia_ov rfl rfl
theorem pt_57 {S : Mm} {δ : Sg} {k : Nat} {v : Value} : b_pt (ov S δ) 57 k v = ov (up S 57 k v) δ := pt_ov rfl rfl
theorem ia_58 {S : Mm} {δ : Sg} {k : Nat} : b_ia (ov S δ) 58 k = gi S 58 k := ia_ov rfl rfl
theorem pt_58 {S : Mm} {δ : Sg} {k : Nat} {v : Value} : b_pt (ov S δ) 58 k v = ov (up S 58 k v) δ := pt_ov rfl rfl
theorem ia_59 {S : Mm} {δ : Sg} {k : Nat} : b_ia (ov S δ) 59 k = gi S 59 k := ia_ov rfl rfl
theorem pt_59 {S : Mm} {δ : Sg} {k : Nat} {v : Value} : b_pt (ov S δ) 59 k v = ov (up S 59 k v) δ := pt_ov rfl rfl
theorem ia_60 {S : Mm} {δ : Sg} {k : Nat} : b_ia (ov S δ) 60 k = gi S 60 k := ia_ov rfl rfl
theorem pt_60 {S : Mm} {δ : Sg} {k : Nat} {v : Value} : b_pt (ov S δ) 60 k v = ov (up S 60 k v) δ := pt_ov rfl rfl
theorem ia_61 {S : Mm} {δ : Sg} {k : Nat} : b_ia (ov S δ) 61 k = gi S 61 k := ia_ov rfl rfl
theorem pt_61 {S : Mm} {δ : Sg} {k : Nat} {v : Value} : b_pt (ov S δ) 61 k v = ov (up S 61 k v) δ := pt_ov rfl rfl
theorem ia_62 {S : Mm} {δ : Sg} {k : Nat} : b_ia (ov S δ) 62 k = gi S 62 k := ia_ov rfl rfl
theorem pt_62 {S : Mm} {δ : Sg} {k : Nat} {v : Value} : b_pt (ov S δ) 62 k v = ov (up S 62 k v) δ := pt_ov rfl rfl
theorem ia_63 {S : Mm} {δ : Sg} {k : Nat} : b_ia (ov S δ) 63 k = gi S 63 k := ia_ov rfl rfl
theorem pt_63 {S : Mm} {δ : Sg} {k : Nat} {v : Value} : b_pt (ov S δ) 63 k v = ov (up S 63 k v) δ := pt_ov rfl rfl
theorem ia_64 {S : Mm} {δ : Sg} {k : Nat} : b_ia (ov S δ) 64 k = gi S 64 k := ia_ov rfl rfl
theorem pt_64 {S : Mm} {δ : Sg} {k : Nat} {v : Value} : b_pt (ov S δ) 64 k v = ov (up S 64 k v) δ := pt_ov rfl rfl
theorem ia_65 {S : Mm} {δ : Sg} {k : Nat} : b_ia (ov S δ) 65 k = gi S 65 k := ia_ov rfl rfl
theorem pt_65 {S : Mm} {δ : Sg} {k : Nat} {v : Value} : b_pt (ov S δ) 65 k v = ov (up S 65 k v) δ := pt_ov rfl rfl
theorem ia_66 {S : Mm} {δ : Sg} {k : Nat} : b_ia (ov S δ) 66 k = gi S 66 k := ia_ov rfl rfl
theorem pt_66 {S : Mm} {δ : Sg} {k : Nat} {v : Value} : b_pt (ov S δ) 66 k v = ov (up S 66 k v) δ := pt_ov rfl rfl
theorem ia_67 {S : Mm} {δ : Sg} {k : Nat} : b_ia (ov S δ) 67 k = gi S 67 k := ia_ov rfl rfl
theorem pt_67 {S : Mm} {δ : Sg} {k : Nat} {v : Value} : b_pt (ov S δ) 67 k v = ov (up S 67 k v) δ := pt_ov rfl rfl
theorem ia_68 {S : Mm} {δ : Sg} {k : Nat} : b_ia (ov S δ) 68 k = gi S 68 k := ia_ov rfl rfl
theorem pt_68 {S : Mm} {δ : Sg} {k : Nat} {v : Value} : b_pt (ov S δ) 68 k v = ov (up S 68 k v) δ := pt_ov rfl rfl
theorem ia_69 {S : Mm} {δ : Sg} {k : Nat} : b_ia (ov S δ) 69 k = gi S 69 k := ia_ov rfl rfl
theorem pt_69 {S : Mm} {δ : Sg} {k : Nat} {v : Value} : b_pt (ov S δ) 69 k v = ov (up S 69 k v) δ := pt_ov rfl rfl
theorem ia_70 {S : Mm} {δ : Sg} {k : Nat} : b_ia (ov S δ) 70 k = gi S 70 k := ia_ov rfl rfl
theorem pt_70 {S : Mm} {δ : Sg} {k : Nat} {v : Value} : b_pt (ov S δ) 70 k v = ov (up S 70 k v) δ := pt_ov rfl rfl
theorem vm_74 {S : Mm} {δ : Sg} {k : Nat} : b_vl (ov S δ) 74 k = S 74 k := vm_ov rfl rfl
theorem pt_74 {S : Mm} {δ : Sg} {k : Nat} {v : Value} : b_pt (ov S δ) 74 k v = ov (up S 74 k v) δ := pt_ov rfl rfl
theorem ia_75 {S : Mm} {δ : Sg} {k : Nat} : b_ia (ov S δ) 75 k = gi S 75 k := ia_ov rfl rfl
theorem pt_75 {S : Mm} {δ : Sg} {k : Nat} {v : Value} : b_pt (ov S δ) 75 k v = ov (up S 75 k v) δ := pt_ov rfl rfl
theorem ia_76 {S : Mm} {δ : Sg} {k : Nat} : b_ia (ov S δ) 76 k = gi S 76 k := ia_ov rfl rfl
theorem pt_76 {S : Mm} {δ : Sg} {k : Nat} {v : Value} : b_pt (ov S δ) 76 k v = ov (up S 76 k v) δ := pt_ov rfl rfl
theorem ia_77 {S : Mm} {δ : Sg} {k : Nat} : b_ia (ov S δ) 77 k = gi S 77 k := ia_ov rfl rfl
theorem pt_77 {S : Mm} {δ : Sg} {k : Nat} {v : Value} : b_pt (ov S δ) 77 k v = ov (up S 77 k v) δ := pt_ov rfl rfl
theorem ia_78 {S : Mm} {δ : Sg} {k : Nat} : b_ia (ov S δ) 78 k = gi S 78 k := ia_ov rfl rfl
theorem pt_78 {S : Mm} {δ : Sg} {k : Nat} {v : Value} : b_pt (ov S δ) 78 k v = ov (up S 78 k v) δ := pt_ov rfl rfl
theorem ia_79 {S : Mm} {δ : Sg} {k : Nat} : b_ia (ov S δ) 79 k = gi S 79 k := ia_ov rfl rfl
theorem pt_79 {S : Mm} {δ : Sg} {k : Nat} {v : Value} : b_pt (ov S δ) 79 k v = ov (up S 79 k v) δ := pt_ov rfl rfl
theorem ia_80 {S : Mm} {δ : Sg} {k : Nat} : b_ia (ov S δ) 80 k = gi S 80 k := ia_ov rfl rfl
theorem pt_80 {S : Mm} {δ : Sg} {k : Nat} {v : Value} : b_pt (ov S δ) 80 k v = ov (up S 80 k v) δ := pt_ov rfl rfl
theorem ia_81 {S : Mm} {δ : Sg} {k : Nat} : b_ia (ov S δ) 81 k = gi S 81 k := ia_ov rfl rfl
theorem pt_81 {S : Mm} {δ : Sg} {k : Nat} {v : Value} : b_pt (ov S δ) 81 k v = ov (up S 81 k v) δ := pt_ov rfl rfl
theorem ia_83 {S : Mm} {δ : Sg} {k : Nat} : b_ia (ov S δ) 83 k = gi S 83 k := ia_ov rfl rfl
theorem pt_83 {S : Mm} {δ : Sg} {k : Nat} {v : Value} : b_pt (ov S δ) 83 k v = ov (up S 83 k v) δ := pt_ov rfl rfl
theorem ia_84 {S : Mm} {δ : Sg} {k : Nat} : b_ia (ov S δ) 84 k = gi S 84 k := ia_ov rfl rfl
theorem pt_84 {S : Mm} {δ : Sg} {k : Nat} {v : Value} : b_pt (ov S δ) 84 k v = ov (up S 84 k v) δ := pt_ov rfl rfl
theorem ia_85 {S : Mm} {δ : Sg} {k : Nat} : b_ia (ov S δ) 85 k = gi S 85 k := ia_ov rfl rfl
theorem pt_85 {S : Mm} {δ : Sg} {k : Nat} {v : Value} : b_pt (ov S δ) 85 k v = ov (up S 85 k v) δ := pt_ov rfl rfl
theorem ia_86 {S : Mm} {δ : Sg} {k : Nat} : b_ia (ov S δ) 86 k = gi S 86 k := ia_ov rfl rfl
theorem pt_86 {S : Mm} {δ : Sg} {k : Nat} {v : Value} : b_pt (ov S δ) 86 k v = ov (up S 86 k v) δ := pt_ov rfl rfl
theorem ia_87 {S : Mm} {δ : Sg} {k : Nat} : b_ia (ov S δ) 87 k = gi S 87 k := ia_ov rfl rfl
theorem pt_87 {S : Mm} {δ : Sg} {k : Nat} {v : Value} : b_pt (ov S δ) 87 k v = ov (up S 87 k v) δ := pt_ov rfl rfl
theorem ia_88 {S : Mm} {δ : Sg} {k : Nat} : b_ia (ov S δ) 88 k = gi S 88 k := ia_ov rfl rfl
theorem pt_88 {S : Mm} {δ : Sg} {k : Nat} {v : Value} : b_pt (ov S δ) 88 k v = ov (up S 88 k v) δ := pt_ov rfl rfl
theorem ia_89 {S : Mm} {δ : Sg} {k : Nat} : b_ia (ov S δ) 89 k = gi S 89 k := ia_ov rfl rfl
theorem pt_89 {S : Mm} {δ : Sg} {k : Nat} {v : Value} : b_pt (ov S δ) 89 k v = ov (up S 89 k v) δ := pt_ov rfl rfl
theorem ia_90 {S : Mm} {δ : Sg} {k : Nat} : b_ia (ov S δ) 90 k = gi S 90 k := ia_ov rfl rfl
theorem pt_90 {S : Mm} {δ : Sg} {k : Nat} {v : Value} : b_pt (ov S δ) 90 k v = ov (up S 90 k v) δ := pt_ov rfl rfl
theorem ia_92 {S : Mm} {δ : Sg} {k : Nat} : b_ia (ov S δ) 92 k = gi S 92 k := ia_ov rfl rfl
theorem pt_92 {S : Mm} {δ : Sg} {k : Nat} {v : Value} : b_pt (ov S δ) 92 k v = ov (up S 92 k v) δ := pt_ov rfl rfl
theorem ia_93 {S : Mm} {δ : Sg} {k : Nat} : b_ia (ov S δ) 93 k = gi S 93 k := ia_ov rfl rfl
theorem pt_93 {S : Mm} {δ : Sg} {k : Nat} {v : Value} : b_pt (ov S δ) 93 k v = ov (up S 93 k v) δ := pt_ov rfl rfl
theorem ia_94 {S : Mm} {δ : Sg} {k : Nat} : b_ia (ov S δ) 94 k = gi S 94 k := ia_ov rfl rfl
theorem pt_94 {S : Mm} {δ : Sg} {k : Nat} {v : Value} : b_pt (ov S δ) 94 k v = ov (up S 94 k v) δ := pt_ov rfl rfl
theorem ia_95 {S : Mm} {δ : Sg} {k : Nat} : b_ia (ov S δ) 95 k = gi S 95 k := ia_ov rfl rfl
theorem pt_95 {S : Mm} {δ : Sg} {k : Nat} {v : Value} : b_pt (ov S δ) 95 k v = ov (up S 95 k v) δ := pt_ov rfl rfl
theorem ia_96 {S : Mm} {δ : Sg} {k : Nat} : b_ia (ov S δ) 96 k = gi S 96 k := ia_ov rfl rfl
theorem pt_96 {S : Mm} {δ : Sg} {k : Nat} {v : Value} : b_pt (ov S δ) 96 k v = ov (up S 96 k v) δ := pt_ov rfl rfl
theorem ia_97 {S : Mm} {δ : Sg} {k : Nat} : b_ia (ov S δ) 97 k = gi S 97 k := ia_ov rfl rfl
theorem pt_97 {S : Mm} {δ : Sg} {k : Nat} {v : Value} : b_pt (ov S δ) 97 k v = ov (up S 97 k v) δ := pt_ov rfl rfl
theorem ia_98 {S : Mm} {δ : Sg} {k : Nat} : b_ia (ov S δ) 98 k = gi S 98 k := ia_ov rfl rfl
theorem pt_98 {S : Mm} {δ : Sg} {k : Nat} {v : Value} : b_pt (ov S δ) 98 k v = ov (up S 98 k v) δ := pt_ov rfl rfl
theorem ia_99 {S : Mm} {δ : Sg} {k : Nat} : b_ia (ov S δ) 99 k = gi S 99 k := ia_ov rfl rfl
theorem pt_99 {S : Mm} {δ : Sg} {k : Nat} {v : Value} : b_pt (ov S δ) 99 k v = ov (up S 99 k v) δ := pt_ov rfl rfl
theorem ia_100 {S : Mm} {δ : Sg} {k : Nat} : b_ia (ov S δ) 100 k = gi S 100 k := ia_ov rfl rfl
theorem pt_100 {S : Mm} {δ : Sg} {k : Nat} {v : Value} : b_pt (ov S δ) 100 k v = ov (up S 100 k v) δ := pt_ov rfl rfl
theorem ia_101 {S : Mm} {δ : Sg} {k : Nat} : b_ia (ov S δ) 101 k = gi S 101 k := ia_ov rfl rfl
theorem pt_101 {S : Mm} {δ : Sg} {k : Nat} {v : Value} : b_pt (ov S δ) 101 k v = ov (up S 101 k v) δ := pt_ov rfl rfl
theorem ia_107 {S : Mm} {δ : Sg} {k : Nat} : b_ia (ov S δ) 107 k = gi S 107 k := ia_ov rfl rfl
theorem pt_107 {S : Mm} {δ : Sg} {k : Nat} {v : Value} : b_pt (ov S δ) 107 k v = ov (up S 107 k v) δ := pt_ov rfl rfl
theorem ia_108 {S : Mm} {δ : Sg} {k : Nat} : b_ia (ov S δ) 108 k = gi S 108 k := ia_ov rfl rfl
theorem pt_108 {S : Mm} {δ : Sg} {k : Nat} {v : Value} : b_pt (ov S δ) 108 k v = ov (up S 108 k v) δ := pt_ov rfl rfl
theorem la_109 {S : Mm} {δ : Sg} {k : Nat} : b_la (ov S δ) 109 k = gl S 109 k := la_ov rfl rfl
theorem pt_109 {S : Mm} {δ : Sg} {k : Nat} {v : Value} : b_pt (ov S δ) 109 k v = ov (up S 109 k v) δ := pt_ov rfl rfl
theorem la_110 {S : Mm} {δ : Sg} {k : Nat} : b_la (ov S δ) 110 k = gl S 110 k := la_ov rfl rfl
theorem pt_110 {S : Mm} {δ : Sg} {k : Nat} {v : Value} : b_pt (ov S δ) 110 k v = ov (up S 110 k v) δ := pt_ov rfl rfl
theorem ia_111 {S : Mm} {δ : Sg} {k : Nat} : b_ia (ov S δ) 111 k = gi S 111 k := ia_ov rfl rfl
theorem pt_111 {S : Mm} {δ : Sg} {k : Nat} {v : Value} : b_pt (ov S δ) 111 k v = ov (up S 111 k v) δ := pt_ov rfl rfl
theorem ia_112 {S : Mm} {δ : Sg} {k : Nat} : b_ia (ov S δ) 112 k = gi S 112 k := ia_ov rfl rfl
theorem pt_112 {S : Mm} {δ : Sg} {k : Nat} {v : Value} : b_pt (ov S δ) 112 k v = ov (up S 112 k v) δ := pt_ov rfl rfl
theorem ia_113 {S : Mm} {δ : Sg} {k : Nat} : b_ia (ov S δ) 113 k = gi S 113 k := ia_ov rfl rfl
theorem pt_113 {S : Mm} {δ : Sg} {k : Nat} {v : Value} : b_pt (ov S δ) 113 k v = ov (up S 113 k v) δ := pt_ov rfl rfl
theorem ia_114 {S : Mm} {δ : Sg} {k : Nat} : b_ia (ov S δ) 114 k = gi S 114 k := ia_ov rfl rfl
theorem pt_114 {S : Mm} {δ : Sg} {k : Nat} {v : Value} : b_pt (ov S δ) 114 k v = ov (up S 114 k v) δ := pt_ov rfl rfl
theorem ia_115 {S : Mm} {δ : Sg} {k : Nat} : b_ia (ov S δ) 115 k = gi S 115 k := ia_ov rfl rfl
theorem pt_115 {S : Mm} {δ : Sg} {k : Nat} {v : Value} : b_pt (ov S δ) 115 k v = ov (up S 115 k v) δ := pt_ov rfl rfl
theorem ia_116 {S : Mm} {δ : Sg} {k : Nat} : b_ia (ov S δ) 116 k = gi S 116 k := ia_ov rfl rfl
theorem pt_116 {S : Mm} {δ : Sg} {k : Nat} {v : Value} : b_pt (ov S δ) 116 k v = ov (up S 116 k v) δ := pt_ov rfl rfl
theorem ia_117 {S : Mm} {δ : Sg} {k : Nat} : b_ia (ov S δ) 117 k = gi S 117 k := ia_ov rfl rfl
theorem pt_117 {S : Mm} {δ : Sg} {k : Nat} {v : Value} : b_pt (ov S δ) 117 k v = ov (up S 117 k v) δ := pt_ov rfl rfl
theorem ia_118 {S : Mm} {δ : Sg} {k : Nat} : b_ia (ov S δ) 118 k = gi S 118 k := ia_ov rfl rfl
theorem pt_118 {S : Mm} {δ : Sg} {k : Nat} {v : Value} : b_pt (ov S δ) 118 k v = ov (up S 118 k v) δ := pt_ov rfl rfl
theorem ia_119 {S : Mm} {δ : Sg} {k : Nat} : b_ia (ov S δ) 119 k = gi S 119 k := ia_ov rfl rfl
theorem pt_119 {S : Mm} {δ : Sg} {k : Nat} {v : Value} : b_pt (ov S δ) 119 k v = ov (up S 119 k v) δ := pt_ov rfl rfl
theorem ia_120 {S : Mm} {δ : Sg} {k : Nat} : b_ia (ov S δ) 120 k = gi S 120 k := ia_ov rfl rfl
theorem pt_120 {S : Mm} {δ : Sg} {k : Nat} {v : Value} : b_pt (ov S δ) 120 k v = ov (up S 120 k v) δ := pt_ov rfl rfl
theorem ia_121 {S : Mm} {δ : Sg} {k : Nat} : b_ia (ov S δ) 121 k = gi S 121 k := ia_ov rfl rfl
theorem pt_121 {S : Mm} {δ : Sg} {k : Nat} {v : Value} : b_pt (ov S δ) 121 k v = ov (up S 121 k v) δ := pt_ov rfl rfl
theorem ia_122 {S : Mm} {δ : Sg} {k : Nat} : b_ia (ov S δ) 122 k = gi S 122 k := ia_ov rfl rfl
theorem pt_122 {S : Mm} {δ : Sg} {k : Nat} {v : Value} : b_pt (ov S δ) 122 k v = ov (up S 122 k v) δ := pt_ov rfl rfl
theorem ia_123 {S : Mm} {δ : Sg} {k : Nat} : b_ia (ov S δ) 123 k = gi S 123 k := ia_ov rfl rfl
theorem pt_123 {S : Mm} {δ : Sg} {k : Nat} {v : Value} : b_pt (ov S δ) 123 k v = ov (up S 123 k v) δ := pt_ov rfl rfl
theorem ia_124 {S : Mm} {δ : Sg} {k : Nat} : b_ia (ov S δ) 124 k = gi S 124 k := ia_ov rfl rfl
theorem pt_124 {S : Mm} {δ : Sg} {k : Nat} {v : Value} : b_pt (ov S δ) 124 k v = ov (up S 124 k v) δ := pt_ov rfl rfl
theorem ia_125 {S : Mm} {δ : Sg} {k : Nat} : b_ia (ov S δ) 125 k = gi S 125 k := ia_ov rfl rfl
theorem pt_125 {S : Mm} {δ : Sg} {k : Nat} {v : Value} : b_pt (ov S δ) 125 k v = ov (up S 125 k v) δ := pt_ov rfl rfl
theorem ia_126 {S : Mm} {δ : Sg} {k : Nat} : b_ia (ov S δ) 126 k = gi S 126 k := ia_ov rfl rfl
theorem pt_126 {S : Mm} {δ : Sg} {k : Nat} {v : Value} : b_pt (ov S δ) 126 k v = ov (up S 126 k v) δ := pt_ov rfl rfl
theorem ia_127 {S : Mm} {δ : Sg} {k : Nat} : b_ia (ov S δ) 127 k = gi S 127 k := ia_ov rfl rfl
theorem pt_127 {S : Mm} {δ : Sg} {k : Nat} {v : Value} : b_pt (ov S δ) 127 k v = ov (up S 127 k v) δ := pt_ov rfl rfl
theorem ia_128 {S : Mm} {δ : Sg} {k : Nat} : b_ia (ov S δ) 128 k = gi S 128 k := ia_ov rfl rfl
theorem pt_128 {S : Mm} {δ : Sg} {k : Nat} {v : Value} : b_pt (ov S δ) 128 k v = ov (up S 128 k v) δ := pt_ov rfl rfl
theorem ia_129 {S : Mm} {δ : Sg} {k : Nat} : b_ia (ov S δ) 129 k = gi S 129 k := ia_ov rfl rfl
theorem pt_129 {S : Mm} {δ : Sg} {k : Nat} {v : Value} : b_pt (ov S δ) 129 k v = ov (up S 129 k v) δ := pt_ov rfl rfl
theorem ia_130 {S : Mm} {δ : Sg} {k : Nat} : b_ia (ov S δ) 130 k = gi S 130 k := ia_ov rfl rfl
theorem pt_130 {S : Mm} {δ : Sg} {k : Nat} {v : Value} : b_pt (ov S δ) 130 k v = ov (up S 130 k v) δ := pt_ov rfl rfl
theorem ia_131 {S : Mm} {δ : Sg} {k : Nat} : b_ia (ov S δ) 131 k = gi S 131 k := ia_ov rfl rfl
theorem pt_131 {S : Mm} {δ : Sg} {k : Nat} {v : Value} : b_pt (ov S δ) 131 k v = ov (up S 131 k v) δ := pt_ov rfl rfl
theorem ia_132 {S : Mm} {δ : Sg} {k : Nat} : b_ia (ov S δ) 132 k = gi S 132 k := ia_ov rfl rfl
theorem pt_132 {S : Mm} {δ : Sg} {k : Nat} {v : Value} : b_pt (ov S δ) 132 k v = ov (up S 132 k v) δ := pt_ov rfl rfl
theorem ia_133 {S : Mm} {δ : Sg} {k : Nat} : b_ia (ov S δ) 133 k = gi S 133 k := ia_ov rfl rfl
theorem pt_133 {S : Mm} {δ : Sg} {k : Nat} {v : Value} : b_pt (ov S δ) 133 k v = ov (up S 133 k v) δ := pt_ov rfl rfl
theorem ia_134 {S : Mm} {δ : Sg} {k : Nat} : b_ia (ov S δ) 134 k = gi S 134 k := ia_ov rfl rfl
theorem pt_134 {S : Mm} {δ : Sg} {k : Nat} {v : Value} : b_pt (ov S δ) 134 k v = ov (up S 134 k v) δ := pt_ov rfl rfl
theorem ia_135 {S : Mm} {δ : Sg} {k : Nat} : b_ia (ov S δ) 135 k = gi S 135 k := ia_ov rfl rfl
theorem pt_135 {S : Mm} {δ : Sg} {k : Nat} {v : Value} : b_pt (ov S δ) 135 k v = ov (up S 135 k v) δ := pt_ov rfl rfl
theorem ia_136 {S : Mm} {δ : Sg} {k : Nat} : b_ia (ov S δ) 136 k = gi S 136 k := ia_ov rfl rfl
theorem pt_136 {S : Mm} {δ : Sg} {k : Nat} {v : Value} : b_pt (ov S δ) 136 k v = ov (up S 136 k v) δ := pt_ov rfl rfl
theorem ia_137 {S : Mm} {δ : Sg} {k : Nat} : b_ia (ov S δ) 137 k = gi S 137 k := ia_ov rfl rfl
theorem pt_137 {S : Mm} {δ : Sg} {k : Nat} {v : Value} : b_pt (ov S δ) 137 k v = ov (up S 137 k v) δ := pt_ov rfl rfl
theorem ia_138 {S : Mm} {δ : Sg} {k : Nat} : b_ia (ov S δ) 138 k = gi S 138 k := ia_ov rfl rfl
theorem pt_138 {S : Mm} {δ : Sg} {k : Nat} {v : Value} : b_pt (ov S δ) 138 k v = ov (up S 138 k v) δ := pt_ov rfl rfl
theorem ia_139 {S : Mm} {δ : Sg} {k : Nat} : b_ia (ov S δ) 139 k = gi S 139 k := ia_ov rfl rfl
theorem pt_139 {S : Mm} {δ : Sg} {k : Nat} {v : Value} : b_pt (ov S δ) 139 k v = ov (up S 139 k v) δ := pt_ov rfl rfl
theorem ia_140 {S : Mm} {δ : Sg} {k : Nat} : b_ia (ov S δ) 140 k = gi S 140 k := ia_ov rfl rfl
theorem pt_140 {S : Mm} {δ : Sg} {k : Nat} {v : Value} : b_pt (ov S δ) 140 k v = ov (up S 140 k v) δ := pt_ov rfl rfl
theorem ia_141 {S : Mm} {δ : Sg} {k : Nat} : b_ia (ov S δ) 141 k = gi S 141 k := ia_ov rfl rfl
theorem pt_141 {S : Mm} {δ : Sg} {k : Nat} {v : Value} : b_pt (ov S δ) 141 k v = ov (up S 141 k v) δ := pt_ov rfl rfl
theorem ia_142 {S : Mm} {δ : Sg} {k : Nat} : b_ia (ov S δ) 142 k = gi S 142 k := ia_ov rfl rfl
theorem pt_142 {S : Mm} {δ : Sg} {k : Nat} {v : Value} : b_pt (ov S δ) 142 k v = ov (up S 142 k v) δ := pt_ov rfl rfl
theorem ia_143 {S : Mm} {δ : Sg} {k : Nat} : b_ia (ov S δ) 143 k = gi S 143 k := ia_ov rfl rfl
theorem pt_143 {S : Mm} {δ : Sg} {k : Nat} {v : Value} : b_pt (ov S δ) 143 k v = ov (up S 143 k v) δ := pt_ov rfl rfl
theorem ia_144 {S : Mm} {δ : Sg} {k : Nat} : b_ia (ov S δ) 144 k = gi S 144 k := ia_ov rfl rfl
theorem pt_144 {S : Mm} {δ : Sg} {k : Nat} {v : Value} : b_pt (ov S δ) 144 k v = ov (up S 144 k v) δ := pt_ov rfl rfl
theorem ia_145 {S : Mm} {δ : Sg} {k : Nat} : b_ia (ov S δ) 145 k = gi S 145 k := ia_ov rfl rfl
theorem pt_145 {S : Mm} {δ : Sg} {k : Nat} {v : Value} : b_pt (ov S δ) 145 k v = ov (up S 145 k v) δ := pt_ov rfl rfl
theorem ia_146 {S : Mm} {δ : Sg} {k : Nat} : b_ia (ov S δ) 146 k = gi S 146 k := ia_ov rfl rfl
theorem pt_146 {S : Mm} {δ : Sg} {k : Nat} {v : Value} : b_pt (ov S δ) 146 k v = ov (up S 146 k v) δ := pt_ov rfl rfl
theorem ia_147 {S : Mm} {δ : Sg} {k : Nat} : b_ia (ov S δ) 147 k = gi S 147 k := ia_ov rfl rfl
theorem pt_147 {S : Mm} {δ : Sg} {k : Nat} {v : Value} : b_pt (ov S δ) 147 k v = ov (up S 147 k v) δ := pt_ov rfl rfl
theorem ia_148 {S : Mm} {δ : Sg} {k : Nat} : b_ia (ov S δ) 148 k = gi S 148 k := ia_ov rfl rfl
theorem pt_148 {S : Mm} {δ : Sg} {k : Nat} {v : Value} : b_pt (ov S δ) 148 k v = ov (up S 148 k v) δ := pt_ov rfl rfl
theorem ia_149 {S : Mm} {δ : Sg} {k : Nat} : b_ia (ov S δ) 149 k = gi S 149 k := ia_ov rfl rfl
theorem pt_149 {S : Mm} {δ : Sg} {k : Nat} {v : Value} : b_pt (ov S δ) 149 k v = ov (up S 149 k v) δ := pt_ov rfl rfl
theorem ia_150 {S : Mm} {δ : Sg} {k : Nat} : b_ia (ov S δ) 150 k = gi S 150 k := ia_ov rfl rfl
theorem pt_150 {S : Mm} {δ : Sg} {k : Nat} {v : Value} : b_pt (ov S δ) 150 k v = ov (up S 150 k v) δ := pt_ov rfl rfl
theorem ia_151 {S : Mm} {δ : Sg} {k : Nat} : b_ia (ov S δ) 151 k = gi S 151 k := ia_ov rfl rfl
theorem pt_151 {S : Mm} {δ : Sg} {k : Nat} {v : Value} : b_pt (ov S δ) 151 k v = ov (up S 151 k v) δ := pt_ov rfl rfl
theorem ia_152 {S : Mm} {δ : Sg} {k : Nat} : b_ia (ov S δ) 152 k = gi S 152 k := ia_ov rfl rfl
theorem pt_152 {S : Mm} {δ : Sg} {k : Nat} {v : Value} : b_pt (ov S δ) 152 k v = ov (up S 152 k v) δ := pt_ov rfl rfl
theorem ia_153 {S : Mm} {δ : Sg} {k : Nat} : b_ia (ov S δ) 153 k = gi S 153 k := ia_ov rfl rfl
theorem pt_153 {S : Mm} {δ : Sg} {k : Nat} {v : Value} : b_pt (ov S δ) 153 k v = ov (up S 153 k v) δ := pt_ov rfl rfl
theorem ia_154 {S : Mm} {δ : Sg} {k : Nat} : b_ia (ov S δ) 154 k = gi S 154 k := ia_ov rfl rfl
theorem pt_154 {S : Mm} {δ : Sg} {k : Nat} {v : Value} : b_pt (ov S δ) 154 k v = ov (up S 154 k v) δ := pt_ov rfl rfl
theorem la_155 {S : Mm} {δ : Sg} {k : Nat} : b_la (ov S δ) 155 k = gl S 155 k := la_ov rfl rfl
theorem pt_155 {S : Mm} {δ : Sg} {k : Nat} {v : Value} : b_pt (ov S δ) 155 k v = ov (up S 155 k v) δ := pt_ov rfl rfl
theorem vr_43 {S : Mm} {δ : Sg} {k : Nat} (h : k < 4) : b_vl (ov S δ) 43 k = .ref (102 + k) := vc_ov rfl (by
  show cond (Nat.blt k 4) (some (102 + k)) none = _
  rw [show Nat.blt k 4 = true from Nat.ble_eq_true_of_le h]; rfl)
theorem vr_53 {S : Mm} {δ : Sg} {k : Nat} (h : k < 16) : b_vl (ov S δ) 53 k = .ref (54 + k) := vc_ov rfl (by
  show cond (Nat.blt k 16) (some (54 + k)) none = _
  rw [show Nat.blt k 16 = true from Nat.ble_eq_true_of_le h]; rfl)
theorem vr_82 {S : Mm} {δ : Sg} {k : Nat} (h : k < 8) : b_vl (ov S δ) 82 k = .ref (83 + k) := vc_ov rfl (by
  show cond (Nat.blt k 8) (some (83 + k)) none = _
  rw [show Nat.blt k 8 = true from Nat.ble_eq_true_of_le h]; rfl)
theorem vr_91 {S : Mm} {δ : Sg} {k : Nat} (h : k < 9) : b_vl (ov S δ) 91 k = .ref (92 + k) := vc_ov rfl (by
  show cond (Nat.blt k 9) (some (92 + k)) none = _
  rw [show Nat.blt k 9 = true from Nat.ble_eq_true_of_le h]; rfl)
theorem vr_72 {S : Mm} {δ : Sg} {k : Nat} (h : k < 18) : b_vl (ov S δ) 72 k = .ref (5 + 2 * k) := vc_ov rfl (by
  show cond (Nat.blt k 18) (some (5 + 2 * k)) none = _
  rw [show Nat.blt k 18 = true from Nat.ble_eq_true_of_le h]; rfl)
theorem sy_54 {i : Nat} (h : i < 16) : inF (54 + i) = true := inF_yes (by omega) (by omega)
theorem sz_54 {i : Nat} (h : i < 16) : shX (54 + i) = (100, 16) := by
  have h2 : ∀ j : Nat, j < 16 → shX (54 + j) = (100, 16) := by decide +kernel
  exact h2 i h
theorem sc_54 {i k : Nat} (h : i < 16) : csT (54 + i) k = none := by
  have h2 : ∀ j : Nat, j < 16 → (Nat.beq (54 + j) 106 = false ∧ Nat.beq (54 + j) 42 = false ∧ Nat.beq (54 + j) 71 = false ∧ Nat.beq (54 + j) 43 = false ∧ Nat.beq (54 + j) 53 = false ∧ Nat.beq (54 + j) 82 = false ∧ Nat.beq (54 + j) 91 = false ∧ Nat.beq (54 + j) 72 = false) := by decide +kernel
  obtain ⟨e1, e2, e3, e4, e5, e6, e7, e8⟩ := h2 i h
  unfold csT
  rw [e1, e2, e3, e4, e5, e6, e7, e8]
  rfl
theorem tgs_54 {S : Mm} {δ : Sg} {i : Nat} (h : i < 16) : b_tg (ov S δ) (54 + i) = 100 := by rw [tg_ov (sy_54 h), sz_54 h]
theorem lns_54 {S : Mm} {δ : Sg} {i : Nat} (h : i < 16) : b_ln (ov S δ) (54 + i) = 16 := by rw [ln_ov (sy_54 h), sz_54 h]
theorem ias_54 {S : Mm} {δ : Sg} {i k : Nat} (h : i < 16) : b_ia (ov S δ) (54 + i) k = gi S (54 + i) k := ia_ov (sy_54 h) (sc_54 h)
theorem pts_54 {S : Mm} {δ : Sg} {i k : Nat} {v : Value} (h : i < 16) : b_pt (ov S δ) (54 + i) k v = ov (up S (54 + i) k v) δ := pt_ov (sy_54 h) (sc_54 h)
theorem sy_83 {i : Nat} (h : i < 8) : inF (83 + i) = true := inF_yes (by omega) (by omega)
theorem sz_83 {i : Nat} (h : i < 8) : shX (83 + i) = (103, 8) := by
  have h2 : ∀ j : Nat, j < 8 → shX (83 + j) = (103, 8) := by decide +kernel
  exact h2 i h
theorem sc_83 {i k : Nat} (h : i < 8) : csT (83 + i) k = none := by
  have h2 : ∀ j : Nat, j < 8 → (Nat.beq (83 + j) 106 = false ∧ Nat.beq (83 + j) 42 = false ∧ Nat.beq (83 + j) 71 = false ∧ Nat.beq (83 + j) 43 = false ∧ Nat.beq (83 + j) 53 = false ∧ Nat.beq (83 + j) 82 = false ∧ Nat.beq (83 + j) 91 = false ∧ Nat.beq (83 + j) 72 = false) := by decide +kernel
  obtain ⟨e1, e2, e3, e4, e5, e6, e7, e8⟩ := h2 i h
  unfold csT
  rw [e1, e2, e3, e4, e5, e6, e7, e8]
  rfl
theorem tgs_83 {S : Mm} {δ : Sg} {i : Nat} (h : i < 8) : b_tg (ov S δ) (83 + i) = 103 := by rw [tg_ov (sy_83 h), sz_83 h]
theorem lns_83 {S : Mm} {δ : Sg} {i : Nat} (h : i < 8) : b_ln (ov S δ) (83 + i) = 8 := by rw [ln_ov (sy_83 h), sz_83 h]
theorem ias_83 {S : Mm} {δ : Sg} {i k : Nat} (h : i < 8) : b_ia (ov S δ) (83 + i) k = gi S (83 + i) k := ia_ov (sy_83 h) (sc_83 h)
theorem pts_83 {S : Mm} {δ : Sg} {i k : Nat} {v : Value} (h : i < 8) : b_pt (ov S δ) (83 + i) k v = ov (up S (83 + i) k v) δ := pt_ov (sy_83 h) (sc_83 h)
theorem sy_92 {i : Nat} (h : i < 9) : inF (92 + i) = true := inF_yes (by omega) (by omega)
theorem sz_92 {i : Nat} (h : i < 9) : shX (92 + i) = (103, 9) := by
  have h2 : ∀ j : Nat, j < 9 → shX (92 + j) = (103, 9) := by decide +kernel
  exact h2 i h
theorem sc_92 {i k : Nat} (h : i < 9) : csT (92 + i) k = none := by
  have h2 : ∀ j : Nat, j < 9 → (Nat.beq (92 + j) 106 = false ∧ Nat.beq (92 + j) 42 = false ∧ Nat.beq (92 + j) 71 = false ∧ Nat.beq (92 + j) 43 = false ∧ Nat.beq (92 + j) 53 = false ∧ Nat.beq (92 + j) 82 = false ∧ Nat.beq (92 + j) 91 = false ∧ Nat.beq (92 + j) 72 = false) := by decide +kernel
  obtain ⟨e1, e2, e3, e4, e5, e6, e7, e8⟩ := h2 i h
  unfold csT
  rw [e1, e2, e3, e4, e5, e6, e7, e8]
  rfl
theorem tgs_92 {S : Mm} {δ : Sg} {i : Nat} (h : i < 9) : b_tg (ov S δ) (92 + i) = 103 := by rw [tg_ov (sy_92 h), sz_92 h]
theorem lns_92 {S : Mm} {δ : Sg} {i : Nat} (h : i < 9) : b_ln (ov S δ) (92 + i) = 9 := by rw [ln_ov (sy_92 h), sz_92 h]
theorem ias_92 {S : Mm} {δ : Sg} {i k : Nat} (h : i < 9) : b_ia (ov S δ) (92 + i) k = gi S (92 + i) k := ia_ov (sy_92 h) (sc_92 h)
theorem pts_92 {S : Mm} {δ : Sg} {i k : Nat} {v : Value} (h : i < 9) : b_pt (ov S δ) (92 + i) k v = ov (up S (92 + i) k v) δ := pt_ov (sy_92 h) (sc_92 h)
theorem sy_102 {i : Nat} (h : i < 4) : inF (102 + i) = true := inF_yes (by omega) (by omega)
theorem sz_102 {i : Nat} (h : i < 4) : shX (102 + i) = (4, 1) := by
  have h2 : ∀ j : Nat, j < 4 → shX (102 + j) = (4, 1) := by decide +kernel
  exact h2 i h
theorem sc_102 {i k : Nat} (h : i < 4) : csT (102 + i) k = none := by
  have h2 : ∀ j : Nat, j < 4 → (Nat.beq (102 + j) 106 = false ∧ Nat.beq (102 + j) 42 = false ∧ Nat.beq (102 + j) 71 = false ∧ Nat.beq (102 + j) 43 = false ∧ Nat.beq (102 + j) 53 = false ∧ Nat.beq (102 + j) 82 = false ∧ Nat.beq (102 + j) 91 = false ∧ Nat.beq (102 + j) 72 = false) := by decide +kernel
  obtain ⟨e1, e2, e3, e4, e5, e6, e7, e8⟩ := h2 i h
  unfold csT
  rw [e1, e2, e3, e4, e5, e6, e7, e8]
  rfl
theorem tgs_102 {S : Mm} {δ : Sg} {i : Nat} (h : i < 4) : b_tg (ov S δ) (102 + i) = 4 := by rw [tg_ov (sy_102 h), sz_102 h]
theorem lns_102 {S : Mm} {δ : Sg} {i : Nat} (h : i < 4) : b_ln (ov S δ) (102 + i) = 1 := by rw [ln_ov (sy_102 h), sz_102 h]
theorem vms_102 {S : Mm} {δ : Sg} {i k : Nat} (h : i < 4) : b_vl (ov S δ) (102 + i) k = S (102 + i) k := vm_ov (sy_102 h) (sc_102 h)
theorem pts_102 {S : Mm} {δ : Sg} {i k : Nat} {v : Value} (h : i < 4) : b_pt (ov S δ) (102 + i) k v = ov (up S (102 + i) k v) δ := pt_ov (sy_102 h) (sc_102 h)
