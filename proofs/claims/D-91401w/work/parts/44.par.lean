/-! ===== the grammar of keys, as a function of a text (t, n) ===== -/
set_option maxRecDepth 100000
section PAR
variable (t : Nat → Int) (n : Nat)
def isL (c : Int) : Bool := decide (97 ≤ c ∧ c ≤ 122)
def isD (c : Int) : Bool := decide (48 ≤ c ∧ c ≤ 57)
def isW (c : Int) : Bool := decide (c = 32 ∨ c = 10)
def isSg (c : Int) : Bool := decide (c = 43 ∨ c = 45 ∨ c = 42 ∨ c = 40 ∨ c = 41 ∨ c = 60 ∨ c = 62 ∨ c = 61 ∨ c = 58 ∨ c = 46 ∨ c = 59)
/-- how far a run of bytes of a kind goes -/
def pRun (P : Int → Bool) : Nat → Nat → Nat
  | 0, p => p
  | m + 1, p => if p < n ∧ P (t p) = true then pRun P m (p + 1) else p
def pB (p : Nat) : Nat := pRun t n isW (n - p) p
def pVal : Nat → Nat → Int → Int
  | 0, _, v => v
  | m + 1, p, v => pVal m (p + 1) (min 10000 (10 * v + (t p - 48)))
/-- the token at p: where it begins, where it ends, its sort (0 the end, 1 a word, 2 a number, 3 a sign, 4 none), its number -/
def pN (p : Nat) : Nat := let q := pB t n p
  if n ≤ q then q else if isL (t q) = true then pRun t n isL (n - q) q else if isD (t q) = true then pRun t n isD (n - q) q else q + 1
def pV (p : Nat) : Int := pVal t (pN t n p - pB t n p) (pB t n p) 0
def pS (p : Nat) : Nat := let q := pB t n p
  if n ≤ q then 0 else if isL (t q) = true then 1 else if isD (t q) = true then (if pV t n p ≤ 9999 then 2 else 4) else if isSg (t q) = true then 3 else 4
def pSign (p : Nat) (c : Int) : Bool := decide (pS t n p = 3 ∧ t (pB t n p) = c)
def pWords : List (List Int) := [[97], [98], [99], [100], [101], [102], [115, 105, 100, 101], [122, 111, 110, 101, 115], [101, 110, 100, 115], [119, 101, 97, 114], [116, 104, 101, 110], [101, 108, 115, 101], [103, 111], [105, 115], [110, 111, 110, 101], [111, 114], [97, 110, 100], [110, 111, 116]]
def pSl (a m : Nat) : List Int := (List.range m).map fun i => t (a + i)
/-- which word it is (23: none of them) -/
def pWd (p : Nat) : Nat := if pS t n p = 1 then (let i := pWords.findIdx fun w => decide (w = pSl t (pB t n p) (pN t n p - pB t n p)); if i < 18 then i else 23) else 23
abbrev PR (α : Type) : Type := Option ((Int × Nat) ⊕ (α × Nat))
abbrev PF : Type := (Nat → Int) → Int
abbrev PC : Type := (Nat → Int) → Bool
def pBind {α β : Type} (x : PR α) (f : α → Nat → PR β) : PR β := match x with
  | none => none
  | some (.inl e) => some (.inl e)
  | some (.inr (a, p)) => f a p
def pFail {α : Type} (k : Int) (p : Nat) : PR α := some (.inl (k, pB t n p))
def pOk {α : Type} (a : α) (p : Nat) : PR α := some (.inr (a, p))
def pMust (c : Int) (p : Nat) : PR Unit := if pSign t n p c = true then pOk () (pN t n p) else pFail t n 1 p
def pMustW (w : Nat) (p : Nat) : PR Unit := if pWd t n p = w then pOk () (pN t n p) else pFail t n 1 p
def pNum (high : Int) (p : Nat) : PR Int := if pS t n p ≠ 2 then pFail t n 1 p else if high < pV t n p then pFail t n 3 p else pOk (pV t n p) (pN t n p)
def pChain (g : PF) (ys : List Nat) (gs : List PF) : PF := fun o => chV o ys gs (g o)
def pTermL (fac : Nat → PR PF) : Nat → PF → List Nat → List PF → Nat → PR PF
  | 0, _, _, _, _ => none
  | m + 1, g, ys, gs, p => if pSign t n p 42 = true then pBind (fac (pN t n p)) fun h q => pTermL fac m g (ys ++ [2]) (gs ++ [h]) q else pOk (pChain g ys gs) p
def pTerm (fac : Nat → PR PF) (p : Nat) : PR PF := pBind (fac p) fun g q => pTermL t n fac 500 g [] [] q
def pSumL (fac : Nat → PR PF) : Nat → PF → List Nat → List PF → Nat → PR PF
  | 0, _, _, _, _ => none
  | m + 1, g, ys, gs, p => if pSign t n p 43 = true then pBind (pTerm t n fac (pN t n p)) fun h q => pSumL fac m g (ys ++ [3]) (gs ++ [h]) q
    else if pSign t n p 45 = true then pBind (pTerm t n fac (pN t n p)) fun h q => pSumL fac m g (ys ++ [4]) (gs ++ [h]) q else pOk (pChain g ys gs) p
def pSum (fac : Nat → PR PF) (p : Nat) : PR PF := pBind (pTerm t n fac p) fun g q => pSumL t n fac 500 g [] [] q
def pFac : Nat → Nat → Nat → PR PF
  | 0, _, _ => none
  | k + 1, o, p => if pWd t n p ≤ 9 then pOk (fun b => b (pWd t n p)) (pN t n p)
    else if pS t n p = 2 then pOk (fun _ => pV t n p) (pN t n p)
    else if pSign t n p 40 = true then (if o = 8 then pFail t n 2 p else pBind (pSum t n (pFac k (o + 1)) (pN t n p)) fun f q => pBind (pMust t n 41 q) fun _ r => pOk f r)
    else pFail t n 1 p
def pS0 (o p : Nat) : PR PF := pSum t n (pFac t n 10 o) p
def pOne : Nat → Nat → Nat → PR PC
  | 0, _, _ => none
  | k + 1, o, p => if pWd t n p = 17 then (if o = 8 then pFail t n 2 p else pBind (pOne k (o + 1) (pN t n p)) fun f q => pOk (fun b => !f b) q)
    else pBind (pS0 t n o p) fun f q => if pSign t n q 60 = true ∨ pSign t n q 62 = true ∨ pSign t n q 61 = true then pBind (pS0 t n o (pN t n q)) fun h r => pOk (fun b => cmpF (t (pB t n q)) (f b) (h b)) r else pFail t n 1 q
def pAllL : Nat → List PC → Nat → PR (List PC)
  | 0, _, _ => none
  | m + 1, gs, p => if pWd t n p = 16 then pBind (pOne t n 10 0 (pN t n p)) fun h q => pAllL m (gs ++ [h]) q else pOk gs p
def pAll (p : Nat) : PR PC := pBind (pOne t n 10 0 p) fun g q => pBind (pAllL t n 500 [g] q) fun gs r => pOk (fun b => gs.all fun f => f b) r
def pAnyL : Nat → List PC → Nat → PR (List PC)
  | 0, _, _ => none
  | m + 1, gs, p => if pWd t n p = 15 then pBind (pAll t n (pN t n p)) fun h q => pAnyL m (gs ++ [h]) q else pOk gs p
def pAny (p : Nat) : PR PC := pBind (pAll t n p) fun g q => pBind (pAnyL t n 500 [g] q) fun gs r => pOk (fun b => gs.any fun f => f b) r
/-- a goal of the step of a number; el elements are known -/
def pGoal (el : Int) (st : Int) (p : Nat) : PR KGo := if pWd t n p = 14 then pOk (-1, -1, (pB t n (pN t n p) : Int)) (pN t n p)
  else if pWd t n p = 12 then (let q := pN t n p; if pS t n q ≠ 2 then pFail t n 1 q else if pV t n q ≤ st then pFail t n 4 q else pOk (pV t n q, -1, (pB t n q : Int)) (pN t n q))
  else if pWd t n p = 13 then pBind (pNum t n 7 (pN t n p)) fun k q => pBind (pMust t n 46 q) fun _ r => pBind (pNum t n (el - 1) r) fun e s => pOk (-1, 100 * k + e, (pB t n s : Int)) s
  else pFail t n 1 p
def pLast (K : List KStp) : Int := match K.getLast? with
  | none => -1
  | some s => s.1
def pStep (el : Int) (K : List KStp) (p : Nat) : PR (List KStp) := if pS t n p ≠ 2 then pFail t n 1 p else if K.length = 24 then pFail t n 2 p else if K ≠ [] ∧ pV t n p ≤ pLast K then pFail t n 3 p
  else pBind (pMust t n 58 (pN t n p)) fun _ q => pBind (pAny t n q) fun w r => pBind (pMustW t n 10 r) fun _ r => pBind (pGoal t n el (pV t n p) r) fun y r => pBind (pMustW t n 11 r) fun _ r => pBind (pGoal t n el (pV t n p) r) fun z r => pOk (K ++ [(pV t n p, w, y, z)]) r
def pStepsL (el : Int) : Nat → List KStp → Nat → PR (List KStp)
  | 0, _, _ => none
  | m + 1, K, p => if pSign t n p 59 = true then (if pS t n (pN t n p) = 0 then pStepsL el m K (pN t n p) else pBind (pStep t n el K (pN t n p)) fun K q => pStepsL el m K q) else pOk K p
/-- goals that lead nowhere, in order -/
def pLead (K : List KStp) (g : KGo) : Bool := decide (g.1 = -1) || K.any fun s => decide (s.1 = g.1)
def pGoals (K : List KStp) : List KGo := K.flatMap fun s => [s.2.2.1, s.2.2.2]
def pKey (el : Int) : PR (List KStp) := pBind (pStep t n el [] 0) fun K q => pBind (pStepsL t n el 500 K q) fun K r => if pS t n r ≠ 0 then pFail t n 1 r else match (pGoals K).find? (fun g => !pLead K g) with
  | none => pOk K r
  | some g => some (.inl (4, g.2.2.toNat))
end PAR
/-- a step by its number: where it lies -/
def kAt (K : List KStp) (x : Int) : Option Nat := if K.findIdx (fun s => decide (s.1 = x)) < K.length then some (K.findIdx fun s => decide (s.1 = x)) else none
/-- gone along by a bone: to what name, by how many steps -/
def kGo (K : List KStp) (o : Nat → Int) : Nat → Nat → Int → Option (Int × Int)
  | 0, _, _ => none
  | m + 1, i, c => match K[i]? with
    | none => none
    | some s => let g := if s.2.1 o = true then s.2.2.1 else s.2.2.2
      if g.1 = -1 then some (g.2.1, c + 1) else match kAt K g.1 with
        | none => none
        | some j => kGo K o m j (c + 1)
