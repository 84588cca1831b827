/-! ===== what the machine itself throws: caught here or passed on ===== -/
set_option maxRecDepth 100000
def b_bump (σ : Sg) (dc ds : Nat) : Sg := (σ.1, σ.2.1 + dc, σ.2.2.1 + ds, σ.2.2.2)
theorem tg_bump {σ : Sg} {dc ds a : Nat} : b_tg (b_bump σ dc ds) a = b_tg σ a := rfl
theorem ln_bump {σ : Sg} {dc ds a : Nat} : b_ln (b_bump σ dc ds) a = b_ln σ a := rfl
theorem vl_bump {σ : Sg} {dc ds a k : Nat} : b_vl (b_bump σ dc ds) a k = b_vl σ a k := rfl
def b_tx (hc : List (Nat × Nat)) (ci dc ds : Nat) (L : Lc) (σ : Sg) : Option (Nx ⊕ Rs) := match hc with
  | [] => some (.inr (.inr (b_ex + ci), b_bump σ dc ds))
  | _ :: _ => match b_lkN hc ci with
    | none => none
    | some hpc => some (.inl (hpc, L, [.float 2], b_bump σ dc ds))
theorem tx_cn {hc : List (Nat × Nat)} {ci dc ds : Nat} {L : Lc} {σ : Sg} {r : Nx ⊕ Rs} (h : b_tx hc ci dc ds L σ = some r) : b_cn r = σ.2.1 + dc ∧ b_sn r = σ.2.2.1 + ds := by
  unfold b_tx at h
  split at h
  · cases h; exact ⟨rfl, rfl⟩
  · split at h
    · cases h
    · cases h; exact ⟨rfl, rfl⟩
def b_inT (L : List Cond) : Bool := L.all fun w => lw_tbl.any fun v => decide (v = w)
def b_gn (L : List Cond) : Bool := L.all fun w => goodWord w || b_nwk w
theorem b_inT_of {L : List Cond} (h : b_inT L = true) {w : Cond} (hw : w ∈ L) : w ∈ lw_tbl := by
  have h1 := List.all_eq_true.mp h w hw
  obtain ⟨v, hv, h2⟩ := List.any_eq_true.mp h1
  rw [← of_decide_eq_true h2]
  exact hv
theorem b_gn_ot {L : List Cond} (h : b_gn L = true) : ∀ w ∈ L, vx_ot w = true := by
  intro w hw
  have h1 := List.all_eq_true.mp h w hw
  unfold vx_ot
  rcases (Bool.or_eq_true _ _).mp h1 with h2 | h2
  · rw [h2]; exact Bool.or_true _
  · rw [b_nw_tab h2]; rfl
theorem b_hat {args : Array Value} {s : State} {D : va_G} {tys : List (ClassId × FieldType)} {z : Nat} {wsE : List Nat} (hts : ∀ w ∈ lw_all, w.before args s = true) (hW : b_Wd D tys z wsE s) {L : List Cond} (h1 : b_inT L = true) (h2 : b_gn L = true) : ∀ w ∈ L, w.before args s = true := by
  intro w hw
  have h3 := List.all_eq_true.mp h2 w hw
  rcases (Bool.or_eq_true _ _).mp h3 with h4 | h4
  · exact hts _ (List.mem_filter.mpr ⟨b_inT_of h1 hw, h4⟩)
  · exact va_Nw.use (b_nw_tab h4) (hW.2.1 _ (b_inT_of h1 hw) h4)
def b_aioN : List String := ["java/lang/IndexOutOfBoundsException", "java/lang/RuntimeException", "java/lang/Exception"]
def b_rteN : List String := ["java/lang/RuntimeException", "java/lang/Exception"]
theorem b_aio1 : b_inT (vx_atM "java/lang/ArrayIndexOutOfBoundsException" b_aioN) = true := by decide +kernel
theorem b_aio2 : b_gn (vx_atM "java/lang/ArrayIndexOutOfBoundsException" b_aioN) = true := by decide +kernel
theorem b_nas1 : b_inT (vx_atM "java/lang/NegativeArraySizeException" b_rteN) = true := by decide +kernel
theorem b_nas2 : b_gn (vx_atM "java/lang/NegativeArraySizeException" b_rteN) = true := by decide +kernel
theorem b_cce1 : b_inT (vx_atM "java/lang/ClassCastException" b_rteN) = true := by decide +kernel
theorem b_cce2 : b_gn (vx_atM "java/lang/ClassCastException" b_rteN) = true := by decide +kernel
theorem b_npe1 : b_inT (vx_atN 8) = true := by decide +kernel
theorem b_npe2 : b_gn (vx_atN 8) = true := by decide +kernel
section B_OPJ
variable {nm : Nat → MethodName} {bc : Nat → ByteArray} {mL : Nat → Nat} {rt : Nat → Option FieldType} {hh : Nat → List (Nat × Nat × Nat × Nat)} {T : Tb} {y pc nx tgt d : Nat} {L : Lc} {st : List Value} {σ : Sg}
def b_HP (nm : Nat → MethodName) (hh : Nat → List (Nat × Nat × Nat × Nat)) (y pc : Nat) (hc : List (Nat × Nat)) (ci : Nat) : Prop := ∃ r, b_cl[ci]? = some r ∧
  ((hc = [] ∧ ∀ x ∈ tableOf (hh y), covers x pc = false ∨ (x.catchType ≠ 0 ∧ ∃ n', Cond.classLink (nm y).cls x.catchType n' ∈ lw_all ∧ Cond.not (.castable r.1 n') ∈ flatC (Jvm.Cond.and given_1 narrow_1))) ∨ (hc ≠ [] ∧ b_HC nm hh y pc hc))
theorem b_Hr_xt {D : va_G} {tys : List (ClassId × FieldType)} {z : Nat} {wsE : List Nat} {s : State} {ws : va_W} {H H1 : Heap} {locs : List Loc} {dc ds : Nat} (hW : b_Wd D tys z wsE s) (hH : b_Hr D tys z wsE ws s σ H locs) (hk : ∀ q : Nat, q < H.size → H1[q]? = H[q]?) (hS : va_S (b_A z) s.heap H1 locs) : b_Hr D tys z wsE ws s (b_bump σ dc ds) H1 locs := by
  obtain ⟨h1, h2, h3, h4, h5, h6⟩ := hH
  exact ⟨h1.kept (fun k x hx => hk _ ((h1 k x hx).lt)), h2, hS, h4, h5, fun a q hq => (h6 a q hq).kept (b_ext_kept hW h3 hS hq)⟩
variable {p : Program} {l : Launch} {e : Env} {R : Room} {s : State} {m : MethodId} {args : Array Value} {below : List Frame} {meth : Method} {c : Code} {D : va_G} {tys : List (ClassId × FieldType)} {z : Nat} {wsE : List Nat} {Q : State → Prop} {c0 s0 : Nat} {ws : va_W} {H : Heap} {locs : List Loc} {ls : Array Slot} {cells slots : Nat} {rest : List Value}
theorem b_vmx (hcx : b_Cx nm bc mL rt hh y d p l R s m args meth c D tys z wsE) {hc : List (Nat × Nat)} {ci dc ds : Nat} {r : vw_C} (hHP : b_HP nm hh y pc hc ci) (hrc : b_cl[ci]? = some r) {res : Nx ⊕ Rs} (hr : b_tx hc ci dc ds L σ = some res)
    (hH : b_Hr D tys z wsE ws s σ H locs) (hL : b_Lr (b_G wsE ws) L ls (mL y)) (hcl : cells + c0 = σ.2.1) (hsl : slots + s0 = σ.2.2.1) (hK : b_Kn bc mL rt y p l e R s m args below meth c D tys z wsE ws Q c0 s0 res)
    {H1 : Heap} {q9 : Nat} {ce : Cell} (g2 : ∀ q : Nat, q < H.size → H1[q]? = H[q]?) (g3 : va_S (b_A z) s.heap H1 locs) (g4 : H1[q9]? = some ce) (g5 : ce.vm = .none) (g6 : s.vm.findClass r.1 = some ce.cls) :
    vx_W p l e R s m args below meth c H1 locs (cells + dc) (slots + ds) Q (F0 m pc ls rest) q9 := by
  have hW : b_Wd D tys z wsE s := hcx.2.2.2.2.2.2.2.2.2.1
  have hts := hcx.2.2.2.1
  have htab := hcx.2.2.2.2.2.2.2.2.2.2.2.2
  have hH1 := b_Hr_xt (dc := dc) (ds := ds) hW hH g2 g3
  obtain ⟨r', hr', hh'⟩ := hHP
  cases hr'.symm.trans hrc
  have e1 : cells + dc + c0 = (b_bump σ dc ds).2.1 := by show _ = σ.2.1 + dc; omega
  have e2 : slots + ds + s0 = (b_bump σ dc ds).2.2.1 := by show _ = σ.2.2.1 + ds; omega
  unfold b_tx at hr
  cases hc with
  | nil =>
    cases hr
    rcases hh' with ⟨-, hp⟩ | ⟨h0, -⟩
    · refine hK pc ws H1 locs ls rest _ _ q9 r ce (List.prefix_refl _) hH1 (Or.inr ⟨by omega, by rw [show b_ex + ci - b_ex = ci by omega]; exact hrc⟩) g4 g5 g6 ⟨_, hcx.2.2.1, fun x hx => ?_⟩ e1 e2
      rcases hp x (by rw [← htab]; exact hx) with h | ⟨h, n', h2, h3⟩
      · exact Or.inl h
      · exact Or.inr ⟨h, n', hts _ h2, hW.2.2.2.2.1.1 _ _ h3⟩
    · exact absurd rfl h0
  | cons th hc' =>
    dsimp only at hr
    split at hr
    · cases hr
    · next hpc hlk =>
      cases hr
      rcases hh' with ⟨h0, -⟩ | ⟨-, hHC⟩
      · cases h0
      · exact b_catch hcx hHC hlk hrc g4 g5 g6 (hK ws H1 locs ls [.ref q9] _ _ (List.prefix_refl _) hH1 hL (VRs_mk (Or.inr ⟨q9, rfl⟩ : (Value.ref q9 = .null ∨ ∃ b, Value.ref q9 = .ref b)) trivial) e1 e2)
theorem b_noTr (h : l.flags = flags0) : l.stackTraces = false := by
  unfold Launch.stackTraces
  rw [h]
  decide +kernel
theorem b_lsz (hcx : b_Cx nm bc mL rt hh y d p l R s m args meth c D tys z wsE) {G : List Nat} (hL : b_Lr G L ls (mL y)) : ls.size = c.maxLocals := by
  obtain ⟨lv, hlv, -⟩ := id hL
  rw [hcx.2.2.2.2.1]
  exact hlv.1
/-- the machine throws, with a text -/
theorem b_msg (hcx : b_Cx nm bc mL rt hh y d p l R s m args meth c D tys z wsE) {hc : List (Nat × Nat)} {ci nb : Nat} {r : vw_C} {cls text : String} {names : List String} (hcls : Bundle.fit cls = true) (hnames : ∀ n ∈ names, Bundle.fit n = true) (hsoe : (cls == "java/lang/StackOverflowError") = false) (hoom : (cls == "java/lang/OutOfMemoryError") = false)
    (hin : b_inT (vx_atM cls names) = true) (hgn : b_gn (vx_atM cls names) = true) (hlen : names.length ≤ 4) (htext : (text == notModelled) = false) (hnb : (stringBytes (stringToUtf16 text)).size ≤ nb) (hnb1 : nb ≤ 1000)
    (hHP : b_HP nm hh y pc hc ci) (hrc : b_cl[ci]? = some r) (hrn : r.1 = cls) {res : Nx ⊕ Rs} (hr : b_tx hc ci 3 (nb + 10) L σ = some res)
    (hH : b_Hr D tys z wsE ws s σ H locs) (hL : b_Lr (b_G wsE ws) L ls (mL y)) (hcl : cells + c0 = σ.2.1) (hsl : slots + s0 = σ.2.2.1) (hcb : b_cn res ≤ R.cells + c0) (hsb : b_sn res ≤ R.slots + s0) (hsum : (rest.map fun v => v.category).sum ≤ 16)
    (hK : b_Kn bc mL rt y p l e R s m args below meth c D tys z wsE ws Q c0 s0 res) :
    vx_Note p l e R s m args below meth c H locs cells slots Q (F0 m pc ls rest) cls text := by
  have hW : b_Wd D tys z wsE s := hcx.2.2.2.2.2.2.2.2.2.1
  have hfr := hcx.2.2.2.2.2.2.2.2.2.2.1
  have hlo := hcx.2.2.2.2.2.2.2.2.2.2.2.1
  have hn := tx_cn hr
  exact vx_vm (A := b_A z) (nb := nb) hcx.1 (b_noTr hcx.2.2.2.2.2.2.2.2.1) hcls hnames hsoe hoom (b_hat hcx.2.2.2.1 hW hin hgn) (b_gn_ot hgn) hW.2.2.2.2.2.2.2.2.2.2.1 hW.2.2.2.2.2.2.2.2.2.2.2 hH.2.2.1 (b_lsz hcx hL) htext hnb hnb1
    (by omega) (by omega) (by omega) (by omega) (by omega) hcx.2.2.2.2.2.2.1 (fun H1 q9 ce g1 g2 g3 g4 g5 g6 => b_vmx hcx hHP hrc hr hH hL hcl hsl hK g2 g3 g4 g5 (by rw [hrn]; exact g6))
/-- the machine's NullPointerException -/
theorem b_npe (hcx : b_Cx nm bc mL rt hh y d p l R s m args meth c D tys z wsE) {hc : List (Nat × Nat)}
    (hHP : b_HP nm hh y pc hc 21) {res : Nx ⊕ Rs} (hr : b_tx hc 21 1 8 L σ = some res)
    (hH : b_Hr D tys z wsE ws s σ H locs) (hL : b_Lr (b_G wsE ws) L ls (mL y)) (hcl : cells + c0 = σ.2.1) (hsl : slots + s0 = σ.2.2.1) (hcb : b_cn res ≤ R.cells + c0) (hsb : b_sn res ≤ R.slots + s0) (hsum : (rest.map fun v => v.category).sum ≤ 16)
    (hK : b_Kn bc mL rt y p l e R s m args below meth c D tys z wsE ws Q c0 s0 res) :
    vx_NoteN p l e R s m args below meth c H locs cells slots Q (F0 m pc ls rest) := by
  have hW : b_Wd D tys z wsE s := hcx.2.2.2.2.2.2.2.2.2.1
  have hfr := hcx.2.2.2.2.2.2.2.2.2.2.1
  have hlo := hcx.2.2.2.2.2.2.2.2.2.2.2.1
  have hn := tx_cn hr
  exact vx_npe (A := b_A z) (nb := 8) hcx.1 (b_noTr hcx.2.2.2.2.2.2.2.2.1) (b_hat hcx.2.2.2.1 hW b_npe1 b_npe2) (b_gn_ot b_npe2) hW.2.2.2.2.2.2.2.2.2.2.1 hW.2.2.2.2.2.2.2.2.2.2.2 hH.2.2.1 (b_lsz hcx hL)
    (by omega) (by omega) (by omega) (by omega) hcx.2.2.2.2.2.2.1 (fun H1 q9 ce g1 g2 g3 g4 g5 g6 => b_vmx hcx hHP rfl hr hH hL hcl hsl hK g2 g3 g4 g5 g6)
/-- one law or, where it has no answer, another -/
def i_or (f h : Fn) : Fn := fun g L st σ => match f g L st σ with
  | some r => some r
  | none => h g L st σ
theorem ok_or {f h : Fn} (h1 : b_OK nm bc mL rt hh T y pc f) (h2 : b_OK nm bc mL rt hh T y pc h) : b_OK nm bc mL rt hh T y pc (i_or f h) := by
  refine ⟨fun g hg L st σ r hr => ?_, ?_⟩
  · unfold i_or at hr
    split at hr
    · next r' hf => cases hr; exact h1.1 g hg _ _ _ _ hf
    · exact h2.1 g hg _ _ _ _ hr
  · intro d p l e R s m args below meth c D tys z wsE ih hc Q c0 s0 L st σ ws H locs ls mst cells slots hH hL hV hcl hsl r hr hcb hsb hK
    unfold i_or at hr
    split at hr
    · next r' hf => cases hr; exact h1.2 d p l e R s m args below meth c D tys z wsE ih hc Q c0 s0 L st σ ws H locs ls mst cells slots hH hL hV hcl hsl _ hf hcb hsb hK
    · exact h2.2 d p l e R s m args below meth c D tys z wsE ih hc Q c0 s0 L st σ ws H locs ls mst cells slots hH hL hV hcl hsl _ hr hcb hsb hK
end B_OPJ
