/-! ===== what the tables say of methods and fields (printed by gen/gen.py) ===== -/
set_option maxRecDepth 100000
theorem fa_1 {α : Type} {P : α → Prop} {a0 : α} (h0 : P a0) : ∀ x ∈ [a0], P x := List.forall_mem_cons.mpr ⟨h0, (fun _ h => nomatch h)⟩
theorem fa_2 {α : Type} {P : α → Prop} {a0 a1 : α} (h0 : P a0) (h1 : P a1) : ∀ x ∈ [a0, a1], P x := List.forall_mem_cons.mpr ⟨h0, List.forall_mem_cons.mpr ⟨h1, (fun _ h => nomatch h)⟩⟩
theorem fa_3 {α : Type} {P : α → Prop} {a0 a1 a2 : α} (h0 : P a0) (h1 : P a1) (h2 : P a2) : ∀ x ∈ [a0, a1, a2], P x := List.forall_mem_cons.mpr ⟨h0, List.forall_mem_cons.mpr ⟨h1, List.forall_mem_cons.mpr ⟨h2, (fun _ h => nomatch h)⟩⟩⟩
theorem fa_4 {α : Type} {P : α → Prop} {a0 a1 a2 a3 : α} (h0 : P a0) (h1 : P a1) (h2 : P a2) (h3 : P a3) : ∀ x ∈ [a0, a1, a2, a3], P x := List.forall_mem_cons.mpr ⟨h0, List.forall_mem_cons.mpr ⟨h1, List.forall_mem_cons.mpr ⟨h2, List.forall_mem_cons.mpr ⟨h3, (fun _ h => nomatch h)⟩⟩⟩⟩
theorem fa_5 {α : Type} {P : α → Prop} {a0 a1 a2 a3 a4 : α} (h0 : P a0) (h1 : P a1) (h2 : P a2) (h3 : P a3) (h4 : P a4) : ∀ x ∈ [a0, a1, a2, a3, a4], P x := List.forall_mem_cons.mpr ⟨h0, List.forall_mem_cons.mpr ⟨h1, List.forall_mem_cons.mpr ⟨h2, List.forall_mem_cons.mpr ⟨h3, List.forall_mem_cons.mpr ⟨h4, (fun _ h => nomatch h)⟩⟩⟩⟩⟩
theorem fa_6 {α : Type} {P : α → Prop} {a0 a1 a2 a3 a4 a5 : α} (h0 : P a0) (h1 : P a1) (h2 : P a2) (h3 : P a3) (h4 : P a4) (h5 : P a5) : ∀ x ∈ [a0, a1, a2, a3, a4, a5], P x := List.forall_mem_cons.mpr ⟨h0, List.forall_mem_cons.mpr ⟨h1, List.forall_mem_cons.mpr ⟨h2, List.forall_mem_cons.mpr ⟨h3, List.forall_mem_cons.mpr ⟨h4, List.forall_mem_cons.mpr ⟨h5, (fun _ h => nomatch h)⟩⟩⟩⟩⟩⟩
theorem fa_7 {α : Type} {P : α → Prop} {a0 a1 a2 a3 a4 a5 a6 : α} (h0 : P a0) (h1 : P a1) (h2 : P a2) (h3 : P a3) (h4 : P a4) (h5 : P a5) (h6 : P a6) : ∀ x ∈ [a0, a1, a2, a3, a4, a5, a6], P x := List.forall_mem_cons.mpr ⟨h0, List.forall_mem_cons.mpr ⟨h1, List.forall_mem_cons.mpr ⟨h2, List.forall_mem_cons.mpr ⟨h3, List.forall_mem_cons.mpr ⟨h4, List.forall_mem_cons.mpr ⟨h5, List.forall_mem_cons.mpr ⟨h6, (fun _ h => nomatch h)⟩⟩⟩⟩⟩⟩⟩
theorem fa_8 {α : Type} {P : α → Prop} {a0 a1 a2 a3 a4 a5 a6 a7 : α} (h0 : P a0) (h1 : P a1) (h2 : P a2) (h3 : P a3) (h4 : P a4) (h5 : P a5) (h6 : P a6) (h7 : P a7) : ∀ x ∈ [a0, a1, a2, a3, a4, a5, a6, a7], P x := List.forall_mem_cons.mpr ⟨h0, List.forall_mem_cons.mpr ⟨h1, List.forall_mem_cons.mpr ⟨h2, List.forall_mem_cons.mpr ⟨h3, List.forall_mem_cons.mpr ⟨h4, List.forall_mem_cons.mpr ⟨h5, List.forall_mem_cons.mpr ⟨h6, List.forall_mem_cons.mpr ⟨h7, (fun _ h => nomatch h)⟩⟩⟩⟩⟩⟩⟩⟩
theorem fa_9 {α : Type} {P : α → Prop} {a0 a1 a2 a3 a4 a5 a6 a7 a8 : α} (h0 : P a0) (h1 : P a1) (h2 : P a2) (h3 : P a3) (h4 : P a4) (h5 : P a5) (h6 : P a6) (h7 : P a7) (h8 : P a8) : ∀ x ∈ [a0, a1, a2, a3, a4, a5, a6, a7, a8], P x := List.forall_mem_cons.mpr ⟨h0, List.forall_mem_cons.mpr ⟨h1, List.forall_mem_cons.mpr ⟨h2, List.forall_mem_cons.mpr ⟨h3, List.forall_mem_cons.mpr ⟨h4, List.forall_mem_cons.mpr ⟨h5, List.forall_mem_cons.mpr ⟨h6, List.forall_mem_cons.mpr ⟨h7, List.forall_mem_cons.mpr ⟨h8, (fun _ h => nomatch h)⟩⟩⟩⟩⟩⟩⟩⟩⟩
theorem fa_10 {α : Type} {P : α → Prop} {a0 a1 a2 a3 a4 a5 a6 a7 a8 a9 : α} (h0 : P a0) (h1 : P a1) (h2 : P a2) (h3 : P a3) (h4 : P a4) (h5 : P a5) (h6 : P a6) (h7 : P a7) (h8 : P a8) (h9 : P a9) : ∀ x ∈ [a0, a1, a2, a3, a4, a5, a6, a7, a8, a9], P x := List.forall_mem_cons.mpr ⟨h0, List.forall_mem_cons.mpr ⟨h1, List.forall_mem_cons.mpr ⟨h2, List.forall_mem_cons.mpr ⟨h3, List.forall_mem_cons.mpr ⟨h4, List.forall_mem_cons.mpr ⟨h5, List.forall_mem_cons.mpr ⟨h6, List.forall_mem_cons.mpr ⟨h7, List.forall_mem_cons.mpr ⟨h8, List.forall_mem_cons.mpr ⟨h9, (fun _ h => nomatch h)⟩⟩⟩⟩⟩⟩⟩⟩⟩⟩
theorem fa_11 {α : Type} {P : α → Prop} {a0 a1 a2 a3 a4 a5 a6 a7 a8 a9 a10 : α} (h0 : P a0) (h1 : P a1) (h2 : P a2) (h3 : P a3) (h4 : P a4) (h5 : P a5) (h6 : P a6) (h7 : P a7) (h8 : P a8) (h9 : P a9) (h10 : P a10) : ∀ x ∈ [a0, a1, a2, a3, a4, a5, a6, a7, a8, a9, a10], P x := List.forall_mem_cons.mpr ⟨h0, List.forall_mem_cons.mpr ⟨h1, List.forall_mem_cons.mpr ⟨h2, List.forall_mem_cons.mpr ⟨h3, List.forall_mem_cons.mpr ⟨h4, List.forall_mem_cons.mpr ⟨h5, List.forall_mem_cons.mpr ⟨h6, List.forall_mem_cons.mpr ⟨h7, List.forall_mem_cons.mpr ⟨h8, List.forall_mem_cons.mpr ⟨h9, List.forall_mem_cons.mpr ⟨h10, (fun _ h => nomatch h)⟩⟩⟩⟩⟩⟩⟩⟩⟩⟩⟩
theorem fa_12 {α : Type} {P : α → Prop} {a0 a1 a2 a3 a4 a5 a6 a7 a8 a9 a10 a11 : α} (h0 : P a0) (h1 : P a1) (h2 : P a2) (h3 : P a3) (h4 : P a4) (h5 : P a5) (h6 : P a6) (h7 : P a7) (h8 : P a8) (h9 : P a9) (h10 : P a10) (h11 : P a11) : ∀ x ∈ [a0, a1, a2, a3, a4, a5, a6, a7, a8, a9, a10, a11], P x := List.forall_mem_cons.mpr ⟨h0, List.forall_mem_cons.mpr ⟨h1, List.forall_mem_cons.mpr ⟨h2, List.forall_mem_cons.mpr ⟨h3, List.forall_mem_cons.mpr ⟨h4, List.forall_mem_cons.mpr ⟨h5, List.forall_mem_cons.mpr ⟨h6, List.forall_mem_cons.mpr ⟨h7, List.forall_mem_cons.mpr ⟨h8, List.forall_mem_cons.mpr ⟨h9, List.forall_mem_cons.mpr ⟨h10, List.forall_mem_cons.mpr ⟨h11, (fun _ h => nomatch h)⟩⟩⟩⟩⟩⟩⟩⟩⟩⟩⟩⟩
theorem fa_13 {α : Type} {P : α → Prop} {a0 a1 a2 a3 a4 a5 a6 a7 a8 a9 a10 a11 a12 : α} (h0 : P a0) (h1 : P a1) (h2 : P a2) (h3 : P a3) (h4 : P a4) (h5 : P a5) (h6 : P a6) (h7 : P a7) (h8 : P a8) (h9 : P a9) (h10 : P a10) (h11 : P a11) (h12 : P a12) : ∀ x ∈ [a0, a1, a2, a3, a4, a5, a6, a7, a8, a9, a10, a11, a12], P x := List.forall_mem_cons.mpr ⟨h0, List.forall_mem_cons.mpr ⟨h1, List.forall_mem_cons.mpr ⟨h2, List.forall_mem_cons.mpr ⟨h3, List.forall_mem_cons.mpr ⟨h4, List.forall_mem_cons.mpr ⟨h5, List.forall_mem_cons.mpr ⟨h6, List.forall_mem_cons.mpr ⟨h7, List.forall_mem_cons.mpr ⟨h8, List.forall_mem_cons.mpr ⟨h9, List.forall_mem_cons.mpr ⟨h10, List.forall_mem_cons.mpr ⟨h11, List.forall_mem_cons.mpr ⟨h12, (fun _ h => nomatch h)⟩⟩⟩⟩⟩⟩⟩⟩⟩⟩⟩⟩⟩
theorem fa_14 {α : Type} {P : α → Prop} {a0 a1 a2 a3 a4 a5 a6 a7 a8 a9 a10 a11 a12 a13 : α} (h0 : P a0) (h1 : P a1) (h2 : P a2) (h3 : P a3) (h4 : P a4) (h5 : P a5) (h6 : P a6) (h7 : P a7) (h8 : P a8) (h9 : P a9) (h10 : P a10) (h11 : P a11) (h12 : P a12) (h13 : P a13) : ∀ x ∈ [a0, a1, a2, a3, a4, a5, a6, a7, a8, a9, a10, a11, a12, a13], P x := List.forall_mem_cons.mpr ⟨h0, List.forall_mem_cons.mpr ⟨h1, List.forall_mem_cons.mpr ⟨h2, List.forall_mem_cons.mpr ⟨h3, List.forall_mem_cons.mpr ⟨h4, List.forall_mem_cons.mpr ⟨h5, List.forall_mem_cons.mpr ⟨h6, List.forall_mem_cons.mpr ⟨h7, List.forall_mem_cons.mpr ⟨h8, List.forall_mem_cons.mpr ⟨h9, List.forall_mem_cons.mpr ⟨h10, List.forall_mem_cons.mpr ⟨h11, List.forall_mem_cons.mpr ⟨h12, List.forall_mem_cons.mpr ⟨h13, (fun _ h => nomatch h)⟩⟩⟩⟩⟩⟩⟩⟩⟩⟩⟩⟩⟩⟩
theorem fa_15 {α : Type} {P : α → Prop} {a0 a1 a2 a3 a4 a5 a6 a7 a8 a9 a10 a11 a12 a13 a14 : α} (h0 : P a0) (h1 : P a1) (h2 : P a2) (h3 : P a3) (h4 : P a4) (h5 : P a5) (h6 : P a6) (h7 : P a7) (h8 : P a8) (h9 : P a9) (h10 : P a10) (h11 : P a11) (h12 : P a12) (h13 : P a13) (h14 : P a14) : ∀ x ∈ [a0, a1, a2, a3, a4, a5, a6, a7, a8, a9, a10, a11, a12, a13, a14], P x := List.forall_mem_cons.mpr ⟨h0, List.forall_mem_cons.mpr ⟨h1, List.forall_mem_cons.mpr ⟨h2, List.forall_mem_cons.mpr ⟨h3, List.forall_mem_cons.mpr ⟨h4, List.forall_mem_cons.mpr ⟨h5, List.forall_mem_cons.mpr ⟨h6, List.forall_mem_cons.mpr ⟨h7, List.forall_mem_cons.mpr ⟨h8, List.forall_mem_cons.mpr ⟨h9, List.forall_mem_cons.mpr ⟨h10, List.forall_mem_cons.mpr ⟨h11, List.forall_mem_cons.mpr ⟨h12, List.forall_mem_cons.mpr ⟨h13, List.forall_mem_cons.mpr ⟨h14, (fun _ h => nomatch h)⟩⟩⟩⟩⟩⟩⟩⟩⟩⟩⟩⟩⟩⟩⟩
theorem fa_16 {α : Type} {P : α → Prop} {a0 a1 a2 a3 a4 a5 a6 a7 a8 a9 a10 a11 a12 a13 a14 a15 : α} (h0 : P a0) (h1 : P a1) (h2 : P a2) (h3 : P a3) (h4 : P a4) (h5 : P a5) (h6 : P a6) (h7 : P a7) (h8 : P a8) (h9 : P a9) (h10 : P a10) (h11 : P a11) (h12 : P a12) (h13 : P a13) (h14 : P a14) (h15 : P a15) : ∀ x ∈ [a0, a1, a2, a3, a4, a5, a6, a7, a8, a9, a10, a11, a12, a13, a14, a15], P x := List.forall_mem_cons.mpr ⟨h0, List.forall_mem_cons.mpr ⟨h1, List.forall_mem_cons.mpr ⟨h2, List.forall_mem_cons.mpr ⟨h3, List.forall_mem_cons.mpr ⟨h4, List.forall_mem_cons.mpr ⟨h5, List.forall_mem_cons.mpr ⟨h6, List.forall_mem_cons.mpr ⟨h7, List.forall_mem_cons.mpr ⟨h8, List.forall_mem_cons.mpr ⟨h9, List.forall_mem_cons.mpr ⟨h10, List.forall_mem_cons.mpr ⟨h11, List.forall_mem_cons.mpr ⟨h12, List.forall_mem_cons.mpr ⟨h13, List.forall_mem_cons.mpr ⟨h14, List.forall_mem_cons.mpr ⟨h15, (fun _ h => nomatch h)⟩⟩⟩⟩⟩⟩⟩⟩⟩⟩⟩⟩⟩⟩⟩⟩
theorem fa_17 {α : Type} {P : α → Prop} {a0 a1 a2 a3 a4 a5 a6 a7 a8 a9 a10 a11 a12 a13 a14 a15 a16 : α} (h0 : P a0) (h1 : P a1) (h2 : P a2) (h3 : P a3) (h4 : P a4) (h5 : P a5) (h6 : P a6) (h7 : P a7) (h8 : P a8) (h9 : P a9) (h10 : P a10) (h11 : P a11) (h12 : P a12) (h13 : P a13) (h14 : P a14) (h15 : P a15) (h16 : P a16) : ∀ x ∈ [a0, a1, a2, a3, a4, a5, a6, a7, a8, a9, a10, a11, a12, a13, a14, a15, a16], P x := List.forall_mem_cons.mpr ⟨h0, List.forall_mem_cons.mpr ⟨h1, List.forall_mem_cons.mpr ⟨h2, List.forall_mem_cons.mpr ⟨h3, List.forall_mem_cons.mpr ⟨h4, List.forall_mem_cons.mpr ⟨h5, List.forall_mem_cons.mpr ⟨h6, List.forall_mem_cons.mpr ⟨h7, List.forall_mem_cons.mpr ⟨h8, List.forall_mem_cons.mpr ⟨h9, List.forall_mem_cons.mpr ⟨h10, List.forall_mem_cons.mpr ⟨h11, List.forall_mem_cons.mpr ⟨h12, List.forall_mem_cons.mpr ⟨h13, List.forall_mem_cons.mpr ⟨h14, List.forall_mem_cons.mpr ⟨h15, List.forall_mem_cons.mpr ⟨h16, (fun _ h => nomatch h)⟩⟩⟩⟩⟩⟩⟩⟩⟩⟩⟩⟩⟩⟩⟩⟩⟩
theorem fa_18 {α : Type} {P : α → Prop} {a0 a1 a2 a3 a4 a5 a6 a7 a8 a9 a10 a11 a12 a13 a14 a15 a16 a17 : α} (h0 : P a0) (h1 : P a1) (h2 : P a2) (h3 : P a3) (h4 : P a4) (h5 : P a5) (h6 : P a6) (h7 : P a7) (h8 : P a8) (h9 : P a9) (h10 : P a10) (h11 : P a11) (h12 : P a12) (h13 : P a13) (h14 : P a14) (h15 : P a15) (h16 : P a16) (h17 : P a17) : ∀ x ∈ [a0, a1, a2, a3, a4, a5, a6, a7, a8, a9, a10, a11, a12, a13, a14, a15, a16, a17], P x := List.forall_mem_cons.mpr ⟨h0, List.forall_mem_cons.mpr ⟨h1, List.forall_mem_cons.mpr ⟨h2, List.forall_mem_cons.mpr ⟨h3, List.forall_mem_cons.mpr ⟨h4, List.forall_mem_cons.mpr ⟨h5, List.forall_mem_cons.mpr ⟨h6, List.forall_mem_cons.mpr ⟨h7, List.forall_mem_cons.mpr ⟨h8, List.forall_mem_cons.mpr ⟨h9, List.forall_mem_cons.mpr ⟨h10, List.forall_mem_cons.mpr ⟨h11, List.forall_mem_cons.mpr ⟨h12, List.forall_mem_cons.mpr ⟨h13, List.forall_mem_cons.mpr ⟨h14, List.forall_mem_cons.mpr ⟨h15, List.forall_mem_cons.mpr ⟨h16, List.forall_mem_cons.mpr ⟨h17, (fun _ h => nomatch h)⟩⟩⟩⟩⟩⟩⟩⟩⟩⟩⟩⟩⟩⟩⟩⟩⟩⟩
theorem fa_19 {α : Type} {P : α → Prop} {a0 a1 a2 a3 a4 a5 a6 a7 a8 a9 a10 a11 a12 a13 a14 a15 a16 a17 a18 : α} (h0 : P a0) (h1 : P a1) (h2 : P a2) (h3 : P a3) (h4 : P a4) (h5 : P a5) (h6 : P a6) (h7 : P a7) (h8 : P a8) (h9 : P a9) (h10 : P a10) (h11 : P a11) (h12 : P a12) (h13 : P a13) (h14 : P a14) (h15 : P a15) (h16 : P a16) (h17 : P a17) (h18 : P a18) : ∀ x ∈ [a0, a1, a2, a3, a4, a5, a6, a7, a8, a9, a10, a11, a12, a13, a14, a15, a16, a17, a18], P x := List.forall_mem_cons.mpr ⟨h0, List.forall_mem_cons.mpr ⟨h1, List.forall_mem_cons.mpr ⟨h2, List.forall_mem_cons.mpr ⟨h3, List.forall_mem_cons.mpr ⟨h4, List.forall_mem_cons.mpr ⟨h5, List.forall_mem_cons.mpr ⟨h6, List.forall_mem_cons.mpr ⟨h7, List.forall_mem_cons.mpr ⟨h8, List.forall_mem_cons.mpr ⟨h9, List.forall_mem_cons.mpr ⟨h10, List.forall_mem_cons.mpr ⟨h11, List.forall_mem_cons.mpr ⟨h12, List.forall_mem_cons.mpr ⟨h13, List.forall_mem_cons.mpr ⟨h14, List.forall_mem_cons.mpr ⟨h15, List.forall_mem_cons.mpr ⟨h16, List.forall_mem_cons.mpr ⟨h17, List.forall_mem_cons.mpr ⟨h18, (fun _ h => nomatch h)⟩⟩⟩⟩⟩⟩⟩⟩⟩⟩⟩⟩⟩⟩⟩⟩⟩⟩⟩
theorem fa_20 {α : Type} {P : α → Prop} {a0 a1 a2 a3 a4 a5 a6 a7 a8 a9 a10 a11 a12 a13 a14 a15 a16 a17 a18 a19 : α} (h0 : P a0) (h1 : P a1) (h2 : P a2) (h3 : P a3) (h4 : P a4) (h5 : P a5) (h6 : P a6) (h7 : P a7) (h8 : P a8) (h9 : P a9) (h10 : P a10) (h11 : P a11) (h12 : P a12) (h13 : P a13) (h14 : P a14) (h15 : P a15) (h16 : P a16) (h17 : P a17) (h18 : P a18) (h19 : P a19) : ∀ x ∈ [a0, a1, a2, a3, a4, a5, a6, a7, a8, a9, a10, a11, a12, a13, a14, a15, a16, a17, a18, a19], P x := List.forall_mem_cons.mpr ⟨h0, List.forall_mem_cons.mpr ⟨h1, List.forall_mem_cons.mpr ⟨h2, List.forall_mem_cons.mpr ⟨h3, List.forall_mem_cons.mpr ⟨h4, List.forall_mem_cons.mpr ⟨h5, List.forall_mem_cons.mpr ⟨h6, List.forall_mem_cons.mpr ⟨h7, List.forall_mem_cons.mpr ⟨h8, List.forall_mem_cons.mpr ⟨h9, List.forall_mem_cons.mpr ⟨h10, List.forall_mem_cons.mpr ⟨h11, List.forall_mem_cons.mpr ⟨h12, List.forall_mem_cons.mpr ⟨h13, List.forall_mem_cons.mpr ⟨h14, List.forall_mem_cons.mpr ⟨h15, List.forall_mem_cons.mpr ⟨h16, List.forall_mem_cons.mpr ⟨h17, List.forall_mem_cons.mpr ⟨h18, List.forall_mem_cons.mpr ⟨h19, (fun _ h => nomatch h)⟩⟩⟩⟩⟩⟩⟩⟩⟩⟩⟩⟩⟩⟩⟩⟩⟩⟩⟩⟩
theorem fa_21 {α : Type} {P : α → Prop} {a0 a1 a2 a3 a4 a5 a6 a7 a8 a9 a10 a11 a12 a13 a14 a15 a16 a17 a18 a19 a20 : α} (h0 : P a0) (h1 : P a1) (h2 : P a2) (h3 : P a3) (h4 : P a4) (h5 : P a5) (h6 : P a6) (h7 : P a7) (h8 : P a8) (h9 : P a9) (h10 : P a10) (h11 : P a11) (h12 : P a12) (h13 : P a13) (h14 : P a14) (h15 : P a15) (h16 : P a16) (h17 : P a17) (h18 : P a18) (h19 : P a19) (h20 : P a20) : ∀ x ∈ [a0, a1, a2, a3, a4, a5, a6, a7, a8, a9, a10, a11, a12, a13, a14, a15, a16, a17, a18, a19, a20], P x := List.forall_mem_cons.mpr ⟨h0, List.forall_mem_cons.mpr ⟨h1, List.forall_mem_cons.mpr ⟨h2, List.forall_mem_cons.mpr ⟨h3, List.forall_mem_cons.mpr ⟨h4, List.forall_mem_cons.mpr ⟨h5, List.forall_mem_cons.mpr ⟨h6, List.forall_mem_cons.mpr ⟨h7, List.forall_mem_cons.mpr ⟨h8, List.forall_mem_cons.mpr ⟨h9, List.forall_mem_cons.mpr ⟨h10, List.forall_mem_cons.mpr ⟨h11, List.forall_mem_cons.mpr ⟨h12, List.forall_mem_cons.mpr ⟨h13, List.forall_mem_cons.mpr ⟨h14, List.forall_mem_cons.mpr ⟨h15, List.forall_mem_cons.mpr ⟨h16, List.forall_mem_cons.mpr ⟨h17, List.forall_mem_cons.mpr ⟨h18, List.forall_mem_cons.mpr ⟨h19, List.forall_mem_cons.mpr ⟨h20, (fun _ h => nomatch h)⟩⟩⟩⟩⟩⟩⟩⟩⟩⟩⟩⟩⟩⟩⟩⟩⟩⟩⟩⟩⟩
theorem fa_22 {α : Type} {P : α → Prop} {a0 a1 a2 a3 a4 a5 a6 a7 a8 a9 a10 a11 a12 a13 a14 a15 a16 a17 a18 a19 a20 a21 : α} (h0 : P a0) (h1 : P a1) (h2 : P a2) (h3 : P a3) (h4 : P a4) (h5 : P a5) (h6 : P a6) (h7 : P a7) (h8 : P a8) (h9 : P a9) (h10 : P a10) (h11 : P a11) (h12 : P a12) (h13 : P a13) (h14 : P a14) (h15 : P a15) (h16 : P a16) (h17 : P a17) (h18 : P a18) (h19 : P a19) (h20 : P a20) (h21 : P a21) : ∀ x ∈ [a0, a1, a2, a3, a4, a5, a6, a7, a8, a9, a10, a11, a12, a13, a14, a15, a16, a17, a18, a19, a20, a21], P x := List.forall_mem_cons.mpr ⟨h0, List.forall_mem_cons.mpr ⟨h1, List.forall_mem_cons.mpr ⟨h2, List.forall_mem_cons.mpr ⟨h3, List.forall_mem_cons.mpr ⟨h4, List.forall_mem_cons.mpr ⟨h5, List.forall_mem_cons.mpr ⟨h6, List.forall_mem_cons.mpr ⟨h7, List.forall_mem_cons.mpr ⟨h8, List.forall_mem_cons.mpr ⟨h9, List.forall_mem_cons.mpr ⟨h10, List.forall_mem_cons.mpr ⟨h11, List.forall_mem_cons.mpr ⟨h12, List.forall_mem_cons.mpr ⟨h13, List.forall_mem_cons.mpr ⟨h14, List.forall_mem_cons.mpr ⟨h15, List.forall_mem_cons.mpr ⟨h16, List.forall_mem_cons.mpr ⟨h17, List.forall_mem_cons.mpr ⟨h18, List.forall_mem_cons.mpr ⟨h19, List.forall_mem_cons.mpr ⟨h20, List.forall_mem_cons.mpr ⟨h21, (fun _ h => nomatch h)⟩⟩⟩⟩⟩⟩⟩⟩⟩⟩⟩⟩⟩⟩⟩⟩⟩⟩⟩⟩⟩⟩
theorem fa_23 {α : Type} {P : α → Prop} {a0 a1 a2 a3 a4 a5 a6 a7 a8 a9 a10 a11 a12 a13 a14 a15 a16 a17 a18 a19 a20 a21 a22 : α} (h0 : P a0) (h1 : P a1) (h2 : P a2) (h3 : P a3) (h4 : P a4) (h5 : P a5) (h6 : P a6) (h7 : P a7) (h8 : P a8) (h9 : P a9) (h10 : P a10) (h11 : P a11) (h12 : P a12) (h13 : P a13) (h14 : P a14) (h15 : P a15) (h16 : P a16) (h17 : P a17) (h18 : P a18) (h19 : P a19) (h20 : P a20) (h21 : P a21) (h22 : P a22) : ∀ x ∈ [a0, a1, a2, a3, a4, a5, a6, a7, a8, a9, a10, a11, a12, a13, a14, a15, a16, a17, a18, a19, a20, a21, a22], P x := List.forall_mem_cons.mpr ⟨h0, List.forall_mem_cons.mpr ⟨h1, List.forall_mem_cons.mpr ⟨h2, List.forall_mem_cons.mpr ⟨h3, List.forall_mem_cons.mpr ⟨h4, List.forall_mem_cons.mpr ⟨h5, List.forall_mem_cons.mpr ⟨h6, List.forall_mem_cons.mpr ⟨h7, List.forall_mem_cons.mpr ⟨h8, List.forall_mem_cons.mpr ⟨h9, List.forall_mem_cons.mpr ⟨h10, List.forall_mem_cons.mpr ⟨h11, List.forall_mem_cons.mpr ⟨h12, List.forall_mem_cons.mpr ⟨h13, List.forall_mem_cons.mpr ⟨h14, List.forall_mem_cons.mpr ⟨h15, List.forall_mem_cons.mpr ⟨h16, List.forall_mem_cons.mpr ⟨h17, List.forall_mem_cons.mpr ⟨h18, List.forall_mem_cons.mpr ⟨h19, List.forall_mem_cons.mpr ⟨h20, List.forall_mem_cons.mpr ⟨h21, List.forall_mem_cons.mpr ⟨h22, (fun _ h => nomatch h)⟩⟩⟩⟩⟩⟩⟩⟩⟩⟩⟩⟩⟩⟩⟩⟩⟩⟩⟩⟩⟩⟩⟩
theorem fa_24 {α : Type} {P : α → Prop} {a0 a1 a2 a3 a4 a5 a6 a7 a8 a9 a10 a11 a12 a13 a14 a15 a16 a17 a18 a19 a20 a21 a22 a23 : α} (h0 : P a0) (h1 : P a1) (h2 : P a2) (h3 : P a3) (h4 : P a4) (h5 : P a5) (h6 : P a6) (h7 : P a7) (h8 : P a8) (h9 : P a9) (h10 : P a10) (h11 : P a11) (h12 : P a12) (h13 : P a13) (h14 : P a14) (h15 : P a15) (h16 : P a16) (h17 : P a17) (h18 : P a18) (h19 : P a19) (h20 : P a20) (h21 : P a21) (h22 : P a22) (h23 : P a23) : ∀ x ∈ [a0, a1, a2, a3, a4, a5, a6, a7, a8, a9, a10, a11, a12, a13, a14, a15, a16, a17, a18, a19, a20, a21, a22, a23], P x := List.forall_mem_cons.mpr ⟨h0, List.forall_mem_cons.mpr ⟨h1, List.forall_mem_cons.mpr ⟨h2, List.forall_mem_cons.mpr ⟨h3, List.forall_mem_cons.mpr ⟨h4, List.forall_mem_cons.mpr ⟨h5, List.forall_mem_cons.mpr ⟨h6, List.forall_mem_cons.mpr ⟨h7, List.forall_mem_cons.mpr ⟨h8, List.forall_mem_cons.mpr ⟨h9, List.forall_mem_cons.mpr ⟨h10, List.forall_mem_cons.mpr ⟨h11, List.forall_mem_cons.mpr ⟨h12, List.forall_mem_cons.mpr ⟨h13, List.forall_mem_cons.mpr ⟨h14, List.forall_mem_cons.mpr ⟨h15, List.forall_mem_cons.mpr ⟨h16, List.forall_mem_cons.mpr ⟨h17, List.forall_mem_cons.mpr ⟨h18, List.forall_mem_cons.mpr ⟨h19, List.forall_mem_cons.mpr ⟨h20, List.forall_mem_cons.mpr ⟨h21, List.forall_mem_cons.mpr ⟨h22, List.forall_mem_cons.mpr ⟨h23, (fun _ h => nomatch h)⟩⟩⟩⟩⟩⟩⟩⟩⟩⟩⟩⟩⟩⟩⟩⟩⟩⟩⟩⟩⟩⟩⟩⟩
theorem fa_25 {α : Type} {P : α → Prop} {a0 a1 a2 a3 a4 a5 a6 a7 a8 a9 a10 a11 a12 a13 a14 a15 a16 a17 a18 a19 a20 a21 a22 a23 a24 : α} (h0 : P a0) (h1 : P a1) (h2 : P a2) (h3 : P a3) (h4 : P a4) (h5 : P a5) (h6 : P a6) (h7 : P a7) (h8 : P a8) (h9 : P a9) (h10 : P a10) (h11 : P a11) (h12 : P a12) (h13 : P a13) (h14 : P a14) (h15 : P a15) (h16 : P a16) (h17 : P a17) (h18 : P a18) (h19 : P a19) (h20 : P a20) (h21 : P a21) (h22 : P a22) (h23 : P a23) (h24 : P a24) : ∀ x ∈ [a0, a1, a2, a3, a4, a5, a6, a7, a8, a9, a10, a11, a12, a13, a14, a15, a16, a17, a18, a19, a20, a21, a22, a23, a24], P x := List.forall_mem_cons.mpr ⟨h0, List.forall_mem_cons.mpr ⟨h1, List.forall_mem_cons.mpr ⟨h2, List.forall_mem_cons.mpr ⟨h3, List.forall_mem_cons.mpr ⟨h4, List.forall_mem_cons.mpr ⟨h5, List.forall_mem_cons.mpr ⟨h6, List.forall_mem_cons.mpr ⟨h7, List.forall_mem_cons.mpr ⟨h8, List.forall_mem_cons.mpr ⟨h9, List.forall_mem_cons.mpr ⟨h10, List.forall_mem_cons.mpr ⟨h11, List.forall_mem_cons.mpr ⟨h12, List.forall_mem_cons.mpr ⟨h13, List.forall_mem_cons.mpr ⟨h14, List.forall_mem_cons.mpr ⟨h15, List.forall_mem_cons.mpr ⟨h16, List.forall_mem_cons.mpr ⟨h17, List.forall_mem_cons.mpr ⟨h18, List.forall_mem_cons.mpr ⟨h19, List.forall_mem_cons.mpr ⟨h20, List.forall_mem_cons.mpr ⟨h21, List.forall_mem_cons.mpr ⟨h22, List.forall_mem_cons.mpr ⟨h23, List.forall_mem_cons.mpr ⟨h24, (fun _ h => nomatch h)⟩⟩⟩⟩⟩⟩⟩⟩⟩⟩⟩⟩⟩⟩⟩⟩⟩⟩⟩⟩⟩⟩⟩⟩⟩
theorem fac {α : Type} {P : α → Prop} {a : α} {l : List α} (h : P a) (t : ∀ x ∈ l, P x) : ∀ x ∈ a :: l, P x := List.forall_mem_cons.mpr ⟨h, t⟩
theorem fan {α : Type} {P : α → Prop} : ∀ x ∈ ([] : List α), P x := fun _ h => nomatch h
theorem b_m1 {a t : Nat} (h : a = t) : a ∈ [t] := List.mem_singleton.mpr h
theorem hc0 {y pc : Nat} (h : hhT y = []) : ∀ x ∈ tableOf (hhT y), covers x pc = false := by
  rw [h]
  exact fun x hx => nomatch hx
theorem hc0P {y : Nat} {P : ExceptionTableEntry → Prop} (h : hhT y = []) : ∀ x ∈ tableOf (hhT y), P x := by
  rw [h]
  exact fun x hx => nomatch hx
theorem b_memT {w : Cond} (h : (lw_tbl.any fun v => decide (v = w)) = true) : w ∈ lw_tbl := by
  obtain ⟨v, hv, h2⟩ := List.any_eq_true.mp h
  rw [← of_decide_eq_true h2]
  exact hv
theorem b_mem1 {w : Cond} (h : (lw_tbl.any fun v => decide (v = w)) = true) (g : goodWord w = true) : w ∈ lw_all := by
  obtain ⟨v, hv, h2⟩ := List.any_eq_true.mp h
  rw [← of_decide_eq_true h2]
  exact List.mem_filter.mpr ⟨hv, by rw [of_decide_eq_true h2]; exact g⟩
theorem bmn_Z : "[" ++ (FieldType.array .boolean).toString = "[[Z" := by decide +kernel
theorem bao_Z : Cond.arrayOver (.array .boolean) ∈ lw_tbl := b_memT (by decide +kernel)
theorem bac_Z : Cond.arrayClass .boolean ∈ lw_all := b_mem1 (by decide +kernel) rfl
theorem bmn_I : "[" ++ (FieldType.array .int).toString = "[[I" := by decide +kernel
theorem bao_I : Cond.arrayOver (.array .int) ∈ lw_tbl := b_memT (by decide +kernel)
theorem bac_I : Cond.arrayClass .int ∈ lw_all := b_mem1 (by decide +kernel) rfl
def b_cs (st : List Value) : Nat := (st.map fun v => v.category).sum
theorem cs_nil : b_cs [] = 0 := rfl
theorem cs_I {x : Int} {st : List Value} : b_cs (vI x :: st) = 1 + b_cs st := rfl
theorem cs_L {x : Int} {st : List Value} : b_cs (vL x :: st) = 2 + b_cs st := rfl
theorem cs_R {a : Nat} {st : List Value} : b_cs (.ref a :: st) = 1 + b_cs st := rfl
theorem cs_N {st : List Value} : b_cs (.null :: st) = 1 + b_cs st := rfl
theorem b_lkN1 {l : List (Nat × Nat)} {t t' y : Nat} (ht : t' = t) (h : b_lkN l t = some y) : b_lkN l t' = some y := by rw [ht]; exact h
theorem b_pk1 {σ : Sg} {a t y : Nat} {As : List Value} {tt : List (Nat × Nat)} (ht : b_tg σ a = t) (h : b_lkN tt t = some y := by rfl) : b_pkV tt (.ref a :: As) σ = some y := b_lkN1 ht h
theorem qObjI : Cond.instanceMethod Lib.objectInit ∈ lw_all := q180
theorem qObjC : Cond.code Lib.objectInit ⟨#[0xb1]⟩ 1 none ∈ lw_all := q181
theorem ne_BoneYardModel : ("BoneYardModel" : String) ≠ "java/lang/invoke/MethodHandle" ∧ ("BoneYardModel" : String) ≠ "java/lang/invoke/VarHandle" := by decide +kernel
theorem mf_1001 : b_MF nmT bcT mLT rtT hhT 1001 := ⟨Or.inl ⟨rfl, q1482⟩, q115, (show 2 ≤ 45 by decide), ne_BoneYardModel⟩
theorem np_1001 : b_np (nmT 1001) 0 := show (parseMethodDescriptor "()V").map (fun d => d.parameters.length) = some 0 by decide +kernel
theorem mf_1002 : b_MF nmT bcT mLT rtT hhT 1002 := ⟨Or.inl ⟨rfl, q1734⟩, q115, (show 5 ≤ 45 by decide), ne_BoneYardModel⟩
theorem np_1002 : b_np (nmT 1002) 3 := show (parseMethodDescriptor "(III)I").map (fun d => d.parameters.length) = some 3 by decide +kernel
theorem mf_1003 : b_MF nmT bcT mLT rtT hhT 1003 := ⟨Or.inl ⟨rfl, q1737⟩, q115, (show 1 ≤ 45 by decide), ne_BoneYardModel⟩
theorem np_1003 : b_np (nmT 1003) 1 := show (parseMethodDescriptor "(I)Z").map (fun d => d.parameters.length) = some 1 by decide +kernel
theorem mf_1004 : b_MF nmT bcT mLT rtT hhT 1004 := ⟨Or.inl ⟨rfl, q1741⟩, q115, (show 6 ≤ 45 by decide), ne_BoneYardModel⟩
theorem np_1004 : b_np (nmT 1004) 3 := show (parseMethodDescriptor "(JJJ)Z").map (fun d => d.parameters.length) = some 3 by decide +kernel
theorem mf_1005 : b_MF nmT bcT mLT rtT hhT 1005 := ⟨Or.inl ⟨rfl, q1745⟩, q115, (show 2 ≤ 45 by decide), ne_BoneYardModel⟩
theorem np_1005 : b_np (nmT 1005) 1 := show (parseMethodDescriptor "(I)Z").map (fun d => d.parameters.length) = some 1 by decide +kernel
theorem mf_1006 : b_MF nmT bcT mLT rtT hhT 1006 := ⟨Or.inl ⟨rfl, q1749⟩, q115, (show 5 ≤ 45 by decide), ne_BoneYardModel⟩
theorem np_1006 : b_np (nmT 1006) 3 := show (parseMethodDescriptor "(IIJ)I").map (fun d => d.parameters.length) = some 3 by decide +kernel
theorem mf_1007 : b_MF nmT bcT mLT rtT hhT 1007 := ⟨Or.inl ⟨rfl, q1752⟩, q115, (show 3 ≤ 45 by decide), ne_BoneYardModel⟩
theorem np_1007 : b_np (nmT 1007) 2 := show (parseMethodDescriptor "(IJ)J").map (fun d => d.parameters.length) = some 2 by decide +kernel
theorem mf_1008 : b_MF nmT bcT mLT rtT hhT 1008 := ⟨Or.inl ⟨rfl, q1756⟩, q115, (show 7 ≤ 45 by decide), ne_BoneYardModel⟩
theorem np_1008 : b_np (nmT 1008) 5 := show (parseMethodDescriptor "(IIIII)I").map (fun d => d.parameters.length) = some 5 by decide +kernel
theorem mf_1009 : b_MF nmT bcT mLT rtT hhT 1009 := ⟨Or.inl ⟨rfl, q1760⟩, q115, (show 3 ≤ 45 by decide), ne_BoneYardModel⟩
theorem np_1009 : b_np (nmT 1009) 2 := show (parseMethodDescriptor "(II)I").map (fun d => d.parameters.length) = some 2 by decide +kernel
theorem mf_1010 : b_MF nmT bcT mLT rtT hhT 1010 := ⟨Or.inl ⟨rfl, q1766⟩, q115, (show 6 ≤ 45 by decide), ne_BoneYardModel⟩
theorem np_1010 : b_np (nmT 1010) 5 := show (parseMethodDescriptor "(ZIIII)I").map (fun d => d.parameters.length) = some 5 by decide +kernel
theorem mf_1011 : b_MF nmT bcT mLT rtT hhT 1011 := ⟨Or.inl ⟨rfl, q1772⟩, q115, (show 4 ≤ 45 by decide), ne_BoneYardModel⟩
theorem np_1011 : b_np (nmT 1011) 2 := show (parseMethodDescriptor "(II)I").map (fun d => d.parameters.length) = some 2 by decide +kernel
theorem mf_1012 : b_MF nmT bcT mLT rtT hhT 1012 := ⟨Or.inl ⟨rfl, q1775⟩, q115, (show 1 ≤ 45 by decide), ne_BoneYardModel⟩
theorem np_1012 : b_np (nmT 1012) 1 := show (parseMethodDescriptor "(I)Z").map (fun d => d.parameters.length) = some 1 by decide +kernel
theorem mf_1013 : b_MF nmT bcT mLT rtT hhT 1013 := ⟨Or.inl ⟨rfl, q1781⟩, q115, (show 2 ≤ 45 by decide), ne_BoneYardModel⟩
theorem np_1013 : b_np (nmT 1013) 1 := show (parseMethodDescriptor "(I)I").map (fun d => d.parameters.length) = some 1 by decide +kernel
theorem mf_1014 : b_MF nmT bcT mLT rtT hhT 1014 := ⟨Or.inl ⟨rfl, q1786⟩, q115, (show 5 ≤ 45 by decide), ne_BoneYardModel⟩
theorem np_1014 : b_np (nmT 1014) 2 := show (parseMethodDescriptor "(II)I").map (fun d => d.parameters.length) = some 2 by decide +kernel
theorem mf_1015 : b_MF nmT bcT mLT rtT hhT 1015 := ⟨Or.inl ⟨rfl, q1790⟩, q115, (show 2 ≤ 45 by decide), ne_BoneYardModel⟩
theorem np_1015 : b_np (nmT 1015) 1 := show (parseMethodDescriptor "(I)Z").map (fun d => d.parameters.length) = some 1 by decide +kernel
theorem mf_1016 : b_MF nmT bcT mLT rtT hhT 1016 := ⟨Or.inl ⟨rfl, q1794⟩, q115, (show 4 ≤ 45 by decide), ne_BoneYardModel⟩
theorem np_1016 : b_np (nmT 1016) 0 := show (parseMethodDescriptor "()V").map (fun d => d.parameters.length) = some 0 by decide +kernel
theorem mf_1017 : b_MF nmT bcT mLT rtT hhT 1017 := ⟨Or.inl ⟨rfl, q1798⟩, q115, (show 5 ≤ 45 by decide), ne_BoneYardModel⟩
theorem np_1017 : b_np (nmT 1017) 1 := show (parseMethodDescriptor "([Z)V").map (fun d => d.parameters.length) = some 1 by decide +kernel
theorem mf_1018 : b_MF nmT bcT mLT rtT hhT 1018 := ⟨Or.inl ⟨rfl, q1802⟩, q115, (show 5 ≤ 45 by decide), ne_BoneYardModel⟩
theorem np_1018 : b_np (nmT 1018) 0 := show (parseMethodDescriptor "()Z").map (fun d => d.parameters.length) = some 0 by decide +kernel
theorem mf_1019 : b_MF nmT bcT mLT rtT hhT 1019 := ⟨Or.inl ⟨rfl, q1806⟩, q115, (show 4 ≤ 45 by decide), ne_BoneYardModel⟩
theorem np_1019 : b_np (nmT 1019) 2 := show (parseMethodDescriptor "(II)Z").map (fun d => d.parameters.length) = some 2 by decide +kernel
theorem mf_1020 : b_MF nmT bcT mLT rtT hhT 1020 := ⟨Or.inl ⟨rfl, q1812⟩, q115, (show 4 ≤ 45 by decide), ne_BoneYardModel⟩
theorem np_1020 : b_np (nmT 1020) 2 := show (parseMethodDescriptor "(II)I").map (fun d => d.parameters.length) = some 2 by decide +kernel
theorem mf_1021 : b_MF nmT bcT mLT rtT hhT 1021 := ⟨Or.inl ⟨rfl, q1816⟩, q115, (show 7 ≤ 45 by decide), ne_BoneYardModel⟩
theorem np_1021 : b_np (nmT 1021) 2 := show (parseMethodDescriptor "(II)I").map (fun d => d.parameters.length) = some 2 by decide +kernel
theorem mf_1022 : b_MF nmT bcT mLT rtT hhT 1022 := ⟨Or.inl ⟨rfl, q1820⟩, q115, (show 2 ≤ 45 by decide), ne_BoneYardModel⟩
theorem np_1022 : b_np (nmT 1022) 1 := show (parseMethodDescriptor "(I)Z").map (fun d => d.parameters.length) = some 1 by decide +kernel
theorem mf_1023 : b_MF nmT bcT mLT rtT hhT 1023 := ⟨Or.inl ⟨rfl, q1824⟩, q115, (show 4 ≤ 45 by decide), ne_BoneYardModel⟩
theorem np_1023 : b_np (nmT 1023) 2 := show (parseMethodDescriptor "(II)I").map (fun d => d.parameters.length) = some 2 by decide +kernel
theorem mf_1024 : b_MF nmT bcT mLT rtT hhT 1024 := ⟨Or.inl ⟨rfl, q1828⟩, q115, (show 4 ≤ 45 by decide), ne_BoneYardModel⟩
theorem np_1024 : b_np (nmT 1024) 2 := show (parseMethodDescriptor "(II)I").map (fun d => d.parameters.length) = some 2 by decide +kernel
theorem mf_1025 : b_MF nmT bcT mLT rtT hhT 1025 := ⟨Or.inl ⟨rfl, q1832⟩, q115, (show 9 ≤ 45 by decide), ne_BoneYardModel⟩
theorem np_1025 : b_np (nmT 1025) 7 := show (parseMethodDescriptor "(IIIIIIZ)I").map (fun d => d.parameters.length) = some 7 by decide +kernel
theorem mf_1026 : b_MF nmT bcT mLT rtT hhT 1026 := ⟨Or.inl ⟨rfl, q1840⟩, q115, (show 3 ≤ 45 by decide), ne_BoneYardModel⟩
theorem np_1026 : b_np (nmT 1026) 2 := show (parseMethodDescriptor "(II)V").map (fun d => d.parameters.length) = some 2 by decide +kernel
theorem mf_1027 : b_MF nmT bcT mLT rtT hhT 1027 := ⟨Or.inl ⟨rfl, q1844⟩, q115, (show 7 ≤ 45 by decide), ne_BoneYardModel⟩
theorem np_1027 : b_np (nmT 1027) 2 := show (parseMethodDescriptor "(II)V").map (fun d => d.parameters.length) = some 2 by decide +kernel
theorem mf_1028 : b_MF nmT bcT mLT rtT hhT 1028 := ⟨Or.inl ⟨rfl, q1848⟩, q115, (show 2 ≤ 45 by decide), ne_BoneYardModel⟩
theorem np_1028 : b_np (nmT 1028) 0 := show (parseMethodDescriptor "()V").map (fun d => d.parameters.length) = some 0 by decide +kernel
theorem mf_1029 : b_MF nmT bcT mLT rtT hhT 1029 := ⟨Or.inl ⟨rfl, q1852⟩, q115, (show 2 ≤ 45 by decide), ne_BoneYardModel⟩
theorem np_1029 : b_np (nmT 1029) 1 := show (parseMethodDescriptor "(I)I").map (fun d => d.parameters.length) = some 1 by decide +kernel
theorem mf_1030 : b_MF nmT bcT mLT rtT hhT 1030 := ⟨Or.inl ⟨rfl, q1855⟩, q115, (show 1 ≤ 45 by decide), ne_BoneYardModel⟩
theorem np_1030 : b_np (nmT 1030) 1 := show (parseMethodDescriptor "(I)Z").map (fun d => d.parameters.length) = some 1 by decide +kernel
theorem mf_1031 : b_MF nmT bcT mLT rtT hhT 1031 := ⟨Or.inl ⟨rfl, q1858⟩, q115, (show 1 ≤ 45 by decide), ne_BoneYardModel⟩
theorem np_1031 : b_np (nmT 1031) 1 := show (parseMethodDescriptor "(I)Z").map (fun d => d.parameters.length) = some 1 by decide +kernel
theorem mf_1032 : b_MF nmT bcT mLT rtT hhT 1032 := ⟨Or.inl ⟨rfl, q1861⟩, q115, (show 1 ≤ 45 by decide), ne_BoneYardModel⟩
theorem np_1032 : b_np (nmT 1032) 1 := show (parseMethodDescriptor "(I)Z").map (fun d => d.parameters.length) = some 1 by decide +kernel
theorem mf_1033 : b_MF nmT bcT mLT rtT hhT 1033 := ⟨Or.inl ⟨rfl, q1865⟩, q115, (show 4 ≤ 45 by decide), ne_BoneYardModel⟩
theorem np_1033 : b_np (nmT 1033) 0 := show (parseMethodDescriptor "()V").map (fun d => d.parameters.length) = some 0 by decide +kernel
theorem mf_1034 : b_MF nmT bcT mLT rtT hhT 1034 := ⟨Or.inl ⟨rfl, q1869⟩, q115, (show 2 ≤ 45 by decide), ne_BoneYardModel⟩
theorem np_1034 : b_np (nmT 1034) 1 := show (parseMethodDescriptor "(I)V").map (fun d => d.parameters.length) = some 1 by decide +kernel
theorem mf_1035 : b_MF nmT bcT mLT rtT hhT 1035 := ⟨Or.inl ⟨rfl, q1873⟩, q115, (show 4 ≤ 45 by decide), ne_BoneYardModel⟩
theorem np_1035 : b_np (nmT 1035) 2 := show (parseMethodDescriptor "(II)I").map (fun d => d.parameters.length) = some 2 by decide +kernel
theorem mf_1036 : b_MF nmT bcT mLT rtT hhT 1036 := ⟨Or.inl ⟨rfl, q1877⟩, q115, (show 2 ≤ 45 by decide), ne_BoneYardModel⟩
theorem np_1036 : b_np (nmT 1036) 1 := show (parseMethodDescriptor "(I)V").map (fun d => d.parameters.length) = some 1 by decide +kernel
theorem mf_1037 : b_MF nmT bcT mLT rtT hhT 1037 := ⟨Or.inl ⟨rfl, q1881⟩, q115, (show 2 ≤ 45 by decide), ne_BoneYardModel⟩
theorem np_1037 : b_np (nmT 1037) 1 := show (parseMethodDescriptor "(I)Z").map (fun d => d.parameters.length) = some 1 by decide +kernel
theorem mf_1038 : b_MF nmT bcT mLT rtT hhT 1038 := ⟨Or.inl ⟨rfl, q1885⟩, q115, (show 3 ≤ 45 by decide), ne_BoneYardModel⟩
theorem np_1038 : b_np (nmT 1038) 0 := show (parseMethodDescriptor "()Z").map (fun d => d.parameters.length) = some 0 by decide +kernel
theorem mf_1039 : b_MF nmT bcT mLT rtT hhT 1039 := ⟨Or.inl ⟨rfl, q1889⟩, q115, (show 3 ≤ 45 by decide), ne_BoneYardModel⟩
theorem np_1039 : b_np (nmT 1039) 0 := show (parseMethodDescriptor "()Z").map (fun d => d.parameters.length) = some 0 by decide +kernel
theorem mf_1040 : b_MF nmT bcT mLT rtT hhT 1040 := ⟨Or.inl ⟨rfl, q1893⟩, q115, (show 4 ≤ 45 by decide), ne_BoneYardModel⟩
theorem np_1040 : b_np (nmT 1040) 0 := show (parseMethodDescriptor "()Z").map (fun d => d.parameters.length) = some 0 by decide +kernel
theorem mf_1041 : b_MF nmT bcT mLT rtT hhT 1041 := ⟨Or.inl ⟨rfl, q1898⟩, q115, (show 4 ≤ 45 by decide), ne_BoneYardModel⟩
theorem np_1041 : b_np (nmT 1041) 1 := show (parseMethodDescriptor "(Ljava/lang/String;)Z").map (fun d => d.parameters.length) = some 1 by decide +kernel
theorem mf_1042 : b_MF nmT bcT mLT rtT hhT 1042 := ⟨Or.inl ⟨rfl, q1904⟩, q115, (show 1 ≤ 45 by decide), ne_BoneYardModel⟩
theorem np_1042 : b_np (nmT 1042) 0 := show (parseMethodDescriptor "()V").map (fun d => d.parameters.length) = some 0 by decide +kernel
theorem mf_1043 : b_MF nmT bcT mLT rtT hhT 1043 := ⟨Or.inl ⟨rfl, q1908⟩, q115, (show 4 ≤ 45 by decide), ne_BoneYardModel⟩
theorem np_1043 : b_np (nmT 1043) 0 := show (parseMethodDescriptor "()I").map (fun d => d.parameters.length) = some 0 by decide +kernel
theorem mf_1044 : b_MF nmT bcT mLT rtT hhT 1044 := ⟨Or.inl ⟨rfl, q1912⟩, q115, (show 2 ≤ 45 by decide), ne_BoneYardModel⟩
theorem np_1044 : b_np (nmT 1044) 0 := show (parseMethodDescriptor "()I").map (fun d => d.parameters.length) = some 0 by decide +kernel
theorem mf_1045 : b_MF nmT bcT mLT rtT hhT 1045 := ⟨Or.inl ⟨rfl, q1916⟩, q115, (show 4 ≤ 45 by decide), ne_BoneYardModel⟩
theorem np_1045 : b_np (nmT 1045) 0 := show (parseMethodDescriptor "()I").map (fun d => d.parameters.length) = some 0 by decide +kernel
theorem mf_1046 : b_MF nmT bcT mLT rtT hhT 1046 := ⟨Or.inl ⟨rfl, q1927⟩, q115, (show 2 ≤ 45 by decide), ne_BoneYardModel⟩
theorem np_1046 : b_np (nmT 1046) 1 := show (parseMethodDescriptor "(Ljava/lang/String;)V").map (fun d => d.parameters.length) = some 1 by decide +kernel
theorem mf_1047 : b_MF nmT bcT mLT rtT hhT 1047 := ⟨Or.inl ⟨rfl, q1931⟩, q115, (show 4 ≤ 45 by decide), ne_BoneYardModel⟩
theorem np_1047 : b_np (nmT 1047) 1 := show (parseMethodDescriptor "(Z)V").map (fun d => d.parameters.length) = some 1 by decide +kernel
theorem mf_1048 : b_MF nmT bcT mLT rtT hhT 1048 := ⟨Or.inl ⟨rfl, q1939⟩, q115, (show 8 ≤ 45 by decide), ne_BoneYardModel⟩
theorem np_1048 : b_np (nmT 1048) 5 := show (parseMethodDescriptor "(IIIII)I").map (fun d => d.parameters.length) = some 5 by decide +kernel
theorem mf_1049 : b_MF nmT bcT mLT rtT hhT 1049 := ⟨Or.inl ⟨rfl, q1943⟩, q115, (show 2 ≤ 45 by decide), ne_BoneYardModel⟩
theorem np_1049 : b_np (nmT 1049) 1 := show (parseMethodDescriptor "(I)I").map (fun d => d.parameters.length) = some 1 by decide +kernel
theorem mf_1050 : b_MF nmT bcT mLT rtT hhT 1050 := ⟨Or.inl ⟨rfl, q1947⟩, q115, (show 2 ≤ 45 by decide), ne_BoneYardModel⟩
theorem np_1050 : b_np (nmT 1050) 0 := show (parseMethodDescriptor "()I").map (fun d => d.parameters.length) = some 0 by decide +kernel
theorem mf_1051 : b_MF nmT bcT mLT rtT hhT 1051 := ⟨Or.inl ⟨rfl, q1951⟩, q115, (show 2 ≤ 45 by decide), ne_BoneYardModel⟩
theorem np_1051 : b_np (nmT 1051) 1 := show (parseMethodDescriptor "(I)I").map (fun d => d.parameters.length) = some 1 by decide +kernel
theorem mf_1052 : b_MF nmT bcT mLT rtT hhT 1052 := ⟨Or.inl ⟨rfl, q1955⟩, q115, (show 3 ≤ 45 by decide), ne_BoneYardModel⟩
theorem np_1052 : b_np (nmT 1052) 2 := show (parseMethodDescriptor "(II)I").map (fun d => d.parameters.length) = some 2 by decide +kernel
theorem mf_1053 : b_MF nmT bcT mLT rtT hhT 1053 := ⟨Or.inl ⟨rfl, q1959⟩, q115, (show 2 ≤ 45 by decide), ne_BoneYardModel⟩
theorem np_1053 : b_np (nmT 1053) 1 := show (parseMethodDescriptor "(I)Z").map (fun d => d.parameters.length) = some 1 by decide +kernel
theorem mf_1054 : b_MF nmT bcT mLT rtT hhT 1054 := ⟨Or.inl ⟨rfl, q1963⟩, q115, (show 3 ≤ 45 by decide), ne_BoneYardModel⟩
theorem np_1054 : b_np (nmT 1054) 2 := show (parseMethodDescriptor "(II)I").map (fun d => d.parameters.length) = some 2 by decide +kernel
theorem mf_1055 : b_MF nmT bcT mLT rtT hhT 1055 := ⟨Or.inl ⟨rfl, q1967⟩, q115, (show 9 ≤ 45 by decide), ne_BoneYardModel⟩
theorem np_1055 : b_np (nmT 1055) 3 := show (parseMethodDescriptor "(III)I").map (fun d => d.parameters.length) = some 3 by decide +kernel
theorem mf_1056 : b_MF nmT bcT mLT rtT hhT 1056 := ⟨Or.inl ⟨rfl, q1972⟩, q115, (show 8 ≤ 45 by decide), ne_BoneYardModel⟩
theorem np_1056 : b_np (nmT 1056) 5 := show (parseMethodDescriptor "(IIIII)I").map (fun d => d.parameters.length) = some 5 by decide +kernel
theorem mf_1057 : b_MF nmT bcT mLT rtT hhT 1057 := ⟨Or.inl ⟨rfl, q1976⟩, q115, (show 5 ≤ 45 by decide), ne_BoneYardModel⟩
theorem np_1057 : b_np (nmT 1057) 4 := show (parseMethodDescriptor "(IIII)Z").map (fun d => d.parameters.length) = some 4 by decide +kernel
theorem mf_1058 : b_MF nmT bcT mLT rtT hhT 1058 := ⟨Or.inl ⟨rfl, q1980⟩, q115, (show 2 ≤ 45 by decide), ne_BoneYardModel⟩
theorem np_1058 : b_np (nmT 1058) 0 := show (parseMethodDescriptor "()V").map (fun d => d.parameters.length) = some 0 by decide +kernel
theorem mf_1059 : b_MF nmT bcT mLT rtT hhT 1059 := ⟨Or.inl ⟨rfl, q1984⟩, q115, (show 9 ≤ 45 by decide), ne_BoneYardModel⟩
theorem np_1059 : b_np (nmT 1059) 4 := show (parseMethodDescriptor "(IIII)I").map (fun d => d.parameters.length) = some 4 by decide +kernel
theorem mf_1060 : b_MF nmT bcT mLT rtT hhT 1060 := ⟨Or.inl ⟨rfl, q1988⟩, q115, (show 2 ≤ 45 by decide), ne_BoneYardModel⟩
theorem np_1060 : b_np (nmT 1060) 1 := show (parseMethodDescriptor "(I)Z").map (fun d => d.parameters.length) = some 1 by decide +kernel
theorem mf_1061 : b_MF nmT bcT mLT rtT hhT 1061 := ⟨Or.inl ⟨rfl, q1992⟩, q115, (show 9 ≤ 45 by decide), ne_BoneYardModel⟩
theorem np_1061 : b_np (nmT 1061) 5 := show (parseMethodDescriptor "(IIIII)I").map (fun d => d.parameters.length) = some 5 by decide +kernel
theorem mf_1062 : b_MF nmT bcT mLT rtT hhT 1062 := ⟨Or.inl ⟨rfl, q1996⟩, q115, (show 6 ≤ 45 by decide), ne_BoneYardModel⟩
theorem np_1062 : b_np (nmT 1062) 5 := show (parseMethodDescriptor "(IIIII)Z").map (fun d => d.parameters.length) = some 5 by decide +kernel
theorem mf_1063 : b_MF nmT bcT mLT rtT hhT 1063 := ⟨Or.inl ⟨rfl, q2000⟩, q115, (show 4 ≤ 45 by decide), ne_BoneYardModel⟩
theorem np_1063 : b_np (nmT 1063) 1 := show (parseMethodDescriptor "(I)Z").map (fun d => d.parameters.length) = some 1 by decide +kernel
theorem mf_1064 : b_MF nmT bcT mLT rtT hhT 1064 := ⟨Or.inl ⟨rfl, q2004⟩, q115, (show 3 ≤ 45 by decide), ne_BoneYardModel⟩
theorem np_1064 : b_np (nmT 1064) 2 := show (parseMethodDescriptor "(II)Z").map (fun d => d.parameters.length) = some 2 by decide +kernel
theorem mf_1065 : b_MF nmT bcT mLT rtT hhT 1065 := ⟨Or.inl ⟨rfl, q2009⟩, q115, (show 10 ≤ 45 by decide), ne_BoneYardModel⟩
theorem np_1065 : b_np (nmT 1065) 5 := show (parseMethodDescriptor "(IIIII)I").map (fun d => d.parameters.length) = some 5 by decide +kernel
theorem mf_1066 : b_MF nmT bcT mLT rtT hhT 1066 := ⟨Or.inl ⟨rfl, q2013⟩, q115, (show 11 ≤ 45 by decide), ne_BoneYardModel⟩
theorem np_1066 : b_np (nmT 1066) 6 := show (parseMethodDescriptor "(IIIIIZ)I").map (fun d => d.parameters.length) = some 6 by decide +kernel
theorem mf_1067 : b_MF nmT bcT mLT rtT hhT 1067 := ⟨Or.inl ⟨rfl, q2017⟩, q115, (show 7 ≤ 45 by decide), ne_BoneYardModel⟩
theorem np_1067 : b_np (nmT 1067) 6 := show (parseMethodDescriptor "(IIIIII)I").map (fun d => d.parameters.length) = some 6 by decide +kernel
theorem mf_1068 : b_MF nmT bcT mLT rtT hhT 1068 := ⟨Or.inl ⟨rfl, q2021⟩, q115, (show 2 ≤ 45 by decide), ne_BoneYardModel⟩
theorem np_1068 : b_np (nmT 1068) 1 := show (parseMethodDescriptor "(I)Z").map (fun d => d.parameters.length) = some 1 by decide +kernel
theorem mf_1069 : b_MF nmT bcT mLT rtT hhT 1069 := ⟨Or.inl ⟨rfl, q2025⟩, q115, (show 2 ≤ 45 by decide), ne_BoneYardModel⟩
theorem np_1069 : b_np (nmT 1069) 1 := show (parseMethodDescriptor "(I)I").map (fun d => d.parameters.length) = some 1 by decide +kernel
theorem mf_1070 : b_MF nmT bcT mLT rtT hhT 1070 := ⟨Or.inl ⟨rfl, q2029⟩, q115, (show 5 ≤ 45 by decide), ne_BoneYardModel⟩
theorem np_1070 : b_np (nmT 1070) 4 := show (parseMethodDescriptor "(IIII)I").map (fun d => d.parameters.length) = some 4 by decide +kernel
theorem mf_1071 : b_MF nmT bcT mLT rtT hhT 1071 := ⟨Or.inl ⟨rfl, q2033⟩, q115, (show 7 ≤ 45 by decide), ne_BoneYardModel⟩
theorem np_1071 : b_np (nmT 1071) 4 := show (parseMethodDescriptor "(IIII)I").map (fun d => d.parameters.length) = some 4 by decide +kernel
theorem mf_1072 : b_MF nmT bcT mLT rtT hhT 1072 := ⟨Or.inl ⟨rfl, q2037⟩, q115, (show 5 ≤ 45 by decide), ne_BoneYardModel⟩
theorem np_1072 : b_np (nmT 1072) 3 := show (parseMethodDescriptor "(III)I").map (fun d => d.parameters.length) = some 3 by decide +kernel
theorem mf_1073 : b_MF nmT bcT mLT rtT hhT 1073 := ⟨Or.inl ⟨rfl, q2041⟩, q115, (show 3 ≤ 45 by decide), ne_BoneYardModel⟩
theorem np_1073 : b_np (nmT 1073) 2 := show (parseMethodDescriptor "(II)Z").map (fun d => d.parameters.length) = some 2 by decide +kernel
theorem mf_1074 : b_MF nmT bcT mLT rtT hhT 1074 := ⟨Or.inl ⟨rfl, q2045⟩, q115, (show 4 ≤ 45 by decide), ne_BoneYardModel⟩
theorem np_1074 : b_np (nmT 1074) 1 := show (parseMethodDescriptor "(I)I").map (fun d => d.parameters.length) = some 1 by decide +kernel
theorem mf_1075 : b_MF nmT bcT mLT rtT hhT 1075 := ⟨Or.inl ⟨rfl, q2049⟩, q115, (show 2 ≤ 45 by decide), ne_BoneYardModel⟩
theorem np_1075 : b_np (nmT 1075) 1 := show (parseMethodDescriptor "(I)I").map (fun d => d.parameters.length) = some 1 by decide +kernel
theorem mf_1076 : b_MF nmT bcT mLT rtT hhT 1076 := ⟨Or.inl ⟨rfl, q2053⟩, q115, (show 6 ≤ 45 by decide), ne_BoneYardModel⟩
theorem np_1076 : b_np (nmT 1076) 1 := show (parseMethodDescriptor "(I)I").map (fun d => d.parameters.length) = some 1 by decide +kernel
theorem mf_1077 : b_MF nmT bcT mLT rtT hhT 1077 := ⟨Or.inl ⟨rfl, q2057⟩, q115, (show 12 ≤ 45 by decide), ne_BoneYardModel⟩
theorem np_1077 : b_np (nmT 1077) 7 := show (parseMethodDescriptor "(IIIIIII)I").map (fun d => d.parameters.length) = some 7 by decide +kernel
theorem mf_1078 : b_MF nmT bcT mLT rtT hhT 1078 := ⟨Or.inl ⟨rfl, q2061⟩, q115, (show 7 ≤ 45 by decide), ne_BoneYardModel⟩
theorem np_1078 : b_np (nmT 1078) 5 := show (parseMethodDescriptor "(IIIII)V").map (fun d => d.parameters.length) = some 5 by decide +kernel
theorem mf_1079 : b_MF nmT bcT mLT rtT hhT 1079 := ⟨Or.inl ⟨rfl, q2065⟩, q115, (show 3 ≤ 45 by decide), ne_BoneYardModel⟩
theorem np_1079 : b_np (nmT 1079) 1 := show (parseMethodDescriptor "(I)I").map (fun d => d.parameters.length) = some 1 by decide +kernel
theorem mf_1080 : b_MF nmT bcT mLT rtT hhT 1080 := ⟨Or.inl ⟨rfl, q2069⟩, q115, (show 7 ≤ 45 by decide), ne_BoneYardModel⟩
theorem np_1080 : b_np (nmT 1080) 6 := show (parseMethodDescriptor "(IIIIII)I").map (fun d => d.parameters.length) = some 6 by decide +kernel
theorem mf_1081 : b_MF nmT bcT mLT rtT hhT 1081 := ⟨Or.inl ⟨rfl, q2073⟩, q115, (show 2 ≤ 45 by decide), ne_BoneYardModel⟩
theorem np_1081 : b_np (nmT 1081) 1 := show (parseMethodDescriptor "(I)Z").map (fun d => d.parameters.length) = some 1 by decide +kernel
theorem mf_1082 : b_MF nmT bcT mLT rtT hhT 1082 := ⟨Or.inl ⟨rfl, q2077⟩, q115, (show 3 ≤ 45 by decide), ne_BoneYardModel⟩
theorem np_1082 : b_np (nmT 1082) 1 := show (parseMethodDescriptor "(I)I").map (fun d => d.parameters.length) = some 1 by decide +kernel
theorem mf_1083 : b_MF nmT bcT mLT rtT hhT 1083 := ⟨Or.inl ⟨rfl, q2081⟩, q115, (show 5 ≤ 45 by decide), ne_BoneYardModel⟩
theorem np_1083 : b_np (nmT 1083) 2 := show (parseMethodDescriptor "(II)V").map (fun d => d.parameters.length) = some 2 by decide +kernel
theorem mf_1084 : b_MF nmT bcT mLT rtT hhT 1084 := ⟨Or.inl ⟨rfl, q2085⟩, q115, (show 9 ≤ 45 by decide), ne_BoneYardModel⟩
theorem np_1084 : b_np (nmT 1084) 0 := show (parseMethodDescriptor "()Z").map (fun d => d.parameters.length) = some 0 by decide +kernel
theorem mf_1085 : b_MF nmT bcT mLT rtT hhT 1085 := ⟨Or.inl ⟨rfl, q2089⟩, q115, (show 15 ≤ 45 by decide), ne_BoneYardModel⟩
theorem np_1085 : b_np (nmT 1085) 8 := show (parseMethodDescriptor "(IIIIIIII)I").map (fun d => d.parameters.length) = some 8 by decide +kernel
theorem mf_1086 : b_MF nmT bcT mLT rtT hhT 1086 := ⟨Or.inl ⟨rfl, q2093⟩, q115, (show 7 ≤ 45 by decide), ne_BoneYardModel⟩
theorem np_1086 : b_np (nmT 1086) 5 := show (parseMethodDescriptor "(IIIII)I").map (fun d => d.parameters.length) = some 5 by decide +kernel
theorem mf_1087 : b_MF nmT bcT mLT rtT hhT 1087 := ⟨Or.inl ⟨rfl, q2097⟩, q115, (show 8 ≤ 45 by decide), ne_BoneYardModel⟩
theorem np_1087 : b_np (nmT 1087) 6 := show (parseMethodDescriptor "(IIIIII)I").map (fun d => d.parameters.length) = some 6 by decide +kernel
theorem mf_1088 : b_MF nmT bcT mLT rtT hhT 1088 := ⟨Or.inl ⟨rfl, q2101⟩, q115, (show 9 ≤ 45 by decide), ne_BoneYardModel⟩
theorem np_1088 : b_np (nmT 1088) 4 := show (parseMethodDescriptor "(IIII)I").map (fun d => d.parameters.length) = some 4 by decide +kernel
theorem mf_1089 : b_MF nmT bcT mLT rtT hhT 1089 := ⟨Or.inl ⟨rfl, q2105⟩, q115, (show 17 ≤ 45 by decide), ne_BoneYardModel⟩
theorem np_1089 : b_np (nmT 1089) 7 := show (parseMethodDescriptor "(IIIIIII)I").map (fun d => d.parameters.length) = some 7 by decide +kernel
theorem mf_1090 : b_MF nmT bcT mLT rtT hhT 1090 := ⟨Or.inl ⟨rfl, q2111⟩, q115, (show 3 ≤ 45 by decide), ne_BoneYardModel⟩
theorem np_1090 : b_np (nmT 1090) 2 := show (parseMethodDescriptor "(II)I").map (fun d => d.parameters.length) = some 2 by decide +kernel
theorem mf_1091 : b_MF nmT bcT mLT rtT hhT 1091 := ⟨Or.inl ⟨rfl, q2117⟩, q115, (show 4 ≤ 45 by decide), ne_BoneYardModel⟩
theorem np_1091 : b_np (nmT 1091) 1 := show (parseMethodDescriptor "(I)I").map (fun d => d.parameters.length) = some 1 by decide +kernel
theorem ne_BoneYard : ("BoneYard" : String) ≠ "java/lang/invoke/MethodHandle" ∧ ("BoneYard" : String) ≠ "java/lang/invoke/VarHandle" := by decide +kernel
theorem mf_1201 : b_MF nmT bcT mLT rtT hhT 1201 := ⟨Or.inl ⟨rfl, q154⟩, q109, (show 4 ≤ 45 by decide), ne_BoneYard⟩
theorem np_1201 : b_np (nmT 1201) 3 := show (parseMethodDescriptor "(III)I").map (fun d => d.parameters.length) = some 3 by decide +kernel
theorem mf_1202 : b_MF nmT bcT mLT rtT hhT 1202 := ⟨Or.inl ⟨rfl, q157⟩, q109, (show 1 ≤ 45 by decide), ne_BoneYard⟩
theorem np_1202 : b_np (nmT 1202) 1 := show (parseMethodDescriptor "(I)Z").map (fun d => d.parameters.length) = some 1 by decide +kernel
theorem mf_1203 : b_MF nmT bcT mLT rtT hhT 1203 := ⟨Or.inl ⟨rfl, q161⟩, q109, (show 6 ≤ 45 by decide), ne_BoneYard⟩
theorem np_1203 : b_np (nmT 1203) 3 := show (parseMethodDescriptor "(JJJ)Z").map (fun d => d.parameters.length) = some 3 by decide +kernel
theorem mf_1204 : b_MF nmT bcT mLT rtT hhT 1204 := ⟨Or.inl ⟨rfl, q260⟩, q109, (show 2 ≤ 45 by decide), ne_BoneYard⟩
theorem np_1204 : b_np (nmT 1204) 1 := show (parseMethodDescriptor "(I)Z").map (fun d => d.parameters.length) = some 1 by decide +kernel
theorem mf_1205 : b_MF nmT bcT mLT rtT hhT 1205 := ⟨Or.inl ⟨rfl, q264⟩, q109, (show 5 ≤ 45 by decide), ne_BoneYard⟩
theorem np_1205 : b_np (nmT 1205) 3 := show (parseMethodDescriptor "(IIJ)I").map (fun d => d.parameters.length) = some 3 by decide +kernel
theorem mf_1206 : b_MF nmT bcT mLT rtT hhT 1206 := ⟨Or.inl ⟨rfl, q343⟩, q109, (show 6 ≤ 45 by decide), ne_BoneYard⟩
theorem np_1206 : b_np (nmT 1206) 5 := show (parseMethodDescriptor "(IIIII)I").map (fun d => d.parameters.length) = some 5 by decide +kernel
theorem mf_1207 : b_MF nmT bcT mLT rtT hhT 1207 := ⟨Or.inl ⟨rfl, q360⟩, q109, (show 2 ≤ 45 by decide), ne_BoneYard⟩
theorem np_1207 : b_np (nmT 1207) 0 := show (parseMethodDescriptor "()V").map (fun d => d.parameters.length) = some 0 by decide +kernel
theorem mf_1208 : b_MF nmT bcT mLT rtT hhT 1208 := ⟨Or.inl ⟨rfl, q592⟩, q109, (show 3 ≤ 45 by decide), ne_BoneYard⟩
theorem np_1208 : b_np (nmT 1208) 2 := show (parseMethodDescriptor "(II)I").map (fun d => d.parameters.length) = some 2 by decide +kernel
theorem mf_1209 : b_MF nmT bcT mLT rtT hhT 1209 := ⟨Or.inl ⟨rfl, q598⟩, q109, (show 6 ≤ 45 by decide), ne_BoneYard⟩
theorem np_1209 : b_np (nmT 1209) 5 := show (parseMethodDescriptor "(ZIIII)I").map (fun d => d.parameters.length) = some 5 by decide +kernel
theorem mf_1210 : b_MF nmT bcT mLT rtT hhT 1210 := ⟨Or.inl ⟨rfl, q630⟩, q109, (show 4 ≤ 45 by decide), ne_BoneYard⟩
theorem np_1210 : b_np (nmT 1210) 2 := show (parseMethodDescriptor "(II)I").map (fun d => d.parameters.length) = some 2 by decide +kernel
theorem mf_1211 : b_MF nmT bcT mLT rtT hhT 1211 := ⟨Or.inl ⟨rfl, q633⟩, q109, (show 1 ≤ 45 by decide), ne_BoneYard⟩
theorem np_1211 : b_np (nmT 1211) 1 := show (parseMethodDescriptor "(I)Z").map (fun d => d.parameters.length) = some 1 by decide +kernel
theorem mf_1212 : b_MF nmT bcT mLT rtT hhT 1212 := ⟨Or.inl ⟨rfl, q639⟩, q109, (show 11 ≤ 45 by decide), ne_BoneYard⟩
theorem np_1212 : b_np (nmT 1212) 7 := show (parseMethodDescriptor "(IIIIIIZ)I").map (fun d => d.parameters.length) = some 7 by decide +kernel
theorem mf_1213 : b_MF nmT bcT mLT rtT hhT 1213 := ⟨Or.inl ⟨rfl, q643⟩, q109, (show 2 ≤ 45 by decide), ne_BoneYard⟩
theorem np_1213 : b_np (nmT 1213) 1 := show (parseMethodDescriptor "(I)Z").map (fun d => d.parameters.length) = some 1 by decide +kernel
theorem mf_1214 : b_MF nmT bcT mLT rtT hhT 1214 := ⟨Or.inl ⟨rfl, q651⟩, q109, (show 7 ≤ 45 by decide), ne_BoneYard⟩
theorem np_1214 : b_np (nmT 1214) 3 := show (parseMethodDescriptor "(IIJ)I").map (fun d => d.parameters.length) = some 3 by decide +kernel
theorem mf_1215 : b_MF nmT bcT mLT rtT hhT 1215 := ⟨Or.inl ⟨rfl, q697⟩, q109, (show 2 ≤ 45 by decide), ne_BoneYard⟩
theorem np_1215 : b_np (nmT 1215) 1 := show (parseMethodDescriptor "(I)I").map (fun d => d.parameters.length) = some 1 by decide +kernel
theorem mf_1216 : b_MF nmT bcT mLT rtT hhT 1216 := ⟨Or.inl ⟨rfl, q702⟩, q109, (show 4 ≤ 45 by decide), ne_BoneYard⟩
theorem np_1216 : b_np (nmT 1216) 2 := show (parseMethodDescriptor "(II)I").map (fun d => d.parameters.length) = some 2 by decide +kernel
theorem mf_1217 : b_MF nmT bcT mLT rtT hhT 1217 := ⟨Or.inl ⟨rfl, q706⟩, q109, (show 4 ≤ 45 by decide), ne_BoneYard⟩
theorem np_1217 : b_np (nmT 1217) 0 := show (parseMethodDescriptor "()V").map (fun d => d.parameters.length) = some 0 by decide +kernel
theorem mf_1218 : b_MF nmT bcT mLT rtT hhT 1218 := ⟨Or.inl ⟨rfl, q710⟩, q109, (show 3 ≤ 45 by decide), ne_BoneYard⟩
theorem np_1218 : b_np (nmT 1218) 2 := show (parseMethodDescriptor "(II)V").map (fun d => d.parameters.length) = some 2 by decide +kernel
theorem mf_1219 : b_MF nmT bcT mLT rtT hhT 1219 := ⟨Or.inl ⟨rfl, q714⟩, q109, (show 3 ≤ 45 by decide), ne_BoneYard⟩
theorem np_1219 : b_np (nmT 1219) 0 := show (parseMethodDescriptor "()Z").map (fun d => d.parameters.length) = some 0 by decide +kernel
theorem mf_1220 : b_MF nmT bcT mLT rtT hhT 1220 := ⟨Or.inl ⟨rfl, q724⟩, q109, (show 4 ≤ 45 by decide), ne_BoneYard⟩
theorem np_1220 : b_np (nmT 1220) 2 := show (parseMethodDescriptor "(II)I").map (fun d => d.parameters.length) = some 2 by decide +kernel
theorem mf_1221 : b_MF nmT bcT mLT rtT hhT 1221 := ⟨Or.inl ⟨rfl, q728⟩, q109, (show 5 ≤ 45 by decide), ne_BoneYard⟩
theorem np_1221 : b_np (nmT 1221) 2 := show (parseMethodDescriptor "(II)I").map (fun d => d.parameters.length) = some 2 by decide +kernel
theorem mf_1222 : b_MF nmT bcT mLT rtT hhT 1222 := ⟨Or.inl ⟨rfl, q732⟩, q109, (show 2 ≤ 45 by decide), ne_BoneYard⟩
theorem np_1222 : b_np (nmT 1222) 1 := show (parseMethodDescriptor "(I)Z").map (fun d => d.parameters.length) = some 1 by decide +kernel
theorem mf_1223 : b_MF nmT bcT mLT rtT hhT 1223 := ⟨Or.inl ⟨rfl, q736⟩, q109, (show 3 ≤ 45 by decide), ne_BoneYard⟩
theorem np_1223 : b_np (nmT 1223) 2 := show (parseMethodDescriptor "(II)Z").map (fun d => d.parameters.length) = some 2 by decide +kernel
theorem mf_1224 : b_MF nmT bcT mLT rtT hhT 1224 := ⟨Or.inl ⟨rfl, q740⟩, q109, (show 3 ≤ 45 by decide), ne_BoneYard⟩
theorem np_1224 : b_np (nmT 1224) 2 := show (parseMethodDescriptor "(II)I").map (fun d => d.parameters.length) = some 2 by decide +kernel
theorem mf_1225 : b_MF nmT bcT mLT rtT hhT 1225 := ⟨Or.inl ⟨rfl, q744⟩, q109, (show 3 ≤ 45 by decide), ne_BoneYard⟩
theorem np_1225 : b_np (nmT 1225) 2 := show (parseMethodDescriptor "(II)I").map (fun d => d.parameters.length) = some 2 by decide +kernel
theorem mf_1226 : b_MF nmT bcT mLT rtT hhT 1226 := ⟨Or.inl ⟨rfl, q748⟩, q109, (show 6 ≤ 45 by decide), ne_BoneYard⟩
theorem np_1226 : b_np (nmT 1226) 5 := show (parseMethodDescriptor "(IIIII)I").map (fun d => d.parameters.length) = some 5 by decide +kernel
theorem mf_1227 : b_MF nmT bcT mLT rtT hhT 1227 := ⟨Or.inl ⟨rfl, q752⟩, q109, (show 3 ≤ 45 by decide), ne_BoneYard⟩
theorem np_1227 : b_np (nmT 1227) 1 := show (parseMethodDescriptor "(I)V").map (fun d => d.parameters.length) = some 1 by decide +kernel
theorem mf_1228 : b_MF nmT bcT mLT rtT hhT 1228 := ⟨Or.inl ⟨rfl, q756⟩, q109, (show 2 ≤ 45 by decide), ne_BoneYard⟩
theorem np_1228 : b_np (nmT 1228) 1 := show (parseMethodDescriptor "(I)I").map (fun d => d.parameters.length) = some 1 by decide +kernel
theorem mf_1229 : b_MF nmT bcT mLT rtT hhT 1229 := ⟨Or.inr ⟨(fun z => nomatch z), q760⟩, q109, (show 4 ≤ 45 by decide), ne_BoneYard⟩
theorem np_1229 : b_np (nmT 1229) 0 := show (parseMethodDescriptor "()I").map (fun d => d.parameters.length) = some 0 by decide +kernel
theorem mf_1230 : b_MF nmT bcT mLT rtT hhT 1230 := ⟨Or.inl ⟨rfl, q1226⟩, q109, (show 2 ≤ 45 by decide), ne_BoneYard⟩
theorem np_1230 : b_np (nmT 1230) 1 := show (parseMethodDescriptor "(I)I").map (fun d => d.parameters.length) = some 1 by decide +kernel
theorem mf_1231 : b_MF nmT bcT mLT rtT hhT 1231 := ⟨Or.inl ⟨rfl, q1230⟩, q109, (show 3 ≤ 45 by decide), ne_BoneYard⟩
theorem np_1231 : b_np (nmT 1231) 2 := show (parseMethodDescriptor "(II)I").map (fun d => d.parameters.length) = some 2 by decide +kernel
theorem mf_1232 : b_MF nmT bcT mLT rtT hhT 1232 := ⟨Or.inl ⟨rfl, q1234⟩, q109, (show 2 ≤ 45 by decide), ne_BoneYard⟩
theorem np_1232 : b_np (nmT 1232) 1 := show (parseMethodDescriptor "(I)Z").map (fun d => d.parameters.length) = some 1 by decide +kernel
theorem mf_1233 : b_MF nmT bcT mLT rtT hhT 1233 := ⟨Or.inl ⟨rfl, q1298⟩, q109, (show 3 ≤ 45 by decide), ne_BoneYard⟩
theorem np_1233 : b_np (nmT 1233) 2 := show (parseMethodDescriptor "(II)I").map (fun d => d.parameters.length) = some 2 by decide +kernel
theorem mf_1234 : b_MF nmT bcT mLT rtT hhT 1234 := ⟨Or.inl ⟨rfl, q1302⟩, q109, (show 9 ≤ 45 by decide), ne_BoneYard⟩
theorem np_1234 : b_np (nmT 1234) 3 := show (parseMethodDescriptor "(III)I").map (fun d => d.parameters.length) = some 3 by decide +kernel
theorem mf_1235 : b_MF nmT bcT mLT rtT hhT 1235 := ⟨Or.inl ⟨rfl, q1307⟩, q109, (show 8 ≤ 45 by decide), ne_BoneYard⟩
theorem np_1235 : b_np (nmT 1235) 5 := show (parseMethodDescriptor "(IIIII)I").map (fun d => d.parameters.length) = some 5 by decide +kernel
theorem mf_1236 : b_MF nmT bcT mLT rtT hhT 1236 := ⟨Or.inl ⟨rfl, q1311⟩, q109, (show 5 ≤ 45 by decide), ne_BoneYard⟩
theorem np_1236 : b_np (nmT 1236) 4 := show (parseMethodDescriptor "(IIII)Z").map (fun d => d.parameters.length) = some 4 by decide +kernel
theorem mf_1237 : b_MF nmT bcT mLT rtT hhT 1237 := ⟨Or.inl ⟨rfl, q1315⟩, q109, (show 2 ≤ 45 by decide), ne_BoneYard⟩
theorem np_1237 : b_np (nmT 1237) 1 := show (parseMethodDescriptor "(I)Z").map (fun d => d.parameters.length) = some 1 by decide +kernel
theorem mf_1238 : b_MF nmT bcT mLT rtT hhT 1238 := ⟨Or.inl ⟨rfl, q1319⟩, q109, (show 7 ≤ 45 by decide), ne_BoneYard⟩
theorem np_1238 : b_np (nmT 1238) 4 := show (parseMethodDescriptor "(IIII)V").map (fun d => d.parameters.length) = some 4 by decide +kernel
theorem mf_1239 : b_MF nmT bcT mLT rtT hhT 1239 := ⟨Or.inl ⟨rfl, q1323⟩, q109, (show 5 ≤ 45 by decide), ne_BoneYard⟩
theorem np_1239 : b_np (nmT 1239) 1 := show (parseMethodDescriptor "(I)I").map (fun d => d.parameters.length) = some 1 by decide +kernel
theorem mf_1240 : b_MF nmT bcT mLT rtT hhT 1240 := ⟨Or.inl ⟨rfl, q1327⟩, q109, (show 7 ≤ 45 by decide), ne_BoneYard⟩
theorem np_1240 : b_np (nmT 1240) 2 := show (parseMethodDescriptor "(IZ)I").map (fun d => d.parameters.length) = some 2 by decide +kernel
theorem mf_1241 : b_MF nmT bcT mLT rtT hhT 1241 := ⟨Or.inl ⟨rfl, q1335⟩, q109, (show 3 ≤ 45 by decide), ne_BoneYard⟩
theorem np_1241 : b_np (nmT 1241) 0 := show (parseMethodDescriptor "()I").map (fun d => d.parameters.length) = some 0 by decide +kernel
theorem mf_1242 : b_MF nmT bcT mLT rtT hhT 1242 := ⟨Or.inl ⟨rfl, q1339⟩, q109, (show 4 ≤ 45 by decide), ne_BoneYard⟩
theorem np_1242 : b_np (nmT 1242) 1 := show (parseMethodDescriptor "(I)I").map (fun d => d.parameters.length) = some 1 by decide +kernel
theorem mf_1243 : b_MF nmT bcT mLT rtT hhT 1243 := ⟨Or.inl ⟨rfl, q1347⟩, q109, (show 4 ≤ 45 by decide), ne_BoneYard⟩
theorem np_1243 : b_np (nmT 1243) 1 := show (parseMethodDescriptor "(I)I").map (fun d => d.parameters.length) = some 1 by decide +kernel
theorem mf_1244 : b_MF nmT bcT mLT rtT hhT 1244 := ⟨Or.inl ⟨rfl, q1351⟩, q109, (show 4 ≤ 45 by decide), ne_BoneYard⟩
theorem np_1244 : b_np (nmT 1244) 2 := show (parseMethodDescriptor "(II)Z").map (fun d => d.parameters.length) = some 2 by decide +kernel
theorem mf_1245 : b_MF nmT bcT mLT rtT hhT 1245 := ⟨Or.inl ⟨rfl, q1355⟩, q109, (show 5 ≤ 45 by decide), ne_BoneYard⟩
theorem np_1245 : b_np (nmT 1245) 2 := show (parseMethodDescriptor "(II)Z").map (fun d => d.parameters.length) = some 2 by decide +kernel
theorem mf_1246 : b_MF nmT bcT mLT rtT hhT 1246 := ⟨Or.inl ⟨rfl, q1362⟩, q109, (show 1 ≤ 45 by decide), ne_BoneYard⟩
theorem np_1246 : b_np (nmT 1246) 0 := show (parseMethodDescriptor "()V").map (fun d => d.parameters.length) = some 0 by decide +kernel
theorem mf_1247 : b_MF nmT bcT mLT rtT hhT 1247 := ⟨Or.inl ⟨rfl, q1367⟩, q109, (show 8 ≤ 45 by decide), ne_BoneYard⟩
theorem np_1247 : b_np (nmT 1247) 6 := show (parseMethodDescriptor "(IIIIII)I").map (fun d => d.parameters.length) = some 6 by decide +kernel
theorem mf_1248 : b_MF nmT bcT mLT rtT hhT 1248 := ⟨Or.inl ⟨rfl, q1371⟩, q109, (show 2 ≤ 45 by decide), ne_BoneYard⟩
theorem np_1248 : b_np (nmT 1248) 1 := show (parseMethodDescriptor "(I)Z").map (fun d => d.parameters.length) = some 1 by decide +kernel
theorem mf_1249 : b_MF nmT bcT mLT rtT hhT 1249 := ⟨Or.inl ⟨rfl, q1375⟩, q109, (show 2 ≤ 45 by decide), ne_BoneYard⟩
theorem np_1249 : b_np (nmT 1249) 1 := show (parseMethodDescriptor "(I)I").map (fun d => d.parameters.length) = some 1 by decide +kernel
theorem mf_1250 : b_MF nmT bcT mLT rtT hhT 1250 := ⟨Or.inl ⟨rfl, q1379⟩, q109, (show 7 ≤ 45 by decide), ne_BoneYard⟩
theorem np_1250 : b_np (nmT 1250) 5 := show (parseMethodDescriptor "(IIIII)I").map (fun d => d.parameters.length) = some 5 by decide +kernel
theorem mf_1251 : b_MF nmT bcT mLT rtT hhT 1251 := ⟨Or.inl ⟨rfl, q1383⟩, q109, (show 3 ≤ 45 by decide), ne_BoneYard⟩
theorem np_1251 : b_np (nmT 1251) 2 := show (parseMethodDescriptor "(II)I").map (fun d => d.parameters.length) = some 2 by decide +kernel
theorem mf_1252 : b_MF nmT bcT mLT rtT hhT 1252 := ⟨Or.inl ⟨rfl, q1387⟩, q109, (show 9 ≤ 45 by decide), ne_BoneYard⟩
theorem np_1252 : b_np (nmT 1252) 4 := show (parseMethodDescriptor "(IIII)I").map (fun d => d.parameters.length) = some 4 by decide +kernel
theorem mf_1253 : b_MF nmT bcT mLT rtT hhT 1253 := ⟨Or.inl ⟨rfl, q1391⟩, q109, (show 5 ≤ 45 by decide), ne_BoneYard⟩
theorem np_1253 : b_np (nmT 1253) 4 := show (parseMethodDescriptor "(IIII)I").map (fun d => d.parameters.length) = some 4 by decide +kernel
theorem mf_1254 : b_MF nmT bcT mLT rtT hhT 1254 := ⟨Or.inl ⟨rfl, q1395⟩, q109, (show 7 ≤ 45 by decide), ne_BoneYard⟩
theorem np_1254 : b_np (nmT 1254) 3 := show (parseMethodDescriptor "(III)I").map (fun d => d.parameters.length) = some 3 by decide +kernel
theorem mf_1255 : b_MF nmT bcT mLT rtT hhT 1255 := ⟨Or.inl ⟨rfl, q1399⟩, q109, (show 3 ≤ 45 by decide), ne_BoneYard⟩
theorem np_1255 : b_np (nmT 1255) 2 := show (parseMethodDescriptor "(LBoneYard$Bone;LBoneYard$Element;)I").map (fun d => d.parameters.length) = some 2 by decide +kernel
theorem mf_1256 : b_MF nmT bcT mLT rtT hhT 1256 := ⟨Or.inl ⟨rfl, q1403⟩, q109, (show 3 ≤ 45 by decide), ne_BoneYard⟩
theorem np_1256 : b_np (nmT 1256) 2 := show (parseMethodDescriptor "(LBoneYard$Bone;LBoneYard$Element;)I").map (fun d => d.parameters.length) = some 2 by decide +kernel
theorem mf_1257 : b_MF nmT bcT mLT rtT hhT 1257 := ⟨Or.inl ⟨rfl, q1407⟩, q109, (show 5 ≤ 45 by decide), ne_BoneYard⟩
theorem np_1257 : b_np (nmT 1257) 1 := show (parseMethodDescriptor "(I)I").map (fun d => d.parameters.length) = some 1 by decide +kernel
theorem mf_1258 : b_MF nmT bcT mLT rtT hhT 1258 := ⟨Or.inl ⟨rfl, q1411⟩, q109, (show 8 ≤ 45 by decide), ne_BoneYard⟩
theorem np_1258 : b_np (nmT 1258) 7 := show (parseMethodDescriptor "(IIIIIII)I").map (fun d => d.parameters.length) = some 7 by decide +kernel
theorem mf_1259 : b_MF nmT bcT mLT rtT hhT 1259 := ⟨Or.inl ⟨rfl, q1415⟩, q109, (show 10 ≤ 45 by decide), ne_BoneYard⟩
theorem np_1259 : b_np (nmT 1259) 5 := show (parseMethodDescriptor "(IIIII)V").map (fun d => d.parameters.length) = some 5 by decide +kernel
theorem mf_1260 : b_MF nmT bcT mLT rtT hhT 1260 := ⟨Or.inl ⟨rfl, q1419⟩, q109, (show 3 ≤ 45 by decide), ne_BoneYard⟩
theorem np_1260 : b_np (nmT 1260) 1 := show (parseMethodDescriptor "(I)I").map (fun d => d.parameters.length) = some 1 by decide +kernel
theorem mf_1261 : b_MF nmT bcT mLT rtT hhT 1261 := ⟨Or.inl ⟨rfl, q1423⟩, q109, (show 6 ≤ 45 by decide), ne_BoneYard⟩
theorem np_1261 : b_np (nmT 1261) 3 := show (parseMethodDescriptor "(IIZ)I").map (fun d => d.parameters.length) = some 3 by decide +kernel
theorem mf_1262 : b_MF nmT bcT mLT rtT hhT 1262 := ⟨Or.inl ⟨rfl, q1427⟩, q109, (show 5 ≤ 45 by decide), ne_BoneYard⟩
theorem np_1262 : b_np (nmT 1262) 1 := show (parseMethodDescriptor "(I)I").map (fun d => d.parameters.length) = some 1 by decide +kernel
theorem mf_1263 : b_MF nmT bcT mLT rtT hhT 1263 := ⟨Or.inl ⟨rfl, q1431⟩, q109, (show 7 ≤ 45 by decide), ne_BoneYard⟩
theorem np_1263 : b_np (nmT 1263) 6 := show (parseMethodDescriptor "(IIIIII)I").map (fun d => d.parameters.length) = some 6 by decide +kernel
theorem mf_1264 : b_MF nmT bcT mLT rtT hhT 1264 := ⟨Or.inl ⟨rfl, q1435⟩, q109, (show 7 ≤ 45 by decide), ne_BoneYard⟩
theorem np_1264 : b_np (nmT 1264) 6 := show (parseMethodDescriptor "(IIIIII)Z").map (fun d => d.parameters.length) = some 6 by decide +kernel
theorem mf_1265 : b_MF nmT bcT mLT rtT hhT 1265 := ⟨Or.inl ⟨rfl, q1439⟩, q109, (show 3 ≤ 45 by decide), ne_BoneYard⟩
theorem np_1265 : b_np (nmT 1265) 1 := show (parseMethodDescriptor "(I)I").map (fun d => d.parameters.length) = some 1 by decide +kernel
theorem mf_1266 : b_MF nmT bcT mLT rtT hhT 1266 := ⟨Or.inl ⟨rfl, q1443⟩, q109, (show 6 ≤ 45 by decide), ne_BoneYard⟩
theorem np_1266 : b_np (nmT 1266) 2 := show (parseMethodDescriptor "(II)Z").map (fun d => d.parameters.length) = some 2 by decide +kernel
theorem mf_1267 : b_MF nmT bcT mLT rtT hhT 1267 := ⟨Or.inl ⟨rfl, q1447⟩, q109, (show 9 ≤ 45 by decide), ne_BoneYard⟩
theorem np_1267 : b_np (nmT 1267) 8 := show (parseMethodDescriptor "(IIIIIIII)I").map (fun d => d.parameters.length) = some 8 by decide +kernel
theorem mf_1268 : b_MF nmT bcT mLT rtT hhT 1268 := ⟨Or.inl ⟨rfl, q1451⟩, q109, (show 12 ≤ 45 by decide), ne_BoneYard⟩
theorem np_1268 : b_np (nmT 1268) 7 := show (parseMethodDescriptor "(IIIIIII)I").map (fun d => d.parameters.length) = some 7 by decide +kernel
theorem mf_1269 : b_MF nmT bcT mLT rtT hhT 1269 := ⟨Or.inl ⟨rfl, q1456⟩, q109, (show 6 ≤ 45 by decide), ne_BoneYard⟩
theorem np_1269 : b_np (nmT 1269) 2 := show (parseMethodDescriptor "(II)I").map (fun d => d.parameters.length) = some 2 by decide +kernel
theorem mf_1270 : b_MF nmT bcT mLT rtT hhT 1270 := ⟨Or.inl ⟨rfl, q1459⟩, q109, (show 2 ≤ 45 by decide), ne_BoneYard⟩
theorem np_1270 : b_np (nmT 1270) 2 := show (parseMethodDescriptor "(II)I").map (fun d => d.parameters.length) = some 2 by decide +kernel
theorem mf_1271 : b_MF nmT bcT mLT rtT hhT 1271 := ⟨Or.inl ⟨rfl, q1463⟩, q109, (show 9 ≤ 45 by decide), ne_BoneYard⟩
theorem np_1271 : b_np (nmT 1271) 3 := show (parseMethodDescriptor "(III)I").map (fun d => d.parameters.length) = some 3 by decide +kernel
theorem mf_1272 : b_MF nmT bcT mLT rtT hhT 1272 := ⟨Or.inl ⟨rfl, q1466⟩, q109, (show 3 ≤ 45 by decide), ne_BoneYard⟩
theorem np_1272 : b_np (nmT 1272) 1 := show (parseMethodDescriptor "(I)I").map (fun d => d.parameters.length) = some 1 by decide +kernel
theorem mf_1273 : b_MF nmT bcT mLT rtT hhT 1273 := ⟨Or.inl ⟨rfl, q1471⟩, q109, (show 4 ≤ 45 by decide), ne_BoneYard⟩
theorem np_1273 : b_np (nmT 1273) 2 := show (parseMethodDescriptor "(II)I").map (fun d => d.parameters.length) = some 2 by decide +kernel
theorem mf_1274 : b_MF nmT bcT mLT rtT hhT 1274 := ⟨Or.inl ⟨rfl, q1477⟩, q109, (show 4 ≤ 45 by decide), ne_BoneYard⟩
theorem np_1274 : b_np (nmT 1274) 1 := show (parseMethodDescriptor "(I)I").map (fun d => d.parameters.length) = some 1 by decide +kernel
theorem ne_BoneYard_Reader : ("BoneYard$Reader" : String) ≠ "java/lang/invoke/MethodHandle" ∧ ("BoneYard$Reader" : String) ≠ "java/lang/invoke/VarHandle" := by decide +kernel
theorem mf_1401 : b_MF nmT bcT mLT rtT hhT 1401 := ⟨Or.inl ⟨rfl, q374⟩, q110, (show 2 ≤ 45 by decide), ne_BoneYard_Reader⟩
theorem np_1401 : b_np (nmT 1401) 1 := show (parseMethodDescriptor "(LBoneYard;)V").map (fun d => d.parameters.length) = some 1 by decide +kernel
theorem mf_1402 : b_MF nmT bcT mLT rtT hhT 1402 := ⟨Or.inl ⟨rfl, q765⟩, q110, (show 5 ≤ 45 by decide), ne_BoneYard_Reader⟩
theorem np_1402 : b_np (nmT 1402) 2 := show (parseMethodDescriptor "([BI)LBoneYard$Key;").map (fun d => d.parameters.length) = some 2 by decide +kernel
theorem mf_1403 : b_MF nmT bcT mLT rtT hhT 1403 := ⟨Or.inl ⟨rfl, q769⟩, q110, (show 2 ≤ 45 by decide), ne_BoneYard_Reader⟩
theorem np_1403 : b_np (nmT 1403) 0 := show (parseMethodDescriptor "()V").map (fun d => d.parameters.length) = some 0 by decide +kernel
theorem mf_1404 : b_MF nmT bcT mLT rtT hhT 1404 := ⟨Or.inl ⟨rfl, q773⟩, q110, (show 2 ≤ 45 by decide), ne_BoneYard_Reader⟩
theorem np_1404 : b_np (nmT 1404) 1 := show (parseMethodDescriptor "(I)Z").map (fun d => d.parameters.length) = some 1 by decide +kernel
theorem mf_1405 : b_MF nmT bcT mLT rtT hhT 1405 := ⟨Or.inl ⟨rfl, q777⟩, q110, (show 2 ≤ 45 by decide), ne_BoneYard_Reader⟩
theorem np_1405 : b_np (nmT 1405) 1 := show (parseMethodDescriptor "(I)I").map (fun d => d.parameters.length) = some 1 by decide +kernel
theorem mf_1406 : b_MF nmT bcT mLT rtT hhT 1406 := ⟨Or.inl ⟨rfl, q784⟩, q110, (show 5 ≤ 45 by decide), ne_BoneYard_Reader⟩
theorem np_1406 : b_np (nmT 1406) 2 := show (parseMethodDescriptor "(Ljava/lang/String;I)Z").map (fun d => d.parameters.length) = some 2 by decide +kernel
theorem mf_1407 : b_MF nmT bcT mLT rtT hhT 1407 := ⟨Or.inl ⟨rfl, q836⟩, q110, (show 2 ≤ 45 by decide), ne_BoneYard_Reader⟩
theorem np_1407 : b_np (nmT 1407) 1 := show (parseMethodDescriptor "(I)Z").map (fun d => d.parameters.length) = some 1 by decide +kernel
theorem mf_1408 : b_MF nmT bcT mLT rtT hhT 1408 := ⟨Or.inl ⟨rfl, q882⟩, q110, (show 3 ≤ 45 by decide), ne_BoneYard_Reader⟩
theorem np_1408 : b_np (nmT 1408) 1 := show (parseMethodDescriptor "(LBoneYard$Key;)V").map (fun d => d.parameters.length) = some 1 by decide +kernel
theorem mf_1409 : b_MF nmT bcT mLT rtT hhT 1409 := ⟨Or.inl ⟨rfl, q886⟩, q110, (show 1 ≤ 45 by decide), ne_BoneYard_Reader⟩
theorem np_1409 : b_np (nmT 1409) 0 := show (parseMethodDescriptor "()Z").map (fun d => d.parameters.length) = some 0 by decide +kernel
theorem mf_1410 : b_MF nmT bcT mLT rtT hhT 1410 := ⟨Or.inl ⟨rfl, q890⟩, q110, (show 2 ≤ 45 by decide), ne_BoneYard_Reader⟩
theorem np_1410 : b_np (nmT 1410) 1 := show (parseMethodDescriptor "(I)LBoneYard$Wrong;").map (fun d => d.parameters.length) = some 1 by decide +kernel
theorem mf_1411 : b_MF nmT bcT mLT rtT hhT 1411 := ⟨Or.inl ⟨rfl, q936⟩, q110, (show 3 ≤ 45 by decide), ne_BoneYard_Reader⟩
theorem np_1411 : b_np (nmT 1411) 1 := show (parseMethodDescriptor "(I)I").map (fun d => d.parameters.length) = some 1 by decide +kernel
theorem mf_1412 : b_MF nmT bcT mLT rtT hhT 1412 := ⟨Or.inl ⟨rfl, q962⟩, q110, (show 2 ≤ 45 by decide), ne_BoneYard_Reader⟩
theorem np_1412 : b_np (nmT 1412) 1 := show (parseMethodDescriptor "(I)V").map (fun d => d.parameters.length) = some 1 by decide +kernel
theorem mf_1413 : b_MF nmT bcT mLT rtT hhT 1413 := ⟨Or.inl ⟨rfl, q966⟩, q110, (show 2 ≤ 45 by decide), ne_BoneYard_Reader⟩
theorem np_1413 : b_np (nmT 1413) 1 := show (parseMethodDescriptor "(I)Z").map (fun d => d.parameters.length) = some 1 by decide +kernel
theorem mf_1414 : b_MF nmT bcT mLT rtT hhT 1414 := ⟨Or.inl ⟨rfl, q970⟩, q110, (show 2 ≤ 45 by decide), ne_BoneYard_Reader⟩
theorem np_1414 : b_np (nmT 1414) 0 := show (parseMethodDescriptor "()LBoneYard$Cond;").map (fun d => d.parameters.length) = some 0 by decide +kernel
theorem mf_1415 : b_MF nmT bcT mLT rtT hhT 1415 := ⟨Or.inl ⟨rfl, q998⟩, q110, (show 2 ≤ 45 by decide), ne_BoneYard_Reader⟩
theorem np_1415 : b_np (nmT 1415) 0 := show (parseMethodDescriptor "()LBoneYard$Cond;").map (fun d => d.parameters.length) = some 0 by decide +kernel
theorem mf_1416 : b_MF nmT bcT mLT rtT hhT 1416 := ⟨Or.inl ⟨rfl, q1007⟩, q110, (show 3 ≤ 45 by decide), ne_BoneYard_Reader⟩
theorem np_1416 : b_np (nmT 1416) 0 := show (parseMethodDescriptor "()LBoneYard$Cond;").map (fun d => d.parameters.length) = some 0 by decide +kernel
theorem mf_1417 : b_MF nmT bcT mLT rtT hhT 1417 := ⟨Or.inl ⟨rfl, q1011⟩, q110, (show 1 ≤ 45 by decide), ne_BoneYard_Reader⟩
theorem np_1417 : b_np (nmT 1417) 0 := show (parseMethodDescriptor "()V").map (fun d => d.parameters.length) = some 0 by decide +kernel
theorem mf_1418 : b_MF nmT bcT mLT rtT hhT 1418 := ⟨Or.inl ⟨rfl, q1092⟩, q110, (show 3 ≤ 45 by decide), ne_BoneYard_Reader⟩
theorem np_1418 : b_np (nmT 1418) 0 := show (parseMethodDescriptor "()LBoneYard$Sum;").map (fun d => d.parameters.length) = some 0 by decide +kernel
theorem mf_1419 : b_MF nmT bcT mLT rtT hhT 1419 := ⟨Or.inl ⟨rfl, q1098⟩, q110, (show 2 ≤ 45 by decide), ne_BoneYard_Reader⟩
theorem np_1419 : b_np (nmT 1419) 0 := show (parseMethodDescriptor "()LBoneYard$Sum;").map (fun d => d.parameters.length) = some 0 by decide +kernel
theorem mf_1420 : b_MF nmT bcT mLT rtT hhT 1420 := ⟨Or.inl ⟨rfl, q1102⟩, q110, (show 2 ≤ 45 by decide), ne_BoneYard_Reader⟩
theorem np_1420 : b_np (nmT 1420) 0 := show (parseMethodDescriptor "()LBoneYard$Sum;").map (fun d => d.parameters.length) = some 0 by decide +kernel
theorem mf_1421 : b_MF nmT bcT mLT rtT hhT 1421 := ⟨Or.inl ⟨rfl, q1185⟩, q110, (show 2 ≤ 45 by decide), ne_BoneYard_Reader⟩
theorem np_1421 : b_np (nmT 1421) 1 := show (parseMethodDescriptor "(I)V").map (fun d => d.parameters.length) = some 1 by decide +kernel
theorem mf_1422 : b_MF nmT bcT mLT rtT hhT 1422 := ⟨Or.inl ⟨rfl, q1189⟩, q110, (show 4 ≤ 45 by decide), ne_BoneYard_Reader⟩
theorem np_1422 : b_np (nmT 1422) 1 := show (parseMethodDescriptor "(I)LBoneYard$Goal;").map (fun d => d.parameters.length) = some 1 by decide +kernel
theorem mf_1423 : b_MF nmT bcT mLT rtT hhT 1423 := ⟨Or.inl ⟨rfl, q1213⟩, q110, (show 3 ≤ 45 by decide), ne_BoneYard_Reader⟩
theorem np_1423 : b_np (nmT 1423) 2 := show (parseMethodDescriptor "(LBoneYard$Key;LBoneYard$Goal;)V").map (fun d => d.parameters.length) = some 2 by decide +kernel
theorem ne_BoneYard_Wrong : ("BoneYard$Wrong" : String) ≠ "java/lang/invoke/MethodHandle" ∧ ("BoneYard$Wrong" : String) ≠ "java/lang/invoke/VarHandle" := by decide +kernel
theorem mf_1601 : b_MF nmT bcT mLT rtT hhT 1601 := ⟨Or.inl ⟨rfl, q407⟩, q113, (show 1 ≤ 45 by decide), ne_BoneYard_Wrong⟩
theorem np_1601 : b_np (nmT 1601) 0 := show (parseMethodDescriptor "()V").map (fun d => d.parameters.length) = some 0 by decide +kernel
theorem mf_1602 : b_MF nmT bcT mLT rtT hhT 1602 := ⟨Or.inl ⟨rfl, q894⟩, q113, (show 3 ≤ 45 by decide), ne_BoneYard_Wrong⟩
theorem np_1602 : b_np (nmT 1602) 2 := show (parseMethodDescriptor "(II)LBoneYard$Wrong;").map (fun d => d.parameters.length) = some 2 by decide +kernel
theorem ne_BoneYard_Row : ("BoneYard$Row" : String) ≠ "java/lang/invoke/MethodHandle" ∧ ("BoneYard$Row" : String) ≠ "java/lang/invoke/VarHandle" := by decide +kernel
theorem mf_1801 : b_MF nmT bcT mLT rtT hhT 1801 := ⟨Or.inr ⟨(fun z => nomatch z), q165⟩, q114, (show 4 ≤ 45 by decide), ne_BoneYard_Row⟩
theorem np_1801 : b_np (nmT 1801) 2 := show (parseMethodDescriptor "(II)Z").map (fun d => d.parameters.length) = some 2 by decide +kernel
theorem mf_1802 : b_MF nmT bcT mLT rtT hhT 1802 := ⟨Or.inr ⟨(fun z => nomatch z), q268⟩, q114, (show 5 ≤ 45 by decide), ne_BoneYard_Row⟩
theorem np_1802 : b_np (nmT 1802) 2 := show (parseMethodDescriptor "(IJ)I").map (fun d => d.parameters.length) = some 2 by decide +kernel
theorem mf_1803 : b_MF nmT bcT mLT rtT hhT 1803 := ⟨Or.inl ⟨rfl, q317⟩, q114, (show 5 ≤ 45 by decide), ne_BoneYard_Row⟩
theorem np_1803 : b_np (nmT 1803) 2 := show (parseMethodDescriptor "(IJ)V").map (fun d => d.parameters.length) = some 2 by decide +kernel
theorem mf_1804 : b_MF nmT bcT mLT rtT hhT 1804 := ⟨Or.inr ⟨(fun z => nomatch z), q323⟩, q114, (show 6 ≤ 45 by decide), ne_BoneYard_Row⟩
theorem np_1804 : b_np (nmT 1804) 2 := show (parseMethodDescriptor "(IJ)V").map (fun d => d.parameters.length) = some 2 by decide +kernel
theorem mf_1805 : b_MF nmT bcT mLT rtT hhT 1805 := ⟨Or.inr ⟨(fun z => nomatch z), q347⟩, q114, (show 6 ≤ 45 by decide), ne_BoneYard_Row⟩
theorem np_1805 : b_np (nmT 1805) 4 := show (parseMethodDescriptor "(ILBoneYard$Row;II)I").map (fun d => d.parameters.length) = some 4 by decide +kernel
theorem mf_1806 : b_MF nmT bcT mLT rtT hhT 1806 := ⟨Or.inl ⟨rfl, q352⟩, q114, (show 1 ≤ 45 by decide), ne_BoneYard_Row⟩
theorem np_1806 : b_np (nmT 1806) 0 := show (parseMethodDescriptor "()I").map (fun d => d.parameters.length) = some 0 by decide +kernel
theorem mf_1807 : b_MF nmT bcT mLT rtT hhT 1807 := ⟨Or.inl ⟨rfl, q457⟩, q114, (show 1 ≤ 45 by decide), ne_BoneYard_Row⟩
theorem np_1807 : b_np (nmT 1807) 0 := show (parseMethodDescriptor "()V").map (fun d => d.parameters.length) = some 0 by decide +kernel
theorem mf_1808 : b_MF nmT bcT mLT rtT hhT 1808 := ⟨Or.inl ⟨rfl, q655⟩, q114, (show 1 ≤ 45 by decide), ne_BoneYard_Row⟩
theorem np_1808 : b_np (nmT 1808) 0 := show (parseMethodDescriptor "()I").map (fun d => d.parameters.length) = some 0 by decide +kernel
theorem mf_1809 : b_MF nmT bcT mLT rtT hhT 1809 := ⟨Or.inl ⟨rfl, q659⟩, q114, (show 2 ≤ 45 by decide), ne_BoneYard_Row⟩
theorem np_1809 : b_np (nmT 1809) 1 := show (parseMethodDescriptor "(I)J").map (fun d => d.parameters.length) = some 1 by decide +kernel
theorem ne_BoneYard_Element : ("BoneYard$Element" : String) ≠ "java/lang/invoke/MethodHandle" ∧ ("BoneYard$Element" : String) ≠ "java/lang/invoke/VarHandle" := by decide +kernel
theorem mf_2001 : b_MF nmT bcT mLT rtT hhT 2001 := ⟨Or.inl ⟨rfl, q604⟩, q116, (show 6 ≤ 45 by decide), ne_BoneYard_Element⟩
theorem np_2001 : b_np (nmT 2001) 5 := show (parseMethodDescriptor "(ZIIII)V").map (fun d => d.parameters.length) = some 5 by decide +kernel
theorem mf_2002 : b_MF nmT bcT mLT rtT hhT 2002 := ⟨Or.inl ⟨rfl, q1331⟩, q116, (show 1 ≤ 45 by decide), ne_BoneYard_Element⟩
theorem np_2002 : b_np (nmT 2002) 0 := show (parseMethodDescriptor "()I").map (fun d => d.parameters.length) = some 0 by decide +kernel
theorem mf_2003 : b_MF nmT bcT mLT rtT hhT 2003 := ⟨Or.inl ⟨rfl, q1343⟩, q116, (show 1 ≤ 45 by decide), ne_BoneYard_Element⟩
theorem np_2003 : b_np (nmT 2003) 0 := show (parseMethodDescriptor "()Z").map (fun d => d.parameters.length) = some 0 by decide +kernel
theorem ne_BoneYard_Bone : ("BoneYard$Bone" : String) ≠ "java/lang/invoke/MethodHandle" ∧ ("BoneYard$Bone" : String) ≠ "java/lang/invoke/VarHandle" := by decide +kernel
theorem mf_2201 : b_MF nmT bcT mLT rtT hhT 2201 := ⟨Or.inl ⟨rfl, q663⟩, q118, (show 7 ≤ 45 by decide), ne_BoneYard_Bone⟩
theorem np_2201 : b_np (nmT 2201) 6 := show (parseMethodDescriptor "(IIIIIZ)V").map (fun d => d.parameters.length) = some 6 by decide +kernel
theorem mf_2202 : b_MF nmT bcT mLT rtT hhT 2202 := ⟨Or.inl ⟨rfl, q1276⟩, q118, (show 2 ≤ 45 by decide), ne_BoneYard_Bone⟩
theorem np_2202 : b_np (nmT 2202) 1 := show (parseMethodDescriptor "(I)I").map (fun d => d.parameters.length) = some 1 by decide +kernel
theorem ne_BoneYard_Key : ("BoneYard$Key" : String) ≠ "java/lang/invoke/MethodHandle" ∧ ("BoneYard$Key" : String) ≠ "java/lang/invoke/VarHandle" := by decide +kernel
theorem mf_2401 : b_MF nmT bcT mLT rtT hhT 2401 := ⟨Or.inl ⟨rfl, q844⟩, q123, (show 1 ≤ 45 by decide), ne_BoneYard_Key⟩
theorem np_2401 : b_np (nmT 2401) 0 := show (parseMethodDescriptor "()V").map (fun d => d.parameters.length) = some 0 by decide +kernel
theorem mf_2402 : b_MF nmT bcT mLT rtT hhT 2402 := ⟨Or.inl ⟨rfl, q1217⟩, q123, (show 3 ≤ 45 by decide), ne_BoneYard_Key⟩
theorem np_2402 : b_np (nmT 2402) 1 := show (parseMethodDescriptor "(I)I").map (fun d => d.parameters.length) = some 1 by decide +kernel
theorem mf_2403 : b_MF nmT bcT mLT rtT hhT 2403 := ⟨Or.inl ⟨rfl, q1238⟩, q123, (show 8 ≤ 45 by decide), ne_BoneYard_Key⟩
theorem np_2403 : b_np (nmT 2403) 2 := show (parseMethodDescriptor "(LBoneYard$Bone;Z)I").map (fun d => d.parameters.length) = some 2 by decide +kernel
theorem ne_BoneYard_Step : ("BoneYard$Step" : String) ≠ "java/lang/invoke/MethodHandle" ∧ ("BoneYard$Step" : String) ≠ "java/lang/invoke/VarHandle" := by decide +kernel
theorem mf_2601 : b_MF nmT bcT mLT rtT hhT 2601 := ⟨Or.inl ⟨rfl, q939⟩, q128, (show 2 ≤ 45 by decide), ne_BoneYard_Step⟩
theorem np_2601 : b_np (nmT 2601) 1 := show (parseMethodDescriptor "(I)V").map (fun d => d.parameters.length) = some 1 by decide +kernel
theorem ne_BoneYard_Cond : ("BoneYard$Cond" : String) ≠ "java/lang/invoke/MethodHandle" ∧ ("BoneYard$Cond" : String) ≠ "java/lang/invoke/VarHandle" := by decide +kernel
theorem mf_2801 : b_MF nmT bcT mLT rtT hhT 2801 := ⟨Or.inl ⟨rfl, q981⟩, q129, (show 1 ≤ 45 by decide), ne_BoneYard_Cond⟩
theorem np_2801 : b_np (nmT 2801) 0 := show (parseMethodDescriptor "()V").map (fun d => d.parameters.length) = some 0 by decide +kernel
theorem ne_BoneYard_All : ("BoneYard$All" : String) ≠ "java/lang/invoke/MethodHandle" ∧ ("BoneYard$All" : String) ≠ "java/lang/invoke/VarHandle" := by decide +kernel
theorem mf_3001 : b_MF nmT bcT mLT rtT hhT 3001 := ⟨Or.inl ⟨rfl, q978⟩, q130, (show 1 ≤ 45 by decide), ne_BoneYard_All⟩
theorem np_3001 : b_np (nmT 3001) 0 := show (parseMethodDescriptor "()V").map (fun d => d.parameters.length) = some 0 by decide +kernel
theorem mf_3002 : b_MF nmT bcT mLT rtT hhT 3002 := ⟨Or.inl ⟨rfl, q1244⟩, q130, (show 4 ≤ 45 by decide), ne_BoneYard_All⟩
theorem np_3002 : b_np (nmT 3002) 1 := show (parseMethodDescriptor "(LBoneYard$Bone;)Z").map (fun d => d.parameters.length) = some 1 by decide +kernel
theorem ne_BoneYard_Any : ("BoneYard$Any" : String) ≠ "java/lang/invoke/MethodHandle" ∧ ("BoneYard$Any" : String) ≠ "java/lang/invoke/VarHandle" := by decide +kernel
theorem mf_3201 : b_MF nmT bcT mLT rtT hhT 3201 := ⟨Or.inl ⟨rfl, q975⟩, q131, (show 1 ≤ 45 by decide), ne_BoneYard_Any⟩
theorem np_3201 : b_np (nmT 3201) 0 := show (parseMethodDescriptor "()V").map (fun d => d.parameters.length) = some 0 by decide +kernel
theorem mf_3202 : b_MF nmT bcT mLT rtT hhT 3202 := ⟨Or.inl ⟨rfl, q1252⟩, q131, (show 4 ≤ 45 by decide), ne_BoneYard_Any⟩
theorem np_3202 : b_np (nmT 3202) 1 := show (parseMethodDescriptor "(LBoneYard$Bone;)Z").map (fun d => d.parameters.length) = some 1 by decide +kernel
theorem ne_BoneYard_Not : ("BoneYard$Not" : String) ≠ "java/lang/invoke/MethodHandle" ∧ ("BoneYard$Not" : String) ≠ "java/lang/invoke/VarHandle" := by decide +kernel
theorem mf_3401 : b_MF nmT bcT mLT rtT hhT 3401 := ⟨Or.inl ⟨rfl, q1016⟩, q132, (show 1 ≤ 45 by decide), ne_BoneYard_Not⟩
theorem np_3401 : b_np (nmT 3401) 0 := show (parseMethodDescriptor "()V").map (fun d => d.parameters.length) = some 0 by decide +kernel
theorem mf_3402 : b_MF nmT bcT mLT rtT hhT 3402 := ⟨Or.inl ⟨rfl, q1289⟩, q132, (show 2 ≤ 45 by decide), ne_BoneYard_Not⟩
theorem np_3402 : b_np (nmT 3402) 1 := show (parseMethodDescriptor "(LBoneYard$Bone;)Z").map (fun d => d.parameters.length) = some 1 by decide +kernel
theorem ne_BoneYard_Sum : ("BoneYard$Sum" : String) ≠ "java/lang/invoke/MethodHandle" ∧ ("BoneYard$Sum" : String) ≠ "java/lang/invoke/VarHandle" := by decide +kernel
theorem mf_3601 : b_MF nmT bcT mLT rtT hhT 3601 := ⟨Or.inl ⟨rfl, q1111⟩, q136, (show 1 ≤ 45 by decide), ne_BoneYard_Sum⟩
theorem np_3601 : b_np (nmT 3601) 0 := show (parseMethodDescriptor "()V").map (fun d => d.parameters.length) = some 0 by decide +kernel
theorem ne_BoneYard_Chain : ("BoneYard$Chain" : String) ≠ "java/lang/invoke/MethodHandle" ∧ ("BoneYard$Chain" : String) ≠ "java/lang/invoke/VarHandle" := by decide +kernel
theorem mf_3801 : b_MF nmT bcT mLT rtT hhT 3801 := ⟨Or.inl ⟨rfl, q1129⟩, q137, (show 2 ≤ 45 by decide), ne_BoneYard_Chain⟩
theorem np_3801 : b_np (nmT 3801) 1 := show (parseMethodDescriptor "(LBoneYard$Sum;)V").map (fun d => d.parameters.length) = some 1 by decide +kernel
theorem mf_3802 : b_MF nmT bcT mLT rtT hhT 3802 := ⟨Or.inl ⟨rfl, q1145⟩, q137, (show 3 ≤ 45 by decide), ne_BoneYard_Chain⟩
theorem np_3802 : b_np (nmT 3802) 2 := show (parseMethodDescriptor "(ILBoneYard$Sum;)V").map (fun d => d.parameters.length) = some 2 by decide +kernel
theorem mf_3803 : b_MF nmT bcT mLT rtT hhT 3803 := ⟨Or.inl ⟨rfl, q1266⟩, q137, (show 6 ≤ 45 by decide), ne_BoneYard_Chain⟩
theorem np_3803 : b_np (nmT 3803) 1 := show (parseMethodDescriptor "(LBoneYard$Bone;)I").map (fun d => d.parameters.length) = some 1 by decide +kernel
theorem ne_BoneYard_Name : ("BoneYard$Name" : String) ≠ "java/lang/invoke/MethodHandle" ∧ ("BoneYard$Name" : String) ≠ "java/lang/invoke/VarHandle" := by decide +kernel
theorem mf_4001 : b_MF nmT bcT mLT rtT hhT 4001 := ⟨Or.inl ⟨rfl, q1108⟩, q138, (show 2 ≤ 45 by decide), ne_BoneYard_Name⟩
theorem np_4001 : b_np (nmT 4001) 1 := show (parseMethodDescriptor "(I)V").map (fun d => d.parameters.length) = some 1 by decide +kernel
theorem mf_4002 : b_MF nmT bcT mLT rtT hhT 4002 := ⟨Or.inl ⟨rfl, q1272⟩, q138, (show 2 ≤ 45 by decide), ne_BoneYard_Name⟩
theorem np_4002 : b_np (nmT 4002) 1 := show (parseMethodDescriptor "(LBoneYard$Bone;)I").map (fun d => d.parameters.length) = some 1 by decide +kernel
theorem ne_BoneYard_Told : ("BoneYard$Told" : String) ≠ "java/lang/invoke/MethodHandle" ∧ ("BoneYard$Told" : String) ≠ "java/lang/invoke/VarHandle" := by decide +kernel
theorem mf_4201 : b_MF nmT bcT mLT rtT hhT 4201 := ⟨Or.inl ⟨rfl, q1121⟩, q139, (show 2 ≤ 45 by decide), ne_BoneYard_Told⟩
theorem np_4201 : b_np (nmT 4201) 1 := show (parseMethodDescriptor "(I)V").map (fun d => d.parameters.length) = some 1 by decide +kernel
theorem mf_4202 : b_MF nmT bcT mLT rtT hhT 4202 := ⟨Or.inl ⟨rfl, q1278⟩, q139, (show 2 ≤ 45 by decide), ne_BoneYard_Told⟩
theorem np_4202 : b_np (nmT 4202) 1 := show (parseMethodDescriptor "(LBoneYard$Bone;)I").map (fun d => d.parameters.length) = some 1 by decide +kernel
theorem ne_BoneYard_Compared : ("BoneYard$Compared" : String) ≠ "java/lang/invoke/MethodHandle" ∧ ("BoneYard$Compared" : String) ≠ "java/lang/invoke/VarHandle" := by decide +kernel
theorem mf_4401 : b_MF nmT bcT mLT rtT hhT 4401 := ⟨Or.inl ⟨rfl, q1170⟩, q143, (show 4 ≤ 45 by decide), ne_BoneYard_Compared⟩
theorem np_4401 : b_np (nmT 4401) 3 := show (parseMethodDescriptor "(LBoneYard$Sum;ILBoneYard$Sum;)V").map (fun d => d.parameters.length) = some 3 by decide +kernel
theorem mf_4402 : b_MF nmT bcT mLT rtT hhT 4402 := ⟨Or.inl ⟨rfl, q1260⟩, q143, (show 4 ≤ 45 by decide), ne_BoneYard_Compared⟩
theorem np_4402 : b_np (nmT 4402) 1 := show (parseMethodDescriptor "(LBoneYard$Bone;)Z").map (fun d => d.parameters.length) = some 1 by decide +kernel
theorem ne_BoneYard_Goal : ("BoneYard$Goal" : String) ≠ "java/lang/invoke/MethodHandle" ∧ ("BoneYard$Goal" : String) ≠ "java/lang/invoke/VarHandle" := by decide +kernel
theorem mf_4601 : b_MF nmT bcT mLT rtT hhT 4601 := ⟨Or.inl ⟨rfl, q1194⟩, q144, (show 4 ≤ 45 by decide), ne_BoneYard_Goal⟩
theorem np_4601 : b_np (nmT 4601) 3 := show (parseMethodDescriptor "(III)V").map (fun d => d.parameters.length) = some 3 by decide +kernel
theorem ne_java_lang_Math : ("java/lang/Math" : String) ≠ "java/lang/invoke/MethodHandle" ∧ ("java/lang/Math" : String) ≠ "java/lang/invoke/VarHandle" := by decide +kernel
theorem mf_4801 : b_MF nmT bcT mLT rtT hhT 4801 := ⟨Or.inl ⟨rfl, q717⟩, q117, (show 2 ≤ 45 by decide), ne_java_lang_Math⟩
theorem np_4801 : b_np (nmT 4801) 2 := show (parseMethodDescriptor "(II)I").map (fun d => d.parameters.length) = some 2 by decide +kernel
theorem mf_4802 : b_MF nmT bcT mLT rtT hhT 4802 := ⟨Or.inl ⟨rfl, q720⟩, q117, (show 2 ≤ 45 by decide), ne_java_lang_Math⟩
theorem np_4802 : b_np (nmT 4802) 2 := show (parseMethodDescriptor "(II)I").map (fun d => d.parameters.length) = some 2 by decide +kernel
theorem mf_4803 : b_MF nmT bcT mLT rtT hhT 4803 := ⟨Or.inl ⟨rfl, q1358⟩, q117, (show 1 ≤ 45 by decide), ne_java_lang_Math⟩
theorem np_4803 : b_np (nmT 4803) 1 := show (parseMethodDescriptor "(I)I").map (fun d => d.parameters.length) = some 1 by decide +kernel
theorem ne_java_lang_String : ("java/lang/String" : String) ≠ "java/lang/invoke/MethodHandle" ∧ ("java/lang/String" : String) ≠ "java/lang/invoke/VarHandle" := by decide +kernel
theorem mf_5001 : b_MF nmT bcT mLT rtT hhT 5001 := ⟨Or.inl ⟨rfl, q788⟩, q119, (show 1 ≤ 45 by decide), ne_java_lang_String⟩
theorem np_5001 : b_np (nmT 5001) 0 := show (parseMethodDescriptor "()I").map (fun d => d.parameters.length) = some 0 by decide +kernel
theorem mf_5002 : b_MF nmT bcT mLT rtT hhT 5002 := ⟨Or.inl ⟨rfl, q792⟩, q119, (show 1 ≤ 45 by decide), ne_java_lang_String⟩
theorem np_5002 : b_np (nmT 5002) 0 := show (parseMethodDescriptor "()B").map (fun d => d.parameters.length) = some 0 by decide +kernel
theorem mf_5003 : b_MF nmT bcT mLT rtT hhT 5003 := ⟨Or.inl ⟨rfl, q798⟩, q119, (show 2 ≤ 45 by decide), ne_java_lang_String⟩
theorem np_5003 : b_np (nmT 5003) 1 := show (parseMethodDescriptor "(I)C").map (fun d => d.parameters.length) = some 1 by decide +kernel
theorem mf_5004 : b_MF nmT bcT mLT rtT hhT 5004 := ⟨Or.inl ⟨rfl, q802⟩, q119, (show 1 ≤ 45 by decide), ne_java_lang_String⟩
theorem np_5004 : b_np (nmT 5004) 0 := show (parseMethodDescriptor "()Z").map (fun d => d.parameters.length) = some 0 by decide +kernel
theorem mf_5005 : b_MF nmT bcT mLT rtT hhT 5005 := ⟨Or.inl ⟨rfl, q808⟩, q119, (show 2 ≤ 45 by decide), ne_java_lang_String⟩
theorem np_5005 : b_np (nmT 5005) 2 := show (parseMethodDescriptor "(II)V").map (fun d => d.parameters.length) = some 2 by decide +kernel
theorem ne_java_lang_StringLatin1 : ("java/lang/StringLatin1" : String) ≠ "java/lang/invoke/MethodHandle" ∧ ("java/lang/StringLatin1" : String) ≠ "java/lang/invoke/VarHandle" := by decide +kernel
theorem mf_5201 : b_MF nmT bcT mLT rtT hhT 5201 := ⟨Or.inl ⟨rfl, q805⟩, q120, (show 2 ≤ 45 by decide), ne_java_lang_StringLatin1⟩
theorem np_5201 : b_np (nmT 5201) 2 := show (parseMethodDescriptor "([BI)C").map (fun d => d.parameters.length) = some 2 by decide +kernel
theorem ne_jdk_internal_util_Preconditions : ("jdk/internal/util/Preconditions" : String) ≠ "java/lang/invoke/MethodHandle" ∧ ("jdk/internal/util/Preconditions" : String) ≠ "java/lang/invoke/VarHandle" := by decide +kernel
theorem mf_5401 : b_MF nmT bcT mLT rtT hhT 5401 := ⟨Or.inl ⟨rfl, q813⟩, q121, (show 3 ≤ 45 by decide), ne_jdk_internal_util_Preconditions⟩
theorem np_5401 : b_np (nmT 5401) 3 := show (parseMethodDescriptor "(IILjava/util/function/BiFunction;)I").map (fun d => d.parameters.length) = some 3 by decide +kernel
theorem ne_java_util_AbstractCollection : ("java/util/AbstractCollection" : String) ≠ "java/lang/invoke/MethodHandle" ∧ ("java/util/AbstractCollection" : String) ≠ "java/lang/invoke/VarHandle" := by decide +kernel
theorem mf_5601 : b_MF nmT bcT mLT rtT hhT 5601 := ⟨Or.inl ⟨rfl, q856⟩, q124, (show 1 ≤ 45 by decide), ne_java_util_AbstractCollection⟩
theorem np_5601 : b_np (nmT 5601) 0 := show (parseMethodDescriptor "()V").map (fun d => d.parameters.length) = some 0 by decide +kernel
theorem ne_java_util_AbstractList : ("java/util/AbstractList" : String) ≠ "java/lang/invoke/MethodHandle" ∧ ("java/util/AbstractList" : String) ≠ "java/lang/invoke/VarHandle" := by decide +kernel
theorem mf_5801 : b_MF nmT bcT mLT rtT hhT 5801 := ⟨Or.inl ⟨rfl, q853⟩, q125, (show 1 ≤ 45 by decide), ne_java_util_AbstractList⟩
theorem np_5801 : b_np (nmT 5801) 0 := show (parseMethodDescriptor "()V").map (fun d => d.parameters.length) = some 0 by decide +kernel
theorem ne_java_util_ArrayList : ("java/util/ArrayList" : String) ≠ "java/lang/invoke/MethodHandle" ∧ ("java/util/ArrayList" : String) ≠ "java/lang/invoke/VarHandle" := by decide +kernel
theorem mf_6001 : b_MF nmT bcT mLT rtT hhT 6001 := ⟨Or.inl ⟨rfl, q850⟩, q126, (show 2 ≤ 45 by decide), ne_java_util_ArrayList⟩
theorem np_6001 : b_np (nmT 6001) 1 := show (parseMethodDescriptor "(I)V").map (fun d => d.parameters.length) = some 1 by decide +kernel
theorem mf_6002 : b_MF nmT bcT mLT rtT hhT 6002 := ⟨Or.inl ⟨rfl, q904⟩, q126, (show 1 ≤ 45 by decide), ne_java_util_ArrayList⟩
theorem np_6002 : b_np (nmT 6002) 0 := show (parseMethodDescriptor "()I").map (fun d => d.parameters.length) = some 0 by decide +kernel
theorem mf_6003 : b_MF nmT bcT mLT rtT hhT 6003 := ⟨Or.inl ⟨rfl, q913⟩, q126, (show 1 ≤ 45 by decide), ne_java_util_ArrayList⟩
theorem np_6003 : b_np (nmT 6003) 0 := show (parseMethodDescriptor "()Z").map (fun d => d.parameters.length) = some 0 by decide +kernel
theorem mf_6004 : b_MF nmT bcT mLT rtT hhT 6004 := ⟨Or.inl ⟨rfl, q922⟩, q126, (show 2 ≤ 45 by decide), ne_java_util_ArrayList⟩
theorem np_6004 : b_np (nmT 6004) 1 := show (parseMethodDescriptor "(I)Ljava/lang/Object;").map (fun d => d.parameters.length) = some 1 by decide +kernel
theorem mf_6005 : b_MF nmT bcT mLT rtT hhT 6005 := ⟨Or.inl ⟨rfl, q930⟩, q126, (show 2 ≤ 45 by decide), ne_java_util_ArrayList⟩
theorem np_6005 : b_np (nmT 6005) 1 := show (parseMethodDescriptor "(I)Ljava/lang/Object;").map (fun d => d.parameters.length) = some 1 by decide +kernel
theorem mf_6006 : b_MF nmT bcT mLT rtT hhT 6006 := ⟨Or.inl ⟨rfl, q1028⟩, q126, (show 2 ≤ 45 by decide), ne_java_util_ArrayList⟩
theorem np_6006 : b_np (nmT 6006) 1 := show (parseMethodDescriptor "(Ljava/lang/Object;)Z").map (fun d => d.parameters.length) = some 1 by decide +kernel
theorem mf_6007 : b_MF nmT bcT mLT rtT hhT 6007 := ⟨Or.inl ⟨rfl, q1032⟩, q126, (show 4 ≤ 45 by decide), ne_java_util_ArrayList⟩
theorem np_6007 : b_np (nmT 6007) 3 := show (parseMethodDescriptor "(Ljava/lang/Object;[Ljava/lang/Object;I)V").map (fun d => d.parameters.length) = some 3 by decide +kernel
theorem mf_6008 : b_MF nmT bcT mLT rtT hhT 6008 := ⟨Or.inl ⟨rfl, q1036⟩, q126, (show 1 ≤ 45 by decide), ne_java_util_ArrayList⟩
theorem np_6008 : b_np (nmT 6008) 0 := show (parseMethodDescriptor "()[Ljava/lang/Object;").map (fun d => d.parameters.length) = some 0 by decide +kernel
theorem mf_6009 : b_MF nmT bcT mLT rtT hhT 6009 := ⟨Or.inl ⟨rfl, q1040⟩, q126, (show 4 ≤ 45 by decide), ne_java_util_ArrayList⟩
theorem np_6009 : b_np (nmT 6009) 1 := show (parseMethodDescriptor "(I)[Ljava/lang/Object;").map (fun d => d.parameters.length) = some 1 by decide +kernel
theorem ne_java_util_Objects : ("java/util/Objects" : String) ≠ "java/lang/invoke/MethodHandle" ∧ ("java/util/Objects" : String) ≠ "java/lang/invoke/VarHandle" := by decide +kernel
theorem mf_6201 : b_MF nmT bcT mLT rtT hhT 6201 := ⟨Or.inl ⟨rfl, q925⟩, q127, (show 2 ≤ 45 by decide), ne_java_util_Objects⟩
theorem np_6201 : b_np (nmT 6201) 2 := show (parseMethodDescriptor "(II)I").map (fun d => d.parameters.length) = some 2 by decide +kernel
theorem ne_jdk_internal_util_ArraysSupport : ("jdk/internal/util/ArraysSupport" : String) ≠ "java/lang/invoke/MethodHandle" ∧ ("jdk/internal/util/ArraysSupport" : String) ≠ "java/lang/invoke/VarHandle" := by decide +kernel
theorem mf_6401 : b_MF nmT bcT mLT rtT hhT 6401 := ⟨Or.inl ⟨rfl, q1045⟩, q133, (show 4 ≤ 45 by decide), ne_jdk_internal_util_ArraysSupport⟩
theorem np_6401 : b_np (nmT 6401) 3 := show (parseMethodDescriptor "(III)I").map (fun d => d.parameters.length) = some 3 by decide +kernel
theorem mf_6402 : b_MF nmT bcT mLT rtT hhT 6402 := ⟨Or.inl ⟨rfl, q1050⟩, q133, (show 3 ≤ 45 by decide), ne_jdk_internal_util_ArraysSupport⟩
theorem np_6402 : b_np (nmT 6402) 2 := show (parseMethodDescriptor "(II)I").map (fun d => d.parameters.length) = some 2 by decide +kernel
theorem ne_java_util_Arrays : ("java/util/Arrays" : String) ≠ "java/lang/invoke/MethodHandle" ∧ ("java/util/Arrays" : String) ≠ "java/lang/invoke/VarHandle" := by decide +kernel
theorem mf_6601 : b_MF nmT bcT mLT rtT hhT 6601 := ⟨Or.inl ⟨rfl, q1053⟩, q134, (show 2 ≤ 45 by decide), ne_java_util_Arrays⟩
theorem np_6601 : b_np (nmT 6601) 2 := show (parseMethodDescriptor "([Ljava/lang/Object;I)[Ljava/lang/Object;").map (fun d => d.parameters.length) = some 2 by decide +kernel
theorem mf_6602 : b_MF nmT bcT mLT rtT hhT 6602 := ⟨Or.inl ⟨rfl, q1083⟩, q134, (show 4 ≤ 45 by decide), ne_java_util_Arrays⟩
theorem np_6602 : b_np (nmT 6602) 3 := show (parseMethodDescriptor "([Ljava/lang/Object;ILjava/lang/Class;)[Ljava/lang/Object;").map (fun d => d.parameters.length) = some 3 by decide +kernel
theorem ne_java_lang_Number : ("java/lang/Number" : String) ≠ "java/lang/invoke/MethodHandle" ∧ ("java/lang/Number" : String) ≠ "java/lang/invoke/VarHandle" := by decide +kernel
theorem mf_6801 : b_MF nmT bcT mLT rtT hhT 6801 := ⟨Or.inl ⟨rfl, q1160⟩, q140, (show 1 ≤ 45 by decide), ne_java_lang_Number⟩
theorem np_6801 : b_np (nmT 6801) 0 := show (parseMethodDescriptor "()V").map (fun d => d.parameters.length) = some 0 by decide +kernel
theorem ne_java_lang_Integer : ("java/lang/Integer" : String) ≠ "java/lang/invoke/MethodHandle" ∧ ("java/lang/Integer" : String) ≠ "java/lang/invoke/VarHandle" := by decide +kernel
theorem mf_7001 : b_MF nmT bcT mLT rtT hhT 7001 := ⟨Or.inl ⟨rfl, q1148⟩, q141, (show 1 ≤ 45 by decide), ne_java_lang_Integer⟩
theorem np_7001 : b_np (nmT 7001) 1 := show (parseMethodDescriptor "(I)Ljava/lang/Integer;").map (fun d => d.parameters.length) = some 1 by decide +kernel
theorem mf_7002 : b_MF nmT bcT mLT rtT hhT 7002 := ⟨Or.inl ⟨rfl, q1157⟩, q141, (show 2 ≤ 45 by decide), ne_java_lang_Integer⟩
theorem np_7002 : b_np (nmT 7002) 1 := show (parseMethodDescriptor "(I)V").map (fun d => d.parameters.length) = some 1 by decide +kernel
theorem mf_7003 : b_MF nmT bcT mLT rtT hhT 7003 := ⟨Or.inl ⟨rfl, q1285⟩, q141, (show 1 ≤ 45 by decide), ne_java_lang_Integer⟩
theorem np_7003 : b_np (nmT 7003) 0 := show (parseMethodDescriptor "()I").map (fun d => d.parameters.length) = some 0 by decide +kernel
theorem npx_BoneYard_Sum_value : b_np ⟨"BoneYard$Sum", "value", "(LBoneYard$Bone;)I"⟩ 1 := show (parseMethodDescriptor "(LBoneYard$Bone;)I").map (fun d => d.parameters.length) = some 1 by decide +kernel
theorem nex_BoneYard_Sum_value : ("BoneYard$Sum" : String) ≠ "java/lang/invoke/MethodHandle" ∧ ("BoneYard$Sum" : String) ≠ "java/lang/invoke/VarHandle" := by decide +kernel
theorem npx_BoneYard_Cond_holds : b_np ⟨"BoneYard$Cond", "holds", "(LBoneYard$Bone;)Z"⟩ 1 := show (parseMethodDescriptor "(LBoneYard$Bone;)Z").map (fun d => d.parameters.length) = some 1 by decide +kernel
theorem nex_BoneYard_Cond_holds : ("BoneYard$Cond" : String) ≠ "java/lang/invoke/MethodHandle" ∧ ("BoneYard$Cond" : String) ≠ "java/lang/invoke/VarHandle" := by decide +kernel
theorem nex_List : ("java/util/List" : String) ≠ "java/lang/invoke/MethodHandle" ∧ ("java/util/List" : String) ≠ "java/lang/invoke/VarHandle" := by decide +kernel
theorem npx_List_get : b_np ⟨"java/util/List", "get", "(I)Ljava/lang/Object;"⟩ 1 := show (parseMethodDescriptor "(I)Ljava/lang/Object;").map (fun d => d.parameters.length) = some 1 by decide +kernel
theorem npx_List_size : b_np ⟨"java/util/List", "size", "()I"⟩ 0 := show (parseMethodDescriptor "()I").map (fun d => d.parameters.length) = some 0 by decide +kernel
theorem npx_List_add : b_np ⟨"java/util/List", "add", "(Ljava/lang/Object;)Z"⟩ 1 := show (parseMethodDescriptor "(Ljava/lang/Object;)Z").map (fun d => d.parameters.length) = some 1 by decide +kernel
theorem npx_List_isEmpty : b_np ⟨"java/util/List", "isEmpty", "()Z"⟩ 0 := show (parseMethodDescriptor "()Z").map (fun d => d.parameters.length) = some 0 by decide +kernel
theorem ev_breturn {T : Tb} {d y pc : Nat} {L : Lc} {σ : Sg} {x : Int} (h : b_lk (T y) pc = some (i_retI b_fb)) (hx : -128 ≤ x ∧ x ≤ 127) : b_F T d y pc L [vI x] σ = some (.inl (some (vI x)), σ) := by
  have hx2 : b_fb (Int32.ofInt x) = true := by
    refine decide_eq_true ⟨?_, ?_⟩
    · show (decide _ && decide _) = true
      rw [Bool.and_eq_true, decide_eq_true_iff, decide_eq_true_iff, Int32.le_iff_toInt_le, Int32.le_iff_toInt_le]
      have e : (Int32.ofInt x).toInt = x := w32_id (by omega) (by omega)
      rw [e]
      exact hx
    · apply Int32.toInt_inj.mp
      have e : (Int32.ofInt x).toInt = x := w32_id (by omega) (by omega)
      rw [Int8.toInt_toInt32, Int32.toInt_toInt8, e]
      exact Int.bmod_eq_of_le (by omega) (by omega)
  rw [b_F_at h]; unfold i_retI vI; dsimp only; rw [if_pos hx2]; rfl
theorem ev_creturn {T : Tb} {d y pc : Nat} {L : Lc} {σ : Sg} {x : Int} (h : b_lk (T y) pc = some (i_retI b_fc)) (hx : 0 ≤ x ∧ x ≤ 65535) : b_F T d y pc L [vI x] σ = some (.inl (some (vI x)), σ) := by
  obtain ⟨n, rfl⟩ : ∃ n : Nat, x = n := ⟨x.toNat, by omega⟩
  have hx2 : b_fc (Int32.ofInt n) = true := by
    have := pk_charN (q := n) (by omega)
    exact decide_eq_true ⟨this.2, this.1⟩
  rw [b_F_at h]; unfold i_retI vI; dsimp only; rw [if_pos hx2]; rfl
theorem ff_BoneYardModel_137 : ∀ t ∈ [5], 0 < t ∧ b_FF "BoneYardModel" 137 (t - 1) 66 (.array .int) := fa_1 ⟨by decide, (RX4, TX4, 82), "BoneYardModel", rfl, by decide, tyX4_ok 66 (by decide), Or.inl q1550, Or.inl rfl⟩
theorem ff_BoneYardModel_9 : ∀ t ∈ [5], 0 < t ∧ b_FF "BoneYardModel" 9 (t - 1) 1 (.array .int) := fa_1 ⟨by decide, (RX4, TX4, 82), "BoneYardModel", rfl, by decide, tyX4_ok 1 (by decide), Or.inl q1485, Or.inl rfl⟩
theorem ff_BoneYardModel_13 : ∀ t ∈ [5], 0 < t ∧ b_FF "BoneYardModel" 13 (t - 1) 2 (.array .int) := fa_1 ⟨by decide, (RX4, TX4, 82), "BoneYardModel", rfl, by decide, tyX4_ok 2 (by decide), Or.inl q1486, Or.inl rfl⟩
theorem ff_BoneYardModel_16 : ∀ t ∈ [5], 0 < t ∧ b_FF "BoneYardModel" 16 (t - 1) 3 (.array .long) := fa_1 ⟨by decide, (RX4, TX4, 82), "BoneYardModel", rfl, by decide, tyX4_ok 3 (by decide), Or.inl q1487, Or.inl rfl⟩
theorem ff_BoneYardModel_20 : ∀ t ∈ [5], 0 < t ∧ b_FF "BoneYardModel" 20 (t - 1) 4 (.array .long) := fa_1 ⟨by decide, (RX4, TX4, 82), "BoneYardModel", rfl, by decide, tyX4_ok 4 (by decide), Or.inl q1488, Or.inl rfl⟩
theorem ff_BoneYardModel_198 : ∀ t ∈ [5], 0 < t ∧ b_FF "BoneYardModel" 198 (t - 1) 7 .int := fa_1 ⟨by decide, (RX4, TX4, 82), "BoneYardModel", rfl, by decide, tyX4_ok 7 (by decide), Or.inl q1491, Or.inl rfl⟩
theorem ff_BoneYardModel_30 : ∀ t ∈ [5], 0 < t ∧ b_FF "BoneYardModel" 30 (t - 1) 14 (.array .boolean) := fa_1 ⟨by decide, (RX4, TX4, 82), "BoneYardModel", rfl, by decide, tyX4_ok 14 (by decide), Or.inl q1498, Or.inl rfl⟩
theorem ff_BoneYardModel_34 : ∀ t ∈ [5], 0 < t ∧ b_FF "BoneYardModel" 34 (t - 1) 15 (.array .int) := fa_1 ⟨by decide, (RX4, TX4, 82), "BoneYardModel", rfl, by decide, tyX4_ok 15 (by decide), Or.inl q1499, Or.inl rfl⟩
theorem ff_BoneYardModel_37 : ∀ t ∈ [5], 0 < t ∧ b_FF "BoneYardModel" 37 (t - 1) 16 (.array .int) := fa_1 ⟨by decide, (RX4, TX4, 82), "BoneYardModel", rfl, by decide, tyX4_ok 16 (by decide), Or.inl q1500, Or.inl rfl⟩
theorem ff_BoneYardModel_40 : ∀ t ∈ [5], 0 < t ∧ b_FF "BoneYardModel" 40 (t - 1) 17 (.array .int) := fa_1 ⟨by decide, (RX4, TX4, 82), "BoneYardModel", rfl, by decide, tyX4_ok 17 (by decide), Or.inl q1501, Or.inl rfl⟩
theorem ff_BoneYardModel_43 : ∀ t ∈ [5], 0 < t ∧ b_FF "BoneYardModel" 43 (t - 1) 18 (.array .int) := fa_1 ⟨by decide, (RX4, TX4, 82), "BoneYardModel", rfl, by decide, tyX4_ok 18 (by decide), Or.inl q1502, Or.inl rfl⟩
theorem ff_BoneYardModel_46 : ∀ t ∈ [5], 0 < t ∧ b_FF "BoneYardModel" 46 (t - 1) 19 (.array .int) := fa_1 ⟨by decide, (RX4, TX4, 82), "BoneYardModel", rfl, by decide, tyX4_ok 19 (by decide), Or.inl q1503, Or.inl rfl⟩
theorem ff_BoneYardModel_203 : ∀ t ∈ [5], 0 < t ∧ b_FF "BoneYardModel" 203 (t - 1) 8 .int := fa_1 ⟨by decide, (RX4, TX4, 82), "BoneYardModel", rfl, by decide, tyX4_ok 8 (by decide), Or.inl q1492, Or.inl rfl⟩
theorem ff_BoneYardModel_49 : ∀ t ∈ [5], 0 < t ∧ b_FF "BoneYardModel" 49 (t - 1) 20 (.array .int) := fa_1 ⟨by decide, (RX4, TX4, 82), "BoneYardModel", rfl, by decide, tyX4_ok 20 (by decide), Or.inl q1504, Or.inl rfl⟩
theorem ff_BoneYardModel_52 : ∀ t ∈ [5], 0 < t ∧ b_FF "BoneYardModel" 52 (t - 1) 21 (.array .int) := fa_1 ⟨by decide, (RX4, TX4, 82), "BoneYardModel", rfl, by decide, tyX4_ok 21 (by decide), Or.inl q1505, Or.inl rfl⟩
theorem ff_BoneYardModel_122 : ∀ t ∈ [5], 0 < t ∧ b_FF "BoneYardModel" 122 (t - 1) 45 (.array .boolean) := fa_1 ⟨by decide, (RX4, TX4, 82), "BoneYardModel", rfl, by decide, tyX4_ok 45 (by decide), Or.inl q1529, Or.inl rfl⟩
theorem ff_BoneYardModel_125 : ∀ t ∈ [5], 0 < t ∧ b_FF "BoneYardModel" 125 (t - 1) 46 (.array .boolean) := fa_1 ⟨by decide, (RX4, TX4, 82), "BoneYardModel", rfl, by decide, tyX4_ok 46 (by decide), Or.inl q1530, Or.inl rfl⟩
theorem ff_BoneYardModel_219 : ∀ t ∈ [5], 0 < t ∧ b_FF "BoneYardModel" 219 (t - 1) 12 .int := fa_1 ⟨by decide, (RX4, TX4, 82), "BoneYardModel", rfl, by decide, tyX4_ok 12 (by decide), Or.inl q1496, Or.inl rfl⟩
theorem ff_BoneYardModel_55 : ∀ t ∈ [5], 0 < t ∧ b_FF "BoneYardModel" 55 (t - 1) 22 (.array .int) := fa_1 ⟨by decide, (RX4, TX4, 82), "BoneYardModel", rfl, by decide, tyX4_ok 22 (by decide), Or.inl q1506, Or.inl rfl⟩
theorem ff_BoneYardModel_58 : ∀ t ∈ [5], 0 < t ∧ b_FF "BoneYardModel" 58 (t - 1) 23 (.array .int) := fa_1 ⟨by decide, (RX4, TX4, 82), "BoneYardModel", rfl, by decide, tyX4_ok 23 (by decide), Or.inl q1507, Or.inl rfl⟩
theorem ff_BoneYardModel_226 : ∀ t ∈ [5], 0 < t ∧ b_FF "BoneYardModel" 226 (t - 1) 13 .int := fa_1 ⟨by decide, (RX4, TX4, 82), "BoneYardModel", rfl, by decide, tyX4_ok 13 (by decide), Or.inl q1497, Or.inl rfl⟩
theorem ff_BoneYardModel_67 : ∀ t ∈ [5], 0 < t ∧ b_FF "BoneYardModel" 67 (t - 1) 26 (.array .int) := fa_1 ⟨by decide, (RX4, TX4, 82), "BoneYardModel", rfl, by decide, tyX4_ok 26 (by decide), Or.inl q1510, Or.inl rfl⟩
theorem ff_BoneYardModel_61 : ∀ t ∈ [5], 0 < t ∧ b_FF "BoneYardModel" 61 (t - 1) 24 (.array .int) := fa_1 ⟨by decide, (RX4, TX4, 82), "BoneYardModel", rfl, by decide, tyX4_ok 24 (by decide), Or.inl q1508, Or.inl rfl⟩
theorem ff_BoneYardModel_64 : ∀ t ∈ [5], 0 < t ∧ b_FF "BoneYardModel" 64 (t - 1) 25 (.array .int) := fa_1 ⟨by decide, (RX4, TX4, 82), "BoneYardModel", rfl, by decide, tyX4_ok 25 (by decide), Or.inl q1509, Or.inl rfl⟩
theorem ff_BoneYardModel_116 : ∀ t ∈ [5], 0 < t ∧ b_FF "BoneYardModel" 116 (t - 1) 43 (.array .int) := fa_1 ⟨by decide, (RX4, TX4, 82), "BoneYardModel", rfl, by decide, tyX4_ok 43 (by decide), Or.inl q1527, Or.inl rfl⟩
theorem ff_BoneYardModel_119 : ∀ t ∈ [5], 0 < t ∧ b_FF "BoneYardModel" 119 (t - 1) 44 (.array .int) := fa_1 ⟨by decide, (RX4, TX4, 82), "BoneYardModel", rfl, by decide, tyX4_ok 44 (by decide), Or.inl q1528, Or.inl rfl⟩
theorem ff_BoneYardModel_206 : ∀ t ∈ [5], 0 < t ∧ b_FF "BoneYardModel" 206 (t - 1) 9 .int := fa_1 ⟨by decide, (RX4, TX4, 82), "BoneYardModel", rfl, by decide, tyX4_ok 9 (by decide), Or.inl q1493, Or.inl rfl⟩
theorem ff_BoneYardModel_70 : ∀ t ∈ [5], 0 < t ∧ b_FF "BoneYardModel" 70 (t - 1) 27 (.array .int) := fa_1 ⟨by decide, (RX4, TX4, 82), "BoneYardModel", rfl, by decide, tyX4_ok 27 (by decide), Or.inl q1511, Or.inl rfl⟩
theorem ff_BoneYardModel_73 : ∀ t ∈ [5], 0 < t ∧ b_FF "BoneYardModel" 73 (t - 1) 28 (.array .int) := fa_1 ⟨by decide, (RX4, TX4, 82), "BoneYardModel", rfl, by decide, tyX4_ok 28 (by decide), Or.inl q1512, Or.inl rfl⟩
theorem ff_BoneYardModel_76 : ∀ t ∈ [5], 0 < t ∧ b_FF "BoneYardModel" 76 (t - 1) 29 (.array .int) := fa_1 ⟨by decide, (RX4, TX4, 82), "BoneYardModel", rfl, by decide, tyX4_ok 29 (by decide), Or.inl q1513, Or.inl rfl⟩
theorem ff_BoneYardModel_79 : ∀ t ∈ [5], 0 < t ∧ b_FF "BoneYardModel" 79 (t - 1) 30 (.array .int) := fa_1 ⟨by decide, (RX4, TX4, 82), "BoneYardModel", rfl, by decide, tyX4_ok 30 (by decide), Or.inl q1514, Or.inl rfl⟩
theorem ff_BoneYardModel_82 : ∀ t ∈ [5], 0 < t ∧ b_FF "BoneYardModel" 82 (t - 1) 31 (.array .int) := fa_1 ⟨by decide, (RX4, TX4, 82), "BoneYardModel", rfl, by decide, tyX4_ok 31 (by decide), Or.inl q1515, Or.inl rfl⟩
theorem ff_BoneYardModel_85 : ∀ t ∈ [5], 0 < t ∧ b_FF "BoneYardModel" 85 (t - 1) 32 (.array .boolean) := fa_1 ⟨by decide, (RX4, TX4, 82), "BoneYardModel", rfl, by decide, tyX4_ok 32 (by decide), Or.inl q1516, Or.inl rfl⟩
theorem ff_BoneYardModel_209 : ∀ t ∈ [5], 0 < t ∧ b_FF "BoneYardModel" 209 (t - 1) 10 .int := fa_1 ⟨by decide, (RX4, TX4, 82), "BoneYardModel", rfl, by decide, tyX4_ok 10 (by decide), Or.inl q1494, Or.inl rfl⟩
theorem ff_BoneYardModel_94 : ∀ t ∈ [5], 0 < t ∧ b_FF "BoneYardModel" 94 (t - 1) 35 (.array .int) := fa_1 ⟨by decide, (RX4, TX4, 82), "BoneYardModel", rfl, by decide, tyX4_ok 35 (by decide), Or.inl q1519, Or.inl rfl⟩
theorem ff_BoneYardModel_385 : ∀ t ∈ [5], 0 < t ∧ b_FF "BoneYardModel" 385 (t - 1) 60 .int := fa_1 ⟨by decide, (RX4, TX4, 82), "BoneYardModel", rfl, by decide, tyX4_ok 60 (by decide), Or.inl q1544, Or.inl rfl⟩
theorem ff_BoneYardModel_97 : ∀ t ∈ [5], 0 < t ∧ b_FF "BoneYardModel" 97 (t - 1) 36 (.array .int) := fa_1 ⟨by decide, (RX4, TX4, 82), "BoneYardModel", rfl, by decide, tyX4_ok 36 (by decide), Or.inl q1520, Or.inl rfl⟩
theorem ff_BoneYardModel_394 : ∀ t ∈ [5], 0 < t ∧ b_FF "BoneYardModel" 394 (t - 1) 61 .int := fa_1 ⟨by decide, (RX4, TX4, 82), "BoneYardModel", rfl, by decide, tyX4_ok 61 (by decide), Or.inl q1545, Or.inl rfl⟩
theorem ff_BoneYardModel_113 : ∀ t ∈ [5], 0 < t ∧ b_FF "BoneYardModel" 113 (t - 1) 42 (.array .int) := fa_1 ⟨by decide, (RX4, TX4, 82), "BoneYardModel", rfl, by decide, tyX4_ok 42 (by decide), Or.inl q1526, Or.inl rfl⟩
theorem ff_BoneYardModel_286 : ∀ t ∈ [5], 0 < t ∧ b_FF "BoneYardModel" 286 (t - 1) 51 .int := fa_1 ⟨by decide, (RX4, TX4, 82), "BoneYardModel", rfl, by decide, tyX4_ok 51 (by decide), Or.inl q1535, Or.inl rfl⟩
theorem ff_BoneYardModel_301 : ∀ t ∈ [5], 0 < t ∧ b_FF "BoneYardModel" 301 (t - 1) 55 .int := fa_1 ⟨by decide, (RX4, TX4, 82), "BoneYardModel", rfl, by decide, tyX4_ok 55 (by decide), Or.inl q1539, Or.inl rfl⟩
theorem ff_BoneYardModel_381 : ∀ t ∈ [5], 0 < t ∧ b_FF "BoneYardModel" 381 (t - 1) 65 .int := fa_1 ⟨by decide, (RX4, TX4, 82), "BoneYardModel", rfl, by decide, tyX4_ok 65 (by decide), Or.inl q1549, Or.inl rfl⟩
theorem ff_BoneYardModel_388 : ∀ t ∈ [5], 0 < t ∧ b_FF "BoneYardModel" 388 (t - 1) 54 .int := fa_1 ⟨by decide, (RX4, TX4, 82), "BoneYardModel", rfl, by decide, tyX4_ok 54 (by decide), Or.inl q1538, Or.inl rfl⟩
theorem ff_BoneYardModel_134 : ∀ t ∈ [5], 0 < t ∧ b_FF "BoneYardModel" 134 (t - 1) 64 (.array .int) := fa_1 ⟨by decide, (RX4, TX4, 82), "BoneYardModel", rfl, by decide, tyX4_ok 64 (by decide), Or.inl q1548, Or.inl rfl⟩
theorem ff_BoneYardModel_131 : ∀ t ∈ [5], 0 < t ∧ b_FF "BoneYardModel" 131 (t - 1) 63 (.array .int) := fa_1 ⟨by decide, (RX4, TX4, 82), "BoneYardModel", rfl, by decide, tyX4_ok 63 (by decide), Or.inl q1547, Or.inl rfl⟩
theorem ff_BoneYardModel_128 : ∀ t ∈ [5], 0 < t ∧ b_FF "BoneYardModel" 128 (t - 1) 62 (.array .int) := fa_1 ⟨by decide, (RX4, TX4, 82), "BoneYardModel", rfl, by decide, tyX4_ok 62 (by decide), Or.inl q1546, Or.inl rfl⟩
theorem ff_BoneYardModel_276 : ∀ t ∈ [5], 0 < t ∧ b_FF "BoneYardModel" 276 (t - 1) 49 .int := fa_1 ⟨by decide, (RX4, TX4, 82), "BoneYardModel", rfl, by decide, tyX4_ok 49 (by decide), Or.inl q1533, Or.inl rfl⟩
theorem ff_BoneYardModel_270 : ∀ t ∈ [5], 0 < t ∧ b_FF "BoneYardModel" 270 (t - 1) 48 .int := fa_1 ⟨by decide, (RX4, TX4, 82), "BoneYardModel", rfl, by decide, tyX4_ok 48 (by decide), Or.inl q1532, Or.inl rfl⟩
theorem ff_BoneYardModel_295 : ∀ t ∈ [5], 0 < t ∧ b_FF "BoneYardModel" 295 (t - 1) 52 .int := fa_1 ⟨by decide, (RX4, TX4, 82), "BoneYardModel", rfl, by decide, tyX4_ok 52 (by decide), Or.inl q1536, Or.inl rfl⟩
theorem ff_BoneYardModel_110 : ∀ t ∈ [5], 0 < t ∧ b_FF "BoneYardModel" 110 (t - 1) 41 (.array .byte) := fa_1 ⟨by decide, (RX4, TX4, 82), "BoneYardModel", rfl, by decide, tyX4_ok 41 (by decide), Or.inl q1525, Or.inl rfl⟩
theorem ff_BoneYardModel_273 : ∀ t ∈ [5], 0 < t ∧ b_FF "BoneYardModel" 273 (t - 1) 47 .int := fa_1 ⟨by decide, (RX4, TX4, 82), "BoneYardModel", rfl, by decide, tyX4_ok 47 (by decide), Or.inl q1531, Or.inl rfl⟩
theorem ff_BoneYardModel_378 : ∀ t ∈ [5], 0 < t ∧ b_FF "BoneYardModel" 378 (t - 1) 58 .int := fa_1 ⟨by decide, (RX4, TX4, 82), "BoneYardModel", rfl, by decide, tyX4_ok 58 (by decide), Or.inl q1542, Or.inl rfl⟩
theorem ff_BoneYardModel_373 : ∀ t ∈ [5], 0 < t ∧ b_FF "BoneYardModel" 373 (t - 1) 59 .int := fa_1 ⟨by decide, (RX4, TX4, 82), "BoneYardModel", rfl, by decide, tyX4_ok 59 (by decide), Or.inl q1543, Or.inl rfl⟩
theorem ff_BoneYardModel_283 : ∀ t ∈ [5], 0 < t ∧ b_FF "BoneYardModel" 283 (t - 1) 50 .int := fa_1 ⟨by decide, (RX4, TX4, 82), "BoneYardModel", rfl, by decide, tyX4_ok 50 (by decide), Or.inl q1534, Or.inl rfl⟩
theorem ff_BoneYardModel_331 : ∀ t ∈ [5], 0 < t ∧ b_FF "BoneYardModel" 331 (t - 1) 53 .int := fa_1 ⟨by decide, (RX4, TX4, 82), "BoneYardModel", rfl, by decide, tyX4_ok 53 (by decide), Or.inl q1537, Or.inl rfl⟩
theorem ff_BoneYardModel_341 : ∀ t ∈ [5], 0 < t ∧ b_FF "BoneYardModel" 341 (t - 1) 57 .int := fa_1 ⟨by decide, (RX4, TX4, 82), "BoneYardModel", rfl, by decide, tyX4_ok 57 (by decide), Or.inl q1541, Or.inl rfl⟩
theorem ff_BoneYardModel_267 : ∀ t ∈ [5], 0 < t ∧ b_FF "BoneYardModel" 267 (t - 1) 38 .int := fa_1 ⟨by decide, (RX4, TX4, 82), "BoneYardModel", rfl, by decide, tyX4_ok 38 (by decide), Or.inl q1522, Or.inl rfl⟩
theorem ff_BoneYardModel_100 : ∀ t ∈ [5], 0 < t ∧ b_FF "BoneYardModel" 100 (t - 1) 37 (.array .byte) := fa_1 ⟨by decide, (RX4, TX4, 82), "BoneYardModel", rfl, by decide, tyX4_ok 37 (by decide), Or.inl q1521, Or.inl rfl⟩
theorem ff_BoneYardModel_304 : ∀ t ∈ [5], 0 < t ∧ b_FF "BoneYardModel" 304 (t - 1) 56 .int := fa_1 ⟨by decide, (RX4, TX4, 82), "BoneYardModel", rfl, by decide, tyX4_ok 56 (by decide), Or.inl q1540, Or.inl rfl⟩
theorem ff_BoneYardModel_104 : ∀ t ∈ [5], 0 < t ∧ b_FF "BoneYardModel" 104 (t - 1) 39 .int := fa_1 ⟨by decide, (RX4, TX4, 82), "BoneYardModel", rfl, by decide, tyX4_ok 39 (by decide), Or.inl q1523, Or.inl rfl⟩
theorem ff_BoneYardModel_107 : ∀ t ∈ [5], 0 < t ∧ b_FF "BoneYardModel" 107 (t - 1) 40 .int := fa_1 ⟨by decide, (RX4, TX4, 82), "BoneYardModel", rfl, by decide, tyX4_ok 40 (by decide), Or.inl q1524, Or.inl rfl⟩
theorem ff_BoneYardModel_143 : ∀ t ∈ [5], 0 < t ∧ b_FF "BoneYardModel" 143 (t - 1) 68 (.array .int) := fa_1 ⟨by decide, (RX4, TX4, 82), "BoneYardModel", rfl, by decide, tyX4_ok 68 (by decide), Or.inl q1552, Or.inl rfl⟩
theorem ff_BoneYardModel_430 : ∀ t ∈ [5], 0 < t ∧ b_FF "BoneYardModel" 430 (t - 1) 70 .int := fa_1 ⟨by decide, (RX4, TX4, 82), "BoneYardModel", rfl, by decide, tyX4_ok 70 (by decide), Or.inl q1554, Or.inl rfl⟩
theorem ff_BoneYardModel_140 : ∀ t ∈ [5], 0 < t ∧ b_FF "BoneYardModel" 140 (t - 1) 67 (.array .int) := fa_1 ⟨by decide, (RX4, TX4, 82), "BoneYardModel", rfl, by decide, tyX4_ok 67 (by decide), Or.inl q1551, Or.inl rfl⟩
theorem ff_BoneYardModel_146 : ∀ t ∈ [5], 0 < t ∧ b_FF "BoneYardModel" 146 (t - 1) 69 (.array .boolean) := fa_1 ⟨by decide, (RX4, TX4, 82), "BoneYardModel", rfl, by decide, tyX4_ok 69 (by decide), Or.inl q1553, Or.inl rfl⟩
theorem ff_BoneYardModel_23 : ∀ t ∈ [5], 0 < t ∧ b_FF "BoneYardModel" 23 (t - 1) 5 .int := fa_1 ⟨by decide, (RX4, TX4, 82), "BoneYardModel", rfl, by decide, tyX4_ok 5 (by decide), Or.inl q1489, Or.inl rfl⟩
theorem ff_BoneYardModel_149 : ∀ t ∈ [5], 0 < t ∧ b_FF "BoneYardModel" 149 (t - 1) 71 (.array .int) := fa_1 ⟨by decide, (RX4, TX4, 82), "BoneYardModel", rfl, by decide, tyX4_ok 71 (by decide), Or.inl q1555, Or.inl rfl⟩
theorem ff_BoneYardModel_465 : ∀ t ∈ [5], 0 < t ∧ b_FF "BoneYardModel" 465 (t - 1) 72 .int := fa_1 ⟨by decide, (RX4, TX4, 82), "BoneYardModel", rfl, by decide, tyX4_ok 72 (by decide), Or.inl q1556, Or.inl rfl⟩
theorem ff_BoneYardModel_468 : ∀ t ∈ [5], 0 < t ∧ b_FF "BoneYardModel" 468 (t - 1) 73 .int := fa_1 ⟨by decide, (RX4, TX4, 82), "BoneYardModel", rfl, by decide, tyX4_ok 73 (by decide), Or.inl q1557, Or.inl rfl⟩
theorem ff_BoneYardModel_88 : ∀ t ∈ [5], 0 < t ∧ b_FF "BoneYardModel" 88 (t - 1) 33 (.array .int) := fa_1 ⟨by decide, (RX4, TX4, 82), "BoneYardModel", rfl, by decide, tyX4_ok 33 (by decide), Or.inl q1517, Or.inl rfl⟩
theorem ff_BoneYardModel_477 : ∀ t ∈ [5], 0 < t ∧ b_FF "BoneYardModel" 477 (t - 1) 11 .int := fa_1 ⟨by decide, (RX4, TX4, 82), "BoneYardModel", rfl, by decide, tyX4_ok 11 (by decide), Or.inl q1495, Or.inl rfl⟩
theorem ff_BoneYardModel_91 : ∀ t ∈ [5], 0 < t ∧ b_FF "BoneYardModel" 91 (t - 1) 34 (.array .int) := fa_1 ⟨by decide, (RX4, TX4, 82), "BoneYardModel", rfl, by decide, tyX4_ok 34 (by decide), Or.inl q1518, Or.inl rfl⟩
theorem ff_BoneYardModel_480 : ∀ t ∈ [5], 0 < t ∧ b_FF "BoneYardModel" 480 (t - 1) 75 .int := fa_1 ⟨by decide, (RX4, TX4, 82), "BoneYardModel", rfl, by decide, tyX4_ok 75 (by decide), Or.inl q1559, Or.inl rfl⟩
theorem ff_BoneYardModel_152 : ∀ t ∈ [5], 0 < t ∧ b_FF "BoneYardModel" 152 (t - 1) 74 (.array .int) := fa_1 ⟨by decide, (RX4, TX4, 82), "BoneYardModel", rfl, by decide, tyX4_ok 74 (by decide), Or.inl q1558, Or.inl rfl⟩
theorem ff_BoneYardModel_155 : ∀ t ∈ [5], 0 < t ∧ b_FF "BoneYardModel" 155 (t - 1) 76 (.array .int) := fa_1 ⟨by decide, (RX4, TX4, 82), "BoneYardModel", rfl, by decide, tyX4_ok 76 (by decide), Or.inl q1560, Or.inl rfl⟩
theorem ff_BoneYardModel_158 : ∀ t ∈ [5], 0 < t ∧ b_FF "BoneYardModel" 158 (t - 1) 77 (.array .int) := fa_1 ⟨by decide, (RX4, TX4, 82), "BoneYardModel", rfl, by decide, tyX4_ok 77 (by decide), Or.inl q1561, Or.inl rfl⟩
theorem ff_BoneYardModel_161 : ∀ t ∈ [5], 0 < t ∧ b_FF "BoneYardModel" 161 (t - 1) 78 (.array .int) := fa_1 ⟨by decide, (RX4, TX4, 82), "BoneYardModel", rfl, by decide, tyX4_ok 78 (by decide), Or.inl q1562, Or.inl rfl⟩
theorem ff_BoneYardModel_27 : ∀ t ∈ [5], 0 < t ∧ b_FF "BoneYardModel" 27 (t - 1) 6 .int := fa_1 ⟨by decide, (RX4, TX4, 82), "BoneYardModel", rfl, by decide, tyX4_ok 6 (by decide), Or.inl q1490, Or.inl rfl⟩
theorem ff_BoneYardModel_164 : ∀ t ∈ [5], 0 < t ∧ b_FF "BoneYardModel" 164 (t - 1) 79 (.array .int) := fa_1 ⟨by decide, (RX4, TX4, 82), "BoneYardModel", rfl, by decide, tyX4_ok 79 (by decide), Or.inl q1563, Or.inl rfl⟩
theorem ff_BoneYardModel_167 : ∀ t ∈ [5], 0 < t ∧ b_FF "BoneYardModel" 167 (t - 1) 80 (.array .int) := fa_1 ⟨by decide, (RX4, TX4, 82), "BoneYardModel", rfl, by decide, tyX4_ok 80 (by decide), Or.inl q1564, Or.inl rfl⟩
theorem ff_BoneYardModel_170 : ∀ t ∈ [5], 0 < t ∧ b_FF "BoneYardModel" 170 (t - 1) 81 (.array .long) := fa_1 ⟨by decide, (RX4, TX4, 82), "BoneYardModel", rfl, by decide, tyX4_ok 81 (by decide), Or.inl q1565, Or.inl rfl⟩
theorem ff_BoneYard_13 : ∀ t ∈ [1], 0 < t ∧ b_FF "BoneYard" 13 (t - 1) 0 (.array (.object "BoneYard$Row")) := fa_1 ⟨by decide, (RX0, TX0, 41), "BoneYard", rfl, by decide, tyX0_ok 0 (by decide), Or.inl q464, Or.inl rfl⟩
theorem ff_BoneYard_23 : ∀ t ∈ [4], 0 < t ∧ b_FF "BoneYard" 23 (t - 1) 0 (.object "java/lang/Object") := fa_1 ⟨by decide, (RX3, TX3, 1), "BoneYard$Row", rfl, by decide, tyX3_ok 0 (by decide), Or.inr ⟨_, q460⟩, Or.inl rfl⟩
theorem ff_BoneYard_150 : ∀ t ∈ [1], 0 < t ∧ b_FF "BoneYard" 150 (t - 1) 6 .int := fa_1 ⟨by decide, (RX0, TX0, 41), "BoneYard", rfl, by decide, tyX0_ok 6 (by decide), Or.inl q470, Or.inl rfl⟩
theorem ff_BoneYard_51 : ∀ t ∈ [1], 0 < t ∧ b_FF "BoneYard" 51 (t - 1) 1 (.array (.object "BoneYard$Element")) := fa_1 ⟨by decide, (RX0, TX0, 41), "BoneYard", rfl, by decide, tyX0_ok 1 (by decide), Or.inl q465, Or.inl rfl⟩
theorem ff_BoneYard_61 : ∀ t ∈ [1], 0 < t ∧ b_FF "BoneYard" 61 (t - 1) 3 (.array .int) := fa_1 ⟨by decide, (RX0, TX0, 41), "BoneYard", rfl, by decide, tyX0_ok 3 (by decide), Or.inl q467, Or.inl rfl⟩
theorem ff_BoneYard_156 : ∀ t ∈ [1], 0 < t ∧ b_FF "BoneYard" 156 (t - 1) 7 .int := fa_1 ⟨by decide, (RX0, TX0, 41), "BoneYard", rfl, by decide, tyX0_ok 7 (by decide), Or.inl q472, Or.inl rfl⟩
theorem ff_BoneYard_195 : ∀ t ∈ [7], 0 < t ∧ b_FF "BoneYard" 195 (t - 1) 6 (.array .int) := fa_1 ⟨by decide, (RX6, TX6, 7), "BoneYard$Bone", rfl, by decide, tyX6_ok 6 (by decide), Or.inr ⟨_, q678⟩, Or.inl rfl⟩
theorem ff_BoneYard_57 : ∀ t ∈ [1], 0 < t ∧ b_FF "BoneYard" 57 (t - 1) 2 (.array (.object "BoneYard$Bone")) := fa_1 ⟨by decide, (RX0, TX0, 41), "BoneYard", rfl, by decide, tyX0_ok 2 (by decide), Or.inl q466, Or.inl rfl⟩
theorem ff_BoneYard_153 : ∀ t ∈ [1], 0 < t ∧ b_FF "BoneYard" 153 (t - 1) 8 .int := fa_1 ⟨by decide, (RX0, TX0, 41), "BoneYard", rfl, by decide, tyX0_ok 8 (by decide), Or.inl q473, Or.inl rfl⟩
theorem ff_BoneYard_65 : ∀ t ∈ [1], 0 < t ∧ b_FF "BoneYard" 65 (t - 1) 4 (.array .int) := fa_1 ⟨by decide, (RX0, TX0, 41), "BoneYard", rfl, by decide, tyX0_ok 4 (by decide), Or.inl q468, Or.inl rfl⟩
theorem ff_BoneYard_68 : ∀ t ∈ [1], 0 < t ∧ b_FF "BoneYard" 68 (t - 1) 5 (.array .int) := fa_1 ⟨by decide, (RX0, TX0, 41), "BoneYard", rfl, by decide, tyX0_ok 5 (by decide), Or.inl q469, Or.inl rfl⟩
theorem ff_BoneYard_92 : ∀ t ∈ [1], 0 < t ∧ b_FF "BoneYard" 92 (t - 1) 18 (.array (.array .boolean)) := fa_1 ⟨by decide, (RX0, TX0, 41), "BoneYard", rfl, by decide, tyX0_ok 18 (by decide), Or.inl q483, Or.inl rfl⟩
theorem ff_BoneYard_215 : ∀ t ∈ [1], 0 < t ∧ b_FF "BoneYard" 215 (t - 1) 14 .int := fa_1 ⟨by decide, (RX0, TX0, 41), "BoneYard", rfl, by decide, tyX0_ok 14 (by decide), Or.inl q479, Or.inl rfl⟩
theorem ff_BoneYard_200 : ∀ t ∈ [1], 0 < t ∧ b_FF "BoneYard" 200 (t - 1) 13 .int := fa_1 ⟨by decide, (RX0, TX0, 41), "BoneYard", rfl, by decide, tyX0_ok 13 (by decide), Or.inl q478, Or.inl rfl⟩
theorem ff_BoneYard_78 : ∀ t ∈ [1], 0 < t ∧ b_FF "BoneYard" 78 (t - 1) 11 (.array .int) := fa_1 ⟨by decide, (RX0, TX0, 41), "BoneYard", rfl, by decide, tyX0_ok 11 (by decide), Or.inl q476, Or.inl rfl⟩
theorem ff_BoneYard_81 : ∀ t ∈ [1], 0 < t ∧ b_FF "BoneYard" 81 (t - 1) 12 (.array .int) := fa_1 ⟨by decide, (RX0, TX0, 41), "BoneYard", rfl, by decide, tyX0_ok 12 (by decide), Or.inl q477, Or.inl rfl⟩
theorem ff_BoneYard_84 : ∀ t ∈ [1], 0 < t ∧ b_FF "BoneYard" 84 (t - 1) 16 (.array .int) := fa_1 ⟨by decide, (RX0, TX0, 41), "BoneYard", rfl, by decide, tyX0_ok 16 (by decide), Or.inl q481, Or.inl rfl⟩
theorem ff_BoneYard_87 : ∀ t ∈ [1], 0 < t ∧ b_FF "BoneYard" 87 (t - 1) 17 (.array .int) := fa_1 ⟨by decide, (RX0, TX0, 41), "BoneYard", rfl, by decide, tyX0_ok 17 (by decide), Or.inl q482, Or.inl rfl⟩
theorem ff_BoneYard_229 : ∀ t ∈ [7], 0 < t ∧ b_FF "BoneYard" 229 (t - 1) 0 .int := fa_1 ⟨by decide, (RX6, TX6, 7), "BoneYard$Bone", rfl, by decide, tyX6_ok 0 (by decide), Or.inr ⟨_, q666⟩, Or.inl rfl⟩
theorem ff_BoneYard_232 : ∀ t ∈ [1], 0 < t ∧ b_FF "BoneYard" 232 (t - 1) 15 .int := fa_1 ⟨by decide, (RX0, TX0, 41), "BoneYard", rfl, by decide, tyX0_ok 15 (by decide), Or.inl q480, Or.inl rfl⟩
theorem ff_BoneYard_238 : ∀ t ∈ [1], 0 < t ∧ b_FF "BoneYard" 238 (t - 1) 20 .int := fa_1 ⟨by decide, (RX0, TX0, 41), "BoneYard", rfl, by decide, tyX0_ok 20 (by decide), Or.inl q485, Or.inl rfl⟩
theorem ff_BoneYard_95 : ∀ t ∈ [1], 0 < t ∧ b_FF "BoneYard" 95 (t - 1) 19 (.array .byte) := fa_1 ⟨by decide, (RX0, TX0, 41), "BoneYard", rfl, by decide, tyX0_ok 19 (by decide), Or.inl q484, Or.inl rfl⟩
theorem ff_BoneYard_244 : ∀ t ∈ [1], 0 < t ∧ b_FF "BoneYard" 244 (t - 1) 23 .int := fa_1 ⟨by decide, (RX0, TX0, 41), "BoneYard", rfl, by decide, tyX0_ok 23 (by decide), Or.inl q488, Or.inl rfl⟩
theorem ff_BoneYard_113 : ∀ t ∈ [1], 0 < t ∧ b_FF "BoneYard" 113 (t - 1) 26 (.array (.object "BoneYard$Key")) := fa_1 ⟨by decide, (RX0, TX0, 41), "BoneYard", rfl, by decide, tyX0_ok 26 (by decide), Or.inl q491, Or.inl rfl⟩
theorem ff_BoneYard_107 : ∀ t ∈ [1], 0 < t ∧ b_FF "BoneYard" 107 (t - 1) 25 (.object "BoneYard$Reader") := fa_1 ⟨by decide, (RX0, TX0, 41), "BoneYard", rfl, by decide, tyX0_ok 25 (by decide), Or.inl q490, Or.inl rfl⟩
theorem ff_BoneYard_260 : ∀ t ∈ [3], 0 < t ∧ b_FF "BoneYard" 260 (t - 1) 6 .int := fa_1 ⟨by decide, (RX2, TX2, 8), "BoneYard$Wrong", rfl, by decide, tyX2_ok 6 (by decide), Or.inr ⟨_, q410⟩, Or.inl rfl⟩
theorem ff_BoneYard_263 : ∀ t ∈ [3], 0 < t ∧ b_FF "BoneYard" 263 (t - 1) 7 .int := fa_1 ⟨by decide, (RX2, TX2, 8), "BoneYard$Wrong", rfl, by decide, tyX2_ok 7 (by decide), Or.inr ⟨_, q412⟩, Or.inl rfl⟩
theorem ff_BoneYard_247 : ∀ t ∈ [1], 0 < t ∧ b_FF "BoneYard" 247 (t - 1) 24 .boolean := fa_1 ⟨by decide, (RX0, TX0, 41), "BoneYard", rfl, by decide, tyX0_ok 24 (by decide), Or.inl q489, Or.inl rfl⟩
theorem ff_BoneYard_251 : ∀ t ∈ [1], 0 < t ∧ b_FF "BoneYard" 251 (t - 1) 21 .int := fa_1 ⟨by decide, (RX0, TX0, 41), "BoneYard", rfl, by decide, tyX0_ok 21 (by decide), Or.inl q486, Or.inl rfl⟩
theorem ff_BoneYard_99 : ∀ t ∈ [1], 0 < t ∧ b_FF "BoneYard" 99 (t - 1) 22 .int := fa_1 ⟨by decide, (RX0, TX0, 41), "BoneYard", rfl, by decide, tyX0_ok 22 (by decide), Or.inl q487, Or.inl rfl⟩
theorem ff_BoneYard_117 : ∀ t ∈ [1], 0 < t ∧ b_FF "BoneYard" 117 (t - 1) 27 (.array .int) := fa_1 ⟨by decide, (RX0, TX0, 41), "BoneYard", rfl, by decide, tyX0_ok 27 (by decide), Or.inl q492, Or.inl rfl⟩
theorem ff_BoneYard_120 : ∀ t ∈ [1], 0 < t ∧ b_FF "BoneYard" 120 (t - 1) 28 (.array .int) := fa_1 ⟨by decide, (RX0, TX0, 41), "BoneYard", rfl, by decide, tyX0_ok 28 (by decide), Or.inl q493, Or.inl rfl⟩
theorem ff_BoneYard_288 : ∀ t ∈ [6], 0 < t ∧ b_FF "BoneYard" 288 (t - 1) 0 .boolean := fa_1 ⟨by decide, (RX5, TX5, 5), "BoneYard$Element", rfl, by decide, tyX5_ok 0 (by decide), Or.inr ⟨_, q607⟩, Or.inl rfl⟩
theorem ff_BoneYard_278 : ∀ t ∈ [7], 0 < t ∧ b_FF "BoneYard" 278 (t - 1) 2 .int := fa_1 ⟨by decide, (RX6, TX6, 7), "BoneYard$Bone", rfl, by decide, tyX6_ok 2 (by decide), Or.inr ⟨_, q670⟩, Or.inl rfl⟩
theorem ff_BoneYard_281 : ∀ t ∈ [7], 0 < t ∧ b_FF "BoneYard" 281 (t - 1) 1 .int := fa_1 ⟨by decide, (RX6, TX6, 7), "BoneYard$Bone", rfl, by decide, tyX6_ok 1 (by decide), Or.inr ⟨_, q668⟩, Or.inl rfl⟩
theorem ff_BoneYard_301 : ∀ t ∈ [1], 0 < t ∧ b_FF "BoneYard" 301 (t - 1) 31 .int := fa_1 ⟨by decide, (RX0, TX0, 41), "BoneYard", rfl, by decide, tyX0_ok 31 (by decide), Or.inl q496, Or.inl rfl⟩
theorem ff_BoneYard_126 : ∀ t ∈ [1], 0 < t ∧ b_FF "BoneYard" 126 (t - 1) 30 (.array .int) := fa_1 ⟨by decide, (RX0, TX0, 41), "BoneYard", rfl, by decide, tyX0_ok 30 (by decide), Or.inl q495, Or.inl rfl⟩
theorem ff_BoneYard_71 : ∀ t ∈ [1], 0 < t ∧ b_FF "BoneYard" 71 (t - 1) 9 .int := fa_1 ⟨by decide, (RX0, TX0, 41), "BoneYard", rfl, by decide, tyX0_ok 9 (by decide), Or.inl q474, Or.inl rfl⟩
theorem ff_BoneYard_298 : ∀ t ∈ [7], 0 < t ∧ b_FF "BoneYard" 298 (t - 1) 3 .int := fa_1 ⟨by decide, (RX6, TX6, 7), "BoneYard$Bone", rfl, by decide, tyX6_ok 3 (by decide), Or.inr ⟨_, q672⟩, Or.inl rfl⟩
theorem ff_BoneYard_123 : ∀ t ∈ [1], 0 < t ∧ b_FF "BoneYard" 123 (t - 1) 29 (.array .int) := fa_1 ⟨by decide, (RX0, TX0, 41), "BoneYard", rfl, by decide, tyX0_ok 29 (by decide), Or.inl q494, Or.inl rfl⟩
theorem ff_BoneYard_341 : ∀ t ∈ [1], 0 < t ∧ b_FF "BoneYard" 341 (t - 1) 32 .int := fa_1 ⟨by decide, (RX0, TX0, 41), "BoneYard", rfl, by decide, tyX0_ok 32 (by decide), Or.inl q497, Or.inl rfl⟩
theorem ff_BoneYard_350 : ∀ t ∈ [6], 0 < t ∧ b_FF "BoneYard" 350 (t - 1) 1 .int := fa_1 ⟨by decide, (RX5, TX5, 5), "BoneYard$Element", rfl, by decide, tyX5_ok 1 (by decide), Or.inr ⟨_, q609⟩, Or.inl rfl⟩
theorem ff_BoneYard_353 : ∀ t ∈ [6], 0 < t ∧ b_FF "BoneYard" 353 (t - 1) 2 .int := fa_1 ⟨by decide, (RX5, TX5, 5), "BoneYard$Element", rfl, by decide, tyX5_ok 2 (by decide), Or.inr ⟨_, q611⟩, Or.inl rfl⟩
theorem ff_BoneYard_75 : ∀ t ∈ [1], 0 < t ∧ b_FF "BoneYard" 75 (t - 1) 10 .int := fa_1 ⟨by decide, (RX0, TX0, 41), "BoneYard", rfl, by decide, tyX0_ok 10 (by decide), Or.inl q475, Or.inl rfl⟩
theorem ff_BoneYard_356 : ∀ t ∈ [6], 0 < t ∧ b_FF "BoneYard" 356 (t - 1) 3 .int := fa_1 ⟨by decide, (RX5, TX5, 5), "BoneYard$Element", rfl, by decide, tyX5_ok 3 (by decide), Or.inr ⟨_, q613⟩, Or.inl rfl⟩
theorem ff_BoneYard_359 : ∀ t ∈ [7], 0 < t ∧ b_FF "BoneYard" 359 (t - 1) 4 .int := fa_1 ⟨by decide, (RX6, TX6, 7), "BoneYard$Bone", rfl, by decide, tyX6_ok 4 (by decide), Or.inr ⟨_, q674⟩, Or.inl rfl⟩
theorem ff_BoneYard_362 : ∀ t ∈ [6], 0 < t ∧ b_FF "BoneYard" 362 (t - 1) 4 .int := fa_1 ⟨by decide, (RX5, TX5, 5), "BoneYard$Element", rfl, by decide, tyX5_ok 4 (by decide), Or.inr ⟨_, q615⟩, Or.inl rfl⟩
theorem ff_BoneYard_129 : ∀ t ∈ [1], 0 < t ∧ b_FF "BoneYard" 129 (t - 1) 33 (.array .int) := fa_1 ⟨by decide, (RX0, TX0, 41), "BoneYard", rfl, by decide, tyX0_ok 33 (by decide), Or.inl q498, Or.inl rfl⟩
theorem ff_BoneYard_372 : ∀ t ∈ [1], 0 < t ∧ b_FF "BoneYard" 372 (t - 1) 36 .int := fa_1 ⟨by decide, (RX0, TX0, 41), "BoneYard", rfl, by decide, tyX0_ok 36 (by decide), Or.inl q501, Or.inl rfl⟩
theorem ff_BoneYard_132 : ∀ t ∈ [1], 0 < t ∧ b_FF "BoneYard" 132 (t - 1) 34 (.array .int) := fa_1 ⟨by decide, (RX0, TX0, 41), "BoneYard", rfl, by decide, tyX0_ok 34 (by decide), Or.inl q499, Or.inl rfl⟩
theorem ff_BoneYard_135 : ∀ t ∈ [1], 0 < t ∧ b_FF "BoneYard" 135 (t - 1) 35 (.array .int) := fa_1 ⟨by decide, (RX0, TX0, 41), "BoneYard", rfl, by decide, tyX0_ok 35 (by decide), Or.inl q500, Or.inl rfl⟩
theorem ff_BoneYard_385 : ∀ t ∈ [1], 0 < t ∧ b_FF "BoneYard" 385 (t - 1) 38 .int := fa_1 ⟨by decide, (RX0, TX0, 41), "BoneYard", rfl, by decide, tyX0_ok 38 (by decide), Or.inl q503, Or.inl rfl⟩
theorem ff_BoneYard_140 : ∀ t ∈ [1], 0 < t ∧ b_FF "BoneYard" 140 (t - 1) 37 (.array (.array .int)) := fa_1 ⟨by decide, (RX0, TX0, 41), "BoneYard", rfl, by decide, tyX0_ok 37 (by decide), Or.inl q502, Or.inl rfl⟩
theorem ff_BoneYard_143 : ∀ t ∈ [1], 0 < t ∧ b_FF "BoneYard" 143 (t - 1) 39 (.array (.array .int)) := fa_1 ⟨by decide, (RX0, TX0, 41), "BoneYard", rfl, by decide, tyX0_ok 39 (by decide), Or.inl q504, Or.inl rfl⟩
theorem ff_BoneYard_146 : ∀ t ∈ [1], 0 < t ∧ b_FF "BoneYard" 146 (t - 1) 40 (.array .int) := fa_1 ⟨by decide, (RX0, TX0, 41), "BoneYard", rfl, by decide, tyX0_ok 40 (by decide), Or.inl q505, Or.inl rfl⟩
theorem ff_BoneYard_415 : ∀ t ∈ [7], 0 < t ∧ b_FF "BoneYard" 415 (t - 1) 5 .boolean := fa_1 ⟨by decide, (RX6, TX6, 7), "BoneYard$Bone", rfl, by decide, tyX6_ok 5 (by decide), Or.inr ⟨_, q676⟩, Or.inl rfl⟩
theorem ff_BoneYard_Reader_105 : ∀ t ∈ [2], 0 < t ∧ b_FF "BoneYard$Reader" 105 (t - 1) 6 .int := fa_1 ⟨by decide, (RX1, TX1, 10), "BoneYard$Reader", rfl, by decide, tyX1_ok 6 (by decide), Or.inl q426, Or.inl rfl⟩
theorem ff_BoneYard_Reader_228 : ∀ t ∈ [8], 0 < t ∧ b_FF "BoneYard$Reader" 228 (t - 1) 0 (.object "java/util/List") := fa_1 ⟨by decide, (RX7, TX7, 1), "BoneYard$Key", rfl, by decide, tyX7_ok 0 (by decide), Or.inr ⟨_, q875⟩, Or.inl rfl⟩
theorem ff_BoneYard_Reader_258 : ∀ t ∈ [9], 0 < t ∧ b_FF "BoneYard$Reader" 258 (t - 1) 2 (.object "BoneYard$Goal") := fa_1 ⟨by decide, (RX8, TX8, 4), "BoneYard$Step", rfl, by decide, tyX8_ok 2 (by decide), Or.inr ⟨_, q947⟩, Or.inl rfl⟩
theorem ff_BoneYard_Reader_262 : ∀ t ∈ [9], 0 < t ∧ b_FF "BoneYard$Reader" 262 (t - 1) 3 (.object "BoneYard$Goal") := fa_1 ⟨by decide, (RX8, TX8, 4), "BoneYard$Step", rfl, by decide, tyX8_ok 3 (by decide), Or.inr ⟨_, q949⟩, Or.inl rfl⟩
theorem ff_BoneYard_Reader_99 : ∀ t ∈ [2], 0 < t ∧ b_FF "BoneYard$Reader" 99 (t - 1) 4 .int := fa_1 ⟨by decide, (RX1, TX1, 10), "BoneYard$Reader", rfl, by decide, tyX1_ok 4 (by decide), Or.inl q424, Or.inl rfl⟩
theorem ff_BoneYard_Reader_64 : ∀ t ∈ [2], 0 < t ∧ b_FF "BoneYard$Reader" 64 (t - 1) 3 .int := fa_1 ⟨by decide, (RX1, TX1, 10), "BoneYard$Reader", rfl, by decide, tyX1_ok 3 (by decide), Or.inl q423, Or.inl rfl⟩
theorem ff_BoneYard_Reader_68 : ∀ t ∈ [2], 0 < t ∧ b_FF "BoneYard$Reader" 68 (t - 1) 2 (.array .byte) := fa_1 ⟨by decide, (RX1, TX1, 10), "BoneYard$Reader", rfl, by decide, tyX1_ok 2 (by decide), Or.inl q422, Or.inl rfl⟩
theorem ff_BoneYard_Reader_53 : ∀ t ∈ [2], 0 < t ∧ b_FF "BoneYard$Reader" 53 (t - 1) 0 (.array (.object "java/lang/String")) := fa_1 ⟨by decide, (RX1, TX1, 10), "BoneYard$Reader", rfl, by decide, tyX1_ok 0 (by decide), Or.inl q420, Or.inl rfl⟩
theorem ff_BoneYard_Reader_96 : ∀ t ∈ [2], 0 < t ∧ b_FF "BoneYard$Reader" 96 (t - 1) 5 .int := fa_1 ⟨by decide, (RX1, TX1, 10), "BoneYard$Reader", rfl, by decide, tyX1_ok 5 (by decide), Or.inl q425, Or.inl rfl⟩
theorem ff_BoneYard_Reader_102 : ∀ t ∈ [2], 0 < t ∧ b_FF "BoneYard$Reader" 102 (t - 1) 7 .int := fa_1 ⟨by decide, (RX1, TX1, 10), "BoneYard$Reader", rfl, by decide, tyX1_ok 7 (by decide), Or.inl q427, Or.inl rfl⟩
theorem ff_BoneYard_Reader_244 : ∀ t ∈ [9], 0 < t ∧ b_FF "BoneYard$Reader" 244 (t - 1) 0 .int := fa_1 ⟨by decide, (RX8, TX8, 4), "BoneYard$Step", rfl, by decide, tyX8_ok 0 (by decide), Or.inr ⟨_, q943⟩, Or.inl rfl⟩
theorem ff_BoneYard_Reader_60 : ∀ t ∈ [2], 0 < t ∧ b_FF "BoneYard$Reader" 60 (t - 1) 1 (.object "BoneYard$Wrong") := fa_1 ⟨by decide, (RX1, TX1, 10), "BoneYard$Reader", rfl, by decide, tyX1_ok 1 (by decide), Or.inl q421, Or.inl rfl⟩
theorem ff_BoneYard_Reader_187 : ∀ t ∈ [11], 0 < t ∧ b_FF "BoneYard$Reader" 187 (t - 1) 0 (.object "java/util/List") := fa_1 ⟨by decide, (RX11, TX11, 1), "BoneYard$Any", rfl, by decide, tyX11_ok 0 (by decide), Or.inl q988, Or.inr q987⟩
theorem ff_BoneYard_Reader_204 : ∀ t ∈ [10, 11, 12], 0 < t ∧ b_FF "BoneYard$Reader" 204 (t - 1) 0 (.object "java/util/List") := fa_3 ⟨by decide, (RX10, TX10, 1), "BoneYard$All", rfl, by decide, tyX10_ok 0 (by decide), Or.inl q989, Or.inl rfl⟩ ⟨by decide, (RX11, TX11, 1), "BoneYard$All", rfl, by decide, tyX11_ok 0 (by decide), Or.inl q989, Or.inl rfl⟩ ⟨by decide, (RX12, TX12, 1), "BoneYard$All", rfl, by decide, tyX12_ok 0 (by decide), Or.inl q989, Or.inl rfl⟩
theorem ff_BoneYard_Reader_211 : ∀ t ∈ [12], 0 < t ∧ b_FF "BoneYard$Reader" 211 (t - 1) 0 (.object "java/util/List") := fa_1 ⟨by decide, (RX12, TX12, 1), "BoneYard$Not", rfl, by decide, tyX12_ok 0 (by decide), Or.inl q990, Or.inr q991⟩
theorem ff_BoneYard_Reader_143 : ∀ t ∈ [2], 0 < t ∧ b_FF "BoneYard$Reader" 143 (t - 1) 8 .int := fa_1 ⟨by decide, (RX1, TX1, 10), "BoneYard$Reader", rfl, by decide, tyX1_ok 8 (by decide), Or.inl q428, Or.inl rfl⟩
theorem ff_BoneYard_Reader_3 : ∀ t ∈ [2], 0 < t ∧ b_FF "BoneYard$Reader" 3 (t - 1) 9 (.object "BoneYard") := fa_1 ⟨by decide, (RX1, TX1, 10), "BoneYard$Reader", rfl, by decide, tyX1_ok 9 (by decide), Or.inl q429, Or.inl rfl⟩
theorem ff_BoneYard_Reader_225 : ∀ t ∈ [1], 0 < t ∧ b_FF "BoneYard$Reader" 225 (t - 1) 6 .int := fa_1 ⟨by decide, (RX0, TX0, 41), "BoneYard", rfl, by decide, tyX0_ok 6 (by decide), Or.inr ⟨_, q471⟩, Or.inl rfl⟩
theorem ff_BoneYard_Reader_265 : ∀ t ∈ [17], 0 < t ∧ b_FF "BoneYard$Reader" 265 (t - 1) 0 .int := fa_1 ⟨by decide, (RX18, TX18, 3), "BoneYard$Goal", rfl, by decide, tyX18_ok 0 (by decide), Or.inr ⟨_, q1198⟩, Or.inl rfl⟩
theorem ff_BoneYard_Reader_270 : ∀ t ∈ [17], 0 < t ∧ b_FF "BoneYard$Reader" 270 (t - 1) 2 .int := fa_1 ⟨by decide, (RX18, TX18, 3), "BoneYard$Goal", rfl, by decide, tyX18_ok 2 (by decide), Or.inr ⟨_, q1202⟩, Or.inl rfl⟩
theorem ff_BoneYard_Row_9 : ∀ t ∈ [4], 0 < t ∧ b_FF "BoneYard$Row" 9 (t - 1) 0 (.object "java/lang/Object") := fa_1 ⟨by decide, (RX3, TX3, 1), "BoneYard$Row", rfl, by decide, tyX3_ok 0 (by decide), Or.inl q459, Or.inl rfl⟩
theorem ff_BoneYard_Element_7 : ∀ t ∈ [6], 0 < t ∧ b_FF "BoneYard$Element" 7 (t - 1) 0 .boolean := fa_1 ⟨by decide, (RX5, TX5, 5), "BoneYard$Element", rfl, by decide, tyX5_ok 0 (by decide), Or.inl q606, Or.inl rfl⟩
theorem ff_BoneYard_Element_13 : ∀ t ∈ [6], 0 < t ∧ b_FF "BoneYard$Element" 13 (t - 1) 1 .int := fa_1 ⟨by decide, (RX5, TX5, 5), "BoneYard$Element", rfl, by decide, tyX5_ok 1 (by decide), Or.inl q608, Or.inl rfl⟩
theorem ff_BoneYard_Bone_22 : ∀ t ∈ [7], 0 < t ∧ b_FF "BoneYard$Bone" 22 (t - 1) 2 .int := fa_1 ⟨by decide, (RX6, TX6, 7), "BoneYard$Bone", rfl, by decide, tyX6_ok 2 (by decide), Or.inl q669, Or.inl rfl⟩
theorem ff_BoneYard_Bone_19 : ∀ t ∈ [7], 0 < t ∧ b_FF "BoneYard$Bone" 19 (t - 1) 1 .int := fa_1 ⟨by decide, (RX6, TX6, 7), "BoneYard$Bone", rfl, by decide, tyX6_ok 1 (by decide), Or.inl q667, Or.inl rfl⟩
theorem ff_BoneYard_Bone_25 : ∀ t ∈ [7], 0 < t ∧ b_FF "BoneYard$Bone" 25 (t - 1) 3 .int := fa_1 ⟨by decide, (RX6, TX6, 7), "BoneYard$Bone", rfl, by decide, tyX6_ok 3 (by decide), Or.inl q671, Or.inl rfl⟩
theorem ff_BoneYard_Bone_28 : ∀ t ∈ [7], 0 < t ∧ b_FF "BoneYard$Bone" 28 (t - 1) 4 .int := fa_1 ⟨by decide, (RX6, TX6, 7), "BoneYard$Bone", rfl, by decide, tyX6_ok 4 (by decide), Or.inl q673, Or.inl rfl⟩
theorem ff_BoneYard_Bone_9 : ∀ t ∈ [7], 0 < t ∧ b_FF "BoneYard$Bone" 9 (t - 1) 6 (.array .int) := fa_1 ⟨by decide, (RX6, TX6, 7), "BoneYard$Bone", rfl, by decide, tyX6_ok 6 (by decide), Or.inl q677, Or.inl rfl⟩
theorem ff_BoneYard_Key_14 : ∀ t ∈ [8], 0 < t ∧ b_FF "BoneYard$Key" 14 (t - 1) 0 (.object "java/util/List") := fa_1 ⟨by decide, (RX7, TX7, 1), "BoneYard$Key", rfl, by decide, tyX7_ok 0 (by decide), Or.inl q874, Or.inl rfl⟩
theorem ff_BoneYard_Key_32 : ∀ t ∈ [9], 0 < t ∧ b_FF "BoneYard$Key" 32 (t - 1) 0 .int := fa_1 ⟨by decide, (RX8, TX8, 4), "BoneYard$Step", rfl, by decide, tyX8_ok 0 (by decide), Or.inr ⟨_, q942⟩, Or.inl rfl⟩
theorem ff_BoneYard_Key_36 : ∀ t ∈ [9], 0 < t ∧ b_FF "BoneYard$Key" 36 (t - 1) 1 (.object "BoneYard$Cond") := fa_1 ⟨by decide, (RX8, TX8, 4), "BoneYard$Step", rfl, by decide, tyX8_ok 1 (by decide), Or.inr ⟨_, q944⟩, Or.inl rfl⟩
theorem ff_BoneYard_Key_46 : ∀ t ∈ [9], 0 < t ∧ b_FF "BoneYard$Key" 46 (t - 1) 2 (.object "BoneYard$Goal") := fa_1 ⟨by decide, (RX8, TX8, 4), "BoneYard$Step", rfl, by decide, tyX8_ok 2 (by decide), Or.inr ⟨_, q946⟩, Or.inl rfl⟩
theorem ff_BoneYard_Key_50 : ∀ t ∈ [9], 0 < t ∧ b_FF "BoneYard$Key" 50 (t - 1) 3 (.object "BoneYard$Goal") := fa_1 ⟨by decide, (RX8, TX8, 4), "BoneYard$Step", rfl, by decide, tyX8_ok 3 (by decide), Or.inr ⟨_, q948⟩, Or.inl rfl⟩
theorem ff_BoneYard_Key_53 : ∀ t ∈ [17], 0 < t ∧ b_FF "BoneYard$Key" 53 (t - 1) 1 .int := fa_1 ⟨by decide, (RX18, TX18, 3), "BoneYard$Goal", rfl, by decide, tyX18_ok 1 (by decide), Or.inr ⟨_, q1200⟩, Or.inl rfl⟩
theorem ff_BoneYard_Key_58 : ∀ t ∈ [17], 0 < t ∧ b_FF "BoneYard$Key" 58 (t - 1) 0 .int := fa_1 ⟨by decide, (RX18, TX18, 3), "BoneYard$Goal", rfl, by decide, tyX18_ok 0 (by decide), Or.inr ⟨_, q1197⟩, Or.inl rfl⟩
theorem ff_BoneYard_All_12 : ∀ t ∈ [10, 11, 12], 0 < t ∧ b_FF "BoneYard$All" 12 (t - 1) 0 (.object "java/util/List") := fa_3 ⟨by decide, (RX10, TX10, 1), "BoneYard$All", rfl, by decide, tyX10_ok 0 (by decide), Or.inl q985, Or.inl rfl⟩ ⟨by decide, (RX11, TX11, 1), "BoneYard$All", rfl, by decide, tyX11_ok 0 (by decide), Or.inl q985, Or.inl rfl⟩ ⟨by decide, (RX12, TX12, 1), "BoneYard$All", rfl, by decide, tyX12_ok 0 (by decide), Or.inl q985, Or.inl rfl⟩
theorem ff_BoneYard_Any_7 : ∀ t ∈ [11], 0 < t ∧ b_FF "BoneYard$Any" 7 (t - 1) 0 (.object "java/util/List") := fa_1 ⟨by decide, (RX11, TX11, 1), "BoneYard$Any", rfl, by decide, tyX11_ok 0 (by decide), Or.inl q986, Or.inr q987⟩
theorem ff_BoneYard_Chain_12 : ∀ t ∈ [13], 0 < t ∧ b_FF "BoneYard$Chain" 12 (t - 1) 0 (.object "java/util/List") := fa_1 ⟨by decide, (RX14, TX14, 2), "BoneYard$Chain", rfl, by decide, tyX14_ok 0 (by decide), Or.inl q1135, Or.inl rfl⟩
theorem ff_BoneYard_Chain_18 : ∀ t ∈ [13], 0 < t ∧ b_FF "BoneYard$Chain" 18 (t - 1) 1 (.object "java/util/List") := fa_1 ⟨by decide, (RX14, TX14, 2), "BoneYard$Chain", rfl, by decide, tyX14_ok 1 (by decide), Or.inl q1136, Or.inl rfl⟩
theorem ff_BoneYard_Name_7 : ∀ t ∈ [14], 0 < t ∧ b_FF "BoneYard$Name" 7 (t - 1) 0 .int := fa_1 ⟨by decide, (RX15, TX15, 1), "BoneYard$Name", rfl, by decide, tyX15_ok 0 (by decide), Or.inl q1113, Or.inl rfl⟩
theorem ff_BoneYard_Told_7 : ∀ t ∈ [15], 0 < t ∧ b_FF "BoneYard$Told" 7 (t - 1) 0 .int := fa_1 ⟨by decide, (RX16, TX16, 1), "BoneYard$Told", rfl, by decide, tyX16_ok 0 (by decide), Or.inl q1123, Or.inl rfl⟩
theorem ff_BoneYard_Compared_7 : ∀ t ∈ [16], 0 < t ∧ b_FF "BoneYard$Compared" 7 (t - 1) 0 (.object "BoneYard$Sum") := fa_1 ⟨by decide, (RX17, TX17, 3), "BoneYard$Compared", rfl, by decide, tyX17_ok 0 (by decide), Or.inl q1172, Or.inl rfl⟩
theorem ff_BoneYard_Compared_17 : ∀ t ∈ [16], 0 < t ∧ b_FF "BoneYard$Compared" 17 (t - 1) 1 (.object "BoneYard$Sum") := fa_1 ⟨by decide, (RX17, TX17, 3), "BoneYard$Compared", rfl, by decide, tyX17_ok 1 (by decide), Or.inl q1173, Or.inl rfl⟩
theorem ff_BoneYard_Compared_13 : ∀ t ∈ [16], 0 < t ∧ b_FF "BoneYard$Compared" 13 (t - 1) 2 .int := fa_1 ⟨by decide, (RX17, TX17, 3), "BoneYard$Compared", rfl, by decide, tyX17_ok 2 (by decide), Or.inl q1174, Or.inl rfl⟩
theorem ff_java_lang_String_9 : ∀ t ∈ [18], 0 < t ∧ b_FF "java/lang/String" 9 (t - 1) 0 (.array .byte) := fa_1 ⟨by decide, (RJ3, TJ3, 2), "java/lang/String", rfl, by decide, tyJ3_ok 0 (by decide), Or.inl q2171, Or.inl rfl⟩
theorem ff_java_lang_String_15 : ∀ t ∈ [18], 0 < t ∧ b_FF "java/lang/String" 15 (t - 1) 1 .byte := fa_1 ⟨by decide, (RJ3, TJ3, 2), "java/lang/String", rfl, by decide, tyJ3_ok 1 (by decide), Or.inl q2172, Or.inl rfl⟩
theorem ff_java_util_ArrayList_48 : ∀ t ∈ [19], 0 < t ∧ b_FF "java/util/ArrayList" 48 (t - 1) 2 .int := fa_1 ⟨by decide, (RJ9, TJ9, 3), "java/util/ArrayList", rfl, by decide, tyJ9_ok 2 (by decide), Or.inl q863, Or.inl rfl⟩
theorem ff_java_util_ArrayList_9 : ∀ t ∈ [19], 0 < t ∧ b_FF "java/util/ArrayList" 9 (t - 1) 1 (.array (.object "java/lang/Object")) := fa_1 ⟨by decide, (RJ9, TJ9, 3), "java/util/ArrayList", rfl, by decide, tyJ9_ok 1 (by decide), Or.inl q862, Or.inl rfl⟩
theorem ff_java_util_ArrayList_63 : ∀ t ∈ [19], 0 < t ∧ b_FF "java/util/ArrayList" 63 (t - 1) 0 .int := fa_1 ⟨by decide, (RJ9, TJ9, 3), "java/util/ArrayList", rfl, by decide, tyJ9_ok 0 (by decide), Or.inl q865, Or.inr q866⟩
theorem ff_java_lang_Integer_205 : ∀ t ∈ [20], 0 < t ∧ b_FF "java/lang/Integer" 205 (t - 1) 0 .int := fa_1 ⟨by decide, (RJ14, TJ14, 1), "java/lang/Integer", rfl, by decide, tyJ14_ok 0 (by decide), Or.inl q1162, Or.inl rfl⟩
theorem fp_BoneYardModel_9_1001 : ∀ t ∈ [5], 0 < t ∧ b_FP "BoneYardModel" 9 (t - 1) 1 (.array .int) (nmT 1001) := fa_1 ⟨by decide, (RX4, TX4, 82), "BoneYardModel", rfl, by decide, tyX4_ok 1 (by decide), Or.inl ⟨q1485, Or.inr ⟨rfl, rfl, rfl⟩⟩, Or.inl rfl⟩
theorem fp_BoneYardModel_13_1001 : ∀ t ∈ [5], 0 < t ∧ b_FP "BoneYardModel" 13 (t - 1) 2 (.array .int) (nmT 1001) := fa_1 ⟨by decide, (RX4, TX4, 82), "BoneYardModel", rfl, by decide, tyX4_ok 2 (by decide), Or.inl ⟨q1486, Or.inr ⟨rfl, rfl, rfl⟩⟩, Or.inl rfl⟩
theorem fp_BoneYardModel_16_1001 : ∀ t ∈ [5], 0 < t ∧ b_FP "BoneYardModel" 16 (t - 1) 3 (.array .long) (nmT 1001) := fa_1 ⟨by decide, (RX4, TX4, 82), "BoneYardModel", rfl, by decide, tyX4_ok 3 (by decide), Or.inl ⟨q1487, Or.inr ⟨rfl, rfl, rfl⟩⟩, Or.inl rfl⟩
theorem fp_BoneYardModel_20_1001 : ∀ t ∈ [5], 0 < t ∧ b_FP "BoneYardModel" 20 (t - 1) 4 (.array .long) (nmT 1001) := fa_1 ⟨by decide, (RX4, TX4, 82), "BoneYardModel", rfl, by decide, tyX4_ok 4 (by decide), Or.inl ⟨q1488, Or.inr ⟨rfl, rfl, rfl⟩⟩, Or.inl rfl⟩
theorem fp_BoneYardModel_23 {nm : MethodName} : ∀ t ∈ [5], 0 < t ∧ b_FP "BoneYardModel" 23 (t - 1) 5 .int nm := fa_1 ⟨by decide, (RX4, TX4, 82), "BoneYardModel", rfl, by decide, tyX4_ok 5 (by decide), Or.inl ⟨q1489, Or.inl rfl⟩, Or.inl rfl⟩
theorem fp_BoneYardModel_27 {nm : MethodName} : ∀ t ∈ [5], 0 < t ∧ b_FP "BoneYardModel" 27 (t - 1) 6 .int nm := fa_1 ⟨by decide, (RX4, TX4, 82), "BoneYardModel", rfl, by decide, tyX4_ok 6 (by decide), Or.inl ⟨q1490, Or.inl rfl⟩, Or.inl rfl⟩
theorem fp_BoneYardModel_30_1001 : ∀ t ∈ [5], 0 < t ∧ b_FP "BoneYardModel" 30 (t - 1) 14 (.array .boolean) (nmT 1001) := fa_1 ⟨by decide, (RX4, TX4, 82), "BoneYardModel", rfl, by decide, tyX4_ok 14 (by decide), Or.inl ⟨q1498, Or.inr ⟨rfl, rfl, rfl⟩⟩, Or.inl rfl⟩
theorem fp_BoneYardModel_34_1001 : ∀ t ∈ [5], 0 < t ∧ b_FP "BoneYardModel" 34 (t - 1) 15 (.array .int) (nmT 1001) := fa_1 ⟨by decide, (RX4, TX4, 82), "BoneYardModel", rfl, by decide, tyX4_ok 15 (by decide), Or.inl ⟨q1499, Or.inr ⟨rfl, rfl, rfl⟩⟩, Or.inl rfl⟩
theorem fp_BoneYardModel_37_1001 : ∀ t ∈ [5], 0 < t ∧ b_FP "BoneYardModel" 37 (t - 1) 16 (.array .int) (nmT 1001) := fa_1 ⟨by decide, (RX4, TX4, 82), "BoneYardModel", rfl, by decide, tyX4_ok 16 (by decide), Or.inl ⟨q1500, Or.inr ⟨rfl, rfl, rfl⟩⟩, Or.inl rfl⟩
theorem fp_BoneYardModel_40_1001 : ∀ t ∈ [5], 0 < t ∧ b_FP "BoneYardModel" 40 (t - 1) 17 (.array .int) (nmT 1001) := fa_1 ⟨by decide, (RX4, TX4, 82), "BoneYardModel", rfl, by decide, tyX4_ok 17 (by decide), Or.inl ⟨q1501, Or.inr ⟨rfl, rfl, rfl⟩⟩, Or.inl rfl⟩
theorem fp_BoneYardModel_43_1001 : ∀ t ∈ [5], 0 < t ∧ b_FP "BoneYardModel" 43 (t - 1) 18 (.array .int) (nmT 1001) := fa_1 ⟨by decide, (RX4, TX4, 82), "BoneYardModel", rfl, by decide, tyX4_ok 18 (by decide), Or.inl ⟨q1502, Or.inr ⟨rfl, rfl, rfl⟩⟩, Or.inl rfl⟩
theorem fp_BoneYardModel_46_1001 : ∀ t ∈ [5], 0 < t ∧ b_FP "BoneYardModel" 46 (t - 1) 19 (.array .int) (nmT 1001) := fa_1 ⟨by decide, (RX4, TX4, 82), "BoneYardModel", rfl, by decide, tyX4_ok 19 (by decide), Or.inl ⟨q1503, Or.inr ⟨rfl, rfl, rfl⟩⟩, Or.inl rfl⟩
theorem fp_BoneYardModel_49_1001 : ∀ t ∈ [5], 0 < t ∧ b_FP "BoneYardModel" 49 (t - 1) 20 (.array .int) (nmT 1001) := fa_1 ⟨by decide, (RX4, TX4, 82), "BoneYardModel", rfl, by decide, tyX4_ok 20 (by decide), Or.inl ⟨q1504, Or.inr ⟨rfl, rfl, rfl⟩⟩, Or.inl rfl⟩
theorem fp_BoneYardModel_52_1001 : ∀ t ∈ [5], 0 < t ∧ b_FP "BoneYardModel" 52 (t - 1) 21 (.array .int) (nmT 1001) := fa_1 ⟨by decide, (RX4, TX4, 82), "BoneYardModel", rfl, by decide, tyX4_ok 21 (by decide), Or.inl ⟨q1505, Or.inr ⟨rfl, rfl, rfl⟩⟩, Or.inl rfl⟩
theorem fp_BoneYardModel_55_1001 : ∀ t ∈ [5], 0 < t ∧ b_FP "BoneYardModel" 55 (t - 1) 22 (.array .int) (nmT 1001) := fa_1 ⟨by decide, (RX4, TX4, 82), "BoneYardModel", rfl, by decide, tyX4_ok 22 (by decide), Or.inl ⟨q1506, Or.inr ⟨rfl, rfl, rfl⟩⟩, Or.inl rfl⟩
theorem fp_BoneYardModel_58_1001 : ∀ t ∈ [5], 0 < t ∧ b_FP "BoneYardModel" 58 (t - 1) 23 (.array .int) (nmT 1001) := fa_1 ⟨by decide, (RX4, TX4, 82), "BoneYardModel", rfl, by decide, tyX4_ok 23 (by decide), Or.inl ⟨q1507, Or.inr ⟨rfl, rfl, rfl⟩⟩, Or.inl rfl⟩
theorem fp_BoneYardModel_61_1001 : ∀ t ∈ [5], 0 < t ∧ b_FP "BoneYardModel" 61 (t - 1) 24 (.array .int) (nmT 1001) := fa_1 ⟨by decide, (RX4, TX4, 82), "BoneYardModel", rfl, by decide, tyX4_ok 24 (by decide), Or.inl ⟨q1508, Or.inr ⟨rfl, rfl, rfl⟩⟩, Or.inl rfl⟩
theorem fp_BoneYardModel_64_1001 : ∀ t ∈ [5], 0 < t ∧ b_FP "BoneYardModel" 64 (t - 1) 25 (.array .int) (nmT 1001) := fa_1 ⟨by decide, (RX4, TX4, 82), "BoneYardModel", rfl, by decide, tyX4_ok 25 (by decide), Or.inl ⟨q1509, Or.inr ⟨rfl, rfl, rfl⟩⟩, Or.inl rfl⟩
theorem fp_BoneYardModel_67_1001 : ∀ t ∈ [5], 0 < t ∧ b_FP "BoneYardModel" 67 (t - 1) 26 (.array .int) (nmT 1001) := fa_1 ⟨by decide, (RX4, TX4, 82), "BoneYardModel", rfl, by decide, tyX4_ok 26 (by decide), Or.inl ⟨q1510, Or.inr ⟨rfl, rfl, rfl⟩⟩, Or.inl rfl⟩
theorem fp_BoneYardModel_70_1001 : ∀ t ∈ [5], 0 < t ∧ b_FP "BoneYardModel" 70 (t - 1) 27 (.array .int) (nmT 1001) := fa_1 ⟨by decide, (RX4, TX4, 82), "BoneYardModel", rfl, by decide, tyX4_ok 27 (by decide), Or.inl ⟨q1511, Or.inr ⟨rfl, rfl, rfl⟩⟩, Or.inl rfl⟩
theorem fp_BoneYardModel_73_1001 : ∀ t ∈ [5], 0 < t ∧ b_FP "BoneYardModel" 73 (t - 1) 28 (.array .int) (nmT 1001) := fa_1 ⟨by decide, (RX4, TX4, 82), "BoneYardModel", rfl, by decide, tyX4_ok 28 (by decide), Or.inl ⟨q1512, Or.inr ⟨rfl, rfl, rfl⟩⟩, Or.inl rfl⟩
theorem fp_BoneYardModel_76_1001 : ∀ t ∈ [5], 0 < t ∧ b_FP "BoneYardModel" 76 (t - 1) 29 (.array .int) (nmT 1001) := fa_1 ⟨by decide, (RX4, TX4, 82), "BoneYardModel", rfl, by decide, tyX4_ok 29 (by decide), Or.inl ⟨q1513, Or.inr ⟨rfl, rfl, rfl⟩⟩, Or.inl rfl⟩
theorem fp_BoneYardModel_79_1001 : ∀ t ∈ [5], 0 < t ∧ b_FP "BoneYardModel" 79 (t - 1) 30 (.array .int) (nmT 1001) := fa_1 ⟨by decide, (RX4, TX4, 82), "BoneYardModel", rfl, by decide, tyX4_ok 30 (by decide), Or.inl ⟨q1514, Or.inr ⟨rfl, rfl, rfl⟩⟩, Or.inl rfl⟩
theorem fp_BoneYardModel_82_1001 : ∀ t ∈ [5], 0 < t ∧ b_FP "BoneYardModel" 82 (t - 1) 31 (.array .int) (nmT 1001) := fa_1 ⟨by decide, (RX4, TX4, 82), "BoneYardModel", rfl, by decide, tyX4_ok 31 (by decide), Or.inl ⟨q1515, Or.inr ⟨rfl, rfl, rfl⟩⟩, Or.inl rfl⟩
theorem fp_BoneYardModel_85_1001 : ∀ t ∈ [5], 0 < t ∧ b_FP "BoneYardModel" 85 (t - 1) 32 (.array .boolean) (nmT 1001) := fa_1 ⟨by decide, (RX4, TX4, 82), "BoneYardModel", rfl, by decide, tyX4_ok 32 (by decide), Or.inl ⟨q1516, Or.inr ⟨rfl, rfl, rfl⟩⟩, Or.inl rfl⟩
theorem fp_BoneYardModel_88_1001 : ∀ t ∈ [5], 0 < t ∧ b_FP "BoneYardModel" 88 (t - 1) 33 (.array .int) (nmT 1001) := fa_1 ⟨by decide, (RX4, TX4, 82), "BoneYardModel", rfl, by decide, tyX4_ok 33 (by decide), Or.inl ⟨q1517, Or.inr ⟨rfl, rfl, rfl⟩⟩, Or.inl rfl⟩
theorem fp_BoneYardModel_91_1001 : ∀ t ∈ [5], 0 < t ∧ b_FP "BoneYardModel" 91 (t - 1) 34 (.array .int) (nmT 1001) := fa_1 ⟨by decide, (RX4, TX4, 82), "BoneYardModel", rfl, by decide, tyX4_ok 34 (by decide), Or.inl ⟨q1518, Or.inr ⟨rfl, rfl, rfl⟩⟩, Or.inl rfl⟩
theorem fp_BoneYardModel_94_1001 : ∀ t ∈ [5], 0 < t ∧ b_FP "BoneYardModel" 94 (t - 1) 35 (.array .int) (nmT 1001) := fa_1 ⟨by decide, (RX4, TX4, 82), "BoneYardModel", rfl, by decide, tyX4_ok 35 (by decide), Or.inl ⟨q1519, Or.inr ⟨rfl, rfl, rfl⟩⟩, Or.inl rfl⟩
theorem fp_BoneYardModel_97_1001 : ∀ t ∈ [5], 0 < t ∧ b_FP "BoneYardModel" 97 (t - 1) 36 (.array .int) (nmT 1001) := fa_1 ⟨by decide, (RX4, TX4, 82), "BoneYardModel", rfl, by decide, tyX4_ok 36 (by decide), Or.inl ⟨q1520, Or.inr ⟨rfl, rfl, rfl⟩⟩, Or.inl rfl⟩
theorem fp_BoneYardModel_100_1001 : ∀ t ∈ [5], 0 < t ∧ b_FP "BoneYardModel" 100 (t - 1) 37 (.array .byte) (nmT 1001) := fa_1 ⟨by decide, (RX4, TX4, 82), "BoneYardModel", rfl, by decide, tyX4_ok 37 (by decide), Or.inl ⟨q1521, Or.inr ⟨rfl, rfl, rfl⟩⟩, Or.inl rfl⟩
theorem fp_BoneYardModel_104 {nm : MethodName} : ∀ t ∈ [5], 0 < t ∧ b_FP "BoneYardModel" 104 (t - 1) 39 .int nm := fa_1 ⟨by decide, (RX4, TX4, 82), "BoneYardModel", rfl, by decide, tyX4_ok 39 (by decide), Or.inl ⟨q1523, Or.inl rfl⟩, Or.inl rfl⟩
theorem fp_BoneYardModel_107 {nm : MethodName} : ∀ t ∈ [5], 0 < t ∧ b_FP "BoneYardModel" 107 (t - 1) 40 .int nm := fa_1 ⟨by decide, (RX4, TX4, 82), "BoneYardModel", rfl, by decide, tyX4_ok 40 (by decide), Or.inl ⟨q1524, Or.inl rfl⟩, Or.inl rfl⟩
theorem fp_BoneYardModel_110_1001 : ∀ t ∈ [5], 0 < t ∧ b_FP "BoneYardModel" 110 (t - 1) 41 (.array .byte) (nmT 1001) := fa_1 ⟨by decide, (RX4, TX4, 82), "BoneYardModel", rfl, by decide, tyX4_ok 41 (by decide), Or.inl ⟨q1525, Or.inr ⟨rfl, rfl, rfl⟩⟩, Or.inl rfl⟩
theorem fp_BoneYardModel_113_1001 : ∀ t ∈ [5], 0 < t ∧ b_FP "BoneYardModel" 113 (t - 1) 42 (.array .int) (nmT 1001) := fa_1 ⟨by decide, (RX4, TX4, 82), "BoneYardModel", rfl, by decide, tyX4_ok 42 (by decide), Or.inl ⟨q1526, Or.inr ⟨rfl, rfl, rfl⟩⟩, Or.inl rfl⟩
theorem fp_BoneYardModel_116_1001 : ∀ t ∈ [5], 0 < t ∧ b_FP "BoneYardModel" 116 (t - 1) 43 (.array .int) (nmT 1001) := fa_1 ⟨by decide, (RX4, TX4, 82), "BoneYardModel", rfl, by decide, tyX4_ok 43 (by decide), Or.inl ⟨q1527, Or.inr ⟨rfl, rfl, rfl⟩⟩, Or.inl rfl⟩
theorem fp_BoneYardModel_119_1001 : ∀ t ∈ [5], 0 < t ∧ b_FP "BoneYardModel" 119 (t - 1) 44 (.array .int) (nmT 1001) := fa_1 ⟨by decide, (RX4, TX4, 82), "BoneYardModel", rfl, by decide, tyX4_ok 44 (by decide), Or.inl ⟨q1528, Or.inr ⟨rfl, rfl, rfl⟩⟩, Or.inl rfl⟩
theorem fp_BoneYardModel_122_1001 : ∀ t ∈ [5], 0 < t ∧ b_FP "BoneYardModel" 122 (t - 1) 45 (.array .boolean) (nmT 1001) := fa_1 ⟨by decide, (RX4, TX4, 82), "BoneYardModel", rfl, by decide, tyX4_ok 45 (by decide), Or.inl ⟨q1529, Or.inr ⟨rfl, rfl, rfl⟩⟩, Or.inl rfl⟩
theorem fp_BoneYardModel_125_1001 : ∀ t ∈ [5], 0 < t ∧ b_FP "BoneYardModel" 125 (t - 1) 46 (.array .boolean) (nmT 1001) := fa_1 ⟨by decide, (RX4, TX4, 82), "BoneYardModel", rfl, by decide, tyX4_ok 46 (by decide), Or.inl ⟨q1530, Or.inr ⟨rfl, rfl, rfl⟩⟩, Or.inl rfl⟩
theorem fp_BoneYardModel_128_1001 : ∀ t ∈ [5], 0 < t ∧ b_FP "BoneYardModel" 128 (t - 1) 62 (.array .int) (nmT 1001) := fa_1 ⟨by decide, (RX4, TX4, 82), "BoneYardModel", rfl, by decide, tyX4_ok 62 (by decide), Or.inl ⟨q1546, Or.inr ⟨rfl, rfl, rfl⟩⟩, Or.inl rfl⟩
theorem fp_BoneYardModel_131_1001 : ∀ t ∈ [5], 0 < t ∧ b_FP "BoneYardModel" 131 (t - 1) 63 (.array .int) (nmT 1001) := fa_1 ⟨by decide, (RX4, TX4, 82), "BoneYardModel", rfl, by decide, tyX4_ok 63 (by decide), Or.inl ⟨q1547, Or.inr ⟨rfl, rfl, rfl⟩⟩, Or.inl rfl⟩
theorem fp_BoneYardModel_134_1001 : ∀ t ∈ [5], 0 < t ∧ b_FP "BoneYardModel" 134 (t - 1) 64 (.array .int) (nmT 1001) := fa_1 ⟨by decide, (RX4, TX4, 82), "BoneYardModel", rfl, by decide, tyX4_ok 64 (by decide), Or.inl ⟨q1548, Or.inr ⟨rfl, rfl, rfl⟩⟩, Or.inl rfl⟩
theorem fp_BoneYardModel_137_1001 : ∀ t ∈ [5], 0 < t ∧ b_FP "BoneYardModel" 137 (t - 1) 66 (.array .int) (nmT 1001) := fa_1 ⟨by decide, (RX4, TX4, 82), "BoneYardModel", rfl, by decide, tyX4_ok 66 (by decide), Or.inl ⟨q1550, Or.inr ⟨rfl, rfl, rfl⟩⟩, Or.inl rfl⟩
theorem fp_BoneYardModel_140_1001 : ∀ t ∈ [5], 0 < t ∧ b_FP "BoneYardModel" 140 (t - 1) 67 (.array .int) (nmT 1001) := fa_1 ⟨by decide, (RX4, TX4, 82), "BoneYardModel", rfl, by decide, tyX4_ok 67 (by decide), Or.inl ⟨q1551, Or.inr ⟨rfl, rfl, rfl⟩⟩, Or.inl rfl⟩
theorem fp_BoneYardModel_143_1001 : ∀ t ∈ [5], 0 < t ∧ b_FP "BoneYardModel" 143 (t - 1) 68 (.array .int) (nmT 1001) := fa_1 ⟨by decide, (RX4, TX4, 82), "BoneYardModel", rfl, by decide, tyX4_ok 68 (by decide), Or.inl ⟨q1552, Or.inr ⟨rfl, rfl, rfl⟩⟩, Or.inl rfl⟩
theorem fp_BoneYardModel_146_1001 : ∀ t ∈ [5], 0 < t ∧ b_FP "BoneYardModel" 146 (t - 1) 69 (.array .boolean) (nmT 1001) := fa_1 ⟨by decide, (RX4, TX4, 82), "BoneYardModel", rfl, by decide, tyX4_ok 69 (by decide), Or.inl ⟨q1553, Or.inr ⟨rfl, rfl, rfl⟩⟩, Or.inl rfl⟩
theorem fp_BoneYardModel_149_1001 : ∀ t ∈ [5], 0 < t ∧ b_FP "BoneYardModel" 149 (t - 1) 71 (.array .int) (nmT 1001) := fa_1 ⟨by decide, (RX4, TX4, 82), "BoneYardModel", rfl, by decide, tyX4_ok 71 (by decide), Or.inl ⟨q1555, Or.inr ⟨rfl, rfl, rfl⟩⟩, Or.inl rfl⟩
theorem fp_BoneYardModel_152_1001 : ∀ t ∈ [5], 0 < t ∧ b_FP "BoneYardModel" 152 (t - 1) 74 (.array .int) (nmT 1001) := fa_1 ⟨by decide, (RX4, TX4, 82), "BoneYardModel", rfl, by decide, tyX4_ok 74 (by decide), Or.inl ⟨q1558, Or.inr ⟨rfl, rfl, rfl⟩⟩, Or.inl rfl⟩
theorem fp_BoneYardModel_155_1001 : ∀ t ∈ [5], 0 < t ∧ b_FP "BoneYardModel" 155 (t - 1) 76 (.array .int) (nmT 1001) := fa_1 ⟨by decide, (RX4, TX4, 82), "BoneYardModel", rfl, by decide, tyX4_ok 76 (by decide), Or.inl ⟨q1560, Or.inr ⟨rfl, rfl, rfl⟩⟩, Or.inl rfl⟩
theorem fp_BoneYardModel_158_1001 : ∀ t ∈ [5], 0 < t ∧ b_FP "BoneYardModel" 158 (t - 1) 77 (.array .int) (nmT 1001) := fa_1 ⟨by decide, (RX4, TX4, 82), "BoneYardModel", rfl, by decide, tyX4_ok 77 (by decide), Or.inl ⟨q1561, Or.inr ⟨rfl, rfl, rfl⟩⟩, Or.inl rfl⟩
theorem fp_BoneYardModel_161_1001 : ∀ t ∈ [5], 0 < t ∧ b_FP "BoneYardModel" 161 (t - 1) 78 (.array .int) (nmT 1001) := fa_1 ⟨by decide, (RX4, TX4, 82), "BoneYardModel", rfl, by decide, tyX4_ok 78 (by decide), Or.inl ⟨q1562, Or.inr ⟨rfl, rfl, rfl⟩⟩, Or.inl rfl⟩
theorem fp_BoneYardModel_164_1001 : ∀ t ∈ [5], 0 < t ∧ b_FP "BoneYardModel" 164 (t - 1) 79 (.array .int) (nmT 1001) := fa_1 ⟨by decide, (RX4, TX4, 82), "BoneYardModel", rfl, by decide, tyX4_ok 79 (by decide), Or.inl ⟨q1563, Or.inr ⟨rfl, rfl, rfl⟩⟩, Or.inl rfl⟩
theorem fp_BoneYardModel_167_1001 : ∀ t ∈ [5], 0 < t ∧ b_FP "BoneYardModel" 167 (t - 1) 80 (.array .int) (nmT 1001) := fa_1 ⟨by decide, (RX4, TX4, 82), "BoneYardModel", rfl, by decide, tyX4_ok 80 (by decide), Or.inl ⟨q1564, Or.inr ⟨rfl, rfl, rfl⟩⟩, Or.inl rfl⟩
theorem fp_BoneYardModel_170_1001 : ∀ t ∈ [5], 0 < t ∧ b_FP "BoneYardModel" 170 (t - 1) 81 (.array .long) (nmT 1001) := fa_1 ⟨by decide, (RX4, TX4, 82), "BoneYardModel", rfl, by decide, tyX4_ok 81 (by decide), Or.inl ⟨q1565, Or.inr ⟨rfl, rfl, rfl⟩⟩, Or.inl rfl⟩
theorem fp_BoneYardModel_173 {nm : MethodName} : ∀ t ∈ [5], 0 < t ∧ b_FP "BoneYardModel" 173 (t - 1) 0 .int nm := fa_1 ⟨by decide, (RX4, TX4, 82), "BoneYardModel", rfl, by decide, tyX4_ok 0 (by decide), Or.inl ⟨q1484, Or.inl rfl⟩, Or.inl rfl⟩
theorem fp_BoneYardModel_198 {nm : MethodName} : ∀ t ∈ [5], 0 < t ∧ b_FP "BoneYardModel" 198 (t - 1) 7 .int nm := fa_1 ⟨by decide, (RX4, TX4, 82), "BoneYardModel", rfl, by decide, tyX4_ok 7 (by decide), Or.inl ⟨q1491, Or.inl rfl⟩, Or.inl rfl⟩
theorem fp_BoneYardModel_203 {nm : MethodName} : ∀ t ∈ [5], 0 < t ∧ b_FP "BoneYardModel" 203 (t - 1) 8 .int nm := fa_1 ⟨by decide, (RX4, TX4, 82), "BoneYardModel", rfl, by decide, tyX4_ok 8 (by decide), Or.inl ⟨q1492, Or.inl rfl⟩, Or.inl rfl⟩
theorem fp_BoneYardModel_219 {nm : MethodName} : ∀ t ∈ [5], 0 < t ∧ b_FP "BoneYardModel" 219 (t - 1) 12 .int nm := fa_1 ⟨by decide, (RX4, TX4, 82), "BoneYardModel", rfl, by decide, tyX4_ok 12 (by decide), Or.inl ⟨q1496, Or.inl rfl⟩, Or.inl rfl⟩
theorem fp_BoneYardModel_226 {nm : MethodName} : ∀ t ∈ [5], 0 < t ∧ b_FP "BoneYardModel" 226 (t - 1) 13 .int nm := fa_1 ⟨by decide, (RX4, TX4, 82), "BoneYardModel", rfl, by decide, tyX4_ok 13 (by decide), Or.inl ⟨q1497, Or.inl rfl⟩, Or.inl rfl⟩
theorem fp_BoneYardModel_206 {nm : MethodName} : ∀ t ∈ [5], 0 < t ∧ b_FP "BoneYardModel" 206 (t - 1) 9 .int nm := fa_1 ⟨by decide, (RX4, TX4, 82), "BoneYardModel", rfl, by decide, tyX4_ok 9 (by decide), Or.inl ⟨q1493, Or.inl rfl⟩, Or.inl rfl⟩
theorem fp_BoneYardModel_273 {nm : MethodName} : ∀ t ∈ [5], 0 < t ∧ b_FP "BoneYardModel" 273 (t - 1) 47 .int nm := fa_1 ⟨by decide, (RX4, TX4, 82), "BoneYardModel", rfl, by decide, tyX4_ok 47 (by decide), Or.inl ⟨q1531, Or.inl rfl⟩, Or.inl rfl⟩
theorem fp_BoneYardModel_270 {nm : MethodName} : ∀ t ∈ [5], 0 < t ∧ b_FP "BoneYardModel" 270 (t - 1) 48 .int nm := fa_1 ⟨by decide, (RX4, TX4, 82), "BoneYardModel", rfl, by decide, tyX4_ok 48 (by decide), Or.inl ⟨q1532, Or.inl rfl⟩, Or.inl rfl⟩
theorem fp_BoneYardModel_276 {nm : MethodName} : ∀ t ∈ [5], 0 < t ∧ b_FP "BoneYardModel" 276 (t - 1) 49 .int nm := fa_1 ⟨by decide, (RX4, TX4, 82), "BoneYardModel", rfl, by decide, tyX4_ok 49 (by decide), Or.inl ⟨q1533, Or.inl rfl⟩, Or.inl rfl⟩
theorem fp_BoneYardModel_331 {nm : MethodName} : ∀ t ∈ [5], 0 < t ∧ b_FP "BoneYardModel" 331 (t - 1) 53 .int nm := fa_1 ⟨by decide, (RX4, TX4, 82), "BoneYardModel", rfl, by decide, tyX4_ok 53 (by decide), Or.inl ⟨q1537, Or.inl rfl⟩, Or.inl rfl⟩
theorem fp_BoneYardModel_388 {nm : MethodName} : ∀ t ∈ [5], 0 < t ∧ b_FP "BoneYardModel" 388 (t - 1) 54 .int nm := fa_1 ⟨by decide, (RX4, TX4, 82), "BoneYardModel", rfl, by decide, tyX4_ok 54 (by decide), Or.inl ⟨q1538, Or.inl rfl⟩, Or.inl rfl⟩
theorem fp_BoneYardModel_301 {nm : MethodName} : ∀ t ∈ [5], 0 < t ∧ b_FP "BoneYardModel" 301 (t - 1) 55 .int nm := fa_1 ⟨by decide, (RX4, TX4, 82), "BoneYardModel", rfl, by decide, tyX4_ok 55 (by decide), Or.inl ⟨q1539, Or.inl rfl⟩, Or.inl rfl⟩
theorem fp_BoneYardModel_304 {nm : MethodName} : ∀ t ∈ [5], 0 < t ∧ b_FP "BoneYardModel" 304 (t - 1) 56 .int nm := fa_1 ⟨by decide, (RX4, TX4, 82), "BoneYardModel", rfl, by decide, tyX4_ok 56 (by decide), Or.inl ⟨q1540, Or.inl rfl⟩, Or.inl rfl⟩
theorem fp_BoneYardModel_381 {nm : MethodName} : ∀ t ∈ [5], 0 < t ∧ b_FP "BoneYardModel" 381 (t - 1) 65 .int nm := fa_1 ⟨by decide, (RX4, TX4, 82), "BoneYardModel", rfl, by decide, tyX4_ok 65 (by decide), Or.inl ⟨q1549, Or.inl rfl⟩, Or.inl rfl⟩
theorem fp_BoneYardModel_341 {nm : MethodName} : ∀ t ∈ [5], 0 < t ∧ b_FP "BoneYardModel" 341 (t - 1) 57 .int nm := fa_1 ⟨by decide, (RX4, TX4, 82), "BoneYardModel", rfl, by decide, tyX4_ok 57 (by decide), Or.inl ⟨q1541, Or.inl rfl⟩, Or.inl rfl⟩
theorem fp_BoneYardModel_378 {nm : MethodName} : ∀ t ∈ [5], 0 < t ∧ b_FP "BoneYardModel" 378 (t - 1) 58 .int nm := fa_1 ⟨by decide, (RX4, TX4, 82), "BoneYardModel", rfl, by decide, tyX4_ok 58 (by decide), Or.inl ⟨q1542, Or.inl rfl⟩, Or.inl rfl⟩
theorem fp_BoneYardModel_373 {nm : MethodName} : ∀ t ∈ [5], 0 < t ∧ b_FP "BoneYardModel" 373 (t - 1) 59 .int nm := fa_1 ⟨by decide, (RX4, TX4, 82), "BoneYardModel", rfl, by decide, tyX4_ok 59 (by decide), Or.inl ⟨q1543, Or.inl rfl⟩, Or.inl rfl⟩
theorem fp_BoneYardModel_385 {nm : MethodName} : ∀ t ∈ [5], 0 < t ∧ b_FP "BoneYardModel" 385 (t - 1) 60 .int nm := fa_1 ⟨by decide, (RX4, TX4, 82), "BoneYardModel", rfl, by decide, tyX4_ok 60 (by decide), Or.inl ⟨q1544, Or.inl rfl⟩, Or.inl rfl⟩
theorem fp_BoneYardModel_394 {nm : MethodName} : ∀ t ∈ [5], 0 < t ∧ b_FP "BoneYardModel" 394 (t - 1) 61 .int nm := fa_1 ⟨by decide, (RX4, TX4, 82), "BoneYardModel", rfl, by decide, tyX4_ok 61 (by decide), Or.inl ⟨q1545, Or.inl rfl⟩, Or.inl rfl⟩
theorem fp_BoneYardModel_283 {nm : MethodName} : ∀ t ∈ [5], 0 < t ∧ b_FP "BoneYardModel" 283 (t - 1) 50 .int nm := fa_1 ⟨by decide, (RX4, TX4, 82), "BoneYardModel", rfl, by decide, tyX4_ok 50 (by decide), Or.inl ⟨q1534, Or.inl rfl⟩, Or.inl rfl⟩
theorem fp_BoneYardModel_286 {nm : MethodName} : ∀ t ∈ [5], 0 < t ∧ b_FP "BoneYardModel" 286 (t - 1) 51 .int nm := fa_1 ⟨by decide, (RX4, TX4, 82), "BoneYardModel", rfl, by decide, tyX4_ok 51 (by decide), Or.inl ⟨q1535, Or.inl rfl⟩, Or.inl rfl⟩
theorem fp_BoneYardModel_295 {nm : MethodName} : ∀ t ∈ [5], 0 < t ∧ b_FP "BoneYardModel" 295 (t - 1) 52 .int nm := fa_1 ⟨by decide, (RX4, TX4, 82), "BoneYardModel", rfl, by decide, tyX4_ok 52 (by decide), Or.inl ⟨q1536, Or.inl rfl⟩, Or.inl rfl⟩
theorem fp_BoneYardModel_267 {nm : MethodName} : ∀ t ∈ [5], 0 < t ∧ b_FP "BoneYardModel" 267 (t - 1) 38 .int nm := fa_1 ⟨by decide, (RX4, TX4, 82), "BoneYardModel", rfl, by decide, tyX4_ok 38 (by decide), Or.inl ⟨q1522, Or.inl rfl⟩, Or.inl rfl⟩
theorem fp_BoneYardModel_209 {nm : MethodName} : ∀ t ∈ [5], 0 < t ∧ b_FP "BoneYardModel" 209 (t - 1) 10 .int nm := fa_1 ⟨by decide, (RX4, TX4, 82), "BoneYardModel", rfl, by decide, tyX4_ok 10 (by decide), Or.inl ⟨q1494, Or.inl rfl⟩, Or.inl rfl⟩
theorem fp_BoneYardModel_430 {nm : MethodName} : ∀ t ∈ [5], 0 < t ∧ b_FP "BoneYardModel" 430 (t - 1) 70 .int nm := fa_1 ⟨by decide, (RX4, TX4, 82), "BoneYardModel", rfl, by decide, tyX4_ok 70 (by decide), Or.inl ⟨q1554, Or.inl rfl⟩, Or.inl rfl⟩
theorem fp_BoneYardModel_465 {nm : MethodName} : ∀ t ∈ [5], 0 < t ∧ b_FP "BoneYardModel" 465 (t - 1) 72 .int nm := fa_1 ⟨by decide, (RX4, TX4, 82), "BoneYardModel", rfl, by decide, tyX4_ok 72 (by decide), Or.inl ⟨q1556, Or.inl rfl⟩, Or.inl rfl⟩
theorem fp_BoneYardModel_468 {nm : MethodName} : ∀ t ∈ [5], 0 < t ∧ b_FP "BoneYardModel" 468 (t - 1) 73 .int nm := fa_1 ⟨by decide, (RX4, TX4, 82), "BoneYardModel", rfl, by decide, tyX4_ok 73 (by decide), Or.inl ⟨q1557, Or.inl rfl⟩, Or.inl rfl⟩
theorem fp_BoneYardModel_477 {nm : MethodName} : ∀ t ∈ [5], 0 < t ∧ b_FP "BoneYardModel" 477 (t - 1) 11 .int nm := fa_1 ⟨by decide, (RX4, TX4, 82), "BoneYardModel", rfl, by decide, tyX4_ok 11 (by decide), Or.inl ⟨q1495, Or.inl rfl⟩, Or.inl rfl⟩
theorem fp_BoneYardModel_480 {nm : MethodName} : ∀ t ∈ [5], 0 < t ∧ b_FP "BoneYardModel" 480 (t - 1) 75 .int nm := fa_1 ⟨by decide, (RX4, TX4, 82), "BoneYardModel", rfl, by decide, tyX4_ok 75 (by decide), Or.inl ⟨q1559, Or.inl rfl⟩, Or.inl rfl⟩
theorem fp_BoneYard_23 {nm : MethodName} : ∀ t ∈ [4], 0 < t ∧ b_FP "BoneYard" 23 (t - 1) 0 (.object "java/lang/Object") nm := fa_1 ⟨by decide, (RX3, TX3, 1), "BoneYard$Row", rfl, by decide, tyX3_ok 0 (by decide), Or.inr ⟨rfl, _, q460⟩, Or.inl rfl⟩
theorem fp_BoneYard_13_1207 : ∀ t ∈ [1], 0 < t ∧ b_FP "BoneYard" 13 (t - 1) 0 (.array (.object "BoneYard$Row")) (nmT 1207) := fa_1 ⟨by decide, (RX0, TX0, 41), "BoneYard", rfl, by decide, tyX0_ok 0 (by decide), Or.inl ⟨q464, Or.inr ⟨rfl, rfl, rfl⟩⟩, Or.inl rfl⟩
theorem fp_BoneYard_51_1207 : ∀ t ∈ [1], 0 < t ∧ b_FP "BoneYard" 51 (t - 1) 1 (.array (.object "BoneYard$Element")) (nmT 1207) := fa_1 ⟨by decide, (RX0, TX0, 41), "BoneYard", rfl, by decide, tyX0_ok 1 (by decide), Or.inl ⟨q465, Or.inr ⟨rfl, rfl, rfl⟩⟩, Or.inl rfl⟩
theorem fp_BoneYard_57_1207 : ∀ t ∈ [1], 0 < t ∧ b_FP "BoneYard" 57 (t - 1) 2 (.array (.object "BoneYard$Bone")) (nmT 1207) := fa_1 ⟨by decide, (RX0, TX0, 41), "BoneYard", rfl, by decide, tyX0_ok 2 (by decide), Or.inl ⟨q466, Or.inr ⟨rfl, rfl, rfl⟩⟩, Or.inl rfl⟩
theorem fp_BoneYard_61_1207 : ∀ t ∈ [1], 0 < t ∧ b_FP "BoneYard" 61 (t - 1) 3 (.array .int) (nmT 1207) := fa_1 ⟨by decide, (RX0, TX0, 41), "BoneYard", rfl, by decide, tyX0_ok 3 (by decide), Or.inl ⟨q467, Or.inr ⟨rfl, rfl, rfl⟩⟩, Or.inl rfl⟩
theorem fp_BoneYard_65_1207 : ∀ t ∈ [1], 0 < t ∧ b_FP "BoneYard" 65 (t - 1) 4 (.array .int) (nmT 1207) := fa_1 ⟨by decide, (RX0, TX0, 41), "BoneYard", rfl, by decide, tyX0_ok 4 (by decide), Or.inl ⟨q468, Or.inr ⟨rfl, rfl, rfl⟩⟩, Or.inl rfl⟩
theorem fp_BoneYard_68_1207 : ∀ t ∈ [1], 0 < t ∧ b_FP "BoneYard" 68 (t - 1) 5 (.array .int) (nmT 1207) := fa_1 ⟨by decide, (RX0, TX0, 41), "BoneYard", rfl, by decide, tyX0_ok 5 (by decide), Or.inl ⟨q469, Or.inr ⟨rfl, rfl, rfl⟩⟩, Or.inl rfl⟩
theorem fp_BoneYard_71 {nm : MethodName} : ∀ t ∈ [1], 0 < t ∧ b_FP "BoneYard" 71 (t - 1) 9 .int nm := fa_1 ⟨by decide, (RX0, TX0, 41), "BoneYard", rfl, by decide, tyX0_ok 9 (by decide), Or.inl ⟨q474, Or.inl rfl⟩, Or.inl rfl⟩
theorem fp_BoneYard_75 {nm : MethodName} : ∀ t ∈ [1], 0 < t ∧ b_FP "BoneYard" 75 (t - 1) 10 .int nm := fa_1 ⟨by decide, (RX0, TX0, 41), "BoneYard", rfl, by decide, tyX0_ok 10 (by decide), Or.inl ⟨q475, Or.inl rfl⟩, Or.inl rfl⟩
theorem fp_BoneYard_78_1207 : ∀ t ∈ [1], 0 < t ∧ b_FP "BoneYard" 78 (t - 1) 11 (.array .int) (nmT 1207) := fa_1 ⟨by decide, (RX0, TX0, 41), "BoneYard", rfl, by decide, tyX0_ok 11 (by decide), Or.inl ⟨q476, Or.inr ⟨rfl, rfl, rfl⟩⟩, Or.inl rfl⟩
theorem fp_BoneYard_81_1207 : ∀ t ∈ [1], 0 < t ∧ b_FP "BoneYard" 81 (t - 1) 12 (.array .int) (nmT 1207) := fa_1 ⟨by decide, (RX0, TX0, 41), "BoneYard", rfl, by decide, tyX0_ok 12 (by decide), Or.inl ⟨q477, Or.inr ⟨rfl, rfl, rfl⟩⟩, Or.inl rfl⟩
theorem fp_BoneYard_84_1207 : ∀ t ∈ [1], 0 < t ∧ b_FP "BoneYard" 84 (t - 1) 16 (.array .int) (nmT 1207) := fa_1 ⟨by decide, (RX0, TX0, 41), "BoneYard", rfl, by decide, tyX0_ok 16 (by decide), Or.inl ⟨q481, Or.inr ⟨rfl, rfl, rfl⟩⟩, Or.inl rfl⟩
theorem fp_BoneYard_87_1207 : ∀ t ∈ [1], 0 < t ∧ b_FP "BoneYard" 87 (t - 1) 17 (.array .int) (nmT 1207) := fa_1 ⟨by decide, (RX0, TX0, 41), "BoneYard", rfl, by decide, tyX0_ok 17 (by decide), Or.inl ⟨q482, Or.inr ⟨rfl, rfl, rfl⟩⟩, Or.inl rfl⟩
theorem fp_BoneYard_92_1207 : ∀ t ∈ [1], 0 < t ∧ b_FP "BoneYard" 92 (t - 1) 18 (.array (.array .boolean)) (nmT 1207) := fa_1 ⟨by decide, (RX0, TX0, 41), "BoneYard", rfl, by decide, tyX0_ok 18 (by decide), Or.inl ⟨q483, Or.inr ⟨rfl, rfl, rfl⟩⟩, Or.inl rfl⟩
theorem fp_BoneYard_95_1207 : ∀ t ∈ [1], 0 < t ∧ b_FP "BoneYard" 95 (t - 1) 19 (.array .byte) (nmT 1207) := fa_1 ⟨by decide, (RX0, TX0, 41), "BoneYard", rfl, by decide, tyX0_ok 19 (by decide), Or.inl ⟨q484, Or.inr ⟨rfl, rfl, rfl⟩⟩, Or.inl rfl⟩
theorem fp_BoneYard_99 {nm : MethodName} : ∀ t ∈ [1], 0 < t ∧ b_FP "BoneYard" 99 (t - 1) 22 .int nm := fa_1 ⟨by decide, (RX0, TX0, 41), "BoneYard", rfl, by decide, tyX0_ok 22 (by decide), Or.inl ⟨q487, Or.inl rfl⟩, Or.inl rfl⟩
theorem fp_BoneYard_107_1207 : ∀ t ∈ [1], 0 < t ∧ b_FP "BoneYard" 107 (t - 1) 25 (.object "BoneYard$Reader") (nmT 1207) := fa_1 ⟨by decide, (RX0, TX0, 41), "BoneYard", rfl, by decide, tyX0_ok 25 (by decide), Or.inl ⟨q490, Or.inr ⟨rfl, rfl, rfl⟩⟩, Or.inl rfl⟩
theorem fp_BoneYard_113_1207 : ∀ t ∈ [1], 0 < t ∧ b_FP "BoneYard" 113 (t - 1) 26 (.array (.object "BoneYard$Key")) (nmT 1207) := fa_1 ⟨by decide, (RX0, TX0, 41), "BoneYard", rfl, by decide, tyX0_ok 26 (by decide), Or.inl ⟨q491, Or.inr ⟨rfl, rfl, rfl⟩⟩, Or.inl rfl⟩
theorem fp_BoneYard_117_1207 : ∀ t ∈ [1], 0 < t ∧ b_FP "BoneYard" 117 (t - 1) 27 (.array .int) (nmT 1207) := fa_1 ⟨by decide, (RX0, TX0, 41), "BoneYard", rfl, by decide, tyX0_ok 27 (by decide), Or.inl ⟨q492, Or.inr ⟨rfl, rfl, rfl⟩⟩, Or.inl rfl⟩
theorem fp_BoneYard_120_1207 : ∀ t ∈ [1], 0 < t ∧ b_FP "BoneYard" 120 (t - 1) 28 (.array .int) (nmT 1207) := fa_1 ⟨by decide, (RX0, TX0, 41), "BoneYard", rfl, by decide, tyX0_ok 28 (by decide), Or.inl ⟨q493, Or.inr ⟨rfl, rfl, rfl⟩⟩, Or.inl rfl⟩
theorem fp_BoneYard_123_1207 : ∀ t ∈ [1], 0 < t ∧ b_FP "BoneYard" 123 (t - 1) 29 (.array .int) (nmT 1207) := fa_1 ⟨by decide, (RX0, TX0, 41), "BoneYard", rfl, by decide, tyX0_ok 29 (by decide), Or.inl ⟨q494, Or.inr ⟨rfl, rfl, rfl⟩⟩, Or.inl rfl⟩
theorem fp_BoneYard_126_1207 : ∀ t ∈ [1], 0 < t ∧ b_FP "BoneYard" 126 (t - 1) 30 (.array .int) (nmT 1207) := fa_1 ⟨by decide, (RX0, TX0, 41), "BoneYard", rfl, by decide, tyX0_ok 30 (by decide), Or.inl ⟨q495, Or.inr ⟨rfl, rfl, rfl⟩⟩, Or.inl rfl⟩
theorem fp_BoneYard_129_1207 : ∀ t ∈ [1], 0 < t ∧ b_FP "BoneYard" 129 (t - 1) 33 (.array .int) (nmT 1207) := fa_1 ⟨by decide, (RX0, TX0, 41), "BoneYard", rfl, by decide, tyX0_ok 33 (by decide), Or.inl ⟨q498, Or.inr ⟨rfl, rfl, rfl⟩⟩, Or.inl rfl⟩
theorem fp_BoneYard_132_1207 : ∀ t ∈ [1], 0 < t ∧ b_FP "BoneYard" 132 (t - 1) 34 (.array .int) (nmT 1207) := fa_1 ⟨by decide, (RX0, TX0, 41), "BoneYard", rfl, by decide, tyX0_ok 34 (by decide), Or.inl ⟨q499, Or.inr ⟨rfl, rfl, rfl⟩⟩, Or.inl rfl⟩
theorem fp_BoneYard_135_1207 : ∀ t ∈ [1], 0 < t ∧ b_FP "BoneYard" 135 (t - 1) 35 (.array .int) (nmT 1207) := fa_1 ⟨by decide, (RX0, TX0, 41), "BoneYard", rfl, by decide, tyX0_ok 35 (by decide), Or.inl ⟨q500, Or.inr ⟨rfl, rfl, rfl⟩⟩, Or.inl rfl⟩
theorem fp_BoneYard_140_1207 : ∀ t ∈ [1], 0 < t ∧ b_FP "BoneYard" 140 (t - 1) 37 (.array (.array .int)) (nmT 1207) := fa_1 ⟨by decide, (RX0, TX0, 41), "BoneYard", rfl, by decide, tyX0_ok 37 (by decide), Or.inl ⟨q502, Or.inr ⟨rfl, rfl, rfl⟩⟩, Or.inl rfl⟩
theorem fp_BoneYard_143_1207 : ∀ t ∈ [1], 0 < t ∧ b_FP "BoneYard" 143 (t - 1) 39 (.array (.array .int)) (nmT 1207) := fa_1 ⟨by decide, (RX0, TX0, 41), "BoneYard", rfl, by decide, tyX0_ok 39 (by decide), Or.inl ⟨q504, Or.inr ⟨rfl, rfl, rfl⟩⟩, Or.inl rfl⟩
theorem fp_BoneYard_146_1207 : ∀ t ∈ [1], 0 < t ∧ b_FP "BoneYard" 146 (t - 1) 40 (.array .int) (nmT 1207) := fa_1 ⟨by decide, (RX0, TX0, 41), "BoneYard", rfl, by decide, tyX0_ok 40 (by decide), Or.inl ⟨q505, Or.inr ⟨rfl, rfl, rfl⟩⟩, Or.inl rfl⟩
theorem fp_BoneYard_150 {nm : MethodName} : ∀ t ∈ [1], 0 < t ∧ b_FP "BoneYard" 150 (t - 1) 6 .int nm := fa_1 ⟨by decide, (RX0, TX0, 41), "BoneYard", rfl, by decide, tyX0_ok 6 (by decide), Or.inl ⟨q470, Or.inl rfl⟩, Or.inl rfl⟩
theorem fp_BoneYard_156 {nm : MethodName} : ∀ t ∈ [1], 0 < t ∧ b_FP "BoneYard" 156 (t - 1) 7 .int nm := fa_1 ⟨by decide, (RX0, TX0, 41), "BoneYard", rfl, by decide, tyX0_ok 7 (by decide), Or.inl ⟨q472, Or.inl rfl⟩, Or.inl rfl⟩
theorem fp_BoneYard_153 {nm : MethodName} : ∀ t ∈ [1], 0 < t ∧ b_FP "BoneYard" 153 (t - 1) 8 .int nm := fa_1 ⟨by decide, (RX0, TX0, 41), "BoneYard", rfl, by decide, tyX0_ok 8 (by decide), Or.inl ⟨q473, Or.inl rfl⟩, Or.inl rfl⟩
theorem fp_BoneYard_200 {nm : MethodName} : ∀ t ∈ [1], 0 < t ∧ b_FP "BoneYard" 200 (t - 1) 13 .int nm := fa_1 ⟨by decide, (RX0, TX0, 41), "BoneYard", rfl, by decide, tyX0_ok 13 (by decide), Or.inl ⟨q478, Or.inl rfl⟩, Or.inl rfl⟩
theorem fp_BoneYard_215 {nm : MethodName} : ∀ t ∈ [1], 0 < t ∧ b_FP "BoneYard" 215 (t - 1) 14 .int nm := fa_1 ⟨by decide, (RX0, TX0, 41), "BoneYard", rfl, by decide, tyX0_ok 14 (by decide), Or.inl ⟨q479, Or.inl rfl⟩, Or.inl rfl⟩
theorem fp_BoneYard_232 {nm : MethodName} : ∀ t ∈ [1], 0 < t ∧ b_FP "BoneYard" 232 (t - 1) 15 .int nm := fa_1 ⟨by decide, (RX0, TX0, 41), "BoneYard", rfl, by decide, tyX0_ok 15 (by decide), Or.inl ⟨q480, Or.inl rfl⟩, Or.inl rfl⟩
theorem fp_BoneYard_238 {nm : MethodName} : ∀ t ∈ [1], 0 < t ∧ b_FP "BoneYard" 238 (t - 1) 20 .int nm := fa_1 ⟨by decide, (RX0, TX0, 41), "BoneYard", rfl, by decide, tyX0_ok 20 (by decide), Or.inl ⟨q485, Or.inl rfl⟩, Or.inl rfl⟩
theorem fp_BoneYard_247 {nm : MethodName} : ∀ t ∈ [1], 0 < t ∧ b_FP "BoneYard" 247 (t - 1) 24 .boolean nm := fa_1 ⟨by decide, (RX0, TX0, 41), "BoneYard", rfl, by decide, tyX0_ok 24 (by decide), Or.inl ⟨q489, Or.inl rfl⟩, Or.inl rfl⟩
theorem fp_BoneYard_251 {nm : MethodName} : ∀ t ∈ [1], 0 < t ∧ b_FP "BoneYard" 251 (t - 1) 21 .int nm := fa_1 ⟨by decide, (RX0, TX0, 41), "BoneYard", rfl, by decide, tyX0_ok 21 (by decide), Or.inl ⟨q486, Or.inl rfl⟩, Or.inl rfl⟩
theorem fp_BoneYard_244 {nm : MethodName} : ∀ t ∈ [1], 0 < t ∧ b_FP "BoneYard" 244 (t - 1) 23 .int nm := fa_1 ⟨by decide, (RX0, TX0, 41), "BoneYard", rfl, by decide, tyX0_ok 23 (by decide), Or.inl ⟨q488, Or.inl rfl⟩, Or.inl rfl⟩
theorem fp_BoneYard_301 {nm : MethodName} : ∀ t ∈ [1], 0 < t ∧ b_FP "BoneYard" 301 (t - 1) 31 .int nm := fa_1 ⟨by decide, (RX0, TX0, 41), "BoneYard", rfl, by decide, tyX0_ok 31 (by decide), Or.inl ⟨q496, Or.inl rfl⟩, Or.inl rfl⟩
theorem fp_BoneYard_341 {nm : MethodName} : ∀ t ∈ [1], 0 < t ∧ b_FP "BoneYard" 341 (t - 1) 32 .int nm := fa_1 ⟨by decide, (RX0, TX0, 41), "BoneYard", rfl, by decide, tyX0_ok 32 (by decide), Or.inl ⟨q497, Or.inl rfl⟩, Or.inl rfl⟩
theorem fp_BoneYard_372 {nm : MethodName} : ∀ t ∈ [1], 0 < t ∧ b_FP "BoneYard" 372 (t - 1) 36 .int nm := fa_1 ⟨by decide, (RX0, TX0, 41), "BoneYard", rfl, by decide, tyX0_ok 36 (by decide), Or.inl ⟨q501, Or.inl rfl⟩, Or.inl rfl⟩
theorem fp_BoneYard_385 {nm : MethodName} : ∀ t ∈ [1], 0 < t ∧ b_FP "BoneYard" 385 (t - 1) 38 .int nm := fa_1 ⟨by decide, (RX0, TX0, 41), "BoneYard", rfl, by decide, tyX0_ok 38 (by decide), Or.inl ⟨q503, Or.inl rfl⟩, Or.inl rfl⟩
theorem fp_BoneYard_Reader_3_1401 : ∀ t ∈ [2], 0 < t ∧ b_FP "BoneYard$Reader" 3 (t - 1) 9 (.object "BoneYard") (nmT 1401) := fa_1 ⟨by decide, (RX1, TX1, 10), "BoneYard$Reader", rfl, by decide, tyX1_ok 9 (by decide), Or.inl ⟨q429, Or.inr ⟨rfl, rfl, rfl⟩⟩, Or.inl rfl⟩
theorem fp_BoneYard_Reader_53_1401 : ∀ t ∈ [2], 0 < t ∧ b_FP "BoneYard$Reader" 53 (t - 1) 0 (.array (.object "java/lang/String")) (nmT 1401) := fa_1 ⟨by decide, (RX1, TX1, 10), "BoneYard$Reader", rfl, by decide, tyX1_ok 0 (by decide), Or.inl ⟨q420, Or.inr ⟨rfl, rfl, rfl⟩⟩, Or.inl rfl⟩
theorem fp_BoneYard_Reader_60_1401 : ∀ t ∈ [2], 0 < t ∧ b_FP "BoneYard$Reader" 60 (t - 1) 1 (.object "BoneYard$Wrong") (nmT 1401) := fa_1 ⟨by decide, (RX1, TX1, 10), "BoneYard$Reader", rfl, by decide, tyX1_ok 1 (by decide), Or.inl ⟨q421, Or.inr ⟨rfl, rfl, rfl⟩⟩, Or.inl rfl⟩
theorem fp_BoneYard_Reader_68 {nm : MethodName} : ∀ t ∈ [2], 0 < t ∧ b_FP "BoneYard$Reader" 68 (t - 1) 2 (.array .byte) nm := fa_1 ⟨by decide, (RX1, TX1, 10), "BoneYard$Reader", rfl, by decide, tyX1_ok 2 (by decide), Or.inl ⟨q422, Or.inl rfl⟩, Or.inl rfl⟩
theorem fp_BoneYard_Reader_64 {nm : MethodName} : ∀ t ∈ [2], 0 < t ∧ b_FP "BoneYard$Reader" 64 (t - 1) 3 .int nm := fa_1 ⟨by decide, (RX1, TX1, 10), "BoneYard$Reader", rfl, by decide, tyX1_ok 3 (by decide), Or.inl ⟨q423, Or.inl rfl⟩, Or.inl rfl⟩
theorem fp_BoneYard_Reader_99 {nm : MethodName} : ∀ t ∈ [2], 0 < t ∧ b_FP "BoneYard$Reader" 99 (t - 1) 4 .int nm := fa_1 ⟨by decide, (RX1, TX1, 10), "BoneYard$Reader", rfl, by decide, tyX1_ok 4 (by decide), Or.inl ⟨q424, Or.inl rfl⟩, Or.inl rfl⟩
theorem fp_BoneYard_Reader_143 {nm : MethodName} : ∀ t ∈ [2], 0 < t ∧ b_FP "BoneYard$Reader" 143 (t - 1) 8 .int nm := fa_1 ⟨by decide, (RX1, TX1, 10), "BoneYard$Reader", rfl, by decide, tyX1_ok 8 (by decide), Or.inl ⟨q428, Or.inl rfl⟩, Or.inl rfl⟩
theorem fp_BoneYard_Reader_96 {nm : MethodName} : ∀ t ∈ [2], 0 < t ∧ b_FP "BoneYard$Reader" 96 (t - 1) 5 .int nm := fa_1 ⟨by decide, (RX1, TX1, 10), "BoneYard$Reader", rfl, by decide, tyX1_ok 5 (by decide), Or.inl ⟨q425, Or.inl rfl⟩, Or.inl rfl⟩
theorem fp_BoneYard_Reader_102 {nm : MethodName} : ∀ t ∈ [2], 0 < t ∧ b_FP "BoneYard$Reader" 102 (t - 1) 7 .int nm := fa_1 ⟨by decide, (RX1, TX1, 10), "BoneYard$Reader", rfl, by decide, tyX1_ok 7 (by decide), Or.inl ⟨q427, Or.inl rfl⟩, Or.inl rfl⟩
theorem fp_BoneYard_Reader_105 {nm : MethodName} : ∀ t ∈ [2], 0 < t ∧ b_FP "BoneYard$Reader" 105 (t - 1) 6 .int nm := fa_1 ⟨by decide, (RX1, TX1, 10), "BoneYard$Reader", rfl, by decide, tyX1_ok 6 (by decide), Or.inl ⟨q426, Or.inl rfl⟩, Or.inl rfl⟩
theorem fp_BoneYard_Reader_250 {nm : MethodName} : ∀ t ∈ [9], 0 < t ∧ b_FP "BoneYard$Reader" 250 (t - 1) 1 (.object "BoneYard$Cond") nm := fa_1 ⟨by decide, (RX8, TX8, 4), "BoneYard$Step", rfl, by decide, tyX8_ok 1 (by decide), Or.inr ⟨rfl, _, q945⟩, Or.inl rfl⟩
theorem fp_BoneYard_Reader_258 {nm : MethodName} : ∀ t ∈ [9], 0 < t ∧ b_FP "BoneYard$Reader" 258 (t - 1) 2 (.object "BoneYard$Goal") nm := fa_1 ⟨by decide, (RX8, TX8, 4), "BoneYard$Step", rfl, by decide, tyX8_ok 2 (by decide), Or.inr ⟨rfl, _, q947⟩, Or.inl rfl⟩
theorem fp_BoneYard_Reader_262 {nm : MethodName} : ∀ t ∈ [9], 0 < t ∧ b_FP "BoneYard$Reader" 262 (t - 1) 3 (.object "BoneYard$Goal") nm := fa_1 ⟨by decide, (RX8, TX8, 4), "BoneYard$Step", rfl, by decide, tyX8_ok 3 (by decide), Or.inr ⟨rfl, _, q949⟩, Or.inl rfl⟩
theorem fp_BoneYard_Wrong_7 {nm : MethodName} : ∀ t ∈ [3], 0 < t ∧ b_FP "BoneYard$Wrong" 7 (t - 1) 6 .int nm := fa_1 ⟨by decide, (RX2, TX2, 8), "BoneYard$Wrong", rfl, by decide, tyX2_ok 6 (by decide), Or.inl ⟨q409, Or.inl rfl⟩, Or.inl rfl⟩
theorem fp_BoneYard_Wrong_13 {nm : MethodName} : ∀ t ∈ [3], 0 < t ∧ b_FP "BoneYard$Wrong" 13 (t - 1) 7 .int nm := fa_1 ⟨by decide, (RX2, TX2, 8), "BoneYard$Wrong", rfl, by decide, tyX2_ok 7 (by decide), Or.inl ⟨q411, Or.inl rfl⟩, Or.inl rfl⟩
theorem fp_BoneYard_Row_9 {nm : MethodName} : ∀ t ∈ [4], 0 < t ∧ b_FP "BoneYard$Row" 9 (t - 1) 0 (.object "java/lang/Object") nm := fa_1 ⟨by decide, (RX3, TX3, 1), "BoneYard$Row", rfl, by decide, tyX3_ok 0 (by decide), Or.inl ⟨q459, Or.inl rfl⟩, Or.inl rfl⟩
theorem fp_BoneYard_Element_7_2001 : ∀ t ∈ [6], 0 < t ∧ b_FP "BoneYard$Element" 7 (t - 1) 0 .boolean (nmT 2001) := fa_1 ⟨by decide, (RX5, TX5, 5), "BoneYard$Element", rfl, by decide, tyX5_ok 0 (by decide), Or.inl ⟨q606, Or.inr ⟨rfl, rfl, rfl⟩⟩, Or.inl rfl⟩
theorem fp_BoneYard_Element_13_2001 : ∀ t ∈ [6], 0 < t ∧ b_FP "BoneYard$Element" 13 (t - 1) 1 .int (nmT 2001) := fa_1 ⟨by decide, (RX5, TX5, 5), "BoneYard$Element", rfl, by decide, tyX5_ok 1 (by decide), Or.inl ⟨q608, Or.inr ⟨rfl, rfl, rfl⟩⟩, Or.inl rfl⟩
theorem fp_BoneYard_Element_17_2001 : ∀ t ∈ [6], 0 < t ∧ b_FP "BoneYard$Element" 17 (t - 1) 2 .int (nmT 2001) := fa_1 ⟨by decide, (RX5, TX5, 5), "BoneYard$Element", rfl, by decide, tyX5_ok 2 (by decide), Or.inl ⟨q610, Or.inr ⟨rfl, rfl, rfl⟩⟩, Or.inl rfl⟩
theorem fp_BoneYard_Element_20_2001 : ∀ t ∈ [6], 0 < t ∧ b_FP "BoneYard$Element" 20 (t - 1) 3 .int (nmT 2001) := fa_1 ⟨by decide, (RX5, TX5, 5), "BoneYard$Element", rfl, by decide, tyX5_ok 3 (by decide), Or.inl ⟨q612, Or.inr ⟨rfl, rfl, rfl⟩⟩, Or.inl rfl⟩
theorem fp_BoneYard_Element_23_2001 : ∀ t ∈ [6], 0 < t ∧ b_FP "BoneYard$Element" 23 (t - 1) 4 .int (nmT 2001) := fa_1 ⟨by decide, (RX5, TX5, 5), "BoneYard$Element", rfl, by decide, tyX5_ok 4 (by decide), Or.inl ⟨q614, Or.inr ⟨rfl, rfl, rfl⟩⟩, Or.inl rfl⟩
theorem fp_BoneYard_Bone_9_2201 : ∀ t ∈ [7], 0 < t ∧ b_FP "BoneYard$Bone" 9 (t - 1) 6 (.array .int) (nmT 2201) := fa_1 ⟨by decide, (RX6, TX6, 7), "BoneYard$Bone", rfl, by decide, tyX6_ok 6 (by decide), Or.inl ⟨q677, Or.inr ⟨rfl, rfl, rfl⟩⟩, Or.inl rfl⟩
theorem fp_BoneYard_Bone_15_2201 : ∀ t ∈ [7], 0 < t ∧ b_FP "BoneYard$Bone" 15 (t - 1) 0 .int (nmT 2201) := fa_1 ⟨by decide, (RX6, TX6, 7), "BoneYard$Bone", rfl, by decide, tyX6_ok 0 (by decide), Or.inl ⟨q665, Or.inr ⟨rfl, rfl, rfl⟩⟩, Or.inl rfl⟩
theorem fp_BoneYard_Bone_19_2201 : ∀ t ∈ [7], 0 < t ∧ b_FP "BoneYard$Bone" 19 (t - 1) 1 .int (nmT 2201) := fa_1 ⟨by decide, (RX6, TX6, 7), "BoneYard$Bone", rfl, by decide, tyX6_ok 1 (by decide), Or.inl ⟨q667, Or.inr ⟨rfl, rfl, rfl⟩⟩, Or.inl rfl⟩
theorem fp_BoneYard_Bone_22_2201 : ∀ t ∈ [7], 0 < t ∧ b_FP "BoneYard$Bone" 22 (t - 1) 2 .int (nmT 2201) := fa_1 ⟨by decide, (RX6, TX6, 7), "BoneYard$Bone", rfl, by decide, tyX6_ok 2 (by decide), Or.inl ⟨q669, Or.inr ⟨rfl, rfl, rfl⟩⟩, Or.inl rfl⟩
theorem fp_BoneYard_Bone_25_2201 : ∀ t ∈ [7], 0 < t ∧ b_FP "BoneYard$Bone" 25 (t - 1) 3 .int (nmT 2201) := fa_1 ⟨by decide, (RX6, TX6, 7), "BoneYard$Bone", rfl, by decide, tyX6_ok 3 (by decide), Or.inl ⟨q671, Or.inr ⟨rfl, rfl, rfl⟩⟩, Or.inl rfl⟩
theorem fp_BoneYard_Bone_28_2201 : ∀ t ∈ [7], 0 < t ∧ b_FP "BoneYard$Bone" 28 (t - 1) 4 .int (nmT 2201) := fa_1 ⟨by decide, (RX6, TX6, 7), "BoneYard$Bone", rfl, by decide, tyX6_ok 4 (by decide), Or.inl ⟨q673, Or.inr ⟨rfl, rfl, rfl⟩⟩, Or.inl rfl⟩
theorem fp_BoneYard_Bone_31_2201 : ∀ t ∈ [7], 0 < t ∧ b_FP "BoneYard$Bone" 31 (t - 1) 5 .boolean (nmT 2201) := fa_1 ⟨by decide, (RX6, TX6, 7), "BoneYard$Bone", rfl, by decide, tyX6_ok 5 (by decide), Or.inl ⟨q675, Or.inr ⟨rfl, rfl, rfl⟩⟩, Or.inl rfl⟩
theorem fp_BoneYard_Key_14_2401 : ∀ t ∈ [8], 0 < t ∧ b_FP "BoneYard$Key" 14 (t - 1) 0 (.object "java/util/List") (nmT 2401) := fa_1 ⟨by decide, (RX7, TX7, 1), "BoneYard$Key", rfl, by decide, tyX7_ok 0 (by decide), Or.inl ⟨q874, Or.inr ⟨rfl, rfl, rfl⟩⟩, Or.inl rfl⟩
theorem fp_BoneYard_Step_7_2601 : ∀ t ∈ [9], 0 < t ∧ b_FP "BoneYard$Step" 7 (t - 1) 0 .int (nmT 2601) := fa_1 ⟨by decide, (RX8, TX8, 4), "BoneYard$Step", rfl, by decide, tyX8_ok 0 (by decide), Or.inl ⟨q941, Or.inr ⟨rfl, rfl, rfl⟩⟩, Or.inl rfl⟩
theorem fp_BoneYard_All_12_3001 : ∀ t ∈ [10, 11, 12], 0 < t ∧ b_FP "BoneYard$All" 12 (t - 1) 0 (.object "java/util/List") (nmT 3001) := fa_3 ⟨by decide, (RX10, TX10, 1), "BoneYard$All", rfl, by decide, tyX10_ok 0 (by decide), Or.inl ⟨q985, Or.inr ⟨rfl, rfl, rfl⟩⟩, Or.inl rfl⟩ ⟨by decide, (RX11, TX11, 1), "BoneYard$All", rfl, by decide, tyX11_ok 0 (by decide), Or.inl ⟨q985, Or.inr ⟨rfl, rfl, rfl⟩⟩, Or.inl rfl⟩ ⟨by decide, (RX12, TX12, 1), "BoneYard$All", rfl, by decide, tyX12_ok 0 (by decide), Or.inl ⟨q985, Or.inr ⟨rfl, rfl, rfl⟩⟩, Or.inl rfl⟩
theorem fp_BoneYard_Chain_12_3801 : ∀ t ∈ [13], 0 < t ∧ b_FP "BoneYard$Chain" 12 (t - 1) 0 (.object "java/util/List") (nmT 3801) := fa_1 ⟨by decide, (RX14, TX14, 2), "BoneYard$Chain", rfl, by decide, tyX14_ok 0 (by decide), Or.inl ⟨q1135, Or.inr ⟨rfl, rfl, rfl⟩⟩, Or.inl rfl⟩
theorem fp_BoneYard_Chain_18_3801 : ∀ t ∈ [13], 0 < t ∧ b_FP "BoneYard$Chain" 18 (t - 1) 1 (.object "java/util/List") (nmT 3801) := fa_1 ⟨by decide, (RX14, TX14, 2), "BoneYard$Chain", rfl, by decide, tyX14_ok 1 (by decide), Or.inl ⟨q1136, Or.inr ⟨rfl, rfl, rfl⟩⟩, Or.inl rfl⟩
theorem fp_BoneYard_Name_7_4001 : ∀ t ∈ [14], 0 < t ∧ b_FP "BoneYard$Name" 7 (t - 1) 0 .int (nmT 4001) := fa_1 ⟨by decide, (RX15, TX15, 1), "BoneYard$Name", rfl, by decide, tyX15_ok 0 (by decide), Or.inl ⟨q1113, Or.inr ⟨rfl, rfl, rfl⟩⟩, Or.inl rfl⟩
theorem fp_BoneYard_Told_7_4201 : ∀ t ∈ [15], 0 < t ∧ b_FP "BoneYard$Told" 7 (t - 1) 0 .int (nmT 4201) := fa_1 ⟨by decide, (RX16, TX16, 1), "BoneYard$Told", rfl, by decide, tyX16_ok 0 (by decide), Or.inl ⟨q1123, Or.inr ⟨rfl, rfl, rfl⟩⟩, Or.inl rfl⟩
theorem fp_BoneYard_Compared_7_4401 : ∀ t ∈ [16], 0 < t ∧ b_FP "BoneYard$Compared" 7 (t - 1) 0 (.object "BoneYard$Sum") (nmT 4401) := fa_1 ⟨by decide, (RX17, TX17, 3), "BoneYard$Compared", rfl, by decide, tyX17_ok 0 (by decide), Or.inl ⟨q1172, Or.inr ⟨rfl, rfl, rfl⟩⟩, Or.inl rfl⟩
theorem fp_BoneYard_Compared_13_4401 : ∀ t ∈ [16], 0 < t ∧ b_FP "BoneYard$Compared" 13 (t - 1) 2 .int (nmT 4401) := fa_1 ⟨by decide, (RX17, TX17, 3), "BoneYard$Compared", rfl, by decide, tyX17_ok 2 (by decide), Or.inl ⟨q1174, Or.inr ⟨rfl, rfl, rfl⟩⟩, Or.inl rfl⟩
theorem fp_BoneYard_Compared_17_4401 : ∀ t ∈ [16], 0 < t ∧ b_FP "BoneYard$Compared" 17 (t - 1) 1 (.object "BoneYard$Sum") (nmT 4401) := fa_1 ⟨by decide, (RX17, TX17, 3), "BoneYard$Compared", rfl, by decide, tyX17_ok 1 (by decide), Or.inl ⟨q1173, Or.inr ⟨rfl, rfl, rfl⟩⟩, Or.inl rfl⟩
theorem fp_BoneYard_Goal_7_4601 : ∀ t ∈ [17], 0 < t ∧ b_FP "BoneYard$Goal" 7 (t - 1) 0 .int (nmT 4601) := fa_1 ⟨by decide, (RX18, TX18, 3), "BoneYard$Goal", rfl, by decide, tyX18_ok 0 (by decide), Or.inl ⟨q1196, Or.inr ⟨rfl, rfl, rfl⟩⟩, Or.inl rfl⟩
theorem fp_BoneYard_Goal_13_4601 : ∀ t ∈ [17], 0 < t ∧ b_FP "BoneYard$Goal" 13 (t - 1) 1 .int (nmT 4601) := fa_1 ⟨by decide, (RX18, TX18, 3), "BoneYard$Goal", rfl, by decide, tyX18_ok 1 (by decide), Or.inl ⟨q1199, Or.inr ⟨rfl, rfl, rfl⟩⟩, Or.inl rfl⟩
theorem fp_BoneYard_Goal_16_4601 : ∀ t ∈ [17], 0 < t ∧ b_FP "BoneYard$Goal" 16 (t - 1) 2 .int (nmT 4601) := fa_1 ⟨by decide, (RX18, TX18, 3), "BoneYard$Goal", rfl, by decide, tyX18_ok 2 (by decide), Or.inl ⟨q1201, Or.inr ⟨rfl, rfl, rfl⟩⟩, Or.inl rfl⟩
theorem fp_java_util_AbstractList_7 {nm : MethodName} : ∀ t ∈ [19], 0 < t ∧ b_FP "java/util/AbstractList" 7 (t - 1) 0 .int nm := fa_1 ⟨by decide, (RJ9, TJ9, 3), "java/util/AbstractList", rfl, by decide, tyJ9_ok 0 (by decide), Or.inl ⟨q864, Or.inl rfl⟩, Or.inl rfl⟩
theorem fp_java_util_ArrayList_9 {nm : MethodName} : ∀ t ∈ [19], 0 < t ∧ b_FP "java/util/ArrayList" 9 (t - 1) 1 (.array (.object "java/lang/Object")) nm := fa_1 ⟨by decide, (RJ9, TJ9, 3), "java/util/ArrayList", rfl, by decide, tyJ9_ok 1 (by decide), Or.inl ⟨q862, Or.inl rfl⟩, Or.inl rfl⟩
theorem fp_java_util_ArrayList_63 {nm : MethodName} : ∀ t ∈ [19], 0 < t ∧ b_FP "java/util/ArrayList" 63 (t - 1) 0 .int nm := fa_1 ⟨by decide, (RJ9, TJ9, 3), "java/util/ArrayList", rfl, by decide, tyJ9_ok 0 (by decide), Or.inl ⟨q865, Or.inl rfl⟩, Or.inr q866⟩
theorem fp_java_util_ArrayList_48 {nm : MethodName} : ∀ t ∈ [19], 0 < t ∧ b_FP "java/util/ArrayList" 48 (t - 1) 2 .int nm := fa_1 ⟨by decide, (RJ9, TJ9, 3), "java/util/ArrayList", rfl, by decide, tyJ9_ok 2 (by decide), Or.inl ⟨q863, Or.inl rfl⟩, Or.inl rfl⟩
theorem fp_java_lang_Integer_205_7002 : ∀ t ∈ [20], 0 < t ∧ b_FP "java/lang/Integer" 205 (t - 1) 0 .int (nmT 7002) := fa_1 ⟨by decide, (RJ14, TJ14, 1), "java/lang/Integer", rfl, by decide, tyJ14_ok 0 (by decide), Or.inl ⟨q1162, Or.inr ⟨rfl, rfl, rfl⟩⟩, Or.inl rfl⟩
theorem hcx_1229_47 : b_HC nmT hhT 1229 47 [(2, 75)] := Or.inr ⟨List.cons_ne_nil _ _, fun ci hpc h => by
  replace h := b_lkN_mem h
  rcases List.mem_cons.mp h with e | h
  · cases e

    exact ⟨tableOf [], tableOf [(17, 68, 102, 0), (75, 95, 102, 0)], ⟨17, 68, 75, 258⟩, _, rfl, rfl, (fun w hw => nomatch hw), rfl, by decide, rfl, _, q761, q398⟩
  exact nomatch h⟩
theorem hcx_1801_30 : b_HC nmT hhT 1801 30 [(20, 68)] := Or.inr ⟨List.cons_ne_nil _ _, fun ci hpc h => by
  replace h := b_lkN_mem h
  rcases List.mem_cons.mp h with e | h
  · cases e

    exact ⟨tableOf [], tableOf [], ⟨0, 65, 68, 15⟩, _, rfl, rfl, (fun w hw => nomatch hw), rfl, by decide, rfl, _, q166, q231⟩
  exact nomatch h⟩
theorem hcx_1801_40 : b_HC nmT hhT 1801 40 [(20, 68)] := Or.inr ⟨List.cons_ne_nil _ _, fun ci hpc h => by
  replace h := b_lkN_mem h
  rcases List.mem_cons.mp h with e | h
  · cases e

    exact ⟨tableOf [], tableOf [], ⟨0, 65, 68, 15⟩, _, rfl, rfl, (fun w hw => nomatch hw), rfl, by decide, rfl, _, q166, q231⟩
  exact nomatch h⟩
theorem hcx_1801_50 : b_HC nmT hhT 1801 50 [(20, 68)] := Or.inr ⟨List.cons_ne_nil _ _, fun ci hpc h => by
  replace h := b_lkN_mem h
  rcases List.mem_cons.mp h with e | h
  · cases e

    exact ⟨tableOf [], tableOf [], ⟨0, 65, 68, 15⟩, _, rfl, rfl, (fun w hw => nomatch hw), rfl, by decide, rfl, _, q166, q231⟩
  exact nomatch h⟩
theorem hcx_1801_60 : b_HC nmT hhT 1801 60 [(20, 68)] := Or.inr ⟨List.cons_ne_nil _ _, fun ci hpc h => by
  replace h := b_lkN_mem h
  rcases List.mem_cons.mp h with e | h
  · cases e

    exact ⟨tableOf [], tableOf [], ⟨0, 65, 68, 15⟩, _, rfl, rfl, (fun w hw => nomatch hw), rfl, by decide, rfl, _, q166, q231⟩
  exact nomatch h⟩
theorem hcx_1802_3 : b_HC nmT hhT 1802 3 [(21, 9), (22, 14)] := Or.inr ⟨List.cons_ne_nil _ _, fun ci hpc h => by
  replace h := b_lkN_mem h
  rcases List.mem_cons.mp h with e | h
  · cases e

    exact ⟨tableOf [], tableOf [(0, 6, 14, 31)], ⟨0, 6, 9, 29⟩, _, rfl, rfl, (fun w hw => nomatch hw), rfl, by decide, rfl, _, q269, q291⟩
  rcases List.mem_cons.mp h with e | h
  · cases e

    exact ⟨tableOf [(0, 6, 9, 29)], tableOf [], ⟨0, 6, 14, 31⟩, _, rfl, rfl, (fa_1 (Or.inr ⟨by decide, _, q269, b_fl_of (by decide +kernel)⟩)), rfl, by decide, rfl, _, q294, q309⟩
  exact nomatch h⟩
theorem hcx_1804_4 : b_HC nmT hhT 1804 4 [(23, 18)] := Or.inr ⟨List.cons_ne_nil _ _, fun ci hpc h => by
  replace h := b_lkN_mem h
  rcases List.mem_cons.mp h with e | h
  · cases e

    exact ⟨tableOf [], tableOf [], ⟨0, 15, 18, 36⟩, _, rfl, rfl, (fun w hw => nomatch hw), rfl, by decide, rfl, _, q324, q336⟩
  exact nomatch h⟩
theorem hcx_1805_43 : b_HC nmT hhT 1805 43 [(22, 49)] := Or.inr ⟨List.cons_ne_nil _ _, fun ci hpc h => by
  replace h := b_lkN_mem h
  rcases List.mem_cons.mp h with e | h
  · cases e

    exact ⟨tableOf [], tableOf [], ⟨31, 46, 49, 48⟩, _, rfl, rfl, (fun w hw => nomatch hw), rfl, by decide, rfl, _, q348, q2122⟩
  exact nomatch h⟩
