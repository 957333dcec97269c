/-! ===== the reference leaves the sheets' cells 10, 11, 12 alone (printed by gen/keep.py) ===== -/
set_option maxRecDepth 100000
def SL (μ μ' : Nat → Nat → Int32) : Prop := ∀ k, 10 ≤ k → k ≤ 12 → μ' k = μ k
def oK {α : Type} (x : Option α) (P : α → Prop) : Prop := ∀ a, x = some a → P a
def oKS {S T : Type} (A : S → Prop) (B : T → Prop) : S ⊕ T → Prop
  | .inl s => A s
  | .inr t => B t
theorem SL.rf {μ : Nat → Nat → Int32} : SL μ μ := fun _ _ _ => rfl
theorem SL_u {μ0 s : Nat → Nat → Int32} {k j : Nat} {v : Int32} (h : SL μ0 s) (hk : k < 10 ∨ 12 < k) : SL μ0 (upd2 s k j v) := fun i h1 h2 => by
  rw [u2_k _ _ _ (by omega)]
  exact h i h1 h2
theorem oK_B {α β : Type} {x : Option α} {f : α → Option β} {Q : α → Prop} {P : β → Prop} (h : oK x Q) (k : ∀ a, Q a → oK (f a) P) : oK (oB x f) P := fun b e => by
  obtain ⟨a, e1, e2⟩ := oB_some e
  exact k a (h a e1) b e2
theorem oK_Bn {α β : Type} {x : Option α} {f : α → Option β} {P : β → Prop} (k : ∀ a, oK (f a) P) : oK (oB x f) P := fun b e => by
  obtain ⟨a, _, e2⟩ := oB_some e
  exact k a b e2
theorem oK_Lk {σ α : Type} {s : σ} {f : σ → Option α} {Q : σ → Prop} {P : α → Prop} (h : Q s) (k : ∀ a, Q a → oK (f a) P) : oK (oL s f) P := k s h
theorem oK_C {α : Type} {b : Bool} {x : Option α} {P : α → Prop} (k : oK x P) : oK (oC b x) P := fun a e => k a (oC_some e).2
theorem oK_I {α β : Type} {x : Option α} {P : β ⊕ α → Prop} (k : oK x (fun a => P (.inr a))) : oK (oI x) P := fun b e => by
  obtain ⟨a, e1, rfl⟩ := oI_some e
  exact k a e1
theorem oK_if {α : Type} {c : Prop} [Decidable c] {a b : Option α} {P : α → Prop} (h1 : oK a P) (h2 : oK b P) : oK (if c then a else b) P := by
  by_cases h : c
  · rw [if_pos h]; exact h1
  · rw [if_neg h]; exact h2
theorem oK_s {α : Type} {a : α} {P : α → Prop} (h : P a) : oK (some a) P := fun b e => by
  cases e
  exact h
theorem oK_lp {σ ρ : Type} {f : σ → Option (σ ⊕ ρ)} {P : ρ → Prop} (I : σ → Prop) {s : σ} (h0 : I s) (hs : ∀ s, I s → oK (f s) (oKS I P)) : oK (oLoop gFU f s) P := fun r e =>
  oLoop_ind (fun s => I s → P r) (fun r' => r' = r) (fun s o hf hE hi => by
    have h1 := hs s hi o hf
    cases o with
    | inl s' => exact hE h1
    | inr r' =>
      have : r' = r := hE
      subst this
      exact h1) gFU s r e rfl h0
theorem k_X7_feed {μ0 : Nat → Nat → Int32} {σ : (Nat → Nat → Int32)} {l1 : Int32} (h : SL μ0 σ) : oK (f_X7_feed σ l1) (fun o => SL μ0 o.2) := by
  unfold f_X7_feed
  refine oK_Bn (fun r1 => ?_)
  refine oK_if ?_ ?_
  · exact oK_s (by first | assumption | exact True.intro | exact SL_u (by assumption) (by decide))
  · refine oK_if ?_ ?_
    · exact oK_s (by first | assumption | exact True.intro | exact SL_u (by assumption) (by decide))
    · refine oK_C ?_
      refine oK_Lk (Q := SL μ0) (by first | assumption | exact True.intro | exact SL_u (by assumption) (by decide)) (fun s2 hs2 => ?_)
      refine oK_Lk (Q := SL μ0) (by first | assumption | exact True.intro | exact SL_u (by assumption) (by decide)) (fun s3 hs3 => ?_)
      exact oK_s (by first | assumption | exact True.intro | exact SL_u (by assumption) (by decide))
theorem k_X7_end {μ0 : Nat → Nat → Int32} {σ : (Nat → Nat → Int32)} {l1 : Int32} (h : SL μ0 σ) : oK (f_X7_end σ l1) (fun o => SL μ0 o.2) := by
  unfold f_X7_end
  refine oK_Bn (fun r1 => ?_)
  refine oK_if ?_ ?_
  · exact oK_s (by first | assumption | exact True.intro | exact SL_u (by assumption) (by decide))
  · refine oK_Lk (Q := SL μ0) (by first | assumption | exact True.intro | exact SL_u (by assumption) (by decide)) (fun s2 hs2 => ?_)
    exact oK_s (by first | assumption | exact True.intro | exact SL_u (by assumption) (by decide))
theorem k_X7_fails {μ0 : Nat → Nat → Int32} {σ : (Nat → Nat → Int32)} {l1 : Int32} (h : SL μ0 σ) : oK (f_X7_fails σ l1) (fun o => SL μ0 o) := by
  unfold f_X7_fails
  refine oK_if ?_ ?_
  · refine oK_Lk (Q := SL μ0) (by first | assumption | exact True.intro | exact SL_u (by assumption) (by decide)) (fun s1 hs1 => ?_)
    refine oK_Lk (Q := SL μ0) (by first | assumption | exact True.intro | exact SL_u (by assumption) (by decide)) (fun s2 hs2 => ?_)
    exact oK_s (by first | assumption | exact True.intro | exact SL_u (by assumption) (by decide))
  · exact oK_s (by first | assumption | exact True.intro | exact SL_u (by assumption) (by decide))
theorem k_X7_step_b201 {μ0 : Nat → Nat → Int32} {σ : (Nat → Nat → Int32)} {k2 : Int32} (h : SL μ0 σ) : oK (f_X7_step_b201 σ k2) (oKS (fun o => SL μ0 o) (fun o => SL μ0 o)) := by
  unfold f_X7_step_b201
  refine oK_Lk (Q := SL μ0) (by first | assumption | exact True.intro | exact SL_u (by assumption) (by decide)) (fun s1 hs1 => ?_)
  refine oK_Lk (Q := SL μ0) (by first | assumption | exact True.intro | exact SL_u (by assumption) (by decide)) (fun s2 hs2 => ?_)
  exact oK_s (by first | assumption | exact True.intro | exact SL_u (by assumption) (by decide))
theorem k_X7_step_L140 {μ0 : Nat → Nat → Int32} {σ : (Nat → Nat → Int32)} (h : SL μ0 σ) : oK (f_X7_step_L140 σ) (oKS (fun o => SL μ0 o) (fun o => SL μ0 o)) := by
  unfold f_X7_step_L140
  refine oK_Bn (fun r1 => ?_)
  refine oK_Bn (fun r2 => ?_)
  refine oK_if ?_ ?_
  · refine oK_I ?_
    refine oK_Lk (Q := SL μ0) (by first | assumption | exact True.intro | exact SL_u (by assumption) (by decide)) (fun s3 hs3 => ?_)
    refine oK_if ?_ ?_
    · exact oK_s (by first | assumption | exact True.intro | exact SL_u (by assumption) (by decide))
    · refine oK_B (k_X7_fails (by first | assumption | exact True.intro | exact SL_u (by assumption) (by decide))) (fun r4 hr4 => ?_)
      exact oK_s (by first | assumption | exact True.intro | exact SL_u (by assumption) (by decide))
  · refine oK_if ?_ ?_
    · exact k_X7_step_b201 (by first | assumption | exact True.intro | exact SL_u (by assumption) (by decide))
    · refine oK_Bn (fun r5 => ?_)
      exact k_X7_step_b201 (by first | assumption | exact True.intro | exact SL_u (by assumption) (by decide))
theorem k_X7_step_b140 {μ0 : Nat → Nat → Int32} {σ : (Nat → Nat → Int32)} (h : SL μ0 σ) : oK (f_X7_step_b140 σ) (fun o => SL μ0 o) := by
  unfold f_X7_step_b140
  exact oK_lp (fun o => SL μ0 o) (by first | assumption | exact True.intro | exact SL_u (by assumption) (by decide)) (fun v hv => k_X7_step_L140 (by first | assumption | exact True.intro | exact SL_u (by assumption) (by decide)))
theorem k_X7_step_L84 {μ0 : Nat → Nat → Int32} {σ : (Nat → Nat → Int32)} (h : SL μ0 σ) : oK (f_X7_step_L84 σ) (oKS (fun o => SL μ0 o) (fun o => SL μ0 o)) := by
  unfold f_X7_step_L84
  refine oK_Bn (fun r1 => ?_)
  refine oK_Bn (fun r2 => ?_)
  refine oK_if ?_ ?_
  · refine oK_I ?_
    refine oK_Lk (Q := SL μ0) (by first | assumption | exact True.intro | exact SL_u (by assumption) (by decide)) (fun s3 hs3 => ?_)
    exact oK_s (by first | assumption | exact True.intro | exact SL_u (by assumption) (by decide))
  · refine oK_Lk (Q := SL μ0) (by first | assumption | exact True.intro | exact SL_u (by assumption) (by decide)) (fun s4 hs4 => ?_)
    exact oK_s (by first | assumption | exact True.intro | exact SL_u (by assumption) (by decide))
theorem k_X7_step_b84 {μ0 : Nat → Nat → Int32} {σ : (Nat → Nat → Int32)} (h : SL μ0 σ) : oK (f_X7_step_b84 σ) (fun o => SL μ0 o) := by
  unfold f_X7_step_b84
  exact oK_lp (fun o => SL μ0 o) (by first | assumption | exact True.intro | exact SL_u (by assumption) (by decide)) (fun v hv => k_X7_step_L84 (by first | assumption | exact True.intro | exact SL_u (by assumption) (by decide)))
theorem k_X7_step_L8 {μ0 : Nat → Nat → Int32} {σ : (Nat → Nat → Int32)} (h : SL μ0 σ) : oK (f_X7_step_L8 σ) (oKS (fun o => SL μ0 o) (fun o => SL μ0 o)) := by
  unfold f_X7_step_L8
  refine oK_Bn (fun r1 => ?_)
  refine oK_if ?_ ?_
  · refine oK_Lk (Q := SL μ0) (by first | assumption | exact True.intro | exact SL_u (by assumption) (by decide)) (fun s2 hs2 => ?_)
    exact oK_s (by first | assumption | exact True.intro | exact SL_u (by assumption) (by decide))
  · refine oK_I ?_
    refine oK_Lk (Q := SL μ0) (by first | assumption | exact True.intro | exact SL_u (by assumption) (by decide)) (fun s3 hs3 => ?_)
    refine oK_Bn (fun r4 => ?_)
    refine oK_Lk (Q := SL μ0) (by first | assumption | exact True.intro | exact SL_u (by assumption) (by decide)) (fun s5 hs5 => ?_)
    refine oK_if ?_ ?_
    · refine oK_Lk (Q := SL μ0) (by first | assumption | exact True.intro | exact SL_u (by assumption) (by decide)) (fun s6 hs6 => ?_)
      exact oK_s (by first | assumption | exact True.intro | exact SL_u (by assumption) (by decide))
    · refine oK_Bn (fun r7 => ?_)
      refine oK_if ?_ ?_
      · refine oK_Bn (fun r8 => ?_)
        refine oK_if ?_ ?_
        · refine oK_Lk (Q := SL μ0) (by first | assumption | exact True.intro | exact SL_u (by assumption) (by decide)) (fun s9 hs9 => ?_)
          refine oK_Lk (Q := SL μ0) (by first | assumption | exact True.intro | exact SL_u (by assumption) (by decide)) (fun s10 hs10 => ?_)
          refine oK_if ?_ ?_
          · exact oK_s (by first | assumption | exact True.intro | exact SL_u (by assumption) (by decide))
          · refine oK_B (k_X7_fails (by first | assumption | exact True.intro | exact SL_u (by assumption) (by decide))) (fun r11 hr11 => ?_)
            exact oK_s (by first | assumption | exact True.intro | exact SL_u (by assumption) (by decide))
        · exact k_X7_step_b140 (by first | assumption | exact True.intro | exact SL_u (by assumption) (by decide))
      · exact k_X7_step_b84 (by first | assumption | exact True.intro | exact SL_u (by assumption) (by decide))
theorem k_X7_step_b8 {μ0 : Nat → Nat → Int32} {σ : (Nat → Nat → Int32)} (h : SL μ0 σ) : oK (f_X7_step_b8 σ) (fun o => SL μ0 o) := by
  unfold f_X7_step_b8
  exact oK_lp (fun o => SL μ0 o) (by first | assumption | exact True.intro | exact SL_u (by assumption) (by decide)) (fun v hv => k_X7_step_L8 (by first | assumption | exact True.intro | exact SL_u (by assumption) (by decide)))
theorem k_X7_step {μ0 : Nat → Nat → Int32} {σ : (Nat → Nat → Int32)} (h : SL μ0 σ) : oK (f_X7_step σ) (fun o => SL μ0 o) := by
  unfold f_X7_step
  refine oK_if ?_ ?_
  · exact k_X7_step_b8 (by first | assumption | exact True.intro | exact SL_u (by assumption) (by decide))
  · exact oK_s (by first | assumption | exact True.intro | exact SL_u (by assumption) (by decide))
theorem k_X7_number_b62 {μ0 : Nat → Nat → Int32} {σ : (Nat → Nat → Int32)} {k1 : Int32} (h : SL μ0 σ) : oK (f_X7_number_b62 σ k1) (fun o => SL μ0 o.2) := by
  unfold f_X7_number_b62
  refine oK_B (k_X7_step (by first | assumption | exact True.intro | exact SL_u (by assumption) (by decide))) (fun r1 hr1 => ?_)
  exact oK_s (by first | assumption | exact True.intro | exact SL_u (by assumption) (by decide))
theorem k_X7_number_b47 {μ0 : Nat → Nat → Int32} {σ : (Nat → Nat → Int32)} {l1 : Int32} (h : SL μ0 σ) : oK (f_X7_number_b47 σ l1) (fun o => SL μ0 o.2) := by
  unfold f_X7_number_b47
  refine oK_if ?_ ?_
  · exact k_X7_number_b62 (by first | assumption | exact True.intro | exact SL_u (by assumption) (by decide))
  · exact k_X7_number_b62 (by first | assumption | exact True.intro | exact SL_u (by assumption) (by decide))
theorem k_X7_number_b20 {μ0 : Nat → Nat → Int32} {σ : (Nat → Nat → Int32)} {l1 : Int32} {l2 : Int32} (h : SL μ0 σ) : oK (f_X7_number_b20 σ l1 l2) (fun o => SL μ0 o.2) := by
  unfold f_X7_number_b20
  refine oK_if ?_ ?_
  · refine oK_Bn (fun r1 => ?_)
    refine oK_if ?_ ?_
    · refine oK_B (k_X7_fails (by first | assumption | exact True.intro | exact SL_u (by assumption) (by decide))) (fun r2 hr2 => ?_)
      exact k_X7_number_b47 (by first | assumption | exact True.intro | exact SL_u (by assumption) (by decide))
    · exact k_X7_number_b47 (by first | assumption | exact True.intro | exact SL_u (by assumption) (by decide))
  · exact k_X7_number_b47 (by first | assumption | exact True.intro | exact SL_u (by assumption) (by decide))
theorem k_X7_number {μ0 : Nat → Nat → Int32} {σ : (Nat → Nat → Int32)} {l1 : Int32} {l2 : Int32} (h : SL μ0 σ) : oK (f_X7_number σ l1 l2) (fun o => SL μ0 o.2) := by
  unfold f_X7_number
  refine oK_if ?_ ?_
  · refine oK_if ?_ ?_
    · exact k_X7_number_b20 (by first | assumption | exact True.intro | exact SL_u (by assumption) (by decide))
    · refine oK_B (k_X7_fails (by first | assumption | exact True.intro | exact SL_u (by assumption) (by decide))) (fun r1 hr1 => ?_)
      exact k_X7_number_b20 (by first | assumption | exact True.intro | exact SL_u (by assumption) (by decide))
  · exact k_X7_number_b20 (by first | assumption | exact True.intro | exact SL_u (by assumption) (by decide))
theorem k_X7_cellHere_b63 {μ0 : Nat → Nat → Int32} {σ : (Nat → Nat → Int32)} (h : SL μ0 σ) : oK (f_X7_cellHere_b63 σ) (fun o => SL μ0 o.2) := by
  unfold f_X7_cellHere_b63
  refine oK_B (k_X7_number (by first | assumption | exact True.intro | exact SL_u (by assumption) (by decide))) (fun r1 hr1 => ?_)
  exact oK_s (by first | assumption | exact True.intro | exact SL_u (by assumption) (by decide))
theorem k_X7_cellHere_b32 {μ0 : Nat → Nat → Int32} {σ : (Nat → Nat → Int32)} (h : SL μ0 σ) : oK (f_X7_cellHere_b32 σ) (fun o => SL μ0 o.2) := by
  unfold f_X7_cellHere_b32
  refine oK_if ?_ ?_
  · refine oK_if ?_ ?_
    · refine oK_Bn (fun r1 => ?_)
      refine oK_if ?_ ?_
      · exact k_X7_cellHere_b63 (by first | assumption | exact True.intro | exact SL_u (by assumption) (by decide))
      · refine oK_B (k_X7_fails (by first | assumption | exact True.intro | exact SL_u (by assumption) (by decide))) (fun r2 hr2 => ?_)
        exact k_X7_cellHere_b63 (by first | assumption | exact True.intro | exact SL_u (by assumption) (by decide))
    · exact k_X7_cellHere_b63 (by first | assumption | exact True.intro | exact SL_u (by assumption) (by decide))
  · exact k_X7_cellHere_b63 (by first | assumption | exact True.intro | exact SL_u (by assumption) (by decide))
theorem k_X7_cellHere {μ0 : Nat → Nat → Int32} {σ : (Nat → Nat → Int32)} (h : SL μ0 σ) : oK (f_X7_cellHere σ) (fun o => SL μ0 o.2) := by
  unfold f_X7_cellHere
  refine oK_if ?_ ?_
  · refine oK_if ?_ ?_
    · refine oK_if ?_ ?_
      · exact k_X7_cellHere_b32 (by first | assumption | exact True.intro | exact SL_u (by assumption) (by decide))
      · refine oK_B (k_X7_fails (by first | assumption | exact True.intro | exact SL_u (by assumption) (by decide))) (fun r1 hr1 => ?_)
        exact k_X7_cellHere_b32 (by first | assumption | exact True.intro | exact SL_u (by assumption) (by decide))
    · exact k_X7_cellHere_b32 (by first | assumption | exact True.intro | exact SL_u (by assumption) (by decide))
  · exact k_X7_cellHere_b32 (by first | assumption | exact True.intro | exact SL_u (by assumption) (by decide))
theorem k_X7_readMore_b172 {μ0 : Nat → Nat → Int32} {σ : (Nat → Nat → Int32)} {l2 : Int32} {l3 : Int32} {k2 : Int32} (h : SL μ0 σ) : oK (f_X7_readMore_b172 σ l2 l3 k2) (fun o => SL μ0 o) := by
  unfold f_X7_readMore_b172
  refine oK_Lk (Q := SL μ0) (by first | assumption | exact True.intro | exact SL_u (by assumption) (by decide)) (fun s1 hs1 => ?_)
  refine oK_C ?_
  refine oK_Lk (Q := SL μ0) (by first | assumption | exact True.intro | exact SL_u (by assumption) (by decide)) (fun s2 hs2 => ?_)
  refine oK_B (k_X7_number (by first | assumption | exact True.intro | exact SL_u (by assumption) (by decide))) (fun r3 hr3 => ?_)
  refine oK_C ?_
  refine oK_Lk (Q := SL μ0) (by first | assumption | exact True.intro | exact SL_u (by assumption) (by decide)) (fun s4 hs4 => ?_)
  refine oK_C ?_
  refine oK_C ?_
  refine oK_Lk (Q := SL μ0) (by first | assumption | exact True.intro | exact SL_u (by assumption) (by decide)) (fun s5 hs5 => ?_)
  exact oK_s (by first | assumption | exact True.intro | exact SL_u (by assumption) (by decide))
theorem k_X7_readMore {μ0 : Nat → Nat → Int32} {σ : (Nat → Nat → Int32)} {l1 : Int32} (h : SL μ0 σ) : oK (f_X7_readMore σ l1) (fun o => SL μ0 o) := by
  unfold f_X7_readMore
  refine oK_if ?_ ?_
  · refine oK_if ?_ ?_
    · refine oK_C ?_
      refine oK_B (k_X7_cellHere (by first | assumption | exact True.intro | exact SL_u (by assumption) (by decide))) (fun r1 hr1 => ?_)
      refine oK_C ?_
      refine oK_Lk (Q := SL μ0) (by first | assumption | exact True.intro | exact SL_u (by assumption) (by decide)) (fun s2 hs2 => ?_)
      refine oK_B (k_X7_number (by first | assumption | exact True.intro | exact SL_u (by assumption) (by decide))) (fun r3 hr3 => ?_)
      refine oK_C ?_
      refine oK_Lk (Q := SL μ0) (by first | assumption | exact True.intro | exact SL_u (by assumption) (by decide)) (fun s4 hs4 => ?_)
      refine oK_C ?_
      refine oK_C ?_
      refine oK_Lk (Q := SL μ0) (by first | assumption | exact True.intro | exact SL_u (by assumption) (by decide)) (fun s5 hs5 => ?_)
      exact oK_s (by first | assumption | exact True.intro | exact SL_u (by assumption) (by decide))
    · refine oK_if ?_ ?_
      · refine oK_C ?_
        refine oK_B (k_X7_cellHere (by first | assumption | exact True.intro | exact SL_u (by assumption) (by decide))) (fun r6 hr6 => ?_)
        refine oK_C ?_
        refine oK_Lk (Q := SL μ0) (by first | assumption | exact True.intro | exact SL_u (by assumption) (by decide)) (fun s7 hs7 => ?_)
        refine oK_C ?_
        refine oK_C ?_
        refine oK_Lk (Q := SL μ0) (by first | assumption | exact True.intro | exact SL_u (by assumption) (by decide)) (fun s8 hs8 => ?_)
        exact oK_s (by first | assumption | exact True.intro | exact SL_u (by assumption) (by decide))
      · refine oK_C ?_
        refine oK_B (k_X7_number (by first | assumption | exact True.intro | exact SL_u (by assumption) (by decide))) (fun r9 hr9 => ?_)
        refine oK_if ?_ ?_
        · exact k_X7_readMore_b172 (by first | assumption | exact True.intro | exact SL_u (by assumption) (by decide))
        · exact k_X7_readMore_b172 (by first | assumption | exact True.intro | exact SL_u (by assumption) (by decide))
  · refine oK_C ?_
    refine oK_Lk (Q := SL μ0) (by first | assumption | exact True.intro | exact SL_u (by assumption) (by decide)) (fun s10 hs10 => ?_)
    refine oK_B (k_X7_number (by first | assumption | exact True.intro | exact SL_u (by assumption) (by decide))) (fun r11 hr11 => ?_)
    refine oK_C ?_
    refine oK_Lk (Q := SL μ0) (by first | assumption | exact True.intro | exact SL_u (by assumption) (by decide)) (fun s12 hs12 => ?_)
    refine oK_Lk (Q := SL μ0) (by first | assumption | exact True.intro | exact SL_u (by assumption) (by decide)) (fun s13 hs13 => ?_)
    exact oK_s (by first | assumption | exact True.intro | exact SL_u (by assumption) (by decide))
theorem k_X7_readLine_b73 {μ0 : Nat → Nat → Int32} {σ : (Nat → Nat → Int32)} (h : SL μ0 σ) : oK (f_X7_readLine_b73 σ) (fun o => SL μ0 o) := by
  unfold f_X7_readLine_b73
  refine oK_B (k_X7_step (by first | assumption | exact True.intro | exact SL_u (by assumption) (by decide))) (fun r1 hr1 => ?_)
  exact oK_s (by first | assumption | exact True.intro | exact SL_u (by assumption) (by decide))
theorem k_X7_readLine_b36 {μ0 : Nat → Nat → Int32} {σ : (Nat → Nat → Int32)} {l1 : Int32} (h : SL μ0 σ) : oK (f_X7_readLine_b36 σ l1) (fun o => SL μ0 o) := by
  unfold f_X7_readLine_b36
  refine oK_B (k_X7_step (by first | assumption | exact True.intro | exact SL_u (by assumption) (by decide))) (fun r1 hr1 => ?_)
  refine oK_if ?_ ?_
  · refine oK_B (k_X7_readMore (by first | assumption | exact True.intro | exact SL_u (by assumption) (by decide))) (fun r2 hr2 => ?_)
    refine oK_if ?_ ?_
    · refine oK_if ?_ ?_
      · exact k_X7_readLine_b73 (by first | assumption | exact True.intro | exact SL_u (by assumption) (by decide))
      · refine oK_B (k_X7_fails (by first | assumption | exact True.intro | exact SL_u (by assumption) (by decide))) (fun r3 hr3 => ?_)
        exact k_X7_readLine_b73 (by first | assumption | exact True.intro | exact SL_u (by assumption) (by decide))
    · exact k_X7_readLine_b73 (by first | assumption | exact True.intro | exact SL_u (by assumption) (by decide))
  · exact oK_s (by first | assumption | exact True.intro | exact SL_u (by assumption) (by decide))
theorem k_X7_readLine {μ0 : Nat → Nat → Int32} {σ : (Nat → Nat → Int32)} (h : SL μ0 σ) : oK (f_X7_readLine σ) (fun o => SL μ0 o) := by
  unfold f_X7_readLine
  refine oK_Bn (fun r1 => ?_)
  refine oK_Bn (fun r2 => ?_)
  refine oK_if ?_ ?_
  · refine oK_B (k_X7_fails (by first | assumption | exact True.intro | exact SL_u (by assumption) (by decide))) (fun r3 hr3 => ?_)
    exact oK_s (by first | assumption | exact True.intro | exact SL_u (by assumption) (by decide))
  · refine oK_Bn (fun r4 => ?_)
    refine oK_if ?_ ?_
    · exact k_X7_readLine_b36 (by first | assumption | exact True.intro | exact SL_u (by assumption) (by decide))
    · refine oK_B (k_X7_fails (by first | assumption | exact True.intro | exact SL_u (by assumption) (by decide))) (fun r5 hr5 => ?_)
      exact k_X7_readLine_b36 (by first | assumption | exact True.intro | exact SL_u (by assumption) (by decide))
theorem k_X7_text_L125 {μ0 : Nat → Nat → Int32} {σ : (Nat → Nat → Int32)} {l1 : Int32} {l2 : Int32} (h : SL μ0 σ) : oK (f_X7_text_L125 σ l1 l2) (oKS (fun o => SL μ0 o.2) (fun o => SL μ0 o.2)) := by
  unfold f_X7_text_L125
  refine oK_if ?_ ?_
  · refine oK_I ?_
    refine oK_Lk (Q := SL μ0) (by first | assumption | exact True.intro | exact SL_u (by assumption) (by decide)) (fun s1 hs1 => ?_)
    refine oK_Lk (Q := SL μ0) (by first | assumption | exact True.intro | exact SL_u (by assumption) (by decide)) (fun s2 hs2 => ?_)
    refine oK_C ?_
    refine oK_Lk (Q := SL μ0) (by first | assumption | exact True.intro | exact SL_u (by assumption) (by decide)) (fun s3 hs3 => ?_)
    refine oK_C ?_
    refine oK_Lk (Q := SL μ0) (by first | assumption | exact True.intro | exact SL_u (by assumption) (by decide)) (fun s4 hs4 => ?_)
    exact oK_s (by first | assumption | exact True.intro | exact SL_u (by assumption) (by decide))
  · refine oK_C ?_
    refine oK_C ?_
    refine oK_Lk (Q := SL μ0) (by first | assumption | exact True.intro | exact SL_u (by assumption) (by decide)) (fun s5 hs5 => ?_)
    exact oK_s (by first | assumption | exact True.intro | exact SL_u (by assumption) (by decide))
theorem k_X7_text_b125 {μ0 : Nat → Nat → Int32} {σ : (Nat → Nat → Int32)} {l1 : Int32} {l2 : Int32} (h : SL μ0 σ) : oK (f_X7_text_b125 σ l1 l2) (fun o => SL μ0 o.2) := by
  unfold f_X7_text_b125
  exact oK_lp (fun o => SL μ0 o.2) (by first | assumption | exact True.intro | exact SL_u (by assumption) (by decide)) (fun v hv => k_X7_text_L125 (by first | assumption | exact True.intro | exact SL_u (by assumption) (by decide)))
theorem k_X7_text_b95 {μ0 : Nat → Nat → Int32} {σ : (Nat → Nat → Int32)} {l1 : Int32} (h : SL μ0 σ) : oK (f_X7_text_b95 σ l1) (fun o => SL μ0 o.2) := by
  unfold f_X7_text_b95
  refine oK_Lk (Q := SL μ0) (by first | assumption | exact True.intro | exact SL_u (by assumption) (by decide)) (fun s1 hs1 => ?_)
  refine oK_Lk (Q := SL μ0) (by first | assumption | exact True.intro | exact SL_u (by assumption) (by decide)) (fun s2 hs2 => ?_)
  refine oK_if ?_ ?_
  · exact k_X7_text_b125 (by first | assumption | exact True.intro | exact SL_u (by assumption) (by decide))
  · exact oK_s (by first | assumption | exact True.intro | exact SL_u (by assumption) (by decide))
theorem k_X7_text_b71 {μ0 : Nat → Nat → Int32} {σ : (Nat → Nat → Int32)} {l1 : Int32} (h : SL μ0 σ) : oK (f_X7_text_b71 σ l1) (fun o => SL μ0 o.2) := by
  unfold f_X7_text_b71
  refine oK_if ?_ ?_
  · refine oK_if ?_ ?_
    · exact k_X7_text_b95 (by first | assumption | exact True.intro | exact SL_u (by assumption) (by decide))
    · refine oK_B (k_X7_fails (by first | assumption | exact True.intro | exact SL_u (by assumption) (by decide))) (fun r1 hr1 => ?_)
      exact k_X7_text_b95 (by first | assumption | exact True.intro | exact SL_u (by assumption) (by decide))
  · exact k_X7_text_b95 (by first | assumption | exact True.intro | exact SL_u (by assumption) (by decide))
theorem k_X7_text_L47 {μ0 : Nat → Nat → Int32} {σ : (Nat → Nat → Int32)} {l1 : Int32} (h : SL μ0 σ) : oK (f_X7_text_L47 σ l1) (oKS (fun o => SL μ0 o.2) (fun o => SL μ0 o.2)) := by
  unfold f_X7_text_L47
  refine oK_if ?_ ?_
  · refine oK_if ?_ ?_
    · refine oK_I ?_
      exact k_X7_text_b71 (by first | assumption | exact True.intro | exact SL_u (by assumption) (by decide))
    · refine oK_B (k_X7_readLine (by first | assumption | exact True.intro | exact SL_u (by assumption) (by decide))) (fun r1 hr1 => ?_)
      exact oK_s (by first | assumption | exact True.intro | exact SL_u (by assumption) (by decide))
  · refine oK_I ?_
    exact k_X7_text_b71 (by first | assumption | exact True.intro | exact SL_u (by assumption) (by decide))
theorem k_X7_text_b47 {μ0 : Nat → Nat → Int32} {σ : (Nat → Nat → Int32)} {l1 : Int32} (h : SL μ0 σ) : oK (f_X7_text_b47 σ l1) (fun o => SL μ0 o.2) := by
  unfold f_X7_text_b47
  exact oK_lp (fun o => SL μ0 o.2) (by first | assumption | exact True.intro | exact SL_u (by assumption) (by decide)) (fun v hv => k_X7_text_L47 (by first | assumption | exact True.intro | exact SL_u (by assumption) (by decide)))
theorem k_X7_text_L24 {μ0 : Nat → Nat → Int32} {σ : (Nat → Nat → Int32)} {l1 : Int32} {l2 : Int32} (h : SL μ0 σ) : oK (f_X7_text_L24 σ l1 l2) (oKS (fun o => SL μ0 o.2) (fun o => SL μ0 o.2)) := by
  unfold f_X7_text_L24
  refine oK_if ?_ ?_
  · refine oK_I ?_
    refine oK_B (k_X7_step (by first | assumption | exact True.intro | exact SL_u (by assumption) (by decide))) (fun r1 hr1 => ?_)
    exact k_X7_text_b47 (by first | assumption | exact True.intro | exact SL_u (by assumption) (by decide))
  · refine oK_C ?_
    refine oK_Lk (Q := SL μ0) (by first | assumption | exact True.intro | exact SL_u (by assumption) (by decide)) (fun s2 hs2 => ?_)
    exact oK_s (by first | assumption | exact True.intro | exact SL_u (by assumption) (by decide))
theorem k_X7_text_b24 {μ0 : Nat → Nat → Int32} {σ : (Nat → Nat → Int32)} {l1 : Int32} {l2 : Int32} (h : SL μ0 σ) : oK (f_X7_text_b24 σ l1 l2) (fun o => SL μ0 o.2) := by
  unfold f_X7_text_b24
  exact oK_lp (fun o => SL μ0 o.2) (by first | assumption | exact True.intro | exact SL_u (by assumption) (by decide)) (fun v hv => k_X7_text_L24 (by first | assumption | exact True.intro | exact SL_u (by assumption) (by decide)))
theorem k_X7_text {μ0 : Nat → Nat → Int32} {σ : (Nat → Nat → Int32)} (h : SL μ0 σ) : oK (f_X7_text σ) (fun o => SL μ0 o.2) := by
  unfold f_X7_text
  refine oK_Lk (Q := SL μ0) (by first | assumption | exact True.intro | exact SL_u (by assumption) (by decide)) (fun s1 hs1 => ?_)
  refine oK_Lk (Q := SL μ0) (by first | assumption | exact True.intro | exact SL_u (by assumption) (by decide)) (fun s2 hs2 => ?_)
  refine oK_Lk (Q := SL μ0) (by first | assumption | exact True.intro | exact SL_u (by assumption) (by decide)) (fun s3 hs3 => ?_)
  refine oK_Lk (Q := SL μ0) (by first | assumption | exact True.intro | exact SL_u (by assumption) (by decide)) (fun s4 hs4 => ?_)
  exact k_X7_text_b24 (by first | assumption | exact True.intro | exact SL_u (by assumption) (by decide))
theorem k_X7_runsOn_b225 {μ0 : Nat → Nat → Int32} {σ : (Nat → Nat → Int32)} {l1 : Int32} {l4 : Int32} {l5 : Int32} {l6 : Int32} {l7 : Int32} {l8 : Int32} (h : SL μ0 σ) : oK (f_X7_runsOn_b225 σ l1 l4 l5 l6 l7 l8) (oKS (fun o => SL μ0 o.2.2.2) (fun o => SL μ0 o)) := by
  unfold f_X7_runsOn_b225
  exact oK_s (by first | assumption | exact True.intro | exact SL_u (by assumption) (by decide))
theorem k_X7_runsOn_b223 {μ0 : Nat → Nat → Int32} {σ : (Nat → Nat → Int32)} {l1 : Int32} {l4 : Int32} {l5 : Int32} {l6 : Int32} {l8 : Int32} {k1 : Int32} (h : SL μ0 σ) : oK (f_X7_runsOn_b223 σ l1 l4 l5 l6 l8 k1) (oKS (fun o => SL μ0 o.2.2.2) (fun o => SL μ0 o)) := by
  unfold f_X7_runsOn_b223
  exact k_X7_runsOn_b225 (by first | assumption | exact True.intro | exact SL_u (by assumption) (by decide))
theorem k_X7_runsOn_b189 {μ0 : Nat → Nat → Int32} {σ : (Nat → Nat → Int32)} {l1 : Int32} {l4 : Int32} {l5 : Int32} {l6 : Int32} {l8 : Int32} {k2 : Int32} {k1 : Int32} (h : SL μ0 σ) : oK (f_X7_runsOn_b189 σ l1 l4 l5 l6 l8 k2 k1) (oKS (fun o => SL μ0 o.2.2.2) (fun o => SL μ0 o)) := by
  unfold f_X7_runsOn_b189
  refine oK_Bn (fun r1 => ?_)
  refine oK_if ?_ ?_
  · refine oK_if ?_ ?_
    · exact k_X7_runsOn_b223 (by first | assumption | exact True.intro | exact SL_u (by assumption) (by decide))
    · exact k_X7_runsOn_b223 (by first | assumption | exact True.intro | exact SL_u (by assumption) (by decide))
  · exact k_X7_runsOn_b223 (by first | assumption | exact True.intro | exact SL_u (by assumption) (by decide))
theorem k_X7_runsOn_L54 {μ0 : Nat → Nat → Int32} {σ : (Nat → Nat → Int32)} {l1 : Int32} {l4 : Int32} {l5 : Int32} {l6 : Int32} {l7 : Int32} {l8 : Int32} (h : SL μ0 σ) : oK (f_X7_runsOn_L54 σ l1 l4 l5 l6 l7 l8) (oKS (fun o => SL μ0 o.2.2.2) (fun o => SL μ0 o)) := by
  unfold f_X7_runsOn_L54
  refine oK_if ?_ ?_
  · refine oK_I ?_
    exact oK_s (by first | assumption | exact True.intro | exact SL_u (by assumption) (by decide))
  · refine oK_if ?_ ?_
    · refine oK_Bn (fun r1 => ?_)
      refine oK_C ?_
      refine oK_Lk (Q := SL μ0) (by first | assumption | exact True.intro | exact SL_u (by assumption) (by decide)) (fun s2 hs2 => ?_)
      refine oK_Bn (fun r3 => ?_)
      refine oK_if ?_ ?_
      · refine oK_if ?_ ?_
        · exact k_X7_runsOn_b225 (by first | assumption | exact True.intro | exact SL_u (by assumption) (by decide))
        · refine oK_Lk (Q := SL μ0) (by first | assumption | exact True.intro | exact SL_u (by assumption) (by decide)) (fun s4 hs4 => ?_)
          refine oK_Bn (fun r5 => ?_)
          refine oK_if ?_ ?_
          · refine oK_if ?_ ?_
            · exact k_X7_runsOn_b189 (by first | assumption | exact True.intro | exact SL_u (by assumption) (by decide))
            · exact k_X7_runsOn_b189 (by first | assumption | exact True.intro | exact SL_u (by assumption) (by decide))
          · refine oK_Lk (Q := SL μ0) (by first | assumption | exact True.intro | exact SL_u (by assumption) (by decide)) (fun s6 hs6 => ?_)
            refine oK_Lk (Q := SL μ0) (by first | assumption | exact True.intro | exact SL_u (by assumption) (by decide)) (fun s7 hs7 => ?_)
            exact k_X7_runsOn_b225 (by first | assumption | exact True.intro | exact SL_u (by assumption) (by decide))
      · refine oK_Lk (Q := SL μ0) (by first | assumption | exact True.intro | exact SL_u (by assumption) (by decide)) (fun s8 hs8 => ?_)
        refine oK_Lk (Q := SL μ0) (by first | assumption | exact True.intro | exact SL_u (by assumption) (by decide)) (fun s9 hs9 => ?_)
        exact k_X7_runsOn_b225 (by first | assumption | exact True.intro | exact SL_u (by assumption) (by decide))
    · refine oK_I ?_
      exact oK_s (by first | assumption | exact True.intro | exact SL_u (by assumption) (by decide))
theorem k_X7_runsOn_b54 {μ0 : Nat → Nat → Int32} {σ : (Nat → Nat → Int32)} {l1 : Int32} {l4 : Int32} {l5 : Int32} {l6 : Int32} {l7 : Int32} {l8 : Int32} (h : SL μ0 σ) : oK (f_X7_runsOn_b54 σ l1 l4 l5 l6 l7 l8) (fun o => SL μ0 o) := by
  unfold f_X7_runsOn_b54
  exact oK_lp (fun o => SL μ0 o.2.2.2) (by first | assumption | exact True.intro | exact SL_u (by assumption) (by decide)) (fun v hv => k_X7_runsOn_L54 (by first | assumption | exact True.intro | exact SL_u (by assumption) (by decide)))
theorem k_X7_runsOn {μ0 : Nat → Nat → Int32} {σ : (Nat → Nat → Int32)} {l1 : Int32} {l2 : Int32} {l3 : Int32} {l4 : Int32} (h : SL μ0 σ) : oK (f_X7_runsOn σ l1 l2 l3 l4) (fun o => SL μ0 o) := by
  unfold f_X7_runsOn
  refine oK_C ?_
  refine oK_C ?_
  refine oK_Lk (Q := SL μ0) (by first | assumption | exact True.intro | exact SL_u (by assumption) (by decide)) (fun s1 hs1 => ?_)
  refine oK_Lk (Q := SL μ0) (by first | assumption | exact True.intro | exact SL_u (by assumption) (by decide)) (fun s2 hs2 => ?_)
  refine oK_Lk (Q := SL μ0) (by first | assumption | exact True.intro | exact SL_u (by assumption) (by decide)) (fun s3 hs3 => ?_)
  refine oK_Lk (Q := SL μ0) (by first | assumption | exact True.intro | exact SL_u (by assumption) (by decide)) (fun s4 hs4 => ?_)
  exact k_X7_runsOn_b54 (by first | assumption | exact True.intro | exact SL_u (by assumption) (by decide))
theorem k_X7_winnerOn {μ0 : Nat → Nat → Int32} {σ : (Nat → Nat → Int32)} {l1 : Int32} {l2 : Int32} {l3 : Int32} (h : SL μ0 σ) : oK (f_X7_winnerOn σ l1 l2 l3) (fun o => SL μ0 o.2) := by
  unfold f_X7_winnerOn
  refine oK_B (k_X7_runsOn (by first | assumption | exact True.intro | exact SL_u (by assumption) (by decide))) (fun r1 hr1 => ?_)
  refine oK_if ?_ ?_
  · exact oK_s (by first | assumption | exact True.intro | exact SL_u (by assumption) (by decide))
  · refine oK_C ?_
    exact oK_s (by first | assumption | exact True.intro | exact SL_u (by assumption) (by decide))
theorem k_X7_winsOn_b78 {μ0 : Nat → Nat → Int32} {σ : (Nat → Nat → Int32)} {l1 : Int32} {l2 : Int32} {l4 : Int32} {k2 : Int32} {k1 : Int32} (h : SL μ0 σ) : oK (f_X7_winsOn_b78 σ l1 l2 l4 k2 k1) (oKS (fun o => SL μ0 o.2.2) (fun o => SL μ0 o.2)) := by
  unfold f_X7_winsOn_b78
  exact oK_s (by first | assumption | exact True.intro | exact SL_u (by assumption) (by decide))
theorem k_X7_winsOn_b77 {μ0 : Nat → Nat → Int32} {σ : (Nat → Nat → Int32)} {l1 : Int32} {l2 : Int32} {l4 : Int32} {k1 : Int32} (h : SL μ0 σ) : oK (f_X7_winsOn_b77 σ l1 l2 l4 k1) (oKS (fun o => SL μ0 o.2.2) (fun o => SL μ0 o.2)) := by
  unfold f_X7_winsOn_b77
  exact k_X7_winsOn_b78 (by first | assumption | exact True.intro | exact SL_u (by assumption) (by decide))
theorem k_X7_winsOn_b70 {μ0 : Nat → Nat → Int32} {σ : (Nat → Nat → Int32)} {l1 : Int32} {l2 : Int32} {l4 : Int32} {k1 : Int32} (h : SL μ0 σ) : oK (f_X7_winsOn_b70 σ l1 l2 l4 k1) (oKS (fun o => SL μ0 o.2.2) (fun o => SL μ0 o.2)) := by
  unfold f_X7_winsOn_b70
  exact k_X7_winsOn_b78 (by first | assumption | exact True.intro | exact SL_u (by assumption) (by decide))
theorem k_X7_winsOn_L5 {μ0 : Nat → Nat → Int32} {σ : (Nat → Nat → Int32)} {l1 : Int32} {l2 : Int32} {l3 : Int32} {l4 : Int32} (h : SL μ0 σ) : oK (f_X7_winsOn_L5 σ l1 l2 l3 l4) (oKS (fun o => SL μ0 o.2.2) (fun o => SL μ0 o.2)) := by
  unfold f_X7_winsOn_L5
  refine oK_C ?_
  refine oK_if ?_ ?_
  · refine oK_I ?_
    exact oK_s (by first | assumption | exact True.intro | exact SL_u (by assumption) (by decide))
  · refine oK_C ?_
    refine oK_C ?_
    refine oK_B (k_X7_winnerOn (by first | assumption | exact True.intro | exact SL_u (by assumption) (by decide))) (fun r1 hr1 => ?_)
    refine oK_if ?_ ?_
    · exact k_X7_winsOn_b77 (by first | assumption | exact True.intro | exact SL_u (by assumption) (by decide))
    · refine oK_if ?_ ?_
      · exact k_X7_winsOn_b70 (by first | assumption | exact True.intro | exact SL_u (by assumption) (by decide))
      · refine oK_if ?_ ?_
        · exact k_X7_winsOn_b70 (by first | assumption | exact True.intro | exact SL_u (by assumption) (by decide))
        · exact k_X7_winsOn_b77 (by first | assumption | exact True.intro | exact SL_u (by assumption) (by decide))
theorem k_X7_winsOn_b5 {μ0 : Nat → Nat → Int32} {σ : (Nat → Nat → Int32)} {l1 : Int32} {l2 : Int32} {l3 : Int32} {l4 : Int32} (h : SL μ0 σ) : oK (f_X7_winsOn_b5 σ l1 l2 l3 l4) (fun o => SL μ0 o.2) := by
  unfold f_X7_winsOn_b5
  exact oK_lp (fun o => SL μ0 o.2.2) (by first | assumption | exact True.intro | exact SL_u (by assumption) (by decide)) (fun v hv => k_X7_winsOn_L5 (by first | assumption | exact True.intro | exact SL_u (by assumption) (by decide)))
theorem k_X7_winsOn {μ0 : Nat → Nat → Int32} {σ : (Nat → Nat → Int32)} {l1 : Int32} {l2 : Int32} (h : SL μ0 σ) : oK (f_X7_winsOn σ l1 l2) (fun o => SL μ0 o.2) := by
  unfold f_X7_winsOn
  exact k_X7_winsOn_b5 (by first | assumption | exact True.intro | exact SL_u (by assumption) (by decide))
theorem k_X7_rule_b54 {μ0 : Nat → Nat → Int32} {σ : (Nat → Nat → Int32)} {l1 : Int32} {l3 : Int32} {k2 : Int32} {k1 : Int32} (h : SL μ0 σ) : oK (f_X7_rule_b54 σ l1 l3 k2 k1) (oKS (fun o => SL μ0 o.2.2) (fun o => SL μ0 o.2)) := by
  unfold f_X7_rule_b54
  exact oK_s (by first | assumption | exact True.intro | exact SL_u (by assumption) (by decide))
theorem k_X7_rule_L4 {μ0 : Nat → Nat → Int32} {σ : (Nat → Nat → Int32)} {l1 : Int32} {l2 : Int32} {l3 : Int32} (h : SL μ0 σ) : oK (f_X7_rule_L4 σ l1 l2 l3) (oKS (fun o => SL μ0 o.2.2) (fun o => SL μ0 o.2)) := by
  unfold f_X7_rule_L4
  refine oK_C ?_
  refine oK_if ?_ ?_
  · refine oK_I ?_
    refine oK_if ?_ ?_
    · refine oK_C ?_
      exact oK_s (by first | assumption | exact True.intro | exact SL_u (by assumption) (by decide))
    · refine oK_if ?_ ?_
      · refine oK_C ?_
        exact oK_s (by first | assumption | exact True.intro | exact SL_u (by assumption) (by decide))
      · refine oK_if ?_ ?_
        · exact oK_s (by first | assumption | exact True.intro | exact SL_u (by assumption) (by decide))
        · refine oK_if ?_ ?_
          · refine oK_C ?_
            exact oK_s (by first | assumption | exact True.intro | exact SL_u (by assumption) (by decide))
          · refine oK_if ?_ ?_
            · refine oK_B (k_X7_winsOn (by first | assumption | exact True.intro | exact SL_u (by assumption) (by decide))) (fun r1 hr1 => ?_)
              exact oK_s (by first | assumption | exact True.intro | exact SL_u (by assumption) (by decide))
            · refine oK_if ?_ ?_
              · exact oK_s (by first | assumption | exact True.intro | exact SL_u (by assumption) (by decide))
              · exact oK_s (by first | assumption | exact True.intro | exact SL_u (by assumption) (by decide))
  · refine oK_C ?_
    refine oK_C ?_
    refine oK_B (k_X7_runsOn (by first | assumption | exact True.intro | exact SL_u (by assumption) (by decide))) (fun r2 hr2 => ?_)
    refine oK_if ?_ ?_
    · exact k_X7_rule_b54 (by first | assumption | exact True.intro | exact SL_u (by assumption) (by decide))
    · exact k_X7_rule_b54 (by first | assumption | exact True.intro | exact SL_u (by assumption) (by decide))
theorem k_X7_rule_b4 {μ0 : Nat → Nat → Int32} {σ : (Nat → Nat → Int32)} {l1 : Int32} {l2 : Int32} {l3 : Int32} (h : SL μ0 σ) : oK (f_X7_rule_b4 σ l1 l2 l3) (fun o => SL μ0 o.2) := by
  unfold f_X7_rule_b4
  exact oK_lp (fun o => SL μ0 o.2.2) (by first | assumption | exact True.intro | exact SL_u (by assumption) (by decide)) (fun v hv => k_X7_rule_L4 (by first | assumption | exact True.intro | exact SL_u (by assumption) (by decide)))
theorem k_X7_rule {μ0 : Nat → Nat → Int32} {σ : (Nat → Nat → Int32)} {l1 : Int32} (h : SL μ0 σ) : oK (f_X7_rule σ l1) (fun o => SL μ0 o.2) := by
  unfold f_X7_rule
  exact k_X7_rule_b4 (by first | assumption | exact True.intro | exact SL_u (by assumption) (by decide))
theorem k_X7_peg_b82 {μ0 : Nat → Nat → Int32} {σ : (Nat → Nat → Int32)} {l1 : Int32} {l2 : Int32} {l4 : Int32} {k2 : Int32} {k1 : Int32} (h : SL μ0 σ) : oK (f_X7_peg_b82 σ l1 l2 l4 k2 k1) (oKS (fun o => SL μ0 o.2.2) (fun o => SL μ0 o.2)) := by
  unfold f_X7_peg_b82
  exact oK_s (by first | assumption | exact True.intro | exact SL_u (by assumption) (by decide))
theorem k_X7_peg_L27 {μ0 : Nat → Nat → Int32} {σ : (Nat → Nat → Int32)} {l1 : Int32} {l2 : Int32} {l3 : Int32} {l4 : Int32} (h : SL μ0 σ) : oK (f_X7_peg_L27 σ l1 l2 l3 l4) (oKS (fun o => SL μ0 o.2.2) (fun o => SL μ0 o.2)) := by
  unfold f_X7_peg_L27
  refine oK_C ?_
  refine oK_if ?_ ?_
  · refine oK_I ?_
    refine oK_if ?_ ?_
    · exact oK_s (by first | assumption | exact True.intro | exact SL_u (by assumption) (by decide))
    · refine oK_C ?_
      exact oK_s (by first | assumption | exact True.intro | exact SL_u (by assumption) (by decide))
  · refine oK_C ?_
    refine oK_C ?_
    refine oK_B (k_X7_runsOn (by first | assumption | exact True.intro | exact SL_u (by assumption) (by decide))) (fun r1 hr1 => ?_)
    refine oK_if ?_ ?_
    · exact k_X7_peg_b82 (by first | assumption | exact True.intro | exact SL_u (by assumption) (by decide))
    · exact k_X7_peg_b82 (by first | assumption | exact True.intro | exact SL_u (by assumption) (by decide))
theorem k_X7_peg_b27 {μ0 : Nat → Nat → Int32} {σ : (Nat → Nat → Int32)} {l1 : Int32} {l2 : Int32} {l3 : Int32} {l4 : Int32} (h : SL μ0 σ) : oK (f_X7_peg_b27 σ l1 l2 l3 l4) (fun o => SL μ0 o.2) := by
  unfold f_X7_peg_b27
  exact oK_lp (fun o => SL μ0 o.2.2) (by first | assumption | exact True.intro | exact SL_u (by assumption) (by decide)) (fun v hv => k_X7_peg_L27 (by first | assumption | exact True.intro | exact SL_u (by assumption) (by decide)))
theorem k_X7_peg {μ0 : Nat → Nat → Int32} {σ : (Nat → Nat → Int32)} {l1 : Int32} {l2 : Int32} (h : SL μ0 σ) : oK (f_X7_peg σ l1 l2) (fun o => SL μ0 o.2) := by
  unfold f_X7_peg
  refine oK_Bn (fun r1 => ?_)
  refine oK_if ?_ ?_
  · exact oK_s (by first | assumption | exact True.intro | exact SL_u (by assumption) (by decide))
  · refine oK_Bn (fun r2 => ?_)
    refine oK_if ?_ ?_
    · exact oK_s (by first | assumption | exact True.intro | exact SL_u (by assumption) (by decide))
    · exact k_X7_peg_b27 (by first | assumption | exact True.intro | exact SL_u (by assumption) (by decide))
theorem k_X7_hedgehog_b61 {μ0 : Nat → Nat → Int32} {σ : (Nat → Nat → Int32)} {l1 : Int32} {l2 : Int32} {l4 : Int32} {k2 : Int32} {k1 : Int32} (h : SL μ0 σ) : oK (f_X7_hedgehog_b61 σ l1 l2 l4 k2 k1) (oKS (fun o => SL μ0 o.2.2) (fun o => SL μ0 o.2)) := by
  unfold f_X7_hedgehog_b61
  exact oK_s (by first | assumption | exact True.intro | exact SL_u (by assumption) (by decide))
theorem k_X7_hedgehog_L27 {μ0 : Nat → Nat → Int32} {σ : (Nat → Nat → Int32)} {l1 : Int32} {l2 : Int32} {l3 : Int32} {l4 : Int32} (h : SL μ0 σ) : oK (f_X7_hedgehog_L27 σ l1 l2 l3 l4) (oKS (fun o => SL μ0 o.2.2) (fun o => SL μ0 o.2)) := by
  unfold f_X7_hedgehog_L27
  refine oK_if ?_ ?_
  · refine oK_I ?_
    refine oK_if ?_ ?_
    · refine oK_if ?_ ?_
      · refine oK_C ?_
        refine oK_Bn (fun r1 => ?_)
        exact oK_s (by first | assumption | exact True.intro | exact SL_u (by assumption) (by decide))
      · exact oK_s (by first | assumption | exact True.intro | exact SL_u (by assumption) (by decide))
    · refine oK_C ?_
      exact oK_s (by first | assumption | exact True.intro | exact SL_u (by assumption) (by decide))
  · refine oK_B (k_X7_runsOn (by first | assumption | exact True.intro | exact SL_u (by assumption) (by decide))) (fun r2 hr2 => ?_)
    refine oK_if ?_ ?_
    · exact k_X7_hedgehog_b61 (by first | assumption | exact True.intro | exact SL_u (by assumption) (by decide))
    · exact k_X7_hedgehog_b61 (by first | assumption | exact True.intro | exact SL_u (by assumption) (by decide))
theorem k_X7_hedgehog_b27 {μ0 : Nat → Nat → Int32} {σ : (Nat → Nat → Int32)} {l1 : Int32} {l2 : Int32} {l3 : Int32} {l4 : Int32} (h : SL μ0 σ) : oK (f_X7_hedgehog_b27 σ l1 l2 l3 l4) (fun o => SL μ0 o.2) := by
  unfold f_X7_hedgehog_b27
  exact oK_lp (fun o => SL μ0 o.2.2) (by first | assumption | exact True.intro | exact SL_u (by assumption) (by decide)) (fun v hv => k_X7_hedgehog_L27 (by first | assumption | exact True.intro | exact SL_u (by assumption) (by decide)))
theorem k_X7_hedgehog {μ0 : Nat → Nat → Int32} {σ : (Nat → Nat → Int32)} {l1 : Int32} {l2 : Int32} (h : SL μ0 σ) : oK (f_X7_hedgehog σ l1 l2) (fun o => SL μ0 o.2) := by
  unfold f_X7_hedgehog
  refine oK_Bn (fun r1 => ?_)
  refine oK_if ?_ ?_
  · exact oK_s (by first | assumption | exact True.intro | exact SL_u (by assumption) (by decide))
  · refine oK_Bn (fun r2 => ?_)
    refine oK_if ?_ ?_
    · exact oK_s (by first | assumption | exact True.intro | exact SL_u (by assumption) (by decide))
    · exact k_X7_hedgehog_b27 (by first | assumption | exact True.intro | exact SL_u (by assumption) (by decide))
theorem k_X7_suit {μ0 : Nat → Nat → Int32} {σ : (Nat → Nat → Int32)} {l1 : Int32} {l2 : Int32} (h : SL μ0 σ) : oK (f_X7_suit σ l1 l2) (fun o => SL μ0 o.2) := by
  unfold f_X7_suit
  refine oK_Bn (fun r1 => ?_)
  refine oK_if ?_ ?_
  · exact oK_s (by first | assumption | exact True.intro | exact SL_u (by assumption) (by decide))
  · refine oK_Bn (fun r2 => ?_)
    refine oK_if ?_ ?_
    · exact oK_s (by first | assumption | exact True.intro | exact SL_u (by assumption) (by decide))
    · refine oK_if ?_ ?_
      · refine oK_C ?_
        refine oK_C ?_
        refine oK_B (k_X7_winnerOn (by first | assumption | exact True.intro | exact SL_u (by assumption) (by decide))) (fun r3 hr3 => ?_)
        exact oK_s (by first | assumption | exact True.intro | exact SL_u (by assumption) (by decide))
      · refine oK_C ?_
        exact oK_s (by first | assumption | exact True.intro | exact SL_u (by assumption) (by decide))
theorem k_X7_puts {μ0 : Nat → Nat → Int32} {σ : (Nat → Nat → Int32)} {l1 : Int32} {l2 : Int32} {l3 : Int32} (h : SL μ0 σ) : oK (f_X7_puts σ l1 l2 l3) (fun o => SL μ0 o.2) := by
  unfold f_X7_puts
  refine oK_if ?_ ?_
  · exact oK_s (by first | assumption | exact True.intro | exact SL_u (by assumption) (by decide))
  · refine oK_C ?_
    refine oK_C ?_
    refine oK_Lk (Q := SL μ0) (by first | assumption | exact True.intro | exact SL_u (by assumption) (by decide)) (fun s1 hs1 => ?_)
    exact oK_s (by first | assumption | exact True.intro | exact SL_u (by assumption) (by decide))
theorem k_X7_shift_b36 {μ0 : Nat → Nat → Int32} {σ : (Nat → Nat → Int32)} {l1 : Int32} {l2 : Int32} (h : SL μ0 σ) : oK (f_X7_shift_b36 σ l1 l2) (fun o => SL μ0 o.2) := by
  unfold f_X7_shift_b36
  refine oK_B (k_X7_puts (by first | assumption | exact True.intro | exact SL_u (by assumption) (by decide))) (fun r1 hr1 => ?_)
  exact oK_s (by first | assumption | exact True.intro | exact SL_u (by assumption) (by decide))
theorem k_X7_shift {μ0 : Nat → Nat → Int32} {σ : (Nat → Nat → Int32)} {l1 : Int32} {l2 : Int32} (h : SL μ0 σ) : oK (f_X7_shift σ l1 l2) (fun o => SL μ0 o.2) := by
  unfold f_X7_shift
  refine oK_Bn (fun r1 => ?_)
  refine oK_if ?_ ?_
  · exact oK_s (by first | assumption | exact True.intro | exact SL_u (by assumption) (by decide))
  · refine oK_Bn (fun r2 => ?_)
    refine oK_if ?_ ?_
    · exact oK_s (by first | assumption | exact True.intro | exact SL_u (by assumption) (by decide))
    · refine oK_Bn (fun r3 => ?_)
      refine oK_if ?_ ?_
      · refine oK_Bn (fun r4 => ?_)
        refine oK_if ?_ ?_
        · exact k_X7_shift_b36 (by first | assumption | exact True.intro | exact SL_u (by assumption) (by decide))
        · exact oK_s (by first | assumption | exact True.intro | exact SL_u (by assumption) (by decide))
      · exact k_X7_shift_b36 (by first | assumption | exact True.intro | exact SL_u (by assumption) (by decide))
theorem k_X7_rag_b21 {μ0 : Nat → Nat → Int32} {σ : (Nat → Nat → Int32)} {l1 : Int32} {l2 : Int32} {k2 : Int32} (h : SL μ0 σ) : oK (f_X7_rag_b21 σ l1 l2 k2) (fun o => SL μ0 o.2) := by
  unfold f_X7_rag_b21
  refine oK_B (k_X7_puts (by first | assumption | exact True.intro | exact SL_u (by assumption) (by decide))) (fun r1 hr1 => ?_)
  exact oK_s (by first | assumption | exact True.intro | exact SL_u (by assumption) (by decide))
theorem k_X7_rag_b20 {μ0 : Nat → Nat → Int32} {σ : (Nat → Nat → Int32)} {l1 : Int32} {l2 : Int32} (h : SL μ0 σ) : oK (f_X7_rag_b20 σ l1 l2) (fun o => SL μ0 o.2) := by
  unfold f_X7_rag_b20
  exact k_X7_rag_b21 (by first | assumption | exact True.intro | exact SL_u (by assumption) (by decide))
theorem k_X7_rag {μ0 : Nat → Nat → Int32} {σ : (Nat → Nat → Int32)} {l1 : Int32} {l2 : Int32} (h : SL μ0 σ) : oK (f_X7_rag σ l1 l2) (fun o => SL μ0 o.2) := by
  unfold f_X7_rag
  refine oK_Bn (fun r1 => ?_)
  refine oK_if ?_ ?_
  · exact k_X7_rag_b20 (by first | assumption | exact True.intro | exact SL_u (by assumption) (by decide))
  · refine oK_Bn (fun r2 => ?_)
    refine oK_if ?_ ?_
    · exact k_X7_rag_b20 (by first | assumption | exact True.intro | exact SL_u (by assumption) (by decide))
    · exact k_X7_rag_b21 (by first | assumption | exact True.intro | exact SL_u (by assumption) (by decide))
theorem k_X7_alter_b59 {μ0 : Nat → Nat → Int32} {σ : (Nat → Nat → Int32)} {l1 : Int32} {l2 : Int32} {l3 : Int32} {k2 : Int32} (h : SL μ0 σ) : oK (f_X7_alter_b59 σ l1 l2 l3 k2) (fun o => SL μ0 o.2) := by
  unfold f_X7_alter_b59
  refine oK_B (k_X7_puts (by first | assumption | exact True.intro | exact SL_u (by assumption) (by decide))) (fun r1 hr1 => ?_)
  exact oK_s (by first | assumption | exact True.intro | exact SL_u (by assumption) (by decide))
theorem k_X7_alter_b58 {μ0 : Nat → Nat → Int32} {σ : (Nat → Nat → Int32)} {l1 : Int32} {l2 : Int32} {l3 : Int32} (h : SL μ0 σ) : oK (f_X7_alter_b58 σ l1 l2 l3) (fun o => SL μ0 o.2) := by
  unfold f_X7_alter_b58
  exact k_X7_alter_b59 (by first | assumption | exact True.intro | exact SL_u (by assumption) (by decide))
theorem k_X7_alter_b38 {μ0 : Nat → Nat → Int32} {σ : (Nat → Nat → Int32)} {l1 : Int32} {l2 : Int32} {l3 : Int32} {k1 : Int32} (h : SL μ0 σ) : oK (f_X7_alter_b38 σ l1 l2 l3 k1) (fun o => SL μ0 o.2) := by
  unfold f_X7_alter_b38
  refine oK_Bn (fun r1 => ?_)
  refine oK_if ?_ ?_
  · exact k_X7_alter_b58 (by first | assumption | exact True.intro | exact SL_u (by assumption) (by decide))
  · refine oK_if ?_ ?_
    · exact k_X7_alter_b58 (by first | assumption | exact True.intro | exact SL_u (by assumption) (by decide))
    · exact k_X7_alter_b59 (by first | assumption | exact True.intro | exact SL_u (by assumption) (by decide))
theorem k_X7_alter_b37 {μ0 : Nat → Nat → Int32} {σ : (Nat → Nat → Int32)} {l1 : Int32} {l2 : Int32} {l3 : Int32} (h : SL μ0 σ) : oK (f_X7_alter_b37 σ l1 l2 l3) (fun o => SL μ0 o.2) := by
  unfold f_X7_alter_b37
  exact k_X7_alter_b38 (by first | assumption | exact True.intro | exact SL_u (by assumption) (by decide))
theorem k_X7_alter {μ0 : Nat → Nat → Int32} {σ : (Nat → Nat → Int32)} {l1 : Int32} {l2 : Int32} {l3 : Int32} (h : SL μ0 σ) : oK (f_X7_alter σ l1 l2 l3) (fun o => SL μ0 o.2) := by
  unfold f_X7_alter
  refine oK_if ?_ ?_
  · refine oK_Bn (fun r1 => ?_)
    exact k_X7_alter_b38 (by first | assumption | exact True.intro | exact SL_u (by assumption) (by decide))
  · refine oK_if ?_ ?_
    · refine oK_Bn (fun r2 => ?_)
      refine oK_if ?_ ?_
      · exact k_X7_alter_b37 (by first | assumption | exact True.intro | exact SL_u (by assumption) (by decide))
      · exact k_X7_alter_b38 (by first | assumption | exact True.intro | exact SL_u (by assumption) (by decide))
    · exact k_X7_alter_b37 (by first | assumption | exact True.intro | exact SL_u (by assumption) (by decide))
theorem k_X7_drivesOn {μ0 : Nat → Nat → Int32} {σ : (Nat → Nat → Int32)} {l1 : Int32} {l2 : Int32} {l3 : Int32} (h : SL μ0 σ) : oK (f_X7_drivesOn σ l1 l2 l3) (fun o => SL μ0 o) := by
  unfold f_X7_drivesOn
  refine oK_C ?_
  refine oK_C ?_
  refine oK_Lk (Q := SL μ0) (by first | assumption | exact True.intro | exact SL_u (by assumption) (by decide)) (fun s1 hs1 => ?_)
  refine oK_C ?_
  refine oK_Lk (Q := SL μ0) (by first | assumption | exact True.intro | exact SL_u (by assumption) (by decide)) (fun s2 hs2 => ?_)
  refine oK_C ?_
  refine oK_C ?_
  refine oK_Lk (Q := SL μ0) (by first | assumption | exact True.intro | exact SL_u (by assumption) (by decide)) (fun s3 hs3 => ?_)
  exact oK_s (by first | assumption | exact True.intro | exact SL_u (by assumption) (by decide))
theorem k_X7_drives {μ0 : Nat → Nat → Int32} {σ : (Nat → Nat → Int32)} {l1 : Int32} {l2 : Int32} (h : SL μ0 σ) : oK (f_X7_drives σ l1 l2) (fun o => SL μ0 o.2) := by
  unfold f_X7_drives
  refine oK_Bn (fun r1 => ?_)
  refine oK_if ?_ ?_
  · exact oK_s (by first | assumption | exact True.intro | exact SL_u (by assumption) (by decide))
  · refine oK_Bn (fun r2 => ?_)
    refine oK_if ?_ ?_
    · exact oK_s (by first | assumption | exact True.intro | exact SL_u (by assumption) (by decide))
    · refine oK_Bn (fun r3 => ?_)
      refine oK_if ?_ ?_
      · exact oK_s (by first | assumption | exact True.intro | exact SL_u (by assumption) (by decide))
      · refine oK_C ?_
        refine oK_if ?_ ?_
        · exact oK_s (by first | assumption | exact True.intro | exact SL_u (by assumption) (by decide))
        · refine oK_B (k_X7_drivesOn (by first | assumption | exact True.intro | exact SL_u (by assumption) (by decide))) (fun r4 hr4 => ?_)
          refine oK_C ?_
          exact oK_s (by first | assumption | exact True.intro | exact SL_u (by assumption) (by decide))
theorem k_X7_drive {μ0 : Nat → Nat → Int32} {σ : (Nat → Nat → Int32)} {l1 : Int32} {l2 : Int32} (h : SL μ0 σ) : oK (f_X7_drive σ l1 l2) (fun o => SL μ0 o.2) := by
  unfold f_X7_drive
  refine oK_B (k_X7_drives (by first | assumption | exact True.intro | exact SL_u (by assumption) (by decide))) (fun r1 hr1 => ?_)
  exact oK_s (by first | assumption | exact True.intro | exact SL_u (by assumption) (by decide))
theorem k_X7_laysOn {μ0 : Nat → Nat → Int32} {σ : (Nat → Nat → Int32)} {l1 : Int32} {l2 : Int32} (h : SL μ0 σ) : oK (f_X7_laysOn σ l1 l2) (fun o => SL μ0 o) := by
  unfold f_X7_laysOn
  refine oK_C ?_
  refine oK_C ?_
  refine oK_Lk (Q := SL μ0) (by first | assumption | exact True.intro | exact SL_u (by assumption) (by decide)) (fun s1 hs1 => ?_)
  refine oK_C ?_
  refine oK_C ?_
  refine oK_Lk (Q := SL μ0) (by first | assumption | exact True.intro | exact SL_u (by assumption) (by decide)) (fun s2 hs2 => ?_)
  exact oK_s (by first | assumption | exact True.intro | exact SL_u (by assumption) (by decide))
theorem k_X7_lay {μ0 : Nat → Nat → Int32} {σ : (Nat → Nat → Int32)} {l1 : Int32} (h : SL μ0 σ) : oK (f_X7_lay σ l1) (fun o => SL μ0 o.2) := by
  unfold f_X7_lay
  refine oK_Bn (fun r1 => ?_)
  refine oK_if ?_ ?_
  · exact oK_s (by first | assumption | exact True.intro | exact SL_u (by assumption) (by decide))
  · refine oK_Bn (fun r2 => ?_)
    refine oK_if ?_ ?_
    · exact oK_s (by first | assumption | exact True.intro | exact SL_u (by assumption) (by decide))
    · refine oK_C ?_
      refine oK_if ?_ ?_
      · exact oK_s (by first | assumption | exact True.intro | exact SL_u (by assumption) (by decide))
      · refine oK_B (k_X7_laysOn (by first | assumption | exact True.intro | exact SL_u (by assumption) (by decide))) (fun r3 hr3 => ?_)
        refine oK_C ?_
        exact oK_s (by first | assumption | exact True.intro | exact SL_u (by assumption) (by decide))
theorem k_X7_clear {μ0 : Nat → Nat → Int32} {σ : (Nat → Nat → Int32)} {l1 : Int32} (h : SL μ0 σ) : oK (f_X7_clear σ l1) (fun o => SL μ0 o.2) := by
  unfold f_X7_clear
  refine oK_C ?_
  refine oK_Bn (fun r1 => ?_)
  refine oK_B (k_X7_puts (by first | assumption | exact True.intro | exact SL_u (by assumption) (by decide))) (fun r2 hr2 => ?_)
  exact oK_s (by first | assumption | exact True.intro | exact SL_u (by assumption) (by decide))
theorem k_X7_sue {μ0 : Nat → Nat → Int32} {σ : (Nat → Nat → Int32)} {l1 : Int32} {l2 : Int32} (h : SL μ0 σ) : oK (f_X7_sue σ l1 l2) (fun o => SL μ0 o.2) := by
  unfold f_X7_sue
  refine oK_Bn (fun r1 => ?_)
  refine oK_if ?_ ?_
  · exact oK_s (by first | assumption | exact True.intro | exact SL_u (by assumption) (by decide))
  · refine oK_Bn (fun r2 => ?_)
    refine oK_if ?_ ?_
    · exact oK_s (by first | assumption | exact True.intro | exact SL_u (by assumption) (by decide))
    · refine oK_C ?_
      refine oK_if ?_ ?_
      · exact oK_s (by first | assumption | exact True.intro | exact SL_u (by assumption) (by decide))
      · refine oK_C ?_
        refine oK_Lk (Q := SL μ0) (by first | assumption | exact True.intro | exact SL_u (by assumption) (by decide)) (fun s3 hs3 => ?_)
        refine oK_C ?_
        refine oK_Lk (Q := SL μ0) (by first | assumption | exact True.intro | exact SL_u (by assumption) (by decide)) (fun s4 hs4 => ?_)
        refine oK_C ?_
        refine oK_C ?_
        refine oK_Lk (Q := SL μ0) (by first | assumption | exact True.intro | exact SL_u (by assumption) (by decide)) (fun s5 hs5 => ?_)
        refine oK_C ?_
        exact oK_s (by first | assumption | exact True.intro | exact SL_u (by assumption) (by decide))
theorem k_X7_drop {μ0 : Nat → Nat → Int32} {σ : (Nat → Nat → Int32)} {l1 : Int32} (h : SL μ0 σ) : oK (f_X7_drop σ l1) (fun o => SL μ0 o.2) := by
  unfold f_X7_drop
  refine oK_C ?_
  refine oK_Bn (fun r1 => ?_)
  refine oK_B (k_X7_puts (by first | assumption | exact True.intro | exact SL_u (by assumption) (by decide))) (fun r2 hr2 => ?_)
  exact oK_s (by first | assumption | exact True.intro | exact SL_u (by assumption) (by decide))
theorem k_X7_run {μ0 : Nat → Nat → Int32} {σ : (Nat → Nat → Int32)} {l1 : Int32} {l2 : Int32} {l3 : Int32} (h : SL μ0 σ) : oK (f_X7_run σ l1 l2 l3) (fun o => SL μ0 o.2) := by
  unfold f_X7_run
  refine oK_Bn (fun r1 => ?_)
  refine oK_if ?_ ?_
  · exact oK_s (by first | assumption | exact True.intro | exact SL_u (by assumption) (by decide))
  · refine oK_Bn (fun r2 => ?_)
    refine oK_if ?_ ?_
    · exact oK_s (by first | assumption | exact True.intro | exact SL_u (by assumption) (by decide))
    · refine oK_Bn (fun r3 => ?_)
      refine oK_if ?_ ?_
      · exact oK_s (by first | assumption | exact True.intro | exact SL_u (by assumption) (by decide))
      · refine oK_B (k_X7_winnerOn (by first | assumption | exact True.intro | exact SL_u (by assumption) (by decide))) (fun r4 hr4 => ?_)
        refine oK_if ?_ ?_
        · exact oK_s (by first | assumption | exact True.intro | exact SL_u (by assumption) (by decide))
        · refine oK_if ?_ ?_
          · exact oK_s (by first | assumption | exact True.intro | exact SL_u (by assumption) (by decide))
          · refine oK_if ?_ ?_
            · exact oK_s (by first | assumption | exact True.intro | exact SL_u (by assumption) (by decide))
            · refine oK_if ?_ ?_
              · exact oK_s (by first | assumption | exact True.intro | exact SL_u (by assumption) (by decide))
              · refine oK_if ?_ ?_
                · exact oK_s (by first | assumption | exact True.intro | exact SL_u (by assumption) (by decide))
                · exact oK_s (by first | assumption | exact True.intro | exact SL_u (by assumption) (by decide))
theorem k_X7_way {μ0 : Nat → Nat → Int32} {σ : (Nat → Nat → Int32)} {l1 : Int32} {l2 : Int32} {l3 : Int32} (h : SL μ0 σ) : oK (f_X7_way σ l1 l2 l3) (fun o => SL μ0 o.2) := by
  unfold f_X7_way
  refine oK_Bn (fun r1 => ?_)
  refine oK_if ?_ ?_
  · exact oK_s (by first | assumption | exact True.intro | exact SL_u (by assumption) (by decide))
  · refine oK_Bn (fun r2 => ?_)
    refine oK_if ?_ ?_
    · exact oK_s (by first | assumption | exact True.intro | exact SL_u (by assumption) (by decide))
    · refine oK_Bn (fun r3 => ?_)
      refine oK_if ?_ ?_
      · exact oK_s (by first | assumption | exact True.intro | exact SL_u (by assumption) (by decide))
      · refine oK_B (k_X7_runsOn (by first | assumption | exact True.intro | exact SL_u (by assumption) (by decide))) (fun r4 hr4 => ?_)
        refine oK_if ?_ ?_
        · exact oK_s (by first | assumption | exact True.intro | exact SL_u (by assumption) (by decide))
        · refine oK_C ?_
          exact oK_s (by first | assumption | exact True.intro | exact SL_u (by assumption) (by decide))
theorem k_X7_wins {μ0 : Nat → Nat → Int32} {σ : (Nat → Nat → Int32)} {l1 : Int32} (h : SL μ0 σ) : oK (f_X7_wins σ l1) (fun o => SL μ0 o.2) := by
  unfold f_X7_wins
  refine oK_Bn (fun r1 => ?_)
  refine oK_if ?_ ?_
  · exact oK_s (by first | assumption | exact True.intro | exact SL_u (by assumption) (by decide))
  · refine oK_B (k_X7_winsOn (by first | assumption | exact True.intro | exact SL_u (by assumption) (by decide))) (fun r2 hr2 => ?_)
    exact oK_s (by first | assumption | exact True.intro | exact SL_u (by assumption) (by decide))
theorem k_X7_share_b47 {μ0 : Nat → Nat → Int32} {σ : (Nat → Nat → Int32)} {l1 : Int32} {l2 : Int32} {l4 : Int32} {k2 : Int32} {k1 : Int32} (h : SL μ0 σ) : oK (f_X7_share_b47 σ l1 l2 l4 k2 k1) (oKS (fun o => SL μ0 o.2.2) (fun o => SL μ0 o.2)) := by
  unfold f_X7_share_b47
  exact oK_s (by first | assumption | exact True.intro | exact SL_u (by assumption) (by decide))
theorem k_X7_share_L22 {μ0 : Nat → Nat → Int32} {σ : (Nat → Nat → Int32)} {l1 : Int32} {l2 : Int32} {l3 : Int32} {l4 : Int32} (h : SL μ0 σ) : oK (f_X7_share_L22 σ l1 l2 l3 l4) (oKS (fun o => SL μ0 o.2.2) (fun o => SL μ0 o.2)) := by
  unfold f_X7_share_L22
  refine oK_if ?_ ?_
  · refine oK_I ?_
    exact oK_s (by first | assumption | exact True.intro | exact SL_u (by assumption) (by decide))
  · refine oK_B (k_X7_winnerOn (by first | assumption | exact True.intro | exact SL_u (by assumption) (by decide))) (fun r1 hr1 => ?_)
    refine oK_if ?_ ?_
    · exact k_X7_share_b47 (by first | assumption | exact True.intro | exact SL_u (by assumption) (by decide))
    · exact k_X7_share_b47 (by first | assumption | exact True.intro | exact SL_u (by assumption) (by decide))
theorem k_X7_share_b22 {μ0 : Nat → Nat → Int32} {σ : (Nat → Nat → Int32)} {l1 : Int32} {l2 : Int32} {l3 : Int32} {l4 : Int32} (h : SL μ0 σ) : oK (f_X7_share_b22 σ l1 l2 l3 l4) (fun o => SL μ0 o.2) := by
  unfold f_X7_share_b22
  exact oK_lp (fun o => SL μ0 o.2.2) (by first | assumption | exact True.intro | exact SL_u (by assumption) (by decide)) (fun v hv => k_X7_share_L22 (by first | assumption | exact True.intro | exact SL_u (by assumption) (by decide)))
theorem k_X7_share {μ0 : Nat → Nat → Int32} {σ : (Nat → Nat → Int32)} {l1 : Int32} {l2 : Int32} (h : SL μ0 σ) : oK (f_X7_share σ l1 l2) (fun o => SL μ0 o.2) := by
  unfold f_X7_share
  refine oK_Bn (fun r1 => ?_)
  refine oK_if ?_ ?_
  · exact oK_s (by first | assumption | exact True.intro | exact SL_u (by assumption) (by decide))
  · refine oK_Bn (fun r2 => ?_)
    refine oK_if ?_ ?_
    · exact oK_s (by first | assumption | exact True.intro | exact SL_u (by assumption) (by decide))
    · exact k_X7_share_b22 (by first | assumption | exact True.intro | exact SL_u (by assumption) (by decide))
theorem k_X7_first_L19 {μ0 : Nat → Nat → Int32} {σ : (Nat → Nat → Int32)} {l1 : Int32} {l2 : Int32} {l3 : Int32} (h : SL μ0 σ) : oK (f_X7_first_L19 σ l1 l2 l3) (oKS (fun o => SL μ0 o.2) (fun o => SL μ0 o.2)) := by
  unfold f_X7_first_L19
  refine oK_if ?_ ?_
  · refine oK_I ?_
    exact oK_s (by first | assumption | exact True.intro | exact SL_u (by assumption) (by decide))
  · refine oK_B (k_X7_winnerOn (by first | assumption | exact True.intro | exact SL_u (by assumption) (by decide))) (fun r1 hr1 => ?_)
    refine oK_if ?_ ?_
    · refine oK_I ?_
      exact oK_s (by first | assumption | exact True.intro | exact SL_u (by assumption) (by decide))
    · exact oK_s (by first | assumption | exact True.intro | exact SL_u (by assumption) (by decide))
theorem k_X7_first_b19 {μ0 : Nat → Nat → Int32} {σ : (Nat → Nat → Int32)} {l1 : Int32} {l2 : Int32} {l3 : Int32} (h : SL μ0 σ) : oK (f_X7_first_b19 σ l1 l2 l3) (fun o => SL μ0 o.2) := by
  unfold f_X7_first_b19
  exact oK_lp (fun o => SL μ0 o.2) (by first | assumption | exact True.intro | exact SL_u (by assumption) (by decide)) (fun v hv => k_X7_first_L19 (by first | assumption | exact True.intro | exact SL_u (by assumption) (by decide)))
theorem k_X7_first {μ0 : Nat → Nat → Int32} {σ : (Nat → Nat → Int32)} {l1 : Int32} {l2 : Int32} (h : SL μ0 σ) : oK (f_X7_first σ l1 l2) (fun o => SL μ0 o.2) := by
  unfold f_X7_first
  refine oK_Bn (fun r1 => ?_)
  refine oK_if ?_ ?_
  · exact oK_s (by first | assumption | exact True.intro | exact SL_u (by assumption) (by decide))
  · refine oK_Bn (fun r2 => ?_)
    refine oK_if ?_ ?_
    · exact oK_s (by first | assumption | exact True.intro | exact SL_u (by assumption) (by decide))
    · exact k_X7_first_b19 (by first | assumption | exact True.intro | exact SL_u (by assumption) (by decide))
theorem k_X7_copies_L2 {μ0 : Nat → Nat → Int32} {σ : (Nat → Nat → Int32)} {l1 : Int32} {l2 : Int32} {l3 : Int32} (h : SL μ0 σ) : oK (f_X7_copies_L2 σ l1 l2 l3) (oKS (fun o => SL μ0 o.2) (fun o => SL μ0 o)) := by
  unfold f_X7_copies_L2
  refine oK_if ?_ ?_
  · refine oK_I ?_
    exact oK_s (by first | assumption | exact True.intro | exact SL_u (by assumption) (by decide))
  · refine oK_C ?_
    refine oK_C ?_
    refine oK_Lk (Q := SL μ0) (by first | assumption | exact True.intro | exact SL_u (by assumption) (by decide)) (fun s1 hs1 => ?_)
    exact oK_s (by first | assumption | exact True.intro | exact SL_u (by assumption) (by decide))
theorem k_X7_copies_b2 {μ0 : Nat → Nat → Int32} {σ : (Nat → Nat → Int32)} {l1 : Int32} {l2 : Int32} {l3 : Int32} (h : SL μ0 σ) : oK (f_X7_copies_b2 σ l1 l2 l3) (fun o => SL μ0 o) := by
  unfold f_X7_copies_b2
  exact oK_lp (fun o => SL μ0 o.2) (by first | assumption | exact True.intro | exact SL_u (by assumption) (by decide)) (fun v hv => k_X7_copies_L2 (by first | assumption | exact True.intro | exact SL_u (by assumption) (by decide)))
theorem k_X7_copies {μ0 : Nat → Nat → Int32} {σ : (Nat → Nat → Int32)} {l1 : Int32} {l2 : Int32} (h : SL μ0 σ) : oK (f_X7_copies σ l1 l2) (fun o => SL μ0 o) := by
  unfold f_X7_copies
  exact k_X7_copies_b2 (by first | assumption | exact True.intro | exact SL_u (by assumption) (by decide))
theorem k_X7_kindly_b79 {μ0 : Nat → Nat → Int32} {σ : (Nat → Nat → Int32)} {l1 : Int32} {l2 : Int32} {l3 : Int32} {l5 : Int32} {k2 : Int32} {k1 : Int32} (h : SL μ0 σ) : oK (f_X7_kindly_b79 σ l1 l2 l3 l5 k2 k1) (oKS (fun o => SL μ0 o.2.2) (fun o => SL μ0 o.2)) := by
  unfold f_X7_kindly_b79
  exact oK_s (by first | assumption | exact True.intro | exact SL_u (by assumption) (by decide))
theorem k_X7_kindly_L38 {μ0 : Nat → Nat → Int32} {σ : (Nat → Nat → Int32)} {l1 : Int32} {l2 : Int32} {l3 : Int32} {l4 : Int32} {l5 : Int32} (h : SL μ0 σ) : oK (f_X7_kindly_L38 σ l1 l2 l3 l4 l5) (oKS (fun o => SL μ0 o.2.2) (fun o => SL μ0 o.2)) := by
  unfold f_X7_kindly_L38
  refine oK_if ?_ ?_
  · refine oK_I ?_
    exact oK_s (by first | assumption | exact True.intro | exact SL_u (by assumption) (by decide))
  · refine oK_C ?_
    refine oK_Lk (Q := SL μ0) (by first | assumption | exact True.intro | exact SL_u (by assumption) (by decide)) (fun s1 hs1 => ?_)
    refine oK_B (k_X7_winnerOn (by first | assumption | exact True.intro | exact SL_u (by assumption) (by decide))) (fun r2 hr2 => ?_)
    refine oK_if ?_ ?_
    · exact k_X7_kindly_b79 (by first | assumption | exact True.intro | exact SL_u (by assumption) (by decide))
    · exact k_X7_kindly_b79 (by first | assumption | exact True.intro | exact SL_u (by assumption) (by decide))
theorem k_X7_kindly_b38 {μ0 : Nat → Nat → Int32} {σ : (Nat → Nat → Int32)} {l1 : Int32} {l2 : Int32} {l3 : Int32} {l4 : Int32} {l5 : Int32} (h : SL μ0 σ) : oK (f_X7_kindly_b38 σ l1 l2 l3 l4 l5) (fun o => SL μ0 o.2) := by
  unfold f_X7_kindly_b38
  exact oK_lp (fun o => SL μ0 o.2.2) (by first | assumption | exact True.intro | exact SL_u (by assumption) (by decide)) (fun v hv => k_X7_kindly_L38 (by first | assumption | exact True.intro | exact SL_u (by assumption) (by decide)))
theorem k_X7_kindly {μ0 : Nat → Nat → Int32} {σ : (Nat → Nat → Int32)} {l1 : Int32} {l2 : Int32} {l3 : Int32} (h : SL μ0 σ) : oK (f_X7_kindly σ l1 l2 l3) (fun o => SL μ0 o.2) := by
  unfold f_X7_kindly
  refine oK_Bn (fun r1 => ?_)
  refine oK_if ?_ ?_
  · exact oK_s (by first | assumption | exact True.intro | exact SL_u (by assumption) (by decide))
  · refine oK_Bn (fun r2 => ?_)
    refine oK_if ?_ ?_
    · exact oK_s (by first | assumption | exact True.intro | exact SL_u (by assumption) (by decide))
    · refine oK_Bn (fun r3 => ?_)
      refine oK_if ?_ ?_
      · exact oK_s (by first | assumption | exact True.intro | exact SL_u (by assumption) (by decide))
      · refine oK_B (k_X7_copies (by first | assumption | exact True.intro | exact SL_u (by assumption) (by decide))) (fun r4 hr4 => ?_)
        exact k_X7_kindly_b38 (by first | assumption | exact True.intro | exact SL_u (by assumption) (by decide))
theorem k_X7_place_b126 {μ0 : Nat → Nat → Int32} {σ : (Nat → Nat → Int32)} {l1 : Int32} {l2 : Int32} {l3 : Int32} {l4 : Int32} {l5 : Int32} (h : SL μ0 σ) : oK (f_X7_place_b126 σ l1 l2 l3 l4 l5) (oKS (fun o => SL μ0 o.2.2.2) (fun o => SL μ0 o.2)) := by
  unfold f_X7_place_b126
  exact oK_s (by first | assumption | exact True.intro | exact SL_u (by assumption) (by decide))
theorem k_X7_place_b125 {μ0 : Nat → Nat → Int32} {σ : (Nat → Nat → Int32)} {l1 : Int32} {l2 : Int32} {l4 : Int32} {l5 : Int32} {k1 : Int32} (h : SL μ0 σ) : oK (f_X7_place_b125 σ l1 l2 l4 l5 k1) (oKS (fun o => SL μ0 o.2.2.2) (fun o => SL μ0 o.2)) := by
  unfold f_X7_place_b125
  exact k_X7_place_b126 (by first | assumption | exact True.intro | exact SL_u (by assumption) (by decide))
theorem k_X7_place_b111 {μ0 : Nat → Nat → Int32} {σ : (Nat → Nat → Int32)} {l1 : Int32} {l2 : Int32} {l3 : Int32} {l5 : Int32} {l6 : Int32} {k1 : Int32} (h : SL μ0 σ) : oK (f_X7_place_b111 σ l1 l2 l3 l5 l6 k1) (oKS (fun o => SL μ0 o.2.2.2) (fun o => SL μ0 o.2)) := by
  unfold f_X7_place_b111
  refine oK_if ?_ ?_
  · exact k_X7_place_b125 (by first | assumption | exact True.intro | exact SL_u (by assumption) (by decide))
  · exact k_X7_place_b125 (by first | assumption | exact True.intro | exact SL_u (by assumption) (by decide))
theorem k_X7_place_L42 {μ0 : Nat → Nat → Int32} {σ : (Nat → Nat → Int32)} {l1 : Int32} {l2 : Int32} {l3 : Int32} {l4 : Int32} {l5 : Int32} (h : SL μ0 σ) : oK (f_X7_place_L42 σ l1 l2 l3 l4 l5) (oKS (fun o => SL μ0 o.2.2.2) (fun o => SL μ0 o.2)) := by
  unfold f_X7_place_L42
  refine oK_if ?_ ?_
  · refine oK_I ?_
    refine oK_if ?_ ?_
    · exact oK_s (by first | assumption | exact True.intro | exact SL_u (by assumption) (by decide))
    · exact oK_s (by first | assumption | exact True.intro | exact SL_u (by assumption) (by decide))
  · refine oK_Bn (fun r1 => ?_)
    refine oK_if ?_ ?_
    · exact k_X7_place_b126 (by first | assumption | exact True.intro | exact SL_u (by assumption) (by decide))
    · refine oK_Bn (fun r2 => ?_)
      refine oK_if ?_ ?_
      · exact k_X7_place_b126 (by first | assumption | exact True.intro | exact SL_u (by assumption) (by decide))
      · refine oK_B (k_X7_copies (by first | assumption | exact True.intro | exact SL_u (by assumption) (by decide))) (fun r3 hr3 => ?_)
        refine oK_B (k_X7_drivesOn (by first | assumption | exact True.intro | exact SL_u (by assumption) (by decide))) (fun r4 hr4 => ?_)
        refine oK_B (k_X7_winsOn (by first | assumption | exact True.intro | exact SL_u (by assumption) (by decide))) (fun r5 hr5 => ?_)
        refine oK_Bn (fun r6 => ?_)
        refine oK_if ?_ ?_
        · exact k_X7_place_b111 (by first | assumption | exact True.intro | exact SL_u (by assumption) (by decide))
        · exact k_X7_place_b111 (by first | assumption | exact True.intro | exact SL_u (by assumption) (by decide))
theorem k_X7_place_b42 {μ0 : Nat → Nat → Int32} {σ : (Nat → Nat → Int32)} {l1 : Int32} {l2 : Int32} {l3 : Int32} {l4 : Int32} {l5 : Int32} (h : SL μ0 σ) : oK (f_X7_place_b42 σ l1 l2 l3 l4 l5) (fun o => SL μ0 o.2) := by
  unfold f_X7_place_b42
  exact oK_lp (fun o => SL μ0 o.2.2.2) (by first | assumption | exact True.intro | exact SL_u (by assumption) (by decide)) (fun v hv => k_X7_place_L42 (by first | assumption | exact True.intro | exact SL_u (by assumption) (by decide)))
theorem k_X7_place {μ0 : Nat → Nat → Int32} {σ : (Nat → Nat → Int32)} {l1 : Int32} {l2 : Int32} (h : SL μ0 σ) : oK (f_X7_place σ l1 l2) (fun o => SL μ0 o.2) := by
  unfold f_X7_place
  refine oK_Bn (fun r1 => ?_)
  refine oK_if ?_ ?_
  · exact oK_s (by first | assumption | exact True.intro | exact SL_u (by assumption) (by decide))
  · refine oK_Bn (fun r2 => ?_)
    refine oK_if ?_ ?_
    · exact oK_s (by first | assumption | exact True.intro | exact SL_u (by assumption) (by decide))
    · refine oK_C ?_
      refine oK_if ?_ ?_
      · exact oK_s (by first | assumption | exact True.intro | exact SL_u (by assumption) (by decide))
      · exact k_X7_place_b42 (by first | assumption | exact True.intro | exact SL_u (by assumption) (by decide))
theorem k_X7_move_b133 {μ0 : Nat → Nat → Int32} {σ : (Nat → Nat → Int32)} {l1 : Int32} {l2 : Int32} {l3 : Int32} {l4 : Int32} {l5 : Int32} (h : SL μ0 σ) : oK (f_X7_move_b133 σ l1 l2 l3 l4 l5) (oKS (fun o => SL μ0 o.2.2.2) (fun o => SL μ0 o.2)) := by
  unfold f_X7_move_b133
  exact oK_s (by first | assumption | exact True.intro | exact SL_u (by assumption) (by decide))
theorem k_X7_move_b132 {μ0 : Nat → Nat → Int32} {σ : (Nat → Nat → Int32)} {l1 : Int32} {l2 : Int32} {l4 : Int32} {l5 : Int32} {k1 : Int32} (h : SL μ0 σ) : oK (f_X7_move_b132 σ l1 l2 l4 l5 k1) (oKS (fun o => SL μ0 o.2.2.2) (fun o => SL μ0 o.2)) := by
  unfold f_X7_move_b132
  exact k_X7_move_b133 (by first | assumption | exact True.intro | exact SL_u (by assumption) (by decide))
theorem k_X7_move_b118 {μ0 : Nat → Nat → Int32} {σ : (Nat → Nat → Int32)} {l1 : Int32} {l2 : Int32} {l3 : Int32} {l5 : Int32} {l6 : Int32} {k1 : Int32} (h : SL μ0 σ) : oK (f_X7_move_b118 σ l1 l2 l3 l5 l6 k1) (oKS (fun o => SL μ0 o.2.2.2) (fun o => SL μ0 o.2)) := by
  unfold f_X7_move_b118
  refine oK_if ?_ ?_
  · exact k_X7_move_b132 (by first | assumption | exact True.intro | exact SL_u (by assumption) (by decide))
  · exact k_X7_move_b132 (by first | assumption | exact True.intro | exact SL_u (by assumption) (by decide))
theorem k_X7_move_b72 {μ0 : Nat → Nat → Int32} {σ : (Nat → Nat → Int32)} {l1 : Int32} {l2 : Int32} {l3 : Int32} {l4 : Int32} {l5 : Int32} (h : SL μ0 σ) : oK (f_X7_move_b72 σ l1 l2 l3 l4 l5) (oKS (fun o => SL μ0 o.2.2.2) (fun o => SL μ0 o.2)) := by
  unfold f_X7_move_b72
  refine oK_C ?_
  refine oK_Lk (Q := SL μ0) (by first | assumption | exact True.intro | exact SL_u (by assumption) (by decide)) (fun s1 hs1 => ?_)
  refine oK_C ?_
  refine oK_B (k_X7_winsOn (by first | assumption | exact True.intro | exact SL_u (by assumption) (by decide))) (fun r2 hr2 => ?_)
  refine oK_Bn (fun r3 => ?_)
  refine oK_if ?_ ?_
  · exact k_X7_move_b118 (by first | assumption | exact True.intro | exact SL_u (by assumption) (by decide))
  · exact k_X7_move_b118 (by first | assumption | exact True.intro | exact SL_u (by assumption) (by decide))
theorem k_X7_move_L36 {μ0 : Nat → Nat → Int32} {σ : (Nat → Nat → Int32)} {l1 : Int32} {l2 : Int32} {l3 : Int32} {l4 : Int32} {l5 : Int32} (h : SL μ0 σ) : oK (f_X7_move_L36 σ l1 l2 l3 l4 l5) (oKS (fun o => SL μ0 o.2.2.2) (fun o => SL μ0 o.2)) := by
  unfold f_X7_move_L36
  refine oK_if ?_ ?_
  · refine oK_I ?_
    refine oK_if ?_ ?_
    · exact oK_s (by first | assumption | exact True.intro | exact SL_u (by assumption) (by decide))
    · exact oK_s (by first | assumption | exact True.intro | exact SL_u (by assumption) (by decide))
  · refine oK_Bn (fun r1 => ?_)
    refine oK_if ?_ ?_
    · exact k_X7_move_b133 (by first | assumption | exact True.intro | exact SL_u (by assumption) (by decide))
    · refine oK_Bn (fun r2 => ?_)
      refine oK_if ?_ ?_
      · refine oK_C ?_
        refine oK_if ?_ ?_
        · exact k_X7_move_b72 (by first | assumption | exact True.intro | exact SL_u (by assumption) (by decide))
        · exact k_X7_move_b133 (by first | assumption | exact True.intro | exact SL_u (by assumption) (by decide))
      · exact k_X7_move_b72 (by first | assumption | exact True.intro | exact SL_u (by assumption) (by decide))
theorem k_X7_move_b36 {μ0 : Nat → Nat → Int32} {σ : (Nat → Nat → Int32)} {l1 : Int32} {l2 : Int32} {l3 : Int32} {l4 : Int32} {l5 : Int32} (h : SL μ0 σ) : oK (f_X7_move_b36 σ l1 l2 l3 l4 l5) (fun o => SL μ0 o.2) := by
  unfold f_X7_move_b36
  exact oK_lp (fun o => SL μ0 o.2.2.2) (by first | assumption | exact True.intro | exact SL_u (by assumption) (by decide)) (fun v hv => k_X7_move_L36 (by first | assumption | exact True.intro | exact SL_u (by assumption) (by decide)))
theorem k_X7_move {μ0 : Nat → Nat → Int32} {σ : (Nat → Nat → Int32)} {l1 : Int32} {l2 : Int32} (h : SL μ0 σ) : oK (f_X7_move σ l1 l2) (fun o => SL μ0 o.2) := by
  unfold f_X7_move
  refine oK_Bn (fun r1 => ?_)
  refine oK_if ?_ ?_
  · exact oK_s (by first | assumption | exact True.intro | exact SL_u (by assumption) (by decide))
  · refine oK_Bn (fun r2 => ?_)
    refine oK_if ?_ ?_
    · exact oK_s (by first | assumption | exact True.intro | exact SL_u (by assumption) (by decide))
    · refine oK_B (k_X7_copies (by first | assumption | exact True.intro | exact SL_u (by assumption) (by decide))) (fun r3 hr3 => ?_)
      exact k_X7_move_b36 (by first | assumption | exact True.intro | exact SL_u (by assumption) (by decide))
theorem k_X7_bribe_b137 {μ0 : Nat → Nat → Int32} {σ : (Nat → Nat → Int32)} {l1 : Int32} {l2 : Int32} {l3 : Int32} {l4 : Int32} {l5 : Int32} (h : SL μ0 σ) : oK (f_X7_bribe_b137 σ l1 l2 l3 l4 l5) (oKS (fun o => SL μ0 o.2.2.2) (fun o => SL μ0 o.2)) := by
  unfold f_X7_bribe_b137
  exact oK_s (by first | assumption | exact True.intro | exact SL_u (by assumption) (by decide))
theorem k_X7_bribe_b136 {μ0 : Nat → Nat → Int32} {σ : (Nat → Nat → Int32)} {l1 : Int32} {l2 : Int32} {l4 : Int32} {l5 : Int32} {k1 : Int32} (h : SL μ0 σ) : oK (f_X7_bribe_b136 σ l1 l2 l4 l5 k1) (oKS (fun o => SL μ0 o.2.2.2) (fun o => SL μ0 o.2)) := by
  unfold f_X7_bribe_b136
  exact k_X7_bribe_b137 (by first | assumption | exact True.intro | exact SL_u (by assumption) (by decide))
theorem k_X7_bribe_b122 {μ0 : Nat → Nat → Int32} {σ : (Nat → Nat → Int32)} {l1 : Int32} {l2 : Int32} {l3 : Int32} {l5 : Int32} {l6 : Int32} {k1 : Int32} (h : SL μ0 σ) : oK (f_X7_bribe_b122 σ l1 l2 l3 l5 l6 k1) (oKS (fun o => SL μ0 o.2.2.2) (fun o => SL μ0 o.2)) := by
  unfold f_X7_bribe_b122
  refine oK_if ?_ ?_
  · exact k_X7_bribe_b136 (by first | assumption | exact True.intro | exact SL_u (by assumption) (by decide))
  · exact k_X7_bribe_b136 (by first | assumption | exact True.intro | exact SL_u (by assumption) (by decide))
theorem k_X7_bribe_L42 {μ0 : Nat → Nat → Int32} {σ : (Nat → Nat → Int32)} {l1 : Int32} {l2 : Int32} {l3 : Int32} {l4 : Int32} {l5 : Int32} (h : SL μ0 σ) : oK (f_X7_bribe_L42 σ l1 l2 l3 l4 l5) (oKS (fun o => SL μ0 o.2.2.2) (fun o => SL μ0 o.2)) := by
  unfold f_X7_bribe_L42
  refine oK_if ?_ ?_
  · refine oK_I ?_
    refine oK_if ?_ ?_
    · exact oK_s (by first | assumption | exact True.intro | exact SL_u (by assumption) (by decide))
    · exact oK_s (by first | assumption | exact True.intro | exact SL_u (by assumption) (by decide))
  · refine oK_Bn (fun r1 => ?_)
    refine oK_if ?_ ?_
    · exact k_X7_bribe_b137 (by first | assumption | exact True.intro | exact SL_u (by assumption) (by decide))
    · refine oK_Bn (fun r2 => ?_)
      refine oK_if ?_ ?_
      · exact k_X7_bribe_b137 (by first | assumption | exact True.intro | exact SL_u (by assumption) (by decide))
      · refine oK_B (k_X7_copies (by first | assumption | exact True.intro | exact SL_u (by assumption) (by decide))) (fun r3 hr3 => ?_)
        refine oK_B (k_X7_laysOn (by first | assumption | exact True.intro | exact SL_u (by assumption) (by decide))) (fun r4 hr4 => ?_)
        refine oK_B (k_X7_winsOn (by first | assumption | exact True.intro | exact SL_u (by assumption) (by decide))) (fun r5 hr5 => ?_)
        refine oK_B (k_X7_winsOn (by first | assumption | exact True.intro | exact SL_u (by assumption) (by decide))) (fun r6 hr6 => ?_)
        refine oK_Bn (fun r7 => ?_)
        refine oK_if ?_ ?_
        · exact k_X7_bribe_b122 (by first | assumption | exact True.intro | exact SL_u (by assumption) (by decide))
        · exact k_X7_bribe_b122 (by first | assumption | exact True.intro | exact SL_u (by assumption) (by decide))
theorem k_X7_bribe_b42 {μ0 : Nat → Nat → Int32} {σ : (Nat → Nat → Int32)} {l1 : Int32} {l2 : Int32} {l3 : Int32} {l4 : Int32} {l5 : Int32} (h : SL μ0 σ) : oK (f_X7_bribe_b42 σ l1 l2 l3 l4 l5) (fun o => SL μ0 o.2) := by
  unfold f_X7_bribe_b42
  exact oK_lp (fun o => SL μ0 o.2.2.2) (by first | assumption | exact True.intro | exact SL_u (by assumption) (by decide)) (fun v hv => k_X7_bribe_L42 (by first | assumption | exact True.intro | exact SL_u (by assumption) (by decide)))
theorem k_X7_bribe {μ0 : Nat → Nat → Int32} {σ : (Nat → Nat → Int32)} {l1 : Int32} {l2 : Int32} (h : SL μ0 σ) : oK (f_X7_bribe σ l1 l2) (fun o => SL μ0 o.2) := by
  unfold f_X7_bribe
  refine oK_Bn (fun r1 => ?_)
  refine oK_if ?_ ?_
  · exact oK_s (by first | assumption | exact True.intro | exact SL_u (by assumption) (by decide))
  · refine oK_Bn (fun r2 => ?_)
    refine oK_if ?_ ?_
    · exact oK_s (by first | assumption | exact True.intro | exact SL_u (by assumption) (by decide))
    · refine oK_C ?_
      refine oK_if ?_ ?_
      · exact oK_s (by first | assumption | exact True.intro | exact SL_u (by assumption) (by decide))
      · exact k_X7_bribe_b42 (by first | assumption | exact True.intro | exact SL_u (by assumption) (by decide))
theorem k_X7_need_L27 {μ0 : Nat → Nat → Int32} {σ : (Nat → Nat → Int32)} {l1 : Int32} {l2 : Int32} {l3 : Int32} (h : SL μ0 σ) : oK (f_X7_need_L27 σ l1 l2 l3) (oKS (fun o => SL μ0 o.2) (fun o => SL μ0 o.2)) := by
  unfold f_X7_need_L27
  refine oK_if ?_ ?_
  · refine oK_I ?_
    exact oK_s (by first | assumption | exact True.intro | exact SL_u (by assumption) (by decide))
  · refine oK_C ?_
    refine oK_Lk (Q := SL μ0) (by first | assumption | exact True.intro | exact SL_u (by assumption) (by decide)) (fun s1 hs1 => ?_)
    refine oK_B (k_X7_runsOn (by first | assumption | exact True.intro | exact SL_u (by assumption) (by decide))) (fun r2 hr2 => ?_)
    refine oK_if ?_ ?_
    · refine oK_I ?_
      exact oK_s (by first | assumption | exact True.intro | exact SL_u (by assumption) (by decide))
    · exact oK_s (by first | assumption | exact True.intro | exact SL_u (by assumption) (by decide))
theorem k_X7_need_b27 {μ0 : Nat → Nat → Int32} {σ : (Nat → Nat → Int32)} {l1 : Int32} {l2 : Int32} {l3 : Int32} (h : SL μ0 σ) : oK (f_X7_need_b27 σ l1 l2 l3) (fun o => SL μ0 o.2) := by
  unfold f_X7_need_b27
  exact oK_lp (fun o => SL μ0 o.2) (by first | assumption | exact True.intro | exact SL_u (by assumption) (by decide)) (fun v hv => k_X7_need_L27 (by first | assumption | exact True.intro | exact SL_u (by assumption) (by decide)))
theorem k_X7_need {μ0 : Nat → Nat → Int32} {σ : (Nat → Nat → Int32)} {l1 : Int32} {l2 : Int32} (h : SL μ0 σ) : oK (f_X7_need σ l1 l2) (fun o => SL μ0 o.2) := by
  unfold f_X7_need
  refine oK_Bn (fun r1 => ?_)
  refine oK_if ?_ ?_
  · exact oK_s (by first | assumption | exact True.intro | exact SL_u (by assumption) (by decide))
  · refine oK_Bn (fun r2 => ?_)
    refine oK_if ?_ ?_
    · exact oK_s (by first | assumption | exact True.intro | exact SL_u (by assumption) (by decide))
    · refine oK_B (k_X7_copies (by first | assumption | exact True.intro | exact SL_u (by assumption) (by decide))) (fun r3 hr3 => ?_)
      exact k_X7_need_b27 (by first | assumption | exact True.intro | exact SL_u (by assumption) (by decide))
theorem k_X7_swap_b184 {μ0 : Nat → Nat → Int32} {σ : (Nat → Nat → Int32)} {l1 : Int32} {l2 : Int32} {l4 : Int32} {l5 : Int32} {l6 : Int32} {k1 : Int32} (h : SL μ0 σ) : oK (f_X7_swap_b184 σ l1 l2 l4 l5 l6 k1) (oKS (fun o => SL μ0 o.2.2.2) (oKS (fun o => SL μ0 o.2.2.2) (fun o => SL μ0 o.2))) := by
  unfold f_X7_swap_b184
  exact oK_s (by first | assumption | exact True.intro | exact SL_u (by assumption) (by decide))
theorem k_X7_swap_b170 {μ0 : Nat → Nat → Int32} {σ : (Nat → Nat → Int32)} {l1 : Int32} {l2 : Int32} {l3 : Int32} {l5 : Int32} {l6 : Int32} {l7 : Int32} {k1 : Int32} (h : SL μ0 σ) : oK (f_X7_swap_b170 σ l1 l2 l3 l5 l6 l7 k1) (oKS (fun o => SL μ0 o.2.2.2) (oKS (fun o => SL μ0 o.2.2.2) (fun o => SL μ0 o.2))) := by
  unfold f_X7_swap_b170
  refine oK_if ?_ ?_
  · exact k_X7_swap_b184 (by first | assumption | exact True.intro | exact SL_u (by assumption) (by decide))
  · exact k_X7_swap_b184 (by first | assumption | exact True.intro | exact SL_u (by assumption) (by decide))
theorem k_X7_swap_b131 {μ0 : Nat → Nat → Int32} {σ : (Nat → Nat → Int32)} {l1 : Int32} {l2 : Int32} {l3 : Int32} {l4 : Int32} {l5 : Int32} {l6 : Int32} {l7 : Int32} {k3 : Int32} {k2 : Int32} (h : SL μ0 σ) : oK (f_X7_swap_b131 σ l1 l2 l3 l4 l5 l6 l7 k3 k2) (oKS (fun o => SL μ0 o.2) (oKS (fun o => SL μ0 o.2.2.2) (oKS (fun o => SL μ0 o.2.2.2) (fun o => SL μ0 o.2)))) := by
  unfold f_X7_swap_b131
  refine oK_C ?_
  refine oK_Lk (Q := SL μ0) (by first | assumption | exact True.intro | exact SL_u (by assumption) (by decide)) (fun s1 hs1 => ?_)
  exact oK_s (by first | assumption | exact True.intro | exact SL_u (by assumption) (by decide))
theorem k_X7_swap_L71 {μ0 : Nat → Nat → Int32} {σ : (Nat → Nat → Int32)} {l1 : Int32} {l2 : Int32} {l3 : Int32} {l4 : Int32} {l5 : Int32} {l6 : Int32} {l7 : Int32} (h : SL μ0 σ) : oK (f_X7_swap_L71 σ l1 l2 l3 l4 l5 l6 l7) (oKS (fun o => SL μ0 o.2) (oKS (fun o => SL μ0 o.2.2.2) (oKS (fun o => SL μ0 o.2.2.2) (fun o => SL μ0 o.2)))) := by
  unfold f_X7_swap_L71
  refine oK_C ?_
  refine oK_if ?_ ?_
  · refine oK_I ?_
    refine oK_B (k_X7_winsOn (by first | assumption | exact True.intro | exact SL_u (by assumption) (by decide))) (fun r1 hr1 => ?_)
    refine oK_Bn (fun r2 => ?_)
    refine oK_if ?_ ?_
    · exact k_X7_swap_b170 (by first | assumption | exact True.intro | exact SL_u (by assumption) (by decide))
    · exact k_X7_swap_b170 (by first | assumption | exact True.intro | exact SL_u (by assumption) (by decide))
  · refine oK_C ?_
    refine oK_if ?_ ?_
    · exact k_X7_swap_b131 (by first | assumption | exact True.intro | exact SL_u (by assumption) (by decide))
    · refine oK_if ?_ ?_
      · exact k_X7_swap_b131 (by first | assumption | exact True.intro | exact SL_u (by assumption) (by decide))
      · exact k_X7_swap_b131 (by first | assumption | exact True.intro | exact SL_u (by assumption) (by decide))
theorem k_X7_swap_b71 {μ0 : Nat → Nat → Int32} {σ : (Nat → Nat → Int32)} {l1 : Int32} {l2 : Int32} {l3 : Int32} {l4 : Int32} {l5 : Int32} {l6 : Int32} {l7 : Int32} (h : SL μ0 σ) : oK (f_X7_swap_b71 σ l1 l2 l3 l4 l5 l6 l7) (oKS (fun o => SL μ0 o.2.2.2) (oKS (fun o => SL μ0 o.2.2.2) (fun o => SL μ0 o.2))) := by
  unfold f_X7_swap_b71
  exact oK_lp (fun o => SL μ0 o.2) (by first | assumption | exact True.intro | exact SL_u (by assumption) (by decide)) (fun v hv => k_X7_swap_L71 (by first | assumption | exact True.intro | exact SL_u (by assumption) (by decide)))
theorem k_X7_swap_L51 {μ0 : Nat → Nat → Int32} {σ : (Nat → Nat → Int32)} {l1 : Int32} {l2 : Int32} {l3 : Int32} {l4 : Int32} {l5 : Int32} {l6 : Int32} (h : SL μ0 σ) : oK (f_X7_swap_L51 σ l1 l2 l3 l4 l5 l6) (oKS (fun o => SL μ0 o.2.2.2) (oKS (fun o => SL μ0 o.2.2.2) (fun o => SL μ0 o.2))) := by
  unfold f_X7_swap_L51
  refine oK_if ?_ ?_
  · refine oK_I ?_
    exact oK_s (by first | assumption | exact True.intro | exact SL_u (by assumption) (by decide))
  · refine oK_B (k_X7_copies (by first | assumption | exact True.intro | exact SL_u (by assumption) (by decide))) (fun r1 hr1 => ?_)
    exact k_X7_swap_b71 (by first | assumption | exact True.intro | exact SL_u (by assumption) (by decide))
theorem k_X7_swap_b51 {μ0 : Nat → Nat → Int32} {σ : (Nat → Nat → Int32)} {l1 : Int32} {l2 : Int32} {l3 : Int32} {l4 : Int32} {l5 : Int32} {l6 : Int32} (h : SL μ0 σ) : oK (f_X7_swap_b51 σ l1 l2 l3 l4 l5 l6) (oKS (fun o => SL μ0 o.2.2.2) (fun o => SL μ0 o.2)) := by
  unfold f_X7_swap_b51
  exact oK_lp (fun o => SL μ0 o.2.2.2) (by first | assumption | exact True.intro | exact SL_u (by assumption) (by decide)) (fun v hv => k_X7_swap_L51 (by first | assumption | exact True.intro | exact SL_u (by assumption) (by decide)))
theorem k_X7_swap_L36 {μ0 : Nat → Nat → Int32} {σ : (Nat → Nat → Int32)} {l1 : Int32} {l2 : Int32} {l3 : Int32} {l4 : Int32} {l5 : Int32} (h : SL μ0 σ) : oK (f_X7_swap_L36 σ l1 l2 l3 l4 l5) (oKS (fun o => SL μ0 o.2.2.2) (fun o => SL μ0 o.2)) := by
  unfold f_X7_swap_L36
  refine oK_if ?_ ?_
  · refine oK_I ?_
    refine oK_if ?_ ?_
    · exact oK_s (by first | assumption | exact True.intro | exact SL_u (by assumption) (by decide))
    · refine oK_if ?_ ?_
      · exact oK_s (by first | assumption | exact True.intro | exact SL_u (by assumption) (by decide))
      · exact oK_s (by first | assumption | exact True.intro | exact SL_u (by assumption) (by decide))
  · exact k_X7_swap_b51 (by first | assumption | exact True.intro | exact SL_u (by assumption) (by decide))
theorem k_X7_swap_b36 {μ0 : Nat → Nat → Int32} {σ : (Nat → Nat → Int32)} {l1 : Int32} {l2 : Int32} {l3 : Int32} {l4 : Int32} {l5 : Int32} (h : SL μ0 σ) : oK (f_X7_swap_b36 σ l1 l2 l3 l4 l5) (fun o => SL μ0 o.2) := by
  unfold f_X7_swap_b36
  exact oK_lp (fun o => SL μ0 o.2.2.2) (by first | assumption | exact True.intro | exact SL_u (by assumption) (by decide)) (fun v hv => k_X7_swap_L36 (by first | assumption | exact True.intro | exact SL_u (by assumption) (by decide)))
theorem k_X7_swap {μ0 : Nat → Nat → Int32} {σ : (Nat → Nat → Int32)} {l1 : Int32} {l2 : Int32} (h : SL μ0 σ) : oK (f_X7_swap σ l1 l2) (fun o => SL μ0 o.2) := by
  unfold f_X7_swap
  refine oK_Bn (fun r1 => ?_)
  refine oK_if ?_ ?_
  · exact oK_s (by first | assumption | exact True.intro | exact SL_u (by assumption) (by decide))
  · refine oK_Bn (fun r2 => ?_)
    refine oK_if ?_ ?_
    · exact oK_s (by first | assumption | exact True.intro | exact SL_u (by assumption) (by decide))
    · refine oK_B (k_X7_winsOn (by first | assumption | exact True.intro | exact SL_u (by assumption) (by decide))) (fun r3 hr3 => ?_)
      refine oK_Bn (fun r4 => ?_)
      exact k_X7_swap_b36 (by first | assumption | exact True.intro | exact SL_u (by assumption) (by decide))
theorem k_X7_pull_b175 {μ0 : Nat → Nat → Int32} {σ : (Nat → Nat → Int32)} {l1 : Int32} {l2 : Int32} {l4 : Int32} {l5 : Int32} {k1 : Int32} (h : SL μ0 σ) : oK (f_X7_pull_b175 σ l1 l2 l4 l5 k1) (oKS (fun o => SL μ0 o.2.2.2) (fun o => SL μ0 o.2)) := by
  unfold f_X7_pull_b175
  exact oK_s (by first | assumption | exact True.intro | exact SL_u (by assumption) (by decide))
theorem k_X7_pull_b161 {μ0 : Nat → Nat → Int32} {σ : (Nat → Nat → Int32)} {l1 : Int32} {l2 : Int32} {l3 : Int32} {l5 : Int32} {l6 : Int32} {k1 : Int32} (h : SL μ0 σ) : oK (f_X7_pull_b161 σ l1 l2 l3 l5 l6 k1) (oKS (fun o => SL μ0 o.2.2.2) (fun o => SL μ0 o.2)) := by
  unfold f_X7_pull_b161
  refine oK_if ?_ ?_
  · exact k_X7_pull_b175 (by first | assumption | exact True.intro | exact SL_u (by assumption) (by decide))
  · exact k_X7_pull_b175 (by first | assumption | exact True.intro | exact SL_u (by assumption) (by decide))
theorem k_X7_pull_L62 {μ0 : Nat → Nat → Int32} {σ : (Nat → Nat → Int32)} {l1 : Int32} {l2 : Int32} {l3 : Int32} {l4 : Int32} {l5 : Int32} {l6 : Int32} (h : SL μ0 σ) : oK (f_X7_pull_L62 σ l1 l2 l3 l4 l5 l6) (oKS (fun o => SL μ0 o.2) (oKS (fun o => SL μ0 o.2.2.2) (fun o => SL μ0 o.2))) := by
  unfold f_X7_pull_L62
  refine oK_C ?_
  refine oK_if ?_ ?_
  · refine oK_I ?_
    refine oK_C ?_
    refine oK_C ?_
    refine oK_Lk (Q := SL μ0) (by first | assumption | exact True.intro | exact SL_u (by assumption) (by decide)) (fun s1 hs1 => ?_)
    refine oK_B (k_X7_winsOn (by first | assumption | exact True.intro | exact SL_u (by assumption) (by decide))) (fun r2 hr2 => ?_)
    refine oK_Bn (fun r3 => ?_)
    refine oK_if ?_ ?_
    · exact k_X7_pull_b161 (by first | assumption | exact True.intro | exact SL_u (by assumption) (by decide))
    · exact k_X7_pull_b161 (by first | assumption | exact True.intro | exact SL_u (by assumption) (by decide))
  · refine oK_C ?_
    refine oK_C ?_
    refine oK_Lk (Q := SL μ0) (by first | assumption | exact True.intro | exact SL_u (by assumption) (by decide)) (fun s4 hs4 => ?_)
    refine oK_C ?_
    refine oK_C ?_
    refine oK_Lk (Q := SL μ0) (by first | assumption | exact True.intro | exact SL_u (by assumption) (by decide)) (fun s5 hs5 => ?_)
    exact oK_s (by first | assumption | exact True.intro | exact SL_u (by assumption) (by decide))
theorem k_X7_pull_b62 {μ0 : Nat → Nat → Int32} {σ : (Nat → Nat → Int32)} {l1 : Int32} {l2 : Int32} {l3 : Int32} {l4 : Int32} {l5 : Int32} {l6 : Int32} (h : SL μ0 σ) : oK (f_X7_pull_b62 σ l1 l2 l3 l4 l5 l6) (oKS (fun o => SL μ0 o.2.2.2) (fun o => SL μ0 o.2)) := by
  unfold f_X7_pull_b62
  exact oK_lp (fun o => SL μ0 o.2) (by first | assumption | exact True.intro | exact SL_u (by assumption) (by decide)) (fun v hv => k_X7_pull_L62 (by first | assumption | exact True.intro | exact SL_u (by assumption) (by decide)))
theorem k_X7_pull_L36 {μ0 : Nat → Nat → Int32} {σ : (Nat → Nat → Int32)} {l1 : Int32} {l2 : Int32} {l3 : Int32} {l4 : Int32} {l5 : Int32} (h : SL μ0 σ) : oK (f_X7_pull_L36 σ l1 l2 l3 l4 l5) (oKS (fun o => SL μ0 o.2.2.2) (fun o => SL μ0 o.2)) := by
  unfold f_X7_pull_L36
  refine oK_C ?_
  refine oK_if ?_ ?_
  · refine oK_I ?_
    refine oK_if ?_ ?_
    · exact oK_s (by first | assumption | exact True.intro | exact SL_u (by assumption) (by decide))
    · refine oK_if ?_ ?_
      · exact oK_s (by first | assumption | exact True.intro | exact SL_u (by assumption) (by decide))
      · exact oK_s (by first | assumption | exact True.intro | exact SL_u (by assumption) (by decide))
  · refine oK_B (k_X7_copies (by first | assumption | exact True.intro | exact SL_u (by assumption) (by decide))) (fun r1 hr1 => ?_)
    exact k_X7_pull_b62 (by first | assumption | exact True.intro | exact SL_u (by assumption) (by decide))
theorem k_X7_pull_b36 {μ0 : Nat → Nat → Int32} {σ : (Nat → Nat → Int32)} {l1 : Int32} {l2 : Int32} {l3 : Int32} {l4 : Int32} {l5 : Int32} (h : SL μ0 σ) : oK (f_X7_pull_b36 σ l1 l2 l3 l4 l5) (fun o => SL μ0 o.2) := by
  unfold f_X7_pull_b36
  exact oK_lp (fun o => SL μ0 o.2.2.2) (by first | assumption | exact True.intro | exact SL_u (by assumption) (by decide)) (fun v hv => k_X7_pull_L36 (by first | assumption | exact True.intro | exact SL_u (by assumption) (by decide)))
theorem k_X7_pull {μ0 : Nat → Nat → Int32} {σ : (Nat → Nat → Int32)} {l1 : Int32} {l2 : Int32} (h : SL μ0 σ) : oK (f_X7_pull σ l1 l2) (fun o => SL μ0 o.2) := by
  unfold f_X7_pull
  refine oK_Bn (fun r1 => ?_)
  refine oK_if ?_ ?_
  · exact oK_s (by first | assumption | exact True.intro | exact SL_u (by assumption) (by decide))
  · refine oK_Bn (fun r2 => ?_)
    refine oK_if ?_ ?_
    · exact oK_s (by first | assumption | exact True.intro | exact SL_u (by assumption) (by decide))
    · refine oK_B (k_X7_winsOn (by first | assumption | exact True.intro | exact SL_u (by assumption) (by decide))) (fun r3 hr3 => ?_)
      refine oK_Bn (fun r4 => ?_)
      exact k_X7_pull_b36 (by first | assumption | exact True.intro | exact SL_u (by assumption) (by decide))
theorem k_X7_byTurns_b134 {μ0 : Nat → Nat → Int32} {σ : (Nat → Nat → Int32)} {l1 : Int32} {l2 : Int32} {l3 : Int32} {l4 : Int32} {l5 : Int32} {l6 : Int64} {l8 : Int64} {l10 : Int32} (h : SL μ0 σ) : oK (f_X7_byTurns_b134 σ l1 l2 l3 l4 l5 l6 l8 l10) (oKS (fun o => SL μ0 o.2.2) (fun o => SL μ0 o.2)) := by
  unfold f_X7_byTurns_b134
  exact oK_s (by first | assumption | exact True.intro | exact SL_u (by assumption) (by decide))
theorem k_X7_byTurns_b129 {μ0 : Nat → Nat → Int32} {σ : (Nat → Nat → Int32)} {l1 : Int32} {l2 : Int32} {l3 : Int32} {l4 : Int32} {l5 : Int32} {l8 : Int64} {l10 : Int32} {k3 : Int32} {k2 : Int64} {k1 : Int64} (h : SL μ0 σ) : oK (f_X7_byTurns_b129 σ l1 l2 l3 l4 l5 l8 l10 k3 k2 k1) (oKS (fun o => SL μ0 o.2.2) (fun o => SL μ0 o.2)) := by
  unfold f_X7_byTurns_b129
  exact k_X7_byTurns_b134 (by first | assumption | exact True.intro | exact SL_u (by assumption) (by decide))
theorem k_X7_byTurns_b128 {μ0 : Nat → Nat → Int32} {σ : (Nat → Nat → Int32)} {l1 : Int32} {l2 : Int32} {l3 : Int32} {l4 : Int32} {l5 : Int32} {l8 : Int64} {l10 : Int32} {k2 : Int64} {k1 : Int64} (h : SL μ0 σ) : oK (f_X7_byTurns_b128 σ l1 l2 l3 l4 l5 l8 l10 k2 k1) (oKS (fun o => SL μ0 o.2.2) (fun o => SL μ0 o.2)) := by
  unfold f_X7_byTurns_b128
  exact k_X7_byTurns_b129 (by first | assumption | exact True.intro | exact SL_u (by assumption) (by decide))
theorem k_X7_byTurns_b55 {μ0 : Nat → Nat → Int32} {σ : (Nat → Nat → Int32)} {l1 : Int32} {l2 : Int32} {l3 : Int32} {l4 : Int32} {l5 : Int32} {l6 : Int64} {l8 : Int64} {l10 : Int32} {l13 : Int32} {k2 : Int64} {k1 : Int64} (h : SL μ0 σ) : oK (f_X7_byTurns_b55 σ l1 l2 l3 l4 l5 l6 l8 l10 l13 k2 k1) (oKS (fun _ => True) (oKS (fun o => SL μ0 o.2.2) (fun o => SL μ0 o.2))) := by
  unfold f_X7_byTurns_b55
  exact oK_s (by first | assumption | exact True.intro | exact SL_u (by assumption) (by decide))
theorem k_X7_byTurns_L25 {μ0 : Nat → Nat → Int32} {σ : (Nat → Nat → Int32)} {l1 : Int32} {l2 : Int32} {l3 : Int32} {l4 : Int32} {l5 : Int32} {l6 : Int64} {l8 : Int64} {l10 : Int32} {l11 : Int64} {l13 : Int32} (h : SL μ0 σ) : oK (f_X7_byTurns_L25 σ l1 l2 l3 l4 l5 l6 l8 l10 l11 l13) (oKS (fun _ => True) (oKS (fun o => SL μ0 o.2.2) (fun o => SL μ0 o.2))) := by
  unfold f_X7_byTurns_L25
  refine oK_if ?_ ?_
  · refine oK_I ?_
    refine oK_if ?_ ?_
    · exact k_X7_byTurns_b134 (by first | assumption | exact True.intro | exact SL_u (by assumption) (by decide))
    · refine oK_B (k_X7_runsOn (by first | assumption | exact True.intro | exact SL_u (by assumption) (by decide))) (fun r1 hr1 => ?_)
      refine oK_if ?_ ?_
      · exact k_X7_byTurns_b129 (by first | assumption | exact True.intro | exact SL_u (by assumption) (by decide))
      · refine oK_if ?_ ?_
        · exact k_X7_byTurns_b128 (by first | assumption | exact True.intro | exact SL_u (by assumption) (by decide))
        · refine oK_C ?_
          refine oK_if ?_ ?_
          · exact k_X7_byTurns_b129 (by first | assumption | exact True.intro | exact SL_u (by assumption) (by decide))
          · exact k_X7_byTurns_b128 (by first | assumption | exact True.intro | exact SL_u (by assumption) (by decide))
  · refine oK_if ?_ ?_
    · exact k_X7_byTurns_b55 (by first | assumption | exact True.intro | exact SL_u (by assumption) (by decide))
    · exact k_X7_byTurns_b55 (by first | assumption | exact True.intro | exact SL_u (by assumption) (by decide))
theorem k_X7_byTurns_b25 {μ0 : Nat → Nat → Int32} {σ : (Nat → Nat → Int32)} {l1 : Int32} {l2 : Int32} {l3 : Int32} {l4 : Int32} {l5 : Int32} {l6 : Int64} {l8 : Int64} {l10 : Int32} {l11 : Int64} {l13 : Int32} (h : SL μ0 σ) : oK (f_X7_byTurns_b25 σ l1 l2 l3 l4 l5 l6 l8 l10 l11 l13) (oKS (fun o => SL μ0 o.2.2) (fun o => SL μ0 o.2)) := by
  unfold f_X7_byTurns_b25
  exact oK_lp (fun _ => True) (by first | assumption | exact True.intro | exact SL_u (by assumption) (by decide)) (fun v hv => k_X7_byTurns_L25 (by first | assumption | exact True.intro | exact SL_u (by assumption) (by decide)))
theorem k_X7_byTurns_L11 {μ0 : Nat → Nat → Int32} {σ : (Nat → Nat → Int32)} {l1 : Int32} {l2 : Int32} {l3 : Int32} {l4 : Int32} {l5 : Int32} {l6 : Int64} {l8 : Int64} {l10 : Int32} (h : SL μ0 σ) : oK (f_X7_byTurns_L11 σ l1 l2 l3 l4 l5 l6 l8 l10) (oKS (fun o => SL μ0 o.2.2) (fun o => SL μ0 o.2)) := by
  unfold f_X7_byTurns_L11
  refine oK_if ?_ ?_
  · refine oK_I ?_
    refine oK_Bn (fun r1 => ?_)
    exact oK_s (by first | assumption | exact True.intro | exact SL_u (by assumption) (by decide))
  · exact k_X7_byTurns_b25 (by first | assumption | exact True.intro | exact SL_u (by assumption) (by decide))
theorem k_X7_byTurns_b11 {μ0 : Nat → Nat → Int32} {σ : (Nat → Nat → Int32)} {l1 : Int32} {l2 : Int32} {l3 : Int32} {l4 : Int32} {l5 : Int32} {l6 : Int64} {l8 : Int64} {l10 : Int32} (h : SL μ0 σ) : oK (f_X7_byTurns_b11 σ l1 l2 l3 l4 l5 l6 l8 l10) (fun o => SL μ0 o.2) := by
  unfold f_X7_byTurns_b11
  exact oK_lp (fun o => SL μ0 o.2.2) (by first | assumption | exact True.intro | exact SL_u (by assumption) (by decide)) (fun v hv => k_X7_byTurns_L11 (by first | assumption | exact True.intro | exact SL_u (by assumption) (by decide)))
theorem k_X7_byTurns {μ0 : Nat → Nat → Int32} {σ : (Nat → Nat → Int32)} {l1 : Int32} {l2 : Int32} {l3 : Int32} {l4 : Int32} {l5 : Int32} (h : SL μ0 σ) : oK (f_X7_byTurns σ l1 l2 l3 l4 l5) (fun o => SL μ0 o.2) := by
  unfold f_X7_byTurns
  exact k_X7_byTurns_b11 (by first | assumption | exact True.intro | exact SL_u (by assumption) (by decide))
theorem k_X7_luck {μ0 : Nat → Nat → Int32} {σ : (Nat → Nat → Int32)} {l1 : Int32} {l2 : Int32} {l3 : Int32} {l4 : Int32} {l5 : Int32} (h : SL μ0 σ) : oK (f_X7_luck σ l1 l2 l3 l4 l5) (fun o => SL μ0 o.2) := by
  unfold f_X7_luck
  refine oK_Bn (fun r1 => ?_)
  refine oK_if ?_ ?_
  · exact oK_s (by first | assumption | exact True.intro | exact SL_u (by assumption) (by decide))
  · refine oK_Bn (fun r2 => ?_)
    refine oK_if ?_ ?_
    · exact oK_s (by first | assumption | exact True.intro | exact SL_u (by assumption) (by decide))
    · refine oK_Bn (fun r3 => ?_)
      refine oK_if ?_ ?_
      · exact oK_s (by first | assumption | exact True.intro | exact SL_u (by assumption) (by decide))
      · refine oK_Bn (fun r4 => ?_)
        refine oK_if ?_ ?_
        · exact oK_s (by first | assumption | exact True.intro | exact SL_u (by assumption) (by decide))
        · refine oK_Bn (fun r5 => ?_)
          refine oK_if ?_ ?_
          · exact oK_s (by first | assumption | exact True.intro | exact SL_u (by assumption) (by decide))
          · refine oK_B (k_X7_byTurns (by first | assumption | exact True.intro | exact SL_u (by assumption) (by decide))) (fun r6 hr6 => ?_)
            exact oK_s (by first | assumption | exact True.intro | exact SL_u (by assumption) (by decide))
theorem k_X7_mean {μ0 : Nat → Nat → Int32} {σ : (Nat → Nat → Int32)} {l1 : Int32} {l2 : Int32} {l3 : Int32} {l4 : Int32} (h : SL μ0 σ) : oK (f_X7_mean σ l1 l2 l3 l4) (fun o => SL μ0 o.2) := by
  unfold f_X7_mean
  refine oK_Bn (fun r1 => ?_)
  refine oK_if ?_ ?_
  · exact oK_s (by first | assumption | exact True.intro | exact SL_u (by assumption) (by decide))
  · refine oK_Bn (fun r2 => ?_)
    refine oK_if ?_ ?_
    · exact oK_s (by first | assumption | exact True.intro | exact SL_u (by assumption) (by decide))
    · refine oK_Bn (fun r3 => ?_)
      refine oK_if ?_ ?_
      · exact oK_s (by first | assumption | exact True.intro | exact SL_u (by assumption) (by decide))
      · refine oK_Bn (fun r4 => ?_)
        refine oK_if ?_ ?_
        · exact oK_s (by first | assumption | exact True.intro | exact SL_u (by assumption) (by decide))
        · refine oK_B (k_X7_byTurns (by first | assumption | exact True.intro | exact SL_u (by assumption) (by decide))) (fun r5 hr5 => ?_)
          exact oK_s (by first | assumption | exact True.intro | exact SL_u (by assumption) (by decide))
theorem k_X7_see_b97 {μ0 : Nat → Nat → Int32} {σ : (Nat → Nat → Int32)} {k3 : Int32} {k2 : Int32} (h : SL μ0 σ) : oK (f_X7_see_b97 σ k3 k2) (fun o => SL μ0 o.2) := by
  unfold f_X7_see_b97
  refine oK_C ?_
  refine oK_Lk (Q := SL μ0) (by first | assumption | exact True.intro | exact SL_u (by assumption) (by decide)) (fun s1 hs1 => ?_)
  refine oK_Lk (Q := SL μ0) (by first | assumption | exact True.intro | exact SL_u (by assumption) (by decide)) (fun s2 hs2 => ?_)
  exact oK_s (by first | assumption | exact True.intro | exact SL_u (by assumption) (by decide))
theorem k_X7_see_b35 {μ0 : Nat → Nat → Int32} {σ : (Nat → Nat → Int32)} {l1 : Int32} {l2 : Int32} {l3 : Int32} (h : SL μ0 σ) : oK (f_X7_see_b35 σ l1 l2 l3) (fun o => SL μ0 o.2) := by
  unfold f_X7_see_b35
  refine oK_if ?_ ?_
  · exact oK_s (by first | assumption | exact True.intro | exact SL_u (by assumption) (by decide))
  · refine oK_C ?_
    refine oK_Lk (Q := SL μ0) (by first | assumption | exact True.intro | exact SL_u (by assumption) (by decide)) (fun s1 hs1 => ?_)
    refine oK_C ?_
    refine oK_Lk (Q := SL μ0) (by first | assumption | exact True.intro | exact SL_u (by assumption) (by decide)) (fun s2 hs2 => ?_)
    refine oK_if ?_ ?_
    · exact k_X7_see_b97 (by first | assumption | exact True.intro | exact SL_u (by assumption) (by decide))
    · exact k_X7_see_b97 (by first | assumption | exact True.intro | exact SL_u (by assumption) (by decide))
theorem k_X7_see {μ0 : Nat → Nat → Int32} {σ : (Nat → Nat → Int32)} {l1 : Int32} {l2 : Int32} {l3 : Int32} (h : SL μ0 σ) : oK (f_X7_see σ l1 l2 l3) (fun o => SL μ0 o.2) := by
  unfold f_X7_see
  refine oK_Bn (fun r1 => ?_)
  refine oK_if ?_ ?_
  · exact oK_s (by first | assumption | exact True.intro | exact SL_u (by assumption) (by decide))
  · refine oK_Bn (fun r2 => ?_)
    refine oK_if ?_ ?_
    · exact oK_s (by first | assumption | exact True.intro | exact SL_u (by assumption) (by decide))
    · refine oK_Bn (fun r3 => ?_)
      refine oK_if ?_ ?_
      · refine oK_if ?_ ?_
        · exact k_X7_see_b35 (by first | assumption | exact True.intro | exact SL_u (by assumption) (by decide))
        · exact oK_s (by first | assumption | exact True.intro | exact SL_u (by assumption) (by decide))
      · exact k_X7_see_b35 (by first | assumption | exact True.intro | exact SL_u (by assumption) (by decide))
theorem k_X7_forget {μ0 : Nat → Nat → Int32} {σ : (Nat → Nat → Int32)} {l1 : Int32} (h : SL μ0 σ) : oK (f_X7_forget σ l1) (fun o => SL μ0 o.2) := by
  unfold f_X7_forget
  refine oK_Bn (fun r1 => ?_)
  refine oK_if ?_ ?_
  · exact oK_s (by first | assumption | exact True.intro | exact SL_u (by assumption) (by decide))
  · refine oK_Lk (Q := SL μ0) (by first | assumption | exact True.intro | exact SL_u (by assumption) (by decide)) (fun s2 hs2 => ?_)
    exact oK_s (by first | assumption | exact True.intro | exact SL_u (by assumption) (by decide))
theorem k_X7_isAsSeen_b86 {μ0 : Nat → Nat → Int32} {σ : (Nat → Nat → Int32)} {l1 : Int32} {l3 : Int32} {k1 : Int32} (h : SL μ0 σ) : oK (f_X7_isAsSeen_b86 σ l1 l3 k1) (oKS (fun o => SL μ0 o.2.2) (fun o => SL μ0 o.2)) := by
  unfold f_X7_isAsSeen_b86
  exact oK_s (by first | assumption | exact True.intro | exact SL_u (by assumption) (by decide))
theorem k_X7_isAsSeen_b85 {μ0 : Nat → Nat → Int32} {σ : (Nat → Nat → Int32)} {l1 : Int32} {l3 : Int32} (h : SL μ0 σ) : oK (f_X7_isAsSeen_b85 σ l1 l3) (oKS (fun o => SL μ0 o.2.2) (fun o => SL μ0 o.2)) := by
  unfold f_X7_isAsSeen_b85
  exact k_X7_isAsSeen_b86 (by first | assumption | exact True.intro | exact SL_u (by assumption) (by decide))
theorem k_X7_isAsSeen_b55 {μ0 : Nat → Nat → Int32} {σ : (Nat → Nat → Int32)} {l1 : Int32} {l2 : Int32} {l3 : Int32} {l4 : Int32} (h : SL μ0 σ) : oK (f_X7_isAsSeen_b55 σ l1 l2 l3 l4) (oKS (fun o => SL μ0 o.2.2) (fun o => SL μ0 o.2)) := by
  unfold f_X7_isAsSeen_b55
  refine oK_if ?_ ?_
  · exact k_X7_isAsSeen_b85 (by first | assumption | exact True.intro | exact SL_u (by assumption) (by decide))
  · refine oK_if ?_ ?_
    · exact k_X7_isAsSeen_b85 (by first | assumption | exact True.intro | exact SL_u (by assumption) (by decide))
    · refine oK_C ?_
      refine oK_if ?_ ?_
      · exact k_X7_isAsSeen_b86 (by first | assumption | exact True.intro | exact SL_u (by assumption) (by decide))
      · exact k_X7_isAsSeen_b85 (by first | assumption | exact True.intro | exact SL_u (by assumption) (by decide))
theorem k_X7_isAsSeen_L4 {μ0 : Nat → Nat → Int32} {σ : (Nat → Nat → Int32)} {l1 : Int32} {l2 : Int32} {l3 : Int32} (h : SL μ0 σ) : oK (f_X7_isAsSeen_L4 σ l1 l2 l3) (oKS (fun o => SL μ0 o.2.2) (fun o => SL μ0 o.2)) := by
  unfold f_X7_isAsSeen_L4
  refine oK_if ?_ ?_
  · refine oK_I ?_
    refine oK_C ?_
    exact oK_s (by first | assumption | exact True.intro | exact SL_u (by assumption) (by decide))
  · refine oK_C ?_
    refine oK_Bn (fun r1 => ?_)
    refine oK_if ?_ ?_
    · exact k_X7_isAsSeen_b55 (by first | assumption | exact True.intro | exact SL_u (by assumption) (by decide))
    · refine oK_C ?_
      refine oK_C ?_
      refine oK_B (k_X7_runsOn (by first | assumption | exact True.intro | exact SL_u (by assumption) (by decide))) (fun r2 hr2 => ?_)
      exact k_X7_isAsSeen_b55 (by first | assumption | exact True.intro | exact SL_u (by assumption) (by decide))
theorem k_X7_isAsSeen_b4 {μ0 : Nat → Nat → Int32} {σ : (Nat → Nat → Int32)} {l1 : Int32} {l2 : Int32} {l3 : Int32} (h : SL μ0 σ) : oK (f_X7_isAsSeen_b4 σ l1 l2 l3) (fun o => SL μ0 o.2) := by
  unfold f_X7_isAsSeen_b4
  exact oK_lp (fun o => SL μ0 o.2.2) (by first | assumption | exact True.intro | exact SL_u (by assumption) (by decide)) (fun v hv => k_X7_isAsSeen_L4 (by first | assumption | exact True.intro | exact SL_u (by assumption) (by decide)))
theorem k_X7_isAsSeen {μ0 : Nat → Nat → Int32} {σ : (Nat → Nat → Int32)} {l1 : Int32} (h : SL μ0 σ) : oK (f_X7_isAsSeen σ l1) (fun o => SL μ0 o.2) := by
  unfold f_X7_isAsSeen
  exact k_X7_isAsSeen_b4 (by first | assumption | exact True.intro | exact SL_u (by assumption) (by decide))
theorem k_X7_kinds_b56 {μ0 : Nat → Nat → Int32} {σ : (Nat → Nat → Int32)} {l1 : Int32} {l3 : Int32} {k2 : Int32} {k1 : Int32} (h : SL μ0 σ) : oK (f_X7_kinds_b56 σ l1 l3 k2 k1) (oKS (fun o => SL μ0 o.2.2) (fun o => SL μ0 o.2)) := by
  unfold f_X7_kinds_b56
  exact oK_s (by first | assumption | exact True.intro | exact SL_u (by assumption) (by decide))
theorem k_X7_kinds_L22 {μ0 : Nat → Nat → Int32} {σ : (Nat → Nat → Int32)} {l1 : Int32} {l2 : Int32} {l3 : Int32} (h : SL μ0 σ) : oK (f_X7_kinds_L22 σ l1 l2 l3) (oKS (fun o => SL μ0 o.2.2) (fun o => SL μ0 o.2)) := by
  unfold f_X7_kinds_L22
  refine oK_if ?_ ?_
  · refine oK_I ?_
    exact oK_s (by first | assumption | exact True.intro | exact SL_u (by assumption) (by decide))
  · refine oK_C ?_
    refine oK_Lk (Q := SL μ0) (by first | assumption | exact True.intro | exact SL_u (by assumption) (by decide)) (fun s1 hs1 => ?_)
    refine oK_B (k_X7_isAsSeen (by first | assumption | exact True.intro | exact SL_u (by assumption) (by decide))) (fun r2 hr2 => ?_)
    refine oK_if ?_ ?_
    · exact k_X7_kinds_b56 (by first | assumption | exact True.intro | exact SL_u (by assumption) (by decide))
    · exact k_X7_kinds_b56 (by first | assumption | exact True.intro | exact SL_u (by assumption) (by decide))
theorem k_X7_kinds_b22 {μ0 : Nat → Nat → Int32} {σ : (Nat → Nat → Int32)} {l1 : Int32} {l2 : Int32} {l3 : Int32} (h : SL μ0 σ) : oK (f_X7_kinds_b22 σ l1 l2 l3) (fun o => SL μ0 o.2) := by
  unfold f_X7_kinds_b22
  exact oK_lp (fun o => SL μ0 o.2.2) (by first | assumption | exact True.intro | exact SL_u (by assumption) (by decide)) (fun v hv => k_X7_kinds_L22 (by first | assumption | exact True.intro | exact SL_u (by assumption) (by decide)))
theorem k_X7_kinds {μ0 : Nat → Nat → Int32} {σ : (Nat → Nat → Int32)} {l1 : Int32} (h : SL μ0 σ) : oK (f_X7_kinds σ l1) (fun o => SL μ0 o.2) := by
  unfold f_X7_kinds
  refine oK_Bn (fun r1 => ?_)
  refine oK_if ?_ ?_
  · exact oK_s (by first | assumption | exact True.intro | exact SL_u (by assumption) (by decide))
  · refine oK_B (k_X7_copies (by first | assumption | exact True.intro | exact SL_u (by assumption) (by decide))) (fun r2 hr2 => ?_)
    exact k_X7_kinds_b22 (by first | assumption | exact True.intro | exact SL_u (by assumption) (by decide))
theorem k_X7_speedsOf_L52 {μ0 : Nat → Nat → Int32} {σ : (Nat → Nat → Int32)} {l1 : Int32} {l2 : Int32} {l3 : Int32} {l4 : Int32} (h : SL μ0 σ) : oK (f_X7_speedsOf_L52 σ l1 l2 l3 l4) (oKS (fun o => SL μ0 o.2) (oKS (fun o => SL μ0 o.2.2) (fun o => SL μ0 o.2))) := by
  unfold f_X7_speedsOf_L52
  refine oK_if ?_ ?_
  · refine oK_I ?_
    exact oK_s (by first | assumption | exact True.intro | exact SL_u (by assumption) (by decide))
  · refine oK_B (k_X7_runsOn (by first | assumption | exact True.intro | exact SL_u (by assumption) (by decide))) (fun r1 hr1 => ?_)
    refine oK_C ?_
    refine oK_Lk (Q := SL μ0) (by first | assumption | exact True.intro | exact SL_u (by assumption) (by decide)) (fun s2 hs2 => ?_)
    exact oK_s (by first | assumption | exact True.intro | exact SL_u (by assumption) (by decide))
theorem k_X7_speedsOf_b52 {μ0 : Nat → Nat → Int32} {σ : (Nat → Nat → Int32)} {l1 : Int32} {l2 : Int32} {l3 : Int32} {l4 : Int32} (h : SL μ0 σ) : oK (f_X7_speedsOf_b52 σ l1 l2 l3 l4) (oKS (fun o => SL μ0 o.2.2) (fun o => SL μ0 o.2)) := by
  unfold f_X7_speedsOf_b52
  exact oK_lp (fun o => SL μ0 o.2) (by first | assumption | exact True.intro | exact SL_u (by assumption) (by decide)) (fun v hv => k_X7_speedsOf_L52 (by first | assumption | exact True.intro | exact SL_u (by assumption) (by decide)))
theorem k_X7_speedsOf_b47 {μ0 : Nat → Nat → Int32} {σ : (Nat → Nat → Int32)} {l1 : Int32} {l3 : Int32} {k2 : Int32} {k1 : Int32} (h : SL μ0 σ) : oK (f_X7_speedsOf_b47 σ l1 l3 k2 k1) (oKS (fun o => SL μ0 o.2.2) (fun o => SL μ0 o.2)) := by
  unfold f_X7_speedsOf_b47
  exact k_X7_speedsOf_b52 (by first | assumption | exact True.intro | exact SL_u (by assumption) (by decide))
theorem k_X7_speedsOf_L12 {μ0 : Nat → Nat → Int32} {σ : (Nat → Nat → Int32)} {l1 : Int32} {l2 : Int32} {l3 : Int32} (h : SL μ0 σ) : oK (f_X7_speedsOf_L12 σ l1 l2 l3) (oKS (fun o => SL μ0 o.2.2) (fun o => SL μ0 o.2)) := by
  unfold f_X7_speedsOf_L12
  refine oK_if ?_ ?_
  · refine oK_I ?_
    exact oK_s (by first | assumption | exact True.intro | exact SL_u (by assumption) (by decide))
  · refine oK_C ?_
    refine oK_Lk (Q := SL μ0) (by first | assumption | exact True.intro | exact SL_u (by assumption) (by decide)) (fun s1 hs1 => ?_)
    refine oK_B (k_X7_isAsSeen (by first | assumption | exact True.intro | exact SL_u (by assumption) (by decide))) (fun r2 hr2 => ?_)
    refine oK_if ?_ ?_
    · exact k_X7_speedsOf_b47 (by first | assumption | exact True.intro | exact SL_u (by assumption) (by decide))
    · exact k_X7_speedsOf_b47 (by first | assumption | exact True.intro | exact SL_u (by assumption) (by decide))
theorem k_X7_speedsOf_b12 {μ0 : Nat → Nat → Int32} {σ : (Nat → Nat → Int32)} {l1 : Int32} {l2 : Int32} {l3 : Int32} (h : SL μ0 σ) : oK (f_X7_speedsOf_b12 σ l1 l2 l3) (fun o => SL μ0 o.2) := by
  unfold f_X7_speedsOf_b12
  exact oK_lp (fun o => SL μ0 o.2.2) (by first | assumption | exact True.intro | exact SL_u (by assumption) (by decide)) (fun v hv => k_X7_speedsOf_L12 (by first | assumption | exact True.intro | exact SL_u (by assumption) (by decide)))
theorem k_X7_speedsOf {μ0 : Nat → Nat → Int32} {σ : (Nat → Nat → Int32)} {l1 : Int32} (h : SL μ0 σ) : oK (f_X7_speedsOf σ l1) (fun o => SL μ0 o.2) := by
  unfold f_X7_speedsOf
  refine oK_B (k_X7_copies (by first | assumption | exact True.intro | exact SL_u (by assumption) (by decide))) (fun r1 hr1 => ?_)
  exact k_X7_speedsOf_b12 (by first | assumption | exact True.intro | exact SL_u (by assumption) (by decide))
theorem k_X7_speeds {μ0 : Nat → Nat → Int32} {σ : (Nat → Nat → Int32)} {l1 : Int32} (h : SL μ0 σ) : oK (f_X7_speeds σ l1) (fun o => SL μ0 o.2) := by
  unfold f_X7_speeds
  refine oK_Bn (fun r1 => ?_)
  refine oK_if ?_ ?_
  · exact oK_s (by first | assumption | exact True.intro | exact SL_u (by assumption) (by decide))
  · refine oK_B (k_X7_speedsOf (by first | assumption | exact True.intro | exact SL_u (by assumption) (by decide))) (fun r2 hr2 => ?_)
    exact oK_s (by first | assumption | exact True.intro | exact SL_u (by assumption) (by decide))
theorem k_X7_ask_b189 {μ0 : Nat → Nat → Int32} {σ : (Nat → Nat → Int32)} {l2 : Int32} {l3 : Int32} {l5 : Int32} {l6 : Int32} {k1 : Int32} (h : SL μ0 σ) : oK (f_X7_ask_b189 σ l2 l3 l5 l6 k1) (oKS (fun _ => True) (fun o => SL μ0 o.2)) := by
  unfold f_X7_ask_b189
  exact oK_s (by first | assumption | exact True.intro | exact SL_u (by assumption) (by decide))
theorem k_X7_ask_b173 {μ0 : Nat → Nat → Int32} {σ : (Nat → Nat → Int32)} {l2 : Int32} {l3 : Int32} {l4 : Int32} {l6 : Int32} {l7 : Int32} {k1 : Int32} (h : SL μ0 σ) : oK (f_X7_ask_b173 σ l2 l3 l4 l6 l7 k1) (oKS (fun _ => True) (fun o => SL μ0 o.2)) := by
  unfold f_X7_ask_b173
  refine oK_if ?_ ?_
  · exact k_X7_ask_b189 (by first | assumption | exact True.intro | exact SL_u (by assumption) (by decide))
  · exact k_X7_ask_b189 (by first | assumption | exact True.intro | exact SL_u (by assumption) (by decide))
theorem k_X7_ask_b151 {μ0 : Nat → Nat → Int32} {σ : (Nat → Nat → Int32)} {l2 : Int32} {l3 : Int32} {l4 : Int32} {l5 : Int32} {l6 : Int32} {l8 : Int32} {k1 : Int32} (h : SL μ0 σ) : oK (f_X7_ask_b151 σ l2 l3 l4 l5 l6 l8 k1) (oKS (fun _ => True) (oKS (fun _ => True) (fun o => SL μ0 o.2))) := by
  unfold f_X7_ask_b151
  exact oK_s (by first | assumption | exact True.intro | exact SL_u (by assumption) (by decide))
theorem k_X7_ask_b137 {μ0 : Nat → Nat → Int32} {σ : (Nat → Nat → Int32)} {l2 : Int32} {l3 : Int32} {l4 : Int32} {l5 : Int32} {l6 : Int32} {l7 : Int32} {l8 : Int32} {l9 : Int32} (h : SL μ0 σ) : oK (f_X7_ask_b137 σ l2 l3 l4 l5 l6 l7 l8 l9) (oKS (fun _ => True) (oKS (fun _ => True) (fun o => SL μ0 o.2))) := by
  unfold f_X7_ask_b137
  refine oK_if ?_ ?_
  · exact k_X7_ask_b151 (by first | assumption | exact True.intro | exact SL_u (by assumption) (by decide))
  · exact k_X7_ask_b151 (by first | assumption | exact True.intro | exact SL_u (by assumption) (by decide))
theorem k_X7_ask_b128 {μ0 : Nat → Nat → Int32} {σ : (Nat → Nat → Int32)} {l2 : Int32} {l3 : Int32} {l4 : Int32} {l5 : Int32} {l6 : Int32} {l7 : Int32} {l8 : Int32} {l10 : Int32} {k2 : Int32} {k1 : Int32} (h : SL μ0 σ) : oK (f_X7_ask_b128 σ l2 l3 l4 l5 l6 l7 l8 l10 k2 k1) (oKS (fun _ => True) (oKS (fun _ => True) (oKS (fun _ => True) (fun o => SL μ0 o.2)))) := by
  unfold f_X7_ask_b128
  exact oK_s (by first | assumption | exact True.intro | exact SL_u (by assumption) (by decide))
theorem k_X7_ask_b127 {μ0 : Nat → Nat → Int32} {σ : (Nat → Nat → Int32)} {l2 : Int32} {l3 : Int32} {l4 : Int32} {l5 : Int32} {l6 : Int32} {l7 : Int32} {l8 : Int32} {l10 : Int32} {k1 : Int32} (h : SL μ0 σ) : oK (f_X7_ask_b127 σ l2 l3 l4 l5 l6 l7 l8 l10 k1) (oKS (fun _ => True) (oKS (fun _ => True) (oKS (fun _ => True) (fun o => SL μ0 o.2)))) := by
  unfold f_X7_ask_b127
  exact k_X7_ask_b128 (by first | assumption | exact True.intro | exact SL_u (by assumption) (by decide))
theorem k_X7_ask_L65 {μ0 : Nat → Nat → Int32} {σ : (Nat → Nat → Int32)} {l2 : Int32} {l3 : Int32} {l4 : Int32} {l5 : Int32} {l6 : Int32} {l7 : Int32} {l8 : Int32} {l9 : Int32} {l10 : Int32} (h : SL μ0 σ) : oK (f_X7_ask_L65 σ l2 l3 l4 l5 l6 l7 l8 l9 l10) (oKS (fun _ => True) (oKS (fun _ => True) (oKS (fun _ => True) (fun o => SL μ0 o.2)))) := by
  unfold f_X7_ask_L65
  refine oK_if ?_ ?_
  · refine oK_I ?_
    exact k_X7_ask_b137 (by first | assumption | exact True.intro | exact SL_u (by assumption) (by decide))
  · refine oK_if ?_ ?_
    · refine oK_if ?_ ?_
      · refine oK_C ?_
        refine oK_C ?_
        refine oK_if ?_ ?_
        · exact k_X7_ask_b128 (by first | assumption | exact True.intro | exact SL_u (by assumption) (by decide))
        · exact k_X7_ask_b127 (by first | assumption | exact True.intro | exact SL_u (by assumption) (by decide))
      · exact k_X7_ask_b127 (by first | assumption | exact True.intro | exact SL_u (by assumption) (by decide))
    · refine oK_I ?_
      exact k_X7_ask_b137 (by first | assumption | exact True.intro | exact SL_u (by assumption) (by decide))
theorem k_X7_ask_b65 {μ0 : Nat → Nat → Int32} {σ : (Nat → Nat → Int32)} {l2 : Int32} {l3 : Int32} {l4 : Int32} {l5 : Int32} {l6 : Int32} {l7 : Int32} {l8 : Int32} {l9 : Int32} {l10 : Int32} (h : SL μ0 σ) : oK (f_X7_ask_b65 σ l2 l3 l4 l5 l6 l7 l8 l9 l10) (oKS (fun _ => True) (oKS (fun _ => True) (fun o => SL μ0 o.2))) := by
  unfold f_X7_ask_b65
  exact oK_lp (fun _ => True) (by first | assumption | exact True.intro | exact SL_u (by assumption) (by decide)) (fun v hv => k_X7_ask_L65 (by first | assumption | exact True.intro | exact SL_u (by assumption) (by decide)))
theorem k_X7_ask_L52 {μ0 : Nat → Nat → Int32} {σ : (Nat → Nat → Int32)} {l2 : Int32} {l3 : Int32} {l4 : Int32} {l5 : Int32} {l6 : Int32} {l7 : Int32} {l8 : Int32} (h : SL μ0 σ) : oK (f_X7_ask_L52 σ l2 l3 l4 l5 l6 l7 l8) (oKS (fun _ => True) (oKS (fun _ => True) (fun o => SL μ0 o.2))) := by
  unfold f_X7_ask_L52
  refine oK_if ?_ ?_
  · refine oK_I ?_
    refine oK_if ?_ ?_
    · exact k_X7_ask_b173 (by first | assumption | exact True.intro | exact SL_u (by assumption) (by decide))
    · exact k_X7_ask_b173 (by first | assumption | exact True.intro | exact SL_u (by assumption) (by decide))
  · exact k_X7_ask_b65 (by first | assumption | exact True.intro | exact SL_u (by assumption) (by decide))
theorem k_X7_ask_b52 {μ0 : Nat → Nat → Int32} {σ : (Nat → Nat → Int32)} {l2 : Int32} {l3 : Int32} {l4 : Int32} {l5 : Int32} {l6 : Int32} {l7 : Int32} {l8 : Int32} (h : SL μ0 σ) : oK (f_X7_ask_b52 σ l2 l3 l4 l5 l6 l7 l8) (oKS (fun _ => True) (fun o => SL μ0 o.2)) := by
  unfold f_X7_ask_b52
  exact oK_lp (fun _ => True) (by first | assumption | exact True.intro | exact SL_u (by assumption) (by decide)) (fun v hv => k_X7_ask_L52 (by first | assumption | exact True.intro | exact SL_u (by assumption) (by decide)))
theorem k_X7_ask_L39 {μ0 : Nat → Nat → Int32} {σ : (Nat → Nat → Int32)} {l2 : Int32} {l3 : Int32} {l4 : Int32} {l5 : Int32} {l6 : Int32} (h : SL μ0 σ) : oK (f_X7_ask_L39 σ l2 l3 l4 l5 l6) (oKS (fun _ => True) (fun o => SL μ0 o.2)) := by
  unfold f_X7_ask_L39
  refine oK_if ?_ ?_
  · refine oK_I ?_
    refine oK_if ?_ ?_
    · exact oK_s (by first | assumption | exact True.intro | exact SL_u (by assumption) (by decide))
    · refine oK_if ?_ ?_
      · exact oK_s (by first | assumption | exact True.intro | exact SL_u (by assumption) (by decide))
      · exact oK_s (by first | assumption | exact True.intro | exact SL_u (by assumption) (by decide))
  · exact k_X7_ask_b52 (by first | assumption | exact True.intro | exact SL_u (by assumption) (by decide))
theorem k_X7_ask_b39 {μ0 : Nat → Nat → Int32} {σ : (Nat → Nat → Int32)} {l2 : Int32} {l3 : Int32} {l4 : Int32} {l5 : Int32} {l6 : Int32} (h : SL μ0 σ) : oK (f_X7_ask_b39 σ l2 l3 l4 l5 l6) (fun o => SL μ0 o.2) := by
  unfold f_X7_ask_b39
  exact oK_lp (fun _ => True) (by first | assumption | exact True.intro | exact SL_u (by assumption) (by decide)) (fun v hv => k_X7_ask_L39 (by first | assumption | exact True.intro | exact SL_u (by assumption) (by decide)))
theorem k_X7_ask {μ0 : Nat → Nat → Int32} {σ : (Nat → Nat → Int32)} {l1 : Int32} {l2 : Int32} (h : SL μ0 σ) : oK (f_X7_ask σ l1 l2) (fun o => SL μ0 o.2) := by
  unfold f_X7_ask
  refine oK_Bn (fun r1 => ?_)
  refine oK_if ?_ ?_
  · exact oK_s (by first | assumption | exact True.intro | exact SL_u (by assumption) (by decide))
  · refine oK_Bn (fun r2 => ?_)
    refine oK_if ?_ ?_
    · exact oK_s (by first | assumption | exact True.intro | exact SL_u (by assumption) (by decide))
    · refine oK_B (k_X7_speedsOf (by first | assumption | exact True.intro | exact SL_u (by assumption) (by decide))) (fun r3 hr3 => ?_)
      refine oK_Bn (fun r4 => ?_)
      exact k_X7_ask_b39 (by first | assumption | exact True.intro | exact SL_u (by assumption) (by decide))
theorem k_X7_drift_b208 {μ0 : Nat → Nat → Int32} {σ : (Nat → Nat → Int32)} {l2 : Int32} {l3 : Int32} {l4 : Int32} {l5 : Int32} {l6 : Int32} {l7 : Int32} (h : SL μ0 σ) : oK (f_X7_drift_b208 σ l2 l3 l4 l5 l6 l7) (oKS (fun o => SL μ0 o.2.2.2.2) (fun o => SL μ0 o.2)) := by
  unfold f_X7_drift_b208
  exact oK_s (by first | assumption | exact True.intro | exact SL_u (by assumption) (by decide))
theorem k_X7_drift_b207 {μ0 : Nat → Nat → Int32} {σ : (Nat → Nat → Int32)} {l2 : Int32} {l3 : Int32} {l4 : Int32} {l5 : Int32} {l6 : Int32} {l7 : Int32} {k3 : Int32} {k2 : Int32} (h : SL μ0 σ) : oK (f_X7_drift_b207 σ l2 l3 l4 l5 l6 l7 k3 k2) (oKS (fun o => SL μ0 o.2.2.2.2) (fun o => SL μ0 o.2)) := by
  unfold f_X7_drift_b207
  refine oK_C ?_
  refine oK_Lk (Q := SL μ0) (by first | assumption | exact True.intro | exact SL_u (by assumption) (by decide)) (fun s1 hs1 => ?_)
  exact k_X7_drift_b208 (by first | assumption | exact True.intro | exact SL_u (by assumption) (by decide))
theorem k_X7_drift_b162 {μ0 : Nat → Nat → Int32} {σ : (Nat → Nat → Int32)} {l2 : Int32} {l3 : Int32} {l4 : Int32} {l5 : Int32} {l7 : Int32} {l9 : Int32} {k2 : Int32} {k1 : Int32} (h : SL μ0 σ) : oK (f_X7_drift_b162 σ l2 l3 l4 l5 l7 l9 k2 k1) (oKS (fun o => SL μ0 o.2.2.2.2) (fun o => SL μ0 o.2)) := by
  unfold f_X7_drift_b162
  refine oK_Bn (fun r1 => ?_)
  refine oK_if ?_ ?_
  · refine oK_C ?_
    exact k_X7_drift_b207 (by first | assumption | exact True.intro | exact SL_u (by assumption) (by decide))
  · exact k_X7_drift_b207 (by first | assumption | exact True.intro | exact SL_u (by assumption) (by decide))
theorem k_X7_drift_L54 {μ0 : Nat → Nat → Int32} {σ : (Nat → Nat → Int32)} {l2 : Int32} {l3 : Int32} {l4 : Int32} {l5 : Int32} {l6 : Int32} {l7 : Int32} (h : SL μ0 σ) : oK (f_X7_drift_L54 σ l2 l3 l4 l5 l6 l7) (oKS (fun o => SL μ0 o.2.2.2.2) (fun o => SL μ0 o.2)) := by
  unfold f_X7_drift_L54
  refine oK_if ?_ ?_
  · refine oK_I ?_
    refine oK_if ?_ ?_
    · exact oK_s (by first | assumption | exact True.intro | exact SL_u (by assumption) (by decide))
    · exact oK_s (by first | assumption | exact True.intro | exact SL_u (by assumption) (by decide))
  · refine oK_C ?_
    refine oK_B (k_X7_runsOn (by first | assumption | exact True.intro | exact SL_u (by assumption) (by decide))) (fun r1 hr1 => ?_)
    refine oK_if ?_ ?_
    · exact k_X7_drift_b208 (by first | assumption | exact True.intro | exact SL_u (by assumption) (by decide))
    · refine oK_C ?_
      refine oK_if ?_ ?_
      · exact k_X7_drift_b162 (by first | assumption | exact True.intro | exact SL_u (by assumption) (by decide))
      · exact k_X7_drift_b162 (by first | assumption | exact True.intro | exact SL_u (by assumption) (by decide))
theorem k_X7_drift_b54 {μ0 : Nat → Nat → Int32} {σ : (Nat → Nat → Int32)} {l2 : Int32} {l3 : Int32} {l4 : Int32} {l5 : Int32} {l6 : Int32} {l7 : Int32} (h : SL μ0 σ) : oK (f_X7_drift_b54 σ l2 l3 l4 l5 l6 l7) (fun o => SL μ0 o.2) := by
  unfold f_X7_drift_b54
  exact oK_lp (fun o => SL μ0 o.2.2.2.2) (by first | assumption | exact True.intro | exact SL_u (by assumption) (by decide)) (fun v hv => k_X7_drift_L54 (by first | assumption | exact True.intro | exact SL_u (by assumption) (by decide)))
theorem k_X7_drift {μ0 : Nat → Nat → Int32} {σ : (Nat → Nat → Int32)} {l1 : Int32} {l2 : Int32} {l3 : Int32} (h : SL μ0 σ) : oK (f_X7_drift σ l1 l2 l3) (fun o => SL μ0 o.2) := by
  unfold f_X7_drift
  refine oK_Bn (fun r1 => ?_)
  refine oK_if ?_ ?_
  · exact oK_s (by first | assumption | exact True.intro | exact SL_u (by assumption) (by decide))
  · refine oK_Bn (fun r2 => ?_)
    refine oK_if ?_ ?_
    · exact oK_s (by first | assumption | exact True.intro | exact SL_u (by assumption) (by decide))
    · refine oK_if ?_ ?_
      · exact oK_s (by first | assumption | exact True.intro | exact SL_u (by assumption) (by decide))
      · refine oK_B (k_X7_copies (by first | assumption | exact True.intro | exact SL_u (by assumption) (by decide))) (fun r3 hr3 => ?_)
        exact k_X7_drift_b54 (by first | assumption | exact True.intro | exact SL_u (by assumption) (by decide))
theorem k_X7_keep_b37 {μ0 : Nat → Nat → Int32} {σ : (Nat → Nat → Int32)} {l1 : Int32} {k1 : Int32} (h : SL μ0 σ) : oK (f_X7_keep_b37 σ l1 k1) (fun o => SL μ0 o.2) := by
  unfold f_X7_keep_b37
  refine oK_C ?_
  refine oK_Lk (Q := SL μ0) (by first | assumption | exact True.intro | exact SL_u (by assumption) (by decide)) (fun s1 hs1 => ?_)
  exact oK_s (by first | assumption | exact True.intro | exact SL_u (by assumption) (by decide))
theorem k_X7_keep {μ0 : Nat → Nat → Int32} {σ : (Nat → Nat → Int32)} {l1 : Int32} (h : SL μ0 σ) : oK (f_X7_keep σ l1) (fun o => SL μ0 o.2) := by
  unfold f_X7_keep
  refine oK_Bn (fun r1 => ?_)
  refine oK_if ?_ ?_
  · exact oK_s (by first | assumption | exact True.intro | exact SL_u (by assumption) (by decide))
  · refine oK_B (k_X7_copies (by first | assumption | exact True.intro | exact SL_u (by assumption) (by decide))) (fun r2 hr2 => ?_)
    refine oK_C ?_
    refine oK_if ?_ ?_
    · exact k_X7_keep_b37 (by first | assumption | exact True.intro | exact SL_u (by assumption) (by decide))
    · exact k_X7_keep_b37 (by first | assumption | exact True.intro | exact SL_u (by assumption) (by decide))
theorem k_X7_back {μ0 : Nat → Nat → Int32} {σ : (Nat → Nat → Int32)} {l1 : Int32} (h : SL μ0 σ) : oK (f_X7_back σ l1) (fun o => SL μ0 o.2) := by
  unfold f_X7_back
  refine oK_Bn (fun r1 => ?_)
  refine oK_if ?_ ?_
  · exact oK_s (by first | assumption | exact True.intro | exact SL_u (by assumption) (by decide))
  · refine oK_C ?_
    refine oK_if ?_ ?_
    · exact oK_s (by first | assumption | exact True.intro | exact SL_u (by assumption) (by decide))
    · refine oK_B (k_X7_copies (by first | assumption | exact True.intro | exact SL_u (by assumption) (by decide))) (fun r2 hr2 => ?_)
      refine oK_B (k_X7_winsOn (by first | assumption | exact True.intro | exact SL_u (by assumption) (by decide))) (fun r3 hr3 => ?_)
      refine oK_Bn (fun r4 => ?_)
      exact oK_s (by first | assumption | exact True.intro | exact SL_u (by assumption) (by decide))
theorem k_X7_read_b196 {μ0 : Nat → Nat → Int32} {σ : (Nat → Nat → Int32)} {l5 : Int32} {l6 : Int32} (h : SL μ0 σ) : oK (f_X7_read_b196 σ l5 l6) (fun o => SL μ0 o.2) := by
  unfold f_X7_read_b196
  refine oK_Lk (Q := SL μ0) (by first | assumption | exact True.intro | exact SL_u (by assumption) (by decide)) (fun s1 hs1 => ?_)
  exact oK_s (by first | assumption | exact True.intro | exact SL_u (by assumption) (by decide))
theorem k_X7_read_b190 {μ0 : Nat → Nat → Int32} {σ : (Nat → Nat → Int32)} {l1 : Int32} {l2 : Int32} {l3 : Int32} {l4 : Int32} {l5 : Int32} {l6 : Int32} {l7 : Int32} (h : SL μ0 σ) : oK (f_X7_read_b190 σ l1 l2 l3 l4 l5 l6 l7) (oKS (fun o => SL μ0 o.2.2.2) (fun o => SL μ0 o.2)) := by
  unfold f_X7_read_b190
  exact oK_s (by first | assumption | exact True.intro | exact SL_u (by assumption) (by decide))
theorem k_X7_read_b125 {μ0 : Nat → Nat → Int32} {σ : (Nat → Nat → Int32)} {l1 : Int32} {l2 : Int32} {l3 : Int32} {l4 : Int32} {l6 : Int32} {l7 : Int32} {k1 : Int32} (h : SL μ0 σ) : oK (f_X7_read_b125 σ l1 l2 l3 l4 l6 l7 k1) (oKS (fun o => SL μ0 o.2.2.2) (fun o => SL μ0 o.2)) := by
  unfold f_X7_read_b125
  refine oK_if ?_ ?_
  · refine oK_if ?_ ?_
    · refine oK_C ?_
      refine oK_C ?_
      refine oK_B (k_X7_drives (by first | assumption | exact True.intro | exact SL_u (by assumption) (by decide))) (fun r1 hr1 => ?_)
      refine oK_if ?_ ?_
      · exact k_X7_read_b190 (by first | assumption | exact True.intro | exact SL_u (by assumption) (by decide))
      · refine oK_I ?_
        refine oK_B (k_X7_copies (by first | assumption | exact True.intro | exact SL_u (by assumption) (by decide))) (fun r2 hr2 => ?_)
        exact oK_s (by first | assumption | exact True.intro | exact SL_u (by assumption) (by decide))
    · exact k_X7_read_b190 (by first | assumption | exact True.intro | exact SL_u (by assumption) (by decide))
  · exact k_X7_read_b190 (by first | assumption | exact True.intro | exact SL_u (by assumption) (by decide))
theorem k_X7_read_L55 {μ0 : Nat → Nat → Int32} {σ : (Nat → Nat → Int32)} {l1 : Int32} {l2 : Int32} {l3 : Int32} {l4 : Int32} {l5 : Int32} {l6 : Int32} {l7 : Int32} (h : SL μ0 σ) : oK (f_X7_read_L55 σ l1 l2 l3 l4 l5 l6 l7) (oKS (fun o => SL μ0 o.2.2.2) (fun o => SL μ0 o.2)) := by
  unfold f_X7_read_L55
  refine oK_if ?_ ?_
  · refine oK_I ?_
    exact k_X7_read_b196 (by first | assumption | exact True.intro | exact SL_u (by assumption) (by decide))
  · refine oK_if ?_ ?_
    · refine oK_C ?_
      refine oK_if ?_ ?_
      · exact k_X7_read_b125 (by first | assumption | exact True.intro | exact SL_u (by assumption) (by decide))
      · refine oK_C ?_
        refine oK_if ?_ ?_
        · refine oK_C ?_
          refine oK_Bn (fun r1 => ?_)
          refine oK_if ?_ ?_
          · exact k_X7_read_b125 (by first | assumption | exact True.intro | exact SL_u (by assumption) (by decide))
          · exact k_X7_read_b125 (by first | assumption | exact True.intro | exact SL_u (by assumption) (by decide))
        · exact k_X7_read_b125 (by first | assumption | exact True.intro | exact SL_u (by assumption) (by decide))
    · refine oK_I ?_
      exact k_X7_read_b196 (by first | assumption | exact True.intro | exact SL_u (by assumption) (by decide))
theorem k_X7_read_b55 {μ0 : Nat → Nat → Int32} {σ : (Nat → Nat → Int32)} {l1 : Int32} {l2 : Int32} {l3 : Int32} {l4 : Int32} {l5 : Int32} {l6 : Int32} {l7 : Int32} (h : SL μ0 σ) : oK (f_X7_read_b55 σ l1 l2 l3 l4 l5 l6 l7) (fun o => SL μ0 o.2) := by
  unfold f_X7_read_b55
  exact oK_lp (fun o => SL μ0 o.2.2.2) (by first | assumption | exact True.intro | exact SL_u (by assumption) (by decide)) (fun v hv => k_X7_read_L55 (by first | assumption | exact True.intro | exact SL_u (by assumption) (by decide)))
theorem k_X7_read {μ0 : Nat → Nat → Int32} {σ : (Nat → Nat → Int32)} {l1 : Int32} {l2 : Int32} {l3 : Int32} {l4 : Int32} (h : SL μ0 σ) : oK (f_X7_read σ l1 l2 l3 l4) (fun o => SL μ0 o.2) := by
  unfold f_X7_read
  refine oK_Bn (fun r1 => ?_)
  refine oK_if ?_ ?_
  · exact oK_s (by first | assumption | exact True.intro | exact SL_u (by assumption) (by decide))
  · refine oK_Bn (fun r2 => ?_)
    refine oK_if ?_ ?_
    · exact oK_s (by first | assumption | exact True.intro | exact SL_u (by assumption) (by decide))
    · refine oK_Bn (fun r3 => ?_)
      refine oK_if ?_ ?_
      · exact oK_s (by first | assumption | exact True.intro | exact SL_u (by assumption) (by decide))
      · refine oK_B (k_X7_copies (by first | assumption | exact True.intro | exact SL_u (by assumption) (by decide))) (fun r4 hr4 => ?_)
        exact k_X7_read_b55 (by first | assumption | exact True.intro | exact SL_u (by assumption) (by decide))
