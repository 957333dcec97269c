/-! ===== count(), on both sides ===== -/
set_option maxRecDepth 100000
theorem oLoop_run {S R : Type} {f : S → Option (S ⊕ R)} {X : Option R} (st : Nat → S) (N : Nat) (hN : N < 4000) (hs : ∀ i, i < N → f (st i) = some (.inl (st (i + 1)))) (he : f (st N) = oI X) : oLoop gFU f (st 0) = X := by
  have key : ∀ d i fu, i + d = N → d < fu → oLoop fu f (st i) = X := by
    intro d
    induction d with
    | zero =>
      intro i fu h1 h2
      obtain ⟨m, rfl⟩ : ∃ m, fu = m + 1 := ⟨fu - 1, by omega⟩
      have : i = N := by omega
      subst this
      exact oLoop_oI he m
    | succ d ih =>
      intro i fu h1 h2
      obtain ⟨m, rfl⟩ : ∃ m, fu = m + 1 := ⟨fu - 1, by omega⟩
      rw [oLoop_inl (hs i (by omega))]
      exact ih (i + 1) m (by omega) (by omega)
  exact key N 0 gFU (by omega) (by rw [gFU_eq]; omega)
def cnR (p : Nat → Nat) : Nat → Nat
  | 0 => 0
  | i + 1 => cnR p i + (if p (7 + i) = 0 then 1 else 0)
def smS (p : Nat → Nat) : Nat → Nat
  | 0 => 0
  | i + 1 => smS p i + p (22 + i)
section CTP
variable {σ μ : Nat → Nat → Int32} {p : Nat → Nat} {sh : gSh}
def ansX (σ : Nat → Nat → Int32) (l1 l3 l4 l5 : Int32) : Option Int32 := if l1 = 0 then (some (σ 0 6)) else (if l1 = 1 then (oB (f_J7_bitCount (σ 0 4)) fun r6 => some r6) else (if l1 = 2 then (some (σ 0 13)) else (if l1 = 3 then (some l3) else (if l1 = 4 then (some l4) else (if l1 = 5 then (some l5) else (some (-1)))))))
def ansM (σ : Nat → Nat → Int32) (l1 l2 l3 : Int32) : Option Int32 := if l1 = 0 then (some (σ 0 22)) else (if l1 = 1 then (oC (inb 0 2) <| if (σ 9 (Int32.toNatClampNeg 0)) = 0 then (f_X7_count_b135 σ 0) else (f_X7_count_b135 σ 1)) else (if l1 = 2 then (some (σ 0 6)) else (if l1 = 3 then (oC (inb 0 4) <| if (σ 10 (Int32.toNatClampNeg 0)) = (-4) then (some (-4)) else (oC (inb 0 4) <| some (σ 11 (Int32.toNatClampNeg 0)))) else (if l1 = 4 then (some l2) else (if l1 = 5 then (some l3) else (some (-1)))))))
theorem x_b111 (hx : PgX σ 0 p) (w : WF p) (what z his : Int32) : f_X0_count_b111 σ what z his 0 0 = ansX σ what z his (nI (smS p (p 41))) := by
  have h4 := w.nh
  unfold f_X0_count_b111
  refine oLoop_run (f := fun v : Int32 × Int32 => f_X0_count_L111 σ what z his v.1 v.2) (fun i => (nI (smS p i), nI i)) (p 41) (by omega) (fun i hi => ?_) ?_
  · show f_X0_count_L111 σ what z his (nI (smS p i)) (nI i) = _
    unfold f_X0_count_L111
    have e2 : (2 : Int32) * nI i + 1 = nI (2 * i + 1) := by rw [n_2, nI_mul, nI_1]
    rw [hx.hogs, if_neg (fun q => absurd ((nle (by omega) (by omega)).mp q) (by omega)), e2, inb_t (by omega) (by decide), oC_t, nI_clamp (by omega), hx.speed hi, nI_add, nI_1]
    rfl
  · show f_X0_count_L111 σ what z his (nI (smS p (p 41))) (nI (p 41)) = _
    unfold f_X0_count_L111 ansX
    rw [hx.hogs, if_pos ((nle (by omega) (by omega)).mpr (Nat.le_refl _))]
theorem x_count (hx : PgX σ 0 p) (w : WF p) (what z : Int32) : f_X0_count_b58 σ what z = ansX σ what z (nI (cnR p (p 38))) (nI (smS p (p 41))) := by
  have h7 := w.np
  unfold f_X0_count_b58 f_X0_count_b67
  rw [← x_b111 hx w]
  refine oLoop_run (f := fun v : Int32 × Int32 => f_X0_count_L67 σ what z v.1 0 v.2) (fun i => (nI (cnR p i), nI i)) (p 38) (by omega) (fun i hi => ?_) ?_
  · show f_X0_count_L67 σ what z (nI (cnR p i)) 0 (nI i) = _
    unfold f_X0_count_L67 f_X0_count_b99
    have hr := w.rag hi
    rw [hx.pegs, if_neg (fun q => absurd ((nle (by omega) (by omega)).mp q) (by omega)), inb_t (by omega) (by decide), oC_t, nI_clamp (by omega), hx.rag hi]
    by_cases g : p (7 + i) = 0
    · rw [g, if_pos (show nI 0 = (0 : Int32) from rfl), nI_1, nI_1]
      show _ = some (Sum.inl (nI (cnR p i + (if p (7 + i) = 0 then 1 else 0)), nI (i + 1)))
      rw [if_pos g]
    · rw [if_neg (show ¬ nI (p (7 + i)) = (0 : Int32) from fun q => g ((nI_eq (b := 0) (by omega) (by decide)).mp q)), nI_1]
      show _ = some (Sum.inl (nI (cnR p i + (if p (7 + i) = 0 then 1 else 0)), nI (i + 1)))
      rw [if_neg g, Nat.add_zero]
      show some (Sum.inl (nI (cnR p i) + nI 0, nI (i + 1))) = _
      rw [nI_add]
  · show f_X0_count_L67 σ what z (nI (cnR p (p 38))) 0 (nI (p 38)) = _
    unfold f_X0_count_L67
    rw [hx.pegs, if_pos ((nle (by omega) (by omega)).mpr (Nat.le_refl _))]
theorem m_b49 (hm : PgM μ 0 p) (hh : μ 0 1 = nI (p 41)) (w : WF p) (what his : Int32) : f_X7_count_b49 μ what his 0 0 = ansM μ what his (nI (smS p (p 41))) := by
  have h4 := w.nh
  unfold f_X7_count_b49
  refine oLoop_run (f := fun v : Int32 × Int32 => f_X7_count_L49 μ what his v.1 v.2) (fun i => (nI (smS p i), nI i)) (p 41) (by omega) (fun i hi => ?_) ?_
  · show f_X7_count_L49 μ what his (nI (smS p i)) (nI i) = _
    unfold f_X7_count_L49
    rw [hh, if_neg (fun q => absurd ((nle (by omega) (by omega)).mp q) (by omega)), n_22, nI_add, inb_t (by omega) (by decide), oC_t, nI_clamp (by omega), hm.speed0 hi, nI_add, nI_1]
    rfl
  · show f_X7_count_L49 μ what his (nI (smS p (p 41))) (nI (p 41)) = _
    unfold f_X7_count_L49 ansM
    rw [hh, if_pos ((nle (by omega) (by omega)).mpr (Nat.le_refl _))]
theorem m_count (hm : PgM μ 0 p) (hh : μ 0 1 = nI (p 41)) (w : WF p) (what : Int32) : f_X7_count μ what = ansM μ what (nI (cnR p (p 38))) (nI (smS p (p 41))) := by
  have h7 := w.np
  unfold f_X7_count f_X7_count_b7
  rw [← m_b49 hm hh w]
  refine oLoop_run (f := fun v : Int32 × Int32 => f_X7_count_L7 μ what v.1 0 v.2) (fun i => (nI (cnR p i), nI i)) (p 38) (by omega) (fun i hi => ?_) ?_
  · show f_X7_count_L7 μ what (nI (cnR p i)) 0 (nI i) = _
    unfold f_X7_count_L7 f_X7_count_b38
    have hr := w.rag hi
    rw [i38, oC_t, hm.c38, if_neg (fun q => absurd ((nle (by omega) (by omega)).mp q) (by omega)), n_7, nI_add, inb_t (by omega) (by decide), oC_t, nI_clamp (by omega), hm.rag0 hi]
    by_cases g : p (7 + i) = 0
    · rw [g, if_pos (show nI 0 = (0 : Int32) from rfl), nI_1, nI_1]
      show _ = some (Sum.inl (nI (cnR p i + (if p (7 + i) = 0 then 1 else 0)), nI (i + 1)))
      rw [if_pos g]
    · rw [if_neg (show ¬ nI (p (7 + i)) = (0 : Int32) from fun q => g ((nI_eq (b := 0) (by omega) (by decide)).mp q)), nI_1]
      show _ = some (Sum.inl (nI (cnR p i + (if p (7 + i) = 0 then 1 else 0)), nI (i + 1)))
      rw [if_neg g, Nat.add_zero]
      show some (Sum.inl (nI (cnR p i) + nI 0, nI (i + 1))) = _
      rw [nI_add]
  · show f_X7_count_L7 μ what (nI (cnR p (p 38))) 0 (nI (p 38)) = _
    unfold f_X7_count_L7
    rw [i38, oC_t, hm.c38, if_pos ((nle (by omega) (by omega)).mpr (Nat.le_refl _))]
theorem op_count (h : Rel p σ μ) (hS : ShR sh μ) (what : Int32) : ∃ v, f_X0_count_b58 σ what (szF (sh 0)) = some v ∧ f_X7_count μ what = some v := by
  rw [x_count h.px h.wf, m_count h.pm h.hg h.wf]
  unfold ansX ansM
  rw [show Int32.toNatClampNeg 0 = 0 from rfl]
  by_cases h0 : what = 0
  · rw [if_pos h0, if_pos h0]
    obtain ⟨n, _, g2, g3, _⟩ := h.see
    exact ⟨nI n, by rw [g2], by rw [g3]⟩
  rw [if_neg h0, if_neg h0]
  by_cases h1 : what = 1
  · rw [if_pos h1, if_pos h1]
    obtain ⟨a, b, g1, g2, g3, _⟩ := h.img
    unfold f_X7_count_b135
    rw [g1, g2, show Int32.toNatClampNeg 1 = 1 from rfl, g3]
    cases a <;> cases b
    · exact ⟨0, by decide, by decide⟩
    · exact ⟨1, by decide, by decide⟩
    · exact ⟨1, by decide, by decide⟩
    · exact ⟨2, by decide, by decide⟩
  rw [if_neg h1, if_neg h1]
  by_cases h2 : what = 2
  · rw [if_pos h2, if_pos h2]
    obtain ⟨n, _, g2, g3, _⟩ := h.tap
    exact ⟨nI n, by rw [g2], by rw [g3]⟩
  rw [if_neg h2, if_neg h2]
  by_cases h3 : what = 3
  · rw [if_pos h3, if_pos h3]
    rcases hS 0 (by decide) with ⟨a1, a2⟩ | ⟨la, n, f, b1, b2, b3, b4, b5, _⟩
    · exact ⟨-4, by rw [a1]; rfl, by rw [a2]; rfl⟩
    · refine ⟨nI n, by rw [b3]; rfl, ?_⟩
      rw [b4, b5, if_neg (nI_nm4 (by omega))]
      rfl
  rw [if_neg h3, if_neg h3]
  by_cases h4 : what = 4
  · rw [if_pos h4]
    exact ⟨_, rfl, rfl⟩
  rw [if_neg h4]
  by_cases h5 : what = 5
  · rw [if_pos h5]
    exact ⟨_, rfl, rfl⟩
  rw [if_neg h5]
  exact ⟨_, rfl, rfl⟩
end CTP
