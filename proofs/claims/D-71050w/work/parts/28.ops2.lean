/-! ===== questions that go through suits or columns ===== -/
set_option maxRecDepth 100000
section OP2
variable {σ μ : Nat → Nat → Int32} {p : Nat → Nat}
def opn (p : Nat → Nat) (i : Nat) : Bool := (suitR p i).2.2.2.1
def rstI (p : Nat → Nat) (j i : Nat) : Bool := (suitR p i).1 == some j
def rstC (p : Nat → Nat) (h i : Nat) : Bool := (run p h i 0).1.isSome
def winC (p : Nat → Nat) (h k i : Nat) : Bool := winr p (run p h i 0) == some k
def ruleV (p : Nat → Nat) (l1 : Int32) : Int32 := if l1 = 0 then nI (p 38) else if l1 = 1 then nI (p 39) else if l1 = 2 then nI (p 41) else if l1 = 3 then nI (p 40) else if l1 = 4 then nI (msk (isA p) (p 40)) else if l1 = 5 then nI (msk (opn p) (p 40)) else -1
theorem op_rule (h : Rel p σ μ) (l1 : Int32) : oE (f_X0_rule σ l1) (f_X7_rule μ l1) (Rel p) := by
  have w := h.wf
  have hnu := w.nu
  have hnh := w.nh
  refine oE_of (A := FrR σ) (B := FrM μ) (ruleV p l1) ?_ ?_ (fun s s' hs hs' => h.fr hs.fx hs'.fm)
  · unfold f_X0_rule f_X0_rule_b4
    refine oW_msk (FrR σ) (opn p) 0 (p 40) (by omega) (by omega) rfl FrR.rf ?_ ?_
    · intro i s _ hi hs
      show oW (f_X0_rule_L4 s l1 (nI (msk (opn p) i)) (nI i)) _
      unfold f_X0_rule_L4 f_X0_rule_b39
      rw [(hs.pg h.px).suits]
      refine oW_f (fun q => ?_) (oW_B (x_goes (hs.pg h.px) w hi) (fun s' hr => ?_))
      · have := (nle (by omega) (by omega)).mp q
        omega
      have fr := hs.tr hr.1.1
      rw [hr.1.2.2.2.2.1, show (suitR p i).2.2.2.1 = opn p i from rfl]
      cases opn p i
      · exact oW_t rfl (oS_l ⟨rfl, rfl, fr⟩)
      · exact oW_f (by decide) (oS_l ⟨rfl, rfl, fr⟩)
    · intro s hs
      show oW (f_X0_rule_L4 s l1 (nI (msk (opn p) (p 40))) (nI (p 40))) _
      unfold f_X0_rule_L4
      have hp := hs.pg h.px
      rw [hp.suits, hp.pegs, hp.slugs, hp.hogs]
      refine oW_t (Int32.le_refl _) (oS_I ?_)
      unfold ruleV
      exact oW_iv (fun _ => oW_some ⟨rfl, hs⟩) (fun _ => oW_iv (fun _ => oW_some ⟨rfl, hs⟩) (fun _ => oW_iv (fun _ => oW_some ⟨rfl, hs⟩) (fun _ => oW_iv (fun _ => oW_some ⟨rfl, hs⟩) (fun _ => oW_iv (fun _ => oW_B (x_wonByAny hp w) (fun r hr => oW_some ⟨hr.1, hs.tr hr.2⟩)) (fun _ => oW_iv (fun _ => oW_some ⟨rfl, hs⟩) (fun _ => oW_some ⟨rfl, hs⟩))))))
  · unfold f_X7_rule f_X7_rule_b4
    refine oW_msk (FrM μ) (opn p) 0 (p 40) (by omega) (by omega) rfl FrM.rf ?_ ?_
    · intro i s _ hi hs
      show oW (f_X7_rule_L4 s l1 (nI (msk (opn p) i)) (nI i)) _
      have hp := hs.pg h.pm
      have hwho := w.who hi
      unfold f_X7_rule_L4 f_X7_rule_b54
      rw [hp.c40, n_26, n_32, nI_add, nI_add, nI_clamp (by omega), nI_clamp (by omega), hp.who0 hi, hp.frm0 hi]
      refine oW_C (by decide) (oW_f (fun q => ?_) (oW_C (inb_t (by omega) (by decide)) (oW_C (inb_t (by omega) (by decide)) (oW_B (m_runs0 hp w hwho (w.frm hi)) (fun s' hr => ?_)))))
      · have := (nle (by omega) (by omega)).mp q
        omega
      have fr := hs.tr hr.1
      rw [hr.2.2.2.2.1, show (run p (p (26 + i)) (p (32 + i)) 0).2.2.2.1 = opn p i from rfl]
      cases opn p i
      · exact oW_t rfl (oS_l ⟨rfl, rfl, fr⟩)
      · exact oW_f (by decide) (oS_l ⟨rfl, rfl, fr⟩)
    · intro s hs
      show oW (f_X7_rule_L4 s l1 (nI (msk (opn p) (p 40))) (nI (p 40))) _
      unfold f_X7_rule_L4
      have hp := hs.pg h.pm
      rw [hp.c38, hp.c39, hp.c40, hs.2 1 (by decide) (by decide) (by decide) (by decide), h.hg]
      refine oW_C (by decide) (oW_t (Int32.le_refl _) (oS_I ?_))
      unfold ruleV
      exact oW_iv (fun _ => oW_C (by decide) (oW_some ⟨rfl, hs⟩)) (fun _ => oW_iv (fun _ => oW_C (by decide) (oW_some ⟨rfl, hs⟩)) (fun _ => oW_iv (fun _ => oW_some ⟨rfl, hs⟩) (fun _ => oW_iv (fun _ => oW_C (by decide) (oW_some ⟨rfl, hs⟩)) (fun _ => oW_iv (fun _ => oW_B (m_winsA0 hp w) (fun r hr => oW_some ⟨hr.1, hs.tr hr.2⟩)) (fun _ => oW_iv (fun _ => oW_some ⟨rfl, hs⟩) (fun _ => oW_some ⟨rfl, hs⟩))))))
theorem op_peg (h : Rel p σ μ) (l1 l2 : Int32) : oE (f_X0_peg σ l1 l2) (f_X7_peg μ l1 l2) (Rel p) := by
  have w := h.wf
  have hnu := w.nu
  have hnh := w.nh
  have hnp := w.np
  unfold f_X0_peg f_X7_peg
  refine oE_peg h h ?_
  rintro j hj rfl
  refine oE_arg (a := 0) (b := 2) rfl rfl (by decide) h ?_
  rintro l _ hl rfl
  have l3 : l = 0 ∨ l = 1 ∨ l = 2 := by omega
  refine oE_of (A := FrR σ) (B := FrM μ) (if l = 0 then nI (p j) else if l = 1 then nI (p (7 + j)) else nI (msk (rstI p j) (p 40))) ?_ ?_ (fun s s' hs hs' => h.fr hs.fx hs'.fm)
  · unfold f_X0_peg_b27
    refine oW_msk (FrR σ) (rstI p j) 0 (p 40) (by omega) (by omega) rfl FrR.rf ?_ ?_
    · intro i s _ hi hs
      show oW (f_X0_peg_L27 s (nI j) (nI l) (nI (msk (rstI p j) i)) (nI i)) _
      unfold f_X0_peg_L27 f_X0_peg_b66
      rw [(hs.pg h.px).suits]
      refine oW_f (fun q => ?_) (oW_B (x_goes (hs.pg h.px) w hi) (fun s' hr => ?_))
      · have := (nle (by omega) (by omega)).mp q
        omega
      have fr := hs.tr hr.1.1
      have el : ∀ k, (suitR p i).1 = some k → k < 2 ^ 31 := fun k e => by have := run_rest e; omega
      rw [hr.1.2.1]
      by_cases e : (suitR p i).1 = some j
      · rw [show rstI p j i = true from by unfold rstI; rw [e]; exact beq_self_eq_true _]
        exact oW_t ((eN_eq el (by omega)).mpr e) (oS_l ⟨rfl, rfl, fr⟩)
      · rw [show rstI p j i = false from by unfold rstI; exact beq_eq_false_iff_ne.mpr e]
        exact oW_f (fun q => e ((eN_eq el (by omega)).mp q)) (oS_l ⟨rfl, rfl, fr⟩)
    · intro s hs
      show oW (f_X0_peg_L27 s (nI j) (nI l) (nI (msk (rstI p j) (p 40))) (nI (p 40))) _
      unfold f_X0_peg_L27
      have hp := hs.pg h.px
      rw [hp.suits, nI_clamp (by omega), hp.peg hj, hp.rag hj, inb_t (by omega) (by decide)]
      refine oW_t (Int32.le_refl _) (oS_I ?_)
      rcases l3 with rfl | rfl | rfl
      · exact oW_t rfl (oW_some ⟨rfl, hs⟩)
      · exact oW_f (by decide) (oW_t rfl (oW_some ⟨rfl, hs⟩))
      · exact oW_f (by decide) (oW_f (by decide) (oW_some ⟨rfl, hs⟩))
  · unfold f_X7_peg_b27
    refine oW_msk (FrM μ) (rstI p j) 0 (p 40) (by omega) (by omega) rfl FrM.rf ?_ ?_
    · intro i s _ hi hs
      show oW (f_X7_peg_L27 s (nI j) (nI l) (nI (msk (rstI p j) i)) (nI i)) _
      have hp := hs.pg h.pm
      have hwho := w.who hi
      unfold f_X7_peg_L27 f_X7_peg_b82
      rw [hp.c40, n_26, n_32, nI_add, nI_add, nI_clamp (by omega), nI_clamp (by omega), hp.who0 hi, hp.frm0 hi]
      refine oW_C (by decide) (oW_f (fun q => ?_) (oW_C (inb_t (by omega) (by decide)) (oW_C (inb_t (by omega) (by decide)) (oW_B (m_runs0 hp w hwho (w.frm hi)) (fun s' hr => ?_)))))
      · have := (nle (by omega) (by omega)).mp q
        omega
      have fr := hs.tr hr.1
      have el : ∀ k, (suitR p i).1 = some k → k < 2 ^ 31 := fun k e => by have := run_rest e; omega
      rw [hr.2.1]
      by_cases e : (suitR p i).1 = some j
      · rw [show rstI p j i = true from by unfold rstI; rw [e]; exact beq_self_eq_true _]
        exact oW_t ((eN_eq el (by omega)).mpr e) (oS_l ⟨rfl, rfl, fr⟩)
      · rw [show rstI p j i = false from by unfold rstI; exact beq_eq_false_iff_ne.mpr e]
        exact oW_f (fun q => e ((eN_eq el (by omega)).mp q)) (oS_l ⟨rfl, rfl, fr⟩)
    · intro s hs
      show oW (f_X7_peg_L27 s (nI j) (nI l) (nI (msk (rstI p j) (p 40))) (nI (p 40))) _
      unfold f_X7_peg_L27
      have hp := hs.pg h.pm
      rw [hp.c40, n_7, nI_mul, nI_add, nI_clamp (by omega)]
      refine oW_C (by decide) (oW_t (Int32.le_refl _) (oS_I ?_))
      rcases l3 with rfl | rfl | rfl
      · rw [Nat.mul_zero, Nat.zero_add, hp.peg0 hj]
        exact oW_f (by decide) (oW_C (inb_t (by omega) (by decide)) (oW_some ⟨rfl, hs⟩))
      · rw [Nat.mul_one, hp.rag0 hj]
        exact oW_f (by decide) (oW_C (inb_t (by omega) (by decide)) (oW_some ⟨rfl, hs⟩))
      · exact oW_t (by decide) (oW_some ⟨rfl, hs⟩)
theorem n8le {i : Nat} (h : i < 8) : ¬ (8 : Int32) ≤ nI i := fun q => by
  have := (nle (a := 8) (by decide) (by omega)).mp q
  omega
theorem op_hedgehog (h : Rel p σ μ) (l1 l2 : Int32) : oE (f_X0_hedgehog σ l1 l2) (f_X7_hedgehog μ l1 l2) (Rel p) := by
  have w := h.wf
  have hnh := w.nh
  have hnp := w.np
  unfold f_X0_hedgehog f_X7_hedgehog
  refine oE_hog h h ?_
  rintro j hj rfl
  refine oE_arg (a := 0) (b := 3) rfl rfl (by decide) h ?_
  rintro l _ hl rfl
  have l3 : l = 0 ∨ l = 1 ∨ l = 2 ∨ l = 3 := by omega
  refine oE_of (A := FrR σ) (B := FrM μ) (if l = 0 then nI (p (18 + j)) else if l = 1 then nI (p (22 + j)) else if l = 2 then nI (loN (p (18 + j))) else nI (msk (rstC p j) 8)) ?_ ?_ (fun s s' hs hs' => h.fr hs.fx hs'.fm)
  · unfold f_X0_hedgehog_b27
    refine oW_msk (FrR σ) (rstC p j) 0 8 (by omega) (by omega) rfl FrR.rf ?_ ?_
    · intro i s _ hi hs
      show oW (f_X0_hedgehog_L27 s (nI j) (nI l) (nI (msk (rstC p j) i)) (nI i)) _
      unfold f_X0_hedgehog_L27 f_X0_hedgehog_b64
      refine oW_f (n8le hi) (x_runW (hs.pg h.px) w hj hi (fun s' hr _ => ?_))
      have fr := hs.tr hr.1
      rw [hr.2.1]
      unfold rstC
      cases e : (run p j i 0).1 with
      | none => exact oW_t rfl (oS_l ⟨rfl, rfl, fr⟩)
      | some k =>
        have := run_rest e
        exact oW_f (nI_nm4 (by omega)) (oS_l ⟨rfl, rfl, fr⟩)
    · intro s hs
      show oW (f_X0_hedgehog_L27 s (nI j) (nI l) (nI (msk (rstC p j) 8)) 8) _
      unfold f_X0_hedgehog_L27
      have hp := hs.pg h.px
      have hk := w.kind hj
      refine oW_t (Int32.le_refl _) (oS_I ?_)
      rw [n_2, nI_mul, show nI (2 * j) + 0 = nI (2 * j) from nI_add (2 * j) 0, nI_add, nI_clamp (by omega), nI_clamp (by omega), hp.kind hj]
      rcases l3 with rfl | rfl | rfl | rfl
      · rw [Nat.add_zero, hp.kind hj]
        exact oW_f (by decide) (oW_C (inb_t (by omega) (by decide)) (oW_some ⟨rfl, hs⟩))
      · rw [hp.speed hj]
        exact oW_f (by decide) (oW_C (inb_t (by omega) (by decide)) (oW_some ⟨rfl, hs⟩))
      · rw [lo_nI hk]
        exact oW_t (by decide) (oW_t rfl (oW_C (inb_t (by omega) (by decide)) (oW_C (inb_t (by omega) (by decide)) (oW_C (inb_t (by omega) (by decide)) (oW_some ⟨rfl, hs⟩)))))
      · exact oW_t (by decide) (oW_f (by decide) (oW_some ⟨rfl, hs⟩))
  · unfold f_X7_hedgehog_b27
    refine oW_msk (FrM μ) (rstC p j) 0 8 (by omega) (by omega) rfl FrM.rf ?_ ?_
    · intro i s _ hi hs
      show oW (f_X7_hedgehog_L27 s (nI j) (nI l) (nI (msk (rstC p j) i)) (nI i)) _
      unfold f_X7_hedgehog_L27 f_X7_hedgehog_b61
      refine oW_f (n8le hi) (oW_B (m_runs0 (hs.pg h.pm) w hj hi) (fun s' hr => ?_))
      have fr := hs.tr hr.1
      rw [hr.2.1]
      unfold rstC
      cases e : (run p j i 0).1 with
      | none => exact oW_t rfl (oS_l ⟨rfl, rfl, fr⟩)
      | some k =>
        have := run_rest e
        exact oW_f (nI_nm4 (by omega)) (oS_l ⟨rfl, rfl, fr⟩)
    · intro s hs
      show oW (f_X7_hedgehog_L27 s (nI j) (nI l) (nI (msk (rstC p j) 8)) 8) _
      unfold f_X7_hedgehog_L27
      have hp := hs.pg h.pm
      have hk := w.kind hj
      refine oW_t (Int32.le_refl _) (oS_I ?_)
      rw [n_18, n_4, nI_mul, nI_add, nI_add, nI_add, nI_clamp (by omega), nI_clamp (by omega)]
      rcases l3 with rfl | rfl | rfl | rfl
      · rw [show 18 + 4 * 0 + j = 18 + j from by omega, hp.kind0 hj]
        exact oW_f (by decide) (oW_C (inb_t (by omega) (by decide)) (oW_some ⟨rfl, hs⟩))
      · rw [show 18 + 4 * 1 + j = 22 + j from by omega, hp.speed0 hj]
        exact oW_f (by decide) (oW_C (inb_t (by omega) (by decide)) (oW_some ⟨rfl, hs⟩))
      · rw [hp.kind0 hj]
        exact oW_t (by decide) (oW_t rfl (oW_C (inb_t (by omega) (by decide)) (oW_Be (mlo_nI hk) (oW_some ⟨rfl, hs⟩))))
      · exact oW_t (by decide) (oW_f (by decide) (oW_some ⟨rfl, hs⟩))
theorem op_suit (h : Rel p σ μ) (l1 l2 : Int32) : oE (f_X0_suit σ l1 l2) (f_X7_suit μ l1 l2) (Rel p) := by
  have w := h.wf
  have hnu := w.nu
  have hnh := w.nh
  unfold f_X0_suit f_X7_suit f_X7_isSuit
  rw [h.px.suits, h.pm.c40, inM_eq]
  rcases arg_n l1 (n := p 40) (by omega) with e | ⟨j, hj, rfl, e⟩
  · rw [e]; exact oE_n rfl rfl h
  rw [e]
  refine oE_y rfl rfl ?_
  rw [← inM_eq]
  have hwho := w.who hj
  have hfrm := w.frm hj
  refine oE_arg (a := 0) (b := 2) rfl rfl (by decide) h ?_
  rintro l _ hl rfl
  refine oE_of (A := FrR σ) (B := FrM μ) (if l = 2 then eN (winr p (suitR p j)) else if l = 0 then nI (p (26 + j)) else nI (p (32 + j))) (oW_B (x_goes h.px w hj) (fun s hs => ?_)) ?_ (fun s s' hs hs' => h.fr hs.fx hs'.fm)
  · have hp := hs.1.1.pg h.px
    have l3 : l = 0 ∨ l = 1 ∨ l = 2 := by omega
    rcases l3 with rfl | rfl | rfl
    · rw [n_2, nI_mul, nI_add, Nat.add_zero, nI_clamp (by omega), hp.who hj]
      exact oW_f (by decide) (oW_C (inb_t (by omega) (by decide)) (oW_some ⟨rfl, hs.1.1⟩))
    · rw [n_2, nI_mul, nI_add, nI_clamp (by omega), hp.frm hj]
      exact oW_f (by decide) (oW_C (inb_t (by omega) (by decide)) (oW_some ⟨rfl, hs.1.1⟩))
    · exact oW_t (by decide) (oW_Be hs.2 (oW_some ⟨rfl, hs.1.1⟩))
  · have hp := h.pm
    rw [n_26, n_32, n_6, nI_mul, nI_add, nI_add, nI_add, nI_add, nI_clamp (by omega), nI_clamp (by omega), nI_clamp (by omega), hp.who0 hj, hp.frm0 hj]
    have l3 : l = 0 ∨ l = 1 ∨ l = 2 := by omega
    rcases l3 with rfl | rfl | rfl
    · rw [show 26 + 6 * 0 + j = 26 + j from by omega, hp.who0 hj]
      exact oW_f (by decide) (oW_C (inb_t (by omega) (by decide)) (oW_some ⟨rfl, FrM.rf⟩))
    · rw [show 26 + 6 * 1 + j = 32 + j from by omega, hp.frm0 hj]
      exact oW_f (by decide) (oW_C (inb_t (by omega) (by decide)) (oW_some ⟨rfl, FrM.rf⟩))
    · exact oW_t (by decide) (oW_C (inb_t (by omega) (by decide)) (oW_C (inb_t (by omega) (by decide)) (oW_B (m_win0 hp w hwho hfrm) (fun r hr => oW_some ⟨hr.1, hr.2.1⟩))))
theorem op_way (h : Rel p σ μ) (l1 l2 l3 : Int32) : oE (f_X0_way σ l1 l2 l3) (f_X7_way μ l1 l2 l3) (Rel p) := by
  unfold f_X0_way f_X7_way
  refine oE_run h h ?_
  rintro i j hi hj rfl rfl
  refine oE_arg (a := 0) (b := 9) rfl rfl (by decide) h ?_
  rintro l _ hl rfl
  have hen := run_ended p i j 0
  refine oE_of (A := FrR σ) (B := FrM μ) (eN ((run p i j 0).2.2.2.2 l)) (x_runW h.px h.wf hi hj (fun s hs _ => ?_)) (oW_B (m_runs0 h.pm h.wf hi hj) (fun s hs => ?_)) (fun s s' hs hs' => h.fr hs.fx hs'.fm)
  · rw [nI_clamp (by omega), hs.2.2.2.2.2 l (by omega)]
    exact oW_C (inb_t (by omega) (by decide)) (oW_some ⟨rfl, hs.1⟩)
  · rw [hs.2.2.1]
    by_cases q : (run p i j 0).2.1 < l
    · refine oW_t ((nlt (by omega) (by omega)).mpr q) (oW_some ⟨?_, hs.1⟩)
      rw [(runS_way (R := run p i j 0) rfl (Nat.le_refl _) (by omega)).2 l q]
      rfl
    · refine oW_f (fun q' => q ((nlt (by omega) (by omega)).mp q')) ?_
      rw [nI_clamp (by omega), hs.2.2.2.2.2 l (by omega) (by omega)]
      exact oW_C (inb_t (by omega) (by decide)) (oW_some ⟨rfl, hs.1⟩)
theorem x_columns (hg : PgX σ 0 p) (w : WF p) {j k : Nat} (hj : j < p 41) (hk : k < 4) : oW (f_X0_columns σ (nI j) (nI k)) (fun r => r.1 = nI (msk (winC p j k) 8) ∧ FrR σ r.2) := by
  unfold f_X0_columns f_X0_columns_b5
  refine oW_msk (FrR σ) (winC p j k) 0 8 (by omega) (by omega) rfl FrR.rf ?_ ?_
  · intro i s _ hi hs
    show oW (f_X0_columns_L5 s (nI j) (nI k) (nI (msk (winC p j k) i)) (nI i)) _
    unfold f_X0_columns_L5 f_X0_columns_b45
    refine oW_f (n8le hi) (x_runW (hs.pg hg) w hj hi (fun s' hr hw => oW_Be hw ?_))
    have fr := hs.tr hr.1
    have el : ∀ k, winr p (run p j i 0) = some k → k < 2 ^ 31 := fun k e => by have := winr_lt w (fun _ e => run_rest e) k e; omega
    by_cases e : winr p (run p j i 0) = some k
    · rw [show winC p j k i = true from by unfold winC; rw [e]; exact beq_self_eq_true _]
      exact oW_t ((eN_eq el (by omega)).mpr e) (oS_l ⟨rfl, rfl, fr⟩)
    · rw [show winC p j k i = false from by unfold winC; exact beq_eq_false_iff_ne.mpr e]
      exact oW_f (fun q => e ((eN_eq el (by omega)).mp q)) (oS_l ⟨rfl, rfl, fr⟩)
  · intro s hs
    show oW (f_X0_columns_L5 s (nI j) (nI k) (nI (msk (winC p j k) 8)) 8) _
    unfold f_X0_columns_L5
    exact oW_t (Int32.le_refl _) (oS_r ⟨rfl, hs⟩)
theorem op_share (h : Rel p σ μ) (l1 l2 : Int32) : oE (f_X0_share σ l1 l2) (f_X7_share μ l1 l2) (Rel p) := by
  have w := h.wf
  unfold f_X0_share f_X7_share
  refine oE_hog h h ?_
  rintro j hj rfl
  refine oE_rag h ?_
  rintro k hk rfl
  refine oE_of (A := FrR σ) (B := FrM μ) (nI (cnt (winC p j k) 8)) (oW_B (x_columns h.px w hj hk) (fun r hr => ?_)) ?_ (fun s s' hs hs' => h.fr hs.fx hs'.fm)
  · rw [hr.1]
    exact oW_Be (bitc_msk (by decide)) (oW_some ⟨rfl, hr.2⟩)
  · unfold f_X7_share_b22
    refine oW_lp (fun i s => s.1 = nI (cnt (winC p j k) i) ∧ s.2.1 = nI i ∧ FrM μ s.2.2) 8 (by rw [gFU_eq]; decide) ⟨rfl, rfl, FrM.rf⟩ ?_
    rintro i ⟨a, b, s⟩ hi ⟨rfl, rfl, hs⟩
    dsimp only at hs ⊢
    unfold f_X7_share_L22 f_X7_share_b47
    by_cases h8 : i = 8
    · subst h8
      exact oW_t (Int32.le_refl _) (oS_r ⟨rfl, hs⟩)
    · refine oW_f (n8le (by omega)) (oW_B (m_win0 (hs.pg h.pm) w hj (by omega)) (fun r hr => ?_))
      have fr := hs.tr hr.2.1
      rw [hr.1]
      have el : ∀ k, winr p (run p j i 0) = some k → k < 2 ^ 31 := fun k e => by have := winr_lt w (fun _ e => run_rest e) k e; omega
      by_cases e : winr p (run p j i 0) = some k
      · refine oW_t ((eN_eq el (by omega)).mpr e) (oS_l ⟨by omega, ?_, nI_1 i, fr⟩)
        have e2 : winC p j k i = true := by unfold winC; rw [e]; exact beq_self_eq_true _
        show nI (cnt (winC p j k) i) + 1 = nI (cnt (winC p j k) i + (if winC p j k i = true then 1 else 0))
        rw [e2, nI_1]; rfl
      · refine oW_f (fun q => e ((eN_eq el (by omega)).mp q)) (oS_l ⟨by omega, ?_, nI_1 i, fr⟩)
        have e2 : winC p j k i = false := by unfold winC; exact beq_eq_false_iff_ne.mpr e
        show nI (cnt (winC p j k) i) + 0 = nI (cnt (winC p j k) i + (if winC p j k i = true then 1 else 0))
        rw [e2]; exact nI_add _ 0
theorem ntz {m : Nat} (h : m < 256) (h0 : m ≠ 0) : ∃ i, i < 8 ∧ f_J7_numberOfTrailingZeros (nI m) = some (nI i) ∧ m.testBit i = true ∧ ∀ j, j < i → m.testBit j = false := by
  have : ∀ m : Fin 256, m.val ≠ 0 → ∃ i : Fin 8, f_J7_numberOfTrailingZeros (nI m.val) = some (nI i.val) ∧ m.val.testBit i.val = true ∧ ∀ j : Fin 8, j < i → m.val.testBit j.val = false := by decide +kernel
  obtain ⟨i, h1, h2, h3⟩ := this ⟨m, h⟩ h0
  exact ⟨i.val, i.isLt, h1, h2, fun j hj => h3 ⟨j, by omega⟩ hj⟩
theorem op_first (h : Rel p σ μ) (l1 l2 : Int32) : oE (f_X0_first σ l1 l2) (f_X7_first μ l1 l2) (Rel p) := by
  have w := h.wf
  unfold f_X0_first f_X7_first
  refine oE_hog h h ?_
  rintro j hj rfl
  refine oE_rag h ?_
  rintro k hk rfl
  have hm := msk_lt (winC p j k) 8
  have key : ∃ v : Int32, (oW (if nI (msk (winC p j k) 8) = 0 then some (-4 : Int32) else f_J7_numberOfTrailingZeros (nI (msk (winC p j k) 8))) (fun a => a = v)) ∧ ((v = -4 ∧ ∀ i, i < 8 → winC p j k i = false) ∨ ∃ i, i < 8 ∧ v = nI i ∧ winC p j k i = true ∧ ∀ a, a < i → winC p j k a = false) := by
    by_cases e : msk (winC p j k) 8 = 0
    · refine ⟨-4, ?_, Or.inl ⟨rfl, fun i hi => ?_⟩⟩
      · rw [e]; exact oW_t rfl (oW_some rfl)
      · have := msk_tb (winC p j k) i 8
        rw [e, Nat.zero_testBit, decide_eq_true hi, Bool.true_and] at this
        exact this.symm
    · obtain ⟨i, hi, h1, h2, h3⟩ := ntz (m := msk (winC p j k) 8) (by omega) e
      refine ⟨nI i, oW_f (fun q => e ((nI_eq (b := 0) (by omega) (by decide)).mp q)) ?_, Or.inr ⟨i, hi, rfl, ?_, fun a ha => ?_⟩⟩
      · rw [h1]; exact oW_some rfl
      · rw [msk_tb, decide_eq_true hi, Bool.true_and] at h2
        exact h2
      · have := h3 a ha
        rw [msk_tb, decide_eq_true (by omega : a < 8), Bool.true_and] at this
        exact this
  obtain ⟨v, hv, hc⟩ := key
  refine oE_of (A := FrR σ) (B := FrM μ) v (oW_B (x_columns h.px w hj hk) (fun r hr => ?_)) ?_ (fun s s' hs hs' => h.fr hs.fx hs'.fm)
  · rw [hr.1]
    by_cases e : nI (msk (winC p j k) 8) = 0
    · rw [if_pos e] at hv
      obtain ⟨_, e1, e2⟩ := hv
      cases e1
      exact oW_t e (oW_some ⟨e2, hr.2⟩)
    · rw [if_neg e] at hv
      exact oW_f e (oW_B hv (fun a ha => oW_some ⟨ha, hr.2⟩))
  · unfold f_X7_first_b19
    refine oW_lp (fun i s => s.1 = nI i ∧ FrM μ s.2 ∧ ∀ a, a < i → winC p j k a = false) 8 (by rw [gFU_eq]; decide) ⟨rfl, FrM.rf, fun a ha => absurd ha (by omega)⟩ ?_
    rintro i ⟨a, s⟩ hi ⟨rfl, hs, hno⟩
    dsimp only at hs ⊢
    unfold f_X7_first_L19
    by_cases h8 : i = 8
    · subst h8
      refine oW_t (Int32.le_refl _) (oS_r ⟨?_, hs⟩)
      rcases hc with ⟨e, _⟩ | ⟨i, hi, _, e, _⟩
      · exact e.symm
      · rw [hno i hi] at e; cases e
    · refine oW_f (n8le (by omega)) (oW_B (m_win0 (hs.pg h.pm) w hj (by omega)) (fun r hr => ?_))
      have fr := hs.tr hr.2.1
      rw [hr.1]
      have el : ∀ k, winr p (run p j i 0) = some k → k < 2 ^ 31 := fun k e => by have := winr_lt w (fun _ e => run_rest e) k e; omega
      by_cases e : winr p (run p j i 0) = some k
      · have e2 : winC p j k i = true := by unfold winC; rw [e]; exact beq_self_eq_true _
        refine oW_t ((eN_eq el (by omega)).mpr e) (oS_r ⟨?_, fr⟩)
        rcases hc with ⟨_, q⟩ | ⟨i', hi', rfl, q1, q2⟩
        · rw [q i (by omega)] at e2; cases e2
        · rcases Nat.lt_trichotomy i i' with q | rfl | q
          · rw [q2 i q] at e2; cases e2
          · rfl
          · rw [hno i' q] at q1; cases q1
      · have e2 : winC p j k i = false := by unfold winC; exact beq_eq_false_iff_ne.mpr e
        refine oW_f (fun q => e ((eN_eq el (by omega)).mp q)) (oS_l ⟨by omega, nI_1 i, fr, fun a ha => ?_⟩)
        rcases Nat.lt_or_ge a i with q | q
        · exact hno a q
        · rw [show a = i from by omega]; exact e2
end OP2
