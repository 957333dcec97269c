/-! ===== one line, all lines, in step ===== -/
set_option maxRecDepth 100000
def rmP (p : Nat → Nat) (j : Nat) : Bool := if j < 4 then decide (p 41 < 4) else if j = 4 then decide (p 38 < 7) else if j = 5 then decide (p 39 < 4) else decide (p 40 < 6)
section LN
variable {σ σ' s μ μ' m : Nat → Nat → Int32} {n a a0 : Nat} {tv p : Nat → Nat}
theorem x_hasRoom (hx : PgX σ 4 p) (w : WC p) {j : Nat} (hj : j < 7) : f_X8_hasRoom σ (nI j) = some (b2i (rmP p j)) := by
  have h1 := w.np; have h2 := w.ns; have h3 := w.nu; have h4 := w.nh
  have bi : ∀ {x c : Nat}, x < 100 → c < 100 → ∀ {q : Int32}, nI c = q → (if q ≤ nI x then (some 0 : Option Int32) else some 1) = some (b2i (decide (x < c))) := by
    intro x c hx hc q e
    subst e
    by_cases g : x < c
    · rw [if_neg (fun q => absurd ((nle (by omega) (by omega)).mp q) (by omega)), decide_eq_true g]; rfl
    · rw [if_pos ((nle (by omega) (by omega)).mpr (by omega)), decide_eq_false g]; rfl
  unfold f_X8_hasRoom rmP
  rw [hx.pegs, hx.slugs, hx.suits, hx.hogs]
  by_cases g : j < 4
  · rw [if_neg (show ¬ (4 : Int32) ≤ nI j from fun q => absurd ((nle (a := 4) (by decide) (by omega)).mp q) (by omega)), if_pos g]
    exact bi (by omega) (by decide) rfl
  · rw [if_pos (show (4 : Int32) ≤ nI j from ((nle (a := 4) (by decide) (by omega)).mpr (by omega))), if_neg g]
    by_cases g4 : j = 4
    · subst g4
      rw [if_pos (show nI 4 = (4 : Int32) from rfl), if_pos rfl]
      exact bi (by omega) (by decide) rfl
    · rw [if_neg (show ¬ nI j = (4 : Int32) from fun q => g4 ((nI_eq (b := 4) (by omega) (by decide)).mp q)), if_neg g4]
      by_cases g5 : j = 5
      · subst g5
        rw [if_pos (show nI 5 = (5 : Int32) from rfl), if_pos rfl]
        exact bi (by omega) (by decide) rfl
      · rw [if_neg (show ¬ nI j = (5 : Int32) from fun q => g5 ((nI_eq (b := 5) (by omega) (by decide)).mp q)), if_neg g5]
        exact bi (by omega) (by decide) rfl
theorem m_isFull (hm : PgM (swp μ) 0 p) (hh : μ 0 3 = nI (p 41)) (w : WC p) {j : Nat} (hj : j < 7) : f_X7_isFull μ (nI j) = some (b2i (!rmP p j)) := by
  have h1 := w.np; have h2 := w.ns; have h3 := w.nu; have h4 := w.nh
  have e38 : μ 2 (Int32.toNatClampNeg 38) = nI (p 38) := hm.pegs
  have e39 : μ 2 (Int32.toNatClampNeg 39) = nI (p 39) := hm.slugs
  have e40 : μ 2 (Int32.toNatClampNeg 40) = nI (p 40) := hm.suits
  have bi : ∀ {x c : Nat}, x ≤ c → c < 100 → ∀ {q : Int32}, nI c = q → (if nI x = q then (some 1 : Option Int32) else some 0) = some (b2i (!decide (x < c))) := by
    intro x c hx hc q e
    subst e
    by_cases g : x < c
    · rw [if_neg (fun q => absurd ((nI_eq (by omega) (by omega)).mp q) (by omega)), decide_eq_true g]; rfl
    · rw [if_pos (by rw [show x = c by omega]), decide_eq_false g]; rfl
  unfold f_X7_isFull rmP
  rw [e38, e39, e40, hh]
  by_cases g : j < 4
  · rw [if_neg (show ¬ (3 : Int32) < nI j from fun q => absurd ((nlt (a := 3) (by decide) (by omega)).mp q) (by omega)), if_pos g]
    exact bi (by omega) (by decide) rfl
  · rw [if_pos (show (3 : Int32) < nI j from ((nlt (a := 3) (by decide) (by omega)).mpr (by omega))), if_neg g]
    by_cases g4 : j = 4
    · subst g4
      rw [if_pos (show nI 4 = (4 : Int32) from rfl), if_pos rfl, show inb 38 41 = true by decide, oC_t]
      exact bi (by omega) (by decide) rfl
    · rw [if_neg (show ¬ nI j = (4 : Int32) from fun q => g4 ((nI_eq (b := 4) (by omega) (by decide)).mp q)), if_neg g4]
      by_cases g5 : j = 5
      · subst g5
        rw [if_pos (show nI 5 = (5 : Int32) from rfl), if_pos rfl, show inb 39 41 = true by decide, oC_t]
        exact bi (by omega) (by decide) rfl
      · rw [if_neg (show ¬ nI j = (5 : Int32) from fun q => g5 ((nI_eq (b := 5) (by omega) (by decide)).mp q)), if_neg g5, show inb 40 41 = true by decide, oC_t]
        exact bi (by omega) (by decide) rfl
theorem ROp.tr {x : (Int32 × Int32 × (Nat → Nat → Int32)) ⊕ (Nat → Nat → Int32)} {y : Nat → Nat → Int32} (fx : FrX8 σ s) (fm : FrM8 μ m) (h : ROp s m n a0 x y) : ROp σ μ n a0 x y := by
  cases x with
  | inl t => exact ⟨fx.tr h.1, fm.tr h.2.1, h.2.2⟩
  | inr t => exact ⟨fx.tr h.1, fm.tr h.2.1, h.2.2⟩
theorem p_told (T : TpR σ μ n tv) (L : Lx σ μ n a0) (P : Pgs σ μ p) {j : Nat} (hj : j < 7) (hr : rmP p j = true) : oP (f_X8_told σ (nI j)) (f_X7_readMore μ (nI j)) (ROp σ μ n a0) := by
  unfold rmP at hr
  by_cases g : j < 4
  · rw [if_pos g] at hr
    exact p_hog T L P g (of_decide_eq_true hr)
  · rw [if_neg g] at hr
    by_cases g4 : j = 4
    · subst g4
      rw [if_pos rfl] at hr
      exact p_peg T L P (of_decide_eq_true hr)
    · rw [if_neg g4] at hr
      by_cases g5 : j = 5
      · subst g5
        rw [if_pos rfl] at hr
        exact p_slug T L P (of_decide_eq_true hr)
      · rw [if_neg g5] at hr
        have : j = 6 := by omega
        subst this
        exact p_suit T L P (of_decide_eq_true hr)
theorem p_line (T : TpR σ μ n tv) (L : Lx σ μ n a0) (P : Pgs σ μ p) (C : Cst μ) : oP (f_X8_line σ) (f_X7_readLine μ) (ROp σ μ n (a0 + 1)) := by
  obtain ⟨a, b, s, h1, h2, h3, h4, h5, x3, x4, x5, m8, m10, m11, m12, hv⟩ := L
  have hN := T.1
  obtain ⟨j, hj⟩ := nm_ex tv a b s
  have hj7 := hj.1
  rw [x_line_eq T h2 h3 h4 x3 x4 x5 hj]
  unfold f_X7_readLine
  rw [m_nameHere T C h3 h2 h4 m10 m11 m12 hj, oB_s]
  have fl : ∀ c : Nat, 0 < c ∧ c < 10 → Fl (nI c) (nI b) (upd2 (upd2 μ 0 8 (nI c)) 0 9 (nI b)) := fun c hc => Fl_of hc
  unfold f_X8_line_b22
  by_cases e7 : j = 7
  · subst e7
    rw [if_neg (show ¬ 7 < 7 by decide)]
    refine oP_lt (by decide) ?_
    unfold f_X8_line_b34
    refine oP_le x_need0 ?_
    rw [oM_li, x4]
    rw [show f_X7_in (Int32.toInt64 (-4)) 0 6 = some 0 by decide, oB_s]
    refine oP_rt (by decide) (oP_re (m_fails (c := 2) m8) ?_)
    rw [m11]
    exact ⟨_, _, rfl, rfl, FrX8.rf, ((NxM.rf.put (by decide)).put (by decide)).f8, fl 2 (by decide)⟩
  · rw [if_pos (show j < 7 by omega)]
    refine oP_lf (fun q => absurd ((nlt (a := 6) (by decide) (by omega)).mp q) (by omega)) ?_
    unfold f_X8_line_b34
    refine oP_le (x_need1 (by decide)) ?_
    rw [oM_ri]
    have ein : f_X7_in (Int32.toInt64 (nI j)) 0 6 = some 1 := by
      rw [inM_eq]
      exact in_in _ _ _ (by rw [nI_toInt (by omega)]; exact ⟨Int.natCast_nonneg _, by show (j : Int) ≤ 6; omega⟩)
    rw [ein, oB_s]
    obtain ⟨w, hx, hm, hh, hb, hi⟩ := P
    refine oP_le (x_hasRoom hx w (by omega)) (oP_rf (by decide) (oP_re (m_isFull hm hh w (by omega)) ?_))
    cases hr : rmP p j with
    | false =>
      refine oP_le x_need0 (oP_rf (by decide) ?_)
      rw [oM_li, x4]
      refine oP_re (m_fails (c := 5) m8) ?_
      rw [m11]
      unfold f_X7_readLine_b36
      refine oP_re (m_step_st (fl 5 (by decide))) (oP_rf (fl 5 (by decide)).ne.2 ?_)
      exact ⟨_, _, rfl, rfl, FrX8.rf, ((NxM.rf.put (by decide)).put (by decide)).f8, fl 5 (by decide)⟩
    | true =>
      refine oP_le (x_need1 (by decide)) (oP_rt (by decide) ?_)
      rw [oM_ri]
      unfold f_X7_readLine_b36
      obtain ⟨x, y, z1, z2, z3⟩ := p_next T h3 x3 m8 m10
      refine oP_le z1 (oP_re z2 ?_)
      cases x with
      | inl t =>
        obtain ⟨q1, q2, F⟩ := z3
        rw [oM_li]
        exact oP_rf F.ne.2 ⟨_, _, rfl, rfl, q1.f8, q2.f8, F⟩
      | inr σ1 =>
        obtain ⟨q1, q2, L1⟩ := z3
        rw [oM_ri]
        have hy8 : y 0 8 = 0 := by obtain ⟨_, _, _, _, _, _, _, _, _, _, _, g, _⟩ := L1; exact g
        refine oP_rt (by rw [hy8]; decide) ?_
        have T1 := T.fr q1 q2
        have P1 : Pgs σ1 y p := Pgs.nx ⟨w, hx, hm, hh, hb, hi⟩ q1 q2
        obtain ⟨x2, y2, w1, w2, w3⟩ := p_told T1 L1 P1 (by omega : j < 7) hr
        refine oP_le w1 (oP_re w2 ?_)
        cases x2 with
        | inl t =>
          obtain ⟨q3, q4, F⟩ := w3
          rw [oM_li]
          unfold f_X7_readLine_b73
          exact oP_rf F.ne.1 (oP_re (m_step_st F) ⟨_, _, rfl, rfl, q1.f8.tr q3, q2.f8.tr q4, F⟩)
        | inr σ2 =>
          obtain ⟨q3, q4, L2, p2, P2⟩ := w3
          rw [oM_ri]
          have T2 := T1.f8 q3 q4
          obtain ⟨a2, b2, s2, i1, i2, i3, i4, i5, k3, k4, k5, g8, g10, g11, g12, _⟩ := L2
          rw [k5]
          refine oP_rt g8 ?_
          rw [g12]
          unfold f_X8_line_b71 f_X7_readLine_b73
          by_cases e3 : s2 = 3
          · subst e3
            refine oP_lt rfl (oP_rt rfl ?_)
            refine oP_le (x_need1 (by decide)) ?_
            rw [oM_ri]
            obtain ⟨x4, y4, v1, v2, v3⟩ := p_next T2 i3 k3 g8 g10
            refine oP_le v1 (oP_re v2 ?_)
            cases x4 with
            | inl t =>
              obtain ⟨q5, q6, F⟩ := v3
              rw [oM_li]
              exact ⟨_, _, rfl, rfl, (q1.f8.tr q3).tr q5.f8, (q2.f8.tr q4).tr q6.f8, F⟩
            | inr σ3 =>
              obtain ⟨q5, q6, L3⟩ := v3
              rw [oM_ri]
              have := i5 (by decide)
              exact ⟨_, _, rfl, rfl, (q1.f8.tr q3).tr q5.f8, (q2.f8.tr q4).tr q6.f8, L3.mono (by omega), p2, P2.nx q5 q6⟩
          · have n3 : ¬ nI s2 = 3 := fun q => e3 ((nI_eq (b := 3) (by omega) (by decide)).mp q)
            refine oP_lf n3 (oP_rf n3 ?_)
            refine oP_le x_need0 ?_
            rw [oM_li, k4]
            refine oP_re (m_fails (c := 2) g8) ?_
            rw [g11]
            have F : Fl (nI 2) (nI b2) (upd2 (upd2 y2 0 8 (nI 2)) 0 9 (nI b2)) := Fl_of (by decide)
            exact oP_re (m_step_st F) ⟨_, _, rfl, rfl, q1.f8.tr q3, (q2.f8.tr q4).tr ((NxM.rf.put (by decide)).put (by decide)).f8, F⟩
end LN
/-- loops in step; the left one may end a round ahead -/
theorem oP_lp2 {S T A B : Type} {f : S → Option (S ⊕ A)} {g : T → Option (T ⊕ B)} {Q : A → B → Prop} (I : Nat → S → T → Prop) (N : Nat) (hN : N < 4000) {s : S} {t : T} (h0 : I 0 s t) (hs : ∀ i s t, i ≤ N → I i s t → (∃ s' t', f s = some (.inl s') ∧ g t = some (.inl t') ∧ i < N ∧ I (i + 1) s' t') ∨ (∃ a b, f s = some (.inr a) ∧ g t = some (.inr b) ∧ Q a b) ∨ ∃ a t' b, f s = some (.inr a) ∧ g t = some (.inl t') ∧ g t' = some (.inr b) ∧ Q a b) : oP (oLoop gFU f s) (oLoop gFU g t) Q := by
  have key : ∀ n i s t, i ≤ N → N + 2 < n + i → I i s t → oP (oLoop n f s) (oLoop n g t) Q := by
    intro n
    induction n with
    | zero => intro i s t h1 h2; omega
    | succ n ih =>
      intro i s t h1 h2 h
      rcases hs i s t h1 h with ⟨s', t', e1, e2, e3, e4⟩ | ⟨a, b, e1, e2, e3⟩ | ⟨a, t', b, e1, e2, e3, e4⟩
      · rw [oLoop_inl e1, oLoop_inl e2]
        exact ih (i + 1) s' t' (by omega) (by omega) e4
      · exact ⟨a, b, oLoop_inr e1, oLoop_inr e2, e3⟩
      · obtain ⟨k, rfl⟩ : ∃ k, n = k + 1 := ⟨n - 1, by omega⟩
        exact ⟨a, b, oLoop_inr e1, by rw [oLoop_inl e2, oLoop_inr e3], e4⟩
  exact key gFU 0 s t (Nat.zero_le _) (by rw [gFU_eq]; omega) h0
