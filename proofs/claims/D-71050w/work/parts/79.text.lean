/-! ===== text(), in step ===== -/
set_option maxRecDepth 100000
def FrX9 (σ σ' : Nat → Nat → Int32) : Prop := (∀ k, k ≠ 0 → k < 36 → σ' k = σ k) ∧ ∀ j, j ≠ 13 → j ≠ 14 → σ' 0 j = σ 0 j
def FrM9 (μ μ' : Nat → Nat → Int32) : Prop := (∀ k, k ≠ 0 → k ≠ 2 → μ' k = μ k) ∧ ∀ j, (j < 3 ∨ j = 5 ∨ 13 < j) → μ' 0 j = μ 0 j
section TX
variable {σ σ' s μ μ' m : Nat → Nat → Int32} {n a a0 : Nat} {tv p q : Nat → Nat}
theorem Rel.text (h : Rel p σ μ) (fx : FrX9 σ σ') (fm : FrM9 μ μ') (h1 : σ' 0 13 = 0) (h2 : μ' 0 6 = 0) (h3 : σ' 0 14 = μ' 0 7) : Rel p σ' μ' := by
  have pg : ∀ {t : Nat} {r : Nat → Nat}, t < 4 → PgX σ t r → PgX σ' t r := fun ht g => g.same (fun j hj => fx.1 _ (by unfold sb; omega) (by unfold sb; omega))
  have pm : ∀ {o : Nat} {r : Nat → Nat}, WF r → PgM μ o r → PgM μ' o r := fun w g => g.same w (fun j hj => by rw [fm.1 1 (by decide) (by decide)])
  have by' : ∀ {t : Nat}, t < 4 → By σ t → By σ' t := fun ht g => g.same (fun j hj => fx.1 _ (by unfold sb; omega) (by unfold sb; omega))
  refine ⟨h.wf, pg (by decide) h.px, pm h.wf h.pm, by rw [fm.2 1 (by omega)]; exact h.hg, h3, by rw [fx.2 22 (by decide) (by decide), fm.2 28 (by omega)]; exact h.trn, ?_, ⟨0, Nat.zero_le _, h1, h2, fun i hi => absurd hi (by omega)⟩, ?_, ?_, by' (by decide) h.by.1, by' (by decide) h.by.2.1, by' (by decide) h.by.2.2⟩
  · obtain ⟨a, b, g1, g2, g3, g4, g5⟩ := h.img
    refine ⟨a, b, by rw [fx.2 4 (by decide) (by decide)]; exact g1, by rw [fm.1 9 (by decide) (by decide)]; exact g2, by rw [fm.1 9 (by decide) (by decide)]; exact g3, fun e => ?_, fun e => ?_⟩
    · obtain ⟨r, r1, r2, r3, r4⟩ := g4 e
      exact ⟨r, r1, pg (by decide) r2, pm r1 r3, r4⟩
    · obtain ⟨r, r1, r2, r3, r4⟩ := g5 e
      exact ⟨r, r1, pg (by decide) r2, pm r1 r3, r4⟩
  · obtain ⟨k, g1, g2, g3, g4⟩ := h.see
    exact ⟨k, g1, by rw [fx.2 6 (by decide) (by decide)]; exact g2, by rw [fm.2 22 (by omega)]; exact g3, fun i hi => by rw [fx.1 6 (by decide) (by decide), fm.1 7 (by decide) (by decide)]; exact g4 i hi⟩
  · unfold Cst
    rw [fm.1 4 (by decide) (by decide), fm.1 5 (by decide) (by decide)]
    exact h.cst
/-- a text that failed: the reference's answer -/
theorem m_b71_fl {c pl : Int32} (F : Fl c pl μ) (l : Int32) : f_X7_text_b71 μ l = some (-10 - pl, upd2 (upd2 μ 0 6 0) 0 7 c) := by
  unfold f_X7_text_b71 f_X7_text_b95
  rw [if_neg F.ne.1, oL_s, oL_s, u2_j (j := 6) (i := 8) _ _ _ (by decide), F.2.1, u2_j (j := 7) (i := 8) _ _ _ (by decide), u2_j (j := 6) (i := 8) _ _ _ (by decide), if_neg F.ne.2, u2_j (j := 7) (i := 9) _ _ _ (by decide), u2_j (j := 6) (i := 9) _ _ _ (by decide), F.2.2]
theorem m_b125 (l : Int32) : oW (f_X7_text_b125 μ l 0) (fun r => r.1 = l ∧ (∀ j, j < 41 → r.2 1 j = μ 2 j) ∧ r.2 0 1 = μ 0 3 ∧ r.2 0 22 = 0 ∧ r.2 9 0 = 0 ∧ r.2 9 1 = 0 ∧ (∀ k, k ≠ 0 → k ≠ 1 → k ≠ 9 → r.2 k = μ k) ∧ ∀ j, j ≠ 1 → j ≠ 22 → r.2 0 j = μ 0 j) := by
  unfold f_X7_text_b125
  refine oW_lp (fun (i : Nat) (v : Int32 × (Nat → Nat → Int32)) => i ≤ 41 ∧ v.1 = nI i ∧ (∀ j, j < i → v.2 1 j = μ 2 j) ∧ ∀ k, k ≠ 1 → v.2 k = μ k) 41 (by rw [gFU_eq]; decide) ⟨Nat.zero_le _, rfl, fun j hj => absurd hj (by omega), fun _ _ => rfl⟩ (fun i v hi h => ?_)
  obtain ⟨h1, h2, h3, h4⟩ := h
  unfold f_X7_text_L125
  rw [h2]
  by_cases g : i = 41
  · subst g
    rw [if_pos (by decide), show Int32.toNatClampNeg 0 = 0 from rfl, show Int32.toNatClampNeg 1 = 1 from rfl, show vp_nar .boolean 0 = 0 from rfl]
    refine oW_I (oW_L (oW_L (oW_C (by decide) (oW_L (oW_C (by decide) (oW_L (oW_some ?_)))))))
    show oS _ _ (Sum.inr _)
    refine ⟨rfl, fun j hj => ?_, ?_, ?_, ?_, ?_, fun k e0 e1 e9 => ?_, fun j e1 e2 => ?_⟩
    · dsimp only
      rw [u2_k _ _ _ (by decide), u2_k _ _ _ (by decide), u2_k _ _ _ (by decide), u2_k _ _ _ (by decide)]; exact h3 j hj
    · dsimp only
      rw [u2_k _ _ _ (by decide), u2_k _ _ _ (by decide), u2_j _ _ _ (by decide), u2_s, h4 0 (by decide)]
    · dsimp only
      rw [u2_k _ _ _ (by decide), u2_k _ _ _ (by decide), u2_s]
    · dsimp only
      rw [u2_j _ _ _ (by decide)]; exact u2_s _ _ _ _
    · dsimp only
      exact u2_s _ _ _ _
    · dsimp only
      rw [u2_k _ _ _ e9, u2_k _ _ _ e9, u2_k _ _ _ e0, u2_k _ _ _ e0]; exact h4 k e1
    · dsimp only
      rw [u2_k _ _ _ (by decide), u2_k _ _ _ (by decide), u2_j _ _ _ e2, u2_j _ _ _ e1, h4 0 (by decide)]
  · rw [if_neg (show ¬ (41 : Int32) ≤ nI i from fun q => g (by have := (nle (a := 41) (by decide) (by omega)).mp q; omega))]
    refine oW_C (inb_t (by omega) (by decide)) (oW_C (inb_t (by omega) (by decide)) (oW_L (oS_l ⟨by omega, by omega, nI_1 i, fun j hj => ?_, fun k hk => ?_⟩)))
    · dsimp only
      rw [nI_clamp (by omega)]
      by_cases e : j = i
      · subst e
        rw [u2_s, h4 2 (by decide)]
      · rw [u2_j _ _ _ e]; exact h3 j (by omega)
    · dsimp only
      rw [u2_k _ _ _ hk]; exact h4 k hk
/-- all lines: both failed, or both have the page -/
def QL (σ0 μ0 : Nat → Nat → Int32) : (Int32 × Int32 × (Nat → Nat → Int32)) ⊕ (Int32 × (Nat → Nat → Int32)) → Int32 × (Nat → Nat → Int32) → Prop
  | .inl t, y => y.1 = -10 - t.2.1 ∧ FrX8 σ0 t.2.2 ∧ (∀ k, k ≠ 0 → k ≠ 2 → y.2 k = μ0 k) ∧ (∀ j, (j < 3 ∨ j = 5 ∨ 13 < j) → y.2 0 j = μ0 0 j) ∧ y.2 0 6 = 0 ∧ y.2 0 7 = t.1
  | .inr v, y => y.1 = v.1 ∧ FrX8 σ0 v.2 ∧ By v.2 4 ∧ (∃ p, WF p ∧ PgX v.2 4 p ∧ PgM y.2 0 p ∧ y.2 0 1 = nI (p 41)) ∧ y.2 0 22 = 0 ∧ y.2 9 0 = 0 ∧ y.2 9 1 = 0 ∧ y.2 0 6 = 0 ∧ y.2 0 7 = 0 ∧ (∀ k, k ≠ 0 → k ≠ 1 → k ≠ 2 → k ≠ 9 → y.2 k = μ0 k) ∧ ∀ j, (j = 0 ∨ j = 2 ∨ j = 5 ∨ (13 < j ∧ j ≠ 22)) → y.2 0 j = μ0 0 j
theorem QL_fl {t : Int32 × Int32 × (Nat → Nat → Int32)} (fx : FrX8 σ t.2.2) (fm : FrM8 μ m) (F : Fl t.1 t.2.1 m) : QL σ μ (.inl t) (-10 - t.2.1, upd2 (upd2 m 0 6 0) 0 7 t.1) := by
  refine ⟨rfl, fx, fun k h1 h2 => ?_, fun j hj => ?_, ?_, (u2_s _ _ _ _ : upd2 (upd2 m 0 6 0) 0 7 t.1 0 7 = t.1)⟩
  · dsimp only
    rw [u2_k _ _ _ h1, u2_k _ _ _ h1]; exact fm.1 k h1 h2
  · dsimp only
    rw [u2_j _ _ _ (by omega), u2_j _ _ _ (by omega)]; exact fm.2 j (by omega)
  · dsimp only
    rw [u2_j _ _ _ (by decide), u2_s]
theorem p_lines (T : TpR σ μ n tv) (L : Lx σ μ n 0) (P : Pgs σ μ p) (C : Cst μ) : oP (f_X8_lines σ) (f_X7_text_b47 μ 0) (QL σ μ) := by
  unfold f_X8_lines f_X8_lines_b2 f_X7_text_b47
  have hN := T.1
  refine oP_lp2 (fun (i : Nat) (u v : Int32 × (Nat → Nat → Int32)) => u.1 = v.1 ∧ FrX8 σ u.2 ∧ FrM8 μ v.2 ∧ Lx u.2 v.2 n i ∧ ∃ p', Pgs u.2 v.2 p') n (by omega) ⟨rfl, FrX8.rf, FrM8.rf, L, p, P⟩ (fun i u v hi h => ?_)
  obtain ⟨h1, fx, fm, L1, p1, P1⟩ := h
  have T1 := T.f8 fx fm
  have C1 : Cst v.2 := by unfold Cst; rw [fm.1 4 (by decide) (by decide), fm.1 5 (by decide) (by decide)]; exact C
  obtain ⟨a, b, sx, g1, g2, g3, g4, g5, x3, x4, x5, m8, m10, m11, m12, hv⟩ := id L1
  show _ ∨ _ ∨ _
  by_cases e0 : sx = 0
  · subst e0
    obtain ⟨w, hx, hm, hh, hb, hi2⟩ := P1
    have ho := w.nh
    have hog := hx.hogs
    right; left
    show ∃ a b, f_X8_lines_L2 u.2 u.1 = some (.inr a) ∧ f_X7_text_L47 v.2 v.1 = some (.inr b) ∧ QL σ μ a b
    have lft : ∀ x, (if u.2 (sb 4) 5 ≤ u.2 42 2 then f_X8_lines_b39 u.2 u.1 0 else f_X8_lines_b39 u.2 u.1 1) = some x → f_X8_lines_L2 u.2 u.1 = some (.inr x) := by
      intro x hx
      unfold f_X8_lines_L2
      rw [if_pos (show u.2 42 5 = 0 from x5), hx]
      rfl
    have rgt : ∀ y, f_X7_text_b71 v.2 v.1 = some y → f_X7_text_L47 v.2 v.1 = some (.inr y) := by
      intro y hy
      unfold f_X7_text_L47
      rw [if_pos m8, if_pos (show v.2 0 12 = 0 from m12), hy]
      rfl
    have bad : u.2 (sb 4) 5 ≤ u.2 42 2 → ¬ v.2 0 4 < v.2 0 3 → ∃ a b, f_X8_lines_L2 u.2 u.1 = some (.inr a) ∧ f_X7_text_L47 v.2 v.1 = some (.inr b) ∧ QL σ μ a b := by
      intro k1 k2
      have F : Fl (nI 6) (nI b) (upd2 (upd2 v.2 0 8 (nI 6)) 0 9 (nI b)) := Fl_of (by decide)
      refine ⟨.inl (6, nI b, u.2), _, lft _ ?_, rgt _ ?_, QL_fl (t := (6, nI b, u.2)) (m := upd2 (upd2 v.2 0 8 (nI 6)) 0 9 (nI b)) fx (fm.tr ((NxM.rf.put (by decide)).put (by decide)).f8) F⟩
      · rw [if_pos k1]
        unfold f_X8_lines_b39
        rw [x_need0, oB_s, oM_li, x4]
      · have e := m_b71_fl F v.1
        unfold f_X7_text_b71 at e ⊢
        rw [if_neg F.ne.1] at e
        rw [if_pos m8, if_neg k2, show f_X7_fails v.2 6 = _ from m_fails (c := 6) m8, oB_s, m11]
        exact e
    have good : ¬ u.2 (sb 4) 5 ≤ u.2 42 2 → v.2 0 4 < v.2 0 3 → (∀ i, i < p1 40 → p1 (26 + i) < p1 41) → ∃ a b, f_X8_lines_L2 u.2 u.1 = some (.inr a) ∧ f_X7_text_L47 v.2 v.1 = some (.inr b) ∧ QL σ μ a b := by
      intro k1 k2 k3
      have W := w.wf k3
      obtain ⟨r, r1, r2, r3, r4, r5, r6, r7, r8, r9⟩ := m_b125 (μ := upd2 (upd2 v.2 0 6 0) 0 7 0) v.1
      refine ⟨.inr (u.1, u.2), r, lft _ ?_, rgt _ ?_, ?_, fx, hb, ⟨p1, W, hx, ?_, ?_⟩, r5, r6, r7, ?_, ?_, fun k e0 e1 e2 e9 => ?_, fun j hj => ?_⟩
      · rw [if_neg k1]
        unfold f_X8_lines_b39
        rw [x_need1 (by decide), oB_s, oM_ri]
      · unfold f_X7_text_b71 f_X7_text_b95
        rw [if_pos m8, if_pos k2, oL_s, oL_s, u2_j (j := 6) (i := 8) _ _ _ (by decide), m8, u2_j (j := 7) (i := 8) _ _ _ (by decide), u2_j (j := 6) (i := 8) _ _ _ (by decide), m8, if_pos (by decide)]
        exact r1
      · rw [r2, h1]
      · have a1 := (hm.mxC w)
        have a2 : MX r.2 0 p1 (lv p1) := fun j hj hl => by
          rw [Nat.zero_add, r3 j hj, u2_k _ _ _ (by decide), u2_k _ _ _ (by decide)]
          have := a1 j hj hl
          rwa [Nat.zero_add] at this
        exact a2.pg W (fun j _ hl => hl)
      · rw [r4, u2_j _ _ _ (by decide), u2_j _ _ _ (by decide)]; exact hh
      · rw [r9 6 (by decide) (by decide), u2_j _ _ _ (by decide), u2_s]
      · rw [r9 7 (by decide) (by decide), u2_s]
      · rw [r8 k e0 e1 e9, u2_k _ _ _ e0, u2_k _ _ _ e0]; exact fm.1 k e0 e2
      · rw [r9 j (by omega) (by omega), u2_j _ _ _ (by omega), u2_j _ _ _ (by omega)]; exact fm.2 j (by omega)
    rw [hog, hh] at bad good
    rcases hi2 with ⟨q1, q2, q3⟩ | ⟨mm, q1, q2, q3, q4⟩
    · rw [q2, q3] at good
      refine good ?_ ?_ (fun i hi => absurd hi (by omega))
      · have : ∀ c : Fin 5, ¬ nI c.val ≤ (-4 : Int32) := by decide
        exact this ⟨p1 41, by omega⟩
      · have : ∀ c : Fin 5, (-1 : Int32) < nI c.val := by decide
        exact this ⟨p1 41, by omega⟩
    · rw [q2, q3] at bad good
      by_cases hlt : mm < p1 41
      · exact good (fun e => absurd ((nle (by omega) (by omega)).mp e) (by omega)) ((nlt (by omega) (by omega)).mpr hlt) (fun i hi => by have := q4 i hi; omega)
      · exact bad ((nle (by omega) (by omega)).mpr (by omega)) (fun e => hlt ((nlt (by omega) (by omega)).mp e))
  · have n0 : ¬ nI sx = 0 := fun e => e0 ((nI_eq (b := 0) (by omega) (by decide)).mp e)
    obtain ⟨x, y, z1, z2, z3⟩ := p_line T1 L1 P1 C1
    have rgt : f_X7_text_L47 v.2 v.1 = some (.inl (v.1 + 1, y)) := by
      unfold f_X7_text_L47
      rw [if_pos m8, if_neg (by rw [m12]; exact n0), z2]
      rfl
    cases x with
    | inl t =>
      obtain ⟨q1, q2, F⟩ := z3
      right; right
      refine ⟨.inl t, (v.1 + 1, y), (-10 - t.2.1, upd2 (upd2 y 0 6 0) 0 7 t.1), ?_, rgt, ?_, QL_fl (fx.tr q1) (fm.tr q2) F⟩
      · show f_X8_lines_L2 u.2 u.1 = _
        unfold f_X8_lines_L2
        rw [if_neg (by rw [x5]; exact n0), z1]
        rfl
      · show f_X7_text_L47 y (v.1 + 1) = _
        unfold f_X7_text_L47
        rw [if_neg F.ne.1, m_b71_fl F]
        rfl
    | inr σ2 =>
      obtain ⟨q1, q2, L2, p2, P2⟩ := z3
      left
      refine ⟨(u.1 + 1, σ2), (v.1 + 1, y), ?_, rgt, ?_, by rw [h1], fx.tr q1, fm.tr q2, L2, p2, P2⟩
      · show f_X8_lines_L2 u.2 u.1 = _
        unfold f_X8_lines_L2
        rw [if_neg (by rw [x5]; exact n0), z1]
        rfl
      · obtain ⟨a2, b2, s2, d1, d2, d3, _⟩ := L2
        omega
theorem m_b24 : ∃ ν : Nat → Nat → Int32, (∀ j, j < 41 → ν 2 j = 0) ∧ (∀ k, k ≠ 2 → ν k = μ k) ∧ f_X7_text_b24 μ 0 0 = oB (f_X7_step ν) (fun r3 => f_X7_text_b47 r3 0) := by
  unfold f_X7_text_b24
  have key : ∀ d i fu ν, i + d = 41 → d < fu → (∀ j, j < i → ν 2 j = 0) → (∀ k, k ≠ 2 → ν k = μ k) → ∃ ν' : Nat → Nat → Int32, (∀ j, j < 41 → ν' 2 j = 0) ∧ (∀ k, k ≠ 2 → ν' k = μ k) ∧ oLoop fu (fun v : Int32 × (Nat → Nat → Int32) => f_X7_text_L24 v.2 0 v.1) (nI i, ν) = oB (f_X7_step ν') (fun r3 => f_X7_text_b47 r3 0) := by
    intro d
    induction d with
    | zero =>
      intro i fu ν h1 h2 h3 h4
      obtain ⟨k, rfl⟩ : ∃ k, fu = k + 1 := ⟨fu - 1, by omega⟩
      have : i = 41 := by omega
      subst this
      refine ⟨ν, h3, h4, oLoop_oI ?_ k⟩
      show f_X7_text_L24 ν 0 (nI 41) = _
      unfold f_X7_text_L24
      rw [if_pos (by decide)]
    | succ d ih =>
      intro i fu ν h1 h2 h3 h4
      obtain ⟨k, rfl⟩ : ∃ k, fu = k + 1 := ⟨fu - 1, by omega⟩
      rw [oLoop_inl (f := fun v : Int32 × (Nat → Nat → Int32) => f_X7_text_L24 v.2 0 v.1) (s' := (nI (i + 1), upd2 ν 2 i 0))]
      · refine ih (i + 1) k (upd2 ν 2 i 0) (by omega) (by omega) (fun j hj => ?_) (fun k hk => ?_)
        · by_cases e : j = i
          · subst e; exact u2_s _ _ _ _
          · rw [u2_j _ _ _ e]; exact h3 j (by omega)
        · rw [u2_k _ _ _ hk]; exact h4 k hk
      · show f_X7_text_L24 ν 0 (nI i) = _
        unfold f_X7_text_L24
        rw [if_neg (show ¬ (41 : Int32) ≤ nI i from fun q => absurd ((nle (a := 41) (by decide) (by omega)).mp q) (by omega)), inb_t (by omega) (by decide), oC_t, oL_s, nI_clamp (by omega), nI_1]
  exact key 41 0 gFU μ rfl (by rw [gFU_eq]; decide) (fun j hj => absurd hj (by omega)) (fun _ _ => rfl)
theorem m_b47_fl {c pl : Int32} (F : Fl c pl μ) : f_X7_text_b47 μ 0 = some (-10 - pl, upd2 (upd2 μ 0 6 0) 0 7 c) := by
  unfold f_X7_text_b47
  refine oLoop_oI (x := some (-10 - pl, upd2 (upd2 μ 0 6 0) 0 7 c)) ?_ 4999
  show f_X7_text_L47 μ 0 = _
  unfold f_X7_text_L47
  rw [if_neg F.ne.1, m_b71_fl F]
def tx1 (σ : Nat → Nat → Int32) : Nat → Nat → Int32 := rdS (tx0 σ) (σ 0 13)
theorem tx1_k {k : Nat} (h0 : k ≠ 0) (h1 : k < 36) : tx1 σ k = σ k := by
  unfold tx1 rdS
  rw [if_pos h1]
  unfold tx0
  rw [u2_k _ _ _ h0, u2_k _ _ _ h0]
theorem tx1_00 : tx1 σ 0 = tx0 σ 0 := by
  unfold tx1 rdS
  rw [if_pos (by decide)]
theorem tx1_0 {j : Nat} (h1 : j ≠ 13) (h2 : j ≠ 14) : tx1 σ 0 j = σ 0 j := by
  rw [tx1_00]
  unfold tx0
  rw [u2_j _ _ _ h2, u2_j _ _ _ h1]
theorem tx1_13 : tx1 σ 0 13 = 0 := by
  rw [tx1_00]
  unfold tx0
  rw [u2_j _ _ _ (by decide), u2_s]
theorem tx1_14 : tx1 σ 0 14 = 0 := by
  rw [tx1_00]
  unfold tx0
  rw [u2_s]
theorem tx1_z {k : Nat} (h1 : 36 ≤ k) (h2 : k < 42) (j : Nat) : tx1 σ k j = 0 := by
  unfold tx1 rdS
  rw [if_neg (by omega), if_neg (by omega)]
theorem tx1_42 : tx1 σ 42 = fun j => if j = 0 then σ 0 13 else if j = 2 then -4 else 0 := by
  unfold tx1 rdS
  rw [if_neg (by decide), if_pos rfl]
theorem PgX_zero (h : ∀ k, 36 ≤ k → k < 42 → ∀ j, σ k j = 0) : PgX σ 4 (fun _ => 0) := by
  refine ⟨?_, ?_, ?_, ?_, ?_, ?_, ?_, h _ (by unfold sb; omega) (by unfold sb; omega) _, h _ (by unfold sb; omega) (by unfold sb; omega) _, h _ (by unfold sb; omega) (by unfold sb; omega) _, h _ (by unfold sb; omega) (by unfold sb; omega) _⟩ <;> intro i hi <;> exact absurd hi (Nat.not_lt_zero i)
theorem PgM_zero (h : ∀ j, j < 41 → μ 2 j = 0) : PgM (swp μ) 0 (fun _ => 0) := by
  refine ⟨?_, ?_, ?_, ?_, ?_, ?_, ?_, h 38 (by decide), h 39 (by decide), h 40 (by decide)⟩ <;> intro i hi <;> exact absurd hi (Nat.not_lt_zero i)
theorem WC_zero : WC (fun _ => 0) := by
  refine ⟨Nat.zero_le _, Nat.zero_le _, Nat.zero_le _, Nat.zero_le _, ?_, ?_, ?_, ?_, ?_, ?_, ?_, ?_, ?_, ?_⟩ <;> intro i <;> intros <;> exact absurd (by assumption) (Nat.not_lt_zero i)
/-- where a text begins, on both sides -/
theorem tx_start (h : Rel p σ μ) : ∃ (n : Nat) (tv : Nat → Nat) (ν : Nat → Nat → Int32), f_X7_text μ = oB (f_X7_step ν) (fun r3 => f_X7_text_b47 r3 0) ∧ (∀ j, j ≠ 8 → j ≠ 10 → j ≠ 3 → j ≠ 4 → ν 0 j = μ 0 j) ∧ (∀ k, k ≠ 0 → k ≠ 2 → ν k = μ k) ∧ ν 0 8 = 0 ∧ ν 0 10 = 0 ∧ TpR (tx1 σ) ν n tv ∧ Pgs (tx1 σ) ν (fun _ => 0) ∧ Cst ν := by
  obtain ⟨n, t1, t2, t3, t4⟩ := h.tap
  obtain ⟨ν, z1, z2, z3⟩ := m_b24 (μ := upd2 (upd2 (upd2 (upd2 μ 0 8 0) 0 10 0) 0 3 0) 0 4 (-1))
  have n0 : ∀ j, j ≠ 8 → j ≠ 10 → j ≠ 3 → j ≠ 4 → ν 0 j = μ 0 j := fun j h1 h2 h3 h4 => by rw [z2 0 (by decide), u2_j _ _ _ h4, u2_j _ _ _ h3, u2_j _ _ _ h2, u2_j _ _ _ h1]
  have nk : ∀ k, k ≠ 0 → k ≠ 2 → ν k = μ k := fun k h0 h2 => by rw [z2 k h2, u2_k _ _ _ h0, u2_k _ _ _ h0, u2_k _ _ _ h0, u2_k _ _ _ h0]
  have n3 : ν 0 3 = 0 := by rw [z2 0 (by decide), u2_j _ _ _ (by decide), u2_s]
  have n4 : ν 0 4 = -1 := by rw [z2 0 (by decide), u2_s]
  refine ⟨n, fun i => (σ 8 i).toNatClampNeg, ν, ?_, n0, nk, ?_, ?_, ?_, ?_, ?_⟩
  · unfold f_X7_text
    rw [oL_s, oL_s, oL_s, oL_s]
    exact z3
  · rw [z2 0 (by decide), u2_j _ _ _ (by decide), u2_j _ _ _ (by decide), u2_j _ _ _ (by decide), u2_s]
  · rw [z2 0 (by decide), u2_j _ _ _ (by decide), u2_j _ _ _ (by decide), u2_s]
  · refine ⟨t1, ?_, by rw [n0 6 (by decide) (by decide) (by decide) (by decide)]; exact t3, fun i hi => ?_⟩
    · rw [tx1_42]; exact t2
    · obtain ⟨v, v1, v2, v3⟩ := t4 i hi
      show (σ 8 i).toNatClampNeg < 128 ∧ tx1 σ 8 i = nI (σ 8 i).toNatClampNeg ∧ ν 3 i = nI (σ 8 i).toNatClampNeg
      rw [tx1_k (by decide) (by decide), nk 3 (by decide) (by decide), v2, v3, nI_clamp (by omega)]
      exact ⟨v1, rfl, rfl⟩
  · refine ⟨WC_zero, PgX_zero (fun k h1 h2 j => tx1_z h1 h2 j), PgM_zero z1, n3, ?_, Or.inl ⟨rfl, by rw [tx1_42]; rfl, n4⟩⟩
    intro k j h1 h2 h3
    rw [tx1_z (by unfold sb; omega) (by unfold sb; omega)]
    rfl
  · unfold Cst
    rw [nk 4 (by decide) (by decide), nk 5 (by decide) (by decide)]
    exact h.cst
theorem tx_bad (h : Rel p σ μ) {t : Int32 × Int32 × (Nat → Nat → Int32)} (fx : FrX8 (tx1 σ) t.2.2) (g1 : ∀ k, k ≠ 0 → k ≠ 2 → μ' k = μ k) (g2 : ∀ j, (j < 3 ∨ j = 5 ∨ 13 < j) → μ' 0 j = μ 0 j) (g3 : μ' 0 6 = 0) (g4 : μ' 0 7 = t.1) : RX (upd2 t.2.2 0 14 t.1) μ' := by
  refine ⟨p, h.text ⟨fun k h1 h2 => ?_, fun j h1 h2 => ?_⟩ ⟨g1, g2⟩ ?_ g3 ?_⟩
  · rw [u2_k _ _ _ h1, fx.1 k h2]; exact tx1_k h1 h2
  · rw [u2_j _ _ _ h2, fx.1 0 (by decide)]; exact tx1_0 h1 h2
  · rw [u2_j _ _ _ (by decide), fx.1 0 (by decide)]; exact tx1_13
  · rw [u2_s, g4]
theorem tx_ok (h : Rel p σ μ) {v s4 : Nat → Nat → Int32} {q : Nat → Nat} (fx : FrX8 (tx1 σ) v) (w : WF q) (a2 : FrT 0 v s4) (a3 : PgX s4 0 q) (a4 : By s4 0) (hm : PgM μ' 0 q) (hh : μ' 0 1 = nI (q 41)) (g3 : μ' 0 22 = 0) (g4 : μ' 9 0 = 0) (g5 : μ' 9 1 = 0) (g6 : μ' 0 6 = 0) (g7 : μ' 0 7 = 0) (g8 : ∀ k, k = 4 ∨ k = 5 → μ' k = μ k) (g9 : μ' 0 28 = μ 0 28) : RX (upd2 (upd2 s4 0 6 0) 0 4 0) μ' := by
  have bk : ∀ k, 18 ≤ k → k < 36 → s4 k = σ k := fun k h1 h2 => by rw [a2 k (by unfold sb; omega), fx.1 k h2, tx1_k (by omega) h2]
  have b0 : s4 0 = tx1 σ 0 := by rw [a2 0 (by unfold sb; omega), fx.1 0 (by decide)]
  refine ⟨q, w, ?_, hm, hh, ?_, ?_, ⟨false, false, ?_, g4, g5, fun e => absurd e (by decide), fun e => absurd e (by decide)⟩, ⟨0, Nat.zero_le _, ?_, g6, fun i hi => absurd hi (Nat.not_lt_zero i)⟩, ⟨0, Nat.zero_le _, ?_, g3, fun i hi => absurd hi (Nat.not_lt_zero i)⟩, ?_, ?_, ?_, ?_⟩
  · exact a3.same (fun j hj => by rw [u2_k _ _ _ (by unfold sb; omega), u2_k _ _ _ (by unfold sb; omega)])
  · rw [u2_j _ _ _ (by decide), u2_j _ _ _ (by decide), b0, tx1_14, g7]
  · rw [u2_j _ _ _ (by decide), u2_j _ _ _ (by decide), b0, tx1_0 (by decide) (by decide), g9]
    exact h.trn
  · rw [u2_s]
    rfl
  · rw [u2_j _ _ _ (by decide), u2_j _ _ _ (by decide), b0]; exact tx1_13
  · rw [u2_j _ _ _ (by decide), u2_s]
    rfl
  · unfold Cst
    rw [g8 4 (Or.inl rfl), g8 5 (Or.inr rfl)]
    exact h.cst
  · exact a4.same (fun j hj => by rw [u2_k _ _ _ (by unfold sb; omega), u2_k _ _ _ (by unfold sb; omega)])
  · exact h.by.2.1.same (fun j hj => by rw [u2_k _ _ _ (by unfold sb; omega), u2_k _ _ _ (by unfold sb; omega)]; exact bk _ (by unfold sb; omega) (by unfold sb; omega))
  · exact h.by.2.2.same (fun j hj => by rw [u2_k _ _ _ (by unfold sb; omega), u2_k _ _ _ (by unfold sb; omega)]; exact bk _ (by unfold sb; omega) (by unfold sb; omega))
def txK (σ : Nat → Nat → Int32) : Option (Int32 × (Nat → Nat → Int32)) := oB (f_X8_lines σ) (fun r2 => oM r2 (fun t => some (txF t)) (fun v => oB (f_X5_as v.2 0 4) (fun s4 => some (v.1, upd2 (upd2 s4 0 6 0) 0 4 0))))
theorem txE {x : (Int32 × Int32 × (Nat → Nat → Int32)) ⊕ (Nat → Nat → Int32)} (h : f_X8_next_b0 (tx1 σ) = some x) : f_X0_text σ = oM x (fun t => some (txF t)) txK := by
  unfold f_X0_text
  rw [show f_X8_next_b0 (rdS (tx0 σ) (σ 0 13)) = some x from h, oB_s]
  rfl
theorem op_text (h : Rel p σ μ) : oE (f_X0_text σ) (f_X7_text μ) RX := by
  obtain ⟨n, tv, ν, em, n0, nk, n8, n10, T, P, C⟩ := tx_start h
  have x3 : tx1 σ 42 3 = nI 0 := by rw [tx1_42]; rfl
  obtain ⟨x, y, w1, w2, w3⟩ := p_next T (a := 0) (Nat.zero_le _) x3 n8 n10
  rw [txE w1, em, w2, oB_s]
  cases x with
  | inl t =>
    obtain ⟨q1, q2, F⟩ := w3
    rw [oM_li, m_b47_fl F]
    refine ⟨-10 - t.2.1, _, _, rfl, rfl, tx_bad h q1.f8 (fun k h1 h2 => ?_) (fun j hj => ?_) ?_ (u2_s _ _ _ _)⟩
    · rw [u2_k _ _ _ h1, u2_k _ _ _ h1, q2.1 k h1]; exact nk k h1 h2
    · rw [u2_j _ _ _ (by omega), u2_j _ _ _ (by omega), q2.2 j (by omega)]; exact n0 j (by omega) (by omega) (by omega) (by omega)
    · rw [u2_j _ _ _ (by decide), u2_s]
  | inr σ2 =>
    obtain ⟨q1, q2, L2⟩ := w3
    rw [oM_ri]
    have C2 : Cst y := by unfold Cst; rw [q2.1 4 (by decide), q2.1 5 (by decide)]; exact C
    obtain ⟨r, u, v1, v2, v3⟩ := p_lines (T.fr q1 q2) L2 (P.nx q1 q2) C2
    unfold txK
    rw [v1, v2, oB_s]
    cases r with
    | inl t =>
      obtain ⟨g0, g1, g2, g3, g4, g5⟩ := v3
      rw [oM_li]
      refine ⟨-10 - t.2.1, upd2 t.2.2 0 14 t.1, u.2, rfl, by rw [← g0], tx_bad h (q1.f8.tr g1) (fun k h1 h2 => ?_) (fun j hj => ?_) g4 g5⟩
      · rw [g2 k h1 h2, q2.1 k h1]; exact nk k h1 h2
      · rw [g3 j hj, q2.2 j (by omega)]; exact n0 j (by omega) (by omega) (by omega) (by omega)
    | inr v =>
      obtain ⟨g0, g1, g2, ⟨q, w, hx, hm, hh⟩, g3, g4, g5, g6, g7, g8, g9⟩ := v3
      rw [oM_ri]
      obtain ⟨s4, a1, a2, a3, a4⟩ := x_asP hx w g2 (t := 0) (by decide)
      rw [a1, oB_s]
      refine ⟨v.1, upd2 (upd2 s4 0 6 0) 0 4 0, u.2, rfl, by rw [← g0], tx_ok h (q1.f8.tr g1) w a2 a3 a4 hm hh g3 g4 g5 g6 g7 (fun k hk => ?_) ?_⟩
      · rw [g8 k (by omega) (by omega) (by omega) (by omega), q2.1 k (by omega)]; exact nk k (by omega) (by omega)
      · rw [g9 28 (by omega), q2.2 28 (by omega)]; exact n0 28 (by decide) (by decide) (by decide) (by decide)
end TX
