/-! ===== drive, lay, clear, sue, drop; feed, end, see, forget, keep, back ===== -/
set_option maxRecDepth 100000
theorem i38 : inb 38 205 = true := by decide
theorem i39 : inb 39 205 = true := by decide
theorem i40 : inb 40 205 = true := by decide
section O4
variable {σ σ' s μ μ' : Nat → Nat → Int32} {p q : Nat → Nat}
theorem op_drive (h : Rel p σ μ) (l1 l2 : Int32) : oE (f_X0_drive σ l1 l2) (f_X7_drives μ l1 l2) RX := by
  have w := h.wf
  have hnp := w.np
  unfold f_X0_drive f_X7_drives
  refine oE_cell ⟨p, h⟩ ?_
  rintro c hc hm rfl
  refine oE_rag ⟨p, h⟩ ?_
  rintro k hk rfl
  have fr : f_X7_isFreeOn μ 0 (nI c) = some (b2i (freeAt p c)) := m_isFreeOn h.pm w (by decide) (by omega)
  rw [fr, x_isFree h.px w (by omega)]
  cases ef : freeAt p c with
  | false => exact oE_n rfl rfl ⟨p, h⟩
  | true =>
    refine oE_y rfl rfl ?_
    rw [h.px.pegs, h.pm.c38, i38]
    by_cases h7 : p 38 = 7
    · rw [h7]
      refine ⟨-3, σ, μ, if_pos rfl, (oC_t _).trans (if_pos rfl), p, h⟩
    · have n7 : ¬ nI (p 38) = 7 := fun q => h7 ((nI_eq (b := 7) (by omega) (by decide)).mp q)
      rw [if_neg n7, oC_t, if_neg n7]
      have hx := x_drives h.px w h.by.1 hc hm ef hk (by omega)
      have hy : oW (f_X7_drivesOn μ 0 (nI c) (nI k)) (fun s => FrP 0 μ s ∧ PgM s 0 (pDrive p c k)) := m_drivesOn h.pm w (by decide) hc hm ef hk (by omega)
      refine oE_of (A := fun s => FrT 0 σ s ∧ PgX s 0 (pDrive p c k) ∧ By s 0) (B := fun s => FrP 0 μ s ∧ PgM s 0 (pDrive p c k)) (nI (p 38 + 1)) (oW_B hx (fun s hs => oW_some ⟨?_, hs⟩)) (oW_B hy (fun s hs => oW_C (by decide) (oW_some ⟨?_, hs⟩))) (fun s s' hs hs' => ⟨_, h.upd hs.1.fx0 hs'.1.fm0 (w.drive hc hm ef hk (by omega)) hs.2.1 hs'.2 (pD_o c k (by omega) (by omega) (by omega)) hs.2.2⟩)
      · show s (sb 0) 0 = _
        rw [hs.2.1.pegs, pD38]
      · show s 1 (Int32.toNatClampNeg 38) = _
        rw [hs.2.c38, pD38]
theorem op_lay (h : Rel p σ μ) (l1 : Int32) : oE (f_X0_lay σ l1) (f_X7_lay μ l1) RX := by
  have w := h.wf
  have hns := w.ns
  unfold f_X0_lay f_X7_lay
  refine oE_cell ⟨p, h⟩ ?_
  rintro c hc hm rfl
  have fr : f_X7_isFreeOn μ 0 (nI c) = some (b2i (freeAt p c)) := m_isFreeOn h.pm w (by decide) (by omega)
  rw [fr, x_isFree h.px w (by omega)]
  cases ef : freeAt p c with
  | false => exact oE_n rfl rfl ⟨p, h⟩
  | true =>
    refine oE_y rfl rfl ?_
    rw [h.px.slugs, h.pm.c39, i39]
    by_cases h7 : p 39 = 4
    · rw [h7]
      refine ⟨-3, σ, μ, if_pos rfl, (oC_t _).trans (if_pos rfl), p, h⟩
    · have n7 : ¬ nI (p 39) = 4 := fun q => h7 ((nI_eq (b := 4) (by omega) (by decide)).mp q)
      rw [if_neg n7, oC_t, if_neg n7]
      have hx := x_lays h.px w h.by.1 hc ef (by omega)
      have hy : oW (f_X7_laysOn μ 0 (nI c)) (fun s => FrP 0 μ s ∧ PgM s 0 (pLay p c)) := m_laysOn h.pm w (by decide) hc ef (by omega)
      have e39 : pLay p c 39 = p 39 + 1 := pu_s _ _ _
      refine oE_of (A := fun s => FrT 0 σ s ∧ PgX s 0 (pLay p c) ∧ By s 0) (B := fun s => FrP 0 μ s ∧ PgM s 0 (pLay p c)) (nI (p 39 + 1)) (oW_B hx (fun s hs => oW_some ⟨?_, hs⟩)) (oW_B hy (fun s hs => oW_C (by decide) (oW_some ⟨?_, hs⟩))) (fun s s' hs hs' => ⟨_, h.upd hs.1.fx0 hs'.1.fm0 (w.lay hc ef (by omega)) hs.2.1 hs'.2 (pL_o c (by omega) (by omega)) hs.2.2⟩)
      · show s (sb 0) 3 = _
        rw [hs.2.1.slugs, e39]
      · show s 1 (Int32.toNatClampNeg 39) = _
        rw [hs.2.c39, e39]
theorem op_clear (h : Rel p σ μ) (l1 : Int32) : oE (f_X0_clear σ l1) (f_X7_clear μ l1) RX := by
  have w := h.wf
  have hns := w.ns
  unfold f_X0_clear f_X7_clear
  rw [h.px.slugs, h.pm.c39, inM_eq, i39, oC_t]
  rcases arg_m l1 (n := p 39) (by omega) with e | ⟨n, hn, rfl, e⟩
  · rw [e]
    exact ⟨-1, σ, μ, by rw [oB_s, if_pos rfl], by unfold f_X7_puts; rw [oB_s, if_pos rfl]; rfl, p, h⟩
  · rw [e]
    have c39 := h.pm.c39
    refine ⟨nI (p 39), _, _, by rw [oB_s, if_neg (by decide)]; rfl, by unfold f_X7_puts; rw [oB_s, if_neg (by decide), i39, c39]; rfl, pu p 39 n, ?_⟩
    refine h.put (i := 39) (by decide) rfl rfl (w.fewer (Or.inl ⟨rfl, hn⟩)) (fun j hl => ?_) h.by.1.put0
    unfold lv at *
    rw [pu_s, pu_n p (by omega : 38 ≠ 39), pu_n p (by omega : 40 ≠ 39), pu_n p (by omega : 41 ≠ 39)] at hl
    omega
theorem op_drop (h : Rel p σ μ) (l1 : Int32) : oE (f_X0_drop σ l1) (f_X7_drop μ l1) RX := by
  have w := h.wf
  have hnu := w.nu
  unfold f_X0_drop f_X7_drop
  rw [h.px.suits, h.pm.c40, inM_eq, i40, oC_t]
  rcases arg_m l1 (n := p 40) (by omega) with e | ⟨n, hn, rfl, e⟩
  · rw [e]
    exact ⟨-1, σ, μ, by rw [oB_s, if_pos rfl], by unfold f_X7_puts; rw [oB_s, if_pos rfl]; rfl, p, h⟩
  · rw [e]
    have c40 := h.pm.c40
    refine ⟨nI (p 40), _, _, by rw [oB_s, if_neg (by decide)]; rfl, by unfold f_X7_puts; rw [oB_s, if_neg (by decide), i40, c40]; rfl, pu p 40 n, ?_⟩
    refine h.put (i := 40) (by decide) rfl rfl (w.fewer (Or.inr ⟨rfl, hn⟩)) (fun j hl => ?_) h.by.1.put0
    unfold lv at *
    rw [pu_s, pu_n p (by omega : 38 ≠ 40), pu_n p (by omega : 39 ≠ 40), pu_n p (by omega : 41 ≠ 40)] at hl
    omega
theorem op_sue (h : Rel p σ μ) (l1 l2 : Int32) : oE (f_X0_sue σ l1 l2) (f_X7_sue μ l1 l2) RX := by
  have w := h.wf
  have hnu := w.nu
  have hnh := w.nh
  unfold f_X0_sue f_X7_sue
  refine oE_run h ⟨p, h⟩ ?_
  rintro a c ha hc rfl rfl
  rw [h.px.suits, h.pm.c40, i40, oC_t]
  by_cases h6 : p 40 = 6
  · rw [h6]
    exact ⟨-3, σ, μ, if_pos rfl, if_pos rfl, p, h⟩
  · have n6 : ¬ nI (p 40) = 6 := fun q => h6 ((nI_eq (b := 6) (by omega) (by decide)).mp q)
    rw [if_neg n6, if_neg n6]
    have w' := w.sue ha hc (by omega)
    have e40 : pSue p a c 40 = p 40 + 1 := pu_s _ _ _
    refine oE_of (A := fun s => FrT 0 σ s ∧ PgX s 0 (pSue p a c) ∧ By s 0) (B := fun s => FrP 0 μ s ∧ PgM s 0 (pSue p a c)) (nI (p 40 + 1)) ?_ ?_ (fun s s' hs hs' => ⟨_, h.upd hs.1.fx0 hs'.1.fm0 w' hs.2.1 hs'.2 (pS_o a c (by omega) (by omega) (by omega)) hs.2.2⟩)
    · rw [n_2, nI_mul, nI_clamp (by omega), nbN (by omega), nbN (by omega)]
      refine oW_C (inb_t (by omega) (by decide)) (oW_L ?_)
      rw [u2_k _ _ _ (by omega : sb 0 ≠ sb 0 + 5), h.px.suits, nI_mul, nI_1, nI_clamp (by omega)]
      refine oW_C (inb_t (by omega) (by decide)) (oW_L (oW_L ?_))
      rw [u2_k _ _ _ (by omega : sb 0 ≠ sb 0 + 5), u2_k _ _ _ (by omega : sb 0 ≠ sb 0 + 5), h.px.suits, nI_1]
      refine oW_some ⟨by dsimp only; exact u2_s _ _ _ _, ((FrT.rf.put (m := 5) rfl (by decide)).put (m := 5) rfl (by decide)).put (m := 0) rfl (by decide), ?_, ((h.by.1.put (m := 5) rfl (fitB_nI (by omega))).put (m := 5) rfl (fitB_nI (by omega))).put0⟩
      have p1 := (h.px.px w).put (i := 26 + p 40) (n := a) (by omega) (k := sb 0 + 5) (j := 2 * p 40) (by rw [(ax_6 (by omega)).1]) (by rw [(ax_6 (by omega)).2])
      have p2 := p1.put (i := 32 + p 40) (n := c) (by omega) (k := sb 0 + 5) (j := 2 * p 40 + 1) (by rw [(ax_7 (by omega)).1]) (by rw [(ax_7 (by omega)).2])
      have p3 := p2.put (i := 40) (n := p 40 + 1) (by omega) (k := sb 0) (j := 7) rfl rfl
      exact p3.pg w' (fun j _ hl => lvS a c (by omega) hl)
    · rw [n_26, n_32, nI_add, nI_add, nI_clamp (by omega), nI_clamp (by omega)]
      refine oW_C (inb_t (by omega) (by decide)) (oW_L (oW_C (inb_t (by omega) (by decide)) (oW_L (oW_C (by decide) (oW_C (by decide) (oW_L (oW_C (by decide) ?_)))))))
      rw [show (Int32.toNatClampNeg 40) = 40 from rfl, u2_s, u2_j _ _ _ (by omega : 40 ≠ 32 + p 40), u2_j _ _ _ (by omega : 40 ≠ 26 + p 40), show μ 1 40 = nI (p 40) from h.pm.c40, nI_1]
      refine oW_some ⟨rfl, ((FrP.rf.put (i := 26 + p 40) (Nat.zero_add _).symm (by omega)).put (i := 32 + p 40) (Nat.zero_add _).symm (by omega)).put (i := 40) rfl (by decide), ?_⟩
      have p3 := (((h.pm.mx w).put (i := 26 + p 40) (n := a) (Nat.zero_add _).symm).put (i := 32 + p 40) (n := c) (Nat.zero_add _).symm).put (i := 40) (n := p 40 + 1) (j := 40) rfl
      exact p3.pg w' (fun j _ hl => lvS a c (by omega) hl)
theorem op_feed (h : Rel p σ μ) (l1 : Int32) : oE (f_X0_feed σ l1) (f_X7_feed μ l1) RX := by
  obtain ⟨n, hn, e1, e2, e3⟩ := h.tap
  unfold f_X0_feed f_X7_feed
  refine oE_arg (a := 0) (b := 127) rfl rfl (by decide) ⟨p, h⟩ ?_
  rintro v _ hv rfl
  rw [e1, e2]
  by_cases hn0 : n = 160
  · subst hn0
    exact ⟨-3, σ, μ, if_pos rfl, if_pos rfl, p, h⟩
  · have n0 : ¬ nI n = 160 := fun q => hn0 ((nI_eq (b := 160) (by omega) (by decide)).mp q)
    rw [if_neg n0, if_neg n0, nI_clamp (by omega), nbN (by omega), inb_t (by omega) (by decide), oC_t, oC_t]
    refine oE_of (A := fun s => s = upd2 (upd2 σ 8 n (nI v)) 0 13 (nI (n + 1))) (B := fun s => s = upd2 (upd2 μ 3 n (nI v)) 0 6 (nI (n + 1))) (nI (n + 1)) (oW_L (oW_L ?_)) (oW_L (oW_L ?_)) ?_
    · rw [u2_k _ _ _ (by decide : 0 ≠ 8), e1, nI_1, u2_s]
      exact oW_some ⟨rfl, rfl⟩
    · rw [u2_k _ _ _ (by decide : 0 ≠ 3), e2, nI_1, u2_s]
      exact oW_some ⟨rfl, rfl⟩
    · rintro s s' rfl rfl
      have fx : ∀ j, j ≠ 13 → upd2 (upd2 σ 8 n (nI v)) 0 13 (nI (n + 1)) 0 j = σ 0 j := fun j hj => by rw [u2_j _ _ _ hj, u2_k _ _ _ (by decide)]
      have fm : ∀ j, j ≠ 6 → upd2 (upd2 μ 3 n (nI v)) 0 6 (nI (n + 1)) 0 j = μ 0 j := fun j hj => by rw [u2_j _ _ _ hj, u2_k _ _ _ (by decide)]
      have cx : ∀ k, k ≠ 0 → k ≠ 8 → upd2 (upd2 σ 8 n (nI v)) 0 13 (nI (n + 1)) k = σ k := fun k a b => by rw [u2_k _ _ _ a, u2_k _ _ _ b]
      have cm : ∀ k, k ≠ 0 → k ≠ 3 → upd2 (upd2 μ 3 n (nI v)) 0 6 (nI (n + 1)) k = μ k := fun k a b => by rw [u2_k _ _ _ a, u2_k _ _ _ b]
      refine ⟨p, h.side (fun k hk => cx k (by omega) (by omega)) (cm 1 (by decide) (by decide)) (cm 9 (by decide) (by decide)) (cm 4 (by decide) (by decide)) (cm 5 (by decide) (by decide)) (fm 1 (by decide)) (fx 14 (by decide)) (fm 7 (by decide)) (fx 22 (by decide)) (fm 28 (by decide)) (fx 4 (by decide)) ⟨n + 1, by omega, u2_s _ _ _ _, u2_s _ _ _ _, fun i hi => ?_⟩ ?_⟩
      · rw [u2_k _ _ _ (by decide : 8 ≠ 0), u2_k _ _ _ (by decide : 3 ≠ 0)]
        by_cases e : i = n
        · subst e
          exact ⟨v, by omega, u2_s _ _ _ _, u2_s _ _ _ _⟩
        · rw [u2_j _ _ _ e, u2_j _ _ _ e]
          exact e3 i (by omega)
      · obtain ⟨m, g1, g2, g3, g4⟩ := h.see
        refine ⟨m, g1, by rw [fx 6 (by decide), g2], by rw [fm 22 (by decide), g3], ?_⟩
        rw [cx 6 (by decide) (by decide), cm 7 (by decide) (by decide)]
        exact g4
theorem op_end (h : Rel p σ μ) (l1 : Int32) : oE (f_X0_end σ l1) (f_X7_end μ l1) RX := by
  obtain ⟨n, hn, e1, e2, e3⟩ := h.tap
  unfold f_X0_end f_X7_end
  rw [e1, e2, inM_eq]
  rcases arg_m l1 (n := n) (by omega) with e | ⟨m, hm, rfl, e⟩
  · rw [e]; exact oE_n rfl rfl ⟨p, h⟩
  rw [e]
  refine oE_y rfl rfl ?_
  have fx : ∀ j, j ≠ 13 → upd2 σ 0 13 (nI m) 0 j = σ 0 j := fun j hj => u2_j _ _ _ hj
  have fm : ∀ j, j ≠ 6 → upd2 μ 0 6 (nI m) 0 j = μ 0 j := fun j hj => u2_j _ _ _ hj
  have cx : ∀ k, k ≠ 0 → upd2 σ 0 13 (nI m) k = σ k := fun k a => u2_k _ _ _ a
  have cm : ∀ k, k ≠ 0 → upd2 μ 0 6 (nI m) k = μ k := fun k a => u2_k _ _ _ a
  refine ⟨nI n, _, _, rfl, rfl, p, ?_⟩
  refine h.side (fun k hk => cx k (by omega)) (cm 1 (by decide)) (cm 9 (by decide)) (cm 4 (by decide)) (cm 5 (by decide)) (fm 1 (by decide)) (fx 14 (by decide)) (fm 7 (by decide)) (fx 22 (by decide)) (fm 28 (by decide)) (fx 4 (by decide)) ⟨m, by omega, u2_s _ _ _ _, u2_s _ _ _ _, fun i hi => ?_⟩ ?_
  · rw [cx 8 (by decide), cm 3 (by decide)]
    exact e3 i (by omega)
  · obtain ⟨m, g1, g2, g3, g4⟩ := h.see
    refine ⟨m, g1, by rw [fx 6 (by decide), g2], by rw [fm 22 (by decide), g3], ?_⟩
    rw [cx 6 (by decide), cm 7 (by decide)]
    exact g4
theorem op_forget (h : Rel p σ μ) (l1 : Int32) : oE (f_X0_forget σ l1) (f_X7_forget μ l1) RX := by
  obtain ⟨n, hn, e1, e2, e3⟩ := h.see
  unfold f_X0_forget f_X7_forget
  rw [e1, e2, inM_eq]
  rcases arg_m l1 (n := n) (by omega) with e | ⟨m, hm, rfl, e⟩
  · rw [e]; exact oE_n rfl rfl ⟨p, h⟩
  rw [e]
  refine oE_y rfl rfl ?_
  have fx : ∀ j, j ≠ 6 → upd2 σ 0 6 (nI m) 0 j = σ 0 j := fun j hj => u2_j _ _ _ hj
  have fm : ∀ j, j ≠ 22 → upd2 μ 0 22 (nI m) 0 j = μ 0 j := fun j hj => u2_j _ _ _ hj
  have cx : ∀ k, k ≠ 0 → upd2 σ 0 6 (nI m) k = σ k := fun k a => u2_k _ _ _ a
  have cm : ∀ k, k ≠ 0 → upd2 μ 0 22 (nI m) k = μ k := fun k a => u2_k _ _ _ a
  refine ⟨nI n, _, _, rfl, rfl, p, ?_⟩
  refine h.side (fun k hk => cx k (by omega)) (cm 1 (by decide)) (cm 9 (by decide)) (cm 4 (by decide)) (cm 5 (by decide)) (fm 1 (by decide)) (fx 14 (by decide)) (fm 7 (by decide)) (fx 22 (by decide)) (fm 28 (by decide)) (fx 4 (by decide)) ?_ ⟨m, by omega, u2_s _ _ _ _, u2_s _ _ _ _, fun i hi => ?_⟩
  · obtain ⟨m, g1, g2, g3, g4⟩ := h.tap
    refine ⟨m, g1, by rw [fx 13 (by decide), g2], by rw [fm 6 (by decide), g3], ?_⟩
    rw [cx 8 (by decide), cm 3 (by decide)]
    exact g4
  · rw [cx 6 (by decide), cm 7 (by decide)]
    exact e3 i (by omega)
theorem see_ok (h : Rel p σ μ) {a c : Nat} (ha : a < 4) (hc : c < 8) {l3 r : Int32} (hr : (l3 = 9 ∧ r = -4) ∨ (¬ l3 = 9 ∧ r = l3 ∧ ∃ k, k < 128 ∧ l3 = nI k)) : oE (f_X0_see_b29 σ (nI a) (nI c) l3) (f_X7_see_b35 μ (nI a) (nI c) l3) RX := by
  obtain ⟨n, hn, e1, e2, e3⟩ := h.see
  unfold f_X0_see_b29 f_X7_see_b35
  rw [e1, e2]
  by_cases h6 : n = 6
  · subst h6
    exact ⟨-3, σ, μ, if_pos rfl, if_pos rfl, p, h⟩
  have n6 : ¬ nI n = 6 := fun q => h6 ((nI_eq (b := 6) (by omega) (by decide)).mp q)
  rw [if_neg n6, if_neg n6, n_3, nI_mul, nI_clamp (by omega), nbN (by omega), nbN (by omega), inb_t (by omega) (by decide), oC_t, oC_t]
  refine oE_of (A := fun s => s = upd2 (upd2 (upd2 (upd2 σ 6 (3 * n) (nI a)) 6 (3 * n + 1) (nI c)) 6 (3 * n + 2) r) 0 6 (nI (n + 1))) (B := fun s => s = upd2 (upd2 (upd2 (upd2 μ 7 (3 * n) (nI a)) 7 (3 * n + 1) (nI c)) 7 (3 * n + 2) r) 0 22 (nI (n + 1))) (nI (n + 1)) (oW_L ?_) (oW_L ?_) ?_
  · rw [u2_k _ _ _ (by decide : 0 ≠ 6), e1, nI_mul, show nI (3 * n) + 1 = nI (3 * n + 1) from nI_1 _, nI_clamp (by omega)]
    refine oW_C (inb_t (by omega) (by decide)) (oW_L ?_)
    rw [u2_k _ _ _ (by decide : 0 ≠ 6), u2_k _ _ _ (by decide : 0 ≠ 6), e1, nI_mul, show nI (3 * n) + 2 = nI (3 * n + 2) from nI_add _ 2]
    have fin : ∀ k3, nbt (Int8.toInt32 (Int32.toInt8 k3)) = r → oW (f_X0_see_b93 (upd2 (upd2 σ 6 (3 * n) (nI a)) 6 (3 * n + 1) (nI c)) k3 (nI (3 * n + 2))) (fun z => z.1 = nI (n + 1) ∧ z.2 = upd2 (upd2 (upd2 (upd2 σ 6 (3 * n) (nI a)) 6 (3 * n + 1) (nI c)) 6 (3 * n + 2) r) 0 6 (nI (n + 1))) := by
      intro k3 ek
      unfold f_X0_see_b93
      rw [ek, nI_clamp (by omega)]
      refine oW_C (inb_t (by omega) (by decide)) (oW_L (oW_L ?_))
      rw [u2_k _ _ _ (by decide : 0 ≠ 6), u2_k _ _ _ (by decide : 0 ≠ 6), u2_k _ _ _ (by decide : 0 ≠ 6), e1, nI_1, u2_s]
      exact oW_some ⟨rfl, rfl⟩
    rcases hr with ⟨e, e'⟩ | ⟨e, e', k, hk, e4⟩
    · exact oW_t e (fin _ (by rw [e']; exact nb4))
    · exact oW_f e (fin _ (by rw [e', e4]; exact nbN hk))
  · rw [u2_k _ _ _ (by decide : 0 ≠ 7), e2, nI_mul, show nI (3 * n) + 1 = nI (3 * n + 1) from nI_1 _, nI_clamp (by omega)]
    refine oW_C (inb_t (by omega) (by decide)) (oW_L ?_)
    rw [u2_k _ _ _ (by decide : 0 ≠ 7), u2_k _ _ _ (by decide : 0 ≠ 7), e2, nI_mul, show nI (3 * n) + 2 = nI (3 * n + 2) from nI_add _ 2]
    have fin : ∀ k3, k3 = r → oW (f_X7_see_b97 (upd2 (upd2 μ 7 (3 * n) (nI a)) 7 (3 * n + 1) (nI c)) k3 (nI (3 * n + 2))) (fun z => z.1 = nI (n + 1) ∧ z.2 = upd2 (upd2 (upd2 (upd2 μ 7 (3 * n) (nI a)) 7 (3 * n + 1) (nI c)) 7 (3 * n + 2) r) 0 22 (nI (n + 1))) := by
      intro k3 ek
      unfold f_X7_see_b97
      rw [ek, nI_clamp (by omega)]
      refine oW_C (inb_t (by omega) (by decide)) (oW_L (oW_L ?_))
      rw [u2_k _ _ _ (by decide : 0 ≠ 7), u2_k _ _ _ (by decide : 0 ≠ 7), u2_k _ _ _ (by decide : 0 ≠ 7), e2, nI_1, u2_s]
      exact oW_some ⟨rfl, rfl⟩
    rcases hr with ⟨e, e'⟩ | ⟨e, e', k, hk, e4⟩
    · exact oW_t e (fin _ e'.symm)
    · exact oW_f e (fin _ e'.symm)
  · rintro s s' rfl rfl
    have cx : ∀ k, k ≠ 0 → k ≠ 6 → upd2 (upd2 (upd2 (upd2 σ 6 (3 * n) (nI a)) 6 (3 * n + 1) (nI c)) 6 (3 * n + 2) r) 0 6 (nI (n + 1)) k = σ k := fun k a b => by rw [u2_k _ _ _ a, u2_k _ _ _ b, u2_k _ _ _ b, u2_k _ _ _ b]
    have cm : ∀ k, k ≠ 0 → k ≠ 7 → upd2 (upd2 (upd2 (upd2 μ 7 (3 * n) (nI a)) 7 (3 * n + 1) (nI c)) 7 (3 * n + 2) r) 0 22 (nI (n + 1)) k = μ k := fun k a b => by rw [u2_k _ _ _ a, u2_k _ _ _ b, u2_k _ _ _ b, u2_k _ _ _ b]
    have fx : ∀ j, j ≠ 6 → upd2 (upd2 (upd2 (upd2 σ 6 (3 * n) (nI a)) 6 (3 * n + 1) (nI c)) 6 (3 * n + 2) r) 0 6 (nI (n + 1)) 0 j = σ 0 j := fun j hj => by rw [u2_j _ _ _ hj, u2_k _ _ _ (by decide), u2_k _ _ _ (by decide), u2_k _ _ _ (by decide)]
    have fm : ∀ j, j ≠ 22 → upd2 (upd2 (upd2 (upd2 μ 7 (3 * n) (nI a)) 7 (3 * n + 1) (nI c)) 7 (3 * n + 2) r) 0 22 (nI (n + 1)) 0 j = μ 0 j := fun j hj => by rw [u2_j _ _ _ hj, u2_k _ _ _ (by decide), u2_k _ _ _ (by decide), u2_k _ _ _ (by decide)]
    have vx : ∀ i, upd2 (upd2 (upd2 (upd2 σ 6 (3 * n) (nI a)) 6 (3 * n + 1) (nI c)) 6 (3 * n + 2) r) 0 6 (nI (n + 1)) 6 i = if i = 3 * n + 2 then r else if i = 3 * n + 1 then nI c else if i = 3 * n then nI a else σ 6 i := fun i => by simp [upd2, updc, upd]
    have vm : ∀ i, upd2 (upd2 (upd2 (upd2 μ 7 (3 * n) (nI a)) 7 (3 * n + 1) (nI c)) 7 (3 * n + 2) r) 0 22 (nI (n + 1)) 7 i = if i = 3 * n + 2 then r else if i = 3 * n + 1 then nI c else if i = 3 * n then nI a else μ 7 i := fun i => by simp [upd2, updc, upd]
    refine ⟨p, h.side (fun k hk => cx k (by omega) (by omega)) (cm 1 (by decide) (by decide)) (cm 9 (by decide) (by decide)) (cm 4 (by decide) (by decide)) (cm 5 (by decide) (by decide)) (fm 1 (by decide)) (fx 14 (by decide)) (fm 7 (by decide)) (fx 22 (by decide)) (fm 28 (by decide)) (fx 4 (by decide)) ?_ ⟨n + 1, by omega, u2_s _ _ _ _, u2_s _ _ _ _, fun i hi => ?_⟩⟩
    · obtain ⟨m, g1, g2, g3, g4⟩ := h.tap
      refine ⟨m, g1, by rw [fx 13 (by decide), g2], by rw [fm 6 (by decide), g3], ?_⟩
      rw [cx 8 (by decide) (by decide), cm 3 (by decide) (by decide)]
      exact g4
    · rw [vx, vx, vx, vm, vm, vm]
      by_cases e : i = n
      · subst e
        refine ⟨a, c, r, ha, hc, ?_, ?_, ?_, ?_, ?_, ?_⟩
        · rw [if_neg (by omega), if_neg (by omega), if_pos rfl]
        · rw [if_neg (by omega), if_neg (by omega), if_pos rfl]
        · rw [if_neg (by omega), if_pos rfl]
        · rw [if_neg (by omega), if_pos rfl]
        · rw [if_pos rfl]
        · rw [if_pos rfl]
      · rw [if_neg (by omega), if_neg (by omega), if_neg (by omega), if_neg (by omega), if_neg (by omega), if_neg (by omega), if_neg (by omega), if_neg (by omega), if_neg (by omega), if_neg (by omega), if_neg (by omega), if_neg (by omega), if_neg (by omega), if_neg (by omega), if_neg (by omega), if_neg (by omega), if_neg (by omega), if_neg (by omega)]
        exact e3 i (by omega)
theorem op_see (h : Rel p σ μ) (l1 l2 l3 : Int32) : oE (f_X0_see σ l1 l2 l3) (f_X7_see μ l1 l2 l3) RX := by
  have w := h.wf
  have hnh := w.nh
  unfold f_X0_see f_X7_see
  refine oE_run h ⟨p, h⟩ ?_
  rintro a c ha hc rfl rfl
  rw [inM_eq]
  rcases arg_c (a := 0) (b := 6) l3 (lo := 0) (hi := 6) rfl rfl (by decide) with e | ⟨k, _, hk, rfl, e⟩
  · rw [e, oB_s, oB_s, if_pos rfl, if_pos rfl]
    by_cases e9 : l3 = 9
    · rw [if_pos e9, if_pos e9]
      exact see_ok h (by omega) hc (r := -4) (Or.inl ⟨e9, rfl⟩)
    · rw [if_neg e9, if_neg e9]
      exact oE_s (-1) ⟨p, h⟩
  · rw [e]
    refine oE_y rfl rfl (see_ok h (by omega) hc (r := nI k) (Or.inr ⟨fun q => ?_, rfl, k, by omega, rfl⟩))
    have := (nI_eq (b := 9) (by omega) (by decide)).mp q
    omega
end O4
