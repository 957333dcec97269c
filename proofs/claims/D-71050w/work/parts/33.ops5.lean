/-! ===== keep, back ===== -/
set_option maxRecDepth 100000
section O5
variable {σ σ' s μ μ' : Nat → Nat → Int32} {p q : Nat → Nat}
theorem FrR.by (h : FrR σ σ') {t : Nat} (g : By σ t) : By σ' t := g.same (fun j _ => h.1 _ (by unfold sb; omega) (by unfold sb; omega))
theorem Rel.imgs (h : Rel p σ μ) (hx : ∀ k, k ≠ 0 → k < 18 → σ' k = σ k) (fx : ∀ j, j ≠ 4 → σ' 0 j = σ 0 j) (hm : ∀ j, j < 41 → μ' 1 j = μ 1 j) (cm : ∀ k, k ≠ 0 → k ≠ 1 → k ≠ 9 → μ' k = μ k) (fm : μ' 0 = μ 0) (im : Img p σ' μ') (b2 : By σ' 2) (b3 : By σ' 3) : Rel p σ' μ' := by
  refine ⟨h.wf, h.px.same (fun j hj => hx _ (by unfold sb; omega) (by unfold sb; omega)), h.pm.same h.wf (fun j hj => hm _ (by omega)), by rw [fm]; exact h.hg, by rw [fx 14 (by decide), fm]; exact h.flt, by rw [fx 22 (by decide), fm]; exact h.trn, im, ?_, ?_, ?_, h.by.1.same (fun j hj => hx _ (by unfold sb; omega) (by unfold sb; omega)), b2, b3⟩
  · unfold Tap
    rw [fx 13 (by decide), fm, hx 8 (by decide) (by decide), cm 3 (by decide) (by decide) (by decide)]
    exact h.tap
  · unfold See
    rw [fx 6 (by decide), fm, hx 6 (by decide) (by decide), cm 7 (by decide) (by decide) (by decide)]
    exact h.see
  · unfold Cst
    rw [cm 4 (by decide) (by decide) (by decide), cm 5 (by decide) (by decide) (by decide)]
    exact h.cst
theorem op_keep (h : Rel p σ μ) (l1 : Int32) : oE (f_X0_keep σ l1) (f_X7_keep μ l1) RX := by
  have w := h.wf
  obtain ⟨a, b, e1, e2, e3, e4, e5⟩ := h.img
  unfold f_X0_keep f_X7_keep f_X7_keep_b37
  refine oE_arg (a := 0) (b := 1) rfl rfl (by decide) ⟨p, h⟩ ?_
  rintro k _ hk rfl
  have hcases : k = 0 ∨ k = 1 := by omega
  rcases hcases with rfl | rfl
  · rw [show (nI 0).toNatClampNeg = 0 from rfl, show (41 : Int32) * (nI 0 + 1) = nI 41 from rfl, show inb (nI 0) 2 = true from by decide, oC_t, e1]
    have cp : oW (f_X7_copies μ 0 (nI 41)) (fun s => FrP 41 μ s ∧ PgM s 41 p) := m_copiesP h.pm w (by decide) (by decide) (by decide)
    refine oE_of (A := fun z => ∃ s, z = upd2 s 0 4 (nI (1 + (if b then 2 else 0))) ∧ FrT 2 σ s ∧ PgX s 2 p ∧ By s 2) (B := fun z => ∃ s, z = upd2 s 9 0 1 ∧ FrP 41 μ s ∧ PgM s 41 p) (b2i a) (oW_B (x_asP (t := 2 + 0) h.px w h.by.1 (by decide)) (fun s hs => oW_L (oW_some ⟨?_, s, ?_, hs⟩))) (oW_B cp (fun s hs => ?_)) ?_
    · dsimp only
      cases a <;> cases b <;> decide
    · dsimp only
      rw [hs.1 0 (by unfold sb; omega), e1]
      congr 1
      cases a <;> cases b <;> decide
    · rw [oC_t, hs.1.1 9 (by decide), e2]
      cases a with
      | false => exact oW_t rfl (oW_L (oW_some ⟨rfl, s, rfl, hs⟩))
      | true => exact oW_f (by decide) (oW_L (oW_some ⟨rfl, s, rfl, hs⟩))
    · rintro _ _ ⟨s, rfl, f1, f2, f3⟩ ⟨s', rfl, g1, g2⟩
      refine ⟨p, h.imgs (fun k h1 h2 => ?_) (fun j hj => ?_) (fun j hj => ?_) (fun k h1 h2 h3 => ?_) ?_ ⟨true, b, ?_, ?_, ?_, fun _ => ⟨p, w, ?_, ?_, rfl⟩, fun z => ?_⟩ ?_ ?_⟩
      · rw [u2_k _ _ _ h1, f1 k (by unfold sb; omega)]
      · rw [u2_j _ _ _ hj, f1 0 (by unfold sb; omega)]
      · rw [u2_k _ _ _ (by decide), g1.2 j (by omega)]
      · rw [u2_k _ _ _ h3, g1.1 k h2]
      · rw [u2_k _ _ _ (by decide), g1.1 0 (by decide)]
      · rw [u2_s]; rfl
      · rw [u2_s]; rfl
      · rw [u2_j _ _ _ (by decide), g1.1 9 (by decide), e3]
      · exact f2.same (fun j hj => u2_k _ _ _ (by unfold sb; omega))
      · exact g2.same w (fun j hj => by rw [u2_k _ _ _ (by decide)])
      · obtain ⟨r, r1, r2, r3, r4⟩ := e5 z
        exact ⟨r, r1, r2.same (fun j hj => by rw [u2_k _ _ _ (by unfold sb; omega), f1 _ (by unfold sb; omega)]), r3.same r1 (fun j hj => by rw [u2_k _ _ _ (by decide), g1.2 _ (by omega)]), r4⟩
      · exact f3.same (fun j hj => u2_k _ _ _ (by unfold sb; omega))
      · exact h.by.2.2.same (fun j hj => by rw [u2_k _ _ _ (by unfold sb; omega), f1 _ (by unfold sb; omega)])
  · rw [show (nI 1).toNatClampNeg = 1 from rfl, show (41 : Int32) * (nI 1 + 1) = nI 82 from rfl, show inb (nI 1) 2 = true from by decide, oC_t, e1]
    have cp : oW (f_X7_copies μ 0 (nI 82)) (fun s => FrP 82 μ s ∧ PgM s 82 p) := m_copiesP h.pm w (by decide) (by decide) (by decide)
    refine oE_of (A := fun z => ∃ s, z = upd2 s 0 4 (nI ((if a then 1 else 0) + 2)) ∧ FrT 3 σ s ∧ PgX s 3 p ∧ By s 3) (B := fun z => ∃ s, z = upd2 s 9 1 1 ∧ FrP 82 μ s ∧ PgM s 82 p) (b2i b) (oW_B (x_asP (t := 2 + 1) h.px w h.by.1 (by decide)) (fun s hs => oW_L (oW_some ⟨?_, s, ?_, hs⟩))) (oW_B cp (fun s hs => ?_)) ?_
    · dsimp only
      cases a <;> cases b <;> decide
    · dsimp only
      rw [hs.1 0 (by unfold sb; omega), e1]
      congr 1
      cases a <;> cases b <;> decide
    · rw [oC_t, hs.1.1 9 (by decide), e3]
      cases b with
      | false => exact oW_t rfl (oW_L (oW_some ⟨rfl, s, rfl, hs⟩))
      | true => exact oW_f (by decide) (oW_L (oW_some ⟨rfl, s, rfl, hs⟩))
    · rintro _ _ ⟨s, rfl, f1, f2, f3⟩ ⟨s', rfl, g1, g2⟩
      refine ⟨p, h.imgs (fun k h1 h2 => ?_) (fun j hj => ?_) (fun j hj => ?_) (fun k h1 h2 h3 => ?_) ?_ ⟨a, true, ?_, ?_, ?_, fun z => ?_, fun _ => ⟨p, w, ?_, ?_, rfl⟩⟩ ?_ ?_⟩
      · rw [u2_k _ _ _ h1, f1 k (by unfold sb; omega)]
      · rw [u2_j _ _ _ hj, f1 0 (by unfold sb; omega)]
      · rw [u2_k _ _ _ (by decide), g1.2 j (by omega)]
      · rw [u2_k _ _ _ h3, g1.1 k h2]
      · rw [u2_k _ _ _ (by decide), g1.1 0 (by decide)]
      · rw [u2_s]; rfl
      · rw [u2_j _ _ _ (by decide), g1.1 9 (by decide), e2]
      · rw [u2_s]; rfl
      · obtain ⟨r, r1, r2, r3, r4⟩ := e4 z
        exact ⟨r, r1, r2.same (fun j hj => by rw [u2_k _ _ _ (by unfold sb; omega), f1 _ (by unfold sb; omega)]), r3.same r1 (fun j hj => by rw [u2_k _ _ _ (by decide), g1.2 _ (by omega)]), r4⟩
      · exact f2.same (fun j hj => u2_k _ _ _ (by unfold sb; omega))
      · exact g2.same w (fun j hj => by rw [u2_k _ _ _ (by decide)])
      · exact h.by.2.1.same (fun j hj => by rw [u2_k _ _ _ (by unfold sb; omega), f1 _ (by unfold sb; omega)])
      · exact f3.same (fun j hj => u2_k _ _ _ (by unfold sb; omega))
theorem back_ok (h : Rel p σ μ) (w : WF q) {t o : Nat} (ht : t ≠ 0) (ho : 41 ≤ o ∧ o + 41 ≤ 205) (gx : PgX σ t q) (gb : By σ t) (gm : PgM μ o q) (e : q 41 = p 41) : oE (oB (f_X5_as σ 0 t) fun r9 => oB (f_X0_wonByAny r9 0) fun r11 => oB (f_J7_bitCount r11.1) fun r13 => some (r13, r11.2)) (oB (f_X7_copies μ (nI o) 0) fun r7 => oB (f_X7_winsOn r7 0 (-4)) fun r9 => oB (f_X7_bitsOf r9.1) fun r11 => some (r11, r9.2)) RX := by
  have hnu := w.nu
  have cp : oW (f_X7_copies μ (nI o) 0) (fun s => FrP 0 μ s ∧ PgM s 0 q) := m_copiesP (b := 0) gm w (by omega) (by decide) (by omega)
  refine oE_of (A := fun z => FX0 σ z ∧ PgX z 0 q ∧ By z 0) (B := fun z => FM0 μ z ∧ PgM z 0 q) (nI (cnt (isA q) (q 40))) (oW_B (x_asP gx w gb (Ne.symm ht)) (fun s hs => oW_B (x_wonByAny hs.2.1 w) (fun r hr => ?_))) (oW_B cp (fun s hs => oW_B (m_winsA0 hs.2 w) (fun r hr => ?_))) (fun z z' hz hz' => ⟨q, h.upd hz.1 hz'.1 w hz.2.1 hz'.2 e hz.2.2⟩)
  · rw [hr.1]
    exact oW_Be (bitc_msk (by omega)) (oW_some ⟨rfl, hs.1.fx0.tr hr.2.fx.fx0, hr.2.pg hs.2.1, hr.2.by hs.2.2⟩)
  · rw [hr.1]
    exact oW_Be (bitm_msk (by omega)) (oW_some ⟨rfl, hs.1.fm0.tr hr.2.fm.fm0, hr.2.pg hs.2⟩)
theorem op_back (h : Rel p σ μ) (l1 : Int32) : oE (f_X0_back σ l1) (f_X7_back μ l1) RX := by
  obtain ⟨a, b, e1, e2, e3, e4, e5⟩ := h.img
  unfold f_X0_back f_X7_back
  refine oE_arg (a := 0) (b := 1) rfl rfl (by decide) ⟨p, h⟩ ?_
  rintro k _ hk rfl
  have hm : (if a then 1 else 0) + (if b then 2 else 0) < 2 ^ 31 := by cases a <;> cases b <;> decide
  rw [e1, has_nI hm (by omega)]
  have hcases : k = 0 ∨ k = 1 := by omega
  rcases hcases with rfl | rfl
  · rw [show (nI 0).toNatClampNeg = 0 from rfl, show (41 : Int32) * (nI 0 + 1) = nI 41 from rfl, show inb (nI 0) 2 = true from by decide, oC_t, oC_t, e2, show Nat.testBit ((if a then 1 else 0) + (if b then 2 else 0)) 0 = a from by cases a <;> cases b <;> decide, oB_s]
    cases ha : a with
    | false => exact ⟨-2, σ, μ, if_pos rfl, if_pos rfl, p, h⟩
    | true =>
      rw [if_neg (show ¬ b2i true = 0 by decide), if_neg (show ¬ b2i true = 0 by decide)]
      obtain ⟨r, r1, r2, r3, r4⟩ := e4 ha
      exact back_ok h r1 (by decide) (by decide) r2 h.by.2.1 r3 r4
  · rw [show (nI 1).toNatClampNeg = 1 from rfl, show (41 : Int32) * (nI 1 + 1) = nI 82 from rfl, show inb (nI 1) 2 = true from by decide, oC_t, oC_t, e3, show Nat.testBit ((if a then 1 else 0) + (if b then 2 else 0)) 1 = b from by cases a <;> cases b <;> decide, oB_s]
    cases hb : b with
    | false => exact ⟨-2, σ, μ, if_pos rfl, if_pos rfl, p, h⟩
    | true =>
      rw [if_neg (show ¬ b2i true = 0 by decide), if_neg (show ¬ b2i true = 0 by decide)]
      obtain ⟨r, r1, r2, r3, r4⟩ := e5 hb
      exact back_ok h r1 (by decide) (by decide) r2 h.by.2.2 r3 r4
end O5
