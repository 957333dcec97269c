/-! ===== the sheets, in step ===== -/
set_option maxRecDepth 100000
theorem sh8b (x : BitVec 32) : (x <<< (24 : Nat)).sshiftRight 24 = (x.setWidth 8).signExtend 32 := by
  apply BitVec.eq_of_getLsbD_eq
  intro i hi
  rw [BitVec.getLsbD_sshiftRight, BitVec.getLsbD_signExtend, BitVec.msb_eq_getLsbD_last, BitVec.msb_eq_getLsbD_last, BitVec.getLsbD_shiftLeft, BitVec.getLsbD_shiftLeft, BitVec.getLsbD_setWidth, BitVec.getLsbD_setWidth]
  rw [decide_eq_false (show ¬ 32 ≤ i by omega), decide_eq_true (show i < 32 from hi)]
  by_cases h : i < 8
  · rw [if_pos h, if_pos (show 24 + i < 32 by omega), decide_eq_true h, decide_eq_true (show 24 + i < 32 by omega), decide_eq_false (show ¬ 24 + i < 24 by omega), Nat.add_sub_cancel_left]
    simp
  · rw [if_neg h, if_neg (show ¬ 24 + i < 32 by omega)]
    simp
theorem sh16b (x : BitVec 32) : (x <<< (16 : Nat)).sshiftRight 16 = (x.setWidth 16).signExtend 32 := by
  apply BitVec.eq_of_getLsbD_eq
  intro i hi
  rw [BitVec.getLsbD_sshiftRight, BitVec.getLsbD_signExtend, BitVec.msb_eq_getLsbD_last, BitVec.msb_eq_getLsbD_last, BitVec.getLsbD_shiftLeft, BitVec.getLsbD_shiftLeft, BitVec.getLsbD_setWidth, BitVec.getLsbD_setWidth]
  rw [decide_eq_false (show ¬ 32 ≤ i by omega), decide_eq_true (show i < 32 from hi)]
  by_cases h : i < 16
  · rw [if_pos h, if_pos (show 16 + i < 32 by omega), decide_eq_true h, decide_eq_true (show 16 + i < 32 by omega), decide_eq_false (show ¬ 16 + i < 16 by omega), Nat.add_sub_cancel_left]
    simp
  · rw [if_neg h, if_neg (show ¬ 16 + i < 32 by omega)]
    simp
theorem sh8 (v : Int32) : (v <<< ((24 : Int32) &&& 31)) >>> ((24 : Int32) &&& 31) = v.toInt8.toInt32 := by
  apply Int32.toBitVec_inj.mp
  have e : ((24 : Int32) &&& 31) = 24 := by decide
  have e2 : (24 : Int32).toBitVec.smod 32 = 24#32 := by decide
  rw [e, Int32.toBitVec_shiftRight, Int32.toBitVec_shiftLeft, Int8.toBitVec_toInt32, Int32.toBitVec_toInt8, e2, BitVec.signExtend_eq_setWidth_of_le v.toBitVec (show 8 ≤ 32 by decide), ← sh8b]
  rfl
theorem sh16 (v : Int32) : (v <<< ((16 : Int32) &&& 31)) >>> ((16 : Int32) &&& 31) = v.toInt16.toInt32 := by
  apply Int32.toBitVec_inj.mp
  have e : ((16 : Int32) &&& 31) = 16 := by decide
  have e2 : (16 : Int32).toBitVec.smod 32 = 16#32 := by decide
  rw [e, Int32.toBitVec_shiftRight, Int32.toBitVec_shiftLeft, Int16.toBitVec_toInt32, Int32.toBitVec_toInt16, e2, BitVec.signExtend_eq_setWidth_of_le v.toBitVec (show 16 ≤ 32 by decide), ← sh16b]
  rfl
/-- what the class's rows hold, as the reference has it in its cells 10, 11, 12 -/
def ShR (sh : gSh) (μ : Nat → Nat → Int32) : Prop := ∀ k, k < 4 → (sh k = none ∧ μ 10 k = -4) ∨ ∃ (lane n : Nat) (f : Nat → Int32), lane < 3 ∧ n ≤ 40 ∧ sh k = some (laC (nI lane), n, f) ∧ μ 10 k = nI lane ∧ μ 11 k = nI n ∧ ∀ i, i < n → f i = μ 12 (40 * k + i)
theorem ShR.sl {sh : gSh} {μ μ' : Nat → Nat → Int32} (h : ShR sh μ) (s : SL μ μ') : ShR sh μ' := by
  unfold ShR
  rw [s 10 (by decide) (by decide), s 11 (by decide) (by decide), s 12 (by decide) (by decide)]
  exact h
section SHP
variable {σ σ' s μ μ' : Nat → Nat → Int32} {p q : Nat → Nat} {sh : gSh}
theorem Rel.lan (h : Rel p σ μ) (e : ∀ k, k < 10 → μ' k = μ k) : Rel p σ μ' := by
  have pm : ∀ {o : Nat} {r : Nat → Nat}, WF r → PgM μ o r → PgM μ' o r := fun w g => g.same w (fun j hj => by rw [e 1 (by decide)])
  refine ⟨h.wf, h.px, pm h.wf h.pm, by rw [e 0 (by decide)]; exact h.hg, by rw [e 0 (by decide)]; exact h.flt, by rw [e 0 (by decide)]; exact h.trn, ?_, ?_, ?_, ?_, h.by⟩
  · obtain ⟨a, b, g1, g2, g3, g4, g5⟩ := h.img
    refine ⟨a, b, g1, by rw [e 9 (by decide)]; exact g2, by rw [e 9 (by decide)]; exact g3, fun x => ?_, fun x => ?_⟩
    · obtain ⟨r, r1, r2, r3, r4⟩ := g4 x
      exact ⟨r, r1, r2, pm r1 r3, r4⟩
    · obtain ⟨r, r1, r2, r3, r4⟩ := g5 x
      exact ⟨r, r1, r2, pm r1 r3, r4⟩
  · obtain ⟨n, g1, g2, g3, g4⟩ := h.tap
    exact ⟨n, g1, g2, by rw [e 0 (by decide)]; exact g3, fun i hi => by rw [e 3 (by decide)]; exact g4 i hi⟩
  · obtain ⟨n, g1, g2, g3, g4⟩ := h.see
    exact ⟨n, g1, g2, by rw [e 0 (by decide)]; exact g3, fun i hi => by rw [e 7 (by decide)]; exact g4 i hi⟩
  · unfold Cst
    rw [e 4 (by decide), e 5 (by decide)]
    exact h.cst
theorem Rel.torn (h : Rel p σ μ) (v : Int32) : Rel p (upd2 σ 0 22 v) (upd2 μ 0 28 v) := by
  have ex : ∀ k, k ≠ 0 → upd2 σ 0 22 v k = σ k := fun k hk => u2_k _ _ _ hk
  have em : ∀ k, k ≠ 0 → upd2 μ 0 28 v k = μ k := fun k hk => u2_k _ _ _ hk
  have pm : ∀ {o : Nat} {r : Nat → Nat}, WF r → PgM μ o r → PgM (upd2 μ 0 28 v) o r := fun w g => g.same w (fun j hj => by rw [em 1 (by decide)])
  have px : ∀ {t : Nat} {r : Nat → Nat}, PgX σ t r → PgX (upd2 σ 0 22 v) t r := fun g => g.same (fun j hj => ex _ (by unfold sb; omega))
  have bx : ∀ {t : Nat}, By σ t → By (upd2 σ 0 22 v) t := fun g => g.same (fun j hj => ex _ (by unfold sb; omega))
  refine ⟨h.wf, px h.px, pm h.wf h.pm, by rw [u2_j _ _ _ (by decide)]; exact h.hg, by rw [u2_j _ _ _ (by decide), u2_j _ _ _ (by decide)]; exact h.flt, by rw [u2_s, u2_s], ?_, ?_, ?_, ?_, bx h.by.1, bx h.by.2.1, bx h.by.2.2⟩
  · obtain ⟨a, b, g1, g2, g3, g4, g5⟩ := h.img
    refine ⟨a, b, by rw [u2_j _ _ _ (by decide)]; exact g1, by rw [em 9 (by decide)]; exact g2, by rw [em 9 (by decide)]; exact g3, fun x => ?_, fun x => ?_⟩
    · obtain ⟨r, r1, r2, r3, r4⟩ := g4 x
      exact ⟨r, r1, px r2, pm r1 r3, r4⟩
    · obtain ⟨r, r1, r2, r3, r4⟩ := g5 x
      exact ⟨r, r1, px r2, pm r1 r3, r4⟩
  · obtain ⟨n, g1, g2, g3, g4⟩ := h.tap
    exact ⟨n, g1, by rw [u2_j _ _ _ (by decide)]; exact g2, by rw [u2_j _ _ _ (by decide)]; exact g3, fun i hi => by rw [ex 8 (by decide), em 3 (by decide)]; exact g4 i hi⟩
  · obtain ⟨n, g1, g2, g3, g4⟩ := h.see
    exact ⟨n, g1, by rw [u2_j _ _ _ (by decide)]; exact g2, by rw [u2_j _ _ _ (by decide)]; exact g3, fun i hi => by rw [ex 6 (by decide), em 7 (by decide)]; exact g4 i hi⟩
  · unfold Cst
    rw [em 4 (by decide), em 5 (by decide)]
    exact h.cst
/-- is it a sheet and a lane -/
theorem isSheet_c (k lane : Int32) : (∃ b, f_X0_isSheet k lane = some b ∧ b = 0 ∧ (f_X7_in (Int32.toInt64 k) 0 3 = some 0 ∨ (f_X7_in (Int32.toInt64 k) 0 3 = some 1 ∧ f_X7_in (Int32.toInt64 lane) 0 2 = some 0))) ∨ ∃ i j, i < 4 ∧ j < 3 ∧ k = nI i ∧ lane = nI j ∧ f_X0_isSheet k lane = some 1 ∧ f_X7_in (Int32.toInt64 k) 0 3 = some 1 ∧ f_X7_in (Int32.toInt64 lane) 0 2 = some 1 := by
  unfold f_X0_isSheet
  rcases arg_c (a := 0) (b := 3) k (lo := 0) (hi := 3) rfl rfl (by decide) with h | ⟨i, _, hi, rfl, h⟩
  · rw [h]
    exact Or.inl ⟨0, rfl, rfl, Or.inl (by rw [inM_eq]; exact h)⟩
  · rw [h, oB_s, if_neg (by decide)]
    rcases arg_c (a := 0) (b := 2) lane (lo := 0) (hi := 2) rfl rfl (by decide) with g | ⟨j, _, hj, rfl, g⟩
    · rw [g]
      exact Or.inl ⟨0, rfl, rfl, Or.inr ⟨by rw [inM_eq]; exact h, by rw [inM_eq]; exact g⟩⟩
    · rw [g]
      exact Or.inr ⟨i, j, by omega, by omega, rfl, rfl, rfl, by rw [inM_eq]; exact h, by rw [inM_eq]; exact g⟩
theorem m_zero (k : Nat) (hk : k < 4) : oW (f_X7_sheet_b56 μ (nI k) 0) (fun r => r.1 = 1 ∧ (∀ j, j < 40 → r.2 12 (40 * k + j) = 0) ∧ (∀ j, (j < 40 * k ∨ 40 * k + 40 ≤ j) → r.2 12 j = μ 12 j) ∧ ∀ i, i ≠ 12 → r.2 i = μ i) := by
  unfold f_X7_sheet_b56
  refine oW_lp (fun (i : Nat) (v : Int32 × (Nat → Nat → Int32)) => i ≤ 40 ∧ v.1 = nI i ∧ (∀ j, j < i → v.2 12 (40 * k + j) = 0) ∧ (∀ j, (j < 40 * k ∨ 40 * k + 40 ≤ j) → v.2 12 j = μ 12 j) ∧ ∀ i, i ≠ 12 → v.2 i = μ i) 40 (by rw [gFU_eq]; decide) ⟨Nat.zero_le _, rfl, fun j hj => absurd hj (Nat.not_lt_zero j), fun _ _ => rfl, fun _ _ => rfl⟩ (fun i v hi h => ?_)
  obtain ⟨h1, h2, h3, h4, h5⟩ := h
  unfold f_X7_sheet_L56
  rw [h2]
  by_cases g : i = 40
  · subst g
    rw [if_pos (by decide)]
    exact oS_r ⟨rfl, h3, h4, h5⟩
  · rw [if_neg (show ¬ (40 : Int32) ≤ nI i from fun q => g (by have := (nle (a := 40) (by decide) (by omega)).mp q; omega)), n_40, nI_mul, nI_add, nI_clamp (by omega)]
    refine oW_C (inb_t (by omega) (by decide)) (oW_L (oS_l ⟨by omega, by omega, nI_1 i, fun j hj => ?_, fun j hj => ?_, fun m hm => ?_⟩))
    · dsimp only
      by_cases e : j = i
      · subst e; exact u2_s _ _ _ _
      · rw [u2_j _ _ _ (by omega)]; exact h3 j (by omega)
    · dsimp only
      rw [u2_j _ _ _ (by omega)]; exact h4 j hj
    · dsimp only
      rw [u2_k _ _ _ hm]; exact h5 m hm
theorem op_sheet (h : Rel p σ μ) (hS : ShR sh μ) (k lane n : Int32) : ∃ b v μ', f_X0_isSheet k lane = some b ∧ (b ≠ 0 → inb k 4 = true) ∧ f_X7_sheet μ k lane n = some (v, μ') ∧ Rel p σ μ' ∧ (if b = 0 ∨ 40 < n then v = -1 ∧ ShR sh μ' else if n < 0 then v = -14 ∧ ShR sh μ' else v = 1 ∧ n.toNatClampNeg ≤ 40 ∧ k.toNatClampNeg < 4 ∧ ShR (va_up sh k.toNatClampNeg (some (laC lane, n.toNatClampNeg, fun _ => 0))) μ') := by
  unfold f_X7_sheet
  rcases isSheet_c k lane with ⟨b, h1, rfl, h2⟩ | ⟨i, j, hi, hj, rfl, rfl, h1, h2, h3⟩
  · refine ⟨0, -1, μ, h1, fun e => absurd rfl e, ?_, h, ?_⟩
    · rcases h2 with h2 | ⟨h2, h3⟩
      · rw [h2]; rfl
      · rw [h2, h3]; rfl
    · rw [if_pos (Or.inl rfl)]
      exact ⟨rfl, hS⟩
  · rw [h2, h3, oB_s, if_neg (by decide), oB_s, if_neg (by decide)]
    have hk4 : inb (nI i) 4 = true := inb_t hi (by decide)
    by_cases g : n ≤ 40
    · rw [if_pos g]
      by_cases g0 : 0 ≤ n
      · have gn : ¬ n < 0 := Int32.not_lt.mpr g0
        obtain ⟨m, hm, rfl⟩ := nI_of2 (M := 40) (n := 40) rfl gn g
        rw [if_pos g0, hk4, oC_t, oL_s, oC_t, oL_s, nI_clamp (by omega)]
        obtain ⟨r, r1, r2, r3, r4, r5⟩ := m_zero (μ := upd2 (upd2 μ 10 i (nI j)) 11 i (nI m)) i hi
        refine ⟨1, r.1, r.2, h1, fun _ => rfl, ?_, h.lan (fun x hx => ?_), ?_⟩
        · exact r1
        · rw [r5 x (by omega), u2_k _ _ _ (by omega), u2_k _ _ _ (by omega)]
        · rw [if_neg (fun e => e.elim (fun e => absurd e (by decide)) (fun e => absurd g (Int32.not_le.mpr e))), if_neg gn, nI_clamp (by omega)]
          refine ⟨r2, hm, hi, fun x hx => ?_⟩
          by_cases ex : x = i
          · subst ex
            refine Or.inr ⟨j, m, fun _ => 0, hj, hm, va_up_self _ _ _, ?_, ?_, fun y hy => ?_⟩
            · rw [r5 10 (by decide), u2_k _ _ _ (by decide), u2_s]
            · rw [r5 11 (by decide), u2_s]
            · exact (r3 y (by omega)).symm
          · rw [va_up_ne _ _ ex, r5 10 (by decide), r5 11 (by decide), u2_k _ _ _ (by decide), u2_j _ _ _ ex, u2_j _ _ _ ex, u2_k _ _ _ (by decide)]
            rcases hS x hx with a | ⟨la, nn, f, a1, a2, a3, a4, a5, a6⟩
            · exact Or.inl a
            · refine Or.inr ⟨la, nn, f, a1, a2, a3, a4, a5, fun y hy => ?_⟩
              rw [r4 _ (by omega), u2_k _ _ _ (by decide), u2_k _ _ _ (by decide)]
              exact a6 y hy
      · have gn : n < 0 := Int32.not_le.mp g0
        refine ⟨1, -14, μ, h1, fun _ => hk4, by rw [if_neg g0], h, ?_⟩
        rw [if_neg (fun e => e.elim (fun e => absurd e (by decide)) (fun e => absurd g (Int32.not_le.mpr e))), if_pos gn]
        exact ⟨rfl, hS⟩
    · refine ⟨1, -1, μ, h1, fun _ => hk4, by rw [if_neg g], h, ?_⟩
      rw [if_pos (Or.inr (Int32.not_le.mp g))]
      exact ⟨rfl, hS⟩
end SHP
