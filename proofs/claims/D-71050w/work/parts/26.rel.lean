/-! ===== the reference's suits won; arguments; the relation ===== -/
set_option maxRecDepth 100000
section MW2
variable {σ σ' μ μ' : Nat → Nat → Int32} {t o : Nat} {p : Nat → Nat} {R : RunR}
theorem m_winnerOn (hg : PgM μ o p) (w : WF p) (ho : o + 41 ≤ 205) {h fr : Nat} (hh : h < p 41) (hf : fr < 8) : oW (f_X7_winnerOn μ (nI o) (nI h) (nI fr)) (fun r => r.1 = eN (winr p (run p h fr 0)) ∧ RunM μ r.2 (run p h fr 0)) := by
  unfold f_X7_winnerOn
  refine oW_B (m_runsOn hg w ho hh hf (by decide : 0 < 2 ^ 31)) (fun s hs => ?_)
  rw [hs.2.1]
  have hnp := w.np
  unfold winr
  cases e : (run p h fr 0).1 with
  | none => exact oW_t rfl (oW_some ⟨rfl, hs⟩)
  | some i =>
    have hi := run_rest e
    refine oW_f (show ¬ nI i = -4 from nI_nm4 (by omega)) ?_
    show oW (oC (inb ((nI o + 7) + nI i) 205) (some (s 1 ((nI o + 7) + nI i).toNatClampNeg, s))) _
    rw [n_7, nI_add, nI_add, nI_clamp (by omega), Nat.add_assoc o 7 i, (hs.1.pg hg).rag hi]
    exact oW_C (inb_t (by omega) (by decide)) (oW_some ⟨rfl, hs⟩)
theorem m_winsOn (hg : PgM μ o p) (w : WF p) (ho : o + 41 ≤ 205) (l2 : Int32) (b : Nat → Bool) (hb : (l2 = -4 ∧ b = isA p) ∨ ∃ k, k < 4 ∧ l2 = nI k ∧ b = isW p k) : oW (f_X7_winsOn μ (nI o) l2) (fun r => r.1 = nI (msk b (p 40)) ∧ FrM μ r.2) := by
  have hnu := w.nu
  have hnh := w.nh
  unfold f_X7_winsOn f_X7_winsOn_b5
  refine oW_msk (FrM μ) b 0 (p 40) (by omega) (by omega) rfl FrM.rf ?_ ?_
  · intro i s _ hi hs
    show oW (f_X7_winsOn_L5 s (nI o) l2 (nI (msk b i)) (nI i)) _
    unfold f_X7_winsOn_L5
    have hp := hs.pg hg
    have hwho := w.who hi
    rw [n_40, n_26, n_32, nI_add, nI_add, nI_add, nI_add, nI_add, nI_clamp (by omega), nI_clamp (by omega), nI_clamp (by omega), hp.suits, Nat.add_assoc o 26 i, Nat.add_assoc o 32 i, hp.who hi, hp.frm hi]
    refine oW_C (inb_t (by omega) (by decide)) (oW_f (fun q => ?_) (oW_C (inb_t (by omega) (by decide)) (oW_C (inb_t (by omega) (by decide)) (oW_B (m_winnerOn hp w ho hwho (w.frm hi)) (fun r hr => ?_)))))
    · have := (nle (by omega) (by omega)).mp q
      omega
    have fr := hs.tr hr.2.1
    have e1 : r.1 = eN (winr p (suitR p i)) := hr.1
    unfold f_X7_winsOn_b77 f_X7_winsOn_b70 f_X7_winsOn_b78
    rw [e1]
    have hl := suit_lt w i
    have yes : b i = true → oW (some (Sum.inl (nI (msk b i) ||| ((1 : Int32) <<< (nI i &&& 31)), nI i + 1, r.2)) : Option ((Int32 × Int32 × (Nat → Nat → Int32)) ⊕ (Int32 × (Nat → Nat → Int32)))) (oS (fun s' => s'.1 = nI (msk b i) ||| (if b i then (1 : Int32) <<< (nI i &&& 31) else 0) ∧ s'.2.1 = nI i + 1 ∧ FrM μ s'.2.2) (fun r => r.1 = nI (msk b (p 40)) ∧ FrM μ r.2)) := by
      intro q
      rw [q]
      exact oS_l ⟨rfl, rfl, fr⟩
    have no : b i = false → oW (some (Sum.inl (nI (msk b i) ||| 0, nI i + 1, r.2)) : Option ((Int32 × Int32 × (Nat → Nat → Int32)) ⊕ (Int32 × (Nat → Nat → Int32)))) (oS (fun s' => s'.1 = nI (msk b i) ||| (if b i then (1 : Int32) <<< (nI i &&& 31) else 0) ∧ s'.2.1 = nI i + 1 ∧ FrM μ s'.2.2) (fun r => r.1 = nI (msk b (p 40)) ∧ FrM μ r.2)) := by
      intro q
      rw [q]
      exact oS_l ⟨rfl, rfl, fr⟩
    rcases hb with ⟨rfl, rfl⟩ | ⟨k, hk, rfl, rfl⟩
    · cases e : winr p (suitR p i) with
      | none =>
        exact oW_t rfl (no (by unfold isA; rw [e]; rfl))
      | some j =>
        have := hl j e
        exact oW_f (nI_nm4 (by omega)) (oW_t rfl (yes (by unfold isA; rw [e]; rfl)))
    · cases e : winr p (suitR p i) with
      | none =>
        exact oW_t rfl (no (by unfold isW; rw [e]; rfl))
      | some j =>
        have := hl j e
        refine oW_f (nI_nm4 (by omega)) (oW_f (nI_nm4 (by omega)) (oW_ite (fun q => yes ?_) (fun q => no ?_)))
        · have q := (nI_eq (by omega) (by omega)).mp (show nI j = nI k from q)
          subst q
          unfold isW
          rw [e]
          exact beq_self_eq_true _
        · have q : ¬ j = k := fun q' => q (by rw [q']; rfl)
          unfold isW
          rw [e]
          exact beq_eq_false_iff_ne.mpr (fun q' => q (Option.some.inj q'))
  · intro s hs
    show oW (f_X7_winsOn_L5 s (nI o) l2 (nI (msk b (p 40))) (nI (p 40))) _
    unfold f_X7_winsOn_L5
    rw [n_40, nI_add, nI_clamp (by omega), (hs.pg hg).suits]
    exact oW_C (inb_t (by omega) (by decide)) (oW_t (Int32.le_refl _) (oS_r ⟨rfl, hs⟩))
theorem m_wins (hg : PgM μ o p) (w : WF p) (ho : o + 41 ≤ 205) {k : Nat} (hk : k < 4) : oW (f_X7_winsOn μ (nI o) (nI k)) (fun r => r.1 = nI (msk (isW p k) (p 40)) ∧ FrM μ r.2) := m_winsOn hg w ho (nI k) (isW p k) (Or.inr ⟨k, hk, rfl, rfl⟩)
theorem m_winsA (hg : PgM μ o p) (w : WF p) (ho : o + 41 ≤ 205) : oW (f_X7_winsOn μ (nI o) (-4)) (fun r => r.1 = nI (msk (isA p) (p 40)) ∧ FrM μ r.2) := m_winsOn hg w ho (-4) (isA p) (Or.inl ⟨rfl, rfl⟩)
end MW2
/-! arguments -/
theorem rng_i {l : Int32} {n : Nat} (h0 : 0 ≤ l.toInt) (h : l.toInt < n) (hn : n ≤ 2 ^ 31) : ∃ i, i < n ∧ l = nI i := by
  refine ⟨l.toInt.toNat, by omega, ?_⟩
  apply Int32.toInt_inj.mp
  rw [nI_toInt (by omega)]
  omega
theorem in_out (l : Int32) (lo hi : Int64) (h : ¬ (lo.toInt ≤ l.toInt ∧ l.toInt ≤ hi.toInt)) : f_X0_in (Int32.toInt64 l) lo hi = some 0 := by
  rw [in_eq, i2l_toInt]
  unfold rng
  rw [decide_eq_false h]
  rfl
theorem in_in (l : Int32) (lo hi : Int64) (h : lo.toInt ≤ l.toInt ∧ l.toInt ≤ hi.toInt) : f_X0_in (Int32.toInt64 l) lo hi = some 1 := by
  rw [in_eq, i2l_toInt]
  unfold rng
  rw [decide_eq_true h]
  rfl
/-- a number from lo to hi, or none -/
theorem arg_c (l : Int32) {lo hi : Int64} {a b : Nat} (ha : lo.toInt = a) (hb : hi.toInt = b) (hb2 : b < 2 ^ 31) : f_X0_in (Int32.toInt64 l) lo hi = some 0 ∨ ∃ i, a ≤ i ∧ i ≤ b ∧ l = nI i ∧ f_X0_in (Int32.toInt64 l) lo hi = some 1 := by
  by_cases h : lo.toInt ≤ l.toInt ∧ l.toInt ≤ hi.toInt
  · right
    obtain ⟨i, hi', rfl⟩ := rng_i (l := l) (n := b + 1) (by omega) (by omega) (by omega)
    have := nI_toInt (n := i) (by omega)
    exact ⟨i, by omega, by omega, rfl, in_in _ _ _ h⟩
  · exact Or.inl (in_out _ _ _ h)
/-- an index below n -/
theorem arg_n (l : Int32) {n : Nat} (hn : n < 2 ^ 31) : f_X0_in (Int32.toInt64 l) 0 (Int32.toInt64 (nI n - 1)) = some 0 ∨ ∃ i, i < n ∧ l = nI i ∧ f_X0_in (Int32.toInt64 l) 0 (Int32.toInt64 (nI n - 1)) = some 1 := by
  have e : (Int32.toInt64 (nI n - 1)).toInt = (n : Int) - 1 := by
    rw [i2l_toInt]
    by_cases h : n = 0
    · subst h; decide
    · rw [n_1, nI_sub (by omega), nI_toInt (by omega)]
      omega
  by_cases h : (0 : Int64).toInt ≤ l.toInt ∧ l.toInt ≤ (Int32.toInt64 (nI n - 1)).toInt
  · right
    have z : (0 : Int64).toInt = 0 := rfl
    obtain ⟨i, hi', rfl⟩ := rng_i (l := l) (n := n) (by omega) (by omega) (by omega)
    exact ⟨i, hi', rfl, in_in _ _ _ h⟩
  · exact Or.inl (in_out _ _ _ h)
/-- a count up to n -/
theorem arg_m (l : Int32) {n : Nat} (hn : n < 2 ^ 31) : f_X0_in (Int32.toInt64 l) 0 (Int32.toInt64 (nI n)) = some 0 ∨ ∃ i, i ≤ n ∧ l = nI i ∧ f_X0_in (Int32.toInt64 l) 0 (Int32.toInt64 (nI n)) = some 1 := by
  have e : (Int32.toInt64 (nI n)).toInt = (n : Int) := by rw [i2l_toInt, nI_toInt hn]
  rcases arg_c (a := 0) l (lo := 0) rfl e hn with h | ⟨i, _, h1, h2, h3⟩
  · exact Or.inl h
  · exact Or.inr ⟨i, h1, h2, h3⟩
section AR
variable {σ μ : Nat → Nat → Int32} {p : Nat → Nat}
theorem isPart_c (l : Int32) : (f_X0_isPart l = some 0 ∧ f_X7_in (Int32.toInt64 l) 0 1 = some 0) ∨ ∃ i, i < 2 ∧ l = nI i ∧ f_X0_isPart l = some 1 ∧ f_X7_in (Int32.toInt64 l) 0 1 = some 1 := by
  unfold f_X0_isPart
  rcases arg_c (a := 0) (b := 1) l (lo := 0) (hi := 1) rfl rfl (by decide) with h | ⟨i, _, h1, h2, h3⟩
  · rw [h]; exact Or.inl ⟨rfl, by rw [inM_eq, h]⟩
  · rw [h3]; exact Or.inr ⟨i, by omega, h2, rfl, by rw [inM_eq, h3]⟩
theorem isRag_c (l : Int32) : (f_X0_isRag l = some 0 ∧ f_X7_isRag l = some 0) ∨ ∃ i, i < 4 ∧ l = nI i ∧ f_X0_isRag l = some 1 ∧ f_X7_isRag l = some 1 := by
  unfold f_X0_isRag f_X7_isRag
  rcases arg_c (a := 0) (b := 3) l (lo := 0) (hi := 3) rfl rfl (by decide) with h | ⟨i, _, h1, h2, h3⟩
  · rw [inM_eq, h]; exact Or.inl ⟨rfl, rfl⟩
  · rw [inM_eq, h3]; exact Or.inr ⟨i, by omega, h2, rfl, rfl⟩
theorem isColumn_c (l : Int32) : (f_X0_isColumn l = some 0 ∧ f_X7_isColumn l = some 0) ∨ ∃ i, i < 8 ∧ l = nI i ∧ f_X0_isColumn l = some 1 ∧ f_X7_isColumn l = some 1 := by
  unfold f_X0_isColumn f_X7_isColumn
  rcases arg_c (a := 0) (b := 7) l (lo := 0) (hi := 7) rfl rfl (by decide) with h | ⟨i, _, h1, h2, h3⟩
  · rw [inM_eq, h]; exact Or.inl ⟨rfl, rfl⟩
  · rw [inM_eq, h3]; exact Or.inr ⟨i, by omega, h2, rfl, rfl⟩
theorem mod10 {i : Nat} (h : i < 100) : (nI i - nI i / 10 * 10) = nI (i % 10) := by
  have : ∀ i : Fin 100, (nI i.val - nI i.val / 10 * 10) = nI (i.val % 10) := by decide +kernel
  exact this ⟨i, h⟩
/-- a cell's number, or none (the class says 99, the reference 97: 98 and 99 lie in no column) -/
theorem isCell_c (l : Int32) : (f_X0_isCell l = some 0 ∧ f_X7_isCell l = some 0) ∨ ∃ i, i < 98 ∧ i % 10 < 8 ∧ l = nI i ∧ f_X0_isCell l = some 1 ∧ f_X7_isCell l = some 1 := by
  unfold f_X0_isCell f_X7_isCell
  rcases arg_c (a := 0) (b := 99) l (lo := 0) (hi := 99) rfl rfl (by decide) with h | ⟨i, _, h1, rfl, h3⟩
  · rw [inM_eq, h]
    rcases arg_c (a := 0) (b := 97) l (lo := 0) (hi := 97) rfl rfl (by decide) with g | ⟨i, _, g1, rfl, _⟩
    · rw [g]; exact Or.inl ⟨rfl, rfl⟩
    · rw [in_in _ _ _ (by rw [nI_toInt (by omega)]; exact ⟨Int.natCast_nonneg _, by show (i : Int) ≤ 99; omega⟩)] at h
      exact absurd h (by decide)
  · rw [inM_eq, h3, mod10 (by omega)]
    have z : ∀ m : Nat, m < 10 → ((8 : Int32) ≤ nI m ↔ 8 ≤ m) := fun m hm => nle (a := 8) (by decide) (by omega)
    by_cases hm : 8 ≤ i % 10
    · left
      rw [oB_s, if_neg (by decide), if_pos ((z _ (by omega)).mpr hm)]
      refine ⟨rfl, ?_⟩
      rcases arg_c (a := 0) (b := 97) (nI i) (lo := 0) (hi := 97) rfl rfl (by decide) with g | ⟨_, _, _, _, g⟩
      · rw [g]; rfl
      · rw [g, oB_s, if_neg (by decide)]
    · right
      have hi98 : i < 98 := by omega
      refine ⟨i, hi98, by omega, rfl, ?_, ?_⟩
      · rw [oB_s, if_neg (by decide), if_neg (fun q => hm ((z _ (by omega)).mp q))]
      · rw [in_in _ _ _ (by rw [nI_toInt (by omega)]; exact ⟨Int.natCast_nonneg _, by show (i : Int) ≤ 97; omega⟩), oB_s, if_neg (by decide), if_neg (fun q => hm ((z _ (by omega)).mp q))]
theorem isPeg_c (l : Int32) (hg : PgX σ 0 p) (hm : PgM μ 0 p) (w : WF p) : (f_X0_isPeg σ l = some 0 ∧ f_X7_isPeg μ l = some 0) ∨ ∃ i, i < p 38 ∧ l = nI i ∧ f_X0_isPeg σ l = some 1 ∧ f_X7_isPeg μ l = some 1 := by
  have hnp := w.np
  have e2 : μ 1 (Int32.toNatClampNeg 38) = nI (p 38) := by rw [n_38, nI_clamp (by decide)]; have := hm.pegs; rwa [Nat.zero_add] at this
  unfold f_X0_isPeg f_X7_isPeg
  rw [hg.pegs, e2, inM_eq]
  rcases arg_n l (n := p 38) (by omega) with h | ⟨i, h1, h2, h3⟩
  · rw [h]; exact Or.inl ⟨rfl, rfl⟩
  · rw [h3]; exact Or.inr ⟨i, h1, h2, rfl, rfl⟩
theorem isHog_c (l : Int32) (hg : PgX σ 0 p) (hm : μ 0 1 = nI (p 41)) (w : WF p) : (f_X0_isHedgehog σ l = some 0 ∧ f_X7_isHog μ l = some 0) ∨ ∃ i, i < p 41 ∧ l = nI i ∧ f_X0_isHedgehog σ l = some 1 ∧ f_X7_isHog μ l = some 1 := by
  have hnp := w.nh
  unfold f_X0_isHedgehog f_X7_isHog
  rw [hg.hogs, hm, inM_eq]
  rcases arg_n l (n := p 41) (by omega) with h | ⟨i, h1, h2, h3⟩
  · rw [h]; exact Or.inl ⟨rfl, rfl⟩
  · rw [h3]; exact Or.inr ⟨i, h1, h2, rfl, rfl⟩
/-- a run's arguments -/
theorem isRun_c (l1 l2 : Int32) (hg : PgX σ 0 p) (hm : μ 0 1 = nI (p 41)) (w : WF p) : (f_X0_isRun σ l1 l2 = some 0 ∧ (f_X7_isHog μ l1 = some 0 ∨ (f_X7_isHog μ l1 = some 1 ∧ f_X7_isColumn l2 = some 0))) ∨ ∃ i j, i < p 41 ∧ j < 8 ∧ l1 = nI i ∧ l2 = nI j ∧ f_X0_isRun σ l1 l2 = some 1 ∧ f_X7_isHog μ l1 = some 1 ∧ f_X7_isColumn l2 = some 1 := by
  unfold f_X0_isRun
  rcases isHog_c l1 hg hm w with ⟨h1, h2⟩ | ⟨i, hi, e1, h1, h2⟩
  · rw [h1]; exact Or.inl ⟨rfl, Or.inl h2⟩
  · rw [h1]
    rcases isColumn_c l2 with ⟨g1, g2⟩ | ⟨j, hj, e2, g1, g2⟩
    · rw [g1]; exact Or.inl ⟨rfl, Or.inr ⟨h2, g2⟩⟩
    · rw [g1]; exact Or.inr ⟨i, j, hi, hj, e1, e2, rfl, h2, g2⟩
end AR
