/-! ===== what was seen: kinds, speeds ===== -/
set_option maxRecDepth 100000
/-- what was seen in the i-th place comes so on the page q -/
def soB (σ : Nat → Nat → Int32) (q : Nat → Nat) (i : Nat) : Bool := decide ((σ 6 (3 * i)).toNatClampNeg < q 41) && decide (eN (run q (σ 6 (3 * i)).toNatClampNeg (σ 6 (3 * i + 1)).toNatClampNeg 0).1 = σ 6 (3 * i + 2))
def soA (σ : Nat → Nat → Int32) (q : Nat → Nat) : Nat → Bool
  | 0 => true
  | n + 1 => soA σ q n && soB σ q n
theorem b2i_and (a b : Bool) : b2i a &&& b2i b = b2i (a && b) := by cases a <;> cases b <;> decide
section SE
variable {σ s s' μ μ' : Nat → Nat → Int32} {p q : Nat → Nat}
theorem x_isSo (h : Rel p σ μ) {n : Nat} (hn : n ≤ 6) (hn2 : σ 0 6 = nI n) (hs6 : ∀ i, i < n → ∃ h c r, h < 4 ∧ c < 8 ∧ σ 6 (3 * i) = nI h ∧ μ 7 (3 * i) = nI h ∧ σ 6 (3 * i + 1) = nI c ∧ μ 7 (3 * i + 1) = nI c ∧ σ 6 (3 * i + 2) = r ∧ μ 7 (3 * i + 2) = r) {s : Nat → Nat → Int32} (fx : FX σ s) {a d v : Nat} (ha : a < p 41) (hd : d < 2) (hv : v < 128) (w' : WF (pu p (18 + 4 * d + a) v)) : oW (f_X0_isSo s (nI a) (nI d) (nI v)) (fun r => r.1 = b2i (soA σ (pu p (18 + 4 * d + a) v) n) ∧ FX σ r.2) := by
  have hnh := h.wf.nh
  have e41 : pu p (18 + 4 * d + a) v 41 = p 41 := pu_n p (by omega)
  unfold f_X0_isSo
  refine oW_B (x_try2 h fx (18 + 4 * d + a)) (fun s1 hs1 => ?_)
  rw [n_2, nI_mul, nI_add, nI_clamp (by omega), nbN hv]
  have axy : ax (18 + 4 * d + a) = 4 ∧ ay (18 + 4 * d + a) = 2 * a + d := by
    have hdc : d = 0 ∨ d = 1 := by omega
    rcases hdc with rfl | rfl
    · exact ax_4 (by omega)
    · rw [show 18 + 4 * 1 + a = 22 + a from by omega]; exact ax_5 (by omega)
  have px := hs1.1.put (by omega) (n := v) (k := sb 1 + 4) (j := 2 * a + d) (by rw [axy.1]) (by rw [axy.2]) hv w'
  refine oW_C (inb_t (by omega) (by decide)) (oW_L ?_)
  have tx0 := TXe.mk px.1 px.2.1 w' px.2.2.1
  generalize upd2 s1 (sb 1 + 4) (2 * a + d) (nI v) = s2 at px tx0 ⊢
  generalize hq : pu p (18 + 4 * d + a) v = q at *
  unfold f_X0_isSo_b32
  refine oW_lp (fun i x => x.1 = b2i (soA σ q i) ∧ x.2.1 = nI i ∧ FX σ x.2.2 ∧ PgX x.2.2 1 q) n (by rw [gFU_eq]; omega) ⟨rfl, rfl, px.1, px.2.2.1⟩ ?_
  rintro i ⟨_, _, s⟩ hi ⟨rfl, rfl, fx, gx⟩
  dsimp only at fx gx ⊢
  have f6 : s 6 = σ 6 := fx.1 6 (by decide) (by decide) (by decide) (by decide)
  unfold f_X0_isSo_L32
  rw [fx.2 6 (by decide) (by decide) (by decide) (by decide) (by decide) (by decide), hn2]
  by_cases e : i = n
  · subst e
    exact oW_t (Int32.le_refl _) (oS_I (oW_C (isB_b2i _) (oW_some ⟨rfl, fx⟩)))
  obtain ⟨hh, c, r, b1, b2, b3, _, b5, _, b7, _⟩ := hs6 i (by omega)
  refine oW_f (fun q => ?_) ?_
  · have := (nle (by omega) (by omega)).mp q
    omega
  rw [n_3, nI_mul, nI_clamp (by omega), f6, b3, gx.hogs]
  have eS : soA σ q (i + 1) = (soA σ q i && soB σ q i) := rfl
  have eB : soB σ q i = (decide (hh < q 41) && decide (eN (run q hh c 0).1 = r)) := by
    unfold soB
    rw [b3, b5, b7, nI_clamp (by omega), nI_clamp (by omega)]
  refine oW_C (inb_t (by omega) (by decide)) ?_
  unfold f_X0_isSo_b67 f_X0_isSo_b127 f_X0_isSo_b129
  by_cases e1 : hh < q 41
  · refine oW_f (fun q => ?_) ?_
    · have := (nle (by omega) (by omega)).mp q
      omega
    cases es : soA σ q i with
    | false =>
      refine oW_t (by decide) (oS_l ⟨by omega, ?_, nI_1 i, fx, gx⟩)
      show b2i false &&& 1 = _
      rw [eS, es]; rfl
    | true =>
      refine oW_f (by decide) ?_
      rw [n_3, nI_mul, show nI (3 * i) + 1 = nI (3 * i + 1) from nI_1 _, show nI (3 * i) + 2 = nI (3 * i + 2) from nI_add _ 2, nI_clamp (by omega), nI_clamp (by omega), nI_clamp (by omega), f6, b3, b5]
      refine oW_C (inb_t (by omega) (by decide)) (oW_C (inb_t (by omega) (by decide)) (oW_B (x_runs gx w' e1 b2 (by decide : 0 < 2 ^ 31)) (fun s' hr => oW_C (inb_t (by omega) (by decide)) ?_)))
      rw [hr.2.1, hr.1.1 6 (by decide) (by decide), f6, b7]
      have fx' := fx.tr hr.1.fx
      have gx' := hr.1.pg gx
      by_cases e2 : eN (run q hh c 0).1 = r
      · refine oW_t e2 (oS_l ⟨by omega, ?_, nI_1 i, fx', gx'⟩)
        rw [eS, es, eB, decide_eq_true e1, decide_eq_true e2]; rfl
      · refine oW_f e2 (oS_l ⟨by omega, ?_, nI_1 i, fx', gx'⟩)
        rw [eS, es, eB, decide_eq_true e1, decide_eq_false e2]; rfl
  · refine oW_t ((nle (by omega) (by omega)).mpr (by omega)) (oW_t (by cases soA σ q i <;> decide) (oS_l ⟨by omega, ?_, nI_1 i, fx, gx⟩))
    rw [eS, eB, decide_eq_false e1, Bool.false_and, Bool.and_false]
    cases soA σ q i <;> rfl
theorem m_isAs (h : Rel p σ μ) {n : Nat} (hn : n ≤ 6) (hn2 : μ 0 22 = nI n) (hs6 : ∀ i, i < n → ∃ h c r, h < 4 ∧ c < 8 ∧ σ 6 (3 * i) = nI h ∧ μ 7 (3 * i) = nI h ∧ σ 6 (3 * i + 1) = nI c ∧ μ 7 (3 * i + 1) = nI c ∧ σ 6 (3 * i + 2) = r ∧ μ 7 (3 * i + 2) = r) {s : Nat → Nat → Int32} (fm : FM μ s) (w' : WF q) (gm : PgM s 164 q) (e41 : q 41 = p 41) : oW (f_X7_isAsSeen s 164) (fun r => r.1 = b2i (soA σ q n) ∧ FrM s r.2) := by
  have hnh := h.wf.nh
  unfold f_X7_isAsSeen f_X7_isAsSeen_b4
  refine oW_lp (fun i x => x.1 = b2i (soA σ q i) ∧ x.2.1 = nI i ∧ FrM s x.2.2) n (by rw [gFU_eq]; omega) ⟨rfl, rfl, FrM.rf⟩ ?_
  rintro i ⟨_, _, t⟩ hi ⟨rfl, rfl, fr⟩
  dsimp only at fr ⊢
  have fm' := fm.tr fr.fm
  have f7 : t 7 = μ 7 := fm'.1 7 (by decide) (by decide) (by decide) (by decide) (by decide)
  have f01 : t 0 1 = nI (q 41) := by rw [fm'.2.2 1 (by decide) (by decide) (by decide) (by decide), e41]; exact h.hg
  unfold f_X7_isAsSeen_L4
  rw [fm'.2.2 22 (by decide) (by decide) (by decide) (by decide), hn2]
  by_cases e : i = n
  · subst e
    exact oW_t (Int32.le_refl _) (oS_I (oW_C (isB_b2i _) (oW_some ⟨rfl, fr⟩)))
  obtain ⟨hh, c, r, b1, b2, b3, b4, b5, b6, b7, b8⟩ := hs6 i (by omega)
  refine oW_f (fun q => ?_) ?_
  · have := (nle (by omega) (by omega)).mp q
    omega
  rw [n_3, nI_mul, nI_clamp (by omega), f7, b4, show nI (3 * i) + 1 = nI (3 * i + 1) from nI_1 _, nI_clamp (by omega), b6]
  have eS : soA σ q (i + 1) = (soA σ q i && soB σ q i) := rfl
  have eB : soB σ q i = (decide (hh < q 41) && decide (eN (run q hh c 0).1 = r)) := by
    unfold soB
    rw [b3, b5, b7, nI_clamp (by omega), nI_clamp (by omega)]
  have nh : ¬ nI hh < 0 := nI_pos (by omega)
  refine oW_C (inb_t (by omega) (by decide)) ?_
  by_cases e1 : hh < q 41
  · have ih : f_X7_isHog t (nI hh) = some 1 := by
      unfold f_X7_isHog
      rw [f01, inM_eq]
      rcases arg_n (nI hh) (n := q 41) (by omega) with g | ⟨_, _, _, g⟩
      · rw [in_in _ _ _ ?_] at g
        · exact absurd g (by decide)
        · rw [i2l_toInt, nI_toInt (by omega), n_1, nI_sub (by omega), nI_toInt (by omega)]
          exact ⟨Int.natCast_nonneg _, by omega⟩
      · rw [g]; rfl
    refine oW_Be ih (oW_f (by decide) (oW_C (inb_t (by omega) (by decide)) (oW_C (inb_t (by omega) (by decide)) (oW_B (m_runs1 (fr.pg gm) w' e1 b2) (fun t' hr => ?_)))))
    unfold f_X7_isAsSeen_b55 f_X7_isAsSeen_b85 f_X7_isAsSeen_b86
    have fr' := fr.tr hr.1
    cases es : soA σ q i with
    | false =>
      refine oW_t rfl (oS_l ⟨by omega, ?_, nI_1 i, fr'⟩)
      rw [eS, es]; rfl
    | true =>
      refine oW_f (by decide) (oW_f (by decide) ?_)
      rw [n_3, nI_mul, show nI (3 * i) + 2 = nI (3 * i + 2) from nI_add _ 2, nI_clamp (by omega), hr.2.1, hr.1.1 7 (by decide) (by decide), f7, b8]
      refine oW_C (inb_t (by omega) (by decide)) ?_
      by_cases e2 : eN (run q hh c 0).1 = r
      · refine oW_t e2 (oS_l ⟨by omega, ?_, nI_1 i, fr'⟩)
        rw [eS, es, eB, decide_eq_true e1, decide_eq_true e2]; rfl
      · refine oW_f e2 (oS_l ⟨by omega, ?_, nI_1 i, fr'⟩)
        rw [eS, es, eB, decide_eq_true e1, decide_eq_false e2]; rfl
  · have ih : f_X7_isHog t (nI hh) = some 0 := by
      unfold f_X7_isHog
      rw [f01, inM_eq]
      rcases arg_n (nI hh) (n := q 41) (by omega) with g | ⟨j, hj, g, _⟩
      · rw [g]; rfl
      · have := (nI_eq (by omega) (by omega)).mp g
        omega
    refine oW_Be ih (oW_t rfl ?_)
    unfold f_X7_isAsSeen_b55 f_X7_isAsSeen_b85 f_X7_isAsSeen_b86
    have fin : b2i false = b2i (soA σ q (i + 1)) := by rw [eS, eB, decide_eq_false e1, Bool.false_and, Bool.and_false]
    cases es : soA σ q i with
    | false => exact oW_t rfl (oS_l ⟨by omega, fin, nI_1 i, fr⟩)
    | true => exact oW_f (by decide) (oW_t rfl (oS_l ⟨by omega, fin, nI_1 i, fr⟩))
theorem op_kinds (h : Rel p σ μ) (l1 : Int32) : oE (f_X0_kinds σ l1) (f_X7_kinds μ l1) (Rel p) := by
  have w := h.wf
  have hnh := w.nh
  obtain ⟨n, hn, n1, n2, n3⟩ := h.see
  unfold f_X0_kinds f_X7_kinds
  refine oE_hog h h ?_
  rintro a ha rfl
  have kw : ∀ i, i < 4 → WF (pu p (18 + a) i) := fun i hi => w.plain (Or.inr (Or.inl ⟨by omega, by omega, hi⟩))
  refine oE_of (A := FX σ) (B := TMe μ p (18 + a)) (nI (msk (fun i => soA σ (pu p (18 + a) i) n) 4)) ?_ (oW_B (m_try2 h FM.rf (18 + a)) (fun t0 ht0 => ?_)) (fun s s' hs hs' => h.fr hs hs'.1)
  · unfold f_X0_kinds_b14
    refine oW_msk (FX σ) (fun i => soA σ (pu p (18 + a) i) n) 0 4 (by omega) (by omega) rfl FX.rf ?_ ?_
    · intro i s _ hi hs
      show oW (f_X0_kinds_L14 s (nI a) (nI (msk (fun i => soA σ (pu p (18 + a) i) n) i)) (nI i)) _
      unfold f_X0_kinds_L14 f_X0_kinds_b37
      refine oW_f (fun q => ?_) (oW_B (x_isSo h hn n1 n3 hs (d := 0) ha (by decide) (by omega) (kw i hi)) (fun r hr => ?_))
      · have := (nle (a := 4) (by decide) (by omega)).mp q
        omega
      rw [hr.1]
      show oW (if b2i (soA σ (pu p (18 + a) i) n) = 0 then _ else _) _
      cases soA σ (pu p (18 + a) i) n with
      | false => exact oW_t rfl (oS_l ⟨rfl, rfl, hr.2⟩)
      | true => exact oW_f (by decide) (oS_l ⟨rfl, rfl, hr.2⟩)
    · intro s hs
      show oW (f_X0_kinds_L14 s (nI a) (nI (msk (fun i => soA σ (pu p (18 + a) i) n) 4)) 4) _
      unfold f_X0_kinds_L14
      exact oW_t (Int32.le_refl _) (oS_r ⟨rfl, hs⟩)
  · unfold f_X7_kinds_b22
    refine oW_msk (TMe μ p (18 + a)) (fun i => soA σ (pu p (18 + a) i) n) 0 4 (by omega) (by omega) rfl ht0 ?_ ?_
    · intro i s _ hi hs
      show oW (f_X7_kinds_L22 s (nI a) (nI (msk (fun i => soA σ (pu p (18 + a) i) n) i)) (nI i)) _
      unfold f_X7_kinds_L22 f_X7_kinds_b56
      rw [show (182 : Int32) + nI a = nI (182 + a) from nI_add 182 a, nI_clamp (by omega)]
      have pm := hs.put (by omega) (n := i) (j := 182 + a) (by omega) (kw i hi)
      refine oW_f (fun q => ?_) (oW_C (inb_t (by omega) (by decide)) (oW_L (oW_B (m_isAs h hn n2 n3 pm.1 (kw i hi) pm.2 (pu_n p (by omega))) (fun r hr => ?_))))
      · have := (nle (a := 4) (by decide) (by omega)).mp q
        omega
      have tx := (TMe.mk pm.1 (kw i hi) pm.2).fr hr.2
      rw [hr.1]
      show oW (if b2i (soA σ (pu p (18 + a) i) n) = 0 then _ else _) _
      cases soA σ (pu p (18 + a) i) n with
      | false => exact oW_t rfl (oS_l ⟨rfl, rfl, tx⟩)
      | true => exact oW_f (by decide) (oS_l ⟨rfl, rfl, tx⟩)
    · intro s hs
      show oW (f_X7_kinds_L22 s (nI a) (nI (msk (fun i => soA σ (pu p (18 + a) i) n) 4)) 4) _
      unfold f_X7_kinds_L22
      exact oW_t (Int32.le_refl _) (oS_r ⟨rfl, hs⟩)
/-- the speeds that would do -/
def spB (σ : Nat → Nat → Int32) (p : Nat → Nat) (a n i : Nat) : Bool := decide (1 ≤ i) && soA σ (pu p (22 + a) i) n
theorem spB_1 (a n : Nat) : msk (spB σ p a n) 1 = 0 := by
  show 0 ||| (if (decide (1 ≤ 0) && soA σ (pu p (22 + a) 0) n) = true then 2 ^ 0 else 0) = 0
  rw [decide_eq_false (by omega), Bool.false_and]
  rfl
theorem x_speedsOf (h : Rel p σ μ) {n : Nat} (hn : n ≤ 6) (n1 : σ 0 6 = nI n) (n3 : ∀ i, i < n → ∃ h c r, h < 4 ∧ c < 8 ∧ σ 6 (3 * i) = nI h ∧ μ 7 (3 * i) = nI h ∧ σ 6 (3 * i + 1) = nI c ∧ μ 7 (3 * i + 1) = nI c ∧ σ 6 (3 * i + 2) = r ∧ μ 7 (3 * i + 2) = r) {a : Nat} (ha : a < p 41) : oW (f_X0_speedsOf σ (nI a)) (fun r => r.1 = nI (msk (spB σ p a n) 10) ∧ FX σ r.2) := by
  have w := h.wf
  have hnh := w.nh
  have kw : ∀ i, i ≤ 9 → WF (pu p (22 + a) i) := fun i hi => w.plain (Or.inr (Or.inr ⟨by omega, by omega, hi⟩))
  unfold f_X0_speedsOf f_X0_speedsOf_b4
  refine oW_msk (FX σ) (spB σ p a n) 1 10 (by omega) (by omega) (spB_1 a n) FX.rf ?_ ?_
  · intro i s h1 hi hs
    show oW (f_X0_speedsOf_L4 s (nI a) (nI (msk (spB σ p a n) i)) (nI i)) _
    unfold f_X0_speedsOf_L4 f_X0_speedsOf_b28
    have e1 : spB σ p a n i = soA σ (pu p (18 + 4 * 1 + a) i) n := by
      unfold spB
      rw [decide_eq_true h1, Bool.true_and, show 18 + 4 * 1 + a = 22 + a from by omega]
    refine oW_f (fun q => ?_) (oW_B (x_isSo h hn n1 n3 hs (d := 1) ha (by decide) (by omega) (by rw [show 18 + 4 * 1 + a = 22 + a from by omega]; exact kw i (by omega))) (fun r hr => ?_))
    · have := (nlt (a := 9) (by decide) (by omega)).mp q
      omega
    rw [hr.1, ← e1]
    cases spB σ p a n i with
    | false => exact oW_t rfl (oS_l ⟨rfl, rfl, hr.2⟩)
    | true => exact oW_f (by decide) (oS_l ⟨rfl, rfl, hr.2⟩)
  · intro s hs
    show oW (f_X0_speedsOf_L4 s (nI a) (nI (msk (spB σ p a n) 10)) 10) _
    unfold f_X0_speedsOf_L4
    exact oW_t (by decide) (oS_r ⟨rfl, hs⟩)
/-- where it rests, by speed and column -/
def rB (p : Nat → Nat) (a i c : Nat) : Option Nat := (run (pu p (22 + a) i) a c 0).1
theorem TMe.s8 {e : Nat} (h : TMe μ p e s) (j : Nat) (v : Int32) : TMe μ p e (upd2 s 8 j v) := by
  obtain ⟨h1, v', w, g⟩ := h
  refine ⟨⟨fun k a b c d e => ?_, fun j h => ?_, fun j a b c d => ?_⟩, v', w, ?_⟩
  · rw [u2_k _ _ _ e]; exact h1.1 k a b c d e
  · rw [u2_k _ _ _ (by decide)]; exact h1.2.1 j h
  · rw [u2_k _ _ _ (by decide)]; exact h1.2.2 j a b c d
  · unfold PgM
    rw [u2_k _ _ _ (by decide)]
    exact g
theorem m_speedsOf (h : Rel p σ μ) {n : Nat} (hn : n ≤ 6) (n2 : μ 0 22 = nI n) (n3 : ∀ i, i < n → ∃ h c r, h < 4 ∧ c < 8 ∧ σ 6 (3 * i) = nI h ∧ μ 7 (3 * i) = nI h ∧ σ 6 (3 * i + 1) = nI c ∧ μ 7 (3 * i + 1) = nI c ∧ σ 6 (3 * i + 2) = r ∧ μ 7 (3 * i + 2) = r) {a : Nat} (ha : a < p 41) : oW (f_X7_speedsOf μ (nI a)) (fun r => r.1 = nI (msk (spB σ p a n) 10) ∧ FM μ r.2 ∧ ∀ i c, 1 ≤ i → i ≤ 9 → c < 8 → r.2 8 (8 * i + c) = eN (rB p a i c)) := by
  have w := h.wf
  have hnh := w.nh
  have kw : ∀ i, i ≤ 9 → WF (pu p (22 + a) i) := fun i hi => w.plain (Or.inr (Or.inr ⟨by omega, by omega, hi⟩))
  have e41 : ∀ i, pu p (22 + a) i 41 = p 41 := fun i => pu_n p (by omega)
  unfold f_X7_speedsOf
  refine oW_B (m_try2 h FM.rf (22 + a)) (fun t0 ht0 => ?_)
  unfold f_X7_speedsOf_b12
  refine oW_lp (fun i x => x.1 = nI (msk (spB σ p a n) (i + 1)) ∧ x.2.1 = nI (i + 1) ∧ TMe μ p (22 + a) x.2.2 ∧ ∀ i' c, 1 ≤ i' → i' ≤ i → c < 8 → x.2.2 8 (8 * i' + c) = eN (rB p a i' c)) 9 (by rw [gFU_eq]; decide) ⟨by rw [Nat.zero_add, spB_1]; rfl, rfl, ht0, fun i' c a b => absurd a (by omega)⟩ ?_
  rintro i ⟨_, _, t⟩ hi ⟨rfl, rfl, ht, hb⟩
  dsimp only at ht hb ⊢
  unfold f_X7_speedsOf_L12
  by_cases h9 : i = 9
  · subst h9
    exact oW_t (by decide) (oS_r ⟨rfl, ht.1, fun i c a b d => hb i c a (by omega) d⟩)
  refine oW_f (fun q => ?_) ?_
  · have := (nlt (a := 9) (by decide) (by omega)).mp q
    omega
  rw [show (186 : Int32) + nI a = nI (186 + a) from nI_add 186 a, nI_clamp (by omega)]
  have pm := ht.put (by omega) (n := i + 1) (j := 186 + a) (by omega) (kw (i + 1) (by omega))
  refine oW_C (inb_t (by omega) (by decide)) (oW_L (oW_B (m_isAs h hn n2 n3 pm.1 (kw (i + 1) (by omega)) pm.2 (e41 _)) (fun r hr => ?_)))
  rw [hr.1]
  have b8 : ∀ i' c, 1 ≤ i' → i' ≤ i → c < 8 → r.2 8 (8 * i' + c) = eN (rB p a i' c) := fun i' c x y z => by
    rw [hr.2.1 8 (by decide) (by decide), u2_k _ _ _ (by decide)]
    exact hb i' c x y z
  have eS : ∀ bit : Int32, bit = (if spB σ p a n (i + 1) then (1 : Int32) <<< (nI (i + 1) &&& 31) else 0) → oW (f_X7_speedsOf_b47 r.2 (nI a) (nI (i + 1)) bit (nI (msk (spB σ p a n) (i + 1)))) (oS (fun s' => i < 9 ∧ s'.1 = nI (msk (spB σ p a n) (i + 1 + 1)) ∧ s'.2.1 = nI (i + 1 + 1) ∧ TMe μ p (22 + a) s'.2.2 ∧ ∀ i' c, 1 ≤ i' → i' ≤ i + 1 → c < 8 → s'.2.2 8 (8 * i' + c) = eN (rB p a i' c)) (fun r => r.1 = nI (msk (spB σ p a n) 10) ∧ FM μ r.2 ∧ ∀ i c, 1 ≤ i → i ≤ 9 → c < 8 → r.2 8 (8 * i + c) = eN (rB p a i c))) := by
    rintro bit rfl
    unfold f_X7_speedsOf_b47 f_X7_speedsOf_b52
    rw [msk_S (by omega)]
    refine oW_lp (fun c x => x.1 = nI c ∧ FM μ x.2 ∧ PgM x.2 164 (pu p (22 + a) (i + 1)) ∧ (∀ i' c, 1 ≤ i' → i' ≤ i → c < 8 → x.2 8 (8 * i' + c) = eN (rB p a i' c)) ∧ ∀ c', c' < c → x.2 8 (8 * (i + 1) + c') = eN (rB p a (i + 1) c')) 8 (by rw [gFU_eq]; decide) ⟨rfl, pm.1.tr hr.2.fm, hr.2.pg pm.2, b8, fun c' hc => absurd hc (by omega)⟩ ?_
    rintro c ⟨_, t⟩ hc ⟨rfl, fm, gm, hb1, hb2⟩
    dsimp only at fm gm hb1 hb2 ⊢
    unfold f_X7_speedsOf_L52
    by_cases h8 : c = 8
    · subst h8
      refine oW_t (Int32.le_refl _) (oS_r ⟨by omega, rfl, nI_1 _, TMe.mk fm (kw (i + 1) (by omega)) gm, fun i' c x y z => ?_⟩)
      by_cases e : i' = i + 1
      · subst e; exact hb2 c z
      · exact hb1 i' c x (by omega) z
    · refine oW_f (n8le (by omega)) (oW_B (m_runs1 gm (kw (i + 1) (by omega)) (by rw [e41]; exact ha) (by omega)) (fun t' ht' => ?_))
      rw [n_8, nI_mul, nI_add, nI_clamp (by omega), ht'.2.1]
      have f8 : t' 8 = t 8 := ht'.1.1 8 (by decide) (by decide)
      have tm := (TMe.mk (fm.tr ht'.1.fm) (kw (i + 1) (by omega)) (ht'.1.pg gm)).s8 (8 * (i + 1) + c) (eN (run (pu p (22 + a) (i + 1)) a c 0).1)
      refine oW_C (inb_t (by omega) (by decide)) (oW_L (oS_l ⟨by omega, nI_1 c, tm.1, ?_, fun i' c' x y z => ?_, fun c' hc' => ?_⟩))
      · show PgM (upd2 t' 8 (8 * (i + 1) + c) (eN (run (pu p (22 + a) (i + 1)) a c 0).1)) 164 (pu p (22 + a) (i + 1))
        unfold PgM
        rw [u2_k _ _ _ (by decide)]
        exact ht'.1.pg gm
      · show upd2 t' 8 (8 * (i + 1) + c) _ 8 (8 * i' + c') = _
        rw [u2_j _ _ _ (by omega), f8]
        exact hb1 i' c' x y z
      · show upd2 t' 8 (8 * (i + 1) + c) _ 8 (8 * (i + 1) + c') = _
        by_cases e : c' = c
        · subst e; rw [u2_s]; rfl
        · rw [u2_j _ _ _ (by omega), f8]
          exact hb2 c' (by omega)
  have e1 : spB σ p a n (i + 1) = soA σ (pu p (22 + a) (i + 1)) n := by
    unfold spB
    rw [decide_eq_true (by omega : 1 ≤ i + 1), Bool.true_and]
  rw [← e1]
  cases es : spB σ p a n (i + 1) with
  | false => exact oW_t rfl (eS 0 (by rw [es]; rfl))
  | true => exact oW_f (by decide) (eS _ (by rw [es]; rfl))
theorem op_speeds (h : Rel p σ μ) (l1 : Int32) : oE (f_X0_speeds σ l1) (f_X7_speeds μ l1) (Rel p) := by
  obtain ⟨n, hn, n1, n2, n3⟩ := h.see
  unfold f_X0_speeds f_X7_speeds
  refine oE_hog h h ?_
  rintro a ha rfl
  exact oE_of (A := FX σ) (B := FM μ) (nI (msk (spB σ p a n) 10)) (oW_B (x_speedsOf h hn n1 n3 ha) (fun r hr => oW_some hr)) (oW_B (m_speedsOf h hn n2 n3 ha) (fun r hr => oW_some ⟨hr.1, hr.2.1⟩)) (fun s s' hs hs' => h.fr hs hs')
end SE
