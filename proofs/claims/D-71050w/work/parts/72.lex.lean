/-! ===== the reader's words, in step ===== -/
set_option maxRecDepth 100000
/-- the tape: n numbers below 128 -/
def TpR (σ μ : Nat → Nat → Int32) (n : Nat) (tv : Nat → Nat) : Prop := n ≤ 160 ∧ σ 42 0 = nI n ∧ μ 0 6 = nI n ∧ ∀ i, i < n → tv i < 128 ∧ σ 8 i = nI (tv i) ∧ μ 3 i = nI (tv i)
/-- what next(), step() leave alone -/
def NxX (σ σ' : Nat → Nat → Int32) : Prop := (∀ k, k ≠ 42 → σ' k = σ k) ∧ ∀ j, (j < 3 ∨ 6 < j) → σ' 42 j = σ 42 j
def NxM (μ μ' : Nat → Nat → Int32) : Prop := (∀ k, k ≠ 0 → μ' k = μ k) ∧ ∀ j, (j < 8 ∨ 13 < j) → μ' 0 j = μ 0 j
section NX
variable {σ σ' s μ μ' m : Nat → Nat → Int32} {n a : Nat} {tv : Nat → Nat}
theorem NxX.rf : NxX σ σ := ⟨fun _ _ => rfl, fun _ _ => rfl⟩
theorem NxM.rf : NxM μ μ := ⟨fun _ _ => rfl, fun _ _ => rfl⟩
theorem NxX.tr (h : NxX σ s) (g : NxX s σ') : NxX σ σ' := ⟨fun k q => (g.1 k q).trans (h.1 k q), fun j q => (g.2 j q).trans (h.2 j q)⟩
theorem NxM.tr (h : NxM μ m) (g : NxM m μ') : NxM μ μ' := ⟨fun k q => (g.1 k q).trans (h.1 k q), fun j q => (g.2 j q).trans (h.2 j q)⟩
theorem NxX.put (h : NxX σ s) {j : Nat} {v : Int32} (hj : 3 ≤ j ∧ j ≤ 6) : NxX σ (upd2 s 42 j v) := by
  refine ⟨fun k q => ?_, fun i q => ?_⟩
  · rw [u2_k _ _ _ q]; exact h.1 k q
  · rw [u2_j _ _ _ (by omega)]; exact h.2 i q
theorem NxM.put (h : NxM μ m) {j : Nat} {v : Int32} (hj : 8 ≤ j ∧ j ≤ 13) : NxM μ (upd2 m 0 j v) := by
  refine ⟨fun k q => ?_, fun i q => ?_⟩
  · rw [u2_k _ _ _ q]; exact h.1 k q
  · rw [u2_j _ _ _ (by omega)]; exact h.2 i q
theorem TpR.fr (h : TpR σ μ n tv) (fx : NxX σ σ') (fm : NxM μ μ') : TpR σ' μ' n tv := by
  refine ⟨h.1, ?_, ?_, fun i hi => ?_⟩
  · rw [fx.2 0 (by omega)]; exact h.2.1
  · rw [fm.2 6 (by omega)]; exact h.2.2.1
  · rw [fx.1 8 (by decide), fm.1 3 (by decide)]; exact h.2.2.2 i hi
def inC (n : Nat) (tv : Nat → Nat) (lo hi a : Nat) : Bool := decide (a < n ∧ lo ≤ tv a ∧ tv a ≤ hi)
theorem x_isIn (T : TpR σ μ n tv) (ha : a ≤ n) (h3 : σ 42 3 = nI a) {lo hi : Nat} (h1 : lo < 128) (h2 : hi < 128) : f_X8_isIn σ (nI lo) (nI hi) = some (b2i (inC n tv lo hi a)) := by
  have hn := T.1
  unfold f_X8_isIn inC
  rw [T.2.1, h3]
  by_cases h : n ≤ a
  · rw [if_pos ((nle (by omega) (by omega)).mpr h), decide_eq_false (by omega)]; rfl
  · obtain ⟨t1, t2, _⟩ := T.2.2.2 a (by omega)
    rw [if_neg (fun q => h ((nle (by omega) (by omega)).mp q)), inb_t (by omega) (by decide), oC_t, nI_clamp (by omega), t2]
    by_cases g1 : tv a < lo
    · rw [if_pos ((nlt (by omega) (by omega)).mpr g1), decide_eq_false (by omega)]; rfl
    · rw [if_neg (fun q => g1 ((nlt (by omega) (by omega)).mp q)), oC_t]
      by_cases g2 : hi < tv a
      · rw [if_pos ((nlt (by omega) (by omega)).mpr g2), decide_eq_false (by omega)]; rfl
      · rw [if_neg (fun q => g2 ((nlt (by omega) (by omega)).mp q)), decide_eq_true (by omega)]; rfl
/-- the reference's byte: none behind the end -/
def byV (n : Nat) (tv : Nat → Nat) (a : Nat) : Int32 := if a < n then nI (tv a) else -4
theorem m_byteAt (T : TpR σ μ n tv) (ha : a ≤ n) : f_X7_byteAt μ (nI a) = some (byV n tv a) := by
  have hn := T.1
  unfold f_X7_byteAt byV
  rw [T.2.2.1]
  by_cases h : n ≤ a
  · rw [if_pos ((nle (by omega) (by omega)).mpr h), if_neg (by omega)]
  · obtain ⟨_, _, t3⟩ := T.2.2.2 a (by omega)
    rw [if_neg (fun q => h ((nle (by omega) (by omega)).mp q)), inb_t (by omega) (by decide), oC_t, nI_clamp (by omega), t3, if_pos (by omega)]
theorem byV_toInt (T : TpR σ μ n tv) (a : Nat) : (byV n tv a).toInt = if a < n then (tv a : Int) else -4 := by
  unfold byV
  by_cases h : a < n
  · have := (T.2.2.2 a h).1
    rw [if_pos h, if_pos h, nI_toInt (by omega)]
  · rw [if_neg h, if_neg h]; rfl
theorem m_inB (T : TpR σ μ n tv) {lo hi : Int64} {l h : Nat} (h1 : lo.toInt = l) (h2 : hi.toInt = h) : f_X7_in (Int32.toInt64 (byV n tv a)) lo hi = some (b2i (inC n tv l h a)) := by
  rw [inM_eq]
  unfold inC
  have e := byV_toInt T a
  by_cases q : a < n ∧ l ≤ tv a ∧ tv a ≤ h
  · rw [in_in _ _ _ (by rw [e, h1, h2, if_pos q.1]; omega), decide_eq_true q]; rfl
  · rw [in_out _ _ _ (by rw [e, h1, h2]; split <;> omega), decide_eq_false q]; rfl
theorem byV_eq (T : TpR σ μ n tv) {c : Nat} (hc : c < 128) : byV n tv a = nI c ↔ inC n tv c c a = true := by
  unfold byV inC
  rw [decide_eq_true_eq]
  by_cases h : a < n
  · have := (T.2.2.2 a h).1
    rw [if_pos h, nI_eq (by omega) (by omega)]
    omega
  · rw [if_neg h]
    exact ⟨fun q => absurd q.symm (nI_nm4 (by omega)), fun q => absurd q.1 h⟩
theorem byV_end (T : TpR σ μ n tv) (ha : a ≤ n) : byV n tv a = -4 ↔ a = n := by
  unfold byV
  by_cases h : a < n
  · have := (T.2.2.2 a h).1
    rw [if_pos h]
    exact ⟨fun q => absurd q (nI_nm4 (by omega)), fun q => by omega⟩
  · rw [if_neg h]
    exact ⟨fun _ => by omega, fun _ => rfl⟩
/-- a word is read: where, what, how it stands on both sides; a0: where the one before it ended -/
def Lx (σ μ : Nat → Nat → Int32) (n a0 : Nat) : Prop := ∃ a b s, a0 ≤ b ∧ b ≤ a ∧ a ≤ n ∧ s < 4 ∧ (s ≠ 0 → a0 < a) ∧ σ 42 3 = nI a ∧ σ 42 4 = nI b ∧ σ 42 5 = nI s ∧ μ 0 8 = 0 ∧ μ 0 10 = nI a ∧ μ 0 11 = nI b ∧ μ 0 12 = nI s ∧ (s = 2 → ∃ v, v < 100 ∧ σ 42 6 = nI v ∧ μ 0 13 = nI v)
/-- it failed on both sides: code, place -/
def Fl (c pl : Int32) (μ : Nat → Nat → Int32) : Prop := (∃ k, 0 < k ∧ k < 10 ∧ c = nI k) ∧ μ 0 8 = c ∧ μ 0 9 = pl
def ROx (σ0 μ0 : Nat → Nat → Int32) (n a0 : Nat) : (Int32 × Int32 × (Nat → Nat → Int32)) ⊕ (Nat → Nat → Int32) → (Nat → Nat → Int32) → Prop
  | .inl t, μ' => NxX σ0 t.2.2 ∧ NxM μ0 μ' ∧ Fl t.1 t.2.1 μ'
  | .inr σ', μ' => NxX σ0 σ' ∧ NxM μ0 μ' ∧ Lx σ' μ' n a0
theorem m_fails {c : Nat} (h : μ 0 8 = 0) : f_X7_fails μ (nI c) = some (upd2 (upd2 μ 0 8 (nI c)) 0 9 (μ 0 11)) := by
  unfold f_X7_fails
  rw [if_pos h, oL_s, oL_s, u2_j _ _ _ (by decide)]
theorem Fl_of {c : Nat} {v : Int32} (hc : 0 < c ∧ c < 10) : Fl (nI c) v (upd2 (upd2 μ 0 8 (nI c)) 0 9 v) := ⟨⟨c, hc.1, hc.2, rfl⟩, by rw [u2_j _ _ _ (by decide), u2_s], by rw [u2_s]⟩
theorem x_need0 {c : Int32} : f_X8_need σ 0 c = some (.inl (c, σ 42 4, σ)) := by
  unfold f_X8_need
  rw [if_pos rfl]
theorem x_need1 {b c : Int32} (h : b ≠ 0) : f_X8_need σ b c = some (.inr σ) := by
  unfold f_X8_need
  rw [if_neg h]
theorem oM_li {τ ρ α : Type} (t : τ) (f : τ → Option α) (g : ρ → Option α) : oM (.inl t) f g = f t := rfl
theorem oM_ri {τ ρ α : Type} (t : ρ) (f : τ → Option α) (g : ρ → Option α) : oM (.inr t) f g = g t := rfl
/-- letters -/
theorem p_letters {a0 b : Nat} (T : TpR σ μ n tv) (hb : a0 ≤ b) (hn : b ≤ n) (hin : inC n tv 97 122 b = true) (h3 : σ 42 3 = nI b) (h4 : σ 42 4 = nI b) (h5 : σ 42 5 = 1) (g8 : μ 0 8 = 0) (g10 : μ 0 10 = nI b) (g11 : μ 0 11 = nI b) : oP (f_X8_next_b67 σ) (f_X7_step_b84 μ) (ROx σ μ n a0) := by
  unfold f_X8_next_b67 f_X7_step_b84
  have hN := T.1
  have one : ∀ (i : Nat) (s t : Nat → Nat → Int32), b + i ≤ n → (NxX σ s ∧ NxM μ t ∧ s 42 3 = nI (b + i) ∧ s 42 4 = nI b ∧ s 42 5 = 1 ∧ t 0 8 = 0 ∧ t 0 10 = nI (b + i) ∧ t 0 11 = nI b ∧ (i = 0 ∨ 0 < i)) → oP (f_X8_next_L67 s) (f_X7_step_L84 t) (oSS (fun s' t' => b + i < n ∧ (NxX σ s' ∧ NxM μ t' ∧ s' 42 3 = nI (b + (i + 1)) ∧ s' 42 4 = nI b ∧ s' 42 5 = 1 ∧ t' 0 8 = 0 ∧ t' 0 10 = nI (b + (i + 1)) ∧ t' 0 11 = nI b ∧ (i + 1 = 0 ∨ 0 < i + 1))) (ROx σ μ n a0)) := by
    intro i s t hi ⟨q1, q2, q3, q4, q5, r1, r2, r3, _⟩
    have T' := T.fr q1 q2
    unfold f_X8_next_L67 f_X7_step_L84
    refine oP_le (x_isIn T' hi q3 (lo := 97) (hi := 122) (by decide) (by decide)) ?_
    rw [r2]
    refine oP_re (m_byteAt T' hi) ?_
    refine oP_re (m_inB T' (l := 97) (h := 122) rfl rfl) ?_
    by_cases hc : inC n tv 97 122 (b + i) = true
    · rw [hc]
      refine oP_lf (by decide) (oP_rf (by decide) (oP_lL (oP_rL (oP_inl ?_))))
      have hlt : b + i < n := (of_decide_eq_true hc).1
      rw [q3, nI_1]
      refine ⟨hlt, q1.put (by decide), q2.put (by decide), u2_s _ _ _ _, ?_, ?_, ?_, ?_, ?_, Or.inr (by omega)⟩
      · rw [u2_j _ _ _ (by decide)]; exact q4
      · rw [u2_j _ _ _ (by decide)]; exact q5
      · rw [u2_j _ _ _ (by decide)]; exact r1
      · exact u2_s _ _ _ _
      · rw [u2_j _ _ _ (by decide)]; exact r3
    · have hc' : inC n tv 97 122 (b + i) = false := by cases e : inC n tv 97 122 (b + i) <;> simp_all
      rw [hc']
      refine oP_lt (by decide) (oP_rt (by decide) (oP_inr (oP_rL ?_)))
      have hpos : 0 < i := by
        rcases Nat.eq_zero_or_pos i with e | e
        · subst e
          rw [Nat.add_zero] at hc
          exact absurd hin hc
        · exact e
      refine ⟨_, _, rfl, rfl, q1, q2.put (by decide), b + i, b, 1, hb, by omega, hi, by omega, fun _ => by omega, q3, q4, q5, ?_, ?_, ?_, u2_s _ _ _ _, fun e => absurd e (by decide)⟩
      · rw [u2_j _ _ _ (by decide)]; exact r1
      · rw [u2_j _ _ _ (by decide)]; exact r2
      · rw [u2_j _ _ _ (by decide)]; exact r3
  refine oP_lp (fun (i : Nat) (s t : Nat → Nat → Int32) => b + i ≤ n ∧ NxX σ s ∧ NxM μ t ∧ s 42 3 = nI (b + i) ∧ s 42 4 = nI b ∧ s 42 5 = 1 ∧ t 0 8 = 0 ∧ t 0 10 = nI (b + i) ∧ t 0 11 = nI b ∧ (i = 0 ∨ 0 < i)) (n - b) (by omega) ⟨by omega, NxX.rf, NxM.rf, h3, h4, h5, g8, g10, g11, Or.inl rfl⟩ (fun i s t hi h => ?_) (fun s t h => ?_)
  · obtain ⟨x, y, e1, e2, e3⟩ := one i s t h.1 h.2
    refine ⟨x, y, e1, e2, ?_⟩
    cases x <;> cases y
    · exact ⟨by have := e3.1; omega, e3.2⟩
    · exact e3
    · exact e3
    · exact e3
  · refine oP_end ?_
    obtain ⟨x, y, e1, e2, e3⟩ := one (n - b) s t h.1 h.2
    refine ⟨x, y, e1, e2, ?_⟩
    cases x <;> cases y
    · have := e3.1; exact absurd this (by omega)
    · exact e3
    · exact e3
    · exact e3
theorem ROx.tr {a0 : Nat} {x : (Int32 × Int32 × (Nat → Nat → Int32)) ⊕ (Nat → Nat → Int32)} {y : Nat → Nat → Int32} (fx : NxX σ s) (fm : NxM μ m) (h : ROx s m n a0 x y) : ROx σ μ n a0 x y := by
  cases x with
  | inl t => exact ⟨fx.tr h.1, fm.tr h.2.1, h.2.2⟩
  | inr t => exact ⟨fx.tr h.1, fm.tr h.2.1, h.2.2⟩
theorem ne_t {b : Bool} (h : ¬ b = true) : b = false := by cases b <;> simp_all
/-- digits -/
theorem p_digits {a0 b : Nat} (T : TpR σ μ n tv) (hb : a0 ≤ b) (hn : b ≤ n) (hin : inC n tv 48 57 b = true) (h3 : σ 42 3 = nI b) (h4 : σ 42 4 = nI b) (h5 : σ 42 5 = 2) (h6 : σ 42 6 = 0) (g8 : μ 0 8 = 0) (g10 : μ 0 10 = nI b) (g11 : μ 0 11 = nI b) (g13 : μ 0 13 = 0) : oP (f_X8_next_b112 σ) (f_X7_step_b140 μ) (ROx σ μ n a0) := by
  unfold f_X8_next_b112 f_X7_step_b140
  have hN := T.1
  have one : ∀ (i : Nat) (s t : Nat → Nat → Int32), b + i ≤ n → (NxX σ s ∧ NxM μ t ∧ s 42 3 = nI (b + i) ∧ s 42 4 = nI b ∧ s 42 5 = 2 ∧ t 0 8 = 0 ∧ t 0 10 = nI (b + i) ∧ t 0 11 = nI b ∧ ∃ w, s 42 6 = nI w ∧ t 0 13 = nI w ∧ (i = 0 → w = 0) ∧ (i ≤ 1 → w < 10) ∧ w < 100) → oP (f_X8_next_L112 s) (f_X7_step_L140 t) (oSS (fun s' t' => b + i < n ∧ (NxX σ s' ∧ NxM μ t' ∧ s' 42 3 = nI (b + (i + 1)) ∧ s' 42 4 = nI b ∧ s' 42 5 = 2 ∧ t' 0 8 = 0 ∧ t' 0 10 = nI (b + (i + 1)) ∧ t' 0 11 = nI b ∧ ∃ w, s' 42 6 = nI w ∧ t' 0 13 = nI w ∧ (i + 1 = 0 → w = 0) ∧ (i + 1 ≤ 1 → w < 10) ∧ w < 100)) (ROx σ μ n a0)) := by
    intro i s t hi ⟨q1, q2, q3, q4, q5, r1, r2, r3, w, w1, w2, w3, w4, w5⟩
    have T' := T.fr q1 q2
    have esub : nI (b + i) - nI b = nI i := by rw [nI_sub (by omega), Nat.add_sub_cancel_left]
    unfold f_X8_next_L112 f_X7_step_L140
    refine oP_le (x_isIn T' hi q3 (lo := 48) (hi := 57) (by decide) (by decide)) ?_
    rw [r2]
    refine oP_re (m_byteAt T' hi) ?_
    refine oP_re (m_inB T' (l := 48) (h := 57) rfl rfl) ?_
    by_cases hc : inC n tv 48 57 (b + i) = true
    · rw [hc]
      refine oP_lf (by decide) (oP_rf (by decide) ?_)
      have hd := of_decide_eq_true hc
      obtain ⟨t1, t2, t3⟩ := T'.2.2.2 (b + i) hd.1
      rw [q3, q4, r3, esub]
      have go : ∀ w' : Nat, (i + 1 ≤ 1 → w' < 10) → w' < 100 → oP (f_X8_next_b167 s (nI w')) (f_X7_step_b201 t (nI w')) (oSS (fun s' t' => b + i < n ∧ (NxX σ s' ∧ NxM μ t' ∧ s' 42 3 = nI (b + (i + 1)) ∧ s' 42 4 = nI b ∧ s' 42 5 = 2 ∧ t' 0 8 = 0 ∧ t' 0 10 = nI (b + (i + 1)) ∧ t' 0 11 = nI b ∧ ∃ w, s' 42 6 = nI w ∧ t' 0 13 = nI w ∧ (i + 1 = 0 → w = 0) ∧ (i + 1 ≤ 1 → w < 10) ∧ w < 100)) (ROx σ μ n a0)) := by
        intro w' k1 k2
        unfold f_X8_next_b167 f_X7_step_b201
        refine oP_lL (oP_lL (oP_rL (oP_rL (oP_inl ⟨hd.1, (q1.put (by decide)).put (by decide), (q2.put (by decide)).put (by decide), ?_, ?_, ?_, ?_, ?_, ?_, w', ?_, ?_, fun e => absurd e (by omega), k1, k2⟩))))
        · rw [u2_s, u2_j _ _ _ (by decide), q3, nI_1]; rfl
        · rw [u2_j _ _ _ (by decide), u2_j _ _ _ (by decide)]; exact q4
        · rw [u2_j _ _ _ (by decide), u2_j _ _ _ (by decide)]; exact q5
        · rw [u2_j _ _ _ (by decide), u2_j _ _ _ (by decide)]; exact r1
        · rw [u2_s, u2_j _ _ _ (by decide), r2, nI_1]; rfl
        · rw [u2_j _ _ _ (by decide), u2_j _ _ _ (by decide)]; exact r3
        · rw [u2_j _ _ _ (by decide), u2_s]
        · rw [u2_j _ _ _ (by decide), u2_s]
      by_cases h2 : 2 ≤ i
      · have c2 : (2 : Int32) ≤ nI i := (nle (a := 2) (by decide) (by omega)).mpr h2
        refine oP_lt c2 (oP_rt c2 ?_)
        rw [w1, w2]
        exact go w (fun e => absurd e (by omega)) w5
      · have c2 : ¬ (2 : Int32) ≤ nI i := fun e => h2 ((nle (a := 2) (by decide) (by omega)).mp e)
        refine oP_lf c2 (oP_rf c2 (oP_lC (inb_t (by omega) (by decide)) (oP_re (m_byteAt T' hi) ?_)))
        have eb : byV n tv (b + i) = nI (tv (b + i)) := by unfold byV; rw [if_pos hd.1]
        have ev : (10 : Int32) * nI w + nI (tv (b + i)) - 48 = nI (10 * w + tv (b + i) - 48) := by rw [n_10, nI_mul, nI_add, n_48, nI_sub (by omega)]
        rw [w1, w2, eb, nI_clamp (by omega), t2, ev]
        refine go _ (fun e => ?_) ?_
        · have := w3 (by omega); subst this; omega
        · have := w4 (by omega); omega
    · have hc' := ne_t hc
      rw [hc']
      refine oP_lt (by decide) (oP_rt (by decide) (oP_inr (oP_rL ?_)))
      have hpos : 0 < i := by
        rcases Nat.eq_zero_or_pos i with e | e
        · subst e
          rw [Nat.add_zero] at hc
          exact absurd hin hc
        · exact e
      have e10 : upd2 t 0 12 2 0 10 = nI (b + i) := by rw [u2_j _ _ _ (by decide)]; exact r2
      have e11 : upd2 t 0 12 2 0 11 = nI b := by rw [u2_j _ _ _ (by decide)]; exact r3
      rw [q3, q4, e10, e11, esub]
      by_cases h3 : 3 ≤ i
      · have c3 : (3 : Int32) ≤ nI i := (nle (a := 3) (by decide) (by omega)).mpr h3
        have c4 : ¬ nI i ≤ (2 : Int32) := fun e => absurd ((nle (b := 2) (by omega) (by decide)).mp e) (by omega)
        refine oP_lt c3 (oP_rf c4 ?_)
        unfold f_X8_next_b202
        rw [x_need0, oB_s, oM_li, q4]
        refine oP_re (m_fails (c := 1) (by rw [u2_j _ _ _ (by decide)]; exact r1)) ?_
        rw [e11]
        exact ⟨_, _, rfl, rfl, q1, ((q2.put (by decide)).put (by decide)).put (by decide), Fl_of (by decide)⟩
      · have c3 : ¬ (3 : Int32) ≤ nI i := fun e => h3 ((nle (a := 3) (by decide) (by omega)).mp e)
        have c4 : nI i ≤ (2 : Int32) := (nle (b := 2) (by omega) (by decide)).mpr (by omega)
        refine oP_lf c3 (oP_rt c4 ?_)
        unfold f_X8_next_b202
        rw [x_need1 (by decide), oB_s, oM_ri]
        refine ⟨_, _, rfl, rfl, q1, q2.put (by decide), b + i, b, 2, hb, by omega, hi, by omega, fun _ => by omega, q3, q4, q5, ?_, e10, e11, u2_s _ _ _ _, fun _ => ⟨w, w5, w1, ?_⟩⟩
        · rw [u2_j _ _ _ (by decide)]; exact r1
        · rw [u2_j _ _ _ (by decide)]; exact w2
  refine oP_lp (fun (i : Nat) (s t : Nat → Nat → Int32) => b + i ≤ n ∧ NxX σ s ∧ NxM μ t ∧ s 42 3 = nI (b + i) ∧ s 42 4 = nI b ∧ s 42 5 = 2 ∧ t 0 8 = 0 ∧ t 0 10 = nI (b + i) ∧ t 0 11 = nI b ∧ ∃ w, s 42 6 = nI w ∧ t 0 13 = nI w ∧ (i = 0 → w = 0) ∧ (i ≤ 1 → w < 10) ∧ w < 100) (n - b) (by omega) ⟨by omega, NxX.rf, NxM.rf, h3, h4, h5, g8, g10, g11, 0, h6, g13, fun _ => rfl, fun _ => by omega, by omega⟩ (fun i s t hi h => ?_) (fun s t h => ?_)
  · obtain ⟨x, y, e1, e2, e3⟩ := one i s t h.1 h.2
    refine ⟨x, y, e1, e2, ?_⟩
    cases x <;> cases y
    · exact ⟨by have := e3.1; omega, e3.2⟩
    · exact e3
    · exact e3
    · exact e3
  · refine oP_end ?_
    obtain ⟨x, y, e1, e2, e3⟩ := one (n - b) s t h.1 h.2
    refine ⟨x, y, e1, e2, ?_⟩
    cases x <;> cases y
    · have := e3.1; exact absurd this (by omega)
    · exact e3
    · exact e3
    · exact e3
/-- one word -/
theorem p_next {a : Nat} (T : TpR σ μ n tv) (hn : a ≤ n) (h3 : σ 42 3 = nI a) (g8 : μ 0 8 = 0) (g10 : μ 0 10 = nI a) : oP (f_X8_next_b0 σ) (f_X7_step μ) (ROx σ μ n a) := by
  unfold f_X7_step
  refine oP_rt (by rw [g8]; decide) ?_
  unfold f_X8_next_b0 f_X7_step_b8
  have hN := T.1
  have one : ∀ (i : Nat) (s t : Nat → Nat → Int32), a + i ≤ n → (NxX σ s ∧ NxM μ t ∧ s 42 3 = nI (a + i) ∧ t 0 8 = 0 ∧ t 0 10 = nI (a + i)) → oP (f_X8_next_L0 s) (f_X7_step_L8 t) (oSS (fun s' t' => a + i < n ∧ (NxX σ s' ∧ NxM μ t' ∧ s' 42 3 = nI (a + (i + 1)) ∧ t' 0 8 = 0 ∧ t' 0 10 = nI (a + (i + 1)))) (ROx σ μ n a)) := by
    intro i s t hi ⟨q1, q2, q3, r1, r2⟩
    have T' := T.fr q1 q2
    unfold f_X8_next_L0 f_X7_step_L8
    refine oP_le (x_isIn T' hi q3 (lo := 32) (hi := 32) (by decide) (by decide)) ?_
    rw [r2]
    refine oP_re (m_byteAt T' hi) ?_
    by_cases hc : inC n tv 32 32 (a + i) = true
    · rw [hc]
      have hd := of_decide_eq_true hc
      refine oP_lf (by decide) (oP_rt ((byV_eq T' (c := 32) (by decide)).mpr hc) (oP_lL (oP_rL (oP_inl ⟨hd.1, q1.put (by decide), q2.put (by decide), ?_, ?_, ?_⟩))))
      · rw [u2_s, q3, nI_1]; rfl
      · rw [u2_j _ _ _ (by decide)]; exact r1
      · rw [u2_s, nI_1]; rfl
    · have hc' := ne_t hc
      rw [hc']
      refine oP_lt (by decide) (oP_rf (fun e => hc ((byV_eq T' (c := 32) (by decide)).mp e)) (oP_inr (oP_lL (oP_rL ?_))))
      rw [q3]
      have Q1 : NxX σ (upd2 s 42 4 (nI (a + i))) := q1.put (by decide)
      have Q2 : NxM μ (upd2 t 0 11 (nI (a + i))) := q2.put (by decide)
      have T2 := T.fr Q1 Q2
      have e3 : upd2 s 42 4 (nI (a + i)) 42 3 = nI (a + i) := by rw [u2_j _ _ _ (by decide)]; exact q3
      have e4 : upd2 s 42 4 (nI (a + i)) 42 4 = nI (a + i) := u2_s _ _ _ _
      have e0 : upd2 s 42 4 (nI (a + i)) 42 0 = nI n := T2.2.1
      have f10 : upd2 t 0 11 (nI (a + i)) 0 10 = nI (a + i) := by rw [u2_j _ _ _ (by decide)]; exact r2
      have f11 : upd2 t 0 11 (nI (a + i)) 0 11 = nI (a + i) := u2_s _ _ _ _
      have f8 : upd2 t 0 11 (nI (a + i)) 0 8 = 0 := by rw [u2_j _ _ _ (by decide)]; exact r1
      generalize hs4 : upd2 s 42 4 (nI (a + i)) = s4 at *
      generalize ht4 : upd2 t 0 11 (nI (a + i)) = t4 at *
      rw [f10]
      refine oP_re (m_byteAt T2 hi) (oP_rL ?_)
      have Q3 : NxM μ (upd2 t4 0 13 0) := Q2.put (by decide)
      have k10 : upd2 t4 0 13 0 0 10 = nI (a + i) := by rw [u2_j _ _ _ (by decide)]; exact f10
      have k11 : upd2 t4 0 13 0 0 11 = nI (a + i) := by rw [u2_j _ _ _ (by decide)]; exact f11
      have k8 : upd2 t4 0 13 0 0 8 = 0 := by rw [u2_j _ _ _ (by decide)]; exact f8
      have k13 : upd2 t4 0 13 0 0 13 = 0 := u2_s _ _ _ _
      generalize hu4 : upd2 t4 0 13 0 = u4 at *
      have T3 := T.fr Q1 Q3
      rw [e3, e0]
      by_cases he : a + i = n
      · refine oP_lt (by rw [he]) (oP_rt ((byV_end T2 hi).mpr he) (oP_lL (oP_rL ⟨_, _, rfl, rfl, Q1.put (by decide), Q3.put (by decide), a + i, a + i, 0, by omega, Nat.le_refl _, hi, by omega, fun e => absurd rfl e, ?_, ?_, u2_s _ _ _ _, ?_, ?_, ?_, u2_s _ _ _ _, fun e => absurd e (by decide)⟩)))
        · rw [u2_j _ _ _ (by decide)]; exact e3
        · rw [u2_j _ _ _ (by decide)]; exact e4
        · rw [u2_j _ _ _ (by decide)]; exact k8
        · rw [u2_j _ _ _ (by decide)]; exact k10
        · rw [u2_j _ _ _ (by decide)]; exact k11
      · refine oP_lf (fun e => he ((nI_eq (by omega) (by omega)).mp e)) (oP_rf (fun e => he ((byV_end T2 hi).mp e)) ?_)
        refine oP_le (x_isIn T3 hi e3 (lo := 97) (hi := 122) (by decide) (by decide)) ?_
        refine oP_re (m_inB T2 (l := 97) (h := 122) rfl rfl) ?_
        by_cases hl : inC n tv 97 122 (a + i) = true
        · rw [hl]
          refine oP_lf (by decide) (oP_rf (by decide) (oP_lL ?_))
          have Q5 : NxX σ (upd2 s4 42 5 1) := Q1.put (by decide)
          obtain ⟨x, y, z1, z2, z3⟩ := p_letters (σ := upd2 s4 42 5 1) (μ := u4) (a0 := a) (b := a + i) (T.fr Q5 Q3) (by omega) hi hl (by rw [u2_j _ _ _ (by decide)]; exact e3) (by rw [u2_j _ _ _ (by decide)]; exact e4) (u2_s _ _ _ _) k8 k10 k11
          exact ⟨x, y, z1, z2, z3.tr Q5 Q3⟩
        · rw [ne_t hl]
          refine oP_lt (by decide) (oP_rt (by decide) ?_)
          refine oP_le (x_isIn T3 hi e3 (lo := 48) (hi := 57) (by decide) (by decide)) ?_
          refine oP_re (m_inB T2 (l := 48) (h := 57) rfl rfl) ?_
          by_cases hg : inC n tv 48 57 (a + i) = true
          · rw [hg]
            refine oP_lf (by decide) (oP_rf (by decide) (oP_lL (oP_lL ?_)))
            have Q5 : NxX σ (upd2 (upd2 s4 42 5 2) 42 6 0) := (Q1.put (by decide)).put (by decide)
            obtain ⟨x, y, z1, z2, z3⟩ := p_digits (σ := upd2 (upd2 s4 42 5 2) 42 6 0) (μ := u4) (a0 := a) (b := a + i) (T.fr Q5 Q3) (by omega) hi hg (by rw [u2_j _ _ _ (by decide), u2_j _ _ _ (by decide)]; exact e3) (by rw [u2_j _ _ _ (by decide), u2_j _ _ _ (by decide)]; exact e4) (by rw [u2_j _ _ _ (by decide), u2_s]) (u2_s _ _ _ _) k8 k10 k11 k13
            exact ⟨x, y, z1, z2, z3.tr Q5 Q3⟩
          · rw [ne_t hg]
            refine oP_lt (by decide) (oP_rt (by decide) (oP_lL (oP_rL (oP_rL ?_))))
            have Q5 : NxX σ (upd2 s4 42 5 3) := Q1.put (by decide)
            have j3 : upd2 s4 42 5 3 42 3 = nI (a + i) := by rw [u2_j _ _ _ (by decide)]; exact e3
            have j4 : upd2 s4 42 5 3 42 4 = nI (a + i) := by rw [u2_j _ _ _ (by decide)]; exact e4
            have l10 : upd2 u4 0 12 3 0 10 = nI (a + i) := by rw [u2_j _ _ _ (by decide)]; exact k10
            rw [l10, nI_1]
            refine oP_le (x_isIn (T.fr Q5 Q3) hi j3 (lo := 59) (hi := 59) (by decide) (by decide)) ?_
            by_cases hx : inC n tv 59 59 (a + i) = true
            · rw [hx]
              refine oP_le (x_need1 (by decide)) ?_
              rw [oM_ri]
              refine oP_lL (oP_rt ((byV_eq T2 (c := 59) (by decide)).mpr hx) ?_)
              rw [j3, nI_1]
              refine ⟨_, _, rfl, rfl, Q5.put (by decide), (Q3.put (by decide)).put (by decide), a + i + 1, a + i, 3, by omega, by omega, by omega, by omega, fun _ => by omega, u2_s _ _ _ _, ?_, ?_, ?_, u2_s _ _ _ _, ?_, ?_, fun e => absurd e (by decide)⟩
              · rw [u2_j _ _ _ (by decide)]; exact j4
              · rw [u2_j _ _ _ (by decide), u2_s]; rfl
              · rw [u2_j _ _ _ (by decide), u2_j _ _ _ (by decide)]; exact k8
              · rw [u2_j _ _ _ (by decide), u2_j _ _ _ (by decide)]; exact k11
              · rw [u2_j _ _ _ (by decide), u2_s]; rfl
            · rw [ne_t hx]
              refine oP_le x_need0 ?_
              rw [oM_li, j4]
              refine oP_rf (fun e => hx ((byV_eq T2 (c := 59) (by decide)).mp e)) (oP_re (m_fails (c := 1) (by rw [u2_j _ _ _ (by decide), u2_j _ _ _ (by decide)]; exact k8)) ?_)
              rw [u2_j (j := 10) (i := 11) _ _ _ (by decide), u2_j (j := 12) (i := 11) _ _ _ (by decide), k11]
              exact ⟨_, _, rfl, rfl, Q5, (((Q3.put (by decide)).put (by decide)).put (by decide)).put (by decide), Fl_of (by decide)⟩
  refine oP_lp (fun (i : Nat) (s t : Nat → Nat → Int32) => a + i ≤ n ∧ NxX σ s ∧ NxM μ t ∧ s 42 3 = nI (a + i) ∧ t 0 8 = 0 ∧ t 0 10 = nI (a + i)) (n - a) (by omega) ⟨by omega, NxX.rf, NxM.rf, h3, g8, g10⟩ (fun i s t hi h => ?_) (fun s t h => ?_)
  · obtain ⟨x, y, e1, e2, e3⟩ := one i s t h.1 h.2
    refine ⟨x, y, e1, e2, ?_⟩
    cases x <;> cases y
    · exact ⟨by have := e3.1; omega, e3.2⟩
    · exact e3
    · exact e3
    · exact e3
  · refine oP_end ?_
    obtain ⟨x, y, e1, e2, e3⟩ := one (n - a) s t h.1 h.2
    refine ⟨x, y, e1, e2, ?_⟩
    cases x <;> cases y
    · have := e3.1; exact absurd this (by omega)
    · exact e3
    · exact e3
    · exact e3
end NX
