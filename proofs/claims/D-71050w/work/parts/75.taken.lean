/-! ===== numbers and cells read, in step ===== -/
set_option maxRecDepth 100000
/-- the reference's second page as if it were the first -/
def swp (μ : Nat → Nat → Int32) : Nat → Nat → Int32 := fun k => if k = 1 then μ 2 else μ 0
theorem swp_put (μ : Nat → Nat → Int32) (j : Nat) (v : Int32) : swp (upd2 μ 2 j v) = upd2 (swp μ) 1 j v := by
  funext k i
  unfold swp upd2 updc upd
  by_cases h1 : k = 1
  · subst h1; simp
  · simp [h1]
theorem swp_1 (μ : Nat → Nat → Int32) : swp μ 1 = μ 2 := rfl
theorem Lx.mono {σ μ : Nat → Nat → Int32} {n a a' : Nat} (h : Lx σ μ n a) (ha : a' ≤ a) : Lx σ μ n a' := by
  obtain ⟨x, b, s, h1, h2, h3, h4, h5, h6⟩ := h
  exact ⟨x, b, s, by omega, h2, h3, h4, fun q => Nat.lt_of_le_of_lt ha (h5 q), h6⟩
theorem in_nat {v lo hi : Nat} (h1 : v < 2 ^ 31) (h2 : lo < 2 ^ 31) (h3 : hi < 2 ^ 31) : f_X0_in (Int32.toInt64 (nI v)) (Int32.toInt64 (nI lo)) (Int32.toInt64 (nI hi)) = some (b2i (decide (lo ≤ v ∧ v ≤ hi))) := by
  by_cases q : lo ≤ v ∧ v ≤ hi
  · rw [in_in _ _ _ (by rw [i2l_toInt, i2l_toInt, nI_toInt h1, nI_toInt h2, nI_toInt h3]; omega), decide_eq_true q]; rfl
  · rw [in_out _ _ _ (by rw [i2l_toInt, i2l_toInt, nI_toInt h1, nI_toInt h2, nI_toInt h3]; omega), decide_eq_false q]; rfl
section TK
variable {σ σ' s μ μ' m : Nat → Nat → Int32} {n a a0 : Nat} {tv p : Nat → Nat}
theorem Fl.ne {c pl : Int32} (h : Fl c pl μ) : ¬ μ 0 8 = 0 ∧ ¬ μ 0 8 ≤ 0 := by
  obtain ⟨⟨k, k1, k2, rfl⟩, h2, _⟩ := h
  rw [h2]
  exact ⟨nI_ne0 k1 (by omega), nI_nle k1 (by omega)⟩
theorem Fl.fr {c pl : Int32} (h : Fl c pl μ) (e : ∀ j, j = 8 ∨ j = 9 → μ' 0 j = μ 0 j) : Fl c pl μ' := ⟨h.1, by rw [e 8 (Or.inl rfl)]; exact h.2.1, by rw [e 9 (Or.inr rfl)]; exact h.2.2⟩
theorem m_step_st {c pl : Int32} (h : Fl c pl μ) : f_X7_step μ = some μ := by
  unfold f_X7_step
  rw [if_neg h.ne.2]
theorem m_number_st {c pl l l2 : Int32} (h : Fl c pl μ) : f_X7_number μ l l2 = some (l, μ) := by
  unfold f_X7_number f_X7_number_b20 f_X7_number_b47 f_X7_number_b62
  rw [if_neg h.ne.1, if_neg h.ne.1, if_neg h.ne.1, m_step_st h]
  rfl
theorem m_fails_st {c pl l : Int32} (h : Fl c pl μ) : f_X7_fails μ l = some μ := by
  unfold f_X7_fails
  rw [if_neg h.ne.1]
/-- a number read: it failed on both sides, or both have it -/
def ROv (σ0 μ0 : Nat → Nat → Int32) (n a0 lo hi : Nat) (W : Nat → Prop) : (Int32 × Int32 × (Nat → Nat → Int32)) ⊕ (Int32 × (Nat → Nat → Int32)) → Int32 × (Nat → Nat → Int32) → Prop
  | .inl t, y => NxX σ0 t.2.2 ∧ NxM μ0 y.2 ∧ Fl t.1 t.2.1 y.2
  | .inr v, y => NxX σ0 v.2 ∧ NxM μ0 y.2 ∧ Lx v.2 y.2 n a0 ∧ ∃ w, lo ≤ w ∧ w ≤ hi ∧ W w ∧ v.1 = nI w ∧ y.1 = nI w
theorem p_taken (T : TpR σ μ n tv) (L : Lx σ μ n a0) {lo hi : Nat} (hlo : lo < 128) (hhi : hi < 128) : oP (f_X8_taken σ (nI lo) (nI hi)) (f_X7_number μ (nI lo) (nI hi)) (ROv σ μ n a0 lo hi (fun _ => True)) := by
  obtain ⟨a, b, s, h1, h2, h3, h4, h5, x3, x4, x5, m8, m10, m11, m12, hv⟩ := L
  have hN := T.1
  unfold f_X8_taken f_X7_number
  by_cases hs : s = 2
  · subst hs
    obtain ⟨v, v1, v2, v3⟩ := hv rfl
    refine oP_lt x5 (oP_rt m8 (oP_rt m12 ?_))
    unfold f_X8_taken_b14 f_X7_number_b20
    refine oP_le (x_need1 (by decide)) ?_
    rw [oM_ri, v2, v3]
    refine oP_le (in_nat (by omega) (by omega) (by omega)) (oP_rt m8 (oP_re (by rw [inM_eq]; exact in_nat (by omega) (by omega) (by omega)) ?_))
    by_cases hr : lo ≤ v ∧ v ≤ hi
    · rw [decide_eq_true hr]
      refine oP_le (x_need1 (by decide)) (oP_rf (by decide) ?_)
      rw [oM_ri]
      unfold f_X7_number_b47
      refine oP_rt m8 ?_
      unfold f_X7_number_b62
      obtain ⟨x, y, z1, z2, z3⟩ := p_next T h3 x3 m8 m10
      refine oP_le z1 (oP_re z2 ?_)
      cases x with
      | inl t => exact ⟨_, _, rfl, rfl, z3⟩
      | inr t => exact ⟨_, _, rfl, rfl, z3.1, z3.2.1, z3.2.2.mono (by omega), v, hr.1, hr.2, trivial, v2, v3⟩
    · rw [decide_eq_false hr]
      refine oP_le x_need0 (oP_rt (by decide) ?_)
      rw [oM_li, x4]
      refine oP_re (m_fails (c := 3) m8) ?_
      rw [m11]
      have F : Fl (nI 3) (nI b) (upd2 (upd2 μ 0 8 (nI 3)) 0 9 (nI b)) := Fl_of (by decide)
      unfold f_X7_number_b47 f_X7_number_b62
      refine oP_rf F.ne.1 (oP_re (m_step_st F) ⟨_, _, rfl, rfl, NxX.rf, (NxM.rf.put (by decide)).put (by decide), F⟩)
  · have hs1 : ¬ nI s = 2 := fun q => hs ((nI_eq (a := s) (b := 2) (by omega) (by decide)).mp q)
    refine oP_lf (by rw [x5]; exact hs1) (oP_rt m8 (oP_rf (by rw [m12]; exact hs1) ?_))
    unfold f_X8_taken_b14
    refine oP_le x_need0 ?_
    rw [oM_li, x4]
    refine oP_re (m_fails (c := 2) m8) ?_
    rw [m11]
    have F : Fl (nI 2) (nI b) (upd2 (upd2 μ 0 8 (nI 2)) 0 9 (nI b)) := Fl_of (by decide)
    unfold f_X7_number_b20 f_X7_number_b47 f_X7_number_b62
    exact oP_rf F.ne.1 (oP_rf F.ne.1 (oP_re (m_step_st F) ⟨_, _, rfl, rfl, NxX.rf, (NxM.rf.put (by decide)).put (by decide), F⟩))
/-! is the cell on the page that is read -/
def anyN (f : Nat → Nat) (c m : Nat) : Bool := (List.range m).any (fun i => decide (f i = c))
theorem anyN_s (f : Nat → Nat) (c m : Nat) : anyN f c (m + 1) = (anyN f c m || decide (f m = c)) := by
  unfold anyN
  rw [List.range_succ, List.any_append]
  simp
theorem anyN_f {f : Nat → Nat} {c m : Nat} : anyN f c m = false ↔ ∀ i, i < m → f i ≠ c := by
  unfold anyN
  rw [List.any_eq_false]
  constructor
  · intro h i hi e
    exact h i (List.mem_range.mpr hi) (decide_eq_true e)
  · intro h i hi e
    exact h i (List.mem_range.mp hi) (of_decide_eq_true e)
theorem any_free {c : Nat} : (anyN p c (p 38) || anyN (fun j => p (14 + j)) c (p 39)) = !freeAt p c := by
  cases e : freeAt p c with
  | true =>
    obtain ⟨e1, e2⟩ := free_iff.mp e
    rw [anyN_f.mpr (fun i hi => pegAt_none e1 hi), anyN_f.mpr (fun i hi => slugAt_none e2 hi)]
    rfl
  | false =>
    cases q1 : anyN p c (p 38) with
    | true => rfl
    | false =>
      cases q2 : anyN (fun j => p (14 + j)) c (p 39) with
      | true => rfl
      | false =>
        have := free_iff.mpr ⟨fstI_of_none (anyN_f.mp q1), fstI_of_none (anyN_f.mp q2)⟩
        rw [e] at this
        cases this
theorem m_isReadCell (h : PgM (swp μ) 0 p) (w : WC p) {c : Nat} (hc : c < 2 ^ 31) : f_X7_isReadCell μ (nI c) = some (b2i (!freeAt p c)) := by
  have hnp := w.np
  have hns := w.ns
  have e38 : μ 2 (Int32.toNatClampNeg 38) = nI (p 38) := h.pegs
  have e39 : μ 2 (Int32.toNatClampNeg 39) = nI (p 39) := h.slugs
  have ep : ∀ i, i < p 38 → μ 2 i = nI (p i) := fun i hi => by have := h.peg hi; rwa [Nat.zero_add] at this
  have es : ∀ i, i < p 39 → μ 2 (14 + i) = nI (p (14 + i)) := fun i hi => by have := h.slug hi; rwa [Nat.zero_add] at this
  have two : ∀ q : Bool, f_X7_isReadCell_b43 μ (nI c) (b2i q) 0 = some (b2i (q || anyN (fun j => p (14 + j)) c (p 39))) := by
    intro q
    unfold f_X7_isReadCell_b43
    refine oW_eq (oW_lp (fun (i : Nat) (v : Int32 × Int32) => i ≤ p 39 ∧ v.2 = nI i ∧ v.1 = b2i (q || anyN (fun j => p (14 + j)) c i)) (p 39) (by rw [gFU_eq]; omega) ⟨Nat.zero_le _, rfl, by rw [show anyN (fun j => p (14 + j)) c 0 = false from rfl, Bool.or_false]⟩ (fun i v hi hh => ?_))
    obtain ⟨h1, h2, h3⟩ := hh
    unfold f_X7_isReadCell_L43
    rw [h2, e39]
    refine oW_C (by decide) ?_
    by_cases hi2 : i = p 39
    · subst hi2
      rw [if_pos ((nle (by omega) (by omega)).mpr (Nat.le_refl _)), h3, isB_b2i, oC_t]
      exact oS_r rfl
    · rw [if_neg (fun q => hi2 (by have := (nle (by omega) (by omega)).mp q; omega))]
      cases eq : (q || anyN (fun j => p (14 + j)) c i) with
      | true =>
        rw [h3, eq, if_neg (by decide)]
        unfold f_X7_isReadCell_b71 f_X7_isReadCell_b76
        exact oS_l ⟨by omega, by omega, nI_1 i, by rw [anyN_s, ← Bool.or_assoc, eq]; rfl⟩
      | false =>
        rw [h3, eq, if_pos (by decide), n_14, nI_add, nI_clamp (by omega), es i (by omega)]
        refine oW_C (inb_t (by omega) (by decide)) ?_
        by_cases hcc : p (14 + i) = c
        · rw [if_pos (by rw [hcc])]
          unfold f_X7_isReadCell_b71 f_X7_isReadCell_b76
          exact oS_l ⟨by omega, by omega, nI_1 i, by rw [anyN_s, ← Bool.or_assoc, eq, decide_eq_true hcc]; rfl⟩
        · rw [if_neg (fun q => hcc ((nI_eq (by have := w.slug (i := i) (by omega); omega) hc).mp q))]
          unfold f_X7_isReadCell_b76
          exact oS_l ⟨by omega, by omega, nI_1 i, by rw [anyN_s, ← Bool.or_assoc, eq, decide_eq_false hcc]; rfl⟩
  rw [← any_free]
  unfold f_X7_isReadCell f_X7_isReadCell_b4
  refine oW_eq (oW_lp (fun (i : Nat) (v : Int32 × Int32) => i ≤ p 38 ∧ v.2 = nI i ∧ v.1 = b2i (anyN p c i)) (p 38) (by rw [gFU_eq]; omega) ⟨Nat.zero_le _, rfl, rfl⟩ (fun i v hi hh => ?_))
  obtain ⟨h1, h2, h3⟩ := hh
  unfold f_X7_isReadCell_L4
  rw [h2, e38]
  refine oW_C (by decide) ?_
  by_cases hi2 : i = p 38
  · subst hi2
    rw [if_pos ((nle (by omega) (by omega)).mpr (Nat.le_refl _)), h3, two]
    exact oS_r rfl
  · rw [if_neg (fun q => hi2 (by have := (nle (by omega) (by omega)).mp q; omega))]
    cases eq : anyN p c i with
    | true =>
      rw [h3, eq, if_neg (by decide)]
      unfold f_X7_isReadCell_b29 f_X7_isReadCell_b34
      exact oS_l ⟨by omega, by omega, nI_1 i, by rw [anyN_s, eq]; rfl⟩
    | false =>
      rw [h3, eq, if_pos (by decide), nI_clamp (by omega), ep i (by omega)]
      refine oW_C (inb_t (by omega) (by decide)) ?_
      by_cases hcc : p i = c
      · rw [if_pos (by rw [hcc])]
        unfold f_X7_isReadCell_b29 f_X7_isReadCell_b34
        exact oS_l ⟨by omega, by omega, nI_1 i, by rw [anyN_s, eq, decide_eq_true hcc]; rfl⟩
      · rw [if_neg (fun q => hcc ((nI_eq (by have := w.peg (i := i) (by omega); omega) hc).mp q))]
        unfold f_X7_isReadCell_b34
        exact oS_l ⟨by omega, by omega, nI_1 i, by rw [anyN_s, eq, decide_eq_false hcc]; rfl⟩
theorem isCell_100 {v : Nat} (h : v < 100) : f_X0_isCell (nI v) = some (b2i (decide (v % 10 < 8))) := by
  have : ∀ v : Fin 100, f_X0_isCell (nI v.val) = some (b2i (decide (v.val % 10 < 8))) := by decide +kernel
  exact this ⟨v, h⟩
theorem m_cellHere_st {c pl : Int32} (h : Fl c pl μ) : f_X7_cellHere μ = some (0, μ) := by
  unfold f_X7_cellHere f_X7_cellHere_b32 f_X7_cellHere_b63
  rw [if_neg h.ne.1, if_neg h.ne.1, m_number_st h]
  rfl
theorem m_b32_st {c pl : Int32} (h : Fl c pl μ) : f_X7_cellHere_b32 μ = some (0, μ) := by
  unfold f_X7_cellHere_b32 f_X7_cellHere_b63
  rw [if_neg h.ne.1, m_number_st h]
  rfl
theorem p_takenCell (T : TpR σ μ n tv) (L : Lx σ μ n a0) (hx : PgX σ 4 p) (hm : PgM (swp μ) 0 p) (w : WC p) : oP (f_X8_takenCell σ) (f_X7_cellHere μ) (ROv σ μ n a0 0 97 (fun c => c % 10 < 8 ∧ freeAt p c = true)) := by
  obtain ⟨a, b, s, h1, h2, h3, h4, h5, x3, x4, x5, m8, m10, m11, m12, hv⟩ := L
  have hN := T.1
  unfold f_X8_takenCell f_X7_cellHere
  by_cases hs : s = 2
  · subst hs
    obtain ⟨v, v1, v2, v3⟩ := hv rfl
    refine oP_lt x5 (oP_rt m8 (oP_rt m12 ?_))
    unfold f_X8_takenCell_b14
    refine oP_le (x_need1 (by decide)) ?_
    rw [oM_ri, v2, v3, mod10 v1]
    refine oP_le (isCell_100 v1) ?_
    have z8 : nI (v % 10) < (8 : Int32) ↔ v % 10 < 8 := nlt (b := 8) (by omega) (by decide)
    by_cases hr : v % 10 < 8
    · rw [decide_eq_true hr]
      refine oP_le (x_need1 (by decide)) (oP_rt (z8.mpr hr) ?_)
      rw [oM_ri, v2]
      refine oP_le (x_isFreeC hx w (by omega)) ?_
      unfold f_X7_cellHere_b32
      refine oP_rt m8 (oP_rt m12 ?_)
      rw [v3]
      refine oP_re (m_isReadCell hm w (by omega)) ?_
      cases hfr : freeAt p v with
      | true =>
        refine oP_le (x_need1 (by decide)) (oP_rt (by decide) ?_)
        rw [oM_ri, v2]
        unfold f_X7_cellHere_b63 f_X7_number f_X7_number_b20
        rw [if_pos m8, if_pos (show μ 0 12 = 2 from m12), if_pos m8, v3, inM_eq]
        have ein : f_X0_in (Int32.toInt64 (nI v)) (Int32.toInt64 0) (Int32.toInt64 97) = some 1 := by
          have := in_nat (v := v) (lo := 0) (hi := 97) (by omega) (by decide) (by decide)
          rw [decide_eq_true (by omega)] at this
          exact this
        rw [ein, oB_s, if_neg (by decide)]
        unfold f_X7_number_b47
        rw [if_pos m8, v3]
        unfold f_X7_number_b62
        obtain ⟨x, y, z1, z2, z3⟩ := p_next T h3 x3 m8 m10
        refine oP_le z1 ?_
        rw [z2, oB_s, oB_s]
        cases x with
        | inl t => exact ⟨_, _, rfl, rfl, z3⟩
        | inr t => exact ⟨_, _, rfl, rfl, z3.1, z3.2.1, z3.2.2.mono (by omega), v, Nat.zero_le _, by omega, ⟨hr, hfr⟩, rfl, rfl⟩
      | false =>
        refine oP_le x_need0 (oP_rf (by decide) ?_)
        rw [oM_li, x4]
        refine oP_re (m_fails (c := 4) m8) ?_
        rw [m11]
        have F : Fl (nI 4) (nI b) (upd2 (upd2 μ 0 8 (nI 4)) 0 9 (nI b)) := Fl_of (by decide)
        unfold f_X7_cellHere_b63
        rw [m_number_st F, oB_s]
        exact ⟨_, _, rfl, rfl, NxX.rf, (NxM.rf.put (by decide)).put (by decide), F⟩
    · rw [decide_eq_false hr]
      refine oP_le x_need0 (oP_rf (fun q => hr (z8.mp q)) ?_)
      rw [oM_li, x4]
      refine oP_re (m_fails (c := 3) m8) ?_
      rw [m11]
      have F : Fl (nI 3) (nI b) (upd2 (upd2 μ 0 8 (nI 3)) 0 9 (nI b)) := Fl_of (by decide)
      rw [m_b32_st F]
      exact ⟨_, _, rfl, rfl, NxX.rf, (NxM.rf.put (by decide)).put (by decide), F⟩
  · have hs1 : ¬ nI s = 2 := fun q => hs ((nI_eq (a := s) (b := 2) (by omega) (by decide)).mp q)
    refine oP_lf (by rw [x5]; exact hs1) (oP_rt m8 (oP_rf (by rw [m12]; exact hs1) ?_))
    unfold f_X8_takenCell_b14
    refine oP_le x_need0 ?_
    rw [oM_li, x4]
    unfold f_X7_cellHere_b32
    refine oP_rt m8 (oP_rf (by rw [m12]; exact hs1) ?_)
    unfold f_X7_cellHere_b63 f_X7_number
    rw [if_pos m8, if_neg (by rw [m12]; exact hs1), show f_X7_fails μ 2 = _ from m_fails (c := 2) m8, oB_s, m11]
    have F : Fl (nI 2) (nI b) (upd2 (upd2 μ 0 8 (nI 2)) 0 9 (nI b)) := Fl_of (by decide)
    unfold f_X7_number_b20 f_X7_number_b47 f_X7_number_b62
    rw [if_neg F.ne.1, if_neg F.ne.1, m_step_st F, oB_s, oB_s]
    exact ⟨_, _, rfl, rfl, NxX.rf, (NxM.rf.put (by decide)).put (by decide), F⟩
end TK
