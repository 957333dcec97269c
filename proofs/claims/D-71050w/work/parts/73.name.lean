/-! ===== a word's name, on both sides ===== -/
set_option maxRecDepth 100000
theorem oLoop_oI {σ ρ : Type} {f : σ → Option (σ ⊕ ρ)} {s : σ} {x : Option ρ} (h : f s = oI x) (m : Nat) : oLoop (m + 1) f s = x := by
  show (match f s with | none => none | some (.inl s') => oLoop m f s' | some (.inr r) => some r) = x
  rw [h]
  cases x <;> rfl
def wlen (k : Nat) : Nat := gLen.getD k 0
def wdP (tv : Nat → Nat) (a b s k : Nat) : Prop := s = 1 ∧ a - b = wlen k ∧ ∀ c, c < wlen k → nI (tv (b + c)) = gCh k c
def wdB (tv : Nat → Nat) (a b s k : Nat) : Bool := decide (s = 1) && (decide (a - b = wlen k) && (List.range (wlen k)).all (fun c => decide (nI (tv (b + c)) = gCh k c)))
def wdU (tv : Nat → Nat) (b k m : Nat) : Bool := (List.range m).all (fun c => decide (nI (tv (b + c)) = gCh k c))
theorem wdU_s (tv : Nat → Nat) (b k m : Nat) : wdU tv b k (m + 1) = (wdU tv b k m && decide (nI (tv (b + m)) = gCh k m)) := by
  unfold wdU
  rw [List.range_succ, List.all_append]
  simp
theorem wdU_le {tv : Nat → Nat} {b k : Nat} {m m' : Nat} (h : wdU tv b k m = false) (hm : m ≤ m') : wdU tv b k m' = false := by
  cases e : wdU tv b k m' with
  | false => rfl
  | true =>
    unfold wdU at e h
    rw [List.all_eq_true] at e
    have : (List.range m).all (fun c => decide (nI (tv (b + c)) = gCh k c)) = true := by
      rw [List.all_eq_true]
      intro c hc
      rw [List.mem_range] at hc
      exact e c (List.mem_range.mpr (by omega))
    rw [this] at h
    cases h
theorem wlen_le {k : Nat} (hk : k < 7) : 3 ≤ wlen k ∧ wlen k ≤ 5 := by
  have : ∀ k : Fin 7, 3 ≤ wlen k.val ∧ wlen k.val ≤ 5 := by decide
  exact this ⟨k, hk⟩
theorem cut_len {k : Nat} (hk : k < 7) : cutN (k + 1) = cutN k + wlen k ∧ cutN k + wlen k ≤ 28 := by
  have : ∀ k : Fin 7, cutN (k.val + 1) = cutN k.val + wlen k.val ∧ cutN k.val + wlen k.val ≤ 28 := by decide
  exact this ⟨k, hk⟩
theorem let_ch {k c : Nat} (hk : k < 7) (hc : c < wlen k) : nI (letN (cutN k + c)) = gCh k c := by
  have : ∀ k : Fin 7, ∀ c : Fin 5, c.val < wlen k.val → nI (letN (cutN k.val + c.val)) = gCh k.val c.val := by decide +kernel
  exact this ⟨k, hk⟩ ⟨c, by have := wlen_le hk; omega⟩ hc
section NA
variable {σ μ : Nat → Nat → Int32} {n a b s : Nat} {tv : Nat → Nat}
theorem x_is_b39_0 (k : Nat) : f_X8_is_b39 σ k 0 0 = some 0 := by
  unfold f_X8_is_b39
  exact oLoop_oI (x := some 0) (by unfold f_X8_is_L39; rw [if_pos rfl]) 4999
theorem x_is_b39_1 (T : TpR σ μ n tv) (ha : a ≤ n) (h4 : σ 42 4 = nI b) {k : Nat} (hk : k < 7) (hl : b + wlen k = a) : f_X8_is_b39 σ k 1 0 = some (b2i (wdU tv b k (wlen k))) := by
  have hN := T.1
  have hw := wlen_le hk
  unfold f_X8_is_b39
  refine oW_eq (oW_lp (fun (i : Nat) (v : Int32 × Int32) => i ≤ wlen k ∧ v.2 = nI i ∧ v.1 = b2i (wdU tv b k i)) (wlen k) (by rw [gFU_eq]; omega) ⟨Nat.zero_le _, rfl, rfl⟩ (fun i v hi h => ?_))
  obtain ⟨h1, h2, h3⟩ := h
  unfold f_X8_is_L39
  rw [h2, h3]
  cases e : wdU tv b k i with
  | false =>
    rw [if_pos (by decide)]
    exact oS_r (by rw [wdU_le e h1])
  | true =>
    have hgl : gLen.getD k 0 = wlen k := rfl
    rw [if_neg (by decide), hgl]
    by_cases hi2 : i = wlen k
    · subst hi2
      rw [if_pos ((nle (by omega) (by omega)).mpr (Nat.le_refl _))]
      exact oS_r (by rw [e])
    · rw [if_neg (fun q => hi2 (by have := (nle (by omega) (by omega)).mp q; omega)), h4, nI_add, nI_clamp (by omega), nI_clamp (by omega)]
      obtain ⟨t1, t2, _⟩ := T.2.2.2 (b + i) (by omega)
      refine oW_C (inb_t (by omega) (by decide)) (oW_C (inb_t (by omega) (by omega)) ?_)
      rw [t2]
      have eu := wdU_s tv b k i
      rw [e, Bool.true_and] at eu
      by_cases hc : nI (tv (b + i)) = gCh k i
      · rw [if_pos hc]
        exact oS_l ⟨by omega, by omega, nI_1 i, by rw [eu, decide_eq_true hc]; rfl⟩
      · rw [if_neg hc]
        exact oS_l ⟨by omega, by omega, nI_1 i, by rw [eu, decide_eq_false hc]; rfl⟩
theorem x_is (T : TpR σ μ n tv) (hb : b ≤ a) (ha : a ≤ n) (hs : s < 4) (h3 : σ 42 3 = nI a) (h4 : σ 42 4 = nI b) (h5 : σ 42 5 = nI s) {k : Nat} (hk : k < 7) : f_X8_is σ (nI k) = some (b2i (wdB tv a b s k)) := by
  have hN := T.1
  have hw := wlen_le hk
  unfold f_X8_is wdB
  rw [inb_t hk (by decide), oC_t, nI_clamp (by omega), h5, h3, h4, nI_sub hb]
  by_cases h1 : s = 1
  · subst h1
    rw [if_pos (show nI 1 = (1 : Int32) from rfl)]
    have hgl : gLen.getD k 0 = wlen k := rfl
    rw [hgl]
    by_cases h2 : a - b = wlen k
    · rw [if_pos (by rw [h2]), x_is_b39_1 T ha h4 hk (by omega), oB_s, isB_b2i, oC_t, decide_eq_true (rfl : 1 = 1), decide_eq_true h2]
      rfl
    · rw [if_neg (fun q => h2 ((nI_eq (by omega) (by omega)).mp q)), x_is_b39_0, oB_s, decide_eq_false h2]
      simp only [Bool.false_and, Bool.and_false]
      rfl
  · rw [if_neg (show ¬ nI s = (1 : Int32) from fun q => h1 ((nI_eq (b := 1) (by omega) (by decide)).mp q)), x_is_b39_0, oB_s, decide_eq_false h1]
    rfl
/-- the first name that the word is; 7: none -/
def nmP (tv : Nat → Nat) (a b s j : Nat) : Prop := j ≤ 7 ∧ (∀ i, i < j → wdB tv a b s i = false) ∧ (j = 7 ∨ wdB tv a b s j = true)
theorem nm_ex (tv : Nat → Nat) (a b s : Nat) : ∃ j, nmP tv a b s j := by
  have key : ∀ m, m ≤ 7 → (∀ i, i < m → wdB tv a b s i = false) ∨ ∃ j, nmP tv a b s j := by
    intro m
    induction m with
    | zero => intro _; exact Or.inl (fun i hi => absurd hi (by omega))
    | succ m ih =>
      intro hm
      rcases ih (by omega) with h | h
      · cases e : wdB tv a b s m with
        | false =>
          refine Or.inl (fun i hi => ?_)
          by_cases hi2 : i = m
          · subst hi2; exact e
          · exact h i (by omega)
        | true => exact Or.inr ⟨m, by omega, h, Or.inr e⟩
      · exact Or.inr h
  rcases key 7 (Nat.le_refl _) with h | h
  · exact ⟨7, Nat.le_refl _, h, Or.inl rfl⟩
  · exact h
theorem x_line_eq (T : TpR σ μ n tv) (hb : b ≤ a) (ha : a ≤ n) (hs : s < 4) (h3 : σ 42 3 = nI a) (h4 : σ 42 4 = nI b) (h5 : σ 42 5 = nI s) {j : Nat} (hj : nmP tv a b s j) : f_X8_line σ = f_X8_line_b22 σ (nI j) := by
  have key : ∀ d i fu, i + d = j → d < fu → oLoop fu (fun v : Int32 => f_X8_line_L2 σ v) (nI i) = f_X8_line_b22 σ (nI j) := by
    intro d
    induction d with
    | zero =>
      intro i fu h1 h2
      obtain ⟨m, rfl⟩ : ∃ m, fu = m + 1 := ⟨fu - 1, by omega⟩
      have : i = j := by omega
      subst this
      refine oLoop_oI ?_ m
      show f_X8_line_L2 σ (nI i) = _
      unfold f_X8_line_L2
      rcases hj.2.2 with e | e
      · subst e
        rw [if_pos (by decide)]
      · have hi7 : i ≤ 7 := hj.1
        by_cases e7 : i = 7
        · subst e7
          rw [if_pos (by decide)]
        · rw [if_neg (show ¬ (6 : Int32) < nI i from fun q => absurd ((nlt (a := 6) (by decide) (by omega)).mp q) (by omega)), x_is T hb ha hs h3 h4 h5 (by omega), oB_s, e, if_neg (by decide)]
    | succ d ih =>
      intro i fu h1 h2
      obtain ⟨m, rfl⟩ : ∃ m, fu = m + 1 := ⟨fu - 1, by omega⟩
      have hi7 := hj.1
      rw [oLoop_inl (f := fun v : Int32 => f_X8_line_L2 σ v) (s' := nI (i + 1))]
      · exact ih (i + 1) m (by omega) (by omega)
      · show f_X8_line_L2 σ (nI i) = _
        unfold f_X8_line_L2
        rw [if_neg (show ¬ (6 : Int32) < nI i from fun q => absurd ((nlt (a := 6) (by decide) (by omega)).mp q) (by omega)), x_is T hb ha hs h3 h4 h5 (by omega), oB_s, hj.2.1 i (by omega), if_pos (by decide), nI_1]
  exact key j 0 gFU (by omega) (by have := hj.1; rw [gFU_eq]; omega)
/-- the reference's name -/
theorem m_name_b51 (T : TpR σ μ n tv) (C : Cst μ) (ha : a ≤ n) (hb : b ≤ a) (g10 : μ 0 10 = nI a) (g11 : μ 0 11 = nI b) {k : Nat} (hk : k < 7) (f : Bool) (hf : f = true → a - b = wlen k) : f_X7_nameHere_b51 μ (nI k) (b2i f) 0 = some (if f = true ∧ wdU tv b k (wlen k) = true then .inr (nI k) else .inl (nI (k + 1))) := by
  have hN := T.1
  have hw := wlen_le hk
  unfold f_X7_nameHere_b51
  have done : ∀ q : Bool, oI (f_X7_nameHere_b106 μ (nI k) (b2i q)) = (some (.inr (if q = true then .inr (nI k) else .inl (nI (k + 1)))) : Option ((Int32 × Int32) ⊕ (Int32 ⊕ Int32))) := by
    intro q
    unfold f_X7_nameHere_b106
    cases q
    · rw [if_pos (by decide), nI_1]; rfl
    · rw [if_neg (by decide)]; rfl
  cases f with
  | false =>
    refine oLoop_inr (f := fun v : Int32 × Int32 => f_X7_nameHere_L51 μ (nI k) v.1 v.2) (n := 4999) ?_
    show f_X7_nameHere_L51 μ (nI k) (b2i false) 0 = _
    unfold f_X7_nameHere_L51
    rw [if_pos (by decide), done]
    rfl
  | true =>
    have hl := hf rfl
    refine oW_eq (oW_lp (fun (i : Nat) (v : Int32 × Int32) => i ≤ wlen k ∧ v.2 = nI i ∧ v.1 = b2i (wdU tv b k i)) (wlen k) (by rw [gFU_eq]; omega) ⟨Nat.zero_le _, rfl, rfl⟩ (fun i v hi h => ?_))
    obtain ⟨h1, h2, h3⟩ := h
    unfold f_X7_nameHere_L51
    rw [h2, h3, g10, g11, nI_sub hb, hl]
    cases e : wdU tv b k i with
    | false =>
      rw [if_pos (by decide)]
      have dn := done false
      rw [dn]
      refine oW_some ?_
      show _ = _
      rw [wdU_le e h1]
      rfl
    | true =>
      rw [if_neg (by decide)]
      by_cases hi2 : i = wlen k
      · subst hi2
        rw [if_pos ((nle (by omega) (by omega)).mpr (Nat.le_refl _))]
        have dn := done true
        rw [dn]
        refine oW_some ?_
        show _ = _
        rw [e]
        rfl
      · rw [if_neg (fun q => hi2 (by have := (nle (by omega) (by omega)).mp q; omega)), nI_add]
        obtain ⟨t1, t2, t3⟩ := T.2.2.2 (b + i) (by omega)
        have cl := cut_len hk
        refine oW_Be (m_byteAt T (by omega)) ?_
        rw [nI_clamp (by omega), C.1 k (by omega), nI_add, nI_clamp (by omega), C.2 (cutN k + i) (by omega), let_ch hk (by omega)]
        refine oW_C (inb_t (by omega) (by decide)) (oW_C (inb_t (by omega) (by decide)) ?_)
        have eb : byV n tv (b + i) = nI (tv (b + i)) := by unfold byV; rw [if_pos (by omega)]
        rw [eb]
        have eu := wdU_s tv b k i
        rw [e, Bool.true_and] at eu
        by_cases hc : nI (tv (b + i)) = gCh k i
        · rw [if_pos hc]
          exact oS_l ⟨by omega, by omega, nI_1 i, by rw [eu, decide_eq_true hc]; rfl⟩
        · rw [if_neg hc]
          exact oS_l ⟨by omega, by omega, nI_1 i, by rw [eu, decide_eq_false hc]; rfl⟩
theorem m_nameHere (T : TpR σ μ n tv) (C : Cst μ) (ha : a ≤ n) (hb : b ≤ a) (hs : s < 4) (g10 : μ 0 10 = nI a) (g11 : μ 0 11 = nI b) (g12 : μ 0 12 = nI s) {j : Nat} (hj : nmP tv a b s j) : f_X7_nameHere μ = some (if j < 7 then nI j else -4) := by
  have hN := T.1
  unfold f_X7_nameHere f_X7_nameHere_b2
  have key : ∀ d i fu, i + d = j → d < fu → oLoop fu (fun v : Int32 => f_X7_nameHere_L2 μ v) (nI i) = some (if j < 7 then nI j else -4) := by
    intro d
    have body : ∀ i, i < 7 → f_X7_nameHere_L2 μ (nI i) = if s = 1 then some (if wdB tv a b s i = true then .inr (nI i) else .inl (nI (i + 1))) else some (.inr (-4)) := by
      intro i hi
      have hw := wlen_le hi
      have cl := cut_len hi
      unfold f_X7_nameHere_L2
      rw [if_neg (show ¬ (7 : Int32) ≤ nI i from fun q => absurd ((nle (a := 7) (by decide) (by omega)).mp q) (by omega)), g12]
      by_cases h1 : s = 1
      · subst h1
        rw [if_pos (show nI 1 = (1 : Int32) from rfl), if_pos rfl, nI_1, nI_clamp (by omega), nI_clamp (by omega), C.1 i (by omega), C.1 (i + 1) (by omega), g10, g11, nI_sub hb, cl.1, nI_sub (by omega), Nat.add_sub_cancel_left, inb_t (by omega) (by decide), inb_t (by omega) (by decide), oC_t, oC_t]
        unfold f_X7_nameHere_b48
        by_cases h2 : a - b = wlen i
        · rw [if_pos (by rw [h2])]
          have := m_name_b51 T C ha hb g10 g11 hi true (fun _ => h2)
          rw [show (b2i true) = 1 from rfl] at this
          rw [this]
          unfold wdB
          rw [decide_eq_true (rfl : 1 = 1), decide_eq_true h2]
          simp only [Bool.true_and]
          show some (if True ∧ wdU tv b i (wlen i) = true then Sum.inr (nI i) else Sum.inl (nI (i + 1))) = some (if wdU tv b i (wlen i) = true then Sum.inr (nI i) else Sum.inl (nI (i + 1)))
          simp only [true_and]
        · rw [if_neg (fun q => h2 ((nI_eq (by omega) (by omega)).mp q))]
          have := m_name_b51 T C ha hb g10 g11 hi false (fun q => nomatch q)
          rw [show (b2i false) = 0 from rfl] at this
          rw [this]
          unfold wdB
          rw [decide_eq_false h2]
          simp
      · rw [if_neg (show ¬ nI s = (1 : Int32) from fun q => h1 ((nI_eq (b := 1) (by omega) (by decide)).mp q)), if_neg h1]
        rfl
    induction d with
    | zero =>
      intro i fu h1 h2
      obtain ⟨m, rfl⟩ : ∃ m, fu = m + 1 := ⟨fu - 1, by omega⟩
      have : i = j := by omega
      subst this
      refine oLoop_inr ?_
      show f_X7_nameHere_L2 μ (nI i) = _
      by_cases e7 : i = 7
      · subst e7
        unfold f_X7_nameHere_L2
        rw [if_pos (by decide)]
        rfl
      · have hi7 := hj.1
        have hw : wdB tv a b s i = true := hj.2.2.resolve_left e7
        have h1 : s = 1 := by
          unfold wdB at hw
          simp only [Bool.and_eq_true, decide_eq_true_eq] at hw
          exact hw.1
        rw [body i (by omega), if_pos h1, hw, if_pos rfl, if_pos (by omega)]
    | succ d ih =>
      intro i fu h1 h2
      obtain ⟨m, rfl⟩ : ∃ m, fu = m + 1 := ⟨fu - 1, by omega⟩
      have hi7 := hj.1
      by_cases h1s : s = 1
      · rw [oLoop_inl (f := fun v : Int32 => f_X7_nameHere_L2 μ v) (s' := nI (i + 1))]
        · exact ih (i + 1) m (by omega) (by omega)
        · show f_X7_nameHere_L2 μ (nI i) = _
          rw [body i (by omega), if_pos h1s, hj.2.1 i (by omega)]
          rfl
      · have : j = 7 := by
          rcases hj.2.2 with e | e
          · exact e
          · unfold wdB at e
            simp only [Bool.and_eq_true, decide_eq_true_eq] at e
            exact absurd e.1 h1s
        refine oLoop_inr ?_
        show f_X7_nameHere_L2 μ (nI i) = _
        rw [body i (by omega), if_neg h1s, if_neg (by omega)]
  exact key j 0 gFU (by omega) (by have := hj.1; rw [gFU_eq]; omega)
end NA
