/-! ===== place, move, bribe ===== -/
set_option maxRecDepth 100000
section PL
variable {σ s μ : Nat → Nat → Int32} {p q : Nat → Nat}
/-- a copy of the page, to try -/
theorem x_try (h : Rel p σ μ) {s : Nat → Nat → Int32} (fx : FX σ s) : oW (f_X5_as s 1 0) (fun r => FX σ r ∧ PgX r 1 p ∧ By r 1 ∧ ∀ j, r 0 j = s 0 j) := oW_mono (x_asP (t := 1) (fx.pg h.px (by decide)) h.wf (fx.by h.by.1 (by decide)) (by decide)) (fun r hr => ⟨fx.tr hr.1.fx, hr.2.1, hr.2.2, fun j => hr.1.f15 j⟩)
theorem m_try (h : Rel p σ μ) {s : Nat → Nat → Int32} (fm : FM μ s) : oW (f_X7_copies s 0 164) (fun r => FM μ r ∧ PgM r 164 p) := oW_mono (show oW (f_X7_copies s 0 164) (fun r => FrP 164 s r ∧ PgM r 164 p) from m_copiesP (b := 164) (fm.pg h.pm h.wf (by decide)) h.wf (by decide) (by decide) (by decide)) (fun r hr => ⟨fm.tr hr.1.fm, hr.2⟩)
theorem x_tryWon (w : WF q) (fx : FX σ s) (g : PgX s 1 q) {k : Nat} (hk : k < 4) : oW (f_X0_wonMany s 1 (nI k)) (fun r => r.1 = nI (cnt (isW q k) (q 40)) ∧ FX σ r.2 ∧ FrR s r.2) := oW_mono (x_wonMany g w hk) (fun r hr => ⟨hr.1, fx.tr hr.2.fx, hr.2⟩)
/-- judging in step: the best so far, where; nothing yet: nothing before i would do -/
def JR (p : Nat → Nat) (b fi fi' : Int32) (i : Nat) (C : Nat → Bool) : Prop := (b = -1 ∧ fi = -4 ∧ fi' = 0 ∧ ∀ c, c < i → C c = false) ∨ (∃ n j, n ≤ 6 ∧ j < 1000 ∧ b = nI n ∧ fi = nI j ∧ fi' = nI j)
theorem JR.step {b fi fi' : Int32} {i : Nat} {C : Nat → Bool} (h : JR p b fi fi' i C) {n : Nat} (hn : n ≤ 6) (hi : i < 1000) : JR p (if nI n ≤ b then b else nI n) (if nI n ≤ b then fi else nI i) (if nI n ≤ b then fi' else nI i) (i + 1) C := by
  right
  rcases h with ⟨rfl, rfl, rfl, _⟩ | ⟨m, j, hm, hj, rfl, rfl, rfl⟩
  · have : ¬ nI n ≤ -1 := fun q => by
      rw [Int32.le_iff_toInt_le, nI_toInt (by omega)] at q
      have : (-1 : Int32).toInt = -1 := rfl
      omega
    rw [if_neg this, if_neg this, if_neg this]
    exact ⟨n, i, hn, hi, rfl, rfl, rfl⟩
  · by_cases e : nI n ≤ nI m
    · rw [if_pos e, if_pos e]
      exact ⟨m, j, hm, hj, rfl, rfl, rfl⟩
    · rw [if_neg e, if_neg e]
      exact ⟨n, i, hn, hi, rfl, rfl, rfl⟩
theorem JR.skip {b fi fi' : Int32} {i : Nat} {C : Nat → Bool} (h : JR p b fi fi' i C) (hc : C i = false) : JR p b fi fi' (i + 1) C := by
  rcases h with ⟨h1, h2, h3, h4⟩ | h
  · refine Or.inl ⟨h1, h2, h3, fun c hc2 => ?_⟩
    by_cases e : c = i
    · rw [e]; exact hc
    · exact h4 c (by omega)
  · exact Or.inr h
theorem JR.done {b fi fi' : Int32} {i : Nat} {C : Nat → Bool} (h : JR p b fi fi' i C) (hc : ∃ c, c < i ∧ C c = true) : ∃ n j, n ≤ 6 ∧ j < 1000 ∧ b = nI n ∧ fi = nI j ∧ fi' = nI j := by
  rcases h with ⟨h1, h2, h3, h4⟩ | h
  · obtain ⟨c, h5, h6⟩ := hc
    rw [h4 c h5] at h6
    cases h6
  · exact h
def tryC (p : Nat → Nat) (c : Nat) : Bool := decide (c % 10 < 8) && freeAt p c
theorem not_cell {i : Nat} (hi : i < 100) (h : ¬ (i < 98 ∧ i % 10 < 8)) : f_X0_isCell (nI i) = some 0 ∧ f_X7_isCell (nI i) = some 0 := by
  rcases isCell_c (nI i) with h1 | ⟨j, h1, h2, h3, _⟩
  · exact h1
  · have := (nI_eq (by omega) (by omega)).mp h3
    omega
theorem is_cell {i : Nat} (hi : i < 98) (h : i % 10 < 8) : f_X0_isCell (nI i) = some 1 ∧ f_X7_isCell (nI i) = some 1 := by
  unfold f_X0_isCell f_X7_isCell
  rw [inM_eq, in_in (nI i) 0 99 (by rw [nI_toInt (by omega)]; exact ⟨Int.natCast_nonneg _, by show (i : Int) ≤ 99; omega⟩), in_in (nI i) 0 97 (by rw [nI_toInt (by omega)]; exact ⟨Int.natCast_nonneg _, by show (i : Int) ≤ 97; omega⟩), mod10 (by omega), oB_s, if_neg (by decide), if_neg (n8le h)]
  exact ⟨rfl, rfl⟩
theorem n100 {i : Nat} (h : i < 100) : ¬ (100 : Int32) ≤ nI i := fun q => by
  have := (nle (a := 100) (by decide) (by omega)).mp q
  omega
theorem n98 {i : Nat} (h : i < 98) : ¬ (98 : Int32) ≤ nI i := fun q => by
  have := (nle (a := 98) (by decide) (by omega)).mp q
  omega
theorem m_free0 (h : Rel p σ μ) {s : Nat → Nat → Int32} (fm : FM μ s) {c : Nat} (hc : c < 2 ^ 31) : f_X7_isFreeOn s 0 (nI c) = some (b2i (freeAt p c)) := m_isFreeOn (fm.pg h.pm h.wf (by decide)) h.wf (by decide) hc
theorem x_free0 (h : Rel p σ μ) {s : Nat → Nat → Int32} (fx : FX σ s) {c : Nat} (hc : c < 2 ^ 31) : f_X5_isFree s 0 (nI c) = some (b2i (freeAt p c)) := x_isFree (fx.pg h.px (by decide)) h.wf hc
/-- the class's state while it judges, the reference's -/
def JI (p : Nat → Nat) (σ μ : Nat → Nat → Int32) (C : Nat → Bool) (i : Nat) (x : Int32 × (Nat → Nat → Int32)) (y : Int32 × Int32 × Int32 × (Nat → Nat → Int32)) : Prop := x.1 = nI i ∧ y.2.2.1 = nI i ∧ FX σ x.2 ∧ FM μ y.2.2.2 ∧ ∃ fi, x.2 0 15 = fi ∧ x.2 0 16 = y.1 ∧ JR p y.1 fi y.2.1 i C
theorem judge_end {s t : Nat → Nat → Int32} {fi b fi' : Int32} {wh : Nat} (hr : ∃ n j, n ≤ 6 ∧ j < 1000 ∧ b = nI n ∧ fi = nI j ∧ fi' = nI j) (hw : wh < 2) (h1 : s 0 15 = fi) (h2 : s 0 16 = b) : ∃ v, f_X0_judged s (nI wh) = some v ∧ (if nI wh = 0 then (some (fi', t) : Option (Int32 × (Nat → Nat → Int32))) else some (b, t)) = some (v, t) := by
  obtain ⟨n, j, hn, hj, rfl, rfl, rfl⟩ := hr
  unfold f_X0_judged
  rw [h1, h2, if_neg (nI_nm4 (by omega))]
  have hc : wh = 0 ∨ wh = 1 := by omega
  rcases hc with rfl | rfl
  · exact ⟨nI j, if_pos rfl, if_pos rfl⟩
  · exact ⟨nI n, if_neg (by decide), if_neg (by decide)⟩
theorem op_place (h : Rel p σ μ) (l1 l2 : Int32) : oE (f_X0_place σ l1 l2) (f_X7_place μ l1 l2) RX := by
  have w := h.wf
  have hnp := w.np
  have hnu := w.nu
  unfold f_X0_place f_X7_place
  refine oE_rag ⟨p, h⟩ ?_
  rintro k hk rfl
  refine oE_part ⟨p, h⟩ ?_
  rintro wh hw rfl
  rw [h.px.pegs, h.pm.c38, i38, oC_t]
  by_cases h7 : p 38 = 7
  · rw [h7]; exact ⟨-3, σ, μ, if_pos rfl, if_pos rfl, p, h⟩
  have n7 : ¬ nI (p 38) = 7 := fun q => h7 ((nI_eq (b := 7) (by omega) (by decide)).mp q)
  rw [if_neg n7, if_neg n7]
  refine oE_P (oP_l (x_starts (-1)) (fun s0 hs0 => ?_))
  unfold f_X0_place_b38 f_X7_place_b42
  refine oP_lp (JI p σ μ (tryC p)) 98 (by decide) ⟨rfl, rfl, hs0.1, FM.rf, -4, hs0.2.1, hs0.2.2, Or.inl ⟨rfl, rfl, rfl, fun c hc => absurd hc (by omega)⟩⟩ ?_ ?_
  · rintro i ⟨a, s⟩ ⟨b, fi', c, t⟩ hi ⟨rfl, rfl, fx, fm, fi, h1, h2, hj⟩
    dsimp only at fx fm h1 h2 hj ⊢
    unfold f_X0_place_L38 f_X7_place_L42
    refine oP_lf (n100 (by omega)) (oP_rf (n98 hi) ?_)
    by_cases hc : i % 10 < 8
    · refine oP_le (is_cell hi hc).1 (oP_re (is_cell hi hc).2 (oP_lf (by decide) (oP_rf (by decide) (oP_le (x_free0 h fx (by omega)) (oP_re (m_free0 h fm (by omega)) ?_)))))
      cases ef : freeAt p i with
      | false =>
        refine oP_lt rfl (oP_rt rfl ?_)
        unfold f_X0_place_b96 f_X7_place_b126
        exact oP_inl ⟨nI_1 i, nI_1 i, fx, fm, fi, h1, h2, hj.skip (by unfold tryC; rw [ef, Bool.and_false])⟩
      | true =>
        have w' := w.drive hi hc ef hk (by omega)
        refine oP_lf (by decide) (oP_rf (by decide) (oP_l (x_try h fx) (fun s1 hs1 => oP_l (x_drives hs1.2.1 w hs1.2.2.1 hi hc ef hk (by omega)) (fun s2 hs2 => oP_l (x_tryWon w' (hs1.1.tr hs2.1.fx) hs2.2.1 hk) (fun r3 hr3 => ?_)))))
        have e40 : pDrive p i k 40 = p 40 := pD_o i k (by omega) (by omega) (by omega)
        rw [e40] at hr3
        have hcn := cnt_le (isW (pDrive p i k) k) (p 40)
        have z15 : ∀ j, j = 15 ∨ j = 16 → r3.2 0 j = s 0 j := fun j hj => by rw [hr3.2.2.f15 hj, hs2.1.f15, hs1.2.2.2]
        rw [hr3.1]
        refine oP_l (x_judges (nI i) (nI (cnt (isW (pDrive p i k) k) (p 40))) ((z15 15 (Or.inl rfl)).trans h1) ((z15 16 (Or.inr rfl)).trans h2)) (fun s4 hs4 => ?_)
        refine oP_r (m_try h fm) (fun t1 ht1 => oP_r (show oW (f_X7_drivesOn t1 164 (nI i) (nI k)) (fun s => FrP 164 t1 s ∧ PgM s 164 (pDrive p i k)) from m_drivesOn ht1.2 w (by decide) hi hc ef hk (by omega)) (fun t2 ht2 => oP_r (m_wins1 ht2.2 w' hk) (fun r3' hr3' => ?_)))
        rw [e40] at hr3'
        rw [hr3'.1]
        refine oP_re (bitm_msk (by omega)) ?_
        have fm' : FM μ r3'.2 := (ht1.1.tr ht2.1.fm).tr hr3'.2.fm
        have st := hj.step (n := cnt (isW (pDrive p i k) k) (p 40)) (by omega) (show i < 1000 by omega)
        unfold f_X0_place_b96 f_X7_place_b111 f_X7_place_b125 f_X7_place_b126
        obtain ⟨f4, g1, g2⟩ := hs4
        by_cases e : nI (cnt (isW (pDrive p i k) k) (p 40)) ≤ b
        · rw [if_pos e] at g1 g2
          rw [if_pos e, if_pos e, if_pos e] at st
          refine oP_rt e (oP_rt e (oP_inl ⟨nI_1 i, nI_1 i, hr3.2.1.tr f4, fm', fi, g1, g2, st⟩))
        · rw [if_neg e] at g1 g2
          rw [if_neg e, if_neg e, if_neg e] at st
          refine oP_rf e (oP_rf e (oP_inl ⟨nI_1 i, nI_1 i, hr3.2.1.tr f4, fm', nI i, g1, g2, st⟩))
    · refine oP_le (not_cell (by omega) (by omega)).1 (oP_re (not_cell (by omega) (by omega)).2 (oP_lt rfl (oP_rt rfl ?_)))
      unfold f_X0_place_b96 f_X7_place_b126
      exact oP_inl ⟨nI_1 i, nI_1 i, fx, fm, fi, h1, h2, hj.skip (by unfold tryC; rw [decide_eq_false hc, Bool.false_and])⟩
  · rintro ⟨a, s⟩ ⟨b, fi', c, t⟩ ⟨rfl, rfl, fx, fm, fi, h1, h2, hj⟩
    dsimp only at fx fm h1 h2 hj ⊢
    obtain ⟨c0, k1, k2, k3⟩ := free_cell w (Or.inl (by omega))
    obtain ⟨v, v1, v2⟩ := judge_end (t := t) (hj.done ⟨c0, k1, by unfold tryC; rw [decide_eq_true k2, k3]; rfl⟩) hw h1 h2
    have s98 : f_X0_place_L38 s (nI k) (nI wh) (nI 98) = some (.inl (nI 99, s)) := by
      unfold f_X0_place_L38
      rw [if_neg (n100 (by omega)), (not_cell (i := 98) (by decide) (by decide)).1, oB_s, if_pos rfl]
      rfl
    have s99 : f_X0_place_L38 s (nI k) (nI wh) (nI 99) = some (.inl (nI 100, s)) := by
      unfold f_X0_place_L38
      rw [if_neg (n100 (by omega)), (not_cell (i := 99) (by decide) (by decide)).1, oB_s, if_pos rfl]
      rfl
    have s100 : f_X0_place_L38 s (nI k) (nI wh) (nI 100) = some (.inr (v, s)) := by
      unfold f_X0_place_L38
      rw [if_pos (show (100 : Int32) ≤ nI 100 from Int32.le_refl _), v1]
      rfl
    refine ⟨(v, s), (v, t), fun n hn => ?_, ?_, rfl, p, h.fr fx fm⟩
    · obtain ⟨m, rfl⟩ : ∃ m, n = m + 3 := ⟨n - 3, by omega⟩
      rw [oLoop_inl (s' := (nI 99, s)) s98, oLoop_inl (s' := (nI 100, s)) s99]
      exact oLoop_inr s100
    · show f_X7_place_L42 t (nI k) (nI wh) b fi' (nI 98) = _
      unfold f_X7_place_L42
      rw [if_pos (show (98 : Int32) ≤ nI 98 from Int32.le_refl _), v2]
      rfl
end PL
