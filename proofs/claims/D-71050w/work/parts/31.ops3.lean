/-! ===== the page changed; tape, seen, images ===== -/
set_option maxRecDepth 100000
def FX0 (σ σ' : Nat → Nat → Int32) : Prop := (∀ k, k ≠ 0 → k ≠ 7 → k ≠ 9 → (k < 12 ∨ 24 ≤ k) → σ' k = σ k) ∧ ∀ j, j ≠ 8 → j ≠ 9 → j ≠ 10 → j ≠ 11 → j ≠ 15 → j ≠ 16 → σ' 0 j = σ 0 j
def FM0 (μ μ' : Nat → Nat → Int32) : Prop := (∀ k, k ≠ 0 → k ≠ 1 → k ≠ 2 → k ≠ 6 → k ≠ 8 → μ' k = μ k) ∧ (∀ j, 41 ≤ j → j < 123 → μ' 1 j = μ 1 j) ∧ ∀ j, j ≠ 3 → j ≠ 4 → (j < 8 ∨ 14 ≤ j) → (j < 16 ∨ 20 ≤ j) → μ' 0 j = μ 0 j
section O3
variable {σ σ' s μ μ' : Nat → Nat → Int32} {p q : Nat → Nat}
theorem FX0.tr {a b c : Nat → Nat → Int32} (h : FX0 a b) (g : FX0 b c) : FX0 a c := ⟨fun k h1 h2 h3 h4 => (g.1 k h1 h2 h3 h4).trans (h.1 k h1 h2 h3 h4), fun j h1 h2 h3 h4 h5 h6 => (g.2 j h1 h2 h3 h4 h5 h6).trans (h.2 j h1 h2 h3 h4 h5 h6)⟩
theorem FM0.tr {a b c : Nat → Nat → Int32} (h : FM0 a b) (g : FM0 b c) : FM0 a c := ⟨fun k h1 h2 h3 h4 h5 => (g.1 k h1 h2 h3 h4 h5).trans (h.1 k h1 h2 h3 h4 h5), fun j h1 h2 => (g.2.1 j h1 h2).trans (h.2.1 j h1 h2), fun j h1 h2 h3 h4 => (g.2.2 j h1 h2 h3 h4).trans (h.2.2 j h1 h2 h3 h4)⟩
theorem FrT.fx0 (h : FrT 0 σ s) : FX0 σ s := ⟨fun k _ _ _ q => h k (by unfold sb; omega), fun j _ _ _ _ _ _ => by rw [h 0 (by unfold sb; omega)]⟩
theorem FrP.fm0 (h : FrP 0 μ s) : FM0 μ s := ⟨fun k _ q _ _ _ => h.1 k q, fun j q _ => h.2 j (by omega), fun j _ _ _ _ => by rw [h.1 0 (by decide)]⟩
theorem FX.fx0 (h : FX σ s) : FX0 σ s := ⟨fun k a b c d => h.1 k a b c (by omega), h.2⟩
theorem FM.fm0 (h : FM μ s) : FM0 μ s := ⟨h.1, fun j _ q => h.2.1 j q, h.2.2⟩
theorem FX0.pg {t : Nat} (h : FX0 σ σ') (g : PgX σ t p) (ht : 2 ≤ t) : PgX σ' t p := g.same (fun j hj => h.1 _ (by unfold sb; omega) (by unfold sb; omega) (by unfold sb; omega) (by unfold sb; omega))
theorem FX0.by {t : Nat} (h : FX0 σ σ') (g : By σ t) (ht : 2 ≤ t) : By σ' t := g.same (fun j hj => h.1 _ (by unfold sb; omega) (by unfold sb; omega) (by unfold sb; omega) (by unfold sb; omega))
theorem FM0.pg {o : Nat} (h : FM0 μ μ') (g : PgM μ o p) (w : WF p) (ho : 41 ≤ o) (ho2 : o + 41 ≤ 123) : PgM μ' o p := g.same w (fun j hj => h.2.1 _ (by omega) (by omega))
theorem Rel.upd (h : Rel p σ μ) (fx : FX0 σ σ') (fm : FM0 μ μ') (w' : WF q) (gx : PgX σ' 0 q) (gm : PgM μ' 0 q) (e : q 41 = p 41) (b : By σ' 0) : Rel q σ' μ' := by
  refine ⟨w', gx, gm, ?_, ?_, ?_, ?_, ?_, ?_, ?_, b, fx.by h.by.2.1 (by decide), fx.by h.by.2.2 (by decide)⟩
  · rw [fm.2.2 1 (by decide) (by decide) (by decide) (by decide), e]; exact h.hg
  · rw [fx.2 14 (by decide) (by decide) (by decide) (by decide) (by decide) (by decide), fm.2.2 7 (by decide) (by decide) (by decide) (by decide)]; exact h.flt
  · rw [fx.2 22 (by decide) (by decide) (by decide) (by decide) (by decide) (by decide), fm.2.2 28 (by decide) (by decide) (by decide) (by decide)]; exact h.trn
  · obtain ⟨a, b, h1, h2, h3, h4, h5⟩ := h.img
    refine ⟨a, b, ?_, ?_, ?_, fun z => ?_, fun z => ?_⟩
    · rw [fx.2 4 (by decide) (by decide) (by decide) (by decide) (by decide) (by decide), h1]
    · rw [fm.1 9 (by decide) (by decide) (by decide) (by decide) (by decide), h2]
    · rw [fm.1 9 (by decide) (by decide) (by decide) (by decide) (by decide), h3]
    · obtain ⟨r, r1, r2, r3, r4⟩ := h4 z
      exact ⟨r, r1, fx.pg r2 (by decide), fm.pg r3 r1 (by decide) (by decide), r4.trans e.symm⟩
    · obtain ⟨r, r1, r2, r3, r4⟩ := h5 z
      exact ⟨r, r1, fx.pg r2 (by decide), fm.pg r3 r1 (by decide) (by decide), r4.trans e.symm⟩
  · obtain ⟨n, h1, h2, h3, h4⟩ := h.tap
    refine ⟨n, h1, ?_, ?_, fun i hi => ?_⟩
    · rw [fx.2 13 (by decide) (by decide) (by decide) (by decide) (by decide) (by decide), h2]
    · rw [fm.2.2 6 (by decide) (by decide) (by decide) (by decide), h3]
    · rw [fx.1 8 (by decide) (by decide) (by decide) (by decide), fm.1 3 (by decide) (by decide) (by decide) (by decide) (by decide)]
      exact h4 i hi
  · obtain ⟨n, h1, h2, h3, h4⟩ := h.see
    refine ⟨n, h1, ?_, ?_, fun i hi => ?_⟩
    · rw [fx.2 6 (by decide) (by decide) (by decide) (by decide) (by decide) (by decide), h2]
    · rw [fm.2.2 22 (by decide) (by decide) (by decide) (by decide), h3]
    · rw [fx.1 6 (by decide) (by decide) (by decide) (by decide), fm.1 7 (by decide) (by decide) (by decide) (by decide) (by decide)]
      exact h4 i hi
  · unfold Cst
    rw [fm.1 4 (by decide) (by decide) (by decide) (by decide) (by decide), fm.1 5 (by decide) (by decide) (by decide) (by decide) (by decide)]
    exact h.cst
/-- tape and seen changed, the pages left -/
theorem Rel.side (h : Rel p σ μ) (hx : ∀ k, 12 ≤ k → σ' k = σ k) (hm : μ' 1 = μ 1) (h9 : μ' 9 = μ 9) (h4 : μ' 4 = μ 4) (h5 : μ' 5 = μ 5) (e1 : μ' 0 1 = μ 0 1) (e2 : σ' 0 14 = σ 0 14) (e3 : μ' 0 7 = μ 0 7) (e4 : σ' 0 22 = σ 0 22) (e5 : μ' 0 28 = μ 0 28) (e6 : σ' 0 4 = σ 0 4) (tp : Tap σ' μ') (se : See σ' μ') : Rel p σ' μ' := by
  have sx : ∀ {t : Nat} {q : Nat → Nat}, PgX σ t q → PgX σ' t q := fun g => g.same (fun j _ => hx _ (by unfold sb; omega))
  have sm : ∀ {o : Nat} {q : Nat → Nat}, PgM μ o q → PgM μ' o q := fun g => by unfold PgM at *; rw [hm]; exact g
  have sy : ∀ {t : Nat}, By σ t → By σ' t := fun g => g.same (fun j _ => hx _ (by unfold sb; omega))
  refine ⟨h.wf, sx h.px, sm h.pm, by rw [e1]; exact h.hg, by rw [e2, e3]; exact h.flt, by rw [e4, e5]; exact h.trn, ?_, tp, se, by unfold Cst; rw [h4, h5]; exact h.cst, sy h.by.1, sy h.by.2.1, sy h.by.2.2⟩
  obtain ⟨a, b, i1, i2, i3, i4, i5⟩ := h.img
  refine ⟨a, b, by rw [e6, i1], by rw [h9, i2], by rw [h9, i3], fun z => ?_, fun z => ?_⟩
  · obtain ⟨r, r1, r2, r3, r4⟩ := i4 z
    exact ⟨r, r1, sx r2, sm r3, r4⟩
  · obtain ⟨r, r1, r2, r3, r4⟩ := i5 z
    exact ⟨r, r1, sx r2, sm r3, r4⟩
/-- one number of the page -/
theorem Rel.put (h : Rel p σ μ) {i n k j : Nat} (hi : i < 41) (hk : k = sb 0 + ax i) (hj : j = ay i) (w' : WF (pu p i n)) (hlv : ∀ j, lv (pu p i n) j → j = i ∨ lv p j) (b : By (upd2 σ k j (nI n)) 0) : Rel (pu p i n) (upd2 σ k j (nI n)) (upd2 μ 1 i (nI n)) := by
  have m6 : ax i < 6 := by
    have : ∀ m : Fin 42, ax m.val < 6 := by decide
    exact this ⟨i, by omega⟩
  exact h.upd ((FrT.rf (t := 0)).put hk m6).fx0 ((FrP.rf (o := 0)).put (i := i) (Nat.zero_add i).symm hi).fm0 w' (((h.px.px h.wf).put (by omega) hk hj).pg w' (fun j _ hl => hlv j hl)) (((h.pm.mx h.wf).put (Nat.zero_add i).symm).pg w' (fun j _ hl => hlv j hl)) (pu_n p (by omega)) b
theorem lv_low {i n : Nat} (hi : i < 38) {j : Nat} (h : lv (pu p i n) j) : lv p j := by
  unfold lv at *
  rw [pu_n p (by omega : 38 ≠ i), pu_n p (by omega : 39 ≠ i), pu_n p (by omega : 40 ≠ i), pu_n p (by omega : 41 ≠ i)] at h
  exact h
theorem op_rag (h : Rel p σ μ) (l1 l2 : Int32) : oE (f_X0_rag σ l1 l2) (f_X7_rag μ l1 l2) RX := by
  have w := h.wf
  have hnp := w.np
  unfold f_X0_rag f_X7_rag f_X7_rag_b20 f_X7_rag_b21
  have no : f_X7_puts μ 0 (7 + l1) l2 = some (-1, μ) := by unfold f_X7_puts; exact if_pos rfl
  rw [no]
  rcases isPeg_c l1 h.px h.pm w with ⟨a, b⟩ | ⟨i, hi, rfl, a, b⟩
  · rw [a, b]; exact oE_n rfl rfl ⟨p, h⟩
  refine oE_y a b ?_
  rcases isRag_c l2 with ⟨a, b⟩ | ⟨k, hk, rfl, a, b⟩
  · rw [a, b]; exact oE_n rfl rfl ⟨p, h⟩
  refine oE_y a b ?_
  unfold f_X7_puts
  rw [n_7, nI_add, nI_clamp (by omega), nI_clamp (by omega), nbN (by omega), h.px.rag hi, h.pm.rag0 hi, inb_t (by omega) (by decide), inb_t (by omega) (by decide)]
  refine ⟨nI (p (7 + i)), _, _, rfl, rfl, pu p (7 + i) k, ?_⟩
  exact h.put (by omega) (by rw [(ax_2 (by omega)).1]) (by rw [(ax_2 (by omega)).2]) (w.plain (Or.inl ⟨by omega, by omega, hk⟩)) (fun j hl => Or.inr (lv_low (by omega) hl)) (h.by.1.put (m := 2) rfl (fitB_nI (by omega)))
theorem op_shift (h : Rel p σ μ) (l1 l2 : Int32) : oE (f_X0_shift σ l1 l2) (f_X7_shift μ l1 l2) RX := by
  have w := h.wf
  have hnp := w.np
  unfold f_X0_shift f_X7_shift f_X7_shift_b36 f_X0_shift_b44
  refine oE_peg h ⟨p, h⟩ ?_
  rintro i hi rfl
  refine oE_cell ⟨p, h⟩ ?_
  rintro c hc hm rfl
  unfold f_X7_puts
  have fr : f_X7_isFreeOn μ 0 (nI c) = some (b2i (freeAt p c)) := m_isFreeOn h.pm w (by decide) (by omega)
  have pg : f_X7_pegOn μ 0 (nI c) = some (eN (pegAt p c)) := m_pegOn h.pm w (by decide) (by omega)
  rw [fr, pg, x_isFree h.px w (by omega), nI_clamp (by omega), nbN (by omega), h.px.peg hi, h.pm.peg0 hi, inb_t (by omega) (by decide), inb_t (by omega) (by decide), oB_s, oB_s, oB_s, if_neg (by decide : ¬ (1 : Int32) = 0)]
  have yes : (∀ j, j < p 38 → p j = c → j = i) → (∀ j, j < p 39 → p (14 + j) ≠ c) → Rel (pu p i c) (upd2 σ (sb 0 + 1) i (nI c)) (upd2 μ 1 i (nI c)) := fun h1 h2 => h.put (by omega) (by rw [(ax_1 (by omega)).1]) (by rw [(ax_1 (by omega)).2]) (w.shift hi hc hm h1 h2) (fun j hl => Or.inr (lv_low (by omega) hl)) (h.by.1.put (m := 1) rfl (fitB_nI (by omega)))
  have hpi := w.peg hi
  by_cases e : p i = c
  · have eP : pegAt p c = some i := fstI_of hi e (fun j hj q => by have := w.inj (by omega) hi (q.trans e.symm); omega)
    have eF : freeAt p c = false := by unfold freeAt; rw [eP]; rfl
    rw [eF, eP]
    have r := yes (fun j hj q => w.inj hj hi (q.trans e.symm)) (fun j hj q => w.apart hi hj (e.trans q.symm))
    refine ⟨nI (p i), _, _, (oC_t _).trans ((if_pos (by rw [e])).trans rfl), (if_pos rfl).trans ((if_pos rfl).trans rfl), _, r⟩
  · have n1 : ¬ nI (p i) = nI c := fun q => e ((nI_eq (by omega) (by omega)).mp q)
    cases ef : freeAt p c with
    | true =>
      obtain ⟨f1, f2⟩ := free_iff.mp ef
      have r := yes (fun j hj q => absurd q (pegAt_none f1 hj)) (fun j hj => slugAt_none f2 hj)
      refine ⟨nI (p i), _, _, (oC_t _).trans ((if_neg n1).trans ((if_neg (by decide)).trans rfl)), (if_neg (by decide)).trans rfl, _, r⟩
    | false =>
      have n2 : ¬ eN (pegAt p c) = nI i := fun q => by
        have q := (eN_eq (fun j hj => by have := (fstI_some hj).1; omega) (by omega)).mp q
        exact e (fstI_some q).2
      exact ⟨-2, σ, μ, (oC_t _).trans ((if_neg n1).trans ((if_pos rfl).trans rfl)), (if_pos rfl).trans ((if_neg n2).trans rfl), p, h⟩
theorem op_alter (h : Rel p σ μ) (l1 l2 l3 : Int32) : oE (f_X0_alter σ l1 l2 l3) (f_X7_alter μ l1 l2 l3) RX := by
  have w := h.wf
  have hnh := w.nh
  have no : ∀ a, f_X7_puts μ 0 a l3 = some (-1, μ) := fun a => by unfold f_X7_puts; exact if_pos rfl
  have bad : oE (f_X0_alter_b38 σ l1 l2 l3 0) (f_X7_alter_b38 μ l1 l2 l3 0) RX := by
    unfold f_X0_alter_b38 f_X7_alter_b38 f_X7_alter_b58 f_X7_alter_b59
    rw [no]
    rcases isHog_c l1 h.px h.hg w with ⟨a, b⟩ | ⟨i, hi, rfl, a, b⟩
    · rw [a, b]; exact oE_n rfl rfl ⟨p, h⟩
    · refine oE_y a b ?_
      rw [if_pos rfl, if_pos rfl]
      exact oE_s (-1) ⟨p, h⟩
  have good : ∀ k l, ((l2 = 0 ∧ k < 4 ∧ l = 0) ∨ (l2 = 1 ∧ k ≤ 9 ∧ l = 1)) → l3 = nI k → oE (f_X0_alter_b38 σ l1 l2 l3 1) (f_X7_alter_b38 μ l1 l2 l3 1) RX := by
    rintro k l hl rfl
    unfold f_X0_alter_b38 f_X7_alter_b38 f_X7_alter_b58 f_X7_alter_b59
    rw [no]
    rcases isHog_c l1 h.px h.hg w with ⟨a, b⟩ | ⟨i, hi, rfl, a, b⟩
    · rw [a, b]; exact oE_n rfl rfl ⟨p, h⟩
    refine oE_y a b ?_
    rw [if_neg (by decide), if_neg (by decide)]
    unfold f_X7_puts
    rcases hl with ⟨rfl, hk, _⟩ | ⟨rfl, hk, _⟩
    · rw [n_2, nI_mul, show nI (2 * i) + 0 = nI (2 * i) from nI_add (2 * i) 0, show (18 : Int32) + 4 * 0 = nI 18 from rfl, nI_add, nI_clamp (by omega), nI_clamp (by omega), nbN (by omega), h.px.kind hi, h.pm.kind0 hi, inb_t (by omega) (by decide), inb_t (by omega) (by decide)]
      refine ⟨nI (p (18 + i)), _, _, rfl, rfl, pu p (18 + i) k, ?_⟩
      exact h.put (by omega) (by rw [(ax_4 (by omega)).1]) (by rw [(ax_4 (by omega)).2]) (w.plain (Or.inr (Or.inl ⟨by omega, by omega, hk⟩))) (fun j hl => Or.inr (lv_low (by omega) hl)) (h.by.1.put (m := 4) rfl (fitB_nI (by omega)))
    · rw [n_2, nI_mul, show nI (2 * i) + 1 = nI (2 * i + 1) from nI_1 _, show (18 : Int32) + 4 * 1 = nI 22 from rfl, nI_add, nI_clamp (by omega), nI_clamp (by omega), nbN (by omega), h.px.speed hi, h.pm.speed0 hi, inb_t (by omega) (by decide), inb_t (by omega) (by decide)]
      refine ⟨nI (p (22 + i)), _, _, rfl, rfl, pu p (22 + i) k, ?_⟩
      exact h.put (by omega) (by rw [(ax_5 (by omega)).1]) (by rw [(ax_5 (by omega)).2]) (w.plain (Or.inr (Or.inr ⟨by omega, by omega, hk⟩))) (fun j hl => Or.inr (lv_low (by omega) hl)) (h.by.1.put (m := 4) rfl (fitB_nI (by omega)))
  unfold f_X0_alter f_X7_alter f_X0_alter_b37 f_X7_alter_b37
  rw [inM_eq, inM_eq]
  by_cases h0 : l2 = 0
  · rw [if_pos h0, if_pos h0]
    rcases arg_c (a := 0) (b := 3) l3 (lo := 0) (hi := 3) rfl rfl (by decide) with e | ⟨k, _, hk, e3, e⟩
    · rw [e]; exact bad
    · rw [e]; exact good k 0 (Or.inl ⟨h0, by omega, rfl⟩) e3
  · rw [if_neg h0, if_neg h0]
    by_cases h1 : l2 = 1
    · rw [if_pos h1, if_pos h1]
      rcases arg_c (a := 1) (b := 9) l3 (lo := 1) (hi := 9) rfl rfl (by decide) with e | ⟨k, _, hk, e3, e⟩
      · rw [e, oB_s, oB_s, if_pos rfl, if_pos rfl]; exact bad
      · rw [e, oB_s, oB_s, if_neg (by decide), if_neg (by decide)]; exact good k 1 (Or.inr ⟨h1, hk, rfl⟩) e3
    · rw [if_neg h1, if_neg h1]; exact bad
end O3
