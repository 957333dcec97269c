/-! ===== one word's numbers read, in step ===== -/
set_option maxRecDepth 100000
def FrX8 (σ σ' : Nat → Nat → Int32) : Prop := (∀ k, k < 36 → σ' k = σ k) ∧ ∀ j, (j < 2 ∨ 6 < j) → σ' 42 j = σ 42 j
def FrM8 (μ μ' : Nat → Nat → Int32) : Prop := (∀ k, k ≠ 0 → k ≠ 2 → μ' k = μ k) ∧ ∀ j, (j < 3 ∨ (4 < j ∧ j < 8) ∨ 13 < j) → μ' 0 j = μ 0 j
def Hi (σ μ : Nat → Nat → Int32) (p : Nat → Nat) : Prop := (p 40 = 0 ∧ σ 42 2 = -4 ∧ μ 0 4 = -1) ∨ ∃ m, m < 4 ∧ σ 42 2 = nI m ∧ μ 0 4 = nI m ∧ ∀ i, i < p 40 → p (26 + i) ≤ m
def Pgs (σ μ : Nat → Nat → Int32) (p : Nat → Nat) : Prop := WC p ∧ PgX σ 4 p ∧ PgM (swp μ) 0 p ∧ μ 0 3 = nI (p 41) ∧ By σ 4 ∧ Hi σ μ p
section TD
variable {σ σ' s μ μ' m : Nat → Nat → Int32} {n a a0 : Nat} {tv p : Nat → Nat}
theorem FrX8.rf : FrX8 σ σ := ⟨fun _ _ => rfl, fun _ _ => rfl⟩
theorem FrM8.rf : FrM8 μ μ := ⟨fun _ _ _ => rfl, fun _ _ => rfl⟩
theorem FrX8.tr (h : FrX8 σ s) (g : FrX8 s σ') : FrX8 σ σ' := ⟨fun k q => (g.1 k q).trans (h.1 k q), fun j q => (g.2 j q).trans (h.2 j q)⟩
theorem FrM8.tr (h : FrM8 μ m) (g : FrM8 m μ') : FrM8 μ μ' := ⟨fun k q r => (g.1 k q r).trans (h.1 k q r), fun j q => (g.2 j q).trans (h.2 j q)⟩
theorem Fl.w2 {c pl v : Int32} {j : Nat} (h : Fl c pl μ) : Fl c pl (upd2 μ 2 j v) := h.fr (fun i _ => by rw [u2_k _ _ _ (by decide)])
theorem Fl.w0 {c pl v : Int32} {j : Nat} (h : Fl c pl μ) (hj : j = 3 ∨ j = 4) : Fl c pl (upd2 μ 0 j v) := h.fr (fun i hi => by rw [u2_j _ _ _ (by omega)])
theorem NxX.f8 (h : NxX σ σ') : FrX8 σ σ' := ⟨fun k q => h.1 k (by omega), fun j q => h.2 j (by omega)⟩
theorem NxM.f8 (h : NxM μ μ') : FrM8 μ μ' := ⟨fun k q _ => h.1 k q, fun j q => h.2 j (by omega)⟩
theorem FrT.f8 (h : FrT 4 σ σ') : FrX8 σ σ' := ⟨fun k q => h k (by unfold sb; omega), fun j _ => by rw [h 42 (by unfold sb; omega)]⟩
theorem FrM8.put2 (h : FrM8 μ m) {j : Nat} {v : Int32} : FrM8 μ (upd2 m 2 j v) := by
  refine ⟨fun k q r => ?_, fun i q => ?_⟩
  · rw [u2_k _ _ _ r]; exact h.1 k q r
  · rw [u2_k _ _ _ (by decide)]; exact h.2 i q
theorem FrM8.put0 (h : FrM8 μ m) {j : Nat} {v : Int32} (hj : j = 3 ∨ j = 4) : FrM8 μ (upd2 m 0 j v) := by
  refine ⟨fun k q r => ?_, fun i q => ?_⟩
  · rw [u2_k _ _ _ q]; exact h.1 k q r
  · rw [u2_j _ _ _ (by omega)]; exact h.2 i q
theorem FrX8.put (h : FrX8 σ s) {k j : Nat} {v : Int32} (hk : (36 ≤ k ∧ k < 42) ∨ (k = 42 ∧ j = 2)) : FrX8 σ (upd2 s k j v) := by
  refine ⟨fun i q => ?_, fun i q => ?_⟩
  · rw [u2_k _ _ _ (by omega)]; exact h.1 i q
  · rcases hk with g | ⟨g1, g2⟩
    · rw [u2_k _ _ _ (by omega)]; exact h.2 i q
    · subst g1; rw [u2_j _ _ _ (by omega)]; exact h.2 i q
theorem TpR.f8 (h : TpR σ μ n tv) (fx : FrX8 σ σ') (fm : FrM8 μ μ') : TpR σ' μ' n tv := by
  refine ⟨h.1, ?_, ?_, fun i hi => ?_⟩
  · rw [fx.2 0 (by omega)]; exact h.2.1
  · rw [fm.2 6 (by omega)]; exact h.2.2.1
  · rw [fx.1 8 (by decide), fm.1 3 (by decide) (by decide)]; exact h.2.2.2 i hi
theorem Lx.f (h : Lx σ μ n a) (ex : ∀ j, 3 ≤ j → j ≤ 6 → σ' 42 j = σ 42 j) (em : ∀ j, 8 ≤ j → j ≤ 13 → μ' 0 j = μ 0 j) : Lx σ' μ' n a := by
  obtain ⟨x, b, s, h1, h2, h3, h4, h5, x3, x4, x5, m8, m10, m11, m12, hv⟩ := h
  refine ⟨x, b, s, h1, h2, h3, h4, h5, ?_, ?_, ?_, ?_, ?_, ?_, ?_, fun q => ?_⟩
  · rw [ex 3 (by decide) (by decide)]; exact x3
  · rw [ex 4 (by decide) (by decide)]; exact x4
  · rw [ex 5 (by decide) (by decide)]; exact x5
  · rw [em 8 (by decide) (by decide)]; exact m8
  · rw [em 10 (by decide) (by decide)]; exact m10
  · rw [em 11 (by decide) (by decide)]; exact m11
  · rw [em 12 (by decide) (by decide)]; exact m12
  · obtain ⟨v, v1, v2, v3⟩ := hv q
    exact ⟨v, v1, by rw [ex 6 (by decide) (by decide)]; exact v2, by rw [em 13 (by decide) (by decide)]; exact v3⟩
theorem PgM_sw (h : PgM (swp μ) 0 p) (e : μ' 2 = μ 2) : PgM (swp μ') 0 p := by
  have e1 : swp μ' 1 = swp μ 1 := e
  unfold PgM
  rw [e1]
  exact h
theorem MX_sw {L : Nat → Prop} (h : MX (swp μ) 0 p L) (e : μ' 2 = μ 2) : MX (swp μ') 0 p L := by
  have e1 : swp μ' 1 = swp μ 1 := e
  unfold MX
  rw [e1]
  exact h
theorem MX_put {L : Nat → Prop} (h : MX (swp μ) 0 p L) {i n j : Nat} (hj : j = i) : MX (swp (upd2 μ 2 j (nI n))) 0 (pu p i n) (fun m => m = i ∨ L m) := by
  rw [swp_put]
  exact h.put (by omega)
theorem Hi.same (h : Hi σ μ p) (e1 : σ' 42 2 = σ 42 2) (e2 : μ' 0 4 = μ 0 4) : Hi σ' μ' p := by
  unfold Hi
  rw [e1, e2]
  exact h
theorem Pgs.nx (h : Pgs σ μ p) (fx : NxX σ σ') (fm : NxM μ μ') : Pgs σ' μ' p :=
  ⟨h.1, h.2.1.same (fun j hj => fx.1 _ (by unfold sb; omega)), PgM_sw h.2.2.1 (fm.1 2 (by decide)), by rw [fm.2 3 (by omega)]; exact h.2.2.2.1, h.2.2.2.2.1.same (fun j hj => fx.1 _ (by unfold sb; omega)), h.2.2.2.2.2.same (fx.2 2 (by omega)) (fm.2 4 (by omega))⟩
/-- one word's rest: it failed on both sides, or both have read it -/
def ROp (σ0 μ0 : Nat → Nat → Int32) (n a0 : Nat) : (Int32 × Int32 × (Nat → Nat → Int32)) ⊕ (Nat → Nat → Int32) → (Nat → Nat → Int32) → Prop
  | .inl t, μ' => FrX8 σ0 t.2.2 ∧ FrM8 μ0 μ' ∧ Fl t.1 t.2.1 μ'
  | .inr σ', μ' => FrX8 σ0 σ' ∧ FrM8 μ0 μ' ∧ Lx σ' μ' n a0 ∧ ∃ p', Pgs σ' μ' p'
theorem p_peg (T : TpR σ μ n tv) (L : Lx σ μ n a0) (P : Pgs σ μ p) (h7 : p 38 < 7) : oP (f_X8_told σ 4) (f_X7_readMore μ 4) (ROp σ μ n a0) := by
  obtain ⟨w, hx, hm, hh, hb, hi⟩ := P
  have e38 : μ 2 (Int32.toNatClampNeg 38) = nI (p 38) := hm.pegs
  unfold f_X8_told f_X7_readMore
  refine oP_lt rfl (oP_rt (by decide) (oP_rt rfl (oP_rC (by decide) ?_)))
  rw [e38]
  obtain ⟨x, y, z1, z2, z3⟩ := p_takenCell T L hx hm w
  refine oP_le z1 (oP_re z2 (oP_rC (inb_t (by omega) (by decide)) (oP_rL ?_)))
  rw [nI_clamp (by omega), n_7, nI_add]
  cases x with
  | inl t =>
    obtain ⟨q1, q2, F⟩ := z3
    rw [oM_li]
    have F1 : Fl t.1 t.2.1 (upd2 y.2 2 (p 38) y.1) := F.fr (fun j _ => by rw [u2_k _ _ _ (by decide)])
    refine oP_re (m_number_st F1) (oP_rC (inb_t (by omega) (by decide)) (oP_rL (oP_rC (by decide) (oP_rC (by decide) (oP_rL ⟨_, _, rfl, rfl, q1.f8, (q2.f8.put2.put2).put2, ?_⟩)))))
    exact F1.w2.w2
  | inr v =>
    obtain ⟨q1, q2, L1, c, _, hc, ⟨hm8, hfr⟩, v1, y1⟩ := z3
    rw [oM_ri, v1, y1]
    have M1 : FrM8 μ (upd2 y.2 2 (p 38) (nI c)) := q2.f8.put2
    have T1 := T.f8 q1.f8 M1
    have L2 : Lx v.2 (upd2 y.2 2 (p 38) (nI c)) n a0 := L1.f (fun _ _ _ => rfl) (fun j _ _ => by rw [u2_k _ _ _ (by decide)])
    obtain ⟨x2, y2, w1, w2, w3⟩ := p_taken T1 L2 (lo := 0) (hi := 3) (by decide) (by decide)
    refine oP_le w1 (oP_re w2 (oP_rC (inb_t (by omega) (by decide)) (oP_rL (oP_rC (by decide) (oP_rC (by decide) (oP_rL ?_))))))
    cases x2 with
    | inl t =>
      obtain ⟨q3, q4, F⟩ := w3
      rw [oM_li]
      exact ⟨_, _, rfl, rfl, q1.f8.tr q3.f8, ((M1.tr q4.f8).put2).put2, F.w2.w2⟩
    | inr v2 =>
      obtain ⟨q3, q4, L3, k, _, hk, _, v3, y3⟩ := w3
      rw [oM_ri, v3, y3, nI_clamp (by omega)]
      have hx2 : PgX v2.2 4 p := (hx.same (fun j hj => q1.1 _ (by unfold sb; omega))).same (fun j hj => q3.1 _ (by unfold sb; omega))
      have hb2 : By v2.2 4 := (hb.same (fun j hj => q1.1 _ (by unfold sb; omega))).same (fun j hj => q3.1 _ (by unfold sb; omega))
      obtain ⟨s1, u1, u2, u3, u4⟩ := x_drivesC hx2 w hb2 (c := c) (k := k) (by omega) hm8 hfr (by omega) h7
      refine oP_le u1 ?_
      have w' := w.drive (c := c) (k := k) (by omega) hm8 hfr (by omega) h7
      have a1 := MX_sw (μ' := y.2) (hm.mxC w) (q2.1 2 (by decide))
      have a2 := MX_put a1 (i := p 38) (n := c) (j := (p 38)) rfl
      have a3 := MX_sw (μ' := y2.2) a2 (q4.1 2 (by decide))
      have a4 := MX_put a3 (i := 7 + p 38) (n := k) (j := (7 + p 38)) rfl
      have e5 : upd2 y2.2 2 (7 + p 38) (nI k) 2 (Int32.toNatClampNeg 38) = nI (p 38) := by
        rw [u2_j _ _ _ (show Int32.toNatClampNeg 38 ≠ 7 + p 38 from by show 38 ≠ _; omega), q4.1 2 (by decide), u2_j _ _ _ (show Int32.toNatClampNeg 38 ≠ p 38 from by show 38 ≠ _; omega), q2.1 2 (by decide)]
        exact e38
      rw [e5, nI_1]
      have a5 := MX_put a4 (i := 38) (n := p 38 + 1) (j := (Int32.toNatClampNeg 38)) rfl
      refine ⟨_, _, rfl, rfl, (q1.f8.tr q3.f8).tr u2.f8, ((M1.tr q4.f8).put2).put2, L3.f (fun j _ _ => by rw [u2 42 (by unfold sb; omega)]) (fun j _ _ => by rw [u2_k _ _ _ (by decide), u2_k _ _ _ (by decide)]), _, w', u3, a5.pgC w' (fun j _ hl => lvD c k h7 hl), ?_, u4, ?_⟩
      · rw [u2_k _ _ _ (by decide), u2_k _ _ _ (by decide), q4.2 3 (by omega), u2_k _ _ _ (by decide), q2.2 3 (by omega), hh, pD_o c k (by omega) (by omega) (by omega)]
      · have e40 : pDrive p c k 40 = p 40 := pD_o c k (by omega) (by omega) (by omega)
        have ew : ∀ i, i < 6 → pDrive p c k (26 + i) = p (26 + i) := fun i hi => pD_o c k (by omega) (by omega) (by omega)
        have h1 : Hi s1 (upd2 (upd2 y2.2 2 (7 + p 38) (nI k)) 2 (Int32.toNatClampNeg 38) (nI (p 38 + 1))) p := hi.same (by rw [u2 42 (by unfold sb; omega), q3.2 2 (by omega), q1.2 2 (by omega)]) (by rw [u2_k _ _ _ (by decide), u2_k _ _ _ (by decide), q4.2 4 (by omega), u2_k _ _ _ (by decide), q2.2 4 (by omega)])
        have h6 := w.nu
        rcases h1 with ⟨g1, g2, g3⟩ | ⟨mm, g1, g2, g3, g4⟩
        · exact Or.inl ⟨by rw [e40]; exact g1, g2, g3⟩
        · exact Or.inr ⟨mm, g1, g2, g3, fun i hi => by rw [e40] at hi; rw [ew i (by omega)]; exact g4 i hi⟩
theorem p_slug (T : TpR σ μ n tv) (L : Lx σ μ n a0) (P : Pgs σ μ p) (h4 : p 39 < 4) : oP (f_X8_told σ 5) (f_X7_readMore μ 5) (ROp σ μ n a0) := by
  obtain ⟨w, hx, hm, hh, hb, hi⟩ := P
  have e39 : μ 2 (Int32.toNatClampNeg 39) = nI (p 39) := hm.slugs
  unfold f_X8_told f_X7_readMore
  refine oP_lf (by decide) (oP_lt rfl (oP_rt (by decide) (oP_rf (by decide) (oP_rt rfl (oP_rC (by decide) ?_)))))
  rw [e39, n_14, nI_add]
  obtain ⟨x, y, z1, z2, z3⟩ := p_takenCell T L hx hm w
  refine oP_le z1 (oP_re z2 (oP_rC (inb_t (by omega) (by decide)) (oP_rL (oP_rC (by decide) (oP_rC (by decide) (oP_rL ?_))))))
  rw [nI_clamp (by omega)]
  cases x with
  | inl t =>
    obtain ⟨q1, q2, F⟩ := z3
    rw [oM_li]
    exact ⟨_, _, rfl, rfl, q1.f8, q2.f8.put2.put2, F.w2.w2⟩
  | inr v =>
    obtain ⟨q1, q2, L1, c, _, hc, ⟨hm8, hfr⟩, v1, y1⟩ := z3
    rw [oM_ri, v1, y1]
    have hx2 : PgX v.2 4 p := hx.same (fun j hj => q1.1 _ (by unfold sb; omega))
    have hb2 : By v.2 4 := hb.same (fun j hj => q1.1 _ (by unfold sb; omega))
    obtain ⟨s1, u1, u2, u3, u4⟩ := x_laysC hx2 w hb2 (c := c) (by omega) hfr h4
    refine oP_le u1 ?_
    have w' := w.lay (c := c) (by omega) hfr h4
    have a1 := MX_sw (μ' := y.2) (hm.mxC w) (q2.1 2 (by decide))
    have a2 := MX_put a1 (i := 14 + p 39) (n := c) (j := (14 + p 39)) rfl
    have e5 : upd2 y.2 2 (14 + p 39) (nI c) 2 (Int32.toNatClampNeg 39) = nI (p 39) := by
      rw [u2_j _ _ _ (show Int32.toNatClampNeg 39 ≠ 14 + p 39 from by show 39 ≠ _; omega), q2.1 2 (by decide)]
      exact e39
    rw [e5, nI_1]
    have a5 := MX_put a2 (i := 39) (n := p 39 + 1) (j := (Int32.toNatClampNeg 39)) rfl
    refine ⟨_, _, rfl, rfl, q1.f8.tr u2.f8, q2.f8.put2.put2, L1.f (fun j _ _ => by rw [u2 42 (by unfold sb; omega)]) (fun j _ _ => by rw [u2_k _ _ _ (by decide), u2_k _ _ _ (by decide)]), _, w', u3, a5.pgC w' (fun j _ hl => lvL c h4 hl), ?_, u4, ?_⟩
    · rw [u2_k _ _ _ (by decide), u2_k _ _ _ (by decide), q2.2 3 (by omega), hh, pL_o c (by omega) (by omega)]
    · have e40 : pLay p c 40 = p 40 := pL_o c (by omega) (by omega)
      have ew : ∀ i, i < 6 → pLay p c (26 + i) = p (26 + i) := fun i hi => pL_o c (by omega) (by omega)
      have h1 : Hi s1 (upd2 (upd2 y.2 2 (14 + p 39) (nI c)) 2 (Int32.toNatClampNeg 39) (nI (p 39 + 1))) p := hi.same (by rw [u2 42 (by unfold sb; omega), q1.2 2 (by omega)]) (by rw [u2_k _ _ _ (by decide), u2_k _ _ _ (by decide), q2.2 4 (by omega)])
      have h6 := w.nu
      rcases h1 with ⟨g1, g2, g3⟩ | ⟨mm, g1, g2, g3, g4⟩
      · exact Or.inl ⟨by rw [e40]; exact g1, g2, g3⟩
      · exact Or.inr ⟨mm, g1, g2, g3, fun i hi => by rw [e40] at hi; rw [ew i (by omega)]; exact g4 i hi⟩
end TD
