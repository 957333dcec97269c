/-! ===== acts upon a page: drive, lay, copy; the two sides ===== -/
set_option maxRecDepth 100000
def FrT (t : Nat) (σ σ' : Nat → Nat → Int32) : Prop := ∀ k, (k < sb t ∨ sb t + 6 ≤ k) → σ' k = σ k
def FrP (o : Nat) (μ μ' : Nat → Nat → Int32) : Prop := (∀ k, k ≠ 1 → μ' k = μ k) ∧ ∀ j, (j < o ∨ o + 41 ≤ j) → μ' 1 j = μ 1 j
section AC
variable {σ σ' s μ μ' : Nat → Nat → Int32} {t u o : Nat} {p : Nat → Nat}
theorem FrT.rf : FrT t σ σ := fun _ _ => rfl
theorem FrT.tr (h : FrT t σ s) (g : FrT t s σ') : FrT t σ σ' := fun k q => (g k q).trans (h k q)
theorem FrP.rf : FrP o μ μ := ⟨fun _ _ => rfl, fun _ _ => rfl⟩
theorem FrP.tr (h : FrP o μ s) (g : FrP o s μ') : FrP o μ μ' := ⟨fun k q => (g.1 k q).trans (h.1 k q), fun j q => (g.2 j q).trans (h.2 j q)⟩
theorem FrT.put (h : FrT t σ s) {m j k : Nat} {v : Int32} (hk : k = sb t + m) (hm : m < 6) : FrT t σ (upd2 s k j v) := by
  subst hk
  intro k q
  rw [u2_k _ _ _ (by omega)]
  exact h k q
theorem FrP.put (h : FrP o μ s) {i j : Nat} {v : Int32} (hj : j = o + i) (hi : i < 41) : FrP o μ (upd2 s 1 j v) := by
  subst hj
  refine ⟨fun k q => ?_, fun j q => ?_⟩
  · rw [u2_k _ _ _ q]; exact h.1 k q
  · rw [u2_j _ _ _ (by omega)]; exact h.2 j q
theorem FrT.fx (h : FrT 1 σ s) : FX σ s := ⟨fun k _ _ _ q => h k (by unfold sb; omega), fun j _ _ _ _ _ _ => by rw [h 0 (by unfold sb; omega)]⟩
theorem FrP.fm (h : FrP 164 μ s) : FM μ s := ⟨fun k _ q _ _ _ => h.1 k q, fun j q => h.2 j (by omega), fun j _ _ _ _ => by rw [h.1 0 (by decide)]⟩
theorem FrT.pg (h : FrT t σ s) (g : PgX σ u p) (e : u ≠ t) : PgX s u p := g.same (fun j hj => h _ (by unfold sb; omega))
theorem FrT.by (h : FrT t σ s) (g : By σ u) (e : u ≠ t) : By s u := g.same (fun j hj => h _ (by unfold sb; omega))
theorem FrP.pg (h : FrP o μ s) {a : Nat} (g : PgM μ a p) (w : WF p) (e : a + 41 ≤ o ∨ o + 41 ≤ a) : PgM s a p := g.same w (fun j hj => h.2 _ (by omega))
theorem By.put (h : By σ t) {m j k : Nat} {v : Int32} (_hk : k = sb t + m) (hv : fits .byte (.int v) = true) : By (upd2 σ k j v) t := by
  intro a b h1 h2 h3
  by_cases e : sb t + a = k
  · rw [e]
    by_cases e2 : b = j
    · rw [e2, u2_s]; exact hv
    · rw [u2_j _ _ _ e2, ← e]; exact h a b h1 h2 h3
  · rw [u2_k _ _ _ e]; exact h a b h1 h2 h3
theorem By.put0 (h : By σ t) {j : Nat} {v : Int32} : By (upd2 σ (sb t) j v) t := by
  intro a b h1 h2 h3
  rw [u2_k _ _ _ (by omega)]; exact h a b h1 h2 h3
theorem pD38 (c k : Nat) : pDrive p c k 38 = p 38 + 1 := pu_s _ _ _
theorem pD_o (c k : Nat) {j : Nat} (h1 : j ≠ p 38) (h2 : j ≠ 7 + p 38) (h3 : j ≠ 38) : pDrive p c k j = p j := by unfold pDrive; rw [pu_n _ h3, pu_n _ h2, pu_n _ h1]
theorem pL_o (c : Nat) {j : Nat} (h1 : j ≠ 14 + p 39) (h2 : j ≠ 39) : pLay p c j = p j := by unfold pLay; rw [pu_n _ h2, pu_n _ h1]
theorem pS_o (h c : Nat) {j : Nat} (h1 : j ≠ 26 + p 40) (h2 : j ≠ 32 + p 40) (h3 : j ≠ 40) : pSue p h c j = p j := by unfold pSue; rw [pu_n _ h3, pu_n _ h2, pu_n _ h1]
theorem lvD (c k : Nat) (h7 : p 38 < 7) {j : Nat} (h : lv (pDrive p c k) j) : j = 38 ∨ j = 7 + p 38 ∨ j = p 38 ∨ lv p j := by
  unfold lv at *
  rw [pD38, pD_o c k (j := 39) (by omega) (by omega) (by omega), pD_o c k (j := 40) (by omega) (by omega) (by omega), pD_o c k (j := 41) (by omega) (by omega) (by omega)] at h
  omega
theorem lvL (c : Nat) (h4 : p 39 < 4) {j : Nat} (h : lv (pLay p c) j) : j = 39 ∨ j = 14 + p 39 ∨ lv p j := by
  unfold lv at *
  rw [show pLay p c 39 = p 39 + 1 from pu_s _ _ _, pL_o c (j := 38) (by omega) (by omega), pL_o c (j := 40) (by omega) (by omega), pL_o c (j := 41) (by omega) (by omega)] at h
  omega
theorem lvS (a c : Nat) (h6 : p 40 < 6) {j : Nat} (h : lv (pSue p a c) j) : j = 40 ∨ j = 32 + p 40 ∨ j = 26 + p 40 ∨ lv p j := by
  unfold lv at *
  rw [show pSue p a c 40 = p 40 + 1 from pu_s _ _ _, pS_o a c (j := 38) (by omega) (by omega) (by omega), pS_o a c (j := 39) (by omega) (by omega) (by omega), pS_o a c (j := 41) (by omega) (by omega) (by omega)] at h
  omega
theorem x_drives (h : PgX σ t p) (w : WF p) (hb : By σ t) {c k : Nat} (hc : c < 98) (hm : c % 10 < 8) (hf : freeAt p c = true) (hk : k < 4) (h7 : p 38 < 7) : oW (f_X5_drives σ t (nI c) (nI k)) (fun s => FrT t σ s ∧ PgX s t (pDrive p c k) ∧ By s t) := by
  unfold f_X5_drives
  rw [h.pegs, nI_clamp (by omega), nbN (by omega), nbN (by omega)]
  refine oW_C (inb_t (by omega) (by decide)) (oW_L ?_)
  rw [u2_k _ _ _ (by omega : sb t ≠ sb t + 1), h.pegs, nI_clamp (by omega)]
  refine oW_C (inb_t (by omega) (by decide)) (oW_L (oW_L ?_))
  rw [u2_k _ _ _ (by omega : sb t ≠ sb t + 2), u2_k _ _ _ (by omega : sb t ≠ sb t + 1), h.pegs, nI_1]
  have w' := w.drive hc hm hf hk h7
  refine oW_some ⟨((FrT.rf.put (m := 1) rfl (by decide)).put (m := 2) rfl (by decide)).put (m := 0) rfl (by decide), ?_, ((hb.put (m := 1) rfl (fitB_nI (by omega))).put (m := 2) rfl (fitB_nI (by omega))).put0⟩
  have p1 := (h.px w).put (i := p 38) (n := c) (by omega) (k := sb t + 1) (j := p 38) (by rw [(ax_1 (by omega)).1]) (by rw [(ax_1 (by omega)).2])
  have p2 := p1.put (i := 7 + p 38) (n := k) (by omega) (k := sb t + 2) (j := p 38) (by rw [(ax_2 (by omega)).1]) (by rw [(ax_2 (by omega)).2])
  have p3 := p2.put (i := 38) (n := p 38 + 1) (by omega) (k := sb t) (j := 0) rfl rfl
  exact p3.pg w' (fun j _ hl => lvD c k h7 hl)
theorem x_lays (h : PgX σ t p) (w : WF p) (hb : By σ t) {c : Nat} (hc : c < 98) (hf : freeAt p c = true) (h4 : p 39 < 4) : oW (f_X5_lays σ t (nI c)) (fun s => FrT t σ s ∧ PgX s t (pLay p c) ∧ By s t) := by
  unfold f_X5_lays
  rw [h.slugs, nI_clamp (by omega), nbN (by omega)]
  refine oW_C (inb_t (by omega) (by decide)) (oW_L (oW_L ?_))
  rw [u2_k _ _ _ (by omega : sb t ≠ sb t + 3), h.slugs, nI_1]
  have w' := w.lay hc hf h4
  refine oW_some ⟨(FrT.rf.put (m := 3) rfl (by decide)).put (m := 0) rfl (by decide), ?_, (hb.put (m := 3) rfl (fitB_nI (by omega))).put0⟩
  have p1 := (h.px w).put (i := 14 + p 39) (n := c) (by omega) (k := sb t + 3) (j := p 39) (by rw [(ax_3 (by omega)).1]) (by rw [(ax_3 (by omega)).2])
  have p3 := p1.put (i := 39) (n := p 39 + 1) (by omega) (k := sb t) (j := 3) rfl rfl
  exact p3.pg w' (fun j _ hl => lvL c h4 hl)
theorem m_drivesOn (h : PgM μ o p) (w : WF p) (ho : o + 41 ≤ 205) {c k : Nat} (hc : c < 98) (hm : c % 10 < 8) (hf : freeAt p c = true) (hk : k < 4) (h7 : p 38 < 7) : oW (f_X7_drivesOn μ (nI o) (nI c) (nI k)) (fun s => FrP o μ s ∧ PgM s o (pDrive p c k)) := by
  unfold f_X7_drivesOn
  rw [n_38, n_7]
  simp only [nI_add]
  rw [nI_clamp (n := o + 38) (by omega), h.pegs]
  simp only [nI_add]
  rw [nI_clamp (n := o + p 38) (by omega), nI_clamp (n := o + 7 + p 38) (by omega)]
  refine oW_C (inb_t (by omega) (by decide)) (oW_C (inb_t (by omega) (by decide)) (oW_L (oW_C (inb_t (by omega) (by decide)) (oW_L (oW_C (inb_t (by omega) (by decide)) (oW_C (inb_t (by omega) (by decide)) (oW_L ?_)))))))
  rw [u2_j _ _ _ (by omega : o + 38 ≠ o + 7 + p 38), u2_j _ _ _ (by omega : o + 38 ≠ o + p 38), h.pegs, nI_1]
  have w' := w.drive hc hm hf hk h7
  refine oW_some ⟨((FrP.rf.put (i := p 38) rfl (by omega)).put (i := 7 + p 38) (Nat.add_assoc _ _ _) (by omega)).put (i := 38) rfl (by decide), ?_⟩
  have p3 := (((h.mx w).put (i := p 38) (n := c) rfl).put (i := 7 + p 38) (n := k) (Nat.add_assoc o 7 (p 38))).put (i := 38) (n := p 38 + 1) rfl
  exact p3.pg w' (fun j _ hl => lvD c k h7 hl)
theorem m_laysOn (h : PgM μ o p) (w : WF p) (ho : o + 41 ≤ 205) {c : Nat} (hc : c < 98) (hf : freeAt p c = true) (h4 : p 39 < 4) : oW (f_X7_laysOn μ (nI o) (nI c)) (fun s => FrP o μ s ∧ PgM s o (pLay p c)) := by
  unfold f_X7_laysOn
  rw [n_39, n_14]
  simp only [nI_add]
  rw [nI_clamp (n := o + 39) (by omega), h.slugs]
  simp only [nI_add]
  rw [nI_clamp (n := o + 14 + p 39) (by omega)]
  refine oW_C (inb_t (by omega) (by decide)) (oW_C (inb_t (by omega) (by decide)) (oW_L (oW_C (inb_t (by omega) (by decide)) (oW_C (inb_t (by omega) (by decide)) (oW_L ?_)))))
  rw [u2_j _ _ _ (by omega : o + 39 ≠ o + 14 + p 39), h.slugs, nI_1]
  have w' := w.lay hc hf h4
  refine oW_some ⟨(FrP.rf.put (i := 14 + p 39) (Nat.add_assoc _ _ _) (by omega)).put (i := 39) rfl (by decide), ?_⟩
  have p3 := ((h.mx w).put (i := 14 + p 39) (n := c) (Nat.add_assoc o 14 (p 39))).put (i := 39) (n := p 39 + 1) rfl
  exact p3.pg w' (fun j _ hl => lvL c h4 hl)
/-! copies -/
theorem as_f (fr : FrT t σ s) (htu : t ≠ u) (f : Nat) : FrT t σ (upd2 s (sb t) f (s (sb u) f)) ∧ upd2 s (sb t) f (s (sb u) f) (sb t) f = σ (sb u) f ∧ (∀ g, g ≠ f → upd2 s (sb t) f (s (sb u) f) (sb t) g = s (sb t) g) ∧ ∀ k, k ≠ 0 → upd2 s (sb t) f (s (sb u) f) (sb t + k) = s (sb t + k) := by
  refine ⟨fr.put (m := 0) rfl (by decide), ?_, fun g hg => u2_j _ _ _ hg, fun k hk => u2_k _ _ _ (by omega)⟩
  rw [u2_s, fr _ (by unfold sb; omega)]
theorem as_a (fr : FrT t σ s) (htu : t ≠ u) {k n : Nat} {v : Int32} (hk : 1 ≤ k ∧ k ≤ 5) (hv : Int32.toNatClampNeg v = n) : FrT t σ (updc s (sb t + k) (va_cpy (s (sb u + k)) (s (sb t + k)) (Int32.toNatClampNeg 0) (Int32.toNatClampNeg 0) (Int32.toNatClampNeg v))) ∧ (∀ j, j < n → updc s (sb t + k) (va_cpy (s (sb u + k)) (s (sb t + k)) (Int32.toNatClampNeg 0) (Int32.toNatClampNeg 0) (Int32.toNatClampNeg v)) (sb t + k) j = σ (sb u + k) j) ∧ ∀ m, m ≠ k → updc s (sb t + k) (va_cpy (s (sb u + k)) (s (sb t + k)) (Int32.toNatClampNeg 0) (Int32.toNatClampNeg 0) (Int32.toNatClampNeg v)) (sb t + m) = s (sb t + m) := by
  refine ⟨fun m q => ?_, fun j hj => ?_, fun m hm => ?_⟩
  · unfold updc
    rw [if_neg (by omega)]
    exact fr m q
  · unfold updc
    rw [if_pos rfl, hv, show Int32.toNatClampNeg 0 = 0 from rfl, pk_cpy_in (by omega) (by omega), fr _ (by unfold sb; omega), Nat.zero_add, Nat.sub_zero]
  · unfold updc
    rw [if_neg (by omega)]
theorem cpOk0 {f : Nat → Int32} {n : Nat} {v : Int32} (hv : v = nI n) (hn : n < 13) (h : ∀ j, j < n → fits .byte (.int (f j)) = true) : cpOk f 0 0 v n n = true := by
  subst hv
  unfold cpOk
  rw [nI_clamp (by omega), show Int32.toNatClampNeg 0 = 0 from rfl]
  have h0 : ¬ nI n < 0 := nI_pos (by omega)
  rw [decide_eq_true (show ¬ (0 : Int32) < 0 by decide), decide_eq_true h0, decide_eq_true (show 0 + n ≤ n by omega)]
  simp only [Bool.true_and, List.all_eq_true, List.mem_range]
  intro j hj
  rw [Nat.zero_add]
  exact h j hj
theorem x_as (hb : By σ u) (htu : t ≠ u) : oW (f_X5_as σ t u) (fun s => FrT t σ s ∧ (∀ k j, 1 ≤ k → k ≤ 5 → j < bl k → s (sb t + k) j = σ (sb u + k) j) ∧ s (sb t) 0 = σ (sb u) 0 ∧ s (sb t) 3 = σ (sb u) 3 ∧ s (sb t) 7 = σ (sb u) 7 ∧ s (sb t) 5 = σ (sb u) 5) := by
  have rd : ∀ {s : Nat → Nat → Int32}, FrT t σ s → ∀ k, k < 6 → s (sb u + k) = σ (sb u + k) := fun fr k hk => fr _ (by unfold sb; omega)
  unfold f_X5_as
  refine oW_L ?_
  have a1 := as_f (FrT.rf (σ := σ) (t := t)) htu 0
  generalize upd2 σ (sb t) 0 (σ (sb u) 0) = s1 at a1 ⊢
  refine oW_C (cpOk0 rfl (by decide) (fun j hj => by rw [rd a1.1 1 (by decide)]; exact hb 1 j (by decide) (by decide) hj)) (oW_L ?_)
  have a2 := as_a (k := 1) (v := 7) (n := 7) a1.1 htu (by decide) rfl
  generalize updc s1 (sb t + 1) _ = s2 at a2 ⊢
  refine oW_C (cpOk0 rfl (by decide) (fun j hj => by rw [rd a2.1 2 (by decide)]; exact hb 2 j (by decide) (by decide) hj)) (oW_L ?_)
  have a3 := as_a (k := 2) (v := 7) (n := 7) a2.1 htu (by decide) rfl
  generalize updc s2 (sb t + 2) _ = s3 at a3 ⊢
  refine oW_L ?_
  have a4 := as_f a3.1 htu 3
  generalize upd2 s3 (sb t) 3 _ = s4 at a4 ⊢
  refine oW_C (cpOk0 rfl (by decide) (fun j hj => by rw [rd a4.1 3 (by decide)]; exact hb 3 j (by decide) (by decide) hj)) (oW_L ?_)
  have a5 := as_a (k := 3) (v := 4) (n := 4) a4.1 htu (by decide) rfl
  generalize updc s4 (sb t + 3) _ = s5 at a5 ⊢
  refine oW_L ?_
  have a6 := as_f a5.1 htu 5
  generalize upd2 s5 (sb t) 5 _ = s6 at a6 ⊢
  refine oW_C (cpOk0 rfl (by decide) (fun j hj => by rw [rd a6.1 4 (by decide)]; exact hb 4 j (by decide) (by decide) hj)) (oW_L ?_)
  have a7 := as_a (k := 4) (v := 8) (n := 8) a6.1 htu (by decide) rfl
  generalize updc s6 (sb t + 4) _ = s7 at a7 ⊢
  refine oW_L ?_
  have a8 := as_f a7.1 htu 7
  generalize upd2 s7 (sb t) 7 _ = s8 at a8 ⊢
  refine oW_C (cpOk0 rfl (by decide) (fun j hj => by rw [rd a8.1 5 (by decide)]; exact hb 5 j (by decide) (by decide) hj)) (oW_L ?_)
  have a9 := as_a (k := 5) (v := 12) (n := 12) a8.1 htu (by decide) rfl
  generalize updc s8 (sb t + 5) _ = s9 at a9 ⊢
  have z9 : s9 (sb t) = s8 (sb t) := a9.2.2 0 (by decide)
  have z7 : s7 (sb t) = s6 (sb t) := a7.2.2 0 (by decide)
  have z5 : s5 (sb t) = s4 (sb t) := a5.2.2 0 (by decide)
  have z3 : s3 (sb t) = s2 (sb t) := a3.2.2 0 (by decide)
  have z2 : s2 (sb t) = s1 (sb t) := a2.2.2 0 (by decide)
  refine oW_some ⟨a9.1, fun k j h1 h2 hj => ?_, ?_, ?_, ?_, ?_⟩
  · have : k = 1 ∨ k = 2 ∨ k = 3 ∨ k = 4 ∨ k = 5 := by omega
    rcases this with rfl | rfl | rfl | rfl | rfl
    · rw [a9.2.2 1 (by decide), a8.2.2.2 1 (by decide), a7.2.2 1 (by decide), a6.2.2.2 1 (by decide), a5.2.2 1 (by decide), a4.2.2.2 1 (by decide), a3.2.2 1 (by decide)]
      exact a2.2.1 j hj
    · rw [a9.2.2 2 (by decide), a8.2.2.2 2 (by decide), a7.2.2 2 (by decide), a6.2.2.2 2 (by decide), a5.2.2 2 (by decide), a4.2.2.2 2 (by decide)]
      exact a3.2.1 j hj
    · rw [a9.2.2 3 (by decide), a8.2.2.2 3 (by decide), a7.2.2 3 (by decide), a6.2.2.2 3 (by decide)]
      exact a5.2.1 j hj
    · rw [a9.2.2 4 (by decide), a8.2.2.2 4 (by decide)]
      exact a7.2.1 j hj
    · exact a9.2.1 j hj
  · rw [z9, a8.2.2.1 0 (by decide), z7, a6.2.2.1 0 (by decide), z5, a4.2.2.1 0 (by decide), z3, z2]
    exact a1.2.1
  · rw [z9, a8.2.2.1 3 (by decide), z7, a6.2.2.1 3 (by decide), z5]
    exact a4.2.1
  · rw [z9]
    exact a8.2.1
  · rw [z9, a8.2.2.1 5 (by decide), z7]
    exact a6.2.1
theorem x_asP (h : PgX σ u p) (w : WF p) (hb : By σ u) (htu : t ≠ u) : oW (f_X5_as σ t u) (fun s => FrT t σ s ∧ PgX s t p ∧ By s t) := by
  refine oW_mono (x_as hb htu) (fun s hs => ⟨hs.1, ?_, fun k j h1 h2 h3 => by rw [hs.2.1 k j h1 h2 h3]; exact hb k j h1 h2 h3⟩)
  obtain ⟨_, e, e0, e3, e7, e5⟩ := hs
  have a1 := w.np; have a2 := w.ns; have a3 := w.nu; have a4 := w.nh
  refine ⟨fun i hi => ?_, fun i hi => ?_, fun i hi => ?_, fun i hi => ?_, fun i hi => ?_, fun i hi => ?_, fun i hi => ?_, ?_, ?_, ?_, ?_⟩
  · rw [e 1 i (by decide) (by decide) (by show i < 7; omega)]; exact h.peg hi
  · rw [e 2 i (by decide) (by decide) (by show i < 7; omega)]; exact h.rag hi
  · rw [e 3 i (by decide) (by decide) (by show i < 4; omega)]; exact h.slug hi
  · rw [e 4 (2 * i) (by decide) (by decide) (by show 2 * i < 8; omega)]; exact h.kind hi
  · rw [e 4 (2 * i + 1) (by decide) (by decide) (by show 2 * i + 1 < 8; omega)]; exact h.speed hi
  · rw [e 5 (2 * i) (by decide) (by decide) (by show 2 * i < 12; omega)]; exact h.who hi
  · rw [e 5 (2 * i + 1) (by decide) (by decide) (by show 2 * i + 1 < 12; omega)]; exact h.frm hi
  · rw [e0]; exact h.pegs
  · rw [e3]; exact h.slugs
  · rw [e7]; exact h.suits
  · rw [e5]; exact h.hogs
theorem PgM.move (h : PgM μ o p) (w : WF p) {b : Nat} (e : ∀ j, j < 41 → μ' 1 (b + j) = μ 1 (o + j)) : PgM μ' b p := by
  have a1 := w.np; have a2 := w.ns; have a3 := w.nu; have a4 := w.nh
  refine ⟨fun i hi => ?_, fun i hi => ?_, fun i hi => ?_, fun i hi => ?_, fun i hi => ?_, fun i hi => ?_, fun i hi => ?_, ?_, ?_, ?_⟩
  · rw [e i (by omega)]; exact h.peg hi
  · rw [e (7 + i) (by omega)]; exact h.rag hi
  · rw [e (14 + i) (by omega)]; exact h.slug hi
  · rw [e (18 + i) (by omega)]; exact h.kind hi
  · rw [e (22 + i) (by omega)]; exact h.speed hi
  · rw [e (26 + i) (by omega)]; exact h.who hi
  · rw [e (32 + i) (by omega)]; exact h.frm hi
  · rw [e 38 (by omega)]; exact h.pegs
  · rw [e 39 (by omega)]; exact h.slugs
  · rw [e 40 (by omega)]; exact h.suits
theorem m_copies {a b : Nat} (ha : a + 41 ≤ 205) (hb : b + 41 ≤ 205) (hab : a + 41 ≤ b ∨ b + 41 ≤ a) : oW (f_X7_copies μ (nI a) (nI b)) (fun s => FrP b μ s ∧ ∀ j, j < 41 → s 1 (b + j) = μ 1 (a + j)) := by
  unfold f_X7_copies f_X7_copies_b2
  refine oW_lp (fun i s => s.1 = nI i ∧ FrP b μ s.2 ∧ ∀ j, j < i → s.2 1 (b + j) = μ 1 (a + j)) 41 (by rw [gFU_eq]; decide) ⟨rfl, FrP.rf, fun j hj => absurd hj (by omega)⟩ ?_
  rintro i ⟨c, s⟩ hi ⟨rfl, fr, hd⟩
  dsimp only at fr hd ⊢
  unfold f_X7_copies_L2
  by_cases h41 : i = 41
  · subst h41
    exact oW_t (Int32.le_refl _) (oS_r ⟨fr, hd⟩)
  · refine oW_f (fun q => ?_) ?_
    · have := (nle (a := 41) (by decide) (by omega)).mp q
      omega
    rw [nI_add, nI_add, nI_clamp (by omega), nI_clamp (by omega), fr.2 (a + i) (by omega)]
    refine oW_C (inb_t (by omega) (by decide)) (oW_C (inb_t (by omega) (by decide)) (oW_L (oS_l ⟨by omega, nI_1 i, fr.put rfl (by omega), fun j hj => ?_⟩)))
    by_cases e : j = i
    · subst e
      show upd2 s 1 (b + j) (μ 1 (a + j)) 1 (b + j) = _
      exact u2_s _ _ _ _
    · show upd2 s 1 (b + i) (μ 1 (a + i)) 1 (b + j) = _
      rw [u2_j _ _ _ (by omega)]
      exact hd j (by omega)
theorem m_copiesP (h : PgM μ o p) (w : WF p) {b : Nat} (ha : o + 41 ≤ 205) (hb : b + 41 ≤ 205) (hab : o + 41 ≤ b ∨ b + 41 ≤ o) : oW (f_X7_copies μ (nI o) (nI b)) (fun s => FrP b μ s ∧ PgM s b p) := oW_mono (m_copies ha hb hab) (fun s hs => ⟨hs.1, h.move w hs.2⟩)
end AC
