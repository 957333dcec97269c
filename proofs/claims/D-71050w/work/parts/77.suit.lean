/-! ===== a suit, a hedgehog read, in step ===== -/
set_option maxRecDepth 100000
def pHog (p : Nat → Nat) (k v : Nat) : Nat → Nat := pu (pu (pu p (18 + p 41) k) (22 + p 41) v) 41 (p 41 + 1)
section SU
variable {σ σ' s μ μ' m : Nat → Nat → Int32} {n a a0 : Nat} {tv p : Nat → Nat}
theorem pH_o (k v : Nat) {j : Nat} (h1 : j ≠ 18 + p 41) (h2 : j ≠ 22 + p 41) (h3 : j ≠ 41) : pHog p k v j = p j := by unfold pHog; rw [pu_n _ h3, pu_n _ h2, pu_n _ h1]
theorem lvH (k v : Nat) (h4 : p 41 < 4) {j : Nat} (h : lv (pHog p k v) j) : j = 41 ∨ j = 22 + p 41 ∨ j = 18 + p 41 ∨ lv p j := by
  unfold lv at *
  rw [show pHog p k v 41 = p 41 + 1 from pu_s _ _ _, pH_o k v (j := 38) (by omega) (by omega) (by omega), pH_o k v (j := 39) (by omega) (by omega) (by omega), pH_o k v (j := 40) (by omega) (by omega) (by omega)] at h
  omega
theorem WC.hog (w : WC p) {k v : Nat} (hk : k < 4) (hv : v ≤ 9) (h4 : p 41 < 4) : WC (pHog p k v) := by
  have a1 := w.np; have a2 := w.ns; have a3 := w.nu; have a4 := w.nh
  have o : ∀ j, j ≠ 18 + p 41 → j ≠ 22 + p 41 → j ≠ 41 → pHog p k v j = p j := fun j h1 h2 h3 => pH_o k v h1 h2 h3
  have e41 : pHog p k v 41 = p 41 + 1 := pu_s _ _ _
  have eK : pHog p k v (18 + p 41) = k := by unfold pHog; rw [pu_n _ (by omega), pu_n _ (by omega), pu_s]
  have eV : pHog p k v (22 + p 41) = v := by unfold pHog; rw [pu_n _ (by omega), pu_s]
  unfold WC
  rw [e41, o 38 (by omega) (by omega) (by omega), o 39 (by omega) (by omega) (by omega), o 40 (by omega) (by omega) (by omega)]
  refine ⟨a1, a2, a3, by omega, fun j hj => ?_, fun j hj => ?_, fun j hj => ?_, fun j hj => ?_, fun j hj => ?_, fun j hj => ?_, fun j hj => ?_, fun j hj => ?_, fun a b ha hb e => ?_, fun a b ha hb => ?_⟩
  · rw [o _ (by omega) (by omega) (by omega)]; exact w.peg hj
  · rw [o _ (by omega) (by omega) (by omega)]; exact w.rag hj
  · rw [o _ (by omega) (by omega) (by omega)]; exact w.slug hj
  · by_cases q : j = p 41
    · rw [q, eK]; exact hk
    · rw [o _ (by omega) (by omega) (by omega)]; exact w.kind (by omega)
  · by_cases q : j = p 41
    · rw [q, eV]; exact hv
    · rw [o _ (by omega) (by omega) (by omega)]; exact w.speed (by omega)
  · rw [o _ (by omega) (by omega) (by omega)]; exact w.who hj
  · rw [o _ (by omega) (by omega) (by omega)]; exact w.frm hj
  · rw [o _ (by omega) (by omega) (by omega)]; exact w.cell hj
  · rw [o _ (by omega) (by omega) (by omega), o _ (by omega) (by omega) (by omega)] at e; exact w.inj ha hb e
  · rw [o _ (by omega) (by omega) (by omega), o _ (by omega) (by omega) (by omega)]; exact w.apart ha hb
theorem FrX8.ta (h : FrX8 σ s) (e : ∀ j, 3 ≤ j → j ≤ 6 → s 42 j = σ 42 j) (L : Lx σ μ n a) : Lx s μ n a := L.f e (fun _ _ _ => rfl)
theorem p_hog (T : TpR σ μ n tv) (L : Lx σ μ n a0) (P : Pgs σ μ p) {k : Nat} (hk : k < 4) (h4 : p 41 < 4) : oP (f_X8_told σ (nI k)) (f_X7_readMore μ (nI k)) (ROp σ μ n a0) := by
  obtain ⟨w, hx, hm, hh, hb, hi⟩ := P
  have ne : ∀ c, 4 ≤ c → c < 10 → ¬ nI k = nI c := fun c h1 h2 q => absurd ((nI_eq (by omega) (by omega)).mp q) (by omega)
  have hp := w.np; have hs := w.ns; have hu := w.nu
  unfold f_X8_told f_X7_readMore
  refine oP_lf (ne 4 (by decide) (by decide)) (oP_lf (ne 5 (by decide) (by decide)) (oP_lf (ne 6 (by decide) (by decide)) (oP_rf (fun q => absurd ((nlt (a := 3) (by decide) (by omega)).mp q) (by omega)) ?_)))
  have hog := hx.hogs
  have i0 : (2 : Int32) * nI (p 41) + 0 = nI (2 * p 41) := by rw [n_2, nI_mul, n_0, nI_add, Nat.add_zero]
  have i1 : (2 : Int32) * nI (p 41) + 1 = nI (2 * p 41 + 1) := by rw [n_2, nI_mul, nI_1]
  rw [hog, i0, hh, n_18, nI_add]
  refine oP_lC (inb_t (by omega) (by decide)) (oP_rC (inb_t (by omega) (by decide)) (oP_lL (oP_rL ?_)))
  rw [nI_clamp (by omega), nI_clamp (by omega), nbN (by omega)]
  have X0 : FrX8 σ (upd2 σ (sb 4 + 4) (2 * p 41) (nI k)) := FrX8.rf.put (by unfold sb; omega)
  have M0 : FrM8 μ (upd2 μ 2 (18 + p 41) (nI k)) := FrM8.rf.put2
  have L0 : Lx (upd2 σ (sb 4 + 4) (2 * p 41) (nI k)) (upd2 μ 2 (18 + p 41) (nI k)) n a0 := L.f (fun j _ _ => by rw [u2_k _ _ _ (by unfold sb; omega)]) (fun j _ _ => by rw [u2_k _ _ _ (by decide)])
  have eh : upd2 σ (sb 4 + 4) (2 * p 41) (nI k) (sb 4) 5 = nI (p 41) := by rw [u2_k _ _ _ (by unfold sb; omega)]; exact hog
  have em : upd2 μ 2 (18 + p 41) (nI k) 0 3 = nI (p 41) := by rw [u2_k _ _ _ (by decide)]; exact hh
  obtain ⟨x, y, z1, z2, z3⟩ := p_taken (T.f8 X0 M0) L0 (lo := 1) (hi := 9) (by decide) (by decide)
  refine oP_le z1 (oP_re z2 ?_)
  rw [em, n_22, nI_add]
  refine oP_rC (inb_t (by omega) (by decide)) (oP_rL (oP_rL ?_))
  rw [nI_clamp (by omega)]
  cases x with
  | inl t =>
    obtain ⟨q1, q2, F⟩ := z3
    rw [oM_li]
    exact ⟨_, _, rfl, rfl, X0.tr q1.f8, ((M0.tr q2.f8).put2).put0 (Or.inl rfl), F.w2.w0 (Or.inl rfl)⟩
  | inr v =>
    obtain ⟨q1, q2, L1, c, hc1, hc9, _, v1, y1⟩ := z3
    rw [oM_ri, v1, y1, eh, i1]
    refine oP_lC (inb_t (by omega) (by decide)) (oP_lL (oP_lL ?_))
    rw [nI_clamp (by omega), nbN (by omega)]
    have e5 : upd2 v.2 (sb 4 + 4) (2 * p 41 + 1) (nI c) (sb 4) 5 = nI (p 41) := by rw [u2_k _ _ _ (by unfold sb; omega), q1.1 _ (by unfold sb; omega)]; exact eh
    have e6 : upd2 y.2 2 (22 + p 41) (nI c) 0 3 = nI (p 41) := by rw [u2_k _ _ _ (by decide), q2.2 3 (by omega)]; exact em
    rw [e5, nI_1, e6, nI_1]
    have w' := w.hog (k := k) (v := c) hk hc9 h4
    have b1 := (hx.pxC w).put (i := 18 + p 41) (n := k) (by omega) (k := sb 4 + 4) (j := 2 * p 41) (by rw [(ax_4 (by omega)).1]) (by rw [(ax_4 (by omega)).2])
    have b2 := b1.same (σ' := v.2) (fun j hj => q1.1 _ (by unfold sb; omega))
    have b3 := b2.put (i := 22 + p 41) (n := c) (by omega) (k := sb 4 + 4) (j := 2 * p 41 + 1) (by rw [(ax_5 (by omega)).1]) (by rw [(ax_5 (by omega)).2])
    have b4 := b3.put (i := 41) (n := p 41 + 1) (by omega) (k := sb 4) (j := 5) rfl rfl
    have a2 := MX_put (hm.mxC w) (i := 18 + p 41) (n := k) (j := (18 + p 41)) rfl
    have a3 := MX_sw (μ' := y.2) a2 (q2.1 2 (by decide))
    have a4 := MX_put a3 (i := 22 + p 41) (n := c) (j := (22 + p 41)) rfl
    have a5 := MX_sw (μ' := upd2 (upd2 y.2 2 (22 + p 41) (nI c)) 0 3 (nI (p 41 + 1))) a4 (u2_k _ _ _ (by decide))
    have a6 : MX (swp (upd2 (upd2 y.2 2 (22 + p 41) (nI c)) 0 3 (nI (p 41 + 1)))) 0 (pHog p k c) (fun j => j = 22 + p 41 ∨ j = 18 + p 41 ∨ lv p j) := fun j hj hl => by
      rw [a5 j hj hl]
      unfold pHog
      rw [pu_n (pu (pu p (18 + p 41) k) (22 + p 41) c) (show j ≠ 41 by omega)]
    have hby := ((((hb.put (m := 4) (j := 2 * p 41) (v := nI k) rfl (fitB_nI (by omega))).same (σ' := v.2) (fun j hj => q1.1 _ (by unfold sb; omega))).put (m := 4) (j := 2 * p 41 + 1) (v := nI c) rfl (fitB_nI (by omega)))).put0 (j := 5) (v := nI (p 41 + 1))
    refine ⟨_, _, rfl, rfl, ((X0.tr q1.f8).put (by unfold sb; omega)).put (by unfold sb; omega), ((M0.tr q2.f8).put2).put0 (Or.inl rfl), L1.f (fun j _ _ => by rw [u2_k _ _ _ (by unfold sb; omega), u2_k _ _ _ (by unfold sb; omega)]) (fun j _ _ => by rw [u2_j _ _ _ (by omega), u2_k _ _ _ (by decide)]), _, w', b4.pgC w' (fun j _ hl => ?_), a6.pgC w' (fun j h41 hl => ?_), ?_, hby, ?_⟩
    · rcases lvH k c h4 hl with q | q | q | q
      · exact Or.inl q
      · exact Or.inr (Or.inl q)
      · exact Or.inr (Or.inr (Or.inl q))
      · exact Or.inr (Or.inr (Or.inr q))
    · rcases lvH k c h4 hl with q | q | q | q
      · omega
      · exact Or.inl q
      · exact Or.inr (Or.inl q)
      · exact Or.inr (Or.inr q)
    · rw [u2_s]
      show _ = nI (pHog p k c 41)
      rw [show pHog p k c 41 = p 41 + 1 from pu_s _ _ _]
    · have e40 : pHog p k c 40 = p 40 := pH_o k c (by omega) (by omega) (by omega)
      have ew : ∀ i, i < 6 → pHog p k c (26 + i) = p (26 + i) := fun i hi => pH_o k c (by omega) (by omega) (by omega)
      have h1 : Hi (upd2 (upd2 v.2 (sb 4 + 4) (2 * p 41 + 1) (nI c)) (sb 4) 5 (nI (p 41 + 1))) (upd2 (upd2 y.2 2 (22 + p 41) (nI c)) 0 3 (nI (p 41 + 1))) p := hi.same (by rw [u2_k _ _ _ (by unfold sb; omega), u2_k _ _ _ (by unfold sb; omega), q1.2 2 (by omega), u2_k _ _ _ (by unfold sb; omega)]) (by rw [u2_j _ _ _ (by decide), u2_k _ _ _ (by decide), q2.2 4 (by omega), u2_k _ _ _ (by decide)])
      rcases h1 with ⟨g1, g2, g3⟩ | ⟨mm, g1, g2, g3, g4⟩
      · exact Or.inl ⟨by rw [e40]; exact g1, g2, g3⟩
      · exact Or.inr ⟨mm, g1, g2, g3, fun i hi => by rw [e40] at hi; rw [ew i (by omega)]; exact g4 i hi⟩
/-- the higher of the highest so far and h, on both sides -/
theorem Hi_up (h : Hi σ μ p) {c f : Nat} (hc : c < 4) (h6 : p 40 < 6) : ∃ m, m < 4 ∧ (if σ 42 2 < nI c then nI c else σ 42 2) = nI m ∧ (if nI c ≤ μ 0 4 then μ 0 4 else nI c) = nI m ∧ ∀ i, i < pSue p c f 40 → pSue p c f (26 + i) ≤ m := by
  have e40 : pSue p c f 40 = p 40 + 1 := pu_s _ _ _
  have eW : pSue p c f (26 + p 40) = c := by unfold pSue; rw [pu_n _ (by omega), pu_n _ (by omega), pu_s]
  have eo : ∀ i, i < p 40 → pSue p c f (26 + i) = p (26 + i) := fun i hi => pS_o c f (by omega) (by omega) (by omega)
  rw [e40]
  rcases h with ⟨g1, g2, g3⟩ | ⟨m, g1, g2, g3, g4⟩
  · refine ⟨c, hc, ?_, ?_, fun i hi => ?_⟩
    · rw [g2]
      have : ∀ c : Fin 4, (if (-4 : Int32) < nI c.val then nI c.val else -4) = nI c.val := by decide
      exact this ⟨c, hc⟩
    · rw [g3]
      have : ∀ c : Fin 4, (if nI c.val ≤ (-1 : Int32) then -1 else nI c.val) = nI c.val := by decide
      exact this ⟨c, hc⟩
    · have : i = p 40 := by omega
      rw [this, eW]
      exact Nat.le_refl _
  · by_cases q : m < c
    · refine ⟨c, hc, ?_, ?_, fun i hi => ?_⟩
      · rw [g2, if_pos ((nlt (by omega) (by omega)).mpr q)]
      · rw [g3, if_neg (fun e => absurd ((nle (by omega) (by omega)).mp e) (by omega))]
      · by_cases e : i = p 40
        · rw [e, eW]; exact Nat.le_refl _
        · have := g4 i (by omega)
          rw [eo i (by omega)]; omega
    · refine ⟨m, g1, ?_, ?_, fun i hi => ?_⟩
      · rw [g2, if_neg (fun e => q ((nlt (by omega) (by omega)).mp e))]
      · rw [g3, if_pos ((nle (by omega) (by omega)).mpr (by omega))]
      · by_cases e : i = p 40
        · rw [e, eW]; omega
        · rw [eo i (by omega)]; exact g4 i (by omega)
theorem p_suit (T : TpR σ μ n tv) (L : Lx σ μ n a0) (P : Pgs σ μ p) (h6 : p 40 < 6) : oP (f_X8_told σ 6) (f_X7_readMore μ 6) (ROp σ μ n a0) := by
  obtain ⟨w, hx, hm, hh, hb, hi⟩ := P
  have hp := w.np; have hs := w.ns; have hho := w.nh
  have e40 : μ 2 (Int32.toNatClampNeg 40) = nI (p 40) := hm.suits
  unfold f_X8_told f_X7_readMore
  refine oP_lf (by decide) (oP_lf (by decide) (oP_lt rfl (oP_rt (by decide) (oP_rf (by decide) (oP_rf (by decide) (oP_rC (by decide) ?_))))))
  rw [e40]
  unfold f_X8_suit
  obtain ⟨x, y, z1, z2, z3⟩ := p_taken T L (lo := 0) (hi := 3) (by decide) (by decide)
  have rest : ∀ (z : Option ((Int32 × Int32 × (Nat → Nat → Int32)) ⊕ (Nat → Nat → Int32))) (t : Int32 × Int32 × (Nat → Nat → Int32)) (hz : z = some (.inl t)) (k2 : Int32), FrX8 σ t.2.2 → NxM μ y.2 → Fl t.1 t.2.1 y.2 → oP (oB z fun r22 => oM r22 (fun t24 => some (.inl t24)) fun v23 => some (.inr v23)) (f_X7_readMore_b172 y.2 (nI (p 40)) y.1 k2) (ROp σ μ n a0) := by
    intro z t hz k2 q1 q2 F
    subst hz
    unfold f_X7_readMore_b172
    rw [oB_s, oM_li, n_26, n_32, nI_add, nI_add]
    have F1 : Fl t.1 t.2.1 (upd2 (upd2 y.2 0 4 k2) 2 (nI (26 + p 40)).toNatClampNeg y.1) := (F.w0 (Or.inr rfl)).w2
    refine oP_rL (oP_rC (inb_t (by omega) (by decide)) (oP_rL (oP_re (m_number_st F1) (oP_rC (inb_t (by omega) (by decide)) (oP_rL (oP_rC (by decide) (oP_rC (by decide) (oP_rL ⟨_, _, rfl, rfl, q1, ((((q2.f8.put0 (Or.inr rfl)).put2)).put2).put2, ?_⟩))))))))
    exact F1.w2.w2
  cases x with
  | inl t =>
    obtain ⟨q1, q2, F⟩ := z3
    refine oP_re z2 ?_
    have hz : (oB (f_X8_taken σ 0 3) fun r2 => oM r2 (fun t4 => some (.inl t4)) fun v3 => oB (f_X8_taken v3.2 0 7) fun r6 => oM r6 (fun t8 => some (.inl t8)) fun v7 => oL (upd2 v7.2 42 2 (if (v7.2 42 2) < v3.1 then v3.1 else (v7.2 42 2))) fun s9 => oC (inb (2 * (s9 (sb 4) 7)) 12) <| oL (upd2 s9 (sb 4 + 5) (2 * (s9 (sb 4) 7)).toNatClampNeg (nbt (Int8.toInt32 (Int32.toInt8 v3.1)))) fun s11 => oC (inb ((2 * (s11 (sb 4) 7)) + 1) 12) <| oL (upd2 s11 (sb 4 + 5) ((2 * (s11 (sb 4) 7)) + 1).toNatClampNeg (nbt (Int8.toInt32 (Int32.toInt8 v7.1)))) fun s14 => oL (upd2 s14 (sb 4) 7 ((s14 (sb 4) 7) + 1)) fun s17 => (some (.inr s17) : Option ((Int32 × Int32 × (Nat → Nat → Int32)) ⊕ (Nat → Nat → Int32)))) = some (.inl t) := by
      rw [show f_X8_taken σ 0 3 = some (.inl t) from z1]
      rfl
    by_cases g : y.1 ≤ y.2 0 4
    · exact oP_rt g (rest _ t hz _ q1.f8 q2 F)
    · exact oP_rf g (rest _ t hz _ q1.f8 q2 F)
  | inr v =>
    obtain ⟨q1, q2, L1, c, _, hc, _, v1, y1⟩ := z3
    refine oP_re z2 ?_
    obtain ⟨mm, hm4, k1, k2, k3⟩ := Hi_up (f := 0) (hi.same (q1.2 2 (by omega)) (q2.2 4 (by omega)) : Hi v.2 y.2 p) (c := c) (by omega) h6
    rw [show f_X8_taken σ 0 3 = some (.inr v) from z1, oB_s, oM_ri, v1]
    have e26 : (26 : Int32) + nI (p 40) = nI (26 + p 40) := by rw [n_26, nI_add]
    have e32 : (32 : Int32) + nI (p 40) = nI (32 + p 40) := by rw [n_32, nI_add]
    have M1 : FrM8 μ (upd2 (upd2 y.2 0 4 (nI mm)) 2 (26 + p 40) (nI c)) := (q2.f8.put0 (Or.inr rfl)).put2
    have T1 := T.f8 q1.f8 M1
    have L2 : Lx v.2 (upd2 (upd2 y.2 0 4 (nI mm)) 2 (26 + p 40) (nI c)) n a0 := L1.f (fun _ _ _ => rfl) (fun j _ _ => by rw [u2_k _ _ _ (by decide), u2_j _ _ _ (by omega)])
    have main : oP (oB (oB (f_X8_taken v.2 0 7) fun r6 => oM r6 (fun t8 => some (.inl t8)) fun v7 => oL (upd2 v7.2 42 2 (if (v7.2 42 2) < nI c then nI c else (v7.2 42 2))) fun s9 => oC (inb (2 * (s9 (sb 4) 7)) 12) <| oL (upd2 s9 (sb 4 + 5) (2 * (s9 (sb 4) 7)).toNatClampNeg (nbt (Int8.toInt32 (Int32.toInt8 (nI c))))) fun s11 => oC (inb ((2 * (s11 (sb 4) 7)) + 1) 12) <| oL (upd2 s11 (sb 4 + 5) ((2 * (s11 (sb 4) 7)) + 1).toNatClampNeg (nbt (Int8.toInt32 (Int32.toInt8 v7.1)))) fun s14 => oL (upd2 s14 (sb 4) 7 ((s14 (sb 4) 7) + 1)) fun s17 => (some (.inr s17) : Option ((Int32 × Int32 × (Nat → Nat → Int32)) ⊕ (Nat → Nat → Int32)))) fun r22 => oM r22 (fun t24 => some (.inl t24)) fun v23 => some (.inr v23)) (f_X7_readMore_b172 y.2 (nI (p 40)) (nI c) (nI mm)) (ROp σ μ n a0) := by
      unfold f_X7_readMore_b172
      rw [e26, e32]
      refine oP_rL (oP_rC (inb_t (by omega) (by decide)) (oP_rL ?_))
      rw [nI_clamp (by omega), nI_clamp (by omega)]
      obtain ⟨x2, y2, w1, w2, w3⟩ := p_taken T1 L2 (lo := 0) (hi := 7) (by decide) (by decide)
      refine oP_re w2 (oP_rC (inb_t (by omega) (by decide)) (oP_rL (oP_rC (by decide) (oP_rC (by decide) (oP_rL ?_)))))
      rw [show f_X8_taken v.2 0 7 = some x2 from w1, oB_s]
      cases x2 with
      | inl t =>
        obtain ⟨q3, q4, F⟩ := w3
        rw [oM_li, oB_s, oM_li]
        exact ⟨_, _, rfl, rfl, q1.f8.tr q3.f8, ((M1.tr q4.f8).put2).put2, F.w2.w2⟩
      | inr v2 =>
        obtain ⟨q3, q4, L3, f, _, hf, _, v3, y3⟩ := w3
        rw [oM_ri, v3, y3]
        have ehi : v2.2 42 2 = v.2 42 2 := q3.2 2 (by omega)
        rw [ehi, k1, oL_s]
        have s7 : v2.2 (sb 4) 7 = nI (p 40) := by rw [q3.1 _ (by unfold sb; omega), q1.1 _ (by unfold sb; omega)]; exact hx.suits
        have i0 : (2 : Int32) * nI (p 40) = nI (2 * p 40) := by rw [n_2, nI_mul]
        have X1 : FrX8 σ (upd2 v2.2 42 2 (nI mm)) := (q1.f8.tr q3.f8).put (Or.inr ⟨rfl, rfl⟩)
        rw [show upd2 v2.2 42 2 (nI mm) (sb 4) 7 = nI (p 40) from by rw [u2_k _ _ _ (by unfold sb; omega)]; exact s7, i0, inb_t (by omega) (by decide), oC_t, oL_s, nI_clamp (by omega), nbN (by omega)]
        rw [show upd2 (upd2 v2.2 42 2 (nI mm)) (sb 4 + 5) (2 * p 40) (nI c) (sb 4) 7 = nI (p 40) from by rw [u2_k _ _ _ (by unfold sb; omega), u2_k _ _ _ (by unfold sb; omega)]; exact s7, i0, nI_1, inb_t (by omega) (by decide), oC_t, oL_s, nI_clamp (by omega), nbN (by omega)]
        rw [show upd2 (upd2 (upd2 v2.2 42 2 (nI mm)) (sb 4 + 5) (2 * p 40) (nI c)) (sb 4 + 5) (2 * p 40 + 1) (nI f) (sb 4) 7 = nI (p 40) from by rw [u2_k _ _ _ (by unfold sb; omega), u2_k _ _ _ (by unfold sb; omega), u2_k _ _ _ (by unfold sb; omega)]; exact s7, nI_1, oL_s, oB_s, oM_ri]
        have w' := w.sue (h := c) (c := f) (by omega) (by omega) h6
        have b0 := ((hx.pxC w).same (σ' := v.2) (fun j hj => q1.1 _ (by unfold sb; omega))).same (σ' := v2.2) (fun j hj => q3.1 _ (by unfold sb; omega))
        have b0' := b0.same (σ' := upd2 v2.2 42 2 (nI mm)) (fun j hj => u2_k _ _ _ (by unfold sb; omega))
        have b1 := b0'.put (i := 26 + p 40) (n := c) (by omega) (k := sb 4 + 5) (j := 2 * p 40) (by rw [(ax_6 (by omega)).1]) (by rw [(ax_6 (by omega)).2])
        have b3 := b1.put (i := 32 + p 40) (n := f) (by omega) (k := sb 4 + 5) (j := 2 * p 40 + 1) (by rw [(ax_7 (by omega)).1]) (by rw [(ax_7 (by omega)).2])
        have b4 := b3.put (i := 40) (n := p 40 + 1) (by omega) (k := sb 4) (j := 7) rfl rfl
        have a1 := MX_sw (μ' := upd2 y.2 0 4 (nI mm)) (hm.mxC w) (by rw [u2_k _ _ _ (by decide)]; exact q2.1 2 (by decide))
        have a2 := MX_put a1 (i := 26 + p 40) (n := c) (j := (26 + p 40)) rfl
        have a3 := MX_sw (μ' := y2.2) a2 (q4.1 2 (by decide))
        have a4 := MX_put a3 (i := 32 + p 40) (n := f) (j := (32 + p 40)) rfl
        have e5 : upd2 y2.2 2 (32 + p 40) (nI f) 2 (Int32.toNatClampNeg 40) = nI (p 40) := by
          rw [u2_j _ _ _ (show Int32.toNatClampNeg 40 ≠ 32 + p 40 from by show 40 ≠ _; omega), q4.1 2 (by decide), u2_j _ _ _ (show Int32.toNatClampNeg 40 ≠ 26 + p 40 from by show 40 ≠ _; omega), u2_k _ _ _ (by decide), q2.1 2 (by decide)]
          exact e40
        rw [e5, nI_1]
        have a5 := MX_put a4 (i := 40) (n := p 40 + 1) (j := (Int32.toNatClampNeg 40)) rfl
        have hby := (((((hb.same (σ' := v.2) (fun j hj => q1.1 _ (by unfold sb; omega))).same (σ' := v2.2) (fun j hj => q3.1 _ (by unfold sb; omega))).same (σ' := upd2 v2.2 42 2 (nI mm)) (fun j hj => u2_k _ _ _ (by unfold sb; omega))).put (m := 5) (j := 2 * p 40) (v := nI c) rfl (fitB_nI (by omega))).put (m := 5) (j := 2 * p 40 + 1) (v := nI f) rfl (fitB_nI (by omega))).put0 (j := 7) (v := nI (p 40 + 1))
        refine ⟨_, _, rfl, rfl, ((X1.put (by unfold sb; omega)).put (by unfold sb; omega)).put (by unfold sb; omega), ((M1.tr q4.f8).put2).put2, L3.f (fun j _ _ => by rw [u2_k _ _ _ (by unfold sb; omega), u2_k _ _ _ (by unfold sb; omega), u2_k _ _ _ (by unfold sb; omega), u2_j _ _ _ (by omega)]) (fun j _ _ => by rw [u2_k _ _ _ (by decide), u2_k _ _ _ (by decide)]), _, w', b4.pgC w' (fun j _ hl => lvS c f h6 hl), a5.pgC w' (fun j _ hl => lvS c f h6 hl), ?_, hby, ?_⟩
        · rw [u2_k _ _ _ (by decide), u2_k _ _ _ (by decide), q4.2 3 (by omega), u2_k _ _ _ (by decide), u2_j _ _ _ (by decide), q2.2 3 (by omega), hh, pS_o c f (by omega) (by omega) (by omega)]
        · obtain ⟨mm2, _, _, _, k4⟩ := Hi_up (f := f) (hi.same (q1.2 2 (by omega)) (q2.2 4 (by omega)) : Hi v.2 y.2 p) (c := c) (by omega) h6
          refine Or.inr ⟨mm, hm4, ?_, ?_, fun i hi => ?_⟩
          · rw [u2_k _ _ _ (by unfold sb; omega), u2_k _ _ _ (by unfold sb; omega), u2_k _ _ _ (by unfold sb; omega), u2_s]
          · rw [u2_k _ _ _ (by decide), u2_k _ _ _ (by decide), q4.2 4 (by omega), u2_k _ _ _ (by decide), u2_s]
          · have g0 := k3 i (by rw [show pSue p c 0 40 = p 40 + 1 from pu_s _ _ _]; rw [show pSue p c f 40 = p 40 + 1 from pu_s _ _ _] at hi; exact hi)
            have ef : pSue p c f (26 + i) = pSue p c 0 (26 + i) := by
              rw [show pSue p c f 40 = p 40 + 1 from pu_s _ _ _] at hi
              unfold pSue
              rw [pu_n _ (show 26 + i ≠ 40 by omega), pu_n _ (show 26 + i ≠ 32 + p 40 by omega), pu_n _ (show 26 + i ≠ 40 by omega), pu_n _ (show 26 + i ≠ 32 + p 40 by omega)]
            rw [ef]
            exact g0
    by_cases g : y.1 ≤ y.2 0 4
    · rw [y1] at g
      rw [if_pos g] at k2
      refine oP_rt (by rw [y1]; exact g) ?_
      rw [y1, k2]
      exact main
    · rw [y1] at g
      rw [if_neg g] at k2
      refine oP_rf (by rw [y1]; exact g) ?_
      rw [y1]
      rw [← k2] at main
      exact main
end SU
