/-! ===== read(), count(), in step ===== -/
set_option maxRecDepth 100000
def DrQ (p : Nat → Nat) (σ μ s s' : Nat → Nat → Int32) : Prop := ∃ p', Rel p' s s' ∧ p' 41 = p 41 ∧ FrT 0 σ s ∧ FrP 0 μ s'
section RDP
variable {σ σ' s μ μ' σ0 μ0 : Nat → Nat → Int32} {p p0 q : Nat → Nat} {sh : gSh}
theorem op_driveS (h : Rel p σ μ) (l1 l2 : Int32) : oE (f_X0_drive σ l1 l2) (f_X7_drives μ l1 l2) (DrQ p σ μ) := by
  have w := h.wf
  have hnp := w.np
  unfold f_X0_drive f_X7_drives
  refine oE_cell ⟨p, h, rfl, FrT.rf, FrP.rf⟩ ?_
  rintro c hc hm rfl
  refine oE_rag ⟨p, h, rfl, FrT.rf, FrP.rf⟩ ?_
  rintro k hk rfl
  have fr : f_X7_isFreeOn μ 0 (nI c) = some (b2i (freeAt p c)) := m_isFreeOn h.pm w (by decide) (by omega)
  rw [fr, x_isFree h.px w (by omega)]
  cases ef : freeAt p c with
  | false => exact oE_n rfl rfl ⟨p, h, rfl, FrT.rf, FrP.rf⟩
  | true =>
    refine oE_y rfl rfl ?_
    rw [h.px.pegs, h.pm.c38, i38]
    by_cases h7 : p 38 = 7
    · rw [h7]
      refine ⟨-3, σ, μ, if_pos rfl, (oC_t _).trans (if_pos rfl), p, h, rfl, FrT.rf, FrP.rf⟩
    · have n7 : ¬ nI (p 38) = 7 := fun q => h7 ((nI_eq (b := 7) (by omega) (by decide)).mp q)
      rw [if_neg n7, oC_t, if_neg n7]
      have hx := x_drives h.px w h.by.1 hc hm ef hk (by omega)
      have hy : oW (f_X7_drivesOn μ 0 (nI c) (nI k)) (fun s => FrP 0 μ s ∧ PgM s 0 (pDrive p c k)) := m_drivesOn h.pm w (by decide) hc hm ef hk (by omega)
      refine oE_of (A := fun s => FrT 0 σ s ∧ PgX s 0 (pDrive p c k) ∧ By s 0) (B := fun s => FrP 0 μ s ∧ PgM s 0 (pDrive p c k)) (nI (p 38 + 1)) (oW_B hx (fun s hs => oW_some ⟨?_, hs⟩)) (oW_B hy (fun s hs => oW_C (by decide) (oW_some ⟨?_, hs⟩))) (fun s s' hs hs' => ⟨_, h.upd hs.1.fx0 hs'.1.fm0 (w.drive hc hm ef hk (by omega)) hs.2.1 hs'.2 (pD_o c k (by omega) (by omega) (by omega)) hs.2.2, pD_o c k (by omega) (by omega) (by omega), hs.1, hs'.1⟩)
      · show s (sb 0) 0 = _
        rw [hs.2.1.pegs, pD38]
      · show s 1 (Int32.toNatClampNeg 38) = _
        rw [hs.2.c38, pD38]
/-- read()'s loop: what holds, with the page p0 it began with set aside -/
def RdI (sh : gSh) (p0 : Nat → Nat) (σ0 μ0 σ μ : Nat → Nat → Int32) : Prop := FX0 σ0 σ ∧ FM0 μ0 μ ∧ PgX σ 1 p0 ∧ By σ 1 ∧ PgM μ 123 p0 ∧ ShR sh μ ∧ ∃ p, Rel p σ μ ∧ p 41 = p0 41
theorem RdI.step (h : RdI sh p0 σ0 μ0 σ μ) (w0 : WF p0) (hr : ∀ p, Rel p σ μ → p 41 = p0 41 → DrQ p σ μ s μ') : RdI sh p0 σ0 μ0 s μ' := by
  obtain ⟨h1, h2, h3, h4, h5, h6, p, h7, h8⟩ := h
  obtain ⟨p', g1, g2, g3, g4⟩ := hr p h7 h8
  exact ⟨h1.tr g3.fx0, h2.tr g4.fm0, g3.pg h3 (by decide), g3.by h4 (by decide), g4.pg h5 w0 (by omega), h6.sl (fun k k1 k2 => g4.1 k (by omega)), p', g1, g2.trans h8⟩
theorem m_L55_end {k la f n l5 l6 l7 : Int32} (h5 : ¬ l5 = 0) : f_X7_read_L55 μ k la f n l5 l6 l7 = oI (f_X7_read_b196 μ l5 l6) := by
  unfold f_X7_read_L55
  by_cases g : 2 * n ≤ l7
  · rw [if_pos g]
  · rw [if_neg g, if_neg h5]
theorem even_m {c : Nat} (h : c < 40) : nI c - nI c / 2 * 2 = nI (c % 2) := by
  have : ∀ c : Fin 40, nI c.val - nI c.val / 2 * 2 = nI (c.val % 2) := by decide
  exact this ⟨c, h⟩
theorem p_read (h0 : Rel p0 σ0 μ0) {k la n : Nat} (hk : k < 4) (hla : la < 3) (hn : n ≤ 20) (f : Int32) : ∀ (u c fu : Nat) (σ μ : Nat → Nat → Int32), c ≤ n → n + 1 ≤ u + c → 2 * (n - c) + 3 ≤ fu → RdI sh p0 σ0 μ0 σ μ → oP (rdL (sh k) (nI la) f (nI n) u (nI c) σ) (oLoop fu (fun v : Int32 × Int32 × Int32 × (Nat → Nat → Int32) => f_X7_read_L55 v.2.2.2 (nI k) (nI la) f (nI n) v.1 v.2.1 v.2.2.1) (0, nI c, nI (2 * c), μ)) (fun x y => x.1 = y.1 ∧ RX x.2 y.2) := by
  have w0 := h0.wf
  intro u
  induction u with
  | zero => intro c fu σ μ h1 h2; omega
  | succ u ih =>
    intro c fu σ μ h1 h2 h3 hI
    obtain ⟨fu, rfl⟩ : ∃ m, fu = m + 1 := ⟨fu - 1, by omega⟩
    unfold rdL
    by_cases hc : c = n
    · subst hc
      refine oP_lt (nI_le (Nat.le_refl _) (by omega)) ?_
      obtain ⟨_, _, _, _, _, _, p, hr, _⟩ := hI
      have e2 : (2 : Int32) * nI c = nI (2 * c) := by rw [n_2, nI_mul]
      have ey : oLoop (fu + 1) (fun v : Int32 × Int32 × Int32 × (Nat → Nat → Int32) => f_X7_read_L55 v.2.2.2 (nI k) (nI la) f (nI c) v.1 v.2.1 v.2.2.1) (0, nI c, nI (2 * c), μ) = some (nI c, upd2 μ 0 28 0) := by
        refine oLoop_inr ?_
        show f_X7_read_L55 μ (nI k) (nI la) f (nI c) 0 (nI c) (nI (2 * c)) = _
        unfold f_X7_read_L55
        rw [e2, if_pos (nI_le (Nat.le_refl _) (by omega))]
        rfl
      exact ⟨_, _, rfl, ey, rfl, p, hr.torn 0⟩
    · refine oP_lf (fun q => absurd ((nle (by omega) (by omega)).mp q) (by omega)) ?_
      have hS := hI.2.2.2.2.2.1
      have e2 : (2 : Int32) * nI c = nI (2 * c) := by rw [n_2, nI_mul]
      have e3 : f + nI (2 * c) + 1 = f + nI (2 * c + 1) := by rw [Int32.add_assoc, nI_1]
      rw [e2, e3]
      -- a taking that fails: the reference's loop ends with the next round
      have fails : ∀ (E : String) (y j : Nat) (g : Nat), y < 4 → y ≠ 0 → tornOf E = nI y → f_X7_read_L55 μ (nI k) (nI la) f (nI n) 0 (nI c) (nI j) = some (.inl (nI y, nI c, nI (j + 1), μ)) → oP (some (nI c, upd2 σ 0 22 (tornOf E)) : Option (Int32 × (Nat → Nat → Int32))) (oLoop (g + 2) (fun v : Int32 × Int32 × Int32 × (Nat → Nat → Int32) => f_X7_read_L55 v.2.2.2 (nI k) (nI la) f (nI n) v.1 v.2.1 v.2.2.1) (0, nI c, nI j, μ)) (fun x y => x.1 = y.1 ∧ RX x.2 y.2) := by
        intro E y j g hy hy0 hE hst
        obtain ⟨_, _, _, _, _, _, p, hr, _⟩ := hI
        have ny : ¬ nI y = 0 := fun q => hy0 ((nI_eq (b := 0) (by omega) (by decide)).mp q)
        have ey : oLoop (g + 2) (fun v : Int32 × Int32 × Int32 × (Nat → Nat → Int32) => f_X7_read_L55 v.2.2.2 (nI k) (nI la) f (nI n) v.1 v.2.1 v.2.2.1) (0, nI c, nI j, μ) = some (nI c, upd2 μ 0 28 (nI y)) := by
          rw [oLoop_inl (f := fun v : Int32 × Int32 × Int32 × (Nat → Nat → Int32) => f_X7_read_L55 v.2.2.2 (nI k) (nI la) f (nI n) v.1 v.2.1 v.2.2.1) (n := g + 1) (s := (0, nI c, nI j, μ)) (s' := (nI y, nI c, nI (j + 1), μ)) hst]
          refine oLoop_oI (x := some (nI c, upd2 μ 0 28 (nI y))) ?_ g
          show f_X7_read_L55 μ (nI k) (nI la) f (nI n) (nI y) (nI c) (nI (j + 1)) = _
          rw [m_L55_end ny]
          rfl
        refine ⟨_, _, rfl, ey, rfl, p, ?_⟩
        rw [hE]
        exact hr.torn (nI y)
      have odd0 : ∀ (y j : Nat), y ≠ 0 → y < 4 → f_X7_read_b125 μ (nI k) (nI la) f (nI n) (nI c) (nI j) (nI y) = some (.inl (nI y, nI c, nI (j + 1), μ)) := by
        intro y j hy hy4
        have ny : ¬ nI y = 0 := fun q => hy ((nI_eq (b := 0) (by omega) (by decide)).mp q)
        unfold f_X7_read_b125 f_X7_read_b190
        rw [if_neg ny, nI_1]
      obtain ⟨y, y4, r1, r2, r3⟩ := tk_by hS hk hla (j := 2 * c) (by omega) f (nI c) (n2 := n) (by omega) (by omega) (by omega)
      by_cases hy : y = 0
      · subst hy
        obtain ⟨z, hz, ez, et⟩ := r2 rfl
        clear r2 r3
        rw [et]
        dsimp only
        have st1 : f_X7_read_L55 μ (nI k) (nI la) f (nI n) 0 (nI c) (nI (2 * c)) = some (.inl (0, nI c, nI (2 * c + 1), μ)) := by
          rw [r1]
          unfold f_X7_read_b125 f_X7_read_b190
          rw [if_pos (show nI 0 = (0 : Int32) from rfl), even_m (by omega), show 2 * c % 2 = 0 by omega, if_neg (show ¬ nI 0 = (1 : Int32) by decide), nI_1]
          rfl
        obtain ⟨y', y4', r1', r2', r3'⟩ := tk_by hS hk hla (j := 2 * c + 1) (by omega) f (nI c) (n2 := n) (by omega) (by omega) (by omega)
        obtain ⟨fu, rfl⟩ : ∃ m, fu = m + 1 := ⟨fu - 1, by omega⟩
        rw [oLoop_inl (f := fun v : Int32 × Int32 × Int32 × (Nat → Nat → Int32) => f_X7_read_L55 v.2.2.2 (nI k) (nI la) f (nI n) v.1 v.2.1 v.2.2.1) (n := fu + 1) (s := (0, nI c, nI (2 * c), μ)) (s' := (0, nI c, nI (2 * c + 1), μ)) st1]
        by_cases hy' : y' = 0
        · subst hy'
          obtain ⟨z', hz', ez', et'⟩ := r2' rfl
          clear r2' r3'
          rw [et']
          dsimp only
          have ezz : z' = z + 1 := by
            have e : nI z' = nI (z + 1) := by rw [← ez', ← nI_1 (2 * c), ← Int32.add_assoc, ez, nI_1]
            exact (nI_eq (by omega) (by omega)).mp e
          subst ezz
          obtain ⟨p, hr, hp⟩ := hI.2.2.2.2.2.2
          obtain ⟨v, s, s', d1, d2, d3⟩ := op_driveS hr (μ 12 (40 * k + z)) (μ 12 (40 * k + (z + 1)))
          rw [d1, oB_s]
          have ei : (40 : Int32) * nI k + f + nI (2 * c + 1) = nI (40 * k + (z + 1)) := by rw [Int32.add_assoc, ez', n_40, nI_mul, nI_add]
          have ei1 : nI (40 * k + (z + 1)) - 1 = nI (40 * k + z) := nI_pred (40 * k + z)
          have hI' : RdI sh p0 σ0 μ0 s s' := hI.step w0 (fun p2 hr2 hp2 => by
            obtain ⟨p', g1, g2, g3, g4⟩ := d3
            exact ⟨p', g1, g2.trans (hp.trans hp2.symm), g3, g4⟩)
          have st2 : f_X7_read_L55 μ (nI k) (nI la) f (nI n) 0 (nI c) (nI (2 * c + 1)) = if 0 ≤ v then some (.inl (0, nI (c + 1), nI (2 * (c + 1)), s')) else oI (oB (f_X7_copies s' 123 0) fun r9 => some (-20 - nI c, r9)) := by
            rw [r1']
            unfold f_X7_read_b125 f_X7_read_b190
            rw [if_pos (show nI 0 = (0 : Int32) from rfl), even_m (by omega), show (2 * c + 1) % 2 = 1 by omega, if_pos (show nI 1 = (1 : Int32) from rfl), ei, ei1, inb_t (by omega) (by decide), inb_t (by omega) (by decide), oC_t, oC_t, nI_clamp (by omega), nI_clamp (by omega), d2, oB_s, nI_1, nI_1, show 2 * c + 1 + 1 = 2 * (c + 1) by omega]
            rfl
          by_cases hv : 0 ≤ v
          · rw [if_pos hv] at st2
            refine oP_lt hv ?_
            rw [oLoop_inl (f := fun v : Int32 × Int32 × Int32 × (Nat → Nat → Int32) => f_X7_read_L55 v.2.2.2 (nI k) (nI la) f (nI n) v.1 v.2.1 v.2.2.1) (s := (0, nI c, nI (2 * c + 1), μ)) (s' := (0, nI (c + 1), nI (2 * (c + 1)), s')) st2, nI_1]
            exact ih (c + 1) fu s s' (by omega) (by omega) (by omega) hI'
          · rw [if_neg hv] at st2
            refine oP_lf hv ?_
            obtain ⟨i1, i2, i3, i4, i5, i6, i7⟩ := hI'
            obtain ⟨t, t1, t2, t3, t4⟩ := x_asP i3 w0 i4 (t := 0) (by decide)
            obtain ⟨t', t1', t2', t3'⟩ := m_copiesP i5 w0 (b := 0) (by decide) (by decide) (by decide)
            rw [t1, oB_s]
            have ey := oLoop_oI (f := fun v : Int32 × Int32 × Int32 × (Nat → Nat → Int32) => f_X7_read_L55 v.2.2.2 (nI k) (nI la) f (nI n) v.1 v.2.1 v.2.2.1) (s := (0, nI c, nI (2 * c + 1), μ)) st2 fu
            rw [ey, show f_X7_copies s' 123 0 = some t' from t1', oB_s]
            exact ⟨_, _, rfl, rfl, rfl, p0, h0.upd (i1.tr t2.fx0) (i2.tr t2'.fm0) w0 t3 t3' rfl t4⟩
        · obtain ⟨E, et', hE⟩ := r3' hy'
          rw [et']
          dsimp only
          obtain ⟨g, rfl⟩ : ∃ g, fu = g + 1 := ⟨fu - 1, by omega⟩
          exact fails E y' (2 * c + 1) g y4' hy' hE (r1'.trans (odd0 y' _ hy' y4'))
      · obtain ⟨E, et, hE⟩ := r3 hy
        rw [et]
        dsimp only
        obtain ⟨g, rfl⟩ : ∃ g, fu = g + 1 := ⟨fu - 1, by omega⟩
        exact fails E y (2 * c) g y4 hy hE (r1.trans (odd0 y _ hy y4))
theorem isSheet_k {k lane : Int32} (h : f_X0_isSheet k lane ≠ some 0) : inb k 4 = true := by
  rcases isSheet_c k lane with ⟨b, h1, rfl, _⟩ | ⟨i, j, hi, hj, rfl, rfl, _⟩
  · exact absurd h1 h
  · exact inb_t hi (by decide)
theorem op_read (h : Rel p σ μ) (hS : ShR sh μ) (k lane f n : Int32) : oE (f_X0_read sh σ k lane f n) (f_X7_read μ k lane f n) RX := by
  unfold f_X0_read f_X7_read
  rcases isSheet_c k lane with ⟨b, h1, rfl, h2⟩ | ⟨i, j, hi, hj, rfl, rfl, h1, h2, h3⟩
  · rw [h1, oB_s, if_pos rfl]
    rcases h2 with h2 | ⟨h2, h3⟩
    · rw [h2]
      exact ⟨-1, σ, μ, rfl, rfl, p, h⟩
    · rw [h2, h3]
      exact ⟨-1, σ, μ, rfl, rfl, p, h⟩
  · rw [h1, h2, h3, oB_s, oB_s, oB_s, if_neg (by decide), if_neg (by decide), if_neg (by decide), inM_eq]
    rcases arg_c (a := 0) (b := 20) n (lo := 0) (hi := 20) rfl rfl (by decide) with g | ⟨m, _, hm, rfl, g⟩
    · rw [g]
      exact ⟨-1, σ, μ, rfl, rfl, p, h⟩
    · rw [g, oB_s, oB_s, if_neg (by decide), if_neg (by decide), nI_clamp (by omega)]
      obtain ⟨s, s1, s2, s3, s4⟩ := x_asP h.px h.wf h.by.1 (t := 1) (by decide)
      obtain ⟨m', m1, m2, m3⟩ := m_copiesP h.pm h.wf (b := 123) (by decide) (by decide) (by decide)
      rw [s1, show f_X7_copies μ 0 123 = some m' from m1, oB_s, oB_s]
      have fm : FM μ m' := ⟨fun k _ q _ _ _ => m2.1 k q, fun j q => m2.2 j (by omega), fun j _ _ _ _ => by rw [m2.1 0 (by decide)]⟩
      have hr : Rel p s m' := h.fr s2.fx fm
      have hI : RdI sh p s m' s m' := ⟨⟨fun _ _ _ _ _ => rfl, fun _ _ _ _ _ _ _ => rfl⟩, ⟨fun _ _ _ _ _ _ => rfl, fun _ _ _ => rfl, fun _ _ _ _ _ => rfl⟩, s3, s4, m3, hS.sl (fun x x1 x2 => m2.1 x (by omega)), p, hr, rfl⟩
      exact oE_P (p_read hr hi hj hm f 21 0 gFU s m' (Nat.zero_le _) (by omega) (by rw [gFU_eq]; omega) hI)
end RDP
