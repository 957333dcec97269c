/-! ===== write(), read(), in step ===== -/
set_option maxRecDepth 100000
section WRP
variable {σ σ' s μ μ' : Nat → Nat → Int32} {p q : Nat → Nat} {sh : gSh}
theorem nm1_toInt {n : Nat} (hn : n < 2 ^ 31) : (Int32.toInt64 (nI n - 1)).toInt = (n : Int) - 1 := by
  rw [i2l_toInt]
  by_cases h : n = 0
  · subst h; decide
  · rw [n_1, nI_sub (by omega), nI_toInt (by omega)]
    omega
theorem inb_rng (x : Int32) {n : Nat} : inb x n = rng x.toInt 0 ((n : Int) - 1) := by
  unfold inb rng
  have e : x.toNatClampNeg = x.toInt.toNat := rfl
  have z : (0 : Int32).toInt = 0 := rfl
  rw [e]
  by_cases h : (0 : Int) ≤ x.toInt ∧ x.toInt ≤ (n : Int) - 1
  · rw [decide_eq_true h]
    refine decide_eq_true (fun q => ?_)
    rcases q with q | q
    · rw [Int32.lt_iff_toInt_lt, z] at q; omega
    · omega
  · rw [decide_eq_false h]
    refine decide_eq_false (fun q => h ?_)
    have q1 : ¬ x < 0 := fun y => q (Or.inl y)
    have q2 : ¬ n ≤ x.toInt.toNat := fun y => q (Or.inr y)
    rw [Int32.lt_iff_toInt_lt, z] at q1
    omega
theorem inb_nI2 {x : Int32} {n : Nat} (h : inb x n = true) (hn : n ≤ 2 ^ 31) : ∃ z, z < n ∧ x = nI z := by
  rw [inb_rng] at h
  have h := of_decide_eq_true h
  exact rng_i h.1 (by omega) hn
theorem laC_inj {a b : Nat} (ha : a < 3) (hb : b < 3) : laC (nI a) = laC (nI b) ↔ a = b := by
  have : ∀ a b : Fin 3, laC (nI a.val) = laC (nI b.val) ↔ a.val = b.val := by decide
  exact this ⟨a, ha⟩ ⟨b, hb⟩
theorem tr_lane {j : Nat} (hj : j < 3) (v : Int32) : trC (laC (nI j)) v = if j = 0 then (v <<< ((24 : Int32) &&& 31)) >>> ((24 : Int32) &&& 31) else if j = 1 then (v <<< ((16 : Int32) &&& 31)) >>> ((16 : Int32) &&& 31) else v := by
  rw [sh8, sh16]
  unfold trC
  have h : j = 0 ∨ j = 1 ∨ j = 2 := by omega
  rcases h with rfl | rfl | rfl
  · rw [show laC (nI 0) = 0 by decide, if_pos rfl, if_pos rfl]
    unfold nbt
    rw [vp_nar_byte, Int8.toInt8_toInt32]
  · rw [show laC (nI 1) = 3 by decide, if_neg (show ¬ 3 = 0 by decide), if_pos rfl, if_neg (show ¬ 1 = 0 by decide), if_pos rfl, vp_nar_short, Int16.toInt16_toInt32]
  · rw [show laC (nI 2) = 1 by decide, if_neg (show ¬ 1 = 0 by decide), if_neg (show ¬ 1 = 3 by decide), if_neg (show ¬ 2 = 0 by decide), if_neg (show ¬ 2 = 1 by decide)]
theorem op_write (h : Rel p σ μ) (hS : ShR sh μ) (k i v : Int32) : ∃ b r μ', f_X0_in (Int32.toInt64 k) 0 3 = some b ∧ (b ≠ 0 → inb k 4 = true) ∧ f_X7_write μ k i v = some (r, μ') ∧ Rel p σ μ' ∧ (if b = 0 then r = -1 ∧ ShR sh μ' else r = (wrF (sh k.toNatClampNeg) i v).1 ∧ ShR (va_up sh k.toNatClampNeg (wrF (sh k.toNatClampNeg) i v).2) μ') := by
  unfold f_X7_write
  rw [inM_eq]
  rcases arg_c (a := 0) (b := 3) k (lo := 0) (hi := 3) rfl rfl (by decide) with h1 | ⟨x, _, hx, rfl, h1⟩
  · rw [h1]
    exact ⟨0, -1, μ, rfl, fun e => absurd rfl e, rfl, h, by rw [if_pos rfl]; exact ⟨rfl, hS⟩⟩
  · rw [h1, oB_s, if_neg (by decide)]
    have hk4 : inb (nI x) 4 = true := inb_t (by omega) (by decide)
    have same : va_up sh x (sh x) = sh := by
      funext j
      by_cases e : j = x
      · subst e; exact va_up_self _ _ _
      · exact va_up_ne _ _ e
    rw [nI_clamp (by omega)]
    rcases hS x (by omega) with ⟨a1, a2⟩ | ⟨la, n, f, b1, b2, b3, b4, b5, b6⟩
    · refine ⟨1, -11, μ, rfl, fun _ => hk4, ?_, h, ?_⟩
      · rw [hk4, oC_t, a2, if_pos rfl]
      · rw [if_neg (by decide), a1]
        refine ⟨rfl, ?_⟩
        show ShR (va_up sh x none) μ
        rw [← a1, same]
        exact hS
    · have n4 : ¬ nI la = -4 := nI_nm4 (by omega)
      have ein : f_X7_in (Int32.toInt64 i) 0 (Int32.toInt64 (nI n - 1)) = some (b2i (inb i n)) := by
        rw [inM_eq, in_eq, i2l_toInt, nm1_toInt (by omega), inb_rng]
        rfl
      cases hib : inb i n with
      | false =>
        refine ⟨1, -12, μ, rfl, fun _ => hk4, ?_, h, ?_⟩
        · rw [hk4, oC_t, b4, if_neg n4, oC_t, b5, ein, hib]
          rfl
        · have e : wrF (sh x) i v = (-12, sh x) := by
            rw [b3]
            unfold wrF
            dsimp only
            rw [hib]
            rfl
          rw [if_neg (by decide), e]
          refine ⟨rfl, ?_⟩
          show ShR (va_up sh x (sh x)) μ
          rw [same]
          exact hS
      | true =>
        obtain ⟨z, hz, rfl⟩ := inb_nI2 hib (by omega)
        have e : wrF (sh x) (nI z) v = (1, some (laC (nI la), n, upd f z (trC (laC (nI la)) v))) := by
          rw [b3]
          unfold wrF
          dsimp only
          rw [if_pos hib, nI_clamp (by omega)]
        have eix : (40 : Int32) * nI x + nI z = nI (40 * x + z) := by rw [n_40, nI_mul, nI_add]
        have ew : ∀ t : Int32, f_X7_write_b99 μ t (nI (40 * x + z)) = some (1, upd2 μ 12 (40 * x + z) t) := by
          intro t
          unfold f_X7_write_b99
          rw [inb_t (by omega) (by decide), oC_t, oL_s, nI_clamp (by omega)]
        refine ⟨1, 1, upd2 μ 12 (40 * x + z) (trC (laC (nI la)) v), rfl, fun _ => hk4, ?_, h.lan (fun y hy => u2_k _ _ _ (by omega)), ?_⟩
        · rw [hk4, oC_t, b4, if_neg n4, oC_t, b5, ein, hib, oB_s, if_neg (by decide), oC_t, eix, tr_lane b1]
          have hl : la = 0 ∨ la = 1 ∨ la = 2 := by omega
          rcases hl with rfl | rfl | rfl
          · rw [if_pos (show nI 0 = (0 : Int32) from rfl), if_pos rfl]
            exact ew _
          · rw [if_neg (show ¬ nI 1 = (0 : Int32) by decide), oC_t, if_pos (show nI 1 = (1 : Int32) from rfl), if_neg (show ¬ 1 = 0 by decide), if_pos rfl]
            exact ew _
          · rw [if_neg (show ¬ nI 2 = (0 : Int32) by decide), oC_t, if_neg (show ¬ nI 2 = (1 : Int32) by decide), if_neg (show ¬ 2 = 0 by decide), if_neg (show ¬ 2 = 1 by decide)]
            exact ew _
        · rw [if_neg (by decide), e]
          refine ⟨rfl, fun y hy => ?_⟩
          rw [u2_k _ _ _ (by decide), u2_k _ _ _ (by decide)]
          by_cases ey : y = x
          · subst ey
            refine Or.inr ⟨la, n, upd f z (trC (laC (nI la)) v), b1, b2, va_up_self _ _ _, b4, b5, fun w hw => ?_⟩
            by_cases ez : w = z
            · subst ez
              rw [u2_s]
              unfold upd
              rw [if_pos rfl]
            · rw [u2_j _ _ _ (by omega)]
              unfold upd
              rw [if_neg ez]
              exact b6 w hw
          · rw [va_up_ne _ _ ey]
            rcases hS y hy with a | ⟨la', n', f', c1, c2, c3, c4, c5, c6⟩
            · exact Or.inl a
            · refine Or.inr ⟨la', n', f', c1, c2, c3, c4, c5, fun w hw => ?_⟩
              rw [u2_j _ _ _ (by omega)]
              exact c6 w hw
/-! read() -/
/-- what hinders a cell's taking: the number that torn() then gives; 0: nothing -/
theorem sum_rng {f : Int32} {j n : Nat} (hj : j ≤ 40) (hn : n ≤ 40) : inb (f + nI j) n = rng (f.toInt + j) 0 ((n : Int) - 1) := by
  rw [inb_rng]
  have h1 := Int32.toInt_lt f
  have h2 := Int32.le_toInt f
  rw [Int32.toInt_add, nI_toInt (by omega)]
  by_cases g : f.toInt + (j : Int) < 2 ^ 31
  · rw [Int.bmod_eq_of_le (by omega) (by omega)]
  · have e : (f.toInt + (j : Int)).bmod (2 ^ 32) = f.toInt + j - 2 ^ 32 := by
      rw [Int.bmod_def]
      omega
    rw [e]
    unfold rng
    rw [decide_eq_false (by omega), decide_eq_false (by omega)]
theorem tk_by (hS : ShR sh μ) {k la j : Nat} (hk : k < 4) (hla : la < 3) (hj : j ≤ 40) (f l6 : Int32) {n2 : Nat} (hn2 : n2 < 2 ^ 31) (hjn : j < 2 * n2) (hn3 : 2 * n2 < 2 ^ 31) : ∃ y : Nat, y < 4 ∧ f_X7_read_L55 μ (nI k) (nI la) f (nI n2) 0 l6 (nI j) = f_X7_read_b125 μ (nI k) (nI la) f (nI n2) l6 (nI j) (nI y) ∧ (y = 0 → ∃ z, z < 40 ∧ f + nI j = nI z ∧ tkF (sh k) (nI la) (f + nI j) = .inr (μ 12 (40 * k + z))) ∧ (y ≠ 0 → ∃ E, tkF (sh k) (nI la) (f + nI j) = .inl E ∧ tornOf E = nI y) := by
  have hk4 : inb (nI k) 4 = true := inb_t hk (by decide)
  have h0 : ¬ (2 : Int32) * nI n2 ≤ nI j := by
    rw [n_2, nI_mul]
    exact fun q => absurd ((nle (by omega) (by omega)).mp q) (by omega)
  unfold f_X7_read_L55
  rw [if_neg h0, if_pos rfl, hk4, oC_t, nI_clamp (by omega)]
  rcases hS k hk with ⟨a1, a2⟩ | ⟨lb, n, g, b1, b2, b3, b4, b5, b6⟩
  · refine ⟨1, by decide, by rw [a2, if_pos rfl]; rfl, fun e => absurd e (by decide), fun _ => ⟨_, by rw [a1]; rfl, rfl⟩⟩
  · rw [b4, if_neg (nI_nm4 (by omega)), oC_t]
    by_cases el : lb = la
    · subst el
      rw [if_pos rfl, oC_t, b5]
      have ein : f_X7_in (Int32.toInt64 f + Int32.toInt64 (nI j)) 0 (Int32.toInt64 (nI n - 1)) = some (b2i (inb (f + nI j) n)) := by
        have h1 := Int32.toInt_lt f
        have h2 := Int32.le_toInt f
        rw [inM_eq, in_eq, nm1_toInt (by omega), sum_rng hj b2, Int64.toInt_add, i2l_toInt, i2l_toInt, nI_toInt (by omega), Int.bmod_eq_of_le (by omega) (by omega)]
        rfl
      rw [ein]
      cases hib : inb (f + nI j) n with
      | false =>
        refine ⟨2, by decide, rfl, fun e => absurd e (by decide), fun _ => ⟨"java/lang/ArrayIndexOutOfBoundsException", ?_, by decide⟩⟩
        rw [b3]
        unfold tkF
        dsimp only
        rw [if_pos rfl, hib]
        rfl
      | true =>
        obtain ⟨z, hz, ez⟩ := inb_nI2 hib (by omega)
        refine ⟨0, by decide, rfl, fun _ => ⟨z, by omega, ez, ?_⟩, fun e => absurd rfl e⟩
        rw [b3]
        unfold tkF
        dsimp only
        rw [if_pos rfl, if_pos hib, ez, nI_clamp (by omega), b6 z hz]
    · have nl : ¬ nI lb = nI la := fun q => el ((nI_eq (by omega) (by omega)).mp q)
      rw [if_neg nl]
      refine ⟨3, by decide, rfl, fun e => absurd e (by decide), fun _ => ⟨"java/lang/ClassCastException", ?_, by decide⟩⟩
      rw [b3]
      unfold tkF
      dsimp only
      rw [if_neg (fun q => el ((laC_inj b1 hla).mp q.symm))]
end WRP
