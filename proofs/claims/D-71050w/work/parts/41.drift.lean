/-! ===== drift ===== -/
set_option maxRecDepth 100000
theorem nI_self (v : Int32) : v = nI v.toBitVec.toNat := by
  apply Int32.toBitVec_inj.mp
  show v.toBitVec = BitVec.ofNat 32 v.toBitVec.toNat
  simp
theorem lcg_nat (v : Int32) : (v >>> ((16 : Int32) &&& 31)) &&& 32767 = nI (v.toBitVec.toNat / 2 ^ 16 % 2 ^ 15) := by
  have h1 := pk_shr v ((16 : Int32) &&& 31) 16 (by decide)
  generalize hz : v >>> ((16 : Int32) &&& 31) = z at *
  rw [nI_self z, pk_andN z.toBitVec.isLt 15 (by decide)]
  congr 1
  have e1 : z.toInt = z.toBitVec.toInt := rfl
  have e2 : v.toInt = v.toBitVec.toInt := rfl
  rw [e1, e2, BitVec.toInt_eq_toNat_cond, BitVec.toInt_eq_toNat_cond, Int.shiftRight_eq_div_pow] at h1
  have l1 := z.toBitVec.isLt
  have l2 := v.toBitVec.isLt
  generalize z.toBitVec.toNat = Z at *
  generalize v.toBitVec.toNat = V at *
  split at h1 <;> split at h1 <;> omega
theorem lcg_x (v : Int32) : (UInt32.toInt32 (Int32.toUInt32 v >>> (Int32.toUInt32 16 &&& Int32.toUInt32 31))) &&& 32767 = nI (v.toBitVec.toNat / 2 ^ 16 % 2 ^ 15) := by
  have := pk_ushrN v.toBitVec.isLt 16 16 (by decide)
  rw [← nI_self v] at this
  rw [this, pk_andN (Nat.lt_of_le_of_lt (Nat.div_le_self _ _) v.toBitVec.isLt) 15 (by decide)]
section DR
variable {σ s s' μ μ' : Nat → Nat → Int32} {p q : Nat → Nat}
def DI (p : Nat → Nat) (σ μ : Nat → Nat → Int32) (i : Nat) (x y : Int32 × Int32 × Int32 × Int32 × (Nat → Nat → Int32)) : Prop :=
  x.1 = y.1 ∧ x.2.1 = y.2.1 ∧ x.2.2.1 = y.2.2.1 ∧ x.2.2.2.1 = nI i ∧ y.2.2.2.1 = nI i ∧ FX σ x.2.2.2.2 ∧ FM μ y.2.2.2.2 ∧ By x.2.2.2.2 1 ∧ ∃ q, WF q ∧ q 41 = p 41 ∧ PgX x.2.2.2.2 1 q ∧ PgM y.2.2.2.2 164 q
theorem op_drift (h : Rel p σ μ) (l1 l2 l3 : Int32) : oE (f_X0_drift σ l1 l2 l3) (f_X7_drift μ l1 l2 l3) (Rel p) := by
  have w := h.wf
  have hnh := w.nh
  unfold f_X0_drift f_X7_drift
  refine oE_arg (a := 1) (b := 60) rfl rfl (by decide) h ?_
  rintro m hm1 hm rfl
  refine oE_part h ?_
  rintro wh hw rfl
  rw [h.px.hogs, h.hg]
  by_cases h0 : p 41 = 0
  · rw [h0]; exact ⟨-2, σ, μ, if_pos rfl, if_pos rfl, h⟩
  have n0 : ¬ nI (p 41) = 0 := fun q => h0 ((nI_eq (b := 0) (by omega) (by decide)).mp q)
  rw [if_neg n0, if_neg n0]
  refine oE_P (oP_l (x_try h FX.rf) (fun s0 hs0 => oP_r (m_try h FM.rf) (fun t0 ht0 => ?_)))
  unfold f_X0_drift_b57 f_X7_drift_b54
  refine oP_lp (DI p σ μ) m (by omega) ⟨rfl, rfl, rfl, rfl, rfl, hs0.1, ht0.1, hs0.2.2.1, p, w, rfl, hs0.2.1, ht0.2⟩ ?_ ?_
  · rintro i ⟨r4, r5, r6, _, s⟩ ⟨_, _, _, _, t⟩ hi ⟨rfl, rfl, rfl, rfl, rfl, fx, fm, by1, q, wq, e41, gx, gm⟩
    dsimp only at fx fm by1 gx gm ⊢
    have hg0 : s (sb 0) 5 = nI (p 41) := (fx.pg h.px (by decide)).hogs
    have hg1 : t 0 1 = nI (p 41) := by rw [fm.2.2 1 (by decide) (by decide) (by decide) (by decide)]; exact h.hg
    have nl : ¬ nI m ≤ nI i := fun z => by
      have := (nle (by omega) (by omega)).mp z
      omega
    unfold f_X0_drift_L57 f_X7_drift_L54
    rw [hg0, hg1, lcg_x, lcg_nat]
    generalize hZ : ((r4 * 1103515245) + 12345).toBitVec.toNat / 2 ^ 16 % 2 ^ 15 = Z
    have hZl : Z < 32768 := by rw [← hZ]; exact Nat.mod_lt _ (by decide)
    generalize (r4 * 1103515245) + 12345 = r4'
    have dv : ∀ d : Nat, 0 < d → d < 2 ^ 31 → nI Z / nI d = nI (Z / d) := fun d a b => pk_div (by omega) a b
    rw [pk_rem (by omega) (by omega) (by omega), show nI Z / 4 = nI (Z / 4) from dv 4 (by decide) (by decide), show nI (Z / 4) - nI (Z / 4) / 8 * 8 = nI (Z / 4 % 8) from pk_rem (d := 8) (by omega) (by decide) (by decide), show nI Z / 32 = nI (Z / 32) from dv 32 (by decide) (by decide), show nI (Z / 32) - nI (Z / 32) / 10 * 10 = nI (Z / 32 % 10) from pk_rem (d := 10) (by omega) (by decide) (by decide), show nI Z / 320 = nI (Z / 320) from dv 320 (by decide) (by decide), show nI (Z / 320) - nI (Z / 320) / 8 * 8 = nI (Z / 320 % 8) from pk_rem (d := 8) (by omega) (by decide) (by decide), n_10, nI_mul, nI_add]
    have hlt : Z % p 41 < q 41 := by rw [e41]; exact Nat.mod_lt _ (by omega)
    have nz0 : nz (nI (p 41)) = true := decide_eq_true n0
    refine oP_lf nl (oP_rf nl (oP_lC nz0 (oP_rC nz0 (oP_l (x_runs gx wq hlt (show Z / 4 % 8 < 8 by omega) (by decide : 0 < 2 ^ 31)) (fun s1 hr => oP_r (m_runs1 gm wq hlt (show Z / 4 % 8 < 8 by omega)) (fun t1 hr' => ?_))))))
    have fx1 := fx.tr hr.1.fx
    have fm1 := fm.tr hr'.1.fm
    have by2 := hr.1.by by1
    have gx1 := hr.1.pg gx
    have gm1 := hr'.1.pg gm
    have hc98 : 10 * (Z / 32 % 10) + Z / 320 % 8 < 98 := by omega
    have hc8 : (10 * (Z / 32 % 10) + Z / 320 % 8) % 10 < 8 := by
      have hy : Z / 320 % 8 < 8 := Nat.mod_lt _ (by decide)
      generalize Z / 320 % 8 = y at hy ⊢
      generalize Z / 32 % 10 = x
      omega
    generalize 10 * (Z / 32 % 10) + Z / 320 % 8 = c at *
    rw [hr.2.1, hr'.2.1]
    cases er : (run q (Z % p 41) (Z / 4 % 8) 0).1 with
    | none =>
      refine oP_lt rfl (oP_rt rfl ?_)
      unfold f_X0_drift_b214 f_X7_drift_b208
      exact oP_inl ⟨rfl, rfl, rfl, nI_1 i, nI_1 i, fx1, fm1, by2, q, wq, e41, gx1, gm1⟩
    | some j =>
      have hj := run_rest er
      have hnq := wq.np
      have nn : ¬ eN (some j) = -4 := nI_nm4 (by omega)
      refine oP_lf nn (oP_rf nn ?_)
      rw [show eN (some j) = nI j from rfl, show (171 : Int32) + nI j = nI (171 + j) from nI_add 171 j]
      refine oP_lC (inb_t (by omega) (by decide)) (oP_rC (inb_t (by omega) (by decide)) ?_)
      rw [show (nI (171 + j)).toNatClampNeg = 171 + j from nI_clamp (by omega), show (nI j).toNatClampNeg = j from nI_clamp (by omega), gx1.rag hj, show t1 1 (171 + j) = nI (q (7 + j)) from by have := gm1.rag hj; rwa [show 164 + (7 + j) = 171 + j from by omega] at this]
      -- the peg goes to the cell c if that is free
      have fin : ∀ k, oP (f_X0_drift_b169 s1 (nI m) (nI wh) r4' (r5 + 1) (nI i) (nI c) k r6) (f_X7_drift_b162 t1 (nI m) (nI wh) r4' (r5 + 1) (nI i) (nI c) k r6) (oSS (DI p σ μ (i + 1)) (fun a b => a.1 = b.1 ∧ Rel p a.2 b.2)) := by
        intro k
        unfold f_X0_drift_b169 f_X7_drift_b162 f_X0_drift_b213 f_X7_drift_b207 f_X0_drift_b214 f_X7_drift_b208
        have fr : f_X7_isFreeOn t1 164 (nI c) = some (b2i (freeAt q c)) := m_isFreeOn gm1 wq (by decide) (by omega)
        rw [hr.2.1, hr'.2.1, er]
        refine oP_le (x_isFree gx1 wq (by omega)) (oP_re fr ?_)
        rw [show eN (some j) = nI j from rfl, show (164 : Int32) + nI j = nI (164 + j) from nI_add 164 j, nI_clamp (by omega), nI_clamp (by omega), gx1.peg hj, gm1.peg hj]
        have hpj := wq.peg hj
        have put : ∀ v : Nat, v < 98 → WF (pu q j v) → DI p σ μ (i + 1) (r4', r5 + 1, r6 + k, nI i + 1, upd2 s1 (sb 1 + 1) j (nI v)) (r4', r5 + 1, r6 + k, nI i + 1, upd2 t1 1 (164 + j) (nI v)) := by
          intro v hv w'
          refine ⟨rfl, rfl, rfl, nI_1 i, nI_1 i, fx1.put1 (m := 1) rfl (by decide), fm1.put1 (m := j) rfl, by2.put (m := 1) rfl (fitB_nI (by omega)), pu q j v, w', ?_, ?_, ?_⟩
          · rw [pu_n q (by omega)]; exact e41
          · exact ((gx1.px wq).put (i := j) (n := v) (by omega) (k := sb 1 + 1) (j := j) (by rw [(ax_1 (by omega)).1]) (by rw [(ax_1 (by omega)).2])).pg w' (fun a _ hl => Or.inr (lv_low (by omega) hl))
          · exact ((gm1.mx wq).put (i := j) (n := v) (j := 164 + j) rfl).pg w' (fun a _ hl => Or.inr (lv_low (by omega) hl))
        cases ef : freeAt q c with
        | false =>
          refine oP_lt rfl (oP_rt rfl (oP_lC (inb_t (by omega) (by decide)) (oP_rC (inb_t (by omega) (by decide)) (oP_lC (inb_t (by omega) (by decide)) (oP_rC (inb_t (by omega) (by decide)) (oP_lL (oP_rL (oP_inl ?_))))))))
          rw [nbt_nI (by omega)]
          exact put _ hpj (by rw [pu_self]; exact wq)
        | true =>
          obtain ⟨f1, f2⟩ := free_iff.mp ef
          refine oP_lf (by decide) (oP_rf (by decide) (oP_lC (inb_t (by omega) (by decide)) (oP_rC (inb_t (by omega) (by decide)) (oP_lL (oP_rL (oP_inl ?_))))))
          rw [nbN (by omega)]
          exact put c hc98 (wq.shift hj hc98 hc8 (fun a ha z => absurd z (pegAt_none f1 ha)) (fun a ha => slugAt_none f2 ha))
      by_cases e0 : nI (q (7 + j)) = 0
      · exact oP_lt e0 (oP_rt e0 (fin 1))
      · exact oP_lf e0 (oP_rf e0 (fin 0))
  · rintro ⟨r4, r5, r6, _, s⟩ ⟨_, _, _, _, t⟩ ⟨rfl, rfl, rfl, rfl, rfl, fx, fm, by1, q, wq, e41, gx, gm⟩
    dsimp only at fx fm by1 gx gm ⊢
    refine oP_end (f := fun v : Int32 × Int32 × Int32 × Int32 × (Nat → Nat → Int32) => f_X0_drift_L57 v.2.2.2.2 (nI m) (nI wh) v.1 v.2.1 v.2.2.1 v.2.2.2.1) (g := fun v : Int32 × Int32 × Int32 × Int32 × (Nat → Nat → Int32) => f_X7_drift_L54 v.2.2.2.2 (nI m) (nI wh) v.1 v.2.1 v.2.2.1 v.2.2.2.1) (s := (r4, r5, r6, nI m, s)) (t := (r4, r5, r6, nI m, t)) ?_
    dsimp only
    unfold f_X0_drift_L57 f_X7_drift_L54
    refine oP_lt (Int32.le_refl _) (oP_rt (Int32.le_refl _) (oP_inr ?_))
    by_cases e2 : nI wh = 0
    · exact oP_lt e2 (oP_rt e2 ⟨_, _, rfl, rfl, rfl, h.fr fx fm⟩)
    · exact oP_lf e2 (oP_rf e2 ⟨_, _, rfl, rfl, rfl, h.fr fx fm⟩)
end DR
