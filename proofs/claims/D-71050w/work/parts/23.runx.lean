/-! ===== the class's run, the reference's run ===== -/
set_option maxRecDepth 100000
theorem oC_t {α : Type} (x : Option α) : oC true x = x := rfl
theorem oB_s {α β : Type} (a : α) (f : α → Option β) : oB (some a) f = f a := rfl
theorem oI_s {α β : Type} (a : α) : oI (some a : Option α) = some (Sum.inr a : β ⊕ α) := rfl
theorem oL_s {σ α : Type} (s : σ) (f : σ → Option α) : oL s f = f s := rfl
theorem nlt {a b : Nat} (ha : a < 2 ^ 31) (hb : b < 2 ^ 31) : nI a < nI b ↔ a < b := nI_ltI ha hb
theorem nb4 : nbt (Int8.toInt32 (Int32.toInt8 (-4))) = -4 := by decide
theorem nbN {n : Nat} (h : n < 128) : nbt (Int8.toInt32 (Int32.toInt8 (nI n))) = nI n := by rw [i2b_nI h, nbt_nI h]
theorem nI_mul (a b : Nat) : nI a * nI b = nI (a * b) := (Int32.ofNat_mul a b).symm
theorem nI_sub {a b : Nat} (h : b ≤ a) : nI a - nI b = nI (a - b) := by
  have : nI a = nI (a - b) + nI b := by rw [nI_add, Nat.sub_add_cancel h]
  rw [this, Int32.add_sub_cancel]
theorem nI_subneg {a b : Nat} (h : a ≤ b) (hb : b < 2 ^ 31) : ¬ 0 < nI a - nI b := by
  intro q
  have e : nI a - nI b = - nI (b - a) := by
    have : nI b = nI a + nI (b - a) := by rw [nI_add, Nat.add_sub_cancel' h]
    rw [this, ← Int32.sub_sub, Int32.sub_self, Int32.zero_sub]
  rw [e, Int32.lt_iff_toInt_lt, Int32.toInt_neg, nI_toInt (by omega)] at q
  simp only [Int32.toInt_zero] at q
  rw [Int.bmod_eq_of_le (by omega) (by omega)] at q
  omega
/-- rows beyond a run's end are as they were -/
theorem runS_way {p : Nat → Nat} {k oth : Nat} : ∀ {n row sp col met : Nat} {w : Nat → Option Nat} {R : RunR}, runS p k oth n row sp col met w = R → row + n ≤ 10 → R.2.1 < 10 → row ≤ R.2.1 ∧ ∀ j, R.2.1 < j → R.2.2.2.2 j = w j
  | 0, row, sp, col, met, w, R, h, _, hl => by
    subst h
    exact absurd hl (show ¬ (10 : Nat) < 10 by decide)
  | n + 1, row, sp, col, met, w, R, h, hn, hl => by
    unfold runS at h
    have up : ∀ R' : RunR, (row + 1 ≤ R'.2.1 ∧ ∀ j, R'.2.1 < j → R'.2.2.2.2 j = upO w row col j) → (row ≤ R'.2.1 ∧ ∀ j, R'.2.1 < j → R'.2.2.2.2 j = w j) := fun R' q => ⟨by omega, fun j hj => by rw [q.2 j hj]; unfold upO; rw [if_neg (by omega)]⟩
    have en : ∀ j, row < j → upO w row col j = w j := fun j hj => by unfold upO; rw [if_neg (by omega)]
    cases e : slugAt p (10 * row + col) with
    | some j =>
      rw [e] at h
      subst h
      exact ⟨Nat.le_refl _, en⟩
    | none =>
      rw [e] at h
      cases e2 : pegAt p (10 * row + col) with
      | none =>
        rw [e2] at h
        exact up R (runS_way h (by omega) hl)
      | some i =>
        rw [e2] at h
        dsimp only at h
        by_cases hs : sp ≤ loN k
        · rw [if_pos hs] at h
          subst h
          exact ⟨Nat.le_refl _, en⟩
        · rw [if_neg hs] at h
          exact up R (runS_way h (by omega) hl)
theorem StX.up {σ σ' : Nat → Nat → Int32} {a b c d : Int32} {w : Nat → Option Nat} {r : Nat} (h : StX σ σ' a b c d w r) (o : Nat) (ho : o < 128) : StX σ (upd2 σ' 7 r (nbt (Int8.toInt32 (Int32.toInt8 (nI o))))) a b c d (upO w r o) (r + 1) := by
  rw [nbN ho]
  exact h.p7 (some o)
section XR
variable {σ : Nat → Nat → Int32} {t : Nat} {p : Nat → Nat} {h k oth : Nat}
def ivX (σ : Nat → Nat → Int32) (p : Nat → Nat) (k oth : Nat) (R : RunR) (i : Nat) (s : Int32 × Int32 × Int32 × (Nat → Nat → Int32)) : Prop :=
  s.2.2.1 = nI i ∧ ((∃ sp col met w, sp < 100 ∧ col < 8 ∧ met ≤ i ∧ s.1 = nI sp ∧ s.2.1 = nI col ∧ StX σ s.2.2.2 (-4) 10 (nI met) 0 w i ∧ (∀ j, i ≤ j → w j = none) ∧ runS p k oth (10 - i) i sp col met w = R) ∨ (R.2.1 < i ∧ R.2.1 < 10 ∧ (∀ j, R.2.1 < j → R.2.2.2.2 j = none) ∧ StX σ s.2.2.2 (eN R.1) (nI R.2.1) (nI R.2.2.1) (b2i R.2.2.2.1) R.2.2.2.2 i))
/-- a stopped round -/
theorem x_stop {s : Nat → Nat → Int32} {R : RunR} {i : Nat} (hi : i < 10) (sp col : Int32) (hl : R.2.1 < i) (hl2 : R.2.1 < 10) (hw : ∀ j, R.2.1 < j → R.2.2.2.2 j = none) (hs : StX σ s (eN R.1) (nI R.2.1) (nI R.2.2.1) (b2i R.2.2.2.1) R.2.2.2.2 i) : oW (f_X0_runs_L57 s t (nI oth) (nI k) sp col (nI i)) (oS (fun s' => i < 10 ∧ ivX σ p k oth R (i + 1) s') (fun r => RunX σ r R)) := by
  unfold f_X0_runs_L57
  rw [hs.2.2.1, n_10]
  refine oW_f (fun q => ?_) (oW_f (fun q => ?_) ?_)
  · have := (nle (by omega) (by omega)).mp q
    omega
  · have := (nle (by omega) (by omega)).mp q
    omega
  unfold f_X0_runs_b78
  refine oW_f (by decide) ?_
  unfold f_X0_runs_b106
  refine oW_f (by decide) ?_
  unfold f_X0_runs_b126
  refine oW_C (inb_t hi (by decide)) (oW_L (oW_f (by decide) ?_))
  unfold f_X0_runs_b151 f_X0_runs_b152
  rw [nI_clamp (by omega), nb4]
  have h7 := hs.p7 none
  have h7' : StX σ (upd2 s 7 i (-4)) (eN R.1) (nI R.2.1) (nI R.2.2.1) (b2i R.2.2.2.1) R.2.2.2.2 (i + 1) := h7.ww (fun j hj => by
    by_cases e : j = i
    · subst e; rw [if_pos rfl, hw j hl]
    · rw [if_neg e])
  have e11 : (upd2 s 7 i (-4)) 0 11 ||| 0 = b2i R.2.2.2.1 := by rw [h7'.2.2.2.2.1]; cases R.2.2.2.1 <;> decide
  rw [e11]
  refine oW_C (isB_b2i _) (oW_L (oW_f (by decide) ?_))
  unfold f_X0_runs_b174 f_X0_runs_b178
  have h11 := h7'.p11 (b2i R.2.2.2.1)
  refine oW_L ?_
  rw [h11.2.2.1]
  refine oW_t rfl ?_
  unfold f_X0_runs_b275
  refine oW_some ⟨hi, ?_⟩
  exact ⟨nI_1 i, Or.inr ⟨by omega, hl2, hw, h11.p9 _⟩⟩
theorem x_runs (hg : PgX σ t p) (w : WF p) (hh : h < p 41) {fr : Nat} (hf : fr < 8) (ho : oth < 2 ^ 31) : oW (f_X0_runs σ t (nI h) (nI fr) (nI oth)) (fun σ' => RunX σ σ' (run p h fr oth)) := by
  have hnh := w.nh
  have hk := w.kind (i := h) (by omega)
  have hsp := w.speed (i := h) (by omega)
  unfold f_X0_runs
  rw [n_2, nI_mul, show nI (2 * h) + 0 = nI (2 * h) from nI_add (2 * h) 0, show nI (2 * h) + 1 = nI (2 * h + 1) from nI_1 _, nI_clamp (by omega), nI_clamp (by omega), hg.kind hh, hg.speed hh]
  refine oW_C (inb_t (by omega) (by decide)) (oW_C (inb_t (by omega) (by decide)) (oW_C (inb_t (by omega) (by decide)) (oW_L (oW_L (oW_L (oW_L ?_))))))
  unfold f_X0_runs_b57
  have s0 : StX σ (upd2 (upd2 (upd2 (upd2 σ 0 8 (-4)) 0 9 10) 0 10 0) 0 11 0) (-4) 10 (nI 0) 0 (fun _ => none) 0 := by
    have q : StX σ σ (σ 0 8) (σ 0 9) (σ 0 10) (σ 0 11) (fun _ => none) 0 := ⟨FrR.rf, rfl, rfl, rfl, rfl, fun j hj => absurd hj (by omega)⟩
    exact (((q.p8 (-4)).p9 10).p10 0).p11 0
  refine oW_lp (ivX σ p (p (18 + h)) oth (run p h fr oth)) 10 (by rw [gFU_eq]; omega) ⟨rfl, Or.inl ⟨p (22 + h), fr, 0, fun _ => none, by omega, hf, by omega, rfl, rfl, s0, fun _ _ => rfl, rfl⟩⟩ ?_
  rintro i ⟨l6, l7, l8, s⟩ hi ⟨e8, hiv⟩
  dsimp only at e8 hiv ⊢
  subst e8
  have hlow := loN_le (p (18 + h))
  rcases hiv with ⟨sp, col, met, w', hsp', hcol, hmet, rfl, rfl, hs, hw, hr⟩ | ⟨hl, hl2, hw, hs⟩
  · by_cases hi10 : i = 10
    · subst hi10
      unfold f_X0_runs_L57
      refine oW_t (Int32.le_refl _) (oW_I (oW_some ?_))
      unfold runS at hr
      rw [show 10 - 10 = 0 from rfl] at hr
      rw [← hr]
      exact ⟨hs.1, hs.2.1, hs.2.2.1, hs.2.2.2.1, hs.2.2.2.2.1, hs.2.2.2.2.2⟩
    · have hi' : i < 10 := by omega
      rw [show 10 - i = (10 - (i + 1)) + 1 from by omega] at hr
      unfold runS at hr
      unfold f_X0_runs_L57
      rw [hs.2.2.1]
      refine oW_f (fun q => ?_) (oW_t ?_ ?_)
      · rw [n_10] at q
        have := (nle (by omega) (by omega)).mp q
        omega
      · rw [n_10]; exact (nle (by omega) (by omega)).mpr hi
      unfold f_X0_runs_b78
      rw [n_10, nI_mul, nI_add]
      refine oW_t rfl (oW_Be (x_pegIn (hs.1.pg hg) w (by omega)) ?_)
      unfold f_X0_runs_b106
      refine oW_t rfl ?_
      unfold f_X0_runs_b126
      rw [nI_clamp (by omega)]
      have h7 := hs.up col (by omega)
      refine oW_C (inb_t hi' (by decide)) (oW_L (oW_t rfl (oW_Be (x_isSlugIn (h7.1.pg hg) w (by omega)) ?_)))
      unfold f_X0_runs_b151
      rw [h7.2.2.2.2.1]
      cases es : slugAt p (10 * i + col) with
      | some j =>
        rw [es] at hr
        dsimp only at hr
        have epn : pegAt p (10 * i + col) = none := by
          cases ep : pegAt p (10 * i + col) with
          | none => rfl
          | some j' =>
            have a1 := fstI_some ep
            have a2 := fstI_some es
            exact absurd (a1.2.trans a2.2.symm) (w.apart a1.1 a2.1)
        rw [epn]
        refine oW_f (show ¬ b2i true = 0 by decide) ?_
        unfold f_X0_runs_b152
        rw [show (0 : Int32) ||| 1 = 1 from rfl]
        have h11 := h7.p11 1
        refine oW_C (by decide) (oW_L (oW_t rfl ?_))
        rw [h11.2.2.2.2.1]
        refine oW_f (by decide) ?_
        unfold f_X0_runs_b178
        refine oW_L (oW_t rfl ?_)
        unfold f_X0_runs_b275
        refine oW_some ⟨hi', nI_1 i, Or.inr ?_⟩
        rw [← hr]
        refine ⟨Nat.lt_succ_self i, hi', fun j hj => ?_, h11.p9 _⟩
        show upO w' i col j = none
        unfold upO
        rw [if_neg (by show ¬ j = i; have : i < j := hj; omega)]
        exact hw j (by have : i < j := hj; omega)
      | none =>
        rw [es] at hr
        dsimp only at hr
        refine oW_t rfl ?_
        unfold f_X0_runs_b152
        rw [show (0 : Int32) ||| 0 = 0 from rfl]
        have h11 := h7.p11 0
        refine oW_C (by decide) (oW_L (oW_t rfl ?_))
        rw [h11.2.2.2.2.1]
        refine oW_t rfl ?_
        unfold f_X0_runs_b174 f_X0_runs_b178
        rw [h11.2.2.1]
        have h9 := h11.p9 10
        refine oW_L ?_
        have hw2 : ∀ c j, i + 1 ≤ j → upO w' i c j = none := fun c j hj => by
          unfold upO
          rw [if_neg (by omega)]
          exact hw j (by omega)
        cases ep : pegAt p (10 * i + col) with
        | none =>
          rw [ep] at hr
          dsimp only at hr
          refine oW_t rfl ?_
          unfold f_X0_runs_b275
          exact oW_some ⟨hi', nI_1 i, Or.inl ⟨sp, col, met, _, hsp', hcol, by omega, rfl, rfl, h9, hw2 col, hr⟩⟩
        | some j =>
          rw [ep] at hr
          dsimp only at hr
          have hj := (fstI_some ep).1
          have hnp := w.np
          refine oW_f (nI_nm4 (by omega)) (oW_L ?_)
          rw [h9.2.2.2.1, nI_1]
          have h10 := h9.p10 (nI (met + 1))
          refine oW_C (inb_t hk (by decide)) ?_
          rw [lo_nI hk]
          by_cases hs' : sp ≤ loN (p (18 + h))
          · rw [if_pos hs'] at hr
            refine oW_f (nI_subneg hs' (by omega)) ?_
            unfold f_X0_runs_b221
            refine oW_L (oW_f (nI_subneg hs' (by omega)) ?_)
            have h8 := h10.p8 (eN (some j))
            unfold f_X0_runs_b237
            have h9' := h8.p9 (nI i)
            refine oW_L (oW_C (inb_t hk (by decide)) (oW_Be (has_nI ho (by omega)) ?_))
            have key : oW (f_X0_onSlope (nI col + (if oth.testBit i then -(kTurns (nI (p (18 + h))) (nI i)) else kTurns (nI (p (18 + h))) (nI i)))) (fun c => True) := by
              rw [on_nI _ hk hi' hcol]
              exact oW_some trivial
            have fin : ∀ b c, oW (f_X0_runs_b275 (upd2 (upd2 (upd2 (upd2 (upd2 (upd2 s 7 i (nbt (nI col).toInt8.toInt32)) 0 11 0) 0 9 10) 0 10 (nI (met + 1))) 0 8 (eN (some j))) 0 9 (nI i)) t (nI oth) (nI (p (18 + h))) b c (nI i)) (oS (fun s' => i < 10 ∧ ivX σ p (p (18 + h)) oth (run p h fr oth) (i + 1) s') (fun r => RunX σ r (run p h fr oth))) := by
              intro b c
              unfold f_X0_runs_b275
              refine oW_some ⟨hi', nI_1 i, Or.inr ?_⟩
              rw [← hr]
              exact ⟨Nat.lt_succ_self i, hi', fun j hj => hw2 col j hj, h9'⟩
            cases eb : oth.testBit i with
            | true =>
              rw [eb, if_pos rfl] at key
              refine oW_f (show ¬ b2i true = 0 by decide) ?_
              unfold f_X0_runs_b269
              exact oW_B key (fun c _ => fin _ c)
            | false =>
              rw [eb, if_neg (by decide)] at key
              refine oW_t rfl ?_
              unfold f_X0_runs_b269
              exact oW_B key (fun c _ => fin _ c)
          · rw [if_neg hs'] at hr
            rw [nI_sub (by omega)]
            refine oW_t ((nlt (a := 0) (by omega) (by omega)).mpr (by omega)) ?_
            unfold f_X0_runs_b221
            refine oW_L (oW_t ((nlt (a := 0) (by omega) (by omega)).mpr (by omega)) ?_)
            have h8 := h10.p8 (-4)
            unfold f_X0_runs_b237
            have h9' := h8.p9 10
            refine oW_L (oW_C (inb_t hk (by decide)) (oW_Be (has_nI ho (by omega)) ?_))
            have key := on_nI (oth.testBit i) hk hi' hcol
            have fin : oW (f_X0_runs_b275 (upd2 (upd2 (upd2 (upd2 (upd2 (upd2 s 7 i (nbt (nI col).toInt8.toInt32)) 0 11 0) 0 9 10) 0 10 (nI (met + 1))) 0 8 (-4)) 0 9 10) t (nI oth) (nI (p (18 + h))) (nI (sp - loN (p (18 + h)))) (nI (toN (p (18 + h)) i col (oth.testBit i))) (nI i)) (oS (fun s' => i < 10 ∧ ivX σ p (p (18 + h)) oth (run p h fr oth) (i + 1) s') (fun r => RunX σ r (run p h fr oth))) := by
              unfold f_X0_runs_b275
              refine oW_some ⟨hi', nI_1 i, Or.inl ⟨_, _, met + 1, _, ?_, toN_lt _ _ _ _, by omega, rfl, rfl, h9', hw2 col, hr⟩⟩
              omega
            cases eb : oth.testBit i with
            | true =>
              rw [eb] at key fin
              rw [if_pos rfl] at key
              refine oW_f (show ¬ b2i true = 0 by decide) ?_
              unfold f_X0_runs_b269
              exact oW_Be key fin
            | false =>
              rw [eb] at key fin
              rw [if_neg (by decide)] at key
              refine oW_t rfl ?_
              unfold f_X0_runs_b269
              exact oW_Be key fin
  · by_cases hi10 : i = 10
    · subst hi10
      unfold f_X0_runs_L57
      refine oW_t (Int32.le_refl _) (oW_I (oW_some ?_))
      exact ⟨hs.1, hs.2.1, hs.2.2.1, hs.2.2.2.1, hs.2.2.2.2.1, hs.2.2.2.2.2⟩
    · exact x_stop (by omega) l6 l7 hl hl2 hw hs
end XR
