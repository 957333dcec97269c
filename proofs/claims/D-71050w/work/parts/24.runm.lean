/-! ===== the reference's run ===== -/
set_option maxRecDepth 100000
/-- what a run leaves alone -/
def FrM (σ σ' : Nat → Nat → Int32) : Prop := (∀ k, k ≠ 0 → k ≠ 6 → σ' k = σ k) ∧ ∀ j, j ≠ 16 → j ≠ 17 → j ≠ 18 → j ≠ 19 → σ' 0 j = σ 0 j
theorem FrM.rf {σ : Nat → Nat → Int32} : FrM σ σ := ⟨fun _ _ _ => rfl, fun _ _ _ _ _ => rfl⟩
theorem FrM.tr {σ σ1 σ2 : Nat → Nat → Int32} (h1 : FrM σ σ1) (h2 : FrM σ1 σ2) : FrM σ σ2 := ⟨fun k a b => (h2.1 k a b).trans (h1.1 k a b), fun j a b c d => (h2.2 j a b c d).trans (h1.2 j a b c d)⟩
theorem FrM.pg {σ σ' : Nat → Nat → Int32} {t : Nat} {p : Nat → Nat} (h : FrM σ σ') (g : PgM σ t p) : PgM σ' t p := by
  unfold PgM
  rw [h.1 1 (by decide) (by decide)]
  exact g
def RunM (σ σ' : Nat → Nat → Int32) (R : RunR) : Prop := FrM σ σ' ∧ σ' 0 16 = eN R.1 ∧ σ' 0 17 = nI R.2.1 ∧ σ' 0 18 = nI R.2.2.1 ∧ σ' 0 19 = b2i R.2.2.2.1 ∧ ∀ j, j < 10 → j ≤ R.2.1 → σ' 6 j = eN (R.2.2.2.2 j)
/-- a run under way: rests, ended, meets, opens, the way ahead of row r -/
def StM (σ σ' : Nat → Nat → Int32) (a b c d : Int32) (w : Nat → Option Nat) (r : Nat) : Prop := FrM σ σ' ∧ σ' 0 16 = a ∧ σ' 0 17 = b ∧ σ' 0 18 = c ∧ σ' 0 19 = d ∧ ∀ j, j < r → σ' 6 j = eN (w j)
theorem FrM.put {σ σ' : Nat → Nat → Int32} (h : FrM σ σ') {j : Nat} (v : Int32) (hj : j = 16 ∨ j = 17 ∨ j = 18 ∨ j = 19) : FrM σ (upd2 σ' 0 j v) := by
  refine ⟨fun k a b => ?_, fun i a b c d => ?_⟩
  · rw [u2_k _ _ _ a]; exact h.1 k a b
  · rw [u2_j _ _ _ (by omega)]; exact h.2 i a b c d
theorem FrM.put6 {σ σ' : Nat → Nat → Int32} (h : FrM σ σ') (j : Nat) (v : Int32) : FrM σ (upd2 σ' 6 j v) := by
  refine ⟨fun k a b => ?_, fun i a b c d => ?_⟩
  · rw [u2_k _ _ _ b]; exact h.1 k a b
  · rw [u2_k _ _ _ (by decide)]; exact h.2 i a b c d
section ST
variable {σ σ' : Nat → Nat → Int32} {a b c d : Int32} {w : Nat → Option Nat} {r : Nat}
theorem StM.q16 (h : StM σ σ' a b c d w r) (v : Int32) : StM σ (upd2 σ' 0 16 v) v b c d w r := by
  obtain ⟨h0, h1, h2, h3, h4, h5⟩ := h
  exact ⟨h0.put v (Or.inl rfl), u2_s _ _ _ _, by rw [u2_j _ _ _ (by decide), h2], by rw [u2_j _ _ _ (by decide), h3], by rw [u2_j _ _ _ (by decide), h4], fun j hj => by rw [u2_k _ _ _ (by decide), h5 j hj]⟩
theorem StM.q17 (h : StM σ σ' a b c d w r) (v : Int32) : StM σ (upd2 σ' 0 17 v) a v c d w r := by
  obtain ⟨h0, h1, h2, h3, h4, h5⟩ := h
  exact ⟨h0.put v (Or.inr (Or.inl rfl)), by rw [u2_j _ _ _ (by decide), h1], u2_s _ _ _ _, by rw [u2_j _ _ _ (by decide), h3], by rw [u2_j _ _ _ (by decide), h4], fun j hj => by rw [u2_k _ _ _ (by decide), h5 j hj]⟩
theorem StM.q18 (h : StM σ σ' a b c d w r) (v : Int32) : StM σ (upd2 σ' 0 18 v) a b v d w r := by
  obtain ⟨h0, h1, h2, h3, h4, h5⟩ := h
  exact ⟨h0.put v (Or.inr (Or.inr (Or.inl rfl))), by rw [u2_j _ _ _ (by decide), h1], by rw [u2_j _ _ _ (by decide), h2], u2_s _ _ _ _, by rw [u2_j _ _ _ (by decide), h4], fun j hj => by rw [u2_k _ _ _ (by decide), h5 j hj]⟩
theorem StM.q19 (h : StM σ σ' a b c d w r) (v : Int32) : StM σ (upd2 σ' 0 19 v) a b c v w r := by
  obtain ⟨h0, h1, h2, h3, h4, h5⟩ := h
  exact ⟨h0.put v (Or.inr (Or.inr (Or.inr rfl))), by rw [u2_j _ _ _ (by decide), h1], by rw [u2_j _ _ _ (by decide), h2], by rw [u2_j _ _ _ (by decide), h3], u2_s _ _ _ _, fun j hj => by rw [u2_k _ _ _ (by decide), h5 j hj]⟩
theorem StM.p6 (h : StM σ σ' a b c d w r) (o : Option Nat) : StM σ (upd2 σ' 6 r (eN o)) a b c d (fun j => if j = r then o else w j) (r + 1) := by
  obtain ⟨h0, h1, h2, h3, h4, h5⟩ := h
  refine ⟨h0.put6 _ _, by rw [u2_k _ _ _ (by decide), h1], by rw [u2_k _ _ _ (by decide), h2], by rw [u2_k _ _ _ (by decide), h3], by rw [u2_k _ _ _ (by decide), h4], fun j hj => ?_⟩
  by_cases e : j = r
  · subst e
    show _ = eN (if j = j then o else w j)
    rw [u2_s, if_pos rfl]
  · show _ = eN (if j = r then o else w j)
    rw [u2_j _ _ _ e, h5 j (by omega), if_neg e]
theorem StM.ww (h : StM σ σ' a b c d w r) {w' : Nat → Option Nat} (e : ∀ j, j < r → w j = w' j) : StM σ σ' a b c d w' r := ⟨h.1, h.2.1, h.2.2.1, h.2.2.2.1, h.2.2.2.2.1, fun j hj => by rw [h.2.2.2.2.2 j hj, e j hj]⟩
end ST

def tuI (k row : Nat) : Int32 := Int32.ofInt (tuZ k row)
theorem tu_nI {k row : Nat} (hk : k < 4) (hr : row < 10) : f_X7_turnOf (nI k) (nI row) = some (tuI k row) := by
  have : ∀ (k : Fin 4) (row : Fin 10), f_X7_turnOf (nI k.val) (nI row.val) = some (tuI k.val row.val) := by decide +kernel
  exact this ⟨k, hk⟩ ⟨row, hr⟩
theorem mlo_nI {k : Nat} (hk : k < 4) : f_X7_losesOf (nI k) = some (nI (loN k)) := by
  have : ∀ k : Fin 4, f_X7_losesOf (nI k.val) = some (nI (loN k.val)) := by decide +kernel
  exact this ⟨k, hk⟩
theorem mon_nI {k row col : Nat} (b : Bool) (hk : k < 4) (hr : row < 10) (hc : col < 8) : (if 0 ≤ nI col + ((if b then (-1) else 1) * tuI k row) then (if nI col + ((if b then (-1) else 1) * tuI k row) < 8 then nI col + ((if b then (-1) else 1) * tuI k row) else 7) else 0) = nI (toN k row col b) := by
  have : ∀ (k : Fin 4) (row : Fin 10) (col : Fin 8) (b : Bool), (if 0 ≤ nI col.val + ((if b then (-1) else 1) * tuI k.val row.val) then (if nI col.val + ((if b then (-1) else 1) * tuI k.val row.val) < 8 then nI col.val + ((if b then (-1) else 1) * tuI k.val row.val) else 7) else 0) = nI (toN k.val row.val col.val b) := by decide +kernel
  exact this ⟨k, hk⟩ ⟨row, hr⟩ ⟨col, hc⟩ b
section MR
variable {σ : Nat → Nat → Int32} {o : Nat} {p : Nat → Nat} {h k oth : Nat}
theorem m_b189 {row col : Nat} (b : Bool) (l1 l4 l6 : Int32) (hk : k < 4) (hr : row < 10) (hc : col < 8) : f_X7_runsOn_b189 σ l1 l4 (nI k) l6 (nI row) (if b then (-1) else 1) (nI col) = f_X7_runsOn_b225 σ l1 l4 (nI k) l6 (nI (toN k row col b)) (nI row) := by
  have key := mon_nI b hk hr hc
  unfold f_X7_runsOn_b189 f_X7_runsOn_b223
  rw [tu_nI hk hr, oB_s]
  by_cases h0 : 0 ≤ nI col + ((if b then (-1) else 1) * tuI k row)
  · rw [if_pos h0] at key ⊢
    by_cases h1 : nI col + ((if b then (-1) else 1) * tuI k row) < 8
    · rw [if_pos h1] at key ⊢
      rw [key]
    · rw [if_neg h1] at key ⊢
      rw [key]
  · rw [if_neg h0] at key ⊢
    rw [key]
def ivM (σ : Nat → Nat → Int32) (p : Nat → Nat) (k oth : Nat) (R : RunR) (i : Nat) (s : Int32 × Int32 × Int32 × (Nat → Nat → Int32)) : Prop :=
  s.2.2.1 = nI i ∧ ((∃ sp col met w, sp < 100 ∧ col < 8 ∧ met ≤ i ∧ s.1 = nI sp ∧ s.2.1 = nI col ∧ StM σ s.2.2.2 (-4) 10 (nI met) 0 w i ∧ runS p k oth (10 - i) i sp col met w = R) ∨ (R.2.1 < 10 ∧ RunM σ s.2.2.2 R))
theorem StM.run {σ' : Nat → Nat → Int32} {R : RunR} {a b c d : Int32} {w : Nat → Option Nat} {r : Nat} (hs : StM σ σ' a b c d w r) (ha : a = eN R.1) (hb : b = nI R.2.1) (hc : c = nI R.2.2.1) (hd : d = b2i R.2.2.2.1) (hw : w = R.2.2.2.2) (hr : R.2.1 < r ∨ r = 10) : RunM σ σ' R := by
  subst ha hb hc hd hw
  exact ⟨hs.1, hs.2.1, hs.2.2.1, hs.2.2.2.1, hs.2.2.2.2.1, fun j hj hj2 => hs.2.2.2.2.2 j (by omega)⟩
theorem m_runsOn (hg : PgM σ o p) (w : WF p) (ho : o + 41 ≤ 205) (hh : h < p 41) {fr : Nat} (hf : fr < 8) (hoth : oth < 2 ^ 31) : oW (f_X7_runsOn σ (nI o) (nI h) (nI fr) (nI oth)) (fun σ' => RunM σ σ' (run p h fr oth)) := by
  have hnh := w.nh
  have hk := w.kind (i := h) (by omega)
  have hsp := w.speed (i := h) (by omega)
  unfold f_X7_runsOn
  rw [n_18, n_22, nI_add, nI_add, nI_add, nI_add, nI_clamp (by omega), nI_clamp (by omega), Nat.add_assoc o 18 h, Nat.add_assoc o 22 h, hg.kind hh, hg.speed hh]
  refine oW_C (inb_t (by omega) (by decide)) (oW_C (inb_t (by omega) (by decide)) (oW_L (oW_L (oW_L (oW_L ?_)))))
  unfold f_X7_runsOn_b54
  have s0 : StM σ (upd2 (upd2 (upd2 (upd2 σ 0 16 (-4)) 0 17 10) 0 18 0) 0 19 0) (-4) 10 (nI 0) 0 (fun _ => none) 0 := by
    have q : StM σ σ (σ 0 16) (σ 0 17) (σ 0 18) (σ 0 19) (fun _ => none) 0 := ⟨FrM.rf, rfl, rfl, rfl, rfl, fun j hj => absurd hj (by omega)⟩
    exact (((q.q16 (-4)).q17 10).q18 0).q19 0
  refine oW_lp (ivM σ p (p (18 + h)) oth (run p h fr oth)) 10 (by rw [gFU_eq]; omega) ⟨rfl, Or.inl ⟨p (22 + h), fr, 0, fun _ => none, by omega, hf, by omega, rfl, rfl, s0, rfl⟩⟩ ?_
  rintro i ⟨l6, l7, l8, s⟩ hi ⟨e8, hiv⟩
  dsimp only at e8 hiv ⊢
  subst e8
  have hlow := loN_le (p (18 + h))
  unfold f_X7_runsOn_L54
  rcases hiv with ⟨sp, col, met, w', hsp', hcol, hmet, rfl, rfl, hs, hr⟩ | ⟨hl, hs⟩
  · by_cases hi10 : i = 10
    · subst hi10
      refine oW_t (Int32.le_refl _) (oS_r ?_)
      unfold runS at hr
      rw [show 10 - 10 = 0 from rfl] at hr
      rw [← hr]
      exact hs.run rfl rfl rfl rfl rfl (Or.inr rfl)
    · have hi' : i < 10 := by omega
      rw [show 10 - i = (10 - (i + 1)) + 1 from by omega] at hr
      unfold runS at hr
      refine oW_f (fun q => ?_) (oW_t hs.2.2.1 ?_)
      · rw [n_10] at q
        have := (nle (by omega) (by omega)).mp q
        omega
      rw [n_10, nI_mul, nI_add]
      refine oW_Be (m_pegOn (hs.1.pg hg) w ho (by omega)) (oW_C (inb_t hi' (by decide)) (oW_L ?_))
      rw [nI_clamp (by omega)]
      have h7 : StM σ (upd2 s 6 i (nI col)) (-4) 10 (nI met) 0 (upO w' i col) (i + 1) := hs.p6 (some col)
      refine oW_Be (m_slugOn (h7.1.pg hg) w ho (by omega)) ?_
      cases es : slugAt p (10 * i + col) with
      | some j =>
        rw [es] at hr
        dsimp only at hr
        have a2 := (fstI_some es).1
        have hns := w.ns
        refine oW_f (nI_nm4 (by omega)) (oW_L (oW_L ?_))
        have h17 := (h7.q19 1).q17 (nI i)
        unfold f_X7_runsOn_b225
        refine oS_l ⟨hi', nI_1 i, Or.inr ?_⟩
        rw [← hr]
        exact ⟨hi', h17.run rfl rfl rfl rfl rfl (Or.inl (Nat.lt_succ_self i))⟩
      | none =>
        rw [es] at hr
        dsimp only at hr
        refine oW_t rfl ?_
        cases ep : pegAt p (10 * i + col) with
        | none =>
          rw [ep] at hr
          dsimp only at hr
          refine oW_t rfl ?_
          unfold f_X7_runsOn_b225
          exact oS_l ⟨hi', nI_1 i, Or.inl ⟨sp, col, met, _, hsp', hcol, by omega, rfl, rfl, h7, hr⟩⟩
        | some j =>
          rw [ep] at hr
          dsimp only at hr
          have hj := (fstI_some ep).1
          have hnp := w.np
          refine oW_f (nI_nm4 (by omega)) (oW_L ?_)
          rw [h7.2.2.2.1, nI_1]
          have h10 := h7.q18 (nI (met + 1))
          refine oW_Be (mlo_nI hk) ?_
          by_cases hs' : sp ≤ loN (p (18 + h))
          · rw [if_pos hs'] at hr
            refine oW_f (nI_subneg hs' (by omega)) (oW_L (oW_L ?_))
            have h17 := (h10.q16 (eN (some j))).q17 (nI i)
            unfold f_X7_runsOn_b225
            refine oS_l ⟨hi', nI_1 i, Or.inr ?_⟩
            rw [← hr]
            exact ⟨hi', h17.run rfl rfl rfl rfl rfl (Or.inl (Nat.lt_succ_self i))⟩
          · rw [if_neg hs'] at hr
            rw [nI_sub (by omega), bit_nI hoth (by omega)]
            refine oW_t ((nlt (a := 0) (by omega) (by omega)).mpr (by omega)) ?_
            have fin : oW (f_X7_runsOn_b225 (upd2 (upd2 s 6 i (nI col)) 0 18 (nI (met + 1))) (nI o) (nI oth) (nI (p (18 + h))) (nI (sp - loN (p (18 + h)))) (nI (toN (p (18 + h)) i col (oth.testBit i))) (nI i)) (oS (fun s' => i < 10 ∧ ivM σ p (p (18 + h)) oth (run p h fr oth) (i + 1) s') (fun r => RunM σ r (run p h fr oth))) := by
              unfold f_X7_runsOn_b225
              refine oS_l ⟨hi', nI_1 i, Or.inl ⟨_, _, met + 1, _, ?_, toN_lt _ _ _ _, by omega, rfl, rfl, h10, hr⟩⟩
              omega
            rw [← m_b189 _ _ _ _ hk hi' hcol, tb_div] at fin
            by_cases eb : oth / 2 ^ i % 2 = 1
            · rw [decide_eq_true eb, if_pos rfl] at fin
              exact oW_t (show nI (oth / 2 ^ i % 2) = 1 by rw [eb]; rfl) fin
            · rw [decide_eq_false eb, if_neg (by decide)] at fin
              exact oW_f (fun q => eb ((nI_eq (by omega) (by decide)).mp (q.trans n_1))) fin
  · by_cases hi10 : i = 10
    · subst hi10
      exact oW_t (Int32.le_refl _) (oS_r hs)
    · refine oW_f (fun q => ?_) (oW_f (fun q => ?_) (oS_r hs))
      · rw [n_10] at q
        have := (nle (by omega) (by omega)).mp q
        omega
      · rw [hs.2.2.1, n_10] at q
        have := (nI_eq (by omega) (by omega)).mp q
        omega
end MR
