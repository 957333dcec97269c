/-! ===== pull, swap, kindly, need ===== -/
set_option maxRecDepth 100000
def pPull (p : Nat → Nat) (i : Nat) : Nat → Nat := fun j => if j < 7 then (if j < i then p j else p (j + 1)) else if j < 14 then (if j < 7 + i then p j else p (j + 1)) else if j = 38 then p 38 - 1 else p j
def pP (p : Nat → Nat) (i m : Nat) : Nat → Nat := fun j => if i ≤ j ∧ j < i + m ∧ j < 7 then p (j + 1) else if 7 + i ≤ j ∧ j < 7 + i + m ∧ j < 14 then p (j + 1) else p j
section PU2
variable {σ s s' μ μ' : Nat → Nat → Int32} {p q : Nat → Nat} {t o i : Nat} {L L' : Nat → Prop}
theorem pPull_hi {j : Nat} (h : 14 ≤ j) (h2 : j ≠ 38) : pPull p i j = p j := by unfold pPull; rw [if_neg (by omega), if_neg (by omega), if_neg h2]
theorem pPull_38 : pPull p i 38 = p 38 - 1 := rfl
theorem pPull_p {j : Nat} (h : j < 7) : pPull p i j = p (if j < i then j else j + 1) := by unfold pPull; rw [if_pos h]; split <;> rfl
theorem pPull_r {j : Nat} (h : j < 7) : pPull p i (7 + j) = p (7 + (if j < i then j else j + 1)) := by
  unfold pPull
  rw [if_neg (by omega), if_pos (by omega)]
  by_cases e : j < i
  · rw [if_pos (by omega), if_pos e]
  · rw [if_neg (by omega), if_neg e]; rfl
theorem WF.pull (w : WF p) (hi : i < p 38) : WF (pPull p i) := by
  have a1 := w.np; have a2 := w.ns; have a3 := w.nu; have a4 := w.nh
  have ix : ∀ j, j < p 38 - 1 → (if j < i then j else j + 1) < p 38 := fun j hj => by split <;> omega
  unfold WF
  rw [pPull_38, pPull_hi (j := 39) (by omega) (by omega), pPull_hi (j := 40) (by omega) (by omega), pPull_hi (j := 41) (by omega) (by omega)]
  refine ⟨by omega, a2, a3, a4, fun j hj => ?_, fun j hj => ?_, fun j hj => ?_, fun j hj => ?_, fun j hj => ?_, fun j hj => ?_, fun j hj => ?_, fun j hj => ?_, fun a b ha hb e => ?_, fun a b ha hb => ?_⟩
  · rw [pPull_p (by omega)]; exact w.peg (ix j hj)
  · rw [pPull_r (by omega)]; exact w.rag (ix j hj)
  · rw [pPull_hi (by omega) (by omega)]; exact w.slug hj
  · rw [pPull_hi (by omega) (by omega)]; exact w.kind hj
  · rw [pPull_hi (by omega) (by omega)]; exact w.speed hj
  · rw [pPull_hi (by omega) (by omega)]; exact w.who hj
  · rw [pPull_hi (by omega) (by omega)]; exact w.frm hj
  · rw [pPull_p (by omega)]; exact w.cell (ix j hj)
  · rw [pPull_p (by omega), pPull_p (by omega)] at e
    have := w.inj (ix a ha) (ix b hb) e
    split at this <;> split at this <;> omega
  · rw [pPull_p (by omega), pPull_hi (by omega) (by omega)]; exact w.apart (ix a ha) hb
theorem cpOkN {f : Nat → Int32} {a b n n0 n1 : Nat} (ha : a < 2 ^ 31) (hb : b < 2 ^ 31) (hn : n < 2 ^ 31) (h0 : a + n ≤ n0) (h1 : b + n ≤ n1) (hf : ∀ j, j < n → fits .byte (.int (f (a + j))) = true) : cpOk f (nI a) (nI b) (nI n) n0 n1 = true := by
  unfold cpOk
  rw [nI_clamp ha, nI_clamp hb, nI_clamp hn, decide_eq_true (nI_pos ha), decide_eq_true (nI_pos hb), decide_eq_true (nI_pos hn), decide_eq_true h0, decide_eq_true h1]
  simp only [Bool.true_and, List.all_eq_true, List.mem_range]
  exact hf
theorem x_pulls (h : PgX σ t p) (w : WF p) (hb : By σ t) (hi : i < p 38) : oW (f_X5_pulls σ t (nI i)) (fun s => FrT t σ s ∧ PgX s t (pPull p i) ∧ By s t) := by
  have a1 := w.np; have a2 := w.ns; have a3 := w.nu; have a4 := w.nh
  unfold f_X5_pulls
  rw [nI_1, n_6, nI_sub (by omega)]
  refine oW_C (cpOkN (by omega) (by omega) (by omega) (by omega) (by omega) (fun j hj => hb 1 _ (by decide) (by decide) (by show _ < 7; omega))) (oW_L ?_)
  rw [show (Int32.toNatClampNeg (nI (i + 1))) = i + 1 from nI_clamp (by omega), show (Int32.toNatClampNeg (nI i)) = i from nI_clamp (by omega), show (Int32.toNatClampNeg (nI (6 - i))) = 6 - i from nI_clamp (by omega)]
  have u1 : ∀ (r : Nat → Nat → Int32) k g, updc r k g k = g := fun r k g => by unfold updc; exact if_pos rfl
  have u2 : ∀ (r : Nat → Nat → Int32) k m g, m ≠ k → updc r k g m = r m := fun r k m g hm => by unfold updc; exact if_neg hm
  have cp : ∀ (f : Nat → Int32) j, j < 6 → va_cpy f f (i + 1) i (6 - i) j = f (if j < i then j else j + 1) := fun f j hj => by
    by_cases e : j < i
    · rw [if_pos e, pk_cpy_out (Or.inl e)]
    · rw [if_neg e, pk_cpy_in (by omega) (by omega)]; congr 1; omega
  have cp6 : ∀ (f : Nat → Int32), va_cpy f f (i + 1) i (6 - i) 6 = f 6 := fun f => pk_cpy_out (Or.inr (by omega))
  rw [u2 _ _ _ _ (by omega : sb t + 2 ≠ sb t + 1)]
  refine oW_C (cpOkN (by omega) (by omega) (by omega) (by omega) (by omega) (fun j hj => hb 2 _ (by decide) (by decide) (by show _ < 7; omega))) (oW_L (oW_L ?_))
  rw [u2 _ _ _ _ (by omega : sb t ≠ sb t + 2), u2 _ _ _ _ (by omega : sb t ≠ sb t + 1), h.pegs, n_1, nI_sub (by omega)]
  refine oW_some ⟨fun k hk => ?_, ?_, fun k j h1 h2 h3 => ?_⟩
  · rw [u2_k _ _ _ (by omega), u2 _ _ _ _ (by omega), u2 _ _ _ _ (by omega)]
  · refine ⟨fun j hj => ?_, fun j hj => ?_, fun j hj => ?_, fun j hj => ?_, fun j hj => ?_, fun j hj => ?_, fun j hj => ?_, ?_, ?_, ?_, ?_⟩
    · rw [pPull_38] at hj
      rw [u2_k _ _ _ (by omega), u2 _ _ _ _ (by omega), u1, cp _ _ (by omega), pPull_p (by omega)]
      exact h.peg (by split <;> omega)
    · rw [pPull_38] at hj
      rw [u2_k _ _ _ (by omega), u1, cp _ _ (by omega), pPull_r (by omega)]
      exact h.rag (by split <;> omega)
    · rw [pPull_hi (j := 39) (by omega) (by omega)] at hj
      rw [u2_k _ _ _ (by omega), u2 _ _ _ _ (by omega), u2 _ _ _ _ (by omega), pPull_hi (by omega) (by omega)]
      exact h.slug hj
    · rw [pPull_hi (j := 41) (by omega) (by omega)] at hj
      rw [u2_k _ _ _ (by omega), u2 _ _ _ _ (by omega), u2 _ _ _ _ (by omega), pPull_hi (by omega) (by omega)]
      exact h.kind hj
    · rw [pPull_hi (j := 41) (by omega) (by omega)] at hj
      rw [u2_k _ _ _ (by omega), u2 _ _ _ _ (by omega), u2 _ _ _ _ (by omega), pPull_hi (by omega) (by omega)]
      exact h.speed hj
    · rw [pPull_hi (j := 40) (by omega) (by omega)] at hj
      rw [u2_k _ _ _ (by omega), u2 _ _ _ _ (by omega), u2 _ _ _ _ (by omega), pPull_hi (by omega) (by omega)]
      exact h.who hj
    · rw [pPull_hi (j := 40) (by omega) (by omega)] at hj
      rw [u2_k _ _ _ (by omega), u2 _ _ _ _ (by omega), u2 _ _ _ _ (by omega), pPull_hi (by omega) (by omega)]
      exact h.frm hj
    · rw [u2_s, pPull_38]
    · rw [u2_j _ _ _ (by decide), u2 _ _ _ _ (by omega), u2 _ _ _ _ (by omega), pPull_hi (by omega) (by omega)]; exact h.slugs
    · rw [u2_j _ _ _ (by decide), u2 _ _ _ _ (by omega), u2 _ _ _ _ (by omega), pPull_hi (by omega) (by omega)]; exact h.suits
    · rw [u2_j _ _ _ (by decide), u2 _ _ _ _ (by omega), u2 _ _ _ _ (by omega), pPull_hi (by omega) (by omega)]; exact h.hogs
  · rw [u2_k _ _ _ (by omega)]
    by_cases e2 : k = 2
    · subst e2
      have h3 : j < 7 := h3
      rw [u1]
      by_cases e : j < 6
      · rw [cp _ _ e]; exact hb 2 _ (by decide) (by decide) (by show _ < 7; split <;> omega)
      · rw [show j = 6 from by omega, cp6]; exact hb 2 6 (by decide) (by decide) (by decide)
    · rw [u2 _ _ _ _ (by omega)]
      by_cases e1 : k = 1
      · subst e1
        have h3 : j < 7 := h3
        rw [u1]
        by_cases e : j < 6
        · rw [cp _ _ e]; exact hb 1 _ (by decide) (by decide) (by show _ < 7; split <;> omega)
        · rw [show j = 6 from by omega, cp6]; exact hb 1 6 (by decide) (by decide) (by decide)
      · rw [u2 _ _ _ _ (by omega)]; exact hb k j h1 h2 h3
theorem MX.congr (h : MX μ o p L) (e : ∀ j, j < 41 → L' j → L j ∧ p j = q j) : MX μ o q L' := fun j hj hl => by rw [← (e j hj hl).2]; exact h j hj (e j hj hl).1
/-- judging in step, from a known best -/
def JE (b b' fi fi' : Int32) : Prop := ∃ n o, n ≤ 6 ∧ (∀ j, o = some j → j < 1000) ∧ b = nI n ∧ b' = nI n ∧ fi = eN o ∧ fi' = eN o
theorem judge_end2 {s t : Nat → Nat → Int32} {fi b fi' b' : Int32} (wh : Int32) (hr : JE b b' fi fi') (h1 : s 0 15 = fi) (h2 : s 0 16 = b) : ∃ v, f_X0_judged s wh = some v ∧ (if fi' = -4 then (some (fi', t) : Option (Int32 × (Nat → Nat → Int32))) else if wh = 0 then some (fi', t) else some (b', t)) = some (v, t) := by
  obtain ⟨n, o, hn, ho, rfl, rfl, rfl, rfl⟩ := hr
  unfold f_X0_judged
  rw [h1, h2]
  by_cases e : eN o = -4
  · rw [if_pos e, if_pos e, e]; exact ⟨-4, rfl, rfl⟩
  · rw [if_neg e, if_neg e]
    by_cases e2 : wh = 0
    · rw [if_pos e2, if_pos e2]; exact ⟨_, rfl, rfl⟩
    · rw [if_neg e2, if_neg e2]; exact ⟨_, rfl, rfl⟩
def PI (σ μ : Nat → Nat → Int32) (i : Nat) (x : Int32 × (Nat → Nat → Int32)) (y : Int32 × Int32 × Int32 × (Nat → Nat → Int32)) : Prop := x.1 = nI i ∧ y.2.2.1 = nI i ∧ FX σ x.2 ∧ FM μ y.2.2.2 ∧ ∃ fi b, x.2 0 15 = fi ∧ x.2 0 16 = b ∧ JE b y.1 fi y.2.1
theorem op_pull (h : Rel p σ μ) (l1 l2 : Int32) : oE (f_X0_pull σ l1 l2) (f_X7_pull μ l1 l2) RX := by
  have w := h.wf
  have hnp := w.np
  have hnu := w.nu
  unfold f_X0_pull f_X7_pull
  refine oE_rag ⟨p, h⟩ ?_
  rintro k hk rfl
  refine oE_part ⟨p, h⟩ ?_
  rintro wh hw rfl
  have hcn := cnt_le (isW p k) (p 40)
  refine oE_P (oP_l (x_wonMany h.px w hk) (fun r8 hr8 => ?_))
  rw [hr8.1]
  refine oP_l (x_starts _) (fun s0 hs0 => oP_r (m_wins0 h.pm w hk) (fun r8' hr8' => ?_))
  rw [hr8'.1]
  refine oP_re (bitm_msk (by omega)) ?_
  unfold f_X0_pull_b31 f_X7_pull_b36
  refine oP_lp (PI σ μ) (p 38) (by omega) ⟨rfl, rfl, hr8.2.fx.tr hs0.1, hr8'.2.fm, _, _, hs0.2.1, hs0.2.2, ⟨cnt (isW p k) (p 40), none, by omega, (fun j e => nomatch e), rfl, rfl, rfl, rfl⟩⟩ ?_ ?_
  · rintro i ⟨_, s⟩ ⟨b', fi', _, t⟩ hi ⟨rfl, rfl, fx, fm, fi, b, h1, h2, hj⟩
    dsimp only at fx fm h1 h2 hj ⊢
    have gx := fx.pg h.px (by decide : (0 : Nat) ≠ 1)
    have gm := fm.pg h.pm w (by decide)
    have w' := w.pull hi
    have nle1 : ¬ nI (p 38) ≤ nI i := fun q => by
      have := (nle (by omega) (by omega)).mp q
      omega
    unfold f_X0_pull_L31 f_X7_pull_L36
    rw [gx.pegs, gm.c38]
    refine oP_lf nle1 (oP_rC i38 (oP_rf nle1 (oP_l (x_try h fx) (fun s1 hs1 => oP_l (x_pulls hs1.2.1 w hs1.2.2.1 hi) (fun s2 hs2 => oP_l (x_wonMany hs2.2.1 w' hk) (fun r3 hr3 => ?_))))))
    have e40 : pPull p i 40 = p 40 := pPull_hi (by omega) (by omega)
    rw [e40] at hr3
    rw [hr3.1]
    have z15 : ∀ j, j = 15 ∨ j = 16 → r3.2 0 j = s 0 j := fun j hj => by rw [hr3.2.f15 hj, hs2.1.f15, hs1.2.2.2]
    refine oP_l (x_judges (nI i) (nI (cnt (isW (pPull p i) k) (p 40))) ((z15 15 (Or.inl rfl)).trans h1) ((z15 16 (Or.inr rfl)).trans h2)) (fun s4 hs4 => ?_)
    have fx4 : FX σ s4 := ((hs1.1.tr hs2.1.fx).tr hr3.2.fx).tr hs4.1
    have hcm := cnt_le (isW (pPull p i) k) (p 40)
    refine oP_r (m_try h fm) (fun t1 ht1 => ?_)
    unfold f_X7_pull_b62
    have lo : oW (oLoop gFU (fun v : Int32 × (Nat → Nat → Int32) => f_X7_pull_L62 v.2 (nI k) (nI wh) b' fi' (nI i) v.1) (nI i + 1, t1)) (fun o => ∃ b2 fi2 t2, o = .inl (b2, fi2, nI (i + 1), t2) ∧ FM μ t2 ∧ b2 = (if nI (cnt (isW (pPull p i) k) (p 40)) ≤ b' then b' else nI (cnt (isW (pPull p i) k) (p 40))) ∧ fi2 = (if nI (cnt (isW (pPull p i) k) (p 40)) ≤ b' then fi' else nI i)) := by
      refine oW_lp (fun m x => x.1 = nI (i + 1 + m) ∧ FM μ x.2 ∧ MX x.2 164 (pP p i m) (lv p)) (p 38 - 1 - i) (by rw [gFU_eq]; omega) ⟨nI_1 i, ht1.1, (ht1.2.mx w).congr (fun j hj hl => ⟨hl, ?_⟩)⟩ ?_
      · unfold pP
        rw [if_neg (by omega), if_neg (by omega)]
      rintro m ⟨_, t⟩ hm ⟨rfl, fm, mx⟩
      dsimp only at fm mx ⊢
      have gm := fm.pg h.pm w (by decide)
      unfold f_X7_pull_L62
      rw [gm.c38]
      refine oW_C i38 ?_
      by_cases he : m = p 38 - 1 - i
      · have e1 : i + 1 + m = p 38 := by omega
        rw [e1]
        refine oW_t (Int32.le_refl _) ?_
        have v202 : t 1 (Int32.toNatClampNeg 202) = nI (p 38) := by
          have := mx 38 (by decide) (by unfold lv; omega)
          rw [show pP p i m 38 = p 38 from by unfold pP; rw [if_neg (by omega), if_neg (by omega)]] at this
          exact this
        rw [v202, n_1, nI_sub (by omega)]
        have mq : MX (upd2 t 1 202 (nI (p 38 - 1))) 164 (pPull p i) (lv (pPull p i)) := by
          refine (mx.put (i := 38) (n := p 38 - 1) (j := 202) rfl).congr (fun j hj hl => ?_)
          unfold lv at hl
          rw [pPull_38, pPull_hi (j := 39) (by omega) (by omega), pPull_hi (j := 40) (by omega) (by omega), pPull_hi (j := 41) (by omega) (by omega)] at hl
          refine ⟨?_, ?_⟩
          · unfold lv; omega
          · by_cases j38 : j = 38
            · subst j38; rw [pu_s, pPull_38]
            · rw [pu_n _ j38]
              unfold pP pPull
              by_cases q1 : j < 7
              · rw [if_pos q1]
                by_cases q2 : j < i
                · rw [if_neg (by omega), if_neg (by omega), if_pos q2]
                · rw [if_pos (by omega), if_neg q2]
              · rw [if_neg q1, if_neg (by omega)]
                by_cases q2 : j < 14
                · rw [if_pos q2]
                  by_cases q3 : j < 7 + i
                  · rw [if_neg (by omega), if_pos q3]
                  · rw [if_pos (by omega), if_neg q3]
                · rw [if_neg q2, if_neg (by omega), if_neg j38]
        have gq : PgM (upd2 t 1 202 (nI (p 38 - 1))) 164 (pPull p i) := mq.pg w' (fun j _ hl => hl)
        refine oW_I (oW_C (by decide) (oW_C (by decide) (oW_L (oW_B (m_wins1 gq w' hk) (fun r3' hr3' => ?_)))))
        rw [e40] at hr3'
        rw [hr3'.1]
        refine oW_Be (bitm_msk (by omega)) ?_
        unfold f_X7_pull_b161 f_X7_pull_b175
        have fmq : FM μ r3'.2 := (fm.put1 (m := 38) (j := 202) rfl).tr hr3'.2.fm
        by_cases e : nI (cnt (isW (pPull p i) k) (p 40)) ≤ b'
        · exact oW_t e (oW_t e (oW_some ⟨_, _, _, by rw [nI_1], fmq, (if_pos e).symm, (if_pos e).symm⟩))
        · exact oW_f e (oW_f e (oW_some ⟨_, _, _, by rw [nI_1], fmq, (if_neg e).symm, (if_neg e).symm⟩))
      · have e1 : i + 1 + m < p 38 := by omega
        refine oW_f (fun q => ?_) ?_
        · have := (nle (by omega) (by omega)).mp q
          omega
        rw [show (164 : Int32) + nI (i + 1 + m) = nI (164 + (i + 1 + m)) from nI_add 164 _, show (171 : Int32) + nI (i + 1 + m) = nI (171 + (i + 1 + m)) from nI_add 171 _, n_1, nI_sub (by omega), nI_sub (by omega), n_7, nI_add, nI_clamp (by omega), nI_clamp (by omega), nI_clamp (by omega), nI_clamp (by omega), gm.peg0 e1]
        have m1 := mx.put (i := i + m) (n := p (i + 1 + m)) (j := 164 + (i + 1 + m) - 1) (by omega)
        refine oW_C (inb_t (by omega) (by decide)) (oW_C (inb_t (by omega) (by decide)) (oW_L (oW_C (inb_t (by omega) (by decide)) (oW_C (inb_t (by omega) (by decide)) (oW_L ?_)))))
        have fm1 : FM μ (upd2 t 1 (164 + (i + 1 + m) - 1) (nI (p (i + 1 + m)))) := fm.put1 (m := i + m) (by omega)
        rw [(fm1.pg h.pm w (by decide)).rag0 e1, nI_add]
        have m2 := m1.put (i := 7 + (i + m)) (n := p (7 + (i + 1 + m))) (j := 171 + (i + 1 + m) - 1) (by omega)
        refine oS_l ⟨by omega, ?_, fm1.put1 (m := 7 + (i + m)) (by omega), m2.congr (fun j hj hl => ⟨Or.inr (Or.inr hl), ?_⟩)⟩
        · show nI (i + 1 + m + 1) = nI (i + 1 + (m + 1))
          congr 1
        · unfold pP pu
          by_cases q1 : j = 7 + (i + m)
          · rw [if_pos q1, if_neg (show ¬ (i ≤ j ∧ j < i + (m + 1) ∧ j < 7) by omega), if_pos (show 7 + i ≤ j ∧ j < 7 + i + (m + 1) ∧ j < 14 by omega), q1]; congr 1; omega
          · rw [if_neg q1]
            by_cases q2 : j = i + m
            · rw [if_pos q2, if_pos (show i ≤ j ∧ j < i + (m + 1) ∧ j < 7 by omega), q2]; congr 1; omega
            · rw [if_neg q2]
              dsimp only
              by_cases q3 : i ≤ j ∧ j < i + m ∧ j < 7
              · rw [if_pos q3, if_pos (show i ≤ j ∧ j < i + (m + 1) ∧ j < 7 by omega)]
              · rw [if_neg q3, if_neg (show ¬ (i ≤ j ∧ j < i + (m + 1) ∧ j < 7) by omega)]
                by_cases q4 : 7 + i ≤ j ∧ j < 7 + i + m ∧ j < 14
                · rw [if_pos q4, if_pos (show 7 + i ≤ j ∧ j < 7 + i + (m + 1) ∧ j < 14 by omega)]
                · rw [if_neg q4, if_neg (show ¬ (7 + i ≤ j ∧ j < 7 + i + (m + 1) ∧ j < 14) by omega)]
    obtain ⟨_, lo1, b2, fi2, t2, rfl, fm2, lb, lf⟩ := lo
    refine ⟨_, _, rfl, lo1, ?_⟩
    obtain ⟨n, o, hn, ho, rfl, rfl, rfl, rfl⟩ := hj
    refine ⟨nI_1 i, rfl, fx4, fm2, _, _, hs4.2.1, hs4.2.2, ?_⟩
    show JE _ b2 _ fi2
    rw [lb, lf]
    by_cases e : nI (cnt (isW (pPull p i) k) (p 40)) ≤ nI n
    · rw [if_pos e, if_pos e]
      exact ⟨n, o, hn, ho, rfl, rfl, rfl, rfl⟩
    · rw [if_neg e, if_neg e]
      exact ⟨cnt (isW (pPull p i) k) (p 40), some i, by omega, fun j e => by cases e; omega, rfl, rfl, rfl, rfl⟩
  · rintro ⟨_, s⟩ ⟨b', fi', _, t⟩ ⟨rfl, rfl, fx, fm, fi, b, h1, h2, hj⟩
    dsimp only at fx fm h1 h2 hj ⊢
    obtain ⟨v, v1, v2⟩ := judge_end2 (t := t) (nI wh) hj h1 h2
    refine oP_end (f := fun v : Int32 × (Nat → Nat → Int32) => f_X0_pull_L31 v.2 (nI k) (nI wh) v.1) (g := fun v : Int32 × Int32 × Int32 × (Nat → Nat → Int32) => f_X7_pull_L36 v.2.2.2 (nI k) (nI wh) v.1 v.2.1 v.2.2.1) (s := (nI (p 38), s)) (t := (b', fi', nI (p 38), t)) ?_
    dsimp only
    unfold f_X0_pull_L31 f_X7_pull_L36
    rw [(fx.pg h.px (by decide : (0 : Nat) ≠ 1)).pegs, (fm.pg h.pm w (by decide)).c38]
    refine oP_lt (Int32.le_refl _) (oP_rC i38 (oP_rt (Int32.le_refl _) (oP_inr ?_)))
    rw [v1, v2]
    exact ⟨_, _, rfl, rfl, rfl, p, h.fr fx fm⟩
end PU2
