/-! ===== ask, drift ===== -/
set_option maxRecDepth 100000
def cv (A : Nat → Bool) (f : Nat → Nat) (v : Nat) (n : Nat) : Nat := cnt (fun j => A j && f j == v) n
def xm (A : Nat → Bool) (f : Nat → Nat) : Nat → Nat
  | 0 => 0
  | n + 1 => if A n then max (xm A f n) (cv A f (f n) (n + 1)) else xm A f n
def mm (A : Nat → Bool) (f : Nat → Nat) : Nat → Nat
  | 0 => 0
  | n + 1 => if A n then max (mm A f n) (cv A f (f n) 10) else mm A f n
def isL (A : Nat → Bool) (f : Nat → Nat) (n N X : Nat) : Prop := (∀ i, i < n → A i = true → cv A f (f i) N ≤ X) ∧ (X = 0 ∨ ∃ i, i < n ∧ A i = true ∧ X ≤ cv A f (f i) N)
theorem cv_S (A : Nat → Bool) (f : Nat → Nat) (v n : Nat) : cv A f v (n + 1) = cv A f v n + (if (A n && f n == v) then 1 else 0) := rfl
theorem isL_u {A : Nat → Bool} {f : Nat → Nat} {n N X Y : Nat} (h : isL A f n N X) (g : isL A f n N Y) : X = Y := by
  apply Nat.le_antisymm
  · rcases h.2 with e | ⟨i, h1, h2, h3⟩
    · omega
    · have := g.1 i h1 h2; omega
  · rcases g.2 with e | ⟨i, h1, h2, h3⟩
    · omega
    · have := h.1 i h1 h2; omega
theorem mm_L (A : Nat → Bool) (f : Nat → Nat) : ∀ n, isL A f n 10 (mm A f n)
  | 0 => ⟨fun i hi => absurd hi (by omega), Or.inl rfl⟩
  | n + 1 => by
    have ih := mm_L A f n
    unfold mm
    by_cases e : A n = true
    · rw [if_pos e]
      refine ⟨fun i hi ha => ?_, ?_⟩
      · by_cases q : i = n
        · subst q; omega
        · have := ih.1 i (by omega) ha; omega
      · by_cases q : mm A f n ≤ cv A f (f n) 10
        · exact Or.inr ⟨n, by omega, e, by omega⟩
        · rcases ih.2 with z | ⟨i, h1, h2, h3⟩
          · omega
          · exact Or.inr ⟨i, by omega, h2, by omega⟩
    · rw [if_neg e]
      refine ⟨fun i hi ha => ?_, ?_⟩
      · by_cases q : i = n
        · subst q; exact absurd ha e
        · exact ih.1 i (by omega) ha
      · rcases ih.2 with z | ⟨i, h1, h2, h3⟩
        · exact Or.inl z
        · exact Or.inr ⟨i, by omega, h2, h3⟩
theorem xm_L (A : Nat → Bool) (f : Nat → Nat) : ∀ n, isL A f n n (xm A f n)
  | 0 => ⟨fun i hi => absurd hi (by omega), Or.inl rfl⟩
  | n + 1 => by
    have ih := xm_L A f n
    unfold xm
    by_cases e : A n = true
    · rw [if_pos e]
      have up : ∀ v, cv A f v n ≤ cv A f v (n + 1) := fun v => by rw [cv_S]; omega
      refine ⟨fun i hi ha => ?_, ?_⟩
      · by_cases q : f i = f n
        · rw [q]; omega
        · by_cases q2 : i = n
          · rw [q2] at q; exact absurd rfl q
          · have := ih.1 i (by omega) ha
            rw [cv_S, if_neg (by rw [Bool.and_eq_true, beq_iff_eq]; exact fun z => q z.2.symm)]
            omega
      · by_cases q : xm A f n ≤ cv A f (f n) (n + 1)
        · exact Or.inr ⟨n, by omega, e, by omega⟩
        · rcases ih.2 with z | ⟨i, h1, h2, h3⟩
          · omega
          · have := up (f i)
            exact Or.inr ⟨i, by omega, h2, by omega⟩
    · rw [if_neg e]
      have same : ∀ v, cv A f v (n + 1) = cv A f v n := fun v => by rw [cv_S, if_neg (by rw [Bool.and_eq_true]; exact fun z => e z.1)]; omega
      refine ⟨fun i hi ha => ?_, ?_⟩
      · by_cases q : i = n
        · subst q; exact absurd ha e
        · rw [same]; exact ih.1 i (by omega) ha
      · rcases ih.2 with z | ⟨i, h1, h2, h3⟩
        · exact Or.inl z
        · exact Or.inr ⟨i, by omega, h2, by rw [same]; exact h3⟩
theorem xm_mm (A : Nat → Bool) (f : Nat → Nat) : xm A f 10 = mm A f 10 := isL_u (xm_L A f 10) (mm_L A f 10)
theorem cv_le (A : Nat → Bool) (f : Nat → Nat) (v n : Nat) : cv A f v n ≤ n := cnt_le _ n
theorem xm_le (A : Nat → Bool) (f : Nat → Nat) : ∀ n, xm A f n ≤ n
  | 0 => Nat.le_refl _
  | n + 1 => by
    have ih := xm_le A f n
    have := cv_le A f (f n) (n + 1)
    unfold xm
    split <;> omega
theorem mm_le (A : Nat → Bool) (f : Nat → Nat) : ∀ n, mm A f n ≤ 10
  | 0 => by unfold mm; omega
  | n + 1 => by
    have ih := mm_le A f n
    have := cv_le A f (f n) 10
    unfold mm
    split <;> omega
def slot : Option Nat → Nat
  | none => 7
  | some k => k
theorem slot_eq {o o' : Option Nat} (h : ∀ k, o = some k → k < 7) (h' : ∀ k, o' = some k → k < 7) : eN o = eN o' ↔ (slot o == slot o') = true := by
  rw [beq_iff_eq]
  cases o with
  | none =>
    cases o' with
    | none => exact ⟨fun _ => rfl, fun _ => rfl⟩
    | some k =>
      have := h' k rfl
      exact ⟨fun e => absurd e.symm (nI_nm4 (by omega)), fun e => by have e : 7 = k := e; omega⟩
  | some j =>
    have hj := h j rfl
    cases o' with
    | none => exact ⟨fun e => absurd e (nI_nm4 (by omega)), fun e => by have e : j = 7 := e; omega⟩
    | some k =>
      have := h' k rfl
      exact ⟨fun e => show j = k from (nI_eq (by omega) (by omega)).mp e, fun e => by have e : j = k := e; rw [e]⟩
section AS
variable {σ s s' μ μ' : Nat → Nat → Int32} {p q : Nat → Nat}
theorem rB_lt {a : Nat} (w : WF p) (ha : a < 4) (i c : Nat) : ∀ k, rB p a i c = some k → k < 7 := by
  intro k e
  have := run_rest e
  have hnp := w.np
  rw [pu_n p (by omega)] at this
  omega
def slt (p : Nat → Nat) (a c i : Nat) : Nat := slot (rB p a i c)
theorem slt_lt {a : Nat} (w : WF p) (ha : a < 4) (c i : Nat) : slt p a c i < 8 := by
  unfold slt
  cases e : rB p a i c with
  | none => exact Nat.lt_succ_self 7
  | some k => have := rB_lt w ha i c k e; show k < 8; omega
theorem x_try9 (h : Rel p σ μ) {s : Nat → Nat → Int32} (fx : FX σ s) (e : Nat) : oW (f_X5_as s 1 0) (fun r => TXe σ p e r ∧ r 9 = s 9) := oW_mono (x_asP (t := 1) (fx.pg h.px (by decide)) h.wf (fx.by h.by.1 (by decide)) (by decide)) (fun r hr => ⟨⟨fx.tr hr.1.fx, hr.2.2, p e, by rw [pu_self]; exact h.wf, by rw [pu_self]; exact hr.2.1⟩, hr.1 9 (by unfold sb; omega)⟩)
/-- the class: how many speeds at the most come to one place -/
theorem x_worst (h : Rel p σ μ) {A : Nat → Bool} (hA0 : A 0 = false) {a c : Nat} (ha : a < p 41) (hc : c < 8) {s : Nat → Nat → Int32} (fx : FX σ s) : oW (f_X0_worstFrom s (nI a) (nI c) (nI (msk A 10))) (fun r => r.1 = nI (xm A (slt p a c) 10) ∧ FX σ r.2) := by
  have w := h.wf
  have hnh := w.nh
  have hm := msk_lt A 10
  have kw : ∀ i, i ≤ 9 → WF (pu p (22 + a) i) := fun i hi => w.plain (Or.inr (Or.inr ⟨by omega, by omega, hi⟩))
  have e41 : ∀ i, pu p (22 + a) i 41 = p 41 := fun i => pu_n p (by omega)
  have f9 : ∀ {r : Nat → Nat → Int32} (j : Nat) (v : Int32), FX σ r → FX σ (upd2 r 9 j v) := fun j v g => ⟨fun k x y z t => by rw [u2_k _ _ _ z]; exact g.1 k x y z t, fun k x1 x2 x3 x4 x5 x6 => by rw [u2_k _ _ _ (by decide)]; exact g.2 k x1 x2 x3 x4 x5 x6⟩
  unfold f_X0_worstFrom f_X0_worstFrom_b6
  refine oW_lp (fun i x => x.1 = nI i ∧ FX σ x.2 ∧ ∀ k, k < i → x.2 9 k = 0) 8 (by rw [gFU_eq]; decide) ⟨rfl, fx, fun k hk => absurd hk (by omega)⟩ ?_
  rintro i ⟨_, s⟩ hi ⟨rfl, fx, h0⟩
  dsimp only at fx h0 ⊢
  unfold f_X0_worstFrom_L6
  by_cases h8 : i = 8
  · subst h8
    refine oW_t (by decide) (oS_I (oW_B (x_try9 h fx (22 + a)) (fun s1 hs1 => ?_)))
    unfold f_X0_worstFrom_b41
    have c1 : ∀ v, cv A (slt p a c) v 1 = 0 := fun v => by rw [cv_S, hA0]; rfl
    have x1 : xm A (slt p a c) 1 = 0 := by unfold xm; rw [hA0]; rfl
    refine oW_lp (fun i x => x.1 = nI (xm A (slt p a c) (i + 1)) ∧ x.2.1 = nI (i + 1) ∧ TXe σ p (22 + a) x.2.2 ∧ ∀ k, k < 8 → x.2.2 9 k = nI (cv A (slt p a c) k (i + 1))) 9 (by rw [gFU_eq]; decide) ⟨by rw [x1]; rfl, rfl, hs1.1, fun k hk => by rw [c1]; show s1 9 k = _; rw [hs1.2, h0 k hk]; rfl⟩ ?_
    rintro i ⟨_, _, s⟩ hi ⟨rfl, rfl, tx, hc9⟩
    dsimp only at tx hc9 ⊢
    unfold f_X0_worstFrom_L41
    by_cases h9 : i = 9
    · subst h9
      exact oW_t (by decide) (oS_r ⟨rfl, tx.1⟩)
    refine oW_f (fun q => ?_) (oW_Be (has_nI (by omega) (by omega)) ?_)
    · have := (nlt (a := 9) (by decide) (by omega)).mp q
      omega
    rw [msk_tb, decide_eq_true (by omega : i + 1 < 10), Bool.true_and]
    cases eA : A (i + 1) with
    | false =>
      refine oW_t rfl ?_
      unfold f_X0_worstFrom_b130
      refine oS_l ⟨by omega, ?_, nI_1 _, tx, fun k hk => ?_⟩
      · show nI (xm A (slt p a c) (i + 1)) = nI (if A (i + 1) = true then _ else xm A (slt p a c) (i + 1))
        rw [eA]; rfl
      · rw [cv_S, eA]; exact hc9 k hk
    | true =>
      refine oW_f (by decide) ?_
      rw [n_2, nI_mul, show nI (2 * a) + 1 = nI (2 * a + 1) from nI_1 _, nI_clamp (by omega), nbN (by omega)]
      have px := tx.put (by omega) (n := i + 1) (k := sb 1 + 4) (j := 2 * a + 1) (by rw [(ax_5 (by omega)).1]) (by rw [(ax_5 (by omega)).2]) (by omega) (kw (i + 1) (by omega))
      refine oW_C (inb_t (by omega) (by decide)) (oW_L (oW_B (x_runs px.2.2.1 (kw (i + 1) (by omega)) (by rw [e41]; exact ha) hc (by decide : 0 < 2 ^ 31)) (fun s' hr => ?_)))
      have t9 : s' 9 = s 9 := by rw [hr.1.1 9 (by decide) (by decide), u2_k _ _ _ (by unfold sb; omega)]
      have tx' := (TXe.mk px.1 px.2.1 (kw (i + 1) (by omega)) px.2.2.1).fr hr.1
      have hsl := slt_lt w (by omega) c (i + 1) (a := a)
      have fin : oW (f_X0_worstFrom_b102 s' (nI a) (nI c) (nI (msk A 10)) (nI (xm A (slt p a c) (i + 1))) (nI (i + 1)) (nI (slt p a c (i + 1)))) (oS (fun s'_1 => i < 9 ∧ s'_1.1 = nI (xm A (slt p a c) (i + 1 + 1)) ∧ s'_1.2.1 = nI (i + 1 + 1) ∧ TXe σ p (22 + a) s'_1.2.2 ∧ ∀ k, k < 8 → s'_1.2.2 9 k = nI (cv A (slt p a c) k (i + 1 + 1))) (fun r => r.1 = nI (xm A (slt p a c) 10) ∧ FX σ r.2)) := by
        unfold f_X0_worstFrom_b102 f_X0_worstFrom_b130
        have hcl := cv_le A (slt p a c) (slt p a c (i + 1)) (i + 1)
        have hxl := xm_le A (slt p a c) (i + 1)
        rw [nI_clamp (by omega), t9, hc9 _ hsl, nI_1, nbN (by omega)]
        have e1 : cv A (slt p a c) (slt p a c (i + 1)) (i + 1) + 1 = cv A (slt p a c) (slt p a c (i + 1)) (i + 1 + 1) := by
          rw [cv_S A (slt p a c) (slt p a c (i + 1)) (i + 1), eA, beq_self_eq_true]; rfl
        refine oW_C (inb_t (by omega) (by decide)) (oW_C (inb_t (by omega) (by decide)) (oW_L ?_))
        rw [u2_s]
        refine oW_C (inb_t (by omega) (by decide)) (oS_l ⟨by omega, ?_, nI_1 _, ?_, fun k hk => ?_⟩)
        · show (if nI (xm A (slt p a c) (i + 1)) < nI (cv A (slt p a c) (slt p a c (i + 1)) (i + 1) + 1) then nI (cv A (slt p a c) (slt p a c (i + 1)) (i + 1) + 1) else nI (xm A (slt p a c) (i + 1))) = nI (if A (i + 1) = true then max (xm A (slt p a c) (i + 1)) (cv A (slt p a c) (slt p a c (i + 1)) (i + 1 + 1)) else xm A (slt p a c) (i + 1))
          rw [if_pos eA, ← e1]
          by_cases z : xm A (slt p a c) (i + 1) < cv A (slt p a c) (slt p a c (i + 1)) (i + 1) + 1
          · rw [if_pos ((nlt (by omega) (by omega)).mpr z), Nat.max_eq_right (by omega)]
          · rw [if_neg (fun y => z ((nlt (by omega) (by omega)).mp y)), Nat.max_eq_left (by omega)]
        · obtain ⟨y1, y2, v', y3, y4⟩ := tx'
          exact ⟨f9 _ _ y1, y2.same (fun j _ => u2_k _ _ _ (by unfold sb; omega)), v', y3, y4.same (fun j _ => u2_k _ _ _ (by unfold sb; omega))⟩
        · show upd2 s' 9 _ _ 9 k = _
          by_cases e : k = slt p a c (i + 1)
          · subst e; rw [u2_s, e1]
          · rw [u2_j _ _ _ e, t9, hc9 k hk, cv_S A (slt p a c) k (i + 1), if_neg (by rw [Bool.and_eq_true, beq_iff_eq]; exact fun z => e z.2.symm)]
            rfl
      rw [hr.2.1, show (run (pu p (22 + a) (i + 1)) a c 0).1 = rB p a (i + 1) c from rfl]
      cases er : rB p a (i + 1) c with
      | none =>
        refine oW_t rfl ?_
        rw [show slt p a c (i + 1) = 7 from by unfold slt; rw [er]; rfl] at fin
        exact fin
      | some k =>
        have := rB_lt w (by omega) _ _ k er
        refine oW_f (nI_nm4 (by omega)) ?_
        rw [show slt p a c (i + 1) = k from by unfold slt; rw [er]; rfl] at fin
        exact fin
  · refine oW_f (fun q => ?_) ?_
    · have := (nlt (a := 7) (by decide) (by omega)).mp q
      omega
    rw [nI_clamp (by omega), show nbt 0 = 0 from rfl]
    refine oW_C (inb_t (by omega) (by decide)) (oW_L (oS_l ⟨by omega, nI_1 i, f9 i 0 fx, fun k hk => ?_⟩))
    show upd2 s 9 i 0 9 k = 0
    by_cases e : k = i
    · subst e; exact u2_s _ _ _ _
    · rw [u2_j _ _ _ e]; exact h0 k (by omega)
/-- the reference: the same, by pairs -/
theorem m_worst (w : WF p) {A : Nat → Bool} (hA0 : A 0 = false) {a c : Nat} (ha : a < 4) (hc : c < 8) {t : Nat → Nat → Int32} (h8 : ∀ i c, 1 ≤ i → i ≤ 9 → c < 8 → t 8 (8 * i + c) = eN (rB p a i c)) (wh l4 l5 : Int32) {P : ((Int32 × Int32 × Int32) ⊕ (Int32 × (Nat → Nat → Int32))) → Prop} (k : ∀ v, v = xm A (slt p a c) 10 → oW (if l4 ≤ nI v then f_X7_ask_b173 t wh (nI (msk A 10)) l4 (nI c) (nI v) l5 else f_X7_ask_b173 t wh (nI (msk A 10)) l4 (nI c) (nI v) (nI c)) P) : oW (f_X7_ask_b52 t wh (nI (msk A 10)) l4 l5 (nI c) 0 1) P := by
  have hm := msk_lt A 10
  have k := k _ (xm_mm A (slt p a c)).symm
  have m1 : mm A (slt p a c) 1 = 0 := by unfold mm; rw [hA0]; rfl
  have c1 : ∀ v, cv A (slt p a c) v 1 = 0 := fun v => by rw [cv_S, hA0]; rfl
  unfold f_X7_ask_b52
  refine oW_lp (fun i x => x.1 = nI (mm A (slt p a c) (i + 1)) ∧ x.2 = nI (i + 1)) 9 (by rw [gFU_eq]; decide) ⟨by rw [m1]; rfl, rfl⟩ ?_
  rintro i ⟨_, _⟩ hi ⟨rfl, rfl⟩
  dsimp only
  unfold f_X7_ask_L52
  by_cases h9 : i = 9
  · subst h9
    exact oW_t (by decide) (oS_I k)
  refine oW_f (fun q => ?_) ?_
  · have := (nlt (a := 9) (by decide) (by omega)).mp q
    omega
  have hml := mm_le A (slt p a c) (i + 1)
  have fin : ∀ v, v ≤ 10 → (if A (i + 1) then v = cv A (slt p a c) (slt p a c (i + 1)) 10 else v = 0) → oW (f_X7_ask_b137 t wh (nI (msk A 10)) l4 l5 (nI c) (nI (mm A (slt p a c) (i + 1))) (nI (i + 1)) (nI v)) (oS (fun s' => i < 9 ∧ s'.1 = nI (mm A (slt p a c) (i + 1 + 1)) ∧ s'.2 = nI (i + 1 + 1)) P) := by
    intro v hv ev
    unfold f_X7_ask_b137 f_X7_ask_b151
    have e2 : mm A (slt p a c) (i + 1 + 1) = if A (i + 1) = true then max (mm A (slt p a c) (i + 1)) (cv A (slt p a c) (slt p a c (i + 1)) 10) else mm A (slt p a c) (i + 1) := rfl
    by_cases z : v ≤ mm A (slt p a c) (i + 1)
    · refine oW_t ((nle (by omega) (by omega)).mpr z) (oS_l ⟨by omega, ?_, nI_1 _⟩)
      rw [e2]
      cases eA : A (i + 1) with
      | false => rfl
      | true =>
        rw [eA, if_pos rfl] at ev
        rw [if_pos rfl, ← ev, Nat.max_eq_left z]
    · refine oW_f (fun q => z ((nle (by omega) (by omega)).mp q)) (oS_l ⟨by omega, ?_, nI_1 _⟩)
      rw [e2]
      cases eA : A (i + 1) with
      | false =>
        rw [eA, if_neg (by decide)] at ev
        omega
      | true =>
        rw [eA, if_pos rfl] at ev
        rw [if_pos rfl, ← ev, Nat.max_eq_right (by omega)]
  unfold f_X7_ask_b65
  refine oW_lp (fun j x => x.1 = nI (cv A (slt p a c) (slt p a c (i + 1)) (j + 1)) ∧ x.2 = nI (j + 1) ∧ (0 < j → A (i + 1) = true)) 9 (by rw [gFU_eq]; decide) ⟨by rw [c1]; rfl, rfl, fun q => absurd q (by omega)⟩ ?_
  rintro j ⟨_, _⟩ hj ⟨rfl, rfl, hjA⟩
  dsimp only
  unfold f_X7_ask_L65
  have hcl := cv_le A (slt p a c) (slt p a c (i + 1)) (j + 1)
  by_cases h9' : j = 9
  · subst h9'
    refine oW_t (by decide) (oS_I (fin _ (cv_le _ _ _ _) ?_))
    rw [if_pos (hjA (by decide))]
  refine oW_f (fun q => ?_) ?_
  · have := (nlt (a := 9) (by decide) (by omega)).mp q
    omega
  have tb : ∀ i, i < 10 → (nI (msk A 10 / 2 ^ i % 2) = 1 ↔ A i = true) := fun i hi => by
    have e := msk_tb A i 10
    rw [decide_eq_true hi, Bool.true_and, tb_div] at e
    rw [← e, decide_eq_true_eq]
    exact nI_eq (by omega) (by decide)
  rw [bit_nI (by omega) (by omega), bit_nI (by omega) (by omega)]
  have up : ∀ b (bit : Int32), bit = (if b then 1 else 0) → (A (j + 1) && slt p a c (j + 1) == slt p a c (i + 1)) = b → A (i + 1) = true → oW (some (Sum.inl (nI (cv A (slt p a c) (slt p a c (i + 1)) (j + 1)) + bit, nI (j + 1) + 1)) : Option ((Int32 × Int32) ⊕ ((Int32 × Int32) ⊕ ((Int32 × Int32 × Int32) ⊕ (Int32 × (Nat → Nat → Int32)))))) (oS (fun s' => j < 9 ∧ s'.1 = nI (cv A (slt p a c) (slt p a c (i + 1)) (j + 1 + 1)) ∧ s'.2 = nI (j + 1 + 1) ∧ (0 < j + 1 → A (i + 1) = true)) (oS (fun s' => i < 9 ∧ s'.1 = nI (mm A (slt p a c) (i + 1 + 1)) ∧ s'.2 = nI (i + 1 + 1)) P)) := by
    rintro b bit rfl eb hA
    refine oS_l ⟨by omega, ?_, nI_1 _, fun _ => hA⟩
    have e3 := cv_S A (slt p a c) (slt p a c (i + 1)) (j + 1)
    rw [eb] at e3
    dsimp only
    rw [e3]
    cases b with
    | true => exact nI_1 _
    | false => exact nI_add _ 0
  rcases Bool.eq_false_or_eq_true (A (i + 1)) with eA | eA
  rotate_left
  · have ez : cv A (slt p a c) (slt p a c (i + 1)) (j + 1) = 0 := by
      by_cases hj0 : 0 < j
      · rw [eA] at hjA; exact absurd (hjA hj0) (by decide)
      · rw [show j = 0 from by omega]; exact c1 _
    refine oW_f (fun q => ?_) (oS_I (fin _ (by omega) ?_))
    · rw [(tb (i + 1) (by omega)).mp q] at eA; cases eA
    · rw [eA, if_neg (by decide)]; exact ez
  · refine oW_t ((tb (i + 1) (by omega)).mpr eA) ?_
    unfold f_X7_ask_b127 f_X7_ask_b128
    cases eB : A (j + 1) with
    | false =>
      refine oW_f (fun q => ?_) (up false 0 rfl (by rw [eB]; rfl) eA)
      rw [(tb (j + 1) (by omega)).mp q] at eB; cases eB
    | true =>
      rw [n_8, nI_mul, nI_mul, nI_add, nI_add, nI_clamp (by omega), nI_clamp (by omega), h8 _ _ (by omega) (by omega) hc, h8 _ _ (by omega) (by omega) hc]
      refine oW_t ((tb (j + 1) (by omega)).mpr eB) (oW_C (inb_t (by omega) (by decide)) (oW_C (inb_t (by omega) (by decide)) ?_))
      have se := slot_eq (rB_lt w ha (i + 1) c) (rB_lt w ha (j + 1) c)
      by_cases e : eN (rB p a (i + 1) c) = eN (rB p a (j + 1) c)
      · refine oW_t e (up true 1 rfl ?_ eA)
        rw [eB, Bool.true_and]
        have := se.mp e
        rw [beq_iff_eq] at this ⊢
        exact this.symm
      · refine oW_f e (up false 0 rfl ?_ eA)
        rw [eB, Bool.true_and]
        refine beq_eq_false_iff_ne.mpr (fun q => e (se.mpr ?_))
        rw [beq_iff_eq]
        exact q.symm
theorem op_ask (h : Rel p σ μ) (l1 l2 : Int32) : oE (f_X0_ask σ l1 l2) (f_X7_ask μ l1 l2) (Rel p) := by
  have w := h.wf
  have hnh := w.nh
  obtain ⟨n, hn, n1, n2, n3⟩ := h.see
  unfold f_X0_ask f_X7_ask
  refine oE_hog h h ?_
  rintro a ha rfl
  refine oE_part h ?_
  rintro wh hw rfl
  refine oE_P (oP_l (x_speedsOf h hn n1 n3 ha) (fun r8 hr8 => oP_r (m_speedsOf h hn n2 n3 ha) (fun r8' hr8' => ?_)))
  obtain ⟨g1, g2, g3⟩ := hr8'
  rw [hr8.1, g1]
  refine oP_le (bitc_msk (by decide)) (oP_re (bitm_msk (by decide)) ?_)
  have hcl := cnt_le (spB σ p a n) 10
  have hA0 : spB σ p a n 0 = false := rfl
  unfold f_X0_ask_b36 f_X7_ask_b39
  refine oP_lp (fun i (x : Int32 × Int32 × Int32 × (Nat → Nat → Int32)) (y : Int32 × Int32 × Int32) => x.2.2.1 = nI i ∧ y.2.2 = nI i ∧ FX σ x.2.2.2 ∧ ∃ b o, b ≤ 10 ∧ (∀ j, o = some j → j < 8) ∧ x.1 = nI b ∧ y.1 = nI b ∧ x.2.1 = eN o ∧ y.2.1 = eN o) 8 (by decide) ⟨rfl, rfl, hr8.2, _, none, hcl, (fun j e => nomatch e), rfl, rfl, rfl, rfl⟩ ?_ ?_
  · rintro c ⟨_, _, _, s⟩ ⟨_, _, _⟩ hc ⟨rfl, rfl, fx, b, o, hb, ho, rfl, rfl, rfl, rfl⟩
    dsimp only at fx ⊢
    unfold f_X0_ask_L36 f_X7_ask_L39
    refine oP_lf (n8le hc) (oP_rf (n8le hc) (oP_l (x_worst h hA0 ha hc fx) (fun r hr => ?_)))
    rw [hr.1]
    have hx := xm_le (spB σ p a n) (slt p a c) 10
    generalize hv : xm (spB σ p a n) (slt p a c) 10 = v at *
    have hm : oW (f_X7_ask_b52 r8'.2 (nI wh) (nI (msk (spB σ p a n) 10)) (nI b) (eN o) (nI c) 0 1) (fun z => z = .inl (if nI b ≤ nI v then (nI b, eN o, nI (c + 1)) else (nI v, nI c, nI (c + 1)))) := by
      refine m_worst w hA0 (by omega) hc g3 (nI wh) (nI b) (eN o) (fun v' hv' => ?_)
      rw [hv] at hv'
      subst hv'
      unfold f_X7_ask_b173 f_X7_ask_b189
      rw [nI_1]
      by_cases e : nI b ≤ nI v'
      · rw [if_pos e]; exact oW_t e ⟨_, rfl, by rw [if_pos e]⟩
      · rw [if_neg e]; exact oW_f e ⟨_, rfl, by rw [if_neg e]⟩
    obtain ⟨_, hm1, rfl⟩ := hm
    unfold f_X0_ask_b67
    by_cases e : nI b ≤ nI v
    · rw [if_pos e] at hm1
      refine oP_lt e ⟨_, _, rfl, hm1, nI_1 c, rfl, hr.2, b, o, hb, ho, ?_, rfl, rfl, rfl⟩
      exact if_neg (fun q => Int32.lt_irrefl (Int32.lt_of_lt_of_le q e))
    · rw [if_neg e] at hm1
      refine oP_lf e ⟨_, _, rfl, hm1, nI_1 c, rfl, hr.2, v, some c, by omega, (fun j e => by cases e; omega), ?_, rfl, rfl, rfl⟩
      exact if_pos (Int32.not_le.mp e)
  · rintro ⟨_, _, _, s⟩ ⟨_, _, _⟩ ⟨rfl, rfl, fx, b, o, hb, ho, rfl, rfl, rfl, rfl⟩
    dsimp only at fx ⊢
    refine oP_end (f := fun v : Int32 × Int32 × Int32 × (Nat → Nat → Int32) => f_X0_ask_L36 v.2.2.2 (nI a) (nI wh) (nI (msk (spB σ p a n) 10)) v.1 v.2.1 v.2.2.1) (g := fun v : Int32 × Int32 × Int32 => f_X7_ask_L39 r8'.2 (nI wh) (nI (msk (spB σ p a n) 10)) v.1 v.2.1 v.2.2) (s := (nI b, eN o, nI 8, s)) (t := (nI b, eN o, nI 8)) ?_
    dsimp only
    unfold f_X0_ask_L36 f_X7_ask_L39
    refine oP_lt (Int32.le_refl _) (oP_rt (Int32.le_refl _) (oP_inr ?_))
    by_cases e : eN o = -4
    · exact oP_lt e (oP_rt e ⟨_, _, rfl, rfl, e.symm, h.fr fx g2⟩)
    · refine oP_lf e (oP_rf e ?_)
      by_cases e2 : nI wh = 0
      · exact oP_lt e2 (oP_rt e2 ⟨_, _, rfl, rfl, rfl, h.fr fx g2⟩)
      · exact oP_lf e2 (oP_rf e2 ⟨_, _, rfl, rfl, rfl, h.fr fx g2⟩)
end AS
