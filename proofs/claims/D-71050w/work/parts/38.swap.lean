/-! ===== swap, kindly, need ===== -/
set_option maxRecDepth 100000
def sw (a b x : Nat) : Nat := if x = a then b else if x = b then a else x
def pSw (p : Nat → Nat) (a b m : Nat) : Nat → Nat := fun j => if 26 ≤ j ∧ j < 26 + m then sw a b (p j) else p j
section SW
variable {σ s s' μ μ' : Nat → Nat → Int32} {p q : Nat → Nat} {t o i : Nat} {L L' : Nat → Prop}
theorem pSw_o {a b m j : Nat} (h : j < 26 ∨ 32 ≤ j) (hm : m ≤ 6) : pSw p a b m j = p j := by unfold pSw; rw [if_neg (by omega)]
theorem pSw_i {a b m j : Nat} (h : j < m) : pSw p a b m (26 + j) = sw a b (p (26 + j)) := by unfold pSw; rw [if_pos (by omega)]
theorem WF.swp (w : WF p) {a b : Nat} (ha : a < p 41) (hb : b < p 41) : WF (pSw p a b (p 40)) := by
  have a1 := w.np; have a2 := w.ns; have a3 := w.nu; have a4 := w.nh
  unfold WF
  rw [pSw_o (j := 38) (by omega) a3, pSw_o (j := 39) (by omega) a3, pSw_o (j := 40) (by omega) a3, pSw_o (j := 41) (by omega) a3]
  refine ⟨a1, a2, a3, a4, fun j hj => ?_, fun j hj => ?_, fun j hj => ?_, fun j hj => ?_, fun j hj => ?_, fun j hj => ?_, fun j hj => ?_, fun j hj => ?_, fun x y hx hy e => ?_, fun x y hx hy => ?_⟩
  · rw [pSw_o (by omega) a3]; exact w.peg hj
  · rw [pSw_o (by omega) a3]; exact w.rag hj
  · rw [pSw_o (by omega) a3]; exact w.slug hj
  · rw [pSw_o (by omega) a3]; exact w.kind hj
  · rw [pSw_o (by omega) a3]; exact w.speed hj
  · rw [pSw_i hj]
    have := w.who hj
    unfold sw
    split
    · exact hb
    · split
      · exact ha
      · exact this
  · rw [pSw_o (by omega) a3]; exact w.frm hj
  · rw [pSw_o (by omega) a3]; exact w.cell hj
  · rw [pSw_o (by omega) a3, pSw_o (by omega) a3] at e; exact w.inj hx hy e
  · rw [pSw_o (by omega) a3, pSw_o (by omega) a3]; exact w.apart hx hy
theorem PX.congr (h : PX σ t p L) (e : ∀ j, j < 42 → L' j → L j ∧ p j = q j) : PX σ t q L' := fun j hj hl => by rw [← (e j hj hl).2]; exact h j hj (e j hj hl).1
theorem pSw_S {a b m : Nat} : pu (pSw p a b m) (26 + m) (sw a b (p (26 + m))) = pSw p a b (m + 1) := by
  funext j
  unfold pu pSw
  by_cases e : j = 26 + m
  · rw [if_pos e, if_pos (show 26 ≤ j ∧ j < 26 + (m + 1) by omega), e]
  · rw [if_neg e]
    by_cases e2 : 26 ≤ j ∧ j < 26 + m
    · rw [if_pos e2, if_pos (show 26 ≤ j ∧ j < 26 + (m + 1) by omega)]
    · rw [if_neg e2, if_neg (show ¬ (26 ≤ j ∧ j < 26 + (m + 1)) by omega)]
theorem pSw_0 {a b : Nat} : pSw p a b 0 = p := by
  funext j
  unfold pSw
  rw [if_neg (by omega)]
theorem lv_sw {a b m : Nat} (hm : m ≤ 6) {j : Nat} : lv (pSw p a b m) j ↔ lv p j := by
  unfold lv
  rw [pSw_o (j := 38) (by omega) hm, pSw_o (j := 39) (by omega) hm, pSw_o (j := 40) (by omega) hm, pSw_o (j := 41) (by omega) hm]
/-- one pair tried, in step -/
theorem swap_in (h : Rel p σ μ) {k a b : Nat} (hk : k < 4) (ha : a < p 41) (hb : b < p 41) {sA : Nat → Nat → Int32} (fx : FX σ sA) {tA : Nat → Nat → Int32} (fm : FM μ tA) {b' fi' : Int32} (wh : Int32) {fi bb : Int32} (h1 : sA 0 15 = fi) (h2 : sA 0 16 = bb) (hj : JE bb b' fi fi') {Q : (Int32 × (Nat → Nat → Int32)) → (Int32 × (Nat → Nat → Int32)) → Prop} :
    oP (oB (f_X5_as sA 1 0) fun r4 => f_X0_swap_b73 r4 (nI k) wh (nI a) (nI b) 0) (oB (f_X7_copies tA 0 164) fun r4 => f_X7_swap_b71 r4 (nI k) wh b' fi' (nI a) (nI b) 0) (oSS (fun x y => x.1 = nI (b + 1) ∧ y.2.2.1 = nI (b + 1) ∧ FX σ x.2 ∧ FM μ y.2.2.2 ∧ ∃ fi bb, x.2 0 15 = fi ∧ x.2 0 16 = bb ∧ JE bb y.1 fi y.2.1) (oSS (fun (_ : Int32 × (Nat → Nat → Int32)) (_ : Int32 × Int32 × Int32 × (Nat → Nat → Int32)) => False) Q)) := by
  have w := h.wf
  have hnu := w.nu
  have hnh := w.nh
  have w' := w.swp ha hb
  have e40 : pSw p a b (p 40) 40 = p 40 := pSw_o (by omega) hnu
  have hcm := cnt_le (isW (pSw p a b (p 40)) k) (p 40)
  have swl : ∀ x, x < 4 → sw a b x < 4 := fun x hx => by unfold sw; split <;> (try split) <;> omega
  refine oP_l (x_try h fx) (fun s1 hs1 => oP_r (m_try h fm) (fun t1 ht1 => ?_))
  unfold f_X0_swap_b73 f_X7_swap_b71
  refine oP_lp (fun m x y => x.1 = nI m ∧ y.1 = nI m ∧ FX σ x.2 ∧ FM μ y.2 ∧ By x.2 1 ∧ (∀ j, x.2 0 j = sA 0 j) ∧ PX x.2 1 (pSw p a b m) (lv p) ∧ MX y.2 164 (pSw p a b m) (lv p)) (p 40) (by omega) ⟨rfl, rfl, hs1.1, ht1.1, hs1.2.2.1, hs1.2.2.2, by rw [pSw_0]; exact hs1.2.1.px w, by rw [pSw_0]; exact ht1.2.mx w⟩ ?_ ?_
  · rintro m ⟨_, s⟩ ⟨_, t⟩ hm ⟨rfl, rfl, fx, fm, by1, f0, px, mx⟩
    dsimp only at fx fm by1 f0 px mx ⊢
    have gx := fx.pg h.px (by decide : (0 : Nat) ≠ 1)
    have gm := fm.pg h.pm w (by decide)
    have nl : ¬ nI (p 40) ≤ nI m := fun q => by
      have := (nle (by omega) (by omega)).mp q
      omega
    have hwho := w.who hm
    unfold f_X0_swap_L73 f_X7_swap_L71
    rw [gx.suits, gm.c40, n_2, nI_mul, nI_clamp (by omega), gx.who hm, n_26, nI_add, nI_clamp (by omega), gm.who0 hm, show (190 : Int32) + nI m = nI (190 + m) from nI_add 190 m]
    refine oP_lf nl (oP_lC (inb_t (by omega) (by decide)) (oP_rC i40 (oP_rf nl (oP_rC (inb_t (by omega) (by decide)) ?_))))
    have fin : ∀ {Q2 : (Int32 × (Nat → Nat → Int32)) ⊕ ((Int32 × (Nat → Nat → Int32)) ⊕ (Int32 × (Nat → Nat → Int32))) → (Int32 × Int32 × Int32 × (Nat → Nat → Int32)) ⊕ ((Int32 × Int32 × Int32 × (Nat → Nat → Int32)) ⊕ (Int32 × (Nat → Nat → Int32))) → Prop} (v : Int32), v = nI (sw a b (p (26 + m))) → oP (f_X0_swap_b134 s (nI k) wh (nI a) (nI b) (nI m) v (nI (2 * m))) (f_X7_swap_b131 t (nI k) wh b' fi' (nI a) (nI b) (nI m) v (nI (190 + m))) (oSS (fun x y => x.1 = nI (m + 1) ∧ y.1 = nI (m + 1) ∧ FX σ x.2 ∧ FM μ y.2 ∧ By x.2 1 ∧ (∀ j, x.2 0 j = sA 0 j) ∧ PX x.2 1 (pSw p a b (m + 1)) (lv p) ∧ MX y.2 164 (pSw p a b (m + 1)) (lv p)) Q2) := by
      rintro Q2 v rfl
      have hs4 := swl _ (show p (26 + m) < 4 by omega)
      unfold f_X0_swap_b134 f_X7_swap_b131
      rw [nbN (by omega), nI_clamp (by omega), nI_clamp (by omega)]
      refine oP_lC (inb_t (by omega) (by decide)) (oP_lL (oP_rC (inb_t (by omega) (by decide)) (oP_rL (oP_inl ⟨nI_1 m, nI_1 m, fx.put1 (m := 5) rfl (by decide), fm.put1 (m := 26 + m) (by omega), by1.put (m := 5) rfl (fitB_nI (by omega)), fun j => ?_, ?_, ?_⟩))))
      · show upd2 s (sb 1 + 5) (2 * m) (nI (sw a b (p (26 + m)))) 0 j = _
        rw [u2_k _ _ _ (by unfold sb; omega)]
        exact f0 j
      · have := px.put (i := 26 + m) (n := sw a b (p (26 + m))) (by omega) (k := sb 1 + 5) (j := 2 * m) (by rw [(ax_6 (by omega)).1]) (by rw [(ax_6 (by omega)).2])
        rw [pSw_S] at this
        exact this.congr (fun j _ hl => ⟨Or.inr hl, rfl⟩)
      · have := mx.put (i := 26 + m) (n := sw a b (p (26 + m))) (j := 190 + m) (by omega)
        rw [pSw_S] at this
        exact this.congr (fun j _ hl => ⟨Or.inr hl, rfl⟩)
    by_cases e1 : p (26 + m) = a
    · have c1 : nI (p (26 + m)) = nI a := by rw [e1]
      exact oP_lt c1 (oP_rt c1 (fin _ (by unfold sw; rw [if_pos e1])))
    · have c1 : ¬ nI (p (26 + m)) = nI a := fun q => e1 ((nI_eq (by omega) (by omega)).mp q)
      by_cases e2 : p (26 + m) = b
      · have c2 : nI (p (26 + m)) = nI b := by rw [e2]
        exact oP_lf c1 (oP_rf c1 (oP_lt c2 (oP_rt c2 (fin _ (by unfold sw; rw [if_neg e1, if_pos e2])))))
      · have c2 : ¬ nI (p (26 + m)) = nI b := fun q => e2 ((nI_eq (by omega) (by omega)).mp q)
        exact oP_lf c1 (oP_rf c1 (oP_lf c2 (oP_rf c2 (fin _ (by unfold sw; rw [if_neg e1, if_neg e2])))))
  · rintro ⟨_, s2⟩ ⟨_, t2⟩ ⟨rfl, rfl, fx, fm, by1, f0, px, mx⟩
    dsimp only at fx fm by1 f0 px mx ⊢
    have gx := fx.pg h.px (by decide : (0 : Nat) ≠ 1)
    have gm := fm.pg h.pm w (by decide)
    have tx : PgX s2 1 (pSw p a b (p 40)) := px.pg w' (fun j _ hl => (lv_sw hnu).mp hl)
    have tm : PgM t2 164 (pSw p a b (p 40)) := mx.pg w' (fun j _ hl => (lv_sw hnu).mp hl)
    refine oP_end (f := fun v : Int32 × (Nat → Nat → Int32) => f_X0_swap_L73 v.2 (nI k) wh (nI a) (nI b) v.1) (g := fun v : Int32 × (Nat → Nat → Int32) => f_X7_swap_L71 v.2 (nI k) wh b' fi' (nI a) (nI b) v.1) (s := (nI (p 40), s2)) (t := (nI (p 40), t2)) ?_
    dsimp only
    unfold f_X0_swap_L73 f_X7_swap_L71
    rw [gx.suits, gm.c40]
    refine oP_lt (Int32.le_refl _) (oP_rC i40 (oP_rt (Int32.le_refl _) (oP_inr (oP_l (x_wonMany tx w' hk) (fun r3 hr3 => oP_r (m_wins1 tm w' hk) (fun r3' hr3' => ?_))))))
    rw [e40] at hr3 hr3'
    rw [hr3.1, hr3'.1, n_10, nI_mul, nI_add]
    have z15 : ∀ j, j = 15 ∨ j = 16 → r3.2 0 j = sA 0 j := fun j hj => by rw [hr3.2.f15 hj, f0]
    refine oP_l (x_judges (nI (10 * a + b)) (nI (cnt (isW (pSw p a b (p 40)) k) (p 40))) ((z15 15 (Or.inl rfl)).trans h1) ((z15 16 (Or.inr rfl)).trans h2)) (fun s4 hs4 => oP_re (bitm_msk (by omega)) ?_)
    have fx4 : FX σ s4 := (fx.tr hr3.2.fx).tr hs4.1
    have fm4 : FM μ r3'.2 := fm.tr hr3'.2.fm
    obtain ⟨n, o, hn, ho, rfl, rfl, rfl, rfl⟩ := hj
    unfold f_X7_swap_b170 f_X7_swap_b184
    have g1 := hs4.2.1
    have g2 := hs4.2.2
    by_cases e : nI (cnt (isW (pSw p a b (p 40)) k) (p 40)) ≤ nI n
    · rw [if_pos e] at g1 g2
      exact oP_rt e (oP_rt e (oP_inl ⟨nI_1 b, nI_1 b, fx4, fm4, _, _, g1, g2, n, o, hn, ho, rfl, rfl, rfl, rfl⟩))
    · rw [if_neg e] at g1 g2
      exact oP_rf e (oP_rf e (oP_inl ⟨nI_1 b, nI_1 b, fx4, fm4, _, _, g1, g2, cnt (isW (pSw p a b (p 40)) k) (p 40), some (10 * a + b), by omega, fun j e => by cases e; omega, rfl, rfl, rfl, rfl⟩))
theorem op_swap (h : Rel p σ μ) (l1 l2 : Int32) : oE (f_X0_swap σ l1 l2) (f_X7_swap μ l1 l2) RX := by
  have w := h.wf
  have hnh := w.nh
  have hnu := w.nu
  unfold f_X0_swap f_X7_swap
  refine oE_rag ⟨p, h⟩ ?_
  rintro k hk rfl
  refine oE_part ⟨p, h⟩ ?_
  rintro wh hw rfl
  have hcn := cnt_le (isW p k) (p 40)
  refine oE_P (oP_l (x_wonMany h.px w hk) (fun r8 hr8 => ?_))
  rw [hr8.1]
  refine oP_l (x_starts _) (fun s0 hs0 => oP_r (m_wins0 h.pm w hk) (fun r8' hr8' => ?_))
  rw [hr8'.1]
  refine oP_re (bitm_msk (by omega)) ?_
  unfold f_X0_swap_b31 f_X7_swap_b36
  refine oP_lp (PI σ μ) (p 41) (by omega) ⟨rfl, rfl, hr8.2.fx.tr hs0.1, hr8'.2.fm, _, _, hs0.2.1, hs0.2.2, ⟨cnt (isW p k) (p 40), none, by omega, (fun j e => nomatch e), rfl, rfl, rfl, rfl⟩⟩ ?_ ?_
  · rintro a ⟨_, s⟩ ⟨b', fi', _, t⟩ ha ⟨rfl, rfl, fx, fm, fi, bb, h1, h2, hj⟩
    dsimp only at fx fm h1 h2 hj ⊢
    have gx := fx.pg h.px (by decide : (0 : Nat) ≠ 1)
    have gh : t 0 1 = nI (p 41) := by rw [fm.2.2 1 (by decide) (by decide) (by decide) (by decide)]; exact h.hg
    have nl : ¬ nI (p 41) ≤ nI a := fun q => by
      have := (nle (by omega) (by omega)).mp q
      omega
    unfold f_X0_swap_L31 f_X7_swap_L36
    rw [gx.hogs, gh]
    refine oP_lf nl (oP_rf nl ?_)
    unfold f_X0_swap_b47 f_X7_swap_b51
    rw [nI_1]
    have st : PI σ μ (a + 1) (nI (a + 1), s) (b', fi', nI (a + 1), t) := ⟨rfl, rfl, fx, fm, fi, bb, h1, h2, hj⟩
    refine oP_lp (fun m x y => x.1 = nI (a + 1 + m) ∧ y.2.2.1 = nI (a + 1 + m) ∧ FX σ x.2 ∧ FM μ y.2.2.2 ∧ ∃ fi bb, x.2 0 15 = fi ∧ x.2 0 16 = bb ∧ JE bb y.1 fi y.2.1) (p 41 - (a + 1)) (by omega) ⟨rfl, rfl, fx, fm, fi, bb, h1, h2, hj⟩ ?_ ?_
    · rintro m ⟨_, s⟩ ⟨b', fi', _, t⟩ hm ⟨rfl, rfl, fx, fm, fi, bb, h1, h2, hj⟩
      dsimp only at fx fm h1 h2 hj ⊢
      have gx := fx.pg h.px (by decide : (0 : Nat) ≠ 1)
      have gh : t 0 1 = nI (p 41) := by rw [fm.2.2 1 (by decide) (by decide) (by decide) (by decide)]; exact h.hg
      have nl : ¬ nI (p 41) ≤ nI (a + 1 + m) := fun q => by
        have := (nle (by omega) (by omega)).mp q
        omega
      unfold f_X0_swap_L47 f_X7_swap_L51
      rw [gx.hogs, gh]
      refine oP_lf nl (oP_rf nl ?_)
      obtain ⟨x, y, e1, e2, e3⟩ := swap_in h hk ha (show a + 1 + m < p 41 by omega) fx fm (nI wh) h1 h2 hj (Q := fun _ _ => False)
      refine ⟨x, y, e1, e2, ?_⟩
      cases x with
      | inl x =>
        cases y with
        | inl y => exact e3
        | inr y => exact e3.elim
      | inr x =>
        cases y with
        | inl y => exact e3.elim
        | inr y =>
          cases x with
          | inl x => cases y <;> exact e3.elim
          | inr x => cases y <;> exact e3.elim
    · rintro ⟨_, s⟩ ⟨b', fi', _, t⟩ ⟨rfl, rfl, fx, fm, fi, bb, h1, h2, hj⟩
      dsimp only at fx fm h1 h2 hj ⊢
      have gx := fx.pg h.px (by decide : (0 : Nat) ≠ 1)
      have gh : t 0 1 = nI (p 41) := by rw [fm.2.2 1 (by decide) (by decide) (by decide) (by decide)]; exact h.hg
      refine oP_end (f := fun v : Int32 × (Nat → Nat → Int32) => f_X0_swap_L47 v.2 (nI k) (nI wh) (nI a) v.1) (g := fun v : Int32 × Int32 × Int32 × (Nat → Nat → Int32) => f_X7_swap_L51 v.2.2.2 (nI k) (nI wh) v.1 v.2.1 (nI a) v.2.2.1) (s := (nI (a + 1 + (p 41 - (a + 1))), s)) (t := (b', fi', nI (a + 1 + (p 41 - (a + 1))), t)) ?_
      dsimp only
      unfold f_X0_swap_L47 f_X7_swap_L51
      rw [gx.hogs, gh, show a + 1 + (p 41 - (a + 1)) = p 41 from by omega]
      refine oP_lt (Int32.le_refl _) (oP_rt (Int32.le_refl _) (oP_inr ⟨_, _, rfl, rfl, ?_⟩))
      exact ⟨nI_1 a, nI_1 a, fx, fm, fi, bb, h1, h2, hj⟩
  · rintro ⟨_, s⟩ ⟨b', fi', _, t⟩ ⟨rfl, rfl, fx, fm, fi, b, h1, h2, hj⟩
    dsimp only at fx fm h1 h2 hj ⊢
    obtain ⟨v, v1, v2⟩ := judge_end2 (t := t) (nI wh) hj h1 h2
    have gh : t 0 1 = nI (p 41) := by rw [fm.2.2 1 (by decide) (by decide) (by decide) (by decide)]; exact h.hg
    refine oP_end (f := fun v : Int32 × (Nat → Nat → Int32) => f_X0_swap_L31 v.2 (nI k) (nI wh) v.1) (g := fun v : Int32 × Int32 × Int32 × (Nat → Nat → Int32) => f_X7_swap_L36 v.2.2.2 (nI k) (nI wh) v.1 v.2.1 v.2.2.1) (s := (nI (p 41), s)) (t := (b', fi', nI (p 41), t)) ?_
    dsimp only
    unfold f_X0_swap_L31 f_X7_swap_L36
    rw [(fx.pg h.px (by decide : (0 : Nat) ≠ 1)).hogs, gh]
    refine oP_lt (Int32.le_refl _) (oP_rt (Int32.le_refl _) (oP_inr ?_))
    rw [v1, v2]
    exact ⟨_, _, rfl, rfl, rfl, p, h.fr fx fm⟩
theorem op_kindly (h : Rel p σ μ) (l1 l2 l3 : Int32) : oE (f_X0_kindly σ l1 l2 l3) (f_X7_kindly μ l1 l2 l3) (Rel p) := by
  have w := h.wf
  have hnh := w.nh
  unfold f_X0_kindly f_X7_kindly
  refine oE_run h h ?_
  rintro a c ha hc rfl rfl
  refine oE_rag h ?_
  rintro k hk rfl
  have kw : ∀ i, i < 4 → WF (pu p (18 + a) i) := fun i hi => w.plain (Or.inr (Or.inl ⟨by omega, by omega, hi⟩))
  have e41 : ∀ i, pu p (18 + a) i 41 = p 41 := fun i => pu_n p (by omega)
  have el : ∀ i, i < 4 → ∀ k, winr (pu p (18 + a) i) (run (pu p (18 + a) i) a c 0) = some k → k < 2 ^ 31 := fun i hi k e => by have := winr_lt (kw i hi) (fun _ e => run_rest e) k e; omega
  refine oE_of (A := TXe σ p (18 + a)) (B := TMe μ p (18 + a)) (nI (msk (fun i => winr (pu p (18 + a) i) (run (pu p (18 + a) i) a c 0) == some k) 4)) (oW_B (x_try2 h FX.rf (18 + a)) (fun s0 hs0 => ?_)) (oW_B (m_try2 h FM.rf (18 + a)) (fun t0 ht0 => ?_)) (fun s s' hs hs' => h.fr hs.1 hs'.1)
  · unfold f_X0_kindly_b35
    refine oW_msk (TXe σ p (18 + a)) (fun i => winr (pu p (18 + a) i) (run (pu p (18 + a) i) a c 0) == some k) 0 4 (by omega) (by omega) rfl hs0.1 ?_ ?_
    · intro i s _ hi hs
      show oW (f_X0_kindly_L35 s (nI a) (nI c) (nI k) (nI (msk (fun i => winr (pu p (18 + a) i) (run (pu p (18 + a) i) a c 0) == some k) i)) (nI i)) _
      unfold f_X0_kindly_L35 f_X0_kindly_b90
      rw [n_2, nI_mul, show nI (2 * a) + 0 = nI (2 * a) from nI_add (2 * a) 0, nI_clamp (by omega), nbN (by omega)]
      have px := hs.put (by omega) (n := i) (k := sb 1 + 4) (j := 2 * a) (by rw [(ax_4 (by omega)).1]) (by rw [(ax_4 (by omega)).2]) (by omega) (kw i hi)
      refine oW_f (fun q => ?_) (oW_C (inb_t (by omega) (by decide)) (oW_L (x_runW px.2.2.1 (kw i hi) (by rw [e41]; exact ha) hc (fun s' hr hw => oW_Be hw ?_))))
      · have := (nle (a := 4) (by decide) (by omega)).mp q
        omega
      have tx := (TXe.mk px.1 px.2.1 (kw i hi) px.2.2.1).fr hr.1
      by_cases e : winr (pu p (18 + a) i) (run (pu p (18 + a) i) a c 0) = some k
      · have eb : (winr (pu p (18 + a) i) (run (pu p (18 + a) i) a c 0) == some k) = true := by rw [e]; exact beq_self_eq_true _
        rw [eb]
        exact oW_t ((eN_eq (el i hi) (by omega)).mpr e) (oS_l ⟨rfl, rfl, tx⟩)
      · have eb : (winr (pu p (18 + a) i) (run (pu p (18 + a) i) a c 0) == some k) = false := beq_eq_false_iff_ne.mpr e
        rw [eb]
        exact oW_f (fun q => e ((eN_eq (el i hi) (by omega)).mp q)) (oS_l ⟨rfl, rfl, tx⟩)
    · intro s hs
      show oW (f_X0_kindly_L35 s (nI a) (nI c) (nI k) (nI (msk (fun i => winr (pu p (18 + a) i) (run (pu p (18 + a) i) a c 0) == some k) 4)) 4) _
      unfold f_X0_kindly_L35
      exact oW_t (Int32.le_refl _) (oS_r ⟨rfl, hs⟩)
  · unfold f_X7_kindly_b38
    refine oW_msk (TMe μ p (18 + a)) (fun i => winr (pu p (18 + a) i) (run (pu p (18 + a) i) a c 0) == some k) 0 4 (by omega) (by omega) rfl ht0 ?_ ?_
    · intro i s _ hi hs
      show oW (f_X7_kindly_L38 s (nI a) (nI c) (nI k) (nI (msk (fun i => winr (pu p (18 + a) i) (run (pu p (18 + a) i) a c 0) == some k) i)) (nI i)) _
      unfold f_X7_kindly_L38 f_X7_kindly_b79
      rw [show (182 : Int32) + nI a = nI (182 + a) from nI_add 182 a, nI_clamp (by omega)]
      have pm := hs.put (by omega) (n := i) (j := 182 + a) (by omega) (kw i hi)
      refine oW_f (fun q => ?_) (oW_C (inb_t (by omega) (by decide)) (oW_L (oW_B (m_win1 pm.2 (kw i hi) (by rw [e41]; exact ha) hc) (fun r hr => ?_))))
      · have := (nle (a := 4) (by decide) (by omega)).mp q
        omega
      have tx := (TMe.mk pm.1 (kw i hi) pm.2).fr hr.2.1
      rw [hr.1]
      by_cases e : winr (pu p (18 + a) i) (run (pu p (18 + a) i) a c 0) = some k
      · have eb : (winr (pu p (18 + a) i) (run (pu p (18 + a) i) a c 0) == some k) = true := by rw [e]; exact beq_self_eq_true _
        rw [eb]
        exact oW_t ((eN_eq (el i hi) (by omega)).mpr e) (oS_l ⟨rfl, rfl, tx⟩)
      · have eb : (winr (pu p (18 + a) i) (run (pu p (18 + a) i) a c 0) == some k) = false := beq_eq_false_iff_ne.mpr e
        rw [eb]
        exact oW_f (fun q => e ((eN_eq (el i hi) (by omega)).mp q)) (oS_l ⟨rfl, rfl, tx⟩)
    · intro s hs
      show oW (f_X7_kindly_L38 s (nI a) (nI c) (nI k) (nI (msk (fun i => winr (pu p (18 + a) i) (run (pu p (18 + a) i) a c 0) == some k) 4)) 4) _
      unfold f_X7_kindly_L38
      exact oW_t (Int32.le_refl _) (oS_r ⟨rfl, hs⟩)
theorem op_need (h : Rel p σ μ) (l1 l2 : Int32) : oE (f_X0_need σ l1 l2) (f_X7_need μ l1 l2) (Rel p) := by
  have w := h.wf
  have hnh := w.nh
  unfold f_X0_need f_X7_need
  refine oE_run h h ?_
  rintro a c ha hc rfl rfl
  have kw : ∀ i, i ≤ 9 → WF (pu p (22 + a) i) := fun i hi => w.plain (Or.inr (Or.inr ⟨by omega, by omega, hi⟩))
  have e41 : ∀ i, pu p (22 + a) i 41 = p 41 := fun i => pu_n p (by omega)
  refine oE_P (oP_l (x_try2 h FX.rf (22 + a)) (fun s0 hs0 => oP_r (m_try2 h FM.rf (22 + a)) (fun t0 ht0 => ?_)))
  unfold f_X0_need_b24 f_X7_need_b27
  refine oP_lp (fun i x y => x.1 = nI (i + 1) ∧ y.1 = nI (i + 1) ∧ TXe σ p (22 + a) x.2 ∧ TMe μ p (22 + a) y.2) 9 (by decide) ⟨rfl, rfl, hs0.1, ht0⟩ ?_ ?_
  · rintro i ⟨_, s⟩ ⟨_, t⟩ hi ⟨rfl, rfl, hs, ht⟩
    dsimp only at hs ht ⊢
    unfold f_X0_need_L24 f_X7_need_L27
    rw [n_2, nI_mul, show nI (2 * a) + 1 = nI (2 * a + 1) from nI_1 _, nI_clamp (by omega), nbN (by omega), show (186 : Int32) + nI a = nI (186 + a) from nI_add 186 a, nI_clamp (by omega)]
    have n9 : ¬ (9 : Int32) < nI (i + 1) := fun q => by
      have := (nlt (a := 9) (by decide) (by omega)).mp q
      omega
    have px := hs.put (by omega) (n := i + 1) (k := sb 1 + 4) (j := 2 * a + 1) (by rw [(ax_5 (by omega)).1]) (by rw [(ax_5 (by omega)).2]) (by omega) (kw (i + 1) (by omega))
    have pm := ht.put (by omega) (n := i + 1) (j := 186 + a) (by omega) (kw (i + 1) (by omega))
    refine oP_lf n9 (oP_rf n9 (oP_lC (inb_t (by omega) (by decide)) (oP_rC (inb_t (by omega) (by decide)) (oP_lL (oP_rL (oP_l (x_runs px.2.2.1 (kw (i + 1) (by omega)) (by rw [e41]; exact ha) hc (by decide : 0 < 2 ^ 31)) (fun r hr => oP_r (m_runs1 pm.2 (kw (i + 1) (by omega)) (by rw [e41]; exact ha) hc) (fun r' hr' => ?_))))))))
    rw [hr.2.2.1, hr'.2.2.1]
    have tx := (TXe.mk px.1 px.2.1 (kw (i + 1) (by omega)) px.2.2.1).fr hr.1
    have tm := (TMe.mk pm.1 (kw (i + 1) (by omega)) pm.2).fr hr'.1
    by_cases e : nI (run (pu p (22 + a) (i + 1)) a c 0).2.1 = 10
    · exact oP_lt e (oP_rt e (oP_inr ⟨_, _, rfl, rfl, rfl, h.fr tx.1 tm.1⟩))
    · exact oP_lf e (oP_rf e (oP_inl ⟨nI_1 _, nI_1 _, tx, tm⟩))
  · rintro ⟨_, s⟩ ⟨_, t⟩ ⟨rfl, rfl, hs, ht⟩
    dsimp only at hs ht ⊢
    refine oP_end (f := fun v : Int32 × (Nat → Nat → Int32) => f_X0_need_L24 v.2 (nI a) (nI c) v.1) (g := fun v : Int32 × (Nat → Nat → Int32) => f_X7_need_L27 v.2 (nI a) (nI c) v.1) (s := (nI (9 + 1), s)) (t := (nI (9 + 1), t)) ?_
    dsimp only
    unfold f_X0_need_L24 f_X7_need_L27
    exact oP_lt (by decide) (oP_rt (by decide) (oP_inr ⟨_, _, rfl, rfl, rfl, h.fr hs.1 ht.1⟩))
end SW
