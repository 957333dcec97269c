/-! ===== one number of the tried page at a time; move; bribe ===== -/
set_option maxRecDepth 100000
def TXe (σ : Nat → Nat → Int32) (p : Nat → Nat) (e : Nat) (s : Nat → Nat → Int32) : Prop := FX σ s ∧ By s 1 ∧ ∃ v, WF (pu p e v) ∧ PgX s 1 (pu p e v)
def TMe (μ : Nat → Nat → Int32) (p : Nat → Nat) (e : Nat) (s : Nat → Nat → Int32) : Prop := FM μ s ∧ ∃ v, WF (pu p e v) ∧ PgM s 164 (pu p e v)
theorem pu_pu (p : Nat → Nat) (e v n : Nat) : pu (pu p e v) e n = pu p e n := by
  funext j
  unfold pu
  split <;> rfl
theorem pu_self (p : Nat → Nat) (e : Nat) : pu p e (p e) = p := by
  funext j
  unfold pu
  split
  · rename_i h; rw [h]
  · rfl
section MV
variable {σ s s' μ : Nat → Nat → Int32} {p q : Nat → Nat} {e : Nat}
theorem FX.put1 (h : FX σ s) {m k j : Nat} {v : Int32} (hk : k = sb 1 + m) (hm : m < 6) : FX σ (upd2 s k j v) := by
  subst hk
  have e0 : sb 1 = 18 := rfl
  exact ⟨fun a h1 h2 h3 h4 => by rw [u2_k _ _ _ (by omega)]; exact h.1 a h1 h2 h3 h4, fun a h1 h2 h3 h4 h5 h6 => by rw [u2_k _ _ _ (by omega)]; exact h.2 a h1 h2 h3 h4 h5 h6⟩
theorem FM.put1 (h : FM μ s) {m j : Nat} {v : Int32} (hj : j = 164 + m) : FM μ (upd2 s 1 j v) := by
  subst hj
  exact ⟨fun a h1 h2 h3 h4 h5 => by rw [u2_k _ _ _ h2]; exact h.1 a h1 h2 h3 h4 h5, fun a h1 => by rw [u2_j _ _ _ (by omega)]; exact h.2.1 a h1, fun a h1 h2 h3 h4 => by rw [u2_k _ _ _ (by decide)]; exact h.2.2 a h1 h2 h3 h4⟩
theorem ax_lt {m : Nat} (h : m < 42) : ax m < 6 := by
  have : ∀ m : Fin 42, ax m.val < 6 := by decide
  exact this ⟨m, h⟩
theorem TXe.put (h : TXe σ p e s) (he : e < 38) {k j n : Nat} (hk : k = sb 1 + ax e) (hj : j = ay e) (hn : n < 128) (w' : WF (pu p e n)) : FX σ (upd2 s k j (nI n)) ∧ By (upd2 s k j (nI n)) 1 ∧ PgX (upd2 s k j (nI n)) 1 (pu p e n) ∧ ∀ i, upd2 s k j (nI n) 0 i = s 0 i := by
  obtain ⟨h1, h2, v, w, g⟩ := h
  refine ⟨h1.put1 hk (ax_lt (by omega)), h2.put hk (fitB_nI hn), ?_, fun i => by rw [u2_k _ _ _ (by subst hk; unfold sb; omega)]⟩
  have := (g.px w).put (i := e) (n := n) (by omega) hk hj
  rw [pu_pu] at this
  refine this.pg w' (fun j _ hl => Or.inr ?_)
  unfold lv at *
  rw [pu_n p (by omega : 38 ≠ e), pu_n p (by omega : 39 ≠ e), pu_n p (by omega : 40 ≠ e), pu_n p (by omega : 41 ≠ e)] at *
  exact hl
theorem TMe.put (h : TMe μ p e s) (he : e < 38) {j n : Nat} (hj : j = 164 + e) (w' : WF (pu p e n)) : FM μ (upd2 s 1 j (nI n)) ∧ PgM (upd2 s 1 j (nI n)) 164 (pu p e n) := by
  obtain ⟨h1, v, w, g⟩ := h
  refine ⟨h1.put1 hj, ?_⟩
  have := (g.mx w).put (i := e) (n := n) hj
  rw [pu_pu] at this
  refine this.pg w' (fun j _ hl => Or.inr ?_)
  unfold lv at *
  rw [pu_n p (by omega : 38 ≠ e), pu_n p (by omega : 39 ≠ e), pu_n p (by omega : 40 ≠ e), pu_n p (by omega : 41 ≠ e)] at *
  exact hl
theorem TXe.mk (fx : FX σ s) (b : By s 1) {n : Nat} (w' : WF (pu p e n)) (g : PgX s 1 (pu p e n)) : TXe σ p e s := ⟨fx, b, n, w', g⟩
theorem TMe.mk (fx : FM σ s) {n : Nat} (w' : WF (pu p e n)) (g : PgM s 164 (pu p e n)) : TMe σ p e s := ⟨fx, n, w', g⟩
theorem TXe.fr (h : TXe σ p e s) (f : FrR s s') : TXe σ p e s' := by
  obtain ⟨h1, h2, v, w, g⟩ := h
  exact ⟨h1.tr f.fx, f.by h2, v, w, f.pg g⟩
theorem TMe.fr (h : TMe μ p e s) (f : FrM s s') : TMe μ p e s' := by
  obtain ⟨h1, v, w, g⟩ := h
  exact ⟨h1.tr f.fm, v, w, f.pg g⟩
theorem TXe.set (h : TXe σ p e s) {j : Nat} (hj : j = 15 ∨ j = 16) (v : Int32) : TXe σ p e (upd2 s 0 j v) := by
  obtain ⟨h1, h2, v, w, g⟩ := h
  exact ⟨h1.f15 hj _, h2.same (fun j _ => u2_k _ _ _ (by unfold sb; omega)), v, w, g.same (fun j _ => u2_k _ _ _ (by unfold sb; omega))⟩
theorem x_try2 (h : Rel p σ μ) {s : Nat → Nat → Int32} (fx : FX σ s) (e : Nat) : oW (f_X5_as s 1 0) (fun r => TXe σ p e r ∧ ∀ j, r 0 j = s 0 j) := oW_mono (x_try h fx) (fun r hr => ⟨⟨hr.1, hr.2.2.1, p e, by rw [pu_self]; exact h.wf, by rw [pu_self]; exact hr.2.1⟩, hr.2.2.2⟩)
theorem m_try2 (h : Rel p σ μ) {s : Nat → Nat → Int32} (fm : FM μ s) (e : Nat) : oW (f_X7_copies s 0 164) (fun r => TMe μ p e r) := oW_mono (m_try h fm) (fun r hr => ⟨hr.1, p e, by rw [pu_self]; exact h.wf, by rw [pu_self]; exact hr.2⟩)
/-- judging leaves the tried page -/
theorem x_judges2 {fi b : Int32} (l1 l2 : Int32) (h1 : s 0 15 = fi) (h2 : s 0 16 = b) : oW (f_X0_judges s l1 l2) (fun r => (∀ k, k ≠ 0 → r k = s k) ∧ r 0 15 = (if l2 ≤ b then fi else l1) ∧ r 0 16 = (if l2 ≤ b then b else l2)) := by
  obtain ⟨r, e, h3, h4, h5⟩ := x_judges l1 l2 h1 h2
  refine ⟨r, e, fun k hk => ?_, h4, h5⟩
  have key : ∀ k2 r, f_X0_judges_b17 s l2 k2 = some r → r k = s k := by
    intro k2 r e
    unfold f_X0_judges_b17 at e
    have e := Option.some.inj e
    rw [← e, u2_k _ _ _ hk, u2_k _ _ _ hk]
  unfold f_X0_judges at e
  split at e
  · exact key _ _ e
  · exact key _ _ e
theorem TXe.jd (h : TXe σ p e s) {r : Nat → Nat → Int32} (hr : ∀ k, k ≠ 0 → r k = s k) (fx : FX s r) : TXe σ p e r := by
  obtain ⟨h1, h2, v, w, g⟩ := h
  exact ⟨h1.tr fx, h2.same (fun j _ => hr _ (by unfold sb; omega)), v, w, g.same (fun j _ => hr _ (by unfold sb; omega))⟩
theorem x_judges3 {fi b : Int32} (l1 l2 : Int32) (h1 : s 0 15 = fi) (h2 : s 0 16 = b) : oW (f_X0_judges s l1 l2) (fun r => (∀ k, k ≠ 0 → r k = s k) ∧ FX s r ∧ r 0 15 = (if l2 ≤ b then fi else l1) ∧ r 0 16 = (if l2 ≤ b then b else l2)) := by
  obtain ⟨r, e, a1, a2, a3⟩ := x_judges2 l1 l2 h1 h2
  obtain ⟨r', e', c1, c2, c3⟩ := x_judges l1 l2 h1 h2
  have := Option.some.inj (e.symm.trans e')
  subst this
  exact ⟨r, e, a1, c1, c2, c3⟩
def movC (p : Nat → Nat) (a c : Nat) : Bool := decide (c % 10 < 8) && (p a == c || freeAt p c)
theorem op_move (h : Rel p σ μ) (l1 l2 : Int32) : oE (f_X0_move σ l1 l2) (f_X7_move μ l1 l2) RX := by
  have w := h.wf
  have hnp := w.np
  have hnu := w.nu
  unfold f_X0_move f_X7_move
  refine oE_peg h ⟨p, h⟩ ?_
  rintro a ha rfl
  refine oE_part ⟨p, h⟩ ?_
  rintro wh hw rfl
  refine oE_P (oP_l (x_starts (-1)) (fun s0 hs0 => oP_l (x_try2 h hs0.1 a) (fun s1 hs1 => oP_r (m_try2 h FM.rf a) (fun t1 ht1 => ?_))))
  unfold f_X0_move_b35 f_X7_move_b36
  refine oP_lp (fun i x y => x.1 = nI i ∧ y.2.2.1 = nI i ∧ TXe σ p a x.2 ∧ TMe μ p a y.2.2.2 ∧ ∃ fi, x.2 0 15 = fi ∧ x.2 0 16 = y.1 ∧ JR p y.1 fi y.2.1 i (movC p a)) 98 (by decide) ⟨rfl, rfl, hs1.1, ht1, -4, (hs1.2 15).trans hs0.2.1, (hs1.2 16).trans hs0.2.2, Or.inl ⟨rfl, rfl, rfl, fun c hc => absurd hc (by omega)⟩⟩ ?_ ?_
  · rintro i ⟨_, s⟩ ⟨b, fi', _, t⟩ hi ⟨rfl, rfl, fx, fm, fi, h1, h2, hj⟩
    dsimp only at fx fm h1 h2 hj ⊢
    have gx := fx.1.pg h.px (by decide : (0 : Nat) ≠ 1)
    have gm := fm.1.pg h.pm w (by decide)
    -- a candidate
    have yes : i % 10 < 8 → WF (pu p a i) → oP (f_X0_move_b72 s (nI a) (nI wh) (nI i)) (f_X7_move_b72 t (nI a) (nI wh) b fi' (nI i)) (oSS (fun x y => x.1 = nI (i + 1) ∧ y.2.2.1 = nI (i + 1) ∧ TXe σ p a x.2 ∧ TMe μ p a y.2.2.2 ∧ ∃ fi, x.2 0 15 = fi ∧ x.2 0 16 = y.1 ∧ JR p y.1 fi y.2.1 (i + 1) (movC p a)) (fun a b => a.1 = b.1 ∧ RX a.2 b.2)) := by
      intro hc w'
      have hk := w.rag ha
      unfold f_X0_move_b72 f_X7_move_b72
      rw [nI_clamp (by omega), nbN (by omega), n_7, nI_add, nI_clamp (by omega), show (164 : Int32) + nI a = nI (164 + a) from nI_add 164 a, nI_clamp (by omega)]
      have px := fx.put (by omega) (n := i) (k := sb 1 + 1) (j := a) (by rw [(ax_1 (by omega)).1]) (by rw [(ax_1 (by omega)).2]) (by omega) w'
      have pm := fm.put (by omega) (n := i) (j := 164 + a) rfl w'
      refine oP_lC (inb_t (by omega) (by decide)) (oP_lL (oP_lC (inb_t (by omega) (by decide)) ?_))
      refine oP_rC (inb_t (by omega) (by decide)) (oP_rL (oP_rC (inb_t (by omega) (by decide)) ?_))
      rw [(px.1.pg h.px (by decide)).rag ha, (pm.1.pg h.pm w (by decide)).rag0 ha]
      have e40 : pu p a i 40 = p 40 := pu_n p (by omega)
      refine oP_l (x_wonMany px.2.2.1 w' hk) (fun r3 hr3 => oP_r (m_wins1 pm.2 w' hk) (fun r3' hr3' => ?_))
      rw [e40] at hr3 hr3'
      have hcn := cnt_le (isW (pu p a i) (p (7 + a))) (p 40)
      rw [hr3.1, hr3'.1]
      have z15 : ∀ j, j = 15 ∨ j = 16 → r3.2 0 j = s 0 j := fun j hj => by rw [hr3.2.f15 hj, px.2.2.2]
      refine oP_l (x_judges3 (nI i) (nI (cnt (isW (pu p a i) (p (7 + a))) (p 40))) ((z15 15 (Or.inl rfl)).trans h1) ((z15 16 (Or.inr rfl)).trans h2)) (fun s4 hs4 => oP_re (bitm_msk (by omega)) ?_)
      have tx : TXe σ p a s4 := ((TXe.mk px.1 px.2.1 w' px.2.2.1).fr hr3.2).jd hs4.1 hs4.2.1
      have tm : TMe μ p a r3'.2 := (TMe.mk pm.1 w' pm.2).fr hr3'.2
      have st := hj.step (n := cnt (isW (pu p a i) (p (7 + a))) (p 40)) (by omega) (show i < 1000 by omega)
      unfold f_X0_move_b105 f_X7_move_b118 f_X7_move_b132 f_X7_move_b133
      obtain ⟨_, _, g1, g2⟩ := hs4
      by_cases e : nI (cnt (isW (pu p a i) (p (7 + a))) (p 40)) ≤ b
      · rw [if_pos e] at g1 g2
        rw [if_pos e, if_pos e, if_pos e] at st
        exact oP_rt e (oP_rt e (oP_inl ⟨nI_1 i, nI_1 i, tx, tm, fi, g1, g2, st⟩))
      · rw [if_neg e] at g1 g2
        rw [if_neg e, if_neg e, if_neg e] at st
        exact oP_rf e (oP_rf e (oP_inl ⟨nI_1 i, nI_1 i, tx, tm, nI i, g1, g2, st⟩))
    unfold f_X0_move_L35 f_X7_move_L36
    refine oP_lf (n100 (by omega)) (oP_rf (n98 hi) ?_)
    have ski : movC p a i = false → oP (f_X0_move_b105 s (nI a) (nI wh) (nI i)) (f_X7_move_b133 t (nI a) (nI wh) b fi' (nI i)) (oSS (fun x y => x.1 = nI (i + 1) ∧ y.2.2.1 = nI (i + 1) ∧ TXe σ p a x.2 ∧ TMe μ p a y.2.2.2 ∧ ∃ fi, x.2 0 15 = fi ∧ x.2 0 16 = y.1 ∧ JR p y.1 fi y.2.1 (i + 1) (movC p a)) (fun a b => a.1 = b.1 ∧ RX a.2 b.2)) := by
      intro hc
      unfold f_X0_move_b105 f_X7_move_b133
      exact oP_inl ⟨nI_1 i, nI_1 i, fx, fm, fi, h1, h2, hj.skip hc⟩
    by_cases hc : i % 10 < 8
    · refine oP_le (is_cell hi hc).1 (oP_re (is_cell hi hc).2 (oP_lf (by decide) (oP_rf (by decide) (oP_re (m_free0 h fm.1 (by omega)) ?_))))
      rw [nI_clamp (by omega), gx.peg ha, gm.peg0 ha]
      refine oP_lC (inb_t (by omega) (by decide)) ?_
      have hpa := w.peg ha
      by_cases e : p a = i
      · have eP : pegAt p i = some a := fstI_of ha e (fun j hj q => by have := w.inj (by omega) ha (q.trans e.symm); omega)
        have eF : freeAt p i = false := by unfold freeAt; rw [eP]; rfl
        rw [eF]
        refine oP_lt (by rw [e]) (oP_rt rfl (oP_rC (inb_t (by omega) (by decide)) (oP_rt (by rw [e]) (yes hc ?_))))
        rw [← e, pu_self]; exact w
      · have n1 : ¬ nI (p a) = nI i := fun q => e ((nI_eq (by omega) (by omega)).mp q)
        refine oP_lf n1 (oP_le (x_free0 h fx.1 (by omega)) ?_)
        cases ef : freeAt p i with
        | true =>
          obtain ⟨f1, f2⟩ := free_iff.mp ef
          exact oP_lf (by decide) (oP_rf (by decide) (yes hc (w.shift ha hi hc (fun j hj q => absurd q (pegAt_none f1 hj)) (fun j hj => slugAt_none f2 hj))))
        | false =>
          refine oP_lt rfl (oP_rt rfl (oP_rC (inb_t (by omega) (by decide)) (oP_rf n1 (ski ?_))))
          unfold movC
          rw [ef, Bool.or_false, show (p a == i) = false from beq_eq_false_iff_ne.mpr e, Bool.and_false]
    · refine oP_le (not_cell (by omega) (by omega)).1 (oP_re (not_cell (by omega) (by omega)).2 (oP_lt rfl (oP_rt rfl (ski ?_))))
      unfold movC
      rw [decide_eq_false hc, Bool.false_and]
  · rintro ⟨_, s⟩ ⟨b, fi', _, t⟩ ⟨rfl, rfl, fx, fm, fi, h1, h2, hj⟩
    dsimp only at fx fm h1 h2 hj ⊢
    obtain ⟨v, v1, v2⟩ := judge_end (t := t) (hj.done ⟨p a, w.peg ha, by unfold movC; rw [decide_eq_true (w.cell ha), beq_self_eq_true]; rfl⟩) hw h1 h2
    have s98 : f_X0_move_L35 s (nI a) (nI wh) (nI 98) = some (.inl (nI 99, s)) := by
      unfold f_X0_move_L35
      rw [if_neg (n100 (by omega)), (not_cell (i := 98) (by decide) (by decide)).1, oB_s, if_pos rfl]
      rfl
    have s99 : f_X0_move_L35 s (nI a) (nI wh) (nI 99) = some (.inl (nI 100, s)) := by
      unfold f_X0_move_L35
      rw [if_neg (n100 (by omega)), (not_cell (i := 99) (by decide) (by decide)).1, oB_s, if_pos rfl]
      rfl
    have s100 : f_X0_move_L35 s (nI a) (nI wh) (nI 100) = some (.inr (v, s)) := by
      unfold f_X0_move_L35
      rw [if_pos (show (100 : Int32) ≤ nI 100 from Int32.le_refl _), v1]
      rfl
    refine ⟨(v, s), (v, t), fun n hn => ?_, ?_, rfl, p, h.fr fx.1 fm.1⟩
    · obtain ⟨m, rfl⟩ : ∃ m, n = m + 3 := ⟨n - 3, by omega⟩
      rw [oLoop_inl (s' := (nI 99, s)) s98, oLoop_inl (s' := (nI 100, s)) s99]
      exact oLoop_inr s100
    · show f_X7_move_L36 t (nI a) (nI wh) b fi' (nI 98) = _
      unfold f_X7_move_L36
      rw [if_pos (show (98 : Int32) ≤ nI 98 from Int32.le_refl _), v2]
      rfl
/-! bribe -/
def oth (p : Nat → Nat) (k i : Nat) : Bool := isA p i && !isW p k i
theorem oth_msk (p : Nat → Nat) (k : Nat) {n : Nat} (h : n ≤ 6) : nI (msk (isA p) n) &&& (nI (msk (isW p k) n) ^^^ -1) = nI (msk (oth p k) n) := by
  have l1 := msk_lt (isA p) n
  have l2 := msk_lt (isW p k) n
  have l3 : 2 ^ n ≤ 2 ^ 6 := Nat.pow_le_pow_right (by decide) h
  have key : ∀ a b : Fin 64, nI a.val &&& (nI b.val ^^^ -1) = nI (a.val &&& (b.val ^^^ 63)) := by decide +kernel
  rw [key ⟨_, by omega⟩ ⟨_, by omega⟩]
  congr 1
  apply Nat.eq_of_testBit_eq
  intro j
  rw [Nat.testBit_and, Nat.testBit_xor, msk_tb, msk_tb, msk_tb]
  have e63 : (63 : Nat).testBit j = decide (j < 6) := Nat.testBit_two_pow_sub_one 6 j
  rw [e63]
  unfold oth
  by_cases hj : j < n
  · rw [decide_eq_true hj, decide_eq_true (by omega : j < 6)]
    cases isA p j <;> cases isW p k j <;> rfl
  · rw [decide_eq_false hj, Bool.false_and, Bool.false_and, Bool.false_and]
theorem x_others {t : Nat} (g : PgX σ t p) (w : WF p) {k : Nat} (hk : k < 4) : oW (f_X0_wonByOthers σ t (nI k)) (fun r => r.1 = nI (cnt (oth p k) (p 40)) ∧ FrR σ r.2) := by
  have hnu := w.nu
  unfold f_X0_wonByOthers
  refine oW_B (x_wonByAny g w) (fun r hr => oW_B (x_won (hr.2.pg g) w hk) (fun r' hr' => ?_))
  rw [hr.1, hr'.1, oth_msk p k (by omega)]
  exact oW_Be (bitc_msk (by omega)) (oW_some ⟨rfl, hr.2.tr hr'.2⟩)
def JB (b b' fi fi' : Int32) (i : Nat) (C : Nat → Bool) : Prop := (b = 1000000 ∧ b' = 100 ∧ fi = -4 ∧ fi' = 0 ∧ ∀ c, c < i → C c = false) ∨ (∃ n j, n ≤ 6 ∧ j < 1000 ∧ b = nI n ∧ b' = nI n ∧ fi = nI j ∧ fi' = nI j)
theorem op_bribe (h : Rel p σ μ) (l1 l2 : Int32) : oE (f_X0_bribe σ l1 l2) (f_X7_bribe μ l1 l2) RX := by
  have w := h.wf
  have hnp := w.np
  have hns := w.ns
  have hnu := w.nu
  unfold f_X0_bribe f_X7_bribe
  refine oE_rag ⟨p, h⟩ ?_
  rintro k hk rfl
  refine oE_part ⟨p, h⟩ ?_
  rintro wh hw rfl
  rw [h.px.slugs, h.pm.c39, i39, oC_t]
  by_cases h4 : p 39 = 4
  · rw [h4]; exact ⟨-3, σ, μ, if_pos rfl, if_pos rfl, p, h⟩
  have n4 : ¬ nI (p 39) = 4 := fun q => h4 ((nI_eq (b := 4) (by omega) (by decide)).mp q)
  rw [if_neg n4, if_neg n4]
  refine oE_P ?_
  unfold f_X0_bribe_b41 f_X7_bribe_b42
  refine oP_lp (fun i x y => x.2.2.1 = nI i ∧ y.2.2.1 = nI i ∧ FX σ x.2.2.2 ∧ FM μ y.2.2.2 ∧ JB x.1 y.1 x.2.1 y.2.1 i (tryC p)) 98 (by decide) ⟨rfl, rfl, FX.rf, FM.rf, Or.inl ⟨rfl, rfl, rfl, rfl, fun c hc => absurd hc (by omega)⟩⟩ ?_ ?_
  · rintro i ⟨b, fi, _, s⟩ ⟨b', fi', _, t⟩ hi ⟨rfl, rfl, fx, fm, hj⟩
    dsimp only at fx fm hj ⊢
    have ski : tryC p i = false → oP (f_X0_bribe_b121 s (nI k) (nI wh) b fi (nI i)) (f_X7_bribe_b137 t (nI k) (nI wh) b' fi' (nI i)) (oSS (fun x y => x.2.2.1 = nI (i + 1) ∧ y.2.2.1 = nI (i + 1) ∧ FX σ x.2.2.2 ∧ FM μ y.2.2.2 ∧ JB x.1 y.1 x.2.1 y.2.1 (i + 1) (tryC p)) (fun a b => a.1 = b.1 ∧ RX a.2 b.2)) := by
      intro hc
      unfold f_X0_bribe_b121 f_X7_bribe_b137
      refine oP_inl ⟨nI_1 i, nI_1 i, fx, fm, ?_⟩
      rcases hj with ⟨a1, a2, a3, a4, a5⟩ | hj
      · refine Or.inl ⟨a1, a2, a3, a4, fun c hc2 => ?_⟩
        by_cases e : c = i
        · rw [e]; exact hc
        · exact a5 c (by omega)
      · exact Or.inr hj
    unfold f_X0_bribe_L41 f_X7_bribe_L42
    refine oP_lf (n100 (by omega)) (oP_rf (n98 hi) ?_)
    by_cases hc : i % 10 < 8
    · refine oP_le (is_cell hi hc).1 (oP_re (is_cell hi hc).2 (oP_lf (by decide) (oP_rf (by decide) (oP_le (x_free0 h fx (by omega)) (oP_re (m_free0 h fm (by omega)) ?_)))))
      cases ef : freeAt p i with
      | false => exact oP_lt rfl (oP_rt rfl (ski (by unfold tryC; rw [ef, Bool.and_false])))
      | true =>
        have w' := w.lay hi ef (by omega)
        have e40 : pLay p i 40 = p 40 := pL_o i (by omega) (by omega)
        refine oP_lf (by decide) (oP_rf (by decide) (oP_l (x_try h fx) (fun s1 hs1 => oP_l (x_lays hs1.2.1 w hs1.2.2.1 hi ef (by omega)) (fun s2 hs2 => oP_l (x_others hs2.2.1 w' hk) (fun r3 hr3 => ?_)))))
        rw [e40] at hr3
        refine oP_r (m_try h fm) (fun t1 ht1 => oP_r (show oW (f_X7_laysOn t1 164 (nI i)) (fun s => FrP 164 t1 s ∧ PgM s 164 (pLay p i)) from m_laysOn ht1.2 w (by decide) hi ef (by omega)) (fun t2 ht2 => oP_r (m_winsA1 ht2.2 w') (fun r3' hr3' => oP_r (m_wins1 (hr3'.2.pg ht2.2) w' hk) (fun r4' hr4' => ?_))))
        rw [e40] at hr3' hr4'
        rw [hr3'.1, hr4'.1, oth_msk _ k (by omega), hr3.1]
        have hcn := cnt_le (oth (pLay p i) k) (p 40)
        refine oP_re (bitm_msk (by omega)) ?_
        generalize hm : cnt (oth (pLay p i) k) (p 40) = m at *
        have fx' : FX σ r3.2 := (hs1.1.tr hs2.1.fx).tr hr3.2.fx
        have fm' : FM μ r4'.2 := ((ht1.1.tr ht2.1.fm).tr hr3'.2.fm).tr hr4'.2.fm
        unfold f_X0_bribe_b112 f_X7_bribe_b122 f_X7_bribe_b136 f_X0_bribe_b121 f_X7_bribe_b137
        rcases hj with ⟨rfl, rfl, rfl, rfl, _⟩ | ⟨n, j, hn, hjj, rfl, rfl, rfl, rfl⟩
        · have m1 : ¬ (1000000 : Int32) ≤ nI m := fun q => by
            have := (nle (a := 1000000) (by decide) (by omega)).mp q
            omega
          have m2 : ¬ (100 : Int32) ≤ nI m := n100 (by omega)
          refine oP_lf m1 (oP_rf m2 (oP_rf m2 (oP_inl ⟨nI_1 i, nI_1 i, fx', fm', Or.inr ⟨m, i, by omega, by omega, ?_, rfl, rfl, rfl⟩⟩)))
          exact if_pos ((nlt (b := 1000000) (by omega) (by decide)).mpr (by omega))
        · by_cases e : nI n ≤ nI m
          · refine oP_lt e (oP_rt e (oP_rt e (oP_inl ⟨nI_1 i, nI_1 i, fx', fm', Or.inr ⟨n, j, hn, hjj, ?_, rfl, rfl, rfl⟩⟩)))
            exact if_neg (fun q => Int32.lt_irrefl (Int32.lt_of_lt_of_le q e))
          · refine oP_lf e (oP_rf e (oP_rf e (oP_inl ⟨nI_1 i, nI_1 i, fx', fm', Or.inr ⟨m, i, by omega, by omega, ?_, rfl, rfl, rfl⟩⟩)))
            exact if_pos (Int32.not_le.mp e)
    · exact oP_le (not_cell (by omega) (by omega)).1 (oP_re (not_cell (by omega) (by omega)).2 (oP_lt rfl (oP_rt rfl (ski (by unfold tryC; rw [decide_eq_false hc, Bool.false_and])))))
  · rintro ⟨b, fi, _, s⟩ ⟨b', fi', _, t⟩ ⟨rfl, rfl, fx, fm, hj⟩
    dsimp only at fx fm hj ⊢
    obtain ⟨c0, k1, k2, k3⟩ := free_cell w (Or.inr (by omega))
    rcases hj with ⟨_, _, _, _, hno⟩ | ⟨n, j, hn, hjj, rfl, rfl, rfl, rfl⟩
    · have := hno c0 k1
      unfold tryC at this
      rw [decide_eq_true k2, k3] at this
      cases this
    have s98 : f_X0_bribe_L41 s (nI k) (nI wh) (nI n) (nI j) (nI 98) = some (.inl (nI n, nI j, nI 99, s)) := by
      unfold f_X0_bribe_L41
      rw [if_neg (n100 (by omega)), (not_cell (i := 98) (by decide) (by decide)).1, oB_s, if_pos rfl]
      rfl
    have s99 : f_X0_bribe_L41 s (nI k) (nI wh) (nI n) (nI j) (nI 99) = some (.inl (nI n, nI j, nI 100, s)) := by
      unfold f_X0_bribe_L41
      rw [if_neg (n100 (by omega)), (not_cell (i := 99) (by decide) (by decide)).1, oB_s, if_pos rfl]
      rfl
    have hend : ∃ v, f_X0_bribe_L41 s (nI k) (nI wh) (nI n) (nI j) (nI 100) = some (.inr (v, s)) ∧ f_X7_bribe_L42 t (nI k) (nI wh) (nI n) (nI j) (nI 98) = some (.inr (v, t)) := by
      unfold f_X0_bribe_L41 f_X7_bribe_L42
      rw [if_pos (show (100 : Int32) ≤ nI 100 from Int32.le_refl _), if_pos (show (98 : Int32) ≤ nI 98 from Int32.le_refl _)]
      have hc : wh = 0 ∨ wh = 1 := by omega
      rcases hc with rfl | rfl
      · exact ⟨nI j, rfl, rfl⟩
      · exact ⟨nI n, rfl, rfl⟩
    obtain ⟨v, v1, v2⟩ := hend
    refine ⟨(v, s), (v, t), fun m hm => ?_, v2, rfl, p, h.fr fx fm⟩
    obtain ⟨m, rfl⟩ : ∃ m', m = m' + 3 := ⟨m - 3, by omega⟩
    rw [oLoop_inl (s' := (nI n, nI j, nI 99, s)) s98, oLoop_inl (s' := (nI n, nI j, nI 100, s)) s99]
    exact oLoop_inr v1
end MV
