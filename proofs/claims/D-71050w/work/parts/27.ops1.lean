/-! ===== the relation; questions of one run or one page ===== -/
set_option maxRecDepth 100000
def FX (σ σ' : Nat → Nat → Int32) : Prop := (∀ k, k ≠ 0 → k ≠ 7 → k ≠ 9 → (k < 18 ∨ 24 ≤ k) → σ' k = σ k) ∧ ∀ j, j ≠ 8 → j ≠ 9 → j ≠ 10 → j ≠ 11 → j ≠ 15 → j ≠ 16 → σ' 0 j = σ 0 j
def FM (μ μ' : Nat → Nat → Int32) : Prop := (∀ k, k ≠ 0 → k ≠ 1 → k ≠ 2 → k ≠ 6 → k ≠ 8 → μ' k = μ k) ∧ (∀ j, j < 123 → μ' 1 j = μ 1 j) ∧ ∀ j, j ≠ 3 → j ≠ 4 → (j < 8 ∨ 14 ≤ j) → (j < 16 ∨ 20 ≤ j) → μ' 0 j = μ 0 j
theorem FX.rf {σ : Nat → Nat → Int32} : FX σ σ := ⟨fun _ _ _ _ _ => rfl, fun _ _ _ _ _ _ _ => rfl⟩
theorem FM.rf {μ : Nat → Nat → Int32} : FM μ μ := ⟨fun _ _ _ _ _ _ => rfl, fun _ _ => rfl, fun _ _ _ _ _ => rfl⟩
theorem FX.tr {a b c : Nat → Nat → Int32} (h : FX a b) (g : FX b c) : FX a c := ⟨fun k h1 h2 h3 h4 => (g.1 k h1 h2 h3 h4).trans (h.1 k h1 h2 h3 h4), fun j h1 h2 h3 h4 h5 h6 => (g.2 j h1 h2 h3 h4 h5 h6).trans (h.2 j h1 h2 h3 h4 h5 h6)⟩
theorem FM.tr {a b c : Nat → Nat → Int32} (h : FM a b) (g : FM b c) : FM a c := ⟨fun k h1 h2 h3 h4 h5 => (g.1 k h1 h2 h3 h4 h5).trans (h.1 k h1 h2 h3 h4 h5), fun j h1 => (g.2.1 j h1).trans (h.2.1 j h1), fun j h1 h2 h3 h4 => (g.2.2 j h1 h2 h3 h4).trans (h.2.2 j h1 h2 h3 h4)⟩
theorem FrR.fx {a b : Nat → Nat → Int32} (h : FrR a b) : FX a b := ⟨fun k h1 h2 _ _ => h.1 k h1 h2, fun j h1 h2 h3 h4 _ _ => h.2 j h1 h2 h3 h4⟩
theorem FrM.fm {a b : Nat → Nat → Int32} (h : FrM a b) : FM a b := ⟨fun k h1 _ _ h2 _ => h.1 k h1 h2, fun j _ => by rw [h.1 1 (by decide) (by decide)], fun j _ _ h1 h2 => h.2 j (by omega) (by omega) (by omega) (by omega)⟩
theorem FX.pg {σ σ' : Nat → Nat → Int32} {t : Nat} {p : Nat → Nat} (h : FX σ σ') (g : PgX σ t p) (ht : t ≠ 1) : PgX σ' t p := g.same (fun j hj => h.1 _ (by unfold sb; omega) (by unfold sb; omega) (by unfold sb; omega) (by unfold sb; omega))
theorem FM.pg {μ μ' : Nat → Nat → Int32} {o : Nat} {p : Nat → Nat} (h : FM μ μ') (g : PgM μ o p) (w : WF p) (ho : o + 41 ≤ 123) : PgM μ' o p := g.same w (fun j hj => h.2.1 _ (by omega))
def Img (p : Nat → Nat) (σ μ : Nat → Nat → Int32) : Prop := ∃ a b : Bool, σ 0 4 = nI ((if a then 1 else 0) + (if b then 2 else 0)) ∧ μ 9 0 = b2i a ∧ μ 9 1 = b2i b ∧ (a = true → ∃ q, WF q ∧ PgX σ 2 q ∧ PgM μ 41 q ∧ q 41 = p 41) ∧ (b = true → ∃ q, WF q ∧ PgX σ 3 q ∧ PgM μ 82 q ∧ q 41 = p 41)
def Tap (σ μ : Nat → Nat → Int32) : Prop := ∃ n, n ≤ 160 ∧ σ 0 13 = nI n ∧ μ 0 6 = nI n ∧ ∀ i, i < n → ∃ v, v < 128 ∧ σ 8 i = nI v ∧ μ 3 i = nI v
def See (σ μ : Nat → Nat → Int32) : Prop := ∃ n, n ≤ 6 ∧ σ 0 6 = nI n ∧ μ 0 22 = nI n ∧ ∀ i, i < n → ∃ h c r, h < 4 ∧ c < 8 ∧ σ 6 (3 * i) = nI h ∧ μ 7 (3 * i) = nI h ∧ σ 6 (3 * i + 1) = nI c ∧ μ 7 (3 * i + 1) = nI c ∧ σ 6 (3 * i + 2) = r ∧ μ 7 (3 * i + 2) = r
def cutN : Nat → Nat := fun i => [0, 5, 8, 13, 17, 20, 24, 28].getD i 0
def letN : Nat → Nat := fun i => [112, 108, 97, 105, 110, 102, 97, 116, 121, 111, 117, 110, 103, 98, 111, 97, 114, 112, 101, 103, 115, 108, 117, 103, 115, 117, 105, 116].getD i 0
def Cst (μ : Nat → Nat → Int32) : Prop := (∀ i, i < 8 → μ 4 i = nI (cutN i)) ∧ ∀ i, i < 28 → μ 5 i = nI (letN i)
def bl (k : Nat) : Nat := if k = 1 then 7 else if k = 2 then 7 else if k = 3 then 4 else if k = 4 then 8 else 12
/-- a slope's bytes are bytes -/
def By (σ : Nat → Nat → Int32) (t : Nat) : Prop := ∀ k j, 1 ≤ k → k ≤ 5 → j < bl k → fits .byte (.int (σ (sb t + k) j)) = true
theorem By.same {σ σ' : Nat → Nat → Int32} {t : Nat} (h : By σ t) (e : ∀ j, j < 6 → σ' (sb t + j) = σ (sb t + j)) : By σ' t := fun k j h1 h2 h3 => by rw [e k (by omega)]; exact h k j h1 h2 h3
theorem FX.by {σ σ' : Nat → Nat → Int32} {t : Nat} (h : FX σ σ') (g : By σ t) (ht : t ≠ 1) : By σ' t := g.same (fun j hj => h.1 _ (by unfold sb; omega) (by unfold sb; omega) (by unfold sb; omega) (by unfold sb; omega))
def Rel (p : Nat → Nat) (σ μ : Nat → Nat → Int32) : Prop := WF p ∧ PgX σ 0 p ∧ PgM μ 0 p ∧ μ 0 1 = nI (p 41) ∧ σ 0 14 = μ 0 7 ∧ σ 0 22 = μ 0 28 ∧ Img p σ μ ∧ Tap σ μ ∧ See σ μ ∧ Cst μ ∧ By σ 0 ∧ By σ 2 ∧ By σ 3
def RX (σ μ : Nat → Nat → Int32) : Prop := ∃ p, Rel p σ μ
section RL
variable {σ σ' μ μ' : Nat → Nat → Int32} {p : Nat → Nat}
theorem Rel.wf (h : Rel p σ μ) : WF p := h.1
theorem Rel.px (h : Rel p σ μ) : PgX σ 0 p := h.2.1
theorem Rel.pm (h : Rel p σ μ) : PgM μ 0 p := h.2.2.1
theorem Rel.hg (h : Rel p σ μ) : μ 0 1 = nI (p 41) := h.2.2.2.1
theorem Rel.flt (h : Rel p σ μ) : σ 0 14 = μ 0 7 := h.2.2.2.2.1
theorem Rel.trn (h : Rel p σ μ) : σ 0 22 = μ 0 28 := h.2.2.2.2.2.1
theorem Rel.img (h : Rel p σ μ) : Img p σ μ := h.2.2.2.2.2.2.1
theorem Rel.tap (h : Rel p σ μ) : Tap σ μ := h.2.2.2.2.2.2.2.1
theorem Rel.see (h : Rel p σ μ) : See σ μ := h.2.2.2.2.2.2.2.2.1
theorem Rel.cst (h : Rel p σ μ) : Cst μ := h.2.2.2.2.2.2.2.2.2.1
theorem Rel.by (h : Rel p σ μ) : By σ 0 ∧ By σ 2 ∧ By σ 3 := h.2.2.2.2.2.2.2.2.2.2
theorem Img.fr (h : Img p σ μ) (fx : FX σ σ') (fm : FM μ μ') : Img p σ' μ' := by
  obtain ⟨a, b, h1, h2, h3, h4, h5⟩ := h
  refine ⟨a, b, ?_, ?_, ?_, fun q => ?_, fun q => ?_⟩
  · rw [fx.2 4 (by decide) (by decide) (by decide) (by decide) (by decide) (by decide), h1]
  · rw [fm.1 9 (by decide) (by decide) (by decide) (by decide) (by decide), h2]
  · rw [fm.1 9 (by decide) (by decide) (by decide) (by decide) (by decide), h3]
  · obtain ⟨r, r1, r2, r3, r4⟩ := h4 q
    exact ⟨r, r1, fx.pg r2 (by decide), fm.pg r3 r1 (by decide), r4⟩
  · obtain ⟨r, r1, r2, r3, r4⟩ := h5 q
    exact ⟨r, r1, fx.pg r2 (by decide), fm.pg r3 r1 (by decide), r4⟩
theorem Tap.fr (h : Tap σ μ) (fx : FX σ σ') (fm : FM μ μ') : Tap σ' μ' := by
  obtain ⟨n, h1, h2, h3, h4⟩ := h
  refine ⟨n, h1, ?_, ?_, fun i hi => ?_⟩
  · rw [fx.2 13 (by decide) (by decide) (by decide) (by decide) (by decide) (by decide), h2]
  · rw [fm.2.2 6 (by decide) (by decide) (by decide) (by decide), h3]
  · rw [fx.1 8 (by decide) (by decide) (by decide) (by decide), fm.1 3 (by decide) (by decide) (by decide) (by decide) (by decide)]
    exact h4 i hi
theorem See.fr (h : See σ μ) (fx : FX σ σ') (fm : FM μ μ') : See σ' μ' := by
  obtain ⟨n, h1, h2, h3, h4⟩ := h
  refine ⟨n, h1, ?_, ?_, fun i hi => ?_⟩
  · rw [fx.2 6 (by decide) (by decide) (by decide) (by decide) (by decide) (by decide), h2]
  · rw [fm.2.2 22 (by decide) (by decide) (by decide) (by decide), h3]
  · rw [fx.1 6 (by decide) (by decide) (by decide) (by decide), fm.1 7 (by decide) (by decide) (by decide) (by decide) (by decide)]
    exact h4 i hi
theorem Cst.fr (h : Cst μ) (fm : FM μ μ') : Cst μ' := by
  unfold Cst
  rw [fm.1 4 (by decide) (by decide) (by decide) (by decide) (by decide), fm.1 5 (by decide) (by decide) (by decide) (by decide) (by decide)]
  exact h
theorem Rel.fr (h : Rel p σ μ) (fx : FX σ σ') (fm : FM μ μ') : Rel p σ' μ' := by
  refine ⟨h.wf, fx.pg h.px (by decide), fm.pg h.pm h.wf (by decide), ?_, ?_, ?_, h.img.fr fx fm, h.tap.fr fx fm, h.see.fr fx fm, h.cst.fr fm, fx.by h.by.1 (by decide), fx.by h.by.2.1 (by decide), fx.by h.by.2.2 (by decide)⟩
  · rw [fm.2.2 1 (by decide) (by decide) (by decide) (by decide)]; exact h.hg
  · rw [fx.2 14 (by decide) (by decide) (by decide) (by decide) (by decide) (by decide), fm.2.2 7 (by decide) (by decide) (by decide) (by decide)]; exact h.flt
  · rw [fx.2 22 (by decide) (by decide) (by decide) (by decide) (by decide) (by decide), fm.2.2 28 (by decide) (by decide) (by decide) (by decide)]; exact h.trn
theorem PgM.who0 (h : PgM μ 0 p) {i : Nat} (hi : i < p 40) : μ 1 (26 + i) = nI (p (26 + i)) := by have := h.who hi; rwa [Nat.zero_add] at this
theorem PgM.frm0 (h : PgM μ 0 p) {i : Nat} (hi : i < p 40) : μ 1 (32 + i) = nI (p (32 + i)) := by have := h.frm hi; rwa [Nat.zero_add] at this
theorem PgM.peg0 (h : PgM μ 0 p) {i : Nat} (hi : i < p 38) : μ 1 i = nI (p i) := by have := h.peg hi; rwa [Nat.zero_add] at this
theorem PgM.rag0 (h : PgM μ 0 p) {i : Nat} (hi : i < p 38) : μ 1 (7 + i) = nI (p (7 + i)) := by have := h.rag hi; rwa [Nat.zero_add] at this
theorem PgM.slug0 (h : PgM μ 0 p) {i : Nat} (hi : i < p 39) : μ 1 (14 + i) = nI (p (14 + i)) := by have := h.slug hi; rwa [Nat.zero_add] at this
theorem PgM.kind0 (h : PgM μ 0 p) {i : Nat} (hi : i < p 41) : μ 1 (18 + i) = nI (p (18 + i)) := by have := h.kind hi; rwa [Nat.zero_add] at this
theorem PgM.speed0 (h : PgM μ 0 p) {i : Nat} (hi : i < p 41) : μ 1 (22 + i) = nI (p (22 + i)) := by have := h.speed hi; rwa [Nat.zero_add] at this
theorem PgM.c38 (h : PgM μ 0 p) : μ 1 (Int32.toNatClampNeg 38) = nI (p 38) := h.pegs
theorem PgM.c39 (h : PgM μ 0 p) : μ 1 (Int32.toNatClampNeg 39) = nI (p 39) := h.slugs
theorem PgM.c40 (h : PgM μ 0 p) : μ 1 (Int32.toNatClampNeg 40) = nI (p 40) := h.suits
theorem m_runs0 (hg : PgM μ 0 p) (w : WF p) {h fr : Nat} (hh : h < p 41) (hf : fr < 8) : oW (f_X7_runsOn μ 0 (nI h) (nI fr) 0) (fun μ' => RunM μ μ' (run p h fr 0)) := m_runsOn hg w (by decide) hh hf (by decide : 0 < 2 ^ 31)
theorem m_runs1 (hg : PgM μ 164 p) (w : WF p) {h fr : Nat} (hh : h < p 41) (hf : fr < 8) : oW (f_X7_runsOn μ 164 (nI h) (nI fr) 0) (fun μ' => RunM μ μ' (run p h fr 0)) := m_runsOn hg w (by decide) hh hf (by decide : 0 < 2 ^ 31)
theorem m_win0 (hg : PgM μ 0 p) (w : WF p) {h fr : Nat} (hh : h < p 41) (hf : fr < 8) : oW (f_X7_winnerOn μ 0 (nI h) (nI fr)) (fun r => r.1 = eN (winr p (run p h fr 0)) ∧ RunM μ r.2 (run p h fr 0)) := m_winnerOn hg w (by decide) hh hf
theorem m_win1 (hg : PgM μ 164 p) (w : WF p) {h fr : Nat} (hh : h < p 41) (hf : fr < 8) : oW (f_X7_winnerOn μ 164 (nI h) (nI fr)) (fun r => r.1 = eN (winr p (run p h fr 0)) ∧ RunM μ r.2 (run p h fr 0)) := m_winnerOn hg w (by decide) hh hf
theorem m_wins0 (hg : PgM μ 0 p) (w : WF p) {k : Nat} (hk : k < 4) : oW (f_X7_winsOn μ 0 (nI k)) (fun r => r.1 = nI (msk (isW p k) (p 40)) ∧ FrM μ r.2) := m_wins hg w (by decide) hk
theorem m_wins1 (hg : PgM μ 164 p) (w : WF p) {k : Nat} (hk : k < 4) : oW (f_X7_winsOn μ 164 (nI k)) (fun r => r.1 = nI (msk (isW p k) (p 40)) ∧ FrM μ r.2) := m_wins hg w (by decide) hk
theorem m_winsA0 (hg : PgM μ 0 p) (w : WF p) : oW (f_X7_winsOn μ 0 (-4)) (fun r => r.1 = nI (msk (isA p) (p 40)) ∧ FrM μ r.2) := m_winsA hg w (by decide)
theorem m_winsA1 (hg : PgM μ 164 p) (w : WF p) : oW (f_X7_winsOn μ 164 (-4)) (fun r => r.1 = nI (msk (isA p) (p 40)) ∧ FrM μ r.2) := m_winsA hg w (by decide)
end RL
/-! both answer alike -/
def oE (x y : Option (Int32 × (Nat → Nat → Int32))) (Q : (Nat → Nat → Int32) → (Nat → Nat → Int32) → Prop) : Prop := ∃ v s s', x = some (v, s) ∧ y = some (v, s') ∧ Q s s'
section OE
variable {σ μ : Nat → Nat → Int32} {p : Nat → Nat} {Q : (Nat → Nat → Int32) → (Nat → Nat → Int32) → Prop} {x y : Option (Int32 × (Nat → Nat → Int32))}
theorem oE_of (v : Int32) {A B : (Nat → Nat → Int32) → Prop} (hx : oW x (fun r => r.1 = v ∧ A r.2)) (hy : oW y (fun r => r.1 = v ∧ B r.2)) (k : ∀ s s', A s → B s' → Q s s') : oE x y Q := by
  obtain ⟨⟨a, s⟩, rfl, rfl, ha⟩ := hx
  obtain ⟨⟨b, s'⟩, rfl, e, hb⟩ := hy
  dsimp only at e ha hb
  subst e
  exact ⟨_, s, s', rfl, rfl, k s s' ha hb⟩
theorem oE_s (v : Int32) (q : Q σ μ) : oE (some (v, σ)) (some (v, μ)) Q := ⟨v, σ, μ, rfl, rfl, q⟩
theorem oE_n {a b : Option Int32} {v : Int32} {X Y : Int32 → Option (Int32 × (Nat → Nat → Int32))} (ha : a = some 0) (hb : b = some 0) (q : Q σ μ) : oE (oB a fun r => if r = 0 then some (v, σ) else X r) (oB b fun r => if r = 0 then some (v, μ) else Y r) Q := by
  subst ha hb
  exact ⟨v, σ, μ, by rw [oB_s, if_pos rfl], by rw [oB_s, if_pos rfl], q⟩
theorem oE_y {a b : Option Int32} {A B : Option (Int32 × (Nat → Nat → Int32))} {X Y : Int32 → Option (Int32 × (Nat → Nat → Int32))} (ha : a = some 1) (hb : b = some 1) (q : oE (X 1) (Y 1) Q) : oE (oB a fun r => if r = 0 then A else X r) (oB b fun r => if r = 0 then B else Y r) Q := by
  subst ha hb
  rw [oB_s, oB_s, if_neg (by decide), if_neg (by decide)]
  exact q
theorem oE_ly {a : Option Int32} {A : Option (Int32 × (Nat → Nat → Int32))} {X : Int32 → Option (Int32 × (Nat → Nat → Int32))} (ha : a = some 1) (q : oE (X 1) y Q) : oE (oB a fun r => if r = 0 then A else X r) y Q := by
  subst ha
  rw [oB_s, if_neg (by decide)]
  exact q
theorem oE_ry {b : Option Int32} {B : Option (Int32 × (Nat → Nat → Int32))} {Y : Int32 → Option (Int32 × (Nat → Nat → Int32))} (hb : b = some 1) (q : oE x (Y 1) Q) : oE x (oB b fun r => if r = 0 then B else Y r) Q := by
  subst hb
  rw [oB_s, if_neg (by decide)]
  exact q
theorem oE_run {l1 l2 : Int32} {X : Int32 → Option (Int32 × (Nat → Nat → Int32))} {Y : Int32 → Int32 → Option (Int32 × (Nat → Nat → Int32))} (hr : Rel p σ μ) (q : Q σ μ) (k : ∀ i j, i < p 41 → j < 8 → l1 = nI i → l2 = nI j → oE (X 1) (Y 1 1) Q) : oE (oB (f_X0_isRun σ l1 l2) fun r => if r = 0 then some (-1, σ) else X r) (oB (f_X7_isHog μ l1) fun r => if r = 0 then some (-1, μ) else oB (f_X7_isColumn l2) fun r' => if r' = 0 then some (-1, μ) else Y r r') Q := by
  rcases isRun_c l1 l2 hr.px hr.hg hr.wf with ⟨h, h'⟩ | ⟨i, j, hi, hj, e1, e2, h, g1, g2⟩
  · rw [h]
    rcases h' with h' | ⟨h1, h2⟩
    · rw [h']; exact oE_n rfl rfl q
    · refine oE_ry h1 ?_
      rw [h2]; exact oE_n rfl rfl q
  · rw [h]
    exact oE_ly rfl (oE_ry g1 (oE_ry g2 (k i j hi hj e1 e2)))
theorem oE_hog {l1 : Int32} {X Y : Int32 → Option (Int32 × (Nat → Nat → Int32))} (hr : Rel p σ μ) (q : Q σ μ) (k : ∀ i, i < p 41 → l1 = nI i → oE (X 1) (Y 1) Q) : oE (oB (f_X0_isHedgehog σ l1) fun r => if r = 0 then some (-1, σ) else X r) (oB (f_X7_isHog μ l1) fun r => if r = 0 then some (-1, μ) else Y r) Q := by
  rcases isHog_c l1 hr.px hr.hg hr.wf with ⟨h1, h2⟩ | ⟨i, hi, e, h1, h2⟩
  · exact oE_n h1 h2 q
  · exact oE_y h1 h2 (k i hi e)
theorem oE_peg {l1 : Int32} {X Y : Int32 → Option (Int32 × (Nat → Nat → Int32))} (hr : Rel p σ μ) (q : Q σ μ) (k : ∀ i, i < p 38 → l1 = nI i → oE (X 1) (Y 1) Q) : oE (oB (f_X0_isPeg σ l1) fun r => if r = 0 then some (-1, σ) else X r) (oB (f_X7_isPeg μ l1) fun r => if r = 0 then some (-1, μ) else Y r) Q := by
  rcases isPeg_c l1 hr.px hr.pm hr.wf with ⟨h1, h2⟩ | ⟨i, hi, e, h1, h2⟩
  · exact oE_n h1 h2 q
  · exact oE_y h1 h2 (k i hi e)
theorem oE_rag {l1 : Int32} {X Y : Int32 → Option (Int32 × (Nat → Nat → Int32))} (q : Q σ μ) (k : ∀ i, i < 4 → l1 = nI i → oE (X 1) (Y 1) Q) : oE (oB (f_X0_isRag l1) fun r => if r = 0 then some (-1, σ) else X r) (oB (f_X7_isRag l1) fun r => if r = 0 then some (-1, μ) else Y r) Q := by
  rcases isRag_c l1 with ⟨h1, h2⟩ | ⟨i, hi, e, h1, h2⟩
  · exact oE_n h1 h2 q
  · exact oE_y h1 h2 (k i hi e)
theorem oE_cell {l1 : Int32} {X Y : Int32 → Option (Int32 × (Nat → Nat → Int32))} (q : Q σ μ) (k : ∀ i, i < 98 → i % 10 < 8 → l1 = nI i → oE (X 1) (Y 1) Q) : oE (oB (f_X0_isCell l1) fun r => if r = 0 then some (-1, σ) else X r) (oB (f_X7_isCell l1) fun r => if r = 0 then some (-1, μ) else Y r) Q := by
  rcases isCell_c l1 with ⟨h1, h2⟩ | ⟨i, hi, hm, e, h1, h2⟩
  · exact oE_n h1 h2 q
  · exact oE_y h1 h2 (k i hi hm e)
theorem oE_part {l1 : Int32} {X Y : Int32 → Option (Int32 × (Nat → Nat → Int32))} (q : Q σ μ) (k : ∀ i, i < 2 → l1 = nI i → oE (X 1) (Y 1) Q) : oE (oB (f_X0_isPart l1) fun r => if r = 0 then some (-1, σ) else X r) (oB (f_X7_in (Int32.toInt64 l1) 0 1) fun r => if r = 0 then some (-1, μ) else Y r) Q := by
  rcases isPart_c l1 with ⟨h1, h2⟩ | ⟨i, hi, e, h1, h2⟩
  · exact oE_n h1 h2 q
  · exact oE_y h1 h2 (k i hi e)
theorem oE_arg {l1 : Int32} {lo hi : Int64} {a b : Nat} (ha : lo.toInt = a) (hb : hi.toInt = b) (hb2 : b < 2 ^ 31) {X Y : Int32 → Option (Int32 × (Nat → Nat → Int32))} (q : Q σ μ) (k : ∀ i, a ≤ i → i ≤ b → l1 = nI i → oE (X 1) (Y 1) Q) : oE (oB (f_X0_in (Int32.toInt64 l1) lo hi) fun r => if r = 0 then some (-1, σ) else X r) (oB (f_X7_in (Int32.toInt64 l1) lo hi) fun r => if r = 0 then some (-1, μ) else Y r) Q := by
  rw [inM_eq]
  rcases arg_c l1 ha hb hb2 with h | ⟨i, h1, h2, e, h⟩
  · exact oE_n h h q
  · exact oE_y h h (k i h1 h2 e)
theorem oW_iv {c : Prop} [Decidable c] {v v' : Int32} {A : (Nat → Nat → Int32) → Prop} (hx : c → oW x (fun r => r.1 = v ∧ A r.2)) (hy : ¬ c → oW y (fun r => r.1 = v' ∧ A r.2)) : oW (if c then x else y) (fun r => r.1 = (if c then v else v') ∧ A r.2) := by
  by_cases h : c
  · rw [if_pos h, if_pos h]; exact hx h
  · rw [if_neg h, if_neg h]; exact hy h
theorem oS_I {α ρ : Type} {A : α → Prop} {P : ρ → Prop} {x : Option ρ} (h : oW x P) : oW (oI x) (oS A P) := oW_I h
end OE
section OP1
variable {σ μ : Nat → Nat → Int32} {p : Nat → Nat}
theorem op_fault (h : Rel p σ μ) : ∃ v, f_X0_fault σ = some v ∧ f_X7_fault μ = some v := ⟨σ 0 14, rfl, by unfold f_X7_fault; rw [h.flt]⟩
theorem op_torn (h : Rel p σ μ) : ∃ v, f_X0_torn σ = some v ∧ f_X7_torn μ = some v := ⟨σ 0 22, rfl, by unfold f_X7_torn; rw [h.trn]⟩
theorem op_slug (h : Rel p σ μ) (l1 : Int32) : ∃ v, f_X0_slug σ l1 = some v ∧ f_X7_slug μ l1 = some v := by
  have hns := h.wf.ns
  unfold f_X0_slug f_X7_slug
  rw [h.px.slugs, h.pm.c39, inM_eq]
  rcases arg_n l1 (n := p 39) (by omega) with e | ⟨i, hi, rfl, e⟩
  · rw [e]; exact ⟨-1, rfl, rfl⟩
  · rw [e, n_14, nI_add, nI_clamp (by omega), nI_clamp (by omega), h.px.slug hi, h.pm.slug0 hi, oB_s, oB_s, if_neg (by decide), if_neg (by decide), inb_t (by omega) (by decide), inb_t (by omega) (by decide)]
    exact ⟨_, rfl, rfl⟩
theorem op_run (h : Rel p σ μ) (l1 l2 l3 : Int32) : oE (f_X0_run σ l1 l2 l3) (f_X7_run μ l1 l2 l3) (Rel p) := by
  unfold f_X0_run f_X7_run
  refine oE_run h h ?_
  rintro i j hi hj rfl rfl
  refine oE_arg (a := 0) (b := 4) rfl rfl (by decide) h ?_
  rintro l _ hl rfl
  refine oE_of (A := FrR σ) (B := FrM μ) (if nI l = 0 then eN (run p i j 0).1 else if nI l = 1 then eN (winr p (run p i j 0)) else if nI l = 2 then nI (run p i j 0).2.1 else if nI l = 3 then nI (run p i j 0).2.2.1 else b2i (run p i j 0).2.2.2.1) (x_runW h.px h.wf hi hj (fun s hs hw => ?_)) (oW_B (m_win0 h.pm h.wf hi hj) (fun r hr => ?_)) (fun s s' hs hs' => h.fr hs.fx hs'.fm)
  · rw [hs.2.1, hs.2.2.1, hs.2.2.2.1, hs.2.2.2.2.1]
    refine oW_iv (fun _ => oW_some ⟨rfl, hs.1⟩) (fun _ => oW_iv (fun _ => oW_Be hw (oW_some ⟨rfl, hs.1⟩)) (fun _ => oW_iv (fun _ => oW_some ⟨rfl, hs.1⟩) (fun _ => oW_iv (fun _ => oW_some ⟨rfl, hs.1⟩) (fun _ => ?_))))
    cases (run p i j 0).2.2.2.1
    · exact oW_t rfl (oW_some ⟨rfl, hs.1⟩)
    · exact oW_f (by decide) (oW_some ⟨rfl, hs.1⟩)
  · have hs := hr.2
    rw [hs.2.1, hs.2.2.1, hs.2.2.2.1, hs.2.2.2.2.1, hr.1]
    refine oW_iv (fun _ => oW_some ⟨rfl, hs.1⟩) (fun _ => oW_iv (fun _ => oW_some ⟨rfl, hs.1⟩) (fun _ => oW_iv (fun _ => oW_some ⟨rfl, hs.1⟩) (fun _ => oW_iv (fun _ => oW_some ⟨rfl, hs.1⟩) (fun _ => ?_))))
    cases (run p i j 0).2.2.2.1
    · exact oW_t rfl (oW_some ⟨rfl, hs.1⟩)
    · exact oW_f (by decide) (oW_some ⟨rfl, hs.1⟩)
theorem op_wins (h : Rel p σ μ) (l1 : Int32) : oE (f_X0_wins σ l1) (f_X7_wins μ l1) (Rel p) := by
  unfold f_X0_wins f_X7_wins
  refine oE_rag h ?_
  rintro k hk rfl
  exact oE_of (A := FrR σ) (B := FrM μ) (nI (msk (isW p k) (p 40))) (oW_B (x_won h.px h.wf hk) (fun r hr => oW_some hr)) (oW_B (m_wins0 h.pm h.wf hk) (fun r hr => oW_some hr)) (fun s s' hs hs' => h.fr hs.fx hs'.fm)
end OP1
