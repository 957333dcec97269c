/-! ===== a number put into a page; pages changed ===== -/
set_option maxRecDepth 100000
def pu (p : Nat → Nat) (i n : Nat) : Nat → Nat := fun j => if j = i then n else p j
theorem pu_s (p : Nat → Nat) (i n : Nat) : pu p i n i = n := if_pos rfl
theorem pu_n (p : Nat → Nat) {i n j : Nat} (h : j ≠ i) : pu p i n j = p j := if_neg h
def ax (i : Nat) : Nat := if i < 7 then 1 else if i < 14 then 2 else if i < 18 then 3 else if i < 26 then 4 else if i < 38 then 5 else 0
def ay (i : Nat) : Nat := if i < 7 then i else if i < 14 then i - 7 else if i < 18 then i - 14 else if i < 22 then 2 * (i - 18) else if i < 26 then 2 * (i - 22) + 1 else if i < 32 then 2 * (i - 26) else if i < 38 then 2 * (i - 32) + 1 else if i = 38 then 0 else if i = 39 then 3 else if i = 40 then 7 else 5
theorem axy {i j : Nat} (hi : i < 42) (hj : j < 42) (h : j ≠ i) : ¬ (ax j = ax i ∧ ay j = ay i) := by
  have : ∀ i j : Fin 42, j ≠ i → ¬ (ax j.val = ax i.val ∧ ay j.val = ay i.val) := by decide +kernel
  exact this ⟨i, hi⟩ ⟨j, hj⟩ (fun q => h (Fin.mk.inj q))
theorem ax_1 {i : Nat} (h : i < 7) : ax i = 1 ∧ ay i = i := by
  have : ∀ i : Fin 7, ax i.val = 1 ∧ ay i.val = i.val := by decide
  exact this ⟨i, h⟩
theorem ax_2 {i : Nat} (h : i < 7) : ax (7 + i) = 2 ∧ ay (7 + i) = i := by
  have : ∀ i : Fin 7, ax (7 + i.val) = 2 ∧ ay (7 + i.val) = i.val := by decide
  exact this ⟨i, h⟩
theorem ax_3 {i : Nat} (h : i < 4) : ax (14 + i) = 3 ∧ ay (14 + i) = i := by
  have : ∀ i : Fin 4, ax (14 + i.val) = 3 ∧ ay (14 + i.val) = i.val := by decide
  exact this ⟨i, h⟩
theorem ax_4 {i : Nat} (h : i < 4) : ax (18 + i) = 4 ∧ ay (18 + i) = 2 * i := by
  have : ∀ i : Fin 4, ax (18 + i.val) = 4 ∧ ay (18 + i.val) = 2 * i.val := by decide
  exact this ⟨i, h⟩
theorem ax_5 {i : Nat} (h : i < 4) : ax (22 + i) = 4 ∧ ay (22 + i) = 2 * i + 1 := by
  have : ∀ i : Fin 4, ax (22 + i.val) = 4 ∧ ay (22 + i.val) = 2 * i.val + 1 := by decide
  exact this ⟨i, h⟩
theorem ax_6 {i : Nat} (h : i < 6) : ax (26 + i) = 5 ∧ ay (26 + i) = 2 * i := by
  have : ∀ i : Fin 6, ax (26 + i.val) = 5 ∧ ay (26 + i.val) = 2 * i.val := by decide
  exact this ⟨i, h⟩
theorem ax_7 {i : Nat} (h : i < 6) : ax (32 + i) = 5 ∧ ay (32 + i) = 2 * i + 1 := by
  have : ∀ i : Fin 6, ax (32 + i.val) = 5 ∧ ay (32 + i.val) = 2 * i.val + 1 := by decide
  exact this ⟨i, h⟩
def lv (p : Nat → Nat) (j : Nat) : Prop := (j < 7 ∧ j < p 38) ∨ (7 ≤ j ∧ j < 14 ∧ j < 7 + p 38) ∨ (14 ≤ j ∧ j < 18 ∧ j < 14 + p 39) ∨ (18 ≤ j ∧ j < 22 ∧ j < 18 + p 41) ∨ (22 ≤ j ∧ j < 26 ∧ j < 22 + p 41) ∨ (26 ≤ j ∧ j < 32 ∧ j < 26 + p 40) ∨ (32 ≤ j ∧ j < 38 ∧ j < 32 + p 40) ∨ 38 ≤ j
def PX (σ : Nat → Nat → Int32) (t : Nat) (p : Nat → Nat) (L : Nat → Prop) : Prop := ∀ i, i < 42 → L i → σ (sb t + ax i) (ay i) = nI (p i)
def MX (μ : Nat → Nat → Int32) (o : Nat) (p : Nat → Nat) (L : Nat → Prop) : Prop := ∀ i, i < 41 → L i → μ 1 (o + i) = nI (p i)
section PU
variable {σ σ' μ μ' : Nat → Nat → Int32} {t o : Nat} {p : Nat → Nat} {L L' : Nat → Prop}
theorem PgX.px (h : PgX σ t p) (w : WF p) : PX σ t p (lv p) := by
  have h1 := w.np; have h2 := w.ns; have h3 := w.nu; have h4 := w.nh
  intro i hi hl
  rcases hl with q | q | q | q | q | q | q | q
  · rw [(ax_1 q.1).1, (ax_1 q.1).2]; exact h.peg q.2
  · obtain ⟨j, rfl⟩ : ∃ j, i = 7 + j := ⟨i - 7, by omega⟩
    rw [(ax_2 (i := j) (by omega)).1, (ax_2 (i := j) (by omega)).2]; exact h.rag (by omega)
  · obtain ⟨j, rfl⟩ : ∃ j, i = 14 + j := ⟨i - 14, by omega⟩
    rw [(ax_3 (i := j) (by omega)).1, (ax_3 (i := j) (by omega)).2]; exact h.slug (by omega)
  · obtain ⟨j, rfl⟩ : ∃ j, i = 18 + j := ⟨i - 18, by omega⟩
    rw [(ax_4 (i := j) (by omega)).1, (ax_4 (i := j) (by omega)).2]; exact h.kind (by omega)
  · obtain ⟨j, rfl⟩ : ∃ j, i = 22 + j := ⟨i - 22, by omega⟩
    rw [(ax_5 (i := j) (by omega)).1, (ax_5 (i := j) (by omega)).2]; exact h.speed (by omega)
  · obtain ⟨j, rfl⟩ : ∃ j, i = 26 + j := ⟨i - 26, by omega⟩
    rw [(ax_6 (i := j) (by omega)).1, (ax_6 (i := j) (by omega)).2]; exact h.who (by omega)
  · obtain ⟨j, rfl⟩ : ∃ j, i = 32 + j := ⟨i - 32, by omega⟩
    rw [(ax_7 (i := j) (by omega)).1, (ax_7 (i := j) (by omega)).2]; exact h.frm (by omega)
  · have : i = 38 ∨ i = 39 ∨ i = 40 ∨ i = 41 := by omega
    rcases this with rfl | rfl | rfl | rfl
    · exact h.pegs
    · exact h.slugs
    · exact h.suits
    · exact h.hogs
theorem PX.pg (h : PX σ t p L) (w : WF p) (hL : ∀ j, j < 42 → lv p j → L j) : PgX σ t p := by
  have h1 := w.np; have h2 := w.ns; have h3 := w.nu; have h4 := w.nh
  have k : ∀ i, i < 42 → lv p i → σ (sb t + ax i) (ay i) = nI (p i) := fun i hi hl => h i hi (hL i hi hl)
  refine ⟨fun i hi => ?_, fun i hi => ?_, fun i hi => ?_, fun i hi => ?_, fun i hi => ?_, fun i hi => ?_, fun i hi => ?_, ?_, ?_, ?_, ?_⟩
  · have := k i (by omega) (by unfold lv; omega)
    rwa [(ax_1 (i := i) (by omega)).1, (ax_1 (i := i) (by omega)).2] at this
  · have := k (7 + i) (by omega) (by unfold lv; omega)
    rwa [(ax_2 (i := i) (by omega)).1, (ax_2 (i := i) (by omega)).2] at this
  · have := k (14 + i) (by omega) (by unfold lv; omega)
    rwa [(ax_3 (i := i) (by omega)).1, (ax_3 (i := i) (by omega)).2] at this
  · have := k (18 + i) (by omega) (by unfold lv; omega)
    rwa [(ax_4 (i := i) (by omega)).1, (ax_4 (i := i) (by omega)).2] at this
  · have := k (22 + i) (by omega) (by unfold lv; omega)
    rwa [(ax_5 (i := i) (by omega)).1, (ax_5 (i := i) (by omega)).2] at this
  · have := k (26 + i) (by omega) (by unfold lv; omega)
    rwa [(ax_6 (i := i) (by omega)).1, (ax_6 (i := i) (by omega)).2] at this
  · have := k (32 + i) (by omega) (by unfold lv; omega)
    rwa [(ax_7 (i := i) (by omega)).1, (ax_7 (i := i) (by omega)).2] at this
  · exact k 38 (by omega) (by unfold lv; omega)
  · exact k 39 (by omega) (by unfold lv; omega)
  · exact k 40 (by omega) (by unfold lv; omega)
  · exact k 41 (by omega) (by unfold lv; omega)
theorem PX.put (h : PX σ t p L) {i n k j : Nat} (hi : i < 42) (hk : k = sb t + ax i) (hj : j = ay i) : PX (upd2 σ k j (nI n)) t (pu p i n) (fun m => m = i ∨ L m) := by
  subst hk hj
  intro m hm hl
  by_cases e : m = i
  · subst e
    rw [u2_s, pu_s]
  · rw [pu_n p e]
    have e2 := axy hi hm e
    by_cases q : ax m = ax i
    · rw [q, u2_j _ _ _ (fun q2 => e2 ⟨q, q2⟩), ← q]
      exact h m hm (hl.resolve_left e)
    · rw [u2_k _ _ _ (by omega)]
      exact h m hm (hl.resolve_left e)
theorem PX.same (h : PX σ t p L) (e : ∀ j, j < 6 → σ' (sb t + j) = σ (sb t + j)) : PX σ' t p L := by
  intro m hm hl
  have : ax m < 6 := by
    have : ∀ m : Fin 42, ax m.val < 6 := by decide
    exact this ⟨m, hm⟩
  rw [e _ this]
  exact h m hm hl
theorem PgM.mx (h : PgM μ o p) (w : WF p) : MX μ o p (lv p) := by
  have h1 := w.np; have h2 := w.ns; have h3 := w.nu; have h4 := w.nh
  intro i hi hl
  rcases hl with q | q | q | q | q | q | q | q
  · exact h.peg q.2
  · obtain ⟨j, rfl⟩ : ∃ j, i = 7 + j := ⟨i - 7, by omega⟩
    exact h.rag (by omega)
  · obtain ⟨j, rfl⟩ : ∃ j, i = 14 + j := ⟨i - 14, by omega⟩
    exact h.slug (by omega)
  · obtain ⟨j, rfl⟩ : ∃ j, i = 18 + j := ⟨i - 18, by omega⟩
    exact h.kind (by omega)
  · obtain ⟨j, rfl⟩ : ∃ j, i = 22 + j := ⟨i - 22, by omega⟩
    exact h.speed (by omega)
  · obtain ⟨j, rfl⟩ : ∃ j, i = 26 + j := ⟨i - 26, by omega⟩
    exact h.who (by omega)
  · obtain ⟨j, rfl⟩ : ∃ j, i = 32 + j := ⟨i - 32, by omega⟩
    exact h.frm (by omega)
  · have : i = 38 ∨ i = 39 ∨ i = 40 := by omega
    rcases this with rfl | rfl | rfl
    · exact h.pegs
    · exact h.slugs
    · exact h.suits
theorem MX.pg (h : MX μ o p L) (w : WF p) (hL : ∀ j, j < 41 → lv p j → L j) : PgM μ o p := by
  have h1 := w.np; have h2 := w.ns; have h3 := w.nu; have h4 := w.nh
  have k : ∀ i, i < 41 → lv p i → μ 1 (o + i) = nI (p i) := fun i hi hl => h i hi (hL i hi hl)
  exact ⟨fun i hi => k i (by omega) (by unfold lv; omega), fun i hi => k (7 + i) (by omega) (by unfold lv; omega), fun i hi => k (14 + i) (by omega) (by unfold lv; omega), fun i hi => k (18 + i) (by omega) (by unfold lv; omega), fun i hi => k (22 + i) (by omega) (by unfold lv; omega), fun i hi => k (26 + i) (by omega) (by unfold lv; omega), fun i hi => k (32 + i) (by omega) (by unfold lv; omega), k 38 (by omega) (by unfold lv; omega), k 39 (by omega) (by unfold lv; omega), k 40 (by omega) (by unfold lv; omega)⟩
theorem MX.put (h : MX μ o p L) {i n j : Nat} (hj : j = o + i) : MX (upd2 μ 1 j (nI n)) o (pu p i n) (fun m => m = i ∨ L m) := by
  subst hj
  intro m hm hl
  by_cases e : m = i
  · subst e
    rw [u2_s, pu_s]
  · rw [pu_n p e, u2_j _ _ _ (by omega)]
    exact h m hm (hl.resolve_left e)
end PU
/-! the pages that come of it keep in range -/
section WU
variable {p q : Nat → Nat}
theorem pegAt_none {c : Nat} (h : pegAt p c = none) {i : Nat} (hi : i < p 38) : p i ≠ c := fstI_none h i hi
theorem slugAt_none {c : Nat} (h : slugAt p c = none) {i : Nat} (hi : i < p 39) : p (14 + i) ≠ c := fstI_none (f := fun j => p (14 + j)) h i hi
theorem free_iff {c : Nat} : freeAt p c = true ↔ pegAt p c = none ∧ slugAt p c = none := by
  unfold freeAt
  cases pegAt p c <;> cases slugAt p c <;> simp
/-- pegs' cells changed alone -/
theorem WF.pegs' (w : WF p) (e : ∀ j, 7 ≤ j → q j = p j) (h1 : ∀ i, i < p 38 → q i < 98) (h2 : ∀ i, i < p 38 → q i % 10 < 8) (h3 : ∀ i j, i < p 38 → j < p 38 → q i = q j → i = j) (h4 : ∀ i j, i < p 38 → j < p 39 → q i ≠ p (14 + j)) : WF q := by
  have e38 := e 38 (by decide); have e39 := e 39 (by decide); have e40 := e 40 (by decide); have e41 := e 41 (by decide)
  unfold WF
  rw [e38, e39, e40, e41]
  exact ⟨w.np, w.ns, w.nu, w.nh, h1, fun i hi => by rw [e _ (by omega)]; exact w.rag hi, fun i hi => by rw [e _ (by omega)]; exact w.slug hi, fun i hi => by rw [e _ (by omega)]; exact w.kind hi, fun i hi => by rw [e _ (by omega)]; exact w.speed hi, fun i hi => by rw [e _ (by omega)]; exact w.who hi, fun i hi => by rw [e _ (by omega)]; exact w.frm hi, h2, h3, fun i j hi hj => by rw [e (14 + j) (by omega)]; exact h4 i j hi hj⟩
theorem WF.shift (w : WF p) {i c : Nat} (hi : i < p 38) (hc : c < 98) (hm : c % 10 < 8) (hp : ∀ j, j < p 38 → p j = c → j = i) (hs : ∀ j, j < p 39 → p (14 + j) ≠ c) : WF (pu p i c) := by
  have hnp := w.np
  refine w.pegs' (fun j hj => pu_n p (by omega)) (fun j hj => ?_) (fun j hj => ?_) (fun a b ha hb e => ?_) (fun a b ha hb => ?_)
  · unfold pu; split
    · exact hc
    · exact w.peg hj
  · unfold pu; split
    · exact hm
    · exact w.cell hj
  · unfold pu at e
    by_cases q1 : a = i
    · rw [if_pos q1] at e
      by_cases q2 : b = i
      · omega
      · rw [if_neg q2] at e
        have := hp b hb e.symm
        omega
    · rw [if_neg q1] at e
      by_cases q2 : b = i
      · rw [if_pos q2] at e
        have := hp a ha e
        omega
      · rw [if_neg q2] at e
        exact w.inj ha hb e
  · unfold pu; split
    · exact (hs b hb).symm
    · exact w.apart ha hb
/-- one of the numbers that bind nothing -/
theorem WF.plain (w : WF p) {i n : Nat} (h : (7 ≤ i ∧ i < 14 ∧ n < 4) ∨ (18 ≤ i ∧ i < 22 ∧ n < 4) ∨ (22 ≤ i ∧ i < 26 ∧ n ≤ 9)) : WF (pu p i n) := by
  have a1 := w.np; have a2 := w.ns; have a3 := w.nu; have a4 := w.nh
  have e38 : pu p i n 38 = p 38 := pu_n p (by omega)
  have e39 : pu p i n 39 = p 39 := pu_n p (by omega)
  have e40 : pu p i n 40 = p 40 := pu_n p (by omega)
  have e41 : pu p i n 41 = p 41 := pu_n p (by omega)
  unfold WF
  rw [e38, e39, e40, e41]
  refine ⟨a1, a2, a3, a4, fun j hj => ?_, fun j hj => ?_, fun j hj => ?_, fun j hj => ?_, fun j hj => ?_, fun j hj => ?_, fun j hj => ?_, fun j hj => ?_, fun a b ha hb e => ?_, fun a b ha hb => ?_⟩
  · rw [pu_n p (by omega)]; exact w.peg hj
  · have := w.rag hj
    unfold pu; split <;> omega
  · rw [pu_n p (by omega)]; exact w.slug hj
  · have := w.kind hj
    unfold pu; split <;> omega
  · have := w.speed hj
    unfold pu; split <;> omega
  · rw [pu_n p (by omega)]; exact w.who hj
  · rw [pu_n p (by omega)]; exact w.frm hj
  · rw [pu_n p (by omega)]; exact w.cell hj
  · rw [pu_n p (by omega), pu_n p (by omega)] at e; exact w.inj ha hb e
  · rw [pu_n p (by omega), pu_n p (by omega)]; exact w.apart ha hb
/-- fewer slugs, fewer suits -/
theorem WF.fewer (w : WF p) {i n : Nat} (h : (i = 39 ∧ n ≤ p 39) ∨ (i = 40 ∧ n ≤ p 40)) : WF (pu p i n) := by
  have a1 := w.np; have a2 := w.ns; have a3 := w.nu; have a4 := w.nh
  have e38 : pu p i n 38 = p 38 := pu_n p (by omega)
  have e41 : pu p i n 41 = p 41 := pu_n p (by omega)
  have e39 : pu p i n 39 ≤ p 39 := by unfold pu; split <;> omega
  have e40 : pu p i n 40 ≤ p 40 := by unfold pu; split <;> omega
  unfold WF
  rw [e38, e41]
  refine ⟨a1, by omega, by omega, a4, fun j hj => ?_, fun j hj => ?_, fun j hj => ?_, fun j hj => ?_, fun j hj => ?_, fun j hj => ?_, fun j hj => ?_, fun j hj => ?_, fun a b ha hb e => ?_, fun a b ha hb => ?_⟩
  · rw [pu_n p (by omega)]; exact w.peg hj
  · rw [pu_n p (by omega)]; exact w.rag hj
  · rw [pu_n p (by omega)]; exact w.slug (by omega)
  · rw [pu_n p (by omega)]; exact w.kind hj
  · rw [pu_n p (by omega)]; exact w.speed hj
  · rw [pu_n p (by omega)]; exact w.who (by omega)
  · rw [pu_n p (by omega)]; exact w.frm (by omega)
  · rw [pu_n p (by omega)]; exact w.cell hj
  · rw [pu_n p (by omega), pu_n p (by omega)] at e; exact w.inj ha hb e
  · rw [pu_n p (by omega), pu_n p (by omega)]; exact w.apart ha (by omega)
def pDrive (p : Nat → Nat) (c k : Nat) : Nat → Nat := pu (pu (pu p (p 38) c) (7 + p 38) k) 38 (p 38 + 1)
def pLay (p : Nat → Nat) (c : Nat) : Nat → Nat := pu (pu p (14 + p 39) c) 39 (p 39 + 1)
def pSue (p : Nat → Nat) (h c : Nat) : Nat → Nat := pu (pu (pu p (26 + p 40) h) (32 + p 40) c) 40 (p 40 + 1)
theorem WF.drive (w : WF p) {c k : Nat} (hc : c < 98) (hm : c % 10 < 8) (hf : freeAt p c = true) (hk : k < 4) (h7 : p 38 < 7) : WF (pDrive p c k) := by
  obtain ⟨f1, f2⟩ := free_iff.mp hf
  have a1 := w.np; have a2 := w.ns; have a3 := w.nu; have a4 := w.nh
  have o : ∀ j, j ≠ p 38 → j ≠ 7 + p 38 → j ≠ 38 → pDrive p c k j = p j := fun j h1 h2 h3 => by unfold pDrive; rw [pu_n _ h3, pu_n _ h2, pu_n _ h1]
  have e38 : pDrive p c k 38 = p 38 + 1 := pu_s _ _ _
  have eP : pDrive p c k (p 38) = c := by unfold pDrive; rw [pu_n _ (by omega), pu_n _ (by omega), pu_s]
  have eR : pDrive p c k (7 + p 38) = k := by unfold pDrive; rw [pu_n _ (by omega), pu_s]
  unfold WF
  rw [e38, o 39 (by omega) (by omega) (by omega), o 40 (by omega) (by omega) (by omega), o 41 (by omega) (by omega) (by omega)]
  have pegc : ∀ j, j < p 38 + 1 → j ≠ p 38 → j < p 38 := fun j h1 h2 => by omega
  refine ⟨by omega, a2, a3, a4, fun j hj => ?_, fun j hj => ?_, fun j hj => ?_, fun j hj => ?_, fun j hj => ?_, fun j hj => ?_, fun j hj => ?_, fun j hj => ?_, fun a b ha hb e => ?_, fun a b ha hb => ?_⟩
  · by_cases q : j = p 38
    · rw [q, eP]; exact hc
    · rw [o _ q (by omega) (by omega)]; exact w.peg (pegc j hj q)
  · by_cases q : j = p 38
    · rw [q, eR]; exact hk
    · rw [o _ (by omega) (by omega) (by omega)]; exact w.rag (pegc j hj q)
  · rw [o _ (by omega) (by omega) (by omega)]; exact w.slug hj
  · rw [o _ (by omega) (by omega) (by omega)]; exact w.kind hj
  · rw [o _ (by omega) (by omega) (by omega)]; exact w.speed hj
  · rw [o _ (by omega) (by omega) (by omega)]; exact w.who hj
  · rw [o _ (by omega) (by omega) (by omega)]; exact w.frm hj
  · by_cases q : j = p 38
    · rw [q, eP]; exact hm
    · rw [o _ q (by omega) (by omega)]; exact w.cell (pegc j hj q)
  · by_cases q1 : a = p 38
    · by_cases q2 : b = p 38
      · omega
      · rw [q1, eP, o b q2 (by omega) (by omega)] at e
        exact absurd e.symm (pegAt_none f1 (pegc b hb q2))
    · by_cases q2 : b = p 38
      · rw [q2, eP, o a q1 (by omega) (by omega)] at e
        exact absurd e (pegAt_none f1 (pegc a ha q1))
      · rw [o a q1 (by omega) (by omega), o b q2 (by omega) (by omega)] at e
        exact w.inj (pegc a ha q1) (pegc b hb q2) e
  · rw [o (14 + b) (by omega) (by omega) (by omega)]
    by_cases q1 : a = p 38
    · rw [q1, eP]
      exact (slugAt_none f2 hb).symm
    · rw [o a q1 (by omega) (by omega)]
      exact w.apart (pegc a ha q1) hb
theorem WF.lay (w : WF p) {c : Nat} (hc : c < 98) (hf : freeAt p c = true) (h4 : p 39 < 4) : WF (pLay p c) := by
  obtain ⟨f1, f2⟩ := free_iff.mp hf
  have a1 := w.np; have a2 := w.ns; have a3 := w.nu; have a4 := w.nh
  have o : ∀ j, j ≠ 14 + p 39 → j ≠ 39 → pLay p c j = p j := fun j h1 h2 => by unfold pLay; rw [pu_n _ h2, pu_n _ h1]
  have e39 : pLay p c 39 = p 39 + 1 := pu_s _ _ _
  have eS : pLay p c (14 + p 39) = c := by unfold pLay; rw [pu_n _ (by omega), pu_s]
  unfold WF
  rw [e39, o 38 (by omega) (by omega), o 40 (by omega) (by omega), o 41 (by omega) (by omega)]
  refine ⟨a1, by omega, a3, a4, fun j hj => ?_, fun j hj => ?_, fun j hj => ?_, fun j hj => ?_, fun j hj => ?_, fun j hj => ?_, fun j hj => ?_, fun j hj => ?_, fun a b ha hb e => ?_, fun a b ha hb => ?_⟩
  · rw [o _ (by omega) (by omega)]; exact w.peg hj
  · rw [o _ (by omega) (by omega)]; exact w.rag hj
  · by_cases q : j = p 39
    · rw [q, eS]; exact hc
    · rw [o _ (by omega) (by omega)]; exact w.slug (by omega)
  · rw [o _ (by omega) (by omega)]; exact w.kind hj
  · rw [o _ (by omega) (by omega)]; exact w.speed hj
  · rw [o _ (by omega) (by omega)]; exact w.who hj
  · rw [o _ (by omega) (by omega)]; exact w.frm hj
  · rw [o _ (by omega) (by omega)]; exact w.cell hj
  · rw [o _ (by omega) (by omega), o _ (by omega) (by omega)] at e; exact w.inj ha hb e
  · rw [o a (by omega) (by omega)]
    by_cases q : b = p 39
    · rw [q, eS]; exact pegAt_none f1 ha
    · rw [o _ (by omega) (by omega)]; exact w.apart ha (by omega)
theorem WF.sue (w : WF p) {h c : Nat} (hh : h < p 41) (hc : c < 8) (h6 : p 40 < 6) : WF (pSue p h c) := by
  have a1 := w.np; have a2 := w.ns; have a3 := w.nu; have a4 := w.nh
  have o : ∀ j, j ≠ 26 + p 40 → j ≠ 32 + p 40 → j ≠ 40 → pSue p h c j = p j := fun j h1 h2 h3 => by unfold pSue; rw [pu_n _ h3, pu_n _ h2, pu_n _ h1]
  have e40 : pSue p h c 40 = p 40 + 1 := pu_s _ _ _
  have eW : pSue p h c (26 + p 40) = h := by unfold pSue; rw [pu_n _ (by omega), pu_n _ (by omega), pu_s]
  have eF : pSue p h c (32 + p 40) = c := by unfold pSue; rw [pu_n _ (by omega), pu_s]
  unfold WF
  rw [e40, o 38 (by omega) (by omega) (by omega), o 39 (by omega) (by omega) (by omega), o 41 (by omega) (by omega) (by omega)]
  refine ⟨a1, a2, by omega, a4, fun j hj => ?_, fun j hj => ?_, fun j hj => ?_, fun j hj => ?_, fun j hj => ?_, fun j hj => ?_, fun j hj => ?_, fun j hj => ?_, fun a b ha hb e => ?_, fun a b ha hb => ?_⟩
  · rw [o _ (by omega) (by omega) (by omega)]; exact w.peg hj
  · rw [o _ (by omega) (by omega) (by omega)]; exact w.rag hj
  · rw [o _ (by omega) (by omega) (by omega)]; exact w.slug hj
  · rw [o _ (by omega) (by omega) (by omega)]; exact w.kind hj
  · rw [o _ (by omega) (by omega) (by omega)]; exact w.speed hj
  · by_cases q : j = p 40
    · rw [q, eW]; exact hh
    · rw [o _ (by omega) (by omega) (by omega)]; exact w.who (by omega)
  · by_cases q : j = p 40
    · rw [q, eF]; exact hc
    · rw [o _ (by omega) (by omega) (by omega)]; exact w.frm (by omega)
  · rw [o _ (by omega) (by omega) (by omega)]; exact w.cell hj
  · rw [o _ (by omega) (by omega) (by omega), o _ (by omega) (by omega) (by omega)] at e; exact w.inj ha hb e
  · rw [o _ (by omega) (by omega) (by omega), o _ (by omega) (by omega) (by omega)]; exact w.apart ha hb
end WU
