/-! ===== pages: a slope as the class has it (PgX), as the reference has it (PgM); p: numbers ===== -/
set_option maxRecDepth 100000
/-- pegs 0.., rags 7.., slugs 14.., kinds 18.., speeds 22.., who 26.., from 32.., pegs 38, slugs 39, suits 40, hedgehogs 41 -/
def PgX (σ : Nat → Nat → Int32) (t : Nat) (p : Nat → Nat) : Prop :=
  (∀ i, i < p 38 → σ (sb t + 1) i = nI (p i)) ∧ (∀ i, i < p 38 → σ (sb t + 2) i = nI (p (7 + i))) ∧ (∀ i, i < p 39 → σ (sb t + 3) i = nI (p (14 + i))) ∧ (∀ i, i < p 41 → σ (sb t + 4) (2 * i) = nI (p (18 + i))) ∧ (∀ i, i < p 41 → σ (sb t + 4) (2 * i + 1) = nI (p (22 + i))) ∧ (∀ i, i < p 40 → σ (sb t + 5) (2 * i) = nI (p (26 + i))) ∧ (∀ i, i < p 40 → σ (sb t + 5) (2 * i + 1) = nI (p (32 + i))) ∧ σ (sb t) 0 = nI (p 38) ∧ σ (sb t) 3 = nI (p 39) ∧ σ (sb t) 7 = nI (p 40) ∧ σ (sb t) 5 = nI (p 41)
def PgM (μ : Nat → Nat → Int32) (o : Nat) (p : Nat → Nat) : Prop :=
  (∀ i, i < p 38 → μ 1 (o + i) = nI (p i)) ∧ (∀ i, i < p 38 → μ 1 (o + (7 + i)) = nI (p (7 + i))) ∧ (∀ i, i < p 39 → μ 1 (o + (14 + i)) = nI (p (14 + i))) ∧ (∀ i, i < p 41 → μ 1 (o + (18 + i)) = nI (p (18 + i))) ∧ (∀ i, i < p 41 → μ 1 (o + (22 + i)) = nI (p (22 + i))) ∧ (∀ i, i < p 40 → μ 1 (o + (26 + i)) = nI (p (26 + i))) ∧ (∀ i, i < p 40 → μ 1 (o + (32 + i)) = nI (p (32 + i))) ∧ μ 1 (o + 38) = nI (p 38) ∧ μ 1 (o + 39) = nI (p 39) ∧ μ 1 (o + 40) = nI (p 40)
/-- a page's numbers are in range; its pegs' cells are cells, apart, and none is a slug's -/
def WF (p : Nat → Nat) : Prop :=
  p 38 ≤ 7 ∧ p 39 ≤ 4 ∧ p 40 ≤ 6 ∧ p 41 ≤ 4 ∧ (∀ i, i < p 38 → p i < 98) ∧ (∀ i, i < p 38 → p (7 + i) < 4) ∧ (∀ i, i < p 39 → p (14 + i) < 98) ∧ (∀ i, i < p 41 → p (18 + i) < 4) ∧ (∀ i, i < p 41 → p (22 + i) ≤ 9) ∧ (∀ i, i < p 40 → p (26 + i) < p 41) ∧ (∀ i, i < p 40 → p (32 + i) < 8) ∧ (∀ i, i < p 38 → p i % 10 < 8) ∧ (∀ i j, i < p 38 → j < p 38 → p i = p j → i = j) ∧ (∀ i j, i < p 38 → j < p 39 → p i ≠ p (14 + j))
section PG
variable {σ σ' μ μ' : Nat → Nat → Int32} {t o : Nat} {p : Nat → Nat}
theorem PgX.peg (h : PgX σ t p) {i : Nat} (hi : i < p 38) : σ (sb t + 1) i = nI (p i) := h.1 i hi
theorem PgX.rag (h : PgX σ t p) {i : Nat} (hi : i < p 38) : σ (sb t + 2) i = nI (p (7 + i)) := h.2.1 i hi
theorem PgX.slug (h : PgX σ t p) {i : Nat} (hi : i < p 39) : σ (sb t + 3) i = nI (p (14 + i)) := h.2.2.1 i hi
theorem PgX.kind (h : PgX σ t p) {i : Nat} (hi : i < p 41) : σ (sb t + 4) (2 * i) = nI (p (18 + i)) := h.2.2.2.1 i hi
theorem PgX.speed (h : PgX σ t p) {i : Nat} (hi : i < p 41) : σ (sb t + 4) (2 * i + 1) = nI (p (22 + i)) := h.2.2.2.2.1 i hi
theorem PgX.who (h : PgX σ t p) {i : Nat} (hi : i < p 40) : σ (sb t + 5) (2 * i) = nI (p (26 + i)) := h.2.2.2.2.2.1 i hi
theorem PgX.frm (h : PgX σ t p) {i : Nat} (hi : i < p 40) : σ (sb t + 5) (2 * i + 1) = nI (p (32 + i)) := h.2.2.2.2.2.2.1 i hi
theorem PgX.pegs (h : PgX σ t p) : σ (sb t) 0 = nI (p 38) := h.2.2.2.2.2.2.2.1
theorem PgX.slugs (h : PgX σ t p) : σ (sb t) 3 = nI (p 39) := h.2.2.2.2.2.2.2.2.1
theorem PgX.suits (h : PgX σ t p) : σ (sb t) 7 = nI (p 40) := h.2.2.2.2.2.2.2.2.2.1
theorem PgX.hogs (h : PgX σ t p) : σ (sb t) 5 = nI (p 41) := h.2.2.2.2.2.2.2.2.2.2
theorem PgM.peg (h : PgM μ o p) {i : Nat} (hi : i < p 38) : μ 1 (o + i) = nI (p i) := h.1 i hi
theorem PgM.rag (h : PgM μ o p) {i : Nat} (hi : i < p 38) : μ 1 (o + (7 + i)) = nI (p (7 + i)) := h.2.1 i hi
theorem PgM.slug (h : PgM μ o p) {i : Nat} (hi : i < p 39) : μ 1 (o + (14 + i)) = nI (p (14 + i)) := h.2.2.1 i hi
theorem PgM.kind (h : PgM μ o p) {i : Nat} (hi : i < p 41) : μ 1 (o + (18 + i)) = nI (p (18 + i)) := h.2.2.2.1 i hi
theorem PgM.speed (h : PgM μ o p) {i : Nat} (hi : i < p 41) : μ 1 (o + (22 + i)) = nI (p (22 + i)) := h.2.2.2.2.1 i hi
theorem PgM.who (h : PgM μ o p) {i : Nat} (hi : i < p 40) : μ 1 (o + (26 + i)) = nI (p (26 + i)) := h.2.2.2.2.2.1 i hi
theorem PgM.frm (h : PgM μ o p) {i : Nat} (hi : i < p 40) : μ 1 (o + (32 + i)) = nI (p (32 + i)) := h.2.2.2.2.2.2.1 i hi
theorem PgM.pegs (h : PgM μ o p) : μ 1 (o + 38) = nI (p 38) := h.2.2.2.2.2.2.2.1
theorem PgM.slugs (h : PgM μ o p) : μ 1 (o + 39) = nI (p 39) := h.2.2.2.2.2.2.2.2.1
theorem PgM.suits (h : PgM μ o p) : μ 1 (o + 40) = nI (p 40) := h.2.2.2.2.2.2.2.2.2
theorem PgX.same (h : PgX σ t p) (e : ∀ j, j < 6 → σ' (sb t + j) = σ (sb t + j)) : PgX σ' t p := by
  have e0 : σ' (sb t) = σ (sb t) := e 0 (by decide)
  have e1 := e 1 (by decide); have e2 := e 2 (by decide); have e3 := e 3 (by decide); have e4 := e 4 (by decide); have e5 := e 5 (by decide)
  unfold PgX at h ⊢
  rw [e0, e1, e2, e3, e4, e5]
  exact h
theorem WF.np (w : WF p) : p 38 ≤ 7 := w.1
theorem WF.ns (w : WF p) : p 39 ≤ 4 := w.2.1
theorem WF.nu (w : WF p) : p 40 ≤ 6 := w.2.2.1
theorem WF.nh (w : WF p) : p 41 ≤ 4 := w.2.2.2.1
theorem WF.peg (w : WF p) {i : Nat} (hi : i < p 38) : p i < 98 := w.2.2.2.2.1 i hi
theorem WF.rag (w : WF p) {i : Nat} (hi : i < p 38) : p (7 + i) < 4 := w.2.2.2.2.2.1 i hi
theorem WF.slug (w : WF p) {i : Nat} (hi : i < p 39) : p (14 + i) < 98 := w.2.2.2.2.2.2.1 i hi
theorem WF.kind (w : WF p) {i : Nat} (hi : i < p 41) : p (18 + i) < 4 := w.2.2.2.2.2.2.2.1 i hi
theorem WF.speed (w : WF p) {i : Nat} (hi : i < p 41) : p (22 + i) ≤ 9 := w.2.2.2.2.2.2.2.2.1 i hi
theorem WF.who (w : WF p) {i : Nat} (hi : i < p 40) : p (26 + i) < p 41 := w.2.2.2.2.2.2.2.2.2.1 i hi
theorem WF.frm (w : WF p) {i : Nat} (hi : i < p 40) : p (32 + i) < 8 := w.2.2.2.2.2.2.2.2.2.2.1 i hi
theorem WF.cell (w : WF p) {i : Nat} (hi : i < p 38) : p i % 10 < 8 := w.2.2.2.2.2.2.2.2.2.2.2.1 i hi
theorem WF.inj (w : WF p) {i j : Nat} (hi : i < p 38) (hj : j < p 38) (e : p i = p j) : i = j := w.2.2.2.2.2.2.2.2.2.2.2.2.1 i j hi hj e
theorem WF.apart (w : WF p) {i j : Nat} (hi : i < p 38) (hj : j < p 39) : p i ≠ p (14 + j) := w.2.2.2.2.2.2.2.2.2.2.2.2.2 i j hi hj
theorem PgM.same (h : PgM μ o p) (w : WF p) (e : ∀ j, j < 41 → μ' 1 (o + j) = μ 1 (o + j)) : PgM μ' o p := by
  have a := w.np; have b := w.ns; have c := w.nu; have d := w.nh
  refine ⟨fun i hi => ?_, fun i hi => ?_, fun i hi => ?_, fun i hi => ?_, fun i hi => ?_, fun i hi => ?_, fun i hi => ?_, ?_, ?_, ?_⟩
  · rw [e i (by omega)]; exact h.peg hi
  · rw [e (7 + i) (by omega)]; exact h.rag hi
  · rw [e (14 + i) (by omega)]; exact h.slug hi
  · rw [e (18 + i) (by omega)]; exact h.kind hi
  · rw [e (22 + i) (by omega)]; exact h.speed hi
  · rw [e (26 + i) (by omega)]; exact h.who hi
  · rw [e (32 + i) (by omega)]; exact h.frm hi
  · rw [e 38 (by omega)]; exact h.pegs
  · rw [e 39 (by omega)]; exact h.slugs
  · rw [e 40 (by omega)]; exact h.suits
end PG
/-- the first, the last place that holds c -/
def fstI (f : Nat → Nat) (c : Nat) : Nat → Option Nat
  | 0 => none
  | n + 1 => match fstI f c n with
    | some i => some i
    | none => if f n = c then some n else none
def lstI (f : Nat → Nat) (c : Nat) : Nat → Option Nat
  | 0 => none
  | n + 1 => if f n = c then some n else lstI f c n
theorem fstI_some {f : Nat → Nat} {c : Nat} : ∀ {n i : Nat}, fstI f c n = some i → i < n ∧ f i = c
  | n + 1, i, h => by
    unfold fstI at h
    cases e : fstI f c n with
    | some j =>
      rw [e] at h
      cases h
      have := fstI_some e
      exact ⟨by omega, this.2⟩
    | none =>
      rw [e] at h
      by_cases hc : f n = c
      · rw [if_pos hc] at h
        cases h
        exact ⟨by omega, hc⟩
      · rw [if_neg hc] at h
        cases h
theorem fstI_none {f : Nat → Nat} {c : Nat} : ∀ {n : Nat}, fstI f c n = none → ∀ i, i < n → f i ≠ c
  | n + 1, h, i, hi => by
    unfold fstI at h
    cases e : fstI f c n with
    | some j => rw [e] at h; cases h
    | none =>
      rw [e] at h
      by_cases hc : f n = c
      · rw [if_pos hc] at h; cases h
      · rcases Nat.lt_or_ge i n with q | q
        · exact fstI_none e i q
        · have : i = n := by omega
          subst this
          exact hc
theorem fstI_of_none {f : Nat → Nat} {c : Nat} : ∀ {n : Nat}, (∀ i, i < n → f i ≠ c) → fstI f c n = none
  | 0, _ => rfl
  | n + 1, h => by
    unfold fstI
    rw [fstI_of_none (fun i hi => h i (by omega)), if_neg (h n (by omega))]
theorem fstI_of {f : Nat → Nat} {c : Nat} : ∀ {n i : Nat}, i < n → f i = c → (∀ j, j < i → f j ≠ c) → fstI f c n = some i
  | n + 1, i, hi, hc, hn => by
    unfold fstI
    rcases Nat.lt_or_ge i n with q | q
    · rw [fstI_of q hc hn]
    · have : i = n := by omega
      subst this
      rw [fstI_of_none hn, if_pos hc]
theorem lst_fst {f : Nat → Nat} {c : Nat} : ∀ {n : Nat}, (∀ i j, i < n → j < n → f i = f j → i = j) → lstI f c n = fstI f c n
  | 0, _ => rfl
  | n + 1, h => by
    unfold lstI fstI
    rw [lst_fst (fun i j hi hj => h i j (by omega) (by omega))]
    by_cases hc : f n = c
    · rw [if_pos hc]
      cases e : fstI f c n with
      | none => rw [if_pos hc]
      | some i =>
        have := fstI_some e
        have h2 := h i n (by omega) (by omega) (by rw [this.2, hc])
        omega
    · rw [if_neg hc]
      cases e : fstI f c n with
      | none => rw [if_neg hc]
      | some i => rfl
def pegAt (p : Nat → Nat) (c : Nat) : Option Nat := fstI p c (p 38)
def slugAt (p : Nat → Nat) (c : Nat) : Option Nat := fstI (fun j => p (14 + j)) c (p 39)
def freeAt (p : Nat → Nat) (c : Nat) : Bool := (pegAt p c).isNone && (slugAt p c).isNone
theorem nle {a b : Nat} (ha : a < 2 ^ 31) (hb : b < 2 ^ 31) : nI a ≤ nI b ↔ a ≤ b := nI_leI ha hb
section SL
variable {σ μ : Nat → Nat → Int32} {t o : Nat} {p : Nat → Nat}
theorem x_pegIn {c : Nat} (h : PgX σ t p) (w : WF p) (hc : c < 2 ^ 31) : f_X5_pegIn σ t (nI c) = some (eN (pegAt p c)) := by
  apply oW_eq
  have hnp := w.np
  unfold f_X5_pegIn f_X5_pegIn_b5
  refine oW_loop0 (fun i s => s = (eN (lstI p c i), nI i)) (p 38) (by rw [gFU_eq]; omega) rfl ?_
  rintro i _ hi rfl
  show oW (f_X5_pegIn_L5 σ t (nI c) (eN (lstI p c i)) (nI i)) _
  unfold f_X5_pegIn_L5
  rw [h.pegs]
  refine oW_ite (fun hle => ?_) (fun hle => ?_)
  · have : p 38 ≤ i := (nle (by omega) (by omega)).mp hle
    have e : i = p 38 := by omega
    refine oW_I (oW_some ?_)
    show eN (lstI p c i) = eN (pegAt p c)
    rw [e, lst_fst (fun i j hi hj e => w.inj hi hj e)]
    rfl
  · have hlt : i < p 38 := by
      rcases Nat.lt_or_ge i (p 38) with q | q
      · exact q
      · exact absurd ((nle (by omega) (by omega)).mpr q) hle
    refine oW_C (inb_t (by omega) (by decide)) ?_
    rw [nI_clamp (by omega), h.peg (by omega)]
    have hp := w.peg (i := i) (by omega)
    refine oW_ite (fun e => ?_) (fun e => ?_)
    · rw [nI_eq (by omega) hc] at e
      refine oW_some ⟨hlt, ?_⟩
      show (nI i, nI i + 1) = _
      rw [nI_1, lstI, if_pos e]
      rfl
    · rw [nI_eq (by omega) hc] at e
      refine oW_some ⟨hlt, ?_⟩
      show (eN (lstI p c i), nI i + 1) = _
      rw [nI_1, lstI, if_neg e]
theorem x_isSlugIn {c : Nat} (h : PgX σ t p) (w : WF p) (hc : c < 2 ^ 31) : f_X5_isSlugIn σ t (nI c) = some (b2i (slugAt p c).isSome) := by
  apply oW_eq
  have hns := w.ns
  unfold f_X5_isSlugIn f_X5_isSlugIn_b4
  refine oW_loop0 (fun i s => s = (b2i (fstI (fun j => p (14 + j)) c i).isSome, nI i)) (p 39) (by rw [gFU_eq]; omega) rfl ?_
  rintro i _ hi rfl
  show oW (f_X5_isSlugIn_L4 σ t (nI c) (b2i (fstI (fun j => p (14 + j)) c i).isSome) (nI i)) _
  unfold f_X5_isSlugIn_L4
  rw [h.slugs]
  refine oW_ite (fun hle => ?_) (fun hle => ?_)
  · have : p 39 ≤ i := (nle (by omega) (by omega)).mp hle
    have e : i = p 39 := by omega
    refine oW_I (oW_C (isB_b2i _) (oW_some ?_))
    show b2i _ = b2i _
    rw [e]
    rfl
  · have hlt : i < p 39 := by
      rcases Nat.lt_or_ge i (p 39) with q | q
      · exact q
      · exact absurd ((nle (by omega) (by omega)).mpr q) hle
    refine oW_C (inb_t (by omega) (by decide)) ?_
    rw [nI_clamp (by omega), h.slug (by omega)]
    have hp := w.slug (i := i) (by omega)
    refine oW_ite (fun e => ?_) (fun e => ?_)
    · rw [nI_eq (by omega) hc] at e
      refine oW_some ⟨hlt, ?_⟩
      show (b2i _ ||| 1, nI i + 1) = (b2i _, nI (i + 1))
      rw [nI_1, fstI]
      cases fstI (fun j => p (14 + j)) c i with
      | some j => rw [show b2i (some j).isSome ||| 1 = b2i true from (by decide : b2i true ||| 1 = b2i true)]; rfl
      | none =>
        rw [show b2i (none : Option Nat).isSome ||| 1 = b2i true from (by decide : b2i false ||| 1 = b2i true)]
        show _ = (b2i (if p (14 + i) = c then some i else none).isSome, nI (i + 1))
        rw [if_pos e]
        rfl
    · rw [nI_eq (by omega) hc] at e
      refine oW_some ⟨hlt, ?_⟩
      show (b2i _ ||| 0, nI i + 1) = (b2i _, nI (i + 1))
      rw [nI_1, fstI]
      cases fstI (fun j => p (14 + j)) c i with
      | some j => rw [show b2i (some j).isSome ||| 0 = b2i true from (by decide : b2i true ||| 0 = b2i true)]; rfl
      | none =>
        rw [show b2i (none : Option Nat).isSome ||| 0 = b2i false from (by decide : b2i false ||| 0 = b2i false)]
        show _ = (b2i (if p (14 + i) = c then some i else none).isSome, nI (i + 1))
        rw [if_neg e]
        rfl
theorem x_isFree {c : Nat} (h : PgX σ t p) (w : WF p) (hc : c < 2 ^ 31) : f_X5_isFree σ t (nI c) = some (b2i (freeAt p c)) := by
  apply oW_eq
  unfold f_X5_isFree
  refine oW_Be (x_pegIn h w hc) ?_
  unfold freeAt
  cases e : pegAt p c with
  | some i =>
    have := (fstI_some e).1
    have hnp := w.np
    exact oW_f (nI_nm4 (by omega)) (oW_some rfl)
  | none =>
    refine oW_t rfl (oW_Be (x_isSlugIn h w hc) ?_)
    cases e2 : slugAt p c with
    | some i => exact oW_f (show ¬ b2i true = 0 by decide) (oW_some rfl)
    | none => exact oW_t rfl (oW_some rfl)
theorem m_pegOn {c : Nat} (h : PgM μ o p) (w : WF p) (ho : o + 41 ≤ 205) (hc : c < 2 ^ 31) : f_X7_pegOn μ (nI o) (nI c) = some (eN (pegAt p c)) := by
  apply oW_eq
  have hnp := w.np
  unfold f_X7_pegOn f_X7_pegOn_b2
  refine oW_loop0 (fun i s => s = nI i ∧ ∀ j, j < i → p j ≠ c) (p 38) (by rw [gFU_eq]; omega) ⟨rfl, fun j hj => absurd hj (by omega)⟩ ?_
  rintro i _ hi ⟨rfl, hno⟩
  show oW (f_X7_pegOn_L2 μ (nI o) (nI c) (nI i)) _
  unfold f_X7_pegOn_L2
  rw [n_38, nI_add, nI_clamp (by omega), h.pegs]
  refine oW_C (inb_t (by omega) (by decide)) (oW_ite (fun hle => ?_) (fun hle => ?_))
  · have : p 38 ≤ i := (nle (by omega) (by omega)).mp hle
    refine oW_I (oW_some ?_)
    show (-4 : Int32) = eN (fstI p c (p 38))
    rw [fstI_of_none (fun j hj => hno j (by omega))]
    rfl
  · have hlt : i < p 38 := by
      rcases Nat.lt_or_ge i (p 38) with q | q
      · exact q
      · exact absurd ((nle (by omega) (by omega)).mpr q) hle
    rw [nI_add, nI_clamp (by omega), h.peg (by omega)]
    have hp := w.peg (i := i) (by omega)
    refine oW_C (inb_t (by omega) (by decide)) (oW_ite (fun e => ?_) (fun e => ?_))
    · rw [nI_eq (by omega) hc] at e
      refine oW_I (oW_some ?_)
      show nI i = eN (fstI p c (p 38))
      rw [fstI_of hlt e hno]
      rfl
    · rw [nI_eq (by omega) hc] at e
      refine oW_some ⟨hlt, by rw [nI_1], fun j hj => ?_⟩
      rcases Nat.lt_or_ge j i with q | q
      · exact hno j q
      · have : j = i := by omega
        subst this
        exact e
theorem m_slugOn {c : Nat} (h : PgM μ o p) (w : WF p) (ho : o + 41 ≤ 205) (hc : c < 2 ^ 31) : f_X7_slugOn μ (nI o) (nI c) = some (eN (slugAt p c)) := by
  apply oW_eq
  have hns := w.ns
  unfold f_X7_slugOn f_X7_slugOn_b2
  refine oW_loop0 (fun i s => s = nI i ∧ ∀ j, j < i → p (14 + j) ≠ c) (p 39) (by rw [gFU_eq]; omega) ⟨rfl, fun j hj => absurd hj (by omega)⟩ ?_
  rintro i _ hi ⟨rfl, hno⟩
  show oW (f_X7_slugOn_L2 μ (nI o) (nI c) (nI i)) _
  unfold f_X7_slugOn_L2
  rw [n_39, n_14, nI_add, nI_add, nI_add, nI_clamp (by omega), h.slugs]
  refine oW_C (inb_t (by omega) (by decide)) (oW_ite (fun hle => ?_) (fun hle => ?_))
  · have : p 39 ≤ i := (nle (by omega) (by omega)).mp hle
    refine oW_I (oW_some ?_)
    show (-4 : Int32) = eN (fstI (fun j => p (14 + j)) c (p 39))
    rw [fstI_of_none (fun j hj => hno j (by omega))]
    rfl
  · have hlt : i < p 39 := by
      rcases Nat.lt_or_ge i (p 39) with q | q
      · exact q
      · exact absurd ((nle (by omega) (by omega)).mpr q) hle
    rw [nI_clamp (by omega), Nat.add_assoc o 14 i, h.slug hlt]
    have hp := w.slug (i := i) (by omega)
    refine oW_C (inb_t (by omega) (by decide)) (oW_ite (fun e => ?_) (fun e => ?_))
    · rw [nI_eq (by omega) hc] at e
      refine oW_I (oW_some ?_)
      show nI i = eN (fstI (fun j => p (14 + j)) c (p 39))
      rw [fstI_of (f := fun j => p (14 + j)) hlt e hno]
      rfl
    · rw [nI_eq (by omega) hc] at e
      refine oW_some ⟨hlt, by rw [nI_1], fun j hj => ?_⟩
      rcases Nat.lt_or_ge j i with q | q
      · exact hno j q
      · have : j = i := by omega
        subst this
        exact e
theorem m_isFreeOn {c : Nat} (h : PgM μ o p) (w : WF p) (ho : o + 41 ≤ 205) (hc : c < 2 ^ 31) : f_X7_isFreeOn μ (nI o) (nI c) = some (b2i (freeAt p c)) := by
  apply oW_eq
  unfold f_X7_isFreeOn
  refine oW_Be (m_pegOn h w ho hc) ?_
  unfold freeAt
  cases e : pegAt p c with
  | some i =>
    have := (fstI_some e).1
    have hnp := w.np
    exact oW_f (nI_nm4 (by omega)) (oW_some rfl)
  | none =>
    refine oW_t rfl (oW_Be (m_slugOn h w ho hc) ?_)
    cases e2 : slugAt p c with
    | some i =>
      have := (fstI_some e2).1
      have hns := w.ns
      exact oW_f (nI_nm4 (by omega)) (oW_some rfl)
    | none => exact oW_t rfl (oW_some rfl)
end SL
