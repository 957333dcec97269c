/-! ===== pages being read: printed copies (gen/wc.py) ===== -/
set_option maxRecDepth 100000
def WC (p : Nat → Nat) : Prop :=
  p 38 ≤ 7 ∧ p 39 ≤ 4 ∧ p 40 ≤ 6 ∧ p 41 ≤ 4 ∧ (∀ i, i < p 38 → p i < 98) ∧ (∀ i, i < p 38 → p (7 + i) < 4) ∧ (∀ i, i < p 39 → p (14 + i) < 98) ∧ (∀ i, i < p 41 → p (18 + i) < 4) ∧ (∀ i, i < p 41 → p (22 + i) ≤ 9) ∧ (∀ i, i < p 40 → p (26 + i) < 4) ∧ (∀ i, i < p 40 → p (32 + i) < 8) ∧ (∀ i, i < p 38 → p i % 10 < 8) ∧ (∀ i j, i < p 38 → j < p 38 → p i = p j → i = j) ∧ (∀ i j, i < p 38 → j < p 39 → p i ≠ p (14 + j))
section WC1
variable {σ σ' s μ μ' : Nat → Nat → Int32} {t u o : Nat} {p q : Nat → Nat} {L L' : Nat → Prop}
theorem WC.np (w : WC p) : p 38 ≤ 7 := w.1
theorem WC.ns (w : WC p) : p 39 ≤ 4 := w.2.1
theorem WC.nu (w : WC p) : p 40 ≤ 6 := w.2.2.1
theorem WC.nh (w : WC p) : p 41 ≤ 4 := w.2.2.2.1
theorem WC.peg (w : WC p) {i : Nat} (hi : i < p 38) : p i < 98 := w.2.2.2.2.1 i hi
theorem WC.rag (w : WC p) {i : Nat} (hi : i < p 38) : p (7 + i) < 4 := w.2.2.2.2.2.1 i hi
theorem WC.slug (w : WC p) {i : Nat} (hi : i < p 39) : p (14 + i) < 98 := w.2.2.2.2.2.2.1 i hi
theorem WC.kind (w : WC p) {i : Nat} (hi : i < p 41) : p (18 + i) < 4 := w.2.2.2.2.2.2.2.1 i hi
theorem WC.speed (w : WC p) {i : Nat} (hi : i < p 41) : p (22 + i) ≤ 9 := w.2.2.2.2.2.2.2.2.1 i hi
theorem WC.who (w : WC p) {i : Nat} (hi : i < p 40) : p (26 + i) < 4 := w.2.2.2.2.2.2.2.2.2.1 i hi
theorem WC.frm (w : WC p) {i : Nat} (hi : i < p 40) : p (32 + i) < 8 := w.2.2.2.2.2.2.2.2.2.2.1 i hi
theorem WC.cell (w : WC p) {i : Nat} (hi : i < p 38) : p i % 10 < 8 := w.2.2.2.2.2.2.2.2.2.2.2.1 i hi
theorem WC.inj (w : WC p) {i j : Nat} (hi : i < p 38) (hj : j < p 38) (e : p i = p j) : i = j := w.2.2.2.2.2.2.2.2.2.2.2.2.1 i j hi hj e
theorem WC.apart (w : WC p) {i j : Nat} (hi : i < p 38) (hj : j < p 39) : p i ≠ p (14 + j) := w.2.2.2.2.2.2.2.2.2.2.2.2.2 i j hi hj
theorem x_pegInC {c : Nat} (h : PgX σ t p) (w : WC p) (hc : c < 2 ^ 31) : f_X5_pegIn σ t (nI c) = some (eN (pegAt p c)) := by
  apply oW_eq
  have hnp := w.np
  unfold f_X5_pegIn f_X5_pegIn_b5
  refine oW_loop0 (fun i s => s = (eN (lstI p c i), nI i)) (p 38) (by rw [gFU_eq]; omega) rfl ?_
  rintro i _ hi rfl
  show oW (f_X5_pegIn_L5 σ t (nI c) (eN (lstI p c i)) (nI i)) _
  unfold f_X5_pegIn_L5
  rw [h.pegs]
  refine oW_ite (fun hle => ?_) (fun hle => ?_)
  · have : p 38 ≤ i := (nle (by omega) (by omega)).mp hle
    have e : i = p 38 := by omega
    refine oW_I (oW_some ?_)
    show eN (lstI p c i) = eN (pegAt p c)
    rw [e, lst_fst (fun i j hi hj e => w.inj hi hj e)]
    rfl
  · have hlt : i < p 38 := by
      rcases Nat.lt_or_ge i (p 38) with q | q
      · exact q
      · exact absurd ((nle (by omega) (by omega)).mpr q) hle
    refine oW_C (inb_t (by omega) (by decide)) ?_
    rw [nI_clamp (by omega), h.peg (by omega)]
    have hp := w.peg (i := i) (by omega)
    refine oW_ite (fun e => ?_) (fun e => ?_)
    · rw [nI_eq (by omega) hc] at e
      refine oW_some ⟨hlt, ?_⟩
      show (nI i, nI i + 1) = _
      rw [nI_1, lstI, if_pos e]
      rfl
    · rw [nI_eq (by omega) hc] at e
      refine oW_some ⟨hlt, ?_⟩
      show (eN (lstI p c i), nI i + 1) = _
      rw [nI_1, lstI, if_neg e]
theorem x_isSlugInC {c : Nat} (h : PgX σ t p) (w : WC p) (hc : c < 2 ^ 31) : f_X5_isSlugIn σ t (nI c) = some (b2i (slugAt p c).isSome) := by
  apply oW_eq
  have hns := w.ns
  unfold f_X5_isSlugIn f_X5_isSlugIn_b4
  refine oW_loop0 (fun i s => s = (b2i (fstI (fun j => p (14 + j)) c i).isSome, nI i)) (p 39) (by rw [gFU_eq]; omega) rfl ?_
  rintro i _ hi rfl
  show oW (f_X5_isSlugIn_L4 σ t (nI c) (b2i (fstI (fun j => p (14 + j)) c i).isSome) (nI i)) _
  unfold f_X5_isSlugIn_L4
  rw [h.slugs]
  refine oW_ite (fun hle => ?_) (fun hle => ?_)
  · have : p 39 ≤ i := (nle (by omega) (by omega)).mp hle
    have e : i = p 39 := by omega
    refine oW_I (oW_C (isB_b2i _) (oW_some ?_))
    show b2i _ = b2i _
    rw [e]
    rfl
  · have hlt : i < p 39 := by
      rcases Nat.lt_or_ge i (p 39) with q | q
      · exact q
      · exact absurd ((nle (by omega) (by omega)).mpr q) hle
    refine oW_C (inb_t (by omega) (by decide)) ?_
    rw [nI_clamp (by omega), h.slug (by omega)]
    have hp := w.slug (i := i) (by omega)
    refine oW_ite (fun e => ?_) (fun e => ?_)
    · rw [nI_eq (by omega) hc] at e
      refine oW_some ⟨hlt, ?_⟩
      show (b2i _ ||| 1, nI i + 1) = (b2i _, nI (i + 1))
      rw [nI_1, fstI]
      cases fstI (fun j => p (14 + j)) c i with
      | some j => rw [show b2i (some j).isSome ||| 1 = b2i true from (by decide : b2i true ||| 1 = b2i true)]; rfl
      | none =>
        rw [show b2i (none : Option Nat).isSome ||| 1 = b2i true from (by decide : b2i false ||| 1 = b2i true)]
        show _ = (b2i (if p (14 + i) = c then some i else none).isSome, nI (i + 1))
        rw [if_pos e]
        rfl
    · rw [nI_eq (by omega) hc] at e
      refine oW_some ⟨hlt, ?_⟩
      show (b2i _ ||| 0, nI i + 1) = (b2i _, nI (i + 1))
      rw [nI_1, fstI]
      cases fstI (fun j => p (14 + j)) c i with
      | some j => rw [show b2i (some j).isSome ||| 0 = b2i true from (by decide : b2i true ||| 0 = b2i true)]; rfl
      | none =>
        rw [show b2i (none : Option Nat).isSome ||| 0 = b2i false from (by decide : b2i false ||| 0 = b2i false)]
        show _ = (b2i (if p (14 + i) = c then some i else none).isSome, nI (i + 1))
        rw [if_neg e]
        rfl
theorem x_isFreeC {c : Nat} (h : PgX σ t p) (w : WC p) (hc : c < 2 ^ 31) : f_X5_isFree σ t (nI c) = some (b2i (freeAt p c)) := by
  apply oW_eq
  unfold f_X5_isFree
  refine oW_Be (x_pegInC h w hc) ?_
  unfold freeAt
  cases e : pegAt p c with
  | some i =>
    have := (fstI_some e).1
    have hnp := w.np
    exact oW_f (nI_nm4 (by omega)) (oW_some rfl)
  | none =>
    refine oW_t rfl (oW_Be (x_isSlugInC h w hc) ?_)
    cases e2 : slugAt p c with
    | some i => exact oW_f (show ¬ b2i true = 0 by decide) (oW_some rfl)
    | none => exact oW_t rfl (oW_some rfl)
theorem PgX.pxC (h : PgX σ t p) (w : WC p) : PX σ t p (lv p) := by
  have h1 := w.np; have h2 := w.ns; have h3 := w.nu; have h4 := w.nh
  intro i hi hl
  rcases hl with q | q | q | q | q | q | q | q
  · rw [(ax_1 q.1).1, (ax_1 q.1).2]; exact h.peg q.2
  · obtain ⟨j, rfl⟩ : ∃ j, i = 7 + j := ⟨i - 7, by omega⟩
    rw [(ax_2 (i := j) (by omega)).1, (ax_2 (i := j) (by omega)).2]; exact h.rag (by omega)
  · obtain ⟨j, rfl⟩ : ∃ j, i = 14 + j := ⟨i - 14, by omega⟩
    rw [(ax_3 (i := j) (by omega)).1, (ax_3 (i := j) (by omega)).2]; exact h.slug (by omega)
  · obtain ⟨j, rfl⟩ : ∃ j, i = 18 + j := ⟨i - 18, by omega⟩
    rw [(ax_4 (i := j) (by omega)).1, (ax_4 (i := j) (by omega)).2]; exact h.kind (by omega)
  · obtain ⟨j, rfl⟩ : ∃ j, i = 22 + j := ⟨i - 22, by omega⟩
    rw [(ax_5 (i := j) (by omega)).1, (ax_5 (i := j) (by omega)).2]; exact h.speed (by omega)
  · obtain ⟨j, rfl⟩ : ∃ j, i = 26 + j := ⟨i - 26, by omega⟩
    rw [(ax_6 (i := j) (by omega)).1, (ax_6 (i := j) (by omega)).2]; exact h.who (by omega)
  · obtain ⟨j, rfl⟩ : ∃ j, i = 32 + j := ⟨i - 32, by omega⟩
    rw [(ax_7 (i := j) (by omega)).1, (ax_7 (i := j) (by omega)).2]; exact h.frm (by omega)
  · have : i = 38 ∨ i = 39 ∨ i = 40 ∨ i = 41 := by omega
    rcases this with rfl | rfl | rfl | rfl
    · exact h.pegs
    · exact h.slugs
    · exact h.suits
    · exact h.hogs
theorem PX.pgC (h : PX σ t p L) (w : WC p) (hL : ∀ j, j < 42 → lv p j → L j) : PgX σ t p := by
  have h1 := w.np; have h2 := w.ns; have h3 := w.nu; have h4 := w.nh
  have k : ∀ i, i < 42 → lv p i → σ (sb t + ax i) (ay i) = nI (p i) := fun i hi hl => h i hi (hL i hi hl)
  refine ⟨fun i hi => ?_, fun i hi => ?_, fun i hi => ?_, fun i hi => ?_, fun i hi => ?_, fun i hi => ?_, fun i hi => ?_, ?_, ?_, ?_, ?_⟩
  · have := k i (by omega) (by unfold lv; omega)
    rwa [(ax_1 (i := i) (by omega)).1, (ax_1 (i := i) (by omega)).2] at this
  · have := k (7 + i) (by omega) (by unfold lv; omega)
    rwa [(ax_2 (i := i) (by omega)).1, (ax_2 (i := i) (by omega)).2] at this
  · have := k (14 + i) (by omega) (by unfold lv; omega)
    rwa [(ax_3 (i := i) (by omega)).1, (ax_3 (i := i) (by omega)).2] at this
  · have := k (18 + i) (by omega) (by unfold lv; omega)
    rwa [(ax_4 (i := i) (by omega)).1, (ax_4 (i := i) (by omega)).2] at this
  · have := k (22 + i) (by omega) (by unfold lv; omega)
    rwa [(ax_5 (i := i) (by omega)).1, (ax_5 (i := i) (by omega)).2] at this
  · have := k (26 + i) (by omega) (by unfold lv; omega)
    rwa [(ax_6 (i := i) (by omega)).1, (ax_6 (i := i) (by omega)).2] at this
  · have := k (32 + i) (by omega) (by unfold lv; omega)
    rwa [(ax_7 (i := i) (by omega)).1, (ax_7 (i := i) (by omega)).2] at this
  · exact k 38 (by omega) (by unfold lv; omega)
  · exact k 39 (by omega) (by unfold lv; omega)
  · exact k 40 (by omega) (by unfold lv; omega)
  · exact k 41 (by omega) (by unfold lv; omega)
theorem PgM.mxC (h : PgM μ o p) (w : WC p) : MX μ o p (lv p) := by
  have h1 := w.np; have h2 := w.ns; have h3 := w.nu; have h4 := w.nh
  intro i hi hl
  rcases hl with q | q | q | q | q | q | q | q
  · exact h.peg q.2
  · obtain ⟨j, rfl⟩ : ∃ j, i = 7 + j := ⟨i - 7, by omega⟩
    exact h.rag (by omega)
  · obtain ⟨j, rfl⟩ : ∃ j, i = 14 + j := ⟨i - 14, by omega⟩
    exact h.slug (by omega)
  · obtain ⟨j, rfl⟩ : ∃ j, i = 18 + j := ⟨i - 18, by omega⟩
    exact h.kind (by omega)
  · obtain ⟨j, rfl⟩ : ∃ j, i = 22 + j := ⟨i - 22, by omega⟩
    exact h.speed (by omega)
  · obtain ⟨j, rfl⟩ : ∃ j, i = 26 + j := ⟨i - 26, by omega⟩
    exact h.who (by omega)
  · obtain ⟨j, rfl⟩ : ∃ j, i = 32 + j := ⟨i - 32, by omega⟩
    exact h.frm (by omega)
  · have : i = 38 ∨ i = 39 ∨ i = 40 := by omega
    rcases this with rfl | rfl | rfl
    · exact h.pegs
    · exact h.slugs
    · exact h.suits
theorem MX.pgC (h : MX μ o p L) (w : WC p) (hL : ∀ j, j < 41 → lv p j → L j) : PgM μ o p := by
  have h1 := w.np; have h2 := w.ns; have h3 := w.nu; have h4 := w.nh
  have k : ∀ i, i < 41 → lv p i → μ 1 (o + i) = nI (p i) := fun i hi hl => h i hi (hL i hi hl)
  exact ⟨fun i hi => k i (by omega) (by unfold lv; omega), fun i hi => k (7 + i) (by omega) (by unfold lv; omega), fun i hi => k (14 + i) (by omega) (by unfold lv; omega), fun i hi => k (18 + i) (by omega) (by unfold lv; omega), fun i hi => k (22 + i) (by omega) (by unfold lv; omega), fun i hi => k (26 + i) (by omega) (by unfold lv; omega), fun i hi => k (32 + i) (by omega) (by unfold lv; omega), k 38 (by omega) (by unfold lv; omega), k 39 (by omega) (by unfold lv; omega), k 40 (by omega) (by unfold lv; omega)⟩
theorem WC.drive (w : WC p) {c k : Nat} (hc : c < 98) (hm : c % 10 < 8) (hf : freeAt p c = true) (hk : k < 4) (h7 : p 38 < 7) : WC (pDrive p c k) := by
  obtain ⟨f1, f2⟩ := free_iff.mp hf
  have a1 := w.np; have a2 := w.ns; have a3 := w.nu; have a4 := w.nh
  have o : ∀ j, j ≠ p 38 → j ≠ 7 + p 38 → j ≠ 38 → pDrive p c k j = p j := fun j h1 h2 h3 => by unfold pDrive; rw [pu_n _ h3, pu_n _ h2, pu_n _ h1]
  have e38 : pDrive p c k 38 = p 38 + 1 := pu_s _ _ _
  have eP : pDrive p c k (p 38) = c := by unfold pDrive; rw [pu_n _ (by omega), pu_n _ (by omega), pu_s]
  have eR : pDrive p c k (7 + p 38) = k := by unfold pDrive; rw [pu_n _ (by omega), pu_s]
  unfold WC
  rw [e38, o 39 (by omega) (by omega) (by omega), o 40 (by omega) (by omega) (by omega), o 41 (by omega) (by omega) (by omega)]
  have pegc : ∀ j, j < p 38 + 1 → j ≠ p 38 → j < p 38 := fun j h1 h2 => by omega
  refine ⟨by omega, a2, a3, a4, fun j hj => ?_, fun j hj => ?_, fun j hj => ?_, fun j hj => ?_, fun j hj => ?_, fun j hj => ?_, fun j hj => ?_, fun j hj => ?_, fun a b ha hb e => ?_, fun a b ha hb => ?_⟩
  · by_cases q : j = p 38
    · rw [q, eP]; exact hc
    · rw [o _ q (by omega) (by omega)]; exact w.peg (pegc j hj q)
  · by_cases q : j = p 38
    · rw [q, eR]; exact hk
    · rw [o _ (by omega) (by omega) (by omega)]; exact w.rag (pegc j hj q)
  · rw [o _ (by omega) (by omega) (by omega)]; exact w.slug hj
  · rw [o _ (by omega) (by omega) (by omega)]; exact w.kind hj
  · rw [o _ (by omega) (by omega) (by omega)]; exact w.speed hj
  · rw [o _ (by omega) (by omega) (by omega)]; exact w.who hj
  · rw [o _ (by omega) (by omega) (by omega)]; exact w.frm hj
  · by_cases q : j = p 38
    · rw [q, eP]; exact hm
    · rw [o _ q (by omega) (by omega)]; exact w.cell (pegc j hj q)
  · by_cases q1 : a = p 38
    · by_cases q2 : b = p 38
      · omega
      · rw [q1, eP, o b q2 (by omega) (by omega)] at e
        exact absurd e.symm (pegAt_none f1 (pegc b hb q2))
    · by_cases q2 : b = p 38
      · rw [q2, eP, o a q1 (by omega) (by omega)] at e
        exact absurd e (pegAt_none f1 (pegc a ha q1))
      · rw [o a q1 (by omega) (by omega), o b q2 (by omega) (by omega)] at e
        exact w.inj (pegc a ha q1) (pegc b hb q2) e
  · rw [o (14 + b) (by omega) (by omega) (by omega)]
    by_cases q1 : a = p 38
    · rw [q1, eP]
      exact (slugAt_none f2 hb).symm
    · rw [o a q1 (by omega) (by omega)]
      exact w.apart (pegc a ha q1) hb
theorem WC.lay (w : WC p) {c : Nat} (hc : c < 98) (hf : freeAt p c = true) (h4 : p 39 < 4) : WC (pLay p c) := by
  obtain ⟨f1, f2⟩ := free_iff.mp hf
  have a1 := w.np; have a2 := w.ns; have a3 := w.nu; have a4 := w.nh
  have o : ∀ j, j ≠ 14 + p 39 → j ≠ 39 → pLay p c j = p j := fun j h1 h2 => by unfold pLay; rw [pu_n _ h2, pu_n _ h1]
  have e39 : pLay p c 39 = p 39 + 1 := pu_s _ _ _
  have eS : pLay p c (14 + p 39) = c := by unfold pLay; rw [pu_n _ (by omega), pu_s]
  unfold WC
  rw [e39, o 38 (by omega) (by omega), o 40 (by omega) (by omega), o 41 (by omega) (by omega)]
  refine ⟨a1, by omega, a3, a4, fun j hj => ?_, fun j hj => ?_, fun j hj => ?_, fun j hj => ?_, fun j hj => ?_, fun j hj => ?_, fun j hj => ?_, fun j hj => ?_, fun a b ha hb e => ?_, fun a b ha hb => ?_⟩
  · rw [o _ (by omega) (by omega)]; exact w.peg hj
  · rw [o _ (by omega) (by omega)]; exact w.rag hj
  · by_cases q : j = p 39
    · rw [q, eS]; exact hc
    · rw [o _ (by omega) (by omega)]; exact w.slug (by omega)
  · rw [o _ (by omega) (by omega)]; exact w.kind hj
  · rw [o _ (by omega) (by omega)]; exact w.speed hj
  · rw [o _ (by omega) (by omega)]; exact w.who hj
  · rw [o _ (by omega) (by omega)]; exact w.frm hj
  · rw [o _ (by omega) (by omega)]; exact w.cell hj
  · rw [o _ (by omega) (by omega), o _ (by omega) (by omega)] at e; exact w.inj ha hb e
  · rw [o a (by omega) (by omega)]
    by_cases q : b = p 39
    · rw [q, eS]; exact pegAt_none f1 ha
    · rw [o _ (by omega) (by omega)]; exact w.apart ha (by omega)
theorem WC.sue (w : WC p) {h c : Nat} (hh : h < 4) (hc : c < 8) (h6 : p 40 < 6) : WC (pSue p h c) := by
  have a1 := w.np; have a2 := w.ns; have a3 := w.nu; have a4 := w.nh
  have o : ∀ j, j ≠ 26 + p 40 → j ≠ 32 + p 40 → j ≠ 40 → pSue p h c j = p j := fun j h1 h2 h3 => by unfold pSue; rw [pu_n _ h3, pu_n _ h2, pu_n _ h1]
  have e40 : pSue p h c 40 = p 40 + 1 := pu_s _ _ _
  have eW : pSue p h c (26 + p 40) = h := by unfold pSue; rw [pu_n _ (by omega), pu_n _ (by omega), pu_s]
  have eF : pSue p h c (32 + p 40) = c := by unfold pSue; rw [pu_n _ (by omega), pu_s]
  unfold WC
  rw [e40, o 38 (by omega) (by omega) (by omega), o 39 (by omega) (by omega) (by omega), o 41 (by omega) (by omega) (by omega)]
  refine ⟨a1, a2, by omega, a4, fun j hj => ?_, fun j hj => ?_, fun j hj => ?_, fun j hj => ?_, fun j hj => ?_, fun j hj => ?_, fun j hj => ?_, fun j hj => ?_, fun a b ha hb e => ?_, fun a b ha hb => ?_⟩
  · rw [o _ (by omega) (by omega) (by omega)]; exact w.peg hj
  · rw [o _ (by omega) (by omega) (by omega)]; exact w.rag hj
  · rw [o _ (by omega) (by omega) (by omega)]; exact w.slug hj
  · rw [o _ (by omega) (by omega) (by omega)]; exact w.kind hj
  · rw [o _ (by omega) (by omega) (by omega)]; exact w.speed hj
  · by_cases q : j = p 40
    · rw [q, eW]; exact hh
    · rw [o _ (by omega) (by omega) (by omega)]; exact w.who (by omega)
  · by_cases q : j = p 40
    · rw [q, eF]; exact hc
    · rw [o _ (by omega) (by omega) (by omega)]; exact w.frm (by omega)
  · rw [o _ (by omega) (by omega) (by omega)]; exact w.cell hj
  · rw [o _ (by omega) (by omega) (by omega), o _ (by omega) (by omega) (by omega)] at e; exact w.inj ha hb e
  · rw [o _ (by omega) (by omega) (by omega), o _ (by omega) (by omega) (by omega)]; exact w.apart ha hb
theorem x_drivesC (h : PgX σ t p) (w : WC p) (hb : By σ t) {c k : Nat} (hc : c < 98) (hm : c % 10 < 8) (hf : freeAt p c = true) (hk : k < 4) (h7 : p 38 < 7) : oW (f_X5_drives σ t (nI c) (nI k)) (fun s => FrT t σ s ∧ PgX s t (pDrive p c k) ∧ By s t) := by
  unfold f_X5_drives
  rw [h.pegs, nI_clamp (by omega), nbN (by omega), nbN (by omega)]
  refine oW_C (inb_t (by omega) (by decide)) (oW_L ?_)
  rw [u2_k _ _ _ (by omega : sb t ≠ sb t + 1), h.pegs, nI_clamp (by omega)]
  refine oW_C (inb_t (by omega) (by decide)) (oW_L (oW_L ?_))
  rw [u2_k _ _ _ (by omega : sb t ≠ sb t + 2), u2_k _ _ _ (by omega : sb t ≠ sb t + 1), h.pegs, nI_1]
  have w' := w.drive hc hm hf hk h7
  refine oW_some ⟨((FrT.rf.put (m := 1) rfl (by decide)).put (m := 2) rfl (by decide)).put (m := 0) rfl (by decide), ?_, ((hb.put (m := 1) rfl (fitB_nI (by omega))).put (m := 2) rfl (fitB_nI (by omega))).put0⟩
  have p1 := (h.pxC w).put (i := p 38) (n := c) (by omega) (k := sb t + 1) (j := p 38) (by rw [(ax_1 (by omega)).1]) (by rw [(ax_1 (by omega)).2])
  have p2 := p1.put (i := 7 + p 38) (n := k) (by omega) (k := sb t + 2) (j := p 38) (by rw [(ax_2 (by omega)).1]) (by rw [(ax_2 (by omega)).2])
  have p3 := p2.put (i := 38) (n := p 38 + 1) (by omega) (k := sb t) (j := 0) rfl rfl
  exact p3.pgC w' (fun j _ hl => lvD c k h7 hl)
theorem x_laysC (h : PgX σ t p) (w : WC p) (hb : By σ t) {c : Nat} (hc : c < 98) (hf : freeAt p c = true) (h4 : p 39 < 4) : oW (f_X5_lays σ t (nI c)) (fun s => FrT t σ s ∧ PgX s t (pLay p c) ∧ By s t) := by
  unfold f_X5_lays
  rw [h.slugs, nI_clamp (by omega), nbN (by omega)]
  refine oW_C (inb_t (by omega) (by decide)) (oW_L (oW_L ?_))
  rw [u2_k _ _ _ (by omega : sb t ≠ sb t + 3), h.slugs, nI_1]
  have w' := w.lay hc hf h4
  refine oW_some ⟨(FrT.rf.put (m := 3) rfl (by decide)).put (m := 0) rfl (by decide), ?_, (hb.put (m := 3) rfl (fitB_nI (by omega))).put0⟩
  have p1 := (h.pxC w).put (i := 14 + p 39) (n := c) (by omega) (k := sb t + 3) (j := p 39) (by rw [(ax_3 (by omega)).1]) (by rw [(ax_3 (by omega)).2])
  have p3 := p1.put (i := 39) (n := p 39 + 1) (by omega) (k := sb t) (j := 3) rfl rfl
  exact p3.pgC w' (fun j _ hl => lvL c h4 hl)
theorem WC.wf (w : WC p) (h : ∀ i, i < p 40 → p (26 + i) < p 41) : WF p := ⟨w.np, w.ns, w.nu, w.nh, fun _ h => w.peg h, fun _ h => w.rag h, fun _ h => w.slug h, fun _ h => w.kind h, fun _ h => w.speed h, h, fun _ h => w.frm h, fun _ h => w.cell h, fun _ _ h1 h2 h3 => w.inj h1 h2 h3, fun _ _ h1 h2 => w.apart h1 h2⟩
end WC1
