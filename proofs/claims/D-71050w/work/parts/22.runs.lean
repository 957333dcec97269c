/-! ===== a run, told in numbers; the class's and the reference's ===== -/
set_option maxRecDepth 100000
def loN (k : Nat) : Nat := if k = 0 then 2 else if k = 1 then 3 else if k = 2 then 1 else 6
def tuZ (k row : Nat) : Int := if k = 0 then (if row % 2 = 0 then -1 else 1) else if k = 1 then (if row % 2 = 0 then 1 else -1) else if k = 2 then 1 else (if row % 2 = 0 then 2 else -2)
def toN (k row col : Nat) (b : Bool) : Nat := (max 0 (min 7 ((col : Int) + (if b then -(tuZ k row) else tuZ k row)))).toNat
def upO (w : Nat → Option Nat) (r c : Nat) : Nat → Option Nat := fun j => if j = r then some c else w j
abbrev RunR : Type := Option Nat × Nat × Nat × Bool × (Nat → Option Nat)
/-- rows left, row, speed, column, pegs met, the way so far: where it rests, the row of its end, pegs met, opened, the way -/
def runS (p : Nat → Nat) (k oth : Nat) : Nat → Nat → Nat → Nat → Nat → (Nat → Option Nat) → RunR
  | 0, _, _, _, met, w => (none, 10, met, false, w)
  | n + 1, row, sp, col, met, w =>
    match slugAt p (10 * row + col) with
    | some _ => (none, row, met, true, upO w row col)
    | none => match pegAt p (10 * row + col) with
      | none => runS p k oth n (row + 1) sp col met (upO w row col)
      | some i => if sp ≤ loN k then (some i, row, met + 1, false, upO w row col) else runS p k oth n (row + 1) (sp - loN k) (toN k row col (oth.testBit row)) (met + 1) (upO w row col)
def run (p : Nat → Nat) (h fr oth : Nat) : RunR := runS p (p (18 + h)) oth 10 0 (p (22 + h)) fr 0 (fun _ => none)
/-- what a run leaves alone -/
def FrR (σ σ' : Nat → Nat → Int32) : Prop := (∀ k, k ≠ 0 → k ≠ 7 → σ' k = σ k) ∧ ∀ j, j ≠ 8 → j ≠ 9 → j ≠ 10 → j ≠ 11 → σ' 0 j = σ 0 j
theorem FrR.rf {σ : Nat → Nat → Int32} : FrR σ σ := ⟨fun _ _ _ => rfl, fun _ _ _ _ _ => rfl⟩
theorem FrR.tr {σ σ1 σ2 : Nat → Nat → Int32} (h1 : FrR σ σ1) (h2 : FrR σ1 σ2) : FrR σ σ2 := ⟨fun k a b => (h2.1 k a b).trans (h1.1 k a b), fun j a b c d => (h2.2 j a b c d).trans (h1.2 j a b c d)⟩
theorem FrR.pg {σ σ' : Nat → Nat → Int32} {t : Nat} {p : Nat → Nat} (h : FrR σ σ') (g : PgX σ t p) : PgX σ' t p := g.same (fun j _ => h.1 _ (by unfold sb; omega) (by unfold sb; omega))
def RunX (σ σ' : Nat → Nat → Int32) (R : RunR) : Prop := FrR σ σ' ∧ σ' 0 8 = eN R.1 ∧ σ' 0 9 = nI R.2.1 ∧ σ' 0 10 = nI R.2.2.1 ∧ σ' 0 11 = b2i R.2.2.2.1 ∧ ∀ j, j < 10 → σ' 7 j = eN (R.2.2.2.2 j)
/-- a run under way: rests, ended, meets, opens, the way ahead of row r -/
def StX (σ σ' : Nat → Nat → Int32) (a b c d : Int32) (w : Nat → Option Nat) (r : Nat) : Prop := FrR σ σ' ∧ σ' 0 8 = a ∧ σ' 0 9 = b ∧ σ' 0 10 = c ∧ σ' 0 11 = d ∧ ∀ j, j < r → σ' 7 j = eN (w j)
theorem u2_s (σ : Nat → Nat → Int32) (k j : Nat) (v : Int32) : upd2 σ k j v k j = v := by simp [upd2, updc, upd]
theorem u2_j (σ : Nat → Nat → Int32) (k : Nat) {j i : Nat} (v : Int32) (h : i ≠ j) : upd2 σ k j v k i = σ k i := by simp [upd2, updc, upd, h]
theorem u2_k (σ : Nat → Nat → Int32) {k m : Nat} (j : Nat) (v : Int32) (h : m ≠ k) : upd2 σ k j v m = σ m := by simp [upd2, updc, h]
theorem FrR.put {σ σ' : Nat → Nat → Int32} (h : FrR σ σ') {j : Nat} (v : Int32) (hj : j = 8 ∨ j = 9 ∨ j = 10 ∨ j = 11) : FrR σ (upd2 σ' 0 j v) := by
  refine ⟨fun k a b => ?_, fun i a b c d => ?_⟩
  · rw [u2_k _ _ _ a]; exact h.1 k a b
  · rw [u2_j _ _ _ (by omega)]; exact h.2 i a b c d
theorem FrR.put7 {σ σ' : Nat → Nat → Int32} (h : FrR σ σ') (j : Nat) (v : Int32) : FrR σ (upd2 σ' 7 j v) := by
  refine ⟨fun k a b => ?_, fun i a b c d => ?_⟩
  · rw [u2_k _ _ _ b]; exact h.1 k a b
  · rw [u2_k _ _ _ (by decide)]; exact h.2 i a b c d
section ST
variable {σ σ' : Nat → Nat → Int32} {a b c d : Int32} {w : Nat → Option Nat} {r : Nat}
theorem StX.p8 (h : StX σ σ' a b c d w r) (v : Int32) : StX σ (upd2 σ' 0 8 v) v b c d w r := by
  obtain ⟨h0, h1, h2, h3, h4, h5⟩ := h
  exact ⟨h0.put v (Or.inl rfl), u2_s _ _ _ _, by rw [u2_j _ _ _ (by decide), h2], by rw [u2_j _ _ _ (by decide), h3], by rw [u2_j _ _ _ (by decide), h4], fun j hj => by rw [u2_k _ _ _ (by decide), h5 j hj]⟩
theorem StX.p9 (h : StX σ σ' a b c d w r) (v : Int32) : StX σ (upd2 σ' 0 9 v) a v c d w r := by
  obtain ⟨h0, h1, h2, h3, h4, h5⟩ := h
  exact ⟨h0.put v (Or.inr (Or.inl rfl)), by rw [u2_j _ _ _ (by decide), h1], u2_s _ _ _ _, by rw [u2_j _ _ _ (by decide), h3], by rw [u2_j _ _ _ (by decide), h4], fun j hj => by rw [u2_k _ _ _ (by decide), h5 j hj]⟩
theorem StX.p10 (h : StX σ σ' a b c d w r) (v : Int32) : StX σ (upd2 σ' 0 10 v) a b v d w r := by
  obtain ⟨h0, h1, h2, h3, h4, h5⟩ := h
  exact ⟨h0.put v (Or.inr (Or.inr (Or.inl rfl))), by rw [u2_j _ _ _ (by decide), h1], by rw [u2_j _ _ _ (by decide), h2], u2_s _ _ _ _, by rw [u2_j _ _ _ (by decide), h4], fun j hj => by rw [u2_k _ _ _ (by decide), h5 j hj]⟩
theorem StX.p11 (h : StX σ σ' a b c d w r) (v : Int32) : StX σ (upd2 σ' 0 11 v) a b c v w r := by
  obtain ⟨h0, h1, h2, h3, h4, h5⟩ := h
  exact ⟨h0.put v (Or.inr (Or.inr (Or.inr rfl))), by rw [u2_j _ _ _ (by decide), h1], by rw [u2_j _ _ _ (by decide), h2], by rw [u2_j _ _ _ (by decide), h3], u2_s _ _ _ _, fun j hj => by rw [u2_k _ _ _ (by decide), h5 j hj]⟩
theorem StX.p7 (h : StX σ σ' a b c d w r) (o : Option Nat) : StX σ (upd2 σ' 7 r (eN o)) a b c d (fun j => if j = r then o else w j) (r + 1) := by
  obtain ⟨h0, h1, h2, h3, h4, h5⟩ := h
  refine ⟨h0.put7 _ _, by rw [u2_k _ _ _ (by decide), h1], by rw [u2_k _ _ _ (by decide), h2], by rw [u2_k _ _ _ (by decide), h3], by rw [u2_k _ _ _ (by decide), h4], fun j hj => ?_⟩
  by_cases e : j = r
  · subst e
    show _ = eN (if j = j then o else w j)
    rw [u2_s, if_pos rfl]
  · show _ = eN (if j = r then o else w j)
    rw [u2_j _ _ _ e, h5 j (by omega), if_neg e]
theorem StX.ww (h : StX σ σ' a b c d w r) {w' : Nat → Option Nat} (e : ∀ j, j < r → w j = w' j) : StX σ σ' a b c d w' r := ⟨h.1, h.2.1, h.2.2.1, h.2.2.2.1, h.2.2.2.2.1, fun j hj => by rw [h.2.2.2.2.2 j hj, e j hj]⟩
end ST
theorem lo_nI {k : Nat} (hk : k < 4) : kLoses (nI k) = nI (loN k) := by
  have : ∀ k : Fin 4, kLoses (nI k.val) = nI (loN k.val) := by decide +kernel
  exact this ⟨k, hk⟩
theorem loN_le (k : Nat) : 1 ≤ loN k ∧ loN k ≤ 6 := by
  unfold loN
  split
  · decide
  · split
    · decide
    · split <;> decide
theorem on_nI {k row col : Nat} (b : Bool) (hk : k < 4) (hr : row < 10) (hc : col < 8) : f_X0_onSlope (nI col + (if b then -(kTurns (nI k) (nI row)) else kTurns (nI k) (nI row))) = some (nI (toN k row col b)) := by
  have : ∀ (k : Fin 4) (row : Fin 10) (col : Fin 8), (f_X0_onSlope (nI col.val + (if true then -(kTurns (nI k.val) (nI row.val)) else kTurns (nI k.val) (nI row.val))) = some (nI (toN k.val row.val col.val true))) ∧ (f_X0_onSlope (nI col.val + (if false then -(kTurns (nI k.val) (nI row.val)) else kTurns (nI k.val) (nI row.val))) = some (nI (toN k.val row.val col.val false))) := by decide +kernel
  cases b
  · exact (this ⟨k, hk⟩ ⟨row, hr⟩ ⟨col, hc⟩).2
  · exact (this ⟨k, hk⟩ ⟨row, hr⟩ ⟨col, hc⟩).1
theorem toN_lt (k row col : Nat) (b : Bool) : toN k row col b < 8 := by unfold toN; omega
theorem sh31 : ∀ n, n < 32 → ((nI n &&& 31).toBitVec.smod 32).toNat = n := by
  have : ∀ n : Fin 32, ((nI n.val &&& 31).toBitVec.smod 32).toNat = n.val := by decide +kernel
  exact fun n h => this ⟨n, h⟩
theorem bit_nI {a r : Nat} (ha : a < 2 ^ 31) (hr : r < 32) : ((nI a >>> (nI r &&& 31)) &&& 1) = nI (a / 2 ^ r % 2) := by
  rw [pk_shrN ha _ r (sh31 r hr)]
  exact pk_andN (Nat.lt_of_le_of_lt (Nat.div_le_self _ _) (by omega)) 1 (by decide)
theorem tb_div (a r : Nat) : a.testBit r = decide (a / 2 ^ r % 2 = 1) := by
  rw [Nat.testBit_eq_decide_div_mod_eq]
theorem has_nI {a r : Nat} (ha : a < 2 ^ 31) (hr : r < 32) : f_X0_has (nI a) (nI r) = some (b2i (a.testBit r)) := by
  unfold f_X0_has
  rw [bit_nI ha hr, tb_div]
  by_cases h : a / 2 ^ r % 2 = 1
  · rw [h, if_pos (show nI 1 = 1 from rfl), decide_eq_true rfl]
    rfl
  · rw [if_neg (show ¬ nI (a / 2 ^ r % 2) = 1 from fun e => h ((nI_eq (by omega) (by decide)).mp (e.trans n_1))), decide_eq_false h]
    rfl
theorem runS_lt {p : Nat → Nat} {k oth : Nat} : ∀ {n row sp col met : Nat} {w : Nat → Option Nat} {R : RunR}, runS p k oth n row sp col met w = R → (∀ i, R.1 = some i → i < p 38) ∧ R.2.2.1 ≤ met + n ∧ (R.2.1 = 10 ∨ R.2.1 < row + n)
  | 0, row, sp, col, met, w, R, h => by
    subst h
    unfold runS
    refine ⟨fun i q => ?_, ?_, Or.inl rfl⟩
    · cases q
    · show met ≤ met + 0; omega
  | n + 1, row, sp, col, met, w, R, h => by
    unfold runS at h
    cases e : slugAt p (10 * row + col) with
    | some j =>
      rw [e] at h
      subst h
      refine ⟨fun i q => ?_, ?_, Or.inr ?_⟩
      · cases q
      · show met ≤ met + (n + 1); omega
      · show row < row + (n + 1); omega
    | none =>
      rw [e] at h
      cases e2 : pegAt p (10 * row + col) with
      | none =>
        rw [e2] at h
        have := runS_lt h
        exact ⟨this.1, by omega, this.2.2.imp id (fun q => by omega)⟩
      | some i =>
        rw [e2] at h
        dsimp only at h
        by_cases hs : sp ≤ loN k
        · rw [if_pos hs] at h
          subst h
          refine ⟨fun j q => ?_, ?_, Or.inr ?_⟩
          · cases q
            exact (fstI_some e2).1
          · show met + 1 ≤ met + (n + 1); omega
          · show row < row + (n + 1); omega
        · rw [if_neg hs] at h
          have := runS_lt h
          exact ⟨this.1, by omega, this.2.2.imp id (fun q => by omega)⟩
theorem run_rest {p : Nat → Nat} {h fr oth i : Nat} (e : (run p h fr oth).1 = some i) : i < p 38 := (runS_lt (R := run p h fr oth) rfl).1 i e
theorem run_met (p : Nat → Nat) (h fr oth : Nat) : (run p h fr oth).2.2.1 ≤ 10 := by have := (runS_lt (R := run p h fr oth) rfl).2.1; omega
theorem run_ended (p : Nat → Nat) (h fr oth : Nat) : (run p h fr oth).2.1 ≤ 10 := by have := (runS_lt (R := run p h fr oth) rfl).2.2; omega
