/-! ===== masks, counts; winners; suits won ===== -/
set_option maxRecDepth 100000
def msk (f : Nat → Bool) : Nat → Nat
  | 0 => 0
  | n + 1 => msk f n ||| (if f n then 2 ^ n else 0)
def cnt (f : Nat → Bool) : Nat → Nat
  | 0 => 0
  | n + 1 => cnt f n + (if f n then 1 else 0)
theorem msk_tb (f : Nat → Bool) (j : Nat) : ∀ n, (msk f n).testBit j = (decide (j < n) && f j)
  | 0 => by simp [msk]
  | n + 1 => by
    unfold msk
    rw [Nat.testBit_or, msk_tb f j n]
    by_cases e : j = n
    · subst e
      cases h : f j <;> simp
    · have e2 : (if f n = true then 2 ^ n else 0).testBit j = false := by
        split
        · rw [Nat.testBit_two_pow]; exact decide_eq_false (fun q => e q.symm)
        · exact Nat.zero_testBit j
      rw [e2, Bool.or_false]
      by_cases h : j < n
      · rw [decide_eq_true h, decide_eq_true (by omega : j < n + 1)]
      · rw [decide_eq_false h, decide_eq_false (by omega : ¬ j < n + 1)]
theorem msk_lt (f : Nat → Bool) (n : Nat) : msk f n < 2 ^ n := by
  apply Nat.lt_pow_two_of_testBit
  intro i hi
  rw [msk_tb, decide_eq_false (by omega), Bool.false_and]
theorem msk_congr {f g : Nat → Bool} : ∀ {n : Nat}, (∀ i, i < n → f i = g i) → msk f n = msk g n
  | 0, _ => rfl
  | n + 1, h => by unfold msk; rw [msk_congr (fun i hi => h i (by omega)), h n (by omega)]
theorem cnt_congr {f g : Nat → Bool} : ∀ {n : Nat}, (∀ i, i < n → f i = g i) → cnt f n = cnt g n
  | 0, _ => rfl
  | n + 1, h => by unfold cnt; rw [cnt_congr (fun i hi => h i (by omega)), h n (by omega)]
theorem cnt_le (f : Nat → Bool) : ∀ n, cnt f n ≤ n
  | 0 => Nat.le_refl _
  | n + 1 => by unfold cnt; have := cnt_le f n; split <;> omega
theorem cnt_pad (f : Nat → Bool) (n : Nat) : ∀ k, cnt (fun j => decide (j < n) && f j) (n + k) = cnt f n
  | 0 => cnt_congr (fun i hi => by rw [decide_eq_true (show i < n from hi)]; rfl)
  | k + 1 => by
    show cnt (fun j => decide (j < n) && f j) (n + k) + (if (decide (n + k < n) && f (n + k)) = true then 1 else 0) = _
    rw [cnt_pad f n k, decide_eq_false (by omega)]
    rfl
theorem nI_or (a b : Nat) : nI a ||| nI b = nI (a ||| b) := by
  apply Int32.toBitVec_inj.mp
  exact BitVec.ofNat_or.symm
theorem nI_and (a b : Nat) : nI a &&& nI b = nI (a &&& b) := by
  apply Int32.toBitVec_inj.mp
  exact BitVec.ofNat_and.symm
theorem shl_nI {i : Nat} (h : i < 31) : (1 : Int32) <<< (nI i &&& 31) = nI (2 ^ i) := by
  have : ∀ i : Fin 31, (1 : Int32) <<< (nI i.val &&& 31) = nI (2 ^ i.val) := by decide +kernel
  exact this ⟨i, h⟩
theorem msk_S {f : Nat → Bool} {i : Nat} (h : i < 31) : nI (msk f i) ||| (if f i then (1 : Int32) <<< (nI i &&& 31) else 0) = nI (msk f (i + 1)) := by
  rw [shl_nI h]
  show _ = nI (msk f i ||| (if f i = true then 2 ^ i else 0))
  rw [← nI_or]
  cases f i <;> rfl
theorem oLoop_inl {σ ρ : Type} {f : σ → Option (σ ⊕ ρ)} {n : Nat} {s s' : σ} (h : f s = some (.inl s')) : oLoop (n + 1) f s = oLoop n f s' := by
  rw [oLoop, h]
theorem oLoop_inr {σ ρ : Type} {f : σ → Option (σ ⊕ ρ)} {n : Nat} {s : σ} {r : ρ} (h : f s = some (.inr r)) : oLoop (n + 1) f s = some r := by
  rw [oLoop, h]
theorem bm0 (a : Nat) : f_X7_bitsOf_L4 (nI a) (nI 0) = some (.inr (nI a)) := by
  unfold f_X7_bitsOf_L4
  rw [if_pos (show nI 0 ≤ 0 by decide)]
  rfl
theorem bm1 {m : Nat} (a : Nat) (h : m < 2 ^ 31) (h0 : m ≠ 0) : f_X7_bitsOf_L4 (nI a) (nI m) = some (.inl (nI (a + m % 2), nI (m / 2))) := by
  unfold f_X7_bitsOf_L4
  rw [if_neg (fun q => h0 (by have := (nle (b := 0) h (by decide)).mp q; omega)), pk_andN (Nat.lt_of_lt_of_le h (by decide)) 1 (by decide)]
  rw [show (1 : Int32) &&& 31 = nI 1 &&& 31 from rfl, pk_shrN h _ 1 (sh31 1 (by decide)), nI_add]
theorem bitc {m : Nat} (h : m < 1024) : f_J7_bitCount (nI m) = some (nI (cnt m.testBit 10)) := by
  have : ∀ m : Fin 1024, f_J7_bitCount (nI m.val) = some (nI (cnt m.val.testBit 10)) := by decide +kernel
  exact this ⟨m, h⟩
theorem bitc_msk {f : Nat → Bool} {n : Nat} (h : n ≤ 10) : f_J7_bitCount (nI (msk f n)) = some (nI (cnt f n)) := by
  have hl := msk_lt f n
  have : 2 ^ n ≤ 2 ^ 10 := Nat.pow_le_pow_right (by decide) h
  rw [bitc (by omega)]
  have e : cnt (msk f n).testBit 10 = cnt f n := by
    rw [← cnt_pad f n (10 - n), show n + (10 - n) = 10 from by omega]
    exact cnt_congr (fun i _ => msk_tb f i n)
  rw [e]
theorem bitm {m : Nat} (h : m < 1024) : f_X7_bitsOf (nI m) = some (nI (cnt m.testBit 10)) := by
  have key : ∀ (k m a : Nat), m < 2 ^ k → a + k < 100 → k < 20 → ∀ fu, k < fu → oLoop fu (fun v : Int32 × Int32 => f_X7_bitsOf_L4 v.1 v.2) (nI a, nI m) = some (nI (a + cnt m.testBit k)) := by
    intro k
    induction k with
    | zero =>
      intro m a hm ha _ fu hf
      have : m = 0 := by omega
      subst this
      obtain ⟨n, rfl⟩ : ∃ n, fu = n + 1 := ⟨fu - 1, by omega⟩
      exact oLoop_inr (bm0 a)
    | succ k ih =>
      intro m a hm ha hk fu hf
      obtain ⟨n, rfl⟩ : ∃ n, fu = n + 1 := ⟨fu - 1, by omega⟩
      have hm31 : m < 2 ^ 31 := Nat.lt_of_lt_of_le hm (Nat.pow_le_pow_right (by decide) (by omega))
      by_cases h0 : m = 0
      · subst h0
        rw [oLoop_inr (r := nI a) (bm0 a)]
        have e : ∀ k, cnt (Nat.testBit 0) k = 0 := by
          intro k
          induction k with
          | zero => rfl
          | succ k ih => unfold cnt; rw [ih, Nat.zero_testBit]; rfl
        rw [e]
        rfl
      · rw [oLoop_inl (s' := (nI (a + m % 2), nI (m / 2))) (bm1 a hm31 h0)]
        rw [ih (m / 2) (a + m % 2) (by rw [Nat.pow_succ] at hm; omega) (by omega) (by omega) n (by omega)]
        have e : ∀ k, cnt m.testBit (k + 1) = m % 2 + cnt (m / 2).testBit k := by
          intro k
          induction k with
          | zero =>
            unfold cnt cnt
            rw [Nat.testBit_zero]
            by_cases q : m % 2 = 1
            · rw [q]; rfl
            · have : m % 2 = 0 := by omega
              rw [this]; rfl
          | succ k ih =>
            unfold cnt
            rw [ih, Nat.testBit_succ]
            show _ = m % 2 + (cnt (m / 2).testBit k + _)
            omega
        rw [e k, Nat.add_assoc]
  have := key 10 m 0 h (by decide) (by decide) gFU (by rw [gFU_eq]; decide)
  unfold f_X7_bitsOf f_X7_bitsOf_b4
  rw [n_0, this, Nat.zero_add]
theorem bitm_msk {f : Nat → Bool} {n : Nat} (h : n ≤ 10) : f_X7_bitsOf (nI (msk f n)) = some (nI (cnt f n)) := by
  have hl := msk_lt f n
  have : 2 ^ n ≤ 2 ^ 10 := Nat.pow_le_pow_right (by decide) h
  have a := bitc (m := msk f n) (by omega)
  rw [bitm (by omega), ← a, bitc_msk h]
/-- a loop that makes a mask -/
theorem oW_msk {ρ : Type} {f : Int32 × Int32 × (Nat → Nat → Int32) → Option ((Int32 × Int32 × (Nat → Nat → Int32)) ⊕ ρ)} {P : ρ → Prop} (A : (Nat → Nat → Int32) → Prop) (b : Nat → Bool) (d N : Nat) (hd : d ≤ N) (hN : N < 31) {s0 : Nat → Nat → Int32} (hb : msk b d = 0) (h0 : A s0)
    (hs : ∀ i s, d ≤ i → i < N → A s → oW (f (nI (msk b i), nI i, s)) (oS (fun s' => s'.1 = nI (msk b i) ||| (if b i then (1 : Int32) <<< (nI i &&& 31) else 0) ∧ s'.2.1 = nI i + 1 ∧ A s'.2.2) P))
    (he : ∀ s, A s → oW (f (nI (msk b N), nI N, s)) (oS (fun _ => False) P)) : oW (oLoop gFU f (0, nI d, s0)) P := by
  refine oW_lp (fun i s => s.1 = nI (msk b (d + i)) ∧ s.2.1 = nI (d + i) ∧ A s.2.2) (N - d) (by rw [gFU_eq]; omega) ⟨by rw [Nat.add_zero, hb]; rfl, rfl, h0⟩ ?_
  rintro i ⟨a, c, s⟩ hi ⟨rfl, rfl, hA⟩
  dsimp only at hA ⊢
  by_cases h : d + i = N
  · rw [h]
    obtain ⟨o, e, ho⟩ := he s hA
    refine ⟨o, e, ?_⟩
    cases o with
    | inl _ => exact ho.elim
    | inr r => exact ho
  · obtain ⟨o, e, ho⟩ := hs (d + i) s (by omega) (by omega) hA
    refine ⟨o, e, ?_⟩
    cases o with
    | inr r => exact ho
    | inl s' =>
      refine ⟨by omega, ?_, ?_, ho.2.2⟩
      · rw [ho.1, msk_S (by omega)]; rfl
      · rw [ho.2.1, nI_1]; rfl
def winr (p : Nat → Nat) (R : RunR) : Option Nat := R.1.map (fun i => p (7 + i))
def suitR (p : Nat → Nat) (i : Nat) : RunR := run p (p (26 + i)) (p (32 + i)) 0
def isW (p : Nat → Nat) (k : Nat) (i : Nat) : Bool := winr p (suitR p i) == some k
def isA (p : Nat → Nat) (i : Nat) : Bool := (winr p (suitR p i)).isSome
theorem eN_eq {o : Option Nat} {k : Nat} (ho : ∀ i, o = some i → i < 2 ^ 31) (hk : k < 2 ^ 31) : eN o = nI k ↔ o = some k := by
  cases o with
  | none => exact ⟨fun e => absurd e.symm (nI_nm4 hk), fun e => nomatch e⟩
  | some i =>
    show nI i = nI k ↔ _
    rw [nI_eq (ho i rfl) hk]
    exact ⟨fun e => by rw [e], fun e => Option.some.inj e⟩
section WN
variable {σ σ' μ μ' : Nat → Nat → Int32} {t o : Nat} {p : Nat → Nat} {R : RunR}
theorem winr_lt (w : WF p) (hR : ∀ i, R.1 = some i → i < p 38) : ∀ k, winr p R = some k → k < 4 := by
  intro k e
  unfold winr at e
  cases h : R.1 with
  | none => rw [h] at e; cases e
  | some i =>
    rw [h] at e
    cases e
    exact w.rag (hR i h)
theorem suit_lt (w : WF p) (i : Nat) : ∀ k, winr p (suitR p i) = some k → k < 4 := winr_lt w (fun _ e => run_rest e)
theorem x_winner (hg : PgX σ t p) (w : WF p) (hR : ∀ i, R.1 = some i → i < p 38) (h8 : σ 0 8 = eN R.1) : f_X0_winner σ t = some (eN (winr p R)) := by
  unfold f_X0_winner winr
  rw [h8]
  have hnp := w.np
  cases h : R.1 with
  | none => exact if_pos rfl
  | some i =>
    have hi := hR i h
    rw [if_neg (show ¬ eN (some i) = -4 from nI_nm4 (by omega))]
    show oC (inb (nI i) 7) (some (σ (sb t + 2) (nI i).toNatClampNeg)) = _
    rw [inb_t (by omega) (by decide), nI_clamp (by omega), hg.rag hi]
    rfl
/-- a run and its winner -/
theorem x_runW (hg : PgX σ t p) (w : WF p) {h fr : Nat} (hh : h < p 41) (hf : fr < 8) {α : Type} {f : (Nat → Nat → Int32) → Option α} {P : α → Prop} (k : ∀ σ', RunX σ σ' (run p h fr 0) → f_X0_winner σ' t = some (eN (winr p (run p h fr 0))) → oW (f σ') P) : oW (oB (f_X0_runs σ t (nI h) (nI fr) 0) f) P := by
  refine oW_B (x_runs hg w hh hf (by decide : 0 < 2 ^ 31)) (fun σ' hr => k σ' hr (x_winner (hr.1.pg hg) w (fun _ e => run_rest e) hr.2.1))
theorem x_goes (hg : PgX σ t p) (w : WF p) {i : Nat} (hi : i < p 40) : oW (f_X0_goes σ t (nI i)) (fun σ' => RunX σ σ' (suitR p i) ∧ f_X0_winner σ' t = some (eN (winr p (suitR p i)))) := by
  have hnu := w.nu
  have hwho := w.who hi
  have hnh := w.nh
  unfold f_X0_goes
  rw [n_2, nI_mul, nI_1, nI_clamp (by omega), nI_clamp (by omega), hg.who hi, hg.frm hi]
  refine oW_C (inb_t (by omega) (by decide)) (oW_C (inb_t (by omega) (by decide)) ?_)
  exact x_runW hg w hwho (w.frm hi) (fun σ' hr hw => oW_some ⟨hr, hw⟩)
theorem x_won (hg : PgX σ t p) (w : WF p) {k : Nat} (hk : k < 4) : oW (f_X0_won σ t (nI k)) (fun r => r.1 = nI (msk (isW p k) (p 40)) ∧ FrR σ r.2) := by
  have hnu := w.nu
  unfold f_X0_won f_X0_won_b5
  refine oW_msk (FrR σ) (isW p k) 0 (p 40) (by omega) (by omega) rfl FrR.rf ?_ ?_
  · intro i s _ hi hs
    show oW (f_X0_won_L5 s t (nI k) (nI (msk (isW p k) i)) (nI i)) _
    unfold f_X0_won_L5
    rw [(hs.pg hg).suits]
    refine oW_f (fun q => ?_) (oW_B (x_goes (hs.pg hg) w hi) (fun σ' hr => oW_Be hr.2 ?_))
    · have := (nle (by omega) (by omega)).mp q
      omega
    have fr := hs.tr hr.1.1
    unfold f_X0_won_b39
    by_cases e : winr p (suitR p i) = some k
    · rw [show isW p k i = true from by unfold isW; rw [e]; exact beq_self_eq_true _]
      exact oW_t ((eN_eq (fun j h => by have := suit_lt w i j h; omega) (by omega)).mpr e) (oS_l ⟨rfl, rfl, fr⟩)
    · rw [show isW p k i = false from by unfold isW; exact beq_eq_false_iff_ne.mpr e]
      exact oW_f (fun q => e ((eN_eq (fun j h => by have := suit_lt w i j h; omega) (by omega)).mp q)) (oS_l ⟨rfl, rfl, fr⟩)
  · intro s hs
    show oW (f_X0_won_L5 s t (nI k) (nI (msk (isW p k) (p 40))) (nI (p 40))) _
    unfold f_X0_won_L5
    rw [(hs.pg hg).suits]
    exact oW_t (Int32.le_refl _) (oS_r ⟨rfl, hs⟩)
theorem x_wonMany (hg : PgX σ t p) (w : WF p) {k : Nat} (hk : k < 4) : oW (f_X0_wonMany σ t (nI k)) (fun r => r.1 = nI (cnt (isW p k) (p 40)) ∧ FrR σ r.2) := by
  have hnu := w.nu
  unfold f_X0_wonMany
  refine oW_B (x_won hg w hk) (fun r hr => ?_)
  rw [hr.1]
  exact oW_Be (bitc_msk (by omega)) (oW_some ⟨rfl, hr.2⟩)
theorem any_or (w : WF p) (n : Nat) : msk (isW p 0) n ||| msk (isW p 1) n ||| msk (isW p 2) n ||| msk (isW p 3) n = msk (isA p) n := by
  apply Nat.eq_of_testBit_eq
  intro j
  rw [Nat.testBit_or, Nat.testBit_or, Nat.testBit_or, msk_tb, msk_tb, msk_tb, msk_tb, msk_tb, ← Bool.and_or_distrib_left, ← Bool.and_or_distrib_left, ← Bool.and_or_distrib_left]
  congr 1
  unfold isW isA
  have hl := suit_lt w j
  cases h : winr p (suitR p j) with
  | none => rfl
  | some k =>
    have hk := hl k h
    have : ∀ k : Fin 4, (((some k.val == some 0) || (some k.val == some 1)) || (some k.val == some 2) || (some k.val == some 3)) = true := by decide
    exact this ⟨k, hk⟩
theorem x_wonByAny (hg : PgX σ t p) (w : WF p) : oW (f_X0_wonByAny σ t) (fun r => r.1 = nI (msk (isA p) (p 40)) ∧ FrR σ r.2) := by
  unfold f_X0_wonByAny f_X0_wonByAny_b4
  have step : ∀ s m i, FrR σ s → i < 4 → oW (f_X0_wonByAny_L4 s t (nI m) (nI i)) (oS (fun s' => s'.1 = nI (m ||| msk (isW p i) (p 40)) ∧ s'.2.1 = nI (i + 1) ∧ FrR σ s'.2.2) (fun r => r.1 = nI (msk (isA p) (p 40)) ∧ FrR σ r.2)) := by
    intro s m i hs hi
    unfold f_X0_wonByAny_L4
    refine oW_f (fun q => ?_) (oW_B (x_won (hs.pg hg) w hi) (fun r hr => ?_))
    · rw [n_4] at q
      have := (nle (by omega) (by omega)).mp q
      omega
    · rw [hr.1, nI_or, nI_1]
      exact oS_l ⟨rfl, rfl, hs.tr hr.2⟩
  refine oW_lp (fun i s => s.1 = nI ((if 0 < i then msk (isW p 0) (p 40) else 0) ||| (if 1 < i then msk (isW p 1) (p 40) else 0) ||| (if 2 < i then msk (isW p 2) (p 40) else 0) ||| (if 3 < i then msk (isW p 3) (p 40) else 0)) ∧ s.2.1 = nI i ∧ FrR σ s.2.2) 4 (by rw [gFU_eq]; omega) ⟨by simp; rfl, rfl, FrR.rf⟩ ?_
  rintro i ⟨a, c, s⟩ hi ⟨rfl, rfl, hs⟩
  dsimp only at hs ⊢
  by_cases h4 : i = 4
  · subst h4
    unfold f_X0_wonByAny_L4
    refine oW_t (Int32.le_refl _) (oS_r ⟨?_, hs⟩)
    show nI (msk (isW p 0) (p 40) ||| msk (isW p 1) (p 40) ||| msk (isW p 2) (p 40) ||| msk (isW p 3) (p 40)) = _
    rw [any_or w]
  · obtain ⟨o, e, ho⟩ := step s ((if 0 < i then msk (isW p 0) (p 40) else 0) ||| (if 1 < i then msk (isW p 1) (p 40) else 0) ||| (if 2 < i then msk (isW p 2) (p 40) else 0) ||| (if 3 < i then msk (isW p 3) (p 40) else 0)) i hs (by omega)
    refine ⟨o, e, ?_⟩
    cases o with
    | inr r => exact ho
    | inl s' =>
      refine ⟨by omega, ?_, ho.2.1, ho.2.2⟩
      rw [ho.1]
      have : i = 0 ∨ i = 1 ∨ i = 2 ∨ i = 3 := by omega
      rcases this with rfl | rfl | rfl | rfl
      · simp
      · simp
      · simp
      · simp
end WN
