/-! ===== THE PURE LAYER: what the option programs answer ===== -/
set_option maxRecDepth 100000
/-! option programs, goal first -/
def oW {α : Type} (x : Option α) (P : α → Prop) : Prop := ∃ a, x = some a ∧ P a
theorem oW_some {α : Type} {a : α} {P : α → Prop} (h : P a) : oW (some a) P := ⟨a, rfl, h⟩
theorem oW_C {α : Type} {b : Bool} {x : Option α} {P : α → Prop} (h : b = true) (k : oW x P) : oW (oC b x) P := by
  subst h
  exact k
theorem oW_L {σ α : Type} {s : σ} {f : σ → Option α} {P : α → Prop} (k : oW (f s) P) : oW (oL s f) P := k
theorem oW_B {α β : Type} {x : Option α} {f : α → Option β} {Q : α → Prop} {P : β → Prop} (h : oW x Q) (k : ∀ a, Q a → oW (f a) P) : oW (oB x f) P := by
  obtain ⟨a, rfl, ha⟩ := h
  exact k a ha
theorem oW_Be {α β : Type} {x : Option α} {f : α → Option β} {a : α} {P : β → Prop} (h : x = some a) (k : oW (f a) P) : oW (oB x f) P := by
  subst h
  exact k
theorem oW_I {α β : Type} {x : Option α} {P : β ⊕ α → Prop} (k : oW x (fun a => P (.inr a))) : oW (oI x) P := by
  obtain ⟨a, rfl, ha⟩ := k
  exact ⟨_, rfl, ha⟩
theorem oW_ite {α : Type} {c : Prop} [Decidable c] {a b : Option α} {P : α → Prop} (h1 : c → oW a P) (h2 : ¬ c → oW b P) : oW (if c then a else b) P := by
  by_cases h : c
  · rw [if_pos h]; exact h1 h
  · rw [if_neg h]; exact h2 h
theorem oW_t {α : Type} {c : Prop} [Decidable c] {a b : Option α} {P : α → Prop} (h : c) (k : oW a P) : oW (if c then a else b) P := by rw [if_pos h]; exact k
theorem oW_f {α : Type} {c : Prop} [Decidable c] {a b : Option α} {P : α → Prop} (h : ¬ c) (k : oW b P) : oW (if c then a else b) P := by rw [if_neg h]; exact k
theorem oW_mono {α : Type} {x : Option α} {P Q : α → Prop} (h : oW x P) (k : ∀ a, P a → Q a) : oW x Q := by
  obtain ⟨a, e, ha⟩ := h
  exact ⟨a, e, k a ha⟩
/-- a loop by an invariant over the count i of its rounds, N at most: it goes on, or ends with P -/
theorem oW_loop {σ ρ : Type} {f : σ → Option (σ ⊕ ρ)} {P : ρ → Prop} (I : Nat → σ → Prop) (N : Nat) (hs : ∀ i s, i ≤ N → I i s → oW (f s) (fun o => match o with
    | .inl s' => i < N ∧ I (i + 1) s'
    | .inr r => P r)) : ∀ (fuel i : Nat) (s : σ), i ≤ N → N < fuel + i → I i s → oW (oLoop fuel f s) P := by
  intro fuel
  induction fuel with
  | zero => intro i s hi hf; omega
  | succ n ih =>
    intro i s hi hf h
    obtain ⟨o, e, ho⟩ := hs i s hi h
    unfold oLoop
    rw [e]
    cases o with
    | inl s' => exact ih (i + 1) s' ho.1 (by omega) ho.2
    | inr r => exact ⟨r, rfl, ho⟩
theorem oW_loop0 {σ ρ : Type} {f : σ → Option (σ ⊕ ρ)} {P : ρ → Prop} (I : Nat → σ → Prop) (N : Nat) (hN : N < gFU) {s : σ} (h0 : I 0 s) (hs : ∀ i s, i ≤ N → I i s → oW (f s) (fun o => match o with
    | .inl s' => i < N ∧ I (i + 1) s'
    | .inr r => P r)) : oW (oLoop gFU f s) P := oW_loop I N hs gFU 0 s (Nat.zero_le _) (by omega) h0
def oS {σ ρ : Type} (A : σ → Prop) (P : ρ → Prop) : σ ⊕ ρ → Prop
  | .inl s => A s
  | .inr r => P r
theorem oW_lp {σ ρ : Type} {f : σ → Option (σ ⊕ ρ)} {P : ρ → Prop} (I : Nat → σ → Prop) (N : Nat) (hN : N < gFU) {s : σ} (h0 : I 0 s) (hs : ∀ i s, i ≤ N → I i s → oW (f s) (oS (fun s' => i < N ∧ I (i + 1) s') P)) : oW (oLoop gFU f s) P := by
  refine oW_loop0 I N hN h0 (fun i s hi h => ?_)
  obtain ⟨o, e, ho⟩ := hs i s hi h
  refine ⟨o, e, ?_⟩
  cases o with
  | inl s' => exact ho
  | inr r => exact ho
theorem oS_l {σ ρ : Type} {A : σ → Prop} {P : ρ → Prop} {s : σ} (h : A s) : oW (some (.inl s)) (oS A P) := oW_some h
theorem oS_r {σ ρ : Type} {A : σ → Prop} {P : ρ → Prop} {r : ρ} (h : P r) : oW (oI (some r)) (oS A P) := oW_I (oW_some h)
theorem oW_eq {α : Type} {x : Option α} {v : α} (h : oW x (fun a => a = v)) : x = some v := by
  obtain ⟨a, e, rfl⟩ := h
  exact e
theorem gFU_eq : gFU = 5000 := rfl
/-! small numbers -/
theorem nlit (n : Nat) : (@OfNat.ofNat Int32 n Int32.instOfNat) = nI (@OfNat.ofNat Nat n (instOfNatNat n)) := rfl
theorem inb_nI {i n : Nat} (h : i < 2 ^ 31) : inb (nI i) n = decide (i < n) := by
  unfold inb
  rw [nI_clamp h]
  have h0 : ¬ nI i < 0 := nI_pos h
  by_cases hi : i < n
  · rw [decide_eq_true hi]
    exact decide_eq_true (fun q => q.elim h0 (fun q => by omega))
  · rw [decide_eq_false hi]; exact decide_eq_false (by intro q; exact q (Or.inr (by omega)))
theorem inb_t {i n : Nat} (hi : i < n) (hn : n < 2 ^ 31) : inb (nI i) n = true := by
  rw [inb_nI (by omega)]
  exact decide_eq_true hi
theorem nI_nm4 {n : Nat} (h : n < 2 ^ 31) : ¬ nI n = -4 := by
  intro e
  have := congrArg Int32.toInt e
  rw [nI_toInt h] at this
  have h4 : (-4 : Int32).toInt = -4 := by decide
  omega
/-- an index or none -/
def eN : Option Nat → Int32
  | none => -4
  | some i => nI i
theorem eN_none {o : Option Nat} (h : ∀ i, o = some i → i < 2 ^ 31) : eN o = -4 ↔ o = none := by
  cases o with
  | none => exact ⟨fun _ => rfl, fun _ => rfl⟩
  | some i => exact ⟨fun e => absurd e (nI_nm4 (h i rfl)), fun e => nomatch e⟩
def b2i (b : Bool) : Int32 := if b then 1 else 0
theorem b2i_0 (b : Bool) : b2i b = 0 ↔ b = false := by cases b <;> decide
theorem b2i_1 (b : Bool) : b2i b = 1 ↔ b = true := by cases b <;> decide
theorem isB_b2i (b : Bool) : isB (b2i b) = true := by cases b <;> decide
theorem nbt_nI {n : Nat} (h : n < 128) : nbt (nI n) = nI n := by
  have : ∀ k : Fin 128, nbt (nI k.val) = nI k.val := by decide +kernel
  exact this ⟨n, h⟩
theorem i2b_nI {n : Nat} (h : n < 128) : Int8.toInt32 (Int32.toInt8 (nI n)) = nI n := by
  have : ∀ k : Fin 128, Int8.toInt32 (Int32.toInt8 (nI k.val)) = nI k.val := by decide +kernel
  exact this ⟨n, h⟩
theorem fitB_nI {n : Nat} (h : n < 128) : fits .byte (.int (nI n)) = true := by
  have : ∀ k : Fin 128, fits .byte (.int (nI k.val)) = true := by decide +kernel
  exact this ⟨n, h⟩
/-! in(v, low, high) -/
theorem lg_cmp_lt0 (x y : Int64) : lg_cmp x y < 0 ↔ x < y := by
  unfold lg_cmp
  by_cases h1 : x > y
  · rw [if_pos h1]
    refine ⟨fun q => absurd q (by decide), fun q => ?_⟩
    rw [gt_iff_lt, Int64.lt_iff_toInt_lt] at h1
    rw [Int64.lt_iff_toInt_lt] at q
    omega
  · rw [if_neg h1]
    by_cases h2 : x = y
    · rw [if_pos h2]
      subst h2
      exact ⟨fun q => absurd q (by decide), fun q => absurd q h1⟩
    · rw [if_neg h2]
      refine ⟨fun _ => ?_, fun _ => by decide⟩
      rw [gt_iff_lt, Int64.lt_iff_toInt_lt] at h1
      rw [← Int64.toInt_inj] at h2
      rw [Int64.lt_iff_toInt_lt]
      omega
theorem lg_cmp_gt0 (x y : Int64) : 0 < lg_cmp x y ↔ y < x := by
  unfold lg_cmp
  by_cases h : x > y
  · rw [if_pos h]
    exact ⟨fun _ => h, fun _ => by decide⟩
  · rw [if_neg h]
    by_cases h2 : x = y
    · rw [if_pos h2]; exact ⟨fun q => absurd q (by decide), fun q => absurd q h⟩
    · rw [if_neg h2]; exact ⟨fun q => absurd q (by decide), fun q => absurd q h⟩
def rng (v lo hi : Int) : Bool := decide (lo ≤ v ∧ v ≤ hi)
theorem in_eq (v lo hi : Int64) : f_X0_in v lo hi = some (b2i (rng v.toInt lo.toInt hi.toInt)) := by
  unfold f_X0_in
  by_cases h1 : v < lo
  · rw [if_pos ((lg_cmp_lt0 _ _).mpr h1)]
    rw [Int64.lt_iff_toInt_lt] at h1
    rw [show rng v.toInt lo.toInt hi.toInt = false from decide_eq_false (by omega)]; rfl
  · rw [if_neg (fun q => h1 ((lg_cmp_lt0 _ _).mp q))]
    by_cases h2 : hi < v
    · rw [if_pos ((lg_cmp_gt0 _ _).mpr h2)]
      rw [Int64.lt_iff_toInt_lt] at h2
      rw [show rng v.toInt lo.toInt hi.toInt = false from decide_eq_false (by omega)]; rfl
    · rw [if_neg (fun q => h2 ((lg_cmp_gt0 _ _).mp q))]
      rw [Int64.lt_iff_toInt_lt] at h1 h2
      rw [show rng v.toInt lo.toInt hi.toInt = true from decide_eq_true (by omega)]; rfl
theorem inM_eq (v lo hi : Int64) : f_X7_in v lo hi = f_X0_in v lo hi := rfl
theorem i2l_toInt (x : Int32) : (Int32.toInt64 x).toInt = x.toInt := Int32.toInt_toInt64 x
theorem n_0 : (0 : Int32) = nI 0 := rfl
theorem n_1 : (1 : Int32) = nI 1 := rfl
theorem n_2 : (2 : Int32) = nI 2 := rfl
theorem n_3 : (3 : Int32) = nI 3 := rfl
theorem n_4 : (4 : Int32) = nI 4 := rfl
theorem n_5 : (5 : Int32) = nI 5 := rfl
theorem n_6 : (6 : Int32) = nI 6 := rfl
theorem n_7 : (7 : Int32) = nI 7 := rfl
theorem n_8 : (8 : Int32) = nI 8 := rfl
theorem n_9 : (9 : Int32) = nI 9 := rfl
theorem n_10 : (10 : Int32) = nI 10 := rfl
theorem n_11 : (11 : Int32) = nI 11 := rfl
theorem n_12 : (12 : Int32) = nI 12 := rfl
theorem n_13 : (13 : Int32) = nI 13 := rfl
theorem n_14 : (14 : Int32) = nI 14 := rfl
theorem n_15 : (15 : Int32) = nI 15 := rfl
theorem n_16 : (16 : Int32) = nI 16 := rfl
theorem n_17 : (17 : Int32) = nI 17 := rfl
theorem n_18 : (18 : Int32) = nI 18 := rfl
theorem n_19 : (19 : Int32) = nI 19 := rfl
theorem n_20 : (20 : Int32) = nI 20 := rfl
theorem n_21 : (21 : Int32) = nI 21 := rfl
theorem n_22 : (22 : Int32) = nI 22 := rfl
theorem n_23 : (23 : Int32) = nI 23 := rfl
theorem n_24 : (24 : Int32) = nI 24 := rfl
theorem n_25 : (25 : Int32) = nI 25 := rfl
theorem n_26 : (26 : Int32) = nI 26 := rfl
theorem n_27 : (27 : Int32) = nI 27 := rfl
theorem n_28 : (28 : Int32) = nI 28 := rfl
theorem n_29 : (29 : Int32) = nI 29 := rfl
theorem n_30 : (30 : Int32) = nI 30 := rfl
theorem n_31 : (31 : Int32) = nI 31 := rfl
theorem n_32 : (32 : Int32) = nI 32 := rfl
theorem n_33 : (33 : Int32) = nI 33 := rfl
theorem n_34 : (34 : Int32) = nI 34 := rfl
theorem n_35 : (35 : Int32) = nI 35 := rfl
theorem n_36 : (36 : Int32) = nI 36 := rfl
theorem n_37 : (37 : Int32) = nI 37 := rfl
theorem n_38 : (38 : Int32) = nI 38 := rfl
theorem n_39 : (39 : Int32) = nI 39 := rfl
theorem n_40 : (40 : Int32) = nI 40 := rfl
theorem n_41 : (41 : Int32) = nI 41 := rfl
theorem n_42 : (42 : Int32) = nI 42 := rfl
theorem n_43 : (43 : Int32) = nI 43 := rfl
theorem n_44 : (44 : Int32) = nI 44 := rfl
theorem n_45 : (45 : Int32) = nI 45 := rfl
theorem n_46 : (46 : Int32) = nI 46 := rfl
theorem n_47 : (47 : Int32) = nI 47 := rfl
theorem n_48 : (48 : Int32) = nI 48 := rfl
theorem n_49 : (49 : Int32) = nI 49 := rfl
theorem n_50 : (50 : Int32) = nI 50 := rfl
theorem n_51 : (51 : Int32) = nI 51 := rfl
theorem n_52 : (52 : Int32) = nI 52 := rfl
theorem n_53 : (53 : Int32) = nI 53 := rfl
theorem n_54 : (54 : Int32) = nI 54 := rfl
theorem n_55 : (55 : Int32) = nI 55 := rfl
theorem n_56 : (56 : Int32) = nI 56 := rfl
theorem n_57 : (57 : Int32) = nI 57 := rfl
theorem n_58 : (58 : Int32) = nI 58 := rfl
theorem n_59 : (59 : Int32) = nI 59 := rfl
theorem n_60 : (60 : Int32) = nI 60 := rfl
theorem n_82 : (82 : Int32) = nI 82 := rfl
theorem n_97 : (97 : Int32) = nI 97 := rfl
theorem n_98 : (98 : Int32) = nI 98 := rfl
theorem n_99 : (99 : Int32) = nI 99 := rfl
theorem n_100 : (100 : Int32) = nI 100 := rfl
theorem n_123 : (123 : Int32) = nI 123 := rfl
theorem n_127 : (127 : Int32) = nI 127 := rfl
theorem n_128 : (128 : Int32) = nI 128 := rfl
theorem n_160 : (160 : Int32) = nI 160 := rfl
theorem n_164 : (164 : Int32) = nI 164 := rfl
theorem n_205 : (205 : Int32) = nI 205 := rfl
theorem n_320 : (320 : Int32) = nI 320 := rfl
theorem n_1024 : (1024 : Int32) = nI 1024 := rfl
theorem n_32767 : (32767 : Int32) = nI 32767 := rfl
theorem n_1000000 : (1000000 : Int32) = nI 1000000 := rfl
