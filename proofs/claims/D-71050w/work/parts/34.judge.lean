/-! ===== two programs in step; judging ===== -/
set_option maxRecDepth 100000
def oP {α β : Type} (x : Option α) (y : Option β) (Q : α → β → Prop) : Prop := ∃ a b, x = some a ∧ y = some b ∧ Q a b
def oSS {S T A B : Type} (C : S → T → Prop) (Q : A → B → Prop) : S ⊕ A → T ⊕ B → Prop
  | .inl s, .inl t => C s t
  | .inr a, .inr b => Q a b
  | _, _ => False
section OPP
variable {α β γ δ S T A B : Type} {x : Option α} {y : Option β} {Q : α → β → Prop}
theorem oP_of {P : α → Prop} {R : β → Prop} (hx : oW x P) (hy : oW y R) (k : ∀ a b, P a → R b → Q a b) : oP x y Q := by
  obtain ⟨a, e, ha⟩ := hx
  obtain ⟨b, e', hb⟩ := hy
  exact ⟨a, b, e, e', k a b ha hb⟩
theorem oP_l {z : Option γ} {f : γ → Option α} {P : γ → Prop} (h : oW z P) (k : ∀ a, P a → oP (f a) y Q) : oP (oB z f) y Q := by
  obtain ⟨a, rfl, ha⟩ := h
  exact k a ha
theorem oP_r {z : Option γ} {f : γ → Option β} {P : γ → Prop} (h : oW z P) (k : ∀ a, P a → oP x (f a) Q) : oP x (oB z f) Q := by
  obtain ⟨a, rfl, ha⟩ := h
  exact k a ha
theorem oP_le {z : Option γ} {f : γ → Option α} {a : γ} (h : z = some a) (k : oP (f a) y Q) : oP (oB z f) y Q := by
  subst h
  exact k
theorem oP_re {z : Option γ} {f : γ → Option β} {a : γ} (h : z = some a) (k : oP x (f a) Q) : oP x (oB z f) Q := by
  subst h
  exact k
theorem oP_lC {b : Bool} (h : b = true) (k : oP x y Q) : oP (oC b x) y Q := by subst h; exact k
theorem oP_rC {b : Bool} (h : b = true) (k : oP x y Q) : oP x (oC b y) Q := by subst h; exact k
theorem oP_lL {s : γ} {f : γ → Option α} (k : oP (f s) y Q) : oP (oL s f) y Q := k
theorem oP_rL {s : γ} {f : γ → Option β} (k : oP x (f s) Q) : oP x (oL s f) Q := k
theorem oP_lt {c : Prop} [Decidable c] {x' : Option α} (h : c) (k : oP x y Q) : oP (if c then x else x') y Q := by rw [if_pos h]; exact k
theorem oP_lf {c : Prop} [Decidable c] {x' : Option α} (h : ¬ c) (k : oP x y Q) : oP (if c then x' else x) y Q := by rw [if_neg h]; exact k
theorem oP_rt {c : Prop} [Decidable c] {y' : Option β} (h : c) (k : oP x y Q) : oP x (if c then y else y') Q := by rw [if_pos h]; exact k
theorem oP_rf {c : Prop} [Decidable c] {y' : Option β} (h : ¬ c) (k : oP x y Q) : oP x (if c then y' else y) Q := by rw [if_neg h]; exact k
theorem oP_inl {C : S → T → Prop} {Q : A → B → Prop} {s : S} {t : T} (h : C s t) : oP (some (.inl s)) (some (.inl t)) (oSS C Q) := ⟨_, _, rfl, rfl, h⟩
theorem oP_inr {C : S → T → Prop} {Q : A → B → Prop} {x : Option A} {y : Option B} (h : oP x y Q) : oP (oI x) (oI y) (oSS C Q) := by
  obtain ⟨a, b, rfl, rfl, h⟩ := h
  exact ⟨_, _, rfl, rfl, h⟩
theorem oP_lp {f : S → Option (S ⊕ A)} {g : T → Option (T ⊕ B)} {Q : A → B → Prop} (I : Nat → S → T → Prop) (N : Nat) (hN : N < 4000) {s : S} {t : T} (h0 : I 0 s t) (hs : ∀ i s t, i < N → I i s t → oP (f s) (g t) (oSS (I (i + 1)) Q)) (he : ∀ s t, I N s t → ∃ a b, (∀ n, 5 ≤ n → oLoop n f s = some a) ∧ g t = some (.inr b) ∧ Q a b) : oP (oLoop gFU f s) (oLoop gFU g t) Q := by
  have key : ∀ k i n s t, N - i = k → i ≤ N → N + 5 ≤ n + i → I i s t → oP (oLoop n f s) (oLoop n g t) Q := by
    intro k
    induction k with
    | zero =>
      intro i n s t hk hi hn h
      have : i = N := by omega
      subst this
      obtain ⟨a, b, h1, h2, h3⟩ := he s t h
      obtain ⟨m, rfl⟩ : ∃ m, n = m + 1 := ⟨n - 1, by omega⟩
      exact ⟨a, b, h1 _ (by omega), oLoop_inr h2, h3⟩
    | succ k ih =>
      intro i n s t hk hi hn h
      obtain ⟨m, rfl⟩ : ∃ m, n = m + 1 := ⟨n - 1, by omega⟩
      obtain ⟨a, b, h1, h2, h3⟩ := hs i s t (by omega) h
      cases a with
      | inl s' =>
        cases b with
        | inl t' =>
          rw [oLoop_inl h1, oLoop_inl h2]
          exact ih (i + 1) m s' t' (by omega) (by omega) (by omega) h3
        | inr b => exact h3.elim
      | inr a =>
        cases b with
        | inl t' => exact h3.elim
        | inr b => exact ⟨a, b, oLoop_inr h1, oLoop_inr h2, h3⟩
  exact key N 0 gFU s t rfl (Nat.zero_le _) (by rw [gFU_eq]; omega) h0
/-- the usual end -/
theorem oP_end {f : S → Option (S ⊕ A)} {g : T → Option (T ⊕ B)} {Q : A → B → Prop} {s : S} {t : T} (h : oP (f s) (g t) (oSS (fun _ _ => False) Q)) : ∃ a b, (∀ n, 5 ≤ n → oLoop n f s = some a) ∧ g t = some (.inr b) ∧ Q a b := by
  obtain ⟨a, b, h1, h2, h3⟩ := h
  cases a with
  | inl s' => cases b <;> exact h3.elim
  | inr a =>
    cases b with
    | inl t' => exact h3.elim
    | inr b =>
      refine ⟨a, b, fun n hn => ?_, h2, h3⟩
      obtain ⟨m, rfl⟩ : ∃ m, n = m + 1 := ⟨n - 1, by omega⟩
      exact oLoop_inr h1
end OPP
theorem oE_P {x y : Option (Int32 × (Nat → Nat → Int32))} {Q : (Nat → Nat → Int32) → (Nat → Nat → Int32) → Prop} (h : oP x y (fun a b => a.1 = b.1 ∧ Q a.2 b.2)) : oE x y Q := by
  obtain ⟨⟨a, s⟩, ⟨b, s'⟩, h1, h2, h3, h4⟩ := h
  dsimp only at h3 h4
  subst h3
  exact ⟨a, s, s', h1, h2, h4⟩
/-! judging -/
section JG
variable {σ s μ : Nat → Nat → Int32} {p q : Nat → Nat}
theorem FX.f15 (h : FX σ s) {j : Nat} (hj : j = 15 ∨ j = 16) (v : Int32) : FX σ (upd2 s 0 j v) := by
  refine ⟨fun k a b c d => ?_, fun i a b c d e f => ?_⟩
  · rw [u2_k _ _ _ a]; exact h.1 k a b c d
  · rw [u2_j _ _ _ (by omega)]; exact h.2 i a b c d e f
theorem x_starts (v : Int32) : oW (f_X0_startsJudging σ v) (fun s => FX σ s ∧ s 0 15 = -4 ∧ s 0 16 = v) := by
  unfold f_X0_startsJudging
  exact oW_L (oW_L (oW_some ⟨(FX.rf.f15 (Or.inl rfl) _).f15 (Or.inr rfl) _, by rw [u2_j _ _ _ (by decide), u2_s], u2_s _ _ _ _⟩))
theorem x_judges {fi b : Int32} (l1 l2 : Int32) (h1 : σ 0 15 = fi) (h2 : σ 0 16 = b) : oW (f_X0_judges σ l1 l2) (fun s => FX σ s ∧ s 0 15 = (if l2 ≤ b then fi else l1) ∧ s 0 16 = (if l2 ≤ b then b else l2)) := by
  have key : ∀ k2, oW (f_X0_judges_b17 σ l2 k2) (fun s => FX σ s ∧ s 0 15 = k2 ∧ s 0 16 = (if l2 ≤ b then b else l2)) := by
    intro k2
    unfold f_X0_judges_b17
    refine oW_L (oW_L (oW_some ⟨(FX.rf.f15 (Or.inl rfl) _).f15 (Or.inr rfl) _, ?_, ?_⟩))
    · rw [u2_j _ _ _ (by decide), u2_s]
    · rw [u2_s, u2_j _ _ _ (by decide), h2]
      by_cases e : l2 ≤ b
      · rw [if_pos e, if_neg (fun q => Int32.lt_irrefl (Int32.lt_of_lt_of_le q e))]
      · rw [if_neg e, if_pos (Int32.not_le.mp e)]
  unfold f_X0_judges
  rw [h2, h1]
  by_cases e : l2 ≤ b
  · rw [if_pos e, if_pos e]
    exact key fi
  · rw [if_neg e, if_neg e]
    exact key l1
theorem FrR.f15 (h : FrR σ s) {j : Nat} (hj : j = 15 ∨ j = 16) : s 0 j = σ 0 j := h.2 j (by omega) (by omega) (by omega) (by omega)
theorem FrT.f15 {t : Nat} (h : FrT t σ s) (j : Nat) : s 0 j = σ 0 j := by rw [h 0 (by unfold sb; omega)]
/-- some number up to n is none of n numbers -/
theorem hole : ∀ (n : Nat) (g : Nat → Nat), ∃ c, c ≤ n ∧ ∀ i, i < n → g i ≠ c
  | 0, _ => ⟨0, Nat.le_refl _, fun i hi => absurd hi (by omega)⟩
  | n + 1, g => by
    by_cases h : ∃ j, j < n + 1 ∧ g j = n + 1
    · obtain ⟨j, hj, ej⟩ := h
      obtain ⟨c, hc, hn⟩ := hole n (fun i => if i = j then g n else g i)
      refine ⟨c, by omega, fun i hi e => ?_⟩
      by_cases e1 : i = j
      · subst e1; omega
      · by_cases e2 : i = n
        · subst e2
          have := hn j (by omega)
          rw [if_pos rfl] at this
          exact this e
        · have := hn i (by omega)
          rw [if_neg e1] at this
          exact this e
    · exact ⟨n + 1, Nat.le_refl _, fun i hi e => h ⟨i, hi, e⟩⟩
/-- there is a free cell -/
theorem free_cell (w : WF p) (h : p 38 < 7 ∨ p 39 < 4) : ∃ c, c < 98 ∧ c % 10 < 8 ∧ freeAt p c = true := by
  have a1 := w.np; have a2 := w.ns
  have ix : ∀ c, c ≤ 11 → 8 * ((10 * (c / 8) + c % 8) / 10) + (10 * (c / 8) + c % 8) % 10 = c := fun c hc => by omega
  obtain ⟨c, hc, hn⟩ := hole 11 (fun i => if i < p 38 then 8 * (p i / 10) + p i % 10 else 8 * (p (14 + (i - p 38)) / 10) + p (14 + (i - p 38)) % 10)
  refine ⟨10 * (c / 8) + c % 8, by omega, by omega, free_iff.mpr ⟨fstI_of_none (fun i hi e => ?_), fstI_of_none (fun i hi e => ?_)⟩⟩
  · have := hn i (by omega)
    rw [if_pos hi, e, ix c hc] at this
    exact this rfl
  · have := hn (p 38 + i) (by omega)
    rw [if_neg (by omega), show p 38 + i - p 38 = i from by omega] at this
    rw [show p (14 + i) = 10 * (c / 8) + c % 8 from e, ix c hc] at this
    exact this rfl
end JG
