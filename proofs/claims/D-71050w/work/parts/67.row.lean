/-! ===== the four sheets' rows: what they hold, as pure data ===== -/
set_option maxRecDepth 100000
abbrev gSh : Type := Nat → Option (Nat × Nat × (Nat → Int32))
def RwAt (dA : Nat → ClassId) (r : Nat → Option Nat) (tl : va_W) (J : Nat → Nat) (sh : gSh) : Prop :=
  (∀ k, k < 4 → (sh k = none ∧ r k = none) ∨ ∃ (q c n : Nat) (f : Nat → Int32), sh k = some (c, n, f) ∧ r k = some q ∧ tl[J k]? = some (q, .inl (dA c, n, .inl f)) ∧ aTy c ∧ n ≤ 40) ∧ ∀ k k', k < 4 → k' < 4 → sh k ≠ none → sh k' ≠ none → J k = J k' → k = k'
section RWA
variable {dA : Nat → ClassId} {r : Nat → Option Nat} {tl : va_W} {J : Nat → Nat} {sh : gSh}
theorem RwAt.zero : RwAt dA (fun _ => none) tl J (fun _ => none) := ⟨fun _ _ => Or.inl ⟨rfl, rfl⟩, fun _ _ _ _ h => absurd rfl h⟩
theorem RwAt.lt (h : RwAt dA r tl J sh) {k : Nat} (hk : k < 4) (hs : sh k ≠ none) : J k < tl.length := by
  rcases h.1 k hk with ⟨a, _⟩ | ⟨q, c, n, f, _, _, a, _⟩
  · exact absurd a hs
  · exact (List.getElem?_eq_some_iff.mp a).1
theorem RwAt.put (h : RwAt dA r tl J sh) {k q c n : Nat} {f f' : Nat → Int32} (hk : k < 4) (h1 : sh k = some (c, n, f)) (h2 : r k = some q) (ht : aTy c) (hn : n ≤ 40) : RwAt dA r (tl.set (J k) (q, .inl (dA c, n, .inl f'))) J (va_up sh k (some (c, n, f'))) := by
  have hlt := h.lt hk (by rw [h1]; exact fun e => nomatch e)
  have up : ∀ k', va_up sh k (some (c, n, f')) k' ≠ none → sh k' ≠ none := by
    intro k' h3
    by_cases e : k' = k
    · subst e; rw [h1]; exact fun e => nomatch e
    · rw [va_up_ne _ _ e] at h3; exact h3
  refine ⟨fun k' hk' => ?_, fun a b ha hb h3 h4 => h.2 a b ha hb (up a h3) (up b h4)⟩
  by_cases e : k' = k
  · subst e
    exact Or.inr ⟨q, c, n, f', va_up_self _ _ _, h2, List.getElem?_set_self hlt, ht, hn⟩
  · rw [va_up_ne _ _ e]
    rcases h.1 k' hk' with a | ⟨q', c', n', g, a1, a2, a3, a4⟩
    · exact Or.inl a
    · refine Or.inr ⟨q', c', n', g, a1, a2, ?_, a4⟩
      rw [List.getElem?_set_ne (fun e1 => e (h.2 k k' hk hk' (by rw [h1]; exact fun e => nomatch e) (by rw [a1]; exact fun e => nomatch e) e1).symm)]
      exact a3
theorem RwAt.new (h : RwAt dA r tl J sh) {k q c n : Nat} {f : Nat → Int32} (hk : k < 4) (ht : aTy c) (hn : n ≤ 40) : RwAt dA (va_up r k (some q)) (tl ++ [(q, .inl (dA c, n, .inl f))]) (va_up J k tl.length) (va_up sh k (some (c, n, f))) := by
  have old : ∀ k', k' < 4 → k' ≠ k → sh k' ≠ none → J k' < tl.length := fun k' hk' _ h3 => h.lt hk' h3
  refine ⟨fun k' hk' => ?_, fun a b ha hb h3 h4 e => ?_⟩
  · by_cases e : k' = k
    · subst e
      refine Or.inr ⟨q, c, n, f, va_up_self _ _ _, va_up_self _ _ _, ?_, ht, hn⟩
      rw [va_up_self, List.getElem?_append_right (Nat.le_refl _), Nat.sub_self]
      rfl
    · rw [va_up_ne _ _ e, va_up_ne _ _ e, va_up_ne _ _ e]
      rcases h.1 k' hk' with a | ⟨q', c', n', g, a1, a2, a3, a4⟩
      · exact Or.inl a
      · refine Or.inr ⟨q', c', n', g, a1, a2, ?_, a4⟩
        rw [List.getElem?_append_left (List.getElem?_eq_some_iff.mp a3).1]
        exact a3
  · by_cases ea : a = k
    · subst ea
      by_cases eb : b = a
      · exact eb.symm
      · rw [va_up_ne _ _ eb] at h4
        rw [va_up_self, va_up_ne _ _ eb] at e
        exact absurd e (Nat.ne_of_gt (old b hb eb h4))
    · rw [va_up_ne _ _ ea] at h3
      by_cases eb : b = k
      · subst eb
        rw [va_up_self, va_up_ne _ _ ea] at e
        exact absurd e (Nat.ne_of_lt (old a ha ea h3))
      · rw [va_up_ne _ _ eb] at h4
        rw [va_up_ne _ _ ea, va_up_ne _ _ eb] at e
        exact h.2 a b ha hb h3 h4 e
end RWA
def trC (c : Nat) (v : Int32) : Int32 := if c = 0 then nbt v.toInt8.toInt32 else if c = 3 then vp_nar .short v.toInt16.toInt32 else v
def wrF (b : Option (Nat × Nat × (Nat → Int32))) (i v : Int32) : Int32 × Option (Nat × Nat × (Nat → Int32)) := match b with
  | none => (-11, none)
  | some (c, n, f) => if inb i n = true then (1, some (c, n, upd f i.toNatClampNeg (trC c v))) else (-12, some (c, n, f))
def tkF (b : Option (Nat × Nat × (Nat → Int32))) (lane i : Int32) : String ⊕ Int32 := match b with
  | none => .inl "java/lang/NullPointerException"
  | some (c, n, f) => if laC lane = c then (if inb i n = true then .inr (f i.toNatClampNeg) else .inl "java/lang/ArrayIndexOutOfBoundsException") else .inl "java/lang/ClassCastException"
theorem laC_ty (lane : Int32) : aTy (laC lane) := by
  unfold laC aTy
  split
  · exact Or.inl rfl
  · split
    · exact Or.inr (Or.inl rfl)
    · exact Or.inr (Or.inr rfl)
theorem inb_f {i : Int32} {n : Nat} (h : ¬ inb i n = true) : inb i n = false := by
  cases e : inb i n with
  | false => rfl
  | true => exact absurd e h
