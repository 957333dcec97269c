/-! ===== the world in another order; the reader's cells taken in and left ===== -/
set_option maxRecDepth 100000
variable {kS : gKS}
theorem va_D_nd {A : Nat → Prop} {w : va_W} (h : va_D A w) : (w.map Prod.fst).Nodup := by
  unfold List.Nodup
  rw [List.pairwise_iff_getElem]
  intro i j hi hj hij e
  rw [List.getElem_map, List.getElem_map] at e
  rw [List.length_map] at hi hj
  have := h.1 i j w[i] w[j] (List.getElem?_eq_getElem hi) (List.getElem?_eq_getElem hj) e
  omega
theorem va_P_mem {D : va_G} {w w' : va_W} {H : Heap} (h : va_P D gCL w H) (hm : ∀ q ∈ w', q ∈ w) : va_P D gCL w' H := by
  intro k q hk
  obtain ⟨i, hi⟩ := List.getElem?_of_mem (hm q (List.mem_of_getElem? hk))
  exact h i q hi
theorem va_D_perm {A : Nat → Prop} {w w' : va_W} (h : va_D A w) (hp : w.Perm w') : va_D A w' := by
  have hn : (w'.map Prod.fst).Nodup := (hp.map Prod.fst).nodup (va_D_nd h)
  refine ⟨fun i j p q hi hj e => ?_, fun k q hk => ?_⟩
  · have hi' := (List.getElem?_eq_some_iff.mp hi).1
    exact (List.getElem?_inj (by rw [List.length_map]; exact hi') hn).mp (by
      rw [List.getElem?_map, List.getElem?_map, hi, hj]
      exact congrArg some e)
  · obtain ⟨i, hi⟩ := List.getElem?_of_mem (hp.mem_iff.mpr (List.mem_of_getElem? hk))
    exact h.2 i q hi
section WP
variable {x : gX} {nL ca sl : Nat} {Φ Φ' : va_W} {pc : Nat} {lv : List (Nat × Value)} {st : List Value}
theorem g_permG (hp : Φ.Perm Φ') (kk : gG x nL ca sl Φ' pc lv st) : gG x nL ca sl Φ pc lv st :=
  fun H locs ls hP hD hS hl => kk H locs ls (va_P_mem hP (fun q hq => hp.mem_iff.mpr hq)) (va_D_perm hD hp) hS hl
theorem gT_permG {q : Addr} (hp : Φ.Perm Φ') (kk : gT x nL ca sl Φ' pc lv q) : gT x nL ca sl Φ pc lv q :=
  fun H locs ls rest hP hD hS hl => kk H locs ls rest (va_P_mem hP (fun q hq => hp.mem_iff.mpr hq)) (va_D_perm hD hp) hS hl
end WP
/-- the addresses with a reader: a 0 .. a 5 its slope's, q the reader's -/
def adR (ad a : Nat → Nat) (q : Nat) : Nat → Nat := fun k => if k < 36 then ad k else if k < 42 then a (k - 36) else if k = 42 then q else ad k
theorem adR_o {ad a : Nat → Nat} {q k : Nat} (h : k < 36 ∨ 43 ≤ k) : adR ad a q k = ad k := by
  unfold adR
  rcases h with h | h
  · rw [if_pos h]
  · rw [if_neg (by omega), if_neg (by omega), if_neg (by omega)]
theorem adR_s {ad a : Nat → Nat} {q k : Nat} (h : k < 6) : adR ad a q (36 + k) = a k := by
  unfold adR
  rw [if_neg (by omega), if_pos (by omega), Nat.add_sub_cancel_left]
theorem adR_q {ad a : Nat → Nat} {q : Nat} : adR ad a q 42 = q := rfl
section CX
variable {dA : Nat → ClassId} {ad ad' : Nat → Nat} {lam : Nat → Int64}
theorem cellX_ad (h : ∀ k, k < 36 ∨ 43 ≤ k → ad' k = ad k) {k : Nat} (hk : k < 36) (h1 : k ≠ 1) (h10 : k ≠ 10) (f : Nat → Int32) : cellX dA ad' lam k f = cellX dA ad lam k f := by
  by_cases h12 : k < 12
  · have hc : k = 0 ∨ k = 2 ∨ k = 3 ∨ k = 4 ∨ k = 5 ∨ k = 6 ∨ k = 7 ∨ k = 8 ∨ k = 9 ∨ k = 11 := by omega
    rcases hc with rfl | rfl | rfl | rfl | rfl | rfl | rfl | rfl | rfl | rfl
    · show (Sum.inr (0, xoF ad' f lam) : va_E) = .inr (0, xoF ad f lam)
      unfold xoF
      rw [h 1 (by omega), h (sb 0) (by unfold sb; omega), h (sb 1) (by unfold sb; omega), h 10 (by omega), h 6 (by omega), h 7 (by omega), h 8 (by omega), h 9 (by omega), h 11 (by omega)]
    · rfl
    · rfl
    · rfl
    · rfl
    · rfl
    · rfl
    · rfl
    · rfl
    · show (Sum.inl (dA 6, 4, .inr (.inr (.inr (.inr (fun j => some (ad' (43 + j))))))) : va_E) = .inl (dA 6, 4, .inr (.inr (.inr (.inr (fun j => some (ad (43 + j)))))))
      have e : (fun j => some (ad' (43 + j))) = (fun j => some (ad (43 + j))) := by
        funext j
        rw [h (43 + j) (by omega)]
      rw [e]
  · obtain ⟨j, rfl⟩ : ∃ j, k = j + 12 := ⟨k - 12, by omega⟩
    show (if j = 30 then (Sum.inr (8, rdF ad' f) : va_E) else slC dA ad' (j + 12) f (j % 6)) = (if j = 30 then (Sum.inr (8, rdF ad f) : va_E) else slC dA ad (j + 12) f (j % 6))
    rw [if_neg (by omega), if_neg (by omega)]
    have hr : j % 6 = 0 ∨ j % 6 = 1 ∨ j % 6 = 2 ∨ j % 6 = 3 ∨ j % 6 = 4 ∨ j % 6 = 5 := by omega
    rcases hr with e | e | e | e | e | e
    · rw [e]
      show (Sum.inr (5, slF ad' (j + 12) f) : va_E) = .inr (5, slF ad (j + 12) f)
      unfold slF
      rw [h (j + 12 + 1) (by omega), h (j + 12 + 2) (by omega), h (j + 12 + 3) (by omega), h (j + 12 + 4) (by omega), h (j + 12 + 5) (by omega)]
    · rw [e]; rfl
    · rw [e]; rfl
    · rw [e]; rfl
    · rw [e]; rfl
    · rw [e]; rfl
theorem va_at_q {D : va_G} {H : Heap} {a n : Nat} {cA : ClassId} {f g : Nat → Option Nat} (h : ∀ j, j < n → f j = g j) (hP : va_at D gCL (a, .inl (cA, n, .inr (.inr (.inr (.inr f))))) H) : va_at D gCL (a, .inl (cA, n, .inr (.inr (.inr (.inr g))))) H := by
  show H[a]? = some (vp_cell cA (n, .inr (.inr (.inr (.inr g)))))
  rw [vp_cell_q, ← arrV_cg cA n (f := fun j => va_rf (f j)) (fun j hj => by rw [h j hj]), ← vp_cell_q]
  exact hP
theorem XW_ad {D : va_G} {H : Heap} {σ : Nat → Nat → Int32} (h : ∀ k, k < 36 ∨ 43 ≤ k → ad' k = ad k) (hP : va_P D gCL (XW dA 36 ad' σ lam) H) : va_P D gCL (XW dA 36 ad σ lam) H := by
  intro k q hk
  have hlen : k < 36 := by
    have := (List.getElem?_eq_some_iff.mp hk).1
    unfold XW at this
    rw [List.length_map, List.length_range] at this
    exact this
  have e1 : q = (ad k, cellX dA ad lam k (σ k)) := by
    unfold XW at hk
    rw [List.getElem?_map, List.getElem?_range hlen] at hk
    exact (Option.some.inj hk).symm
  subst e1
  have h2 := hP k (ad' k, cellX dA ad' lam k (σ k)) (by
    unfold XW
    rw [List.getElem?_map, List.getElem?_range hlen]
    rfl)
  rw [h k (Or.inl hlen)] at h2
  by_cases h1 : k = 1
  · subst h1
    exact va_at_q (fun j hj => by rw [h (2 + j) (by omega)]) h2
  · by_cases h10 : k = 10
    · subst h10
      exact va_at_q (fun j hj => by rw [h (sb (2 + j)) (by unfold sb; omega)]) h2
    · rw [← cellX_ad h hlen h1 h10]
      exact h2
theorem XW_fst (N : Nat) (σ σ' : Nat → Nat → Int32) (lam' : Nat → Int64) (h : ∀ k, k < N → ad' k = ad k) : (XW dA N ad' σ lam).map Prod.fst = (XW dA N ad σ' lam').map Prod.fst := by
  unfold XW
  rw [List.map_map, List.map_map]
  apply List.map_congr_left
  intro k hk
  exact h k (List.mem_range.mp hk)
end CX
