/-! ===== the four sheets: their cells, then any other cells (the rows lie there) ===== -/
set_option maxRecDepth 100000
def SHc (ad : Nat → Nat) (r : Nat → Option Nat) : va_W := (List.range 4).map (fun k => (ad (43 + k), .inr (6, [va_rf (r k)])))
theorem SH0_eq (ad : Nat → Nat) : SH0 ad = SHc ad (fun _ => none) := rfl
section SHE
variable {dA : Nat → ClassId} {ad : Nat → Nat} {lam : Nat → Int64} {σ : Nat → Nat → Int32} {r : Nat → Option Nat} {tl : va_W}
theorem XW_len {N : Nat} : (XW dA N ad σ lam).length = N := by
  unfold XW
  rw [List.length_map, List.length_range]
theorem SHc_len : (SHc ad r).length = 4 := rfl
theorem SH_at {k : Nat} (hk : k < 4) : (XW dA 36 ad σ lam ++ (SHc ad r ++ tl))[36 + k]? = some (ad (43 + k), .inr (6, [va_rf (r k)])) := by
  rw [List.getElem?_append_right (by rw [XW_len]; omega), XW_len, Nat.add_sub_cancel_left, List.getElem?_append_left (by rw [SHc_len]; omega)]
  unfold SHc
  rw [List.getElem?_map, List.getElem?_range hk]
  rfl
theorem SH_tl (j : Nat) : (XW dA 36 ad σ lam ++ (SHc ad r ++ tl))[40 + j]? = tl[j]? := by
  rw [List.getElem?_append_right (by rw [XW_len]; omega), XW_len, List.getElem?_append_right (by rw [SHc_len]; omega), SHc_len]
  congr 1
  omega
theorem SH_tlset (j : Nat) (v : Nat × va_E) : (XW dA 36 ad σ lam ++ (SHc ad r ++ tl)).set (40 + j) v = XW dA 36 ad σ lam ++ (SHc ad r ++ tl.set j v) := by
  rw [List.set_append_right _ _ (by rw [XW_len]; omega), XW_len, List.set_append_right _ _ (by rw [SHc_len]; omega), SHc_len]
  congr 3
  omega
theorem SHc_set {k : Nat} (hk : k < 4) (v : Option Nat) : (SHc ad r).set k (ad (43 + k), .inr (6, [va_rf v])) = SHc ad (va_up r k v) := by
  have h : k = 0 ∨ k = 1 ∨ k = 2 ∨ k = 3 := by omega
  rcases h with rfl | rfl | rfl | rfl <;> rfl
theorem SH_set {k : Nat} (hk : k < 4) (v : Option Nat) : (XW dA 36 ad σ lam ++ (SHc ad r ++ tl)).set (36 + k) (ad (43 + k), .inr (6, [va_rf v])) = XW dA 36 ad σ lam ++ (SHc ad (va_up r k v) ++ tl) := by
  rw [List.set_append_right _ _ (by rw [XW_len]; omega), XW_len, Nat.add_sub_cancel_left, List.set_append_left _ _ (by rw [SHc_len]; omega), SHc_set hk]
end SHE
