/-! ===== the reader's cells: made, and left ===== -/
set_option maxRecDepth 100000
variable {kS : gKS}
theorem va_D_fst {A : Nat → Prop} {w w' : va_W} (h : va_D A w) (e : w'.map Prod.fst = w.map Prod.fst) : va_D A w' := by
  have hl : ∀ (k : Nat) (q : Nat × va_E), w'[k]? = some q → ∃ p, w[k]? = some p ∧ p.1 = q.1 := by
    intro k q hk
    have h1 : (w'.map Prod.fst)[k]? = some q.1 := by rw [List.getElem?_map, hk]; rfl
    rw [e, List.getElem?_map] at h1
    cases hw : w[k]? with
    | none => rw [hw] at h1; cases h1
    | some p => rw [hw] at h1; exact ⟨p, rfl, Option.some.inj h1⟩
  refine ⟨fun i j p q hi hj e1 => ?_, fun k q hk => ?_⟩
  · obtain ⟨p', hp, ep⟩ := hl i p hi
    obtain ⟨q', hq, eq⟩ := hl j q hj
    exact h.1 i j p' q' hp hq (by rw [ep, eq]; exact e1)
  · obtain ⟨p, hp, ep⟩ := hl k q hk
    exact ep ▸ h.2 k p hp
theorem va_D_pre {A : Nat → Prop} {w w' : va_W} (h : va_D A (w ++ w')) : va_D A w :=
  ⟨fun i j p q hi hj e => h.1 i j p q (by rw [List.getElem?_append_left (List.getElem?_eq_some_iff.mp hi).1]; exact hi) (by rw [List.getElem?_append_left (List.getElem?_eq_some_iff.mp hj).1]; exact hj) e,
   fun k q hk => h.2 k q (by rw [List.getElem?_append_left (List.getElem?_eq_some_iff.mp hk).1]; exact hk)⟩
/-- the numbers with a new reader -/
def rdS (σ : Nat → Nat → Int32) (sz : Int32) : Nat → Nat → Int32 := fun k => if k < 36 then σ k else if k = 42 then (fun j => if j = 0 then sz else if j = 2 then -4 else 0) else fun _ => 0
def rd1 (q : Nat) (sz : Int32) (a0 h0 : Nat) : va_W := [(q, .inr (8, [.int sz, .ref a0, .int (-4), .int 0, .int 0, .int 0, .int 0, .ref h0]))]
section MD
variable {dA : Nat → ClassId} {ad a : Nat → Nat} {q : Nat} {lam : Nat → Int64} {σ : Nat → Nat → Int32} {tl : va_W}
theorem XW_cut (ad' : Nat → Nat) (σ' : Nat → Nat → Int32) : XW dA 43 ad' σ' lam = XW dA 36 ad' σ' lam ++ [36, 37, 38, 39, 40, 41, 42].map (fun k => (ad' k, cellX dA ad' lam k (σ' k))) := by
  have h : List.range 43 = List.range 36 ++ [36, 37, 38, 39, 40, 41, 42] := by decide
  unfold XW
  rw [h, List.map_append]
theorem XW_num {N : Nat} {ad' : Nat → Nat} {σ σ' : Nat → Nat → Int32} (h : ∀ k, k < N → σ' k = σ k) : XW dA N ad' σ' lam = XW dA N ad' σ lam := by
  unfold XW
  apply List.map_congr_left
  intro k hk
  rw [h k (List.mem_range.mp hk)]
theorem XW_new (sz : Int32) : XW dA 43 (adR ad a q) (rdS σ sz) lam = XW dA 36 (adR ad a q) σ lam ++ (slW dA a ++ rd1 q sz (a 0) (ad 0)) := by
  rw [XW_cut, XW_num (σ := σ) (fun k hk => by unfold rdS; rw [if_pos hk])]
  rfl
theorem g_made {x : gX} {nL ca sl pc : Nat} {lv : List (Nat × Value)} {st : List Value} {sz : Int32} (kk : gG x nL ca sl (XW dA 43 (adR ad a q) (rdS σ sz) lam ++ tl) pc lv st) : gG x nL ca sl ((XW dA 36 ad σ lam ++ tl) ++ (rd1 q sz (a 0) (ad 0) ++ slW dA a)) pc lv st := by
  intro H locs ls hP hD hS hl
  have hp : ((XW dA 36 ad σ lam ++ tl) ++ (rd1 q sz (a 0) (ad 0) ++ slW dA a)).Perm (XW dA 36 ad σ lam ++ ((slW dA a ++ rd1 q sz (a 0) (ad 0)) ++ tl)) := by
    rw [List.append_assoc]
    exact List.Perm.append_left _ (List.perm_append_comm.trans (List.Perm.append_right _ List.perm_append_comm))
  have hP1 := va_P_mem hP (fun z hz => hp.mem_iff.mpr hz)
  have hD1 := va_D_perm hD hp
  have hs : ∀ k, k < 36 ∨ 43 ≤ k → ad k = adR ad a q k := fun k hk => (adR_o hk).symm
  refine kk H locs ls ?_ ?_ hS hl
  · rw [XW_new, List.append_assoc]
    refine va_P.app (XW_ad (ad' := ad) hs (va_P_mem hP1 (fun z hz => List.mem_append_left _ hz))) (va_P_mem hP1 (fun z hz => List.mem_append_right _ hz))
  · rw [XW_new, List.append_assoc]
    refine va_D_fst hD1 ?_
    rw [List.map_append, List.map_append (f := Prod.fst) (l₁ := XW dA 36 ad σ lam), XW_fst 36 σ σ lam (fun k hk => adR_o (Or.inl hk))]
theorem va_left {D : va_G} {A : Nat → Prop} {H : Heap} {ad' : Nat → Nat} {w : va_W} (h : ∀ k, k < 36 ∨ 43 ≤ k → ad' k = ad k) (hP : va_P D gCL ((XW dA 43 ad' σ lam ++ tl) ++ w) H) (hD : va_D A ((XW dA 43 ad' σ lam ++ tl) ++ w)) : va_P D gCL (XW dA 36 ad σ lam ++ tl) H ∧ va_D A (XW dA 36 ad σ lam ++ tl) := by
  rw [XW_cut] at hP hD
  refine ⟨va_P.app (XW_ad h (va_P_mem hP (fun z hz => List.mem_append_left _ (List.mem_append_left _ (List.mem_append_left _ hz))))) (va_P_mem hP (fun z hz => List.mem_append_left _ (List.mem_append_right _ hz))), ?_⟩
  have hp : (XW dA 36 ad' σ lam ++ [36, 37, 38, 39, 40, 41, 42].map (fun k => (ad' k, cellX dA ad' lam k (σ k))) ++ tl).Perm ((XW dA 36 ad' σ lam ++ tl) ++ [36, 37, 38, 39, 40, 41, 42].map (fun k => (ad' k, cellX dA ad' lam k (σ k)))) := by
    rw [List.append_assoc, List.append_assoc]
    exact List.Perm.append_left _ List.perm_append_comm
  refine va_D_fst (va_D_pre (va_D_perm (va_D_pre hD) hp)) ?_
  rw [List.map_append, List.map_append, XW_fst 36 σ σ lam (fun k hk => (h k (Or.inl hk)).symm)]
theorem g_left {x : gX} {nL ca sl pc : Nat} {lv : List (Nat × Value)} {st : List Value} {ad' : Nat → Nat} {w : va_W} (h : ∀ k, k < 36 ∨ 43 ≤ k → ad' k = ad k) (kk : gG x nL ca sl (XW dA 36 ad σ lam ++ tl) pc lv st) : gG x nL ca sl ((XW dA 43 ad' σ lam ++ tl) ++ w) pc lv st := fun H locs ls hP hD hS hl => kk H locs ls (va_left h hP hD).1 (va_left h hP hD).2 hS hl
end MD
