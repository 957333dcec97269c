/-! ===== the kinds of hedgehogs: loses(), turns(row), each in its class, and the call through Plain ===== -/
def kLoses (k : Int32) : Int32 := if k = 0 then 2 else if k = 1 then 3 else if k = 2 then 1 else 6
def kPlain (row : Int32) : Int32 := if row - row / 2 * 2 = 0 then -1 else 1
def kTurns (k row : Int32) : Int32 := if k = 0 then kPlain row else if k = 1 then -kPlain row else if k = 2 then (if 0 ≤ kPlain row then kPlain row else 0 - kPlain row) else 2 * (-kPlain row)
section KD
variable {x : gX} {own : String} {cc : ByteArray} {nL F L ca sl : Nat} {Φ Φ' : va_W} {pc : Nat} {lv : List (Nat × Value)} {st : List Value}
/-- super.m(..) -/
theorem g_callSU (hc : gOk x own cc nL F L) {y : MethodName} {bytes : ByteArray} {maxL idx n : Nat} {ret : Option FieldType} {rm : Room} {r : Int32} {C : String} {T : u_T} {N ci q0 b : Nat} {fs : List Value} (As rest : List Value) (hM : gI x.l x.D x.dA Φ Φ' (.ref b :: As) r y (ws_ y bytes maxL ret) rm) (he : Φ[q0]? = some (b, .inr (ci, fs))) (hcl : gCL[ci]? = some (C, T, N)) (hG : GoodIn lw_all (va_wsSU own idx y (ws_ y bytes maxL ret))) (hrm : gRm rm maxL F L = true) (hd : y.name ≠ "<init>" ∧ (parseMethodDescriptor y.desc).map (fun d => d.parameters.length) = some n) (hn : As.length = n) (hst : st = As.reverse ++ .ref b :: rest) (hrest : (rest.map fun v => v.category).sum ≤ 8) (hcs : ca ≤ x.R.cells ∧ sl ≤ x.R.slots) (hdg : decode cc pc = .ok (.invokespecial idx, 3)) (kk : gG x nL ca sl Φ' (pc + 3) lv (.int r :: rest)) : gG x nL ca sl Φ pc lv st := by
  intro H locs ls hP hD hS hl
  subst hst
  obtain ⟨e1, e2, e3, e4⟩ := gRm_spec hrm
  have hf := gFree hc hD hS
  refine va_calli (va_runSU (As := As) (rest := rest) (hc.kw.1.1 ci _ hcl).2 ⟨hc.ex, hc.b, hc.ml, hc.ow, hc.ts⟩ (hM H.size) (va_cwSU n hc.ts hG rfl e1 e2 hd ⟨Nat.le_trans e3 hc.fr, Nat.le_trans e4 hc.lo⟩) (gPreV hc hP hD he hcl) rfl hn hl.1 rfl (lv_room (m := x.m) (pc := pc) (ls := ls) (rest := rest) hrest) hdg hcs) hS (fun q _ h => hf q h) hf (fun r1 u t H1 locs1 ht hvm hp hB hz hk hS1 => ?_)
  subst hp
  exact kk H1 locs1 ls (ht ▸ hB.1) (hB.2.weaken (fun _ q _ h => hf q.1 h)) hS1 hl
/-- a call through Plain of an overriding (or its own) method -/
theorem g_callO (hc : gOk x own cc nL F L) {z y : MethodName} {bytes : ByteArray} {maxL idx n : Nat} {ret : Option FieldType} {rm : Room} {r : Int32} {C owner : String} {T : u_T} {N ci q0 b : Nat} {fs : List Value} (As rest : List Value) (hM : gI x.l x.D x.dA Φ Φ' (.ref b :: As) r y (ws_ y bytes maxL ret) rm) (he : Φ[q0]? = some (b, .inr (ci, fs))) (hcl : gCL[ci]? = some (C, T, N)) (cw : va_CU x.R x.s x.ar own C owner idx z y bytes maxL ret (ws_ y bytes maxL ret) rm 0 0 n) (hn : As.length = n) (hst : st = As.reverse ++ .ref b :: rest) (hrest : (rest.map fun v => v.category).sum ≤ 8) (hcs : ca ≤ x.R.cells ∧ sl ≤ x.R.slots) (hdg : decode cc pc = .ok (.invokevirtual idx, 3)) (kk : gG x nL ca sl Φ' (pc + 3) lv (.int r :: rest)) : gG x nL ca sl Φ pc lv st := by
  intro H locs ls hP hD hS hl
  subst hst
  have hf := gFree hc hD hS
  refine va_calli (va_runU (As := As) (rest := rest) ⟨hc.ex, hc.b, hc.ml, hc.ow, hc.ts⟩ (hM H.size) cw (gPreV hc hP hD he hcl) rfl hn hl.1 rfl (lv_room (m := x.m) (pc := pc) (ls := ls) (rest := rest) hrest) hdg hcs) hS (fun q _ h => hf q h) hf (fun r1 u t H1 locs1 ht hvm hp hB hz hk hS1 => ?_)
  subst hp
  exact kk H1 locs1 ls (ht ▸ hB.1) (hB.2.weaken (fun _ q _ h => hf q.1 h)) hS1 hl
end KD
section KC
variable {l : Launch} {D : va_G} {dA : Nat → ClassId} {Φ : va_W} {q0 b : Nat}
theorem c_X1_loses : gI l D dA Φ Φ [.ref b] 2 yX1_loses (ws_ yX1_loses cX1_loses 1 (some .int)) ({ frames := 0, cells := 0, slots := 0, locals := 0 } : Room) :=
  g_startI (own := RX1) ⟨rfl, rfl⟩ (by decide) rfl (Nat.le_of_ble_eq_true rfl) (fun x e hc hR => by
    refine g_iconst (v := 2) hc dX1_loses_0 (by decide) ?_
    exact g_iret hc hR dX1_loses_1)
theorem c_X1_turns {row : Int32} : gI l D dA Φ Φ [.ref b, .int row] (kPlain row) yX1_turns (ws_ yX1_turns cX1_turns 2 (some .int)) ({ frames := 0, cells := 0, slots := 0, locals := 0 } : Room) :=
  g_startI (own := RX1) ⟨rfl, rfl⟩ (by decide) rfl (Nat.le_of_ble_eq_true rfl) (fun x e hc hR => by
    refine g_iload_n hc dX1_turns_0 rfl 1 rfl ?_
    refine g_iconst (v := 2) hc dX1_turns_1 (by decide) ?_
    refine g_irem hc dX1_turns_2 (by decide) ?_
    refine g_if_ne (tgt := 10) hc dX1_turns_3 (by decide) (fun h => ?_) (fun h => ?_)
    · refine g_iconst (v := 1) hc dX1_turns_10 (by decide) ?_
      rw [show kPlain row = 1 from if_neg h] at hR
      exact g_iret hc hR dX1_turns_11
    · refine g_iconst (v := -1) hc dX1_turns_6 (by decide) ?_
      refine g_goto (tgt := 11) hc dX1_turns_7 (by decide) ?_
      rw [show kPlain row = -1 from if_pos h] at hR
      exact g_iret hc hR dX1_turns_11)
theorem c_X2_losesA {ci : Nat} {fs : List Value} {q : vw_C} (hq : gCL[ci]? = some q) (he : Φ[q0]? = some (b, .inr (ci, fs))) : gI l D dA Φ Φ [.ref b] 3 yX2_loses (ws_ yX2_loses cX2_loses 1 (some .int)) ({ frames := 1, cells := 0, slots := 0, locals := 30 } : Room) :=
  g_startI (own := RX2) ⟨rfl, rfl⟩ (by decide) rfl (Nat.le_of_ble_eq_true rfl) (fun x e hc hR => by
    refine g_aload_n hc dX2_loses_0 rfl 0 rfl ?_
    refine g_callSU (n := 0) hc [] [] c_X1_loses he hq (lw_app (lw_in _ [556, 549, 107, 547, 61] (by decide +kernel) (by decide +kernel)) (lw_meth q557)) rfl (by decide +kernel) rfl rfl (Nat.le_of_ble_eq_true rfl) gZ dX2_loses_1 ?_
    refine g_iconst (v := 1) hc dX2_loses_4 (by decide) ?_
    refine g_iadd hc dX2_loses_5 ?_
    rw [show (3 : Int32) = 2 + 1 from by decide] at hR
    exact g_iret hc hR dX2_loses_6)
theorem c_X2_turnsA {ci : Nat} {fs : List Value} {q : vw_C} (hq : gCL[ci]? = some q) (he : Φ[q0]? = some (b, .inr (ci, fs))) {row : Int32} : gI l D dA Φ Φ [.ref b, .int row] (-kPlain row) yX2_turns (ws_ yX2_turns cX2_turns 2 (some .int)) ({ frames := 1, cells := 0, slots := 0, locals := 30 } : Room) :=
  g_startI (own := RX2) ⟨rfl, rfl⟩ (by decide) rfl (Nat.le_of_ble_eq_true rfl) (fun x e hc hR => by
    refine g_aload_n hc dX2_turns_0 rfl 0 rfl ?_
    refine g_iload_n hc dX2_turns_1 rfl 1 rfl ?_
    refine g_callSU (n := 1) hc [.int row] [] c_X1_turns he hq (lw_app (lw_in _ [573, 566, 107, 564, 61] (by decide +kernel) (by decide +kernel)) (lw_meth q574)) rfl (by decide +kernel) rfl rfl (Nat.le_of_ble_eq_true rfl) gZ dX2_turns_2 ?_
    refine g_ineg hc dX2_turns_5 ?_
    exact g_iret hc hR dX2_turns_6)
theorem c_X3_loses (he : Φ[q0]? = some (b, .inr (3, []))) : gI l D dA Φ Φ [.ref b] 1 yX3_loses (ws_ yX3_loses cX3_loses 1 (some .int)) ({ frames := 1, cells := 0, slots := 0, locals := 30 } : Room) :=
  g_startI (own := RX3) ⟨rfl, rfl⟩ (by decide) rfl (Nat.le_of_ble_eq_true rfl) (fun x e hc hR => by
    refine g_aload_n hc dX3_loses_0 rfl 0 rfl ?_
    refine g_callSU (n := 0) hc [] [] c_X1_loses he rfl (lw_app (lw_in _ [562, 549, 114, 547, 61] (by decide +kernel) (by decide +kernel)) (lw_meth q557)) rfl (by decide +kernel) rfl rfl (Nat.le_of_ble_eq_true rfl) gZ dX3_loses_1 ?_
    refine g_iconst (v := 2) hc dX3_loses_4 (by decide) ?_
    refine g_idiv hc dX3_loses_5 (by decide) ?_
    rw [show (1 : Int32) = 2 / 2 from by decide] at hR
    exact g_iret hc hR dX3_loses_6)
theorem c_X3_turns (he : Φ[q0]? = some (b, .inr (3, []))) {row : Int32} : gI l D dA Φ Φ [.ref b, .int row] (if 0 ≤ kPlain row then kPlain row else 0 - kPlain row) yX3_turns (ws_ yX3_turns cX3_turns 2 (some .int)) ({ frames := 1, cells := 0, slots := 0, locals := 30 } : Room) :=
  g_startI (own := RX3) ⟨rfl, rfl⟩ (by decide) rfl (Nat.le_of_ble_eq_true rfl) (fun x e hc hR => by
    refine g_aload_n hc dX3_turns_0 rfl 0 rfl ?_
    refine g_iload_n hc dX3_turns_1 rfl 1 rfl ?_
    refine g_callSU (n := 1) hc [.int row] [] c_X1_turns he rfl (lw_app (lw_in _ [579, 566, 114, 564, 61] (by decide +kernel) (by decide +kernel)) (lw_meth q574)) rfl (by decide +kernel) rfl rfl (Nat.le_of_ble_eq_true rfl) gZ dX3_turns_2 ?_
    refine g_abs hc q580 q581 q582 (by decide) (Nat.le_of_ble_eq_true rfl) gZ dX3_turns_5 ?_
    exact g_iret hc hR dX3_turns_8)
theorem c_X4_loses (he : Φ[q0]? = some (b, .inr (4, []))) : gI l D dA Φ Φ [.ref b] 6 yX4_loses (ws_ yX4_loses cX4_loses 1 (some .int)) ({ frames := 2, cells := 0, slots := 0, locals := 60 } : Room) :=
  g_startI (own := RX4) ⟨rfl, rfl⟩ (by decide) rfl (Nat.le_of_ble_eq_true rfl) (fun x e hc hR => by
    refine g_iconst (v := 2) hc dX4_loses_0 (by decide) ?_
    refine g_aload_n hc dX4_loses_1 rfl 0 rfl ?_
    refine g_callSU (n := 0) hc [] [.int 2] (c_X2_losesA rfl he) he rfl (lw_app (lw_in _ [553, 1376, 121, 554, 62] (by decide +kernel) (by decide +kernel)) (lw_meth q555)) rfl (by decide +kernel) rfl rfl (Nat.le_of_ble_eq_true rfl) gZ dX4_loses_2 ?_
    refine g_imul hc dX4_loses_5 ?_
    rw [show (6 : Int32) = 2 * 3 from by decide] at hR
    exact g_iret hc hR dX4_loses_6)
theorem c_X4_turns (he : Φ[q0]? = some (b, .inr (4, []))) {row : Int32} : gI l D dA Φ Φ [.ref b, .int row] (2 * (-kPlain row)) yX4_turns (ws_ yX4_turns cX4_turns 2 (some .int)) ({ frames := 2, cells := 0, slots := 0, locals := 60 } : Room) :=
  g_startI (own := RX4) ⟨rfl, rfl⟩ (by decide) rfl (Nat.le_of_ble_eq_true rfl) (fun x e hc hR => by
    refine g_iconst (v := 2) hc dX4_turns_0 (by decide) ?_
    refine g_aload_n hc dX4_turns_1 rfl 0 rfl ?_
    refine g_iload_n hc dX4_turns_2 rfl 1 rfl ?_
    refine g_callSU (n := 1) hc [.int row] [.int 2] (c_X2_turnsA rfl he) he rfl (lw_app (lw_in _ [570, 1377, 121, 571, 62] (by decide +kernel) (by decide +kernel)) (lw_meth q572)) rfl (by decide +kernel) rfl rfl (Nat.le_of_ble_eq_true rfl) gZ dX4_turns_3 ?_
    refine g_imul hc dX4_turns_6 ?_
    exact g_iret hc hR dX4_turns_7)
end KC
theorem inb4 {k : Int32} (h : inb k 4 = true) : k = 0 ∨ k = 1 ∨ k = 2 ∨ k = 3 := by
  obtain ⟨j, hj, rfl⟩ := vp_in_of (inb_in h) (by decide)
  match j, hj with
  | 0, _ => exact Or.inl rfl
  | 1, _ => exact Or.inr (Or.inl rfl)
  | 2, _ => exact Or.inr (Or.inr (Or.inl rfl))
  | 3, _ => exact Or.inr (Or.inr (Or.inr rfl))
section KE
variable {x : gX} {cc : ByteArray} {nL F L ca sl : Nat} {pc : Nat} {lv : List (Nat × Value)} {st : List Value} {N : Nat} {ad : Nat → Nat} {σ : Nat → Nat → Int32} {lam : Nat → Int64} {tl : va_W}
theorem g_loses (hc : gOk x RX0 cc nL F L) (hN : 36 ≤ N) {ki : Int32} (h : inb ki 4 = true) (rest : List Value) (hst : st = .ref (ad (2 + ki.toNatClampNeg)) :: rest) (hrest : (rest.map fun v => v.category).sum ≤ 8) (hrm : 4 ≤ F ∧ 120 ≤ L) (hcs : ca ≤ x.R.cells ∧ sl ≤ x.R.slots) (hdg : decode cc pc = .ok (.invokevirtual 47, 3)) (kk : gG x nL ca sl (XW x.dA N ad σ lam ++ tl) (pc + 3) lv (.int (kLoses ki) :: rest)) : gG x nL ca sl (XW x.dA N ad σ lam ++ tl) pc lv st := by
  have hF : ∀ k, k ≤ 2 → k + 1 ≤ x.R.frames := fun k hk => Nat.le_trans (by omega) hc.fr
  have hL : ∀ k, k ≤ 120 → k ≤ x.R.locals := fun k hk => Nat.le_trans (Nat.le_trans hk hrm.2) hc.lo
  rcases inb4 h with rfl | rfl | rfl | rfl
  · rw [show kLoses 0 = 2 by decide] at kk
    exact g_callO (z := yX1_loses) (n := 0) hc (owner := RX1) (C := RX1) [] rest c_X1_loses (XW_at (k := 2) (by omega)) rfl (va_cwU 0 hc.ts (lw_app (lw_in _ [546, 549, 548, 547, 61] (by decide +kernel) (by decide +kernel)) (lw_meth q557)) rfl rfl rfl rfl (by decide +kernel) ⟨hF 0 (by decide), hL _ (by decide)⟩) rfl hst hrest hcs hdg kk
  · rw [show kLoses 1 = 3 by decide] at kk
    exact g_callO (z := yX1_loses) (n := 0) hc (owner := RX1) (C := RX2) [] rest (c_X2_losesA rfl (XW_at (k := 3) (by omega))) (XW_at (k := 3) (by omega)) rfl (va_cwO 0 hc.ts (lw_app (lw_in _ [546, 549, 547, 558, 554, 62] (by decide +kernel) (by decide +kernel)) (lw_meth q555)) rfl rfl rfl q557 (by decide +kernel) ⟨hF 1 (by decide), hL _ (by decide)⟩) rfl hst hrest hcs hdg kk
  · rw [show kLoses 2 = 1 by decide] at kk
    exact g_callO (z := yX1_loses) (n := 0) hc (owner := RX1) (C := RX3) [] rest (c_X3_loses (XW_at (k := 4) (by omega))) (XW_at (k := 4) (by omega)) rfl (va_cwO 0 hc.ts (lw_app (lw_in _ [546, 549, 547, 559, 560, 63] (by decide +kernel) (by decide +kernel)) (lw_meth q561)) rfl rfl rfl q557 (by decide +kernel) ⟨hF 1 (by decide), hL _ (by decide)⟩) rfl hst hrest hcs hdg kk
  · rw [show kLoses 3 = 6 by decide] at kk
    exact g_callO (z := yX1_loses) (n := 0) hc (owner := RX1) (C := RX4) [] rest (c_X4_loses (XW_at (k := 5) (by omega))) (XW_at (k := 5) (by omega)) rfl (va_cwO 0 hc.ts (lw_app (lw_in _ [546, 549, 547, 550, 551, 64] (by decide +kernel) (by decide +kernel)) (lw_meth q552)) rfl rfl rfl q557 (by decide +kernel) ⟨hF 2 (by decide), hL _ (by decide)⟩) rfl hst hrest hcs hdg kk
theorem g_turns (hc : gOk x RX0 cc nL F L) (hN : 36 ≤ N) {ki row : Int32} (h : inb ki 4 = true) (rest : List Value) (hst : st = .int row :: .ref (ad (2 + ki.toNatClampNeg)) :: rest) (hrest : (rest.map fun v => v.category).sum ≤ 8) (hrm : 4 ≤ F ∧ 120 ≤ L) (hcs : ca ≤ x.R.cells ∧ sl ≤ x.R.slots) (hdg : decode cc pc = .ok (.invokevirtual 53, 3)) (kk : gG x nL ca sl (XW x.dA N ad σ lam ++ tl) (pc + 3) lv (.int (kTurns ki row) :: rest)) : gG x nL ca sl (XW x.dA N ad σ lam ++ tl) pc lv st := by
  have hF : ∀ k, k ≤ 2 → k + 1 ≤ x.R.frames := fun k hk => Nat.le_trans (by omega) hc.fr
  have hL : ∀ k, k ≤ 120 → k ≤ x.R.locals := fun k hk => Nat.le_trans (Nat.le_trans hk hrm.2) hc.lo
  rcases inb4 h with rfl | rfl | rfl | rfl
  · rw [show kTurns 0 row = kPlain row from if_pos rfl] at kk
    exact g_callO (z := yX1_turns) (n := 1) hc (owner := RX1) (C := RX1) [.int row] rest c_X1_turns (XW_at (k := 2) (by omega)) rfl (va_cwU 1 hc.ts (lw_app (lw_in _ [563, 566, 565, 564, 61] (by decide +kernel) (by decide +kernel)) (lw_meth q574)) rfl rfl rfl rfl (by decide +kernel) ⟨hF 0 (by decide), hL _ (by decide)⟩) rfl hst hrest hcs hdg kk
  · rw [show kTurns 1 row = -kPlain row from rfl] at kk
    exact g_callO (z := yX1_turns) (n := 1) hc (owner := RX1) (C := RX2) [.int row] rest (c_X2_turnsA rfl (XW_at (k := 3) (by omega))) (XW_at (k := 3) (by omega)) rfl (va_cwO 1 hc.ts (lw_app (lw_in _ [563, 566, 564, 575, 571, 62] (by decide +kernel) (by decide +kernel)) (lw_meth q572)) rfl rfl rfl q574 (by decide +kernel) ⟨hF 1 (by decide), hL _ (by decide)⟩) rfl hst hrest hcs hdg kk
  · rw [show kTurns 2 row = (if 0 ≤ kPlain row then kPlain row else 0 - kPlain row) from rfl] at kk
    exact g_callO (z := yX1_turns) (n := 1) hc (owner := RX1) (C := RX3) [.int row] rest (c_X3_turns (XW_at (k := 4) (by omega))) (XW_at (k := 4) (by omega)) rfl (va_cwO 1 hc.ts (lw_app (lw_in _ [563, 566, 564, 576, 577, 63] (by decide +kernel) (by decide +kernel)) (lw_meth q578)) rfl rfl rfl q574 (by decide +kernel) ⟨hF 1 (by decide), hL _ (by decide)⟩) rfl hst hrest hcs hdg kk
  · rw [show kTurns 3 row = 2 * (-kPlain row) from rfl] at kk
    exact g_callO (z := yX1_turns) (n := 1) hc (owner := RX1) (C := RX4) [.int row] rest (c_X4_turns (XW_at (k := 5) (by omega))) (XW_at (k := 5) (by omega)) rfl (va_cwO 1 hc.ts (lw_app (lw_in _ [563, 566, 564, 567, 568, 64] (by decide +kernel) (by decide +kernel)) (lw_meth q569)) rfl rfl rfl q574 (by decide +kernel) ⟨hF 2 (by decide), hL _ (by decide)⟩) rfl hst hrest hcs hdg kk
end KE
