/-! ===== the law's loop: its state, its rows ===== -/
set_option maxRecDepth 100000
section LWR
variable {kS : gKS}
variable {x : gX} {own : String} {cc : ByteArray} {nL F L ca sl : Nat} {Φ Φ' : va_W} {pc : Nat} {lv : List (Nat × Value)} {st : List Value}
theorem g_callTiW (hc : gOk x own cc nL F L) (hz : gZs kS x.A x.s x.s.heap) {y : MethodName} {bytes : ByteArray} {maxL idx n mc ms : Nat} {ret0 : Option FieldType} {hh : List (Nat × Nat × Nat × Nat)} {rm : Room} {ret : Int32 × va_W → Prop} {C : String} {T : u_T} {N ci q0 b : Nat} {fs : List Value} (As rest : List Value) (hM : gTi kS x.l x.D x.dA Φ (.ref b :: As) ret (fun _ => False) y (wsW_ y bytes maxL ret0 hh) rm mc ms) (he : Φ[q0]? = some (b, .inr (ci, fs))) (hcl : gCL[ci]? = some (C, T, N)) (hG : GoodIn lw_all (wsV own idx C y (wsW_ y bytes maxL ret0 hh))) (hrm : gRmT rm mc ms maxL F L = true) (hd : y.cls = C ∧ y.cls ≠ "java/lang/invoke/MethodHandle" ∧ y.cls ≠ "java/lang/invoke/VarHandle" ∧ (parseMethodDescriptor y.desc).map (fun d => d.parameters.length) = some n) (hn : As.length = n) (hst : st = As.reverse ++ .ref b :: rest) (hrest : (rest.map fun v => v.category).sum ≤ 8) (hcs : ca + mc ≤ x.R.cells ∧ sl + ms ≤ x.R.slots) (hdg : decode cc pc = .ok (.invokevirtual idx, 3))
    (kk : ∀ r Φ1, ret (r, Φ1) → gG x nL (ca + mc) (sl + ms) Φ1 (pc + 3) lv (.int r :: rest)) : gG x nL ca sl Φ pc lv st := by
  intro H locs ls hP hD hS hl
  subst hst
  obtain ⟨e1, e2, e3, e4⟩ := gRmT_spec hrm
  have hf := gFree hc hD hS
  refine vx_calli (vx_runVX (As := As) (rest := rest) ⟨hc.ex, hc.b, hc.ml, hc.ow, hc.ts⟩ (hM H.size) (vx_cwVW n hc.ts hG rfl e1 e2 hd ⟨Nat.le_trans e3 hc.fr, Nat.le_trans e4 hc.lo⟩) (gPreTV hc hz hP hD hS he hcl) rfl hn hl.1 rfl (lv_room (m := x.m) (pc := pc) (ls := ls) (rest := rest) hrest) hdg hcs) hS (fun q _ h => hf q h) hf (fun q _ h => hf q h) ?_ ?_
  · rintro E ce q9 _ t H1 locs1 ht hvm _ ⟨c, pl, Φ1, h1, rfl, h2, h3⟩ hsz hk hS1 hcell hv hcls
    exact h1.elim
  · rintro r Φ1 t H1 locs1 ht hvm hp hB hsz hk hS1
    exact kk r Φ1 hp H1 locs1 ls (ht ▸ hB.1) (hB.2.weaken (fun _ q _ h => hf q.1 h)) hS1 hl
/-- a number of the script -/
theorem g_sld (hc : gOk x own cc nL F L) {b Ls : Nat} {xs : Nat → Int32} (hX : va_X b Ls xs x.s x.s.heap) (hbl : b < x.s.heap.size) (hbA : ¬ x.A b) {i : Int32} (hin : vp_in i Ls) (hdg : decode cc pc = .ok (.iaload, 1)) (kk : gG x nL ca sl Φ (pc + 1) lv (.int (xs i.toNatClampNeg) :: st)) : gG x nL ca sl Φ pc lv (.int i :: .ref b :: st) :=
  fun H locs ls hP hD hS hl => va_sld hc.ex hc.b hX hbl hbA hS hin hdg (kk H locs ls hP hD hS hl)
theorem g_slen (hc : gOk x own cc nL F L) {b Ls : Nat} {xs : Nat → Int32} (hX : va_X b Ls xs x.s x.s.heap) (hbl : b < x.s.heap.size) (hbA : ¬ x.A b) (hdg : decode cc pc = .ok (.arraylength, 1)) (kk : gG x nL ca sl Φ (pc + 1) lv (.int (Int32.ofNat Ls) :: st)) : gG x nL ca sl Φ pc lv (.ref b :: st) :=
  fun H locs ls hP hD hS hl => va_slen hc.ex hc.b hX hbl hbA hS hdg (kk H locs ls hP hD hS hl)
end LWR
def WA (dA : Nat → ClassId) (ad am : Nat → Nat) (σ : Nat → Nat → Int32) (lam : Nat → Int64) (r : Nat → Option Nat) (μ : Nat → Nat → Int32) (rows : va_W) : va_W := XW dA 36 ad σ lam ++ (SHc ad r ++ (MW dA am μ ++ rows))
def WB (dA : Nat → ClassId) (ad am : Nat → Nat) (σ : Nat → Nat → Int32) (lam : Nat → Int64) (r : Nat → Option Nat) (μ : Nat → Nat → Int32) (rows : va_W) : va_W := MW dA am μ ++ (XW dA 36 ad σ lam ++ (SHc ad r ++ rows))
theorem WAB {dA : Nat → ClassId} {ad am : Nat → Nat} {σ : Nat → Nat → Int32} {lam : Nat → Int64} {r : Nat → Option Nat} {μ : Nat → Nat → Int32} {rows : va_W} : (WA dA ad am σ lam r μ rows).Perm (WB dA ad am σ lam r μ rows) := by
  unfold WA WB
  exact ((List.perm_append_comm_assoc _ _ _).append_left _).trans (List.perm_append_comm_assoc _ _ _)
theorem RwAt.app {dA : Nat → ClassId} {r : Nat → Option Nat} {rows pre : va_W} {J : Nat → Nat} {sh : gSh} (h : RwAt dA r rows J sh) : RwAt dA r (pre ++ rows) (fun k => pre.length + J k) sh := by
  refine ⟨fun k hk => ?_, fun a b ha hb h1 h2 e => h.2 a b ha hb h1 h2 (Nat.add_left_cancel (show pre.length + J a = pre.length + J b from e))⟩
  rcases h.1 k hk with a | ⟨q, c, n, f, a1, a2, a3, a4⟩
  · exact Or.inl a
  · refine Or.inr ⟨q, c, n, f, a1, a2, ?_, a4⟩
    show (pre ++ rows)[pre.length + J k]? = _
    rw [List.getElem?_append_right (by omega), Nat.add_sub_cancel_left]
    exact a3
theorem RwAt.unapp {dA : Nat → ClassId} {r : Nat → Option Nat} {rows pre : va_W} {J : Nat → Nat} {sh : gSh} (h : RwAt dA r (pre ++ rows) (fun k => pre.length + J k) sh) : RwAt dA r rows J sh := by
  refine ⟨fun k hk => ?_, fun a b ha hb h1 h2 e => h.2 a b ha hb h1 h2 (show pre.length + J a = pre.length + J b by rw [e])⟩
  rcases h.1 k hk with a | ⟨q, c, n, f, a1, a2, a3, a4⟩
  · exact Or.inl a
  · refine Or.inr ⟨q, c, n, f, a1, a2, ?_, a4⟩
    have a3 : (pre ++ rows)[pre.length + J k]? = some (q, .inl (dA c, n, .inl f)) := a3
    rw [List.getElem?_append_right (by omega), Nat.add_sub_cancel_left] at a3
    exact a3
theorem set_app {pre rows : va_W} (j : Nat) (v : Nat × va_E) : (pre ++ rows).set (pre.length + j) v = pre ++ rows.set j v := by
  rw [List.set_append_right _ _ (by omega), Nat.add_sub_cancel_left]
/-- behind a call: the loop's end, for every state that keeps the relation -/
def LwN (x : gX) (b : Nat) (ad am : Nat → Nat) (t : Nat) : Prop := ∀ (ca sl : Nat) (σ : Nat → Nat → Int32) (lam : Nat → Int64) (r : Nat → Option Nat) (μ : Nat → Nat → Int32) (rows : va_W) (J : Nat → Nat) (sh : gSh), ca ≤ 53 + 9 * (t + 1) → sl ≤ 1170 + 610 * (t + 1) → RX σ μ → ShR sh μ → RwAt x.dA r rows J sh → gG x 4 ca sl (WA x.dA ad am σ lam r μ rows) 1628 [(0, .ref b), (1, .ref (ad 0)), (2, .ref (am 0)), (3, .int (nI (6 * t)))] []
theorem RX.of {p : Nat → Nat} {σ μ : Nat → Nat → Int32} (h : Rel p σ μ) : RX σ μ := ⟨p, h⟩
theorem sl_cs {x : gX} {t ca sl c s : Nat} (ht : t < 64) (h1 : ca ≤ 53 + 9 * t) (h2 : sl ≤ 1170 + 610 * t) (hR : 603072 ≤ x.R.cells ∧ 7262314 ≤ x.R.slots) (hc : c ≤ 9) (hs : s ≤ 610) : ca + c ≤ x.R.cells ∧ sl + s ≤ x.R.slots := ⟨by omega, by omega⟩
theorem sl_in {t L j : Nat} (h : 6 * t + 6 ≤ L) (hL : L ≤ 384) (hj : j < 6) : vp_in (nI (6 * t) + nI j) L := by
  rw [nI_add]
  exact nI_in (by omega) (by omega)
