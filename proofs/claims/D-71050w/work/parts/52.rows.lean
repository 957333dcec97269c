/-! ===== methods that may throw, where they return ===== -/
set_option maxRecDepth 100000
/-- thrown, or an answer -/
def oM {τ ρ α : Type} (r : τ ⊕ ρ) (f : τ → Option α) (g : ρ → Option α) : Option α := match r with
  | .inl t => f t
  | .inr v => g v
theorem oM_r {τ ρ α : Type} {v : ρ} {f : τ → Option α} {g : ρ → Option α} {o : α} (h : oM (.inr v) f g = some o) : g v = some o := h
theorem oM_l {τ ρ α : Type} {t : τ} {f : τ → Option α} {g : ρ → Option α} {o : α} (h : oM (.inl t) f g = some o) : f t = some o := h
def gIz (kS : gKS) (l : Launch) (D : va_G) (dA : Nat → ClassId) (Φ Φ' : va_W) (As : List Value) (r : Int32) (y : MethodName) (ws : List Cond) (rm : Room) : Prop := ∀ sz : Nat, Met l y ws rm (va_Pc As (gPreT kS D dA Φ sz)) (va_Qi (fun (r1 : Int32) (_ : Unit) => r1 = r) (gB D Φ' (va_A Φ sz)) (va_A Φ sz)) 0 0 (va_A Φ sz)
def gVz (kS : gKS) (l : Launch) (D : va_G) (dA : Nat → ClassId) (Φ Φ' : va_W) (As : List Value) (y : MethodName) (ws : List Cond) (rm : Room) : Prop := ∀ sz : Nat, Met l y ws rm (va_Pc As (gPreT kS D dA Φ sz)) (va_Qv (fun (_ : Unit) => True) (gB D Φ' (va_A Φ sz)) (va_A Φ sz)) 0 0 (va_A Φ sz)
variable {kS : gKS}
theorem gS8 {N : Nat} (hN : 43 ≤ N) : gS 4 N := ⟨Nat.le_refl _, by unfold sb; omega⟩
theorem gN8 {N : Nat} (hN : 43 ≤ N) : 36 ≤ N := Nat.le_trans (by decide) hN
section RW
variable {x : gX} {own : String} {cc : ByteArray} {nL F L ca sl : Nat} {Φ Φ' : va_W} {pc : Nat} {lv : List (Nat × Value)} {st : List Value}
theorem g_callVzi (hc : gOk x own cc nL F L) (hz : gZs kS x.A x.s x.s.heap) {y : MethodName} {bytes : ByteArray} {maxL idx n : Nat} {ret : Option FieldType} {rm : Room} {r : Int32} {C : String} {T : u_T} {N ci q0 b : Nat} {fs : List Value} (As rest : List Value) (hM : gIz kS x.l x.D x.dA Φ Φ' (.ref b :: As) r y (ws_ y bytes maxL ret) rm) (he : Φ[q0]? = some (b, .inr (ci, fs))) (hcl : gCL[ci]? = some (C, T, N)) (hG : GoodIn lw_all (wsV own idx C y (ws_ y bytes maxL ret))) (hrm : gRm rm maxL F L = true) (hd : y.cls = C ∧ y.cls ≠ "java/lang/invoke/MethodHandle" ∧ y.cls ≠ "java/lang/invoke/VarHandle" ∧ (parseMethodDescriptor y.desc).map (fun d => d.parameters.length) = some n) (hn : As.length = n) (hst : st = As.reverse ++ .ref b :: rest) (hrest : (rest.map fun v => v.category).sum ≤ 8) (hcs : ca ≤ x.R.cells ∧ sl ≤ x.R.slots) (hdg : decode cc pc = .ok (.invokevirtual idx, 3)) (kk : gG x nL ca sl Φ' (pc + 3) lv (.int r :: rest)) : gG x nL ca sl Φ pc lv st := by
  intro H locs ls hP hD hS hl
  subst hst
  obtain ⟨e1, e2, e3, e4⟩ := gRm_spec hrm
  have hf := gFree hc hD hS
  refine va_calli (va_runV (As := As) (rest := rest) ⟨hc.ex, hc.b, hc.ml, hc.ow, hc.ts⟩ (hM H.size) (cwV n hc.ts hG rfl e1 e2 hd ⟨Nat.le_trans e3 hc.fr, Nat.le_trans e4 hc.lo⟩) (gPreTV hc hz hP hD hS he hcl) rfl hn hl.1 rfl (lv_room (m := x.m) (pc := pc) (ls := ls) (rest := rest) hrest) hdg hcs) hS (fun q _ h => hf q h) hf (fun r1 u t H1 locs1 ht hvm hp hB hz hk hS1 => ?_)
  subst hp
  exact kk H1 locs1 ls (ht ▸ hB.1) (hB.2.weaken (fun _ q _ h => hf q.1 h)) hS1 hl
theorem g_callVzv (hc : gOk x own cc nL F L) (hz : gZs kS x.A x.s x.s.heap) {y : MethodName} {bytes : ByteArray} {maxL idx n : Nat} {ret : Option FieldType} {rm : Room} {C : String} {T : u_T} {N ci q0 b : Nat} {fs : List Value} (As rest : List Value) (hM : gVz kS x.l x.D x.dA Φ Φ' (.ref b :: As) y (ws_ y bytes maxL ret) rm) (he : Φ[q0]? = some (b, .inr (ci, fs))) (hcl : gCL[ci]? = some (C, T, N)) (hG : GoodIn lw_all (wsV own idx C y (ws_ y bytes maxL ret))) (hrm : gRm rm maxL F L = true) (hd : y.cls = C ∧ y.cls ≠ "java/lang/invoke/MethodHandle" ∧ y.cls ≠ "java/lang/invoke/VarHandle" ∧ (parseMethodDescriptor y.desc).map (fun d => d.parameters.length) = some n) (hn : As.length = n) (hst : st = As.reverse ++ .ref b :: rest) (hrest : (rest.map fun v => v.category).sum ≤ 8) (hcs : ca ≤ x.R.cells ∧ sl ≤ x.R.slots) (hdg : decode cc pc = .ok (.invokevirtual idx, 3)) (kk : gG x nL ca sl Φ' (pc + 3) lv rest) : gG x nL ca sl Φ pc lv st := by
  intro H locs ls hP hD hS hl
  subst hst
  obtain ⟨e1, e2, e3, e4⟩ := gRm_spec hrm
  have hf := gFree hc hD hS
  refine va_callv (va_runV (As := As) (rest := rest) ⟨hc.ex, hc.b, hc.ml, hc.ow, hc.ts⟩ (hM H.size) (cwV n hc.ts hG rfl e1 e2 hd ⟨Nat.le_trans e3 hc.fr, Nat.le_trans e4 hc.lo⟩) (gPreTV hc hz hP hD hS he hcl) rfl hn hl.1 rfl (lv_room (m := x.m) (pc := pc) (ls := ls) (rest := rest) hrest) hdg hcs) hS (fun q _ h => hf q h) hf (fun u t H1 locs1 ht hvm hp hB hz hk hS1 => ?_)
  exact kk H1 locs1 ls (ht ▸ hB.1) (hB.2.weaken (fun _ q _ h => hf q.1 h)) hS1 hl
/-- a nest mate's static method -/
theorem g_callSNi (hc : gOk x own cc nL F L) {y : MethodName} {bytes : ByteArray} {maxL idx n : Nat} {ret : Option FieldType} {rm : Room} {r : Int32} (As rest : List Value) (hM : gI x.l x.D x.dA Φ Φ' As r y (ws_ y bytes maxL ret) rm) (i : Nat) (hq : gMN[i]? = some (own, idx, y)) (hcode : Cond.code y bytes maxL ret ∈ lw_all) (hini : Cond.initialized y.cls ∈ lw_all) (hstat : Cond.static y ∈ lw_all) (hrm : gRm rm maxL F L = true) (hd : y.cls ≠ "java/lang/invoke/MethodHandle" ∧ y.cls ≠ "java/lang/invoke/VarHandle" ∧ (parseMethodDescriptor y.desc).map (fun d => d.parameters.length) = some n) (hn : As.length = n) (hst : st = As.reverse ++ rest) (hrest : (rest.map fun v => v.category).sum ≤ 8) (hcs : ca ≤ x.R.cells ∧ sl ≤ x.R.slots) (hdg : decode cc pc = .ok (.invokestatic idx, 3)) (kk : gG x nL ca sl Φ' (pc + 3) lv (.int r :: rest)) : gG x nL ca sl Φ pc lv st := by
  intro H locs ls hP hD hS hl
  subst hst
  obtain ⟨e1, e2, e3, e4⟩ := gRm_spec hrm
  have hf := gFree hc hD hS
  refine va_calli (va_runSN (As := As) (rest := rest) ⟨hc.ex, hc.b, hc.ml, hc.ow, hc.ts⟩ (hM H.size) ⟨va_cnB n hc.ts (lw_meth hcode) rfl e1 e2 (hc.mn i hq) (hc.ts _ hini) hd ⟨Nat.le_trans e3 hc.fr, Nat.le_trans e4 hc.lo⟩, hc.ts _ hstat, trivial⟩ (gPreS hc hP hD) rfl hn hl.1 rfl (lv_room (m := x.m) (pc := pc) (ls := ls) (rest := rest) hrest) hdg hcs) hS (fun q _ h => hf q h) hf (fun r1 u t H1 locs1 ht hvm hp hB hz hk hS1 => ?_)
  subst hp
  exact kk H1 locs1 ls (ht ▸ hB.1) (hB.2.weaken (fun _ q _ h => hf q.1 h)) hS1 hl
end RW
section GSt3
variable {l : Launch} {D : va_G} {dA : Nat → ClassId} {Φ Φ' : va_W} {As : List Value} {y : MethodName} {cc : ByteArray} {maxL : Nat} {rm : Room} {own : String}
theorem g_startIz {r : Int32} (hrc : rm.cells = 0 ∧ rm.slots = 0) (hy : plainName y.cls = true) (hown : y.cls = own) (hlen : (lg_sl As).length ≤ maxL) (body : ∀ x : gX, x.dA = dA → gOk x own cc maxL rm.frames rm.locals → gZs kS x.A x.s x.s.heap → gRi x 0 0 Φ' r → gG x maxL 0 0 Φ 0 (lv_args 0 As) []) : gIz kS l D dA Φ Φ' As r y (ws_ y cc maxL (some .int)) rm := by
  intro sz
  refine Met.ofW (cc := cc) (maxL := maxL) (ret := some .int) hy rfl ?_
  intro p e s m args below meth c s₁ B hml hv
  obtain ⟨rfl, ⟨hsz, hP, hK, hD0⟩, hz⟩ := hv
  subst hsz
  have hts := atoms_spec (ws := ws_ y cc maxL (some .int)) B.pre
  have hts : ∀ w ∈ lw_all, w.before As.toArray s = true := fun w h => hts w (List.mem_cons_of_mem _ h)
  have ho : s.vm.findClass own = some m.cls := by rw [← hown]; exact findClass_of_methodNamed B.named
  rw [lg_entry_eq]
  exact body (p, l, e, (headSpec (ws_ y cc maxL (some .int)) rm).room, s, m, As.toArray, below, meth, c, MQ below (va_Qi (fun (r1 : Int32) (_ : Unit) => r1 = r) (gB D Φ' (va_A Φ s.heap.size)) (va_A Φ s.heap.size)) As.toArray s 0 0 (va_A Φ s.heap.size), va_A Φ s.heap.size, D, dA) rfl
    ⟨B.exec, B.bytes, hml, ho, hts, hK, Nat.le_refl _, Nat.le_refl _, fun q h => Or.inr h, B.notSynchronized⟩ hz
    (fun H locs ls pc hP hD hS hd => W.iret (v := r) B.exec rfl B.returns (fun t ht hW => ⟨⟨r, (), rfl, rfl, by rw [ht]; exact hP, hD⟩, hS.F ht⟩) hS.2.2 hd B.notSynchronized)
    s.heap [] _ hP hD0.self va_S.rf (lv_entry As hlen)
theorem g_startVz (hrc : rm.cells = 0 ∧ rm.slots = 0) (hy : plainName y.cls = true) (hown : y.cls = own) (hlen : (lg_sl As).length ≤ maxL) (body : ∀ x : gX, x.dA = dA → gOk x own cc maxL rm.frames rm.locals → gZs kS x.A x.s x.s.heap → gRv x 0 0 Φ' → gG x maxL 0 0 Φ 0 (lv_args 0 As) []) : gVz kS l D dA Φ Φ' As y (ws_ y cc maxL none) rm := by
  intro sz
  refine Met.ofW (cc := cc) (maxL := maxL) (ret := none) hy rfl ?_
  intro p e s m args below meth c s₁ B hml hv
  obtain ⟨rfl, ⟨hsz, hP, hK, hD0⟩, hz⟩ := hv
  subst hsz
  have hts := atoms_spec (ws := ws_ y cc maxL none) B.pre
  have hts : ∀ w ∈ lw_all, w.before As.toArray s = true := fun w h => hts w (List.mem_cons_of_mem _ h)
  have ho : s.vm.findClass own = some m.cls := by rw [← hown]; exact findClass_of_methodNamed B.named
  rw [lg_entry_eq]
  exact body (p, l, e, (headSpec (ws_ y cc maxL none) rm).room, s, m, As.toArray, below, meth, c, MQ below (va_Qv (fun (_ : Unit) => True) (gB D Φ' (va_A Φ s.heap.size)) (va_A Φ s.heap.size)) As.toArray s 0 0 (va_A Φ s.heap.size), va_A Φ s.heap.size, D, dA) rfl
    ⟨B.exec, B.bytes, hml, ho, hts, hK, Nat.le_refl _, Nat.le_refl _, fun q h => Or.inr h, B.notSynchronized⟩ hz
    (fun H locs ls pc hP hD hS hd => W.vret B.exec rfl B.returns (fun t ht hW => ⟨⟨(), rfl, trivial, by rw [ht]; exact hP, hD⟩, hS.F ht⟩) hS.2.2 hd B.notSynchronized)
    s.heap [] _ hP hD0.self va_S.rf (lv_entry As hlen)
end GSt3
