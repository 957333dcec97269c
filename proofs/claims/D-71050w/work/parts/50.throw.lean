/-! ===== methods that may throw a Fault ===== -/
set_option maxRecDepth 100000
/-- a Fault's fields -/
def flt (c pl : Int32) : List Value := [.null, .null, .null, .null, .null, .int 0, .int c, .int pl]
def fltC (q : Nat) (c pl : Int32) : va_W := [(q, .inr (9, flt c pl))]
abbrev gKS : Type := (Nat → Nat) × (Nat → Nat)
def gTx (i : Nat) : String := ["plain", "fat", "young", "boar", "peg", "slug", "suit"].getD i ""
def gLen : List Nat := [5, 3, 5, 4, 3, 4, 4]
def gByt : List (List Int32) := [[112, 108, 97, 105, 110], [102, 97, 116], [121, 111, 117, 110, 103], [98, 111, 97, 114], [112, 101, 103], [115, 108, 117, 103], [115, 117, 105, 116]]
def gNC : List (String × String) := [("[S", "[B"), ("[I", "[B"), ("[B", "[S"), ("[I", "[S"), ("[B", "[I"), ("[S", "[I"), ("java/lang/ArrayIndexOutOfBoundsException", "java/lang/NullPointerException"), ("java/lang/ClassCastException", "java/lang/NullPointerException"), ("java/lang/ArrayIndexOutOfBoundsException", "java/lang/ClassCastException")]
def gZs (kS : gKS) (A : Nat → Prop) (U : State) (H : Heap) : Prop := (vx_Zq Bundle.tN "UNASSIGNED_STACK" Bundle.steD A U H ∧ vx_Zq Bundle.tN "SUPPRESSED_SENTINEL" Bundle.listD A U H) ∧ vk_S 7 gLen gByt kS.1 kS.2 A U H ∧ (∀ i, i < 7 → vk_R RX8 (47 + 2 * i) (gTx i) (kS.1 i) U) ∧ va_Z "java/lang/String" "COMPACT_STRINGS" "Z" (.int 1) A U H ∧ va_Zq "jdk/internal/util/Preconditions" "SIOOBE_FORMATTER" "Ljava/util/function/BiFunction;" A U H ∧ (∀ q ∈ gNC, va_Nc q.1 q.2 U) ∧ modulesRight_1 U = true
def gPreT (kS : gKS) (D : va_G) (dA : Nat → ClassId) (Φ : va_W) (sz : Nat) : State → Prop := fun U => gPre D dA Φ sz U ∧ gZs kS (va_A Φ sz) U U.heap
/-- thrown at pc -/
def gT (x : gX) (nL ca sl : Nat) (Φ : va_W) (pc : Nat) (lv : List (Nat × Value)) (q : Addr) : Prop :=
  ∀ (H : Heap) (locs : List Loc) (ls : Array Slot) (rest : List Value), va_P x.D gCL Φ H → va_D x.A Φ → va_S x.A x.s.heap H locs → lv_has ls nL lv → vx_W x.p x.l x.e x.R x.s x.m x.ar x.be x.me x.c H locs ca sl x.Q (F0 x.m pc ls rest) q
/-- what a throw leaves -/
def gTX (D : va_G) (A : Nat → Prop) (thr : Int32 × Int32 × va_W → Prop) : String → Addr → State → State → Prop := vx_X (S := Unit) (fun _ => True) (fun E q _ t => ∃ c pl Φ', thr (c, pl, Φ') ∧ E = RX9 ∧ va_P D gCL (Φ' ++ fltC q c pl) t.heap ∧ va_D A (Φ' ++ fltC q c pl)) A
/-- it answers r in the world Φ', as ret (r, Φ') says; or throws, as thr says -/
def gTi (kS : gKS) (l : Launch) (D : va_G) (dA : Nat → ClassId) (Φ : va_W) (As : List Value) (ret : Int32 × va_W → Prop) (thr : Int32 × Int32 × va_W → Prop) (y : MethodName) (ws : List Cond) (rm : Room) (mc ms : Nat) : Prop := ∀ sz : Nat, vx_Met l y ws rm (va_Pc As (gPreT kS D dA Φ sz)) (va_Qi (fun (r : Int32) (Φ' : va_W) => ret (r, Φ')) (fun Φ' t => va_P D gCL Φ' t.heap ∧ va_D (va_A Φ sz) Φ') (va_A Φ sz)) (gTX D (va_A Φ sz) thr) mc ms (va_A Φ sz)
def gTv (kS : gKS) (l : Launch) (D : va_G) (dA : Nat → ClassId) (Φ : va_W) (As : List Value) (ret : va_W → Prop) (thr : Int32 × Int32 × va_W → Prop) (y : MethodName) (ws : List Cond) (rm : Room) (mc ms : Nat) : Prop := ∀ sz : Nat, vx_Met l y ws rm (va_Pc As (gPreT kS D dA Φ sz)) (va_Qv (fun (Φ' : va_W) => ret Φ') (fun Φ' t => va_P D gCL Φ' t.heap ∧ va_D (va_A Φ sz) Φ') (va_A Φ sz)) (gTX D (va_A Φ sz) thr) mc ms (va_A Φ sz)
variable {kS : gKS}
theorem gMo_eq {s U : State} (h : s.vm.Alike U.vm) : modulesRight_1 U = modulesRight_1 s := by
  have e : U.vm.modules = s.vm.modules := (congrArg Vm.modules h.1).trans rfl
  unfold modulesRight_1
  rw [e]
theorem gZs.moved {A : Nat → Prop} {s U : State} {H : Heap} (hW : s.WarmedH U.vm) (h : gZs kS A s H) : gZs kS A U H := ⟨⟨vx_Zq.moved hW.alike h.1.1, vx_Zq.moved hW.alike h.1.2⟩, vk_S.moved hW.alike h.2.1, fun i hi => vk_R.warm hW (h.2.2.1 i hi), va_Z.moved hW.alike h.2.2.2.1, va_Zq.moved hW.alike h.2.2.2.2.1, fun q hq => va_Nc.moved hW.alike (h.2.2.2.2.2.1 q hq), (gMo_eq hW.alike).trans h.2.2.2.2.2.2⟩
theorem gZs.same {A : Nat → Prop} {s U : State} {H : Heap} (e : U.vm = s.vm) (h : gZs kS A s H) : gZs kS A U H := ⟨⟨vx_Zq.moved (by rw [e]; exact Vm.Alike.refl s.vm) h.1.1, vx_Zq.moved (by rw [e]; exact Vm.Alike.refl s.vm) h.1.2⟩, vk_S.moved (by rw [e]; exact Vm.Alike.refl s.vm) h.2.1, fun i hi => vk_R.same e (h.2.2.1 i hi), va_Z.moved (by rw [e]; exact Vm.Alike.refl s.vm) h.2.2.2.1, va_Zq.moved (by rw [e]; exact Vm.Alike.refl s.vm) h.2.2.2.2.1, fun q hq => va_Nc.moved (by rw [e]; exact Vm.Alike.refl s.vm) (h.2.2.2.2.2.1 q hq), (gMo_eq (by rw [e]; exact Vm.Alike.refl s.vm)).trans h.2.2.2.2.2.2⟩
theorem gZs.kept {A : Nat → Prop} {U : State} {H H1 : Heap} (h : gZs kS A U H) (hq : ∀ a : Nat, a < H.size → ¬ A a → H1[a]? = H[a]?) : gZs kS A U H1 := ⟨⟨vx_Zq.kept h.1.1 hq, vx_Zq.kept h.1.2 hq⟩, vk_S.kept h.2.1 hq, h.2.2.1, va_Z.kept h.2.2.2.1 hq, va_Zq.kept h.2.2.2.2.1 hq, h.2.2.2.2.2⟩
theorem gZs.narrow {A B : Nat → Prop} {U : State} {H : Heap} (h : gZs kS A U H) (hAB : ∀ q, B q → A q) : gZs kS B U H := ⟨⟨vx_Zq.narrow h.1.1 hAB, vx_Zq.narrow h.1.2 hAB⟩, vk_S.narrow h.2.1 hAB, h.2.2.1, va_Z.narrow h.2.2.2.1 hAB, va_Zq.narrow h.2.2.2.2.1 hAB, h.2.2.2.2.2⟩
theorem gPreT_blind {D : va_G} {dA : Nat → ClassId} {Φ : va_W} {sz : Nat} {As : List Value} : FrameBlind (va_Pc As (gPreT kS D dA Φ sz)) := fun a U g mk q => ⟨q.1, ⟨q.2.1.1, q.2.1.2.1, gKW.same (s := U) (U := U.calling g mk a) rfl q.2.1.2.2.1, q.2.1.2.2.2⟩, gZs.same (s := U) (U := U.calling g mk a) rfl q.2.2⟩
section GT1
variable {x : gX} {own : String} {cc : ByteArray} {nL F L ca sl : Nat} {Φ Φ' : va_W} {pc : Nat} {lv : List (Nat × Value)} {st : List Value}
theorem g_widen {ca' sl' : Nat} (h1 : ca ≤ ca') (h2 : sl ≤ sl') (kk : gG x nL ca' sl' Φ pc lv st) : gG x nL ca sl Φ pc lv st :=
  fun H locs ls hP hD hS hl T hT X => kk H locs ls hP hD hS hl T hT (stand_widen X h1 h2)
theorem gT_widen {q : Addr} {ca' sl' : Nat} (h1 : ca ≤ ca') (h2 : sl ≤ sl') (kk : gT x nL ca' sl' Φ pc lv q) : gT x nL ca sl Φ pc lv q :=
  fun H locs ls rest hP hD hS hl T hT X => kk H locs ls rest hP hD hS hl T hT (stand_widen X h1 h2)
theorem gZs_call (hc : gOk x own cc nL F L) (hz : gZs kS x.A x.s x.s.heap) {H : Heap} {locs : List Loc} (hD : va_D x.A Φ) (hS : va_S x.A x.s.heap H locs) {U : State} (hU : U.heap = H) (hW : x.s.WarmedH U.vm) : gZs kS (va_A Φ H.size) U U.heap := by
  rw [hU]
  exact ((hz.kept hS.2.1).narrow (gFree hc hD hS)).moved hW
theorem gPreTV (hc : gOk x own cc nL F L) (hz : gZs kS x.A x.s x.s.heap) {C : String} {T : u_T} {N ci q0 b : Nat} {fs As : List Value} {H : Heap} {locs : List Loc} (hP : va_P x.D gCL Φ H) (hD : va_D x.A Φ) (hS : va_S x.A x.s.heap H locs) (he : Φ[q0]? = some (b, .inr (ci, fs))) (hcl : gCL[ci]? = some (C, T, N)) : PreV x.s H C b (va_Pc (.ref b :: As) (gPreT kS x.D x.dA Φ H.size)) As :=
  ⟨gPreT_blind, va_recv hc.kw.1 hP hcl he, fun U hU hW => ⟨rfl, ⟨by rw [hU], by rw [hU]; exact hP, gKW.warm hW hc.kw, hD.weaken (fun _ _ _ _ => trivial)⟩, gZs_call hc hz hD hS hU hW⟩⟩
theorem gPreTS (hc : gOk x own cc nL F L) (hz : gZs kS x.A x.s x.s.heap) {As : List Value} {H : Heap} {locs : List Loc} (hP : va_P x.D gCL Φ H) (hD : va_D x.A Φ) (hS : va_S x.A x.s.heap H locs) : PreS x.s H (va_Pc As (gPreT kS x.D x.dA Φ H.size)) As :=
  ⟨gPreT_blind, fun U hU hW => ⟨rfl, ⟨by rw [hU], by rw [hU]; exact hP, gKW.warm hW hc.kw, hD.weaken (fun _ _ _ _ => trivial)⟩, gZs_call hc hz hD hS hU hW⟩⟩
/-- what a call of one that makes cells asks -/
def gRmT (rm : Room) (mc ms maxL F L : Nat) : Bool := decide (rm.cells = mc) && (decide (rm.slots = ms) && (decide (rm.frames + 1 ≤ F) && decide (8 + (maxL + 11) + rm.locals ≤ L)))
theorem gRmT_spec {rm : Room} {mc ms maxL F L : Nat} (h : gRmT rm mc ms maxL F L = true) : rm.cells = mc ∧ rm.slots = ms ∧ rm.frames + 1 ≤ F ∧ 8 + (maxL + 11) + rm.locals ≤ L := by
  simpa [gRmT, Bool.and_eq_true, decide_eq_true_eq] using h
theorem g_callTi (hc : gOk x own cc nL F L) (hz : gZs kS x.A x.s x.s.heap) {y : MethodName} {bytes : ByteArray} {maxL idx n mc ms : Nat} {ret0 : Option FieldType} {rm : Room} {ret : Int32 × va_W → Prop} {thr : Int32 × Int32 × va_W → Prop} {C : String} {T : u_T} {N ci q0 b : Nat} {fs : List Value} (As rest : List Value) (hM : gTi kS x.l x.D x.dA Φ (.ref b :: As) ret thr y (ws_ y bytes maxL ret0) rm mc ms) (he : Φ[q0]? = some (b, .inr (ci, fs))) (hcl : gCL[ci]? = some (C, T, N)) (hG : GoodIn lw_all (wsV own idx C y (ws_ y bytes maxL ret0))) (hrm : gRmT rm mc ms maxL F L = true) (hd : y.cls = C ∧ y.cls ≠ "java/lang/invoke/MethodHandle" ∧ y.cls ≠ "java/lang/invoke/VarHandle" ∧ (parseMethodDescriptor y.desc).map (fun d => d.parameters.length) = some n) (hn : As.length = n) (hst : st = As.reverse ++ .ref b :: rest) (hrest : (rest.map fun v => v.category).sum ≤ 8) (hcs : ca + mc ≤ x.R.cells ∧ sl + ms ≤ x.R.slots) (hdg : decode cc pc = .ok (.invokevirtual idx, 3))
    (kx : ∀ c pl Φ1 q, thr (c, pl, Φ1) → gT x nL (ca + mc) (sl + ms) (Φ1 ++ fltC q c pl) pc lv q) (kk : ∀ r Φ1, ret (r, Φ1) → gG x nL (ca + mc) (sl + ms) Φ1 (pc + 3) lv (.int r :: rest)) : gG x nL ca sl Φ pc lv st := by
  intro H locs ls hP hD hS hl
  subst hst
  obtain ⟨e1, e2, e3, e4⟩ := gRmT_spec hrm
  have hf := gFree hc hD hS
  refine vx_calli (vx_runV (As := As) (rest := rest) ⟨hc.ex, hc.b, hc.ml, hc.ow, hc.ts⟩ (hM H.size) (cwV n hc.ts hG rfl e1 e2 hd ⟨Nat.le_trans e3 hc.fr, Nat.le_trans e4 hc.lo⟩) (gPreTV hc hz hP hD hS he hcl) rfl hn hl.1 rfl (lv_room (m := x.m) (pc := pc) (ls := ls) (rest := rest) hrest) hdg hcs) hS (fun q _ h => hf q h) hf (fun q _ h => hf q h) ?_ ?_
  · rintro E ce q9 _ t H1 locs1 ht hvm _ ⟨c, pl, Φ1, h1, rfl, h2, h3⟩ hsz hk hS1 hcell hv hcls
    exact kx c pl Φ1 q9 h1 H1 locs1 ls rest (ht ▸ h2) (h3.weaken (fun _ q _ h => hf q.1 h)) hS1 hl
  · rintro r Φ1 t H1 locs1 ht hvm hp hB hsz hk hS1
    exact kk r Φ1 hp H1 locs1 ls (ht ▸ hB.1) (hB.2.weaken (fun _ q _ h => hf q.1 h)) hS1 hl
theorem g_callTv (hc : gOk x own cc nL F L) (hz : gZs kS x.A x.s x.s.heap) {y : MethodName} {bytes : ByteArray} {maxL idx n mc ms : Nat} {ret0 : Option FieldType} {rm : Room} {ret : va_W → Prop} {thr : Int32 × Int32 × va_W → Prop} {C : String} {T : u_T} {N ci q0 b : Nat} {fs : List Value} (As rest : List Value) (hM : gTv kS x.l x.D x.dA Φ (.ref b :: As) ret thr y (ws_ y bytes maxL ret0) rm mc ms) (he : Φ[q0]? = some (b, .inr (ci, fs))) (hcl : gCL[ci]? = some (C, T, N)) (hG : GoodIn lw_all (wsV own idx C y (ws_ y bytes maxL ret0))) (hrm : gRmT rm mc ms maxL F L = true) (hd : y.cls = C ∧ y.cls ≠ "java/lang/invoke/MethodHandle" ∧ y.cls ≠ "java/lang/invoke/VarHandle" ∧ (parseMethodDescriptor y.desc).map (fun d => d.parameters.length) = some n) (hn : As.length = n) (hst : st = As.reverse ++ .ref b :: rest) (hrest : (rest.map fun v => v.category).sum ≤ 8) (hcs : ca + mc ≤ x.R.cells ∧ sl + ms ≤ x.R.slots) (hdg : decode cc pc = .ok (.invokevirtual idx, 3))
    (kx : ∀ c pl Φ1 q, thr (c, pl, Φ1) → gT x nL (ca + mc) (sl + ms) (Φ1 ++ fltC q c pl) pc lv q) (kk : ∀ Φ1, ret Φ1 → gG x nL (ca + mc) (sl + ms) Φ1 (pc + 3) lv rest) : gG x nL ca sl Φ pc lv st := by
  intro H locs ls hP hD hS hl
  subst hst
  obtain ⟨e1, e2, e3, e4⟩ := gRmT_spec hrm
  have hf := gFree hc hD hS
  refine vx_callv (vx_runV (As := As) (rest := rest) ⟨hc.ex, hc.b, hc.ml, hc.ow, hc.ts⟩ (hM H.size) (cwV n hc.ts hG rfl e1 e2 hd ⟨Nat.le_trans e3 hc.fr, Nat.le_trans e4 hc.lo⟩) (gPreTV hc hz hP hD hS he hcl) rfl hn hl.1 rfl (lv_room (m := x.m) (pc := pc) (ls := ls) (rest := rest) hrest) hdg hcs) hS (fun q _ h => hf q h) hf (fun q _ h => hf q h) ?_ ?_
  · rintro E ce q9 _ t H1 locs1 ht hvm _ ⟨c, pl, Φ1, h1, rfl, h2, h3⟩ hsz hk hS1 hcell hv hcls
    exact kx c pl Φ1 q9 h1 H1 locs1 ls rest (ht ▸ h2) (h3.weaken (fun _ q _ h => hf q.1 h)) hS1 hl
  · rintro Φ1 t H1 locs1 ht hvm hp hB hsz hk hS1
    exact kk Φ1 hp H1 locs1 ls (ht ▸ hB.1) (hB.2.weaken (fun _ q _ h => hf q.1 h)) hS1 hl
theorem g_athrow (hc : gOk x own cc nL F L) {q : Addr} (hdg : decode cc pc = .ok (.athrow, 1)) (kk : gT x nL ca sl Φ pc lv q) : gG x nL ca sl Φ pc lv (.ref q :: st) :=
  fun H locs ls hP hD hS hl => vx_athrow hc.ex hc.b hdg (kk H locs ls st hP hD hS hl)
end GT1
theorem va_recvN {s : State} {H : Heap} {D : va_G} {cl : List vw_C} {a q0 ci : Nat} {q : vw_C} {fs : List Value} {ws : va_W} {tys : List (ClassId × FieldType)} (hK : va_K D cl tys s) (hP : va_P D cl ws H) (hc : cl[ci]? = some q) (he : ws[q0]? = some (a, .inr (ci, fs))) : ∃ cell : Cell, H[a]? = some cell ∧ cell.vm = .none ∧ s.vm.findClass q.1 = some cell.cls := by
  obtain ⟨q', h1, cell, g1, g2, g3, -⟩ := hP q0 _ he
  exact ⟨cell, g1, g3, by rw [g2]; exact (hK.1 ci q hc).2.1⟩
theorem flt_at (Φ : va_W) (q : Nat) (c pl : Int32) : (Φ ++ fltC q c pl)[Φ.length]? = some (q, .inr (9, flt c pl)) := by
  rw [List.getElem?_append_right (Nat.le_refl _), Nat.sub_self]; rfl
/-- the throw leaves the method -/
theorem gT_out {p : Program} {l : Launch} {e : Env} {R : Room} {s : State} {m : MethodId} {args : Array Value} {below : List Frame} {meth : Method} {c : Code} {D : va_G} {dA : Nat → ClassId} {A : Nat → Prop} {Qc : Array Value → State → Outcome → State → Prop} {thr : Int32 × Int32 × va_W → Prop} {mc ms nL : Nat} (hno : ∀ x ∈ c.exceptionTable.toList, False) (hlk : meth.locks = false) (hK : gKW D dA s) {c1 pl : Int32} {Φ1 : va_W} (h1 : thr (c1, pl, Φ1)) (q : Addr) (pc : Nat) (lv : List (Nat × Value)) : gT (p, l, e, R, s, m, args, below, meth, c, vx_MQ below Qc (gTX D A thr) args s mc ms A, A, D, dA) nL mc ms (Φ1 ++ fltC q c1 pl) pc lv q := by
  intro H locs ls rest hP hD hS hl
  obtain ⟨ce, g1, g2, g3⟩ := va_recvN (ci := 9) (q := (RX9, TX9, 8)) hK.1 hP rfl (flt_at Φ1 q c1 pl)
  exact vx_out (fun z hz => (hno z hz).elim) hlk g1 g2 g3 (fun t ht _ => ⟨(), trivial, ⟨c1, pl, Φ1, h1, rfl, by rw [ht]; exact hP, hD⟩, hS.F ht⟩) hS.2.2 (Nat.le_refl _) (Nat.le_refl _)
section GSt2
variable {l : Launch} {D : va_G} {dA : Nat → ClassId} {Φ : va_W} {As : List Value} {y : MethodName} {cc : ByteArray} {maxL : Nat} {rm : Room} {own : String} {mc ms : Nat}
theorem g_startTv {ret : va_W → Prop} {thr : Int32 × Int32 × va_W → Prop} (hy : plainName y.cls = true) (hown : y.cls = own) (hlen : (lg_sl As).length ≤ maxL) (body : ∀ x : gX, x.dA = dA → gOk x own cc maxL rm.frames rm.locals → gZs kS x.A x.s x.s.heap → x.me.name = y.name → rm.cells ≤ x.R.cells ∧ rm.slots ≤ x.R.slots → (∀ Φ1, ret Φ1 → gRv x mc ms Φ1) → (∀ c pl Φ1 q pc lv, thr (c, pl, Φ1) → gT x maxL mc ms (Φ1 ++ fltC q c pl) pc lv q) → gG x maxL 0 0 Φ 0 (lv_args 0 As) []) : gTv kS l D dA Φ As ret thr y (ws_ y cc maxL none) rm mc ms := by
  intro sz
  refine vx_ofW (cc := cc) (maxL := maxL) (ret := none) hy rfl ?_
  intro p e s m args below meth c s₁ B hml hno hv
  obtain ⟨rfl, ⟨hsz, hP, hK, hD0⟩, hz⟩ := hv
  subst hsz
  have hts := atoms_spec (ws := ws_ y cc maxL none) B.pre
  have hts : ∀ w ∈ lw_all, w.before As.toArray s = true := fun w h => hts w (List.mem_cons_of_mem _ h)
  have ho : s.vm.findClass own = some m.cls := by rw [← hown]; exact findClass_of_methodNamed B.named
  rw [lg_entry_eq]
  exact body (p, l, e, (headSpec (ws_ y cc maxL none) rm).room, s, m, As.toArray, below, meth, c, vx_MQ below (va_Qv (fun (Φ' : va_W) => ret Φ') (fun Φ' t => va_P D gCL Φ' t.heap ∧ va_D (va_A Φ s.heap.size) Φ') (va_A Φ s.heap.size)) (gTX D (va_A Φ s.heap.size) thr) As.toArray s mc ms (va_A Φ s.heap.size), va_A Φ s.heap.size, D, dA) rfl
    ⟨B.exec, B.bytes, hml, ho, hts, hK, Nat.le_refl _, Nat.le_refl _, fun q h => Or.inr h, B.notSynchronized⟩ hz
    (name_of_methodNamed B.named B.method).1 ⟨Nat.le_refl _, Nat.le_refl _⟩
    (fun Φ1 h1 H locs ls pc hP hD hS hd => vx_ret (W.vret B.exec rfl B.returns (fun t ht hW => ⟨⟨Φ1, rfl, h1, by rw [ht]; exact hP, hD⟩, hS.F ht⟩) hS.2.2 hd B.notSynchronized))
    (fun c1 pl Φ1 q pc lv h1 => gT_out hno B.notSynchronized hK h1 q pc lv)
    s.heap [] _ hP hD0.self va_S.rf (lv_entry As hlen)
theorem g_startTi {ret : Int32 × va_W → Prop} {thr : Int32 × Int32 × va_W → Prop} (hy : plainName y.cls = true) (hown : y.cls = own) (hlen : (lg_sl As).length ≤ maxL) (body : ∀ x : gX, x.dA = dA → gOk x own cc maxL rm.frames rm.locals → gZs kS x.A x.s x.s.heap → rm.cells ≤ x.R.cells ∧ rm.slots ≤ x.R.slots → (∀ r Φ1, ret (r, Φ1) → gRi x mc ms Φ1 r) → (∀ c pl Φ1 q pc lv, thr (c, pl, Φ1) → gT x maxL mc ms (Φ1 ++ fltC q c pl) pc lv q) → gG x maxL 0 0 Φ 0 (lv_args 0 As) []) : gTi kS l D dA Φ As ret thr y (ws_ y cc maxL (some .int)) rm mc ms := by
  intro sz
  refine vx_ofW (cc := cc) (maxL := maxL) (ret := some .int) hy rfl ?_
  intro p e s m args below meth c s₁ B hml hno hv
  obtain ⟨rfl, ⟨hsz, hP, hK, hD0⟩, hz⟩ := hv
  subst hsz
  have hts := atoms_spec (ws := ws_ y cc maxL (some .int)) B.pre
  have hts : ∀ w ∈ lw_all, w.before As.toArray s = true := fun w h => hts w (List.mem_cons_of_mem _ h)
  have ho : s.vm.findClass own = some m.cls := by rw [← hown]; exact findClass_of_methodNamed B.named
  rw [lg_entry_eq]
  exact body (p, l, e, (headSpec (ws_ y cc maxL (some .int)) rm).room, s, m, As.toArray, below, meth, c, vx_MQ below (va_Qi (fun (r : Int32) (Φ' : va_W) => ret (r, Φ')) (fun Φ' t => va_P D gCL Φ' t.heap ∧ va_D (va_A Φ s.heap.size) Φ') (va_A Φ s.heap.size)) (gTX D (va_A Φ s.heap.size) thr) As.toArray s mc ms (va_A Φ s.heap.size), va_A Φ s.heap.size, D, dA) rfl
    ⟨B.exec, B.bytes, hml, ho, hts, hK, Nat.le_refl _, Nat.le_refl _, fun q h => Or.inr h, B.notSynchronized⟩ hz
    ⟨Nat.le_refl _, Nat.le_refl _⟩
    (fun r Φ1 h1 H locs ls pc hP hD hS hd => vx_ret (W.iret (v := r) B.exec rfl B.returns (fun t ht hW => ⟨⟨r, Φ1, rfl, h1, by rw [ht]; exact hP, hD⟩, hS.F ht⟩) hS.2.2 hd B.notSynchronized))
    (fun c1 pl Φ1 q pc lv h1 => gT_out hno B.notSynchronized hK h1 q pc lv)
    s.heap [] _ hP hD0.self va_S.rf (lv_entry As hlen)
end GSt2
