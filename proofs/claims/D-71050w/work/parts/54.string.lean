/-! ===== the names' texts: String's length, charAt ===== -/
set_option maxRecDepth 100000
variable {kS : gKS}
section SR
variable {x : gX} {own : String} {cc : ByteArray} {nL F L ca sl : Nat} {Φ Φ' : va_W} {pc : Nat} {lv : List (Nat × Value)} {st : List Value}
theorem g_getsZ (hc : gOk x own cc nL F L) {C n d : String} {v : Value} {idx : Nat} (hZ : va_Z C n d v x.A x.s x.s.heap) (hlink : Cond.fieldLink own idx C n d ∈ lw_all) (hdg : decode cc pc = .ok (.getstatic idx, 3)) (kk : gG x nL ca sl Φ (pc + 3) lv (v :: st)) : gG x nL ca sl Φ pc lv st :=
  fun H locs ls hP hD hS hl => va_gets hc.ex hc.b hZ hS hc.ow (hc.ts _ hlink) (fun _ h => h) hdg (kk H locs ls hP hD hS hl)
theorem g_getsZq (hc : gOk x own cc nL F L) {C n d : String} {idx : Nat} (hZ : va_Zq C n d x.A x.s x.s.heap) (hlink : Cond.fieldLink own idx C n d ∈ lw_all) (hdg : decode cc pc = .ok (.getstatic idx, 3)) (kk : ∀ v : Value, v.category = 1 → gG x nL ca sl Φ (pc + 3) lv (v :: st)) : gG x nL ca sl Φ pc lv st := by
  rcases hZ with h | ⟨t, h⟩
  · exact g_getsZ hc h hlink hdg (kk _ rfl)
  · exact g_getsZ hc h hlink hdg (kk _ rfl)
theorem g_getK (hc : gOk x own cc nL F L) {C n d : String} {v : Value} {q idx : Nat} (hE : va_OF C n d v q x.A x.s x.s.heap) (hlink : Cond.fieldLink own idx C n d ∈ lw_all) (hdg : decode cc pc = .ok (.getfield idx, 3)) (kk : gG x nL ca sl Φ (pc + 3) lv (v :: st)) : gG x nL ca sl Φ pc lv (.ref q :: st) :=
  fun H locs ls hP hD hS hl => vk_getf hc.ex hc.b hE hS hc.ow (hc.ts _ hlink) (fun _ h => h) hdg (kk H locs ls hP hD hS hl)
theorem g_lenK (hc : gOk x own cc nL F L) {ty : FieldType} {t N : Nat} {f : Nat → Value} (hT : va_T ty t N f x.A x.s x.s.heap) (hdg : decode cc pc = .ok (.arraylength, 1)) (kk : gG x nL ca sl Φ (pc + 1) lv (.int (nI N) :: st)) : gG x nL ca sl Φ pc lv (.ref t :: st) :=
  fun H locs ls hP hD hS hl => va_tlen hc.ex hc.b hT hS rfl hdg (kk H locs ls hP hD hS hl)
theorem g_baldK (hc : gOk x own cc nL F L) {t N : Nat} {f : Nat → Value} (hT : va_T .byte t N f x.A x.s x.s.heap) {i : Int32} (hb : inb i N = true) {v : Value} (hv : f i.toNatClampNeg = v) (hdg : decode cc pc = .ok (.baload, 1)) (kk : gG x nL ca sl Φ (pc + 1) lv (v :: st)) : gG x nL ca sl Φ pc lv (.int i :: .ref t :: st) :=
  fun H locs ls hP hD hS hl => va_tb hc.ex hc.b hT hS (inb_in hb) hv hdg (kk H locs ls hP hD hS hl)
theorem g_i2c (hc : gOk x own cc nL F L) {x1 v : Int32} (hdg : decode cc pc = .ok (.i2c, 1)) (hv : (x1.toUInt32 % 65536).toInt32 = v) (kk : gG x nL ca sl Φ (pc + 1) lv (.int v :: st)) : gG x nL ca sl Φ pc lv (.int x1 :: st) :=
  fun H locs ls hP hD hS hl => lv_i2c hc.ex hc.b hdg hv (kk H locs ls hP hD hS hl)
theorem gPreTK (hc : gOk x own cc nL F L) (hz : gZs kS x.A x.s x.s.heap) {i : Nat} (hi : i < 7) {As : List Value} {H : Heap} {locs : List Loc} (hP : va_P x.D gCL Φ H) (hD : va_D x.A Φ) (hS : va_S x.A x.s.heap H locs) : PreV x.s H "java/lang/String" (kS.1 i) (va_Pc (.ref (kS.1 i) :: As) (gPreT kS x.D x.dA Φ H.size)) As :=
  ⟨gPreT_blind, vk_recv hz.2.1 hi hS, fun U hU hW => ⟨rfl, ⟨by rw [hU], by rw [hU]; exact hP, gKW.warm hW hc.kw, hD.weaken (fun _ _ _ _ => trivial)⟩, gZs_call hc hz hD hS hU hW⟩⟩
theorem g_callKi (hc : gOk x own cc nL F L) (hz : gZs kS x.A x.s x.s.heap) {i : Nat} (hi : i < 7) {y : MethodName} {bytes : ByteArray} {maxL idx n : Nat} {ret : Option FieldType} {rm : Room} {r : Int32} (As rest : List Value) (hM : gIz kS x.l x.D x.dA Φ Φ' (.ref (kS.1 i) :: As) r y (ws_ y bytes maxL ret) rm) (hG : GoodIn lw_all (wsV own idx "java/lang/String" y (ws_ y bytes maxL ret))) (hrm : gRm rm maxL F L = true) (hd : y.cls = "java/lang/String" ∧ y.cls ≠ "java/lang/invoke/MethodHandle" ∧ y.cls ≠ "java/lang/invoke/VarHandle" ∧ (parseMethodDescriptor y.desc).map (fun d => d.parameters.length) = some n) (hn : As.length = n) (hst : st = As.reverse ++ .ref (kS.1 i) :: rest) (hrest : (rest.map fun v => v.category).sum ≤ 8) (hcs : ca ≤ x.R.cells ∧ sl ≤ x.R.slots) (hdg : decode cc pc = .ok (.invokevirtual idx, 3)) (kk : gG x nL ca sl Φ' (pc + 3) lv (.int r :: rest)) : gG x nL ca sl Φ pc lv st := by
  intro H locs ls hP hD hS hl
  subst hst
  obtain ⟨e1, e2, e3, e4⟩ := gRm_spec hrm
  have hf := gFree hc hD hS
  refine va_calli (va_runV (As := As) (rest := rest) ⟨hc.ex, hc.b, hc.ml, hc.ow, hc.ts⟩ (hM H.size) (cwV n hc.ts hG rfl e1 e2 hd ⟨Nat.le_trans e3 hc.fr, Nat.le_trans e4 hc.lo⟩) (gPreTK hc hz hi hP hD hS) rfl hn hl.1 rfl (lv_room (m := x.m) (pc := pc) (ls := ls) (rest := rest) hrest) hdg hcs) hS (fun q _ h => hf q h) hf (fun r1 u t H1 locs1 ht hvm hp hB hz hk hS1 => ?_)
  subst hp
  exact kk H1 locs1 ls (ht ▸ hB.1) (hB.2.weaken (fun _ q _ h => hf q.1 h)) hS1 hl
theorem g_callSzi (hc : gOk x own cc nL F L) (hz : gZs kS x.A x.s x.s.heap) {y : MethodName} {bytes : ByteArray} {maxL idx n : Nat} {ret : Option FieldType} {rm : Room} {r : Int32} (As rest : List Value) (hM : gIz kS x.l x.D x.dA Φ Φ' As r y (ws_ y bytes maxL ret) rm) (hG : GoodIn lw_all (va_wsS own idx y (ws_ y bytes maxL ret))) (hrm : gRm rm maxL F L = true) (hd : y.cls ≠ "java/lang/invoke/MethodHandle" ∧ y.cls ≠ "java/lang/invoke/VarHandle" ∧ (parseMethodDescriptor y.desc).map (fun d => d.parameters.length) = some n) (hn : As.length = n) (hst : st = As.reverse ++ rest) (hrest : (rest.map fun v => v.category).sum ≤ 8) (hcs : ca ≤ x.R.cells ∧ sl ≤ x.R.slots) (hdg : decode cc pc = .ok (.invokestatic idx, 3)) (kk : gG x nL ca sl Φ' (pc + 3) lv (.int r :: rest)) : gG x nL ca sl Φ pc lv st := by
  intro H locs ls hP hD hS hl
  subst hst
  obtain ⟨e1, e2, e3, e4⟩ := gRm_spec hrm
  have hf := gFree hc hD hS
  refine va_calli (va_runS (As := As) (rest := rest) ⟨hc.ex, hc.b, hc.ml, hc.ow, hc.ts⟩ (hM H.size) (va_cwS n hc.ts hG rfl e1 e2 hd ⟨Nat.le_trans e3 hc.fr, Nat.le_trans e4 hc.lo⟩) (gPreTS hc hz hP hD hS) rfl hn hl.1 rfl (lv_room (m := x.m) (pc := pc) (ls := ls) (rest := rest) hrest) hdg hcs) hS (fun q _ h => hf q h) hf (fun r1 u t H1 locs1 ht hvm hp hB hz hk hS1 => ?_)
  subst hp
  exact kk H1 locs1 ls (ht ▸ hB.1) (hB.2.weaken (fun _ q _ h => hf q.1 h)) hS1 hl
theorem g_callSzv (hc : gOk x own cc nL F L) (hz : gZs kS x.A x.s x.s.heap) {y : MethodName} {bytes : ByteArray} {maxL idx n : Nat} {ret : Option FieldType} {rm : Room} (As rest : List Value) (hM : gVz kS x.l x.D x.dA Φ Φ' As y (ws_ y bytes maxL ret) rm) (hG : GoodIn lw_all (va_wsS own idx y (ws_ y bytes maxL ret))) (hrm : gRm rm maxL F L = true) (hd : y.cls ≠ "java/lang/invoke/MethodHandle" ∧ y.cls ≠ "java/lang/invoke/VarHandle" ∧ (parseMethodDescriptor y.desc).map (fun d => d.parameters.length) = some n) (hn : As.length = n) (hst : st = As.reverse ++ rest) (hrest : (rest.map fun v => v.category).sum ≤ 8) (hcs : ca ≤ x.R.cells ∧ sl ≤ x.R.slots) (hdg : decode cc pc = .ok (.invokestatic idx, 3)) (kk : gG x nL ca sl Φ' (pc + 3) lv rest) : gG x nL ca sl Φ pc lv st := by
  intro H locs ls hP hD hS hl
  subst hst
  obtain ⟨e1, e2, e3, e4⟩ := gRm_spec hrm
  have hf := gFree hc hD hS
  refine va_callv (va_runS (As := As) (rest := rest) ⟨hc.ex, hc.b, hc.ml, hc.ow, hc.ts⟩ (hM H.size) (va_cwS n hc.ts hG rfl e1 e2 hd ⟨Nat.le_trans e3 hc.fr, Nat.le_trans e4 hc.lo⟩) (gPreTS hc hz hP hD hS) rfl hn hl.1 rfl (lv_room (m := x.m) (pc := pc) (ls := ls) (rest := rest) hrest) hdg hcs) hS (fun q _ h => hf q h) hf (fun u t H1 locs1 ht hvm hp hB hz hk hS1 => ?_)
  exact kk H1 locs1 ls (ht ▸ hB.1) (hB.2.weaken (fun _ q _ h => hf q.1 h)) hS1 hl
end SR
section SM
variable {l : Launch} {D : va_G} {dA : Nat → ClassId} {Φ Φ' : va_W}
theorem g_startNz {As : List Value} {y : MethodName} {cc : ByteArray} {maxL : Nat} {rm : Room} {own : String} {r : Int32} {ty : FieldType} (hn : narrow ty (.int r) = .int r) (hrc : rm.cells = 0 ∧ rm.slots = 0) (hy : plainName y.cls = true) (hown : y.cls = own) (hlen : (lg_sl As).length ≤ maxL) (body : ∀ x : gX, x.dA = dA → gOk x own cc maxL rm.frames rm.locals → gZs kS x.A x.s x.s.heap → gRi x 0 0 Φ' r → gG x maxL 0 0 Φ 0 (lv_args 0 As) []) : gIz kS l D dA Φ Φ' As r y (ws_ y cc maxL (some ty)) rm := by
  intro sz
  refine Met.ofW (cc := cc) (maxL := maxL) (ret := some ty) hy rfl ?_
  intro p e s m args below meth c s₁ B hml hv
  obtain ⟨rfl, ⟨hsz, hP, hK, hD0⟩, hz⟩ := hv
  subst hsz
  have hts := atoms_spec (ws := ws_ y cc maxL (some ty)) B.pre
  have hts : ∀ w ∈ lw_all, w.before As.toArray s = true := fun w h => hts w (List.mem_cons_of_mem _ h)
  have ho : s.vm.findClass own = some m.cls := by rw [← hown]; exact findClass_of_methodNamed B.named
  rw [lg_entry_eq]
  exact body (p, l, e, (headSpec (ws_ y cc maxL (some ty)) rm).room, s, m, As.toArray, below, meth, c, MQ below (va_Qi (fun (r1 : Int32) (_ : Unit) => r1 = r) (gB D Φ' (va_A Φ s.heap.size)) (va_A Φ s.heap.size)) As.toArray s 0 0 (va_A Φ s.heap.size), va_A Φ s.heap.size, D, dA) rfl
    ⟨B.exec, B.bytes, hml, ho, hts, hK, Nat.le_refl _, Nat.le_refl _, fun q h => Or.inr h, B.notSynchronized⟩ hz
    (fun H locs ls pc hP hD hS hd => W.zret (v := r) B.exec rfl B.returns hn (fun t ht hW => ⟨⟨r, (), rfl, rfl, by rw [ht]; exact hP, hD⟩, hS.F ht⟩) hS.2.2 hd B.notSynchronized)
    s.heap [] _ hP hD0.self va_S.rf (lv_entry As hlen)
theorem c_J2_coder {i : Nat} (hi : i < 7) : gIz kS l D dA Φ Φ [.ref (kS.1 i)] 0 yJ2_coder (ws_ yJ2_coder cJ2_coder 1 (some .byte)) { frames := 0, cells := 0, slots := 0, locals := 0 } :=
  g_startNz (own := RJ2) rfl ⟨rfl, rfl⟩ (by decide) rfl (Nat.le_of_ble_eq_true rfl) (fun x e hc hz hR => by
    refine g_getsZ hc hz.2.2.2.1 q433 dJ2_coder_0 ?_
    refine g_if_eq (tgt := 13) hc dJ2_coder_3 (by decide) (fun h => absurd h (by decide)) (fun _ => ?_)
    refine g_aload_n hc dJ2_coder_6 rfl 0 rfl ?_
    refine g_getK hc (hz.2.1.1 i hi).2.1 q1383 dJ2_coder_7 ?_
    refine g_goto (tgt := 14) hc dJ2_coder_10 (by decide) ?_
    exact g_iret hc hR dJ2_coder_14)
theorem c_J2_isLatin1 {i : Nat} (hi : i < 7) : gIz kS l D dA Φ Φ [.ref (kS.1 i)] 1 yJ2_isLatin1 (ws_ yJ2_isLatin1 cJ2_isLatin1 1 (some .boolean)) { frames := 0, cells := 0, slots := 0, locals := 0 } :=
  g_startNz (own := RJ2) rfl ⟨rfl, rfl⟩ (by decide) rfl (Nat.le_of_ble_eq_true rfl) (fun x e hc hz hR => by
    refine g_getsZ hc hz.2.2.2.1 q433 dJ2_isLatin1_0 ?_
    refine g_if_eq (tgt := 17) hc dJ2_isLatin1_3 (by decide) (fun h => absurd h (by decide)) (fun _ => ?_)
    refine g_aload_n hc dJ2_isLatin1_6 rfl 0 rfl ?_
    refine g_getK hc (hz.2.1.1 i hi).2.1 q1383 dJ2_isLatin1_7 ?_
    refine g_if_ne (tgt := 17) hc dJ2_isLatin1_10 (by decide) (fun h => absurd rfl h) (fun _ => ?_)
    refine g_iconst (v := 1) hc dJ2_isLatin1_13 (by decide) ?_
    refine g_goto (tgt := 18) hc dJ2_isLatin1_14 (by decide) ?_
    exact g_iret hc hR dJ2_isLatin1_18)
theorem c_J2_length {i : Nat} (hi : i < 7) : gIz kS l D dA Φ Φ [.ref (kS.1 i)] (nI (gLen.getD i 0)) yJ2_length (ws_ yJ2_length cJ2_length 1 (some .int)) { frames := 1, cells := 0, slots := 0, locals := 20 } :=
  g_startNz (own := RJ2) rfl ⟨rfl, rfl⟩ (by decide) rfl (Nat.le_of_ble_eq_true rfl) (fun x e hc hz hR => by
    subst e
    refine g_aload_n hc dJ2_length_0 rfl 0 rfl ?_
    refine g_getK hc (hz.2.1.1 i hi).2.2.1 q1382 dJ2_length_1 ?_
    refine g_lenK hc (hz.2.1.1 i hi).2.2.2 dJ2_length_4 ?_
    refine g_aload_n hc dJ2_length_5 rfl 0 rfl ?_
    refine g_callKi hc hz hi [] [.int (nI (gLen.getD i 0))] (c_J2_coder hi) (lw_V q429 q430 q431 q72 q432) rfl ⟨rfl, by decide, by decide, by decide +kernel⟩ rfl rfl (Nat.le_of_ble_eq_true rfl) gZ dJ2_length_6 ?_
    refine g_ishr hc dJ2_length_9 ?_
    have e : nI (gLen.getD i 0) >>> ((0 : Int32) &&& 31) = nI (gLen.getD i 0) := by
      have : ∀ i : Fin 7, nI (gLen.getD i.val 0) >>> ((0 : Int32) &&& 31) = nI (gLen.getD i.val 0) := by decide +kernel
      exact this ⟨i, hi⟩
    rw [e]
    exact g_iret hc hR dJ2_length_10)
theorem c_J4_checkIndex {k n : Nat} (hk : k < n) (hn : n < 2 ^ 31) (v : Value) (hv : v.category = 1) : gIz kS l D dA Φ Φ [.int (nI k), .int (nI n), v] (nI k) yJ4_checkIndex (ws_ yJ4_checkIndex cJ4_checkIndex 3 (some .int)) { frames := 0, cells := 0, slots := 0, locals := 0 } :=
  g_startNz (own := RJ4) rfl ⟨rfl, rfl⟩ (by decide) rfl (by cases v <;> first | exact Nat.le_of_ble_eq_true rfl | cases hv) (fun x e hc hz hR => by
    refine g_iload_n hc dJ4_checkIndex_0 rfl 0 rfl ?_
    refine g_if_lt (tgt := 9) hc dJ4_checkIndex_1 (by decide) (fun h => absurd h (nI_pos (by omega))) (fun _ => ?_)
    refine g_iload_n hc dJ4_checkIndex_4 rfl 0 rfl ?_
    refine g_iload_n hc dJ4_checkIndex_5 rfl 1 rfl ?_
    refine g_icmp_lt (tgt := 16) hc dJ4_checkIndex_6 (by decide) (fun _ => ?_) (fun h => absurd ((nlt (by omega) hn).mpr hk) h)
    refine g_iload_n hc dJ4_checkIndex_16 rfl 0 rfl ?_
    exact g_iret hc hR dJ4_checkIndex_17)
theorem c_J2_checkIndex {k n : Nat} (hk : k < n) (hn : n < 2 ^ 31) : gVz kS l D dA Φ Φ [.int (nI k), .int (nI n)] yJ2_checkIndex (ws_ yJ2_checkIndex cJ2_checkIndex 2 none) { frames := 1, cells := 0, slots := 0, locals := 22 } :=
  g_startVz (own := RJ2) ⟨rfl, rfl⟩ (by decide) rfl (Nat.le_of_ble_eq_true rfl) (fun x e hc hz hR => by
    subst e
    refine g_iload_n hc dJ2_checkIndex_0 rfl 0 rfl ?_
    refine g_iload_n hc dJ2_checkIndex_1 rfl 1 rfl ?_
    refine g_getsZq hc hz.2.2.2.2.1 q449 dJ2_checkIndex_2 (fun v hv => ?_)
    refine g_callSzi (n := 3) hc hz [.int (nI k), .int (nI n), v] [] (c_J4_checkIndex hk hn v hv) (lw_S q451 q452 q74 q453) rfl ⟨by decide, by decide, by decide +kernel⟩ rfl rfl (Nat.le_of_ble_eq_true rfl) gZ dJ2_checkIndex_5 ?_
    refine g_pop hc dJ2_checkIndex_8 rfl ?_
    exact g_vret hc hR dJ2_checkIndex_9)
def gCh (i k : Nat) : Int32 := (gByt.getD i []).getD k 0
theorem gCh_ok {i k : Nat} (hi : i < 7) (hk : k < gLen.getD i 0) : ((gCh i k &&& 255).toUInt32 % 65536).toInt32 = gCh i k ∧ narrow .char (.int (gCh i k)) = .int (gCh i k) := by
  have : ∀ (i : Fin 7) (k : Fin 6), k.val < gLen.getD i.val 0 → ((gCh i.val k.val &&& 255).toUInt32 % 65536).toInt32 = gCh i.val k.val ∧ narrow .char (.int (gCh i.val k.val)) = .int (gCh i.val k.val) := by decide +kernel
  have hl : ∀ i : Fin 7, gLen.getD i.val 0 < 6 := by decide
  have hl := hl ⟨i, hi⟩
  dsimp only at hl
  exact this ⟨i, hi⟩ ⟨k, by omega⟩ hk
theorem gLen_lt {i : Nat} (hi : i < 7) : gLen.getD i 0 < 6 := by
  have hl : ∀ i : Fin 7, gLen.getD i.val 0 < 6 := by decide
  exact hl ⟨i, hi⟩
theorem c_J3_charAt {i k : Nat} (hi : i < 7) (hk : k < gLen.getD i 0) : gIz kS l D dA Φ Φ [.ref (kS.2 i), .int (nI k)] (gCh i k) yJ3_charAt (ws_ yJ3_charAt cJ3_charAt 2 (some .char)) { frames := 2, cells := 0, slots := 0, locals := 43 } :=
  g_startNz (own := RJ3) (gCh_ok hi hk).2 ⟨rfl, rfl⟩ (by decide) rfl (Nat.le_of_ble_eq_true rfl) (fun x e hc hz hR => by
    subst e
    have hl := gLen_lt hi
    refine g_iload_n hc dJ3_charAt_0 rfl 1 rfl ?_
    refine g_aload_n hc dJ3_charAt_1 rfl 0 rfl ?_
    refine g_lenK hc (hz.2.1.1 i hi).2.2.2 dJ3_charAt_2 ?_
    refine g_callSzv (n := 2) hc hz [.int (nI k), .int (nI (gLen.getD i 0))] [] (c_J2_checkIndex hk (by omega)) (lw_S q446 q447 q72 q448) rfl ⟨by decide, by decide, by decide +kernel⟩ rfl rfl (Nat.le_of_ble_eq_true rfl) gZ dJ3_charAt_3 ?_
    refine g_aload_n hc dJ3_charAt_6 rfl 0 rfl ?_
    refine g_iload_n hc dJ3_charAt_7 rfl 1 rfl ?_
    refine g_baldK (v := .int (gCh i k)) hc (hz.2.1.1 i hi).2.2.2 (inb_t hk (by omega)) (by rw [nI_clamp (by omega)]; rfl) dJ3_charAt_8 ?_
    refine g_sipush (v := 255) hc dJ3_charAt_9 (by decide) ?_
    refine g_iand hc dJ3_charAt_12 ?_
    refine g_i2c hc dJ3_charAt_13 (gCh_ok hi hk).1 ?_
    exact g_iret hc hR dJ3_charAt_14)
theorem c_J2_charAt {i k : Nat} (hi : i < 7) (hk : k < gLen.getD i 0) : gIz kS l D dA Φ Φ [.ref (kS.1 i), .int (nI k)] (gCh i k) yJ2_charAt (ws_ yJ2_charAt cJ2_charAt 2 (some .char)) { frames := 3, cells := 0, slots := 0, locals := 64 } :=
  g_startNz (own := RJ2) (gCh_ok hi hk).2 ⟨rfl, rfl⟩ (by decide) rfl (Nat.le_of_ble_eq_true rfl) (fun x e hc hz hR => by
    subst e
    refine g_aload_n hc dJ2_charAt_0 rfl 0 rfl ?_
    refine g_callKi hc hz hi [] [] (c_J2_isLatin1 hi) (lw_V q439 q440 q441 q72 q442) rfl ⟨rfl, by decide, by decide, by decide +kernel⟩ rfl rfl (Nat.le_of_ble_eq_true rfl) gZ dJ2_charAt_1 ?_
    refine g_if_eq (tgt := 16) hc dJ2_charAt_4 (by decide) (fun h => absurd h (by decide)) (fun _ => ?_)
    refine g_aload_n hc dJ2_charAt_7 rfl 0 rfl ?_
    refine g_getK hc (hz.2.1.1 i hi).2.2.1 q1382 dJ2_charAt_8 ?_
    refine g_iload_n hc dJ2_charAt_11 rfl 1 rfl ?_
    refine g_callSzi (n := 2) hc hz [.ref (kS.2 i), .int (nI k)] [] (c_J3_charAt hi hk) (lw_S q443 q444 q73 q445) rfl ⟨by decide, by decide, by decide +kernel⟩ rfl rfl (Nat.le_of_ble_eq_true rfl) gZ dJ2_charAt_12 ?_
    exact g_iret hc hR dJ2_charAt_15)
end SM
