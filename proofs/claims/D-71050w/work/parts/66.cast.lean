/-! ===== casts of arrays: the rows that succeed, the row that fails ===== -/
set_option maxRecDepth 100000
variable {kS : gKS}
section CSM
variable {p : Program} {l : Launch} {e : Env} {R : Room} {s : State} {m : MethodId} {args : Array Value} {below : List Frame} {meth : Method} {c : Code} {locs : List Loc} {cells slots : Nat}
theorem cs_fails {T : State} (X : Stand p l e R s m args below meth c T locs cells slots) (hexec : p.tables.exec = Jvm.exec)
    {own name : String} {index : Nat} (hown : s.vm.findClass own = some m.cls) (hlink : (Cond.classLink own index name).before args s = true)
    {a : Addr} {cell : Cell} {cT : ClassId} {ks : Class} (hcell : T.heap[a]? = some cell) (hobj : cell.vm.isStatics = false) (hks : s.vm.classes[cell.cls]? = some ks) (hcT : s.vm.findClass name = some cT) (hasg : s.vm.assignable cell.cls cT = false)
    {g : JFrame} (hg : g.method = m) {rest : List Value} (hstack : g.stack = .ref a :: rest) (hdg : decode c.code g.pc = .ok (.checkcast index, 3)) :
    ∃ (vm' : Vm) (ks' kt' : Class), Stand p l e R s m args below meth c (T.setVm vm') locs cells slots ∧ s.WarmedH vm' ∧ vm'.classes[cell.cls]? = some ks' ∧ vm'.classes[cT]? = some kt' ∧
      ∀ target, Steps p.tables e below (((T.setVm vm').setTop g).pushFrame (.throwNew "java/lang/ClassCastException" (some (checkcast.message vm' ks' kt')) none)) target → Steps p.tables e below (T.setTop g) target := by
  have hpl : e.platform.magicAccessors = ({} : Platform).magicAccessors := by rw [X.admits.platform]
  obtain ⟨c', hc', hcl⟩ := Cond.classLink_spec hown hlink e.platform hpl
  cases hcT.symm.trans hc'
  obtain ⟨dk, _, _, kt, hd, _, _, _, _, hkt, _, hopen⟩ := hcl.here
  have hcl₀ := X.warmed.classLinks hcl
  have hW' : s.WarmedH (T.vm.noted m.cls index (.cls cT)) := X.warmed.noted hd hopen (State.rightAt_cls hcl)
  obtain ⟨ks', hks', -⟩ := hW'.alike.2.2 _ _ hks
  obtain ⟨kt', hkt', -⟩ := hW'.alike.2.2 _ _ hkt
  refine ⟨_, ks', kt', X.noted hW', hW', hks', hkt', fun target hrest => ?_⟩
  subst hg
  jvm_step X.here [hexec, hdg, checkcast.wp_cold (e := e) (s := T) (f := g) X.here.top hstack (resolveClass_links e.toSetting hcl₀) hcl₀.ready,
    checkcast.wp_ready (e := e) (s := T.setVm (T.vm.noted g.method.cls index (.cls cT))) (f := g) X.here.top hcl₀.ready hstack]
  refine ⟨cell, hcell, VmData.noStatics_of hobj, ks', hks', kt', hkt', ?_⟩
  have h1 : (T.vm.noted g.method.cls index (Resolved.cls cT)).assignable cell.cls cT = false := by rw [hW'.alike.assignable]; exact hasg
  simp only [h1]
  exact hrest
end CSM
/-! the message's text: names, and the one home of arrays of numbers -/
theorem cs_found {vm : Vm} {nm : String} {c : ClassId} (h : vm.findClass nm = some c) : ∃ k, vm.classes[c]? = some k ∧ k.name = nm ∧ k.hidden = none ∧ k.loader = none := by
  obtain ⟨hlt, hp, _⟩ := Array.findIdx?_eq_some_iff_getElem.mp h
  refine ⟨vm.classes[c], by simp [hlt], ?_⟩
  simp only [Bool.and_eq_true, beq_iff_eq, Option.isNone_iff_eq_none] at hp
  exact ⟨hp.1.1.1, hp.1.1.2, hp.2⟩
def csB : String := "module java.base" ++ " of loader " ++ "'bootstrap'"
def csU : String := "unnamed module" ++ " of loader " ++ "'bootstrap'"
theorem cs_home {U : State} (hm : modulesRight_1 U = true) {k : Class} (hl : k.loader = none) (hp : packageOf k.name = "") : U.vm.home k = csB ∨ U.vm.home k = csU := by
  unfold Vm.home
  rw [hl]
  cases hmo : U.vm.moduleOf k with
  | none => exact Or.inr rfl
  | some md =>
    left
    have hn : md.name = "java.base" := by
      unfold Vm.moduleOf at hmo
      split at hmo
      · have h0 : (md.name == "java.base") = true := List.find?_some (p := fun x : ModuleInfo => x.name == "java.base") hmo
        exact eq_of_beq h0
      · have h1 : (md.loader == k.loader && md.packages.contains (packageOf k.name)) = true := List.find?_some (p := fun m : ModuleInfo => m.loader == k.loader && m.packages.contains (packageOf k.name)) hmo
        have h2 := List.mem_of_find?_eq_some hmo
        unfold modulesRight_1 at hm
        have h3 := List.all_eq_true.mp hm md h2
        rw [Bool.and_eq_true, hl, hp] at h1
        have h4 : md.loader = none := eq_of_beq h1.1
        have h5 : (castPackages_1.any fun p => md.packages.contains p) = true := List.any_eq_true.mpr ⟨"", List.mem_cons_self, h1.2⟩
        rw [h4, h5] at h3
        simpa using h3
    show "module " ++ md.name ++ " of loader " ++ U.vm.loaderName none = csB
    rw [hn]
    rfl
def csS (k : Class) : Prop := k.hidden = none ∧ k.loader = none ∧ (k.name = "[B" ∨ k.name = "[S" ∨ k.name = "[I")
theorem csS_shown {k : Class} (h : csS k) : k.shown.toList.length = 2 := by
  obtain ⟨h1, _, h2⟩ := h
  have e0 : k.shown = dotted k.name := by
    unfold Class.shown
    rw [h1]
  rw [e0]
  rcases h2 with e | e | e <;> rw [e] <;> decide +kernel
theorem csS_pack {k : Class} (h : csS k) : packageOf k.name = "" := by
  rcases h.2.2 with e | e | e <;> rw [e] <;> decide +kernel
theorem cs_homeL {U : State} (hm : modulesRight_1 U = true) {k : Class} (h : csS k) : (U.vm.home k).toList.length ≤ 40 := by
  rcases cs_home hm h.2.1 (csS_pack h) with e | e <;> rw [e] <;> decide +kernel
theorem cs_homes {U : State} (hm : modulesRight_1 U = true) {k t : Class} (hk : csS k) (ht : csS t) : (U.vm.homes k t).toList.length ≤ 110 := by
  have a1 := csS_shown hk
  have a2 := csS_shown ht
  have a3 := cs_homeL hm hk
  have a4 := cs_homeL hm ht
  unfold Vm.homes
  split
  · show (toString k.shown ++ toString " and " ++ toString t.shown ++ toString " are in " ++ toString (U.vm.home k)).toList.length ≤ 110
    simp only [String.toList_append, List.length_append]
    have b1 : (toString " and ").toList.length = 5 := by decide
    have b2 : (toString " are in ").toList.length = 8 := by decide
    have b3 : (toString k.shown).toList.length = 2 := a1
    have b4 : (toString t.shown).toList.length = 2 := a2
    have b5 : (toString (U.vm.home k)).toList.length ≤ 40 := a3
    omega
  · show (toString k.shown ++ toString " is in " ++ toString (U.vm.home k) ++ toString "; " ++ toString t.shown ++ toString " is in " ++ toString (U.vm.home t)).toList.length ≤ 110
    simp only [String.toList_append, List.length_append]
    have b1 : (toString " is in ").toList.length = 7 := by decide
    have b2 : (toString "; ").toList.length = 2 := by decide
    have b3 : (toString k.shown).toList.length = 2 := a1
    have b4 : (toString t.shown).toList.length = 2 := a2
    have b5 : (toString (U.vm.home k)).toList.length ≤ 40 := a3
    have b6 : (toString (U.vm.home t)).toList.length ≤ 40 := a4
    omega
theorem cs_msgT {vm : Vm} {k t : Class} : (checkcast.message vm k t).toList = 'c' :: ("lass ".toList ++ k.shown.toList ++ " cannot be cast to class ".toList ++ t.shown.toList ++ " (".toList ++ (vm.homes k t).toList ++ ")".toList) := by
  show (toString "class " ++ toString k.shown ++ toString " cannot be cast to class " ++ toString t.shown ++ toString " (" ++ toString (vm.homes k t) ++ toString ")").toList = _
  simp only [String.toList_append]
  rfl
theorem cs_modelled {vm : Vm} {k t : Class} : (checkcast.message vm k t == notModelled) = false := by
  rw [beq_eq_false_iff_ne]
  intro h
  have h2 := congrArg String.toList h
  rw [cs_msgT] at h2
  have h3 := congrArg List.head? h2
  rw [List.head?_cons] at h3
  exact absurd h3 (by decide)
theorem cs_bytes {U : State} (hm : modulesRight_1 U = true) {k t : Class} (hk : csS k) (ht : csS t) : (stringBytes (stringToUtf16 (checkcast.message U.vm k t))).size ≤ 600 := by
  have b1 := stringBytes_size_le (stringToUtf16 (checkcast.message U.vm k t))
  have b2 := utf16_size_le (checkcast.message U.vm k t)
  have b3 := cs_homes hm hk ht
  have a1 := csS_shown hk
  have a2 := csS_shown ht
  have b4 : (checkcast.message U.vm k t).toList.length ≤ 150 := by
    rw [cs_msgT]
    have e1 : "lass ".toList.length = 5 := by decide
    have e2 : " cannot be cast to class ".toList.length = 25 := by decide
    have e3 : " (".toList.length = 2 := by decide
    have e4 : ")".toList.length = 1 := by decide
    simp only [List.length_cons, List.length_append]
    omega
  omega
/-! the rows -/
def aNm (c : Nat) : String := if c = 0 then "[B" else if c = 3 then "[S" else "[I"
def aTy (c : Nat) : Prop := c = 0 ∨ c = 3 ∨ c = 1
theorem aNm_in {D : va_G} {dA : Nat → ClassId} {s : State} (hK : gKW D dA s) {c : Nat} (hc : aTy c) : s.vm.findClass (aNm c) = some (dA c) := by
  rcases hc with rfl | rfl | rfl
  · exact va_nm_byte (hK.1.2 0 (dA 0, .byte) rfl).2
  · exact va_nm_short (hK.1.2 3 (dA 3, .short) rfl).2
  · exact va_nm_int (hK.1.2 1 (dA 1, .int) rfl).2
theorem aNm_csS {k : Class} {c : Nat} (hc : aTy c) (h1 : k.name = aNm c) (h2 : k.hidden = none) (h3 : k.loader = none) : csS k := by
  refine ⟨h2, h3, ?_⟩
  rcases hc with rfl | rfl | rfl
  · exact Or.inl h1
  · exact Or.inr (Or.inl h1)
  · exact Or.inr (Or.inr h1)
theorem aNm_nc {c c' : Nat} (hc : aTy c) (hc' : aTy c') (hne : c ≠ c') : (aNm c, aNm c') ∈ gNC := by
  rcases hc with rfl | rfl | rfl <;> rcases hc' with rfl | rfl | rfl <;> first | exact absurd rfl hne | decide
section CSR
variable {x : gX} {own : String} {cc : ByteArray} {nL F L ca sl : Nat} {Φ Φ' : va_W} {pc : Nat} {lv : List (Nat × Value)} {st : List Value}
theorem g_rowCell (hc : gOk x own cc nL F L) {H : Heap} (hP : va_P x.D gCL Φ H) {q0 a n c : Nat} {f : Nat → Int32} (he : Φ[q0]? = some (a, .inl (x.dA c, n, .inl f))) (ht : aTy c) : ∃ cell : Cell, H[a]? = some cell ∧ cell.vm.isStatics = false ∧ x.s.vm.findClass (aNm c) = some cell.cls :=
  ⟨_, hP q0 _ he, rfl, aNm_in hc.kw ht⟩
theorem g_instY (hc : gOk x own cc nL F L) {index q0 a n c : Nat} {f : Nat → Int32} (he : Φ[q0]? = some (a, .inl (x.dA c, n, .inl f))) (ht : aTy c) (hlink : Cond.classLink own index (aNm c) ∈ lw_all) (hdg : decode cc pc = .ok (.instanceof index, 3)) (kk : gG x nL ca sl Φ (pc + 3) lv (.int 1 :: st)) : gG x nL ca sl Φ pc lv (.ref a :: st) :=
  fun H locs ls hP hD hS hl => va_instE hc.ex hc.b hc.ow (hc.ts _ hlink) (g_rowCell hc hP he ht) hdg (kk H locs ls hP hD hS hl)
theorem g_instNo (hc : gOk x own cc nL F L) (hz : gZs kS x.A x.s x.s.heap) {index q0 a n c c' : Nat} {f : Nat → Int32} (he : Φ[q0]? = some (a, .inl (x.dA c, n, .inl f))) (ht : aTy c) (ht' : aTy c') (hne : c ≠ c') (hlink : Cond.classLink own index (aNm c') ∈ lw_all) (hdg : decode cc pc = .ok (.instanceof index, 3)) (kk : gG x nL ca sl Φ (pc + 3) lv (.int 0 :: st)) : gG x nL ca sl Φ pc lv (.ref a :: st) :=
  fun H locs ls hP hD hS hl => va_instNo hc.ex hc.b hc.ow (hc.ts _ hlink) (hz.2.2.2.2.2.1 _ (aNm_nc ht ht' hne)) (g_rowCell hc hP he ht) hdg (kk H locs ls hP hD hS hl)
theorem g_instN (hc : gOk x own cc nL F L) {index : Nat} (hdg : decode cc pc = .ok (.instanceof index, 3)) (kk : gG x nL ca sl Φ (pc + 3) lv (.int 0 :: st)) : gG x nL ca sl Φ pc lv (.null :: st) :=
  fun H locs ls hP hD hS hl => lv_instN hc.ex hc.b hdg (kk H locs ls hP hD hS hl)
theorem g_castN (hc : gOk x own cc nL F L) {index : Nat} (hdg : decode cc pc = .ok (.checkcast index, 3)) (kk : gG x nL ca sl Φ (pc + 3) lv (.null :: st)) : gG x nL ca sl Φ pc lv (.null :: st) :=
  fun H locs ls hP hD hS hl => lv_castN hc.ex hc.b hdg (kk H locs ls hP hD hS hl)
theorem g_castY (hc : gOk x own cc nL F L) {index q0 a n c : Nat} {f : Nat → Int32} (he : Φ[q0]? = some (a, .inl (x.dA c, n, .inl f))) (ht : aTy c) (hlink : Cond.classLink own index (aNm c) ∈ lw_all) (hdg : decode cc pc = .ok (.checkcast index, 3)) (kk : gG x nL ca sl Φ (pc + 3) lv (.ref a :: st)) : gG x nL ca sl Φ pc lv (.ref a :: st) :=
  fun H locs ls hP hD hS hl => va_castE hc.ex hc.b hc.ow (hc.ts _ hlink) (g_rowCell hc hP he ht) hdg (kk H locs ls hP hD hS hl)
theorem g_castZ (hc : gOk x own cc nL F L) (hl0 : x.l.stackTraces = false) (hz : gZs kS x.A x.s x.s.heap) {index q0 a n c c' : Nat} {f : Nat → Int32} (he : Φ[q0]? = some (a, .inl (x.dA c, n, .inl f))) (ht : aTy c) (ht' : aTy c') (hne : c ≠ c') (hlink : Cond.classLink own index (aNm c') ∈ lw_all) (hF : 6 < F) (hL : ((Value.ref a :: st).map fun v => v.category).sum + 10240 ≤ L) (hcs : ca + 3 ≤ x.R.cells ∧ sl + 610 ≤ x.R.slots) (hdg : decode cc pc = .ok (.checkcast index, 3)) (kk : gU x nL (ca + 3) (sl + 610) Φ pc lv "java/lang/ClassCastException") : gG x nL ca sl Φ pc lv (.ref a :: st) := by
  intro H locs ls hP hD hS hl T hT X
  obtain ⟨c0, t0, f1, f2, f3⟩ := hz.2.2.2.2.2.1 _ (aNm_nc ht ht' hne)
  obtain ⟨cell, h1, h2, h3⟩ := g_rowCell hc hP he ht
  cases h3.symm.trans f1
  obtain ⟨ks, hks, -⟩ := Vm.findClass_spec h3
  obtain ⟨vm', ks', kt', X', hW, g1, g2, st⟩ := cs_fails X hc.ex hc.ow (hc.ts _ hlink) (by rw [hT]; exact h1) h2 hks f2 f3 (g := F0 x.m pc ls (.ref a :: st)) rfl rfl (by rw [hc.b]; exact hdg)
  have hm : modulesRight_1 (T.setVm vm') = true := (gMo_eq (s := x.s) (U := T.setVm vm') hW.alike).trans hz.2.2.2.2.2.2
  obtain ⟨ks2, e1, e2, e3, e4⟩ := cs_found ((hW.alike.findClass _ _).trans h3)
  obtain ⟨kt2, i1, i2, i3, i4⟩ := cs_found ((hW.alike.findClass _ _).trans f2)
  cases e1.symm.trans g1
  cases i1.symm.trans g2
  have hk := aNm_csS ht e2 e3 e4
  have hk' := aNm_csS ht' i2 i3 i4
  obtain ⟨t, a1, b1⟩ := g_noteM (names := upR) (nb := 600) hc hl0 hz (by decide) (by decide) (by decide) (by decide) arm_cce arm_goodC (cs_modelled (vm := vm') (k := ks') (t := kt')) (cs_bytes (U := T.setVm vm') hm hk hk') (by decide) hF hL (by decide) hcs hP hD hS hl kk (T.setVm vm') hT X'
  exact ⟨t, st t a1, b1⟩
theorem g_saldY (hc : gOk x own cc nL F L) {q0 a n : Nat} {f : Nat → Int32} {i : Int32} (he : Φ[q0]? = some (a, .inl (x.dA 3, n, .inl f))) (hb : inb i n = true) (hdg : decode cc pc = .ok (.saload, 1)) (kk : gG x nL ca sl Φ (pc + 1) lv (.int (f i.toNatClampNeg) :: st)) : gG x nL ca sl Φ pc lv (.int i :: .ref a :: st) :=
  fun H locs ls hP hD hS hl => va_sald hc.ex hc.b hc.kw.1 hP q0 3 he rfl (inb_in hb) hdg (kk H locs ls hP hD hS hl)
theorem g_sastY (hc : gOk x own cc nL F L) {q0 a n : Nat} {f : Nat → Int32} {i v : Int32} (he : Φ[q0]? = some (a, .inl (x.dA 3, n, .inl f))) (hb : inb i n = true) (hset : Φ.set q0 (a, .inl (x.dA 3, n, .inl (upd f i.toNatClampNeg (vp_nar .short v)))) = Φ') (hdg : decode cc pc = .ok (.sastore, 1)) (kk : gG x nL ca sl Φ' (pc + 1) lv st) : gG x nL ca sl Φ pc lv (.int v :: .int i :: .ref a :: st) :=
  fun H locs ls hP hD hS hl => va_sast hc.ex hc.b hc.kw.1 hP hD hS q0 3 he rfl (inb_in hb) hdg (fun H1 locs1 h1 h2 h3 => kk H1 locs1 ls (hset ▸ h1) (hset ▸ h2) h3 hl)
theorem g_alenY (hc : gOk x own cc nL F L) {q0 a n c : Nat} {f : Nat → Int32} (he : Φ[q0]? = some (a, .inl (x.dA c, n, .inl f))) (ht : aTy c) (hdg : decode cc pc = .ok (.arraylength, 1)) (kk : gG x nL ca sl Φ (pc + 1) lv (.int (Int32.ofNat n) :: st)) : gG x nL ca sl Φ pc lv (.ref a :: st) :=
  fun H locs ls hP hD hS hl => by
    rcases ht with rfl | rfl | rfl
    · exact va_alen hc.ex hc.b hc.kw.1 hP q0 0 he (ty := .byte) rfl rfl hdg (kk H locs ls hP hD hS hl)
    · exact va_alen hc.ex hc.b hc.kw.1 hP q0 3 he (ty := .short) rfl rfl hdg (kk H locs ls hP hD hS hl)
    · exact va_alen hc.ex hc.b hc.kw.1 hP q0 1 he (ty := .int) rfl rfl hdg (kk H locs ls hP hD hS hl)
theorem g_aloadN (hc : gOk x own cc nL F L) {i : Nat} (hdg : decode cc pc = .ok (.aload i, 2)) (j : Nat) (hj : lv[j]? = some (i, .null)) (kk : gG x nL ca sl Φ (pc + 2) lv (.null :: st)) : gG x nL ca sl Φ pc lv st :=
  fun H locs ls hP hD hS hl => lv_aloadN hc.ex hc.b hdg (lv_at hl j hj) (kk H locs ls hP hD hS hl)
theorem g_astoreN (hc : gOk x own cc nL F L) {i : Nat} (hdg : decode cc pc = .ok (.astore i, 2)) (hn : i < nL) {lv' : List (Nat × Value)} (hv : (i, Value.null) :: lv.filter (fun q => !(q.1 == i) && !(q.1 + 1 == i && q.2.category == 2)) = lv') (kk : gG x nL ca sl Φ (pc + 2) lv' st) : gG x nL ca sl Φ pc lv (.null :: st) :=
  fun H locs ls hP hD hS hl => lv_astoreN hc.ex hc.b hdg hl hn hv (fun ls' hl' => kk H locs ls' hP hD hS hl')
theorem g_aload_nN2 (hc : gOk x own cc nL F L) {i : Nat} {k : Fin 4} (hdg : decode cc pc = .ok (.aload_n k, 1)) (hi : (k : Nat) = i) (j : Nat) (hj : lv[j]? = some (i, .null)) (kk : gG x nL ca sl Φ (pc + 1) lv (.null :: st)) : gG x nL ca sl Φ pc lv st :=
  fun H locs ls hP hD hS hl => lv_aload_nN hc.ex hc.b hdg hi (lv_at hl j hj) (kk H locs ls hP hD hS hl)
theorem g_astore_nN (hc : gOk x own cc nL F L) {i : Nat} {k : Fin 4} (hdg : decode cc pc = .ok (.astore_n k, 1)) (hi : (k : Nat) = i) (hn : i < nL) {lv' : List (Nat × Value)} (hv : (i, Value.null) :: lv.filter (fun q => !(q.1 == i) && !(q.1 + 1 == i && q.2.category == 2)) = lv') (kk : gG x nL ca sl Φ (pc + 1) lv' st) : gG x nL ca sl Φ pc lv (.null :: st) :=
  fun H locs ls hP hD hS hl => lv_astore_nN hc.ex hc.b hdg hi hl hn hv (fun ls' hl' => kk H locs ls' hP hD hS hl')
end CSR
