/-! ===== the Reader's name(int), is(int) ===== -/
set_option maxRecDepth 100000
variable {kS : gKS}
def gAz (kS : gKS) (l : Launch) (D : va_G) (dA : Nat → ClassId) (Φ Φ' : va_W) (As : List Value) (r : Nat) (y : MethodName) (ws : List Cond) (rm : Room) : Prop := ∀ sz : Nat, Met l y ws rm (va_Pc As (gPreT kS D dA Φ sz)) (va_Qq (fun (r1 : Option Nat) (_ : Unit) => r1 = some r) (gB D Φ' (va_A Φ sz)) (va_A Φ sz)) 0 0 (va_A Φ sz)
def gRa (x : gX) (ca sl : Nat) (Φ : va_W) (r : Nat) : Prop := ∀ (H : Heap) (locs : List Loc) (ls : Array Slot) (pc : Nat), va_P x.D gCL Φ H → va_D x.A Φ → va_S x.A x.s.heap H locs → decode x.c.code pc = .ok (.areturn, 1) → W x.p x.l x.e x.R x.s x.m x.ar x.be x.me x.c H locs ca sl x.Q (F0 x.m pc ls [.ref r])
section IR
variable {x : gX} {own : String} {cc : ByteArray} {nL F L ca sl : Nat} {Φ Φ' : va_W} {pc : Nat} {lv : List (Nat × Value)} {st : List Value}
theorem g_aret (hc : gOk x own cc nL F L) {r : Nat} (h : gRa x ca sl Φ r) (hdg : decode cc pc = .ok (.areturn, 1)) : gG x nL ca sl Φ pc lv [.ref r] :=
  fun H locs ls hP hD hS _ => h H locs ls pc hP hD hS (by rw [hc.b]; exact hdg)
theorem g_ldcK (hc : gOk x own cc nL F L) (hz : gZs kS x.A x.s x.s.heap) {i idx : Nat} (hi : i < 7) (ho : own = RX8) (hx : 47 + 2 * i = idx) (hdg : decode cc pc = .ok (.ldc idx, 2)) (kk : gG x nL ca sl Φ (pc + 2) lv (.ref (kS.1 i) :: st)) : gG x nL ca sl Φ pc lv st := by
  subst ho hx
  exact fun H locs ls hP hD hS hl => va_ldcS hc.ex hc.b hc.ow (hz.2.2.1 i hi) hdg (kk H locs ls hP hD hS hl)
theorem g_callAzi (hc : gOk x own cc nL F L) (hz : gZs kS x.A x.s x.s.heap) {y : MethodName} {bytes : ByteArray} {maxL idx n : Nat} {ret : Option FieldType} {rm : Room} {r : Nat} {C : String} {T : u_T} {N ci q0 b : Nat} {fs : List Value} (As rest : List Value) (hM : gAz kS x.l x.D x.dA Φ Φ' (.ref b :: As) r y (ws_ y bytes maxL ret) rm) (he : Φ[q0]? = some (b, .inr (ci, fs))) (hcl : gCL[ci]? = some (C, T, N)) (hG : GoodIn lw_all (wsV own idx C y (ws_ y bytes maxL ret))) (hrm : gRm rm maxL F L = true) (hd : y.cls = C ∧ y.cls ≠ "java/lang/invoke/MethodHandle" ∧ y.cls ≠ "java/lang/invoke/VarHandle" ∧ (parseMethodDescriptor y.desc).map (fun d => d.parameters.length) = some n) (hn : As.length = n) (hst : st = As.reverse ++ .ref b :: rest) (hrest : (rest.map fun v => v.category).sum ≤ 8) (hcs : ca ≤ x.R.cells ∧ sl ≤ x.R.slots) (hdg : decode cc pc = .ok (.invokevirtual idx, 3)) (kk : gG x nL ca sl Φ' (pc + 3) lv (.ref r :: rest)) : gG x nL ca sl Φ pc lv st := by
  intro H locs ls hP hD hS hl
  subst hst
  obtain ⟨e1, e2, e3, e4⟩ := gRm_spec hrm
  have hf := gFree hc hD hS
  refine va_callq (va_runV (As := As) (rest := rest) ⟨hc.ex, hc.b, hc.ml, hc.ow, hc.ts⟩ (hM H.size) (cwV n hc.ts hG rfl e1 e2 hd ⟨Nat.le_trans e3 hc.fr, Nat.le_trans e4 hc.lo⟩) (gPreTV hc hz hP hD hS he hcl) rfl hn hl.1 rfl (lv_room (m := x.m) (pc := pc) (ls := ls) (rest := rest) hrest) hdg hcs) hS (fun q _ h => hf q h) hf (fun r1 u t H1 locs1 ht hvm hp hB hz hk hS1 => ?_)
  subst hp
  exact kk H1 locs1 ls (ht ▸ hB.1) (hB.2.weaken (fun _ q _ h => hf q.1 h)) hS1 hl
end IR
section IM
variable {l : Launch} {D : va_G} {dA : Nat → ClassId} {Φ Φ' : va_W}
theorem g_startAz {As : List Value} {y : MethodName} {cc : ByteArray} {maxL : Nat} {rm : Room} {own nm : String} {r : Nat} (hrc : rm.cells = 0 ∧ rm.slots = 0) (hy : plainName y.cls = true) (hown : y.cls = own) (hlen : (lg_sl As).length ≤ maxL) (body : ∀ x : gX, x.dA = dA → gOk x own cc maxL rm.frames rm.locals → gZs kS x.A x.s x.s.heap → gRa x 0 0 Φ' r → gG x maxL 0 0 Φ 0 (lv_args 0 As) []) : gAz kS l D dA Φ Φ' As r y (ws_ y cc maxL (some (.object nm))) rm := by
  intro sz
  refine Met.ofW (cc := cc) (maxL := maxL) (ret := some (.object nm)) hy rfl ?_
  intro p e s m args below meth c s₁ B hml hv
  obtain ⟨rfl, ⟨hsz, hP, hK, hD0⟩, hz⟩ := hv
  subst hsz
  have hts := atoms_spec (ws := ws_ y cc maxL (some (.object nm))) B.pre
  have hts : ∀ w ∈ lw_all, w.before As.toArray s = true := fun w h => hts w (List.mem_cons_of_mem _ h)
  have ho : s.vm.findClass own = some m.cls := by rw [← hown]; exact findClass_of_methodNamed B.named
  rw [lg_entry_eq]
  exact body (p, l, e, (headSpec (ws_ y cc maxL (some (.object nm))) rm).room, s, m, As.toArray, below, meth, c, MQ below (va_Qq (fun (r1 : Option Nat) (_ : Unit) => r1 = some r) (gB D Φ' (va_A Φ s.heap.size)) (va_A Φ s.heap.size)) As.toArray s 0 0 (va_A Φ s.heap.size), va_A Φ s.heap.size, D, dA) rfl
    ⟨B.exec, B.bytes, hml, ho, hts, hK, Nat.le_refl _, Nat.le_refl _, fun q h => Or.inr h, B.notSynchronized⟩ hz
    (fun H locs ls pc hP hD hS hd => W.aret (v := .ref r) B.exec rfl B.returns (Or.inl ⟨_, rfl⟩) (Or.inr ⟨_, rfl⟩) (fun t ht hW => ⟨⟨some r, (), rfl, rfl, by rw [ht]; exact hP, hD⟩, hS.F ht⟩) hS.2.2 hd B.notSynchronized)
    s.heap [] _ hP hD0.self va_S.rf (lv_entry As hlen)
theorem c_X8_name {a k : Nat} (hk : k < 7) : gAz kS l D dA Φ Φ [.ref a, .int (nI k)] (kS.1 k) yX8_name (ws_ yX8_name cX8_name 2 (some (.object "java/lang/String"))) { frames := 0, cells := 0, slots := 0, locals := 0 } :=
  g_startAz (own := RX8) ⟨rfl, rfl⟩ (by decide) rfl (Nat.le_of_ble_eq_true rfl) (fun x e hc hz hR => by
    refine g_iload_n hc dX8_name_0 rfl 1 rfl ?_
    have hk7 : k = 0 ∨ k = 1 ∨ k = 2 ∨ k = 3 ∨ k = 4 ∨ k = 5 ∨ k = 6 := by omega
    rcases hk7 with rfl | rfl | rfl | rfl | rfl | rfl | rfl
    · exact g_tabIn (tgt := 40) hc dX8_name_1 (by decide) (by decide) rfl (by decide) (g_ldcK (i := 0) hc hz (by decide) rfl rfl dX8_name_40 (g_aret hc hR dX8_name_42))
    · exact g_tabIn (tgt := 43) hc dX8_name_1 (by decide) (by decide) rfl (by decide) (g_ldcK (i := 1) hc hz (by decide) rfl rfl dX8_name_43 (g_aret hc hR dX8_name_45))
    · exact g_tabIn (tgt := 46) hc dX8_name_1 (by decide) (by decide) rfl (by decide) (g_ldcK (i := 2) hc hz (by decide) rfl rfl dX8_name_46 (g_aret hc hR dX8_name_48))
    · exact g_tabIn (tgt := 49) hc dX8_name_1 (by decide) (by decide) rfl (by decide) (g_ldcK (i := 3) hc hz (by decide) rfl rfl dX8_name_49 (g_aret hc hR dX8_name_51))
    · exact g_tabIn (tgt := 52) hc dX8_name_1 (by decide) (by decide) rfl (by decide) (g_ldcK (i := 4) hc hz (by decide) rfl rfl dX8_name_52 (g_aret hc hR dX8_name_54))
    · exact g_tabIn (tgt := 55) hc dX8_name_1 (by decide) (by decide) rfl (by decide) (g_ldcK (i := 5) hc hz (by decide) rfl rfl dX8_name_55 (g_aret hc hR dX8_name_57))
    · exact g_tabOut (tgt := 58) hc dX8_name_1 (by decide) (by decide) (g_ldcK (i := 6) hc hz (by decide) rfl rfl dX8_name_58 (g_aret hc hR dX8_name_60)))
/-! is(k), for k below 7 -/
def f_X8_is_L39 (σ : Nat → Nat → Int32) (k : Nat) (l3 l4 : Int32) : Option ((Int32 × Int32) ⊕ Int32) :=
  if l3 = 0 then (oI (some l3)) else (if nI (gLen.getD k 0) ≤ l4 then (oI (some l3)) else (oC (inb ((σ 42 4) + l4) 160) <| oC (inb l4 (gLen.getD k 0)) <| if (σ 8 ((σ 42 4) + l4).toNatClampNeg) = gCh k l4.toNatClampNeg then (some (.inl (1, l4 + 1))) else (some (.inl (0, l4 + 1)))))
def f_X8_is_b39 (σ : Nat → Nat → Int32) (k : Nat) (l3 l4 : Int32) : Option Int32 :=
  oLoop gFU (fun v : Int32 × Int32 => f_X8_is_L39 σ k v.1 v.2) (l3, l4)
def f_X8_is (σ : Nat → Nat → Int32) (l1 : Int32) : Option Int32 :=
  oC (inb l1 7) <| if (σ 42 5) = 1 then (if (σ 42 3) - (σ 42 4) = nI (gLen.getD l1.toNatClampNeg 0) then oB (f_X8_is_b39 σ l1.toNatClampNeg 1 0) fun r => oC (isB r) (some r) else oB (f_X8_is_b39 σ l1.toNatClampNeg 0 0) fun r => oC (isB r) (some r)) else oB (f_X8_is_b39 σ l1.toNatClampNeg 0 0) fun r => oC (isB r) (some r)
theorem inb_self {i : Int32} {n : Nat} (h : inb i n = true) (hn : n < 2 ^ 31) : i = nI i.toNatClampNeg ∧ i.toNatClampNeg < n := by
  have h := inb_in h
  have h0 : ¬ i < 0 := fun q => h (Or.inl q)
  have h1 : ¬ n ≤ i.toNatClampNeg := fun q => h (Or.inr q)
  refine ⟨?_, by omega⟩
  have h2 : (0 : Int32) ≤ i := Int32.not_lt.mp h0
  have h3 := Int32.le_iff_toInt_le.mp h2
  have z : (0 : Int32).toInt = 0 := rfl
  apply Int32.toInt_inj.mp
  have e : i.toNatClampNeg = i.toInt.toNat := rfl
  rw [nI_toInt (by omega), e]
  omega
theorem w_X8_is_L39 {x : gX} {N : Nat} {ad : Nat → Nat} {tl : va_W} {lam : Nat → Int64} (hc : gOk x RX8 cX8_is 5 4 85) (hz : gZs kS x.A x.s x.s.heap) (σ : Nat → Nat → Int32) (k : Nat) (hk : k < 7) (l3 l4 : Int32) (hN : 43 ≤ N) {K : (Int32 × Int32) ⊕ Int32 → Prop} {o : (Int32 × Int32) ⊕ Int32} (hf : f_X8_is_L39 σ k l3 l4 = some o) (hK : K o) (hI : ∀ v : Int32 × Int32, K (.inl v) → gG x 5 0 0 (XW x.dA N ad σ lam ++ tl) 39 [(0, .ref (ad 42)), (2, .ref (kS.1 k)), (3, .int v.1), (4, .int v.2)] []) (hR : ∀ r : Int32, K (.inr r) → gG x 5 0 0 (XW x.dA N ad σ lam ++ tl) 89 [] [.int r]) : gG x 5 0 0 (XW x.dA N ad σ lam ++ tl) 39 [(0, .ref (ad 42)), (2, .ref (kS.1 k)), (3, .int l3), (4, .int l4)] [] := by
  unfold f_X8_is_L39 at hf
  have hlen := gLen_lt hk
  refine g_iload_n hc dX8_is_39 rfl 2 rfl ?_
  have out : ∀ r, l3 = r → K (.inr r) → gG x 5 0 0 (XW x.dA N ad σ lam ++ tl) 88 [(0, .ref (ad 42)), (2, .ref (kS.1 k)), (3, .int l3), (4, .int l4)] [] := fun r e h => by
    subst e
    refine g_iload_n hc dX8_is_88 rfl 2 rfl ?_
    exact g_lv [] rfl (hR _ h)
  refine g_if_eq (tgt := 88) hc dX8_is_40 (by decide) (fun h1 => ?_) (fun h1 => ?_)
  · have hf := oT h1 hf
    obtain ⟨o2, hgo2, eo2⟩ := oI_some hf
    subst eo2
    exact out _ (Option.some.inj hgo2) hK
  have hf := oF h1 hf
  refine g_iload hc dX8_is_43 3 rfl ?_
  refine g_aload_n hc dX8_is_45 rfl 1 rfl ?_
  refine g_callKi hc hz hk [] [.int l4] (c_J2_length hk) (lw_V q425 q426 q427 q72 q428) rfl ⟨rfl, by decide, by decide, by decide +kernel⟩ rfl rfl (Nat.le_of_ble_eq_true rfl) gZ dX8_is_46 ?_
  refine g_icmp_ge (tgt := 88) hc dX8_is_49 (by decide) (fun h2 => ?_) (fun h2 => ?_)
  · have hf := oT h2 hf
    obtain ⟨o2, hgo2, eo2⟩ := oI_some hf
    subst eo2
    exact out _ (Option.some.inj hgo2) hK
  have hf := oF h2 hf
  obtain ⟨h3, hf⟩ := oC_some hf
  obtain ⟨h4, hf⟩ := oC_some hf
  obtain ⟨e4, l4k⟩ := inb_self h4 (by omega)
  refine g_aload_n hc dX8_is_52 rfl 0 rfl ?_
  refine g_get (v := .ref (ad 0)) hc in_X8 (XW_at (k := 42) (Nat.lt_of_lt_of_le (by decide) hN)) rfl 7 (by decide) q384 rfl dX8_is_53 ?_
  refine g_getN (v := .ref (ad 8)) hc in_X0 (XW_at (k := 0) (Nat.lt_of_lt_of_le (by decide) hN)) rfl 12 (by decide) 16 rfl rfl dX8_is_56 ?_
  refine g_aload_n hc dX8_is_59 rfl 0 rfl ?_
  refine g_get (v := .int (σ 42 4)) hc in_X8 (XW_at (k := 42) (Nat.lt_of_lt_of_le (by decide) hN)) rfl 4 (by decide) q381 rfl dX8_is_60 ?_
  refine g_iload hc dX8_is_63 3 rfl ?_
  refine g_iadd hc dX8_is_65 ?_
  refine g_bald (n := 160) (f := σ 8) hc (XW_at (k := 8) (Nat.lt_of_lt_of_le (by decide) hN)) h3 dX8_is_66 ?_
  refine g_aload_n hc dX8_is_67 rfl 1 rfl ?_
  refine g_iload hc dX8_is_68 3 rfl ?_
  have hch := c_J2_charAt (kS := kS) (l := x.l) (D := x.D) (dA := x.dA) (Φ := XW x.dA N ad σ lam ++ tl) hk l4k
  rw [← e4] at hch
  refine g_callKi (n := 1) hc hz hk [.int l4] [.int (σ 8 ((σ 42 4) + l4).toNatClampNeg)] hch (lw_V q435 q436 q437 q72 q438) rfl ⟨rfl, by decide, by decide, by decide +kernel⟩ rfl rfl (Nat.le_of_ble_eq_true rfl) gZ dX8_is_70 ?_
  have fin : ∀ b, K (.inl (b, l4 + 1)) → gG x 5 0 0 (XW x.dA N ad σ lam ++ tl) 81 [(0, .ref (ad 42)), (2, .ref (kS.1 k)), (3, .int l3), (4, .int l4)] [.int b] := fun b h => by
    refine g_istore_n (lv' := [(3, .int b), (0, .ref (ad 42)), (2, .ref (kS.1 k)), (4, .int l4)]) hc dX8_is_81 rfl (by decide) rfl ?_
    refine g_iinc (v := l4 + 1) (lv' := [(4, .int (l4 + 1)), (3, .int b), (0, .ref (ad 42)), (2, .ref (kS.1 k))]) hc dX8_is_82 (j := 3) rfl rfl (by decide) rfl ?_
    refine g_goto (tgt := 39) hc dX8_is_85 (by decide) ?_
    exact g_lv [2, 3, 1, 0] rfl (hI _ h)
  refine g_icmp_ne (tgt := 80) hc dX8_is_73 (by decide) (fun h5 => ?_) (fun h5 => ?_)
  · have hf := oF h5 hf
    have hz0 := Option.some.inj hf; subst hz0
    refine g_iconst (v := 0) hc dX8_is_80 (by decide) ?_
    exact fin 0 hK
  · have hf := oT h5 hf
    have hz0 := Option.some.inj hf; subst hz0
    refine g_iconst (v := 1) hc dX8_is_76 (by decide) ?_
    refine g_goto (tgt := 81) hc dX8_is_77 (by decide) ?_
    exact fin 1 hK
theorem is_isB {σ : Nat → Nat → Int32} {l1 o : Int32} (hf : f_X8_is σ l1 = some o) : isB o = true := by
  have k : ∀ {z : Option Int32}, (oB z fun r => oC (isB r) (some r)) = some o → isB o = true := fun h => by
    obtain ⟨r, _, h⟩ := oB_some h
    obtain ⟨h1, h⟩ := oC_some h
    cases h
    exact h1
  unfold f_X8_is at hf
  obtain ⟨_, hf⟩ := oC_some hf
  split at hf
  · split at hf
    · exact k hf
    · exact k hf
  · exact k hf
theorem c_X8_is {N : Nat} {ad : Nat → Nat} {tl : va_W} {lam : Nat → Int64} {σ : Nat → Nat → Int32} {l1 : Int32} (hN : 43 ≤ N) {o : Int32} (hf : f_X8_is σ l1 = some o) : gIz kS l D dA (XW dA N ad σ lam ++ tl) (XW dA N ad σ lam ++ tl) [.ref (ad 42), .int l1] o yX8_is (ws_ yX8_is cX8_is 5 (some .boolean)) { frames := 4, cells := 0, slots := 0, locals := 85 } :=
  g_startNz (own := RX8) (isB_nar (is_isB hf)) ⟨rfl, rfl⟩ (by decide) rfl (Nat.le_of_ble_eq_true rfl) (fun x e hc hz hR => by
    subst e
    have hf2 := hf
    clear hf
    unfold f_X8_is at hf2
    obtain ⟨h1, hf3⟩ := oC_some hf2
    clear hf2
    obtain ⟨e1, hk⟩ := inb_self h1 (by decide)
    generalize l1.toNatClampNeg = k at e1 hk hf3
    subst e1
    clear h1
    have hf := hf3
    clear hf3
    refine g_aload_n hc dX8_is_0 rfl 0 rfl ?_
    refine g_iload_n hc dX8_is_1 rfl 1 rfl ?_
    refine g_callAzi (n := 1) hc hz [.int (nI k)] [] (c_X8_name (kS := kS) (l := x.l) (D := x.D) (dA := x.dA) (Φ := XW x.dA N ad σ lam ++ tl) hk) (XW_at (k := 42) (Nat.lt_of_lt_of_le (by decide) hN)) rfl (lw_V q414 q416 qs7 q68 q417) rfl ⟨rfl, by decide, by decide, by decide +kernel⟩ rfl rfl (Nat.le_of_ble_eq_true rfl) gZ dX8_is_2 ?_
    refine g_astore_n (lv' := [(2, .ref (kS.1 k)), (0, .ref (ad 42)), (1, .int (nI k))]) hc dX8_is_5 rfl (by decide) rfl ?_
    refine g_aload_n hc dX8_is_6 rfl 1 rfl ?_
    refine g_get (v := .int (σ 42 5)) hc in_X8 (XW_at (k := 42) (Nat.lt_of_lt_of_le (by decide) hN)) rfl 5 (by decide) q382 rfl dX8_is_7 ?_
    refine g_iconst (v := 1) hc dX8_is_10 (by decide) ?_
    have fin : ∀ b, (oB (f_X8_is_b39 σ k b 0) fun r => oC (isB r) (some r)) = some o → gG x 5 0 0 (XW x.dA N ad σ lam ++ tl) 35 [(2, .ref (kS.1 k)), (0, .ref (ad 42)), (1, .int (nI k))] [.int b] := by
      intro b hb
      obtain ⟨r, hr, hb⟩ := oB_some hb
      obtain ⟨_, hb⟩ := oC_some hb
      cases hb
      refine g_istore_n (lv' := [(3, .int b), (2, .ref (kS.1 k)), (0, .ref (ad 42)), (1, .int (nI k))]) hc dX8_is_35 rfl (by decide) rfl ?_
      refine g_iconst (v := 0) hc dX8_is_36 (by decide) ?_
      refine g_istore (lv' := [(4, .int 0), (3, .int b), (2, .ref (kS.1 k)), (0, .ref (ad 42)), (1, .int (nI k))]) hc dX8_is_37 (by decide) rfl ?_
      refine g_lv [3, 2, 1, 0] rfl ?_
      exact oLoop_ind (fun v : Int32 × Int32 => gG x 5 0 0 (XW x.dA N ad σ lam ++ tl) 39 [(0, .ref (ad 42)), (2, .ref (kS.1 k)), (3, .int v.1), (4, .int v.2)] []) (fun r1 => r1 = o) (fun v o1 hf1 hK1 => w_X8_is_L39 hc hz σ k hk v.1 v.2 hN (K := Sum.elim (fun v : Int32 × Int32 => gG x 5 0 0 (XW x.dA N ad σ lam ++ tl) 39 [(0, .ref (ad 42)), (2, .ref (kS.1 k)), (3, .int v.1), (4, .int v.2)] []) (fun r1 => r1 = o)) hf1 hK1 (fun v hv => hv) (fun r1 h => by
        have h : r1 = o := h
        subst h
        exact g_iret hc hR dX8_is_89)) gFU (b, 0) o hr rfl
    have no : (oB (f_X8_is_b39 σ k 0 0) fun r => oC (isB r) (some r)) = some o → gG x 5 0 0 (XW x.dA N ad σ lam ++ tl) 34 [(2, .ref (kS.1 k)), (0, .ref (ad 42)), (1, .int (nI k))] [] := fun h => g_iconst (v := 0) hc dX8_is_34 (by decide) (fin 0 h)
    refine g_icmp_ne (tgt := 34) hc dX8_is_11 (by decide) (fun h2 => no (oF h2 hf)) (fun h2 => ?_)
    have hf := oT h2 hf
    refine g_aload_n hc dX8_is_14 rfl 1 rfl ?_
    refine g_get (v := .int (σ 42 3)) hc in_X8 (XW_at (k := 42) (Nat.lt_of_lt_of_le (by decide) hN)) rfl 3 (by decide) q380 rfl dX8_is_15 ?_
    refine g_aload_n hc dX8_is_18 rfl 1 rfl ?_
    refine g_get (v := .int (σ 42 4)) hc in_X8 (XW_at (k := 42) (Nat.lt_of_lt_of_le (by decide) hN)) rfl 4 (by decide) q381 rfl dX8_is_19 ?_
    refine g_isub hc dX8_is_22 ?_
    refine g_aload_n hc dX8_is_23 rfl 0 rfl ?_
    refine g_callKi hc hz hk [] [.int ((σ 42 3) - (σ 42 4))] (c_J2_length hk) (lw_V q425 q426 q427 q72 q428) rfl ⟨rfl, by decide, by decide, by decide +kernel⟩ rfl rfl (Nat.le_of_ble_eq_true rfl) gZ dX8_is_24 ?_
    refine g_icmp_ne (tgt := 34) hc dX8_is_27 (by decide) (fun h3 => no (oF h3 hf)) (fun h3 => ?_)
    have hf := oT h3 hf
    refine g_iconst (v := 1) hc dX8_is_30 (by decide) ?_
    refine g_goto (tgt := 35) hc dX8_is_31 (by decide) ?_
    exact fin 1 hf)
theorem hd_X8_is : yX8_is.cls = RX8 ∧ yX8_is.cls ≠ "java/lang/invoke/MethodHandle" ∧ yX8_is.cls ≠ "java/lang/invoke/VarHandle" ∧ (parseMethodDescriptor yX8_is.desc).map (fun d => d.parameters.length) = some 1 := by decide +kernel
end IM
