/-! ===== takenOf(): the machine's own throws leave a method ===== -/
set_option maxRecDepth 100000
/-- what such a throw leaves -/
def gMX (D : va_G) (A : Nat → Prop) (thr : String × va_W → Prop) : String → Addr → State → State → Prop := vx_X (S := Unit) (fun _ => True) (fun E _ _ t => ∃ Φ', thr (E, Φ') ∧ va_P D gCL Φ' t.heap ∧ va_D A Φ') A
def gMi (kS : gKS) (l : Launch) (D : va_G) (dA : Nat → ClassId) (Φ : va_W) (As : List Value) (ret : Int32 × va_W → Prop) (thr : String × va_W → Prop) (y : MethodName) (ws : List Cond) (rm : Room) (mc ms : Nat) : Prop := ∀ sz : Nat, vx_Met l y ws rm (va_Pc As (gPreT kS D dA Φ sz)) (va_Qi (fun (r : Int32) (Φ' : va_W) => ret (r, Φ')) (fun Φ' t => va_P D gCL Φ' t.heap ∧ va_D (va_A Φ sz) Φ') (va_A Φ sz)) (gMX D (va_A Φ sz) thr) mc ms (va_A Φ sz)
variable {kS : gKS}
section GMI
variable {x : gX} {own : String} {cc : ByteArray} {nL F L ca sl : Nat} {Φ Φ' : va_W} {pc : Nat} {lv : List (Nat × Value)} {st : List Value}
theorem gU_widen {E : String} {ca' sl' : Nat} (h1 : ca ≤ ca') (h2 : sl ≤ sl') (kk : gU x nL ca' sl' Φ pc lv E) : gU x nL ca sl Φ pc lv E :=
  fun H locs ls rest q ce hP hD hS hl g1 g2 g3 T hT X => kk H locs ls rest q ce hP hD hS hl g1 g2 g3 T hT (stand_widen X h1 h2)
theorem g_callMi (hc : gOk x own cc nL F L) (hz : gZs kS x.A x.s x.s.heap) {y : MethodName} {bytes : ByteArray} {maxL idx n mc ms : Nat} {ret0 : Option FieldType} {rm : Room} {ret : Int32 × va_W → Prop} {thr : String × va_W → Prop} {C : String} {T : u_T} {N ci q0 b : Nat} {fs : List Value} (As rest : List Value) (hM : gMi kS x.l x.D x.dA Φ (.ref b :: As) ret thr y (ws_ y bytes maxL ret0) rm mc ms) (he : Φ[q0]? = some (b, .inr (ci, fs))) (hcl : gCL[ci]? = some (C, T, N)) (hG : GoodIn lw_all (wsV own idx C y (ws_ y bytes maxL ret0))) (hrm : gRmT rm mc ms maxL F L = true) (hd : y.cls = C ∧ y.cls ≠ "java/lang/invoke/MethodHandle" ∧ y.cls ≠ "java/lang/invoke/VarHandle" ∧ (parseMethodDescriptor y.desc).map (fun d => d.parameters.length) = some n) (hn : As.length = n) (hst : st = As.reverse ++ .ref b :: rest) (hrest : (rest.map fun v => v.category).sum ≤ 8) (hcs : ca + mc ≤ x.R.cells ∧ sl + ms ≤ x.R.slots) (hdg : decode cc pc = .ok (.invokevirtual idx, 3))
    (kx : ∀ E Φ1, thr (E, Φ1) → gU x nL (ca + mc) (sl + ms) Φ1 pc lv E) (kk : ∀ r Φ1, ret (r, Φ1) → gG x nL (ca + mc) (sl + ms) Φ1 (pc + 3) lv (.int r :: rest)) : gG x nL ca sl Φ pc lv st := by
  intro H locs ls hP hD hS hl
  subst hst
  obtain ⟨e1, e2, e3, e4⟩ := gRmT_spec hrm
  have hf := gFree hc hD hS
  refine vx_calli (vx_runV (As := As) (rest := rest) ⟨hc.ex, hc.b, hc.ml, hc.ow, hc.ts⟩ (hM H.size) (cwV n hc.ts hG rfl e1 e2 hd ⟨Nat.le_trans e3 hc.fr, Nat.le_trans e4 hc.lo⟩) (gPreTV hc hz hP hD hS he hcl) rfl hn hl.1 rfl (lv_room (m := x.m) (pc := pc) (ls := ls) (rest := rest) hrest) hdg hcs) hS (fun q _ h => hf q h) hf (fun q _ h => hf q h) ?_ ?_
  · rintro E ce q9 _ t H1 locs1 ht hvm _ ⟨Φ1, h1, h2, h3⟩ hsz hk hS1 hcell hv hcls
    exact kx E Φ1 h1 H1 locs1 ls rest q9 ce (ht ▸ h2) (h3.weaken (fun _ q _ h => hf q.1 h)) hS1 hl hcell hv hcls
  · rintro r Φ1 t H1 locs1 ht hvm hp hB hsz hk hS1
    exact kk r Φ1 hp H1 locs1 ls (ht ▸ hB.1) (hB.2.weaken (fun _ q _ h => hf q.1 h)) hS1 hl
end GMI
theorem gU_out {p : Program} {l : Launch} {e : Env} {R : Room} {s : State} {m : MethodId} {args : Array Value} {below : List Frame} {meth : Method} {c : Code} {D : va_G} {dA : Nat → ClassId} {A : Nat → Prop} {Qc : Array Value → State → Outcome → State → Prop} {thr : String × va_W → Prop} {mc ms nL : Nat} (hno : ∀ x ∈ c.exceptionTable.toList, False) (hlk : meth.locks = false) {E : String} {Φ1 : va_W} (h1 : thr (E, Φ1)) (pc : Nat) (lv : List (Nat × Value)) : gU (p, l, e, R, s, m, args, below, meth, c, vx_MQ below Qc (gMX D A thr) args s mc ms A, A, D, dA) nL mc ms Φ1 pc lv E := by
  intro H locs ls rest q ce hP hD hS hl g1 g2 g3
  exact vx_out (fun z hz => (hno z hz).elim) hlk g1 g2 g3 (fun t ht _ => ⟨(), trivial, ⟨Φ1, h1, by rw [ht]; exact hP, hD⟩, hS.F ht⟩) hS.2.2 (Nat.le_refl _) (Nat.le_refl _)
section GSt5
variable {l : Launch} {D : va_G} {dA : Nat → ClassId} {Φ : va_W} {As : List Value} {y : MethodName} {cc : ByteArray} {maxL : Nat} {rm : Room} {own : String} {mc ms : Nat}
theorem g_startMi {ret : Int32 × va_W → Prop} {thr : String × va_W → Prop} (hy : plainName y.cls = true) (hown : y.cls = own) (hlen : (lg_sl As).length ≤ maxL) (body : ∀ x : gX, x.dA = dA → x.l = l → gOk x own cc maxL rm.frames rm.locals → gZs kS x.A x.s x.s.heap → rm.cells ≤ x.R.cells ∧ rm.slots ≤ x.R.slots → (∀ r Φ1, ret (r, Φ1) → gRi x mc ms Φ1 r) → (∀ E Φ1 pc lv, thr (E, Φ1) → gU x maxL mc ms Φ1 pc lv E) → gG x maxL 0 0 Φ 0 (lv_args 0 As) []) : gMi kS l D dA Φ As ret thr y (ws_ y cc maxL (some .int)) rm mc ms := by
  intro sz
  refine vx_ofW (cc := cc) (maxL := maxL) (ret := some .int) hy rfl ?_
  intro p e s m args below meth c s₁ B hml hno hv
  obtain ⟨rfl, ⟨hsz, hP, hK, hD0⟩, hz⟩ := hv
  subst hsz
  have hts := atoms_spec (ws := ws_ y cc maxL (some .int)) B.pre
  have hts : ∀ w ∈ lw_all, w.before As.toArray s = true := fun w h => hts w (List.mem_cons_of_mem _ h)
  have ho : s.vm.findClass own = some m.cls := by rw [← hown]; exact findClass_of_methodNamed B.named
  rw [lg_entry_eq]
  exact body (p, l, e, (headSpec (ws_ y cc maxL (some .int)) rm).room, s, m, As.toArray, below, meth, c, vx_MQ below (va_Qi (fun (r : Int32) (Φ' : va_W) => ret (r, Φ')) (fun Φ' t => va_P D gCL Φ' t.heap ∧ va_D (va_A Φ s.heap.size) Φ') (va_A Φ s.heap.size)) (gMX D (va_A Φ s.heap.size) thr) As.toArray s mc ms (va_A Φ s.heap.size), va_A Φ s.heap.size, D, dA) rfl rfl
    ⟨B.exec, B.bytes, hml, ho, hts, hK, Nat.le_refl _, Nat.le_refl _, fun q h => Or.inr h, B.notSynchronized⟩ hz
    ⟨Nat.le_refl _, Nat.le_refl _⟩
    (fun r Φ1 h1 H locs ls pc hP hD hS hd => vx_ret (W.iret (v := r) B.exec rfl B.returns (fun t ht hW => ⟨⟨r, Φ1, rfl, h1, by rw [ht]; exact hP, hD⟩, hS.F ht⟩) hS.2.2 hd B.notSynchronized))
    (fun E Φ1 pc lv h1 => gU_out hno B.notSynchronized h1 pc lv)
    s.heap [] _ hP hD0.self va_S.rf (lv_entry As hlen)
end GSt5
theorem hd_X0_takenOf : yX0_takenOf.cls = RX0 ∧ yX0_takenOf.cls ≠ "java/lang/invoke/MethodHandle" ∧ yX0_takenOf.cls ≠ "java/lang/invoke/VarHandle" ∧ (parseMethodDescriptor yX0_takenOf.desc).map (fun d => d.parameters.length) = some 3 := by decide +kernel
theorem c_X0_takenOf {l : Launch} {D : va_G} {dA : Nat → ClassId} {ad : Nat → Nat} {tl : va_W} {lam : Nat → Int64} {σ : Nat → Nat → Int32} {r : Nat → Option Nat} {J : Nat → Nat} {sh : gSh} {k lane i : Int32} (hl0 : l.stackTraces = false) (hk4 : inb k 4 = true) (hW : RwAt dA r tl J sh) : gMi kS l D dA (XW dA 36 ad σ lam ++ (SHc ad r ++ tl)) [.ref (ad 0), .int k, .int lane, .int i] (fun t => tkF (sh k.toNatClampNeg) lane i = .inr t.1 ∧ t.2 = XW dA 36 ad σ lam ++ (SHc ad r ++ tl)) (fun t => tkF (sh k.toNatClampNeg) lane i = .inl t.1 ∧ t.2 = XW dA 36 ad σ lam ++ (SHc ad r ++ tl)) yX0_takenOf (ws_ yX0_takenOf cX0_takenOf 5 (some .int)) ({ frames := 8, cells := 3, slots := 610, locals := 10300 } : Room) 3 610 :=
  g_startMi (mc := 3) (ms := 610) (own := RX0) (by decide) rfl (Nat.le_of_ble_eq_true rfl) (fun x e el hc hz hRc hR hU => by
    subst e
    have hl1 : x.l.stackTraces = false := by rw [el]; exact hl0
    have hkk : k.toNatClampNeg < 4 := by
      have := inb_in hk4
      unfold vp_in at this
      omega
    refine g_aload_n hc dX0_takenOf_0 rfl 0 rfl ?_
    refine g_get (v := .ref (ad 11)) hc in_X0 (XW_at (k := 0) (by decide)) rfl 21 (by decide) q206 rfl dX0_takenOf_1 ?_
    refine g_iload_n hc dX0_takenOf_4 rfl 1 rfl ?_
    refine g_aald (v := ad (43 + k.toNatClampNeg)) hc 6 (XW_at (k := 11) (by decide)) rfl hk4 rfl dX0_takenOf_5 ?_
    refine g_getN (v := va_rf (r k.toNatClampNeg)) hc in_X6 (SH_at hkk) rfl 0 (by decide) 15 rfl rfl dX0_takenOf_6 ?_
    rcases hW.1 _ hkk with ⟨hs, hr⟩ | ⟨q, c, n, f, hs, hr, ht, hty, hn⟩
    · rw [hr]
      have thr : ∀ (pc : Nat) (lv : List (Nat × Value)), gU x 5 1 8 (XW x.dA 36 ad σ lam ++ (SHc ad r ++ tl)) pc lv "java/lang/NullPointerException" := fun pc lv => gU_widen (ca' := 3) (sl' := 610) (Nat.le_of_ble_eq_true rfl) (Nat.le_of_ble_eq_true rfl) (hU _ _ pc lv ⟨by rw [hs]; rfl, rfl⟩)
      refine g_astoreN (lv' := [(4, .null), (0, .ref (ad 0)), (1, .int k), (2, .int lane), (3, .int i)]) hc dX0_takenOf_9 (by decide) rfl ?_
      refine g_iload_n hc dX0_takenOf_11 rfl 3 rfl ?_
      refine g_if_ne (tgt := 25) hc dX0_takenOf_12 (by decide) (fun g1 => ?_) (fun g1 => ?_)
      · refine g_iload_n hc dX0_takenOf_25 rfl 3 rfl ?_
        refine g_iconst (v := 1) hc dX0_takenOf_26 (by decide) ?_
        refine g_icmp_ne (tgt := 40) hc dX0_takenOf_27 (by decide) (fun g2 => ?_) (fun g2 => ?_)
        · refine g_aloadN hc dX0_takenOf_40 0 rfl ?_
          refine g_castN hc dX0_takenOf_42 ?_
          refine g_iload_n hc dX0_takenOf_45 rfl 4 rfl ?_
          exact g_ialoadN hc hl1 hz (Nat.le_of_ble_eq_true rfl) (Nat.le_of_ble_eq_true rfl) ⟨Nat.le_trans (Nat.le_of_ble_eq_true rfl) hRc.1, Nat.le_trans (Nat.le_of_ble_eq_true rfl) hRc.2⟩ dX0_takenOf_46 (thr _ _)
        · refine g_aloadN hc dX0_takenOf_30 0 rfl ?_
          refine g_castN hc dX0_takenOf_32 ?_
          refine g_iload_n hc dX0_takenOf_35 rfl 4 rfl ?_
          exact g_saloadN hc hl1 hz (Nat.le_of_ble_eq_true rfl) (Nat.le_of_ble_eq_true rfl) ⟨Nat.le_trans (Nat.le_of_ble_eq_true rfl) hRc.1, Nat.le_trans (Nat.le_of_ble_eq_true rfl) hRc.2⟩ dX0_takenOf_36 (thr _ _)
      · refine g_aloadN hc dX0_takenOf_15 0 rfl ?_
        refine g_castN hc dX0_takenOf_17 ?_
        refine g_iload_n hc dX0_takenOf_20 rfl 4 rfl ?_
        exact g_baloadN hc hl1 hz (Nat.le_of_ble_eq_true rfl) (Nat.le_of_ble_eq_true rfl) ⟨Nat.le_trans (Nat.le_of_ble_eq_true rfl) hRc.1, Nat.le_trans (Nat.le_of_ble_eq_true rfl) hRc.2⟩ dX0_takenOf_21 (thr _ _)
    · rw [hr]
      have he : (XW x.dA 36 ad σ lam ++ (SHc ad r ++ tl))[40 + J k.toNatClampNeg]? = some (q, .inl (x.dA c, n, .inl f)) := (SH_tl _).trans ht
      have cce : ∀ (pc : Nat) (lv : List (Nat × Value)), ¬ laC lane = c → gU x 5 3 610 (XW x.dA 36 ad σ lam ++ (SHc ad r ++ tl)) pc lv "java/lang/ClassCastException" := fun pc lv h => hU _ _ pc lv ⟨by rw [hs]; unfold tkF; dsimp only; rw [if_neg h], rfl⟩
      have aio : ∀ (pc : Nat) (lv : List (Nat × Value)), laC lane = c → inb i n = false → gU x 5 3 222 (XW x.dA 36 ad σ lam ++ (SHc ad r ++ tl)) pc lv "java/lang/ArrayIndexOutOfBoundsException" := fun pc lv h h1 => gU_widen (ca' := 3) (sl' := 610) (Nat.le_of_ble_eq_true rfl) (Nat.le_of_ble_eq_true rfl) (hU _ _ pc lv ⟨by rw [hs]; unfold tkF; dsimp only; rw [if_pos h, h1]; rfl, rfl⟩)
      have fin : ∀ lv, laC lane = c → inb i n = true → gG x 5 0 0 (XW x.dA 36 ad σ lam ++ (SHc ad r ++ tl)) 47 lv [.int (f i.toNatClampNeg)] := fun lv h h1 => g_widen (ca' := 3) (sl' := 610) (Nat.le_of_ble_eq_true rfl) (Nat.le_of_ble_eq_true rfl) (g_iret hc (hR _ _ ⟨by rw [hs]; unfold tkF; dsimp only; rw [if_pos h, if_pos h1], rfl⟩) dX0_takenOf_47)
      refine g_astore (lv' := [(4, .ref q), (0, .ref (ad 0)), (1, .int k), (2, .int lane), (3, .int i)]) hc dX0_takenOf_9 (by decide) rfl ?_
      refine g_iload_n hc dX0_takenOf_11 rfl 3 rfl ?_
      refine g_if_ne (tgt := 25) hc dX0_takenOf_12 (by decide) (fun g1 => ?_) (fun g1 => ?_)
      · refine g_iload_n hc dX0_takenOf_25 rfl 3 rfl ?_
        refine g_iconst (v := 1) hc dX0_takenOf_26 (by decide) ?_
        refine g_icmp_ne (tgt := 40) hc dX0_takenOf_27 (by decide) (fun g2 => ?_) (fun g2 => ?_)
        · have hla : laC lane = 1 := by unfold laC; rw [if_neg g1, if_neg g2]
          refine g_aload hc dX0_takenOf_40 0 rfl ?_
          by_cases hlc : c = 1
          · subst hlc
            refine g_castY hc he (Or.inr (Or.inr rfl)) q922 dX0_takenOf_42 ?_
            refine g_iload_n hc dX0_takenOf_45 rfl 4 rfl ?_
            by_cases hib : inb i n = true
            · refine g_iald hc he hib dX0_takenOf_46 ?_
              exact fin _ hla hib
            · have hib := inb_f hib
              exact g_ialdZ hc hl1 hz _ 1 he rfl (by omega) hib (Nat.le_of_ble_eq_true rfl) (Nat.le_of_ble_eq_true rfl) ⟨Nat.le_trans (Nat.le_of_ble_eq_true rfl) hRc.1, Nat.le_trans (Nat.le_of_ble_eq_true rfl) hRc.2⟩ dX0_takenOf_46 (aio _ _ hla hib)
          · exact g_castZ (c' := 1) hc hl1 hz he hty (Or.inr (Or.inr rfl)) hlc q922 (Nat.le_of_ble_eq_true rfl) (Nat.le_of_ble_eq_true rfl) ⟨Nat.le_trans (Nat.le_of_ble_eq_true rfl) hRc.1, Nat.le_trans (Nat.le_of_ble_eq_true rfl) hRc.2⟩ dX0_takenOf_42 (cce _ _ (fun h => hlc (h.symm.trans hla)))
        · have hla : laC lane = 3 := by unfold laC; rw [if_neg g1, if_pos g2]
          refine g_aload hc dX0_takenOf_30 0 rfl ?_
          by_cases hlc : c = 3
          · subst hlc
            refine g_castY hc he (Or.inr (Or.inl rfl)) q921 dX0_takenOf_32 ?_
            refine g_iload_n hc dX0_takenOf_35 rfl 4 rfl ?_
            by_cases hib : inb i n = true
            · refine g_saldY hc he hib dX0_takenOf_36 ?_
              refine g_goto (tgt := 47) hc dX0_takenOf_37 (by decide) ?_
              exact fin _ hla hib
            · have hib := inb_f hib
              exact g_saldZ hc hl1 hz _ 3 he rfl (by omega) hib (Nat.le_of_ble_eq_true rfl) (Nat.le_of_ble_eq_true rfl) ⟨Nat.le_trans (Nat.le_of_ble_eq_true rfl) hRc.1, Nat.le_trans (Nat.le_of_ble_eq_true rfl) hRc.2⟩ dX0_takenOf_36 (aio _ _ hla hib)
          · exact g_castZ (c' := 3) hc hl1 hz he hty (Or.inr (Or.inl rfl)) hlc q921 (Nat.le_of_ble_eq_true rfl) (Nat.le_of_ble_eq_true rfl) ⟨Nat.le_trans (Nat.le_of_ble_eq_true rfl) hRc.1, Nat.le_trans (Nat.le_of_ble_eq_true rfl) hRc.2⟩ dX0_takenOf_32 (cce _ _ (fun h => hlc (h.symm.trans hla)))
      · have hla : laC lane = 0 := by unfold laC; rw [if_pos g1]
        refine g_aload hc dX0_takenOf_15 0 rfl ?_
        by_cases hlc : c = 0
        · subst hlc
          refine g_castY hc he (Or.inl rfl) q920 dX0_takenOf_17 ?_
          refine g_iload_n hc dX0_takenOf_20 rfl 4 rfl ?_
          by_cases hib : inb i n = true
          · refine g_bald hc he hib dX0_takenOf_21 ?_
            refine g_goto (tgt := 47) hc dX0_takenOf_22 (by decide) ?_
            exact fin _ hla hib
          · have hib := inb_f hib
            exact g_baldZ hc hl1 hz _ 0 he rfl (by omega) hib (Nat.le_of_ble_eq_true rfl) (Nat.le_of_ble_eq_true rfl) ⟨Nat.le_trans (Nat.le_of_ble_eq_true rfl) hRc.1, Nat.le_trans (Nat.le_of_ble_eq_true rfl) hRc.2⟩ dX0_takenOf_21 (aio _ _ hla hib)
        · exact g_castZ (c' := 0) hc hl1 hz he hty (Or.inl rfl) hlc q920 (Nat.le_of_ble_eq_true rfl) (Nat.le_of_ble_eq_true rfl) ⟨Nat.le_trans (Nat.le_of_ble_eq_true rfl) hRc.1, Nat.le_trans (Nat.le_of_ble_eq_true rfl) hRc.2⟩ dX0_takenOf_17 (cce _ _ (fun h => hlc (h.symm.trans hla))))
theorem tkF_some {b : Option (Nat × Nat × (Nat → Int32))} {lane i v : Int32} (h : tkF b lane i = .inr v) : ∃ c n f, b = some (c, n, f) ∧ laC lane = c ∧ inb i n = true ∧ f i.toNatClampNeg = v := by
  cases b with
  | none => cases h
  | some t =>
    obtain ⟨c, n, f⟩ := t
    unfold tkF at h
    dsimp only at h
    by_cases h1 : laC lane = c
    · rw [if_pos h1] at h
      by_cases h2 : inb i n = true
      · rw [if_pos h2] at h
        exact ⟨c, n, f, rfl, h1, h2, Sum.inr.inj h⟩
      · rw [if_neg h2] at h; cases h
    · rw [if_neg h1] at h; cases h
theorem c_X0_takenOfV {l : Launch} {D : va_G} {dA : Nat → ClassId} {ad : Nat → Nat} {tl : va_W} {lam : Nat → Int64} {σ : Nat → Nat → Int32} {r : Nat → Option Nat} {J : Nat → Nat} {sh : gSh} {k lane i v : Int32} (hk4 : inb k 4 = true) (hW : RwAt dA r tl J sh) (hv : tkF (sh k.toNatClampNeg) lane i = .inr v) : gI l D dA (XW dA 36 ad σ lam ++ (SHc ad r ++ tl)) (XW dA 36 ad σ lam ++ (SHc ad r ++ tl)) [.ref (ad 0), .int k, .int lane, .int i] v yX0_takenOf (ws_ yX0_takenOf cX0_takenOf 5 (some .int)) ({ frames := 0, cells := 0, slots := 0, locals := 0 } : Room) :=
  g_startI (own := RX0) ⟨rfl, rfl⟩ (by decide) rfl (Nat.le_of_ble_eq_true rfl) (fun x e hc hR => by
    subst e
    have hkk : k.toNatClampNeg < 4 := by
      have := inb_in hk4
      unfold vp_in at this
      omega
    obtain ⟨c, n, f, hs, hla, hib, hfv⟩ := tkF_some hv
    subst hfv
    refine g_aload_n hc dX0_takenOf_0 rfl 0 rfl ?_
    refine g_get (v := .ref (ad 11)) hc in_X0 (XW_at (k := 0) (by decide)) rfl 21 (by decide) q206 rfl dX0_takenOf_1 ?_
    refine g_iload_n hc dX0_takenOf_4 rfl 1 rfl ?_
    refine g_aald (v := ad (43 + k.toNatClampNeg)) hc 6 (XW_at (k := 11) (by decide)) rfl hk4 rfl dX0_takenOf_5 ?_
    refine g_getN (v := va_rf (r k.toNatClampNeg)) hc in_X6 (SH_at hkk) rfl 0 (by decide) 15 rfl rfl dX0_takenOf_6 ?_
    rcases hW.1 _ hkk with ⟨hs', hr⟩ | ⟨q, c', n', f', hs', hr, ht, hty, hn⟩
    · rw [hs] at hs'; cases hs'
    rw [hs] at hs'
    cases hs'
    rw [hr]
    have he : (XW x.dA 36 ad σ lam ++ (SHc ad r ++ tl))[40 + J k.toNatClampNeg]? = some (q, .inl (x.dA c, n, .inl f)) := (SH_tl _).trans ht
    refine g_astore (lv' := [(4, .ref q), (0, .ref (ad 0)), (1, .int k), (2, .int lane), (3, .int i)]) hc dX0_takenOf_9 (by decide) rfl ?_
    refine g_iload_n hc dX0_takenOf_11 rfl 3 rfl ?_
    refine g_if_ne (tgt := 25) hc dX0_takenOf_12 (by decide) (fun g1 => ?_) (fun g1 => ?_)
    · refine g_iload_n hc dX0_takenOf_25 rfl 3 rfl ?_
      refine g_iconst (v := 1) hc dX0_takenOf_26 (by decide) ?_
      refine g_icmp_ne (tgt := 40) hc dX0_takenOf_27 (by decide) (fun g2 => ?_) (fun g2 => ?_)
      · have hla2 : laC lane = 1 := by unfold laC; rw [if_neg g1, if_neg g2]
        have hlc : c = 1 := hla.symm.trans hla2
        subst hlc
        refine g_aload hc dX0_takenOf_40 0 rfl ?_
        refine g_castY hc he (Or.inr (Or.inr rfl)) q922 dX0_takenOf_42 ?_
        refine g_iload_n hc dX0_takenOf_45 rfl 4 rfl ?_
        refine g_iald hc he hib dX0_takenOf_46 ?_
        exact g_iret hc hR dX0_takenOf_47
      · have hla2 : laC lane = 3 := by unfold laC; rw [if_neg g1, if_pos g2]
        have hlc : c = 3 := hla.symm.trans hla2
        subst hlc
        refine g_aload hc dX0_takenOf_30 0 rfl ?_
        refine g_castY hc he (Or.inr (Or.inl rfl)) q921 dX0_takenOf_32 ?_
        refine g_iload_n hc dX0_takenOf_35 rfl 4 rfl ?_
        refine g_saldY hc he hib dX0_takenOf_36 ?_
        refine g_goto (tgt := 47) hc dX0_takenOf_37 (by decide) ?_
        exact g_iret hc hR dX0_takenOf_47
    · have hla2 : laC lane = 0 := by unfold laC; rw [if_pos g1]
      have hlc : c = 0 := hla.symm.trans hla2
      subst hlc
      refine g_aload hc dX0_takenOf_15 0 rfl ?_
      refine g_castY hc he (Or.inl rfl) q920 dX0_takenOf_17 ?_
      refine g_iload_n hc dX0_takenOf_20 rfl 4 rfl ?_
      refine g_bald hc he hib dX0_takenOf_21 ?_
      refine g_goto (tgt := 47) hc dX0_takenOf_22 (by decide) ?_
      exact g_iret hc hR dX0_takenOf_47)
