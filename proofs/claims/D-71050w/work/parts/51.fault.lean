/-! ===== a Fault made: Throwable's, Exception's, Fault's constructors ===== -/
set_option maxRecDepth 100000
variable {kS : gKS}
section FL
variable {x : gX} {own : String} {cc : ByteArray} {nL F L ca sl : Nat} {Φ Φ' : va_W} {pc : Nat} {lv : List (Nat × Value)} {st : List Value}
theorem g_null (hc : gOk x own cc nL F L) (hdg : decode cc pc = .ok (.aconst_null, 1)) (kk : gG x nL ca sl Φ (pc + 1) lv (.null :: st)) : gG x nL ca sl Φ pc lv st :=
  fun H locs ls hP hD hS hl => lv_null hc.ex hc.b hdg (kk H locs ls hP hD hS hl)
theorem g_aload_nN (hc : gOk x own cc nL F L) {i : Nat} {k : Fin 4} (hdg : decode cc pc = .ok (.aload_n k, 1)) (hi : (k : Nat) = i) (j : Nat) (hj : lv[j]? = some (i, .null)) (kk : gG x nL ca sl Φ (pc + 1) lv (.null :: st)) : gG x nL ca sl Φ pc lv st :=
  fun H locs ls hP hD hS hl => lv_aload_nN hc.ex hc.b hdg hi (lv_at hl j hj) (kk H locs ls hP hD hS hl)
theorem g_getsq (hc : gOk x own cc nL F L) {C n d : String} {idx : Nat} (hZ : vx_Zq C n d x.A x.s x.s.heap) (hlink : Cond.fieldLink own idx C n d ∈ lw_all) (hdg : decode cc pc = .ok (.getstatic idx, 3)) (kk : ∀ v : Value, (v = .null ∨ ∃ t, v = .ref t) → gG x nL ca sl Φ (pc + 3) lv (v :: st)) : gG x nL ca sl Φ pc lv st := by
  intro H locs ls hP hD hS hl
  rcases hZ.1 with h | ⟨t, h⟩
  · exact va_gets hc.ex hc.b h hS hc.ow (hc.ts _ hlink) (fun _ h => h) hdg (kk _ (Or.inl rfl) H locs ls hP hD hS hl)
  · exact va_gets hc.ex hc.b h hS hc.ow (hc.ts _ hlink) (fun _ h => h) hdg (kk _ (Or.inr ⟨t, rfl⟩) H locs ls hP hD hS hl)
theorem g_callTI (hc : gOk x own cc nL F L) (hz : gZs kS x.A x.s x.s.heap) {y : MethodName} {bytes : ByteArray} {maxL idx n b mc ms : Nat} {rm : Room} {ret : va_W → Prop} {thr : Int32 × Int32 × va_W → Prop} (As rest : List Value) (hM : gTv kS x.l x.D x.dA Φ (.ref b :: As) ret thr y (ws_ y bytes maxL none) rm mc ms) (hlink : Cond.methodLink own idx y ∈ lw_all) (hcode : Cond.code y bytes maxL none ∈ lw_all) (hini : Cond.initialized y.cls ∈ lw_all) (hin : Cond.instanceMethod y ∈ lw_all) (hrm : gRmT rm mc ms maxL F L = true) (hd : y.name = "<init>" ∧ y.cls ≠ "java/lang/invoke/MethodHandle" ∧ y.cls ≠ "java/lang/invoke/VarHandle" ∧ (parseMethodDescriptor y.desc).map (fun d => d.parameters.length) = some n) (hn : As.length = n) (hst : st = As.reverse ++ .ref b :: rest) (hrest : (rest.map fun v => v.category).sum ≤ 8) (hcs : ca + mc ≤ x.R.cells ∧ sl + ms ≤ x.R.slots) (hdg : decode cc pc = .ok (.invokespecial idx, 3))
    (kx : ∀ c pl Φ1 q, thr (c, pl, Φ1) → gT x nL (ca + mc) (sl + ms) (Φ1 ++ fltC q c pl) pc lv q) (kk : ∀ Φ1, ret Φ1 → gG x nL (ca + mc) (sl + ms) Φ1 (pc + 3) lv rest) : gG x nL ca sl Φ pc lv st := by
  intro H locs ls hP hD hS hl
  subst hst
  obtain ⟨e1, e2, e3, e4⟩ := gRmT_spec hrm
  have hf := gFree hc hD hS
  refine vx_callv (vx_runI (As := As) (rest := rest) ⟨hc.ex, hc.b, hc.ml, hc.ow, hc.ts⟩ (hM H.size) (cwI n hc.ts (lw_meth hcode) rfl e1 e2 (hc.ts _ hini) (hc.ts _ hlink) (hc.ts _ hin) hd.1 hd.2 ⟨Nat.le_trans e3 hc.fr, Nat.le_trans e4 hc.lo⟩) (gPreTS hc hz hP hD hS) rfl hn hl.1 rfl (lv_room (m := x.m) (pc := pc) (ls := ls) (rest := rest) hrest) hdg hcs) hS (fun q _ h => hf q h) hf (fun q _ h => hf q h) ?_ ?_
  · rintro E ce q9 _ t H1 locs1 ht hvm _ ⟨c, pl, Φ1, h1, rfl, h2, h3⟩ hsz hk hS1 hcell hv hcls
    exact kx c pl Φ1 q9 h1 H1 locs1 ls rest (ht ▸ h2) (h3.weaken (fun _ q _ h => hf q.1 h)) hS1 hl
  · rintro Φ1 t H1 locs1 ht hvm hp hB hsz hk hS1
    exact kk Φ1 hp H1 locs1 ls (ht ▸ hB.1) (hB.2.weaken (fun _ q _ h => hf q.1 h)) hS1 hl
end FL
section FM9
variable {l : Launch} {D : va_G} {dA : Nat → ClassId} {Φ : va_W}
theorem fltS (tl : va_W) {a : Nat} {fs fs' : List Value} {v : Value} {k : Nat} (h : fs.set k v = fs') : (tl ++ [(a, (.inr (9, fs) : va_E))]).set tl.length (a, .inr (9, fs.set k v)) = tl ++ [(a, .inr (9, fs'))] := by
  subst h
  exact gSet 0 rfl
theorem fltA (tl : va_W) {a : Nat} {fs : List Value} : (tl ++ [(a, (.inr (9, fs) : va_E))])[tl.length]? = some (a, .inr (9, fs)) := gAt 0 rfl
theorem c_J0_init_2 (a : Nat) : gTv kS l D dA (Φ ++ fltC a 0 0) [.ref a, .null, .null, .int 0, .int 0] (fun Φ1 => Φ1 = Φ ++ fltC a 0 0) (fun _ => False) yJ0_init_2 (ws_ yJ0_init_2 cJ0_init_2 5 none) { frames := 1, cells := 0, slots := 0, locals := 12 } 0 0 :=
  g_startTv (own := RJ0) (by decide) rfl (Nat.le_of_ble_eq_true rfl) (fun x e hc hz hnm hRc hR hX => by
    refine g_aload_n hc dJ0_init_2_0 rfl 0 rfl ?_
    refine g_objInit hc q315 (by decide) (Nat.le_of_ble_eq_true rfl) dJ0_init_2_1 ?_
    refine g_aload_n hc dJ0_init_2_4 rfl 0 rfl ?_
    refine g_aload_n hc dJ0_init_2_5 rfl 0 rfl ?_
    refine g_put hc in_X9 tyX9_ok nmX9 (fltA Φ) rfl 0 (by decide) q361 rfl rfl rfl (Nat.le_of_ble_eq_true rfl) (fltS Φ (fs' := [.ref a, .null, .null, .null, .null, .int 0, .int 0, .int 0]) rfl) dJ0_init_2_6 ?_
    refine g_aload_n hc dJ0_init_2_9 rfl 0 rfl ?_
    refine g_getsq hc hz.1.1 q316 dJ0_init_2_10 (fun v1 hv1 => ?_)
    have f1 : narrow (tyX9 1) v1 = v1 ∧ fits (tyX9 1) v1 = true := by
      rcases hv1 with rfl | ⟨t, rfl⟩ <;> exact ⟨rfl, rfl⟩
    refine g_put hc in_X9 tyX9_ok nmX9 (fltA Φ) rfl 1 (by decide) q362 rfl f1.1 f1.2 (Nat.le_of_ble_eq_true rfl) (fltS Φ (fs' := [.ref a, v1, .null, .null, .null, .int 0, .int 0, .int 0]) rfl) dJ0_init_2_13 ?_
    refine g_aload_n hc dJ0_init_2_16 rfl 0 rfl ?_
    refine g_getsq hc hz.1.2 q318 dJ0_init_2_17 (fun v2 hv2 => ?_)
    have f2 : narrow (tyX9 2) v2 = v2 ∧ fits (tyX9 2) v2 = true := by
      rcases hv2 with rfl | ⟨t, rfl⟩ <;> exact ⟨rfl, rfl⟩
    refine g_put hc in_X9 tyX9_ok nmX9 (fltA Φ) rfl 2 (by decide) q363 rfl f2.1 f2.2 (Nat.le_of_ble_eq_true rfl) (fltS Φ (fs' := [.ref a, v1, v2, .null, .null, .int 0, .int 0, .int 0]) rfl) dJ0_init_2_20 ?_
    refine g_iload hc dJ0_init_2_23 4 rfl ?_
    refine g_if_eq (tgt := 36) hc dJ0_init_2_25 (by decide) (fun _ => ?_) (fun h => absurd rfl h)
    refine g_aload_n hc dJ0_init_2_36 rfl 0 rfl ?_
    refine g_null hc dJ0_init_2_37 ?_
    refine g_put hc in_X9 tyX9_ok nmX9 (fltA Φ) rfl 1 (by decide) q362 rfl rfl rfl (Nat.le_of_ble_eq_true rfl) (fltS Φ (fs' := [.ref a, .null, v2, .null, .null, .int 0, .int 0, .int 0]) rfl) dJ0_init_2_38 ?_
    refine g_aload_n hc dJ0_init_2_41 rfl 0 rfl ?_
    refine g_aload_nN hc dJ0_init_2_42 rfl 1 rfl ?_
    refine g_put hc in_X9 tyX9_ok nmX9 (fltA Φ) rfl 3 (by decide) q360 rfl rfl rfl (Nat.le_of_ble_eq_true rfl) (fltS Φ (fs' := [.ref a, .null, v2, .null, .null, .int 0, .int 0, .int 0]) rfl) dJ0_init_2_43 ?_
    refine g_aload_n hc dJ0_init_2_46 rfl 0 rfl ?_
    refine g_aload_nN hc dJ0_init_2_47 rfl 2 rfl ?_
    refine g_put hc in_X9 tyX9_ok nmX9 (fltA Φ) rfl 0 (by decide) q361 rfl rfl rfl (Nat.le_of_ble_eq_true rfl) (fltS Φ (fs' := [.null, .null, v2, .null, .null, .int 0, .int 0, .int 0]) rfl) dJ0_init_2_48 ?_
    refine g_iload_n hc dJ0_init_2_51 rfl 3 rfl ?_
    refine g_if_ne (tgt := 60) hc dJ0_init_2_52 (by decide) (fun h => absurd rfl h) (fun _ => ?_)
    refine g_aload_n hc dJ0_init_2_55 rfl 0 rfl ?_
    refine g_null hc dJ0_init_2_56 ?_
    refine g_put hc in_X9 tyX9_ok nmX9 (fltA Φ) rfl 2 (by decide) q363 rfl rfl rfl (Nat.le_of_ble_eq_true rfl) (fltS Φ (fs' := [.null, .null, .null, .null, .null, .int 0, .int 0, .int 0]) rfl) dJ0_init_2_57 ?_
    exact g_vret hc (hR _ rfl) dJ0_init_2_60)
theorem c_J1_init (a : Nat) : gTv kS l D dA (Φ ++ fltC a 0 0) [.ref a, .null, .null, .int 0, .int 0] (fun Φ1 => Φ1 = Φ ++ fltC a 0 0) (fun _ => False) yJ1_init (ws_ yJ1_init cJ1_init 5 none) { frames := 2, cells := 0, slots := 0, locals := 36 } 0 0 :=
  g_startTv (own := RJ1) (by decide) rfl (Nat.le_of_ble_eq_true rfl) (fun x e hc hz hnm hRc hR hX => by
    subst e
    refine g_aload_n hc dJ1_init_0 rfl 0 rfl ?_
    refine g_aload_nN hc dJ1_init_1 rfl 1 rfl ?_
    refine g_aload_nN hc dJ1_init_2 rfl 2 rfl ?_
    refine g_iload_n hc dJ1_init_3 rfl 3 rfl ?_
    refine g_iload hc dJ1_init_4 4 rfl ?_
    refine g_callTI hc hz [.null, .null, .int 0, .int 0] [] (c_J0_init_2 (l := x.l) (D := x.D) (dA := x.dA) (Φ := Φ) a) q352 q354 q69 q353 rfl ⟨rfl, by decide, by decide, by decide +kernel⟩ rfl rfl (by decide) ⟨hRc.1, hRc.2⟩ dJ1_init_6 (fun _ _ _ _ h => h.elim) (fun Φ1 h1 => ?_)
    subst h1
    exact g_vret hc (hR _ rfl) dJ1_init_9)
theorem c_X9_init (a : Nat) (c pl : Int32) : gTv kS l D dA (Φ ++ fltC a 0 0) [.ref a, .int c, .int pl] (fun Φ1 => Φ1 = Φ ++ fltC a c pl) (fun _ => False) yX9_init (ws_ yX9_init cX9_init 3 none) { frames := 3, cells := 0, slots := 0, locals := 60 } 0 0 :=
  g_startTv (own := RX9) (by decide) rfl (Nat.le_of_ble_eq_true rfl) (fun x e hc hz hnm hRc hR hX => by
    subst e
    refine g_aload_n hc dX9_init_0 rfl 0 rfl ?_
    refine g_null hc dX9_init_1 ?_
    refine g_null hc dX9_init_2 ?_
    refine g_iconst (v := 0) hc dX9_init_3 (by decide) ?_
    refine g_iconst (v := 0) hc dX9_init_4 (by decide) ?_
    refine g_callTI hc hz [.null, .null, .int 0, .int 0] [] (c_J1_init (l := x.l) (D := x.D) (dA := x.dA) (Φ := Φ) a) q349 q351 q70 q350 rfl ⟨rfl, by decide, by decide, by decide +kernel⟩ rfl rfl (by decide) ⟨hRc.1, hRc.2⟩ dX9_init_5 (fun _ _ _ _ h => h.elim) (fun Φ1 h1 => ?_)
    subst h1
    refine g_aload_n hc dX9_init_8 rfl 0 rfl ?_
    refine g_iload_n hc dX9_init_9 rfl 1 rfl ?_
    refine g_putF hc hnm in_X9 tyX9_ok nmX9 (fltA Φ) rfl 6 (by decide) q355 rfl rfl rfl rfl (Nat.le_of_ble_eq_true rfl) (fltS Φ (fs' := [.null, .null, .null, .null, .null, .int 0, .int c, .int 0]) rfl) dX9_init_10 ?_
    refine g_aload_n hc dX9_init_13 rfl 0 rfl ?_
    refine g_iload_n hc dX9_init_14 rfl 2 rfl ?_
    refine g_putF hc hnm in_X9 tyX9_ok nmX9 (fltA Φ) rfl 7 (by decide) q357 rfl rfl rfl rfl (Nat.le_of_ble_eq_true rfl) (fltS Φ (fs' := [.null, .null, .null, .null, .null, .int 0, .int c, .int pl]) rfl) dX9_init_15 ?_
    exact g_vret hc (hR _ rfl) dX9_init_18)
end FM9
