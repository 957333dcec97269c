set_option maxRecDepth 100000
/-! HedgehogLots.in(JJJ)Z -/
def f_X0_in (l0 : Int64) (l2 : Int64) (l4 : Int64) : Option (Int32) :=
  if (lg_cmp l0 l2) < 0 then (some 0) else (if 0 < (lg_cmp l0 l4) then (some 0) else (some 1))
theorem w_X0_in {x : gX} {Φ : va_W}  (hc : gOk x RX0 cX0_in 6 0 0)  (l0 : Int64) (l2 : Int64) (l4 : Int64)  {K : Int32 → Prop} {o : Int32} (hf : f_X0_in l0 l2 l4 = some o) (hK : K o) (hR : ∀ o : Int32, K o → gRz x 0 0 (Φ) o) : gG x 6 0 0 (Φ) 0 [(0, .long l0), (2, .long l2), (4, .long l4)] [] := by
  unfold f_X0_in at hf
  refine g_lload_n hc dX0_in_0 rfl 0 rfl ?_
  refine g_lload_n hc dX0_in_1 rfl 1 rfl ?_
  refine g_lcmp hc dX0_in_2 ?_
  refine g_if_lt (tgt := 17) hc dX0_in_3 (by decide) (fun h1 => ?_) (fun h1 => ?_)
  · have hf := oT h1 hf
    refine g_iconst (v := 0) hc dX0_in_17 (by decide) ?_
    have hz := Option.some.inj hf; subst hz
    exact g_zret hc (hR _ hK) rfl dX0_in_18
  · have hf := oF h1 hf
    refine g_lload_n hc dX0_in_6 rfl 0 rfl ?_
    refine g_lload hc dX0_in_7 2 rfl ?_
    refine g_lcmp hc dX0_in_9 ?_
    refine g_if_gt (tgt := 17) hc dX0_in_10 (by decide) (fun h2 => ?_) (fun h2 => ?_)
    · have hf := oT h2 hf
      refine g_iconst (v := 0) hc dX0_in_17 (by decide) ?_
      have hz := Option.some.inj hf; subst hz
      exact g_zret hc (hR _ hK) rfl dX0_in_18
    · have hf := oF h2 hf
      refine g_iconst (v := 1) hc dX0_in_13 (by decide) ?_
      refine g_goto (tgt := 18) hc dX0_in_14 (by decide) ?_
      have hz := Option.some.inj hf; subst hz
      exact g_zret hc (hR _ hK) rfl dX0_in_18
theorem c_X0_in {l : Launch} {D : va_G} {dA : Nat → ClassId} {Φ : va_W}  {l0 : Int64} {l2 : Int64} {l4 : Int64}  {o : Int32} (hf : f_X0_in l0 l2 l4 = some o) : gI l D dA (Φ) (Φ) [.long l0, .long l2, .long l4] o yX0_in (ws_ yX0_in cX0_in 6 (some .boolean)) ({ frames := 0, cells := 0, slots := 0, locals := 0 } : Room) :=
  g_startZ (own := RX0) ⟨rfl, rfl⟩ (by decide) rfl (Nat.le_of_ble_eq_true rfl) (fun x e hc hR => by
    subst e
    exact w_X0_in hc l0 l2 l4  (K := fun o1 => o1 = o) hf rfl (by rintro _ rfl; exact hR))
theorem hd_X0_in : yX0_in.cls ≠ "java/lang/invoke/MethodHandle" ∧ yX0_in.cls ≠ "java/lang/invoke/VarHandle" ∧ (parseMethodDescriptor yX0_in.desc).map (fun d => d.parameters.length) = some 3 := by decide +kernel
/-! HedgehogLots.has(II)Z -/
def f_X0_has (l0 : Int32) (l1 : Int32) : Option (Int32) :=
  if ((l0 >>> (l1 &&& 31)) &&& 1) = 1 then (some 1) else (some 0)
theorem w_X0_has {x : gX} {Φ : va_W}  (hc : gOk x RX0 cX0_has 2 0 0)  (l0 : Int32) (l1 : Int32)  {K : Int32 → Prop} {o : Int32} (hf : f_X0_has l0 l1 = some o) (hK : K o) (hR : ∀ o : Int32, K o → gRz x 0 0 (Φ) o) : gG x 2 0 0 (Φ) 0 [(0, .int l0), (1, .int l1)] [] := by
  unfold f_X0_has at hf
  refine g_iload_n hc dX0_has_0 rfl 0 rfl ?_
  refine g_iload_n hc dX0_has_1 rfl 1 rfl ?_
  refine g_ishr hc dX0_has_2 ?_
  refine g_iconst (v := 1) hc dX0_has_3 (by decide) ?_
  refine g_iand hc dX0_has_4 ?_
  refine g_iconst (v := 1) hc dX0_has_5 (by decide) ?_
  refine g_icmp_ne (tgt := 13) hc dX0_has_6 (by decide) (fun h1 => ?_) (fun h1 => ?_)
  · have hf := oF h1 hf
    refine g_iconst (v := 0) hc dX0_has_13 (by decide) ?_
    have hz := Option.some.inj hf; subst hz
    exact g_zret hc (hR _ hK) rfl dX0_has_14
  · have hf := oT h1 hf
    refine g_iconst (v := 1) hc dX0_has_9 (by decide) ?_
    refine g_goto (tgt := 14) hc dX0_has_10 (by decide) ?_
    have hz := Option.some.inj hf; subst hz
    exact g_zret hc (hR _ hK) rfl dX0_has_14
theorem c_X0_has {l : Launch} {D : va_G} {dA : Nat → ClassId} {Φ : va_W}  {l0 : Int32} {l1 : Int32}  {o : Int32} (hf : f_X0_has l0 l1 = some o) : gI l D dA (Φ) (Φ) [.int l0, .int l1] o yX0_has (ws_ yX0_has cX0_has 2 (some .boolean)) ({ frames := 0, cells := 0, slots := 0, locals := 0 } : Room) :=
  g_startZ (own := RX0) ⟨rfl, rfl⟩ (by decide) rfl (Nat.le_of_ble_eq_true rfl) (fun x e hc hR => by
    subst e
    exact w_X0_has hc l0 l1  (K := fun o1 => o1 = o) hf rfl (by rintro _ rfl; exact hR))
theorem hd_X0_has : yX0_has.cls ≠ "java/lang/invoke/MethodHandle" ∧ yX0_has.cls ≠ "java/lang/invoke/VarHandle" ∧ (parseMethodDescriptor yX0_has.desc).map (fun d => d.parameters.length) = some 2 := by decide +kernel
/-! HedgehogLots.onSlope(I)I -/
def f_X0_onSlope (l0 : Int32) : Option (Int32) :=
  some (if 0 < (if l0 < 7 then l0 else 7) then (if l0 < 7 then l0 else 7) else 0)
theorem w_X0_onSlope {x : gX} {Φ : va_W}  (hc : gOk x RX0 cX0_onSlope 1 1 32)  (l0 : Int32)  {K : Int32 → Prop} {o : Int32} (hf : f_X0_onSlope l0 = some o) (hK : K o) (hR : ∀ o : Int32, K o → gRi x 0 0 (Φ) o) : gG x 1 0 0 (Φ) 0 [(0, .int l0)] [] := by
  unfold f_X0_onSlope at hf
  refine g_iconst (v := 0) hc dX0_onSlope_0 (by decide) ?_
  refine g_bipush (v := 7) hc dX0_onSlope_1 (by decide) ?_
  refine g_iload_n hc dX0_onSlope_3 rfl 0 rfl ?_
  refine g_min hc q589 q590 q591 (by decide) (Nat.le_of_ble_eq_true rfl) gZ dX0_onSlope_4 ?_
  refine g_max hc q592 q519 q520 (by decide) (Nat.le_of_ble_eq_true rfl) gZ dX0_onSlope_7 ?_
  have hz := Option.some.inj hf; subst hz
  exact g_iret hc (hR _ hK) dX0_onSlope_10
theorem c_X0_onSlope {l : Launch} {D : va_G} {dA : Nat → ClassId} {Φ : va_W}  {l0 : Int32}  {o : Int32} (hf : f_X0_onSlope l0 = some o) : gI l D dA (Φ) (Φ) [.int l0] o yX0_onSlope (ws_ yX0_onSlope cX0_onSlope 1 (some .int)) ({ frames := 1, cells := 0, slots := 0, locals := 32 } : Room) :=
  g_startI (own := RX0) ⟨rfl, rfl⟩ (by decide) rfl (Nat.le_of_ble_eq_true rfl) (fun x e hc hR => by
    subst e
    exact w_X0_onSlope hc l0  (K := fun o1 => o1 = o) hf rfl (by rintro _ rfl; exact hR))
theorem hd_X0_onSlope : yX0_onSlope.cls ≠ "java/lang/invoke/MethodHandle" ∧ yX0_onSlope.cls ≠ "java/lang/invoke/VarHandle" ∧ (parseMethodDescriptor yX0_onSlope.desc).map (fun d => d.parameters.length) = some 1 := by decide +kernel
/-! HedgehogLots.runs(LHedgehogLots$Slope;III)V -/
def f_X0_runs_b275 (σ : (Nat → Nat → Int32)) (u : Nat) (l4 : Int32) (l5 : Int32) (l6 : Int32) (l7 : Int32) (l8 : Int32) : Option ((Int32 × Int32 × Int32 × (Nat → Nat → Int32)) ⊕ ((Nat → Nat → Int32))) :=
  some (.inl (l6, l7, (l8 + 1), σ))
theorem w_X0_runs_b275 {x : gX} {N : Nat} {ad : Nat → Nat} {tl : va_W} {lam : (Nat → Int64)} (hc : gOk x RX0 cX0_runs 13 4 120)  (σ : (Nat → Nat → Int32)) (u : Nat) (l4 : Int32) (l5 : Int32) (l6 : Int32) (l7 : Int32) (l8 : Int32) (hN : 36 ≤ N) (hu : gS u N) {K : (Int32 × Int32 × Int32 × (Nat → Nat → Int32)) ⊕ ((Nat → Nat → Int32)) → Prop} {o : (Int32 × Int32 × Int32 × (Nat → Nat → Int32)) ⊕ ((Nat → Nat → Int32))} (hf : f_X0_runs_b275 σ u l4 l5 l6 l7 l8 = some o) (hK : K o) (hI57 : ∀ v : Int32 × Int32 × Int32 × (Nat → Nat → Int32), K (.inl v) → gG x 13 0 0 (XW x.dA N ad v.2.2.2 lam ++ tl) 57 [(0, .ref (ad 0)), (1, .ref (ad (sb u))), (4, .int l4), (5, .ref (ad (2 + l5.toNatClampNeg))), (6, .int v.1), (7, .int v.2.1), (8, .int v.2.2.1)] []) (hR : ∀ o : (Nat → Nat → Int32), K (.inr (o)) → gRv x 0 0 (XW x.dA N ad o lam ++ tl)) : gG x 13 0 0 (XW x.dA N ad σ lam ++ tl) 275 [(0, .ref (ad 0)), (1, .ref (ad (sb u))), (4, .int l4), (5, .ref (ad (2 + l5.toNatClampNeg))), (6, .int l6), (7, .int l7), (8, .int l8)] [] := by
  unfold f_X0_runs_b275 at hf
  refine g_iinc (v := l8 + 1) (lv' := [(8, .int (l8 + 1)), (0, .ref (ad 0)), (1, .ref (ad (sb u))), (4, .int l4), (5, .ref (ad (2 + l5.toNatClampNeg))), (6, .int l6), (7, .int l7)]) hc dX0_runs_275 (j := 6) rfl rfl (by decide) rfl ?_
  refine g_goto (tgt := 57) hc dX0_runs_278 (by decide) ?_
  have hz := Option.some.inj hf; subst hz
  exact g_lv [1, 2, 3, 4, 5, 6, 0] rfl (hI57 _ hK)
def f_X0_runs_b269 (σ : (Nat → Nat → Int32)) (u : Nat) (l4 : Int32) (l5 : Int32) (l6 : Int32) (l8 : Int32) (k2 : Int32) (k1 : Int32) : Option ((Int32 × Int32 × Int32 × (Nat → Nat → Int32)) ⊕ ((Nat → Nat → Int32))) :=
  oB (f_X0_onSlope (k1 + k2)) fun r2 => f_X0_runs_b275 σ u l4 l5 l6 r2 l8
theorem w_X0_runs_b269 {x : gX} {N : Nat} {ad : Nat → Nat} {tl : va_W} {lam : (Nat → Int64)} (hc : gOk x RX0 cX0_runs 13 4 120)  (σ : (Nat → Nat → Int32)) (u : Nat) (l4 : Int32) (l5 : Int32) (l6 : Int32) (l8 : Int32) (k2 : Int32) (k1 : Int32) (hN : 36 ≤ N) (hu : gS u N) {K : (Int32 × Int32 × Int32 × (Nat → Nat → Int32)) ⊕ ((Nat → Nat → Int32)) → Prop} {o : (Int32 × Int32 × Int32 × (Nat → Nat → Int32)) ⊕ ((Nat → Nat → Int32))} (hf : f_X0_runs_b269 σ u l4 l5 l6 l8 k2 k1 = some o) (hK : K o) (hI57 : ∀ v : Int32 × Int32 × Int32 × (Nat → Nat → Int32), K (.inl v) → gG x 13 0 0 (XW x.dA N ad v.2.2.2 lam ++ tl) 57 [(0, .ref (ad 0)), (1, .ref (ad (sb u))), (4, .int l4), (5, .ref (ad (2 + l5.toNatClampNeg))), (6, .int v.1), (7, .int v.2.1), (8, .int v.2.2.1)] []) (hR : ∀ o : (Nat → Nat → Int32), K (.inr (o)) → gRv x 0 0 (XW x.dA N ad o lam ++ tl)) : gG x 13 0 0 (XW x.dA N ad σ lam ++ tl) 269 [(0, .ref (ad 0)), (1, .ref (ad (sb u))), (4, .int l4), (5, .ref (ad (2 + l5.toNatClampNeg))), (6, .int l6), (8, .int l8)] [.int k2, .int k1] := by
  unfold f_X0_runs_b269 at hf
  refine g_iadd hc dX0_runs_269 ?_
  obtain ⟨r2, h1, hf⟩ := oB_some hf
  refine g_callSi hc [.int (k1 + k2)] [] (c_X0_onSlope  h1) (lw_S q586 q587 q60 q588) rfl hd_X0_onSlope rfl rfl (Nat.le_of_ble_eq_true rfl) gZ dX0_runs_270 ?_
  refine g_istore (lv' := [(7, .int r2), (0, .ref (ad 0)), (1, .ref (ad (sb u))), (4, .int l4), (5, .ref (ad (2 + l5.toNatClampNeg))), (6, .int l6), (8, .int l8)]) hc dX0_runs_273 (by decide) rfl ?_
  exact g_lv [1, 2, 3, 4, 5, 0, 6] rfl (w_X0_runs_b275 hc σ u l4 l5 l6 r2 l8 hN hu (K := K) hf hK hI57 hR)
def f_X0_runs_b237 (σ : (Nat → Nat → Int32)) (u : Nat) (l4 : Int32) (l5 : Int32) (l6 : Int32) (l7 : Int32) (l8 : Int32) (k2 : Int32) : Option ((Int32 × Int32 × Int32 × (Nat → Nat → Int32)) ⊕ ((Nat → Nat → Int32))) :=
  oL (upd2 σ 0 9 k2) fun s1 => oC (inb l5 4) <| oB (f_X0_has l4 l8) fun r5 => if r5 = 0 then (f_X0_runs_b269 s1 u l4 l5 l6 l8 (kTurns l5 l8) l7) else (f_X0_runs_b269 s1 u l4 l5 l6 l8 (-(kTurns l5 l8)) l7)
theorem w_X0_runs_b237 {x : gX} {N : Nat} {ad : Nat → Nat} {tl : va_W} {lam : (Nat → Int64)} (hc : gOk x RX0 cX0_runs 13 4 120)  (σ : (Nat → Nat → Int32)) (u : Nat) (l4 : Int32) (l5 : Int32) (l6 : Int32) (l7 : Int32) (l8 : Int32) (k2 : Int32) (hN : 36 ≤ N) (hu : gS u N) {K : (Int32 × Int32 × Int32 × (Nat → Nat → Int32)) ⊕ ((Nat → Nat → Int32)) → Prop} {o : (Int32 × Int32 × Int32 × (Nat → Nat → Int32)) ⊕ ((Nat → Nat → Int32))} (hf : f_X0_runs_b237 σ u l4 l5 l6 l7 l8 k2 = some o) (hK : K o) (hI57 : ∀ v : Int32 × Int32 × Int32 × (Nat → Nat → Int32), K (.inl v) → gG x 13 0 0 (XW x.dA N ad v.2.2.2 lam ++ tl) 57 [(0, .ref (ad 0)), (1, .ref (ad (sb u))), (4, .int l4), (5, .ref (ad (2 + l5.toNatClampNeg))), (6, .int v.1), (7, .int v.2.1), (8, .int v.2.2.1)] []) (hR : ∀ o : (Nat → Nat → Int32), K (.inr (o)) → gRv x 0 0 (XW x.dA N ad o lam ++ tl)) : gG x 13 0 0 (XW x.dA N ad σ lam ++ tl) 237 [(0, .ref (ad 0)), (1, .ref (ad (sb u))), (4, .int l4), (5, .ref (ad (2 + l5.toNatClampNeg))), (6, .int l6), (7, .int l7), (8, .int l8)] [.int k2, .ref (ad 0)] := by
  unfold f_X0_runs_b237 at hf
  obtain ⟨s1, e2, hf⟩ := oL_some hf
  refine g_put (v := .int k2) hc in_X0 tyX0_ok nmX0 (XW_at (k := 0) (Nat.lt_of_lt_of_le (by decide) hN)) rfl 9 (by decide) q193 rfl rfl rfl (Nat.le_of_ble_eq_true rfl) (XW_set (σ1 := s1) (k := 0) (Nat.lt_of_lt_of_le (by decide) hN) e2 rfl) dX0_runs_237 ?_
  refine g_aload hc dX0_runs_240 3 rfl ?_
  refine g_iload hc dX0_runs_242 6 rfl ?_
  obtain ⟨h3, hf⟩ := oC_some hf
  refine g_turns hc hN h3 [] rfl (Nat.le_of_ble_eq_true rfl) (by decide) gZ dX0_runs_244 ?_
  refine g_istore (lv' := [(12, .int (kTurns l5 l8)), (0, .ref (ad 0)), (1, .ref (ad (sb u))), (4, .int l4), (5, .ref (ad (2 + l5.toNatClampNeg))), (6, .int l6), (7, .int l7), (8, .int l8)]) hc dX0_runs_247 (by decide) rfl ?_
  refine g_iload hc dX0_runs_249 6 rfl ?_
  refine g_iload hc dX0_runs_251 3 rfl ?_
  refine g_iload hc dX0_runs_253 7 rfl ?_
  obtain ⟨r5, h4, hf⟩ := oB_some hf
  refine g_callSi hc [.int l4, .int l8] [.int l7] (c_X0_has  h4) (lw_S q583 q584 q60 q585) rfl hd_X0_has rfl rfl (Nat.le_of_ble_eq_true rfl) gZ dX0_runs_255 ?_
  refine g_if_eq (tgt := 267) hc dX0_runs_258 (by decide) (fun h6 => ?_) (fun h6 => ?_)
  · have hf := oT h6 hf
    refine g_iload hc dX0_runs_267 0 rfl ?_
    exact g_lv [1, 2, 3, 4, 5, 7] rfl (w_X0_runs_b269 hc s1 u l4 l5 l6 l8 (kTurns l5 l8) l7 hN hu (K := K) hf hK hI57 hR)
  · have hf := oF h6 hf
    refine g_iload hc dX0_runs_261 0 rfl ?_
    refine g_ineg hc dX0_runs_263 ?_
    refine g_goto (tgt := 269) hc dX0_runs_264 (by decide) ?_
    exact g_lv [1, 2, 3, 4, 5, 7] rfl (w_X0_runs_b269 hc s1 u l4 l5 l6 l8 (-(kTurns l5 l8)) l7 hN hu (K := K) hf hK hI57 hR)
def f_X0_runs_b221 (σ : (Nat → Nat → Int32)) (u : Nat) (l4 : Int32) (l5 : Int32) (l6 : Int32) (l7 : Int32) (l8 : Int32) (k2 : Int32) : Option ((Int32 × Int32 × Int32 × (Nat → Nat → Int32)) ⊕ ((Nat → Nat → Int32))) :=
  oL (upd2 σ 0 8 k2) fun s1 => if 0 < l6 then (f_X0_runs_b237 s1 u l4 l5 l6 l7 l8 10) else (f_X0_runs_b237 s1 u l4 l5 l6 l7 l8 l8)
theorem w_X0_runs_b221 {x : gX} {N : Nat} {ad : Nat → Nat} {tl : va_W} {lam : (Nat → Int64)} (hc : gOk x RX0 cX0_runs 13 4 120)  (σ : (Nat → Nat → Int32)) (u : Nat) (l4 : Int32) (l5 : Int32) (l6 : Int32) (l7 : Int32) (l8 : Int32) (k2 : Int32) (hN : 36 ≤ N) (hu : gS u N) {K : (Int32 × Int32 × Int32 × (Nat → Nat → Int32)) ⊕ ((Nat → Nat → Int32)) → Prop} {o : (Int32 × Int32 × Int32 × (Nat → Nat → Int32)) ⊕ ((Nat → Nat → Int32))} (hf : f_X0_runs_b221 σ u l4 l5 l6 l7 l8 k2 = some o) (hK : K o) (hI57 : ∀ v : Int32 × Int32 × Int32 × (Nat → Nat → Int32), K (.inl v) → gG x 13 0 0 (XW x.dA N ad v.2.2.2 lam ++ tl) 57 [(0, .ref (ad 0)), (1, .ref (ad (sb u))), (4, .int l4), (5, .ref (ad (2 + l5.toNatClampNeg))), (6, .int v.1), (7, .int v.2.1), (8, .int v.2.2.1)] []) (hR : ∀ o : (Nat → Nat → Int32), K (.inr (o)) → gRv x 0 0 (XW x.dA N ad o lam ++ tl)) : gG x 13 0 0 (XW x.dA N ad σ lam ++ tl) 221 [(0, .ref (ad 0)), (1, .ref (ad (sb u))), (4, .int l4), (5, .ref (ad (2 + l5.toNatClampNeg))), (6, .int l6), (7, .int l7), (8, .int l8)] [.int k2, .ref (ad 0)] := by
  unfold f_X0_runs_b221 at hf
  obtain ⟨s1, e2, hf⟩ := oL_some hf
  refine g_put (v := .int k2) hc in_X0 tyX0_ok nmX0 (XW_at (k := 0) (Nat.lt_of_lt_of_le (by decide) hN)) rfl 8 (by decide) q192 rfl rfl rfl (Nat.le_of_ble_eq_true rfl) (XW_set (σ1 := s1) (k := 0) (Nat.lt_of_lt_of_le (by decide) hN) e2 rfl) dX0_runs_221 ?_
  refine g_aload_n hc dX0_runs_224 rfl 0 rfl ?_
  refine g_iload hc dX0_runs_225 4 rfl ?_
  refine g_if_gt (tgt := 235) hc dX0_runs_227 (by decide) (fun h3 => ?_) (fun h3 => ?_)
  · have hf := oT h3 hf
    refine g_bipush (v := 10) hc dX0_runs_235 (by decide) ?_
    exact g_lv [0, 1, 2, 3, 4, 5, 6] rfl (w_X0_runs_b237 hc s1 u l4 l5 l6 l7 l8 10 hN hu (K := K) hf hK hI57 hR)
  · have hf := oF h3 hf
    refine g_iload hc dX0_runs_230 6 rfl ?_
    refine g_goto (tgt := 237) hc dX0_runs_232 (by decide) ?_
    exact g_lv [0, 1, 2, 3, 4, 5, 6] rfl (w_X0_runs_b237 hc s1 u l4 l5 l6 l7 l8 l8 hN hu (K := K) hf hK hI57 hR)
def f_X0_runs_b178 (σ : (Nat → Nat → Int32)) (u : Nat) (l4 : Int32) (l5 : Int32) (l6 : Int32) (l7 : Int32) (l8 : Int32) (l11 : Int32) (k2 : Int32) : Option ((Int32 × Int32 × Int32 × (Nat → Nat → Int32)) ⊕ ((Nat → Nat → Int32))) :=
  oL (upd2 σ 0 9 k2) fun s1 => if l11 = (-4) then (f_X0_runs_b275 s1 u l4 l5 l6 l7 l8) else (oL (upd2 s1 0 10 ((s1 0 10) + 1)) fun s4 => oC (inb l5 4) <| if 0 < (l6 - (kLoses l5)) then (f_X0_runs_b221 s4 u l4 l5 (l6 - (kLoses l5)) l7 l8 (-4)) else (f_X0_runs_b221 s4 u l4 l5 (l6 - (kLoses l5)) l7 l8 l11))
theorem w_X0_runs_b178 {x : gX} {N : Nat} {ad : Nat → Nat} {tl : va_W} {lam : (Nat → Int64)} (hc : gOk x RX0 cX0_runs 13 4 120)  (σ : (Nat → Nat → Int32)) (u : Nat) (l4 : Int32) (l5 : Int32) (l6 : Int32) (l7 : Int32) (l8 : Int32) (l11 : Int32) (k2 : Int32) (hN : 36 ≤ N) (hu : gS u N) {K : (Int32 × Int32 × Int32 × (Nat → Nat → Int32)) ⊕ ((Nat → Nat → Int32)) → Prop} {o : (Int32 × Int32 × Int32 × (Nat → Nat → Int32)) ⊕ ((Nat → Nat → Int32))} (hf : f_X0_runs_b178 σ u l4 l5 l6 l7 l8 l11 k2 = some o) (hK : K o) (hI57 : ∀ v : Int32 × Int32 × Int32 × (Nat → Nat → Int32), K (.inl v) → gG x 13 0 0 (XW x.dA N ad v.2.2.2 lam ++ tl) 57 [(0, .ref (ad 0)), (1, .ref (ad (sb u))), (4, .int l4), (5, .ref (ad (2 + l5.toNatClampNeg))), (6, .int v.1), (7, .int v.2.1), (8, .int v.2.2.1)] []) (hR : ∀ o : (Nat → Nat → Int32), K (.inr (o)) → gRv x 0 0 (XW x.dA N ad o lam ++ tl)) : gG x 13 0 0 (XW x.dA N ad σ lam ++ tl) 178 [(0, .ref (ad 0)), (1, .ref (ad (sb u))), (4, .int l4), (5, .ref (ad (2 + l5.toNatClampNeg))), (6, .int l6), (7, .int l7), (8, .int l8), (11, .int l11)] [.int k2, .ref (ad 0)] := by
  unfold f_X0_runs_b178 at hf
  obtain ⟨s1, e2, hf⟩ := oL_some hf
  refine g_put (v := .int k2) hc in_X0 tyX0_ok nmX0 (XW_at (k := 0) (Nat.lt_of_lt_of_le (by decide) hN)) rfl 9 (by decide) q193 rfl rfl rfl (Nat.le_of_ble_eq_true rfl) (XW_set (σ1 := s1) (k := 0) (Nat.lt_of_lt_of_le (by decide) hN) e2 rfl) dX0_runs_178 ?_
  refine g_iload hc dX0_runs_181 7 rfl ?_
  refine g_bipush (v := (-4)) hc dX0_runs_183 (by decide) ?_
  refine g_icmp_eq (tgt := 275) hc dX0_runs_185 (by decide) (fun h3 => ?_) (fun h3 => ?_)
  · have hf := oT h3 hf
    exact g_lv [0, 1, 2, 3, 4, 5, 6] rfl (w_X0_runs_b275 hc s1 u l4 l5 l6 l7 l8 hN hu (K := K) hf hK hI57 hR)
  · have hf := oF h3 hf
    refine g_aload_n hc dX0_runs_188 rfl 0 rfl ?_
    refine g_dup hc dX0_runs_189 rfl ?_
    refine g_get (v := .int (s1 0 10)) hc in_X0 (XW_at (k := 0) (Nat.lt_of_lt_of_le (by decide) hN)) rfl 10 (by decide) q194 rfl dX0_runs_190 ?_
    refine g_iconst (v := 1) hc dX0_runs_193 (by decide) ?_
    refine g_iadd hc dX0_runs_194 ?_
    obtain ⟨s4, e5, hf⟩ := oL_some hf
    refine g_put (v := .int ((s1 0 10) + 1)) hc in_X0 tyX0_ok nmX0 (XW_at (k := 0) (Nat.lt_of_lt_of_le (by decide) hN)) rfl 10 (by decide) q194 rfl rfl rfl (Nat.le_of_ble_eq_true rfl) (XW_set (σ1 := s4) (k := 0) (Nat.lt_of_lt_of_le (by decide) hN) e5 rfl) dX0_runs_195 ?_
    refine g_iload hc dX0_runs_198 4 rfl ?_
    refine g_aload hc dX0_runs_200 3 rfl ?_
    obtain ⟨h6, hf⟩ := oC_some hf
    refine g_loses hc hN h6 [.int l6] rfl (Nat.le_of_ble_eq_true rfl) (by decide) gZ dX0_runs_202 ?_
    refine g_isub hc dX0_runs_205 ?_
    refine g_istore (lv' := [(6, .int (l6 - (kLoses l5))), (0, .ref (ad 0)), (1, .ref (ad (sb u))), (4, .int l4), (5, .ref (ad (2 + l5.toNatClampNeg))), (7, .int l7), (8, .int l8), (11, .int l11)]) hc dX0_runs_206 (by decide) rfl ?_
    refine g_aload_n hc dX0_runs_208 rfl 1 rfl ?_
    refine g_iload hc dX0_runs_209 0 rfl ?_
    refine g_if_gt (tgt := 219) hc dX0_runs_211 (by decide) (fun h7 => ?_) (fun h7 => ?_)
    · have hf := oT h7 hf
      refine g_bipush (v := (-4)) hc dX0_runs_219 (by decide) ?_
      exact g_lv [1, 2, 3, 4, 0, 5, 6] rfl (w_X0_runs_b221 hc s4 u l4 l5 (l6 - (kLoses l5)) l7 l8 (-4) hN hu (K := K) hf hK hI57 hR)
    · have hf := oF h7 hf
      refine g_iload hc dX0_runs_214 7 rfl ?_
      refine g_goto (tgt := 221) hc dX0_runs_216 (by decide) ?_
      exact g_lv [1, 2, 3, 4, 0, 5, 6] rfl (w_X0_runs_b221 hc s4 u l4 l5 (l6 - (kLoses l5)) l7 l8 l11 hN hu (K := K) hf hK hI57 hR)
def f_X0_runs_b174 (σ : (Nat → Nat → Int32)) (u : Nat) (l4 : Int32) (l5 : Int32) (l6 : Int32) (l7 : Int32) (l8 : Int32) (l11 : Int32) : Option ((Int32 × Int32 × Int32 × (Nat → Nat → Int32)) ⊕ ((Nat → Nat → Int32))) :=
  f_X0_runs_b178 σ u l4 l5 l6 l7 l8 l11 (σ 0 9)
theorem w_X0_runs_b174 {x : gX} {N : Nat} {ad : Nat → Nat} {tl : va_W} {lam : (Nat → Int64)} (hc : gOk x RX0 cX0_runs 13 4 120)  (σ : (Nat → Nat → Int32)) (u : Nat) (l4 : Int32) (l5 : Int32) (l6 : Int32) (l7 : Int32) (l8 : Int32) (l11 : Int32) (hN : 36 ≤ N) (hu : gS u N) {K : (Int32 × Int32 × Int32 × (Nat → Nat → Int32)) ⊕ ((Nat → Nat → Int32)) → Prop} {o : (Int32 × Int32 × Int32 × (Nat → Nat → Int32)) ⊕ ((Nat → Nat → Int32))} (hf : f_X0_runs_b174 σ u l4 l5 l6 l7 l8 l11 = some o) (hK : K o) (hI57 : ∀ v : Int32 × Int32 × Int32 × (Nat → Nat → Int32), K (.inl v) → gG x 13 0 0 (XW x.dA N ad v.2.2.2 lam ++ tl) 57 [(0, .ref (ad 0)), (1, .ref (ad (sb u))), (4, .int l4), (5, .ref (ad (2 + l5.toNatClampNeg))), (6, .int v.1), (7, .int v.2.1), (8, .int v.2.2.1)] []) (hR : ∀ o : (Nat → Nat → Int32), K (.inr (o)) → gRv x 0 0 (XW x.dA N ad o lam ++ tl)) : gG x 13 0 0 (XW x.dA N ad σ lam ++ tl) 174 [(0, .ref (ad 0)), (1, .ref (ad (sb u))), (4, .int l4), (5, .ref (ad (2 + l5.toNatClampNeg))), (6, .int l6), (7, .int l7), (8, .int l8), (11, .int l11)] [.ref (ad 0)] := by
  unfold f_X0_runs_b174 at hf
  refine g_aload_n hc dX0_runs_174 rfl 0 rfl ?_
  refine g_get (v := .int (σ 0 9)) hc in_X0 (XW_at (k := 0) (Nat.lt_of_lt_of_le (by decide) hN)) rfl 9 (by decide) q193 rfl dX0_runs_175 ?_
  exact g_lv [0, 1, 2, 3, 4, 5, 6, 7] rfl (w_X0_runs_b178 hc σ u l4 l5 l6 l7 l8 l11 (σ 0 9) hN hu (K := K) hf hK hI57 hR)
def f_X0_runs_b152 (σ : (Nat → Nat → Int32)) (u : Nat) (l4 : Int32) (l5 : Int32) (l6 : Int32) (l7 : Int32) (l8 : Int32) (l9 : Int32) (l11 : Int32) (k3 : Int32) (k2 : Int32) : Option ((Int32 × Int32 × Int32 × (Nat → Nat → Int32)) ⊕ ((Nat → Nat → Int32))) :=
  oC (isB (k2 ||| k3)) <| oL (upd2 σ 0 11 (k2 ||| k3)) fun s2 => if l9 = 0 then (if (s2 0 11) = 0 then (f_X0_runs_b174 s2 u l4 l5 l6 l7 l8 l11) else (f_X0_runs_b178 s2 u l4 l5 l6 l7 l8 l11 l8)) else (f_X0_runs_b174 s2 u l4 l5 l6 l7 l8 l11)
theorem w_X0_runs_b152 {x : gX} {N : Nat} {ad : Nat → Nat} {tl : va_W} {lam : (Nat → Int64)} (hc : gOk x RX0 cX0_runs 13 4 120)  (σ : (Nat → Nat → Int32)) (u : Nat) (l4 : Int32) (l5 : Int32) (l6 : Int32) (l7 : Int32) (l8 : Int32) (l9 : Int32) (l11 : Int32) (k3 : Int32) (k2 : Int32) (hN : 36 ≤ N) (hu : gS u N) {K : (Int32 × Int32 × Int32 × (Nat → Nat → Int32)) ⊕ ((Nat → Nat → Int32)) → Prop} {o : (Int32 × Int32 × Int32 × (Nat → Nat → Int32)) ⊕ ((Nat → Nat → Int32))} (hf : f_X0_runs_b152 σ u l4 l5 l6 l7 l8 l9 l11 k3 k2 = some o) (hK : K o) (hI57 : ∀ v : Int32 × Int32 × Int32 × (Nat → Nat → Int32), K (.inl v) → gG x 13 0 0 (XW x.dA N ad v.2.2.2 lam ++ tl) 57 [(0, .ref (ad 0)), (1, .ref (ad (sb u))), (4, .int l4), (5, .ref (ad (2 + l5.toNatClampNeg))), (6, .int v.1), (7, .int v.2.1), (8, .int v.2.2.1)] []) (hR : ∀ o : (Nat → Nat → Int32), K (.inr (o)) → gRv x 0 0 (XW x.dA N ad o lam ++ tl)) : gG x 13 0 0 (XW x.dA N ad σ lam ++ tl) 152 [(0, .ref (ad 0)), (1, .ref (ad (sb u))), (4, .int l4), (5, .ref (ad (2 + l5.toNatClampNeg))), (6, .int l6), (7, .int l7), (8, .int l8), (9, .int l9), (11, .int l11)] [.int k3, .int k2, .ref (ad 0)] := by
  unfold f_X0_runs_b152 at hf
  refine g_ior hc dX0_runs_152 ?_
  obtain ⟨h1, hf⟩ := oC_some hf
  obtain ⟨s2, e3, hf⟩ := oL_some hf
  refine g_put (v := .int (k2 ||| k3)) hc in_X0 tyX0_ok nmX0 (XW_at (k := 0) (Nat.lt_of_lt_of_le (by decide) hN)) rfl 11 (by decide) q195 rfl (isB_nar h1) (isB_fit h1) (Nat.le_of_ble_eq_true rfl) (XW_set (σ1 := s2) (k := 0) (Nat.lt_of_lt_of_le (by decide) hN) e3 rfl) dX0_runs_153 ?_
  refine g_aload_n hc dX0_runs_156 rfl 0 rfl ?_
  refine g_iload hc dX0_runs_157 7 rfl ?_
  refine g_if_ne (tgt := 174) hc dX0_runs_159 (by decide) (fun h4 => ?_) (fun h4 => ?_)
  · have hf := oF h4 hf
    exact g_lv [0, 1, 2, 3, 4, 5, 6, 8] rfl (w_X0_runs_b174 hc s2 u l4 l5 l6 l7 l8 l11 hN hu (K := K) hf hK hI57 hR)
  · have hf := oT h4 hf
    refine g_aload_n hc dX0_runs_162 rfl 0 rfl ?_
    refine g_get (v := .int (s2 0 11)) hc in_X0 (XW_at (k := 0) (Nat.lt_of_lt_of_le (by decide) hN)) rfl 11 (by decide) q195 rfl dX0_runs_163 ?_
    refine g_if_eq (tgt := 174) hc dX0_runs_166 (by decide) (fun h5 => ?_) (fun h5 => ?_)
    · have hf := oT h5 hf
      exact g_lv [0, 1, 2, 3, 4, 5, 6, 8] rfl (w_X0_runs_b174 hc s2 u l4 l5 l6 l7 l8 l11 hN hu (K := K) hf hK hI57 hR)
    · have hf := oF h5 hf
      refine g_iload hc dX0_runs_169 6 rfl ?_
      refine g_goto (tgt := 178) hc dX0_runs_171 (by decide) ?_
      exact g_lv [0, 1, 2, 3, 4, 5, 6, 8] rfl (w_X0_runs_b178 hc s2 u l4 l5 l6 l7 l8 l11 l8 hN hu (K := K) hf hK hI57 hR)
def f_X0_runs_b151 (σ : (Nat → Nat → Int32)) (u : Nat) (l4 : Int32) (l5 : Int32) (l6 : Int32) (l7 : Int32) (l8 : Int32) (l9 : Int32) (l11 : Int32) (k2 : Int32) : Option ((Int32 × Int32 × Int32 × (Nat → Nat → Int32)) ⊕ ((Nat → Nat → Int32))) :=
  f_X0_runs_b152 σ u l4 l5 l6 l7 l8 l9 l11 0 k2
theorem w_X0_runs_b151 {x : gX} {N : Nat} {ad : Nat → Nat} {tl : va_W} {lam : (Nat → Int64)} (hc : gOk x RX0 cX0_runs 13 4 120)  (σ : (Nat → Nat → Int32)) (u : Nat) (l4 : Int32) (l5 : Int32) (l6 : Int32) (l7 : Int32) (l8 : Int32) (l9 : Int32) (l11 : Int32) (k2 : Int32) (hN : 36 ≤ N) (hu : gS u N) {K : (Int32 × Int32 × Int32 × (Nat → Nat → Int32)) ⊕ ((Nat → Nat → Int32)) → Prop} {o : (Int32 × Int32 × Int32 × (Nat → Nat → Int32)) ⊕ ((Nat → Nat → Int32))} (hf : f_X0_runs_b151 σ u l4 l5 l6 l7 l8 l9 l11 k2 = some o) (hK : K o) (hI57 : ∀ v : Int32 × Int32 × Int32 × (Nat → Nat → Int32), K (.inl v) → gG x 13 0 0 (XW x.dA N ad v.2.2.2 lam ++ tl) 57 [(0, .ref (ad 0)), (1, .ref (ad (sb u))), (4, .int l4), (5, .ref (ad (2 + l5.toNatClampNeg))), (6, .int v.1), (7, .int v.2.1), (8, .int v.2.2.1)] []) (hR : ∀ o : (Nat → Nat → Int32), K (.inr (o)) → gRv x 0 0 (XW x.dA N ad o lam ++ tl)) : gG x 13 0 0 (XW x.dA N ad σ lam ++ tl) 151 [(0, .ref (ad 0)), (1, .ref (ad (sb u))), (4, .int l4), (5, .ref (ad (2 + l5.toNatClampNeg))), (6, .int l6), (7, .int l7), (8, .int l8), (9, .int l9), (11, .int l11)] [.int k2, .ref (ad 0)] := by
  unfold f_X0_runs_b151 at hf
  refine g_iconst (v := 0) hc dX0_runs_151 (by decide) ?_
  exact g_lv [0, 1, 2, 3, 4, 5, 6, 7, 8] rfl (w_X0_runs_b152 hc σ u l4 l5 l6 l7 l8 l9 l11 0 k2 hN hu (K := K) hf hK hI57 hR)
def f_X0_runs_b126 (σ : (Nat → Nat → Int32)) (u : Nat) (l4 : Int32) (l5 : Int32) (l6 : Int32) (l7 : Int32) (l8 : Int32) (l9 : Int32) (l10 : Int32) (l11 : Int32) (k3 : Int32) (k2 : Int32) : Option ((Int32 × Int32 × Int32 × (Nat → Nat → Int32)) ⊕ ((Nat → Nat → Int32))) :=
  oC (inb k2 10) <| oL (upd2 σ 7 k2.toNatClampNeg (nbt (Int8.toInt32 (Int32.toInt8 k3)))) fun s1 => if l9 = 0 then (oB (f_X5_isSlugIn s1 u l10) fun r6 => if r6 = 0 then (f_X0_runs_b151 s1 u l4 l5 l6 l7 l8 l9 l11 (s1 0 11)) else (f_X0_runs_b152 s1 u l4 l5 l6 l7 l8 l9 l11 1 (s1 0 11))) else (f_X0_runs_b151 s1 u l4 l5 l6 l7 l8 l9 l11 (s1 0 11))
theorem w_X0_runs_b126 {x : gX} {N : Nat} {ad : Nat → Nat} {tl : va_W} {lam : (Nat → Int64)} (hc : gOk x RX0 cX0_runs 13 4 120)  (σ : (Nat → Nat → Int32)) (u : Nat) (l4 : Int32) (l5 : Int32) (l6 : Int32) (l7 : Int32) (l8 : Int32) (l9 : Int32) (l10 : Int32) (l11 : Int32) (k3 : Int32) (k2 : Int32) (hN : 36 ≤ N) (hu : gS u N) {K : (Int32 × Int32 × Int32 × (Nat → Nat → Int32)) ⊕ ((Nat → Nat → Int32)) → Prop} {o : (Int32 × Int32 × Int32 × (Nat → Nat → Int32)) ⊕ ((Nat → Nat → Int32))} (hf : f_X0_runs_b126 σ u l4 l5 l6 l7 l8 l9 l10 l11 k3 k2 = some o) (hK : K o) (hI57 : ∀ v : Int32 × Int32 × Int32 × (Nat → Nat → Int32), K (.inl v) → gG x 13 0 0 (XW x.dA N ad v.2.2.2 lam ++ tl) 57 [(0, .ref (ad 0)), (1, .ref (ad (sb u))), (4, .int l4), (5, .ref (ad (2 + l5.toNatClampNeg))), (6, .int v.1), (7, .int v.2.1), (8, .int v.2.2.1)] []) (hR : ∀ o : (Nat → Nat → Int32), K (.inr (o)) → gRv x 0 0 (XW x.dA N ad o lam ++ tl)) : gG x 13 0 0 (XW x.dA N ad σ lam ++ tl) 126 [(0, .ref (ad 0)), (1, .ref (ad (sb u))), (4, .int l4), (5, .ref (ad (2 + l5.toNatClampNeg))), (6, .int l6), (7, .int l7), (8, .int l8), (9, .int l9), (10, .int l10), (11, .int l11)] [.int k3, .int k2, .ref (ad 7)] := by
  unfold f_X0_runs_b126 at hf
  refine g_i2b hc dX0_runs_126 ?_
  obtain ⟨h3, hf⟩ := oC_some hf
  obtain ⟨s1, e2, hf⟩ := oL_some hf
  refine g_bast (n := 10) (f := σ 7) hc (XW_at (k := 7) (Nat.lt_of_lt_of_le (by decide) hN)) h3 (XW_set (σ1 := s1) (k := 7) (Nat.lt_of_lt_of_le (by decide) hN) e2 rfl) dX0_runs_127 ?_
  refine g_aload_n hc dX0_runs_128 rfl 0 rfl ?_
  refine g_dup hc dX0_runs_129 rfl ?_
  refine g_get (v := .int (s1 0 11)) hc in_X0 (XW_at (k := 0) (Nat.lt_of_lt_of_le (by decide) hN)) rfl 11 (by decide) q195 rfl dX0_runs_130 ?_
  refine g_iload hc dX0_runs_133 7 rfl ?_
  refine g_if_ne (tgt := 151) hc dX0_runs_135 (by decide) (fun h4 => ?_) (fun h4 => ?_)
  · have hf := oF h4 hf
    exact g_lv [0, 1, 2, 3, 4, 5, 6, 7, 9] rfl (w_X0_runs_b151 hc s1 u l4 l5 l6 l7 l8 l9 l11 (s1 0 11) hN hu (K := K) hf hK hI57 hR)
  · have hf := oT h4 hf
    refine g_aload_n hc dX0_runs_138 rfl 1 rfl ?_
    refine g_iload hc dX0_runs_139 8 rfl ?_
    obtain ⟨r6, h5, hf⟩ := oB_some hf
    refine g_callVi hc [.int l10] [.int (s1 0 11), .ref (ad 0)] (c_X5_isSlugIn hN hu h5) (XW_s0 hu) rfl (lw_V q545 q498 q499 q65 q500) rfl hd_X5_isSlugIn rfl rfl (Nat.le_of_ble_eq_true rfl) gZ dX0_runs_141 ?_
    refine g_if_eq (tgt := 151) hc dX0_runs_144 (by decide) (fun h7 => ?_) (fun h7 => ?_)
    · have hf := oT h7 hf
      exact g_lv [0, 1, 2, 3, 4, 5, 6, 7, 9] rfl (w_X0_runs_b151 hc s1 u l4 l5 l6 l7 l8 l9 l11 (s1 0 11) hN hu (K := K) hf hK hI57 hR)
    · have hf := oF h7 hf
      refine g_iconst (v := 1) hc dX0_runs_147 (by decide) ?_
      refine g_goto (tgt := 152) hc dX0_runs_148 (by decide) ?_
      exact g_lv [0, 1, 2, 3, 4, 5, 6, 7, 9] rfl (w_X0_runs_b152 hc s1 u l4 l5 l6 l7 l8 l9 l11 1 (s1 0 11) hN hu (K := K) hf hK hI57 hR)
def f_X0_runs_b106 (σ : (Nat → Nat → Int32)) (u : Nat) (l4 : Int32) (l5 : Int32) (l6 : Int32) (l7 : Int32) (l8 : Int32) (l9 : Int32) (l10 : Int32) (k1 : Int32) : Option ((Int32 × Int32 × Int32 × (Nat → Nat → Int32)) ⊕ ((Nat → Nat → Int32))) :=
  if l9 = 0 then (f_X0_runs_b126 σ u l4 l5 l6 l7 l8 l9 l10 k1 l7 l8) else (f_X0_runs_b126 σ u l4 l5 l6 l7 l8 l9 l10 k1 (-4) l8)
theorem w_X0_runs_b106 {x : gX} {N : Nat} {ad : Nat → Nat} {tl : va_W} {lam : (Nat → Int64)} (hc : gOk x RX0 cX0_runs 13 4 120)  (σ : (Nat → Nat → Int32)) (u : Nat) (l4 : Int32) (l5 : Int32) (l6 : Int32) (l7 : Int32) (l8 : Int32) (l9 : Int32) (l10 : Int32) (k1 : Int32) (hN : 36 ≤ N) (hu : gS u N) {K : (Int32 × Int32 × Int32 × (Nat → Nat → Int32)) ⊕ ((Nat → Nat → Int32)) → Prop} {o : (Int32 × Int32 × Int32 × (Nat → Nat → Int32)) ⊕ ((Nat → Nat → Int32))} (hf : f_X0_runs_b106 σ u l4 l5 l6 l7 l8 l9 l10 k1 = some o) (hK : K o) (hI57 : ∀ v : Int32 × Int32 × Int32 × (Nat → Nat → Int32), K (.inl v) → gG x 13 0 0 (XW x.dA N ad v.2.2.2 lam ++ tl) 57 [(0, .ref (ad 0)), (1, .ref (ad (sb u))), (4, .int l4), (5, .ref (ad (2 + l5.toNatClampNeg))), (6, .int v.1), (7, .int v.2.1), (8, .int v.2.2.1)] []) (hR : ∀ o : (Nat → Nat → Int32), K (.inr (o)) → gRv x 0 0 (XW x.dA N ad o lam ++ tl)) : gG x 13 0 0 (XW x.dA N ad σ lam ++ tl) 106 [(0, .ref (ad 0)), (1, .ref (ad (sb u))), (4, .int l4), (5, .ref (ad (2 + l5.toNatClampNeg))), (6, .int l6), (7, .int l7), (8, .int l8), (9, .int l9), (10, .int l10)] [.int k1] := by
  unfold f_X0_runs_b106 at hf
  refine g_istore (lv' := [(11, .int k1), (0, .ref (ad 0)), (1, .ref (ad (sb u))), (4, .int l4), (5, .ref (ad (2 + l5.toNatClampNeg))), (6, .int l6), (7, .int l7), (8, .int l8), (9, .int l9), (10, .int l10)]) hc dX0_runs_106 (by decide) rfl ?_
  refine g_aload_n hc dX0_runs_108 rfl 1 rfl ?_
  refine g_get (v := .ref (ad 7)) hc in_X0 (XW_at (k := 0) (Nat.lt_of_lt_of_le (by decide) hN)) rfl 7 (by decide) q191 rfl dX0_runs_109 ?_
  refine g_iload hc dX0_runs_112 7 rfl ?_
  refine g_iload hc dX0_runs_114 8 rfl ?_
  refine g_if_eq (tgt := 124) hc dX0_runs_116 (by decide) (fun h1 => ?_) (fun h1 => ?_)
  · have hf := oT h1 hf
    refine g_iload hc dX0_runs_124 6 rfl ?_
    exact g_lv [1, 2, 3, 4, 5, 6, 7, 8, 9, 0] rfl (w_X0_runs_b126 hc σ u l4 l5 l6 l7 l8 l9 l10 k1 l7 l8 hN hu (K := K) hf hK hI57 hR)
  · have hf := oF h1 hf
    refine g_bipush (v := (-4)) hc dX0_runs_119 (by decide) ?_
    refine g_goto (tgt := 126) hc dX0_runs_121 (by decide) ?_
    exact g_lv [1, 2, 3, 4, 5, 6, 7, 8, 9, 0] rfl (w_X0_runs_b126 hc σ u l4 l5 l6 l7 l8 l9 l10 k1 (-4) l8 hN hu (K := K) hf hK hI57 hR)
def f_X0_runs_b78 (σ : (Nat → Nat → Int32)) (u : Nat) (l4 : Int32) (l5 : Int32) (l6 : Int32) (l7 : Int32) (l8 : Int32) (k1 : Int32) : Option ((Int32 × Int32 × Int32 × (Nat → Nat → Int32)) ⊕ ((Nat → Nat → Int32))) :=
  if k1 = 0 then (oB (f_X5_pegIn σ u ((10 * l8) + l7)) fun r3 => f_X0_runs_b106 σ u l4 l5 l6 l7 l8 k1 ((10 * l8) + l7) r3) else (f_X0_runs_b106 σ u l4 l5 l6 l7 l8 k1 ((10 * l8) + l7) (-4))
theorem w_X0_runs_b78 {x : gX} {N : Nat} {ad : Nat → Nat} {tl : va_W} {lam : (Nat → Int64)} (hc : gOk x RX0 cX0_runs 13 4 120)  (σ : (Nat → Nat → Int32)) (u : Nat) (l4 : Int32) (l5 : Int32) (l6 : Int32) (l7 : Int32) (l8 : Int32) (k1 : Int32) (hN : 36 ≤ N) (hu : gS u N) {K : (Int32 × Int32 × Int32 × (Nat → Nat → Int32)) ⊕ ((Nat → Nat → Int32)) → Prop} {o : (Int32 × Int32 × Int32 × (Nat → Nat → Int32)) ⊕ ((Nat → Nat → Int32))} (hf : f_X0_runs_b78 σ u l4 l5 l6 l7 l8 k1 = some o) (hK : K o) (hI57 : ∀ v : Int32 × Int32 × Int32 × (Nat → Nat → Int32), K (.inl v) → gG x 13 0 0 (XW x.dA N ad v.2.2.2 lam ++ tl) 57 [(0, .ref (ad 0)), (1, .ref (ad (sb u))), (4, .int l4), (5, .ref (ad (2 + l5.toNatClampNeg))), (6, .int v.1), (7, .int v.2.1), (8, .int v.2.2.1)] []) (hR : ∀ o : (Nat → Nat → Int32), K (.inr (o)) → gRv x 0 0 (XW x.dA N ad o lam ++ tl)) : gG x 13 0 0 (XW x.dA N ad σ lam ++ tl) 78 [(0, .ref (ad 0)), (1, .ref (ad (sb u))), (4, .int l4), (5, .ref (ad (2 + l5.toNatClampNeg))), (6, .int l6), (7, .int l7), (8, .int l8)] [.int k1] := by
  unfold f_X0_runs_b78 at hf
  refine g_istore (lv' := [(9, .int k1), (0, .ref (ad 0)), (1, .ref (ad (sb u))), (4, .int l4), (5, .ref (ad (2 + l5.toNatClampNeg))), (6, .int l6), (7, .int l7), (8, .int l8)]) hc dX0_runs_78 (by decide) rfl ?_
  refine g_bipush (v := 10) hc dX0_runs_80 (by decide) ?_
  refine g_iload hc dX0_runs_82 7 rfl ?_
  refine g_imul hc dX0_runs_84 ?_
  refine g_iload hc dX0_runs_85 6 rfl ?_
  refine g_iadd hc dX0_runs_87 ?_
  refine g_istore (lv' := [(10, .int ((10 * l8) + l7)), (9, .int k1), (0, .ref (ad 0)), (1, .ref (ad (sb u))), (4, .int l4), (5, .ref (ad (2 + l5.toNatClampNeg))), (6, .int l6), (7, .int l7), (8, .int l8)]) hc dX0_runs_88 (by decide) rfl ?_
  refine g_iload hc dX0_runs_90 1 rfl ?_
  refine g_if_eq (tgt := 100) hc dX0_runs_92 (by decide) (fun h1 => ?_) (fun h1 => ?_)
  · have hf := oT h1 hf
    refine g_aload_n hc dX0_runs_100 rfl 3 rfl ?_
    refine g_iload hc dX0_runs_101 0 rfl ?_
    obtain ⟨r3, h2, hf⟩ := oB_some hf
    refine g_callVi hc [.int ((10 * l8) + l7)] [] (c_X5_pegIn hN hu h2) (XW_s0 hu) rfl (lw_V q544 q494 q495 q65 q496) rfl hd_X5_pegIn rfl rfl (Nat.le_of_ble_eq_true rfl) gZ dX0_runs_103 ?_
    exact g_lv [2, 3, 4, 5, 6, 7, 8, 1, 0] rfl (w_X0_runs_b106 hc σ u l4 l5 l6 l7 l8 k1 ((10 * l8) + l7) r3 hN hu (K := K) hf hK hI57 hR)
  · have hf := oF h1 hf
    refine g_bipush (v := (-4)) hc dX0_runs_95 (by decide) ?_
    refine g_goto (tgt := 106) hc dX0_runs_97 (by decide) ?_
    exact g_lv [2, 3, 4, 5, 6, 7, 8, 1, 0] rfl (w_X0_runs_b106 hc σ u l4 l5 l6 l7 l8 k1 ((10 * l8) + l7) (-4) hN hu (K := K) hf hK hI57 hR)
def f_X0_runs_L57 (σ : (Nat → Nat → Int32)) (u : Nat) (l4 : Int32) (l5 : Int32) (l6 : Int32) (l7 : Int32) (l8 : Int32) : Option ((Int32 × Int32 × Int32 × (Nat → Nat → Int32)) ⊕ ((Nat → Nat → Int32))) :=
  if 10 ≤ l8 then (oI (some σ)) else (if l8 ≤ (σ 0 9) then (f_X0_runs_b78 σ u l4 l5 l6 l7 l8 0) else (f_X0_runs_b78 σ u l4 l5 l6 l7 l8 1))
theorem w_X0_runs_L57 {x : gX} {N : Nat} {ad : Nat → Nat} {tl : va_W} {lam : (Nat → Int64)} (hc : gOk x RX0 cX0_runs 13 4 120)  (σ : (Nat → Nat → Int32)) (u : Nat) (l4 : Int32) (l5 : Int32) (l6 : Int32) (l7 : Int32) (l8 : Int32) (hN : 36 ≤ N) (hu : gS u N) {K : (Int32 × Int32 × Int32 × (Nat → Nat → Int32)) ⊕ ((Nat → Nat → Int32)) → Prop} {o : (Int32 × Int32 × Int32 × (Nat → Nat → Int32)) ⊕ ((Nat → Nat → Int32))} (hf : f_X0_runs_L57 σ u l4 l5 l6 l7 l8 = some o) (hK : K o) (hI57 : ∀ v : Int32 × Int32 × Int32 × (Nat → Nat → Int32), K (.inl v) → gG x 13 0 0 (XW x.dA N ad v.2.2.2 lam ++ tl) 57 [(0, .ref (ad 0)), (1, .ref (ad (sb u))), (4, .int l4), (5, .ref (ad (2 + l5.toNatClampNeg))), (6, .int v.1), (7, .int v.2.1), (8, .int v.2.2.1)] []) (hR : ∀ o : (Nat → Nat → Int32), K (.inr (o)) → gRv x 0 0 (XW x.dA N ad o lam ++ tl)) : gG x 13 0 0 (XW x.dA N ad σ lam ++ tl) 57 [(0, .ref (ad 0)), (1, .ref (ad (sb u))), (4, .int l4), (5, .ref (ad (2 + l5.toNatClampNeg))), (6, .int l6), (7, .int l7), (8, .int l8)] [] := by
  unfold f_X0_runs_L57 at hf
  refine g_iload hc dX0_runs_57 6 rfl ?_
  refine g_bipush (v := 10) hc dX0_runs_59 (by decide) ?_
  refine g_icmp_ge (tgt := 281) hc dX0_runs_61 (by decide) (fun h1 => ?_) (fun h1 => ?_)
  · have hf := oT h1 hf
    obtain ⟨o2, hgo2, eo2⟩ := oI_some hf
    clear hf; subst eo2; have hf := hgo2; clear hgo2
    have hz := Option.some.inj hf; subst hz
    exact g_vret hc (hR _ hK) dX0_runs_281
  · have hf := oF h1 hf
    refine g_aload_n hc dX0_runs_64 rfl 0 rfl ?_
    refine g_get (v := .int (σ 0 9)) hc in_X0 (XW_at (k := 0) (Nat.lt_of_lt_of_le (by decide) hN)) rfl 9 (by decide) q193 rfl dX0_runs_65 ?_
    refine g_iload hc dX0_runs_68 6 rfl ?_
    refine g_icmp_ge (tgt := 77) hc dX0_runs_70 (by decide) (fun h3 => ?_) (fun h3 => ?_)
    · have hf := oT h3 hf
      refine g_iconst (v := 0) hc dX0_runs_77 (by decide) ?_
      exact g_lv [0, 1, 2, 3, 4, 5, 6] rfl (w_X0_runs_b78 hc σ u l4 l5 l6 l7 l8 0 hN hu (K := K) hf hK hI57 hR)
    · have hf := oF h3 hf
      refine g_iconst (v := 1) hc dX0_runs_73 (by decide) ?_
      refine g_goto (tgt := 78) hc dX0_runs_74 (by decide) ?_
      exact g_lv [0, 1, 2, 3, 4, 5, 6] rfl (w_X0_runs_b78 hc σ u l4 l5 l6 l7 l8 1 hN hu (K := K) hf hK hI57 hR)
def f_X0_runs_b57 (σ : (Nat → Nat → Int32)) (u : Nat) (l4 : Int32) (l5 : Int32) (l6 : Int32) (l7 : Int32) (l8 : Int32) : Option ((Nat → Nat → Int32)) :=
  oLoop gFU (fun v : Int32 × Int32 × Int32 × (Nat → Nat → Int32) => f_X0_runs_L57 v.2.2.2 u l4 l5 v.1 v.2.1 v.2.2.1) (l6, l7, l8, σ)
theorem w_X0_runs_b57 {x : gX} {N : Nat} {ad : Nat → Nat} {tl : va_W} {lam : (Nat → Int64)} (hc : gOk x RX0 cX0_runs 13 4 120)  (σ : (Nat → Nat → Int32)) (u : Nat) (l4 : Int32) (l5 : Int32) (l6 : Int32) (l7 : Int32) (l8 : Int32) (hN : 36 ≤ N) (hu : gS u N) {K : (Nat → Nat → Int32) → Prop} {o : (Nat → Nat → Int32)} (hf : f_X0_runs_b57 σ u l4 l5 l6 l7 l8 = some o) (hK : K o) (hR : ∀ o : (Nat → Nat → Int32), K o → gRv x 0 0 (XW x.dA N ad o lam ++ tl)) : gG x 13 0 0 (XW x.dA N ad σ lam ++ tl) 57 [(0, .ref (ad 0)), (1, .ref (ad (sb u))), (4, .int l4), (5, .ref (ad (2 + l5.toNatClampNeg))), (6, .int l6), (7, .int l7), (8, .int l8)] [] :=
  oLoop_ind (fun v : Int32 × Int32 × Int32 × (Nat → Nat → Int32) => gG x 13 0 0 (XW x.dA N ad v.2.2.2 lam ++ tl) 57 [(0, .ref (ad 0)), (1, .ref (ad (sb u))), (4, .int l4), (5, .ref (ad (2 + l5.toNatClampNeg))), (6, .int v.1), (7, .int v.2.1), (8, .int v.2.2.1)] []) K (fun v o1 hf1 hK1 => w_X0_runs_L57 hc v.2.2.2 u l4 l5 v.1 v.2.1 v.2.2.1 hN hu (K := Sum.elim (fun v : Int32 × Int32 × Int32 × (Nat → Nat → Int32) => gG x 13 0 0 (XW x.dA N ad v.2.2.2 lam ++ tl) 57 [(0, .ref (ad 0)), (1, .ref (ad (sb u))), (4, .int l4), (5, .ref (ad (2 + l5.toNatClampNeg))), (6, .int v.1), (7, .int v.2.1), (8, .int v.2.2.1)] []) K) hf1 hK1 (fun v hv => hv) hR) gFU _ o hf hK
def f_X0_runs (σ : (Nat → Nat → Int32)) (u : Nat) (l2 : Int32) (l3 : Int32) (l4 : Int32) : Option ((Nat → Nat → Int32)) :=
  oC (inb ((2 * l2) + 0) 8) <| oC (inb (σ (sb u + 4) ((2 * l2) + 0).toNatClampNeg) 4) <| oC (inb ((2 * l2) + 1) 8) <| oL (upd2 σ 0 8 (-4)) fun s4 => oL (upd2 s4 0 9 10) fun s6 => oL (upd2 s6 0 10 0) fun s8 => oL (upd2 s8 0 11 0) fun s10 => f_X0_runs_b57 s10 u l4 (σ (sb u + 4) ((2 * l2) + 0).toNatClampNeg) (σ (sb u + 4) ((2 * l2) + 1).toNatClampNeg) l3 0
theorem w_X0_runs {x : gX} {N : Nat} {ad : Nat → Nat} {tl : va_W} {lam : (Nat → Int64)} (hc : gOk x RX0 cX0_runs 13 4 120)  (σ : (Nat → Nat → Int32)) (u : Nat) (l2 : Int32) (l3 : Int32) (l4 : Int32) (hN : 36 ≤ N) (hu : gS u N) {K : (Nat → Nat → Int32) → Prop} {o : (Nat → Nat → Int32)} (hf : f_X0_runs σ u l2 l3 l4 = some o) (hK : K o) (hR : ∀ o : (Nat → Nat → Int32), K o → gRv x 0 0 (XW x.dA N ad o lam ++ tl)) : gG x 13 0 0 (XW x.dA N ad σ lam ++ tl) 0 [(0, .ref (ad 0)), (1, .ref (ad (sb u))), (2, .int l2), (3, .int l3), (4, .int l4)] [] := by
  unfold f_X0_runs at hf
  refine g_aload_n hc dX0_runs_0 rfl 0 rfl ?_
  refine g_get (v := .ref (ad 1)) hc in_X0 (XW_at (k := 0) (Nat.lt_of_lt_of_le (by decide) hN)) rfl 0 (by decide) q184 rfl dX0_runs_1 ?_
  refine g_aload_n hc dX0_runs_4 rfl 1 rfl ?_
  refine g_getN (v := .ref (ad (sb u + 4))) hc in_X5 (XW_s0 hu) rfl 6 (by decide) 9 rfl rfl dX0_runs_5 ?_
  refine g_iconst (v := 2) hc dX0_runs_8 (by decide) ?_
  refine g_iload_n hc dX0_runs_9 rfl 2 rfl ?_
  refine g_imul hc dX0_runs_10 ?_
  refine g_iconst (v := 0) hc dX0_runs_11 (by decide) ?_
  refine g_iadd hc dX0_runs_12 ?_
  obtain ⟨h1, hf⟩ := oC_some hf
  refine g_bald (n := 8) (f := σ (sb u + 4)) hc (XW_s4 hu) h1 dX0_runs_13 ?_
  obtain ⟨h2, hf⟩ := oC_some hf
  refine g_aald (v := ad (2 + (σ (sb u + 4) ((2 * l2) + 0).toNatClampNeg).toNatClampNeg)) hc 4 (XW_at (k := 1) (Nat.lt_of_lt_of_le (by decide) hN)) rfl h2 rfl dX0_runs_14 ?_
  refine g_astore (lv' := [(5, .ref (ad (2 + (σ (sb u + 4) ((2 * l2) + 0).toNatClampNeg).toNatClampNeg))), (0, .ref (ad 0)), (1, .ref (ad (sb u))), (2, .int l2), (3, .int l3), (4, .int l4)]) hc dX0_runs_15 (by decide) rfl ?_
  refine g_aload_n hc dX0_runs_17 rfl 2 rfl ?_
  refine g_getN (v := .ref (ad (sb u + 4))) hc in_X5 (XW_s0 hu) rfl 6 (by decide) 9 rfl rfl dX0_runs_18 ?_
  refine g_iconst (v := 2) hc dX0_runs_21 (by decide) ?_
  refine g_iload_n hc dX0_runs_22 rfl 3 rfl ?_
  refine g_imul hc dX0_runs_23 ?_
  refine g_iconst (v := 1) hc dX0_runs_24 (by decide) ?_
  refine g_iadd hc dX0_runs_25 ?_
  obtain ⟨h3, hf⟩ := oC_some hf
  refine g_bald (n := 8) (f := σ (sb u + 4)) hc (XW_s4 hu) h3 dX0_runs_26 ?_
  refine g_istore (lv' := [(6, .int (σ (sb u + 4) ((2 * l2) + 1).toNatClampNeg)), (5, .ref (ad (2 + (σ (sb u + 4) ((2 * l2) + 0).toNatClampNeg).toNatClampNeg))), (0, .ref (ad 0)), (1, .ref (ad (sb u))), (2, .int l2), (3, .int l3), (4, .int l4)]) hc dX0_runs_27 (by decide) rfl ?_
  refine g_iload_n hc dX0_runs_29 rfl 5 rfl ?_
  refine g_istore (lv' := [(7, .int l3), (6, .int (σ (sb u + 4) ((2 * l2) + 1).toNatClampNeg)), (5, .ref (ad (2 + (σ (sb u + 4) ((2 * l2) + 0).toNatClampNeg).toNatClampNeg))), (0, .ref (ad 0)), (1, .ref (ad (sb u))), (2, .int l2), (3, .int l3), (4, .int l4)]) hc dX0_runs_30 (by decide) rfl ?_
  refine g_aload_n hc dX0_runs_32 rfl 3 rfl ?_
  refine g_bipush (v := (-4)) hc dX0_runs_33 (by decide) ?_
  obtain ⟨s4, e5, hf⟩ := oL_some hf
  refine g_put (v := .int (-4)) hc in_X0 tyX0_ok nmX0 (XW_at (k := 0) (Nat.lt_of_lt_of_le (by decide) hN)) rfl 8 (by decide) q192 rfl rfl rfl (Nat.le_of_ble_eq_true rfl) (XW_set (σ1 := s4) (k := 0) (Nat.lt_of_lt_of_le (by decide) hN) e5 rfl) dX0_runs_35 ?_
  refine g_aload_n hc dX0_runs_38 rfl 3 rfl ?_
  refine g_bipush (v := 10) hc dX0_runs_39 (by decide) ?_
  obtain ⟨s6, e7, hf⟩ := oL_some hf
  refine g_put (v := .int 10) hc in_X0 tyX0_ok nmX0 (XW_at (k := 0) (Nat.lt_of_lt_of_le (by decide) hN)) rfl 9 (by decide) q193 rfl rfl rfl (Nat.le_of_ble_eq_true rfl) (XW_set (σ1 := s6) (k := 0) (Nat.lt_of_lt_of_le (by decide) hN) e7 rfl) dX0_runs_41 ?_
  refine g_aload_n hc dX0_runs_44 rfl 3 rfl ?_
  refine g_iconst (v := 0) hc dX0_runs_45 (by decide) ?_
  obtain ⟨s8, e9, hf⟩ := oL_some hf
  refine g_put (v := .int 0) hc in_X0 tyX0_ok nmX0 (XW_at (k := 0) (Nat.lt_of_lt_of_le (by decide) hN)) rfl 10 (by decide) q194 rfl rfl rfl (Nat.le_of_ble_eq_true rfl) (XW_set (σ1 := s8) (k := 0) (Nat.lt_of_lt_of_le (by decide) hN) e9 rfl) dX0_runs_46 ?_
  refine g_aload_n hc dX0_runs_49 rfl 3 rfl ?_
  refine g_iconst (v := 0) hc dX0_runs_50 (by decide) ?_
  obtain ⟨s10, e11, hf⟩ := oL_some hf
  refine g_put (v := .int 0) hc in_X0 tyX0_ok nmX0 (XW_at (k := 0) (Nat.lt_of_lt_of_le (by decide) hN)) rfl 11 (by decide) q195 rfl rfl rfl (Nat.le_of_ble_eq_true rfl) (XW_set (σ1 := s10) (k := 0) (Nat.lt_of_lt_of_le (by decide) hN) e11 rfl) dX0_runs_51 ?_
  refine g_iconst (v := 0) hc dX0_runs_54 (by decide) ?_
  refine g_istore (lv' := [(8, .int 0), (7, .int l3), (6, .int (σ (sb u + 4) ((2 * l2) + 1).toNatClampNeg)), (5, .ref (ad (2 + (σ (sb u + 4) ((2 * l2) + 0).toNatClampNeg).toNatClampNeg))), (0, .ref (ad 0)), (1, .ref (ad (sb u))), (2, .int l2), (3, .int l3), (4, .int l4)]) hc dX0_runs_55 (by decide) rfl ?_
  exact g_lv [4, 5, 8, 3, 2, 1, 0] rfl (w_X0_runs_b57 hc s10 u l4 (σ (sb u + 4) ((2 * l2) + 0).toNatClampNeg) (σ (sb u + 4) ((2 * l2) + 1).toNatClampNeg) l3 0 hN hu (K := K) hf hK hR)
theorem c_X0_runs {l : Launch} {D : va_G} {dA : Nat → ClassId} {N : Nat} {ad : Nat → Nat} {tl : va_W} {lam : (Nat → Int64)} {σ : (Nat → Nat → Int32)} {u : Nat} {l2 : Int32} {l3 : Int32} {l4 : Int32} (hN : 36 ≤ N) (hu : gS u N) {o : (Nat → Nat → Int32)} (hf : f_X0_runs σ u l2 l3 l4 = some o) : gV l D dA (XW dA N ad σ lam ++ tl) (XW dA N ad o lam ++ tl) [.ref (ad 0), .ref (ad (sb u)), .int l2, .int l3, .int l4] yX0_runs (ws_ yX0_runs cX0_runs 13 none) ({ frames := 4, cells := 0, slots := 0, locals := 120 } : Room) :=
  g_startV (own := RX0) ⟨rfl, rfl⟩ (by decide) rfl (Nat.le_of_ble_eq_true rfl) (fun x e hc hR => by
    subst e
    exact w_X0_runs hc σ u l2 l3 l4 hN hu (K := fun o1 => o1 = o) hf rfl (by rintro _ rfl; exact hR))
theorem hd_X0_runs : yX0_runs.cls = RX0 ∧ yX0_runs.cls ≠ "java/lang/invoke/MethodHandle" ∧ yX0_runs.cls ≠ "java/lang/invoke/VarHandle" ∧ (parseMethodDescriptor yX0_runs.desc).map (fun d => d.parameters.length) = some 4 := by decide +kernel
/-! HedgehogLots.goes(LHedgehogLots$Slope;I)V -/
def f_X0_goes (σ : (Nat → Nat → Int32)) (u : Nat) (l2 : Int32) : Option ((Nat → Nat → Int32)) :=
  oC (inb (2 * l2) 12) <| oC (inb ((2 * l2) + 1) 12) <| oB (f_X0_runs σ u (σ (sb u + 5) (2 * l2).toNatClampNeg) (σ (sb u + 5) ((2 * l2) + 1).toNatClampNeg) 0) fun r4 => some r4
theorem w_X0_goes {x : gX} {N : Nat} {ad : Nat → Nat} {tl : va_W} {lam : (Nat → Int64)} (hc : gOk x RX0 cX0_goes 3 5 152)  (σ : (Nat → Nat → Int32)) (u : Nat) (l2 : Int32) (hN : 36 ≤ N) (hu : gS u N) {K : (Nat → Nat → Int32) → Prop} {o : (Nat → Nat → Int32)} (hf : f_X0_goes σ u l2 = some o) (hK : K o) (hR : ∀ o : (Nat → Nat → Int32), K o → gRv x 0 0 (XW x.dA N ad o lam ++ tl)) : gG x 3 0 0 (XW x.dA N ad σ lam ++ tl) 0 [(0, .ref (ad 0)), (1, .ref (ad (sb u))), (2, .int l2)] [] := by
  unfold f_X0_goes at hf
  refine g_aload_n hc dX0_goes_0 rfl 0 rfl ?_
  refine g_aload_n hc dX0_goes_1 rfl 1 rfl ?_
  refine g_aload_n hc dX0_goes_2 rfl 1 rfl ?_
  refine g_getN (v := .ref (ad (sb u + 5))) hc in_X5 (XW_s0 hu) rfl 8 (by decide) 13 rfl rfl dX0_goes_3 ?_
  refine g_iconst (v := 2) hc dX0_goes_6 (by decide) ?_
  refine g_iload_n hc dX0_goes_7 rfl 2 rfl ?_
  refine g_imul hc dX0_goes_8 ?_
  obtain ⟨h1, hf⟩ := oC_some hf
  refine g_bald (n := 12) (f := σ (sb u + 5)) hc (XW_s5 hu) h1 dX0_goes_9 ?_
  refine g_aload_n hc dX0_goes_10 rfl 1 rfl ?_
  refine g_getN (v := .ref (ad (sb u + 5))) hc in_X5 (XW_s0 hu) rfl 8 (by decide) 13 rfl rfl dX0_goes_11 ?_
  refine g_iconst (v := 2) hc dX0_goes_14 (by decide) ?_
  refine g_iload_n hc dX0_goes_15 rfl 2 rfl ?_
  refine g_imul hc dX0_goes_16 ?_
  refine g_iconst (v := 1) hc dX0_goes_17 (by decide) ?_
  refine g_iadd hc dX0_goes_18 ?_
  obtain ⟨h2, hf⟩ := oC_some hf
  refine g_bald (n := 12) (f := σ (sb u + 5)) hc (XW_s5 hu) h2 dX0_goes_19 ?_
  refine g_iconst (v := 0) hc dX0_goes_20 (by decide) ?_
  obtain ⟨r4, h3, hf⟩ := oB_some hf
  refine g_callVv hc [.ref (ad (sb u)), .int (σ (sb u + 5) (2 * l2).toNatClampNeg), .int (σ (sb u + 5) ((2 * l2) + 1).toNatClampNeg), .int 0] [] (c_X0_runs hN hu h3) (XW_at (k := 0) (Nat.lt_of_lt_of_le (by decide) hN)) rfl (lw_V q540 q542 qs14 q60 q543) rfl hd_X0_runs rfl rfl (Nat.le_of_ble_eq_true rfl) gZ dX0_goes_21 ?_
  have hz := Option.some.inj hf; subst hz
  exact g_vret hc (hR _ hK) dX0_goes_24
theorem c_X0_goes {l : Launch} {D : va_G} {dA : Nat → ClassId} {N : Nat} {ad : Nat → Nat} {tl : va_W} {lam : (Nat → Int64)} {σ : (Nat → Nat → Int32)} {u : Nat} {l2 : Int32} (hN : 36 ≤ N) (hu : gS u N) {o : (Nat → Nat → Int32)} (hf : f_X0_goes σ u l2 = some o) : gV l D dA (XW dA N ad σ lam ++ tl) (XW dA N ad o lam ++ tl) [.ref (ad 0), .ref (ad (sb u)), .int l2] yX0_goes (ws_ yX0_goes cX0_goes 3 none) ({ frames := 5, cells := 0, slots := 0, locals := 152 } : Room) :=
  g_startV (own := RX0) ⟨rfl, rfl⟩ (by decide) rfl (Nat.le_of_ble_eq_true rfl) (fun x e hc hR => by
    subst e
    exact w_X0_goes hc σ u l2 hN hu (K := fun o1 => o1 = o) hf rfl (by rintro _ rfl; exact hR))
theorem hd_X0_goes : yX0_goes.cls = RX0 ∧ yX0_goes.cls ≠ "java/lang/invoke/MethodHandle" ∧ yX0_goes.cls ≠ "java/lang/invoke/VarHandle" ∧ (parseMethodDescriptor yX0_goes.desc).map (fun d => d.parameters.length) = some 2 := by decide +kernel
/-! HedgehogLots.winner(LHedgehogLots$Slope;)I -/
def f_X0_winner (σ : (Nat → Nat → Int32)) (u : Nat) : Option (Int32) :=
  if (σ 0 8) = (-4) then (some (-4)) else (oC (inb (σ 0 8) 7) <| some (σ (sb u + 2) (σ 0 8).toNatClampNeg))
theorem w_X0_winner {x : gX} {N : Nat} {ad : Nat → Nat} {tl : va_W} {lam : (Nat → Int64)} (hc : gOk x RX0 cX0_winner 2 0 0)  (σ : (Nat → Nat → Int32)) (u : Nat) (hN : 36 ≤ N) (hu : gS u N) {K : Int32 → Prop} {o : Int32} (hf : f_X0_winner σ u = some o) (hK : K o) (hR : ∀ o : Int32, K o → gRi x 0 0 (XW x.dA N ad σ lam ++ tl) o) : gG x 2 0 0 (XW x.dA N ad σ lam ++ tl) 0 [(0, .ref (ad 0)), (1, .ref (ad (sb u)))] [] := by
  unfold f_X0_winner at hf
  refine g_aload_n hc dX0_winner_0 rfl 0 rfl ?_
  refine g_get (v := .int (σ 0 8)) hc in_X0 (XW_at (k := 0) (Nat.lt_of_lt_of_le (by decide) hN)) rfl 8 (by decide) q192 rfl dX0_winner_1 ?_
  refine g_bipush (v := (-4)) hc dX0_winner_4 (by decide) ?_
  refine g_icmp_ne (tgt := 14) hc dX0_winner_6 (by decide) (fun h1 => ?_) (fun h1 => ?_)
  · have hf := oF h1 hf
    refine g_aload_n hc dX0_winner_14 rfl 1 rfl ?_
    refine g_getN (v := .ref (ad (sb u + 2))) hc in_X5 (XW_s0 hu) rfl 2 (by decide) 3 rfl rfl dX0_winner_15 ?_
    refine g_aload_n hc dX0_winner_18 rfl 0 rfl ?_
    refine g_get (v := .int (σ 0 8)) hc in_X0 (XW_at (k := 0) (Nat.lt_of_lt_of_le (by decide) hN)) rfl 8 (by decide) q192 rfl dX0_winner_19 ?_
    obtain ⟨h2, hf⟩ := oC_some hf
    refine g_bald (n := 7) (f := σ (sb u + 2)) hc (XW_s2 hu) h2 dX0_winner_22 ?_
    have hz := Option.some.inj hf; subst hz
    exact g_iret hc (hR _ hK) dX0_winner_23
  · have hf := oT h1 hf
    refine g_bipush (v := (-4)) hc dX0_winner_9 (by decide) ?_
    refine g_goto (tgt := 23) hc dX0_winner_11 (by decide) ?_
    have hz := Option.some.inj hf; subst hz
    exact g_iret hc (hR _ hK) dX0_winner_23
theorem c_X0_winner {l : Launch} {D : va_G} {dA : Nat → ClassId} {N : Nat} {ad : Nat → Nat} {tl : va_W} {lam : (Nat → Int64)} {σ : (Nat → Nat → Int32)} {u : Nat} (hN : 36 ≤ N) (hu : gS u N) {o : Int32} (hf : f_X0_winner σ u = some o) : gI l D dA (XW dA N ad σ lam ++ tl) (XW dA N ad σ lam ++ tl) [.ref (ad 0), .ref (ad (sb u))] o yX0_winner (ws_ yX0_winner cX0_winner 2 (some .int)) ({ frames := 0, cells := 0, slots := 0, locals := 0 } : Room) :=
  g_startI (own := RX0) ⟨rfl, rfl⟩ (by decide) rfl (Nat.le_of_ble_eq_true rfl) (fun x e hc hR => by
    subst e
    exact w_X0_winner hc σ u hN hu (K := fun o1 => o1 = o) hf rfl (by rintro _ rfl; exact hR))
theorem hd_X0_winner : yX0_winner.cls = RX0 ∧ yX0_winner.cls ≠ "java/lang/invoke/MethodHandle" ∧ yX0_winner.cls ≠ "java/lang/invoke/VarHandle" ∧ (parseMethodDescriptor yX0_winner.desc).map (fun d => d.parameters.length) = some 1 := by decide +kernel
/-! HedgehogLots.won(LHedgehogLots$Slope;I)I -/
def f_X0_won_b39 (σ : (Nat → Nat → Int32)) (u : Nat) (l2 : Int32) (l4 : Int32) (k2 : Int32) (k1 : Int32) : Option ((Int32 × Int32 × (Nat → Nat → Int32)) ⊕ (Int32 × (Nat → Nat → Int32))) :=
  some (.inl ((k1 ||| k2), (l4 + 1), σ))
theorem w_X0_won_b39 {x : gX} {N : Nat} {ad : Nat → Nat} {tl : va_W} {lam : (Nat → Int64)} (hc : gOk x RX0 cX0_won 5 6 174)  (σ : (Nat → Nat → Int32)) (u : Nat) (l2 : Int32) (l4 : Int32) (k2 : Int32) (k1 : Int32) (hN : 36 ≤ N) (hu : gS u N) {K : (Int32 × Int32 × (Nat → Nat → Int32)) ⊕ (Int32 × (Nat → Nat → Int32)) → Prop} {o : (Int32 × Int32 × (Nat → Nat → Int32)) ⊕ (Int32 × (Nat → Nat → Int32))} (hf : f_X0_won_b39 σ u l2 l4 k2 k1 = some o) (hK : K o) (hI5 : ∀ v : Int32 × Int32 × (Nat → Nat → Int32), K (.inl v) → gG x 5 0 0 (XW x.dA N ad v.2.2 lam ++ tl) 5 [(0, .ref (ad 0)), (1, .ref (ad (sb u))), (2, .int l2), (3, .int v.1), (4, .int v.2.1)] []) (hR : ∀ o : Int32 × (Nat → Nat → Int32), K (.inr (o)) → gRi x 0 0 (XW x.dA N ad o.2 lam ++ tl) o.1) : gG x 5 0 0 (XW x.dA N ad σ lam ++ tl) 39 [(0, .ref (ad 0)), (1, .ref (ad (sb u))), (2, .int l2), (4, .int l4)] [.int k2, .int k1] := by
  unfold f_X0_won_b39 at hf
  refine g_ior hc dX0_won_39 ?_
  refine g_istore_n (lv' := [(3, .int (k1 ||| k2)), (0, .ref (ad 0)), (1, .ref (ad (sb u))), (2, .int l2), (4, .int l4)]) hc dX0_won_40 rfl (by decide) rfl ?_
  refine g_iinc (v := l4 + 1) (lv' := [(4, .int (l4 + 1)), (3, .int (k1 ||| k2)), (0, .ref (ad 0)), (1, .ref (ad (sb u))), (2, .int l2)]) hc dX0_won_41 (j := 4) rfl rfl (by decide) rfl ?_
  refine g_goto (tgt := 5) hc dX0_won_44 (by decide) ?_
  have hz := Option.some.inj hf; subst hz
  exact g_lv [2, 3, 4, 1, 0] rfl (hI5 _ hK)
def f_X0_won_L5 (σ : (Nat → Nat → Int32)) (u : Nat) (l2 : Int32) (l3 : Int32) (l4 : Int32) : Option ((Int32 × Int32 × (Nat → Nat → Int32)) ⊕ (Int32 × (Nat → Nat → Int32))) :=
  if (σ (sb u) 7) ≤ l4 then (oI (some (l3, σ))) else (oB (f_X0_goes σ u l4) fun r4 => oB (f_X0_winner r4 u) fun r6 => if r6 = l2 then (f_X0_won_b39 r4 u l2 l4 ((1 : Int32) <<< (l4 &&& 31)) l3) else (f_X0_won_b39 r4 u l2 l4 0 l3))
theorem w_X0_won_L5 {x : gX} {N : Nat} {ad : Nat → Nat} {tl : va_W} {lam : (Nat → Int64)} (hc : gOk x RX0 cX0_won 5 6 174)  (σ : (Nat → Nat → Int32)) (u : Nat) (l2 : Int32) (l3 : Int32) (l4 : Int32) (hN : 36 ≤ N) (hu : gS u N) {K : (Int32 × Int32 × (Nat → Nat → Int32)) ⊕ (Int32 × (Nat → Nat → Int32)) → Prop} {o : (Int32 × Int32 × (Nat → Nat → Int32)) ⊕ (Int32 × (Nat → Nat → Int32))} (hf : f_X0_won_L5 σ u l2 l3 l4 = some o) (hK : K o) (hI5 : ∀ v : Int32 × Int32 × (Nat → Nat → Int32), K (.inl v) → gG x 5 0 0 (XW x.dA N ad v.2.2 lam ++ tl) 5 [(0, .ref (ad 0)), (1, .ref (ad (sb u))), (2, .int l2), (3, .int v.1), (4, .int v.2.1)] []) (hR : ∀ o : Int32 × (Nat → Nat → Int32), K (.inr (o)) → gRi x 0 0 (XW x.dA N ad o.2 lam ++ tl) o.1) : gG x 5 0 0 (XW x.dA N ad σ lam ++ tl) 5 [(0, .ref (ad 0)), (1, .ref (ad (sb u))), (2, .int l2), (3, .int l3), (4, .int l4)] [] := by
  unfold f_X0_won_L5 at hf
  refine g_iload hc dX0_won_5 4 rfl ?_
  refine g_aload_n hc dX0_won_7 rfl 1 rfl ?_
  refine g_getN (v := .int (σ (sb u) 7)) hc in_X5 (XW_s0 hu) rfl 7 (by decide) 11 rfl rfl dX0_won_8 ?_
  refine g_icmp_ge (tgt := 47) hc dX0_won_11 (by decide) (fun h1 => ?_) (fun h1 => ?_)
  · have hf := oT h1 hf
    obtain ⟨o2, hgo2, eo2⟩ := oI_some hf
    clear hf; subst eo2; have hf := hgo2; clear hgo2
    refine g_iload_n hc dX0_won_47 rfl 3 rfl ?_
    have hz := Option.some.inj hf; subst hz
    exact g_iret hc (hR _ hK) dX0_won_48
  · have hf := oF h1 hf
    refine g_aload_n hc dX0_won_14 rfl 0 rfl ?_
    refine g_aload_n hc dX0_won_15 rfl 1 rfl ?_
    refine g_iload hc dX0_won_16 4 rfl ?_
    obtain ⟨r4, h3, hf⟩ := oB_some hf
    refine g_callVv hc [.ref (ad (sb u)), .int l4] [] (c_X0_goes hN hu h3) (XW_at (k := 0) (Nat.lt_of_lt_of_le (by decide) hN)) rfl (lw_V q536 q538 qs13 q60 q539) rfl hd_X0_goes rfl rfl (Nat.le_of_ble_eq_true rfl) gZ dX0_won_18 ?_
    refine g_iload_n hc dX0_won_21 rfl 3 rfl ?_
    refine g_aload_n hc dX0_won_22 rfl 0 rfl ?_
    refine g_aload_n hc dX0_won_23 rfl 1 rfl ?_
    obtain ⟨r6, h5, hf⟩ := oB_some hf
    refine g_callVi hc [.ref (ad (sb u))] [.int l3] (c_X0_winner hN hu h5) (XW_at (k := 0) (Nat.lt_of_lt_of_le (by decide) hN)) rfl (lw_V q601 q603 qs17 q60 q604) rfl hd_X0_winner rfl rfl (Nat.le_of_ble_eq_true rfl) gZ dX0_won_24 ?_
    refine g_iload_n hc dX0_won_27 rfl 2 rfl ?_
    refine g_icmp_ne (tgt := 38) hc dX0_won_28 (by decide) (fun h7 => ?_) (fun h7 => ?_)
    · have hf := oF h7 hf
      refine g_iconst (v := 0) hc dX0_won_38 (by decide) ?_
      exact g_lv [0, 1, 2, 4] rfl (w_X0_won_b39 hc r4 u l2 l4 0 l3 hN hu (K := K) hf hK hI5 hR)
    · have hf := oT h7 hf
      refine g_iconst (v := 1) hc dX0_won_31 (by decide) ?_
      refine g_iload hc dX0_won_32 4 rfl ?_
      refine g_ishl hc dX0_won_34 ?_
      refine g_goto (tgt := 39) hc dX0_won_35 (by decide) ?_
      exact g_lv [0, 1, 2, 4] rfl (w_X0_won_b39 hc r4 u l2 l4 ((1 : Int32) <<< (l4 &&& 31)) l3 hN hu (K := K) hf hK hI5 hR)
def f_X0_won_b5 (σ : (Nat → Nat → Int32)) (u : Nat) (l2 : Int32) (l3 : Int32) (l4 : Int32) : Option (Int32 × (Nat → Nat → Int32)) :=
  oLoop gFU (fun v : Int32 × Int32 × (Nat → Nat → Int32) => f_X0_won_L5 v.2.2 u l2 v.1 v.2.1) (l3, l4, σ)
theorem w_X0_won_b5 {x : gX} {N : Nat} {ad : Nat → Nat} {tl : va_W} {lam : (Nat → Int64)} (hc : gOk x RX0 cX0_won 5 6 174)  (σ : (Nat → Nat → Int32)) (u : Nat) (l2 : Int32) (l3 : Int32) (l4 : Int32) (hN : 36 ≤ N) (hu : gS u N) {K : Int32 × (Nat → Nat → Int32) → Prop} {o : Int32 × (Nat → Nat → Int32)} (hf : f_X0_won_b5 σ u l2 l3 l4 = some o) (hK : K o) (hR : ∀ o : Int32 × (Nat → Nat → Int32), K o → gRi x 0 0 (XW x.dA N ad o.2 lam ++ tl) o.1) : gG x 5 0 0 (XW x.dA N ad σ lam ++ tl) 5 [(0, .ref (ad 0)), (1, .ref (ad (sb u))), (2, .int l2), (3, .int l3), (4, .int l4)] [] :=
  oLoop_ind (fun v : Int32 × Int32 × (Nat → Nat → Int32) => gG x 5 0 0 (XW x.dA N ad v.2.2 lam ++ tl) 5 [(0, .ref (ad 0)), (1, .ref (ad (sb u))), (2, .int l2), (3, .int v.1), (4, .int v.2.1)] []) K (fun v o1 hf1 hK1 => w_X0_won_L5 hc v.2.2 u l2 v.1 v.2.1 hN hu (K := Sum.elim (fun v : Int32 × Int32 × (Nat → Nat → Int32) => gG x 5 0 0 (XW x.dA N ad v.2.2 lam ++ tl) 5 [(0, .ref (ad 0)), (1, .ref (ad (sb u))), (2, .int l2), (3, .int v.1), (4, .int v.2.1)] []) K) hf1 hK1 (fun v hv => hv) hR) gFU _ o hf hK
def f_X0_won (σ : (Nat → Nat → Int32)) (u : Nat) (l2 : Int32) : Option (Int32 × (Nat → Nat → Int32)) :=
  f_X0_won_b5 σ u l2 0 0
theorem w_X0_won {x : gX} {N : Nat} {ad : Nat → Nat} {tl : va_W} {lam : (Nat → Int64)} (hc : gOk x RX0 cX0_won 5 6 174)  (σ : (Nat → Nat → Int32)) (u : Nat) (l2 : Int32) (hN : 36 ≤ N) (hu : gS u N) {K : Int32 × (Nat → Nat → Int32) → Prop} {o : Int32 × (Nat → Nat → Int32)} (hf : f_X0_won σ u l2 = some o) (hK : K o) (hR : ∀ o : Int32 × (Nat → Nat → Int32), K o → gRi x 0 0 (XW x.dA N ad o.2 lam ++ tl) o.1) : gG x 5 0 0 (XW x.dA N ad σ lam ++ tl) 0 [(0, .ref (ad 0)), (1, .ref (ad (sb u))), (2, .int l2)] [] := by
  unfold f_X0_won at hf
  refine g_iconst (v := 0) hc dX0_won_0 (by decide) ?_
  refine g_istore_n (lv' := [(3, .int 0), (0, .ref (ad 0)), (1, .ref (ad (sb u))), (2, .int l2)]) hc dX0_won_1 rfl (by decide) rfl ?_
  refine g_iconst (v := 0) hc dX0_won_2 (by decide) ?_
  refine g_istore (lv' := [(4, .int 0), (3, .int 0), (0, .ref (ad 0)), (1, .ref (ad (sb u))), (2, .int l2)]) hc dX0_won_3 (by decide) rfl ?_
  exact g_lv [2, 3, 4, 1, 0] rfl (w_X0_won_b5 hc σ u l2 0 0 hN hu (K := K) hf hK hR)
theorem c_X0_won {l : Launch} {D : va_G} {dA : Nat → ClassId} {N : Nat} {ad : Nat → Nat} {tl : va_W} {lam : (Nat → Int64)} {σ : (Nat → Nat → Int32)} {u : Nat} {l2 : Int32} (hN : 36 ≤ N) (hu : gS u N) {o : Int32 × (Nat → Nat → Int32)} (hf : f_X0_won σ u l2 = some o) : gI l D dA (XW dA N ad σ lam ++ tl) (XW dA N ad o.2 lam ++ tl) [.ref (ad 0), .ref (ad (sb u)), .int l2] o.1 yX0_won (ws_ yX0_won cX0_won 5 (some .int)) ({ frames := 6, cells := 0, slots := 0, locals := 174 } : Room) :=
  g_startI (own := RX0) ⟨rfl, rfl⟩ (by decide) rfl (Nat.le_of_ble_eq_true rfl) (fun x e hc hR => by
    subst e
    exact w_X0_won hc σ u l2 hN hu (K := fun o1 => o1 = o) hf rfl (by rintro _ rfl; exact hR))
theorem hd_X0_won : yX0_won.cls = RX0 ∧ yX0_won.cls ≠ "java/lang/invoke/MethodHandle" ∧ yX0_won.cls ≠ "java/lang/invoke/VarHandle" ∧ (parseMethodDescriptor yX0_won.desc).map (fun d => d.parameters.length) = some 2 := by decide +kernel
/-! HedgehogLots.wonMany(LHedgehogLots$Slope;I)I -/
def f_X0_wonMany (σ : (Nat → Nat → Int32)) (u : Nat) (l2 : Int32) : Option (Int32 × (Nat → Nat → Int32)) :=
  oB (f_X0_won σ u l2) fun r2 => oB (f_J7_bitCount r2.1) fun r4 => some (r4, r2.2)
theorem w_X0_wonMany {x : gX} {N : Nat} {ad : Nat → Nat} {tl : va_W} {lam : (Nat → Int64)} (hc : gOk x RX0 cX0_wonMany 3 7 198)  (σ : (Nat → Nat → Int32)) (u : Nat) (l2 : Int32) (hN : 36 ≤ N) (hu : gS u N) {K : Int32 × (Nat → Nat → Int32) → Prop} {o : Int32 × (Nat → Nat → Int32)} (hf : f_X0_wonMany σ u l2 = some o) (hK : K o) (hR : ∀ o : Int32 × (Nat → Nat → Int32), K o → gRi x 0 0 (XW x.dA N ad o.2 lam ++ tl) o.1) : gG x 3 0 0 (XW x.dA N ad σ lam ++ tl) 0 [(0, .ref (ad 0)), (1, .ref (ad (sb u))), (2, .int l2)] [] := by
  unfold f_X0_wonMany at hf
  refine g_aload_n hc dX0_wonMany_0 rfl 0 rfl ?_
  refine g_aload_n hc dX0_wonMany_1 rfl 1 rfl ?_
  refine g_iload_n hc dX0_wonMany_2 rfl 2 rfl ?_
  obtain ⟨r2, h1, hf⟩ := oB_some hf
  refine g_callVi hc [.ref (ad (sb u)), .int l2] [] (c_X0_won hN hu h1) (XW_at (k := 0) (Nat.lt_of_lt_of_le (by decide) hN)) rfl (lw_V q597 q599 qs16 q60 q600) rfl hd_X0_won rfl rfl (Nat.le_of_ble_eq_true rfl) gZ dX0_wonMany_3 ?_
  obtain ⟨r4, h3, hf⟩ := oB_some hf
  refine g_callSi hc [.int r2.1] [] (c_J7_bitCount  h3) (lw_S q700 q701 q78 q702) rfl hd_J7_bitCount rfl rfl (Nat.le_of_ble_eq_true rfl) gZ dX0_wonMany_6 ?_
  have hz := Option.some.inj hf; subst hz
  exact g_iret hc (hR _ hK) dX0_wonMany_9
theorem c_X0_wonMany {l : Launch} {D : va_G} {dA : Nat → ClassId} {N : Nat} {ad : Nat → Nat} {tl : va_W} {lam : (Nat → Int64)} {σ : (Nat → Nat → Int32)} {u : Nat} {l2 : Int32} (hN : 36 ≤ N) (hu : gS u N) {o : Int32 × (Nat → Nat → Int32)} (hf : f_X0_wonMany σ u l2 = some o) : gI l D dA (XW dA N ad σ lam ++ tl) (XW dA N ad o.2 lam ++ tl) [.ref (ad 0), .ref (ad (sb u)), .int l2] o.1 yX0_wonMany (ws_ yX0_wonMany cX0_wonMany 3 (some .int)) ({ frames := 7, cells := 0, slots := 0, locals := 198 } : Room) :=
  g_startI (own := RX0) ⟨rfl, rfl⟩ (by decide) rfl (Nat.le_of_ble_eq_true rfl) (fun x e hc hR => by
    subst e
    exact w_X0_wonMany hc σ u l2 hN hu (K := fun o1 => o1 = o) hf rfl (by rintro _ rfl; exact hR))
theorem hd_X0_wonMany : yX0_wonMany.cls = RX0 ∧ yX0_wonMany.cls ≠ "java/lang/invoke/MethodHandle" ∧ yX0_wonMany.cls ≠ "java/lang/invoke/VarHandle" ∧ (parseMethodDescriptor yX0_wonMany.desc).map (fun d => d.parameters.length) = some 2 := by decide +kernel
/-! HedgehogLots.wonByAny(LHedgehogLots$Slope;)I -/
def f_X0_wonByAny_L4 (σ : (Nat → Nat → Int32)) (u : Nat) (l2 : Int32) (l3 : Int32) : Option ((Int32 × Int32 × (Nat → Nat → Int32)) ⊕ (Int32 × (Nat → Nat → Int32))) :=
  if 4 ≤ l3 then (oI (some (l2, σ))) else (oB (f_X0_won σ u l3) fun r4 => some (.inl ((l2 ||| r4.1), (l3 + 1), r4.2)))
theorem w_X0_wonByAny_L4 {x : gX} {N : Nat} {ad : Nat → Nat} {tl : va_W} {lam : (Nat → Int64)} (hc : gOk x RX0 cX0_wonByAny 4 7 198)  (σ : (Nat → Nat → Int32)) (u : Nat) (l2 : Int32) (l3 : Int32) (hN : 36 ≤ N) (hu : gS u N) {K : (Int32 × Int32 × (Nat → Nat → Int32)) ⊕ (Int32 × (Nat → Nat → Int32)) → Prop} {o : (Int32 × Int32 × (Nat → Nat → Int32)) ⊕ (Int32 × (Nat → Nat → Int32))} (hf : f_X0_wonByAny_L4 σ u l2 l3 = some o) (hK : K o) (hI4 : ∀ v : Int32 × Int32 × (Nat → Nat → Int32), K (.inl v) → gG x 4 0 0 (XW x.dA N ad v.2.2 lam ++ tl) 4 [(0, .ref (ad 0)), (1, .ref (ad (sb u))), (2, .int v.1), (3, .int v.2.1)] []) (hR : ∀ o : Int32 × (Nat → Nat → Int32), K (.inr (o)) → gRi x 0 0 (XW x.dA N ad o.2 lam ++ tl) o.1) : gG x 4 0 0 (XW x.dA N ad σ lam ++ tl) 4 [(0, .ref (ad 0)), (1, .ref (ad (sb u))), (2, .int l2), (3, .int l3)] [] := by
  unfold f_X0_wonByAny_L4 at hf
  refine g_iload_n hc dX0_wonByAny_4 rfl 3 rfl ?_
  refine g_iconst (v := 4) hc dX0_wonByAny_5 (by decide) ?_
  refine g_icmp_ge (tgt := 24) hc dX0_wonByAny_6 (by decide) (fun h1 => ?_) (fun h1 => ?_)
  · have hf := oT h1 hf
    obtain ⟨o2, hgo2, eo2⟩ := oI_some hf
    clear hf; subst eo2; have hf := hgo2; clear hgo2
    refine g_iload_n hc dX0_wonByAny_24 rfl 2 rfl ?_
    have hz := Option.some.inj hf; subst hz
    exact g_iret hc (hR _ hK) dX0_wonByAny_25
  · have hf := oF h1 hf
    refine g_iload_n hc dX0_wonByAny_9 rfl 2 rfl ?_
    refine g_aload_n hc dX0_wonByAny_10 rfl 0 rfl ?_
    refine g_aload_n hc dX0_wonByAny_11 rfl 1 rfl ?_
    refine g_iload_n hc dX0_wonByAny_12 rfl 3 rfl ?_
    obtain ⟨r4, h3, hf⟩ := oB_some hf
    refine g_callVi hc [.ref (ad (sb u)), .int l3] [.int l2] (c_X0_won hN hu h3) (XW_at (k := 0) (Nat.lt_of_lt_of_le (by decide) hN)) rfl (lw_V q597 q599 qs16 q60 q600) rfl hd_X0_won rfl rfl (Nat.le_of_ble_eq_true rfl) gZ dX0_wonByAny_13 ?_
    refine g_ior hc dX0_wonByAny_16 ?_
    refine g_istore_n (lv' := [(2, .int (l2 ||| r4.1)), (0, .ref (ad 0)), (1, .ref (ad (sb u))), (3, .int l3)]) hc dX0_wonByAny_17 rfl (by decide) rfl ?_
    refine g_iinc (v := l3 + 1) (lv' := [(3, .int (l3 + 1)), (2, .int (l2 ||| r4.1)), (0, .ref (ad 0)), (1, .ref (ad (sb u)))]) hc dX0_wonByAny_18 (j := 3) rfl rfl (by decide) rfl ?_
    refine g_goto (tgt := 4) hc dX0_wonByAny_21 (by decide) ?_
    have hz := Option.some.inj hf; subst hz
    exact g_lv [2, 3, 1, 0] rfl (hI4 _ hK)
def f_X0_wonByAny_b4 (σ : (Nat → Nat → Int32)) (u : Nat) (l2 : Int32) (l3 : Int32) : Option (Int32 × (Nat → Nat → Int32)) :=
  oLoop gFU (fun v : Int32 × Int32 × (Nat → Nat → Int32) => f_X0_wonByAny_L4 v.2.2 u v.1 v.2.1) (l2, l3, σ)
theorem w_X0_wonByAny_b4 {x : gX} {N : Nat} {ad : Nat → Nat} {tl : va_W} {lam : (Nat → Int64)} (hc : gOk x RX0 cX0_wonByAny 4 7 198)  (σ : (Nat → Nat → Int32)) (u : Nat) (l2 : Int32) (l3 : Int32) (hN : 36 ≤ N) (hu : gS u N) {K : Int32 × (Nat → Nat → Int32) → Prop} {o : Int32 × (Nat → Nat → Int32)} (hf : f_X0_wonByAny_b4 σ u l2 l3 = some o) (hK : K o) (hR : ∀ o : Int32 × (Nat → Nat → Int32), K o → gRi x 0 0 (XW x.dA N ad o.2 lam ++ tl) o.1) : gG x 4 0 0 (XW x.dA N ad σ lam ++ tl) 4 [(0, .ref (ad 0)), (1, .ref (ad (sb u))), (2, .int l2), (3, .int l3)] [] :=
  oLoop_ind (fun v : Int32 × Int32 × (Nat → Nat → Int32) => gG x 4 0 0 (XW x.dA N ad v.2.2 lam ++ tl) 4 [(0, .ref (ad 0)), (1, .ref (ad (sb u))), (2, .int v.1), (3, .int v.2.1)] []) K (fun v o1 hf1 hK1 => w_X0_wonByAny_L4 hc v.2.2 u v.1 v.2.1 hN hu (K := Sum.elim (fun v : Int32 × Int32 × (Nat → Nat → Int32) => gG x 4 0 0 (XW x.dA N ad v.2.2 lam ++ tl) 4 [(0, .ref (ad 0)), (1, .ref (ad (sb u))), (2, .int v.1), (3, .int v.2.1)] []) K) hf1 hK1 (fun v hv => hv) hR) gFU _ o hf hK
def f_X0_wonByAny (σ : (Nat → Nat → Int32)) (u : Nat) : Option (Int32 × (Nat → Nat → Int32)) :=
  f_X0_wonByAny_b4 σ u 0 0
theorem w_X0_wonByAny {x : gX} {N : Nat} {ad : Nat → Nat} {tl : va_W} {lam : (Nat → Int64)} (hc : gOk x RX0 cX0_wonByAny 4 7 198)  (σ : (Nat → Nat → Int32)) (u : Nat) (hN : 36 ≤ N) (hu : gS u N) {K : Int32 × (Nat → Nat → Int32) → Prop} {o : Int32 × (Nat → Nat → Int32)} (hf : f_X0_wonByAny σ u = some o) (hK : K o) (hR : ∀ o : Int32 × (Nat → Nat → Int32), K o → gRi x 0 0 (XW x.dA N ad o.2 lam ++ tl) o.1) : gG x 4 0 0 (XW x.dA N ad σ lam ++ tl) 0 [(0, .ref (ad 0)), (1, .ref (ad (sb u)))] [] := by
  unfold f_X0_wonByAny at hf
  refine g_iconst (v := 0) hc dX0_wonByAny_0 (by decide) ?_
  refine g_istore_n (lv' := [(2, .int 0), (0, .ref (ad 0)), (1, .ref (ad (sb u)))]) hc dX0_wonByAny_1 rfl (by decide) rfl ?_
  refine g_iconst (v := 0) hc dX0_wonByAny_2 (by decide) ?_
  refine g_istore_n (lv' := [(3, .int 0), (2, .int 0), (0, .ref (ad 0)), (1, .ref (ad (sb u)))]) hc dX0_wonByAny_3 rfl (by decide) rfl ?_
  exact g_lv [2, 3, 1, 0] rfl (w_X0_wonByAny_b4 hc σ u 0 0 hN hu (K := K) hf hK hR)
theorem c_X0_wonByAny {l : Launch} {D : va_G} {dA : Nat → ClassId} {N : Nat} {ad : Nat → Nat} {tl : va_W} {lam : (Nat → Int64)} {σ : (Nat → Nat → Int32)} {u : Nat} (hN : 36 ≤ N) (hu : gS u N) {o : Int32 × (Nat → Nat → Int32)} (hf : f_X0_wonByAny σ u = some o) : gI l D dA (XW dA N ad σ lam ++ tl) (XW dA N ad o.2 lam ++ tl) [.ref (ad 0), .ref (ad (sb u))] o.1 yX0_wonByAny (ws_ yX0_wonByAny cX0_wonByAny 4 (some .int)) ({ frames := 7, cells := 0, slots := 0, locals := 198 } : Room) :=
  g_startI (own := RX0) ⟨rfl, rfl⟩ (by decide) rfl (Nat.le_of_ble_eq_true rfl) (fun x e hc hR => by
    subst e
    exact w_X0_wonByAny hc σ u hN hu (K := fun o1 => o1 = o) hf rfl (by rintro _ rfl; exact hR))
theorem hd_X0_wonByAny : yX0_wonByAny.cls = RX0 ∧ yX0_wonByAny.cls ≠ "java/lang/invoke/MethodHandle" ∧ yX0_wonByAny.cls ≠ "java/lang/invoke/VarHandle" ∧ (parseMethodDescriptor yX0_wonByAny.desc).map (fun d => d.parameters.length) = some 1 := by decide +kernel
/-! HedgehogLots.feed(I)I -/
def f_X0_feed (σ : (Nat → Nat → Int32)) (l1 : Int32) : Option (Int32 × (Nat → Nat → Int32)) :=
  oB (f_X0_in (Int32.toInt64 l1) 0 127) fun r2 => if r2 = 0 then (some ((-1), σ)) else (if (σ 0 13) = 160 then (some ((-3), σ)) else (oC (inb (σ 0 13) 160) <| oL (upd2 σ 8 (σ 0 13).toNatClampNeg (nbt (Int8.toInt32 (Int32.toInt8 l1)))) fun s5 => oL (upd2 s5 0 13 ((s5 0 13) + 1)) fun s8 => some ((s8 0 13), s8)))
theorem w_X0_feed {x : gX} {N : Nat} {ad : Nat → Nat} {tl : va_W} {lam : (Nat → Int64)} (hc : gOk x RX0 cX0_feed 2 1 25)  (σ : (Nat → Nat → Int32)) (l1 : Int32) (hN : 36 ≤ N) {K : Int32 × (Nat → Nat → Int32) → Prop} {o : Int32 × (Nat → Nat → Int32)} (hf : f_X0_feed σ l1 = some o) (hK : K o) (hR : ∀ o : Int32 × (Nat → Nat → Int32), K o → gRi x 0 0 (XW x.dA N ad o.2 lam ++ tl) o.1) : gG x 2 0 0 (XW x.dA N ad σ lam ++ tl) 0 [(0, .ref (ad 0)), (1, .int l1)] [] := by
  unfold f_X0_feed at hf
  refine g_iload_n hc dX0_feed_0 rfl 1 rfl ?_
  refine g_i2l hc dX0_feed_1 ?_
  refine g_lconst (v := 0) hc dX0_feed_2 (by decide) ?_
  refine g_ldc2 (v := 127) hc q259 dX0_feed_3 ?_
  obtain ⟨r2, h1, hf⟩ := oB_some hf
  refine g_callSi hc [.long (Int32.toInt64 l1), .long 0, .long 127] [] (c_X0_in  h1) (lw_S q260 q261 q60 q262) rfl hd_X0_in rfl rfl (Nat.le_of_ble_eq_true rfl) gZ dX0_feed_6 ?_
  refine g_if_ne (tgt := 14) hc dX0_feed_9 (by decide) (fun h3 => ?_) (fun h3 => ?_)
  · have hf := oF h3 hf
    refine g_aload_n hc dX0_feed_14 rfl 0 rfl ?_
    refine g_get (v := .int (σ 0 13)) hc in_X0 (XW_at (k := 0) (Nat.lt_of_lt_of_le (by decide) hN)) rfl 13 (by decide) q198 rfl dX0_feed_15 ?_
    refine g_sipush (v := 160) hc dX0_feed_18 (by decide) ?_
    refine g_icmp_ne (tgt := 27) hc dX0_feed_21 (by decide) (fun h4 => ?_) (fun h4 => ?_)
    · have hf := oF h4 hf
      refine g_aload_n hc dX0_feed_27 rfl 0 rfl ?_
      refine g_get (v := .ref (ad 8)) hc in_X0 (XW_at (k := 0) (Nat.lt_of_lt_of_le (by decide) hN)) rfl 12 (by decide) q197 rfl dX0_feed_28 ?_
      refine g_aload_n hc dX0_feed_31 rfl 0 rfl ?_
      refine g_get (v := .int (σ 0 13)) hc in_X0 (XW_at (k := 0) (Nat.lt_of_lt_of_le (by decide) hN)) rfl 13 (by decide) q198 rfl dX0_feed_32 ?_
      refine g_iload_n hc dX0_feed_35 rfl 1 rfl ?_
      refine g_i2b hc dX0_feed_36 ?_
      obtain ⟨h7, hf⟩ := oC_some hf
      obtain ⟨s5, e6, hf⟩ := oL_some hf
      refine g_bast (n := 160) (f := σ 8) hc (XW_at (k := 8) (Nat.lt_of_lt_of_le (by decide) hN)) h7 (XW_set (σ1 := s5) (k := 8) (Nat.lt_of_lt_of_le (by decide) hN) e6 rfl) dX0_feed_37 ?_
      refine g_aload_n hc dX0_feed_38 rfl 0 rfl ?_
      refine g_dup hc dX0_feed_39 rfl ?_
      refine g_get (v := .int (s5 0 13)) hc in_X0 (XW_at (k := 0) (Nat.lt_of_lt_of_le (by decide) hN)) rfl 13 (by decide) q198 rfl dX0_feed_40 ?_
      refine g_iconst (v := 1) hc dX0_feed_43 (by decide) ?_
      refine g_iadd hc dX0_feed_44 ?_
      obtain ⟨s8, e9, hf⟩ := oL_some hf
      refine g_put (v := .int ((s5 0 13) + 1)) hc in_X0 tyX0_ok nmX0 (XW_at (k := 0) (Nat.lt_of_lt_of_le (by decide) hN)) rfl 13 (by decide) q198 rfl rfl rfl (Nat.le_of_ble_eq_true rfl) (XW_set (σ1 := s8) (k := 0) (Nat.lt_of_lt_of_le (by decide) hN) e9 rfl) dX0_feed_45 ?_
      refine g_aload_n hc dX0_feed_48 rfl 0 rfl ?_
      refine g_get (v := .int (s8 0 13)) hc in_X0 (XW_at (k := 0) (Nat.lt_of_lt_of_le (by decide) hN)) rfl 13 (by decide) q198 rfl dX0_feed_49 ?_
      have hz := Option.some.inj hf; subst hz
      exact g_iret hc (hR _ hK) dX0_feed_52
    · have hf := oT h4 hf
      refine g_bipush (v := (-3)) hc dX0_feed_24 (by decide) ?_
      have hz := Option.some.inj hf; subst hz
      exact g_iret hc (hR _ hK) dX0_feed_26
  · have hf := oT h3 hf
    refine g_iconst (v := (-1)) hc dX0_feed_12 (by decide) ?_
    have hz := Option.some.inj hf; subst hz
    exact g_iret hc (hR _ hK) dX0_feed_13
theorem c_X0_feed {l : Launch} {D : va_G} {dA : Nat → ClassId} {N : Nat} {ad : Nat → Nat} {tl : va_W} {lam : (Nat → Int64)} {σ : (Nat → Nat → Int32)} {l1 : Int32} (hN : 36 ≤ N) {o : Int32 × (Nat → Nat → Int32)} (hf : f_X0_feed σ l1 = some o) : gI l D dA (XW dA N ad σ lam ++ tl) (XW dA N ad o.2 lam ++ tl) [.ref (ad 0), .int l1] o.1 yX0_feed (ws_ yX0_feed cX0_feed 2 (some .int)) ({ frames := 1, cells := 0, slots := 0, locals := 25 } : Room) :=
  g_startI (own := RX0) ⟨rfl, rfl⟩ (by decide) rfl (Nat.le_of_ble_eq_true rfl) (fun x e hc hR => by
    subst e
    exact w_X0_feed hc σ l1 hN (K := fun o1 => o1 = o) hf rfl (by rintro _ rfl; exact hR))
theorem hd_X0_feed : yX0_feed.cls = RX0 ∧ yX0_feed.cls ≠ "java/lang/invoke/MethodHandle" ∧ yX0_feed.cls ≠ "java/lang/invoke/VarHandle" ∧ (parseMethodDescriptor yX0_feed.desc).map (fun d => d.parameters.length) = some 1 := by decide +kernel
/-! HedgehogLots.end(I)I -/
def f_X0_end (σ : (Nat → Nat → Int32)) (l1 : Int32) : Option (Int32 × (Nat → Nat → Int32)) :=
  oB (f_X0_in (Int32.toInt64 l1) 0 (Int32.toInt64 (σ 0 13))) fun r2 => if r2 = 0 then (some ((-1), σ)) else (oL (upd2 σ 0 13 l1) fun s4 => some ((σ 0 13), s4))
theorem w_X0_end {x : gX} {N : Nat} {ad : Nat → Nat} {tl : va_W} {lam : (Nat → Int64)} (hc : gOk x RX0 cX0_end 3 1 25)  (σ : (Nat → Nat → Int32)) (l1 : Int32) (hN : 36 ≤ N) {K : Int32 × (Nat → Nat → Int32) → Prop} {o : Int32 × (Nat → Nat → Int32)} (hf : f_X0_end σ l1 = some o) (hK : K o) (hR : ∀ o : Int32 × (Nat → Nat → Int32), K o → gRi x 0 0 (XW x.dA N ad o.2 lam ++ tl) o.1) : gG x 3 0 0 (XW x.dA N ad σ lam ++ tl) 0 [(0, .ref (ad 0)), (1, .int l1)] [] := by
  unfold f_X0_end at hf
  refine g_iload_n hc dX0_end_0 rfl 1 rfl ?_
  refine g_i2l hc dX0_end_1 ?_
  refine g_lconst (v := 0) hc dX0_end_2 (by decide) ?_
  refine g_aload_n hc dX0_end_3 rfl 0 rfl ?_
  refine g_get (v := .int (σ 0 13)) hc in_X0 (XW_at (k := 0) (Nat.lt_of_lt_of_le (by decide) hN)) rfl 13 (by decide) q198 rfl dX0_end_4 ?_
  refine g_i2l hc dX0_end_7 ?_
  obtain ⟨r2, h1, hf⟩ := oB_some hf
  refine g_callSi hc [.long (Int32.toInt64 l1), .long 0, .long (Int32.toInt64 (σ 0 13))] [] (c_X0_in  h1) (lw_S q260 q261 q60 q262) rfl hd_X0_in rfl rfl (Nat.le_of_ble_eq_true rfl) gZ dX0_end_8 ?_
  refine g_if_ne (tgt := 16) hc dX0_end_11 (by decide) (fun h3 => ?_) (fun h3 => ?_)
  · have hf := oF h3 hf
    refine g_aload_n hc dX0_end_16 rfl 0 rfl ?_
    refine g_get (v := .int (σ 0 13)) hc in_X0 (XW_at (k := 0) (Nat.lt_of_lt_of_le (by decide) hN)) rfl 13 (by decide) q198 rfl dX0_end_17 ?_
    refine g_istore_n (lv' := [(2, .int (σ 0 13)), (0, .ref (ad 0)), (1, .int l1)]) hc dX0_end_20 rfl (by decide) rfl ?_
    refine g_aload_n hc dX0_end_21 rfl 1 rfl ?_
    refine g_iload_n hc dX0_end_22 rfl 2 rfl ?_
    obtain ⟨s4, e5, hf⟩ := oL_some hf
    refine g_put (v := .int l1) hc in_X0 tyX0_ok nmX0 (XW_at (k := 0) (Nat.lt_of_lt_of_le (by decide) hN)) rfl 13 (by decide) q198 rfl rfl rfl (Nat.le_of_ble_eq_true rfl) (XW_set (σ1 := s4) (k := 0) (Nat.lt_of_lt_of_le (by decide) hN) e5 rfl) dX0_end_23 ?_
    refine g_iload_n hc dX0_end_26 rfl 0 rfl ?_
    have hz := Option.some.inj hf; subst hz
    exact g_iret hc (hR _ hK) dX0_end_27
  · have hf := oT h3 hf
    refine g_iconst (v := (-1)) hc dX0_end_14 (by decide) ?_
    have hz := Option.some.inj hf; subst hz
    exact g_iret hc (hR _ hK) dX0_end_15
theorem c_X0_end {l : Launch} {D : va_G} {dA : Nat → ClassId} {N : Nat} {ad : Nat → Nat} {tl : va_W} {lam : (Nat → Int64)} {σ : (Nat → Nat → Int32)} {l1 : Int32} (hN : 36 ≤ N) {o : Int32 × (Nat → Nat → Int32)} (hf : f_X0_end σ l1 = some o) : gI l D dA (XW dA N ad σ lam ++ tl) (XW dA N ad o.2 lam ++ tl) [.ref (ad 0), .int l1] o.1 yX0_end (ws_ yX0_end cX0_end 3 (some .int)) ({ frames := 1, cells := 0, slots := 0, locals := 25 } : Room) :=
  g_startI (own := RX0) ⟨rfl, rfl⟩ (by decide) rfl (Nat.le_of_ble_eq_true rfl) (fun x e hc hR => by
    subst e
    exact w_X0_end hc σ l1 hN (K := fun o1 => o1 = o) hf rfl (by rintro _ rfl; exact hR))
theorem hd_X0_end : yX0_end.cls = RX0 ∧ yX0_end.cls ≠ "java/lang/invoke/MethodHandle" ∧ yX0_end.cls ≠ "java/lang/invoke/VarHandle" ∧ (parseMethodDescriptor yX0_end.desc).map (fun d => d.parameters.length) = some 1 := by decide +kernel
/-! HedgehogLots.fault()I -/
def f_X0_fault (σ : (Nat → Nat → Int32)) : Option (Int32) :=
  some (σ 0 14)
theorem w_X0_fault {x : gX} {N : Nat} {ad : Nat → Nat} {tl : va_W} {lam : (Nat → Int64)} (hc : gOk x RX0 cX0_fault 1 0 0)  (σ : (Nat → Nat → Int32)) (hN : 36 ≤ N) {K : Int32 → Prop} {o : Int32} (hf : f_X0_fault σ = some o) (hK : K o) (hR : ∀ o : Int32, K o → gRi x 0 0 (XW x.dA N ad σ lam ++ tl) o) : gG x 1 0 0 (XW x.dA N ad σ lam ++ tl) 0 [(0, .ref (ad 0))] [] := by
  unfold f_X0_fault at hf
  refine g_aload_n hc dX0_fault_0 rfl 0 rfl ?_
  refine g_get (v := .int (σ 0 14)) hc in_X0 (XW_at (k := 0) (Nat.lt_of_lt_of_le (by decide) hN)) rfl 14 (by decide) q199 rfl dX0_fault_1 ?_
  have hz := Option.some.inj hf; subst hz
  exact g_iret hc (hR _ hK) dX0_fault_4
theorem c_X0_fault {l : Launch} {D : va_G} {dA : Nat → ClassId} {N : Nat} {ad : Nat → Nat} {tl : va_W} {lam : (Nat → Int64)} {σ : (Nat → Nat → Int32)} (hN : 36 ≤ N) {o : Int32} (hf : f_X0_fault σ = some o) : gI l D dA (XW dA N ad σ lam ++ tl) (XW dA N ad σ lam ++ tl) [.ref (ad 0)] o yX0_fault (ws_ yX0_fault cX0_fault 1 (some .int)) ({ frames := 0, cells := 0, slots := 0, locals := 0 } : Room) :=
  g_startI (own := RX0) ⟨rfl, rfl⟩ (by decide) rfl (Nat.le_of_ble_eq_true rfl) (fun x e hc hR => by
    subst e
    exact w_X0_fault hc σ hN (K := fun o1 => o1 = o) hf rfl (by rintro _ rfl; exact hR))
theorem hd_X0_fault : yX0_fault.cls = RX0 ∧ yX0_fault.cls ≠ "java/lang/invoke/MethodHandle" ∧ yX0_fault.cls ≠ "java/lang/invoke/VarHandle" ∧ (parseMethodDescriptor yX0_fault.desc).map (fun d => d.parameters.length) = some 0 := by decide +kernel
/-! HedgehogLots.isCell(I)Z -/
def f_X0_isCell (l0 : Int32) : Option (Int32) :=
  oB (f_X0_in (Int32.toInt64 l0) 0 99) fun r2 => if r2 = 0 then (some 0) else (if 8 ≤ (l0 - l0 / 10 * 10) then (some 0) else (some 1))
theorem w_X0_isCell {x : gX} {Φ : va_W}  (hc : gOk x RX0 cX0_isCell 1 1 25)  (l0 : Int32)  {K : Int32 → Prop} {o : Int32} (hf : f_X0_isCell l0 = some o) (hK : K o) (hR : ∀ o : Int32, K o → gRz x 0 0 (Φ) o) : gG x 1 0 0 (Φ) 0 [(0, .int l0)] [] := by
  unfold f_X0_isCell at hf
  refine g_iload_n hc dX0_isCell_0 rfl 0 rfl ?_
  refine g_i2l hc dX0_isCell_1 ?_
  refine g_lconst (v := 0) hc dX0_isCell_2 (by decide) ?_
  refine g_ldc2 (v := 99) hc q488 dX0_isCell_3 ?_
  obtain ⟨r2, h1, hf⟩ := oB_some hf
  refine g_callSi hc [.long (Int32.toInt64 l0), .long 0, .long 99] [] (c_X0_in  h1) (lw_S q260 q261 q60 q262) rfl hd_X0_in rfl rfl (Nat.le_of_ble_eq_true rfl) gZ dX0_isCell_6 ?_
  refine g_if_eq (tgt := 25) hc dX0_isCell_9 (by decide) (fun h3 => ?_) (fun h3 => ?_)
  · have hf := oT h3 hf
    refine g_iconst (v := 0) hc dX0_isCell_25 (by decide) ?_
    have hz := Option.some.inj hf; subst hz
    exact g_zret hc (hR _ hK) rfl dX0_isCell_26
  · have hf := oF h3 hf
    refine g_iload_n hc dX0_isCell_12 rfl 0 rfl ?_
    refine g_bipush (v := 10) hc dX0_isCell_13 (by decide) ?_
    refine g_irem hc dX0_isCell_15 (by decide) ?_
    refine g_bipush (v := 8) hc dX0_isCell_16 (by decide) ?_
    refine g_icmp_ge (tgt := 25) hc dX0_isCell_18 (by decide) (fun h4 => ?_) (fun h4 => ?_)
    · have hf := oT h4 hf
      refine g_iconst (v := 0) hc dX0_isCell_25 (by decide) ?_
      have hz := Option.some.inj hf; subst hz
      exact g_zret hc (hR _ hK) rfl dX0_isCell_26
    · have hf := oF h4 hf
      refine g_iconst (v := 1) hc dX0_isCell_21 (by decide) ?_
      refine g_goto (tgt := 26) hc dX0_isCell_22 (by decide) ?_
      have hz := Option.some.inj hf; subst hz
      exact g_zret hc (hR _ hK) rfl dX0_isCell_26
theorem c_X0_isCell {l : Launch} {D : va_G} {dA : Nat → ClassId} {Φ : va_W}  {l0 : Int32}  {o : Int32} (hf : f_X0_isCell l0 = some o) : gI l D dA (Φ) (Φ) [.int l0] o yX0_isCell (ws_ yX0_isCell cX0_isCell 1 (some .boolean)) ({ frames := 1, cells := 0, slots := 0, locals := 25 } : Room) :=
  g_startZ (own := RX0) ⟨rfl, rfl⟩ (by decide) rfl (Nat.le_of_ble_eq_true rfl) (fun x e hc hR => by
    subst e
    exact w_X0_isCell hc l0  (K := fun o1 => o1 = o) hf rfl (by rintro _ rfl; exact hR))
theorem hd_X0_isCell : yX0_isCell.cls ≠ "java/lang/invoke/MethodHandle" ∧ yX0_isCell.cls ≠ "java/lang/invoke/VarHandle" ∧ (parseMethodDescriptor yX0_isCell.desc).map (fun d => d.parameters.length) = some 1 := by decide +kernel
/-! HedgehogLots.isColumn(I)Z -/
def f_X0_isColumn (l0 : Int32) : Option (Int32) :=
  oB (f_X0_in (Int32.toInt64 l0) 0 7) fun r2 => oC (isB r2) <| some r2
theorem w_X0_isColumn {x : gX} {Φ : va_W}  (hc : gOk x RX0 cX0_isColumn 1 1 25)  (l0 : Int32)  {K : Int32 → Prop} {o : Int32} (hf : f_X0_isColumn l0 = some o) (hK : K o) (hR : ∀ o : Int32, K o → gRz x 0 0 (Φ) o) : gG x 1 0 0 (Φ) 0 [(0, .int l0)] [] := by
  unfold f_X0_isColumn at hf
  refine g_iload_n hc dX0_isColumn_0 rfl 0 rfl ?_
  refine g_i2l hc dX0_isColumn_1 ?_
  refine g_lconst (v := 0) hc dX0_isColumn_2 (by decide) ?_
  refine g_ldc2 (v := 7) hc q674 dX0_isColumn_3 ?_
  obtain ⟨r2, h1, hf⟩ := oB_some hf
  refine g_callSi hc [.long (Int32.toInt64 l0), .long 0, .long 7] [] (c_X0_in  h1) (lw_S q260 q261 q60 q262) rfl hd_X0_in rfl rfl (Nat.le_of_ble_eq_true rfl) gZ dX0_isColumn_6 ?_
  obtain ⟨h3, hf⟩ := oC_some hf
  have hz := Option.some.inj hf; subst hz
  exact g_zret hc (hR _ hK) (isB_nar h3) dX0_isColumn_9
theorem c_X0_isColumn {l : Launch} {D : va_G} {dA : Nat → ClassId} {Φ : va_W}  {l0 : Int32}  {o : Int32} (hf : f_X0_isColumn l0 = some o) : gI l D dA (Φ) (Φ) [.int l0] o yX0_isColumn (ws_ yX0_isColumn cX0_isColumn 1 (some .boolean)) ({ frames := 1, cells := 0, slots := 0, locals := 25 } : Room) :=
  g_startZ (own := RX0) ⟨rfl, rfl⟩ (by decide) rfl (Nat.le_of_ble_eq_true rfl) (fun x e hc hR => by
    subst e
    exact w_X0_isColumn hc l0  (K := fun o1 => o1 = o) hf rfl (by rintro _ rfl; exact hR))
theorem hd_X0_isColumn : yX0_isColumn.cls ≠ "java/lang/invoke/MethodHandle" ∧ yX0_isColumn.cls ≠ "java/lang/invoke/VarHandle" ∧ (parseMethodDescriptor yX0_isColumn.desc).map (fun d => d.parameters.length) = some 1 := by decide +kernel
/-! HedgehogLots.isRag(I)Z -/
def f_X0_isRag (l0 : Int32) : Option (Int32) :=
  oB (f_X0_in (Int32.toInt64 l0) 0 3) fun r2 => oC (isB r2) <| some r2
theorem w_X0_isRag {x : gX} {Φ : va_W}  (hc : gOk x RX0 cX0_isRag 1 1 25)  (l0 : Int32)  {K : Int32 → Prop} {o : Int32} (hf : f_X0_isRag l0 = some o) (hK : K o) (hR : ∀ o : Int32, K o → gRz x 0 0 (Φ) o) : gG x 1 0 0 (Φ) 0 [(0, .int l0)] [] := by
  unfold f_X0_isRag at hf
  refine g_iload_n hc dX0_isRag_0 rfl 0 rfl ?_
  refine g_i2l hc dX0_isRag_1 ?_
  refine g_lconst (v := 0) hc dX0_isRag_2 (by decide) ?_
  refine g_ldc2 (v := 3) hc q626 dX0_isRag_3 ?_
  obtain ⟨r2, h1, hf⟩ := oB_some hf
  refine g_callSi hc [.long (Int32.toInt64 l0), .long 0, .long 3] [] (c_X0_in  h1) (lw_S q260 q261 q60 q262) rfl hd_X0_in rfl rfl (Nat.le_of_ble_eq_true rfl) gZ dX0_isRag_6 ?_
  obtain ⟨h3, hf⟩ := oC_some hf
  have hz := Option.some.inj hf; subst hz
  exact g_zret hc (hR _ hK) (isB_nar h3) dX0_isRag_9
theorem c_X0_isRag {l : Launch} {D : va_G} {dA : Nat → ClassId} {Φ : va_W}  {l0 : Int32}  {o : Int32} (hf : f_X0_isRag l0 = some o) : gI l D dA (Φ) (Φ) [.int l0] o yX0_isRag (ws_ yX0_isRag cX0_isRag 1 (some .boolean)) ({ frames := 1, cells := 0, slots := 0, locals := 25 } : Room) :=
  g_startZ (own := RX0) ⟨rfl, rfl⟩ (by decide) rfl (Nat.le_of_ble_eq_true rfl) (fun x e hc hR => by
    subst e
    exact w_X0_isRag hc l0  (K := fun o1 => o1 = o) hf rfl (by rintro _ rfl; exact hR))
theorem hd_X0_isRag : yX0_isRag.cls ≠ "java/lang/invoke/MethodHandle" ∧ yX0_isRag.cls ≠ "java/lang/invoke/VarHandle" ∧ (parseMethodDescriptor yX0_isRag.desc).map (fun d => d.parameters.length) = some 1 := by decide +kernel
/-! HedgehogLots.isPeg(I)Z -/
def f_X0_isPeg (σ : (Nat → Nat → Int32)) (l1 : Int32) : Option (Int32) :=
  oB (f_X0_in (Int32.toInt64 l1) 0 (Int32.toInt64 ((σ (sb 0) 0) - 1))) fun r2 => oC (isB r2) <| some r2
theorem w_X0_isPeg {x : gX} {N : Nat} {ad : Nat → Nat} {tl : va_W} {lam : (Nat → Int64)} (hc : gOk x RX0 cX0_isPeg 2 1 25)  (σ : (Nat → Nat → Int32)) (l1 : Int32) (hN : 36 ≤ N) {K : Int32 → Prop} {o : Int32} (hf : f_X0_isPeg σ l1 = some o) (hK : K o) (hR : ∀ o : Int32, K o → gRz x 0 0 (XW x.dA N ad σ lam ++ tl) o) : gG x 2 0 0 (XW x.dA N ad σ lam ++ tl) 0 [(0, .ref (ad 0)), (1, .int l1)] [] := by
  unfold f_X0_isPeg at hf
  refine g_iload_n hc dX0_isPeg_0 rfl 1 rfl ?_
  refine g_i2l hc dX0_isPeg_1 ?_
  refine g_lconst (v := 0) hc dX0_isPeg_2 (by decide) ?_
  refine g_aload_n hc dX0_isPeg_3 rfl 0 rfl ?_
  refine g_get (v := .ref (ad (sb 0))) hc in_X0 (XW_at (k := 0) (Nat.lt_of_lt_of_le (by decide) hN)) rfl 1 (by decide) q185 rfl dX0_isPeg_4 ?_
  refine g_getN (v := .int (σ (sb 0) 0)) hc in_X5 (XW_s0 (gSl 0 hN (by decide))) rfl 0 (by decide) 1 rfl rfl dX0_isPeg_7 ?_
  refine g_iconst (v := 1) hc dX0_isPeg_10 (by decide) ?_
  refine g_isub hc dX0_isPeg_11 ?_
  refine g_i2l hc dX0_isPeg_12 ?_
  obtain ⟨r2, h1, hf⟩ := oB_some hf
  refine g_callSi hc [.long (Int32.toInt64 l1), .long 0, .long (Int32.toInt64 ((σ (sb 0) 0) - 1))] [] (c_X0_in  h1) (lw_S q260 q261 q60 q262) rfl hd_X0_in rfl rfl (Nat.le_of_ble_eq_true rfl) gZ dX0_isPeg_13 ?_
  obtain ⟨h3, hf⟩ := oC_some hf
  have hz := Option.some.inj hf; subst hz
  exact g_zret hc (hR _ hK) (isB_nar h3) dX0_isPeg_16
theorem c_X0_isPeg {l : Launch} {D : va_G} {dA : Nat → ClassId} {N : Nat} {ad : Nat → Nat} {tl : va_W} {lam : (Nat → Int64)} {σ : (Nat → Nat → Int32)} {l1 : Int32} (hN : 36 ≤ N) {o : Int32} (hf : f_X0_isPeg σ l1 = some o) : gI l D dA (XW dA N ad σ lam ++ tl) (XW dA N ad σ lam ++ tl) [.ref (ad 0), .int l1] o yX0_isPeg (ws_ yX0_isPeg cX0_isPeg 2 (some .boolean)) ({ frames := 1, cells := 0, slots := 0, locals := 25 } : Room) :=
  g_startZ (own := RX0) ⟨rfl, rfl⟩ (by decide) rfl (Nat.le_of_ble_eq_true rfl) (fun x e hc hR => by
    subst e
    exact w_X0_isPeg hc σ l1 hN (K := fun o1 => o1 = o) hf rfl (by rintro _ rfl; exact hR))
theorem hd_X0_isPeg : yX0_isPeg.cls = RX0 ∧ yX0_isPeg.cls ≠ "java/lang/invoke/MethodHandle" ∧ yX0_isPeg.cls ≠ "java/lang/invoke/VarHandle" ∧ (parseMethodDescriptor yX0_isPeg.desc).map (fun d => d.parameters.length) = some 1 := by decide +kernel
/-! HedgehogLots.isHedgehog(I)Z -/
def f_X0_isHedgehog (σ : (Nat → Nat → Int32)) (l1 : Int32) : Option (Int32) :=
  oB (f_X0_in (Int32.toInt64 l1) 0 (Int32.toInt64 ((σ (sb 0) 5) - 1))) fun r2 => oC (isB r2) <| some r2
theorem w_X0_isHedgehog {x : gX} {N : Nat} {ad : Nat → Nat} {tl : va_W} {lam : (Nat → Int64)} (hc : gOk x RX0 cX0_isHedgehog 2 1 25)  (σ : (Nat → Nat → Int32)) (l1 : Int32) (hN : 36 ≤ N) {K : Int32 → Prop} {o : Int32} (hf : f_X0_isHedgehog σ l1 = some o) (hK : K o) (hR : ∀ o : Int32, K o → gRz x 0 0 (XW x.dA N ad σ lam ++ tl) o) : gG x 2 0 0 (XW x.dA N ad σ lam ++ tl) 0 [(0, .ref (ad 0)), (1, .int l1)] [] := by
  unfold f_X0_isHedgehog at hf
  refine g_iload_n hc dX0_isHedgehog_0 rfl 1 rfl ?_
  refine g_i2l hc dX0_isHedgehog_1 ?_
  refine g_lconst (v := 0) hc dX0_isHedgehog_2 (by decide) ?_
  refine g_aload_n hc dX0_isHedgehog_3 rfl 0 rfl ?_
  refine g_get (v := .ref (ad (sb 0))) hc in_X0 (XW_at (k := 0) (Nat.lt_of_lt_of_le (by decide) hN)) rfl 1 (by decide) q185 rfl dX0_isHedgehog_4 ?_
  refine g_getN (v := .int (σ (sb 0) 5)) hc in_X5 (XW_s0 (gSl 0 hN (by decide))) rfl 5 (by decide) 8 rfl rfl dX0_isHedgehog_7 ?_
  refine g_iconst (v := 1) hc dX0_isHedgehog_10 (by decide) ?_
  refine g_isub hc dX0_isHedgehog_11 ?_
  refine g_i2l hc dX0_isHedgehog_12 ?_
  obtain ⟨r2, h1, hf⟩ := oB_some hf
  refine g_callSi hc [.long (Int32.toInt64 l1), .long 0, .long (Int32.toInt64 ((σ (sb 0) 5) - 1))] [] (c_X0_in  h1) (lw_S q260 q261 q60 q262) rfl hd_X0_in rfl rfl (Nat.le_of_ble_eq_true rfl) gZ dX0_isHedgehog_13 ?_
  obtain ⟨h3, hf⟩ := oC_some hf
  have hz := Option.some.inj hf; subst hz
  exact g_zret hc (hR _ hK) (isB_nar h3) dX0_isHedgehog_16
theorem c_X0_isHedgehog {l : Launch} {D : va_G} {dA : Nat → ClassId} {N : Nat} {ad : Nat → Nat} {tl : va_W} {lam : (Nat → Int64)} {σ : (Nat → Nat → Int32)} {l1 : Int32} (hN : 36 ≤ N) {o : Int32} (hf : f_X0_isHedgehog σ l1 = some o) : gI l D dA (XW dA N ad σ lam ++ tl) (XW dA N ad σ lam ++ tl) [.ref (ad 0), .int l1] o yX0_isHedgehog (ws_ yX0_isHedgehog cX0_isHedgehog 2 (some .boolean)) ({ frames := 1, cells := 0, slots := 0, locals := 25 } : Room) :=
  g_startZ (own := RX0) ⟨rfl, rfl⟩ (by decide) rfl (Nat.le_of_ble_eq_true rfl) (fun x e hc hR => by
    subst e
    exact w_X0_isHedgehog hc σ l1 hN (K := fun o1 => o1 = o) hf rfl (by rintro _ rfl; exact hR))
theorem hd_X0_isHedgehog : yX0_isHedgehog.cls = RX0 ∧ yX0_isHedgehog.cls ≠ "java/lang/invoke/MethodHandle" ∧ yX0_isHedgehog.cls ≠ "java/lang/invoke/VarHandle" ∧ (parseMethodDescriptor yX0_isHedgehog.desc).map (fun d => d.parameters.length) = some 1 := by decide +kernel
/-! HedgehogLots.isRun(II)Z -/
def f_X0_isRun (σ : (Nat → Nat → Int32)) (l1 : Int32) (l2 : Int32) : Option (Int32) :=
  oB (f_X0_isHedgehog σ l1) fun r2 => if r2 = 0 then (some 0) else (oB (f_X0_isColumn l2) fun r5 => if r5 = 0 then (some 0) else (some 1))
theorem w_X0_isRun {x : gX} {N : Nat} {ad : Nat → Nat} {tl : va_W} {lam : (Nat → Int64)} (hc : gOk x RX0 cX0_isRun 3 2 46)  (σ : (Nat → Nat → Int32)) (l1 : Int32) (l2 : Int32) (hN : 36 ≤ N) {K : Int32 → Prop} {o : Int32} (hf : f_X0_isRun σ l1 l2 = some o) (hK : K o) (hR : ∀ o : Int32, K o → gRz x 0 0 (XW x.dA N ad σ lam ++ tl) o) : gG x 3 0 0 (XW x.dA N ad σ lam ++ tl) 0 [(0, .ref (ad 0)), (1, .int l1), (2, .int l2)] [] := by
  unfold f_X0_isRun at hf
  refine g_aload_n hc dX0_isRun_0 rfl 0 rfl ?_
  refine g_iload_n hc dX0_isRun_1 rfl 1 rfl ?_
  obtain ⟨r2, h1, hf⟩ := oB_some hf
  refine g_callVi hc [.int l1] [] (c_X0_isHedgehog hN h1) (XW_at (k := 0) (Nat.lt_of_lt_of_le (by decide) hN)) rfl (lw_V q622 q624 qs19 q60 q625) rfl hd_X0_isHedgehog rfl rfl (Nat.le_of_ble_eq_true rfl) gZ dX0_isRun_2 ?_
  refine g_if_eq (tgt := 19) hc dX0_isRun_5 (by decide) (fun h3 => ?_) (fun h3 => ?_)
  · have hf := oT h3 hf
    refine g_iconst (v := 0) hc dX0_isRun_19 (by decide) ?_
    have hz := Option.some.inj hf; subst hz
    exact g_zret hc (hR _ hK) rfl dX0_isRun_20
  · have hf := oF h3 hf
    refine g_iload_n hc dX0_isRun_8 rfl 2 rfl ?_
    obtain ⟨r5, h4, hf⟩ := oB_some hf
    refine g_callSi hc [.int l2] [] (c_X0_isColumn  h4) (lw_S q671 q672 q60 q673) rfl hd_X0_isColumn rfl rfl (Nat.le_of_ble_eq_true rfl) gZ dX0_isRun_9 ?_
    refine g_if_eq (tgt := 19) hc dX0_isRun_12 (by decide) (fun h6 => ?_) (fun h6 => ?_)
    · have hf := oT h6 hf
      refine g_iconst (v := 0) hc dX0_isRun_19 (by decide) ?_
      have hz := Option.some.inj hf; subst hz
      exact g_zret hc (hR _ hK) rfl dX0_isRun_20
    · have hf := oF h6 hf
      refine g_iconst (v := 1) hc dX0_isRun_15 (by decide) ?_
      refine g_goto (tgt := 20) hc dX0_isRun_16 (by decide) ?_
      have hz := Option.some.inj hf; subst hz
      exact g_zret hc (hR _ hK) rfl dX0_isRun_20
theorem c_X0_isRun {l : Launch} {D : va_G} {dA : Nat → ClassId} {N : Nat} {ad : Nat → Nat} {tl : va_W} {lam : (Nat → Int64)} {σ : (Nat → Nat → Int32)} {l1 : Int32} {l2 : Int32} (hN : 36 ≤ N) {o : Int32} (hf : f_X0_isRun σ l1 l2 = some o) : gI l D dA (XW dA N ad σ lam ++ tl) (XW dA N ad σ lam ++ tl) [.ref (ad 0), .int l1, .int l2] o yX0_isRun (ws_ yX0_isRun cX0_isRun 3 (some .boolean)) ({ frames := 2, cells := 0, slots := 0, locals := 46 } : Room) :=
  g_startZ (own := RX0) ⟨rfl, rfl⟩ (by decide) rfl (Nat.le_of_ble_eq_true rfl) (fun x e hc hR => by
    subst e
    exact w_X0_isRun hc σ l1 l2 hN (K := fun o1 => o1 = o) hf rfl (by rintro _ rfl; exact hR))
theorem hd_X0_isRun : yX0_isRun.cls = RX0 ∧ yX0_isRun.cls ≠ "java/lang/invoke/MethodHandle" ∧ yX0_isRun.cls ≠ "java/lang/invoke/VarHandle" ∧ (parseMethodDescriptor yX0_isRun.desc).map (fun d => d.parameters.length) = some 2 := by decide +kernel
/-! HedgehogLots.isPart(I)Z -/
def f_X0_isPart (l0 : Int32) : Option (Int32) :=
  oB (f_X0_in (Int32.toInt64 l0) 0 1) fun r2 => oC (isB r2) <| some r2
theorem w_X0_isPart {x : gX} {Φ : va_W}  (hc : gOk x RX0 cX0_isPart 1 1 25)  (l0 : Int32)  {K : Int32 → Prop} {o : Int32} (hf : f_X0_isPart l0 = some o) (hK : K o) (hR : ∀ o : Int32, K o → gRz x 0 0 (Φ) o) : gG x 1 0 0 (Φ) 0 [(0, .int l0)] [] := by
  unfold f_X0_isPart at hf
  refine g_iload_n hc dX0_isPart_0 rfl 0 rfl ?_
  refine g_i2l hc dX0_isPart_1 ?_
  refine g_lconst (v := 0) hc dX0_isPart_2 (by decide) ?_
  refine g_lconst (v := 1) hc dX0_isPart_3 (by decide) ?_
  obtain ⟨r2, h1, hf⟩ := oB_some hf
  refine g_callSi hc [.long (Int32.toInt64 l0), .long 0, .long 1] [] (c_X0_in  h1) (lw_S q260 q261 q60 q262) rfl hd_X0_in rfl rfl (Nat.le_of_ble_eq_true rfl) gZ dX0_isPart_4 ?_
  obtain ⟨h3, hf⟩ := oC_some hf
  have hz := Option.some.inj hf; subst hz
  exact g_zret hc (hR _ hK) (isB_nar h3) dX0_isPart_7
theorem c_X0_isPart {l : Launch} {D : va_G} {dA : Nat → ClassId} {Φ : va_W}  {l0 : Int32}  {o : Int32} (hf : f_X0_isPart l0 = some o) : gI l D dA (Φ) (Φ) [.int l0] o yX0_isPart (ws_ yX0_isPart cX0_isPart 1 (some .boolean)) ({ frames := 1, cells := 0, slots := 0, locals := 25 } : Room) :=
  g_startZ (own := RX0) ⟨rfl, rfl⟩ (by decide) rfl (Nat.le_of_ble_eq_true rfl) (fun x e hc hR => by
    subst e
    exact w_X0_isPart hc l0  (K := fun o1 => o1 = o) hf rfl (by rintro _ rfl; exact hR))
theorem hd_X0_isPart : yX0_isPart.cls ≠ "java/lang/invoke/MethodHandle" ∧ yX0_isPart.cls ≠ "java/lang/invoke/VarHandle" ∧ (parseMethodDescriptor yX0_isPart.desc).map (fun d => d.parameters.length) = some 1 := by decide +kernel
/-! HedgehogLots.rule(I)I -/
def f_X0_rule_b39 (σ : (Nat → Nat → Int32)) (l1 : Int32) (l3 : Int32) (k2 : Int32) (k1 : Int32) : Option ((Int32 × Int32 × (Nat → Nat → Int32)) ⊕ (Int32 × (Nat → Nat → Int32))) :=
  some (.inl ((k1 ||| k2), (l3 + 1), σ))
theorem w_X0_rule_b39 {x : gX} {N : Nat} {ad : Nat → Nat} {tl : va_W} {lam : (Nat → Int64)} (hc : gOk x RX0 cX0_rule 4 8 221)  (σ : (Nat → Nat → Int32)) (l1 : Int32) (l3 : Int32) (k2 : Int32) (k1 : Int32) (hN : 36 ≤ N) {K : (Int32 × Int32 × (Nat → Nat → Int32)) ⊕ (Int32 × (Nat → Nat → Int32)) → Prop} {o : (Int32 × Int32 × (Nat → Nat → Int32)) ⊕ (Int32 × (Nat → Nat → Int32))} (hf : f_X0_rule_b39 σ l1 l3 k2 k1 = some o) (hK : K o) (hI4 : ∀ v : Int32 × Int32 × (Nat → Nat → Int32), K (.inl v) → gG x 4 0 0 (XW x.dA N ad v.2.2 lam ++ tl) 4 [(0, .ref (ad 0)), (1, .int l1), (2, .int v.1), (3, .int v.2.1)] []) (hR : ∀ o : Int32 × (Nat → Nat → Int32), K (.inr (o)) → gRi x 0 0 (XW x.dA N ad o.2 lam ++ tl) o.1) : gG x 4 0 0 (XW x.dA N ad σ lam ++ tl) 39 [(0, .ref (ad 0)), (1, .int l1), (3, .int l3)] [.int k2, .int k1] := by
  unfold f_X0_rule_b39 at hf
  refine g_ior hc dX0_rule_39 ?_
  refine g_istore_n (lv' := [(2, .int (k1 ||| k2)), (0, .ref (ad 0)), (1, .int l1), (3, .int l3)]) hc dX0_rule_40 rfl (by decide) rfl ?_
  refine g_iinc (v := l3 + 1) (lv' := [(3, .int (l3 + 1)), (2, .int (k1 ||| k2)), (0, .ref (ad 0)), (1, .int l1)]) hc dX0_rule_41 (j := 3) rfl rfl (by decide) rfl ?_
  refine g_goto (tgt := 4) hc dX0_rule_44 (by decide) ?_
  have hz := Option.some.inj hf; subst hz
  exact g_lv [2, 3, 1, 0] rfl (hI4 _ hK)
def f_X0_rule_L4 (σ : (Nat → Nat → Int32)) (l1 : Int32) (l2 : Int32) (l3 : Int32) : Option ((Int32 × Int32 × (Nat → Nat → Int32)) ⊕ (Int32 × (Nat → Nat → Int32))) :=
  if (σ (sb 0) 7) ≤ l3 then (oI (if l1 = 0 then (some ((σ (sb 0) 0), σ)) else (if l1 = 1 then (some ((σ (sb 0) 3), σ)) else (if l1 = 2 then (some ((σ (sb 0) 5), σ)) else (if l1 = 3 then (some ((σ (sb 0) 7), σ)) else (if l1 = 4 then (oB (f_X0_wonByAny σ 0) fun r9 => some (r9.1, r9.2)) else (if l1 = 5 then (some (l2, σ)) else (some ((-1), σ))))))))) else (oB (f_X0_goes σ 0 l3) fun r13 => if (r13 0 11) = 0 then (f_X0_rule_b39 r13 l1 l3 0 l2) else (f_X0_rule_b39 r13 l1 l3 ((1 : Int32) <<< (l3 &&& 31)) l2))
theorem w_X0_rule_L4 {x : gX} {N : Nat} {ad : Nat → Nat} {tl : va_W} {lam : (Nat → Int64)} (hc : gOk x RX0 cX0_rule 4 8 221)  (σ : (Nat → Nat → Int32)) (l1 : Int32) (l2 : Int32) (l3 : Int32) (hN : 36 ≤ N) {K : (Int32 × Int32 × (Nat → Nat → Int32)) ⊕ (Int32 × (Nat → Nat → Int32)) → Prop} {o : (Int32 × Int32 × (Nat → Nat → Int32)) ⊕ (Int32 × (Nat → Nat → Int32))} (hf : f_X0_rule_L4 σ l1 l2 l3 = some o) (hK : K o) (hI4 : ∀ v : Int32 × Int32 × (Nat → Nat → Int32), K (.inl v) → gG x 4 0 0 (XW x.dA N ad v.2.2 lam ++ tl) 4 [(0, .ref (ad 0)), (1, .int l1), (2, .int v.1), (3, .int v.2.1)] []) (hR : ∀ o : Int32 × (Nat → Nat → Int32), K (.inr (o)) → gRi x 0 0 (XW x.dA N ad o.2 lam ++ tl) o.1) : gG x 4 0 0 (XW x.dA N ad σ lam ++ tl) 4 [(0, .ref (ad 0)), (1, .int l1), (2, .int l2), (3, .int l3)] [] := by
  unfold f_X0_rule_L4 at hf
  refine g_iload_n hc dX0_rule_4 rfl 3 rfl ?_
  refine g_aload_n hc dX0_rule_5 rfl 0 rfl ?_
  refine g_get (v := .ref (ad (sb 0))) hc in_X0 (XW_at (k := 0) (Nat.lt_of_lt_of_le (by decide) hN)) rfl 1 (by decide) q185 rfl dX0_rule_6 ?_
  refine g_getN (v := .int (σ (sb 0) 7)) hc in_X5 (XW_s0 (gSl 0 hN (by decide))) rfl 7 (by decide) 11 rfl rfl dX0_rule_9 ?_
  refine g_icmp_ge (tgt := 47) hc dX0_rule_12 (by decide) (fun h1 => ?_) (fun h1 => ?_)
  · have hf := oT h1 hf
    obtain ⟨o11, hgo11, eo11⟩ := oI_some hf
    clear hf; subst eo11; have hf := hgo11; clear hgo11
    refine g_iload_n hc dX0_rule_47 rfl 1 rfl ?_
    by_cases h3 : l1 = 0
    · have hf := oT h3 hf
      refine g_tabIn (tgt := 88) hc dX0_rule_48 (by rw [h3]; decide) (by rw [h3]; decide) (by rw [h3]; rfl) (by decide) ?_
      refine g_aload_n hc dX0_rule_88 rfl 0 rfl ?_
      refine g_get (v := .ref (ad (sb 0))) hc in_X0 (XW_at (k := 0) (Nat.lt_of_lt_of_le (by decide) hN)) rfl 1 (by decide) q185 rfl dX0_rule_89 ?_
      refine g_getN (v := .int (σ (sb 0) 0)) hc in_X5 (XW_s0 (gSl 0 hN (by decide))) rfl 0 (by decide) 1 rfl rfl dX0_rule_92 ?_
      have hz := Option.some.inj hf; subst hz
      exact g_iret hc (hR _ hK) dX0_rule_95
    have hf := oF h3 hf
    by_cases h4 : l1 = 1
    · have hf := oT h4 hf
      refine g_tabIn (tgt := 96) hc dX0_rule_48 (by rw [h4]; decide) (by rw [h4]; decide) (by rw [h4]; rfl) (by decide) ?_
      refine g_aload_n hc dX0_rule_96 rfl 0 rfl ?_
      refine g_get (v := .ref (ad (sb 0))) hc in_X0 (XW_at (k := 0) (Nat.lt_of_lt_of_le (by decide) hN)) rfl 1 (by decide) q185 rfl dX0_rule_97 ?_
      refine g_getN (v := .int (σ (sb 0) 3)) hc in_X5 (XW_s0 (gSl 0 hN (by decide))) rfl 3 (by decide) 5 rfl rfl dX0_rule_100 ?_
      have hz := Option.some.inj hf; subst hz
      exact g_iret hc (hR _ hK) dX0_rule_103
    have hf := oF h4 hf
    by_cases h5 : l1 = 2
    · have hf := oT h5 hf
      refine g_tabIn (tgt := 104) hc dX0_rule_48 (by rw [h5]; decide) (by rw [h5]; decide) (by rw [h5]; rfl) (by decide) ?_
      refine g_aload_n hc dX0_rule_104 rfl 0 rfl ?_
      refine g_get (v := .ref (ad (sb 0))) hc in_X0 (XW_at (k := 0) (Nat.lt_of_lt_of_le (by decide) hN)) rfl 1 (by decide) q185 rfl dX0_rule_105 ?_
      refine g_getN (v := .int (σ (sb 0) 5)) hc in_X5 (XW_s0 (gSl 0 hN (by decide))) rfl 5 (by decide) 8 rfl rfl dX0_rule_108 ?_
      have hz := Option.some.inj hf; subst hz
      exact g_iret hc (hR _ hK) dX0_rule_111
    have hf := oF h5 hf
    by_cases h6 : l1 = 3
    · have hf := oT h6 hf
      refine g_tabIn (tgt := 112) hc dX0_rule_48 (by rw [h6]; decide) (by rw [h6]; decide) (by rw [h6]; rfl) (by decide) ?_
      refine g_aload_n hc dX0_rule_112 rfl 0 rfl ?_
      refine g_get (v := .ref (ad (sb 0))) hc in_X0 (XW_at (k := 0) (Nat.lt_of_lt_of_le (by decide) hN)) rfl 1 (by decide) q185 rfl dX0_rule_113 ?_
      refine g_getN (v := .int (σ (sb 0) 7)) hc in_X5 (XW_s0 (gSl 0 hN (by decide))) rfl 7 (by decide) 11 rfl rfl dX0_rule_116 ?_
      have hz := Option.some.inj hf; subst hz
      exact g_iret hc (hR _ hK) dX0_rule_119
    have hf := oF h6 hf
    by_cases h7 : l1 = 4
    · have hf := oT h7 hf
      refine g_tabIn (tgt := 120) hc dX0_rule_48 (by rw [h7]; decide) (by rw [h7]; decide) (by rw [h7]; rfl) (by decide) ?_
      refine g_aload_n hc dX0_rule_120 rfl 0 rfl ?_
      refine g_aload_n hc dX0_rule_121 rfl 0 rfl ?_
      refine g_get (v := .ref (ad (sb 0))) hc in_X0 (XW_at (k := 0) (Nat.lt_of_lt_of_le (by decide) hN)) rfl 1 (by decide) q185 rfl dX0_rule_122 ?_
      obtain ⟨r9, h8, hf⟩ := oB_some hf
      refine g_callVi hc [.ref (ad (sb 0))] [] (c_X0_wonByAny hN (gSl 0 hN (by decide)) h8) (XW_at (k := 0) (Nat.lt_of_lt_of_le (by decide) hN)) rfl (lw_V q593 q595 qs15 q60 q596) rfl hd_X0_wonByAny rfl rfl (Nat.le_of_ble_eq_true rfl) gZ dX0_rule_125 ?_
      have hz := Option.some.inj hf; subst hz
      exact g_iret hc (hR _ hK) dX0_rule_128
    have hf := oF h7 hf
    by_cases h10 : l1 = 5
    · have hf := oT h10 hf
      refine g_tabIn (tgt := 129) hc dX0_rule_48 (by rw [h10]; decide) (by rw [h10]; decide) (by rw [h10]; rfl) (by decide) ?_
      refine g_iload_n hc dX0_rule_129 rfl 2 rfl ?_
      have hz := Option.some.inj hf; subst hz
      exact g_iret hc (hR _ hK) dX0_rule_130
    have hf := oF h10 hf
    have h3 := lv_neT h3 (a := 0) (by decide)
    have h4 := lv_neT h4 (a := 1) (by decide)
    have h5 := lv_neT h5 (a := 2) (by decide)
    have h6 := lv_neT h6 (a := 3) (by decide)
    have h7 := lv_neT h7 (a := 4) (by decide)
    have h10 := lv_neT h10 (a := 5) (by decide)
    refine g_tabOut (tgt := 131) hc dX0_rule_48 (by omega) (by decide) ?_
    refine g_iconst (v := (-1)) hc dX0_rule_131 (by decide) ?_
    have hz := Option.some.inj hf; subst hz
    exact g_iret hc (hR _ hK) dX0_rule_132
  · have hf := oF h1 hf
    refine g_aload_n hc dX0_rule_15 rfl 0 rfl ?_
    refine g_aload_n hc dX0_rule_16 rfl 0 rfl ?_
    refine g_get (v := .ref (ad (sb 0))) hc in_X0 (XW_at (k := 0) (Nat.lt_of_lt_of_le (by decide) hN)) rfl 1 (by decide) q185 rfl dX0_rule_17 ?_
    refine g_iload_n hc dX0_rule_20 rfl 3 rfl ?_
    obtain ⟨r13, h12, hf⟩ := oB_some hf
    refine g_callVv hc [.ref (ad (sb 0)), .int l3] [] (c_X0_goes hN (gSl 0 hN (by decide)) h12) (XW_at (k := 0) (Nat.lt_of_lt_of_le (by decide) hN)) rfl (lw_V q536 q538 qs13 q60 q539) rfl hd_X0_goes rfl rfl (Nat.le_of_ble_eq_true rfl) gZ dX0_rule_21 ?_
    refine g_iload_n hc dX0_rule_24 rfl 2 rfl ?_
    refine g_aload_n hc dX0_rule_25 rfl 0 rfl ?_
    refine g_get (v := .int (r13 0 11)) hc in_X0 (XW_at (k := 0) (Nat.lt_of_lt_of_le (by decide) hN)) rfl 11 (by decide) q195 rfl dX0_rule_26 ?_
    refine g_if_eq (tgt := 38) hc dX0_rule_29 (by decide) (fun h14 => ?_) (fun h14 => ?_)
    · have hf := oT h14 hf
      refine g_iconst (v := 0) hc dX0_rule_38 (by decide) ?_
      exact g_lv [0, 1, 3] rfl (w_X0_rule_b39 hc r13 l1 l3 0 l2 hN (K := K) hf hK hI4 hR)
    · have hf := oF h14 hf
      refine g_iconst (v := 1) hc dX0_rule_32 (by decide) ?_
      refine g_iload_n hc dX0_rule_33 rfl 3 rfl ?_
      refine g_ishl hc dX0_rule_34 ?_
      refine g_goto (tgt := 39) hc dX0_rule_35 (by decide) ?_
      exact g_lv [0, 1, 3] rfl (w_X0_rule_b39 hc r13 l1 l3 ((1 : Int32) <<< (l3 &&& 31)) l2 hN (K := K) hf hK hI4 hR)
def f_X0_rule_b4 (σ : (Nat → Nat → Int32)) (l1 : Int32) (l2 : Int32) (l3 : Int32) : Option (Int32 × (Nat → Nat → Int32)) :=
  oLoop gFU (fun v : Int32 × Int32 × (Nat → Nat → Int32) => f_X0_rule_L4 v.2.2 l1 v.1 v.2.1) (l2, l3, σ)
theorem w_X0_rule_b4 {x : gX} {N : Nat} {ad : Nat → Nat} {tl : va_W} {lam : (Nat → Int64)} (hc : gOk x RX0 cX0_rule 4 8 221)  (σ : (Nat → Nat → Int32)) (l1 : Int32) (l2 : Int32) (l3 : Int32) (hN : 36 ≤ N) {K : Int32 × (Nat → Nat → Int32) → Prop} {o : Int32 × (Nat → Nat → Int32)} (hf : f_X0_rule_b4 σ l1 l2 l3 = some o) (hK : K o) (hR : ∀ o : Int32 × (Nat → Nat → Int32), K o → gRi x 0 0 (XW x.dA N ad o.2 lam ++ tl) o.1) : gG x 4 0 0 (XW x.dA N ad σ lam ++ tl) 4 [(0, .ref (ad 0)), (1, .int l1), (2, .int l2), (3, .int l3)] [] :=
  oLoop_ind (fun v : Int32 × Int32 × (Nat → Nat → Int32) => gG x 4 0 0 (XW x.dA N ad v.2.2 lam ++ tl) 4 [(0, .ref (ad 0)), (1, .int l1), (2, .int v.1), (3, .int v.2.1)] []) K (fun v o1 hf1 hK1 => w_X0_rule_L4 hc v.2.2 l1 v.1 v.2.1 hN (K := Sum.elim (fun v : Int32 × Int32 × (Nat → Nat → Int32) => gG x 4 0 0 (XW x.dA N ad v.2.2 lam ++ tl) 4 [(0, .ref (ad 0)), (1, .int l1), (2, .int v.1), (3, .int v.2.1)] []) K) hf1 hK1 (fun v hv => hv) hR) gFU _ o hf hK
def f_X0_rule (σ : (Nat → Nat → Int32)) (l1 : Int32) : Option (Int32 × (Nat → Nat → Int32)) :=
  f_X0_rule_b4 σ l1 0 0
theorem w_X0_rule {x : gX} {N : Nat} {ad : Nat → Nat} {tl : va_W} {lam : (Nat → Int64)} (hc : gOk x RX0 cX0_rule 4 8 221)  (σ : (Nat → Nat → Int32)) (l1 : Int32) (hN : 36 ≤ N) {K : Int32 × (Nat → Nat → Int32) → Prop} {o : Int32 × (Nat → Nat → Int32)} (hf : f_X0_rule σ l1 = some o) (hK : K o) (hR : ∀ o : Int32 × (Nat → Nat → Int32), K o → gRi x 0 0 (XW x.dA N ad o.2 lam ++ tl) o.1) : gG x 4 0 0 (XW x.dA N ad σ lam ++ tl) 0 [(0, .ref (ad 0)), (1, .int l1)] [] := by
  unfold f_X0_rule at hf
  refine g_iconst (v := 0) hc dX0_rule_0 (by decide) ?_
  refine g_istore_n (lv' := [(2, .int 0), (0, .ref (ad 0)), (1, .int l1)]) hc dX0_rule_1 rfl (by decide) rfl ?_
  refine g_iconst (v := 0) hc dX0_rule_2 (by decide) ?_
  refine g_istore_n (lv' := [(3, .int 0), (2, .int 0), (0, .ref (ad 0)), (1, .int l1)]) hc dX0_rule_3 rfl (by decide) rfl ?_
  exact g_lv [2, 3, 1, 0] rfl (w_X0_rule_b4 hc σ l1 0 0 hN (K := K) hf hK hR)
theorem c_X0_rule {l : Launch} {D : va_G} {dA : Nat → ClassId} {N : Nat} {ad : Nat → Nat} {tl : va_W} {lam : (Nat → Int64)} {σ : (Nat → Nat → Int32)} {l1 : Int32} (hN : 36 ≤ N) {o : Int32 × (Nat → Nat → Int32)} (hf : f_X0_rule σ l1 = some o) : gI l D dA (XW dA N ad σ lam ++ tl) (XW dA N ad o.2 lam ++ tl) [.ref (ad 0), .int l1] o.1 yX0_rule (ws_ yX0_rule cX0_rule 4 (some .int)) ({ frames := 8, cells := 0, slots := 0, locals := 221 } : Room) :=
  g_startI (own := RX0) ⟨rfl, rfl⟩ (by decide) rfl (Nat.le_of_ble_eq_true rfl) (fun x e hc hR => by
    subst e
    exact w_X0_rule hc σ l1 hN (K := fun o1 => o1 = o) hf rfl (by rintro _ rfl; exact hR))
theorem hd_X0_rule : yX0_rule.cls = RX0 ∧ yX0_rule.cls ≠ "java/lang/invoke/MethodHandle" ∧ yX0_rule.cls ≠ "java/lang/invoke/VarHandle" ∧ (parseMethodDescriptor yX0_rule.desc).map (fun d => d.parameters.length) = some 1 := by decide +kernel
/-! HedgehogLots.peg(II)I -/
def f_X0_peg_b66 (σ : (Nat → Nat → Int32)) (l1 : Int32) (l2 : Int32) (l4 : Int32) (k2 : Int32) (k1 : Int32) : Option ((Int32 × Int32 × (Nat → Nat → Int32)) ⊕ (Int32 × (Nat → Nat → Int32))) :=
  some (.inl ((k1 ||| k2), (l4 + 1), σ))
theorem w_X0_peg_b66 {x : gX} {N : Nat} {ad : Nat → Nat} {tl : va_W} {lam : (Nat → Int64)} (hc : gOk x RX0 cX0_peg 5 6 174)  (σ : (Nat → Nat → Int32)) (l1 : Int32) (l2 : Int32) (l4 : Int32) (k2 : Int32) (k1 : Int32) (hN : 36 ≤ N) {K : (Int32 × Int32 × (Nat → Nat → Int32)) ⊕ (Int32 × (Nat → Nat → Int32)) → Prop} {o : (Int32 × Int32 × (Nat → Nat → Int32)) ⊕ (Int32 × (Nat → Nat → Int32))} (hf : f_X0_peg_b66 σ l1 l2 l4 k2 k1 = some o) (hK : K o) (hI27 : ∀ v : Int32 × Int32 × (Nat → Nat → Int32), K (.inl v) → gG x 5 0 0 (XW x.dA N ad v.2.2 lam ++ tl) 27 [(0, .ref (ad 0)), (1, .int l1), (2, .int l2), (3, .int v.1), (4, .int v.2.1)] []) (hR : ∀ o : Int32 × (Nat → Nat → Int32), K (.inr (o)) → gRi x 0 0 (XW x.dA N ad o.2 lam ++ tl) o.1) : gG x 5 0 0 (XW x.dA N ad σ lam ++ tl) 66 [(0, .ref (ad 0)), (1, .int l1), (2, .int l2), (4, .int l4)] [.int k2, .int k1] := by
  unfold f_X0_peg_b66 at hf
  refine g_ior hc dX0_peg_66 ?_
  refine g_istore_n (lv' := [(3, .int (k1 ||| k2)), (0, .ref (ad 0)), (1, .int l1), (2, .int l2), (4, .int l4)]) hc dX0_peg_67 rfl (by decide) rfl ?_
  refine g_iinc (v := l4 + 1) (lv' := [(4, .int (l4 + 1)), (3, .int (k1 ||| k2)), (0, .ref (ad 0)), (1, .int l1), (2, .int l2)]) hc dX0_peg_68 (j := 4) rfl rfl (by decide) rfl ?_
  refine g_goto (tgt := 27) hc dX0_peg_71 (by decide) ?_
  have hz := Option.some.inj hf; subst hz
  exact g_lv [2, 3, 4, 1, 0] rfl (hI27 _ hK)
def f_X0_peg_L27 (σ : (Nat → Nat → Int32)) (l1 : Int32) (l2 : Int32) (l3 : Int32) (l4 : Int32) : Option ((Int32 × Int32 × (Nat → Nat → Int32)) ⊕ (Int32 × (Nat → Nat → Int32))) :=
  if (σ (sb 0) 7) ≤ l4 then (oI (if l2 = 0 then (oC (inb l1 7) <| some ((σ (sb 0 + 1) l1.toNatClampNeg), σ)) else (if l2 = 1 then (oC (inb l1 7) <| some ((σ (sb 0 + 2) l1.toNatClampNeg), σ)) else (some (l3, σ))))) else (oB (f_X0_goes σ 0 l4) fun r8 => if (r8 0 8) = l1 then (f_X0_peg_b66 r8 l1 l2 l4 ((1 : Int32) <<< (l4 &&& 31)) l3) else (f_X0_peg_b66 r8 l1 l2 l4 0 l3))
theorem w_X0_peg_L27 {x : gX} {N : Nat} {ad : Nat → Nat} {tl : va_W} {lam : (Nat → Int64)} (hc : gOk x RX0 cX0_peg 5 6 174)  (σ : (Nat → Nat → Int32)) (l1 : Int32) (l2 : Int32) (l3 : Int32) (l4 : Int32) (hN : 36 ≤ N) {K : (Int32 × Int32 × (Nat → Nat → Int32)) ⊕ (Int32 × (Nat → Nat → Int32)) → Prop} {o : (Int32 × Int32 × (Nat → Nat → Int32)) ⊕ (Int32 × (Nat → Nat → Int32))} (hf : f_X0_peg_L27 σ l1 l2 l3 l4 = some o) (hK : K o) (hI27 : ∀ v : Int32 × Int32 × (Nat → Nat → Int32), K (.inl v) → gG x 5 0 0 (XW x.dA N ad v.2.2 lam ++ tl) 27 [(0, .ref (ad 0)), (1, .int l1), (2, .int l2), (3, .int v.1), (4, .int v.2.1)] []) (hR : ∀ o : Int32 × (Nat → Nat → Int32), K (.inr (o)) → gRi x 0 0 (XW x.dA N ad o.2 lam ++ tl) o.1) : gG x 5 0 0 (XW x.dA N ad σ lam ++ tl) 27 [(0, .ref (ad 0)), (1, .int l1), (2, .int l2), (3, .int l3), (4, .int l4)] [] := by
  unfold f_X0_peg_L27 at hf
  refine g_iload hc dX0_peg_27 4 rfl ?_
  refine g_aload_n hc dX0_peg_29 rfl 0 rfl ?_
  refine g_get (v := .ref (ad (sb 0))) hc in_X0 (XW_at (k := 0) (Nat.lt_of_lt_of_le (by decide) hN)) rfl 1 (by decide) q185 rfl dX0_peg_30 ?_
  refine g_getN (v := .int (σ (sb 0) 7)) hc in_X5 (XW_s0 (gSl 0 hN (by decide))) rfl 7 (by decide) 11 rfl rfl dX0_peg_33 ?_
  refine g_icmp_ge (tgt := 74) hc dX0_peg_36 (by decide) (fun h1 => ?_) (fun h1 => ?_)
  · have hf := oT h1 hf
    obtain ⟨o6, hgo6, eo6⟩ := oI_some hf
    clear hf; subst eo6; have hf := hgo6; clear hgo6
    refine g_iload_n hc dX0_peg_74 rfl 2 rfl ?_
    refine g_if_ne (tgt := 90) hc dX0_peg_75 (by decide) (fun h2 => ?_) (fun h2 => ?_)
    · have hf := oF h2 hf
      refine g_iload_n hc dX0_peg_90 rfl 2 rfl ?_
      refine g_iconst (v := 1) hc dX0_peg_91 (by decide) ?_
      refine g_icmp_ne (tgt := 107) hc dX0_peg_92 (by decide) (fun h3 => ?_) (fun h3 => ?_)
      · have hf := oF h3 hf
        refine g_iload_n hc dX0_peg_107 rfl 3 rfl ?_
        have hz := Option.some.inj hf; subst hz
        exact g_iret hc (hR _ hK) dX0_peg_108
      · have hf := oT h3 hf
        refine g_aload_n hc dX0_peg_95 rfl 0 rfl ?_
        refine g_get (v := .ref (ad (sb 0))) hc in_X0 (XW_at (k := 0) (Nat.lt_of_lt_of_le (by decide) hN)) rfl 1 (by decide) q185 rfl dX0_peg_96 ?_
        refine g_getN (v := .ref (ad (sb 0 + 2))) hc in_X5 (XW_s0 (gSl 0 hN (by decide))) rfl 2 (by decide) 3 rfl rfl dX0_peg_99 ?_
        refine g_iload_n hc dX0_peg_102 rfl 1 rfl ?_
        obtain ⟨h4, hf⟩ := oC_some hf
        refine g_bald (n := 7) (f := σ (sb 0 + 2)) hc (XW_s2 (gSl 0 hN (by decide))) h4 dX0_peg_103 ?_
        refine g_goto (tgt := 108) hc dX0_peg_104 (by decide) ?_
        have hz := Option.some.inj hf; subst hz
        exact g_iret hc (hR _ hK) dX0_peg_108
    · have hf := oT h2 hf
      refine g_aload_n hc dX0_peg_78 rfl 0 rfl ?_
      refine g_get (v := .ref (ad (sb 0))) hc in_X0 (XW_at (k := 0) (Nat.lt_of_lt_of_le (by decide) hN)) rfl 1 (by decide) q185 rfl dX0_peg_79 ?_
      refine g_getN (v := .ref (ad (sb 0 + 1))) hc in_X5 (XW_s0 (gSl 0 hN (by decide))) rfl 1 (by decide) 2 rfl rfl dX0_peg_82 ?_
      refine g_iload_n hc dX0_peg_85 rfl 1 rfl ?_
      obtain ⟨h5, hf⟩ := oC_some hf
      refine g_bald (n := 7) (f := σ (sb 0 + 1)) hc (XW_s1 (gSl 0 hN (by decide))) h5 dX0_peg_86 ?_
      refine g_goto (tgt := 108) hc dX0_peg_87 (by decide) ?_
      have hz := Option.some.inj hf; subst hz
      exact g_iret hc (hR _ hK) dX0_peg_108
  · have hf := oF h1 hf
    refine g_aload_n hc dX0_peg_39 rfl 0 rfl ?_
    refine g_aload_n hc dX0_peg_40 rfl 0 rfl ?_
    refine g_get (v := .ref (ad (sb 0))) hc in_X0 (XW_at (k := 0) (Nat.lt_of_lt_of_le (by decide) hN)) rfl 1 (by decide) q185 rfl dX0_peg_41 ?_
    refine g_iload hc dX0_peg_44 4 rfl ?_
    obtain ⟨r8, h7, hf⟩ := oB_some hf
    refine g_callVv hc [.ref (ad (sb 0)), .int l4] [] (c_X0_goes hN (gSl 0 hN (by decide)) h7) (XW_at (k := 0) (Nat.lt_of_lt_of_le (by decide) hN)) rfl (lw_V q536 q538 qs13 q60 q539) rfl hd_X0_goes rfl rfl (Nat.le_of_ble_eq_true rfl) gZ dX0_peg_46 ?_
    refine g_iload_n hc dX0_peg_49 rfl 3 rfl ?_
    refine g_aload_n hc dX0_peg_50 rfl 0 rfl ?_
    refine g_get (v := .int (r8 0 8)) hc in_X0 (XW_at (k := 0) (Nat.lt_of_lt_of_le (by decide) hN)) rfl 8 (by decide) q192 rfl dX0_peg_51 ?_
    refine g_iload_n hc dX0_peg_54 rfl 1 rfl ?_
    refine g_icmp_ne (tgt := 65) hc dX0_peg_55 (by decide) (fun h9 => ?_) (fun h9 => ?_)
    · have hf := oF h9 hf
      refine g_iconst (v := 0) hc dX0_peg_65 (by decide) ?_
      exact g_lv [0, 1, 2, 4] rfl (w_X0_peg_b66 hc r8 l1 l2 l4 0 l3 hN (K := K) hf hK hI27 hR)
    · have hf := oT h9 hf
      refine g_iconst (v := 1) hc dX0_peg_58 (by decide) ?_
      refine g_iload hc dX0_peg_59 4 rfl ?_
      refine g_ishl hc dX0_peg_61 ?_
      refine g_goto (tgt := 66) hc dX0_peg_62 (by decide) ?_
      exact g_lv [0, 1, 2, 4] rfl (w_X0_peg_b66 hc r8 l1 l2 l4 ((1 : Int32) <<< (l4 &&& 31)) l3 hN (K := K) hf hK hI27 hR)
def f_X0_peg_b27 (σ : (Nat → Nat → Int32)) (l1 : Int32) (l2 : Int32) (l3 : Int32) (l4 : Int32) : Option (Int32 × (Nat → Nat → Int32)) :=
  oLoop gFU (fun v : Int32 × Int32 × (Nat → Nat → Int32) => f_X0_peg_L27 v.2.2 l1 l2 v.1 v.2.1) (l3, l4, σ)
theorem w_X0_peg_b27 {x : gX} {N : Nat} {ad : Nat → Nat} {tl : va_W} {lam : (Nat → Int64)} (hc : gOk x RX0 cX0_peg 5 6 174)  (σ : (Nat → Nat → Int32)) (l1 : Int32) (l2 : Int32) (l3 : Int32) (l4 : Int32) (hN : 36 ≤ N) {K : Int32 × (Nat → Nat → Int32) → Prop} {o : Int32 × (Nat → Nat → Int32)} (hf : f_X0_peg_b27 σ l1 l2 l3 l4 = some o) (hK : K o) (hR : ∀ o : Int32 × (Nat → Nat → Int32), K o → gRi x 0 0 (XW x.dA N ad o.2 lam ++ tl) o.1) : gG x 5 0 0 (XW x.dA N ad σ lam ++ tl) 27 [(0, .ref (ad 0)), (1, .int l1), (2, .int l2), (3, .int l3), (4, .int l4)] [] :=
  oLoop_ind (fun v : Int32 × Int32 × (Nat → Nat → Int32) => gG x 5 0 0 (XW x.dA N ad v.2.2 lam ++ tl) 27 [(0, .ref (ad 0)), (1, .int l1), (2, .int l2), (3, .int v.1), (4, .int v.2.1)] []) K (fun v o1 hf1 hK1 => w_X0_peg_L27 hc v.2.2 l1 l2 v.1 v.2.1 hN (K := Sum.elim (fun v : Int32 × Int32 × (Nat → Nat → Int32) => gG x 5 0 0 (XW x.dA N ad v.2.2 lam ++ tl) 27 [(0, .ref (ad 0)), (1, .int l1), (2, .int l2), (3, .int v.1), (4, .int v.2.1)] []) K) hf1 hK1 (fun v hv => hv) hR) gFU _ o hf hK
def f_X0_peg (σ : (Nat → Nat → Int32)) (l1 : Int32) (l2 : Int32) : Option (Int32 × (Nat → Nat → Int32)) :=
  oB (f_X0_isPeg σ l1) fun r2 => if r2 = 0 then (some ((-1), σ)) else (oB (f_X0_in (Int32.toInt64 l2) 0 2) fun r5 => if r5 = 0 then (some ((-1), σ)) else (f_X0_peg_b27 σ l1 l2 0 0))
theorem w_X0_peg {x : gX} {N : Nat} {ad : Nat → Nat} {tl : va_W} {lam : (Nat → Int64)} (hc : gOk x RX0 cX0_peg 5 6 174)  (σ : (Nat → Nat → Int32)) (l1 : Int32) (l2 : Int32) (hN : 36 ≤ N) {K : Int32 × (Nat → Nat → Int32) → Prop} {o : Int32 × (Nat → Nat → Int32)} (hf : f_X0_peg σ l1 l2 = some o) (hK : K o) (hR : ∀ o : Int32 × (Nat → Nat → Int32), K o → gRi x 0 0 (XW x.dA N ad o.2 lam ++ tl) o.1) : gG x 5 0 0 (XW x.dA N ad σ lam ++ tl) 0 [(0, .ref (ad 0)), (1, .int l1), (2, .int l2)] [] := by
  unfold f_X0_peg at hf
  refine g_aload_n hc dX0_peg_0 rfl 0 rfl ?_
  refine g_iload_n hc dX0_peg_1 rfl 1 rfl ?_
  obtain ⟨r2, h1, hf⟩ := oB_some hf
  refine g_callVi hc [.int l1] [] (c_X0_isPeg hN h1) (XW_at (k := 0) (Nat.lt_of_lt_of_le (by decide) hN)) rfl (lw_V q609 q611 qs18 q60 q612) rfl hd_X0_isPeg rfl rfl (Nat.le_of_ble_eq_true rfl) gZ dX0_peg_2 ?_
  refine g_if_eq (tgt := 20) hc dX0_peg_5 (by decide) (fun h3 => ?_) (fun h3 => ?_)
  · have hf := oT h3 hf
    refine g_iconst (v := (-1)) hc dX0_peg_20 (by decide) ?_
    have hz := Option.some.inj hf; subst hz
    exact g_iret hc (hR _ hK) dX0_peg_21
  · have hf := oF h3 hf
    refine g_iload_n hc dX0_peg_8 rfl 2 rfl ?_
    refine g_i2l hc dX0_peg_9 ?_
    refine g_lconst (v := 0) hc dX0_peg_10 (by decide) ?_
    refine g_ldc2 (v := 2) hc q613 dX0_peg_11 ?_
    obtain ⟨r5, h4, hf⟩ := oB_some hf
    refine g_callSi hc [.long (Int32.toInt64 l2), .long 0, .long 2] [] (c_X0_in  h4) (lw_S q260 q261 q60 q262) rfl hd_X0_in rfl rfl (Nat.le_of_ble_eq_true rfl) gZ dX0_peg_14 ?_
    refine g_if_ne (tgt := 22) hc dX0_peg_17 (by decide) (fun h6 => ?_) (fun h6 => ?_)
    · have hf := oF h6 hf
      refine g_iconst (v := 0) hc dX0_peg_22 (by decide) ?_
      refine g_istore_n (lv' := [(3, .int 0), (0, .ref (ad 0)), (1, .int l1), (2, .int l2)]) hc dX0_peg_23 rfl (by decide) rfl ?_
      refine g_iconst (v := 0) hc dX0_peg_24 (by decide) ?_
      refine g_istore (lv' := [(4, .int 0), (3, .int 0), (0, .ref (ad 0)), (1, .int l1), (2, .int l2)]) hc dX0_peg_25 (by decide) rfl ?_
      exact g_lv [2, 3, 4, 1, 0] rfl (w_X0_peg_b27 hc σ l1 l2 0 0 hN (K := K) hf hK hR)
    · have hf := oT h6 hf
      refine g_iconst (v := (-1)) hc dX0_peg_20 (by decide) ?_
      have hz := Option.some.inj hf; subst hz
      exact g_iret hc (hR _ hK) dX0_peg_21
theorem c_X0_peg {l : Launch} {D : va_G} {dA : Nat → ClassId} {N : Nat} {ad : Nat → Nat} {tl : va_W} {lam : (Nat → Int64)} {σ : (Nat → Nat → Int32)} {l1 : Int32} {l2 : Int32} (hN : 36 ≤ N) {o : Int32 × (Nat → Nat → Int32)} (hf : f_X0_peg σ l1 l2 = some o) : gI l D dA (XW dA N ad σ lam ++ tl) (XW dA N ad o.2 lam ++ tl) [.ref (ad 0), .int l1, .int l2] o.1 yX0_peg (ws_ yX0_peg cX0_peg 5 (some .int)) ({ frames := 6, cells := 0, slots := 0, locals := 174 } : Room) :=
  g_startI (own := RX0) ⟨rfl, rfl⟩ (by decide) rfl (Nat.le_of_ble_eq_true rfl) (fun x e hc hR => by
    subst e
    exact w_X0_peg hc σ l1 l2 hN (K := fun o1 => o1 = o) hf rfl (by rintro _ rfl; exact hR))
theorem hd_X0_peg : yX0_peg.cls = RX0 ∧ yX0_peg.cls ≠ "java/lang/invoke/MethodHandle" ∧ yX0_peg.cls ≠ "java/lang/invoke/VarHandle" ∧ (parseMethodDescriptor yX0_peg.desc).map (fun d => d.parameters.length) = some 2 := by decide +kernel
/-! HedgehogLots.slug(I)I -/
def f_X0_slug (σ : (Nat → Nat → Int32)) (l1 : Int32) : Option (Int32) :=
  oB (f_X0_in (Int32.toInt64 l1) 0 (Int32.toInt64 ((σ (sb 0) 3) - 1))) fun r2 => if r2 = 0 then (some (-1)) else (oC (inb l1 4) <| some (σ (sb 0 + 3) l1.toNatClampNeg))
theorem w_X0_slug {x : gX} {N : Nat} {ad : Nat → Nat} {tl : va_W} {lam : (Nat → Int64)} (hc : gOk x RX0 cX0_slug 2 1 25)  (σ : (Nat → Nat → Int32)) (l1 : Int32) (hN : 36 ≤ N) {K : Int32 → Prop} {o : Int32} (hf : f_X0_slug σ l1 = some o) (hK : K o) (hR : ∀ o : Int32, K o → gRi x 0 0 (XW x.dA N ad σ lam ++ tl) o) : gG x 2 0 0 (XW x.dA N ad σ lam ++ tl) 0 [(0, .ref (ad 0)), (1, .int l1)] [] := by
  unfold f_X0_slug at hf
  refine g_iload_n hc dX0_slug_0 rfl 1 rfl ?_
  refine g_i2l hc dX0_slug_1 ?_
  refine g_lconst (v := 0) hc dX0_slug_2 (by decide) ?_
  refine g_aload_n hc dX0_slug_3 rfl 0 rfl ?_
  refine g_get (v := .ref (ad (sb 0))) hc in_X0 (XW_at (k := 0) (Nat.lt_of_lt_of_le (by decide) hN)) rfl 1 (by decide) q185 rfl dX0_slug_4 ?_
  refine g_getN (v := .int (σ (sb 0) 3)) hc in_X5 (XW_s0 (gSl 0 hN (by decide))) rfl 3 (by decide) 5 rfl rfl dX0_slug_7 ?_
  refine g_iconst (v := 1) hc dX0_slug_10 (by decide) ?_
  refine g_isub hc dX0_slug_11 ?_
  refine g_i2l hc dX0_slug_12 ?_
  obtain ⟨r2, h1, hf⟩ := oB_some hf
  refine g_callSi hc [.long (Int32.toInt64 l1), .long 0, .long (Int32.toInt64 ((σ (sb 0) 3) - 1))] [] (c_X0_in  h1) (lw_S q260 q261 q60 q262) rfl hd_X0_in rfl rfl (Nat.le_of_ble_eq_true rfl) gZ dX0_slug_13 ?_
  refine g_if_eq (tgt := 31) hc dX0_slug_16 (by decide) (fun h3 => ?_) (fun h3 => ?_)
  · have hf := oT h3 hf
    refine g_iconst (v := (-1)) hc dX0_slug_31 (by decide) ?_
    have hz := Option.some.inj hf; subst hz
    exact g_iret hc (hR _ hK) dX0_slug_32
  · have hf := oF h3 hf
    refine g_aload_n hc dX0_slug_19 rfl 0 rfl ?_
    refine g_get (v := .ref (ad (sb 0))) hc in_X0 (XW_at (k := 0) (Nat.lt_of_lt_of_le (by decide) hN)) rfl 1 (by decide) q185 rfl dX0_slug_20 ?_
    refine g_getN (v := .ref (ad (sb 0 + 3))) hc in_X5 (XW_s0 (gSl 0 hN (by decide))) rfl 4 (by decide) 6 rfl rfl dX0_slug_23 ?_
    refine g_iload_n hc dX0_slug_26 rfl 1 rfl ?_
    obtain ⟨h4, hf⟩ := oC_some hf
    refine g_bald (n := 4) (f := σ (sb 0 + 3)) hc (XW_s3 (gSl 0 hN (by decide))) h4 dX0_slug_27 ?_
    refine g_goto (tgt := 32) hc dX0_slug_28 (by decide) ?_
    have hz := Option.some.inj hf; subst hz
    exact g_iret hc (hR _ hK) dX0_slug_32
theorem c_X0_slug {l : Launch} {D : va_G} {dA : Nat → ClassId} {N : Nat} {ad : Nat → Nat} {tl : va_W} {lam : (Nat → Int64)} {σ : (Nat → Nat → Int32)} {l1 : Int32} (hN : 36 ≤ N) {o : Int32} (hf : f_X0_slug σ l1 = some o) : gI l D dA (XW dA N ad σ lam ++ tl) (XW dA N ad σ lam ++ tl) [.ref (ad 0), .int l1] o yX0_slug (ws_ yX0_slug cX0_slug 2 (some .int)) ({ frames := 1, cells := 0, slots := 0, locals := 25 } : Room) :=
  g_startI (own := RX0) ⟨rfl, rfl⟩ (by decide) rfl (Nat.le_of_ble_eq_true rfl) (fun x e hc hR => by
    subst e
    exact w_X0_slug hc σ l1 hN (K := fun o1 => o1 = o) hf rfl (by rintro _ rfl; exact hR))
theorem hd_X0_slug : yX0_slug.cls = RX0 ∧ yX0_slug.cls ≠ "java/lang/invoke/MethodHandle" ∧ yX0_slug.cls ≠ "java/lang/invoke/VarHandle" ∧ (parseMethodDescriptor yX0_slug.desc).map (fun d => d.parameters.length) = some 1 := by decide +kernel
/-! HedgehogLots.hedgehog(II)I -/
def f_X0_hedgehog_b64 (σ : (Nat → Nat → Int32)) (l1 : Int32) (l2 : Int32) (l4 : Int32) (k2 : Int32) (k1 : Int32) : Option ((Int32 × Int32 × (Nat → Nat → Int32)) ⊕ (Int32 × (Nat → Nat → Int32))) :=
  some (.inl ((k1 ||| k2), (l4 + 1), σ))
theorem w_X0_hedgehog_b64 {x : gX} {N : Nat} {ad : Nat → Nat} {tl : va_W} {lam : (Nat → Int64)} (hc : gOk x RX0 cX0_hedgehog 5 5 152)  (σ : (Nat → Nat → Int32)) (l1 : Int32) (l2 : Int32) (l4 : Int32) (k2 : Int32) (k1 : Int32) (hN : 36 ≤ N) {K : (Int32 × Int32 × (Nat → Nat → Int32)) ⊕ (Int32 × (Nat → Nat → Int32)) → Prop} {o : (Int32 × Int32 × (Nat → Nat → Int32)) ⊕ (Int32 × (Nat → Nat → Int32))} (hf : f_X0_hedgehog_b64 σ l1 l2 l4 k2 k1 = some o) (hK : K o) (hI27 : ∀ v : Int32 × Int32 × (Nat → Nat → Int32), K (.inl v) → gG x 5 0 0 (XW x.dA N ad v.2.2 lam ++ tl) 27 [(0, .ref (ad 0)), (1, .int l1), (2, .int l2), (3, .int v.1), (4, .int v.2.1)] []) (hR : ∀ o : Int32 × (Nat → Nat → Int32), K (.inr (o)) → gRi x 0 0 (XW x.dA N ad o.2 lam ++ tl) o.1) : gG x 5 0 0 (XW x.dA N ad σ lam ++ tl) 64 [(0, .ref (ad 0)), (1, .int l1), (2, .int l2), (4, .int l4)] [.int k2, .int k1] := by
  unfold f_X0_hedgehog_b64 at hf
  refine g_ior hc dX0_hedgehog_64 ?_
  refine g_istore_n (lv' := [(3, .int (k1 ||| k2)), (0, .ref (ad 0)), (1, .int l1), (2, .int l2), (4, .int l4)]) hc dX0_hedgehog_65 rfl (by decide) rfl ?_
  refine g_iinc (v := l4 + 1) (lv' := [(4, .int (l4 + 1)), (3, .int (k1 ||| k2)), (0, .ref (ad 0)), (1, .int l1), (2, .int l2)]) hc dX0_hedgehog_66 (j := 4) rfl rfl (by decide) rfl ?_
  refine g_goto (tgt := 27) hc dX0_hedgehog_69 (by decide) ?_
  have hz := Option.some.inj hf; subst hz
  exact g_lv [2, 3, 4, 1, 0] rfl (hI27 _ hK)
def f_X0_hedgehog_L27 (σ : (Nat → Nat → Int32)) (l1 : Int32) (l2 : Int32) (l3 : Int32) (l4 : Int32) : Option ((Int32 × Int32 × (Nat → Nat → Int32)) ⊕ (Int32 × (Nat → Nat → Int32))) :=
  if 8 ≤ l4 then (oI (if 2 ≤ l2 then (if l2 = 2 then (oC (inb ((2 * l1) + 0) 8) <| oC (inb (σ (sb 0 + 4) ((2 * l1) + 0).toNatClampNeg) 4) <| oC (inb (σ (sb 0 + 4) ((2 * l1) + 0).toNatClampNeg) 4) <| some ((kLoses (σ (sb 0 + 4) ((2 * l1) + 0).toNatClampNeg)), σ)) else (some (l3, σ))) else (oC (inb ((2 * l1) + l2) 8) <| some ((σ (sb 0 + 4) ((2 * l1) + l2).toNatClampNeg), σ)))) else (oB (f_X0_runs σ 0 l1 l4 0) fun r10 => if (r10 0 8) = (-4) then (f_X0_hedgehog_b64 r10 l1 l2 l4 0 l3) else (f_X0_hedgehog_b64 r10 l1 l2 l4 ((1 : Int32) <<< (l4 &&& 31)) l3))
theorem w_X0_hedgehog_L27 {x : gX} {N : Nat} {ad : Nat → Nat} {tl : va_W} {lam : (Nat → Int64)} (hc : gOk x RX0 cX0_hedgehog 5 5 152)  (σ : (Nat → Nat → Int32)) (l1 : Int32) (l2 : Int32) (l3 : Int32) (l4 : Int32) (hN : 36 ≤ N) {K : (Int32 × Int32 × (Nat → Nat → Int32)) ⊕ (Int32 × (Nat → Nat → Int32)) → Prop} {o : (Int32 × Int32 × (Nat → Nat → Int32)) ⊕ (Int32 × (Nat → Nat → Int32))} (hf : f_X0_hedgehog_L27 σ l1 l2 l3 l4 = some o) (hK : K o) (hI27 : ∀ v : Int32 × Int32 × (Nat → Nat → Int32), K (.inl v) → gG x 5 0 0 (XW x.dA N ad v.2.2 lam ++ tl) 27 [(0, .ref (ad 0)), (1, .int l1), (2, .int l2), (3, .int v.1), (4, .int v.2.1)] []) (hR : ∀ o : Int32 × (Nat → Nat → Int32), K (.inr (o)) → gRi x 0 0 (XW x.dA N ad o.2 lam ++ tl) o.1) : gG x 5 0 0 (XW x.dA N ad σ lam ++ tl) 27 [(0, .ref (ad 0)), (1, .int l1), (2, .int l2), (3, .int l3), (4, .int l4)] [] := by
  unfold f_X0_hedgehog_L27 at hf
  refine g_iload hc dX0_hedgehog_27 4 rfl ?_
  refine g_bipush (v := 8) hc dX0_hedgehog_29 (by decide) ?_
  refine g_icmp_ge (tgt := 72) hc dX0_hedgehog_31 (by decide) (fun h1 => ?_) (fun h1 => ?_)
  · have hf := oT h1 hf
    obtain ⟨o8, hgo8, eo8⟩ := oI_some hf
    clear hf; subst eo8; have hf := hgo8; clear hgo8
    refine g_iload_n hc dX0_hedgehog_72 rfl 2 rfl ?_
    refine g_iconst (v := 2) hc dX0_hedgehog_73 (by decide) ?_
    refine g_icmp_ge (tgt := 93) hc dX0_hedgehog_74 (by decide) (fun h2 => ?_) (fun h2 => ?_)
    · have hf := oT h2 hf
      refine g_iload_n hc dX0_hedgehog_93 rfl 2 rfl ?_
      refine g_iconst (v := 2) hc dX0_hedgehog_94 (by decide) ?_
      refine g_icmp_ne (tgt := 122) hc dX0_hedgehog_95 (by decide) (fun h3 => ?_) (fun h3 => ?_)
      · have hf := oF h3 hf
        refine g_iload_n hc dX0_hedgehog_122 rfl 3 rfl ?_
        have hz := Option.some.inj hf; subst hz
        exact g_iret hc (hR _ hK) dX0_hedgehog_123
      · have hf := oT h3 hf
        refine g_aload_n hc dX0_hedgehog_98 rfl 0 rfl ?_
        refine g_get (v := .ref (ad 1)) hc in_X0 (XW_at (k := 0) (Nat.lt_of_lt_of_le (by decide) hN)) rfl 0 (by decide) q184 rfl dX0_hedgehog_99 ?_
        refine g_aload_n hc dX0_hedgehog_102 rfl 0 rfl ?_
        refine g_get (v := .ref (ad (sb 0))) hc in_X0 (XW_at (k := 0) (Nat.lt_of_lt_of_le (by decide) hN)) rfl 1 (by decide) q185 rfl dX0_hedgehog_103 ?_
        refine g_getN (v := .ref (ad (sb 0 + 4))) hc in_X5 (XW_s0 (gSl 0 hN (by decide))) rfl 6 (by decide) 9 rfl rfl dX0_hedgehog_106 ?_
        refine g_iconst (v := 2) hc dX0_hedgehog_109 (by decide) ?_
        refine g_iload_n hc dX0_hedgehog_110 rfl 1 rfl ?_
        refine g_imul hc dX0_hedgehog_111 ?_
        refine g_iconst (v := 0) hc dX0_hedgehog_112 (by decide) ?_
        refine g_iadd hc dX0_hedgehog_113 ?_
        obtain ⟨h4, hf⟩ := oC_some hf
        refine g_bald (n := 8) (f := σ (sb 0 + 4)) hc (XW_s4 (gSl 0 hN (by decide))) h4 dX0_hedgehog_114 ?_
        obtain ⟨h5, hf⟩ := oC_some hf
        refine g_aald (v := ad (2 + (σ (sb 0 + 4) ((2 * l1) + 0).toNatClampNeg).toNatClampNeg)) hc 4 (XW_at (k := 1) (Nat.lt_of_lt_of_le (by decide) hN)) rfl h5 rfl dX0_hedgehog_115 ?_
        obtain ⟨h6, hf⟩ := oC_some hf
        refine g_loses hc hN h6 [] rfl (Nat.le_of_ble_eq_true rfl) (by decide) gZ dX0_hedgehog_116 ?_
        refine g_goto (tgt := 123) hc dX0_hedgehog_119 (by decide) ?_
        have hz := Option.some.inj hf; subst hz
        exact g_iret hc (hR _ hK) dX0_hedgehog_123
    · have hf := oF h2 hf
      refine g_aload_n hc dX0_hedgehog_77 rfl 0 rfl ?_
      refine g_get (v := .ref (ad (sb 0))) hc in_X0 (XW_at (k := 0) (Nat.lt_of_lt_of_le (by decide) hN)) rfl 1 (by decide) q185 rfl dX0_hedgehog_78 ?_
      refine g_getN (v := .ref (ad (sb 0 + 4))) hc in_X5 (XW_s0 (gSl 0 hN (by decide))) rfl 6 (by decide) 9 rfl rfl dX0_hedgehog_81 ?_
      refine g_iconst (v := 2) hc dX0_hedgehog_84 (by decide) ?_
      refine g_iload_n hc dX0_hedgehog_85 rfl 1 rfl ?_
      refine g_imul hc dX0_hedgehog_86 ?_
      refine g_iload_n hc dX0_hedgehog_87 rfl 2 rfl ?_
      refine g_iadd hc dX0_hedgehog_88 ?_
      obtain ⟨h7, hf⟩ := oC_some hf
      refine g_bald (n := 8) (f := σ (sb 0 + 4)) hc (XW_s4 (gSl 0 hN (by decide))) h7 dX0_hedgehog_89 ?_
      refine g_goto (tgt := 123) hc dX0_hedgehog_90 (by decide) ?_
      have hz := Option.some.inj hf; subst hz
      exact g_iret hc (hR _ hK) dX0_hedgehog_123
  · have hf := oF h1 hf
    refine g_aload_n hc dX0_hedgehog_34 rfl 0 rfl ?_
    refine g_aload_n hc dX0_hedgehog_35 rfl 0 rfl ?_
    refine g_get (v := .ref (ad (sb 0))) hc in_X0 (XW_at (k := 0) (Nat.lt_of_lt_of_le (by decide) hN)) rfl 1 (by decide) q185 rfl dX0_hedgehog_36 ?_
    refine g_iload_n hc dX0_hedgehog_39 rfl 1 rfl ?_
    refine g_iload hc dX0_hedgehog_40 4 rfl ?_
    refine g_iconst (v := 0) hc dX0_hedgehog_42 (by decide) ?_
    obtain ⟨r10, h9, hf⟩ := oB_some hf
    refine g_callVv hc [.ref (ad (sb 0)), .int l1, .int l4, .int 0] [] (c_X0_runs hN (gSl 0 hN (by decide)) h9) (XW_at (k := 0) (Nat.lt_of_lt_of_le (by decide) hN)) rfl (lw_V q540 q542 qs14 q60 q543) rfl hd_X0_runs rfl rfl (Nat.le_of_ble_eq_true rfl) gZ dX0_hedgehog_43 ?_
    refine g_iload_n hc dX0_hedgehog_46 rfl 3 rfl ?_
    refine g_aload_n hc dX0_hedgehog_47 rfl 0 rfl ?_
    refine g_get (v := .int (r10 0 8)) hc in_X0 (XW_at (k := 0) (Nat.lt_of_lt_of_le (by decide) hN)) rfl 8 (by decide) q192 rfl dX0_hedgehog_48 ?_
    refine g_bipush (v := (-4)) hc dX0_hedgehog_51 (by decide) ?_
    refine g_icmp_ne (tgt := 60) hc dX0_hedgehog_53 (by decide) (fun h11 => ?_) (fun h11 => ?_)
    · have hf := oF h11 hf
      refine g_iconst (v := 1) hc dX0_hedgehog_60 (by decide) ?_
      refine g_iload hc dX0_hedgehog_61 4 rfl ?_
      refine g_ishl hc dX0_hedgehog_63 ?_
      exact g_lv [0, 1, 2, 4] rfl (w_X0_hedgehog_b64 hc r10 l1 l2 l4 ((1 : Int32) <<< (l4 &&& 31)) l3 hN (K := K) hf hK hI27 hR)
    · have hf := oT h11 hf
      refine g_iconst (v := 0) hc dX0_hedgehog_56 (by decide) ?_
      refine g_goto (tgt := 64) hc dX0_hedgehog_57 (by decide) ?_
      exact g_lv [0, 1, 2, 4] rfl (w_X0_hedgehog_b64 hc r10 l1 l2 l4 0 l3 hN (K := K) hf hK hI27 hR)
def f_X0_hedgehog_b27 (σ : (Nat → Nat → Int32)) (l1 : Int32) (l2 : Int32) (l3 : Int32) (l4 : Int32) : Option (Int32 × (Nat → Nat → Int32)) :=
  oLoop gFU (fun v : Int32 × Int32 × (Nat → Nat → Int32) => f_X0_hedgehog_L27 v.2.2 l1 l2 v.1 v.2.1) (l3, l4, σ)
theorem w_X0_hedgehog_b27 {x : gX} {N : Nat} {ad : Nat → Nat} {tl : va_W} {lam : (Nat → Int64)} (hc : gOk x RX0 cX0_hedgehog 5 5 152)  (σ : (Nat → Nat → Int32)) (l1 : Int32) (l2 : Int32) (l3 : Int32) (l4 : Int32) (hN : 36 ≤ N) {K : Int32 × (Nat → Nat → Int32) → Prop} {o : Int32 × (Nat → Nat → Int32)} (hf : f_X0_hedgehog_b27 σ l1 l2 l3 l4 = some o) (hK : K o) (hR : ∀ o : Int32 × (Nat → Nat → Int32), K o → gRi x 0 0 (XW x.dA N ad o.2 lam ++ tl) o.1) : gG x 5 0 0 (XW x.dA N ad σ lam ++ tl) 27 [(0, .ref (ad 0)), (1, .int l1), (2, .int l2), (3, .int l3), (4, .int l4)] [] :=
  oLoop_ind (fun v : Int32 × Int32 × (Nat → Nat → Int32) => gG x 5 0 0 (XW x.dA N ad v.2.2 lam ++ tl) 27 [(0, .ref (ad 0)), (1, .int l1), (2, .int l2), (3, .int v.1), (4, .int v.2.1)] []) K (fun v o1 hf1 hK1 => w_X0_hedgehog_L27 hc v.2.2 l1 l2 v.1 v.2.1 hN (K := Sum.elim (fun v : Int32 × Int32 × (Nat → Nat → Int32) => gG x 5 0 0 (XW x.dA N ad v.2.2 lam ++ tl) 27 [(0, .ref (ad 0)), (1, .int l1), (2, .int l2), (3, .int v.1), (4, .int v.2.1)] []) K) hf1 hK1 (fun v hv => hv) hR) gFU _ o hf hK
def f_X0_hedgehog (σ : (Nat → Nat → Int32)) (l1 : Int32) (l2 : Int32) : Option (Int32 × (Nat → Nat → Int32)) :=
  oB (f_X0_isHedgehog σ l1) fun r2 => if r2 = 0 then (some ((-1), σ)) else (oB (f_X0_in (Int32.toInt64 l2) 0 3) fun r5 => if r5 = 0 then (some ((-1), σ)) else (f_X0_hedgehog_b27 σ l1 l2 0 0))
theorem w_X0_hedgehog {x : gX} {N : Nat} {ad : Nat → Nat} {tl : va_W} {lam : (Nat → Int64)} (hc : gOk x RX0 cX0_hedgehog 5 5 152)  (σ : (Nat → Nat → Int32)) (l1 : Int32) (l2 : Int32) (hN : 36 ≤ N) {K : Int32 × (Nat → Nat → Int32) → Prop} {o : Int32 × (Nat → Nat → Int32)} (hf : f_X0_hedgehog σ l1 l2 = some o) (hK : K o) (hR : ∀ o : Int32 × (Nat → Nat → Int32), K o → gRi x 0 0 (XW x.dA N ad o.2 lam ++ tl) o.1) : gG x 5 0 0 (XW x.dA N ad σ lam ++ tl) 0 [(0, .ref (ad 0)), (1, .int l1), (2, .int l2)] [] := by
  unfold f_X0_hedgehog at hf
  refine g_aload_n hc dX0_hedgehog_0 rfl 0 rfl ?_
  refine g_iload_n hc dX0_hedgehog_1 rfl 1 rfl ?_
  obtain ⟨r2, h1, hf⟩ := oB_some hf
  refine g_callVi hc [.int l1] [] (c_X0_isHedgehog hN h1) (XW_at (k := 0) (Nat.lt_of_lt_of_le (by decide) hN)) rfl (lw_V q622 q624 qs19 q60 q625) rfl hd_X0_isHedgehog rfl rfl (Nat.le_of_ble_eq_true rfl) gZ dX0_hedgehog_2 ?_
  refine g_if_eq (tgt := 20) hc dX0_hedgehog_5 (by decide) (fun h3 => ?_) (fun h3 => ?_)
  · have hf := oT h3 hf
    refine g_iconst (v := (-1)) hc dX0_hedgehog_20 (by decide) ?_
    have hz := Option.some.inj hf; subst hz
    exact g_iret hc (hR _ hK) dX0_hedgehog_21
  · have hf := oF h3 hf
    refine g_iload_n hc dX0_hedgehog_8 rfl 2 rfl ?_
    refine g_i2l hc dX0_hedgehog_9 ?_
    refine g_lconst (v := 0) hc dX0_hedgehog_10 (by decide) ?_
    refine g_ldc2 (v := 3) hc q626 dX0_hedgehog_11 ?_
    obtain ⟨r5, h4, hf⟩ := oB_some hf
    refine g_callSi hc [.long (Int32.toInt64 l2), .long 0, .long 3] [] (c_X0_in  h4) (lw_S q260 q261 q60 q262) rfl hd_X0_in rfl rfl (Nat.le_of_ble_eq_true rfl) gZ dX0_hedgehog_14 ?_
    refine g_if_ne (tgt := 22) hc dX0_hedgehog_17 (by decide) (fun h6 => ?_) (fun h6 => ?_)
    · have hf := oF h6 hf
      refine g_iconst (v := 0) hc dX0_hedgehog_22 (by decide) ?_
      refine g_istore_n (lv' := [(3, .int 0), (0, .ref (ad 0)), (1, .int l1), (2, .int l2)]) hc dX0_hedgehog_23 rfl (by decide) rfl ?_
      refine g_iconst (v := 0) hc dX0_hedgehog_24 (by decide) ?_
      refine g_istore (lv' := [(4, .int 0), (3, .int 0), (0, .ref (ad 0)), (1, .int l1), (2, .int l2)]) hc dX0_hedgehog_25 (by decide) rfl ?_
      exact g_lv [2, 3, 4, 1, 0] rfl (w_X0_hedgehog_b27 hc σ l1 l2 0 0 hN (K := K) hf hK hR)
    · have hf := oT h6 hf
      refine g_iconst (v := (-1)) hc dX0_hedgehog_20 (by decide) ?_
      have hz := Option.some.inj hf; subst hz
      exact g_iret hc (hR _ hK) dX0_hedgehog_21
theorem c_X0_hedgehog {l : Launch} {D : va_G} {dA : Nat → ClassId} {N : Nat} {ad : Nat → Nat} {tl : va_W} {lam : (Nat → Int64)} {σ : (Nat → Nat → Int32)} {l1 : Int32} {l2 : Int32} (hN : 36 ≤ N) {o : Int32 × (Nat → Nat → Int32)} (hf : f_X0_hedgehog σ l1 l2 = some o) : gI l D dA (XW dA N ad σ lam ++ tl) (XW dA N ad o.2 lam ++ tl) [.ref (ad 0), .int l1, .int l2] o.1 yX0_hedgehog (ws_ yX0_hedgehog cX0_hedgehog 5 (some .int)) ({ frames := 5, cells := 0, slots := 0, locals := 152 } : Room) :=
  g_startI (own := RX0) ⟨rfl, rfl⟩ (by decide) rfl (Nat.le_of_ble_eq_true rfl) (fun x e hc hR => by
    subst e
    exact w_X0_hedgehog hc σ l1 l2 hN (K := fun o1 => o1 = o) hf rfl (by rintro _ rfl; exact hR))
theorem hd_X0_hedgehog : yX0_hedgehog.cls = RX0 ∧ yX0_hedgehog.cls ≠ "java/lang/invoke/MethodHandle" ∧ yX0_hedgehog.cls ≠ "java/lang/invoke/VarHandle" ∧ (parseMethodDescriptor yX0_hedgehog.desc).map (fun d => d.parameters.length) = some 2 := by decide +kernel
/-! HedgehogLots.suit(II)I -/
def f_X0_suit (σ : (Nat → Nat → Int32)) (l1 : Int32) (l2 : Int32) : Option (Int32 × (Nat → Nat → Int32)) :=
  oB (f_X0_in (Int32.toInt64 l1) 0 (Int32.toInt64 ((σ (sb 0) 7) - 1))) fun r2 => if r2 = 0 then (some ((-1), σ)) else (oB (f_X0_in (Int32.toInt64 l2) 0 2) fun r5 => if r5 = 0 then (some ((-1), σ)) else (oB (f_X0_goes σ 0 l1) fun r8 => if 2 ≤ l2 then (oB (f_X0_winner r8 0) fun r11 => some (r11, r8)) else (oC (inb ((2 * l1) + l2) 12) <| some ((r8 (sb 0 + 5) ((2 * l1) + l2).toNatClampNeg), r8))))
theorem w_X0_suit {x : gX} {N : Nat} {ad : Nat → Nat} {tl : va_W} {lam : (Nat → Int64)} (hc : gOk x RX0 cX0_suit 3 6 174)  (σ : (Nat → Nat → Int32)) (l1 : Int32) (l2 : Int32) (hN : 36 ≤ N) {K : Int32 × (Nat → Nat → Int32) → Prop} {o : Int32 × (Nat → Nat → Int32)} (hf : f_X0_suit σ l1 l2 = some o) (hK : K o) (hR : ∀ o : Int32 × (Nat → Nat → Int32), K o → gRi x 0 0 (XW x.dA N ad o.2 lam ++ tl) o.1) : gG x 3 0 0 (XW x.dA N ad σ lam ++ tl) 0 [(0, .ref (ad 0)), (1, .int l1), (2, .int l2)] [] := by
  unfold f_X0_suit at hf
  refine g_iload_n hc dX0_suit_0 rfl 1 rfl ?_
  refine g_i2l hc dX0_suit_1 ?_
  refine g_lconst (v := 0) hc dX0_suit_2 (by decide) ?_
  refine g_aload_n hc dX0_suit_3 rfl 0 rfl ?_
  refine g_get (v := .ref (ad (sb 0))) hc in_X0 (XW_at (k := 0) (Nat.lt_of_lt_of_le (by decide) hN)) rfl 1 (by decide) q185 rfl dX0_suit_4 ?_
  refine g_getN (v := .int (σ (sb 0) 7)) hc in_X5 (XW_s0 (gSl 0 hN (by decide))) rfl 7 (by decide) 11 rfl rfl dX0_suit_7 ?_
  refine g_iconst (v := 1) hc dX0_suit_10 (by decide) ?_
  refine g_isub hc dX0_suit_11 ?_
  refine g_i2l hc dX0_suit_12 ?_
  obtain ⟨r2, h1, hf⟩ := oB_some hf
  refine g_callSi hc [.long (Int32.toInt64 l1), .long 0, .long (Int32.toInt64 ((σ (sb 0) 7) - 1))] [] (c_X0_in  h1) (lw_S q260 q261 q60 q262) rfl hd_X0_in rfl rfl (Nat.le_of_ble_eq_true rfl) gZ dX0_suit_13 ?_
  refine g_if_eq (tgt := 31) hc dX0_suit_16 (by decide) (fun h3 => ?_) (fun h3 => ?_)
  · have hf := oT h3 hf
    refine g_iconst (v := (-1)) hc dX0_suit_31 (by decide) ?_
    have hz := Option.some.inj hf; subst hz
    exact g_iret hc (hR _ hK) dX0_suit_32
  · have hf := oF h3 hf
    refine g_iload_n hc dX0_suit_19 rfl 2 rfl ?_
    refine g_i2l hc dX0_suit_20 ?_
    refine g_lconst (v := 0) hc dX0_suit_21 (by decide) ?_
    refine g_ldc2 (v := 2) hc q613 dX0_suit_22 ?_
    obtain ⟨r5, h4, hf⟩ := oB_some hf
    refine g_callSi hc [.long (Int32.toInt64 l2), .long 0, .long 2] [] (c_X0_in  h4) (lw_S q260 q261 q60 q262) rfl hd_X0_in rfl rfl (Nat.le_of_ble_eq_true rfl) gZ dX0_suit_25 ?_
    refine g_if_ne (tgt := 33) hc dX0_suit_28 (by decide) (fun h6 => ?_) (fun h6 => ?_)
    · have hf := oF h6 hf
      refine g_aload_n hc dX0_suit_33 rfl 0 rfl ?_
      refine g_aload_n hc dX0_suit_34 rfl 0 rfl ?_
      refine g_get (v := .ref (ad (sb 0))) hc in_X0 (XW_at (k := 0) (Nat.lt_of_lt_of_le (by decide) hN)) rfl 1 (by decide) q185 rfl dX0_suit_35 ?_
      refine g_iload_n hc dX0_suit_38 rfl 1 rfl ?_
      obtain ⟨r8, h7, hf⟩ := oB_some hf
      refine g_callVv hc [.ref (ad (sb 0)), .int l1] [] (c_X0_goes hN (gSl 0 hN (by decide)) h7) (XW_at (k := 0) (Nat.lt_of_lt_of_le (by decide) hN)) rfl (lw_V q536 q538 qs13 q60 q539) rfl hd_X0_goes rfl rfl (Nat.le_of_ble_eq_true rfl) gZ dX0_suit_39 ?_
      refine g_iload_n hc dX0_suit_42 rfl 2 rfl ?_
      refine g_iconst (v := 2) hc dX0_suit_43 (by decide) ?_
      refine g_icmp_ge (tgt := 63) hc dX0_suit_44 (by decide) (fun h9 => ?_) (fun h9 => ?_)
      · have hf := oT h9 hf
        refine g_aload_n hc dX0_suit_63 rfl 0 rfl ?_
        refine g_aload_n hc dX0_suit_64 rfl 0 rfl ?_
        refine g_get (v := .ref (ad (sb 0))) hc in_X0 (XW_at (k := 0) (Nat.lt_of_lt_of_le (by decide) hN)) rfl 1 (by decide) q185 rfl dX0_suit_65 ?_
        obtain ⟨r11, h10, hf⟩ := oB_some hf
        refine g_callVi hc [.ref (ad (sb 0))] [] (c_X0_winner hN (gSl 0 hN (by decide)) h10) (XW_at (k := 0) (Nat.lt_of_lt_of_le (by decide) hN)) rfl (lw_V q601 q603 qs17 q60 q604) rfl hd_X0_winner rfl rfl (Nat.le_of_ble_eq_true rfl) gZ dX0_suit_68 ?_
        have hz := Option.some.inj hf; subst hz
        exact g_iret hc (hR _ hK) dX0_suit_71
      · have hf := oF h9 hf
        refine g_aload_n hc dX0_suit_47 rfl 0 rfl ?_
        refine g_get (v := .ref (ad (sb 0))) hc in_X0 (XW_at (k := 0) (Nat.lt_of_lt_of_le (by decide) hN)) rfl 1 (by decide) q185 rfl dX0_suit_48 ?_
        refine g_getN (v := .ref (ad (sb 0 + 5))) hc in_X5 (XW_s0 (gSl 0 hN (by decide))) rfl 8 (by decide) 13 rfl rfl dX0_suit_51 ?_
        refine g_iconst (v := 2) hc dX0_suit_54 (by decide) ?_
        refine g_iload_n hc dX0_suit_55 rfl 1 rfl ?_
        refine g_imul hc dX0_suit_56 ?_
        refine g_iload_n hc dX0_suit_57 rfl 2 rfl ?_
        refine g_iadd hc dX0_suit_58 ?_
        obtain ⟨h12, hf⟩ := oC_some hf
        refine g_bald (n := 12) (f := r8 (sb 0 + 5)) hc (XW_s5 (gSl 0 hN (by decide))) h12 dX0_suit_59 ?_
        refine g_goto (tgt := 71) hc dX0_suit_60 (by decide) ?_
        have hz := Option.some.inj hf; subst hz
        exact g_iret hc (hR _ hK) dX0_suit_71
    · have hf := oT h6 hf
      refine g_iconst (v := (-1)) hc dX0_suit_31 (by decide) ?_
      have hz := Option.some.inj hf; subst hz
      exact g_iret hc (hR _ hK) dX0_suit_32
theorem c_X0_suit {l : Launch} {D : va_G} {dA : Nat → ClassId} {N : Nat} {ad : Nat → Nat} {tl : va_W} {lam : (Nat → Int64)} {σ : (Nat → Nat → Int32)} {l1 : Int32} {l2 : Int32} (hN : 36 ≤ N) {o : Int32 × (Nat → Nat → Int32)} (hf : f_X0_suit σ l1 l2 = some o) : gI l D dA (XW dA N ad σ lam ++ tl) (XW dA N ad o.2 lam ++ tl) [.ref (ad 0), .int l1, .int l2] o.1 yX0_suit (ws_ yX0_suit cX0_suit 3 (some .int)) ({ frames := 6, cells := 0, slots := 0, locals := 174 } : Room) :=
  g_startI (own := RX0) ⟨rfl, rfl⟩ (by decide) rfl (Nat.le_of_ble_eq_true rfl) (fun x e hc hR => by
    subst e
    exact w_X0_suit hc σ l1 l2 hN (K := fun o1 => o1 = o) hf rfl (by rintro _ rfl; exact hR))
theorem hd_X0_suit : yX0_suit.cls = RX0 ∧ yX0_suit.cls ≠ "java/lang/invoke/MethodHandle" ∧ yX0_suit.cls ≠ "java/lang/invoke/VarHandle" ∧ (parseMethodDescriptor yX0_suit.desc).map (fun d => d.parameters.length) = some 2 := by decide +kernel
/-! HedgehogLots.shift(II)I -/
def f_X0_shift_b44 (σ : (Nat → Nat → Int32)) (l1 : Int32) (l2 : Int32) : Option (Int32 × (Nat → Nat → Int32)) :=
  oC (inb l1 7) <| oC (inb l1 7) <| oL (upd2 σ (sb 0 + 1) l1.toNatClampNeg (nbt (Int8.toInt32 (Int32.toInt8 l2)))) fun s2 => some ((σ (sb 0 + 1) l1.toNatClampNeg), s2)
theorem w_X0_shift_b44 {x : gX} {N : Nat} {ad : Nat → Nat} {tl : va_W} {lam : (Nat → Int64)} (hc : gOk x RX0 cX0_shift 4 2 46)  (σ : (Nat → Nat → Int32)) (l1 : Int32) (l2 : Int32) (hN : 36 ≤ N) {K : Int32 × (Nat → Nat → Int32) → Prop} {o : Int32 × (Nat → Nat → Int32)} (hf : f_X0_shift_b44 σ l1 l2 = some o) (hK : K o) (hR : ∀ o : Int32 × (Nat → Nat → Int32), K o → gRi x 0 0 (XW x.dA N ad o.2 lam ++ tl) o.1) : gG x 4 0 0 (XW x.dA N ad σ lam ++ tl) 44 [(0, .ref (ad 0)), (1, .int l1), (2, .int l2)] [] := by
  unfold f_X0_shift_b44 at hf
  refine g_aload_n hc dX0_shift_44 rfl 0 rfl ?_
  refine g_get (v := .ref (ad (sb 0))) hc in_X0 (XW_at (k := 0) (Nat.lt_of_lt_of_le (by decide) hN)) rfl 1 (by decide) q185 rfl dX0_shift_45 ?_
  refine g_getN (v := .ref (ad (sb 0 + 1))) hc in_X5 (XW_s0 (gSl 0 hN (by decide))) rfl 1 (by decide) 2 rfl rfl dX0_shift_48 ?_
  refine g_iload_n hc dX0_shift_51 rfl 1 rfl ?_
  obtain ⟨h1, hf⟩ := oC_some hf
  refine g_bald (n := 7) (f := σ (sb 0 + 1)) hc (XW_s1 (gSl 0 hN (by decide))) h1 dX0_shift_52 ?_
  refine g_istore_n (lv' := [(3, .int (σ (sb 0 + 1) l1.toNatClampNeg)), (0, .ref (ad 0)), (1, .int l1), (2, .int l2)]) hc dX0_shift_53 rfl (by decide) rfl ?_
  refine g_aload_n hc dX0_shift_54 rfl 1 rfl ?_
  refine g_get (v := .ref (ad (sb 0))) hc in_X0 (XW_at (k := 0) (Nat.lt_of_lt_of_le (by decide) hN)) rfl 1 (by decide) q185 rfl dX0_shift_55 ?_
  refine g_getN (v := .ref (ad (sb 0 + 1))) hc in_X5 (XW_s0 (gSl 0 hN (by decide))) rfl 1 (by decide) 2 rfl rfl dX0_shift_58 ?_
  refine g_iload_n hc dX0_shift_61 rfl 2 rfl ?_
  refine g_iload_n hc dX0_shift_62 rfl 3 rfl ?_
  refine g_i2b hc dX0_shift_63 ?_
  obtain ⟨h4, hf⟩ := oC_some hf
  obtain ⟨s2, e3, hf⟩ := oL_some hf
  refine g_bast (n := 7) (f := σ (sb 0 + 1)) hc (XW_s1 (gSl 0 hN (by decide))) h4 (XW_pa (σ1 := s2) (gSl 0 hN (by decide)) (k := 1) (by decide) e3 rfl) dX0_shift_64 ?_
  refine g_iload_n hc dX0_shift_65 rfl 0 rfl ?_
  have hz := Option.some.inj hf; subst hz
  exact g_iret hc (hR _ hK) dX0_shift_66
def f_X0_shift (σ : (Nat → Nat → Int32)) (l1 : Int32) (l2 : Int32) : Option (Int32 × (Nat → Nat → Int32)) :=
  oB (f_X0_isPeg σ l1) fun r2 => if r2 = 0 then (some ((-1), σ)) else (oB (f_X0_isCell l2) fun r5 => if r5 = 0 then (some ((-1), σ)) else (oC (inb l1 7) <| if (σ (sb 0 + 1) l1.toNatClampNeg) = l2 then (f_X0_shift_b44 σ l1 l2) else (oB (f_X5_isFree σ 0 l2) fun r10 => if r10 = 0 then (some ((-2), σ)) else (f_X0_shift_b44 σ l1 l2))))
theorem w_X0_shift {x : gX} {N : Nat} {ad : Nat → Nat} {tl : va_W} {lam : (Nat → Int64)} (hc : gOk x RX0 cX0_shift 4 2 46)  (σ : (Nat → Nat → Int32)) (l1 : Int32) (l2 : Int32) (hN : 36 ≤ N) {K : Int32 × (Nat → Nat → Int32) → Prop} {o : Int32 × (Nat → Nat → Int32)} (hf : f_X0_shift σ l1 l2 = some o) (hK : K o) (hR : ∀ o : Int32 × (Nat → Nat → Int32), K o → gRi x 0 0 (XW x.dA N ad o.2 lam ++ tl) o.1) : gG x 4 0 0 (XW x.dA N ad σ lam ++ tl) 0 [(0, .ref (ad 0)), (1, .int l1), (2, .int l2)] [] := by
  unfold f_X0_shift at hf
  refine g_aload_n hc dX0_shift_0 rfl 0 rfl ?_
  refine g_iload_n hc dX0_shift_1 rfl 1 rfl ?_
  obtain ⟨r2, h1, hf⟩ := oB_some hf
  refine g_callVi hc [.int l1] [] (c_X0_isPeg hN h1) (XW_at (k := 0) (Nat.lt_of_lt_of_le (by decide) hN)) rfl (lw_V q609 q611 qs18 q60 q612) rfl hd_X0_isPeg rfl rfl (Nat.le_of_ble_eq_true rfl) gZ dX0_shift_2 ?_
  refine g_if_eq (tgt := 15) hc dX0_shift_5 (by decide) (fun h3 => ?_) (fun h3 => ?_)
  · have hf := oT h3 hf
    refine g_iconst (v := (-1)) hc dX0_shift_15 (by decide) ?_
    have hz := Option.some.inj hf; subst hz
    exact g_iret hc (hR _ hK) dX0_shift_16
  · have hf := oF h3 hf
    refine g_iload_n hc dX0_shift_8 rfl 2 rfl ?_
    obtain ⟨r5, h4, hf⟩ := oB_some hf
    refine g_callSi hc [.int l2] [] (c_X0_isCell  h4) (lw_S q635 q486 q60 q487) rfl hd_X0_isCell rfl rfl (Nat.le_of_ble_eq_true rfl) gZ dX0_shift_9 ?_
    refine g_if_ne (tgt := 17) hc dX0_shift_12 (by decide) (fun h6 => ?_) (fun h6 => ?_)
    · have hf := oF h6 hf
      refine g_aload_n hc dX0_shift_17 rfl 0 rfl ?_
      refine g_get (v := .ref (ad (sb 0))) hc in_X0 (XW_at (k := 0) (Nat.lt_of_lt_of_le (by decide) hN)) rfl 1 (by decide) q185 rfl dX0_shift_18 ?_
      refine g_getN (v := .ref (ad (sb 0 + 1))) hc in_X5 (XW_s0 (gSl 0 hN (by decide))) rfl 1 (by decide) 2 rfl rfl dX0_shift_21 ?_
      refine g_iload_n hc dX0_shift_24 rfl 1 rfl ?_
      obtain ⟨h7, hf⟩ := oC_some hf
      refine g_bald (n := 7) (f := σ (sb 0 + 1)) hc (XW_s1 (gSl 0 hN (by decide))) h7 dX0_shift_25 ?_
      refine g_iload_n hc dX0_shift_26 rfl 2 rfl ?_
      refine g_icmp_eq (tgt := 44) hc dX0_shift_27 (by decide) (fun h8 => ?_) (fun h8 => ?_)
      · have hf := oT h8 hf
        exact g_lv [0, 1, 2] rfl (w_X0_shift_b44 hc σ l1 l2 hN (K := K) hf hK hR)
      · have hf := oF h8 hf
        refine g_aload_n hc dX0_shift_30 rfl 0 rfl ?_
        refine g_get (v := .ref (ad (sb 0))) hc in_X0 (XW_at (k := 0) (Nat.lt_of_lt_of_le (by decide) hN)) rfl 1 (by decide) q185 rfl dX0_shift_31 ?_
        refine g_iload_n hc dX0_shift_34 rfl 2 rfl ?_
        obtain ⟨r10, h9, hf⟩ := oB_some hf
        refine g_callVi hc [.int l2] [] (c_X5_isFree hN (gSl 0 hN (by decide)) h9) (XW_s0 (gSl 0 hN (by decide))) rfl (lw_V q636 q490 q491 q65 q492) rfl hd_X5_isFree rfl rfl (Nat.le_of_ble_eq_true rfl) gZ dX0_shift_35 ?_
        refine g_if_ne (tgt := 44) hc dX0_shift_38 (by decide) (fun h11 => ?_) (fun h11 => ?_)
        · have hf := oF h11 hf
          exact g_lv [0, 1, 2] rfl (w_X0_shift_b44 hc σ l1 l2 hN (K := K) hf hK hR)
        · have hf := oT h11 hf
          refine g_bipush (v := (-2)) hc dX0_shift_41 (by decide) ?_
          have hz := Option.some.inj hf; subst hz
          exact g_iret hc (hR _ hK) dX0_shift_43
    · have hf := oT h6 hf
      refine g_iconst (v := (-1)) hc dX0_shift_15 (by decide) ?_
      have hz := Option.some.inj hf; subst hz
      exact g_iret hc (hR _ hK) dX0_shift_16
theorem c_X0_shift {l : Launch} {D : va_G} {dA : Nat → ClassId} {N : Nat} {ad : Nat → Nat} {tl : va_W} {lam : (Nat → Int64)} {σ : (Nat → Nat → Int32)} {l1 : Int32} {l2 : Int32} (hN : 36 ≤ N) {o : Int32 × (Nat → Nat → Int32)} (hf : f_X0_shift σ l1 l2 = some o) : gI l D dA (XW dA N ad σ lam ++ tl) (XW dA N ad o.2 lam ++ tl) [.ref (ad 0), .int l1, .int l2] o.1 yX0_shift (ws_ yX0_shift cX0_shift 4 (some .int)) ({ frames := 2, cells := 0, slots := 0, locals := 46 } : Room) :=
  g_startI (own := RX0) ⟨rfl, rfl⟩ (by decide) rfl (Nat.le_of_ble_eq_true rfl) (fun x e hc hR => by
    subst e
    exact w_X0_shift hc σ l1 l2 hN (K := fun o1 => o1 = o) hf rfl (by rintro _ rfl; exact hR))
theorem hd_X0_shift : yX0_shift.cls = RX0 ∧ yX0_shift.cls ≠ "java/lang/invoke/MethodHandle" ∧ yX0_shift.cls ≠ "java/lang/invoke/VarHandle" ∧ (parseMethodDescriptor yX0_shift.desc).map (fun d => d.parameters.length) = some 2 := by decide +kernel
/-! HedgehogLots.rag(II)I -/
def f_X0_rag (σ : (Nat → Nat → Int32)) (l1 : Int32) (l2 : Int32) : Option (Int32 × (Nat → Nat → Int32)) :=
  oB (f_X0_isPeg σ l1) fun r2 => if r2 = 0 then (some ((-1), σ)) else (oB (f_X0_isRag l2) fun r5 => if r5 = 0 then (some ((-1), σ)) else (oC (inb l1 7) <| oC (inb l1 7) <| oL (upd2 σ (sb 0 + 2) l1.toNatClampNeg (nbt (Int8.toInt32 (Int32.toInt8 l2)))) fun s8 => some ((σ (sb 0 + 2) l1.toNatClampNeg), s8)))
theorem w_X0_rag {x : gX} {N : Nat} {ad : Nat → Nat} {tl : va_W} {lam : (Nat → Int64)} (hc : gOk x RX0 cX0_rag 4 2 46)  (σ : (Nat → Nat → Int32)) (l1 : Int32) (l2 : Int32) (hN : 36 ≤ N) {K : Int32 × (Nat → Nat → Int32) → Prop} {o : Int32 × (Nat → Nat → Int32)} (hf : f_X0_rag σ l1 l2 = some o) (hK : K o) (hR : ∀ o : Int32 × (Nat → Nat → Int32), K o → gRi x 0 0 (XW x.dA N ad o.2 lam ++ tl) o.1) : gG x 4 0 0 (XW x.dA N ad σ lam ++ tl) 0 [(0, .ref (ad 0)), (1, .int l1), (2, .int l2)] [] := by
  unfold f_X0_rag at hf
  refine g_aload_n hc dX0_rag_0 rfl 0 rfl ?_
  refine g_iload_n hc dX0_rag_1 rfl 1 rfl ?_
  obtain ⟨r2, h1, hf⟩ := oB_some hf
  refine g_callVi hc [.int l1] [] (c_X0_isPeg hN h1) (XW_at (k := 0) (Nat.lt_of_lt_of_le (by decide) hN)) rfl (lw_V q609 q611 qs18 q60 q612) rfl hd_X0_isPeg rfl rfl (Nat.le_of_ble_eq_true rfl) gZ dX0_rag_2 ?_
  refine g_if_eq (tgt := 15) hc dX0_rag_5 (by decide) (fun h3 => ?_) (fun h3 => ?_)
  · have hf := oT h3 hf
    refine g_iconst (v := (-1)) hc dX0_rag_15 (by decide) ?_
    have hz := Option.some.inj hf; subst hz
    exact g_iret hc (hR _ hK) dX0_rag_16
  · have hf := oF h3 hf
    refine g_iload_n hc dX0_rag_8 rfl 2 rfl ?_
    obtain ⟨r5, h4, hf⟩ := oB_some hf
    refine g_callSi hc [.int l2] [] (c_X0_isRag  h4) (lw_S q641 q642 q60 q643) rfl hd_X0_isRag rfl rfl (Nat.le_of_ble_eq_true rfl) gZ dX0_rag_9 ?_
    refine g_if_ne (tgt := 17) hc dX0_rag_12 (by decide) (fun h6 => ?_) (fun h6 => ?_)
    · have hf := oF h6 hf
      refine g_aload_n hc dX0_rag_17 rfl 0 rfl ?_
      refine g_get (v := .ref (ad (sb 0))) hc in_X0 (XW_at (k := 0) (Nat.lt_of_lt_of_le (by decide) hN)) rfl 1 (by decide) q185 rfl dX0_rag_18 ?_
      refine g_getN (v := .ref (ad (sb 0 + 2))) hc in_X5 (XW_s0 (gSl 0 hN (by decide))) rfl 2 (by decide) 3 rfl rfl dX0_rag_21 ?_
      refine g_iload_n hc dX0_rag_24 rfl 1 rfl ?_
      obtain ⟨h7, hf⟩ := oC_some hf
      refine g_bald (n := 7) (f := σ (sb 0 + 2)) hc (XW_s2 (gSl 0 hN (by decide))) h7 dX0_rag_25 ?_
      refine g_istore_n (lv' := [(3, .int (σ (sb 0 + 2) l1.toNatClampNeg)), (0, .ref (ad 0)), (1, .int l1), (2, .int l2)]) hc dX0_rag_26 rfl (by decide) rfl ?_
      refine g_aload_n hc dX0_rag_27 rfl 1 rfl ?_
      refine g_get (v := .ref (ad (sb 0))) hc in_X0 (XW_at (k := 0) (Nat.lt_of_lt_of_le (by decide) hN)) rfl 1 (by decide) q185 rfl dX0_rag_28 ?_
      refine g_getN (v := .ref (ad (sb 0 + 2))) hc in_X5 (XW_s0 (gSl 0 hN (by decide))) rfl 2 (by decide) 3 rfl rfl dX0_rag_31 ?_
      refine g_iload_n hc dX0_rag_34 rfl 2 rfl ?_
      refine g_iload_n hc dX0_rag_35 rfl 3 rfl ?_
      refine g_i2b hc dX0_rag_36 ?_
      obtain ⟨h10, hf⟩ := oC_some hf
      obtain ⟨s8, e9, hf⟩ := oL_some hf
      refine g_bast (n := 7) (f := σ (sb 0 + 2)) hc (XW_s2 (gSl 0 hN (by decide))) h10 (XW_pa (σ1 := s8) (gSl 0 hN (by decide)) (k := 2) (by decide) e9 rfl) dX0_rag_37 ?_
      refine g_iload_n hc dX0_rag_38 rfl 0 rfl ?_
      have hz := Option.some.inj hf; subst hz
      exact g_iret hc (hR _ hK) dX0_rag_39
    · have hf := oT h6 hf
      refine g_iconst (v := (-1)) hc dX0_rag_15 (by decide) ?_
      have hz := Option.some.inj hf; subst hz
      exact g_iret hc (hR _ hK) dX0_rag_16
theorem c_X0_rag {l : Launch} {D : va_G} {dA : Nat → ClassId} {N : Nat} {ad : Nat → Nat} {tl : va_W} {lam : (Nat → Int64)} {σ : (Nat → Nat → Int32)} {l1 : Int32} {l2 : Int32} (hN : 36 ≤ N) {o : Int32 × (Nat → Nat → Int32)} (hf : f_X0_rag σ l1 l2 = some o) : gI l D dA (XW dA N ad σ lam ++ tl) (XW dA N ad o.2 lam ++ tl) [.ref (ad 0), .int l1, .int l2] o.1 yX0_rag (ws_ yX0_rag cX0_rag 4 (some .int)) ({ frames := 2, cells := 0, slots := 0, locals := 46 } : Room) :=
  g_startI (own := RX0) ⟨rfl, rfl⟩ (by decide) rfl (Nat.le_of_ble_eq_true rfl) (fun x e hc hR => by
    subst e
    exact w_X0_rag hc σ l1 l2 hN (K := fun o1 => o1 = o) hf rfl (by rintro _ rfl; exact hR))
theorem hd_X0_rag : yX0_rag.cls = RX0 ∧ yX0_rag.cls ≠ "java/lang/invoke/MethodHandle" ∧ yX0_rag.cls ≠ "java/lang/invoke/VarHandle" ∧ (parseMethodDescriptor yX0_rag.desc).map (fun d => d.parameters.length) = some 2 := by decide +kernel
/-! HedgehogLots.alter(III)I -/
def f_X0_alter_b38 (σ : (Nat → Nat → Int32)) (l1 : Int32) (l2 : Int32) (l3 : Int32) (k1 : Int32) : Option (Int32 × (Nat → Nat → Int32)) :=
  oB (f_X0_isHedgehog σ l1) fun r2 => if r2 = 0 then (some ((-1), σ)) else (if k1 = 0 then (some ((-1), σ)) else (oC (inb ((2 * l1) + l2) 8) <| oC (inb ((2 * l1) + l2) 8) <| oL (upd2 σ (sb 0 + 4) ((2 * l1) + l2).toNatClampNeg (nbt (Int8.toInt32 (Int32.toInt8 l3)))) fun s6 => some ((σ (sb 0 + 4) ((2 * l1) + l2).toNatClampNeg), s6)))
theorem w_X0_alter_b38 {x : gX} {N : Nat} {ad : Nat → Nat} {tl : va_W} {lam : (Nat → Int64)} (hc : gOk x RX0 cX0_alter 6 2 46)  (σ : (Nat → Nat → Int32)) (l1 : Int32) (l2 : Int32) (l3 : Int32) (k1 : Int32) (hN : 36 ≤ N) {K : Int32 × (Nat → Nat → Int32) → Prop} {o : Int32 × (Nat → Nat → Int32)} (hf : f_X0_alter_b38 σ l1 l2 l3 k1 = some o) (hK : K o) (hR : ∀ o : Int32 × (Nat → Nat → Int32), K o → gRi x 0 0 (XW x.dA N ad o.2 lam ++ tl) o.1) : gG x 6 0 0 (XW x.dA N ad σ lam ++ tl) 38 [(0, .ref (ad 0)), (1, .int l1), (2, .int l2), (3, .int l3)] [.int k1] := by
  unfold f_X0_alter_b38 at hf
  refine g_istore (lv' := [(4, .int k1), (0, .ref (ad 0)), (1, .int l1), (2, .int l2), (3, .int l3)]) hc dX0_alter_38 (by decide) rfl ?_
  refine g_aload_n hc dX0_alter_40 rfl 1 rfl ?_
  refine g_iload_n hc dX0_alter_41 rfl 2 rfl ?_
  obtain ⟨r2, h1, hf⟩ := oB_some hf
  refine g_callVi hc [.int l1] [] (c_X0_isHedgehog hN h1) (XW_at (k := 0) (Nat.lt_of_lt_of_le (by decide) hN)) rfl (lw_V q622 q624 qs19 q60 q625) rfl hd_X0_isHedgehog rfl rfl (Nat.le_of_ble_eq_true rfl) gZ dX0_alter_42 ?_
  refine g_if_eq (tgt := 53) hc dX0_alter_45 (by decide) (fun h3 => ?_) (fun h3 => ?_)
  · have hf := oT h3 hf
    refine g_iconst (v := (-1)) hc dX0_alter_53 (by decide) ?_
    have hz := Option.some.inj hf; subst hz
    exact g_iret hc (hR _ hK) dX0_alter_54
  · have hf := oF h3 hf
    refine g_iload hc dX0_alter_48 0 rfl ?_
    refine g_if_ne (tgt := 55) hc dX0_alter_50 (by decide) (fun h4 => ?_) (fun h4 => ?_)
    · have hf := oF h4 hf
      refine g_aload_n hc dX0_alter_55 rfl 1 rfl ?_
      refine g_get (v := .ref (ad (sb 0))) hc in_X0 (XW_at (k := 0) (Nat.lt_of_lt_of_le (by decide) hN)) rfl 1 (by decide) q185 rfl dX0_alter_56 ?_
      refine g_getN (v := .ref (ad (sb 0 + 4))) hc in_X5 (XW_s0 (gSl 0 hN (by decide))) rfl 6 (by decide) 9 rfl rfl dX0_alter_59 ?_
      refine g_iconst (v := 2) hc dX0_alter_62 (by decide) ?_
      refine g_iload_n hc dX0_alter_63 rfl 2 rfl ?_
      refine g_imul hc dX0_alter_64 ?_
      refine g_iload_n hc dX0_alter_65 rfl 3 rfl ?_
      refine g_iadd hc dX0_alter_66 ?_
      obtain ⟨h5, hf⟩ := oC_some hf
      refine g_bald (n := 8) (f := σ (sb 0 + 4)) hc (XW_s4 (gSl 0 hN (by decide))) h5 dX0_alter_67 ?_
      refine g_istore (lv' := [(5, .int (σ (sb 0 + 4) ((2 * l1) + l2).toNatClampNeg)), (4, .int k1), (0, .ref (ad 0)), (1, .int l1), (2, .int l2), (3, .int l3)]) hc dX0_alter_68 (by decide) rfl ?_
      refine g_aload_n hc dX0_alter_70 rfl 2 rfl ?_
      refine g_get (v := .ref (ad (sb 0))) hc in_X0 (XW_at (k := 0) (Nat.lt_of_lt_of_le (by decide) hN)) rfl 1 (by decide) q185 rfl dX0_alter_71 ?_
      refine g_getN (v := .ref (ad (sb 0 + 4))) hc in_X5 (XW_s0 (gSl 0 hN (by decide))) rfl 6 (by decide) 9 rfl rfl dX0_alter_74 ?_
      refine g_iconst (v := 2) hc dX0_alter_77 (by decide) ?_
      refine g_iload_n hc dX0_alter_78 rfl 3 rfl ?_
      refine g_imul hc dX0_alter_79 ?_
      refine g_iload_n hc dX0_alter_80 rfl 4 rfl ?_
      refine g_iadd hc dX0_alter_81 ?_
      refine g_iload_n hc dX0_alter_82 rfl 5 rfl ?_
      refine g_i2b hc dX0_alter_83 ?_
      obtain ⟨h8, hf⟩ := oC_some hf
      obtain ⟨s6, e7, hf⟩ := oL_some hf
      refine g_bast (n := 8) (f := σ (sb 0 + 4)) hc (XW_s4 (gSl 0 hN (by decide))) h8 (XW_pa (σ1 := s6) (gSl 0 hN (by decide)) (k := 4) (by decide) e7 rfl) dX0_alter_84 ?_
      refine g_iload hc dX0_alter_85 0 rfl ?_
      have hz := Option.some.inj hf; subst hz
      exact g_iret hc (hR _ hK) dX0_alter_87
    · have hf := oT h4 hf
      refine g_iconst (v := (-1)) hc dX0_alter_53 (by decide) ?_
      have hz := Option.some.inj hf; subst hz
      exact g_iret hc (hR _ hK) dX0_alter_54
def f_X0_alter_b37 (σ : (Nat → Nat → Int32)) (l1 : Int32) (l2 : Int32) (l3 : Int32) : Option (Int32 × (Nat → Nat → Int32)) :=
  f_X0_alter_b38 σ l1 l2 l3 0
theorem w_X0_alter_b37 {x : gX} {N : Nat} {ad : Nat → Nat} {tl : va_W} {lam : (Nat → Int64)} (hc : gOk x RX0 cX0_alter 6 2 46)  (σ : (Nat → Nat → Int32)) (l1 : Int32) (l2 : Int32) (l3 : Int32) (hN : 36 ≤ N) {K : Int32 × (Nat → Nat → Int32) → Prop} {o : Int32 × (Nat → Nat → Int32)} (hf : f_X0_alter_b37 σ l1 l2 l3 = some o) (hK : K o) (hR : ∀ o : Int32 × (Nat → Nat → Int32), K o → gRi x 0 0 (XW x.dA N ad o.2 lam ++ tl) o.1) : gG x 6 0 0 (XW x.dA N ad σ lam ++ tl) 37 [(0, .ref (ad 0)), (1, .int l1), (2, .int l2), (3, .int l3)] [] := by
  unfold f_X0_alter_b37 at hf
  refine g_iconst (v := 0) hc dX0_alter_37 (by decide) ?_
  exact g_lv [0, 1, 2, 3] rfl (w_X0_alter_b38 hc σ l1 l2 l3 0 hN (K := K) hf hK hR)
def f_X0_alter (σ : (Nat → Nat → Int32)) (l1 : Int32) (l2 : Int32) (l3 : Int32) : Option (Int32 × (Nat → Nat → Int32)) :=
  if l2 = 0 then (oB (f_X0_in (Int32.toInt64 l3) 0 3) fun r7 => f_X0_alter_b38 σ l1 l2 l3 r7) else (if l2 = 1 then (oB (f_X0_in (Int32.toInt64 l3) 1 9) fun r4 => if r4 = 0 then (f_X0_alter_b37 σ l1 l2 l3) else (f_X0_alter_b38 σ l1 l2 l3 1)) else (f_X0_alter_b37 σ l1 l2 l3))
theorem w_X0_alter {x : gX} {N : Nat} {ad : Nat → Nat} {tl : va_W} {lam : (Nat → Int64)} (hc : gOk x RX0 cX0_alter 6 2 46)  (σ : (Nat → Nat → Int32)) (l1 : Int32) (l2 : Int32) (l3 : Int32) (hN : 36 ≤ N) {K : Int32 × (Nat → Nat → Int32) → Prop} {o : Int32 × (Nat → Nat → Int32)} (hf : f_X0_alter σ l1 l2 l3 = some o) (hK : K o) (hR : ∀ o : Int32 × (Nat → Nat → Int32), K o → gRi x 0 0 (XW x.dA N ad o.2 lam ++ tl) o.1) : gG x 6 0 0 (XW x.dA N ad σ lam ++ tl) 0 [(0, .ref (ad 0)), (1, .int l1), (2, .int l2), (3, .int l3)] [] := by
  unfold f_X0_alter at hf
  refine g_iload_n hc dX0_alter_0 rfl 2 rfl ?_
  refine g_if_ne (tgt := 16) hc dX0_alter_1 (by decide) (fun h1 => ?_) (fun h1 => ?_)
  · have hf := oF h1 hf
    refine g_iload_n hc dX0_alter_16 rfl 2 rfl ?_
    refine g_iconst (v := 1) hc dX0_alter_17 (by decide) ?_
    refine g_icmp_ne (tgt := 37) hc dX0_alter_18 (by decide) (fun h2 => ?_) (fun h2 => ?_)
    · have hf := oF h2 hf
      exact g_lv [0, 1, 2, 3] rfl (w_X0_alter_b37 hc σ l1 l2 l3 hN (K := K) hf hK hR)
    · have hf := oT h2 hf
      refine g_iload_n hc dX0_alter_21 rfl 3 rfl ?_
      refine g_i2l hc dX0_alter_22 ?_
      refine g_lconst (v := 1) hc dX0_alter_23 (by decide) ?_
      refine g_ldc2 (v := 9) hc q648 dX0_alter_24 ?_
      obtain ⟨r4, h3, hf⟩ := oB_some hf
      refine g_callSi hc [.long (Int32.toInt64 l3), .long 1, .long 9] [] (c_X0_in  h3) (lw_S q260 q261 q60 q262) rfl hd_X0_in rfl rfl (Nat.le_of_ble_eq_true rfl) gZ dX0_alter_27 ?_
      refine g_if_eq (tgt := 37) hc dX0_alter_30 (by decide) (fun h5 => ?_) (fun h5 => ?_)
      · have hf := oT h5 hf
        exact g_lv [0, 1, 2, 3] rfl (w_X0_alter_b37 hc σ l1 l2 l3 hN (K := K) hf hK hR)
      · have hf := oF h5 hf
        refine g_iconst (v := 1) hc dX0_alter_33 (by decide) ?_
        refine g_goto (tgt := 38) hc dX0_alter_34 (by decide) ?_
        exact g_lv [0, 1, 2, 3] rfl (w_X0_alter_b38 hc σ l1 l2 l3 1 hN (K := K) hf hK hR)
  · have hf := oT h1 hf
    refine g_iload_n hc dX0_alter_4 rfl 3 rfl ?_
    refine g_i2l hc dX0_alter_5 ?_
    refine g_lconst (v := 0) hc dX0_alter_6 (by decide) ?_
    refine g_ldc2 (v := 3) hc q626 dX0_alter_7 ?_
    obtain ⟨r7, h6, hf⟩ := oB_some hf
    refine g_callSi hc [.long (Int32.toInt64 l3), .long 0, .long 3] [] (c_X0_in  h6) (lw_S q260 q261 q60 q262) rfl hd_X0_in rfl rfl (Nat.le_of_ble_eq_true rfl) gZ dX0_alter_10 ?_
    refine g_goto (tgt := 38) hc dX0_alter_13 (by decide) ?_
    exact g_lv [0, 1, 2, 3] rfl (w_X0_alter_b38 hc σ l1 l2 l3 r7 hN (K := K) hf hK hR)
theorem c_X0_alter {l : Launch} {D : va_G} {dA : Nat → ClassId} {N : Nat} {ad : Nat → Nat} {tl : va_W} {lam : (Nat → Int64)} {σ : (Nat → Nat → Int32)} {l1 : Int32} {l2 : Int32} {l3 : Int32} (hN : 36 ≤ N) {o : Int32 × (Nat → Nat → Int32)} (hf : f_X0_alter σ l1 l2 l3 = some o) : gI l D dA (XW dA N ad σ lam ++ tl) (XW dA N ad o.2 lam ++ tl) [.ref (ad 0), .int l1, .int l2, .int l3] o.1 yX0_alter (ws_ yX0_alter cX0_alter 6 (some .int)) ({ frames := 2, cells := 0, slots := 0, locals := 46 } : Room) :=
  g_startI (own := RX0) ⟨rfl, rfl⟩ (by decide) rfl (Nat.le_of_ble_eq_true rfl) (fun x e hc hR => by
    subst e
    exact w_X0_alter hc σ l1 l2 l3 hN (K := fun o1 => o1 = o) hf rfl (by rintro _ rfl; exact hR))
theorem hd_X0_alter : yX0_alter.cls = RX0 ∧ yX0_alter.cls ≠ "java/lang/invoke/MethodHandle" ∧ yX0_alter.cls ≠ "java/lang/invoke/VarHandle" ∧ (parseMethodDescriptor yX0_alter.desc).map (fun d => d.parameters.length) = some 3 := by decide +kernel
/-! HedgehogLots.drive(II)I -/
def f_X0_drive (σ : (Nat → Nat → Int32)) (l1 : Int32) (l2 : Int32) : Option (Int32 × (Nat → Nat → Int32)) :=
  oB (f_X0_isCell l1) fun r2 => if r2 = 0 then (some ((-1), σ)) else (oB (f_X0_isRag l2) fun r5 => if r5 = 0 then (some ((-1), σ)) else (oB (f_X5_isFree σ 0 l1) fun r8 => if r8 = 0 then (some ((-2), σ)) else (if (σ (sb 0) 0) = 7 then (some ((-3), σ)) else (oB (f_X5_drives σ 0 l1 l2) fun r12 => some ((r12 (sb 0) 0), r12)))))
theorem w_X0_drive {x : gX} {N : Nat} {ad : Nat → Nat} {tl : va_W} {lam : (Nat → Int64)} (hc : gOk x RX0 cX0_drive 3 2 45)  (σ : (Nat → Nat → Int32)) (l1 : Int32) (l2 : Int32) (hN : 36 ≤ N) {K : Int32 × (Nat → Nat → Int32) → Prop} {o : Int32 × (Nat → Nat → Int32)} (hf : f_X0_drive σ l1 l2 = some o) (hK : K o) (hR : ∀ o : Int32 × (Nat → Nat → Int32), K o → gRi x 0 0 (XW x.dA N ad o.2 lam ++ tl) o.1) : gG x 3 0 0 (XW x.dA N ad σ lam ++ tl) 0 [(0, .ref (ad 0)), (1, .int l1), (2, .int l2)] [] := by
  unfold f_X0_drive at hf
  refine g_iload_n hc dX0_drive_0 rfl 1 rfl ?_
  obtain ⟨r2, h1, hf⟩ := oB_some hf
  refine g_callSi hc [.int l1] [] (c_X0_isCell  h1) (lw_S q635 q486 q60 q487) rfl hd_X0_isCell rfl rfl (Nat.le_of_ble_eq_true rfl) gZ dX0_drive_1 ?_
  refine g_if_eq (tgt := 14) hc dX0_drive_4 (by decide) (fun h3 => ?_) (fun h3 => ?_)
  · have hf := oT h3 hf
    refine g_iconst (v := (-1)) hc dX0_drive_14 (by decide) ?_
    have hz := Option.some.inj hf; subst hz
    exact g_iret hc (hR _ hK) dX0_drive_15
  · have hf := oF h3 hf
    refine g_iload_n hc dX0_drive_7 rfl 2 rfl ?_
    obtain ⟨r5, h4, hf⟩ := oB_some hf
    refine g_callSi hc [.int l2] [] (c_X0_isRag  h4) (lw_S q641 q642 q60 q643) rfl hd_X0_isRag rfl rfl (Nat.le_of_ble_eq_true rfl) gZ dX0_drive_8 ?_
    refine g_if_ne (tgt := 16) hc dX0_drive_11 (by decide) (fun h6 => ?_) (fun h6 => ?_)
    · have hf := oF h6 hf
      refine g_aload_n hc dX0_drive_16 rfl 0 rfl ?_
      refine g_get (v := .ref (ad (sb 0))) hc in_X0 (XW_at (k := 0) (Nat.lt_of_lt_of_le (by decide) hN)) rfl 1 (by decide) q185 rfl dX0_drive_17 ?_
      refine g_iload_n hc dX0_drive_20 rfl 1 rfl ?_
      obtain ⟨r8, h7, hf⟩ := oB_some hf
      refine g_callVi hc [.int l1] [] (c_X5_isFree hN (gSl 0 hN (by decide)) h7) (XW_s0 (gSl 0 hN (by decide))) rfl (lw_V q636 q490 q491 q65 q492) rfl hd_X5_isFree rfl rfl (Nat.le_of_ble_eq_true rfl) gZ dX0_drive_21 ?_
      refine g_if_ne (tgt := 30) hc dX0_drive_24 (by decide) (fun h9 => ?_) (fun h9 => ?_)
      · have hf := oF h9 hf
        refine g_aload_n hc dX0_drive_30 rfl 0 rfl ?_
        refine g_get (v := .ref (ad (sb 0))) hc in_X0 (XW_at (k := 0) (Nat.lt_of_lt_of_le (by decide) hN)) rfl 1 (by decide) q185 rfl dX0_drive_31 ?_
        refine g_getN (v := .int (σ (sb 0) 0)) hc in_X5 (XW_s0 (gSl 0 hN (by decide))) rfl 0 (by decide) 1 rfl rfl dX0_drive_34 ?_
        refine g_bipush (v := 7) hc dX0_drive_37 (by decide) ?_
        refine g_icmp_ne (tgt := 45) hc dX0_drive_39 (by decide) (fun h10 => ?_) (fun h10 => ?_)
        · have hf := oF h10 hf
          refine g_aload_n hc dX0_drive_45 rfl 0 rfl ?_
          refine g_get (v := .ref (ad (sb 0))) hc in_X0 (XW_at (k := 0) (Nat.lt_of_lt_of_le (by decide) hN)) rfl 1 (by decide) q185 rfl dX0_drive_46 ?_
          refine g_iload_n hc dX0_drive_49 rfl 1 rfl ?_
          refine g_iload_n hc dX0_drive_50 rfl 2 rfl ?_
          obtain ⟨r12, h11, hf⟩ := oB_some hf
          refine g_callVv hc [.int l1, .int l2] [] (c_X5_drives hN (gSl 0 hN (by decide)) h11) (XW_s0 (gSl 0 hN (by decide))) rfl (lw_V q653 q507 q508 q65 q509) rfl hd_X5_drives rfl rfl (Nat.le_of_ble_eq_true rfl) gZ dX0_drive_51 ?_
          refine g_aload_n hc dX0_drive_54 rfl 0 rfl ?_
          refine g_get (v := .ref (ad (sb 0))) hc in_X0 (XW_at (k := 0) (Nat.lt_of_lt_of_le (by decide) hN)) rfl 1 (by decide) q185 rfl dX0_drive_55 ?_
          refine g_getN (v := .int (r12 (sb 0) 0)) hc in_X5 (XW_s0 (gSl 0 hN (by decide))) rfl 0 (by decide) 1 rfl rfl dX0_drive_58 ?_
          have hz := Option.some.inj hf; subst hz
          exact g_iret hc (hR _ hK) dX0_drive_61
        · have hf := oT h10 hf
          refine g_bipush (v := (-3)) hc dX0_drive_42 (by decide) ?_
          have hz := Option.some.inj hf; subst hz
          exact g_iret hc (hR _ hK) dX0_drive_44
      · have hf := oT h9 hf
        refine g_bipush (v := (-2)) hc dX0_drive_27 (by decide) ?_
        have hz := Option.some.inj hf; subst hz
        exact g_iret hc (hR _ hK) dX0_drive_29
    · have hf := oT h6 hf
      refine g_iconst (v := (-1)) hc dX0_drive_14 (by decide) ?_
      have hz := Option.some.inj hf; subst hz
      exact g_iret hc (hR _ hK) dX0_drive_15
theorem c_X0_drive {l : Launch} {D : va_G} {dA : Nat → ClassId} {N : Nat} {ad : Nat → Nat} {tl : va_W} {lam : (Nat → Int64)} {σ : (Nat → Nat → Int32)} {l1 : Int32} {l2 : Int32} (hN : 36 ≤ N) {o : Int32 × (Nat → Nat → Int32)} (hf : f_X0_drive σ l1 l2 = some o) : gI l D dA (XW dA N ad σ lam ++ tl) (XW dA N ad o.2 lam ++ tl) [.ref (ad 0), .int l1, .int l2] o.1 yX0_drive (ws_ yX0_drive cX0_drive 3 (some .int)) ({ frames := 2, cells := 0, slots := 0, locals := 45 } : Room) :=
  g_startI (own := RX0) ⟨rfl, rfl⟩ (by decide) rfl (Nat.le_of_ble_eq_true rfl) (fun x e hc hR => by
    subst e
    exact w_X0_drive hc σ l1 l2 hN (K := fun o1 => o1 = o) hf rfl (by rintro _ rfl; exact hR))
theorem hd_X0_drive : yX0_drive.cls = RX0 ∧ yX0_drive.cls ≠ "java/lang/invoke/MethodHandle" ∧ yX0_drive.cls ≠ "java/lang/invoke/VarHandle" ∧ (parseMethodDescriptor yX0_drive.desc).map (fun d => d.parameters.length) = some 2 := by decide +kernel
/-! HedgehogLots.lay(I)I -/
def f_X0_lay (σ : (Nat → Nat → Int32)) (l1 : Int32) : Option (Int32 × (Nat → Nat → Int32)) :=
  oB (f_X0_isCell l1) fun r2 => if r2 = 0 then (some ((-1), σ)) else (oB (f_X5_isFree σ 0 l1) fun r5 => if r5 = 0 then (some ((-2), σ)) else (if (σ (sb 0) 3) = 4 then (some ((-3), σ)) else (oB (f_X5_lays σ 0 l1) fun r9 => some ((r9 (sb 0) 3), r9))))
theorem w_X0_lay {x : gX} {N : Nat} {ad : Nat → Nat} {tl : va_W} {lam : (Nat → Int64)} (hc : gOk x RX0 cX0_lay 2 2 45)  (σ : (Nat → Nat → Int32)) (l1 : Int32) (hN : 36 ≤ N) {K : Int32 × (Nat → Nat → Int32) → Prop} {o : Int32 × (Nat → Nat → Int32)} (hf : f_X0_lay σ l1 = some o) (hK : K o) (hR : ∀ o : Int32 × (Nat → Nat → Int32), K o → gRi x 0 0 (XW x.dA N ad o.2 lam ++ tl) o.1) : gG x 2 0 0 (XW x.dA N ad σ lam ++ tl) 0 [(0, .ref (ad 0)), (1, .int l1)] [] := by
  unfold f_X0_lay at hf
  refine g_iload_n hc dX0_lay_0 rfl 1 rfl ?_
  obtain ⟨r2, h1, hf⟩ := oB_some hf
  refine g_callSi hc [.int l1] [] (c_X0_isCell  h1) (lw_S q635 q486 q60 q487) rfl hd_X0_isCell rfl rfl (Nat.le_of_ble_eq_true rfl) gZ dX0_lay_1 ?_
  refine g_if_ne (tgt := 9) hc dX0_lay_4 (by decide) (fun h3 => ?_) (fun h3 => ?_)
  · have hf := oF h3 hf
    refine g_aload_n hc dX0_lay_9 rfl 0 rfl ?_
    refine g_get (v := .ref (ad (sb 0))) hc in_X0 (XW_at (k := 0) (Nat.lt_of_lt_of_le (by decide) hN)) rfl 1 (by decide) q185 rfl dX0_lay_10 ?_
    refine g_iload_n hc dX0_lay_13 rfl 1 rfl ?_
    obtain ⟨r5, h4, hf⟩ := oB_some hf
    refine g_callVi hc [.int l1] [] (c_X5_isFree hN (gSl 0 hN (by decide)) h4) (XW_s0 (gSl 0 hN (by decide))) rfl (lw_V q636 q490 q491 q65 q492) rfl hd_X5_isFree rfl rfl (Nat.le_of_ble_eq_true rfl) gZ dX0_lay_14 ?_
    refine g_if_ne (tgt := 23) hc dX0_lay_17 (by decide) (fun h6 => ?_) (fun h6 => ?_)
    · have hf := oF h6 hf
      refine g_aload_n hc dX0_lay_23 rfl 0 rfl ?_
      refine g_get (v := .ref (ad (sb 0))) hc in_X0 (XW_at (k := 0) (Nat.lt_of_lt_of_le (by decide) hN)) rfl 1 (by decide) q185 rfl dX0_lay_24 ?_
      refine g_getN (v := .int (σ (sb 0) 3)) hc in_X5 (XW_s0 (gSl 0 hN (by decide))) rfl 3 (by decide) 5 rfl rfl dX0_lay_27 ?_
      refine g_iconst (v := 4) hc dX0_lay_30 (by decide) ?_
      refine g_icmp_ne (tgt := 37) hc dX0_lay_31 (by decide) (fun h7 => ?_) (fun h7 => ?_)
      · have hf := oF h7 hf
        refine g_aload_n hc dX0_lay_37 rfl 0 rfl ?_
        refine g_get (v := .ref (ad (sb 0))) hc in_X0 (XW_at (k := 0) (Nat.lt_of_lt_of_le (by decide) hN)) rfl 1 (by decide) q185 rfl dX0_lay_38 ?_
        refine g_iload_n hc dX0_lay_41 rfl 1 rfl ?_
        obtain ⟨r9, h8, hf⟩ := oB_some hf
        refine g_callVv hc [.int l1] [] (c_X5_lays hN (gSl 0 hN (by decide)) h8) (XW_s0 (gSl 0 hN (by decide))) rfl (lw_V q658 q511 q512 q65 q513) rfl hd_X5_lays rfl rfl (Nat.le_of_ble_eq_true rfl) gZ dX0_lay_42 ?_
        refine g_aload_n hc dX0_lay_45 rfl 0 rfl ?_
        refine g_get (v := .ref (ad (sb 0))) hc in_X0 (XW_at (k := 0) (Nat.lt_of_lt_of_le (by decide) hN)) rfl 1 (by decide) q185 rfl dX0_lay_46 ?_
        refine g_getN (v := .int (r9 (sb 0) 3)) hc in_X5 (XW_s0 (gSl 0 hN (by decide))) rfl 3 (by decide) 5 rfl rfl dX0_lay_49 ?_
        have hz := Option.some.inj hf; subst hz
        exact g_iret hc (hR _ hK) dX0_lay_52
      · have hf := oT h7 hf
        refine g_bipush (v := (-3)) hc dX0_lay_34 (by decide) ?_
        have hz := Option.some.inj hf; subst hz
        exact g_iret hc (hR _ hK) dX0_lay_36
    · have hf := oT h6 hf
      refine g_bipush (v := (-2)) hc dX0_lay_20 (by decide) ?_
      have hz := Option.some.inj hf; subst hz
      exact g_iret hc (hR _ hK) dX0_lay_22
  · have hf := oT h3 hf
    refine g_iconst (v := (-1)) hc dX0_lay_7 (by decide) ?_
    have hz := Option.some.inj hf; subst hz
    exact g_iret hc (hR _ hK) dX0_lay_8
theorem c_X0_lay {l : Launch} {D : va_G} {dA : Nat → ClassId} {N : Nat} {ad : Nat → Nat} {tl : va_W} {lam : (Nat → Int64)} {σ : (Nat → Nat → Int32)} {l1 : Int32} (hN : 36 ≤ N) {o : Int32 × (Nat → Nat → Int32)} (hf : f_X0_lay σ l1 = some o) : gI l D dA (XW dA N ad σ lam ++ tl) (XW dA N ad o.2 lam ++ tl) [.ref (ad 0), .int l1] o.1 yX0_lay (ws_ yX0_lay cX0_lay 2 (some .int)) ({ frames := 2, cells := 0, slots := 0, locals := 45 } : Room) :=
  g_startI (own := RX0) ⟨rfl, rfl⟩ (by decide) rfl (Nat.le_of_ble_eq_true rfl) (fun x e hc hR => by
    subst e
    exact w_X0_lay hc σ l1 hN (K := fun o1 => o1 = o) hf rfl (by rintro _ rfl; exact hR))
theorem hd_X0_lay : yX0_lay.cls = RX0 ∧ yX0_lay.cls ≠ "java/lang/invoke/MethodHandle" ∧ yX0_lay.cls ≠ "java/lang/invoke/VarHandle" ∧ (parseMethodDescriptor yX0_lay.desc).map (fun d => d.parameters.length) = some 1 := by decide +kernel
/-! HedgehogLots.clear(I)I -/
def f_X0_clear (σ : (Nat → Nat → Int32)) (l1 : Int32) : Option (Int32 × (Nat → Nat → Int32)) :=
  oB (f_X0_in (Int32.toInt64 l1) 0 (Int32.toInt64 (σ (sb 0) 3))) fun r2 => if r2 = 0 then (some ((-1), σ)) else (oL (upd2 σ (sb 0) 3 l1) fun s4 => some ((σ (sb 0) 3), s4))
theorem w_X0_clear {x : gX} {N : Nat} {ad : Nat → Nat} {tl : va_W} {lam : (Nat → Int64)} (hc : gOk x RX0 cX0_clear 3 1 25)  (σ : (Nat → Nat → Int32)) (l1 : Int32) (hN : 36 ≤ N) {K : Int32 × (Nat → Nat → Int32) → Prop} {o : Int32 × (Nat → Nat → Int32)} (hf : f_X0_clear σ l1 = some o) (hK : K o) (hR : ∀ o : Int32 × (Nat → Nat → Int32), K o → gRi x 0 0 (XW x.dA N ad o.2 lam ++ tl) o.1) : gG x 3 0 0 (XW x.dA N ad σ lam ++ tl) 0 [(0, .ref (ad 0)), (1, .int l1)] [] := by
  unfold f_X0_clear at hf
  refine g_iload_n hc dX0_clear_0 rfl 1 rfl ?_
  refine g_i2l hc dX0_clear_1 ?_
  refine g_lconst (v := 0) hc dX0_clear_2 (by decide) ?_
  refine g_aload_n hc dX0_clear_3 rfl 0 rfl ?_
  refine g_get (v := .ref (ad (sb 0))) hc in_X0 (XW_at (k := 0) (Nat.lt_of_lt_of_le (by decide) hN)) rfl 1 (by decide) q185 rfl dX0_clear_4 ?_
  refine g_getN (v := .int (σ (sb 0) 3)) hc in_X5 (XW_s0 (gSl 0 hN (by decide))) rfl 3 (by decide) 5 rfl rfl dX0_clear_7 ?_
  refine g_i2l hc dX0_clear_10 ?_
  obtain ⟨r2, h1, hf⟩ := oB_some hf
  refine g_callSi hc [.long (Int32.toInt64 l1), .long 0, .long (Int32.toInt64 (σ (sb 0) 3))] [] (c_X0_in  h1) (lw_S q260 q261 q60 q262) rfl hd_X0_in rfl rfl (Nat.le_of_ble_eq_true rfl) gZ dX0_clear_11 ?_
  refine g_if_ne (tgt := 19) hc dX0_clear_14 (by decide) (fun h3 => ?_) (fun h3 => ?_)
  · have hf := oF h3 hf
    refine g_aload_n hc dX0_clear_19 rfl 0 rfl ?_
    refine g_get (v := .ref (ad (sb 0))) hc in_X0 (XW_at (k := 0) (Nat.lt_of_lt_of_le (by decide) hN)) rfl 1 (by decide) q185 rfl dX0_clear_20 ?_
    refine g_getN (v := .int (σ (sb 0) 3)) hc in_X5 (XW_s0 (gSl 0 hN (by decide))) rfl 3 (by decide) 5 rfl rfl dX0_clear_23 ?_
    refine g_istore_n (lv' := [(2, .int (σ (sb 0) 3)), (0, .ref (ad 0)), (1, .int l1)]) hc dX0_clear_26 rfl (by decide) rfl ?_
    refine g_aload_n hc dX0_clear_27 rfl 1 rfl ?_
    refine g_get (v := .ref (ad (sb 0))) hc in_X0 (XW_at (k := 0) (Nat.lt_of_lt_of_le (by decide) hN)) rfl 1 (by decide) q185 rfl dX0_clear_28 ?_
    refine g_iload_n hc dX0_clear_31 rfl 2 rfl ?_
    obtain ⟨s4, e5, hf⟩ := oL_some hf
    refine g_putN (v := .int l1) hc in_X5 tyX5_ok nmX5 (XW_s0 (gSl 0 hN (by decide))) rfl 3 (by decide) 5 rfl rfl rfl rfl (Nat.le_of_ble_eq_true rfl) (XW_p0 (σ1 := s4) (gSl 0 hN (by decide)) e5 rfl) dX0_clear_32 ?_
    refine g_iload_n hc dX0_clear_35 rfl 0 rfl ?_
    have hz := Option.some.inj hf; subst hz
    exact g_iret hc (hR _ hK) dX0_clear_36
  · have hf := oT h3 hf
    refine g_iconst (v := (-1)) hc dX0_clear_17 (by decide) ?_
    have hz := Option.some.inj hf; subst hz
    exact g_iret hc (hR _ hK) dX0_clear_18
theorem c_X0_clear {l : Launch} {D : va_G} {dA : Nat → ClassId} {N : Nat} {ad : Nat → Nat} {tl : va_W} {lam : (Nat → Int64)} {σ : (Nat → Nat → Int32)} {l1 : Int32} (hN : 36 ≤ N) {o : Int32 × (Nat → Nat → Int32)} (hf : f_X0_clear σ l1 = some o) : gI l D dA (XW dA N ad σ lam ++ tl) (XW dA N ad o.2 lam ++ tl) [.ref (ad 0), .int l1] o.1 yX0_clear (ws_ yX0_clear cX0_clear 3 (some .int)) ({ frames := 1, cells := 0, slots := 0, locals := 25 } : Room) :=
  g_startI (own := RX0) ⟨rfl, rfl⟩ (by decide) rfl (Nat.le_of_ble_eq_true rfl) (fun x e hc hR => by
    subst e
    exact w_X0_clear hc σ l1 hN (K := fun o1 => o1 = o) hf rfl (by rintro _ rfl; exact hR))
theorem hd_X0_clear : yX0_clear.cls = RX0 ∧ yX0_clear.cls ≠ "java/lang/invoke/MethodHandle" ∧ yX0_clear.cls ≠ "java/lang/invoke/VarHandle" ∧ (parseMethodDescriptor yX0_clear.desc).map (fun d => d.parameters.length) = some 1 := by decide +kernel
/-! HedgehogLots.sue(II)I -/
def f_X0_sue (σ : (Nat → Nat → Int32)) (l1 : Int32) (l2 : Int32) : Option (Int32 × (Nat → Nat → Int32)) :=
  oB (f_X0_isRun σ l1 l2) fun r2 => if r2 = 0 then (some ((-1), σ)) else (if (σ (sb 0) 7) = 6 then (some ((-3), σ)) else (oC (inb (2 * (σ (sb 0) 7)) 12) <| oL (upd2 σ (sb 0 + 5) (2 * (σ (sb 0) 7)).toNatClampNeg (nbt (Int8.toInt32 (Int32.toInt8 l1)))) fun s5 => oC (inb ((2 * (s5 (sb 0) 7)) + 1) 12) <| oL (upd2 s5 (sb 0 + 5) ((2 * (s5 (sb 0) 7)) + 1).toNatClampNeg (nbt (Int8.toInt32 (Int32.toInt8 l2)))) fun s8 => oL (upd2 s8 (sb 0) 7 ((s8 (sb 0) 7) + 1)) fun s11 => some ((s11 (sb 0) 7), s11)))
theorem w_X0_sue {x : gX} {N : Nat} {ad : Nat → Nat} {tl : va_W} {lam : (Nat → Int64)} (hc : gOk x RX0 cX0_sue 3 3 68)  (σ : (Nat → Nat → Int32)) (l1 : Int32) (l2 : Int32) (hN : 36 ≤ N) {K : Int32 × (Nat → Nat → Int32) → Prop} {o : Int32 × (Nat → Nat → Int32)} (hf : f_X0_sue σ l1 l2 = some o) (hK : K o) (hR : ∀ o : Int32 × (Nat → Nat → Int32), K o → gRi x 0 0 (XW x.dA N ad o.2 lam ++ tl) o.1) : gG x 3 0 0 (XW x.dA N ad σ lam ++ tl) 0 [(0, .ref (ad 0)), (1, .int l1), (2, .int l2)] [] := by
  unfold f_X0_sue at hf
  refine g_aload_n hc dX0_sue_0 rfl 0 rfl ?_
  refine g_iload_n hc dX0_sue_1 rfl 1 rfl ?_
  refine g_iload_n hc dX0_sue_2 rfl 2 rfl ?_
  obtain ⟨r2, h1, hf⟩ := oB_some hf
  refine g_callVi hc [.int l1, .int l2] [] (c_X0_isRun hN h1) (XW_at (k := 0) (Nat.lt_of_lt_of_le (by decide) hN)) rfl (lw_V q667 q669 qs20 q60 q670) rfl hd_X0_isRun rfl rfl (Nat.le_of_ble_eq_true rfl) gZ dX0_sue_3 ?_
  refine g_if_ne (tgt := 11) hc dX0_sue_6 (by decide) (fun h3 => ?_) (fun h3 => ?_)
  · have hf := oF h3 hf
    refine g_aload_n hc dX0_sue_11 rfl 0 rfl ?_
    refine g_get (v := .ref (ad (sb 0))) hc in_X0 (XW_at (k := 0) (Nat.lt_of_lt_of_le (by decide) hN)) rfl 1 (by decide) q185 rfl dX0_sue_12 ?_
    refine g_getN (v := .int (σ (sb 0) 7)) hc in_X5 (XW_s0 (gSl 0 hN (by decide))) rfl 7 (by decide) 11 rfl rfl dX0_sue_15 ?_
    refine g_bipush (v := 6) hc dX0_sue_18 (by decide) ?_
    refine g_icmp_ne (tgt := 26) hc dX0_sue_20 (by decide) (fun h4 => ?_) (fun h4 => ?_)
    · have hf := oF h4 hf
      refine g_aload_n hc dX0_sue_26 rfl 0 rfl ?_
      refine g_get (v := .ref (ad (sb 0))) hc in_X0 (XW_at (k := 0) (Nat.lt_of_lt_of_le (by decide) hN)) rfl 1 (by decide) q185 rfl dX0_sue_27 ?_
      refine g_getN (v := .ref (ad (sb 0 + 5))) hc in_X5 (XW_s0 (gSl 0 hN (by decide))) rfl 8 (by decide) 13 rfl rfl dX0_sue_30 ?_
      refine g_iconst (v := 2) hc dX0_sue_33 (by decide) ?_
      refine g_aload_n hc dX0_sue_34 rfl 0 rfl ?_
      refine g_get (v := .ref (ad (sb 0))) hc in_X0 (XW_at (k := 0) (Nat.lt_of_lt_of_le (by decide) hN)) rfl 1 (by decide) q185 rfl dX0_sue_35 ?_
      refine g_getN (v := .int (σ (sb 0) 7)) hc in_X5 (XW_s0 (gSl 0 hN (by decide))) rfl 7 (by decide) 11 rfl rfl dX0_sue_38 ?_
      refine g_imul hc dX0_sue_41 ?_
      refine g_iload_n hc dX0_sue_42 rfl 1 rfl ?_
      refine g_i2b hc dX0_sue_43 ?_
      obtain ⟨h7, hf⟩ := oC_some hf
      obtain ⟨s5, e6, hf⟩ := oL_some hf
      refine g_bast (n := 12) (f := σ (sb 0 + 5)) hc (XW_s5 (gSl 0 hN (by decide))) h7 (XW_pa (σ1 := s5) (gSl 0 hN (by decide)) (k := 5) (by decide) e6 rfl) dX0_sue_44 ?_
      refine g_aload_n hc dX0_sue_45 rfl 0 rfl ?_
      refine g_get (v := .ref (ad (sb 0))) hc in_X0 (XW_at (k := 0) (Nat.lt_of_lt_of_le (by decide) hN)) rfl 1 (by decide) q185 rfl dX0_sue_46 ?_
      refine g_getN (v := .ref (ad (sb 0 + 5))) hc in_X5 (XW_s0 (gSl 0 hN (by decide))) rfl 8 (by decide) 13 rfl rfl dX0_sue_49 ?_
      refine g_iconst (v := 2) hc dX0_sue_52 (by decide) ?_
      refine g_aload_n hc dX0_sue_53 rfl 0 rfl ?_
      refine g_get (v := .ref (ad (sb 0))) hc in_X0 (XW_at (k := 0) (Nat.lt_of_lt_of_le (by decide) hN)) rfl 1 (by decide) q185 rfl dX0_sue_54 ?_
      refine g_getN (v := .int (s5 (sb 0) 7)) hc in_X5 (XW_s0 (gSl 0 hN (by decide))) rfl 7 (by decide) 11 rfl rfl dX0_sue_57 ?_
      refine g_imul hc dX0_sue_60 ?_
      refine g_iconst (v := 1) hc dX0_sue_61 (by decide) ?_
      refine g_iadd hc dX0_sue_62 ?_
      refine g_iload_n hc dX0_sue_63 rfl 2 rfl ?_
      refine g_i2b hc dX0_sue_64 ?_
      obtain ⟨h10, hf⟩ := oC_some hf
      obtain ⟨s8, e9, hf⟩ := oL_some hf
      refine g_bast (n := 12) (f := s5 (sb 0 + 5)) hc (XW_s5 (gSl 0 hN (by decide))) h10 (XW_pa (σ1 := s8) (gSl 0 hN (by decide)) (k := 5) (by decide) e9 rfl) dX0_sue_65 ?_
      refine g_aload_n hc dX0_sue_66 rfl 0 rfl ?_
      refine g_get (v := .ref (ad (sb 0))) hc in_X0 (XW_at (k := 0) (Nat.lt_of_lt_of_le (by decide) hN)) rfl 1 (by decide) q185 rfl dX0_sue_67 ?_
      refine g_dup hc dX0_sue_70 rfl ?_
      refine g_getN (v := .int (s8 (sb 0) 7)) hc in_X5 (XW_s0 (gSl 0 hN (by decide))) rfl 7 (by decide) 11 rfl rfl dX0_sue_71 ?_
      refine g_iconst (v := 1) hc dX0_sue_74 (by decide) ?_
      refine g_iadd hc dX0_sue_75 ?_
      obtain ⟨s11, e12, hf⟩ := oL_some hf
      refine g_putN (v := .int ((s8 (sb 0) 7) + 1)) hc in_X5 tyX5_ok nmX5 (XW_s0 (gSl 0 hN (by decide))) rfl 7 (by decide) 11 rfl rfl rfl rfl (Nat.le_of_ble_eq_true rfl) (XW_p0 (σ1 := s11) (gSl 0 hN (by decide)) e12 rfl) dX0_sue_76 ?_
      refine g_aload_n hc dX0_sue_79 rfl 0 rfl ?_
      refine g_get (v := .ref (ad (sb 0))) hc in_X0 (XW_at (k := 0) (Nat.lt_of_lt_of_le (by decide) hN)) rfl 1 (by decide) q185 rfl dX0_sue_80 ?_
      refine g_getN (v := .int (s11 (sb 0) 7)) hc in_X5 (XW_s0 (gSl 0 hN (by decide))) rfl 7 (by decide) 11 rfl rfl dX0_sue_83 ?_
      have hz := Option.some.inj hf; subst hz
      exact g_iret hc (hR _ hK) dX0_sue_86
    · have hf := oT h4 hf
      refine g_bipush (v := (-3)) hc dX0_sue_23 (by decide) ?_
      have hz := Option.some.inj hf; subst hz
      exact g_iret hc (hR _ hK) dX0_sue_25
  · have hf := oT h3 hf
    refine g_iconst (v := (-1)) hc dX0_sue_9 (by decide) ?_
    have hz := Option.some.inj hf; subst hz
    exact g_iret hc (hR _ hK) dX0_sue_10
theorem c_X0_sue {l : Launch} {D : va_G} {dA : Nat → ClassId} {N : Nat} {ad : Nat → Nat} {tl : va_W} {lam : (Nat → Int64)} {σ : (Nat → Nat → Int32)} {l1 : Int32} {l2 : Int32} (hN : 36 ≤ N) {o : Int32 × (Nat → Nat → Int32)} (hf : f_X0_sue σ l1 l2 = some o) : gI l D dA (XW dA N ad σ lam ++ tl) (XW dA N ad o.2 lam ++ tl) [.ref (ad 0), .int l1, .int l2] o.1 yX0_sue (ws_ yX0_sue cX0_sue 3 (some .int)) ({ frames := 3, cells := 0, slots := 0, locals := 68 } : Room) :=
  g_startI (own := RX0) ⟨rfl, rfl⟩ (by decide) rfl (Nat.le_of_ble_eq_true rfl) (fun x e hc hR => by
    subst e
    exact w_X0_sue hc σ l1 l2 hN (K := fun o1 => o1 = o) hf rfl (by rintro _ rfl; exact hR))
theorem hd_X0_sue : yX0_sue.cls = RX0 ∧ yX0_sue.cls ≠ "java/lang/invoke/MethodHandle" ∧ yX0_sue.cls ≠ "java/lang/invoke/VarHandle" ∧ (parseMethodDescriptor yX0_sue.desc).map (fun d => d.parameters.length) = some 2 := by decide +kernel
/-! HedgehogLots.drop(I)I -/
def f_X0_drop (σ : (Nat → Nat → Int32)) (l1 : Int32) : Option (Int32 × (Nat → Nat → Int32)) :=
  oB (f_X0_in (Int32.toInt64 l1) 0 (Int32.toInt64 (σ (sb 0) 7))) fun r2 => if r2 = 0 then (some ((-1), σ)) else (oL (upd2 σ (sb 0) 7 l1) fun s4 => some ((σ (sb 0) 7), s4))
theorem w_X0_drop {x : gX} {N : Nat} {ad : Nat → Nat} {tl : va_W} {lam : (Nat → Int64)} (hc : gOk x RX0 cX0_drop 3 1 25)  (σ : (Nat → Nat → Int32)) (l1 : Int32) (hN : 36 ≤ N) {K : Int32 × (Nat → Nat → Int32) → Prop} {o : Int32 × (Nat → Nat → Int32)} (hf : f_X0_drop σ l1 = some o) (hK : K o) (hR : ∀ o : Int32 × (Nat → Nat → Int32), K o → gRi x 0 0 (XW x.dA N ad o.2 lam ++ tl) o.1) : gG x 3 0 0 (XW x.dA N ad σ lam ++ tl) 0 [(0, .ref (ad 0)), (1, .int l1)] [] := by
  unfold f_X0_drop at hf
  refine g_iload_n hc dX0_drop_0 rfl 1 rfl ?_
  refine g_i2l hc dX0_drop_1 ?_
  refine g_lconst (v := 0) hc dX0_drop_2 (by decide) ?_
  refine g_aload_n hc dX0_drop_3 rfl 0 rfl ?_
  refine g_get (v := .ref (ad (sb 0))) hc in_X0 (XW_at (k := 0) (Nat.lt_of_lt_of_le (by decide) hN)) rfl 1 (by decide) q185 rfl dX0_drop_4 ?_
  refine g_getN (v := .int (σ (sb 0) 7)) hc in_X5 (XW_s0 (gSl 0 hN (by decide))) rfl 7 (by decide) 11 rfl rfl dX0_drop_7 ?_
  refine g_i2l hc dX0_drop_10 ?_
  obtain ⟨r2, h1, hf⟩ := oB_some hf
  refine g_callSi hc [.long (Int32.toInt64 l1), .long 0, .long (Int32.toInt64 (σ (sb 0) 7))] [] (c_X0_in  h1) (lw_S q260 q261 q60 q262) rfl hd_X0_in rfl rfl (Nat.le_of_ble_eq_true rfl) gZ dX0_drop_11 ?_
  refine g_if_ne (tgt := 19) hc dX0_drop_14 (by decide) (fun h3 => ?_) (fun h3 => ?_)
  · have hf := oF h3 hf
    refine g_aload_n hc dX0_drop_19 rfl 0 rfl ?_
    refine g_get (v := .ref (ad (sb 0))) hc in_X0 (XW_at (k := 0) (Nat.lt_of_lt_of_le (by decide) hN)) rfl 1 (by decide) q185 rfl dX0_drop_20 ?_
    refine g_getN (v := .int (σ (sb 0) 7)) hc in_X5 (XW_s0 (gSl 0 hN (by decide))) rfl 7 (by decide) 11 rfl rfl dX0_drop_23 ?_
    refine g_istore_n (lv' := [(2, .int (σ (sb 0) 7)), (0, .ref (ad 0)), (1, .int l1)]) hc dX0_drop_26 rfl (by decide) rfl ?_
    refine g_aload_n hc dX0_drop_27 rfl 1 rfl ?_
    refine g_get (v := .ref (ad (sb 0))) hc in_X0 (XW_at (k := 0) (Nat.lt_of_lt_of_le (by decide) hN)) rfl 1 (by decide) q185 rfl dX0_drop_28 ?_
    refine g_iload_n hc dX0_drop_31 rfl 2 rfl ?_
    obtain ⟨s4, e5, hf⟩ := oL_some hf
    refine g_putN (v := .int l1) hc in_X5 tyX5_ok nmX5 (XW_s0 (gSl 0 hN (by decide))) rfl 7 (by decide) 11 rfl rfl rfl rfl (Nat.le_of_ble_eq_true rfl) (XW_p0 (σ1 := s4) (gSl 0 hN (by decide)) e5 rfl) dX0_drop_32 ?_
    refine g_iload_n hc dX0_drop_35 rfl 0 rfl ?_
    have hz := Option.some.inj hf; subst hz
    exact g_iret hc (hR _ hK) dX0_drop_36
  · have hf := oT h3 hf
    refine g_iconst (v := (-1)) hc dX0_drop_17 (by decide) ?_
    have hz := Option.some.inj hf; subst hz
    exact g_iret hc (hR _ hK) dX0_drop_18
theorem c_X0_drop {l : Launch} {D : va_G} {dA : Nat → ClassId} {N : Nat} {ad : Nat → Nat} {tl : va_W} {lam : (Nat → Int64)} {σ : (Nat → Nat → Int32)} {l1 : Int32} (hN : 36 ≤ N) {o : Int32 × (Nat → Nat → Int32)} (hf : f_X0_drop σ l1 = some o) : gI l D dA (XW dA N ad σ lam ++ tl) (XW dA N ad o.2 lam ++ tl) [.ref (ad 0), .int l1] o.1 yX0_drop (ws_ yX0_drop cX0_drop 3 (some .int)) ({ frames := 1, cells := 0, slots := 0, locals := 25 } : Room) :=
  g_startI (own := RX0) ⟨rfl, rfl⟩ (by decide) rfl (Nat.le_of_ble_eq_true rfl) (fun x e hc hR => by
    subst e
    exact w_X0_drop hc σ l1 hN (K := fun o1 => o1 = o) hf rfl (by rintro _ rfl; exact hR))
theorem hd_X0_drop : yX0_drop.cls = RX0 ∧ yX0_drop.cls ≠ "java/lang/invoke/MethodHandle" ∧ yX0_drop.cls ≠ "java/lang/invoke/VarHandle" ∧ (parseMethodDescriptor yX0_drop.desc).map (fun d => d.parameters.length) = some 1 := by decide +kernel
/-! HedgehogLots.run(III)I -/
def f_X0_run (σ : (Nat → Nat → Int32)) (l1 : Int32) (l2 : Int32) (l3 : Int32) : Option (Int32 × (Nat → Nat → Int32)) :=
  oB (f_X0_isRun σ l1 l2) fun r2 => if r2 = 0 then (some ((-1), σ)) else (oB (f_X0_in (Int32.toInt64 l3) 0 4) fun r5 => if r5 = 0 then (some ((-1), σ)) else (oB (f_X0_runs σ 0 l1 l2 0) fun r8 => if l3 = 0 then (some ((r8 0 8), r8)) else (if l3 = 1 then (oB (f_X0_winner r8 0) fun r13 => some (r13, r8)) else (if l3 = 2 then (some ((r8 0 9), r8)) else (if l3 = 3 then (some ((r8 0 10), r8)) else (if (r8 0 11) = 0 then (some (0, r8)) else (some (1, r8))))))))
theorem w_X0_run {x : gX} {N : Nat} {ad : Nat → Nat} {tl : va_W} {lam : (Nat → Int64)} (hc : gOk x RX0 cX0_run 4 5 152)  (σ : (Nat → Nat → Int32)) (l1 : Int32) (l2 : Int32) (l3 : Int32) (hN : 36 ≤ N) {K : Int32 × (Nat → Nat → Int32) → Prop} {o : Int32 × (Nat → Nat → Int32)} (hf : f_X0_run σ l1 l2 l3 = some o) (hK : K o) (hR : ∀ o : Int32 × (Nat → Nat → Int32), K o → gRi x 0 0 (XW x.dA N ad o.2 lam ++ tl) o.1) : gG x 4 0 0 (XW x.dA N ad σ lam ++ tl) 0 [(0, .ref (ad 0)), (1, .int l1), (2, .int l2), (3, .int l3)] [] := by
  unfold f_X0_run at hf
  refine g_aload_n hc dX0_run_0 rfl 0 rfl ?_
  refine g_iload_n hc dX0_run_1 rfl 1 rfl ?_
  refine g_iload_n hc dX0_run_2 rfl 2 rfl ?_
  obtain ⟨r2, h1, hf⟩ := oB_some hf
  refine g_callVi hc [.int l1, .int l2] [] (c_X0_isRun hN h1) (XW_at (k := 0) (Nat.lt_of_lt_of_le (by decide) hN)) rfl (lw_V q667 q669 qs20 q60 q670) rfl hd_X0_isRun rfl rfl (Nat.le_of_ble_eq_true rfl) gZ dX0_run_3 ?_
  refine g_if_eq (tgt := 21) hc dX0_run_6 (by decide) (fun h3 => ?_) (fun h3 => ?_)
  · have hf := oT h3 hf
    refine g_iconst (v := (-1)) hc dX0_run_21 (by decide) ?_
    have hz := Option.some.inj hf; subst hz
    exact g_iret hc (hR _ hK) dX0_run_22
  · have hf := oF h3 hf
    refine g_iload_n hc dX0_run_9 rfl 3 rfl ?_
    refine g_i2l hc dX0_run_10 ?_
    refine g_lconst (v := 0) hc dX0_run_11 (by decide) ?_
    refine g_ldc2 (v := 4) hc q683 dX0_run_12 ?_
    obtain ⟨r5, h4, hf⟩ := oB_some hf
    refine g_callSi hc [.long (Int32.toInt64 l3), .long 0, .long 4] [] (c_X0_in  h4) (lw_S q260 q261 q60 q262) rfl hd_X0_in rfl rfl (Nat.le_of_ble_eq_true rfl) gZ dX0_run_15 ?_
    refine g_if_ne (tgt := 23) hc dX0_run_18 (by decide) (fun h6 => ?_) (fun h6 => ?_)
    · have hf := oF h6 hf
      refine g_aload_n hc dX0_run_23 rfl 0 rfl ?_
      refine g_aload_n hc dX0_run_24 rfl 0 rfl ?_
      refine g_get (v := .ref (ad (sb 0))) hc in_X0 (XW_at (k := 0) (Nat.lt_of_lt_of_le (by decide) hN)) rfl 1 (by decide) q185 rfl dX0_run_25 ?_
      refine g_iload_n hc dX0_run_28 rfl 1 rfl ?_
      refine g_iload_n hc dX0_run_29 rfl 2 rfl ?_
      refine g_iconst (v := 0) hc dX0_run_30 (by decide) ?_
      obtain ⟨r8, h7, hf⟩ := oB_some hf
      refine g_callVv hc [.ref (ad (sb 0)), .int l1, .int l2, .int 0] [] (c_X0_runs hN (gSl 0 hN (by decide)) h7) (XW_at (k := 0) (Nat.lt_of_lt_of_le (by decide) hN)) rfl (lw_V q540 q542 qs14 q60 q543) rfl hd_X0_runs rfl rfl (Nat.le_of_ble_eq_true rfl) gZ dX0_run_31 ?_
      refine g_iload_n hc dX0_run_34 rfl 3 rfl ?_
      by_cases h10 : l3 = 0
      · have hf := oT h10 hf
        refine g_tabIn (tgt := 64) hc dX0_run_35 (by rw [h10]; decide) (by rw [h10]; decide) (by rw [h10]; rfl) (by decide) ?_
        refine g_aload_n hc dX0_run_64 rfl 0 rfl ?_
        refine g_get (v := .int (r8 0 8)) hc in_X0 (XW_at (k := 0) (Nat.lt_of_lt_of_le (by decide) hN)) rfl 8 (by decide) q192 rfl dX0_run_65 ?_
        have hz := Option.some.inj hf; subst hz
        exact g_iret hc (hR _ hK) dX0_run_68
      have hf := oF h10 hf
      by_cases h11 : l3 = 1
      · have hf := oT h11 hf
        refine g_tabIn (tgt := 69) hc dX0_run_35 (by rw [h11]; decide) (by rw [h11]; decide) (by rw [h11]; rfl) (by decide) ?_
        refine g_aload_n hc dX0_run_69 rfl 0 rfl ?_
        refine g_aload_n hc dX0_run_70 rfl 0 rfl ?_
        refine g_get (v := .ref (ad (sb 0))) hc in_X0 (XW_at (k := 0) (Nat.lt_of_lt_of_le (by decide) hN)) rfl 1 (by decide) q185 rfl dX0_run_71 ?_
        obtain ⟨r13, h12, hf⟩ := oB_some hf
        refine g_callVi hc [.ref (ad (sb 0))] [] (c_X0_winner hN (gSl 0 hN (by decide)) h12) (XW_at (k := 0) (Nat.lt_of_lt_of_le (by decide) hN)) rfl (lw_V q601 q603 qs17 q60 q604) rfl hd_X0_winner rfl rfl (Nat.le_of_ble_eq_true rfl) gZ dX0_run_74 ?_
        have hz := Option.some.inj hf; subst hz
        exact g_iret hc (hR _ hK) dX0_run_77
      have hf := oF h11 hf
      by_cases h14 : l3 = 2
      · have hf := oT h14 hf
        refine g_tabIn (tgt := 78) hc dX0_run_35 (by rw [h14]; decide) (by rw [h14]; decide) (by rw [h14]; rfl) (by decide) ?_
        refine g_aload_n hc dX0_run_78 rfl 0 rfl ?_
        refine g_get (v := .int (r8 0 9)) hc in_X0 (XW_at (k := 0) (Nat.lt_of_lt_of_le (by decide) hN)) rfl 9 (by decide) q193 rfl dX0_run_79 ?_
        have hz := Option.some.inj hf; subst hz
        exact g_iret hc (hR _ hK) dX0_run_82
      have hf := oF h14 hf
      by_cases h15 : l3 = 3
      · have hf := oT h15 hf
        refine g_tabIn (tgt := 83) hc dX0_run_35 (by rw [h15]; decide) (by rw [h15]; decide) (by rw [h15]; rfl) (by decide) ?_
        refine g_aload_n hc dX0_run_83 rfl 0 rfl ?_
        refine g_get (v := .int (r8 0 10)) hc in_X0 (XW_at (k := 0) (Nat.lt_of_lt_of_le (by decide) hN)) rfl 10 (by decide) q194 rfl dX0_run_84 ?_
        have hz := Option.some.inj hf; subst hz
        exact g_iret hc (hR _ hK) dX0_run_87
      have hf := oF h15 hf
      have h10 := lv_neT h10 (a := 0) (by decide)
      have h11 := lv_neT h11 (a := 1) (by decide)
      have h14 := lv_neT h14 (a := 2) (by decide)
      have h15 := lv_neT h15 (a := 3) (by decide)
      refine g_tabOut (tgt := 88) hc dX0_run_35 (by omega) (by decide) ?_
      refine g_aload_n hc dX0_run_88 rfl 0 rfl ?_
      refine g_get (v := .int (r8 0 11)) hc in_X0 (XW_at (k := 0) (Nat.lt_of_lt_of_le (by decide) hN)) rfl 11 (by decide) q195 rfl dX0_run_89 ?_
      refine g_if_eq (tgt := 99) hc dX0_run_92 (by decide) (fun h16 => ?_) (fun h16 => ?_)
      · have hf := oT h16 hf
        refine g_iconst (v := 0) hc dX0_run_99 (by decide) ?_
        have hz := Option.some.inj hf; subst hz
        exact g_iret hc (hR _ hK) dX0_run_100
      · have hf := oF h16 hf
        refine g_iconst (v := 1) hc dX0_run_95 (by decide) ?_
        refine g_goto (tgt := 100) hc dX0_run_96 (by decide) ?_
        have hz := Option.some.inj hf; subst hz
        exact g_iret hc (hR _ hK) dX0_run_100
    · have hf := oT h6 hf
      refine g_iconst (v := (-1)) hc dX0_run_21 (by decide) ?_
      have hz := Option.some.inj hf; subst hz
      exact g_iret hc (hR _ hK) dX0_run_22
theorem c_X0_run {l : Launch} {D : va_G} {dA : Nat → ClassId} {N : Nat} {ad : Nat → Nat} {tl : va_W} {lam : (Nat → Int64)} {σ : (Nat → Nat → Int32)} {l1 : Int32} {l2 : Int32} {l3 : Int32} (hN : 36 ≤ N) {o : Int32 × (Nat → Nat → Int32)} (hf : f_X0_run σ l1 l2 l3 = some o) : gI l D dA (XW dA N ad σ lam ++ tl) (XW dA N ad o.2 lam ++ tl) [.ref (ad 0), .int l1, .int l2, .int l3] o.1 yX0_run (ws_ yX0_run cX0_run 4 (some .int)) ({ frames := 5, cells := 0, slots := 0, locals := 152 } : Room) :=
  g_startI (own := RX0) ⟨rfl, rfl⟩ (by decide) rfl (Nat.le_of_ble_eq_true rfl) (fun x e hc hR => by
    subst e
    exact w_X0_run hc σ l1 l2 l3 hN (K := fun o1 => o1 = o) hf rfl (by rintro _ rfl; exact hR))
theorem hd_X0_run : yX0_run.cls = RX0 ∧ yX0_run.cls ≠ "java/lang/invoke/MethodHandle" ∧ yX0_run.cls ≠ "java/lang/invoke/VarHandle" ∧ (parseMethodDescriptor yX0_run.desc).map (fun d => d.parameters.length) = some 3 := by decide +kernel
/-! HedgehogLots.way(III)I -/
def f_X0_way (σ : (Nat → Nat → Int32)) (l1 : Int32) (l2 : Int32) (l3 : Int32) : Option (Int32 × (Nat → Nat → Int32)) :=
  oB (f_X0_isRun σ l1 l2) fun r2 => if r2 = 0 then (some ((-1), σ)) else (oB (f_X0_in (Int32.toInt64 l3) 0 9) fun r5 => if r5 = 0 then (some ((-1), σ)) else (oB (f_X0_runs σ 0 l1 l2 0) fun r8 => oC (inb l3 10) <| some ((r8 7 l3.toNatClampNeg), r8)))
theorem w_X0_way {x : gX} {N : Nat} {ad : Nat → Nat} {tl : va_W} {lam : (Nat → Int64)} (hc : gOk x RX0 cX0_way 4 5 152)  (σ : (Nat → Nat → Int32)) (l1 : Int32) (l2 : Int32) (l3 : Int32) (hN : 36 ≤ N) {K : Int32 × (Nat → Nat → Int32) → Prop} {o : Int32 × (Nat → Nat → Int32)} (hf : f_X0_way σ l1 l2 l3 = some o) (hK : K o) (hR : ∀ o : Int32 × (Nat → Nat → Int32), K o → gRi x 0 0 (XW x.dA N ad o.2 lam ++ tl) o.1) : gG x 4 0 0 (XW x.dA N ad σ lam ++ tl) 0 [(0, .ref (ad 0)), (1, .int l1), (2, .int l2), (3, .int l3)] [] := by
  unfold f_X0_way at hf
  refine g_aload_n hc dX0_way_0 rfl 0 rfl ?_
  refine g_iload_n hc dX0_way_1 rfl 1 rfl ?_
  refine g_iload_n hc dX0_way_2 rfl 2 rfl ?_
  obtain ⟨r2, h1, hf⟩ := oB_some hf
  refine g_callVi hc [.int l1, .int l2] [] (c_X0_isRun hN h1) (XW_at (k := 0) (Nat.lt_of_lt_of_le (by decide) hN)) rfl (lw_V q667 q669 qs20 q60 q670) rfl hd_X0_isRun rfl rfl (Nat.le_of_ble_eq_true rfl) gZ dX0_way_3 ?_
  refine g_if_eq (tgt := 21) hc dX0_way_6 (by decide) (fun h3 => ?_) (fun h3 => ?_)
  · have hf := oT h3 hf
    refine g_iconst (v := (-1)) hc dX0_way_21 (by decide) ?_
    have hz := Option.some.inj hf; subst hz
    exact g_iret hc (hR _ hK) dX0_way_22
  · have hf := oF h3 hf
    refine g_iload_n hc dX0_way_9 rfl 3 rfl ?_
    refine g_i2l hc dX0_way_10 ?_
    refine g_lconst (v := 0) hc dX0_way_11 (by decide) ?_
    refine g_ldc2 (v := 9) hc q648 dX0_way_12 ?_
    obtain ⟨r5, h4, hf⟩ := oB_some hf
    refine g_callSi hc [.long (Int32.toInt64 l3), .long 0, .long 9] [] (c_X0_in  h4) (lw_S q260 q261 q60 q262) rfl hd_X0_in rfl rfl (Nat.le_of_ble_eq_true rfl) gZ dX0_way_15 ?_
    refine g_if_ne (tgt := 23) hc dX0_way_18 (by decide) (fun h6 => ?_) (fun h6 => ?_)
    · have hf := oF h6 hf
      refine g_aload_n hc dX0_way_23 rfl 0 rfl ?_
      refine g_aload_n hc dX0_way_24 rfl 0 rfl ?_
      refine g_get (v := .ref (ad (sb 0))) hc in_X0 (XW_at (k := 0) (Nat.lt_of_lt_of_le (by decide) hN)) rfl 1 (by decide) q185 rfl dX0_way_25 ?_
      refine g_iload_n hc dX0_way_28 rfl 1 rfl ?_
      refine g_iload_n hc dX0_way_29 rfl 2 rfl ?_
      refine g_iconst (v := 0) hc dX0_way_30 (by decide) ?_
      obtain ⟨r8, h7, hf⟩ := oB_some hf
      refine g_callVv hc [.ref (ad (sb 0)), .int l1, .int l2, .int 0] [] (c_X0_runs hN (gSl 0 hN (by decide)) h7) (XW_at (k := 0) (Nat.lt_of_lt_of_le (by decide) hN)) rfl (lw_V q540 q542 qs14 q60 q543) rfl hd_X0_runs rfl rfl (Nat.le_of_ble_eq_true rfl) gZ dX0_way_31 ?_
      refine g_aload_n hc dX0_way_34 rfl 0 rfl ?_
      refine g_get (v := .ref (ad 7)) hc in_X0 (XW_at (k := 0) (Nat.lt_of_lt_of_le (by decide) hN)) rfl 7 (by decide) q191 rfl dX0_way_35 ?_
      refine g_iload_n hc dX0_way_38 rfl 3 rfl ?_
      obtain ⟨h9, hf⟩ := oC_some hf
      refine g_bald (n := 10) (f := r8 7) hc (XW_at (k := 7) (Nat.lt_of_lt_of_le (by decide) hN)) h9 dX0_way_39 ?_
      have hz := Option.some.inj hf; subst hz
      exact g_iret hc (hR _ hK) dX0_way_40
    · have hf := oT h6 hf
      refine g_iconst (v := (-1)) hc dX0_way_21 (by decide) ?_
      have hz := Option.some.inj hf; subst hz
      exact g_iret hc (hR _ hK) dX0_way_22
theorem c_X0_way {l : Launch} {D : va_G} {dA : Nat → ClassId} {N : Nat} {ad : Nat → Nat} {tl : va_W} {lam : (Nat → Int64)} {σ : (Nat → Nat → Int32)} {l1 : Int32} {l2 : Int32} {l3 : Int32} (hN : 36 ≤ N) {o : Int32 × (Nat → Nat → Int32)} (hf : f_X0_way σ l1 l2 l3 = some o) : gI l D dA (XW dA N ad σ lam ++ tl) (XW dA N ad o.2 lam ++ tl) [.ref (ad 0), .int l1, .int l2, .int l3] o.1 yX0_way (ws_ yX0_way cX0_way 4 (some .int)) ({ frames := 5, cells := 0, slots := 0, locals := 152 } : Room) :=
  g_startI (own := RX0) ⟨rfl, rfl⟩ (by decide) rfl (Nat.le_of_ble_eq_true rfl) (fun x e hc hR => by
    subst e
    exact w_X0_way hc σ l1 l2 l3 hN (K := fun o1 => o1 = o) hf rfl (by rintro _ rfl; exact hR))
theorem hd_X0_way : yX0_way.cls = RX0 ∧ yX0_way.cls ≠ "java/lang/invoke/MethodHandle" ∧ yX0_way.cls ≠ "java/lang/invoke/VarHandle" ∧ (parseMethodDescriptor yX0_way.desc).map (fun d => d.parameters.length) = some 3 := by decide +kernel
/-! HedgehogLots.wins(I)I -/
def f_X0_wins (σ : (Nat → Nat → Int32)) (l1 : Int32) : Option (Int32 × (Nat → Nat → Int32)) :=
  oB (f_X0_isRag l1) fun r2 => if r2 = 0 then (some ((-1), σ)) else (oB (f_X0_won σ 0 l1) fun r5 => some (r5.1, r5.2))
theorem w_X0_wins {x : gX} {N : Nat} {ad : Nat → Nat} {tl : va_W} {lam : (Nat → Int64)} (hc : gOk x RX0 cX0_wins 2 7 198)  (σ : (Nat → Nat → Int32)) (l1 : Int32) (hN : 36 ≤ N) {K : Int32 × (Nat → Nat → Int32) → Prop} {o : Int32 × (Nat → Nat → Int32)} (hf : f_X0_wins σ l1 = some o) (hK : K o) (hR : ∀ o : Int32 × (Nat → Nat → Int32), K o → gRi x 0 0 (XW x.dA N ad o.2 lam ++ tl) o.1) : gG x 2 0 0 (XW x.dA N ad σ lam ++ tl) 0 [(0, .ref (ad 0)), (1, .int l1)] [] := by
  unfold f_X0_wins at hf
  refine g_iload_n hc dX0_wins_0 rfl 1 rfl ?_
  obtain ⟨r2, h1, hf⟩ := oB_some hf
  refine g_callSi hc [.int l1] [] (c_X0_isRag  h1) (lw_S q641 q642 q60 q643) rfl hd_X0_isRag rfl rfl (Nat.le_of_ble_eq_true rfl) gZ dX0_wins_1 ?_
  refine g_if_eq (tgt := 19) hc dX0_wins_4 (by decide) (fun h3 => ?_) (fun h3 => ?_)
  · have hf := oT h3 hf
    refine g_iconst (v := (-1)) hc dX0_wins_19 (by decide) ?_
    have hz := Option.some.inj hf; subst hz
    exact g_iret hc (hR _ hK) dX0_wins_20
  · have hf := oF h3 hf
    refine g_aload_n hc dX0_wins_7 rfl 0 rfl ?_
    refine g_aload_n hc dX0_wins_8 rfl 0 rfl ?_
    refine g_get (v := .ref (ad (sb 0))) hc in_X0 (XW_at (k := 0) (Nat.lt_of_lt_of_le (by decide) hN)) rfl 1 (by decide) q185 rfl dX0_wins_9 ?_
    refine g_iload_n hc dX0_wins_12 rfl 1 rfl ?_
    obtain ⟨r5, h4, hf⟩ := oB_some hf
    refine g_callVi hc [.ref (ad (sb 0)), .int l1] [] (c_X0_won hN (gSl 0 hN (by decide)) h4) (XW_at (k := 0) (Nat.lt_of_lt_of_le (by decide) hN)) rfl (lw_V q597 q599 qs16 q60 q600) rfl hd_X0_won rfl rfl (Nat.le_of_ble_eq_true rfl) gZ dX0_wins_13 ?_
    refine g_goto (tgt := 20) hc dX0_wins_16 (by decide) ?_
    have hz := Option.some.inj hf; subst hz
    exact g_iret hc (hR _ hK) dX0_wins_20
theorem c_X0_wins {l : Launch} {D : va_G} {dA : Nat → ClassId} {N : Nat} {ad : Nat → Nat} {tl : va_W} {lam : (Nat → Int64)} {σ : (Nat → Nat → Int32)} {l1 : Int32} (hN : 36 ≤ N) {o : Int32 × (Nat → Nat → Int32)} (hf : f_X0_wins σ l1 = some o) : gI l D dA (XW dA N ad σ lam ++ tl) (XW dA N ad o.2 lam ++ tl) [.ref (ad 0), .int l1] o.1 yX0_wins (ws_ yX0_wins cX0_wins 2 (some .int)) ({ frames := 7, cells := 0, slots := 0, locals := 198 } : Room) :=
  g_startI (own := RX0) ⟨rfl, rfl⟩ (by decide) rfl (Nat.le_of_ble_eq_true rfl) (fun x e hc hR => by
    subst e
    exact w_X0_wins hc σ l1 hN (K := fun o1 => o1 = o) hf rfl (by rintro _ rfl; exact hR))
theorem hd_X0_wins : yX0_wins.cls = RX0 ∧ yX0_wins.cls ≠ "java/lang/invoke/MethodHandle" ∧ yX0_wins.cls ≠ "java/lang/invoke/VarHandle" ∧ (parseMethodDescriptor yX0_wins.desc).map (fun d => d.parameters.length) = some 1 := by decide +kernel
/-! HedgehogLots.columns(II)I -/
def f_X0_columns_b45 (σ : (Nat → Nat → Int32)) (l1 : Int32) (l2 : Int32) (l4 : Int32) (k2 : Int32) (k1 : Int32) : Option ((Int32 × Int32 × (Nat → Nat → Int32)) ⊕ (Int32 × (Nat → Nat → Int32))) :=
  some (.inl ((k1 ||| k2), (l4 + 1), σ))
theorem w_X0_columns_b45 {x : gX} {N : Nat} {ad : Nat → Nat} {tl : va_W} {lam : (Nat → Int64)} (hc : gOk x RX0 cX0_columns 5 5 152)  (σ : (Nat → Nat → Int32)) (l1 : Int32) (l2 : Int32) (l4 : Int32) (k2 : Int32) (k1 : Int32) (hN : 36 ≤ N) {K : (Int32 × Int32 × (Nat → Nat → Int32)) ⊕ (Int32 × (Nat → Nat → Int32)) → Prop} {o : (Int32 × Int32 × (Nat → Nat → Int32)) ⊕ (Int32 × (Nat → Nat → Int32))} (hf : f_X0_columns_b45 σ l1 l2 l4 k2 k1 = some o) (hK : K o) (hI5 : ∀ v : Int32 × Int32 × (Nat → Nat → Int32), K (.inl v) → gG x 5 0 0 (XW x.dA N ad v.2.2 lam ++ tl) 5 [(0, .ref (ad 0)), (1, .int l1), (2, .int l2), (3, .int v.1), (4, .int v.2.1)] []) (hR : ∀ o : Int32 × (Nat → Nat → Int32), K (.inr (o)) → gRi x 0 0 (XW x.dA N ad o.2 lam ++ tl) o.1) : gG x 5 0 0 (XW x.dA N ad σ lam ++ tl) 45 [(0, .ref (ad 0)), (1, .int l1), (2, .int l2), (4, .int l4)] [.int k2, .int k1] := by
  unfold f_X0_columns_b45 at hf
  refine g_ior hc dX0_columns_45 ?_
  refine g_istore_n (lv' := [(3, .int (k1 ||| k2)), (0, .ref (ad 0)), (1, .int l1), (2, .int l2), (4, .int l4)]) hc dX0_columns_46 rfl (by decide) rfl ?_
  refine g_iinc (v := l4 + 1) (lv' := [(4, .int (l4 + 1)), (3, .int (k1 ||| k2)), (0, .ref (ad 0)), (1, .int l1), (2, .int l2)]) hc dX0_columns_47 (j := 4) rfl rfl (by decide) rfl ?_
  refine g_goto (tgt := 5) hc dX0_columns_50 (by decide) ?_
  have hz := Option.some.inj hf; subst hz
  exact g_lv [2, 3, 4, 1, 0] rfl (hI5 _ hK)
def f_X0_columns_L5 (σ : (Nat → Nat → Int32)) (l1 : Int32) (l2 : Int32) (l3 : Int32) (l4 : Int32) : Option ((Int32 × Int32 × (Nat → Nat → Int32)) ⊕ (Int32 × (Nat → Nat → Int32))) :=
  if 8 ≤ l4 then (oI (some (l3, σ))) else (oB (f_X0_runs σ 0 l1 l4 0) fun r4 => oB (f_X0_winner r4 0) fun r6 => if r6 = l2 then (f_X0_columns_b45 r4 l1 l2 l4 ((1 : Int32) <<< (l4 &&& 31)) l3) else (f_X0_columns_b45 r4 l1 l2 l4 0 l3))
theorem w_X0_columns_L5 {x : gX} {N : Nat} {ad : Nat → Nat} {tl : va_W} {lam : (Nat → Int64)} (hc : gOk x RX0 cX0_columns 5 5 152)  (σ : (Nat → Nat → Int32)) (l1 : Int32) (l2 : Int32) (l3 : Int32) (l4 : Int32) (hN : 36 ≤ N) {K : (Int32 × Int32 × (Nat → Nat → Int32)) ⊕ (Int32 × (Nat → Nat → Int32)) → Prop} {o : (Int32 × Int32 × (Nat → Nat → Int32)) ⊕ (Int32 × (Nat → Nat → Int32))} (hf : f_X0_columns_L5 σ l1 l2 l3 l4 = some o) (hK : K o) (hI5 : ∀ v : Int32 × Int32 × (Nat → Nat → Int32), K (.inl v) → gG x 5 0 0 (XW x.dA N ad v.2.2 lam ++ tl) 5 [(0, .ref (ad 0)), (1, .int l1), (2, .int l2), (3, .int v.1), (4, .int v.2.1)] []) (hR : ∀ o : Int32 × (Nat → Nat → Int32), K (.inr (o)) → gRi x 0 0 (XW x.dA N ad o.2 lam ++ tl) o.1) : gG x 5 0 0 (XW x.dA N ad σ lam ++ tl) 5 [(0, .ref (ad 0)), (1, .int l1), (2, .int l2), (3, .int l3), (4, .int l4)] [] := by
  unfold f_X0_columns_L5 at hf
  refine g_iload hc dX0_columns_5 4 rfl ?_
  refine g_bipush (v := 8) hc dX0_columns_7 (by decide) ?_
  refine g_icmp_ge (tgt := 53) hc dX0_columns_9 (by decide) (fun h1 => ?_) (fun h1 => ?_)
  · have hf := oT h1 hf
    obtain ⟨o2, hgo2, eo2⟩ := oI_some hf
    clear hf; subst eo2; have hf := hgo2; clear hgo2
    refine g_iload_n hc dX0_columns_53 rfl 3 rfl ?_
    have hz := Option.some.inj hf; subst hz
    exact g_iret hc (hR _ hK) dX0_columns_54
  · have hf := oF h1 hf
    refine g_aload_n hc dX0_columns_12 rfl 0 rfl ?_
    refine g_aload_n hc dX0_columns_13 rfl 0 rfl ?_
    refine g_get (v := .ref (ad (sb 0))) hc in_X0 (XW_at (k := 0) (Nat.lt_of_lt_of_le (by decide) hN)) rfl 1 (by decide) q185 rfl dX0_columns_14 ?_
    refine g_iload_n hc dX0_columns_17 rfl 1 rfl ?_
    refine g_iload hc dX0_columns_18 4 rfl ?_
    refine g_iconst (v := 0) hc dX0_columns_20 (by decide) ?_
    obtain ⟨r4, h3, hf⟩ := oB_some hf
    refine g_callVv hc [.ref (ad (sb 0)), .int l1, .int l4, .int 0] [] (c_X0_runs hN (gSl 0 hN (by decide)) h3) (XW_at (k := 0) (Nat.lt_of_lt_of_le (by decide) hN)) rfl (lw_V q540 q542 qs14 q60 q543) rfl hd_X0_runs rfl rfl (Nat.le_of_ble_eq_true rfl) gZ dX0_columns_21 ?_
    refine g_iload_n hc dX0_columns_24 rfl 3 rfl ?_
    refine g_aload_n hc dX0_columns_25 rfl 0 rfl ?_
    refine g_aload_n hc dX0_columns_26 rfl 0 rfl ?_
    refine g_get (v := .ref (ad (sb 0))) hc in_X0 (XW_at (k := 0) (Nat.lt_of_lt_of_le (by decide) hN)) rfl 1 (by decide) q185 rfl dX0_columns_27 ?_
    obtain ⟨r6, h5, hf⟩ := oB_some hf
    refine g_callVi hc [.ref (ad (sb 0))] [.int l3] (c_X0_winner hN (gSl 0 hN (by decide)) h5) (XW_at (k := 0) (Nat.lt_of_lt_of_le (by decide) hN)) rfl (lw_V q601 q603 qs17 q60 q604) rfl hd_X0_winner rfl rfl (Nat.le_of_ble_eq_true rfl) gZ dX0_columns_30 ?_
    refine g_iload_n hc dX0_columns_33 rfl 2 rfl ?_
    refine g_icmp_ne (tgt := 44) hc dX0_columns_34 (by decide) (fun h7 => ?_) (fun h7 => ?_)
    · have hf := oF h7 hf
      refine g_iconst (v := 0) hc dX0_columns_44 (by decide) ?_
      exact g_lv [0, 1, 2, 4] rfl (w_X0_columns_b45 hc r4 l1 l2 l4 0 l3 hN (K := K) hf hK hI5 hR)
    · have hf := oT h7 hf
      refine g_iconst (v := 1) hc dX0_columns_37 (by decide) ?_
      refine g_iload hc dX0_columns_38 4 rfl ?_
      refine g_ishl hc dX0_columns_40 ?_
      refine g_goto (tgt := 45) hc dX0_columns_41 (by decide) ?_
      exact g_lv [0, 1, 2, 4] rfl (w_X0_columns_b45 hc r4 l1 l2 l4 ((1 : Int32) <<< (l4 &&& 31)) l3 hN (K := K) hf hK hI5 hR)
def f_X0_columns_b5 (σ : (Nat → Nat → Int32)) (l1 : Int32) (l2 : Int32) (l3 : Int32) (l4 : Int32) : Option (Int32 × (Nat → Nat → Int32)) :=
  oLoop gFU (fun v : Int32 × Int32 × (Nat → Nat → Int32) => f_X0_columns_L5 v.2.2 l1 l2 v.1 v.2.1) (l3, l4, σ)
theorem w_X0_columns_b5 {x : gX} {N : Nat} {ad : Nat → Nat} {tl : va_W} {lam : (Nat → Int64)} (hc : gOk x RX0 cX0_columns 5 5 152)  (σ : (Nat → Nat → Int32)) (l1 : Int32) (l2 : Int32) (l3 : Int32) (l4 : Int32) (hN : 36 ≤ N) {K : Int32 × (Nat → Nat → Int32) → Prop} {o : Int32 × (Nat → Nat → Int32)} (hf : f_X0_columns_b5 σ l1 l2 l3 l4 = some o) (hK : K o) (hR : ∀ o : Int32 × (Nat → Nat → Int32), K o → gRi x 0 0 (XW x.dA N ad o.2 lam ++ tl) o.1) : gG x 5 0 0 (XW x.dA N ad σ lam ++ tl) 5 [(0, .ref (ad 0)), (1, .int l1), (2, .int l2), (3, .int l3), (4, .int l4)] [] :=
  oLoop_ind (fun v : Int32 × Int32 × (Nat → Nat → Int32) => gG x 5 0 0 (XW x.dA N ad v.2.2 lam ++ tl) 5 [(0, .ref (ad 0)), (1, .int l1), (2, .int l2), (3, .int v.1), (4, .int v.2.1)] []) K (fun v o1 hf1 hK1 => w_X0_columns_L5 hc v.2.2 l1 l2 v.1 v.2.1 hN (K := Sum.elim (fun v : Int32 × Int32 × (Nat → Nat → Int32) => gG x 5 0 0 (XW x.dA N ad v.2.2 lam ++ tl) 5 [(0, .ref (ad 0)), (1, .int l1), (2, .int l2), (3, .int v.1), (4, .int v.2.1)] []) K) hf1 hK1 (fun v hv => hv) hR) gFU _ o hf hK
def f_X0_columns (σ : (Nat → Nat → Int32)) (l1 : Int32) (l2 : Int32) : Option (Int32 × (Nat → Nat → Int32)) :=
  f_X0_columns_b5 σ l1 l2 0 0
theorem w_X0_columns {x : gX} {N : Nat} {ad : Nat → Nat} {tl : va_W} {lam : (Nat → Int64)} (hc : gOk x RX0 cX0_columns 5 5 152)  (σ : (Nat → Nat → Int32)) (l1 : Int32) (l2 : Int32) (hN : 36 ≤ N) {K : Int32 × (Nat → Nat → Int32) → Prop} {o : Int32 × (Nat → Nat → Int32)} (hf : f_X0_columns σ l1 l2 = some o) (hK : K o) (hR : ∀ o : Int32 × (Nat → Nat → Int32), K o → gRi x 0 0 (XW x.dA N ad o.2 lam ++ tl) o.1) : gG x 5 0 0 (XW x.dA N ad σ lam ++ tl) 0 [(0, .ref (ad 0)), (1, .int l1), (2, .int l2)] [] := by
  unfold f_X0_columns at hf
  refine g_iconst (v := 0) hc dX0_columns_0 (by decide) ?_
  refine g_istore_n (lv' := [(3, .int 0), (0, .ref (ad 0)), (1, .int l1), (2, .int l2)]) hc dX0_columns_1 rfl (by decide) rfl ?_
  refine g_iconst (v := 0) hc dX0_columns_2 (by decide) ?_
  refine g_istore (lv' := [(4, .int 0), (3, .int 0), (0, .ref (ad 0)), (1, .int l1), (2, .int l2)]) hc dX0_columns_3 (by decide) rfl ?_
  exact g_lv [2, 3, 4, 1, 0] rfl (w_X0_columns_b5 hc σ l1 l2 0 0 hN (K := K) hf hK hR)
theorem c_X0_columns {l : Launch} {D : va_G} {dA : Nat → ClassId} {N : Nat} {ad : Nat → Nat} {tl : va_W} {lam : (Nat → Int64)} {σ : (Nat → Nat → Int32)} {l1 : Int32} {l2 : Int32} (hN : 36 ≤ N) {o : Int32 × (Nat → Nat → Int32)} (hf : f_X0_columns σ l1 l2 = some o) : gI l D dA (XW dA N ad σ lam ++ tl) (XW dA N ad o.2 lam ++ tl) [.ref (ad 0), .int l1, .int l2] o.1 yX0_columns (ws_ yX0_columns cX0_columns 5 (some .int)) ({ frames := 5, cells := 0, slots := 0, locals := 152 } : Room) :=
  g_startI (own := RX0) ⟨rfl, rfl⟩ (by decide) rfl (Nat.le_of_ble_eq_true rfl) (fun x e hc hR => by
    subst e
    exact w_X0_columns hc σ l1 l2 hN (K := fun o1 => o1 = o) hf rfl (by rintro _ rfl; exact hR))
theorem hd_X0_columns : yX0_columns.cls = RX0 ∧ yX0_columns.cls ≠ "java/lang/invoke/MethodHandle" ∧ yX0_columns.cls ≠ "java/lang/invoke/VarHandle" ∧ (parseMethodDescriptor yX0_columns.desc).map (fun d => d.parameters.length) = some 2 := by decide +kernel
/-! HedgehogLots.share(II)I -/
def f_X0_share (σ : (Nat → Nat → Int32)) (l1 : Int32) (l2 : Int32) : Option (Int32 × (Nat → Nat → Int32)) :=
  oB (f_X0_isHedgehog σ l1) fun r2 => if r2 = 0 then (some ((-1), σ)) else (oB (f_X0_isRag l2) fun r5 => if r5 = 0 then (some ((-1), σ)) else (oB (f_X0_columns σ l1 l2) fun r8 => oB (f_J7_bitCount r8.1) fun r10 => some (r10, r8.2)))
theorem w_X0_share {x : gX} {N : Nat} {ad : Nat → Nat} {tl : va_W} {lam : (Nat → Int64)} (hc : gOk x RX0 cX0_share 3 6 176)  (σ : (Nat → Nat → Int32)) (l1 : Int32) (l2 : Int32) (hN : 36 ≤ N) {K : Int32 × (Nat → Nat → Int32) → Prop} {o : Int32 × (Nat → Nat → Int32)} (hf : f_X0_share σ l1 l2 = some o) (hK : K o) (hR : ∀ o : Int32 × (Nat → Nat → Int32), K o → gRi x 0 0 (XW x.dA N ad o.2 lam ++ tl) o.1) : gG x 3 0 0 (XW x.dA N ad σ lam ++ tl) 0 [(0, .ref (ad 0)), (1, .int l1), (2, .int l2)] [] := by
  unfold f_X0_share at hf
  refine g_aload_n hc dX0_share_0 rfl 0 rfl ?_
  refine g_iload_n hc dX0_share_1 rfl 1 rfl ?_
  obtain ⟨r2, h1, hf⟩ := oB_some hf
  refine g_callVi hc [.int l1] [] (c_X0_isHedgehog hN h1) (XW_at (k := 0) (Nat.lt_of_lt_of_le (by decide) hN)) rfl (lw_V q622 q624 qs19 q60 q625) rfl hd_X0_isHedgehog rfl rfl (Nat.le_of_ble_eq_true rfl) gZ dX0_share_2 ?_
  refine g_if_eq (tgt := 27) hc dX0_share_5 (by decide) (fun h3 => ?_) (fun h3 => ?_)
  · have hf := oT h3 hf
    refine g_iconst (v := (-1)) hc dX0_share_27 (by decide) ?_
    have hz := Option.some.inj hf; subst hz
    exact g_iret hc (hR _ hK) dX0_share_28
  · have hf := oF h3 hf
    refine g_iload_n hc dX0_share_8 rfl 2 rfl ?_
    obtain ⟨r5, h4, hf⟩ := oB_some hf
    refine g_callSi hc [.int l2] [] (c_X0_isRag  h4) (lw_S q641 q642 q60 q643) rfl hd_X0_isRag rfl rfl (Nat.le_of_ble_eq_true rfl) gZ dX0_share_9 ?_
    refine g_if_eq (tgt := 27) hc dX0_share_12 (by decide) (fun h6 => ?_) (fun h6 => ?_)
    · have hf := oT h6 hf
      refine g_iconst (v := (-1)) hc dX0_share_27 (by decide) ?_
      have hz := Option.some.inj hf; subst hz
      exact g_iret hc (hR _ hK) dX0_share_28
    · have hf := oF h6 hf
      refine g_aload_n hc dX0_share_15 rfl 0 rfl ?_
      refine g_iload_n hc dX0_share_16 rfl 1 rfl ?_
      refine g_iload_n hc dX0_share_17 rfl 2 rfl ?_
      obtain ⟨r8, h7, hf⟩ := oB_some hf
      refine g_callVi hc [.int l1, .int l2] [] (c_X0_columns hN h7) (XW_at (k := 0) (Nat.lt_of_lt_of_le (by decide) hN)) rfl (lw_V q696 q698 qs21 q60 q699) rfl hd_X0_columns rfl rfl (Nat.le_of_ble_eq_true rfl) gZ dX0_share_18 ?_
      obtain ⟨r10, h9, hf⟩ := oB_some hf
      refine g_callSi hc [.int r8.1] [] (c_J7_bitCount  h9) (lw_S q700 q701 q78 q702) rfl hd_J7_bitCount rfl rfl (Nat.le_of_ble_eq_true rfl) gZ dX0_share_21 ?_
      refine g_goto (tgt := 28) hc dX0_share_24 (by decide) ?_
      have hz := Option.some.inj hf; subst hz
      exact g_iret hc (hR _ hK) dX0_share_28
theorem c_X0_share {l : Launch} {D : va_G} {dA : Nat → ClassId} {N : Nat} {ad : Nat → Nat} {tl : va_W} {lam : (Nat → Int64)} {σ : (Nat → Nat → Int32)} {l1 : Int32} {l2 : Int32} (hN : 36 ≤ N) {o : Int32 × (Nat → Nat → Int32)} (hf : f_X0_share σ l1 l2 = some o) : gI l D dA (XW dA N ad σ lam ++ tl) (XW dA N ad o.2 lam ++ tl) [.ref (ad 0), .int l1, .int l2] o.1 yX0_share (ws_ yX0_share cX0_share 3 (some .int)) ({ frames := 6, cells := 0, slots := 0, locals := 176 } : Room) :=
  g_startI (own := RX0) ⟨rfl, rfl⟩ (by decide) rfl (Nat.le_of_ble_eq_true rfl) (fun x e hc hR => by
    subst e
    exact w_X0_share hc σ l1 l2 hN (K := fun o1 => o1 = o) hf rfl (by rintro _ rfl; exact hR))
theorem hd_X0_share : yX0_share.cls = RX0 ∧ yX0_share.cls ≠ "java/lang/invoke/MethodHandle" ∧ yX0_share.cls ≠ "java/lang/invoke/VarHandle" ∧ (parseMethodDescriptor yX0_share.desc).map (fun d => d.parameters.length) = some 2 := by decide +kernel
/-! HedgehogLots.first(II)I -/
def f_X0_first (σ : (Nat → Nat → Int32)) (l1 : Int32) (l2 : Int32) : Option (Int32 × (Nat → Nat → Int32)) :=
  oB (f_X0_isHedgehog σ l1) fun r2 => if r2 = 0 then (some ((-1), σ)) else (oB (f_X0_isRag l2) fun r5 => if r5 = 0 then (some ((-1), σ)) else (oB (f_X0_columns σ l1 l2) fun r8 => if r8.1 = 0 then (some ((-4), r8.2)) else (oB (f_J7_numberOfTrailingZeros r8.1) fun r11 => some (r11, r8.2))))
theorem w_X0_first {x : gX} {N : Nat} {ad : Nat → Nat} {tl : va_W} {lam : (Nat → Int64)} (hc : gOk x RX0 cX0_first 4 6 176)  (σ : (Nat → Nat → Int32)) (l1 : Int32) (l2 : Int32) (hN : 36 ≤ N) {K : Int32 × (Nat → Nat → Int32) → Prop} {o : Int32 × (Nat → Nat → Int32)} (hf : f_X0_first σ l1 l2 = some o) (hK : K o) (hR : ∀ o : Int32 × (Nat → Nat → Int32), K o → gRi x 0 0 (XW x.dA N ad o.2 lam ++ tl) o.1) : gG x 4 0 0 (XW x.dA N ad σ lam ++ tl) 0 [(0, .ref (ad 0)), (1, .int l1), (2, .int l2)] [] := by
  unfold f_X0_first at hf
  refine g_aload_n hc dX0_first_0 rfl 0 rfl ?_
  refine g_iload_n hc dX0_first_1 rfl 1 rfl ?_
  obtain ⟨r2, h1, hf⟩ := oB_some hf
  refine g_callVi hc [.int l1] [] (c_X0_isHedgehog hN h1) (XW_at (k := 0) (Nat.lt_of_lt_of_le (by decide) hN)) rfl (lw_V q622 q624 qs19 q60 q625) rfl hd_X0_isHedgehog rfl rfl (Nat.le_of_ble_eq_true rfl) gZ dX0_first_2 ?_
  refine g_if_eq (tgt := 15) hc dX0_first_5 (by decide) (fun h3 => ?_) (fun h3 => ?_)
  · have hf := oT h3 hf
    refine g_iconst (v := (-1)) hc dX0_first_15 (by decide) ?_
    have hz := Option.some.inj hf; subst hz
    exact g_iret hc (hR _ hK) dX0_first_16
  · have hf := oF h3 hf
    refine g_iload_n hc dX0_first_8 rfl 2 rfl ?_
    obtain ⟨r5, h4, hf⟩ := oB_some hf
    refine g_callSi hc [.int l2] [] (c_X0_isRag  h4) (lw_S q641 q642 q60 q643) rfl hd_X0_isRag rfl rfl (Nat.le_of_ble_eq_true rfl) gZ dX0_first_9 ?_
    refine g_if_ne (tgt := 17) hc dX0_first_12 (by decide) (fun h6 => ?_) (fun h6 => ?_)
    · have hf := oF h6 hf
      refine g_aload_n hc dX0_first_17 rfl 0 rfl ?_
      refine g_iload_n hc dX0_first_18 rfl 1 rfl ?_
      refine g_iload_n hc dX0_first_19 rfl 2 rfl ?_
      obtain ⟨r8, h7, hf⟩ := oB_some hf
      refine g_callVi hc [.int l1, .int l2] [] (c_X0_columns hN h7) (XW_at (k := 0) (Nat.lt_of_lt_of_le (by decide) hN)) rfl (lw_V q696 q698 qs21 q60 q699) rfl hd_X0_columns rfl rfl (Nat.le_of_ble_eq_true rfl) gZ dX0_first_20 ?_
      refine g_istore_n (lv' := [(3, .int r8.1), (0, .ref (ad 0)), (1, .int l1), (2, .int l2)]) hc dX0_first_23 rfl (by decide) rfl ?_
      refine g_iload_n hc dX0_first_24 rfl 0 rfl ?_
      refine g_if_ne (tgt := 33) hc dX0_first_25 (by decide) (fun h9 => ?_) (fun h9 => ?_)
      · have hf := oF h9 hf
        refine g_iload_n hc dX0_first_33 rfl 0 rfl ?_
        obtain ⟨r11, h10, hf⟩ := oB_some hf
        refine g_callSi hc [.int r8.1] [] (c_J7_numberOfTrailingZeros  h10) (lw_S q710 q711 q78 q712) rfl hd_J7_numberOfTrailingZeros rfl rfl (Nat.le_of_ble_eq_true rfl) gZ dX0_first_34 ?_
        have hz := Option.some.inj hf; subst hz
        exact g_iret hc (hR _ hK) dX0_first_37
      · have hf := oT h9 hf
        refine g_bipush (v := (-4)) hc dX0_first_28 (by decide) ?_
        refine g_goto (tgt := 37) hc dX0_first_30 (by decide) ?_
        have hz := Option.some.inj hf; subst hz
        exact g_iret hc (hR _ hK) dX0_first_37
    · have hf := oT h6 hf
      refine g_iconst (v := (-1)) hc dX0_first_15 (by decide) ?_
      have hz := Option.some.inj hf; subst hz
      exact g_iret hc (hR _ hK) dX0_first_16
theorem c_X0_first {l : Launch} {D : va_G} {dA : Nat → ClassId} {N : Nat} {ad : Nat → Nat} {tl : va_W} {lam : (Nat → Int64)} {σ : (Nat → Nat → Int32)} {l1 : Int32} {l2 : Int32} (hN : 36 ≤ N) {o : Int32 × (Nat → Nat → Int32)} (hf : f_X0_first σ l1 l2 = some o) : gI l D dA (XW dA N ad σ lam ++ tl) (XW dA N ad o.2 lam ++ tl) [.ref (ad 0), .int l1, .int l2] o.1 yX0_first (ws_ yX0_first cX0_first 4 (some .int)) ({ frames := 6, cells := 0, slots := 0, locals := 176 } : Room) :=
  g_startI (own := RX0) ⟨rfl, rfl⟩ (by decide) rfl (Nat.le_of_ble_eq_true rfl) (fun x e hc hR => by
    subst e
    exact w_X0_first hc σ l1 l2 hN (K := fun o1 => o1 = o) hf rfl (by rintro _ rfl; exact hR))
theorem hd_X0_first : yX0_first.cls = RX0 ∧ yX0_first.cls ≠ "java/lang/invoke/MethodHandle" ∧ yX0_first.cls ≠ "java/lang/invoke/VarHandle" ∧ (parseMethodDescriptor yX0_first.desc).map (fun d => d.parameters.length) = some 2 := by decide +kernel
/-! HedgehogLots.kindly(III)I -/
def f_X0_kindly_b90 (σ : (Nat → Nat → Int32)) (l1 : Int32) (l2 : Int32) (l3 : Int32) (l5 : Int32) (k2 : Int32) (k1 : Int32) : Option ((Int32 × Int32 × (Nat → Nat → Int32)) ⊕ (Int32 × (Nat → Nat → Int32))) :=
  some (.inl ((k1 ||| k2), (l5 + 1), σ))
theorem w_X0_kindly_b90 {x : gX} {N : Nat} {ad : Nat → Nat} {tl : va_W} {lam : (Nat → Int64)} (hc : gOk x RX0 cX0_kindly 6 5 152)  (σ : (Nat → Nat → Int32)) (l1 : Int32) (l2 : Int32) (l3 : Int32) (l5 : Int32) (k2 : Int32) (k1 : Int32) (hN : 36 ≤ N) {K : (Int32 × Int32 × (Nat → Nat → Int32)) ⊕ (Int32 × (Nat → Nat → Int32)) → Prop} {o : (Int32 × Int32 × (Nat → Nat → Int32)) ⊕ (Int32 × (Nat → Nat → Int32))} (hf : f_X0_kindly_b90 σ l1 l2 l3 l5 k2 k1 = some o) (hK : K o) (hI35 : ∀ v : Int32 × Int32 × (Nat → Nat → Int32), K (.inl v) → gG x 6 0 0 (XW x.dA N ad v.2.2 lam ++ tl) 35 [(0, .ref (ad 0)), (1, .int l1), (2, .int l2), (3, .int l3), (4, .int v.1), (5, .int v.2.1)] []) (hR : ∀ o : Int32 × (Nat → Nat → Int32), K (.inr (o)) → gRi x 0 0 (XW x.dA N ad o.2 lam ++ tl) o.1) : gG x 6 0 0 (XW x.dA N ad σ lam ++ tl) 90 [(0, .ref (ad 0)), (1, .int l1), (2, .int l2), (3, .int l3), (5, .int l5)] [.int k2, .int k1] := by
  unfold f_X0_kindly_b90 at hf
  refine g_ior hc dX0_kindly_90 ?_
  refine g_istore (lv' := [(4, .int (k1 ||| k2)), (0, .ref (ad 0)), (1, .int l1), (2, .int l2), (3, .int l3), (5, .int l5)]) hc dX0_kindly_91 (by decide) rfl ?_
  refine g_iinc (v := l5 + 1) (lv' := [(5, .int (l5 + 1)), (4, .int (k1 ||| k2)), (0, .ref (ad 0)), (1, .int l1), (2, .int l2), (3, .int l3)]) hc dX0_kindly_93 (j := 5) rfl rfl (by decide) rfl ?_
  refine g_goto (tgt := 35) hc dX0_kindly_96 (by decide) ?_
  have hz := Option.some.inj hf; subst hz
  exact g_lv [2, 3, 4, 5, 1, 0] rfl (hI35 _ hK)
def f_X0_kindly_L35 (σ : (Nat → Nat → Int32)) (l1 : Int32) (l2 : Int32) (l3 : Int32) (l4 : Int32) (l5 : Int32) : Option ((Int32 × Int32 × (Nat → Nat → Int32)) ⊕ (Int32 × (Nat → Nat → Int32))) :=
  if 4 ≤ l5 then (oI (some (l4, σ))) else (oC (inb ((2 * l1) + 0) 8) <| oL (upd2 σ (sb 1 + 4) ((2 * l1) + 0).toNatClampNeg (nbt (Int8.toInt32 (Int32.toInt8 l5)))) fun s3 => oB (f_X0_runs s3 1 l1 l2 0) fun r7 => oB (f_X0_winner r7 1) fun r9 => if r9 = l3 then (f_X0_kindly_b90 r7 l1 l2 l3 l5 ((1 : Int32) <<< (l5 &&& 31)) l4) else (f_X0_kindly_b90 r7 l1 l2 l3 l5 0 l4))
theorem w_X0_kindly_L35 {x : gX} {N : Nat} {ad : Nat → Nat} {tl : va_W} {lam : (Nat → Int64)} (hc : gOk x RX0 cX0_kindly 6 5 152)  (σ : (Nat → Nat → Int32)) (l1 : Int32) (l2 : Int32) (l3 : Int32) (l4 : Int32) (l5 : Int32) (hN : 36 ≤ N) {K : (Int32 × Int32 × (Nat → Nat → Int32)) ⊕ (Int32 × (Nat → Nat → Int32)) → Prop} {o : (Int32 × Int32 × (Nat → Nat → Int32)) ⊕ (Int32 × (Nat → Nat → Int32))} (hf : f_X0_kindly_L35 σ l1 l2 l3 l4 l5 = some o) (hK : K o) (hI35 : ∀ v : Int32 × Int32 × (Nat → Nat → Int32), K (.inl v) → gG x 6 0 0 (XW x.dA N ad v.2.2 lam ++ tl) 35 [(0, .ref (ad 0)), (1, .int l1), (2, .int l2), (3, .int l3), (4, .int v.1), (5, .int v.2.1)] []) (hR : ∀ o : Int32 × (Nat → Nat → Int32), K (.inr (o)) → gRi x 0 0 (XW x.dA N ad o.2 lam ++ tl) o.1) : gG x 6 0 0 (XW x.dA N ad σ lam ++ tl) 35 [(0, .ref (ad 0)), (1, .int l1), (2, .int l2), (3, .int l3), (4, .int l4), (5, .int l5)] [] := by
  unfold f_X0_kindly_L35 at hf
  refine g_iload hc dX0_kindly_35 5 rfl ?_
  refine g_iconst (v := 4) hc dX0_kindly_37 (by decide) ?_
  refine g_icmp_ge (tgt := 99) hc dX0_kindly_38 (by decide) (fun h1 => ?_) (fun h1 => ?_)
  · have hf := oT h1 hf
    obtain ⟨o2, hgo2, eo2⟩ := oI_some hf
    clear hf; subst eo2; have hf := hgo2; clear hgo2
    refine g_iload hc dX0_kindly_99 4 rfl ?_
    have hz := Option.some.inj hf; subst hz
    exact g_iret hc (hR _ hK) dX0_kindly_101
  · have hf := oF h1 hf
    refine g_aload_n hc dX0_kindly_41 rfl 0 rfl ?_
    refine g_get (v := .ref (ad (sb 1))) hc in_X0 (XW_at (k := 0) (Nat.lt_of_lt_of_le (by decide) hN)) rfl 2 (by decide) q186 rfl dX0_kindly_42 ?_
    refine g_getN (v := .ref (ad (sb 1 + 4))) hc in_X5 (XW_s0 (gSl 1 hN (by decide))) rfl 6 (by decide) 9 rfl rfl dX0_kindly_45 ?_
    refine g_iconst (v := 2) hc dX0_kindly_48 (by decide) ?_
    refine g_iload_n hc dX0_kindly_49 rfl 1 rfl ?_
    refine g_imul hc dX0_kindly_50 ?_
    refine g_iconst (v := 0) hc dX0_kindly_51 (by decide) ?_
    refine g_iadd hc dX0_kindly_52 ?_
    refine g_iload hc dX0_kindly_53 5 rfl ?_
    refine g_i2b hc dX0_kindly_55 ?_
    obtain ⟨h5, hf⟩ := oC_some hf
    obtain ⟨s3, e4, hf⟩ := oL_some hf
    refine g_bast (n := 8) (f := σ (sb 1 + 4)) hc (XW_s4 (gSl 1 hN (by decide))) h5 (XW_pa (σ1 := s3) (gSl 1 hN (by decide)) (k := 4) (by decide) e4 rfl) dX0_kindly_56 ?_
    refine g_aload_n hc dX0_kindly_57 rfl 0 rfl ?_
    refine g_aload_n hc dX0_kindly_58 rfl 0 rfl ?_
    refine g_get (v := .ref (ad (sb 1))) hc in_X0 (XW_at (k := 0) (Nat.lt_of_lt_of_le (by decide) hN)) rfl 2 (by decide) q186 rfl dX0_kindly_59 ?_
    refine g_iload_n hc dX0_kindly_62 rfl 1 rfl ?_
    refine g_iload_n hc dX0_kindly_63 rfl 2 rfl ?_
    refine g_iconst (v := 0) hc dX0_kindly_64 (by decide) ?_
    obtain ⟨r7, h6, hf⟩ := oB_some hf
    refine g_callVv hc [.ref (ad (sb 1)), .int l1, .int l2, .int 0] [] (c_X0_runs hN (gSl 1 hN (by decide)) h6) (XW_at (k := 0) (Nat.lt_of_lt_of_le (by decide) hN)) rfl (lw_V q540 q542 qs14 q60 q543) rfl hd_X0_runs rfl rfl (Nat.le_of_ble_eq_true rfl) gZ dX0_kindly_65 ?_
    refine g_iload hc dX0_kindly_68 4 rfl ?_
    refine g_aload_n hc dX0_kindly_70 rfl 0 rfl ?_
    refine g_aload_n hc dX0_kindly_71 rfl 0 rfl ?_
    refine g_get (v := .ref (ad (sb 1))) hc in_X0 (XW_at (k := 0) (Nat.lt_of_lt_of_le (by decide) hN)) rfl 2 (by decide) q186 rfl dX0_kindly_72 ?_
    obtain ⟨r9, h8, hf⟩ := oB_some hf
    refine g_callVi hc [.ref (ad (sb 1))] [.int l4] (c_X0_winner hN (gSl 1 hN (by decide)) h8) (XW_at (k := 0) (Nat.lt_of_lt_of_le (by decide) hN)) rfl (lw_V q601 q603 qs17 q60 q604) rfl hd_X0_winner rfl rfl (Nat.le_of_ble_eq_true rfl) gZ dX0_kindly_75 ?_
    refine g_iload_n hc dX0_kindly_78 rfl 3 rfl ?_
    refine g_icmp_ne (tgt := 89) hc dX0_kindly_79 (by decide) (fun h10 => ?_) (fun h10 => ?_)
    · have hf := oF h10 hf
      refine g_iconst (v := 0) hc dX0_kindly_89 (by decide) ?_
      exact g_lv [0, 1, 2, 3, 5] rfl (w_X0_kindly_b90 hc r7 l1 l2 l3 l5 0 l4 hN (K := K) hf hK hI35 hR)
    · have hf := oT h10 hf
      refine g_iconst (v := 1) hc dX0_kindly_82 (by decide) ?_
      refine g_iload hc dX0_kindly_83 5 rfl ?_
      refine g_ishl hc dX0_kindly_85 ?_
      refine g_goto (tgt := 90) hc dX0_kindly_86 (by decide) ?_
      exact g_lv [0, 1, 2, 3, 5] rfl (w_X0_kindly_b90 hc r7 l1 l2 l3 l5 ((1 : Int32) <<< (l5 &&& 31)) l4 hN (K := K) hf hK hI35 hR)
def f_X0_kindly_b35 (σ : (Nat → Nat → Int32)) (l1 : Int32) (l2 : Int32) (l3 : Int32) (l4 : Int32) (l5 : Int32) : Option (Int32 × (Nat → Nat → Int32)) :=
  oLoop gFU (fun v : Int32 × Int32 × (Nat → Nat → Int32) => f_X0_kindly_L35 v.2.2 l1 l2 l3 v.1 v.2.1) (l4, l5, σ)
theorem w_X0_kindly_b35 {x : gX} {N : Nat} {ad : Nat → Nat} {tl : va_W} {lam : (Nat → Int64)} (hc : gOk x RX0 cX0_kindly 6 5 152)  (σ : (Nat → Nat → Int32)) (l1 : Int32) (l2 : Int32) (l3 : Int32) (l4 : Int32) (l5 : Int32) (hN : 36 ≤ N) {K : Int32 × (Nat → Nat → Int32) → Prop} {o : Int32 × (Nat → Nat → Int32)} (hf : f_X0_kindly_b35 σ l1 l2 l3 l4 l5 = some o) (hK : K o) (hR : ∀ o : Int32 × (Nat → Nat → Int32), K o → gRi x 0 0 (XW x.dA N ad o.2 lam ++ tl) o.1) : gG x 6 0 0 (XW x.dA N ad σ lam ++ tl) 35 [(0, .ref (ad 0)), (1, .int l1), (2, .int l2), (3, .int l3), (4, .int l4), (5, .int l5)] [] :=
  oLoop_ind (fun v : Int32 × Int32 × (Nat → Nat → Int32) => gG x 6 0 0 (XW x.dA N ad v.2.2 lam ++ tl) 35 [(0, .ref (ad 0)), (1, .int l1), (2, .int l2), (3, .int l3), (4, .int v.1), (5, .int v.2.1)] []) K (fun v o1 hf1 hK1 => w_X0_kindly_L35 hc v.2.2 l1 l2 l3 v.1 v.2.1 hN (K := Sum.elim (fun v : Int32 × Int32 × (Nat → Nat → Int32) => gG x 6 0 0 (XW x.dA N ad v.2.2 lam ++ tl) 35 [(0, .ref (ad 0)), (1, .int l1), (2, .int l2), (3, .int l3), (4, .int v.1), (5, .int v.2.1)] []) K) hf1 hK1 (fun v hv => hv) hR) gFU _ o hf hK
def f_X0_kindly (σ : (Nat → Nat → Int32)) (l1 : Int32) (l2 : Int32) (l3 : Int32) : Option (Int32 × (Nat → Nat → Int32)) :=
  oB (f_X0_isRun σ l1 l2) fun r2 => if r2 = 0 then (some ((-1), σ)) else (oB (f_X0_isRag l3) fun r5 => if r5 = 0 then (some ((-1), σ)) else (oB (f_X5_as σ 1 0) fun r8 => f_X0_kindly_b35 r8 l1 l2 l3 0 0))
theorem w_X0_kindly {x : gX} {N : Nat} {ad : Nat → Nat} {tl : va_W} {lam : (Nat → Int64)} (hc : gOk x RX0 cX0_kindly 6 5 152)  (σ : (Nat → Nat → Int32)) (l1 : Int32) (l2 : Int32) (l3 : Int32) (hN : 36 ≤ N) {K : Int32 × (Nat → Nat → Int32) → Prop} {o : Int32 × (Nat → Nat → Int32)} (hf : f_X0_kindly σ l1 l2 l3 = some o) (hK : K o) (hR : ∀ o : Int32 × (Nat → Nat → Int32), K o → gRi x 0 0 (XW x.dA N ad o.2 lam ++ tl) o.1) : gG x 6 0 0 (XW x.dA N ad σ lam ++ tl) 0 [(0, .ref (ad 0)), (1, .int l1), (2, .int l2), (3, .int l3)] [] := by
  unfold f_X0_kindly at hf
  refine g_aload_n hc dX0_kindly_0 rfl 0 rfl ?_
  refine g_iload_n hc dX0_kindly_1 rfl 1 rfl ?_
  refine g_iload_n hc dX0_kindly_2 rfl 2 rfl ?_
  obtain ⟨r2, h1, hf⟩ := oB_some hf
  refine g_callVi hc [.int l1, .int l2] [] (c_X0_isRun hN h1) (XW_at (k := 0) (Nat.lt_of_lt_of_le (by decide) hN)) rfl (lw_V q667 q669 qs20 q60 q670) rfl hd_X0_isRun rfl rfl (Nat.le_of_ble_eq_true rfl) gZ dX0_kindly_3 ?_
  refine g_if_eq (tgt := 16) hc dX0_kindly_6 (by decide) (fun h3 => ?_) (fun h3 => ?_)
  · have hf := oT h3 hf
    refine g_iconst (v := (-1)) hc dX0_kindly_16 (by decide) ?_
    have hz := Option.some.inj hf; subst hz
    exact g_iret hc (hR _ hK) dX0_kindly_17
  · have hf := oF h3 hf
    refine g_iload_n hc dX0_kindly_9 rfl 3 rfl ?_
    obtain ⟨r5, h4, hf⟩ := oB_some hf
    refine g_callSi hc [.int l3] [] (c_X0_isRag  h4) (lw_S q641 q642 q60 q643) rfl hd_X0_isRag rfl rfl (Nat.le_of_ble_eq_true rfl) gZ dX0_kindly_10 ?_
    refine g_if_ne (tgt := 18) hc dX0_kindly_13 (by decide) (fun h6 => ?_) (fun h6 => ?_)
    · have hf := oF h6 hf
      refine g_iconst (v := 0) hc dX0_kindly_18 (by decide) ?_
      refine g_istore (lv' := [(4, .int 0), (0, .ref (ad 0)), (1, .int l1), (2, .int l2), (3, .int l3)]) hc dX0_kindly_19 (by decide) rfl ?_
      refine g_aload_n hc dX0_kindly_21 rfl 1 rfl ?_
      refine g_get (v := .ref (ad (sb 1))) hc in_X0 (XW_at (k := 0) (Nat.lt_of_lt_of_le (by decide) hN)) rfl 2 (by decide) q186 rfl dX0_kindly_22 ?_
      refine g_aload_n hc dX0_kindly_25 rfl 1 rfl ?_
      refine g_get (v := .ref (ad (sb 0))) hc in_X0 (XW_at (k := 0) (Nat.lt_of_lt_of_le (by decide) hN)) rfl 1 (by decide) q185 rfl dX0_kindly_26 ?_
      obtain ⟨r8, h7, hf⟩ := oB_some hf
      refine g_callVv hc [.ref (ad (sb 0))] [] (c_X5_as hN (gSl 1 hN (by decide)) (gSl 0 hN (by decide)) h7) (XW_s0 (gSl 1 hN (by decide))) rfl (lw_V q521 q522 q523 q65 q524) rfl hd_X5_as rfl rfl (Nat.le_of_ble_eq_true rfl) gZ dX0_kindly_29 ?_
      refine g_iconst (v := 0) hc dX0_kindly_32 (by decide) ?_
      refine g_istore (lv' := [(5, .int 0), (4, .int 0), (0, .ref (ad 0)), (1, .int l1), (2, .int l2), (3, .int l3)]) hc dX0_kindly_33 (by decide) rfl ?_
      exact g_lv [2, 3, 4, 5, 1, 0] rfl (w_X0_kindly_b35 hc r8 l1 l2 l3 0 0 hN (K := K) hf hK hR)
    · have hf := oT h6 hf
      refine g_iconst (v := (-1)) hc dX0_kindly_16 (by decide) ?_
      have hz := Option.some.inj hf; subst hz
      exact g_iret hc (hR _ hK) dX0_kindly_17
theorem c_X0_kindly {l : Launch} {D : va_G} {dA : Nat → ClassId} {N : Nat} {ad : Nat → Nat} {tl : va_W} {lam : (Nat → Int64)} {σ : (Nat → Nat → Int32)} {l1 : Int32} {l2 : Int32} {l3 : Int32} (hN : 36 ≤ N) {o : Int32 × (Nat → Nat → Int32)} (hf : f_X0_kindly σ l1 l2 l3 = some o) : gI l D dA (XW dA N ad σ lam ++ tl) (XW dA N ad o.2 lam ++ tl) [.ref (ad 0), .int l1, .int l2, .int l3] o.1 yX0_kindly (ws_ yX0_kindly cX0_kindly 6 (some .int)) ({ frames := 5, cells := 0, slots := 0, locals := 152 } : Room) :=
  g_startI (own := RX0) ⟨rfl, rfl⟩ (by decide) rfl (Nat.le_of_ble_eq_true rfl) (fun x e hc hR => by
    subst e
    exact w_X0_kindly hc σ l1 l2 l3 hN (K := fun o1 => o1 = o) hf rfl (by rintro _ rfl; exact hR))
theorem hd_X0_kindly : yX0_kindly.cls = RX0 ∧ yX0_kindly.cls ≠ "java/lang/invoke/MethodHandle" ∧ yX0_kindly.cls ≠ "java/lang/invoke/VarHandle" ∧ (parseMethodDescriptor yX0_kindly.desc).map (fun d => d.parameters.length) = some 3 := by decide +kernel
/-! HedgehogLots.startsJudging(I)V -/
def f_X0_startsJudging (σ : (Nat → Nat → Int32)) (l1 : Int32) : Option ((Nat → Nat → Int32)) :=
  oL (upd2 σ 0 15 (-4)) fun s1 => oL (upd2 s1 0 16 l1) fun s3 => some s3
theorem w_X0_startsJudging {x : gX} {N : Nat} {ad : Nat → Nat} {tl : va_W} {lam : (Nat → Int64)} (hc : gOk x RX0 cX0_startsJudging 2 0 0)  (σ : (Nat → Nat → Int32)) (l1 : Int32) (hN : 36 ≤ N) {K : (Nat → Nat → Int32) → Prop} {o : (Nat → Nat → Int32)} (hf : f_X0_startsJudging σ l1 = some o) (hK : K o) (hR : ∀ o : (Nat → Nat → Int32), K o → gRv x 0 0 (XW x.dA N ad o lam ++ tl)) : gG x 2 0 0 (XW x.dA N ad σ lam ++ tl) 0 [(0, .ref (ad 0)), (1, .int l1)] [] := by
  unfold f_X0_startsJudging at hf
  refine g_aload_n hc dX0_startsJudging_0 rfl 0 rfl ?_
  refine g_bipush (v := (-4)) hc dX0_startsJudging_1 (by decide) ?_
  obtain ⟨s1, e2, hf⟩ := oL_some hf
  refine g_put (v := .int (-4)) hc in_X0 tyX0_ok nmX0 (XW_at (k := 0) (Nat.lt_of_lt_of_le (by decide) hN)) rfl 15 (by decide) q200 rfl rfl rfl (Nat.le_of_ble_eq_true rfl) (XW_set (σ1 := s1) (k := 0) (Nat.lt_of_lt_of_le (by decide) hN) e2 rfl) dX0_startsJudging_3 ?_
  refine g_aload_n hc dX0_startsJudging_6 rfl 0 rfl ?_
  refine g_iload_n hc dX0_startsJudging_7 rfl 1 rfl ?_
  obtain ⟨s3, e4, hf⟩ := oL_some hf
  refine g_put (v := .int l1) hc in_X0 tyX0_ok nmX0 (XW_at (k := 0) (Nat.lt_of_lt_of_le (by decide) hN)) rfl 16 (by decide) q201 rfl rfl rfl (Nat.le_of_ble_eq_true rfl) (XW_set (σ1 := s3) (k := 0) (Nat.lt_of_lt_of_le (by decide) hN) e4 rfl) dX0_startsJudging_8 ?_
  have hz := Option.some.inj hf; subst hz
  exact g_vret hc (hR _ hK) dX0_startsJudging_11
theorem c_X0_startsJudging {l : Launch} {D : va_G} {dA : Nat → ClassId} {N : Nat} {ad : Nat → Nat} {tl : va_W} {lam : (Nat → Int64)} {σ : (Nat → Nat → Int32)} {l1 : Int32} (hN : 36 ≤ N) {o : (Nat → Nat → Int32)} (hf : f_X0_startsJudging σ l1 = some o) : gV l D dA (XW dA N ad σ lam ++ tl) (XW dA N ad o lam ++ tl) [.ref (ad 0), .int l1] yX0_startsJudging (ws_ yX0_startsJudging cX0_startsJudging 2 none) ({ frames := 0, cells := 0, slots := 0, locals := 0 } : Room) :=
  g_startV (own := RX0) ⟨rfl, rfl⟩ (by decide) rfl (Nat.le_of_ble_eq_true rfl) (fun x e hc hR => by
    subst e
    exact w_X0_startsJudging hc σ l1 hN (K := fun o1 => o1 = o) hf rfl (by rintro _ rfl; exact hR))
theorem hd_X0_startsJudging : yX0_startsJudging.cls = RX0 ∧ yX0_startsJudging.cls ≠ "java/lang/invoke/MethodHandle" ∧ yX0_startsJudging.cls ≠ "java/lang/invoke/VarHandle" ∧ (parseMethodDescriptor yX0_startsJudging.desc).map (fun d => d.parameters.length) = some 1 := by decide +kernel
