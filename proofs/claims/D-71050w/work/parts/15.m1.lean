set_option maxRecDepth 100000
/-! HedgehogLotsModel.in(JJJ)Z -/
def f_X7_in (l0 : Int64) (l2 : Int64) (l4 : Int64) : Option (Int32) :=
  if (lg_cmp l0 l2) < 0 then (some 0) else (if 0 < (lg_cmp l0 l4) then (some 0) else (some 1))
theorem w_X7_in {x : gX} {Φ : va_W}  (hc : gOk x RX7 cX7_in 6 0 0)  (l0 : Int64) (l2 : Int64) (l4 : Int64)  {K : Int32 → Prop} {o : Int32} (hf : f_X7_in l0 l2 l4 = some o) (hK : K o) (hR : ∀ o : Int32, K o → gRz x 0 0 (Φ) o) : gG x 6 0 0 (Φ) 0 [(0, .long l0), (2, .long l2), (4, .long l4)] [] := by
  unfold f_X7_in at hf
  refine g_lload_n hc dX7_in_0 rfl 0 rfl ?_
  refine g_lload_n hc dX7_in_1 rfl 1 rfl ?_
  refine g_lcmp hc dX7_in_2 ?_
  refine g_if_lt (tgt := 17) hc dX7_in_3 (by decide) (fun h1 => ?_) (fun h1 => ?_)
  · have hf := oT h1 hf
    refine g_iconst (v := 0) hc dX7_in_17 (by decide) ?_
    have hz := Option.some.inj hf; subst hz
    exact g_zret hc (hR _ hK) rfl dX7_in_18
  · have hf := oF h1 hf
    refine g_lload_n hc dX7_in_6 rfl 0 rfl ?_
    refine g_lload hc dX7_in_7 2 rfl ?_
    refine g_lcmp hc dX7_in_9 ?_
    refine g_if_gt (tgt := 17) hc dX7_in_10 (by decide) (fun h2 => ?_) (fun h2 => ?_)
    · have hf := oT h2 hf
      refine g_iconst (v := 0) hc dX7_in_17 (by decide) ?_
      have hz := Option.some.inj hf; subst hz
      exact g_zret hc (hR _ hK) rfl dX7_in_18
    · have hf := oF h2 hf
      refine g_iconst (v := 1) hc dX7_in_13 (by decide) ?_
      refine g_goto (tgt := 18) hc dX7_in_14 (by decide) ?_
      have hz := Option.some.inj hf; subst hz
      exact g_zret hc (hR _ hK) rfl dX7_in_18
theorem c_X7_in {l : Launch} {D : va_G} {dA : Nat → ClassId} {Φ : va_W}  {l0 : Int64} {l2 : Int64} {l4 : Int64}  {o : Int32} (hf : f_X7_in l0 l2 l4 = some o) : gI l D dA (Φ) (Φ) [.long l0, .long l2, .long l4] o yX7_in (ws_ yX7_in cX7_in 6 (some .boolean)) ({ frames := 0, cells := 0, slots := 0, locals := 0 } : Room) :=
  g_startZ (own := RX7) ⟨rfl, rfl⟩ (by decide) rfl (Nat.le_of_ble_eq_true rfl) (fun x e hc hR => by
    subst e
    exact w_X7_in hc l0 l2 l4  (K := fun o1 => o1 = o) hf rfl (by rintro _ rfl; exact hR))
theorem hd_X7_in : yX7_in.cls ≠ "java/lang/invoke/MethodHandle" ∧ yX7_in.cls ≠ "java/lang/invoke/VarHandle" ∧ (parseMethodDescriptor yX7_in.desc).map (fun d => d.parameters.length) = some 3 := by decide +kernel
/-! HedgehogLotsModel.feed(I)I -/
def f_X7_feed (σ : (Nat → Nat → Int32)) (l1 : Int32) : Option (Int32 × (Nat → Nat → Int32)) :=
  oB (f_X7_in (Int32.toInt64 l1) 0 127) fun r2 => if r2 = 0 then (some ((-1), σ)) else (if (σ 0 6) = 160 then (some ((-3), σ)) else (oC (inb (σ 0 6) 160) <| oL (upd2 σ 3 (σ 0 6).toNatClampNeg l1) fun s5 => oL (upd2 s5 0 6 ((s5 0 6) + 1)) fun s8 => some ((s8 0 6), s8)))
theorem w_X7_feed {x : gX} {ad : Nat → Nat} {tl : va_W}  (hc : gOk x RX7 cX7_feed 2 1 25)  (σ : (Nat → Nat → Int32)) (l1 : Int32)  {K : Int32 × (Nat → Nat → Int32) → Prop} {o : Int32 × (Nat → Nat → Int32)} (hf : f_X7_feed σ l1 = some o) (hK : K o) (hR : ∀ o : Int32 × (Nat → Nat → Int32), K o → gRi x 0 0 (MW x.dA ad o.2 ++ tl) o.1) : gG x 2 0 0 (MW x.dA ad σ ++ tl) 0 [(0, .ref (ad 0)), (1, .int l1)] [] := by
  unfold f_X7_feed at hf
  refine g_iload_n hc dX7_feed_0 rfl 1 rfl ?_
  refine g_i2l hc dX7_feed_1 ?_
  refine g_lconst (v := 0) hc dX7_feed_2 (by decide) ?_
  refine g_ldc2 (v := 127) hc q1054 dX7_feed_3 ?_
  obtain ⟨r2, h1, hf⟩ := oB_some hf
  refine g_callSi hc [.long (Int32.toInt64 l1), .long 0, .long 127] [] (c_X7_in  h1) (lw_S q1055 q1056 q67 q1057) rfl hd_X7_in rfl rfl (Nat.le_of_ble_eq_true rfl) gZ dX7_feed_6 ?_
  refine g_if_ne (tgt := 14) hc dX7_feed_9 (by decide) (fun h3 => ?_) (fun h3 => ?_)
  · have hf := oF h3 hf
    refine g_aload_n hc dX7_feed_14 rfl 0 rfl ?_
    refine g_get (v := .int (σ 0 6)) hc in_X7 (MW_at (k := 0) (by decide)) rfl 6 (by decide) q967 rfl dX7_feed_15 ?_
    refine g_sipush (v := 160) hc dX7_feed_18 (by decide) ?_
    refine g_icmp_ne (tgt := 27) hc dX7_feed_21 (by decide) (fun h4 => ?_) (fun h4 => ?_)
    · have hf := oF h4 hf
      refine g_aload_n hc dX7_feed_27 rfl 0 rfl ?_
      refine g_get (v := .ref (ad 3)) hc in_X7 (MW_at (k := 0) (by decide)) rfl 5 (by decide) q966 rfl dX7_feed_28 ?_
      refine g_aload_n hc dX7_feed_31 rfl 0 rfl ?_
      refine g_get (v := .int (σ 0 6)) hc in_X7 (MW_at (k := 0) (by decide)) rfl 6 (by decide) q967 rfl dX7_feed_32 ?_
      refine g_iload_n hc dX7_feed_35 rfl 1 rfl ?_
      obtain ⟨h7, hf⟩ := oC_some hf
      obtain ⟨s5, e6, hf⟩ := oL_some hf
      refine g_iast (n := 160) (f := σ 3) hc (MW_at (k := 3) (by decide)) h7 (MW_set (μ1 := s5) (k := 3) (by decide) e6 rfl) dX7_feed_36 ?_
      refine g_aload_n hc dX7_feed_37 rfl 0 rfl ?_
      refine g_dup hc dX7_feed_38 rfl ?_
      refine g_get (v := .int (s5 0 6)) hc in_X7 (MW_at (k := 0) (by decide)) rfl 6 (by decide) q967 rfl dX7_feed_39 ?_
      refine g_iconst (v := 1) hc dX7_feed_42 (by decide) ?_
      refine g_iadd hc dX7_feed_43 ?_
      obtain ⟨s8, e9, hf⟩ := oL_some hf
      refine g_put (v := .int ((s5 0 6) + 1)) hc in_X7 tyX7_ok nmX7 (MW_at (k := 0) (by decide)) rfl 6 (by decide) q967 rfl rfl rfl (Nat.le_of_ble_eq_true rfl) (MW_set (μ1 := s8) (k := 0) (by decide) e9 rfl) dX7_feed_44 ?_
      refine g_aload_n hc dX7_feed_47 rfl 0 rfl ?_
      refine g_get (v := .int (s8 0 6)) hc in_X7 (MW_at (k := 0) (by decide)) rfl 6 (by decide) q967 rfl dX7_feed_48 ?_
      have hz := Option.some.inj hf; subst hz
      exact g_iret hc (hR _ hK) dX7_feed_51
    · have hf := oT h4 hf
      refine g_bipush (v := (-3)) hc dX7_feed_24 (by decide) ?_
      have hz := Option.some.inj hf; subst hz
      exact g_iret hc (hR _ hK) dX7_feed_26
  · have hf := oT h3 hf
    refine g_iconst (v := (-1)) hc dX7_feed_12 (by decide) ?_
    have hz := Option.some.inj hf; subst hz
    exact g_iret hc (hR _ hK) dX7_feed_13
theorem c_X7_feed {l : Launch} {D : va_G} {dA : Nat → ClassId} {ad : Nat → Nat} {tl : va_W}  {σ : (Nat → Nat → Int32)} {l1 : Int32}  {o : Int32 × (Nat → Nat → Int32)} (hf : f_X7_feed σ l1 = some o) : gI l D dA (MW dA ad σ ++ tl) (MW dA ad o.2 ++ tl) [.ref (ad 0), .int l1] o.1 yX7_feed (ws_ yX7_feed cX7_feed 2 (some .int)) ({ frames := 1, cells := 0, slots := 0, locals := 25 } : Room) :=
  g_startI (own := RX7) ⟨rfl, rfl⟩ (by decide) rfl (Nat.le_of_ble_eq_true rfl) (fun x e hc hR => by
    subst e
    exact w_X7_feed hc σ l1  (K := fun o1 => o1 = o) hf rfl (by rintro _ rfl; exact hR))
theorem hd_X7_feed : yX7_feed.cls = RX7 ∧ yX7_feed.cls ≠ "java/lang/invoke/MethodHandle" ∧ yX7_feed.cls ≠ "java/lang/invoke/VarHandle" ∧ (parseMethodDescriptor yX7_feed.desc).map (fun d => d.parameters.length) = some 1 := by decide +kernel
/-! HedgehogLotsModel.end(I)I -/
def f_X7_end (σ : (Nat → Nat → Int32)) (l1 : Int32) : Option (Int32 × (Nat → Nat → Int32)) :=
  oB (f_X7_in (Int32.toInt64 l1) 0 (Int32.toInt64 (σ 0 6))) fun r2 => if r2 = 0 then (some ((-1), σ)) else (oL (upd2 σ 0 6 l1) fun s4 => some ((σ 0 6), s4))
theorem w_X7_end {x : gX} {ad : Nat → Nat} {tl : va_W}  (hc : gOk x RX7 cX7_end 3 1 25)  (σ : (Nat → Nat → Int32)) (l1 : Int32)  {K : Int32 × (Nat → Nat → Int32) → Prop} {o : Int32 × (Nat → Nat → Int32)} (hf : f_X7_end σ l1 = some o) (hK : K o) (hR : ∀ o : Int32 × (Nat → Nat → Int32), K o → gRi x 0 0 (MW x.dA ad o.2 ++ tl) o.1) : gG x 3 0 0 (MW x.dA ad σ ++ tl) 0 [(0, .ref (ad 0)), (1, .int l1)] [] := by
  unfold f_X7_end at hf
  refine g_iload_n hc dX7_end_0 rfl 1 rfl ?_
  refine g_i2l hc dX7_end_1 ?_
  refine g_lconst (v := 0) hc dX7_end_2 (by decide) ?_
  refine g_aload_n hc dX7_end_3 rfl 0 rfl ?_
  refine g_get (v := .int (σ 0 6)) hc in_X7 (MW_at (k := 0) (by decide)) rfl 6 (by decide) q967 rfl dX7_end_4 ?_
  refine g_i2l hc dX7_end_7 ?_
  obtain ⟨r2, h1, hf⟩ := oB_some hf
  refine g_callSi hc [.long (Int32.toInt64 l1), .long 0, .long (Int32.toInt64 (σ 0 6))] [] (c_X7_in  h1) (lw_S q1055 q1056 q67 q1057) rfl hd_X7_in rfl rfl (Nat.le_of_ble_eq_true rfl) gZ dX7_end_8 ?_
  refine g_if_ne (tgt := 16) hc dX7_end_11 (by decide) (fun h3 => ?_) (fun h3 => ?_)
  · have hf := oF h3 hf
    refine g_aload_n hc dX7_end_16 rfl 0 rfl ?_
    refine g_get (v := .int (σ 0 6)) hc in_X7 (MW_at (k := 0) (by decide)) rfl 6 (by decide) q967 rfl dX7_end_17 ?_
    refine g_istore_n (lv' := [(2, .int (σ 0 6)), (0, .ref (ad 0)), (1, .int l1)]) hc dX7_end_20 rfl (by decide) rfl ?_
    refine g_aload_n hc dX7_end_21 rfl 1 rfl ?_
    refine g_iload_n hc dX7_end_22 rfl 2 rfl ?_
    obtain ⟨s4, e5, hf⟩ := oL_some hf
    refine g_put (v := .int l1) hc in_X7 tyX7_ok nmX7 (MW_at (k := 0) (by decide)) rfl 6 (by decide) q967 rfl rfl rfl (Nat.le_of_ble_eq_true rfl) (MW_set (μ1 := s4) (k := 0) (by decide) e5 rfl) dX7_end_23 ?_
    refine g_iload_n hc dX7_end_26 rfl 0 rfl ?_
    have hz := Option.some.inj hf; subst hz
    exact g_iret hc (hR _ hK) dX7_end_27
  · have hf := oT h3 hf
    refine g_iconst (v := (-1)) hc dX7_end_14 (by decide) ?_
    have hz := Option.some.inj hf; subst hz
    exact g_iret hc (hR _ hK) dX7_end_15
theorem c_X7_end {l : Launch} {D : va_G} {dA : Nat → ClassId} {ad : Nat → Nat} {tl : va_W}  {σ : (Nat → Nat → Int32)} {l1 : Int32}  {o : Int32 × (Nat → Nat → Int32)} (hf : f_X7_end σ l1 = some o) : gI l D dA (MW dA ad σ ++ tl) (MW dA ad o.2 ++ tl) [.ref (ad 0), .int l1] o.1 yX7_end (ws_ yX7_end cX7_end 3 (some .int)) ({ frames := 1, cells := 0, slots := 0, locals := 25 } : Room) :=
  g_startI (own := RX7) ⟨rfl, rfl⟩ (by decide) rfl (Nat.le_of_ble_eq_true rfl) (fun x e hc hR => by
    subst e
    exact w_X7_end hc σ l1  (K := fun o1 => o1 = o) hf rfl (by rintro _ rfl; exact hR))
theorem hd_X7_end : yX7_end.cls = RX7 ∧ yX7_end.cls ≠ "java/lang/invoke/MethodHandle" ∧ yX7_end.cls ≠ "java/lang/invoke/VarHandle" ∧ (parseMethodDescriptor yX7_end.desc).map (fun d => d.parameters.length) = some 1 := by decide +kernel
/-! HedgehogLotsModel.byteAt(I)I -/
def f_X7_byteAt (σ : (Nat → Nat → Int32)) (l1 : Int32) : Option (Int32) :=
  if (σ 0 6) ≤ l1 then (some (-4)) else (oC (inb l1 160) <| some (σ 3 l1.toNatClampNeg))
theorem w_X7_byteAt {x : gX} {ad : Nat → Nat} {tl : va_W}  (hc : gOk x RX7 cX7_byteAt 2 0 0)  (σ : (Nat → Nat → Int32)) (l1 : Int32)  {K : Int32 → Prop} {o : Int32} (hf : f_X7_byteAt σ l1 = some o) (hK : K o) (hR : ∀ o : Int32, K o → gRi x 0 0 (MW x.dA ad σ ++ tl) o) : gG x 2 0 0 (MW x.dA ad σ ++ tl) 0 [(0, .ref (ad 0)), (1, .int l1)] [] := by
  unfold f_X7_byteAt at hf
  refine g_iload_n hc dX7_byteAt_0 rfl 1 rfl ?_
  refine g_aload_n hc dX7_byteAt_1 rfl 0 rfl ?_
  refine g_get (v := .int (σ 0 6)) hc in_X7 (MW_at (k := 0) (by decide)) rfl 6 (by decide) q967 rfl dX7_byteAt_2 ?_
  refine g_icmp_ge (tgt := 17) hc dX7_byteAt_5 (by decide) (fun h1 => ?_) (fun h1 => ?_)
  · have hf := oT h1 hf
    refine g_bipush (v := (-4)) hc dX7_byteAt_17 (by decide) ?_
    have hz := Option.some.inj hf; subst hz
    exact g_iret hc (hR _ hK) dX7_byteAt_19
  · have hf := oF h1 hf
    refine g_aload_n hc dX7_byteAt_8 rfl 0 rfl ?_
    refine g_get (v := .ref (ad 3)) hc in_X7 (MW_at (k := 0) (by decide)) rfl 5 (by decide) q966 rfl dX7_byteAt_9 ?_
    refine g_iload_n hc dX7_byteAt_12 rfl 1 rfl ?_
    obtain ⟨h2, hf⟩ := oC_some hf
    refine g_iald (n := 160) (f := σ 3) hc (MW_at (k := 3) (by decide)) h2 dX7_byteAt_13 ?_
    refine g_goto (tgt := 19) hc dX7_byteAt_14 (by decide) ?_
    have hz := Option.some.inj hf; subst hz
    exact g_iret hc (hR _ hK) dX7_byteAt_19
theorem c_X7_byteAt {l : Launch} {D : va_G} {dA : Nat → ClassId} {ad : Nat → Nat} {tl : va_W}  {σ : (Nat → Nat → Int32)} {l1 : Int32}  {o : Int32} (hf : f_X7_byteAt σ l1 = some o) : gI l D dA (MW dA ad σ ++ tl) (MW dA ad σ ++ tl) [.ref (ad 0), .int l1] o yX7_byteAt (ws_ yX7_byteAt cX7_byteAt 2 (some .int)) ({ frames := 0, cells := 0, slots := 0, locals := 0 } : Room) :=
  g_startI (own := RX7) ⟨rfl, rfl⟩ (by decide) rfl (Nat.le_of_ble_eq_true rfl) (fun x e hc hR => by
    subst e
    exact w_X7_byteAt hc σ l1  (K := fun o1 => o1 = o) hf rfl (by rintro _ rfl; exact hR))
theorem hd_X7_byteAt : yX7_byteAt.cls = RX7 ∧ yX7_byteAt.cls ≠ "java/lang/invoke/MethodHandle" ∧ yX7_byteAt.cls ≠ "java/lang/invoke/VarHandle" ∧ (parseMethodDescriptor yX7_byteAt.desc).map (fun d => d.parameters.length) = some 1 := by decide +kernel
/-! HedgehogLotsModel.fails(I)V -/
def f_X7_fails (σ : (Nat → Nat → Int32)) (l1 : Int32) : Option ((Nat → Nat → Int32)) :=
  if (σ 0 8) = 0 then (oL (upd2 σ 0 8 l1) fun s2 => oL (upd2 s2 0 9 (s2 0 11)) fun s4 => some s4) else (some σ)
theorem w_X7_fails {x : gX} {ad : Nat → Nat} {tl : va_W}  (hc : gOk x RX7 cX7_fails 2 0 0)  (σ : (Nat → Nat → Int32)) (l1 : Int32)  {K : (Nat → Nat → Int32) → Prop} {o : (Nat → Nat → Int32)} (hf : f_X7_fails σ l1 = some o) (hK : K o) (hR : ∀ o : (Nat → Nat → Int32), K o → gRv x 0 0 (MW x.dA ad o ++ tl)) : gG x 2 0 0 (MW x.dA ad σ ++ tl) 0 [(0, .ref (ad 0)), (1, .int l1)] [] := by
  unfold f_X7_fails at hf
  refine g_aload_n hc dX7_fails_0 rfl 0 rfl ?_
  refine g_get (v := .int (σ 0 8)) hc in_X7 (MW_at (k := 0) (by decide)) rfl 8 (by decide) q969 rfl dX7_fails_1 ?_
  refine g_if_ne (tgt := 20) hc dX7_fails_4 (by decide) (fun h1 => ?_) (fun h1 => ?_)
  · have hf := oF h1 hf
    have hz := Option.some.inj hf; subst hz
    exact g_vret hc (hR _ hK) dX7_fails_20
  · have hf := oT h1 hf
    refine g_aload_n hc dX7_fails_7 rfl 0 rfl ?_
    refine g_iload_n hc dX7_fails_8 rfl 1 rfl ?_
    obtain ⟨s2, e3, hf⟩ := oL_some hf
    refine g_put (v := .int l1) hc in_X7 tyX7_ok nmX7 (MW_at (k := 0) (by decide)) rfl 8 (by decide) q969 rfl rfl rfl (Nat.le_of_ble_eq_true rfl) (MW_set (μ1 := s2) (k := 0) (by decide) e3 rfl) dX7_fails_9 ?_
    refine g_aload_n hc dX7_fails_12 rfl 0 rfl ?_
    refine g_aload_n hc dX7_fails_13 rfl 0 rfl ?_
    refine g_get (v := .int (s2 0 11)) hc in_X7 (MW_at (k := 0) (by decide)) rfl 11 (by decide) q972 rfl dX7_fails_14 ?_
    obtain ⟨s4, e5, hf⟩ := oL_some hf
    refine g_put (v := .int (s2 0 11)) hc in_X7 tyX7_ok nmX7 (MW_at (k := 0) (by decide)) rfl 9 (by decide) q970 rfl rfl rfl (Nat.le_of_ble_eq_true rfl) (MW_set (μ1 := s4) (k := 0) (by decide) e5 rfl) dX7_fails_17 ?_
    have hz := Option.some.inj hf; subst hz
    exact g_vret hc (hR _ hK) dX7_fails_20
theorem c_X7_fails {l : Launch} {D : va_G} {dA : Nat → ClassId} {ad : Nat → Nat} {tl : va_W}  {σ : (Nat → Nat → Int32)} {l1 : Int32}  {o : (Nat → Nat → Int32)} (hf : f_X7_fails σ l1 = some o) : gV l D dA (MW dA ad σ ++ tl) (MW dA ad o ++ tl) [.ref (ad 0), .int l1] yX7_fails (ws_ yX7_fails cX7_fails 2 none) ({ frames := 0, cells := 0, slots := 0, locals := 0 } : Room) :=
  g_startV (own := RX7) ⟨rfl, rfl⟩ (by decide) rfl (Nat.le_of_ble_eq_true rfl) (fun x e hc hR => by
    subst e
    exact w_X7_fails hc σ l1  (K := fun o1 => o1 = o) hf rfl (by rintro _ rfl; exact hR))
theorem hd_X7_fails : yX7_fails.cls = RX7 ∧ yX7_fails.cls ≠ "java/lang/invoke/MethodHandle" ∧ yX7_fails.cls ≠ "java/lang/invoke/VarHandle" ∧ (parseMethodDescriptor yX7_fails.desc).map (fun d => d.parameters.length) = some 1 := by decide +kernel
/-! HedgehogLotsModel.nameHere()I -/
def f_X7_nameHere_b106 (σ : (Nat → Nat → Int32)) (l1 : Int32) (l2 : Int32) : Option ((Int32) ⊕ (Int32)) :=
  if l2 = 0 then (some (.inl (l1 + 1))) else (oI (some l1))
theorem w_X7_nameHere_b106 {x : gX} {ad : Nat → Nat} {tl : va_W}  (hc : gOk x RX7 cX7_nameHere 4 1 21)  (σ : (Nat → Nat → Int32)) (l1 : Int32) (l2 : Int32)  {K : (Int32) ⊕ (Int32) → Prop} {o : (Int32) ⊕ (Int32)} (hf : f_X7_nameHere_b106 σ l1 l2 = some o) (hK : K o) (hI2 : ∀ v : Int32, K (.inl v) → gG x 4 0 0 (MW x.dA ad σ ++ tl) 2 [(0, .ref (ad 0)), (1, .int v)] []) (hR : ∀ o : Int32, K (.inr (o)) → gRi x 0 0 (MW x.dA ad σ ++ tl) o) : gG x 4 0 0 (MW x.dA ad σ ++ tl) 106 [(0, .ref (ad 0)), (1, .int l1), (2, .int l2)] [] := by
  unfold f_X7_nameHere_b106 at hf
  refine g_iload_n hc dX7_nameHere_106 rfl 2 rfl ?_
  refine g_if_eq (tgt := 112) hc dX7_nameHere_107 (by decide) (fun h1 => ?_) (fun h1 => ?_)
  · have hf := oT h1 hf
    refine g_iinc (v := l1 + 1) (lv' := [(1, .int (l1 + 1)), (0, .ref (ad 0)), (2, .int l2)]) hc dX7_nameHere_112 (j := 1) rfl rfl (by decide) rfl ?_
    refine g_goto (tgt := 2) hc dX7_nameHere_115 (by decide) ?_
    have hz := Option.some.inj hf; subst hz
    exact g_lv [1, 0] rfl (hI2 _ hK)
  · have hf := oF h1 hf
    obtain ⟨o2, hgo2, eo2⟩ := oI_some hf
    clear hf; subst eo2; have hf := hgo2; clear hgo2
    refine g_iload_n hc dX7_nameHere_110 rfl 1 rfl ?_
    have hz := Option.some.inj hf; subst hz
    exact g_iret hc (hR _ hK) dX7_nameHere_111
def f_X7_nameHere_b99 (σ : (Nat → Nat → Int32)) (l1 : Int32) (l3 : Int32) (k1 : Int32) : Option ((Int32 × Int32) ⊕ ((Int32) ⊕ (Int32))) :=
  some (.inl (k1, (l3 + 1)))
theorem w_X7_nameHere_b99 {x : gX} {ad : Nat → Nat} {tl : va_W}  (hc : gOk x RX7 cX7_nameHere 4 1 21)  (σ : (Nat → Nat → Int32)) (l1 : Int32) (l3 : Int32) (k1 : Int32)  {K : (Int32 × Int32) ⊕ ((Int32) ⊕ (Int32)) → Prop} {o : (Int32 × Int32) ⊕ ((Int32) ⊕ (Int32))} (hf : f_X7_nameHere_b99 σ l1 l3 k1 = some o) (hK : K o) (hI51 : ∀ v : Int32 × Int32, K (.inl v) → gG x 4 0 0 (MW x.dA ad σ ++ tl) 51 [(0, .ref (ad 0)), (1, .int l1), (2, .int v.1), (3, .int v.2)] []) (hI2 : ∀ v : Int32, K (.inr (.inl v)) → gG x 4 0 0 (MW x.dA ad σ ++ tl) 2 [(0, .ref (ad 0)), (1, .int v)] []) (hR : ∀ o : Int32, K (.inr (.inr (o))) → gRi x 0 0 (MW x.dA ad σ ++ tl) o) : gG x 4 0 0 (MW x.dA ad σ ++ tl) 99 [(0, .ref (ad 0)), (1, .int l1), (3, .int l3)] [.int k1] := by
  unfold f_X7_nameHere_b99 at hf
  refine g_istore_n (lv' := [(2, .int k1), (0, .ref (ad 0)), (1, .int l1), (3, .int l3)]) hc dX7_nameHere_99 rfl (by decide) rfl ?_
  refine g_iinc (v := l3 + 1) (lv' := [(3, .int (l3 + 1)), (2, .int k1), (0, .ref (ad 0)), (1, .int l1)]) hc dX7_nameHere_100 (j := 3) rfl rfl (by decide) rfl ?_
  refine g_goto (tgt := 51) hc dX7_nameHere_103 (by decide) ?_
  have hz := Option.some.inj hf; subst hz
  exact g_lv [2, 3, 1, 0] rfl (hI51 _ hK)
def f_X7_nameHere_L51 (σ : (Nat → Nat → Int32)) (l1 : Int32) (l2 : Int32) (l3 : Int32) : Option ((Int32 × Int32) ⊕ ((Int32) ⊕ (Int32))) :=
  if l2 = 0 then (oI (f_X7_nameHere_b106 σ l1 l2)) else (if ((σ 0 10) - (σ 0 11)) ≤ l3 then (oI (f_X7_nameHere_b106 σ l1 l2)) else (oB (f_X7_byteAt σ ((σ 0 11) + l3)) fun r6 => oC (inb l1 8) <| oC (inb ((σ 4 l1.toNatClampNeg) + l3) 28) <| if r6 = (σ 5 ((σ 4 l1.toNatClampNeg) + l3).toNatClampNeg) then (f_X7_nameHere_b99 σ l1 l3 1) else (f_X7_nameHere_b99 σ l1 l3 0)))
theorem w_X7_nameHere_L51 {x : gX} {ad : Nat → Nat} {tl : va_W}  (hc : gOk x RX7 cX7_nameHere 4 1 21)  (σ : (Nat → Nat → Int32)) (l1 : Int32) (l2 : Int32) (l3 : Int32)  {K : (Int32 × Int32) ⊕ ((Int32) ⊕ (Int32)) → Prop} {o : (Int32 × Int32) ⊕ ((Int32) ⊕ (Int32))} (hf : f_X7_nameHere_L51 σ l1 l2 l3 = some o) (hK : K o) (hI51 : ∀ v : Int32 × Int32, K (.inl v) → gG x 4 0 0 (MW x.dA ad σ ++ tl) 51 [(0, .ref (ad 0)), (1, .int l1), (2, .int v.1), (3, .int v.2)] []) (hI2 : ∀ v : Int32, K (.inr (.inl v)) → gG x 4 0 0 (MW x.dA ad σ ++ tl) 2 [(0, .ref (ad 0)), (1, .int v)] []) (hR : ∀ o : Int32, K (.inr (.inr (o))) → gRi x 0 0 (MW x.dA ad σ ++ tl) o) : gG x 4 0 0 (MW x.dA ad σ ++ tl) 51 [(0, .ref (ad 0)), (1, .int l1), (2, .int l2), (3, .int l3)] [] := by
  unfold f_X7_nameHere_L51 at hf
  refine g_iload_n hc dX7_nameHere_51 rfl 2 rfl ?_
  refine g_if_eq (tgt := 106) hc dX7_nameHere_52 (by decide) (fun h1 => ?_) (fun h1 => ?_)
  · have hf := oT h1 hf
    obtain ⟨o2, hgo2, eo2⟩ := oI_some hf
    clear hf; subst eo2; have hf := hgo2; clear hgo2
    exact g_lv [0, 1, 2] rfl (w_X7_nameHere_b106 hc σ l1 l2  (K := (fun o1 => K (.inr o1))) hf hK hI2 hR)
  · have hf := oF h1 hf
    refine g_iload_n hc dX7_nameHere_55 rfl 3 rfl ?_
    refine g_aload_n hc dX7_nameHere_56 rfl 0 rfl ?_
    refine g_get (v := .int (σ 0 10)) hc in_X7 (MW_at (k := 0) (by decide)) rfl 10 (by decide) q971 rfl dX7_nameHere_57 ?_
    refine g_aload_n hc dX7_nameHere_60 rfl 0 rfl ?_
    refine g_get (v := .int (σ 0 11)) hc in_X7 (MW_at (k := 0) (by decide)) rfl 11 (by decide) q972 rfl dX7_nameHere_61 ?_
    refine g_isub hc dX7_nameHere_64 ?_
    refine g_icmp_ge (tgt := 106) hc dX7_nameHere_65 (by decide) (fun h3 => ?_) (fun h3 => ?_)
    · have hf := oT h3 hf
      obtain ⟨o4, hgo4, eo4⟩ := oI_some hf
      clear hf; subst eo4; have hf := hgo4; clear hgo4
      exact g_lv [0, 1, 2] rfl (w_X7_nameHere_b106 hc σ l1 l2  (K := (fun o1 => K (.inr o1))) hf hK hI2 hR)
    · have hf := oF h3 hf
      refine g_aload_n hc dX7_nameHere_68 rfl 0 rfl ?_
      refine g_aload_n hc dX7_nameHere_69 rfl 0 rfl ?_
      refine g_get (v := .int (σ 0 11)) hc in_X7 (MW_at (k := 0) (by decide)) rfl 11 (by decide) q972 rfl dX7_nameHere_70 ?_
      refine g_iload_n hc dX7_nameHere_73 rfl 3 rfl ?_
      refine g_iadd hc dX7_nameHere_74 ?_
      obtain ⟨r6, h5, hf⟩ := oB_some hf
      refine g_callVi hc [.int ((σ 0 11) + l3)] [] (c_X7_byteAt  h5) (MW_at (k := 0) (by decide)) rfl (lw_V q1070 q1072 qs33 q67 q1073) rfl hd_X7_byteAt rfl rfl (Nat.le_of_ble_eq_true rfl) gZ dX7_nameHere_75 ?_
      refine g_aload_n hc dX7_nameHere_78 rfl 0 rfl ?_
      refine g_get (v := .ref (ad 5)) hc in_X7 (MW_at (k := 0) (by decide)) rfl 15 (by decide) q976 rfl dX7_nameHere_79 ?_
      refine g_aload_n hc dX7_nameHere_82 rfl 0 rfl ?_
      refine g_get (v := .ref (ad 4)) hc in_X7 (MW_at (k := 0) (by decide)) rfl 14 (by decide) q975 rfl dX7_nameHere_83 ?_
      refine g_iload_n hc dX7_nameHere_86 rfl 1 rfl ?_
      obtain ⟨h7, hf⟩ := oC_some hf
      refine g_iald (n := 8) (f := σ 4) hc (MW_at (k := 4) (by decide)) h7 dX7_nameHere_87 ?_
      refine g_iload_n hc dX7_nameHere_88 rfl 3 rfl ?_
      refine g_iadd hc dX7_nameHere_89 ?_
      obtain ⟨h8, hf⟩ := oC_some hf
      refine g_iald (n := 28) (f := σ 5) hc (MW_at (k := 5) (by decide)) h8 dX7_nameHere_90 ?_
      refine g_icmp_ne (tgt := 98) hc dX7_nameHere_91 (by decide) (fun h9 => ?_) (fun h9 => ?_)
      · have hf := oF h9 hf
        refine g_iconst (v := 0) hc dX7_nameHere_98 (by decide) ?_
        exact g_lv [0, 1, 3] rfl (w_X7_nameHere_b99 hc σ l1 l3 0  (K := K) hf hK hI51 hI2 hR)
      · have hf := oT h9 hf
        refine g_iconst (v := 1) hc dX7_nameHere_94 (by decide) ?_
        refine g_goto (tgt := 99) hc dX7_nameHere_95 (by decide) ?_
        exact g_lv [0, 1, 3] rfl (w_X7_nameHere_b99 hc σ l1 l3 1  (K := K) hf hK hI51 hI2 hR)
def f_X7_nameHere_b51 (σ : (Nat → Nat → Int32)) (l1 : Int32) (l2 : Int32) (l3 : Int32) : Option ((Int32) ⊕ (Int32)) :=
  oLoop gFU (fun v : Int32 × Int32 => f_X7_nameHere_L51 σ l1 v.1 v.2) (l2, l3)
theorem w_X7_nameHere_b51 {x : gX} {ad : Nat → Nat} {tl : va_W}  (hc : gOk x RX7 cX7_nameHere 4 1 21)  (σ : (Nat → Nat → Int32)) (l1 : Int32) (l2 : Int32) (l3 : Int32)  {K : (Int32) ⊕ (Int32) → Prop} {o : (Int32) ⊕ (Int32)} (hf : f_X7_nameHere_b51 σ l1 l2 l3 = some o) (hK : K o) (hI2 : ∀ v : Int32, K (.inl v) → gG x 4 0 0 (MW x.dA ad σ ++ tl) 2 [(0, .ref (ad 0)), (1, .int v)] []) (hR : ∀ o : Int32, K (.inr (o)) → gRi x 0 0 (MW x.dA ad σ ++ tl) o) : gG x 4 0 0 (MW x.dA ad σ ++ tl) 51 [(0, .ref (ad 0)), (1, .int l1), (2, .int l2), (3, .int l3)] [] :=
  oLoop_ind (fun v : Int32 × Int32 => gG x 4 0 0 (MW x.dA ad σ ++ tl) 51 [(0, .ref (ad 0)), (1, .int l1), (2, .int v.1), (3, .int v.2)] []) K (fun v o1 hf1 hK1 => w_X7_nameHere_L51 hc σ l1 v.1 v.2  (K := Sum.elim (fun v : Int32 × Int32 => gG x 4 0 0 (MW x.dA ad σ ++ tl) 51 [(0, .ref (ad 0)), (1, .int l1), (2, .int v.1), (3, .int v.2)] []) K) hf1 hK1 (fun v hv => hv) hI2 hR) gFU _ o hf hK
def f_X7_nameHere_b48 (σ : (Nat → Nat → Int32)) (l1 : Int32) (k1 : Int32) : Option ((Int32) ⊕ (Int32)) :=
  f_X7_nameHere_b51 σ l1 k1 0
theorem w_X7_nameHere_b48 {x : gX} {ad : Nat → Nat} {tl : va_W}  (hc : gOk x RX7 cX7_nameHere 4 1 21)  (σ : (Nat → Nat → Int32)) (l1 : Int32) (k1 : Int32)  {K : (Int32) ⊕ (Int32) → Prop} {o : (Int32) ⊕ (Int32)} (hf : f_X7_nameHere_b48 σ l1 k1 = some o) (hK : K o) (hI2 : ∀ v : Int32, K (.inl v) → gG x 4 0 0 (MW x.dA ad σ ++ tl) 2 [(0, .ref (ad 0)), (1, .int v)] []) (hR : ∀ o : Int32, K (.inr (o)) → gRi x 0 0 (MW x.dA ad σ ++ tl) o) : gG x 4 0 0 (MW x.dA ad σ ++ tl) 48 [(0, .ref (ad 0)), (1, .int l1)] [.int k1] := by
  unfold f_X7_nameHere_b48 at hf
  refine g_istore_n (lv' := [(2, .int k1), (0, .ref (ad 0)), (1, .int l1)]) hc dX7_nameHere_48 rfl (by decide) rfl ?_
  refine g_iconst (v := 0) hc dX7_nameHere_49 (by decide) ?_
  refine g_istore_n (lv' := [(3, .int 0), (2, .int k1), (0, .ref (ad 0)), (1, .int l1)]) hc dX7_nameHere_50 rfl (by decide) rfl ?_
  exact g_lv [2, 3, 1, 0] rfl (w_X7_nameHere_b51 hc σ l1 k1 0  (K := K) hf hK hI2 hR)
def f_X7_nameHere_L2 (σ : (Nat → Nat → Int32)) (l1 : Int32) : Option ((Int32) ⊕ (Int32)) :=
  if 7 ≤ l1 then (oI (some (-4))) else (if (σ 0 12) = 1 then (oC (inb (l1 + 1) 8) <| oC (inb l1 8) <| if ((σ 0 10) - (σ 0 11)) = ((σ 4 (l1 + 1).toNatClampNeg) - (σ 4 l1.toNatClampNeg)) then (f_X7_nameHere_b48 σ l1 1) else (f_X7_nameHere_b48 σ l1 0)) else (oI (some (-4))))
theorem w_X7_nameHere_L2 {x : gX} {ad : Nat → Nat} {tl : va_W}  (hc : gOk x RX7 cX7_nameHere 4 1 21)  (σ : (Nat → Nat → Int32)) (l1 : Int32)  {K : (Int32) ⊕ (Int32) → Prop} {o : (Int32) ⊕ (Int32)} (hf : f_X7_nameHere_L2 σ l1 = some o) (hK : K o) (hI2 : ∀ v : Int32, K (.inl v) → gG x 4 0 0 (MW x.dA ad σ ++ tl) 2 [(0, .ref (ad 0)), (1, .int v)] []) (hR : ∀ o : Int32, K (.inr (o)) → gRi x 0 0 (MW x.dA ad σ ++ tl) o) : gG x 4 0 0 (MW x.dA ad σ ++ tl) 2 [(0, .ref (ad 0)), (1, .int l1)] [] := by
  unfold f_X7_nameHere_L2 at hf
  refine g_iload_n hc dX7_nameHere_2 rfl 1 rfl ?_
  refine g_bipush (v := 7) hc dX7_nameHere_3 (by decide) ?_
  refine g_icmp_ge (tgt := 118) hc dX7_nameHere_5 (by decide) (fun h1 => ?_) (fun h1 => ?_)
  · have hf := oT h1 hf
    obtain ⟨o2, hgo2, eo2⟩ := oI_some hf
    clear hf; subst eo2; have hf := hgo2; clear hgo2
    refine g_bipush (v := (-4)) hc dX7_nameHere_118 (by decide) ?_
    have hz := Option.some.inj hf; subst hz
    exact g_iret hc (hR _ hK) dX7_nameHere_120
  · have hf := oF h1 hf
    refine g_aload_n hc dX7_nameHere_8 rfl 0 rfl ?_
    refine g_get (v := .int (σ 0 12)) hc in_X7 (MW_at (k := 0) (by decide)) rfl 12 (by decide) q973 rfl dX7_nameHere_9 ?_
    refine g_iconst (v := 1) hc dX7_nameHere_12 (by decide) ?_
    refine g_icmp_ne (tgt := 118) hc dX7_nameHere_13 (by decide) (fun h3 => ?_) (fun h3 => ?_)
    · have hf := oF h3 hf
      obtain ⟨o4, hgo4, eo4⟩ := oI_some hf
      clear hf; subst eo4; have hf := hgo4; clear hgo4
      refine g_bipush (v := (-4)) hc dX7_nameHere_118 (by decide) ?_
      have hz := Option.some.inj hf; subst hz
      exact g_iret hc (hR _ hK) dX7_nameHere_120
    · have hf := oT h3 hf
      refine g_aload_n hc dX7_nameHere_16 rfl 0 rfl ?_
      refine g_get (v := .int (σ 0 10)) hc in_X7 (MW_at (k := 0) (by decide)) rfl 10 (by decide) q971 rfl dX7_nameHere_17 ?_
      refine g_aload_n hc dX7_nameHere_20 rfl 0 rfl ?_
      refine g_get (v := .int (σ 0 11)) hc in_X7 (MW_at (k := 0) (by decide)) rfl 11 (by decide) q972 rfl dX7_nameHere_21 ?_
      refine g_isub hc dX7_nameHere_24 ?_
      refine g_aload_n hc dX7_nameHere_25 rfl 0 rfl ?_
      refine g_get (v := .ref (ad 4)) hc in_X7 (MW_at (k := 0) (by decide)) rfl 14 (by decide) q975 rfl dX7_nameHere_26 ?_
      refine g_iload_n hc dX7_nameHere_29 rfl 1 rfl ?_
      refine g_iconst (v := 1) hc dX7_nameHere_30 (by decide) ?_
      refine g_iadd hc dX7_nameHere_31 ?_
      obtain ⟨h5, hf⟩ := oC_some hf
      refine g_iald (n := 8) (f := σ 4) hc (MW_at (k := 4) (by decide)) h5 dX7_nameHere_32 ?_
      refine g_aload_n hc dX7_nameHere_33 rfl 0 rfl ?_
      refine g_get (v := .ref (ad 4)) hc in_X7 (MW_at (k := 0) (by decide)) rfl 14 (by decide) q975 rfl dX7_nameHere_34 ?_
      refine g_iload_n hc dX7_nameHere_37 rfl 1 rfl ?_
      obtain ⟨h6, hf⟩ := oC_some hf
      refine g_iald (n := 8) (f := σ 4) hc (MW_at (k := 4) (by decide)) h6 dX7_nameHere_38 ?_
      refine g_isub hc dX7_nameHere_39 ?_
      refine g_icmp_ne (tgt := 47) hc dX7_nameHere_40 (by decide) (fun h7 => ?_) (fun h7 => ?_)
      · have hf := oF h7 hf
        refine g_iconst (v := 0) hc dX7_nameHere_47 (by decide) ?_
        exact g_lv [0, 1] rfl (w_X7_nameHere_b48 hc σ l1 0  (K := K) hf hK hI2 hR)
      · have hf := oT h7 hf
        refine g_iconst (v := 1) hc dX7_nameHere_43 (by decide) ?_
        refine g_goto (tgt := 48) hc dX7_nameHere_44 (by decide) ?_
        exact g_lv [0, 1] rfl (w_X7_nameHere_b48 hc σ l1 1  (K := K) hf hK hI2 hR)
def f_X7_nameHere_b2 (σ : (Nat → Nat → Int32)) (l1 : Int32) : Option (Int32) :=
  oLoop gFU (fun v : Int32 => f_X7_nameHere_L2 σ v) l1
theorem w_X7_nameHere_b2 {x : gX} {ad : Nat → Nat} {tl : va_W}  (hc : gOk x RX7 cX7_nameHere 4 1 21)  (σ : (Nat → Nat → Int32)) (l1 : Int32)  {K : Int32 → Prop} {o : Int32} (hf : f_X7_nameHere_b2 σ l1 = some o) (hK : K o) (hR : ∀ o : Int32, K o → gRi x 0 0 (MW x.dA ad σ ++ tl) o) : gG x 4 0 0 (MW x.dA ad σ ++ tl) 2 [(0, .ref (ad 0)), (1, .int l1)] [] :=
  oLoop_ind (fun v : Int32 => gG x 4 0 0 (MW x.dA ad σ ++ tl) 2 [(0, .ref (ad 0)), (1, .int v)] []) K (fun v o1 hf1 hK1 => w_X7_nameHere_L2 hc σ v  (K := Sum.elim (fun v : Int32 => gG x 4 0 0 (MW x.dA ad σ ++ tl) 2 [(0, .ref (ad 0)), (1, .int v)] []) K) hf1 hK1 (fun v hv => hv) hR) gFU _ o hf hK
def f_X7_nameHere (σ : (Nat → Nat → Int32)) : Option (Int32) :=
  f_X7_nameHere_b2 σ 0
theorem w_X7_nameHere {x : gX} {ad : Nat → Nat} {tl : va_W}  (hc : gOk x RX7 cX7_nameHere 4 1 21)  (σ : (Nat → Nat → Int32))  {K : Int32 → Prop} {o : Int32} (hf : f_X7_nameHere σ = some o) (hK : K o) (hR : ∀ o : Int32, K o → gRi x 0 0 (MW x.dA ad σ ++ tl) o) : gG x 4 0 0 (MW x.dA ad σ ++ tl) 0 [(0, .ref (ad 0))] [] := by
  unfold f_X7_nameHere at hf
  refine g_iconst (v := 0) hc dX7_nameHere_0 (by decide) ?_
  refine g_istore_n (lv' := [(1, .int 0), (0, .ref (ad 0))]) hc dX7_nameHere_1 rfl (by decide) rfl ?_
  exact g_lv [1, 0] rfl (w_X7_nameHere_b2 hc σ 0  (K := K) hf hK hR)
theorem c_X7_nameHere {l : Launch} {D : va_G} {dA : Nat → ClassId} {ad : Nat → Nat} {tl : va_W}  {σ : (Nat → Nat → Int32)}  {o : Int32} (hf : f_X7_nameHere σ = some o) : gI l D dA (MW dA ad σ ++ tl) (MW dA ad σ ++ tl) [.ref (ad 0)] o yX7_nameHere (ws_ yX7_nameHere cX7_nameHere 4 (some .int)) ({ frames := 1, cells := 0, slots := 0, locals := 21 } : Room) :=
  g_startI (own := RX7) ⟨rfl, rfl⟩ (by decide) rfl (Nat.le_of_ble_eq_true rfl) (fun x e hc hR => by
    subst e
    exact w_X7_nameHere hc σ  (K := fun o1 => o1 = o) hf rfl (by rintro _ rfl; exact hR))
theorem hd_X7_nameHere : yX7_nameHere.cls = RX7 ∧ yX7_nameHere.cls ≠ "java/lang/invoke/MethodHandle" ∧ yX7_nameHere.cls ≠ "java/lang/invoke/VarHandle" ∧ (parseMethodDescriptor yX7_nameHere.desc).map (fun d => d.parameters.length) = some 0 := by decide +kernel
/-! HedgehogLotsModel.step()V -/
def f_X7_step_b201 (σ : (Nat → Nat → Int32)) (k2 : Int32) : Option (((Nat → Nat → Int32)) ⊕ ((Nat → Nat → Int32))) :=
  oL (upd2 σ 0 13 k2) fun s1 => oL (upd2 s1 0 10 ((s1 0 10) + 1)) fun s3 => some (.inl s3)
theorem w_X7_step_b201 {x : gX} {ad : Nat → Nat} {tl : va_W}  (hc : gOk x RX7 cX7_step 2 1 25)  (σ : (Nat → Nat → Int32)) (k2 : Int32)  {K : ((Nat → Nat → Int32)) ⊕ ((Nat → Nat → Int32)) → Prop} {o : ((Nat → Nat → Int32)) ⊕ ((Nat → Nat → Int32))} (hf : f_X7_step_b201 σ k2 = some o) (hK : K o) (hI140 : ∀ v : (Nat → Nat → Int32), K (.inl v) → gG x 2 0 0 (MW x.dA ad v ++ tl) 140 [(0, .ref (ad 0))] []) (hR : ∀ o : (Nat → Nat → Int32), K (.inr (o)) → gRv x 0 0 (MW x.dA ad o ++ tl)) : gG x 2 0 0 (MW x.dA ad σ ++ tl) 201 [(0, .ref (ad 0))] [.int k2, .ref (ad 0)] := by
  unfold f_X7_step_b201 at hf
  obtain ⟨s1, e2, hf⟩ := oL_some hf
  refine g_put (v := .int k2) hc in_X7 tyX7_ok nmX7 (MW_at (k := 0) (by decide)) rfl 13 (by decide) q974 rfl rfl rfl (Nat.le_of_ble_eq_true rfl) (MW_set (μ1 := s1) (k := 0) (by decide) e2 rfl) dX7_step_201 ?_
  refine g_aload_n hc dX7_step_204 rfl 0 rfl ?_
  refine g_dup hc dX7_step_205 rfl ?_
  refine g_get (v := .int (s1 0 10)) hc in_X7 (MW_at (k := 0) (by decide)) rfl 10 (by decide) q971 rfl dX7_step_206 ?_
  refine g_iconst (v := 1) hc dX7_step_209 (by decide) ?_
  refine g_iadd hc dX7_step_210 ?_
  obtain ⟨s3, e4, hf⟩ := oL_some hf
  refine g_put (v := .int ((s1 0 10) + 1)) hc in_X7 tyX7_ok nmX7 (MW_at (k := 0) (by decide)) rfl 10 (by decide) q971 rfl rfl rfl (Nat.le_of_ble_eq_true rfl) (MW_set (μ1 := s3) (k := 0) (by decide) e4 rfl) dX7_step_211 ?_
  refine g_goto (tgt := 140) hc dX7_step_214 (by decide) ?_
  have hz := Option.some.inj hf; subst hz
  exact g_lv [0] rfl (hI140 _ hK)
def f_X7_step_L140 (σ : (Nat → Nat → Int32)) : Option (((Nat → Nat → Int32)) ⊕ ((Nat → Nat → Int32))) :=
  oB (f_X7_byteAt σ (σ 0 10)) fun r2 => oB (f_X7_in (Int32.toInt64 r2) 48 57) fun r4 => if r4 = 0 then (oI (oL (upd2 σ 0 12 2) fun s6 => if ((s6 0 10) - (s6 0 11)) ≤ 2 then (some s6) else (oB (f_X7_fails s6 1) fun r10 => some r10))) else (if 2 ≤ ((σ 0 10) - (σ 0 11)) then (f_X7_step_b201 σ (σ 0 13)) else (oB (f_X7_byteAt σ (σ 0 10)) fun r14 => f_X7_step_b201 σ (((10 * (σ 0 13)) + r14) - 48)))
theorem w_X7_step_L140 {x : gX} {ad : Nat → Nat} {tl : va_W}  (hc : gOk x RX7 cX7_step 2 1 25)  (σ : (Nat → Nat → Int32))  {K : ((Nat → Nat → Int32)) ⊕ ((Nat → Nat → Int32)) → Prop} {o : ((Nat → Nat → Int32)) ⊕ ((Nat → Nat → Int32))} (hf : f_X7_step_L140 σ = some o) (hK : K o) (hI140 : ∀ v : (Nat → Nat → Int32), K (.inl v) → gG x 2 0 0 (MW x.dA ad v ++ tl) 140 [(0, .ref (ad 0))] []) (hR : ∀ o : (Nat → Nat → Int32), K (.inr (o)) → gRv x 0 0 (MW x.dA ad o ++ tl)) : gG x 2 0 0 (MW x.dA ad σ ++ tl) 140 [(0, .ref (ad 0))] [] := by
  unfold f_X7_step_L140 at hf
  refine g_aload_n hc dX7_step_140 rfl 0 rfl ?_
  refine g_aload_n hc dX7_step_141 rfl 0 rfl ?_
  refine g_get (v := .int (σ 0 10)) hc in_X7 (MW_at (k := 0) (by decide)) rfl 10 (by decide) q971 rfl dX7_step_142 ?_
  obtain ⟨r2, h1, hf⟩ := oB_some hf
  refine g_callVi hc [.int (σ 0 10)] [] (c_X7_byteAt  h1) (MW_at (k := 0) (by decide)) rfl (lw_V q1070 q1072 qs33 q67 q1073) rfl hd_X7_byteAt rfl rfl (Nat.le_of_ble_eq_true rfl) gZ dX7_step_145 ?_
  refine g_i2l hc dX7_step_148 ?_
  refine g_ldc2 (v := 48) hc q1076 dX7_step_149 ?_
  refine g_ldc2 (v := 57) hc q1077 dX7_step_152 ?_
  obtain ⟨r4, h3, hf⟩ := oB_some hf
  refine g_callSi hc [.long (Int32.toInt64 r2), .long 48, .long 57] [] (c_X7_in  h3) (lw_S q1055 q1056 q67 q1057) rfl hd_X7_in rfl rfl (Nat.le_of_ble_eq_true rfl) gZ dX7_step_155 ?_
  refine g_if_eq (tgt := 217) hc dX7_step_158 (by decide) (fun h5 => ?_) (fun h5 => ?_)
  · have hf := oT h5 hf
    obtain ⟨o11, hgo11, eo11⟩ := oI_some hf
    clear hf; subst eo11; have hf := hgo11; clear hgo11
    refine g_aload_n hc dX7_step_217 rfl 0 rfl ?_
    refine g_iconst (v := 2) hc dX7_step_218 (by decide) ?_
    obtain ⟨s6, e7, hf⟩ := oL_some hf
    refine g_put (v := .int 2) hc in_X7 tyX7_ok nmX7 (MW_at (k := 0) (by decide)) rfl 12 (by decide) q973 rfl rfl rfl (Nat.le_of_ble_eq_true rfl) (MW_set (μ1 := s6) (k := 0) (by decide) e7 rfl) dX7_step_219 ?_
    refine g_aload_n hc dX7_step_222 rfl 0 rfl ?_
    refine g_get (v := .int (s6 0 10)) hc in_X7 (MW_at (k := 0) (by decide)) rfl 10 (by decide) q971 rfl dX7_step_223 ?_
    refine g_aload_n hc dX7_step_226 rfl 0 rfl ?_
    refine g_get (v := .int (s6 0 11)) hc in_X7 (MW_at (k := 0) (by decide)) rfl 11 (by decide) q972 rfl dX7_step_227 ?_
    refine g_isub hc dX7_step_230 ?_
    refine g_iconst (v := 2) hc dX7_step_231 (by decide) ?_
    refine g_icmp_le (tgt := 269) hc dX7_step_232 (by decide) (fun h8 => ?_) (fun h8 => ?_)
    · have hf := oT h8 hf
      have hz := Option.some.inj hf; subst hz
      exact g_vret hc (hR _ hK) dX7_step_269
    · have hf := oF h8 hf
      refine g_aload_n hc dX7_step_235 rfl 0 rfl ?_
      refine g_iconst (v := 1) hc dX7_step_236 (by decide) ?_
      obtain ⟨r10, h9, hf⟩ := oB_some hf
      refine g_callVv hc [.int 1] [] (c_X7_fails  h9) (MW_at (k := 0) (by decide)) rfl (lw_V q1078 q1080 qs34 q67 q1081) rfl hd_X7_fails rfl rfl (Nat.le_of_ble_eq_true rfl) gZ dX7_step_237 ?_
      refine g_goto (tgt := 269) hc dX7_step_240 (by decide) ?_
      have hz := Option.some.inj hf; subst hz
      exact g_vret hc (hR _ hK) dX7_step_269
  · have hf := oF h5 hf
    refine g_aload_n hc dX7_step_161 rfl 0 rfl ?_
    refine g_aload_n hc dX7_step_162 rfl 0 rfl ?_
    refine g_get (v := .int (σ 0 10)) hc in_X7 (MW_at (k := 0) (by decide)) rfl 10 (by decide) q971 rfl dX7_step_163 ?_
    refine g_aload_n hc dX7_step_166 rfl 0 rfl ?_
    refine g_get (v := .int (σ 0 11)) hc in_X7 (MW_at (k := 0) (by decide)) rfl 11 (by decide) q972 rfl dX7_step_167 ?_
    refine g_isub hc dX7_step_170 ?_
    refine g_iconst (v := 2) hc dX7_step_171 (by decide) ?_
    refine g_icmp_ge (tgt := 197) hc dX7_step_172 (by decide) (fun h12 => ?_) (fun h12 => ?_)
    · have hf := oT h12 hf
      refine g_aload_n hc dX7_step_197 rfl 0 rfl ?_
      refine g_get (v := .int (σ 0 13)) hc in_X7 (MW_at (k := 0) (by decide)) rfl 13 (by decide) q974 rfl dX7_step_198 ?_
      exact g_lv [0] rfl (w_X7_step_b201 hc σ (σ 0 13)  (K := K) hf hK hI140 hR)
    · have hf := oF h12 hf
      refine g_bipush (v := 10) hc dX7_step_175 (by decide) ?_
      refine g_aload_n hc dX7_step_177 rfl 0 rfl ?_
      refine g_get (v := .int (σ 0 13)) hc in_X7 (MW_at (k := 0) (by decide)) rfl 13 (by decide) q974 rfl dX7_step_178 ?_
      refine g_imul hc dX7_step_181 ?_
      refine g_aload_n hc dX7_step_182 rfl 0 rfl ?_
      refine g_aload_n hc dX7_step_183 rfl 0 rfl ?_
      refine g_get (v := .int (σ 0 10)) hc in_X7 (MW_at (k := 0) (by decide)) rfl 10 (by decide) q971 rfl dX7_step_184 ?_
      obtain ⟨r14, h13, hf⟩ := oB_some hf
      refine g_callVi hc [.int (σ 0 10)] [.int (10 * (σ 0 13)), .ref (ad 0)] (c_X7_byteAt  h13) (MW_at (k := 0) (by decide)) rfl (lw_V q1070 q1072 qs33 q67 q1073) rfl hd_X7_byteAt rfl rfl (Nat.le_of_ble_eq_true rfl) gZ dX7_step_187 ?_
      refine g_iadd hc dX7_step_190 ?_
      refine g_bipush (v := 48) hc dX7_step_191 (by decide) ?_
      refine g_isub hc dX7_step_193 ?_
      refine g_goto (tgt := 201) hc dX7_step_194 (by decide) ?_
      exact g_lv [0] rfl (w_X7_step_b201 hc σ (((10 * (σ 0 13)) + r14) - 48)  (K := K) hf hK hI140 hR)
def f_X7_step_b140 (σ : (Nat → Nat → Int32)) : Option ((Nat → Nat → Int32)) :=
  oLoop gFU (fun v : (Nat → Nat → Int32) => f_X7_step_L140 v) σ
theorem w_X7_step_b140 {x : gX} {ad : Nat → Nat} {tl : va_W}  (hc : gOk x RX7 cX7_step 2 1 25)  (σ : (Nat → Nat → Int32))  {K : (Nat → Nat → Int32) → Prop} {o : (Nat → Nat → Int32)} (hf : f_X7_step_b140 σ = some o) (hK : K o) (hR : ∀ o : (Nat → Nat → Int32), K o → gRv x 0 0 (MW x.dA ad o ++ tl)) : gG x 2 0 0 (MW x.dA ad σ ++ tl) 140 [(0, .ref (ad 0))] [] :=
  oLoop_ind (fun v : (Nat → Nat → Int32) => gG x 2 0 0 (MW x.dA ad v ++ tl) 140 [(0, .ref (ad 0))] []) K (fun v o1 hf1 hK1 => w_X7_step_L140 hc v  (K := Sum.elim (fun v : (Nat → Nat → Int32) => gG x 2 0 0 (MW x.dA ad v ++ tl) 140 [(0, .ref (ad 0))] []) K) hf1 hK1 (fun v hv => hv) hR) gFU _ o hf hK
def f_X7_step_L84 (σ : (Nat → Nat → Int32)) : Option (((Nat → Nat → Int32)) ⊕ ((Nat → Nat → Int32))) :=
  oB (f_X7_byteAt σ (σ 0 10)) fun r2 => oB (f_X7_in (Int32.toInt64 r2) 97 122) fun r4 => if r4 = 0 then (oI (oL (upd2 σ 0 12 1) fun s6 => some s6)) else (oL (upd2 σ 0 10 ((σ 0 10) + 1)) fun s9 => some (.inl s9))
theorem w_X7_step_L84 {x : gX} {ad : Nat → Nat} {tl : va_W}  (hc : gOk x RX7 cX7_step 2 1 25)  (σ : (Nat → Nat → Int32))  {K : ((Nat → Nat → Int32)) ⊕ ((Nat → Nat → Int32)) → Prop} {o : ((Nat → Nat → Int32)) ⊕ ((Nat → Nat → Int32))} (hf : f_X7_step_L84 σ = some o) (hK : K o) (hI84 : ∀ v : (Nat → Nat → Int32), K (.inl v) → gG x 2 0 0 (MW x.dA ad v ++ tl) 84 [(0, .ref (ad 0))] []) (hR : ∀ o : (Nat → Nat → Int32), K (.inr (o)) → gRv x 0 0 (MW x.dA ad o ++ tl)) : gG x 2 0 0 (MW x.dA ad σ ++ tl) 84 [(0, .ref (ad 0))] [] := by
  unfold f_X7_step_L84 at hf
  refine g_aload_n hc dX7_step_84 rfl 0 rfl ?_
  refine g_aload_n hc dX7_step_85 rfl 0 rfl ?_
  refine g_get (v := .int (σ 0 10)) hc in_X7 (MW_at (k := 0) (by decide)) rfl 10 (by decide) q971 rfl dX7_step_86 ?_
  obtain ⟨r2, h1, hf⟩ := oB_some hf
  refine g_callVi hc [.int (σ 0 10)] [] (c_X7_byteAt  h1) (MW_at (k := 0) (by decide)) rfl (lw_V q1070 q1072 qs33 q67 q1073) rfl hd_X7_byteAt rfl rfl (Nat.le_of_ble_eq_true rfl) gZ dX7_step_89 ?_
  refine g_i2l hc dX7_step_92 ?_
  refine g_ldc2 (v := 97) hc q1074 dX7_step_93 ?_
  refine g_ldc2 (v := 122) hc q1075 dX7_step_96 ?_
  obtain ⟨r4, h3, hf⟩ := oB_some hf
  refine g_callSi hc [.long (Int32.toInt64 r2), .long 97, .long 122] [] (c_X7_in  h3) (lw_S q1055 q1056 q67 q1057) rfl hd_X7_in rfl rfl (Nat.le_of_ble_eq_true rfl) gZ dX7_step_99 ?_
  refine g_if_eq (tgt := 118) hc dX7_step_102 (by decide) (fun h5 => ?_) (fun h5 => ?_)
  · have hf := oT h5 hf
    obtain ⟨o8, hgo8, eo8⟩ := oI_some hf
    clear hf; subst eo8; have hf := hgo8; clear hgo8
    refine g_aload_n hc dX7_step_118 rfl 0 rfl ?_
    refine g_iconst (v := 1) hc dX7_step_119 (by decide) ?_
    obtain ⟨s6, e7, hf⟩ := oL_some hf
    refine g_put (v := .int 1) hc in_X7 tyX7_ok nmX7 (MW_at (k := 0) (by decide)) rfl 12 (by decide) q973 rfl rfl rfl (Nat.le_of_ble_eq_true rfl) (MW_set (μ1 := s6) (k := 0) (by decide) e7 rfl) dX7_step_120 ?_
    refine g_goto (tgt := 269) hc dX7_step_123 (by decide) ?_
    have hz := Option.some.inj hf; subst hz
    exact g_vret hc (hR _ hK) dX7_step_269
  · have hf := oF h5 hf
    refine g_aload_n hc dX7_step_105 rfl 0 rfl ?_
    refine g_dup hc dX7_step_106 rfl ?_
    refine g_get (v := .int (σ 0 10)) hc in_X7 (MW_at (k := 0) (by decide)) rfl 10 (by decide) q971 rfl dX7_step_107 ?_
    refine g_iconst (v := 1) hc dX7_step_110 (by decide) ?_
    refine g_iadd hc dX7_step_111 ?_
    obtain ⟨s9, e10, hf⟩ := oL_some hf
    refine g_put (v := .int ((σ 0 10) + 1)) hc in_X7 tyX7_ok nmX7 (MW_at (k := 0) (by decide)) rfl 10 (by decide) q971 rfl rfl rfl (Nat.le_of_ble_eq_true rfl) (MW_set (μ1 := s9) (k := 0) (by decide) e10 rfl) dX7_step_112 ?_
    refine g_goto (tgt := 84) hc dX7_step_115 (by decide) ?_
    have hz := Option.some.inj hf; subst hz
    exact g_lv [0] rfl (hI84 _ hK)
def f_X7_step_b84 (σ : (Nat → Nat → Int32)) : Option ((Nat → Nat → Int32)) :=
  oLoop gFU (fun v : (Nat → Nat → Int32) => f_X7_step_L84 v) σ
theorem w_X7_step_b84 {x : gX} {ad : Nat → Nat} {tl : va_W}  (hc : gOk x RX7 cX7_step 2 1 25)  (σ : (Nat → Nat → Int32))  {K : (Nat → Nat → Int32) → Prop} {o : (Nat → Nat → Int32)} (hf : f_X7_step_b84 σ = some o) (hK : K o) (hR : ∀ o : (Nat → Nat → Int32), K o → gRv x 0 0 (MW x.dA ad o ++ tl)) : gG x 2 0 0 (MW x.dA ad σ ++ tl) 84 [(0, .ref (ad 0))] [] :=
  oLoop_ind (fun v : (Nat → Nat → Int32) => gG x 2 0 0 (MW x.dA ad v ++ tl) 84 [(0, .ref (ad 0))] []) K (fun v o1 hf1 hK1 => w_X7_step_L84 hc v  (K := Sum.elim (fun v : (Nat → Nat → Int32) => gG x 2 0 0 (MW x.dA ad v ++ tl) 84 [(0, .ref (ad 0))] []) K) hf1 hK1 (fun v hv => hv) hR) gFU _ o hf hK
def f_X7_step_L8 (σ : (Nat → Nat → Int32)) : Option (((Nat → Nat → Int32)) ⊕ ((Nat → Nat → Int32))) :=
  oB (f_X7_byteAt σ (σ 0 10)) fun r2 => if r2 = 32 then (oL (upd2 σ 0 10 ((σ 0 10) + 1)) fun s27 => some (.inl s27)) else (oI (oL (upd2 σ 0 11 (σ 0 10)) fun s4 => oB (f_X7_byteAt s4 (s4 0 10)) fun r7 => oL (upd2 s4 0 13 0) fun s8 => if r7 = (-4) then (oL (upd2 s8 0 12 0) fun s24 => some s24) else (oB (f_X7_in (Int32.toInt64 r7) 97 122) fun r12 => if r12 = 0 then (oB (f_X7_in (Int32.toInt64 r7) 48 57) fun r15 => if r15 = 0 then (oL (upd2 s8 0 12 3) fun s17 => oL (upd2 s17 0 10 ((s17 0 10) + 1)) fun s19 => if r7 = 59 then (some s19) else (oB (f_X7_fails s19 1) fun r23 => some r23)) else (f_X7_step_b140 s8)) else (f_X7_step_b84 s8))))
theorem w_X7_step_L8 {x : gX} {ad : Nat → Nat} {tl : va_W}  (hc : gOk x RX7 cX7_step 2 1 25)  (σ : (Nat → Nat → Int32))  {K : ((Nat → Nat → Int32)) ⊕ ((Nat → Nat → Int32)) → Prop} {o : ((Nat → Nat → Int32)) ⊕ ((Nat → Nat → Int32))} (hf : f_X7_step_L8 σ = some o) (hK : K o) (hI8 : ∀ v : (Nat → Nat → Int32), K (.inl v) → gG x 2 0 0 (MW x.dA ad v ++ tl) 8 [(0, .ref (ad 0))] []) (hR : ∀ o : (Nat → Nat → Int32), K (.inr (o)) → gRv x 0 0 (MW x.dA ad o ++ tl)) : gG x 2 0 0 (MW x.dA ad σ ++ tl) 8 [(0, .ref (ad 0))] [] := by
  unfold f_X7_step_L8 at hf
  refine g_aload_n hc dX7_step_8 rfl 0 rfl ?_
  refine g_aload_n hc dX7_step_9 rfl 0 rfl ?_
  refine g_get (v := .int (σ 0 10)) hc in_X7 (MW_at (k := 0) (by decide)) rfl 10 (by decide) q971 rfl dX7_step_10 ?_
  obtain ⟨r2, h1, hf⟩ := oB_some hf
  refine g_callVi hc [.int (σ 0 10)] [] (c_X7_byteAt  h1) (MW_at (k := 0) (by decide)) rfl (lw_V q1070 q1072 qs33 q67 q1073) rfl hd_X7_byteAt rfl rfl (Nat.le_of_ble_eq_true rfl) gZ dX7_step_13 ?_
  refine g_bipush (v := 32) hc dX7_step_16 (by decide) ?_
  refine g_icmp_ne (tgt := 34) hc dX7_step_18 (by decide) (fun h3 => ?_) (fun h3 => ?_)
  · have hf := oF h3 hf
    obtain ⟨o26, hgo26, eo26⟩ := oI_some hf
    clear hf; subst eo26; have hf := hgo26; clear hgo26
    refine g_aload_n hc dX7_step_34 rfl 0 rfl ?_
    refine g_aload_n hc dX7_step_35 rfl 0 rfl ?_
    refine g_get (v := .int (σ 0 10)) hc in_X7 (MW_at (k := 0) (by decide)) rfl 10 (by decide) q971 rfl dX7_step_36 ?_
    obtain ⟨s4, e5, hf⟩ := oL_some hf
    refine g_put (v := .int (σ 0 10)) hc in_X7 tyX7_ok nmX7 (MW_at (k := 0) (by decide)) rfl 11 (by decide) q972 rfl rfl rfl (Nat.le_of_ble_eq_true rfl) (MW_set (μ1 := s4) (k := 0) (by decide) e5 rfl) dX7_step_39 ?_
    refine g_aload_n hc dX7_step_42 rfl 0 rfl ?_
    refine g_aload_n hc dX7_step_43 rfl 0 rfl ?_
    refine g_get (v := .int (s4 0 10)) hc in_X7 (MW_at (k := 0) (by decide)) rfl 10 (by decide) q971 rfl dX7_step_44 ?_
    obtain ⟨r7, h6, hf⟩ := oB_some hf
    refine g_callVi hc [.int (s4 0 10)] [] (c_X7_byteAt  h6) (MW_at (k := 0) (by decide)) rfl (lw_V q1070 q1072 qs33 q67 q1073) rfl hd_X7_byteAt rfl rfl (Nat.le_of_ble_eq_true rfl) gZ dX7_step_47 ?_
    refine g_istore_n (lv' := [(1, .int r7), (0, .ref (ad 0))]) hc dX7_step_50 rfl (by decide) rfl ?_
    refine g_aload_n hc dX7_step_51 rfl 1 rfl ?_
    refine g_iconst (v := 0) hc dX7_step_52 (by decide) ?_
    obtain ⟨s8, e9, hf⟩ := oL_some hf
    refine g_put (v := .int 0) hc in_X7 tyX7_ok nmX7 (MW_at (k := 0) (by decide)) rfl 13 (by decide) q974 rfl rfl rfl (Nat.le_of_ble_eq_true rfl) (MW_set (μ1 := s8) (k := 0) (by decide) e9 rfl) dX7_step_53 ?_
    refine g_iload_n hc dX7_step_56 rfl 0 rfl ?_
    refine g_bipush (v := (-4)) hc dX7_step_57 (by decide) ?_
    refine g_icmp_ne (tgt := 70) hc dX7_step_59 (by decide) (fun h10 => ?_) (fun h10 => ?_)
    · have hf := oF h10 hf
      refine g_iload_n hc dX7_step_70 rfl 0 rfl ?_
      refine g_i2l hc dX7_step_71 ?_
      refine g_ldc2 (v := 97) hc q1074 dX7_step_72 ?_
      refine g_ldc2 (v := 122) hc q1075 dX7_step_75 ?_
      obtain ⟨r12, h11, hf⟩ := oB_some hf
      refine g_callSi hc [.long (Int32.toInt64 r7), .long 97, .long 122] [] (c_X7_in  h11) (lw_S q1055 q1056 q67 q1057) rfl hd_X7_in rfl rfl (Nat.le_of_ble_eq_true rfl) gZ dX7_step_78 ?_
      refine g_if_eq (tgt := 126) hc dX7_step_81 (by decide) (fun h13 => ?_) (fun h13 => ?_)
      · have hf := oT h13 hf
        refine g_iload_n hc dX7_step_126 rfl 0 rfl ?_
        refine g_i2l hc dX7_step_127 ?_
        refine g_ldc2 (v := 48) hc q1076 dX7_step_128 ?_
        refine g_ldc2 (v := 57) hc q1077 dX7_step_131 ?_
        obtain ⟨r15, h14, hf⟩ := oB_some hf
        refine g_callSi hc [.long (Int32.toInt64 r7), .long 48, .long 57] [] (c_X7_in  h14) (lw_S q1055 q1056 q67 q1057) rfl hd_X7_in rfl rfl (Nat.le_of_ble_eq_true rfl) gZ dX7_step_134 ?_
        refine g_if_eq (tgt := 243) hc dX7_step_137 (by decide) (fun h16 => ?_) (fun h16 => ?_)
        · have hf := oT h16 hf
          refine g_aload_n hc dX7_step_243 rfl 1 rfl ?_
          refine g_iconst (v := 3) hc dX7_step_244 (by decide) ?_
          obtain ⟨s17, e18, hf⟩ := oL_some hf
          refine g_put (v := .int 3) hc in_X7 tyX7_ok nmX7 (MW_at (k := 0) (by decide)) rfl 12 (by decide) q973 rfl rfl rfl (Nat.le_of_ble_eq_true rfl) (MW_set (μ1 := s17) (k := 0) (by decide) e18 rfl) dX7_step_245 ?_
          refine g_aload_n hc dX7_step_248 rfl 1 rfl ?_
          refine g_dup hc dX7_step_249 rfl ?_
          refine g_get (v := .int (s17 0 10)) hc in_X7 (MW_at (k := 0) (by decide)) rfl 10 (by decide) q971 rfl dX7_step_250 ?_
          refine g_iconst (v := 1) hc dX7_step_253 (by decide) ?_
          refine g_iadd hc dX7_step_254 ?_
          obtain ⟨s19, e20, hf⟩ := oL_some hf
          refine g_put (v := .int ((s17 0 10) + 1)) hc in_X7 tyX7_ok nmX7 (MW_at (k := 0) (by decide)) rfl 10 (by decide) q971 rfl rfl rfl (Nat.le_of_ble_eq_true rfl) (MW_set (μ1 := s19) (k := 0) (by decide) e20 rfl) dX7_step_255 ?_
          refine g_iload_n hc dX7_step_258 rfl 0 rfl ?_
          refine g_bipush (v := 59) hc dX7_step_259 (by decide) ?_
          refine g_icmp_eq (tgt := 269) hc dX7_step_261 (by decide) (fun h21 => ?_) (fun h21 => ?_)
          · have hf := oT h21 hf
            have hz := Option.some.inj hf; subst hz
            exact g_vret hc (hR _ hK) dX7_step_269
          · have hf := oF h21 hf
            refine g_aload_n hc dX7_step_264 rfl 1 rfl ?_
            refine g_iconst (v := 1) hc dX7_step_265 (by decide) ?_
            obtain ⟨r23, h22, hf⟩ := oB_some hf
            refine g_callVv hc [.int 1] [] (c_X7_fails  h22) (MW_at (k := 0) (by decide)) rfl (lw_V q1078 q1080 qs34 q67 q1081) rfl hd_X7_fails rfl rfl (Nat.le_of_ble_eq_true rfl) gZ dX7_step_266 ?_
            have hz := Option.some.inj hf; subst hz
            exact g_vret hc (hR _ hK) dX7_step_269
        · have hf := oF h16 hf
          exact g_lv [1] rfl (w_X7_step_b140 hc s8  (K := (fun o1 => K (.inr o1))) hf hK hR)
      · have hf := oF h13 hf
        exact g_lv [1] rfl (w_X7_step_b84 hc s8  (K := (fun o1 => K (.inr o1))) hf hK hR)
    · have hf := oT h10 hf
      refine g_aload_n hc dX7_step_62 rfl 1 rfl ?_
      refine g_iconst (v := 0) hc dX7_step_63 (by decide) ?_
      obtain ⟨s24, e25, hf⟩ := oL_some hf
      refine g_put (v := .int 0) hc in_X7 tyX7_ok nmX7 (MW_at (k := 0) (by decide)) rfl 12 (by decide) q973 rfl rfl rfl (Nat.le_of_ble_eq_true rfl) (MW_set (μ1 := s24) (k := 0) (by decide) e25 rfl) dX7_step_64 ?_
      refine g_goto (tgt := 269) hc dX7_step_67 (by decide) ?_
      have hz := Option.some.inj hf; subst hz
      exact g_vret hc (hR _ hK) dX7_step_269
  · have hf := oT h3 hf
    refine g_aload_n hc dX7_step_21 rfl 0 rfl ?_
    refine g_dup hc dX7_step_22 rfl ?_
    refine g_get (v := .int (σ 0 10)) hc in_X7 (MW_at (k := 0) (by decide)) rfl 10 (by decide) q971 rfl dX7_step_23 ?_
    refine g_iconst (v := 1) hc dX7_step_26 (by decide) ?_
    refine g_iadd hc dX7_step_27 ?_
    obtain ⟨s27, e28, hf⟩ := oL_some hf
    refine g_put (v := .int ((σ 0 10) + 1)) hc in_X7 tyX7_ok nmX7 (MW_at (k := 0) (by decide)) rfl 10 (by decide) q971 rfl rfl rfl (Nat.le_of_ble_eq_true rfl) (MW_set (μ1 := s27) (k := 0) (by decide) e28 rfl) dX7_step_28 ?_
    refine g_goto (tgt := 8) hc dX7_step_31 (by decide) ?_
    have hz := Option.some.inj hf; subst hz
    exact g_lv [0] rfl (hI8 _ hK)
def f_X7_step_b8 (σ : (Nat → Nat → Int32)) : Option ((Nat → Nat → Int32)) :=
  oLoop gFU (fun v : (Nat → Nat → Int32) => f_X7_step_L8 v) σ
theorem w_X7_step_b8 {x : gX} {ad : Nat → Nat} {tl : va_W}  (hc : gOk x RX7 cX7_step 2 1 25)  (σ : (Nat → Nat → Int32))  {K : (Nat → Nat → Int32) → Prop} {o : (Nat → Nat → Int32)} (hf : f_X7_step_b8 σ = some o) (hK : K o) (hR : ∀ o : (Nat → Nat → Int32), K o → gRv x 0 0 (MW x.dA ad o ++ tl)) : gG x 2 0 0 (MW x.dA ad σ ++ tl) 8 [(0, .ref (ad 0))] [] :=
  oLoop_ind (fun v : (Nat → Nat → Int32) => gG x 2 0 0 (MW x.dA ad v ++ tl) 8 [(0, .ref (ad 0))] []) K (fun v o1 hf1 hK1 => w_X7_step_L8 hc v  (K := Sum.elim (fun v : (Nat → Nat → Int32) => gG x 2 0 0 (MW x.dA ad v ++ tl) 8 [(0, .ref (ad 0))] []) K) hf1 hK1 (fun v hv => hv) hR) gFU _ o hf hK
def f_X7_step (σ : (Nat → Nat → Int32)) : Option ((Nat → Nat → Int32)) :=
  if (σ 0 8) ≤ 0 then (f_X7_step_b8 σ) else (some σ)
theorem w_X7_step {x : gX} {ad : Nat → Nat} {tl : va_W}  (hc : gOk x RX7 cX7_step 2 1 25)  (σ : (Nat → Nat → Int32))  {K : (Nat → Nat → Int32) → Prop} {o : (Nat → Nat → Int32)} (hf : f_X7_step σ = some o) (hK : K o) (hR : ∀ o : (Nat → Nat → Int32), K o → gRv x 0 0 (MW x.dA ad o ++ tl)) : gG x 2 0 0 (MW x.dA ad σ ++ tl) 0 [(0, .ref (ad 0))] [] := by
  unfold f_X7_step at hf
  refine g_aload_n hc dX7_step_0 rfl 0 rfl ?_
  refine g_get (v := .int (σ 0 8)) hc in_X7 (MW_at (k := 0) (by decide)) rfl 8 (by decide) q969 rfl dX7_step_1 ?_
  refine g_if_le (tgt := 8) hc dX7_step_4 (by decide) (fun h1 => ?_) (fun h1 => ?_)
  · have hf := oT h1 hf
    exact g_lv [0] rfl (w_X7_step_b8 hc σ  (K := K) hf hK hR)
  · have hf := oF h1 hf
    have hz := Option.some.inj hf; subst hz
    exact g_vret hc (hR _ hK) dX7_step_7
theorem c_X7_step {l : Launch} {D : va_G} {dA : Nat → ClassId} {ad : Nat → Nat} {tl : va_W}  {σ : (Nat → Nat → Int32)}  {o : (Nat → Nat → Int32)} (hf : f_X7_step σ = some o) : gV l D dA (MW dA ad σ ++ tl) (MW dA ad o ++ tl) [.ref (ad 0)] yX7_step (ws_ yX7_step cX7_step 2 none) ({ frames := 1, cells := 0, slots := 0, locals := 25 } : Room) :=
  g_startV (own := RX7) ⟨rfl, rfl⟩ (by decide) rfl (Nat.le_of_ble_eq_true rfl) (fun x e hc hR => by
    subst e
    exact w_X7_step hc σ  (K := fun o1 => o1 = o) hf rfl (by rintro _ rfl; exact hR))
theorem hd_X7_step : yX7_step.cls = RX7 ∧ yX7_step.cls ≠ "java/lang/invoke/MethodHandle" ∧ yX7_step.cls ≠ "java/lang/invoke/VarHandle" ∧ (parseMethodDescriptor yX7_step.desc).map (fun d => d.parameters.length) = some 0 := by decide +kernel
/-! HedgehogLotsModel.number(II)I -/
def f_X7_number_b62 (σ : (Nat → Nat → Int32)) (k1 : Int32) : Option (Int32 × (Nat → Nat → Int32)) :=
  oB (f_X7_step σ) fun r2 => some (k1, r2)
theorem w_X7_number_b62 {x : gX} {ad : Nat → Nat} {tl : va_W}  (hc : gOk x RX7 cX7_number 4 2 46)  (σ : (Nat → Nat → Int32)) (k1 : Int32)  {K : Int32 × (Nat → Nat → Int32) → Prop} {o : Int32 × (Nat → Nat → Int32)} (hf : f_X7_number_b62 σ k1 = some o) (hK : K o) (hR : ∀ o : Int32 × (Nat → Nat → Int32), K o → gRi x 0 0 (MW x.dA ad o.2 ++ tl) o.1) : gG x 4 0 0 (MW x.dA ad σ ++ tl) 62 [(0, .ref (ad 0))] [.int k1] := by
  unfold f_X7_number_b62 at hf
  refine g_istore_n (lv' := [(3, .int k1), (0, .ref (ad 0))]) hc dX7_number_62 rfl (by decide) rfl ?_
  refine g_aload_n hc dX7_number_63 rfl 1 rfl ?_
  obtain ⟨r2, h1, hf⟩ := oB_some hf
  refine g_callVv hc [] [] (c_X7_step  h1) (MW_at (k := 0) (by decide)) rfl (lw_V q1066 q1068 qs32 q67 q1069) rfl hd_X7_step rfl rfl (Nat.le_of_ble_eq_true rfl) gZ dX7_number_64 ?_
  refine g_iload_n hc dX7_number_67 rfl 0 rfl ?_
  have hz := Option.some.inj hf; subst hz
  exact g_iret hc (hR _ hK) dX7_number_68
def f_X7_number_b47 (σ : (Nat → Nat → Int32)) (l1 : Int32) : Option (Int32 × (Nat → Nat → Int32)) :=
  if (σ 0 8) = 0 then (f_X7_number_b62 σ (σ 0 13)) else (f_X7_number_b62 σ l1)
theorem w_X7_number_b47 {x : gX} {ad : Nat → Nat} {tl : va_W}  (hc : gOk x RX7 cX7_number 4 2 46)  (σ : (Nat → Nat → Int32)) (l1 : Int32)  {K : Int32 × (Nat → Nat → Int32) → Prop} {o : Int32 × (Nat → Nat → Int32)} (hf : f_X7_number_b47 σ l1 = some o) (hK : K o) (hR : ∀ o : Int32 × (Nat → Nat → Int32), K o → gRi x 0 0 (MW x.dA ad o.2 ++ tl) o.1) : gG x 4 0 0 (MW x.dA ad σ ++ tl) 47 [(0, .ref (ad 0)), (1, .int l1)] [] := by
  unfold f_X7_number_b47 at hf
  refine g_aload_n hc dX7_number_47 rfl 0 rfl ?_
  refine g_get (v := .int (σ 0 8)) hc in_X7 (MW_at (k := 0) (by decide)) rfl 8 (by decide) q969 rfl dX7_number_48 ?_
  refine g_if_ne (tgt := 61) hc dX7_number_51 (by decide) (fun h1 => ?_) (fun h1 => ?_)
  · have hf := oF h1 hf
    refine g_iload_n hc dX7_number_61 rfl 1 rfl ?_
    exact g_lv [0] rfl (w_X7_number_b62 hc σ l1  (K := K) hf hK hR)
  · have hf := oT h1 hf
    refine g_aload_n hc dX7_number_54 rfl 0 rfl ?_
    refine g_get (v := .int (σ 0 13)) hc in_X7 (MW_at (k := 0) (by decide)) rfl 13 (by decide) q974 rfl dX7_number_55 ?_
    refine g_goto (tgt := 62) hc dX7_number_58 (by decide) ?_
    exact g_lv [0] rfl (w_X7_number_b62 hc σ (σ 0 13)  (K := K) hf hK hR)
def f_X7_number_b20 (σ : (Nat → Nat → Int32)) (l1 : Int32) (l2 : Int32) : Option (Int32 × (Nat → Nat → Int32)) :=
  if (σ 0 8) = 0 then (oB (f_X7_in (Int32.toInt64 (σ 0 13)) (Int32.toInt64 l1) (Int32.toInt64 l2)) fun r3 => if r3 = 0 then (oB (f_X7_fails σ 3) fun r6 => f_X7_number_b47 r6 l1) else (f_X7_number_b47 σ l1)) else (f_X7_number_b47 σ l1)
theorem w_X7_number_b20 {x : gX} {ad : Nat → Nat} {tl : va_W}  (hc : gOk x RX7 cX7_number 4 2 46)  (σ : (Nat → Nat → Int32)) (l1 : Int32) (l2 : Int32)  {K : Int32 × (Nat → Nat → Int32) → Prop} {o : Int32 × (Nat → Nat → Int32)} (hf : f_X7_number_b20 σ l1 l2 = some o) (hK : K o) (hR : ∀ o : Int32 × (Nat → Nat → Int32), K o → gRi x 0 0 (MW x.dA ad o.2 ++ tl) o.1) : gG x 4 0 0 (MW x.dA ad σ ++ tl) 20 [(0, .ref (ad 0)), (1, .int l1), (2, .int l2)] [] := by
  unfold f_X7_number_b20 at hf
  refine g_aload_n hc dX7_number_20 rfl 0 rfl ?_
  refine g_get (v := .int (σ 0 8)) hc in_X7 (MW_at (k := 0) (by decide)) rfl 8 (by decide) q969 rfl dX7_number_21 ?_
  refine g_if_ne (tgt := 47) hc dX7_number_24 (by decide) (fun h1 => ?_) (fun h1 => ?_)
  · have hf := oF h1 hf
    exact g_lv [0, 1] rfl (w_X7_number_b47 hc σ l1  (K := K) hf hK hR)
  · have hf := oT h1 hf
    refine g_aload_n hc dX7_number_27 rfl 0 rfl ?_
    refine g_get (v := .int (σ 0 13)) hc in_X7 (MW_at (k := 0) (by decide)) rfl 13 (by decide) q974 rfl dX7_number_28 ?_
    refine g_i2l hc dX7_number_31 ?_
    refine g_iload_n hc dX7_number_32 rfl 1 rfl ?_
    refine g_i2l hc dX7_number_33 ?_
    refine g_iload_n hc dX7_number_34 rfl 2 rfl ?_
    refine g_i2l hc dX7_number_35 ?_
    obtain ⟨r3, h2, hf⟩ := oB_some hf
    refine g_callSi hc [.long (Int32.toInt64 (σ 0 13)), .long (Int32.toInt64 l1), .long (Int32.toInt64 l2)] [] (c_X7_in  h2) (lw_S q1055 q1056 q67 q1057) rfl hd_X7_in rfl rfl (Nat.le_of_ble_eq_true rfl) gZ dX7_number_36 ?_
    refine g_if_ne (tgt := 47) hc dX7_number_39 (by decide) (fun h4 => ?_) (fun h4 => ?_)
    · have hf := oF h4 hf
      exact g_lv [0, 1] rfl (w_X7_number_b47 hc σ l1  (K := K) hf hK hR)
    · have hf := oT h4 hf
      refine g_aload_n hc dX7_number_42 rfl 0 rfl ?_
      refine g_iconst (v := 3) hc dX7_number_43 (by decide) ?_
      obtain ⟨r6, h5, hf⟩ := oB_some hf
      refine g_callVv hc [.int 3] [] (c_X7_fails  h5) (MW_at (k := 0) (by decide)) rfl (lw_V q1078 q1080 qs34 q67 q1081) rfl hd_X7_fails rfl rfl (Nat.le_of_ble_eq_true rfl) gZ dX7_number_44 ?_
      exact g_lv [0, 1] rfl (w_X7_number_b47 hc r6 l1  (K := K) hf hK hR)
def f_X7_number (σ : (Nat → Nat → Int32)) (l1 : Int32) (l2 : Int32) : Option (Int32 × (Nat → Nat → Int32)) :=
  if (σ 0 8) = 0 then (if (σ 0 12) = 2 then (f_X7_number_b20 σ l1 l2) else (oB (f_X7_fails σ 2) fun r4 => f_X7_number_b20 r4 l1 l2)) else (f_X7_number_b20 σ l1 l2)
theorem w_X7_number {x : gX} {ad : Nat → Nat} {tl : va_W}  (hc : gOk x RX7 cX7_number 4 2 46)  (σ : (Nat → Nat → Int32)) (l1 : Int32) (l2 : Int32)  {K : Int32 × (Nat → Nat → Int32) → Prop} {o : Int32 × (Nat → Nat → Int32)} (hf : f_X7_number σ l1 l2 = some o) (hK : K o) (hR : ∀ o : Int32 × (Nat → Nat → Int32), K o → gRi x 0 0 (MW x.dA ad o.2 ++ tl) o.1) : gG x 4 0 0 (MW x.dA ad σ ++ tl) 0 [(0, .ref (ad 0)), (1, .int l1), (2, .int l2)] [] := by
  unfold f_X7_number at hf
  refine g_aload_n hc dX7_number_0 rfl 0 rfl ?_
  refine g_get (v := .int (σ 0 8)) hc in_X7 (MW_at (k := 0) (by decide)) rfl 8 (by decide) q969 rfl dX7_number_1 ?_
  refine g_if_ne (tgt := 20) hc dX7_number_4 (by decide) (fun h1 => ?_) (fun h1 => ?_)
  · have hf := oF h1 hf
    exact g_lv [0, 1, 2] rfl (w_X7_number_b20 hc σ l1 l2  (K := K) hf hK hR)
  · have hf := oT h1 hf
    refine g_aload_n hc dX7_number_7 rfl 0 rfl ?_
    refine g_get (v := .int (σ 0 12)) hc in_X7 (MW_at (k := 0) (by decide)) rfl 12 (by decide) q973 rfl dX7_number_8 ?_
    refine g_iconst (v := 2) hc dX7_number_11 (by decide) ?_
    refine g_icmp_eq (tgt := 20) hc dX7_number_12 (by decide) (fun h2 => ?_) (fun h2 => ?_)
    · have hf := oT h2 hf
      exact g_lv [0, 1, 2] rfl (w_X7_number_b20 hc σ l1 l2  (K := K) hf hK hR)
    · have hf := oF h2 hf
      refine g_aload_n hc dX7_number_15 rfl 0 rfl ?_
      refine g_iconst (v := 2) hc dX7_number_16 (by decide) ?_
      obtain ⟨r4, h3, hf⟩ := oB_some hf
      refine g_callVv hc [.int 2] [] (c_X7_fails  h3) (MW_at (k := 0) (by decide)) rfl (lw_V q1078 q1080 qs34 q67 q1081) rfl hd_X7_fails rfl rfl (Nat.le_of_ble_eq_true rfl) gZ dX7_number_17 ?_
      exact g_lv [0, 1, 2] rfl (w_X7_number_b20 hc r4 l1 l2  (K := K) hf hK hR)
theorem c_X7_number {l : Launch} {D : va_G} {dA : Nat → ClassId} {ad : Nat → Nat} {tl : va_W}  {σ : (Nat → Nat → Int32)} {l1 : Int32} {l2 : Int32}  {o : Int32 × (Nat → Nat → Int32)} (hf : f_X7_number σ l1 l2 = some o) : gI l D dA (MW dA ad σ ++ tl) (MW dA ad o.2 ++ tl) [.ref (ad 0), .int l1, .int l2] o.1 yX7_number (ws_ yX7_number cX7_number 4 (some .int)) ({ frames := 2, cells := 0, slots := 0, locals := 46 } : Room) :=
  g_startI (own := RX7) ⟨rfl, rfl⟩ (by decide) rfl (Nat.le_of_ble_eq_true rfl) (fun x e hc hR => by
    subst e
    exact w_X7_number hc σ l1 l2  (K := fun o1 => o1 = o) hf rfl (by rintro _ rfl; exact hR))
theorem hd_X7_number : yX7_number.cls = RX7 ∧ yX7_number.cls ≠ "java/lang/invoke/MethodHandle" ∧ yX7_number.cls ≠ "java/lang/invoke/VarHandle" ∧ (parseMethodDescriptor yX7_number.desc).map (fun d => d.parameters.length) = some 2 := by decide +kernel
/-! HedgehogLotsModel.isReadCell(I)Z -/
def f_X7_isReadCell_b76 (σ : (Nat → Nat → Int32)) (l1 : Int32) (l3 : Int32) (k1 : Int32) : Option ((Int32 × Int32) ⊕ (Int32)) :=
  some (.inl (k1, (l3 + 1)))
theorem w_X7_isReadCell_b76 {x : gX} {ad : Nat → Nat} {tl : va_W}  (hc : gOk x RX7 cX7_isReadCell 4 0 0)  (σ : (Nat → Nat → Int32)) (l1 : Int32) (l3 : Int32) (k1 : Int32)  {K : (Int32 × Int32) ⊕ (Int32) → Prop} {o : (Int32 × Int32) ⊕ (Int32)} (hf : f_X7_isReadCell_b76 σ l1 l3 k1 = some o) (hK : K o) (hI43 : ∀ v : Int32 × Int32, K (.inl v) → gG x 4 0 0 (MW x.dA ad σ ++ tl) 43 [(0, .ref (ad 0)), (1, .int l1), (2, .int v.1), (3, .int v.2)] []) (hR : ∀ o : Int32, K (.inr (o)) → gRz x 0 0 (MW x.dA ad σ ++ tl) o) : gG x 4 0 0 (MW x.dA ad σ ++ tl) 76 [(0, .ref (ad 0)), (1, .int l1), (3, .int l3)] [.int k1] := by
  unfold f_X7_isReadCell_b76 at hf
  refine g_istore_n (lv' := [(2, .int k1), (0, .ref (ad 0)), (1, .int l1), (3, .int l3)]) hc dX7_isReadCell_76 rfl (by decide) rfl ?_
  refine g_iinc (v := l3 + 1) (lv' := [(3, .int (l3 + 1)), (2, .int k1), (0, .ref (ad 0)), (1, .int l1)]) hc dX7_isReadCell_77 (j := 3) rfl rfl (by decide) rfl ?_
  refine g_goto (tgt := 43) hc dX7_isReadCell_80 (by decide) ?_
  have hz := Option.some.inj hf; subst hz
  exact g_lv [2, 3, 1, 0] rfl (hI43 _ hK)
def f_X7_isReadCell_b71 (σ : (Nat → Nat → Int32)) (l1 : Int32) (l3 : Int32) : Option ((Int32 × Int32) ⊕ (Int32)) :=
  f_X7_isReadCell_b76 σ l1 l3 1
theorem w_X7_isReadCell_b71 {x : gX} {ad : Nat → Nat} {tl : va_W}  (hc : gOk x RX7 cX7_isReadCell 4 0 0)  (σ : (Nat → Nat → Int32)) (l1 : Int32) (l3 : Int32)  {K : (Int32 × Int32) ⊕ (Int32) → Prop} {o : (Int32 × Int32) ⊕ (Int32)} (hf : f_X7_isReadCell_b71 σ l1 l3 = some o) (hK : K o) (hI43 : ∀ v : Int32 × Int32, K (.inl v) → gG x 4 0 0 (MW x.dA ad σ ++ tl) 43 [(0, .ref (ad 0)), (1, .int l1), (2, .int v.1), (3, .int v.2)] []) (hR : ∀ o : Int32, K (.inr (o)) → gRz x 0 0 (MW x.dA ad σ ++ tl) o) : gG x 4 0 0 (MW x.dA ad σ ++ tl) 71 [(0, .ref (ad 0)), (1, .int l1), (3, .int l3)] [] := by
  unfold f_X7_isReadCell_b71 at hf
  refine g_iconst (v := 1) hc dX7_isReadCell_71 (by decide) ?_
  refine g_goto (tgt := 76) hc dX7_isReadCell_72 (by decide) ?_
  exact g_lv [0, 1, 2] rfl (w_X7_isReadCell_b76 hc σ l1 l3 1  (K := K) hf hK hI43 hR)
def f_X7_isReadCell_L43 (σ : (Nat → Nat → Int32)) (l1 : Int32) (l2 : Int32) (l3 : Int32) : Option ((Int32 × Int32) ⊕ (Int32)) :=
  oC (inb 39 41) <| if (σ 2 (Int32.toNatClampNeg 39)) ≤ l3 then (oI (oC (isB l2) <| some l2)) else (if l2 = 0 then (oC (inb (14 + l3) 41) <| if (σ 2 (14 + l3).toNatClampNeg) = l1 then (f_X7_isReadCell_b71 σ l1 l3) else (f_X7_isReadCell_b76 σ l1 l3 0)) else (f_X7_isReadCell_b71 σ l1 l3))
theorem w_X7_isReadCell_L43 {x : gX} {ad : Nat → Nat} {tl : va_W}  (hc : gOk x RX7 cX7_isReadCell 4 0 0)  (σ : (Nat → Nat → Int32)) (l1 : Int32) (l2 : Int32) (l3 : Int32)  {K : (Int32 × Int32) ⊕ (Int32) → Prop} {o : (Int32 × Int32) ⊕ (Int32)} (hf : f_X7_isReadCell_L43 σ l1 l2 l3 = some o) (hK : K o) (hI43 : ∀ v : Int32 × Int32, K (.inl v) → gG x 4 0 0 (MW x.dA ad σ ++ tl) 43 [(0, .ref (ad 0)), (1, .int l1), (2, .int v.1), (3, .int v.2)] []) (hR : ∀ o : Int32, K (.inr (o)) → gRz x 0 0 (MW x.dA ad σ ++ tl) o) : gG x 4 0 0 (MW x.dA ad σ ++ tl) 43 [(0, .ref (ad 0)), (1, .int l1), (2, .int l2), (3, .int l3)] [] := by
  unfold f_X7_isReadCell_L43 at hf
  refine g_iload_n hc dX7_isReadCell_43 rfl 3 rfl ?_
  refine g_aload_n hc dX7_isReadCell_44 rfl 0 rfl ?_
  refine g_get (v := .ref (ad 2)) hc in_X7 (MW_at (k := 0) (by decide)) rfl 2 (by decide) q963 rfl dX7_isReadCell_45 ?_
  refine g_bipush (v := 39) hc dX7_isReadCell_48 (by decide) ?_
  obtain ⟨h1, hf⟩ := oC_some hf
  refine g_iald (n := 41) (f := σ 2) hc (MW_at (k := 2) (by decide)) h1 dX7_isReadCell_50 ?_
  refine g_icmp_ge (tgt := 83) hc dX7_isReadCell_51 (by decide) (fun h2 => ?_) (fun h2 => ?_)
  · have hf := oT h2 hf
    obtain ⟨o4, hgo4, eo4⟩ := oI_some hf
    clear hf; subst eo4; have hf := hgo4; clear hgo4
    refine g_iload_n hc dX7_isReadCell_83 rfl 2 rfl ?_
    obtain ⟨h3, hf⟩ := oC_some hf
    have hz := Option.some.inj hf; subst hz
    exact g_zret hc (hR _ hK) (isB_nar h3) dX7_isReadCell_84
  · have hf := oF h2 hf
    refine g_iload_n hc dX7_isReadCell_54 rfl 2 rfl ?_
    refine g_if_ne (tgt := 71) hc dX7_isReadCell_55 (by decide) (fun h5 => ?_) (fun h5 => ?_)
    · have hf := oF h5 hf
      exact g_lv [0, 1, 3] rfl (w_X7_isReadCell_b71 hc σ l1 l3  (K := K) hf hK hI43 hR)
    · have hf := oT h5 hf
      refine g_aload_n hc dX7_isReadCell_58 rfl 0 rfl ?_
      refine g_get (v := .ref (ad 2)) hc in_X7 (MW_at (k := 0) (by decide)) rfl 2 (by decide) q963 rfl dX7_isReadCell_59 ?_
      refine g_bipush (v := 14) hc dX7_isReadCell_62 (by decide) ?_
      refine g_iload_n hc dX7_isReadCell_64 rfl 3 rfl ?_
      refine g_iadd hc dX7_isReadCell_65 ?_
      obtain ⟨h6, hf⟩ := oC_some hf
      refine g_iald (n := 41) (f := σ 2) hc (MW_at (k := 2) (by decide)) h6 dX7_isReadCell_66 ?_
      refine g_iload_n hc dX7_isReadCell_67 rfl 1 rfl ?_
      refine g_icmp_ne (tgt := 75) hc dX7_isReadCell_68 (by decide) (fun h7 => ?_) (fun h7 => ?_)
      · have hf := oF h7 hf
        refine g_iconst (v := 0) hc dX7_isReadCell_75 (by decide) ?_
        exact g_lv [0, 1, 3] rfl (w_X7_isReadCell_b76 hc σ l1 l3 0  (K := K) hf hK hI43 hR)
      · have hf := oT h7 hf
        exact g_lv [0, 1, 3] rfl (w_X7_isReadCell_b71 hc σ l1 l3  (K := K) hf hK hI43 hR)
def f_X7_isReadCell_b43 (σ : (Nat → Nat → Int32)) (l1 : Int32) (l2 : Int32) (l3 : Int32) : Option (Int32) :=
  oLoop gFU (fun v : Int32 × Int32 => f_X7_isReadCell_L43 σ l1 v.1 v.2) (l2, l3)
theorem w_X7_isReadCell_b43 {x : gX} {ad : Nat → Nat} {tl : va_W}  (hc : gOk x RX7 cX7_isReadCell 4 0 0)  (σ : (Nat → Nat → Int32)) (l1 : Int32) (l2 : Int32) (l3 : Int32)  {K : Int32 → Prop} {o : Int32} (hf : f_X7_isReadCell_b43 σ l1 l2 l3 = some o) (hK : K o) (hR : ∀ o : Int32, K o → gRz x 0 0 (MW x.dA ad σ ++ tl) o) : gG x 4 0 0 (MW x.dA ad σ ++ tl) 43 [(0, .ref (ad 0)), (1, .int l1), (2, .int l2), (3, .int l3)] [] :=
  oLoop_ind (fun v : Int32 × Int32 => gG x 4 0 0 (MW x.dA ad σ ++ tl) 43 [(0, .ref (ad 0)), (1, .int l1), (2, .int v.1), (3, .int v.2)] []) K (fun v o1 hf1 hK1 => w_X7_isReadCell_L43 hc σ l1 v.1 v.2  (K := Sum.elim (fun v : Int32 × Int32 => gG x 4 0 0 (MW x.dA ad σ ++ tl) 43 [(0, .ref (ad 0)), (1, .int l1), (2, .int v.1), (3, .int v.2)] []) K) hf1 hK1 (fun v hv => hv) hR) gFU _ o hf hK
def f_X7_isReadCell_b34 (σ : (Nat → Nat → Int32)) (l1 : Int32) (l3 : Int32) (k1 : Int32) : Option ((Int32 × Int32) ⊕ (Int32)) :=
  some (.inl (k1, (l3 + 1)))
theorem w_X7_isReadCell_b34 {x : gX} {ad : Nat → Nat} {tl : va_W}  (hc : gOk x RX7 cX7_isReadCell 4 0 0)  (σ : (Nat → Nat → Int32)) (l1 : Int32) (l3 : Int32) (k1 : Int32)  {K : (Int32 × Int32) ⊕ (Int32) → Prop} {o : (Int32 × Int32) ⊕ (Int32)} (hf : f_X7_isReadCell_b34 σ l1 l3 k1 = some o) (hK : K o) (hI4 : ∀ v : Int32 × Int32, K (.inl v) → gG x 4 0 0 (MW x.dA ad σ ++ tl) 4 [(0, .ref (ad 0)), (1, .int l1), (2, .int v.1), (3, .int v.2)] []) (hR : ∀ o : Int32, K (.inr (o)) → gRz x 0 0 (MW x.dA ad σ ++ tl) o) : gG x 4 0 0 (MW x.dA ad σ ++ tl) 34 [(0, .ref (ad 0)), (1, .int l1), (3, .int l3)] [.int k1] := by
  unfold f_X7_isReadCell_b34 at hf
  refine g_istore_n (lv' := [(2, .int k1), (0, .ref (ad 0)), (1, .int l1), (3, .int l3)]) hc dX7_isReadCell_34 rfl (by decide) rfl ?_
  refine g_iinc (v := l3 + 1) (lv' := [(3, .int (l3 + 1)), (2, .int k1), (0, .ref (ad 0)), (1, .int l1)]) hc dX7_isReadCell_35 (j := 3) rfl rfl (by decide) rfl ?_
  refine g_goto (tgt := 4) hc dX7_isReadCell_38 (by decide) ?_
  have hz := Option.some.inj hf; subst hz
  exact g_lv [2, 3, 1, 0] rfl (hI4 _ hK)
def f_X7_isReadCell_b29 (σ : (Nat → Nat → Int32)) (l1 : Int32) (l3 : Int32) : Option ((Int32 × Int32) ⊕ (Int32)) :=
  f_X7_isReadCell_b34 σ l1 l3 1
theorem w_X7_isReadCell_b29 {x : gX} {ad : Nat → Nat} {tl : va_W}  (hc : gOk x RX7 cX7_isReadCell 4 0 0)  (σ : (Nat → Nat → Int32)) (l1 : Int32) (l3 : Int32)  {K : (Int32 × Int32) ⊕ (Int32) → Prop} {o : (Int32 × Int32) ⊕ (Int32)} (hf : f_X7_isReadCell_b29 σ l1 l3 = some o) (hK : K o) (hI4 : ∀ v : Int32 × Int32, K (.inl v) → gG x 4 0 0 (MW x.dA ad σ ++ tl) 4 [(0, .ref (ad 0)), (1, .int l1), (2, .int v.1), (3, .int v.2)] []) (hR : ∀ o : Int32, K (.inr (o)) → gRz x 0 0 (MW x.dA ad σ ++ tl) o) : gG x 4 0 0 (MW x.dA ad σ ++ tl) 29 [(0, .ref (ad 0)), (1, .int l1), (3, .int l3)] [] := by
  unfold f_X7_isReadCell_b29 at hf
  refine g_iconst (v := 1) hc dX7_isReadCell_29 (by decide) ?_
  refine g_goto (tgt := 34) hc dX7_isReadCell_30 (by decide) ?_
  exact g_lv [0, 1, 2] rfl (w_X7_isReadCell_b34 hc σ l1 l3 1  (K := K) hf hK hI4 hR)
def f_X7_isReadCell_L4 (σ : (Nat → Nat → Int32)) (l1 : Int32) (l2 : Int32) (l3 : Int32) : Option ((Int32 × Int32) ⊕ (Int32)) :=
  oC (inb 38 41) <| if (σ 2 (Int32.toNatClampNeg 38)) ≤ l3 then (oI (f_X7_isReadCell_b43 σ l1 l2 0)) else (if l2 = 0 then (oC (inb l3 41) <| if (σ 2 l3.toNatClampNeg) = l1 then (f_X7_isReadCell_b29 σ l1 l3) else (f_X7_isReadCell_b34 σ l1 l3 0)) else (f_X7_isReadCell_b29 σ l1 l3))
theorem w_X7_isReadCell_L4 {x : gX} {ad : Nat → Nat} {tl : va_W}  (hc : gOk x RX7 cX7_isReadCell 4 0 0)  (σ : (Nat → Nat → Int32)) (l1 : Int32) (l2 : Int32) (l3 : Int32)  {K : (Int32 × Int32) ⊕ (Int32) → Prop} {o : (Int32 × Int32) ⊕ (Int32)} (hf : f_X7_isReadCell_L4 σ l1 l2 l3 = some o) (hK : K o) (hI4 : ∀ v : Int32 × Int32, K (.inl v) → gG x 4 0 0 (MW x.dA ad σ ++ tl) 4 [(0, .ref (ad 0)), (1, .int l1), (2, .int v.1), (3, .int v.2)] []) (hR : ∀ o : Int32, K (.inr (o)) → gRz x 0 0 (MW x.dA ad σ ++ tl) o) : gG x 4 0 0 (MW x.dA ad σ ++ tl) 4 [(0, .ref (ad 0)), (1, .int l1), (2, .int l2), (3, .int l3)] [] := by
  unfold f_X7_isReadCell_L4 at hf
  refine g_iload_n hc dX7_isReadCell_4 rfl 3 rfl ?_
  refine g_aload_n hc dX7_isReadCell_5 rfl 0 rfl ?_
  refine g_get (v := .ref (ad 2)) hc in_X7 (MW_at (k := 0) (by decide)) rfl 2 (by decide) q963 rfl dX7_isReadCell_6 ?_
  refine g_bipush (v := 38) hc dX7_isReadCell_9 (by decide) ?_
  obtain ⟨h1, hf⟩ := oC_some hf
  refine g_iald (n := 41) (f := σ 2) hc (MW_at (k := 2) (by decide)) h1 dX7_isReadCell_11 ?_
  refine g_icmp_ge (tgt := 41) hc dX7_isReadCell_12 (by decide) (fun h2 => ?_) (fun h2 => ?_)
  · have hf := oT h2 hf
    obtain ⟨o3, hgo3, eo3⟩ := oI_some hf
    clear hf; subst eo3; have hf := hgo3; clear hgo3
    refine g_iconst (v := 0) hc dX7_isReadCell_41 (by decide) ?_
    refine g_istore_n (lv' := [(3, .int 0), (0, .ref (ad 0)), (1, .int l1), (2, .int l2)]) hc dX7_isReadCell_42 rfl (by decide) rfl ?_
    exact g_lv [1, 2, 3, 0] rfl (w_X7_isReadCell_b43 hc σ l1 l2 0  (K := (fun o1 => K (.inr o1))) hf hK hR)
  · have hf := oF h2 hf
    refine g_iload_n hc dX7_isReadCell_15 rfl 2 rfl ?_
    refine g_if_ne (tgt := 29) hc dX7_isReadCell_16 (by decide) (fun h4 => ?_) (fun h4 => ?_)
    · have hf := oF h4 hf
      exact g_lv [0, 1, 3] rfl (w_X7_isReadCell_b29 hc σ l1 l3  (K := K) hf hK hI4 hR)
    · have hf := oT h4 hf
      refine g_aload_n hc dX7_isReadCell_19 rfl 0 rfl ?_
      refine g_get (v := .ref (ad 2)) hc in_X7 (MW_at (k := 0) (by decide)) rfl 2 (by decide) q963 rfl dX7_isReadCell_20 ?_
      refine g_iload_n hc dX7_isReadCell_23 rfl 3 rfl ?_
      obtain ⟨h5, hf⟩ := oC_some hf
      refine g_iald (n := 41) (f := σ 2) hc (MW_at (k := 2) (by decide)) h5 dX7_isReadCell_24 ?_
      refine g_iload_n hc dX7_isReadCell_25 rfl 1 rfl ?_
      refine g_icmp_ne (tgt := 33) hc dX7_isReadCell_26 (by decide) (fun h6 => ?_) (fun h6 => ?_)
      · have hf := oF h6 hf
        refine g_iconst (v := 0) hc dX7_isReadCell_33 (by decide) ?_
        exact g_lv [0, 1, 3] rfl (w_X7_isReadCell_b34 hc σ l1 l3 0  (K := K) hf hK hI4 hR)
      · have hf := oT h6 hf
        exact g_lv [0, 1, 3] rfl (w_X7_isReadCell_b29 hc σ l1 l3  (K := K) hf hK hI4 hR)
def f_X7_isReadCell_b4 (σ : (Nat → Nat → Int32)) (l1 : Int32) (l2 : Int32) (l3 : Int32) : Option (Int32) :=
  oLoop gFU (fun v : Int32 × Int32 => f_X7_isReadCell_L4 σ l1 v.1 v.2) (l2, l3)
theorem w_X7_isReadCell_b4 {x : gX} {ad : Nat → Nat} {tl : va_W}  (hc : gOk x RX7 cX7_isReadCell 4 0 0)  (σ : (Nat → Nat → Int32)) (l1 : Int32) (l2 : Int32) (l3 : Int32)  {K : Int32 → Prop} {o : Int32} (hf : f_X7_isReadCell_b4 σ l1 l2 l3 = some o) (hK : K o) (hR : ∀ o : Int32, K o → gRz x 0 0 (MW x.dA ad σ ++ tl) o) : gG x 4 0 0 (MW x.dA ad σ ++ tl) 4 [(0, .ref (ad 0)), (1, .int l1), (2, .int l2), (3, .int l3)] [] :=
  oLoop_ind (fun v : Int32 × Int32 => gG x 4 0 0 (MW x.dA ad σ ++ tl) 4 [(0, .ref (ad 0)), (1, .int l1), (2, .int v.1), (3, .int v.2)] []) K (fun v o1 hf1 hK1 => w_X7_isReadCell_L4 hc σ l1 v.1 v.2  (K := Sum.elim (fun v : Int32 × Int32 => gG x 4 0 0 (MW x.dA ad σ ++ tl) 4 [(0, .ref (ad 0)), (1, .int l1), (2, .int v.1), (3, .int v.2)] []) K) hf1 hK1 (fun v hv => hv) hR) gFU _ o hf hK
def f_X7_isReadCell (σ : (Nat → Nat → Int32)) (l1 : Int32) : Option (Int32) :=
  f_X7_isReadCell_b4 σ l1 0 0
theorem w_X7_isReadCell {x : gX} {ad : Nat → Nat} {tl : va_W}  (hc : gOk x RX7 cX7_isReadCell 4 0 0)  (σ : (Nat → Nat → Int32)) (l1 : Int32)  {K : Int32 → Prop} {o : Int32} (hf : f_X7_isReadCell σ l1 = some o) (hK : K o) (hR : ∀ o : Int32, K o → gRz x 0 0 (MW x.dA ad σ ++ tl) o) : gG x 4 0 0 (MW x.dA ad σ ++ tl) 0 [(0, .ref (ad 0)), (1, .int l1)] [] := by
  unfold f_X7_isReadCell at hf
  refine g_iconst (v := 0) hc dX7_isReadCell_0 (by decide) ?_
  refine g_istore_n (lv' := [(2, .int 0), (0, .ref (ad 0)), (1, .int l1)]) hc dX7_isReadCell_1 rfl (by decide) rfl ?_
  refine g_iconst (v := 0) hc dX7_isReadCell_2 (by decide) ?_
  refine g_istore_n (lv' := [(3, .int 0), (2, .int 0), (0, .ref (ad 0)), (1, .int l1)]) hc dX7_isReadCell_3 rfl (by decide) rfl ?_
  exact g_lv [2, 3, 1, 0] rfl (w_X7_isReadCell_b4 hc σ l1 0 0  (K := K) hf hK hR)
theorem c_X7_isReadCell {l : Launch} {D : va_G} {dA : Nat → ClassId} {ad : Nat → Nat} {tl : va_W}  {σ : (Nat → Nat → Int32)} {l1 : Int32}  {o : Int32} (hf : f_X7_isReadCell σ l1 = some o) : gI l D dA (MW dA ad σ ++ tl) (MW dA ad σ ++ tl) [.ref (ad 0), .int l1] o yX7_isReadCell (ws_ yX7_isReadCell cX7_isReadCell 4 (some .boolean)) ({ frames := 0, cells := 0, slots := 0, locals := 0 } : Room) :=
  g_startZ (own := RX7) ⟨rfl, rfl⟩ (by decide) rfl (Nat.le_of_ble_eq_true rfl) (fun x e hc hR => by
    subst e
    exact w_X7_isReadCell hc σ l1  (K := fun o1 => o1 = o) hf rfl (by rintro _ rfl; exact hR))
theorem hd_X7_isReadCell : yX7_isReadCell.cls = RX7 ∧ yX7_isReadCell.cls ≠ "java/lang/invoke/MethodHandle" ∧ yX7_isReadCell.cls ≠ "java/lang/invoke/VarHandle" ∧ (parseMethodDescriptor yX7_isReadCell.desc).map (fun d => d.parameters.length) = some 1 := by decide +kernel
/-! HedgehogLotsModel.cellHere()I -/
def f_X7_cellHere_b63 (σ : (Nat → Nat → Int32)) : Option (Int32 × (Nat → Nat → Int32)) :=
  oB (f_X7_number σ 0 97) fun r2 => some (r2.1, r2.2)
theorem w_X7_cellHere_b63 {x : gX} {ad : Nat → Nat} {tl : va_W}  (hc : gOk x RX7 cX7_cellHere 1 3 69)  (σ : (Nat → Nat → Int32))  {K : Int32 × (Nat → Nat → Int32) → Prop} {o : Int32 × (Nat → Nat → Int32)} (hf : f_X7_cellHere_b63 σ = some o) (hK : K o) (hR : ∀ o : Int32 × (Nat → Nat → Int32), K o → gRi x 0 0 (MW x.dA ad o.2 ++ tl) o.1) : gG x 1 0 0 (MW x.dA ad σ ++ tl) 63 [(0, .ref (ad 0))] [] := by
  unfold f_X7_cellHere_b63 at hf
  refine g_aload_n hc dX7_cellHere_63 rfl 0 rfl ?_
  refine g_iconst (v := 0) hc dX7_cellHere_64 (by decide) ?_
  refine g_bipush (v := 97) hc dX7_cellHere_65 (by decide) ?_
  obtain ⟨r2, h1, hf⟩ := oB_some hf
  refine g_callVi hc [.int 0, .int 97] [] (c_X7_number  h1) (MW_at (k := 0) (by decide)) rfl (lw_V q1099 q1101 qs39 q67 q1102) rfl hd_X7_number rfl rfl (Nat.le_of_ble_eq_true rfl) gZ dX7_cellHere_67 ?_
  have hz := Option.some.inj hf; subst hz
  exact g_iret hc (hR _ hK) dX7_cellHere_70
def f_X7_cellHere_b32 (σ : (Nat → Nat → Int32)) : Option (Int32 × (Nat → Nat → Int32)) :=
  if (σ 0 8) = 0 then (if (σ 0 12) = 2 then (oB (f_X7_isReadCell σ (σ 0 13)) fun r4 => if r4 = 0 then (f_X7_cellHere_b63 σ) else (oB (f_X7_fails σ 4) fun r7 => f_X7_cellHere_b63 r7)) else (f_X7_cellHere_b63 σ)) else (f_X7_cellHere_b63 σ)
theorem w_X7_cellHere_b32 {x : gX} {ad : Nat → Nat} {tl : va_W}  (hc : gOk x RX7 cX7_cellHere 1 3 69)  (σ : (Nat → Nat → Int32))  {K : Int32 × (Nat → Nat → Int32) → Prop} {o : Int32 × (Nat → Nat → Int32)} (hf : f_X7_cellHere_b32 σ = some o) (hK : K o) (hR : ∀ o : Int32 × (Nat → Nat → Int32), K o → gRi x 0 0 (MW x.dA ad o.2 ++ tl) o.1) : gG x 1 0 0 (MW x.dA ad σ ++ tl) 32 [(0, .ref (ad 0))] [] := by
  unfold f_X7_cellHere_b32 at hf
  refine g_aload_n hc dX7_cellHere_32 rfl 0 rfl ?_
  refine g_get (v := .int (σ 0 8)) hc in_X7 (MW_at (k := 0) (by decide)) rfl 8 (by decide) q969 rfl dX7_cellHere_33 ?_
  refine g_if_ne (tgt := 63) hc dX7_cellHere_36 (by decide) (fun h1 => ?_) (fun h1 => ?_)
  · have hf := oF h1 hf
    exact g_lv [0] rfl (w_X7_cellHere_b63 hc σ  (K := K) hf hK hR)
  · have hf := oT h1 hf
    refine g_aload_n hc dX7_cellHere_39 rfl 0 rfl ?_
    refine g_get (v := .int (σ 0 12)) hc in_X7 (MW_at (k := 0) (by decide)) rfl 12 (by decide) q973 rfl dX7_cellHere_40 ?_
    refine g_iconst (v := 2) hc dX7_cellHere_43 (by decide) ?_
    refine g_icmp_ne (tgt := 63) hc dX7_cellHere_44 (by decide) (fun h2 => ?_) (fun h2 => ?_)
    · have hf := oF h2 hf
      exact g_lv [0] rfl (w_X7_cellHere_b63 hc σ  (K := K) hf hK hR)
    · have hf := oT h2 hf
      refine g_aload_n hc dX7_cellHere_47 rfl 0 rfl ?_
      refine g_aload_n hc dX7_cellHere_48 rfl 0 rfl ?_
      refine g_get (v := .int (σ 0 13)) hc in_X7 (MW_at (k := 0) (by decide)) rfl 13 (by decide) q974 rfl dX7_cellHere_49 ?_
      obtain ⟨r4, h3, hf⟩ := oB_some hf
      refine g_callVi hc [.int (σ 0 13)] [] (c_X7_isReadCell  h3) (MW_at (k := 0) (by decide)) rfl (lw_V q1107 q1109 qs41 q67 q1110) rfl hd_X7_isReadCell rfl rfl (Nat.le_of_ble_eq_true rfl) gZ dX7_cellHere_52 ?_
      refine g_if_eq (tgt := 63) hc dX7_cellHere_55 (by decide) (fun h5 => ?_) (fun h5 => ?_)
      · have hf := oT h5 hf
        exact g_lv [0] rfl (w_X7_cellHere_b63 hc σ  (K := K) hf hK hR)
      · have hf := oF h5 hf
        refine g_aload_n hc dX7_cellHere_58 rfl 0 rfl ?_
        refine g_iconst (v := 4) hc dX7_cellHere_59 (by decide) ?_
        obtain ⟨r7, h6, hf⟩ := oB_some hf
        refine g_callVv hc [.int 4] [] (c_X7_fails  h6) (MW_at (k := 0) (by decide)) rfl (lw_V q1078 q1080 qs34 q67 q1081) rfl hd_X7_fails rfl rfl (Nat.le_of_ble_eq_true rfl) gZ dX7_cellHere_60 ?_
        exact g_lv [0] rfl (w_X7_cellHere_b63 hc r7  (K := K) hf hK hR)
def f_X7_cellHere (σ : (Nat → Nat → Int32)) : Option (Int32 × (Nat → Nat → Int32)) :=
  if (σ 0 8) = 0 then (if (σ 0 12) = 2 then (if ((σ 0 13) - (σ 0 13) / 10 * 10) < 8 then (f_X7_cellHere_b32 σ) else (oB (f_X7_fails σ 3) fun r5 => f_X7_cellHere_b32 r5)) else (f_X7_cellHere_b32 σ)) else (f_X7_cellHere_b32 σ)
theorem w_X7_cellHere {x : gX} {ad : Nat → Nat} {tl : va_W}  (hc : gOk x RX7 cX7_cellHere 1 3 69)  (σ : (Nat → Nat → Int32))  {K : Int32 × (Nat → Nat → Int32) → Prop} {o : Int32 × (Nat → Nat → Int32)} (hf : f_X7_cellHere σ = some o) (hK : K o) (hR : ∀ o : Int32 × (Nat → Nat → Int32), K o → gRi x 0 0 (MW x.dA ad o.2 ++ tl) o.1) : gG x 1 0 0 (MW x.dA ad σ ++ tl) 0 [(0, .ref (ad 0))] [] := by
  unfold f_X7_cellHere at hf
  refine g_aload_n hc dX7_cellHere_0 rfl 0 rfl ?_
  refine g_get (v := .int (σ 0 8)) hc in_X7 (MW_at (k := 0) (by decide)) rfl 8 (by decide) q969 rfl dX7_cellHere_1 ?_
  refine g_if_ne (tgt := 32) hc dX7_cellHere_4 (by decide) (fun h1 => ?_) (fun h1 => ?_)
  · have hf := oF h1 hf
    exact g_lv [0] rfl (w_X7_cellHere_b32 hc σ  (K := K) hf hK hR)
  · have hf := oT h1 hf
    refine g_aload_n hc dX7_cellHere_7 rfl 0 rfl ?_
    refine g_get (v := .int (σ 0 12)) hc in_X7 (MW_at (k := 0) (by decide)) rfl 12 (by decide) q973 rfl dX7_cellHere_8 ?_
    refine g_iconst (v := 2) hc dX7_cellHere_11 (by decide) ?_
    refine g_icmp_ne (tgt := 32) hc dX7_cellHere_12 (by decide) (fun h2 => ?_) (fun h2 => ?_)
    · have hf := oF h2 hf
      exact g_lv [0] rfl (w_X7_cellHere_b32 hc σ  (K := K) hf hK hR)
    · have hf := oT h2 hf
      refine g_aload_n hc dX7_cellHere_15 rfl 0 rfl ?_
      refine g_get (v := .int (σ 0 13)) hc in_X7 (MW_at (k := 0) (by decide)) rfl 13 (by decide) q974 rfl dX7_cellHere_16 ?_
      refine g_bipush (v := 10) hc dX7_cellHere_19 (by decide) ?_
      refine g_irem hc dX7_cellHere_21 (by decide) ?_
      refine g_bipush (v := 8) hc dX7_cellHere_22 (by decide) ?_
      refine g_icmp_lt (tgt := 32) hc dX7_cellHere_24 (by decide) (fun h3 => ?_) (fun h3 => ?_)
      · have hf := oT h3 hf
        exact g_lv [0] rfl (w_X7_cellHere_b32 hc σ  (K := K) hf hK hR)
      · have hf := oF h3 hf
        refine g_aload_n hc dX7_cellHere_27 rfl 0 rfl ?_
        refine g_iconst (v := 3) hc dX7_cellHere_28 (by decide) ?_
        obtain ⟨r5, h4, hf⟩ := oB_some hf
        refine g_callVv hc [.int 3] [] (c_X7_fails  h4) (MW_at (k := 0) (by decide)) rfl (lw_V q1078 q1080 qs34 q67 q1081) rfl hd_X7_fails rfl rfl (Nat.le_of_ble_eq_true rfl) gZ dX7_cellHere_29 ?_
        exact g_lv [0] rfl (w_X7_cellHere_b32 hc r5  (K := K) hf hK hR)
theorem c_X7_cellHere {l : Launch} {D : va_G} {dA : Nat → ClassId} {ad : Nat → Nat} {tl : va_W}  {σ : (Nat → Nat → Int32)}  {o : Int32 × (Nat → Nat → Int32)} (hf : f_X7_cellHere σ = some o) : gI l D dA (MW dA ad σ ++ tl) (MW dA ad o.2 ++ tl) [.ref (ad 0)] o.1 yX7_cellHere (ws_ yX7_cellHere cX7_cellHere 1 (some .int)) ({ frames := 3, cells := 0, slots := 0, locals := 69 } : Room) :=
  g_startI (own := RX7) ⟨rfl, rfl⟩ (by decide) rfl (Nat.le_of_ble_eq_true rfl) (fun x e hc hR => by
    subst e
    exact w_X7_cellHere hc σ  (K := fun o1 => o1 = o) hf rfl (by rintro _ rfl; exact hR))
theorem hd_X7_cellHere : yX7_cellHere.cls = RX7 ∧ yX7_cellHere.cls ≠ "java/lang/invoke/MethodHandle" ∧ yX7_cellHere.cls ≠ "java/lang/invoke/VarHandle" ∧ (parseMethodDescriptor yX7_cellHere.desc).map (fun d => d.parameters.length) = some 0 := by decide +kernel
/-! HedgehogLotsModel.readMore(I)V -/
def f_X7_readMore_b172 (σ : (Nat → Nat → Int32)) (l2 : Int32) (l3 : Int32) (k2 : Int32) : Option ((Nat → Nat → Int32)) :=
  oL (upd2 σ 0 4 k2) fun s1 => oC (inb (26 + l2) 41) <| oL (upd2 s1 2 (26 + l2).toNatClampNeg l3) fun s3 => oB (f_X7_number s3 0 7) fun r7 => oC (inb (32 + l2) 41) <| oL (upd2 r7.2 2 (32 + l2).toNatClampNeg r7.1) fun s8 => oC (inb 40 41) <| oC (inb 40 41) <| oL (upd2 s8 2 (Int32.toNatClampNeg 40) ((s8 2 (Int32.toNatClampNeg 40)) + 1)) fun s12 => some s12
theorem w_X7_readMore_b172 {x : gX} {ad : Nat → Nat} {tl : va_W}  (hc : gOk x RX7 cX7_readMore 4 4 89)  (σ : (Nat → Nat → Int32)) (l2 : Int32) (l3 : Int32) (k2 : Int32)  {K : (Nat → Nat → Int32) → Prop} {o : (Nat → Nat → Int32)} (hf : f_X7_readMore_b172 σ l2 l3 k2 = some o) (hK : K o) (hR : ∀ o : (Nat → Nat → Int32), K o → gRv x 0 0 (MW x.dA ad o ++ tl)) : gG x 4 0 0 (MW x.dA ad σ ++ tl) 172 [(0, .ref (ad 0)), (2, .int l2), (3, .int l3)] [.int k2, .ref (ad 0)] := by
  unfold f_X7_readMore_b172 at hf
  obtain ⟨s1, e2, hf⟩ := oL_some hf
  refine g_put (v := .int k2) hc in_X7 tyX7_ok nmX7 (MW_at (k := 0) (by decide)) rfl 4 (by decide) q965 rfl rfl rfl (Nat.le_of_ble_eq_true rfl) (MW_set (μ1 := s1) (k := 0) (by decide) e2 rfl) dX7_readMore_172 ?_
  refine g_aload_n hc dX7_readMore_175 rfl 0 rfl ?_
  refine g_get (v := .ref (ad 2)) hc in_X7 (MW_at (k := 0) (by decide)) rfl 2 (by decide) q963 rfl dX7_readMore_176 ?_
  refine g_bipush (v := 26) hc dX7_readMore_179 (by decide) ?_
  refine g_iload_n hc dX7_readMore_181 rfl 1 rfl ?_
  refine g_iadd hc dX7_readMore_182 ?_
  refine g_iload_n hc dX7_readMore_183 rfl 2 rfl ?_
  obtain ⟨h5, hf⟩ := oC_some hf
  obtain ⟨s3, e4, hf⟩ := oL_some hf
  refine g_iast (n := 41) (f := s1 2) hc (MW_at (k := 2) (by decide)) h5 (MW_set (μ1 := s3) (k := 2) (by decide) e4 rfl) dX7_readMore_184 ?_
  refine g_aload_n hc dX7_readMore_185 rfl 0 rfl ?_
  refine g_get (v := .ref (ad 2)) hc in_X7 (MW_at (k := 0) (by decide)) rfl 2 (by decide) q963 rfl dX7_readMore_186 ?_
  refine g_bipush (v := 32) hc dX7_readMore_189 (by decide) ?_
  refine g_iload_n hc dX7_readMore_191 rfl 1 rfl ?_
  refine g_iadd hc dX7_readMore_192 ?_
  refine g_aload_n hc dX7_readMore_193 rfl 0 rfl ?_
  refine g_iconst (v := 0) hc dX7_readMore_194 (by decide) ?_
  refine g_bipush (v := 7) hc dX7_readMore_195 (by decide) ?_
  obtain ⟨r7, h6, hf⟩ := oB_some hf
  refine g_callVi hc [.int 0, .int 7] [.int (32 + l2), .ref (ad 2)] (c_X7_number  h6) (MW_at (k := 0) (by decide)) rfl (lw_V q1099 q1101 qs39 q67 q1102) rfl hd_X7_number rfl rfl (Nat.le_of_ble_eq_true rfl) gZ dX7_readMore_197 ?_
  obtain ⟨h10, hf⟩ := oC_some hf
  obtain ⟨s8, e9, hf⟩ := oL_some hf
  refine g_iast (n := 41) (f := r7.2 2) hc (MW_at (k := 2) (by decide)) h10 (MW_set (μ1 := s8) (k := 2) (by decide) e9 rfl) dX7_readMore_200 ?_
  refine g_aload_n hc dX7_readMore_201 rfl 0 rfl ?_
  refine g_get (v := .ref (ad 2)) hc in_X7 (MW_at (k := 0) (by decide)) rfl 2 (by decide) q963 rfl dX7_readMore_202 ?_
  refine g_bipush (v := 40) hc dX7_readMore_205 (by decide) ?_
  refine g_dup2 hc dX7_readMore_207 rfl rfl ?_
  obtain ⟨h11, hf⟩ := oC_some hf
  refine g_iald (n := 41) (f := s8 2) hc (MW_at (k := 2) (by decide)) h11 dX7_readMore_208 ?_
  refine g_iconst (v := 1) hc dX7_readMore_209 (by decide) ?_
  refine g_iadd hc dX7_readMore_210 ?_
  obtain ⟨h14, hf⟩ := oC_some hf
  obtain ⟨s12, e13, hf⟩ := oL_some hf
  refine g_iast (n := 41) (f := s8 2) hc (MW_at (k := 2) (by decide)) h14 (MW_set (μ1 := s12) (k := 2) (by decide) e13 rfl) dX7_readMore_211 ?_
  have hz := Option.some.inj hf; subst hz
  exact g_vret hc (hR _ hK) dX7_readMore_212
def f_X7_readMore (σ : (Nat → Nat → Int32)) (l1 : Int32) : Option ((Nat → Nat → Int32)) :=
  if 3 < l1 then (if l1 = 4 then (oC (inb 38 41) <| oB (f_X7_cellHere σ) fun r20 => oC (inb (σ 2 (Int32.toNatClampNeg 38)) 41) <| oL (upd2 r20.2 2 (σ 2 (Int32.toNatClampNeg 38)).toNatClampNeg r20.1) fun s21 => oB (f_X7_number s21 0 3) fun r25 => oC (inb (7 + (σ 2 (Int32.toNatClampNeg 38))) 41) <| oL (upd2 r25.2 2 (7 + (σ 2 (Int32.toNatClampNeg 38))).toNatClampNeg r25.1) fun s26 => oC (inb 38 41) <| oC (inb 38 41) <| oL (upd2 s26 2 (Int32.toNatClampNeg 38) ((s26 2 (Int32.toNatClampNeg 38)) + 1)) fun s30 => some s30) else (if l1 = 5 then (oC (inb 39 41) <| oB (f_X7_cellHere σ) fun r10 => oC (inb (14 + (σ 2 (Int32.toNatClampNeg 39))) 41) <| oL (upd2 r10.2 2 (14 + (σ 2 (Int32.toNatClampNeg 39))).toNatClampNeg r10.1) fun s11 => oC (inb 39 41) <| oC (inb 39 41) <| oL (upd2 s11 2 (Int32.toNatClampNeg 39) ((s11 2 (Int32.toNatClampNeg 39)) + 1)) fun s15 => some s15) else (oC (inb 40 41) <| oB (f_X7_number σ 0 3) fun r6 => if r6.1 ≤ (r6.2 0 4) then (f_X7_readMore_b172 r6.2 (σ 2 (Int32.toNatClampNeg 40)) r6.1 (r6.2 0 4)) else (f_X7_readMore_b172 r6.2 (σ 2 (Int32.toNatClampNeg 40)) r6.1 r6.1)))) else (oC (inb (18 + (σ 0 3)) 41) <| oL (upd2 σ 2 (18 + (σ 0 3)).toNatClampNeg l1) fun s33 => oB (f_X7_number s33 1 9) fun r37 => oC (inb (22 + (s33 0 3)) 41) <| oL (upd2 r37.2 2 (22 + (s33 0 3)).toNatClampNeg r37.1) fun s38 => oL (upd2 s38 0 3 ((s38 0 3) + 1)) fun s41 => some s41)
theorem w_X7_readMore {x : gX} {ad : Nat → Nat} {tl : va_W}  (hc : gOk x RX7 cX7_readMore 4 4 89)  (σ : (Nat → Nat → Int32)) (l1 : Int32)  {K : (Nat → Nat → Int32) → Prop} {o : (Nat → Nat → Int32)} (hf : f_X7_readMore σ l1 = some o) (hK : K o) (hR : ∀ o : (Nat → Nat → Int32), K o → gRv x 0 0 (MW x.dA ad o ++ tl)) : gG x 4 0 0 (MW x.dA ad σ ++ tl) 0 [(0, .ref (ad 0)), (1, .int l1)] [] := by
  unfold f_X7_readMore at hf
  refine g_iload_n hc dX7_readMore_0 rfl 1 rfl ?_
  refine g_iconst (v := 3) hc dX7_readMore_1 (by decide) ?_
  refine g_icmp_gt (tgt := 50) hc dX7_readMore_2 (by decide) (fun h1 => ?_) (fun h1 => ?_)
  · have hf := oT h1 hf
    refine g_iload_n hc dX7_readMore_50 rfl 1 rfl ?_
    refine g_iconst (v := 4) hc dX7_readMore_51 (by decide) ?_
    refine g_icmp_ne (tgt := 102) hc dX7_readMore_52 (by decide) (fun h2 => ?_) (fun h2 => ?_)
    · have hf := oF h2 hf
      refine g_iload_n hc dX7_readMore_102 rfl 1 rfl ?_
      refine g_iconst (v := 5) hc dX7_readMore_103 (by decide) ?_
      refine g_icmp_ne (tgt := 140) hc dX7_readMore_104 (by decide) (fun h3 => ?_) (fun h3 => ?_)
      · have hf := oF h3 hf
        refine g_aload_n hc dX7_readMore_140 rfl 0 rfl ?_
        refine g_get (v := .ref (ad 2)) hc in_X7 (MW_at (k := 0) (by decide)) rfl 2 (by decide) q963 rfl dX7_readMore_141 ?_
        refine g_bipush (v := 40) hc dX7_readMore_144 (by decide) ?_
        obtain ⟨h4, hf⟩ := oC_some hf
        refine g_iald (n := 41) (f := σ 2) hc (MW_at (k := 2) (by decide)) h4 dX7_readMore_146 ?_
        refine g_istore_n (lv' := [(2, .int (σ 2 (Int32.toNatClampNeg 40))), (0, .ref (ad 0)), (1, .int l1)]) hc dX7_readMore_147 rfl (by decide) rfl ?_
        refine g_aload_n hc dX7_readMore_148 rfl 1 rfl ?_
        refine g_iconst (v := 0) hc dX7_readMore_149 (by decide) ?_
        refine g_iconst (v := 3) hc dX7_readMore_150 (by decide) ?_
        obtain ⟨r6, h5, hf⟩ := oB_some hf
        refine g_callVi hc [.int 0, .int 3] [] (c_X7_number  h5) (MW_at (k := 0) (by decide)) rfl (lw_V q1099 q1101 qs39 q67 q1102) rfl hd_X7_number rfl rfl (Nat.le_of_ble_eq_true rfl) gZ dX7_readMore_151 ?_
        refine g_istore_n (lv' := [(3, .int r6.1), (2, .int (σ 2 (Int32.toNatClampNeg 40))), (0, .ref (ad 0)), (1, .int l1)]) hc dX7_readMore_154 rfl (by decide) rfl ?_
        refine g_aload_n hc dX7_readMore_155 rfl 2 rfl ?_
        refine g_iload_n hc dX7_readMore_156 rfl 0 rfl ?_
        refine g_aload_n hc dX7_readMore_157 rfl 2 rfl ?_
        refine g_get (v := .int (r6.2 0 4)) hc in_X7 (MW_at (k := 0) (by decide)) rfl 4 (by decide) q965 rfl dX7_readMore_158 ?_
        refine g_icmp_le (tgt := 168) hc dX7_readMore_161 (by decide) (fun h7 => ?_) (fun h7 => ?_)
        · have hf := oT h7 hf
          refine g_aload_n hc dX7_readMore_168 rfl 2 rfl ?_
          refine g_get (v := .int (r6.2 0 4)) hc in_X7 (MW_at (k := 0) (by decide)) rfl 4 (by decide) q965 rfl dX7_readMore_169 ?_
          exact g_lv [2, 1, 0] rfl (w_X7_readMore_b172 hc r6.2 (σ 2 (Int32.toNatClampNeg 40)) r6.1 (r6.2 0 4)  (K := K) hf hK hR)
        · have hf := oF h7 hf
          refine g_iload_n hc dX7_readMore_164 rfl 0 rfl ?_
          refine g_goto (tgt := 172) hc dX7_readMore_165 (by decide) ?_
          exact g_lv [2, 1, 0] rfl (w_X7_readMore_b172 hc r6.2 (σ 2 (Int32.toNatClampNeg 40)) r6.1 r6.1  (K := K) hf hK hR)
      · have hf := oT h3 hf
        refine g_aload_n hc dX7_readMore_107 rfl 0 rfl ?_
        refine g_get (v := .ref (ad 2)) hc in_X7 (MW_at (k := 0) (by decide)) rfl 2 (by decide) q963 rfl dX7_readMore_108 ?_
        refine g_bipush (v := 14) hc dX7_readMore_111 (by decide) ?_
        refine g_aload_n hc dX7_readMore_113 rfl 0 rfl ?_
        refine g_get (v := .ref (ad 2)) hc in_X7 (MW_at (k := 0) (by decide)) rfl 2 (by decide) q963 rfl dX7_readMore_114 ?_
        refine g_bipush (v := 39) hc dX7_readMore_117 (by decide) ?_
        obtain ⟨h8, hf⟩ := oC_some hf
        refine g_iald (n := 41) (f := σ 2) hc (MW_at (k := 2) (by decide)) h8 dX7_readMore_119 ?_
        refine g_iadd hc dX7_readMore_120 ?_
        refine g_aload_n hc dX7_readMore_121 rfl 0 rfl ?_
        obtain ⟨r10, h9, hf⟩ := oB_some hf
        refine g_callVi hc [] [.int (14 + (σ 2 (Int32.toNatClampNeg 39))), .ref (ad 2)] (c_X7_cellHere  h9) (MW_at (k := 0) (by decide)) rfl (lw_V q1103 q1105 qs40 q67 q1106) rfl hd_X7_cellHere rfl rfl (Nat.le_of_ble_eq_true rfl) gZ dX7_readMore_122 ?_
        obtain ⟨h13, hf⟩ := oC_some hf
        obtain ⟨s11, e12, hf⟩ := oL_some hf
        refine g_iast (n := 41) (f := r10.2 2) hc (MW_at (k := 2) (by decide)) h13 (MW_set (μ1 := s11) (k := 2) (by decide) e12 rfl) dX7_readMore_125 ?_
        refine g_aload_n hc dX7_readMore_126 rfl 0 rfl ?_
        refine g_get (v := .ref (ad 2)) hc in_X7 (MW_at (k := 0) (by decide)) rfl 2 (by decide) q963 rfl dX7_readMore_127 ?_
        refine g_bipush (v := 39) hc dX7_readMore_130 (by decide) ?_
        refine g_dup2 hc dX7_readMore_132 rfl rfl ?_
        obtain ⟨h14, hf⟩ := oC_some hf
        refine g_iald (n := 41) (f := s11 2) hc (MW_at (k := 2) (by decide)) h14 dX7_readMore_133 ?_
        refine g_iconst (v := 1) hc dX7_readMore_134 (by decide) ?_
        refine g_iadd hc dX7_readMore_135 ?_
        obtain ⟨h17, hf⟩ := oC_some hf
        obtain ⟨s15, e16, hf⟩ := oL_some hf
        refine g_iast (n := 41) (f := s11 2) hc (MW_at (k := 2) (by decide)) h17 (MW_set (μ1 := s15) (k := 2) (by decide) e16 rfl) dX7_readMore_136 ?_
        refine g_goto (tgt := 212) hc dX7_readMore_137 (by decide) ?_
        have hz := Option.some.inj hf; subst hz
        exact g_vret hc (hR _ hK) dX7_readMore_212
    · have hf := oT h2 hf
      refine g_aload_n hc dX7_readMore_55 rfl 0 rfl ?_
      refine g_get (v := .ref (ad 2)) hc in_X7 (MW_at (k := 0) (by decide)) rfl 2 (by decide) q963 rfl dX7_readMore_56 ?_
      refine g_bipush (v := 38) hc dX7_readMore_59 (by decide) ?_
      obtain ⟨h18, hf⟩ := oC_some hf
      refine g_iald (n := 41) (f := σ 2) hc (MW_at (k := 2) (by decide)) h18 dX7_readMore_61 ?_
      refine g_istore_n (lv' := [(2, .int (σ 2 (Int32.toNatClampNeg 38))), (0, .ref (ad 0)), (1, .int l1)]) hc dX7_readMore_62 rfl (by decide) rfl ?_
      refine g_aload_n hc dX7_readMore_63 rfl 1 rfl ?_
      refine g_get (v := .ref (ad 2)) hc in_X7 (MW_at (k := 0) (by decide)) rfl 2 (by decide) q963 rfl dX7_readMore_64 ?_
      refine g_iload_n hc dX7_readMore_67 rfl 0 rfl ?_
      refine g_aload_n hc dX7_readMore_68 rfl 1 rfl ?_
      obtain ⟨r20, h19, hf⟩ := oB_some hf
      refine g_callVi hc [] [.int (σ 2 (Int32.toNatClampNeg 38)), .ref (ad 2)] (c_X7_cellHere  h19) (MW_at (k := 0) (by decide)) rfl (lw_V q1103 q1105 qs40 q67 q1106) rfl hd_X7_cellHere rfl rfl (Nat.le_of_ble_eq_true rfl) gZ dX7_readMore_69 ?_
      obtain ⟨h23, hf⟩ := oC_some hf
      obtain ⟨s21, e22, hf⟩ := oL_some hf
      refine g_iast (n := 41) (f := r20.2 2) hc (MW_at (k := 2) (by decide)) h23 (MW_set (μ1 := s21) (k := 2) (by decide) e22 rfl) dX7_readMore_72 ?_
      refine g_aload_n hc dX7_readMore_73 rfl 1 rfl ?_
      refine g_get (v := .ref (ad 2)) hc in_X7 (MW_at (k := 0) (by decide)) rfl 2 (by decide) q963 rfl dX7_readMore_74 ?_
      refine g_bipush (v := 7) hc dX7_readMore_77 (by decide) ?_
      refine g_iload_n hc dX7_readMore_79 rfl 0 rfl ?_
      refine g_iadd hc dX7_readMore_80 ?_
      refine g_aload_n hc dX7_readMore_81 rfl 1 rfl ?_
      refine g_iconst (v := 0) hc dX7_readMore_82 (by decide) ?_
      refine g_iconst (v := 3) hc dX7_readMore_83 (by decide) ?_
      obtain ⟨r25, h24, hf⟩ := oB_some hf
      refine g_callVi hc [.int 0, .int 3] [.int (7 + (σ 2 (Int32.toNatClampNeg 38))), .ref (ad 2)] (c_X7_number  h24) (MW_at (k := 0) (by decide)) rfl (lw_V q1099 q1101 qs39 q67 q1102) rfl hd_X7_number rfl rfl (Nat.le_of_ble_eq_true rfl) gZ dX7_readMore_84 ?_
      obtain ⟨h28, hf⟩ := oC_some hf
      obtain ⟨s26, e27, hf⟩ := oL_some hf
      refine g_iast (n := 41) (f := r25.2 2) hc (MW_at (k := 2) (by decide)) h28 (MW_set (μ1 := s26) (k := 2) (by decide) e27 rfl) dX7_readMore_87 ?_
      refine g_aload_n hc dX7_readMore_88 rfl 1 rfl ?_
      refine g_get (v := .ref (ad 2)) hc in_X7 (MW_at (k := 0) (by decide)) rfl 2 (by decide) q963 rfl dX7_readMore_89 ?_
      refine g_bipush (v := 38) hc dX7_readMore_92 (by decide) ?_
      refine g_dup2 hc dX7_readMore_94 rfl rfl ?_
      obtain ⟨h29, hf⟩ := oC_some hf
      refine g_iald (n := 41) (f := s26 2) hc (MW_at (k := 2) (by decide)) h29 dX7_readMore_95 ?_
      refine g_iconst (v := 1) hc dX7_readMore_96 (by decide) ?_
      refine g_iadd hc dX7_readMore_97 ?_
      obtain ⟨h32, hf⟩ := oC_some hf
      obtain ⟨s30, e31, hf⟩ := oL_some hf
      refine g_iast (n := 41) (f := s26 2) hc (MW_at (k := 2) (by decide)) h32 (MW_set (μ1 := s30) (k := 2) (by decide) e31 rfl) dX7_readMore_98 ?_
      refine g_goto (tgt := 212) hc dX7_readMore_99 (by decide) ?_
      have hz := Option.some.inj hf; subst hz
      exact g_vret hc (hR _ hK) dX7_readMore_212
  · have hf := oF h1 hf
    refine g_aload_n hc dX7_readMore_5 rfl 0 rfl ?_
    refine g_get (v := .ref (ad 2)) hc in_X7 (MW_at (k := 0) (by decide)) rfl 2 (by decide) q963 rfl dX7_readMore_6 ?_
    refine g_bipush (v := 18) hc dX7_readMore_9 (by decide) ?_
    refine g_aload_n hc dX7_readMore_11 rfl 0 rfl ?_
    refine g_get (v := .int (σ 0 3)) hc in_X7 (MW_at (k := 0) (by decide)) rfl 3 (by decide) q964 rfl dX7_readMore_12 ?_
    refine g_iadd hc dX7_readMore_15 ?_
    refine g_iload_n hc dX7_readMore_16 rfl 1 rfl ?_
    obtain ⟨h35, hf⟩ := oC_some hf
    obtain ⟨s33, e34, hf⟩ := oL_some hf
    refine g_iast (n := 41) (f := σ 2) hc (MW_at (k := 2) (by decide)) h35 (MW_set (μ1 := s33) (k := 2) (by decide) e34 rfl) dX7_readMore_17 ?_
    refine g_aload_n hc dX7_readMore_18 rfl 0 rfl ?_
    refine g_get (v := .ref (ad 2)) hc in_X7 (MW_at (k := 0) (by decide)) rfl 2 (by decide) q963 rfl dX7_readMore_19 ?_
    refine g_bipush (v := 22) hc dX7_readMore_22 (by decide) ?_
    refine g_aload_n hc dX7_readMore_24 rfl 0 rfl ?_
    refine g_get (v := .int (s33 0 3)) hc in_X7 (MW_at (k := 0) (by decide)) rfl 3 (by decide) q964 rfl dX7_readMore_25 ?_
    refine g_iadd hc dX7_readMore_28 ?_
    refine g_aload_n hc dX7_readMore_29 rfl 0 rfl ?_
    refine g_iconst (v := 1) hc dX7_readMore_30 (by decide) ?_
    refine g_bipush (v := 9) hc dX7_readMore_31 (by decide) ?_
    obtain ⟨r37, h36, hf⟩ := oB_some hf
    refine g_callVi hc [.int 1, .int 9] [.int (22 + (s33 0 3)), .ref (ad 2)] (c_X7_number  h36) (MW_at (k := 0) (by decide)) rfl (lw_V q1099 q1101 qs39 q67 q1102) rfl hd_X7_number rfl rfl (Nat.le_of_ble_eq_true rfl) gZ dX7_readMore_33 ?_
    obtain ⟨h40, hf⟩ := oC_some hf
    obtain ⟨s38, e39, hf⟩ := oL_some hf
    refine g_iast (n := 41) (f := r37.2 2) hc (MW_at (k := 2) (by decide)) h40 (MW_set (μ1 := s38) (k := 2) (by decide) e39 rfl) dX7_readMore_36 ?_
    refine g_aload_n hc dX7_readMore_37 rfl 0 rfl ?_
    refine g_dup hc dX7_readMore_38 rfl ?_
    refine g_get (v := .int (s38 0 3)) hc in_X7 (MW_at (k := 0) (by decide)) rfl 3 (by decide) q964 rfl dX7_readMore_39 ?_
    refine g_iconst (v := 1) hc dX7_readMore_42 (by decide) ?_
    refine g_iadd hc dX7_readMore_43 ?_
    obtain ⟨s41, e42, hf⟩ := oL_some hf
    refine g_put (v := .int ((s38 0 3) + 1)) hc in_X7 tyX7_ok nmX7 (MW_at (k := 0) (by decide)) rfl 3 (by decide) q964 rfl rfl rfl (Nat.le_of_ble_eq_true rfl) (MW_set (μ1 := s41) (k := 0) (by decide) e42 rfl) dX7_readMore_44 ?_
    refine g_goto (tgt := 212) hc dX7_readMore_47 (by decide) ?_
    have hz := Option.some.inj hf; subst hz
    exact g_vret hc (hR _ hK) dX7_readMore_212
theorem c_X7_readMore {l : Launch} {D : va_G} {dA : Nat → ClassId} {ad : Nat → Nat} {tl : va_W}  {σ : (Nat → Nat → Int32)} {l1 : Int32}  {o : (Nat → Nat → Int32)} (hf : f_X7_readMore σ l1 = some o) : gV l D dA (MW dA ad σ ++ tl) (MW dA ad o ++ tl) [.ref (ad 0), .int l1] yX7_readMore (ws_ yX7_readMore cX7_readMore 4 none) ({ frames := 4, cells := 0, slots := 0, locals := 89 } : Room) :=
  g_startV (own := RX7) ⟨rfl, rfl⟩ (by decide) rfl (Nat.le_of_ble_eq_true rfl) (fun x e hc hR => by
    subst e
    exact w_X7_readMore hc σ l1  (K := fun o1 => o1 = o) hf rfl (by rintro _ rfl; exact hR))
theorem hd_X7_readMore : yX7_readMore.cls = RX7 ∧ yX7_readMore.cls ≠ "java/lang/invoke/MethodHandle" ∧ yX7_readMore.cls ≠ "java/lang/invoke/VarHandle" ∧ (parseMethodDescriptor yX7_readMore.desc).map (fun d => d.parameters.length) = some 1 := by decide +kernel
/-! HedgehogLotsModel.isFull(I)Z -/
def f_X7_isFull (σ : (Nat → Nat → Int32)) (l1 : Int32) : Option (Int32) :=
  if 3 < l1 then (if l1 = 4 then (oC (inb 38 41) <| if (σ 2 (Int32.toNatClampNeg 38)) = 7 then (some 1) else (some 0)) else (if l1 = 5 then (oC (inb 39 41) <| if (σ 2 (Int32.toNatClampNeg 39)) = 4 then (some 1) else (some 0)) else (oC (inb 40 41) <| if (σ 2 (Int32.toNatClampNeg 40)) = 6 then (some 1) else (some 0)))) else (if (σ 0 3) = 4 then (some 1) else (some 0))
theorem w_X7_isFull {x : gX} {ad : Nat → Nat} {tl : va_W}  (hc : gOk x RX7 cX7_isFull 2 0 0)  (σ : (Nat → Nat → Int32)) (l1 : Int32)  {K : Int32 → Prop} {o : Int32} (hf : f_X7_isFull σ l1 = some o) (hK : K o) (hR : ∀ o : Int32, K o → gRz x 0 0 (MW x.dA ad σ ++ tl) o) : gG x 2 0 0 (MW x.dA ad σ ++ tl) 0 [(0, .ref (ad 0)), (1, .int l1)] [] := by
  unfold f_X7_isFull at hf
  refine g_iload_n hc dX7_isFull_0 rfl 1 rfl ?_
  refine g_iconst (v := 3) hc dX7_isFull_1 (by decide) ?_
  refine g_icmp_gt (tgt := 21) hc dX7_isFull_2 (by decide) (fun h1 => ?_) (fun h1 => ?_)
  · have hf := oT h1 hf
    refine g_iload_n hc dX7_isFull_21 rfl 1 rfl ?_
    refine g_iconst (v := 4) hc dX7_isFull_22 (by decide) ?_
    refine g_icmp_ne (tgt := 46) hc dX7_isFull_23 (by decide) (fun h2 => ?_) (fun h2 => ?_)
    · have hf := oF h2 hf
      refine g_iload_n hc dX7_isFull_46 rfl 1 rfl ?_
      refine g_iconst (v := 5) hc dX7_isFull_47 (by decide) ?_
      refine g_icmp_ne (tgt := 70) hc dX7_isFull_48 (by decide) (fun h3 => ?_) (fun h3 => ?_)
      · have hf := oF h3 hf
        refine g_aload_n hc dX7_isFull_70 rfl 0 rfl ?_
        refine g_get (v := .ref (ad 2)) hc in_X7 (MW_at (k := 0) (by decide)) rfl 2 (by decide) q963 rfl dX7_isFull_71 ?_
        refine g_bipush (v := 40) hc dX7_isFull_74 (by decide) ?_
        obtain ⟨h4, hf⟩ := oC_some hf
        refine g_iald (n := 41) (f := σ 2) hc (MW_at (k := 2) (by decide)) h4 dX7_isFull_76 ?_
        refine g_bipush (v := 6) hc dX7_isFull_77 (by decide) ?_
        refine g_icmp_ne (tgt := 86) hc dX7_isFull_79 (by decide) (fun h5 => ?_) (fun h5 => ?_)
        · have hf := oF h5 hf
          refine g_iconst (v := 0) hc dX7_isFull_86 (by decide) ?_
          have hz := Option.some.inj hf; subst hz
          exact g_zret hc (hR _ hK) rfl dX7_isFull_87
        · have hf := oT h5 hf
          refine g_iconst (v := 1) hc dX7_isFull_82 (by decide) ?_
          refine g_goto (tgt := 87) hc dX7_isFull_83 (by decide) ?_
          have hz := Option.some.inj hf; subst hz
          exact g_zret hc (hR _ hK) rfl dX7_isFull_87
      · have hf := oT h3 hf
        refine g_aload_n hc dX7_isFull_51 rfl 0 rfl ?_
        refine g_get (v := .ref (ad 2)) hc in_X7 (MW_at (k := 0) (by decide)) rfl 2 (by decide) q963 rfl dX7_isFull_52 ?_
        refine g_bipush (v := 39) hc dX7_isFull_55 (by decide) ?_
        obtain ⟨h6, hf⟩ := oC_some hf
        refine g_iald (n := 41) (f := σ 2) hc (MW_at (k := 2) (by decide)) h6 dX7_isFull_57 ?_
        refine g_iconst (v := 4) hc dX7_isFull_58 (by decide) ?_
        refine g_icmp_ne (tgt := 66) hc dX7_isFull_59 (by decide) (fun h7 => ?_) (fun h7 => ?_)
        · have hf := oF h7 hf
          refine g_iconst (v := 0) hc dX7_isFull_66 (by decide) ?_
          refine g_goto (tgt := 87) hc dX7_isFull_67 (by decide) ?_
          have hz := Option.some.inj hf; subst hz
          exact g_zret hc (hR _ hK) rfl dX7_isFull_87
        · have hf := oT h7 hf
          refine g_iconst (v := 1) hc dX7_isFull_62 (by decide) ?_
          refine g_goto (tgt := 87) hc dX7_isFull_63 (by decide) ?_
          have hz := Option.some.inj hf; subst hz
          exact g_zret hc (hR _ hK) rfl dX7_isFull_87
    · have hf := oT h2 hf
      refine g_aload_n hc dX7_isFull_26 rfl 0 rfl ?_
      refine g_get (v := .ref (ad 2)) hc in_X7 (MW_at (k := 0) (by decide)) rfl 2 (by decide) q963 rfl dX7_isFull_27 ?_
      refine g_bipush (v := 38) hc dX7_isFull_30 (by decide) ?_
      obtain ⟨h8, hf⟩ := oC_some hf
      refine g_iald (n := 41) (f := σ 2) hc (MW_at (k := 2) (by decide)) h8 dX7_isFull_32 ?_
      refine g_bipush (v := 7) hc dX7_isFull_33 (by decide) ?_
      refine g_icmp_ne (tgt := 42) hc dX7_isFull_35 (by decide) (fun h9 => ?_) (fun h9 => ?_)
      · have hf := oF h9 hf
        refine g_iconst (v := 0) hc dX7_isFull_42 (by decide) ?_
        refine g_goto (tgt := 87) hc dX7_isFull_43 (by decide) ?_
        have hz := Option.some.inj hf; subst hz
        exact g_zret hc (hR _ hK) rfl dX7_isFull_87
      · have hf := oT h9 hf
        refine g_iconst (v := 1) hc dX7_isFull_38 (by decide) ?_
        refine g_goto (tgt := 87) hc dX7_isFull_39 (by decide) ?_
        have hz := Option.some.inj hf; subst hz
        exact g_zret hc (hR _ hK) rfl dX7_isFull_87
  · have hf := oF h1 hf
    refine g_aload_n hc dX7_isFull_5 rfl 0 rfl ?_
    refine g_get (v := .int (σ 0 3)) hc in_X7 (MW_at (k := 0) (by decide)) rfl 3 (by decide) q964 rfl dX7_isFull_6 ?_
    refine g_iconst (v := 4) hc dX7_isFull_9 (by decide) ?_
    refine g_icmp_ne (tgt := 17) hc dX7_isFull_10 (by decide) (fun h10 => ?_) (fun h10 => ?_)
    · have hf := oF h10 hf
      refine g_iconst (v := 0) hc dX7_isFull_17 (by decide) ?_
      refine g_goto (tgt := 87) hc dX7_isFull_18 (by decide) ?_
      have hz := Option.some.inj hf; subst hz
      exact g_zret hc (hR _ hK) rfl dX7_isFull_87
    · have hf := oT h10 hf
      refine g_iconst (v := 1) hc dX7_isFull_13 (by decide) ?_
      refine g_goto (tgt := 87) hc dX7_isFull_14 (by decide) ?_
      have hz := Option.some.inj hf; subst hz
      exact g_zret hc (hR _ hK) rfl dX7_isFull_87
theorem c_X7_isFull {l : Launch} {D : va_G} {dA : Nat → ClassId} {ad : Nat → Nat} {tl : va_W}  {σ : (Nat → Nat → Int32)} {l1 : Int32}  {o : Int32} (hf : f_X7_isFull σ l1 = some o) : gI l D dA (MW dA ad σ ++ tl) (MW dA ad σ ++ tl) [.ref (ad 0), .int l1] o yX7_isFull (ws_ yX7_isFull cX7_isFull 2 (some .boolean)) ({ frames := 0, cells := 0, slots := 0, locals := 0 } : Room) :=
  g_startZ (own := RX7) ⟨rfl, rfl⟩ (by decide) rfl (Nat.le_of_ble_eq_true rfl) (fun x e hc hR => by
    subst e
    exact w_X7_isFull hc σ l1  (K := fun o1 => o1 = o) hf rfl (by rintro _ rfl; exact hR))
theorem hd_X7_isFull : yX7_isFull.cls = RX7 ∧ yX7_isFull.cls ≠ "java/lang/invoke/MethodHandle" ∧ yX7_isFull.cls ≠ "java/lang/invoke/VarHandle" ∧ (parseMethodDescriptor yX7_isFull.desc).map (fun d => d.parameters.length) = some 1 := by decide +kernel
/-! HedgehogLotsModel.readLine()V -/
def f_X7_readLine_b73 (σ : (Nat → Nat → Int32)) : Option ((Nat → Nat → Int32)) :=
  oB (f_X7_step σ) fun r2 => some r2
theorem w_X7_readLine_b73 {x : gX} {ad : Nat → Nat} {tl : va_W}  (hc : gOk x RX7 cX7_readLine 2 5 112)  (σ : (Nat → Nat → Int32))  {K : (Nat → Nat → Int32) → Prop} {o : (Nat → Nat → Int32)} (hf : f_X7_readLine_b73 σ = some o) (hK : K o) (hR : ∀ o : (Nat → Nat → Int32), K o → gRv x 0 0 (MW x.dA ad o ++ tl)) : gG x 2 0 0 (MW x.dA ad σ ++ tl) 73 [(0, .ref (ad 0))] [] := by
  unfold f_X7_readLine_b73 at hf
  refine g_aload_n hc dX7_readLine_73 rfl 0 rfl ?_
  obtain ⟨r2, h1, hf⟩ := oB_some hf
  refine g_callVv hc [] [] (c_X7_step  h1) (MW_at (k := 0) (by decide)) rfl (lw_V q1066 q1068 qs32 q67 q1069) rfl hd_X7_step rfl rfl (Nat.le_of_ble_eq_true rfl) gZ dX7_readLine_74 ?_
  have hz := Option.some.inj hf; subst hz
  exact g_vret hc (hR _ hK) dX7_readLine_77
def f_X7_readLine_b36 (σ : (Nat → Nat → Int32)) (l1 : Int32) : Option ((Nat → Nat → Int32)) :=
  oB (f_X7_step σ) fun r2 => if (r2 0 8) ≤ 0 then (oB (f_X7_readMore r2 l1) fun r5 => if (r5 0 8) = 0 then (if (r5 0 12) = 3 then (f_X7_readLine_b73 r5) else (oB (f_X7_fails r5 2) fun r9 => f_X7_readLine_b73 r9)) else (f_X7_readLine_b73 r5)) else (some r2)
theorem w_X7_readLine_b36 {x : gX} {ad : Nat → Nat} {tl : va_W}  (hc : gOk x RX7 cX7_readLine 2 5 112)  (σ : (Nat → Nat → Int32)) (l1 : Int32)  {K : (Nat → Nat → Int32) → Prop} {o : (Nat → Nat → Int32)} (hf : f_X7_readLine_b36 σ l1 = some o) (hK : K o) (hR : ∀ o : (Nat → Nat → Int32), K o → gRv x 0 0 (MW x.dA ad o ++ tl)) : gG x 2 0 0 (MW x.dA ad σ ++ tl) 36 [(0, .ref (ad 0)), (1, .int l1)] [] := by
  unfold f_X7_readLine_b36 at hf
  refine g_aload_n hc dX7_readLine_36 rfl 0 rfl ?_
  obtain ⟨r2, h1, hf⟩ := oB_some hf
  refine g_callVv hc [] [] (c_X7_step  h1) (MW_at (k := 0) (by decide)) rfl (lw_V q1066 q1068 qs32 q67 q1069) rfl hd_X7_step rfl rfl (Nat.le_of_ble_eq_true rfl) gZ dX7_readLine_37 ?_
  refine g_aload_n hc dX7_readLine_40 rfl 0 rfl ?_
  refine g_get (v := .int (r2 0 8)) hc in_X7 (MW_at (k := 0) (by decide)) rfl 8 (by decide) q969 rfl dX7_readLine_41 ?_
  refine g_if_le (tgt := 48) hc dX7_readLine_44 (by decide) (fun h3 => ?_) (fun h3 => ?_)
  · have hf := oT h3 hf
    refine g_aload_n hc dX7_readLine_48 rfl 0 rfl ?_
    refine g_iload_n hc dX7_readLine_49 rfl 1 rfl ?_
    obtain ⟨r5, h4, hf⟩ := oB_some hf
    refine g_callVv hc [.int l1] [] (c_X7_readMore  h4) (MW_at (k := 0) (by decide)) rfl (lw_V q1095 q1097 qs38 q67 q1098) rfl hd_X7_readMore rfl rfl (Nat.le_of_ble_eq_true rfl) gZ dX7_readLine_50 ?_
    refine g_aload_n hc dX7_readLine_53 rfl 0 rfl ?_
    refine g_get (v := .int (r5 0 8)) hc in_X7 (MW_at (k := 0) (by decide)) rfl 8 (by decide) q969 rfl dX7_readLine_54 ?_
    refine g_if_ne (tgt := 73) hc dX7_readLine_57 (by decide) (fun h6 => ?_) (fun h6 => ?_)
    · have hf := oF h6 hf
      exact g_lv [0] rfl (w_X7_readLine_b73 hc r5  (K := K) hf hK hR)
    · have hf := oT h6 hf
      refine g_aload_n hc dX7_readLine_60 rfl 0 rfl ?_
      refine g_get (v := .int (r5 0 12)) hc in_X7 (MW_at (k := 0) (by decide)) rfl 12 (by decide) q973 rfl dX7_readLine_61 ?_
      refine g_iconst (v := 3) hc dX7_readLine_64 (by decide) ?_
      refine g_icmp_eq (tgt := 73) hc dX7_readLine_65 (by decide) (fun h7 => ?_) (fun h7 => ?_)
      · have hf := oT h7 hf
        exact g_lv [0] rfl (w_X7_readLine_b73 hc r5  (K := K) hf hK hR)
      · have hf := oF h7 hf
        refine g_aload_n hc dX7_readLine_68 rfl 0 rfl ?_
        refine g_iconst (v := 2) hc dX7_readLine_69 (by decide) ?_
        obtain ⟨r9, h8, hf⟩ := oB_some hf
        refine g_callVv hc [.int 2] [] (c_X7_fails  h8) (MW_at (k := 0) (by decide)) rfl (lw_V q1078 q1080 qs34 q67 q1081) rfl hd_X7_fails rfl rfl (Nat.le_of_ble_eq_true rfl) gZ dX7_readLine_70 ?_
        exact g_lv [0] rfl (w_X7_readLine_b73 hc r9  (K := K) hf hK hR)
  · have hf := oF h3 hf
    have hz := Option.some.inj hf; subst hz
    exact g_vret hc (hR _ hK) dX7_readLine_47
def f_X7_readLine (σ : (Nat → Nat → Int32)) : Option ((Nat → Nat → Int32)) :=
  oB (f_X7_nameHere σ) fun r2 => oB (f_X7_in (Int32.toInt64 r2) 0 6) fun r4 => if r4 = 0 then (oB (f_X7_fails σ 2) fun r12 => some r12) else (oB (f_X7_isFull σ r2) fun r7 => if r7 = 0 then (f_X7_readLine_b36 σ r2) else (oB (f_X7_fails σ 5) fun r10 => f_X7_readLine_b36 r10 r2))
theorem w_X7_readLine {x : gX} {ad : Nat → Nat} {tl : va_W}  (hc : gOk x RX7 cX7_readLine 2 5 112)  (σ : (Nat → Nat → Int32))  {K : (Nat → Nat → Int32) → Prop} {o : (Nat → Nat → Int32)} (hf : f_X7_readLine σ = some o) (hK : K o) (hR : ∀ o : (Nat → Nat → Int32), K o → gRv x 0 0 (MW x.dA ad o ++ tl)) : gG x 2 0 0 (MW x.dA ad σ ++ tl) 0 [(0, .ref (ad 0))] [] := by
  unfold f_X7_readLine at hf
  refine g_aload_n hc dX7_readLine_0 rfl 0 rfl ?_
  obtain ⟨r2, h1, hf⟩ := oB_some hf
  refine g_callVi hc [] [] (c_X7_nameHere  h1) (MW_at (k := 0) (by decide)) rfl (lw_V q1086 q1088 qs36 q67 q1089) rfl hd_X7_nameHere rfl rfl (Nat.le_of_ble_eq_true rfl) gZ dX7_readLine_1 ?_
  refine g_istore_n (lv' := [(1, .int r2), (0, .ref (ad 0))]) hc dX7_readLine_4 rfl (by decide) rfl ?_
  refine g_iload_n hc dX7_readLine_5 rfl 0 rfl ?_
  refine g_i2l hc dX7_readLine_6 ?_
  refine g_lconst (v := 0) hc dX7_readLine_7 (by decide) ?_
  refine g_ldc2 (v := 6) hc q1090 dX7_readLine_8 ?_
  obtain ⟨r4, h3, hf⟩ := oB_some hf
  refine g_callSi hc [.long (Int32.toInt64 r2), .long 0, .long 6] [] (c_X7_in  h3) (lw_S q1055 q1056 q67 q1057) rfl hd_X7_in rfl rfl (Nat.le_of_ble_eq_true rfl) gZ dX7_readLine_11 ?_
  refine g_if_ne (tgt := 23) hc dX7_readLine_14 (by decide) (fun h5 => ?_) (fun h5 => ?_)
  · have hf := oF h5 hf
    refine g_aload_n hc dX7_readLine_23 rfl 1 rfl ?_
    refine g_iload_n hc dX7_readLine_24 rfl 0 rfl ?_
    obtain ⟨r7, h6, hf⟩ := oB_some hf
    refine g_callVi hc [.int r2] [] (c_X7_isFull  h6) (MW_at (k := 0) (by decide)) rfl (lw_V q1091 q1093 qs37 q67 q1094) rfl hd_X7_isFull rfl rfl (Nat.le_of_ble_eq_true rfl) gZ dX7_readLine_25 ?_
    refine g_if_eq (tgt := 36) hc dX7_readLine_28 (by decide) (fun h8 => ?_) (fun h8 => ?_)
    · have hf := oT h8 hf
      exact g_lv [1, 0] rfl (w_X7_readLine_b36 hc σ r2  (K := K) hf hK hR)
    · have hf := oF h8 hf
      refine g_aload_n hc dX7_readLine_31 rfl 1 rfl ?_
      refine g_iconst (v := 5) hc dX7_readLine_32 (by decide) ?_
      obtain ⟨r10, h9, hf⟩ := oB_some hf
      refine g_callVv hc [.int 5] [] (c_X7_fails  h9) (MW_at (k := 0) (by decide)) rfl (lw_V q1078 q1080 qs34 q67 q1081) rfl hd_X7_fails rfl rfl (Nat.le_of_ble_eq_true rfl) gZ dX7_readLine_33 ?_
      exact g_lv [1, 0] rfl (w_X7_readLine_b36 hc r10 r2  (K := K) hf hK hR)
  · have hf := oT h5 hf
    refine g_aload_n hc dX7_readLine_17 rfl 1 rfl ?_
    refine g_iconst (v := 2) hc dX7_readLine_18 (by decide) ?_
    obtain ⟨r12, h11, hf⟩ := oB_some hf
    refine g_callVv hc [.int 2] [] (c_X7_fails  h11) (MW_at (k := 0) (by decide)) rfl (lw_V q1078 q1080 qs34 q67 q1081) rfl hd_X7_fails rfl rfl (Nat.le_of_ble_eq_true rfl) gZ dX7_readLine_19 ?_
    have hz := Option.some.inj hf; subst hz
    exact g_vret hc (hR _ hK) dX7_readLine_22
theorem c_X7_readLine {l : Launch} {D : va_G} {dA : Nat → ClassId} {ad : Nat → Nat} {tl : va_W}  {σ : (Nat → Nat → Int32)}  {o : (Nat → Nat → Int32)} (hf : f_X7_readLine σ = some o) : gV l D dA (MW dA ad σ ++ tl) (MW dA ad o ++ tl) [.ref (ad 0)] yX7_readLine (ws_ yX7_readLine cX7_readLine 2 none) ({ frames := 5, cells := 0, slots := 0, locals := 112 } : Room) :=
  g_startV (own := RX7) ⟨rfl, rfl⟩ (by decide) rfl (Nat.le_of_ble_eq_true rfl) (fun x e hc hR => by
    subst e
    exact w_X7_readLine hc σ  (K := fun o1 => o1 = o) hf rfl (by rintro _ rfl; exact hR))
theorem hd_X7_readLine : yX7_readLine.cls = RX7 ∧ yX7_readLine.cls ≠ "java/lang/invoke/MethodHandle" ∧ yX7_readLine.cls ≠ "java/lang/invoke/VarHandle" ∧ (parseMethodDescriptor yX7_readLine.desc).map (fun d => d.parameters.length) = some 0 := by decide +kernel
/-! HedgehogLotsModel.text()I -/
def f_X7_text_L125 (σ : (Nat → Nat → Int32)) (l1 : Int32) (l2 : Int32) : Option ((Int32 × (Nat → Nat → Int32)) ⊕ (Int32 × (Nat → Nat → Int32))) :=
  if 41 ≤ l2 then (oI (oL (upd2 σ 0 1 (σ 0 3)) fun s2 => oL (upd2 s2 0 22 0) fun s4 => oC (inb 0 2) <| oL (upd2 s4 9 (Int32.toNatClampNeg 0) (vp_nar .boolean 0)) fun s6 => oC (inb 1 2) <| oL (upd2 s6 9 (Int32.toNatClampNeg 1) (vp_nar .boolean 0)) fun s9 => some (l1, s9))) else (oC (inb l2 41) <| oC (inb l2 205) <| oL (upd2 σ 1 l2.toNatClampNeg (σ 2 l2.toNatClampNeg)) fun s14 => some (.inl ((l2 + 1), s14)))
theorem w_X7_text_L125 {x : gX} {ad : Nat → Nat} {tl : va_W}  (hc : gOk x RX7 cX7_text 3 6 133)  (σ : (Nat → Nat → Int32)) (l1 : Int32) (l2 : Int32)  {K : (Int32 × (Nat → Nat → Int32)) ⊕ (Int32 × (Nat → Nat → Int32)) → Prop} {o : (Int32 × (Nat → Nat → Int32)) ⊕ (Int32 × (Nat → Nat → Int32))} (hf : f_X7_text_L125 σ l1 l2 = some o) (hK : K o) (hI125 : ∀ v : Int32 × (Nat → Nat → Int32), K (.inl v) → gG x 3 0 0 (MW x.dA ad v.2 ++ tl) 125 [(0, .ref (ad 0)), (1, .int l1), (2, .int v.1)] []) (hR : ∀ o : Int32 × (Nat → Nat → Int32), K (.inr (o)) → gRi x 0 0 (MW x.dA ad o.2 ++ tl) o.1) : gG x 3 0 0 (MW x.dA ad σ ++ tl) 125 [(0, .ref (ad 0)), (1, .int l1), (2, .int l2)] [] := by
  unfold f_X7_text_L125 at hf
  refine g_iload_n hc dX7_text_125 rfl 2 rfl ?_
  refine g_bipush (v := 41) hc dX7_text_126 (by decide) ?_
  refine g_icmp_ge (tgt := 149) hc dX7_text_128 (by decide) (fun h1 => ?_) (fun h1 => ?_)
  · have hf := oT h1 hf
    obtain ⟨o12, hgo12, eo12⟩ := oI_some hf
    clear hf; subst eo12; have hf := hgo12; clear hgo12
    refine g_aload_n hc dX7_text_149 rfl 0 rfl ?_
    refine g_aload_n hc dX7_text_150 rfl 0 rfl ?_
    refine g_get (v := .int (σ 0 3)) hc in_X7 (MW_at (k := 0) (by decide)) rfl 3 (by decide) q964 rfl dX7_text_151 ?_
    obtain ⟨s2, e3, hf⟩ := oL_some hf
    refine g_put (v := .int (σ 0 3)) hc in_X7 tyX7_ok nmX7 (MW_at (k := 0) (by decide)) rfl 1 (by decide) q962 rfl rfl rfl (Nat.le_of_ble_eq_true rfl) (MW_set (μ1 := s2) (k := 0) (by decide) e3 rfl) dX7_text_154 ?_
    refine g_aload_n hc dX7_text_157 rfl 0 rfl ?_
    refine g_iconst (v := 0) hc dX7_text_158 (by decide) ?_
    obtain ⟨s4, e5, hf⟩ := oL_some hf
    refine g_put (v := .int 0) hc in_X7 tyX7_ok nmX7 (MW_at (k := 0) (by decide)) rfl 22 (by decide) q983 rfl rfl rfl (Nat.le_of_ble_eq_true rfl) (MW_set (μ1 := s4) (k := 0) (by decide) e5 rfl) dX7_text_159 ?_
    refine g_aload_n hc dX7_text_162 rfl 0 rfl ?_
    refine g_get (v := .ref (ad 9)) hc in_X7 (MW_at (k := 0) (by decide)) rfl 24 (by decide) q985 rfl dX7_text_163 ?_
    refine g_iconst (v := 0) hc dX7_text_166 (by decide) ?_
    refine g_iconst (v := 0) hc dX7_text_167 (by decide) ?_
    obtain ⟨h8, hf⟩ := oC_some hf
    obtain ⟨s6, e7, hf⟩ := oL_some hf
    refine g_zast (n := 2) (f := s4 9) hc (MW_at (k := 9) (by decide)) h8 (MW_set (μ1 := s6) (k := 9) (by decide) e7 rfl) dX7_text_168 ?_
    refine g_aload_n hc dX7_text_169 rfl 0 rfl ?_
    refine g_get (v := .ref (ad 9)) hc in_X7 (MW_at (k := 0) (by decide)) rfl 24 (by decide) q985 rfl dX7_text_170 ?_
    refine g_iconst (v := 1) hc dX7_text_173 (by decide) ?_
    refine g_iconst (v := 0) hc dX7_text_174 (by decide) ?_
    obtain ⟨h11, hf⟩ := oC_some hf
    obtain ⟨s9, e10, hf⟩ := oL_some hf
    refine g_zast (n := 2) (f := s6 9) hc (MW_at (k := 9) (by decide)) h11 (MW_set (μ1 := s9) (k := 9) (by decide) e10 rfl) dX7_text_175 ?_
    refine g_iload_n hc dX7_text_176 rfl 1 rfl ?_
    have hz := Option.some.inj hf; subst hz
    exact g_iret hc (hR _ hK) dX7_text_177
  · have hf := oF h1 hf
    refine g_aload_n hc dX7_text_131 rfl 0 rfl ?_
    refine g_get (v := .ref (ad 1)) hc in_X7 (MW_at (k := 0) (by decide)) rfl 0 (by decide) q961 rfl dX7_text_132 ?_
    refine g_iload_n hc dX7_text_135 rfl 2 rfl ?_
    refine g_aload_n hc dX7_text_136 rfl 0 rfl ?_
    refine g_get (v := .ref (ad 2)) hc in_X7 (MW_at (k := 0) (by decide)) rfl 2 (by decide) q963 rfl dX7_text_137 ?_
    refine g_iload_n hc dX7_text_140 rfl 2 rfl ?_
    obtain ⟨h13, hf⟩ := oC_some hf
    refine g_iald (n := 41) (f := σ 2) hc (MW_at (k := 2) (by decide)) h13 dX7_text_141 ?_
    obtain ⟨h16, hf⟩ := oC_some hf
    obtain ⟨s14, e15, hf⟩ := oL_some hf
    refine g_iast (n := 205) (f := σ 1) hc (MW_at (k := 1) (by decide)) h16 (MW_set (μ1 := s14) (k := 1) (by decide) e15 rfl) dX7_text_142 ?_
    refine g_iinc (v := l2 + 1) (lv' := [(2, .int (l2 + 1)), (0, .ref (ad 0)), (1, .int l1)]) hc dX7_text_143 (j := 2) rfl rfl (by decide) rfl ?_
    refine g_goto (tgt := 125) hc dX7_text_146 (by decide) ?_
    have hz := Option.some.inj hf; subst hz
    exact g_lv [1, 2, 0] rfl (hI125 _ hK)
def f_X7_text_b125 (σ : (Nat → Nat → Int32)) (l1 : Int32) (l2 : Int32) : Option (Int32 × (Nat → Nat → Int32)) :=
  oLoop gFU (fun v : Int32 × (Nat → Nat → Int32) => f_X7_text_L125 v.2 l1 v.1) (l2, σ)
theorem w_X7_text_b125 {x : gX} {ad : Nat → Nat} {tl : va_W}  (hc : gOk x RX7 cX7_text 3 6 133)  (σ : (Nat → Nat → Int32)) (l1 : Int32) (l2 : Int32)  {K : Int32 × (Nat → Nat → Int32) → Prop} {o : Int32 × (Nat → Nat → Int32)} (hf : f_X7_text_b125 σ l1 l2 = some o) (hK : K o) (hR : ∀ o : Int32 × (Nat → Nat → Int32), K o → gRi x 0 0 (MW x.dA ad o.2 ++ tl) o.1) : gG x 3 0 0 (MW x.dA ad σ ++ tl) 125 [(0, .ref (ad 0)), (1, .int l1), (2, .int l2)] [] :=
  oLoop_ind (fun v : Int32 × (Nat → Nat → Int32) => gG x 3 0 0 (MW x.dA ad v.2 ++ tl) 125 [(0, .ref (ad 0)), (1, .int l1), (2, .int v.1)] []) K (fun v o1 hf1 hK1 => w_X7_text_L125 hc v.2 l1 v.1  (K := Sum.elim (fun v : Int32 × (Nat → Nat → Int32) => gG x 3 0 0 (MW x.dA ad v.2 ++ tl) 125 [(0, .ref (ad 0)), (1, .int l1), (2, .int v.1)] []) K) hf1 hK1 (fun v hv => hv) hR) gFU _ o hf hK
def f_X7_text_b95 (σ : (Nat → Nat → Int32)) (l1 : Int32) : Option (Int32 × (Nat → Nat → Int32)) :=
  oL (upd2 σ 0 6 0) fun s1 => oL (upd2 s1 0 7 (s1 0 8)) fun s3 => if (s3 0 8) ≤ 0 then (f_X7_text_b125 s3 l1 0) else (some (((-10) - (s3 0 9)), s3))
theorem w_X7_text_b95 {x : gX} {ad : Nat → Nat} {tl : va_W}  (hc : gOk x RX7 cX7_text 3 6 133)  (σ : (Nat → Nat → Int32)) (l1 : Int32)  {K : Int32 × (Nat → Nat → Int32) → Prop} {o : Int32 × (Nat → Nat → Int32)} (hf : f_X7_text_b95 σ l1 = some o) (hK : K o) (hR : ∀ o : Int32 × (Nat → Nat → Int32), K o → gRi x 0 0 (MW x.dA ad o.2 ++ tl) o.1) : gG x 3 0 0 (MW x.dA ad σ ++ tl) 95 [(0, .ref (ad 0)), (1, .int l1)] [] := by
  unfold f_X7_text_b95 at hf
  refine g_aload_n hc dX7_text_95 rfl 0 rfl ?_
  refine g_iconst (v := 0) hc dX7_text_96 (by decide) ?_
  obtain ⟨s1, e2, hf⟩ := oL_some hf
  refine g_put (v := .int 0) hc in_X7 tyX7_ok nmX7 (MW_at (k := 0) (by decide)) rfl 6 (by decide) q967 rfl rfl rfl (Nat.le_of_ble_eq_true rfl) (MW_set (μ1 := s1) (k := 0) (by decide) e2 rfl) dX7_text_97 ?_
  refine g_aload_n hc dX7_text_100 rfl 0 rfl ?_
  refine g_aload_n hc dX7_text_101 rfl 0 rfl ?_
  refine g_get (v := .int (s1 0 8)) hc in_X7 (MW_at (k := 0) (by decide)) rfl 8 (by decide) q969 rfl dX7_text_102 ?_
  obtain ⟨s3, e4, hf⟩ := oL_some hf
  refine g_put (v := .int (s1 0 8)) hc in_X7 tyX7_ok nmX7 (MW_at (k := 0) (by decide)) rfl 7 (by decide) q968 rfl rfl rfl (Nat.le_of_ble_eq_true rfl) (MW_set (μ1 := s3) (k := 0) (by decide) e4 rfl) dX7_text_105 ?_
  refine g_aload_n hc dX7_text_108 rfl 0 rfl ?_
  refine g_get (v := .int (s3 0 8)) hc in_X7 (MW_at (k := 0) (by decide)) rfl 8 (by decide) q969 rfl dX7_text_109 ?_
  refine g_if_le (tgt := 123) hc dX7_text_112 (by decide) (fun h5 => ?_) (fun h5 => ?_)
  · have hf := oT h5 hf
    refine g_iconst (v := 0) hc dX7_text_123 (by decide) ?_
    refine g_istore_n (lv' := [(2, .int 0), (0, .ref (ad 0)), (1, .int l1)]) hc dX7_text_124 rfl (by decide) rfl ?_
    exact g_lv [1, 2, 0] rfl (w_X7_text_b125 hc s3 l1 0  (K := K) hf hK hR)
  · have hf := oF h5 hf
    refine g_bipush (v := (-10)) hc dX7_text_115 (by decide) ?_
    refine g_aload_n hc dX7_text_117 rfl 0 rfl ?_
    refine g_get (v := .int (s3 0 9)) hc in_X7 (MW_at (k := 0) (by decide)) rfl 9 (by decide) q970 rfl dX7_text_118 ?_
    refine g_isub hc dX7_text_121 ?_
    have hz := Option.some.inj hf; subst hz
    exact g_iret hc (hR _ hK) dX7_text_122
def f_X7_text_b71 (σ : (Nat → Nat → Int32)) (l1 : Int32) : Option (Int32 × (Nat → Nat → Int32)) :=
  if (σ 0 8) = 0 then (if (σ 0 4) < (σ 0 3) then (f_X7_text_b95 σ l1) else (oB (f_X7_fails σ 6) fun r4 => f_X7_text_b95 r4 l1)) else (f_X7_text_b95 σ l1)
theorem w_X7_text_b71 {x : gX} {ad : Nat → Nat} {tl : va_W}  (hc : gOk x RX7 cX7_text 3 6 133)  (σ : (Nat → Nat → Int32)) (l1 : Int32)  {K : Int32 × (Nat → Nat → Int32) → Prop} {o : Int32 × (Nat → Nat → Int32)} (hf : f_X7_text_b71 σ l1 = some o) (hK : K o) (hR : ∀ o : Int32 × (Nat → Nat → Int32), K o → gRi x 0 0 (MW x.dA ad o.2 ++ tl) o.1) : gG x 3 0 0 (MW x.dA ad σ ++ tl) 71 [(0, .ref (ad 0)), (1, .int l1)] [] := by
  unfold f_X7_text_b71 at hf
  refine g_aload_n hc dX7_text_71 rfl 0 rfl ?_
  refine g_get (v := .int (σ 0 8)) hc in_X7 (MW_at (k := 0) (by decide)) rfl 8 (by decide) q969 rfl dX7_text_72 ?_
  refine g_if_ne (tgt := 95) hc dX7_text_75 (by decide) (fun h1 => ?_) (fun h1 => ?_)
  · have hf := oF h1 hf
    exact g_lv [0, 1] rfl (w_X7_text_b95 hc σ l1  (K := K) hf hK hR)
  · have hf := oT h1 hf
    refine g_aload_n hc dX7_text_78 rfl 0 rfl ?_
    refine g_get (v := .int (σ 0 4)) hc in_X7 (MW_at (k := 0) (by decide)) rfl 4 (by decide) q965 rfl dX7_text_79 ?_
    refine g_aload_n hc dX7_text_82 rfl 0 rfl ?_
    refine g_get (v := .int (σ 0 3)) hc in_X7 (MW_at (k := 0) (by decide)) rfl 3 (by decide) q964 rfl dX7_text_83 ?_
    refine g_icmp_lt (tgt := 95) hc dX7_text_86 (by decide) (fun h2 => ?_) (fun h2 => ?_)
    · have hf := oT h2 hf
      exact g_lv [0, 1] rfl (w_X7_text_b95 hc σ l1  (K := K) hf hK hR)
    · have hf := oF h2 hf
      refine g_aload_n hc dX7_text_89 rfl 0 rfl ?_
      refine g_bipush (v := 6) hc dX7_text_90 (by decide) ?_
      obtain ⟨r4, h3, hf⟩ := oB_some hf
      refine g_callVv hc [.int 6] [] (c_X7_fails  h3) (MW_at (k := 0) (by decide)) rfl (lw_V q1078 q1080 qs34 q67 q1081) rfl hd_X7_fails rfl rfl (Nat.le_of_ble_eq_true rfl) gZ dX7_text_92 ?_
      exact g_lv [0, 1] rfl (w_X7_text_b95 hc r4 l1  (K := K) hf hK hR)
def f_X7_text_L47 (σ : (Nat → Nat → Int32)) (l1 : Int32) : Option ((Int32 × (Nat → Nat → Int32)) ⊕ (Int32 × (Nat → Nat → Int32))) :=
  if (σ 0 8) = 0 then (if (σ 0 12) = 0 then (oI (f_X7_text_b71 σ l1)) else (oB (f_X7_readLine σ) fun r6 => some (.inl ((l1 + 1), r6)))) else (oI (f_X7_text_b71 σ l1))
theorem w_X7_text_L47 {x : gX} {ad : Nat → Nat} {tl : va_W}  (hc : gOk x RX7 cX7_text 3 6 133)  (σ : (Nat → Nat → Int32)) (l1 : Int32)  {K : (Int32 × (Nat → Nat → Int32)) ⊕ (Int32 × (Nat → Nat → Int32)) → Prop} {o : (Int32 × (Nat → Nat → Int32)) ⊕ (Int32 × (Nat → Nat → Int32))} (hf : f_X7_text_L47 σ l1 = some o) (hK : K o) (hI47 : ∀ v : Int32 × (Nat → Nat → Int32), K (.inl v) → gG x 3 0 0 (MW x.dA ad v.2 ++ tl) 47 [(0, .ref (ad 0)), (1, .int v.1)] []) (hR : ∀ o : Int32 × (Nat → Nat → Int32), K (.inr (o)) → gRi x 0 0 (MW x.dA ad o.2 ++ tl) o.1) : gG x 3 0 0 (MW x.dA ad σ ++ tl) 47 [(0, .ref (ad 0)), (1, .int l1)] [] := by
  unfold f_X7_text_L47 at hf
  refine g_aload_n hc dX7_text_47 rfl 0 rfl ?_
  refine g_get (v := .int (σ 0 8)) hc in_X7 (MW_at (k := 0) (by decide)) rfl 8 (by decide) q969 rfl dX7_text_48 ?_
  refine g_if_ne (tgt := 71) hc dX7_text_51 (by decide) (fun h1 => ?_) (fun h1 => ?_)
  · have hf := oF h1 hf
    obtain ⟨o2, hgo2, eo2⟩ := oI_some hf
    clear hf; subst eo2; have hf := hgo2; clear hgo2
    exact g_lv [0, 1] rfl (w_X7_text_b71 hc σ l1  (K := (fun o1 => K (.inr o1))) hf hK hR)
  · have hf := oT h1 hf
    refine g_aload_n hc dX7_text_54 rfl 0 rfl ?_
    refine g_get (v := .int (σ 0 12)) hc in_X7 (MW_at (k := 0) (by decide)) rfl 12 (by decide) q973 rfl dX7_text_55 ?_
    refine g_if_eq (tgt := 71) hc dX7_text_58 (by decide) (fun h3 => ?_) (fun h3 => ?_)
    · have hf := oT h3 hf
      obtain ⟨o4, hgo4, eo4⟩ := oI_some hf
      clear hf; subst eo4; have hf := hgo4; clear hgo4
      exact g_lv [0, 1] rfl (w_X7_text_b71 hc σ l1  (K := (fun o1 => K (.inr o1))) hf hK hR)
    · have hf := oF h3 hf
      refine g_aload_n hc dX7_text_61 rfl 0 rfl ?_
      obtain ⟨r6, h5, hf⟩ := oB_some hf
      refine g_callVv hc [] [] (c_X7_readLine  h5) (MW_at (k := 0) (by decide)) rfl (lw_V q1082 q1084 qs35 q67 q1085) rfl hd_X7_readLine rfl rfl (Nat.le_of_ble_eq_true rfl) gZ dX7_text_62 ?_
      refine g_iinc (v := l1 + 1) (lv' := [(1, .int (l1 + 1)), (0, .ref (ad 0))]) hc dX7_text_65 (j := 1) rfl rfl (by decide) rfl ?_
      refine g_goto (tgt := 47) hc dX7_text_68 (by decide) ?_
      have hz := Option.some.inj hf; subst hz
      exact g_lv [1, 0] rfl (hI47 _ hK)
def f_X7_text_b47 (σ : (Nat → Nat → Int32)) (l1 : Int32) : Option (Int32 × (Nat → Nat → Int32)) :=
  oLoop gFU (fun v : Int32 × (Nat → Nat → Int32) => f_X7_text_L47 v.2 v.1) (l1, σ)
theorem w_X7_text_b47 {x : gX} {ad : Nat → Nat} {tl : va_W}  (hc : gOk x RX7 cX7_text 3 6 133)  (σ : (Nat → Nat → Int32)) (l1 : Int32)  {K : Int32 × (Nat → Nat → Int32) → Prop} {o : Int32 × (Nat → Nat → Int32)} (hf : f_X7_text_b47 σ l1 = some o) (hK : K o) (hR : ∀ o : Int32 × (Nat → Nat → Int32), K o → gRi x 0 0 (MW x.dA ad o.2 ++ tl) o.1) : gG x 3 0 0 (MW x.dA ad σ ++ tl) 47 [(0, .ref (ad 0)), (1, .int l1)] [] :=
  oLoop_ind (fun v : Int32 × (Nat → Nat → Int32) => gG x 3 0 0 (MW x.dA ad v.2 ++ tl) 47 [(0, .ref (ad 0)), (1, .int v.1)] []) K (fun v o1 hf1 hK1 => w_X7_text_L47 hc v.2 v.1  (K := Sum.elim (fun v : Int32 × (Nat → Nat → Int32) => gG x 3 0 0 (MW x.dA ad v.2 ++ tl) 47 [(0, .ref (ad 0)), (1, .int v.1)] []) K) hf1 hK1 (fun v hv => hv) hR) gFU _ o hf hK
def f_X7_text_L24 (σ : (Nat → Nat → Int32)) (l1 : Int32) (l2 : Int32) : Option ((Int32 × (Nat → Nat → Int32)) ⊕ (Int32 × (Nat → Nat → Int32))) :=
  if 41 ≤ l2 then (oI (oB (f_X7_step σ) fun r3 => f_X7_text_b47 r3 l1)) else (oC (inb l2 41) <| oL (upd2 σ 2 l2.toNatClampNeg 0) fun s5 => some (.inl ((l2 + 1), s5)))
theorem w_X7_text_L24 {x : gX} {ad : Nat → Nat} {tl : va_W}  (hc : gOk x RX7 cX7_text 3 6 133)  (σ : (Nat → Nat → Int32)) (l1 : Int32) (l2 : Int32)  {K : (Int32 × (Nat → Nat → Int32)) ⊕ (Int32 × (Nat → Nat → Int32)) → Prop} {o : (Int32 × (Nat → Nat → Int32)) ⊕ (Int32 × (Nat → Nat → Int32))} (hf : f_X7_text_L24 σ l1 l2 = some o) (hK : K o) (hI24 : ∀ v : Int32 × (Nat → Nat → Int32), K (.inl v) → gG x 3 0 0 (MW x.dA ad v.2 ++ tl) 24 [(0, .ref (ad 0)), (1, .int l1), (2, .int v.1)] []) (hR : ∀ o : Int32 × (Nat → Nat → Int32), K (.inr (o)) → gRi x 0 0 (MW x.dA ad o.2 ++ tl) o.1) : gG x 3 0 0 (MW x.dA ad σ ++ tl) 24 [(0, .ref (ad 0)), (1, .int l1), (2, .int l2)] [] := by
  unfold f_X7_text_L24 at hf
  refine g_iload_n hc dX7_text_24 rfl 2 rfl ?_
  refine g_bipush (v := 41) hc dX7_text_25 (by decide) ?_
  refine g_icmp_ge (tgt := 43) hc dX7_text_27 (by decide) (fun h1 => ?_) (fun h1 => ?_)
  · have hf := oT h1 hf
    obtain ⟨o4, hgo4, eo4⟩ := oI_some hf
    clear hf; subst eo4; have hf := hgo4; clear hgo4
    refine g_aload_n hc dX7_text_43 rfl 0 rfl ?_
    obtain ⟨r3, h2, hf⟩ := oB_some hf
    refine g_callVv hc [] [] (c_X7_step  h2) (MW_at (k := 0) (by decide)) rfl (lw_V q1066 q1068 qs32 q67 q1069) rfl hd_X7_step rfl rfl (Nat.le_of_ble_eq_true rfl) gZ dX7_text_44 ?_
    exact g_lv [0, 1] rfl (w_X7_text_b47 hc r3 l1  (K := (fun o1 => K (.inr o1))) hf hK hR)
  · have hf := oF h1 hf
    refine g_aload_n hc dX7_text_30 rfl 0 rfl ?_
    refine g_get (v := .ref (ad 2)) hc in_X7 (MW_at (k := 0) (by decide)) rfl 2 (by decide) q963 rfl dX7_text_31 ?_
    refine g_iload_n hc dX7_text_34 rfl 2 rfl ?_
    refine g_iconst (v := 0) hc dX7_text_35 (by decide) ?_
    obtain ⟨h7, hf⟩ := oC_some hf
    obtain ⟨s5, e6, hf⟩ := oL_some hf
    refine g_iast (n := 41) (f := σ 2) hc (MW_at (k := 2) (by decide)) h7 (MW_set (μ1 := s5) (k := 2) (by decide) e6 rfl) dX7_text_36 ?_
    refine g_iinc (v := l2 + 1) (lv' := [(2, .int (l2 + 1)), (0, .ref (ad 0)), (1, .int l1)]) hc dX7_text_37 (j := 2) rfl rfl (by decide) rfl ?_
    refine g_goto (tgt := 24) hc dX7_text_40 (by decide) ?_
    have hz := Option.some.inj hf; subst hz
    exact g_lv [1, 2, 0] rfl (hI24 _ hK)
def f_X7_text_b24 (σ : (Nat → Nat → Int32)) (l1 : Int32) (l2 : Int32) : Option (Int32 × (Nat → Nat → Int32)) :=
  oLoop gFU (fun v : Int32 × (Nat → Nat → Int32) => f_X7_text_L24 v.2 l1 v.1) (l2, σ)
theorem w_X7_text_b24 {x : gX} {ad : Nat → Nat} {tl : va_W}  (hc : gOk x RX7 cX7_text 3 6 133)  (σ : (Nat → Nat → Int32)) (l1 : Int32) (l2 : Int32)  {K : Int32 × (Nat → Nat → Int32) → Prop} {o : Int32 × (Nat → Nat → Int32)} (hf : f_X7_text_b24 σ l1 l2 = some o) (hK : K o) (hR : ∀ o : Int32 × (Nat → Nat → Int32), K o → gRi x 0 0 (MW x.dA ad o.2 ++ tl) o.1) : gG x 3 0 0 (MW x.dA ad σ ++ tl) 24 [(0, .ref (ad 0)), (1, .int l1), (2, .int l2)] [] :=
  oLoop_ind (fun v : Int32 × (Nat → Nat → Int32) => gG x 3 0 0 (MW x.dA ad v.2 ++ tl) 24 [(0, .ref (ad 0)), (1, .int l1), (2, .int v.1)] []) K (fun v o1 hf1 hK1 => w_X7_text_L24 hc v.2 l1 v.1  (K := Sum.elim (fun v : Int32 × (Nat → Nat → Int32) => gG x 3 0 0 (MW x.dA ad v.2 ++ tl) 24 [(0, .ref (ad 0)), (1, .int l1), (2, .int v.1)] []) K) hf1 hK1 (fun v hv => hv) hR) gFU _ o hf hK
def f_X7_text (σ : (Nat → Nat → Int32)) : Option (Int32 × (Nat → Nat → Int32)) :=
  oL (upd2 σ 0 8 0) fun s1 => oL (upd2 s1 0 10 0) fun s3 => oL (upd2 s3 0 3 0) fun s5 => oL (upd2 s5 0 4 (-1)) fun s7 => f_X7_text_b24 s7 0 0
theorem w_X7_text {x : gX} {ad : Nat → Nat} {tl : va_W}  (hc : gOk x RX7 cX7_text 3 6 133)  (σ : (Nat → Nat → Int32))  {K : Int32 × (Nat → Nat → Int32) → Prop} {o : Int32 × (Nat → Nat → Int32)} (hf : f_X7_text σ = some o) (hK : K o) (hR : ∀ o : Int32 × (Nat → Nat → Int32), K o → gRi x 0 0 (MW x.dA ad o.2 ++ tl) o.1) : gG x 3 0 0 (MW x.dA ad σ ++ tl) 0 [(0, .ref (ad 0))] [] := by
  unfold f_X7_text at hf
  refine g_aload_n hc dX7_text_0 rfl 0 rfl ?_
  refine g_iconst (v := 0) hc dX7_text_1 (by decide) ?_
  obtain ⟨s1, e2, hf⟩ := oL_some hf
  refine g_put (v := .int 0) hc in_X7 tyX7_ok nmX7 (MW_at (k := 0) (by decide)) rfl 8 (by decide) q969 rfl rfl rfl (Nat.le_of_ble_eq_true rfl) (MW_set (μ1 := s1) (k := 0) (by decide) e2 rfl) dX7_text_2 ?_
  refine g_aload_n hc dX7_text_5 rfl 0 rfl ?_
  refine g_iconst (v := 0) hc dX7_text_6 (by decide) ?_
  obtain ⟨s3, e4, hf⟩ := oL_some hf
  refine g_put (v := .int 0) hc in_X7 tyX7_ok nmX7 (MW_at (k := 0) (by decide)) rfl 10 (by decide) q971 rfl rfl rfl (Nat.le_of_ble_eq_true rfl) (MW_set (μ1 := s3) (k := 0) (by decide) e4 rfl) dX7_text_7 ?_
  refine g_aload_n hc dX7_text_10 rfl 0 rfl ?_
  refine g_iconst (v := 0) hc dX7_text_11 (by decide) ?_
  obtain ⟨s5, e6, hf⟩ := oL_some hf
  refine g_put (v := .int 0) hc in_X7 tyX7_ok nmX7 (MW_at (k := 0) (by decide)) rfl 3 (by decide) q964 rfl rfl rfl (Nat.le_of_ble_eq_true rfl) (MW_set (μ1 := s5) (k := 0) (by decide) e6 rfl) dX7_text_12 ?_
  refine g_aload_n hc dX7_text_15 rfl 0 rfl ?_
  refine g_iconst (v := (-1)) hc dX7_text_16 (by decide) ?_
  obtain ⟨s7, e8, hf⟩ := oL_some hf
  refine g_put (v := .int (-1)) hc in_X7 tyX7_ok nmX7 (MW_at (k := 0) (by decide)) rfl 4 (by decide) q965 rfl rfl rfl (Nat.le_of_ble_eq_true rfl) (MW_set (μ1 := s7) (k := 0) (by decide) e8 rfl) dX7_text_17 ?_
  refine g_iconst (v := 0) hc dX7_text_20 (by decide) ?_
  refine g_istore_n (lv' := [(1, .int 0), (0, .ref (ad 0))]) hc dX7_text_21 rfl (by decide) rfl ?_
  refine g_iconst (v := 0) hc dX7_text_22 (by decide) ?_
  refine g_istore_n (lv' := [(2, .int 0), (1, .int 0), (0, .ref (ad 0))]) hc dX7_text_23 rfl (by decide) rfl ?_
  exact g_lv [2, 1, 0] rfl (w_X7_text_b24 hc s7 0 0  (K := K) hf hK hR)
theorem c_X7_text {l : Launch} {D : va_G} {dA : Nat → ClassId} {ad : Nat → Nat} {tl : va_W}  {σ : (Nat → Nat → Int32)}  {o : Int32 × (Nat → Nat → Int32)} (hf : f_X7_text σ = some o) : gI l D dA (MW dA ad σ ++ tl) (MW dA ad o.2 ++ tl) [.ref (ad 0)] o.1 yX7_text (ws_ yX7_text cX7_text 3 (some .int)) ({ frames := 6, cells := 0, slots := 0, locals := 133 } : Room) :=
  g_startI (own := RX7) ⟨rfl, rfl⟩ (by decide) rfl (Nat.le_of_ble_eq_true rfl) (fun x e hc hR => by
    subst e
    exact w_X7_text hc σ  (K := fun o1 => o1 = o) hf rfl (by rintro _ rfl; exact hR))
theorem hd_X7_text : yX7_text.cls = RX7 ∧ yX7_text.cls ≠ "java/lang/invoke/MethodHandle" ∧ yX7_text.cls ≠ "java/lang/invoke/VarHandle" ∧ (parseMethodDescriptor yX7_text.desc).map (fun d => d.parameters.length) = some 0 := by decide +kernel
/-! HedgehogLotsModel.fault()I -/
def f_X7_fault (σ : (Nat → Nat → Int32)) : Option (Int32) :=
  some (σ 0 7)
theorem w_X7_fault {x : gX} {ad : Nat → Nat} {tl : va_W}  (hc : gOk x RX7 cX7_fault 1 0 0)  (σ : (Nat → Nat → Int32))  {K : Int32 → Prop} {o : Int32} (hf : f_X7_fault σ = some o) (hK : K o) (hR : ∀ o : Int32, K o → gRi x 0 0 (MW x.dA ad σ ++ tl) o) : gG x 1 0 0 (MW x.dA ad σ ++ tl) 0 [(0, .ref (ad 0))] [] := by
  unfold f_X7_fault at hf
  refine g_aload_n hc dX7_fault_0 rfl 0 rfl ?_
  refine g_get (v := .int (σ 0 7)) hc in_X7 (MW_at (k := 0) (by decide)) rfl 7 (by decide) q968 rfl dX7_fault_1 ?_
  have hz := Option.some.inj hf; subst hz
  exact g_iret hc (hR _ hK) dX7_fault_4
theorem c_X7_fault {l : Launch} {D : va_G} {dA : Nat → ClassId} {ad : Nat → Nat} {tl : va_W}  {σ : (Nat → Nat → Int32)}  {o : Int32} (hf : f_X7_fault σ = some o) : gI l D dA (MW dA ad σ ++ tl) (MW dA ad σ ++ tl) [.ref (ad 0)] o yX7_fault (ws_ yX7_fault cX7_fault 1 (some .int)) ({ frames := 0, cells := 0, slots := 0, locals := 0 } : Room) :=
  g_startI (own := RX7) ⟨rfl, rfl⟩ (by decide) rfl (Nat.le_of_ble_eq_true rfl) (fun x e hc hR => by
    subst e
    exact w_X7_fault hc σ  (K := fun o1 => o1 = o) hf rfl (by rintro _ rfl; exact hR))
theorem hd_X7_fault : yX7_fault.cls = RX7 ∧ yX7_fault.cls ≠ "java/lang/invoke/MethodHandle" ∧ yX7_fault.cls ≠ "java/lang/invoke/VarHandle" ∧ (parseMethodDescriptor yX7_fault.desc).map (fun d => d.parameters.length) = some 0 := by decide +kernel
/-! HedgehogLotsModel.isPeg(I)Z -/
def f_X7_isPeg (σ : (Nat → Nat → Int32)) (l1 : Int32) : Option (Int32) :=
  oC (inb 38 205) <| oB (f_X7_in (Int32.toInt64 l1) 0 (Int32.toInt64 ((σ 1 (Int32.toNatClampNeg 38)) - 1))) fun r3 => oC (isB r3) <| some r3
theorem w_X7_isPeg {x : gX} {ad : Nat → Nat} {tl : va_W}  (hc : gOk x RX7 cX7_isPeg 2 1 25)  (σ : (Nat → Nat → Int32)) (l1 : Int32)  {K : Int32 → Prop} {o : Int32} (hf : f_X7_isPeg σ l1 = some o) (hK : K o) (hR : ∀ o : Int32, K o → gRz x 0 0 (MW x.dA ad σ ++ tl) o) : gG x 2 0 0 (MW x.dA ad σ ++ tl) 0 [(0, .ref (ad 0)), (1, .int l1)] [] := by
  unfold f_X7_isPeg at hf
  refine g_iload_n hc dX7_isPeg_0 rfl 1 rfl ?_
  refine g_i2l hc dX7_isPeg_1 ?_
  refine g_lconst (v := 0) hc dX7_isPeg_2 (by decide) ?_
  refine g_aload_n hc dX7_isPeg_3 rfl 0 rfl ?_
  refine g_get (v := .ref (ad 1)) hc in_X7 (MW_at (k := 0) (by decide)) rfl 0 (by decide) q961 rfl dX7_isPeg_4 ?_
  refine g_bipush (v := 38) hc dX7_isPeg_7 (by decide) ?_
  obtain ⟨h1, hf⟩ := oC_some hf
  refine g_iald (n := 205) (f := σ 1) hc (MW_at (k := 1) (by decide)) h1 dX7_isPeg_9 ?_
  refine g_iconst (v := 1) hc dX7_isPeg_10 (by decide) ?_
  refine g_isub hc dX7_isPeg_11 ?_
  refine g_i2l hc dX7_isPeg_12 ?_
  obtain ⟨r3, h2, hf⟩ := oB_some hf
  refine g_callSi hc [.long (Int32.toInt64 l1), .long 0, .long (Int32.toInt64 ((σ 1 (Int32.toNatClampNeg 38)) - 1))] [] (c_X7_in  h2) (lw_S q1055 q1056 q67 q1057) rfl hd_X7_in rfl rfl (Nat.le_of_ble_eq_true rfl) gZ dX7_isPeg_13 ?_
  obtain ⟨h4, hf⟩ := oC_some hf
  have hz := Option.some.inj hf; subst hz
  exact g_zret hc (hR _ hK) (isB_nar h4) dX7_isPeg_16
theorem c_X7_isPeg {l : Launch} {D : va_G} {dA : Nat → ClassId} {ad : Nat → Nat} {tl : va_W}  {σ : (Nat → Nat → Int32)} {l1 : Int32}  {o : Int32} (hf : f_X7_isPeg σ l1 = some o) : gI l D dA (MW dA ad σ ++ tl) (MW dA ad σ ++ tl) [.ref (ad 0), .int l1] o yX7_isPeg (ws_ yX7_isPeg cX7_isPeg 2 (some .boolean)) ({ frames := 1, cells := 0, slots := 0, locals := 25 } : Room) :=
  g_startZ (own := RX7) ⟨rfl, rfl⟩ (by decide) rfl (Nat.le_of_ble_eq_true rfl) (fun x e hc hR => by
    subst e
    exact w_X7_isPeg hc σ l1  (K := fun o1 => o1 = o) hf rfl (by rintro _ rfl; exact hR))
theorem hd_X7_isPeg : yX7_isPeg.cls = RX7 ∧ yX7_isPeg.cls ≠ "java/lang/invoke/MethodHandle" ∧ yX7_isPeg.cls ≠ "java/lang/invoke/VarHandle" ∧ (parseMethodDescriptor yX7_isPeg.desc).map (fun d => d.parameters.length) = some 1 := by decide +kernel
/-! HedgehogLotsModel.isHog(I)Z -/
def f_X7_isHog (σ : (Nat → Nat → Int32)) (l1 : Int32) : Option (Int32) :=
  oB (f_X7_in (Int32.toInt64 l1) 0 (Int32.toInt64 ((σ 0 1) - 1))) fun r2 => oC (isB r2) <| some r2
theorem w_X7_isHog {x : gX} {ad : Nat → Nat} {tl : va_W}  (hc : gOk x RX7 cX7_isHog 2 1 25)  (σ : (Nat → Nat → Int32)) (l1 : Int32)  {K : Int32 → Prop} {o : Int32} (hf : f_X7_isHog σ l1 = some o) (hK : K o) (hR : ∀ o : Int32, K o → gRz x 0 0 (MW x.dA ad σ ++ tl) o) : gG x 2 0 0 (MW x.dA ad σ ++ tl) 0 [(0, .ref (ad 0)), (1, .int l1)] [] := by
  unfold f_X7_isHog at hf
  refine g_iload_n hc dX7_isHog_0 rfl 1 rfl ?_
  refine g_i2l hc dX7_isHog_1 ?_
  refine g_lconst (v := 0) hc dX7_isHog_2 (by decide) ?_
  refine g_aload_n hc dX7_isHog_3 rfl 0 rfl ?_
  refine g_get (v := .int (σ 0 1)) hc in_X7 (MW_at (k := 0) (by decide)) rfl 1 (by decide) q962 rfl dX7_isHog_4 ?_
  refine g_iconst (v := 1) hc dX7_isHog_7 (by decide) ?_
  refine g_isub hc dX7_isHog_8 ?_
  refine g_i2l hc dX7_isHog_9 ?_
  obtain ⟨r2, h1, hf⟩ := oB_some hf
  refine g_callSi hc [.long (Int32.toInt64 l1), .long 0, .long (Int32.toInt64 ((σ 0 1) - 1))] [] (c_X7_in  h1) (lw_S q1055 q1056 q67 q1057) rfl hd_X7_in rfl rfl (Nat.le_of_ble_eq_true rfl) gZ dX7_isHog_10 ?_
  obtain ⟨h3, hf⟩ := oC_some hf
  have hz := Option.some.inj hf; subst hz
  exact g_zret hc (hR _ hK) (isB_nar h3) dX7_isHog_13
theorem c_X7_isHog {l : Launch} {D : va_G} {dA : Nat → ClassId} {ad : Nat → Nat} {tl : va_W}  {σ : (Nat → Nat → Int32)} {l1 : Int32}  {o : Int32} (hf : f_X7_isHog σ l1 = some o) : gI l D dA (MW dA ad σ ++ tl) (MW dA ad σ ++ tl) [.ref (ad 0), .int l1] o yX7_isHog (ws_ yX7_isHog cX7_isHog 2 (some .boolean)) ({ frames := 1, cells := 0, slots := 0, locals := 25 } : Room) :=
  g_startZ (own := RX7) ⟨rfl, rfl⟩ (by decide) rfl (Nat.le_of_ble_eq_true rfl) (fun x e hc hR => by
    subst e
    exact w_X7_isHog hc σ l1  (K := fun o1 => o1 = o) hf rfl (by rintro _ rfl; exact hR))
theorem hd_X7_isHog : yX7_isHog.cls = RX7 ∧ yX7_isHog.cls ≠ "java/lang/invoke/MethodHandle" ∧ yX7_isHog.cls ≠ "java/lang/invoke/VarHandle" ∧ (parseMethodDescriptor yX7_isHog.desc).map (fun d => d.parameters.length) = some 1 := by decide +kernel
/-! HedgehogLotsModel.isSuit(I)Z -/
def f_X7_isSuit (σ : (Nat → Nat → Int32)) (l1 : Int32) : Option (Int32) :=
  oC (inb 40 205) <| oB (f_X7_in (Int32.toInt64 l1) 0 (Int32.toInt64 ((σ 1 (Int32.toNatClampNeg 40)) - 1))) fun r3 => oC (isB r3) <| some r3
theorem w_X7_isSuit {x : gX} {ad : Nat → Nat} {tl : va_W}  (hc : gOk x RX7 cX7_isSuit 2 1 25)  (σ : (Nat → Nat → Int32)) (l1 : Int32)  {K : Int32 → Prop} {o : Int32} (hf : f_X7_isSuit σ l1 = some o) (hK : K o) (hR : ∀ o : Int32, K o → gRz x 0 0 (MW x.dA ad σ ++ tl) o) : gG x 2 0 0 (MW x.dA ad σ ++ tl) 0 [(0, .ref (ad 0)), (1, .int l1)] [] := by
  unfold f_X7_isSuit at hf
  refine g_iload_n hc dX7_isSuit_0 rfl 1 rfl ?_
  refine g_i2l hc dX7_isSuit_1 ?_
  refine g_lconst (v := 0) hc dX7_isSuit_2 (by decide) ?_
  refine g_aload_n hc dX7_isSuit_3 rfl 0 rfl ?_
  refine g_get (v := .ref (ad 1)) hc in_X7 (MW_at (k := 0) (by decide)) rfl 0 (by decide) q961 rfl dX7_isSuit_4 ?_
  refine g_bipush (v := 40) hc dX7_isSuit_7 (by decide) ?_
  obtain ⟨h1, hf⟩ := oC_some hf
  refine g_iald (n := 205) (f := σ 1) hc (MW_at (k := 1) (by decide)) h1 dX7_isSuit_9 ?_
  refine g_iconst (v := 1) hc dX7_isSuit_10 (by decide) ?_
  refine g_isub hc dX7_isSuit_11 ?_
  refine g_i2l hc dX7_isSuit_12 ?_
  obtain ⟨r3, h2, hf⟩ := oB_some hf
  refine g_callSi hc [.long (Int32.toInt64 l1), .long 0, .long (Int32.toInt64 ((σ 1 (Int32.toNatClampNeg 40)) - 1))] [] (c_X7_in  h2) (lw_S q1055 q1056 q67 q1057) rfl hd_X7_in rfl rfl (Nat.le_of_ble_eq_true rfl) gZ dX7_isSuit_13 ?_
  obtain ⟨h4, hf⟩ := oC_some hf
  have hz := Option.some.inj hf; subst hz
  exact g_zret hc (hR _ hK) (isB_nar h4) dX7_isSuit_16
theorem c_X7_isSuit {l : Launch} {D : va_G} {dA : Nat → ClassId} {ad : Nat → Nat} {tl : va_W}  {σ : (Nat → Nat → Int32)} {l1 : Int32}  {o : Int32} (hf : f_X7_isSuit σ l1 = some o) : gI l D dA (MW dA ad σ ++ tl) (MW dA ad σ ++ tl) [.ref (ad 0), .int l1] o yX7_isSuit (ws_ yX7_isSuit cX7_isSuit 2 (some .boolean)) ({ frames := 1, cells := 0, slots := 0, locals := 25 } : Room) :=
  g_startZ (own := RX7) ⟨rfl, rfl⟩ (by decide) rfl (Nat.le_of_ble_eq_true rfl) (fun x e hc hR => by
    subst e
    exact w_X7_isSuit hc σ l1  (K := fun o1 => o1 = o) hf rfl (by rintro _ rfl; exact hR))
theorem hd_X7_isSuit : yX7_isSuit.cls = RX7 ∧ yX7_isSuit.cls ≠ "java/lang/invoke/MethodHandle" ∧ yX7_isSuit.cls ≠ "java/lang/invoke/VarHandle" ∧ (parseMethodDescriptor yX7_isSuit.desc).map (fun d => d.parameters.length) = some 1 := by decide +kernel
/-! HedgehogLotsModel.isCell(I)Z -/
def f_X7_isCell (l0 : Int32) : Option (Int32) :=
  oB (f_X7_in (Int32.toInt64 l0) 0 97) fun r2 => if r2 = 0 then (some 0) else (if 8 ≤ (l0 - l0 / 10 * 10) then (some 0) else (some 1))
theorem w_X7_isCell {x : gX} {Φ : va_W}  (hc : gOk x RX7 cX7_isCell 1 1 25)  (l0 : Int32)  {K : Int32 → Prop} {o : Int32} (hf : f_X7_isCell l0 = some o) (hK : K o) (hR : ∀ o : Int32, K o → gRz x 0 0 (Φ) o) : gG x 1 0 0 (Φ) 0 [(0, .int l0)] [] := by
  unfold f_X7_isCell at hf
  refine g_iload_n hc dX7_isCell_0 rfl 0 rfl ?_
  refine g_i2l hc dX7_isCell_1 ?_
  refine g_lconst (v := 0) hc dX7_isCell_2 (by decide) ?_
  refine g_ldc2 (v := 97) hc q1074 dX7_isCell_3 ?_
  obtain ⟨r2, h1, hf⟩ := oB_some hf
  refine g_callSi hc [.long (Int32.toInt64 l0), .long 0, .long 97] [] (c_X7_in  h1) (lw_S q1055 q1056 q67 q1057) rfl hd_X7_in rfl rfl (Nat.le_of_ble_eq_true rfl) gZ dX7_isCell_6 ?_
  refine g_if_eq (tgt := 25) hc dX7_isCell_9 (by decide) (fun h3 => ?_) (fun h3 => ?_)
  · have hf := oT h3 hf
    refine g_iconst (v := 0) hc dX7_isCell_25 (by decide) ?_
    have hz := Option.some.inj hf; subst hz
    exact g_zret hc (hR _ hK) rfl dX7_isCell_26
  · have hf := oF h3 hf
    refine g_iload_n hc dX7_isCell_12 rfl 0 rfl ?_
    refine g_bipush (v := 10) hc dX7_isCell_13 (by decide) ?_
    refine g_irem hc dX7_isCell_15 (by decide) ?_
    refine g_bipush (v := 8) hc dX7_isCell_16 (by decide) ?_
    refine g_icmp_ge (tgt := 25) hc dX7_isCell_18 (by decide) (fun h4 => ?_) (fun h4 => ?_)
    · have hf := oT h4 hf
      refine g_iconst (v := 0) hc dX7_isCell_25 (by decide) ?_
      have hz := Option.some.inj hf; subst hz
      exact g_zret hc (hR _ hK) rfl dX7_isCell_26
    · have hf := oF h4 hf
      refine g_iconst (v := 1) hc dX7_isCell_21 (by decide) ?_
      refine g_goto (tgt := 26) hc dX7_isCell_22 (by decide) ?_
      have hz := Option.some.inj hf; subst hz
      exact g_zret hc (hR _ hK) rfl dX7_isCell_26
theorem c_X7_isCell {l : Launch} {D : va_G} {dA : Nat → ClassId} {Φ : va_W}  {l0 : Int32}  {o : Int32} (hf : f_X7_isCell l0 = some o) : gI l D dA (Φ) (Φ) [.int l0] o yX7_isCell (ws_ yX7_isCell cX7_isCell 1 (some .boolean)) ({ frames := 1, cells := 0, slots := 0, locals := 25 } : Room) :=
  g_startZ (own := RX7) ⟨rfl, rfl⟩ (by decide) rfl (Nat.le_of_ble_eq_true rfl) (fun x e hc hR => by
    subst e
    exact w_X7_isCell hc l0  (K := fun o1 => o1 = o) hf rfl (by rintro _ rfl; exact hR))
theorem hd_X7_isCell : yX7_isCell.cls ≠ "java/lang/invoke/MethodHandle" ∧ yX7_isCell.cls ≠ "java/lang/invoke/VarHandle" ∧ (parseMethodDescriptor yX7_isCell.desc).map (fun d => d.parameters.length) = some 1 := by decide +kernel
/-! HedgehogLotsModel.isColumn(I)Z -/
def f_X7_isColumn (l0 : Int32) : Option (Int32) :=
  oB (f_X7_in (Int32.toInt64 l0) 0 7) fun r2 => oC (isB r2) <| some r2
theorem w_X7_isColumn {x : gX} {Φ : va_W}  (hc : gOk x RX7 cX7_isColumn 1 1 25)  (l0 : Int32)  {K : Int32 → Prop} {o : Int32} (hf : f_X7_isColumn l0 = some o) (hK : K o) (hR : ∀ o : Int32, K o → gRz x 0 0 (Φ) o) : gG x 1 0 0 (Φ) 0 [(0, .int l0)] [] := by
  unfold f_X7_isColumn at hf
  refine g_iload_n hc dX7_isColumn_0 rfl 0 rfl ?_
  refine g_i2l hc dX7_isColumn_1 ?_
  refine g_lconst (v := 0) hc dX7_isColumn_2 (by decide) ?_
  refine g_ldc2 (v := 7) hc q1233 dX7_isColumn_3 ?_
  obtain ⟨r2, h1, hf⟩ := oB_some hf
  refine g_callSi hc [.long (Int32.toInt64 l0), .long 0, .long 7] [] (c_X7_in  h1) (lw_S q1055 q1056 q67 q1057) rfl hd_X7_in rfl rfl (Nat.le_of_ble_eq_true rfl) gZ dX7_isColumn_6 ?_
  obtain ⟨h3, hf⟩ := oC_some hf
  have hz := Option.some.inj hf; subst hz
  exact g_zret hc (hR _ hK) (isB_nar h3) dX7_isColumn_9
theorem c_X7_isColumn {l : Launch} {D : va_G} {dA : Nat → ClassId} {Φ : va_W}  {l0 : Int32}  {o : Int32} (hf : f_X7_isColumn l0 = some o) : gI l D dA (Φ) (Φ) [.int l0] o yX7_isColumn (ws_ yX7_isColumn cX7_isColumn 1 (some .boolean)) ({ frames := 1, cells := 0, slots := 0, locals := 25 } : Room) :=
  g_startZ (own := RX7) ⟨rfl, rfl⟩ (by decide) rfl (Nat.le_of_ble_eq_true rfl) (fun x e hc hR => by
    subst e
    exact w_X7_isColumn hc l0  (K := fun o1 => o1 = o) hf rfl (by rintro _ rfl; exact hR))
theorem hd_X7_isColumn : yX7_isColumn.cls ≠ "java/lang/invoke/MethodHandle" ∧ yX7_isColumn.cls ≠ "java/lang/invoke/VarHandle" ∧ (parseMethodDescriptor yX7_isColumn.desc).map (fun d => d.parameters.length) = some 1 := by decide +kernel
/-! HedgehogLotsModel.isRag(I)Z -/
def f_X7_isRag (l0 : Int32) : Option (Int32) :=
  oB (f_X7_in (Int32.toInt64 l0) 0 3) fun r2 => oC (isB r2) <| some r2
theorem w_X7_isRag {x : gX} {Φ : va_W}  (hc : gOk x RX7 cX7_isRag 1 1 25)  (l0 : Int32)  {K : Int32 → Prop} {o : Int32} (hf : f_X7_isRag l0 = some o) (hK : K o) (hR : ∀ o : Int32, K o → gRz x 0 0 (Φ) o) : gG x 1 0 0 (Φ) 0 [(0, .int l0)] [] := by
  unfold f_X7_isRag at hf
  refine g_iload_n hc dX7_isRag_0 rfl 0 rfl ?_
  refine g_i2l hc dX7_isRag_1 ?_
  refine g_lconst (v := 0) hc dX7_isRag_2 (by decide) ?_
  refine g_ldc2 (v := 3) hc q1166 dX7_isRag_3 ?_
  obtain ⟨r2, h1, hf⟩ := oB_some hf
  refine g_callSi hc [.long (Int32.toInt64 l0), .long 0, .long 3] [] (c_X7_in  h1) (lw_S q1055 q1056 q67 q1057) rfl hd_X7_in rfl rfl (Nat.le_of_ble_eq_true rfl) gZ dX7_isRag_6 ?_
  obtain ⟨h3, hf⟩ := oC_some hf
  have hz := Option.some.inj hf; subst hz
  exact g_zret hc (hR _ hK) (isB_nar h3) dX7_isRag_9
theorem c_X7_isRag {l : Launch} {D : va_G} {dA : Nat → ClassId} {Φ : va_W}  {l0 : Int32}  {o : Int32} (hf : f_X7_isRag l0 = some o) : gI l D dA (Φ) (Φ) [.int l0] o yX7_isRag (ws_ yX7_isRag cX7_isRag 1 (some .boolean)) ({ frames := 1, cells := 0, slots := 0, locals := 25 } : Room) :=
  g_startZ (own := RX7) ⟨rfl, rfl⟩ (by decide) rfl (Nat.le_of_ble_eq_true rfl) (fun x e hc hR => by
    subst e
    exact w_X7_isRag hc l0  (K := fun o1 => o1 = o) hf rfl (by rintro _ rfl; exact hR))
theorem hd_X7_isRag : yX7_isRag.cls ≠ "java/lang/invoke/MethodHandle" ∧ yX7_isRag.cls ≠ "java/lang/invoke/VarHandle" ∧ (parseMethodDescriptor yX7_isRag.desc).map (fun d => d.parameters.length) = some 1 := by decide +kernel
/-! HedgehogLotsModel.pegOn(II)I -/
def f_X7_pegOn_L2 (σ : (Nat → Nat → Int32)) (l1 : Int32) (l2 : Int32) (l3 : Int32) : Option ((Int32) ⊕ (Int32)) :=
  oC (inb (l1 + 38) 205) <| if (σ 1 (l1 + 38).toNatClampNeg) ≤ l3 then (oI (some (-4))) else (oC (inb (l1 + l3) 205) <| if (σ 1 (l1 + l3).toNatClampNeg) = l2 then (oI (some l3)) else (some (.inl (l3 + 1))))
theorem w_X7_pegOn_L2 {x : gX} {ad : Nat → Nat} {tl : va_W}  (hc : gOk x RX7 cX7_pegOn 4 0 0)  (σ : (Nat → Nat → Int32)) (l1 : Int32) (l2 : Int32) (l3 : Int32)  {K : (Int32) ⊕ (Int32) → Prop} {o : (Int32) ⊕ (Int32)} (hf : f_X7_pegOn_L2 σ l1 l2 l3 = some o) (hK : K o) (hI2 : ∀ v : Int32, K (.inl v) → gG x 4 0 0 (MW x.dA ad σ ++ tl) 2 [(0, .ref (ad 0)), (1, .int l1), (2, .int l2), (3, .int v)] []) (hR : ∀ o : Int32, K (.inr (o)) → gRi x 0 0 (MW x.dA ad σ ++ tl) o) : gG x 4 0 0 (MW x.dA ad σ ++ tl) 2 [(0, .ref (ad 0)), (1, .int l1), (2, .int l2), (3, .int l3)] [] := by
  unfold f_X7_pegOn_L2 at hf
  refine g_iload_n hc dX7_pegOn_2 rfl 3 rfl ?_
  refine g_aload_n hc dX7_pegOn_3 rfl 0 rfl ?_
  refine g_get (v := .ref (ad 1)) hc in_X7 (MW_at (k := 0) (by decide)) rfl 0 (by decide) q961 rfl dX7_pegOn_4 ?_
  refine g_iload_n hc dX7_pegOn_7 rfl 1 rfl ?_
  refine g_bipush (v := 38) hc dX7_pegOn_8 (by decide) ?_
  refine g_iadd hc dX7_pegOn_10 ?_
  obtain ⟨h1, hf⟩ := oC_some hf
  refine g_iald (n := 205) (f := σ 1) hc (MW_at (k := 1) (by decide)) h1 dX7_pegOn_11 ?_
  refine g_icmp_ge (tgt := 35) hc dX7_pegOn_12 (by decide) (fun h2 => ?_) (fun h2 => ?_)
  · have hf := oT h2 hf
    obtain ⟨o3, hgo3, eo3⟩ := oI_some hf
    clear hf; subst eo3; have hf := hgo3; clear hgo3
    refine g_bipush (v := (-4)) hc dX7_pegOn_35 (by decide) ?_
    have hz := Option.some.inj hf; subst hz
    exact g_iret hc (hR _ hK) dX7_pegOn_37
  · have hf := oF h2 hf
    refine g_aload_n hc dX7_pegOn_15 rfl 0 rfl ?_
    refine g_get (v := .ref (ad 1)) hc in_X7 (MW_at (k := 0) (by decide)) rfl 0 (by decide) q961 rfl dX7_pegOn_16 ?_
    refine g_iload_n hc dX7_pegOn_19 rfl 1 rfl ?_
    refine g_iload_n hc dX7_pegOn_20 rfl 3 rfl ?_
    refine g_iadd hc dX7_pegOn_21 ?_
    obtain ⟨h4, hf⟩ := oC_some hf
    refine g_iald (n := 205) (f := σ 1) hc (MW_at (k := 1) (by decide)) h4 dX7_pegOn_22 ?_
    refine g_iload_n hc dX7_pegOn_23 rfl 2 rfl ?_
    refine g_icmp_ne (tgt := 29) hc dX7_pegOn_24 (by decide) (fun h5 => ?_) (fun h5 => ?_)
    · have hf := oF h5 hf
      refine g_iinc (v := l3 + 1) (lv' := [(3, .int (l3 + 1)), (0, .ref (ad 0)), (1, .int l1), (2, .int l2)]) hc dX7_pegOn_29 (j := 3) rfl rfl (by decide) rfl ?_
      refine g_goto (tgt := 2) hc dX7_pegOn_32 (by decide) ?_
      have hz := Option.some.inj hf; subst hz
      exact g_lv [1, 2, 3, 0] rfl (hI2 _ hK)
    · have hf := oT h5 hf
      obtain ⟨o6, hgo6, eo6⟩ := oI_some hf
      clear hf; subst eo6; have hf := hgo6; clear hgo6
      refine g_iload_n hc dX7_pegOn_27 rfl 3 rfl ?_
      have hz := Option.some.inj hf; subst hz
      exact g_iret hc (hR _ hK) dX7_pegOn_28
def f_X7_pegOn_b2 (σ : (Nat → Nat → Int32)) (l1 : Int32) (l2 : Int32) (l3 : Int32) : Option (Int32) :=
  oLoop gFU (fun v : Int32 => f_X7_pegOn_L2 σ l1 l2 v) l3
theorem w_X7_pegOn_b2 {x : gX} {ad : Nat → Nat} {tl : va_W}  (hc : gOk x RX7 cX7_pegOn 4 0 0)  (σ : (Nat → Nat → Int32)) (l1 : Int32) (l2 : Int32) (l3 : Int32)  {K : Int32 → Prop} {o : Int32} (hf : f_X7_pegOn_b2 σ l1 l2 l3 = some o) (hK : K o) (hR : ∀ o : Int32, K o → gRi x 0 0 (MW x.dA ad σ ++ tl) o) : gG x 4 0 0 (MW x.dA ad σ ++ tl) 2 [(0, .ref (ad 0)), (1, .int l1), (2, .int l2), (3, .int l3)] [] :=
  oLoop_ind (fun v : Int32 => gG x 4 0 0 (MW x.dA ad σ ++ tl) 2 [(0, .ref (ad 0)), (1, .int l1), (2, .int l2), (3, .int v)] []) K (fun v o1 hf1 hK1 => w_X7_pegOn_L2 hc σ l1 l2 v  (K := Sum.elim (fun v : Int32 => gG x 4 0 0 (MW x.dA ad σ ++ tl) 2 [(0, .ref (ad 0)), (1, .int l1), (2, .int l2), (3, .int v)] []) K) hf1 hK1 (fun v hv => hv) hR) gFU _ o hf hK
def f_X7_pegOn (σ : (Nat → Nat → Int32)) (l1 : Int32) (l2 : Int32) : Option (Int32) :=
  f_X7_pegOn_b2 σ l1 l2 0
theorem w_X7_pegOn {x : gX} {ad : Nat → Nat} {tl : va_W}  (hc : gOk x RX7 cX7_pegOn 4 0 0)  (σ : (Nat → Nat → Int32)) (l1 : Int32) (l2 : Int32)  {K : Int32 → Prop} {o : Int32} (hf : f_X7_pegOn σ l1 l2 = some o) (hK : K o) (hR : ∀ o : Int32, K o → gRi x 0 0 (MW x.dA ad σ ++ tl) o) : gG x 4 0 0 (MW x.dA ad σ ++ tl) 0 [(0, .ref (ad 0)), (1, .int l1), (2, .int l2)] [] := by
  unfold f_X7_pegOn at hf
  refine g_iconst (v := 0) hc dX7_pegOn_0 (by decide) ?_
  refine g_istore_n (lv' := [(3, .int 0), (0, .ref (ad 0)), (1, .int l1), (2, .int l2)]) hc dX7_pegOn_1 rfl (by decide) rfl ?_
  exact g_lv [1, 2, 3, 0] rfl (w_X7_pegOn_b2 hc σ l1 l2 0  (K := K) hf hK hR)
theorem c_X7_pegOn {l : Launch} {D : va_G} {dA : Nat → ClassId} {ad : Nat → Nat} {tl : va_W}  {σ : (Nat → Nat → Int32)} {l1 : Int32} {l2 : Int32}  {o : Int32} (hf : f_X7_pegOn σ l1 l2 = some o) : gI l D dA (MW dA ad σ ++ tl) (MW dA ad σ ++ tl) [.ref (ad 0), .int l1, .int l2] o yX7_pegOn (ws_ yX7_pegOn cX7_pegOn 4 (some .int)) ({ frames := 0, cells := 0, slots := 0, locals := 0 } : Room) :=
  g_startI (own := RX7) ⟨rfl, rfl⟩ (by decide) rfl (Nat.le_of_ble_eq_true rfl) (fun x e hc hR => by
    subst e
    exact w_X7_pegOn hc σ l1 l2  (K := fun o1 => o1 = o) hf rfl (by rintro _ rfl; exact hR))
theorem hd_X7_pegOn : yX7_pegOn.cls = RX7 ∧ yX7_pegOn.cls ≠ "java/lang/invoke/MethodHandle" ∧ yX7_pegOn.cls ≠ "java/lang/invoke/VarHandle" ∧ (parseMethodDescriptor yX7_pegOn.desc).map (fun d => d.parameters.length) = some 2 := by decide +kernel
/-! HedgehogLotsModel.slugOn(II)I -/
def f_X7_slugOn_L2 (σ : (Nat → Nat → Int32)) (l1 : Int32) (l2 : Int32) (l3 : Int32) : Option ((Int32) ⊕ (Int32)) :=
  oC (inb (l1 + 39) 205) <| if (σ 1 (l1 + 39).toNatClampNeg) ≤ l3 then (oI (some (-4))) else (oC (inb ((l1 + 14) + l3) 205) <| if (σ 1 ((l1 + 14) + l3).toNatClampNeg) = l2 then (oI (some l3)) else (some (.inl (l3 + 1))))
theorem w_X7_slugOn_L2 {x : gX} {ad : Nat → Nat} {tl : va_W}  (hc : gOk x RX7 cX7_slugOn 4 0 0)  (σ : (Nat → Nat → Int32)) (l1 : Int32) (l2 : Int32) (l3 : Int32)  {K : (Int32) ⊕ (Int32) → Prop} {o : (Int32) ⊕ (Int32)} (hf : f_X7_slugOn_L2 σ l1 l2 l3 = some o) (hK : K o) (hI2 : ∀ v : Int32, K (.inl v) → gG x 4 0 0 (MW x.dA ad σ ++ tl) 2 [(0, .ref (ad 0)), (1, .int l1), (2, .int l2), (3, .int v)] []) (hR : ∀ o : Int32, K (.inr (o)) → gRi x 0 0 (MW x.dA ad σ ++ tl) o) : gG x 4 0 0 (MW x.dA ad σ ++ tl) 2 [(0, .ref (ad 0)), (1, .int l1), (2, .int l2), (3, .int l3)] [] := by
  unfold f_X7_slugOn_L2 at hf
  refine g_iload_n hc dX7_slugOn_2 rfl 3 rfl ?_
  refine g_aload_n hc dX7_slugOn_3 rfl 0 rfl ?_
  refine g_get (v := .ref (ad 1)) hc in_X7 (MW_at (k := 0) (by decide)) rfl 0 (by decide) q961 rfl dX7_slugOn_4 ?_
  refine g_iload_n hc dX7_slugOn_7 rfl 1 rfl ?_
  refine g_bipush (v := 39) hc dX7_slugOn_8 (by decide) ?_
  refine g_iadd hc dX7_slugOn_10 ?_
  obtain ⟨h1, hf⟩ := oC_some hf
  refine g_iald (n := 205) (f := σ 1) hc (MW_at (k := 1) (by decide)) h1 dX7_slugOn_11 ?_
  refine g_icmp_ge (tgt := 38) hc dX7_slugOn_12 (by decide) (fun h2 => ?_) (fun h2 => ?_)
  · have hf := oT h2 hf
    obtain ⟨o3, hgo3, eo3⟩ := oI_some hf
    clear hf; subst eo3; have hf := hgo3; clear hgo3
    refine g_bipush (v := (-4)) hc dX7_slugOn_38 (by decide) ?_
    have hz := Option.some.inj hf; subst hz
    exact g_iret hc (hR _ hK) dX7_slugOn_40
  · have hf := oF h2 hf
    refine g_aload_n hc dX7_slugOn_15 rfl 0 rfl ?_
    refine g_get (v := .ref (ad 1)) hc in_X7 (MW_at (k := 0) (by decide)) rfl 0 (by decide) q961 rfl dX7_slugOn_16 ?_
    refine g_iload_n hc dX7_slugOn_19 rfl 1 rfl ?_
    refine g_bipush (v := 14) hc dX7_slugOn_20 (by decide) ?_
    refine g_iadd hc dX7_slugOn_22 ?_
    refine g_iload_n hc dX7_slugOn_23 rfl 3 rfl ?_
    refine g_iadd hc dX7_slugOn_24 ?_
    obtain ⟨h4, hf⟩ := oC_some hf
    refine g_iald (n := 205) (f := σ 1) hc (MW_at (k := 1) (by decide)) h4 dX7_slugOn_25 ?_
    refine g_iload_n hc dX7_slugOn_26 rfl 2 rfl ?_
    refine g_icmp_ne (tgt := 32) hc dX7_slugOn_27 (by decide) (fun h5 => ?_) (fun h5 => ?_)
    · have hf := oF h5 hf
      refine g_iinc (v := l3 + 1) (lv' := [(3, .int (l3 + 1)), (0, .ref (ad 0)), (1, .int l1), (2, .int l2)]) hc dX7_slugOn_32 (j := 3) rfl rfl (by decide) rfl ?_
      refine g_goto (tgt := 2) hc dX7_slugOn_35 (by decide) ?_
      have hz := Option.some.inj hf; subst hz
      exact g_lv [1, 2, 3, 0] rfl (hI2 _ hK)
    · have hf := oT h5 hf
      obtain ⟨o6, hgo6, eo6⟩ := oI_some hf
      clear hf; subst eo6; have hf := hgo6; clear hgo6
      refine g_iload_n hc dX7_slugOn_30 rfl 3 rfl ?_
      have hz := Option.some.inj hf; subst hz
      exact g_iret hc (hR _ hK) dX7_slugOn_31
def f_X7_slugOn_b2 (σ : (Nat → Nat → Int32)) (l1 : Int32) (l2 : Int32) (l3 : Int32) : Option (Int32) :=
  oLoop gFU (fun v : Int32 => f_X7_slugOn_L2 σ l1 l2 v) l3
theorem w_X7_slugOn_b2 {x : gX} {ad : Nat → Nat} {tl : va_W}  (hc : gOk x RX7 cX7_slugOn 4 0 0)  (σ : (Nat → Nat → Int32)) (l1 : Int32) (l2 : Int32) (l3 : Int32)  {K : Int32 → Prop} {o : Int32} (hf : f_X7_slugOn_b2 σ l1 l2 l3 = some o) (hK : K o) (hR : ∀ o : Int32, K o → gRi x 0 0 (MW x.dA ad σ ++ tl) o) : gG x 4 0 0 (MW x.dA ad σ ++ tl) 2 [(0, .ref (ad 0)), (1, .int l1), (2, .int l2), (3, .int l3)] [] :=
  oLoop_ind (fun v : Int32 => gG x 4 0 0 (MW x.dA ad σ ++ tl) 2 [(0, .ref (ad 0)), (1, .int l1), (2, .int l2), (3, .int v)] []) K (fun v o1 hf1 hK1 => w_X7_slugOn_L2 hc σ l1 l2 v  (K := Sum.elim (fun v : Int32 => gG x 4 0 0 (MW x.dA ad σ ++ tl) 2 [(0, .ref (ad 0)), (1, .int l1), (2, .int l2), (3, .int v)] []) K) hf1 hK1 (fun v hv => hv) hR) gFU _ o hf hK
def f_X7_slugOn (σ : (Nat → Nat → Int32)) (l1 : Int32) (l2 : Int32) : Option (Int32) :=
  f_X7_slugOn_b2 σ l1 l2 0
theorem w_X7_slugOn {x : gX} {ad : Nat → Nat} {tl : va_W}  (hc : gOk x RX7 cX7_slugOn 4 0 0)  (σ : (Nat → Nat → Int32)) (l1 : Int32) (l2 : Int32)  {K : Int32 → Prop} {o : Int32} (hf : f_X7_slugOn σ l1 l2 = some o) (hK : K o) (hR : ∀ o : Int32, K o → gRi x 0 0 (MW x.dA ad σ ++ tl) o) : gG x 4 0 0 (MW x.dA ad σ ++ tl) 0 [(0, .ref (ad 0)), (1, .int l1), (2, .int l2)] [] := by
  unfold f_X7_slugOn at hf
  refine g_iconst (v := 0) hc dX7_slugOn_0 (by decide) ?_
  refine g_istore_n (lv' := [(3, .int 0), (0, .ref (ad 0)), (1, .int l1), (2, .int l2)]) hc dX7_slugOn_1 rfl (by decide) rfl ?_
  exact g_lv [1, 2, 3, 0] rfl (w_X7_slugOn_b2 hc σ l1 l2 0  (K := K) hf hK hR)
theorem c_X7_slugOn {l : Launch} {D : va_G} {dA : Nat → ClassId} {ad : Nat → Nat} {tl : va_W}  {σ : (Nat → Nat → Int32)} {l1 : Int32} {l2 : Int32}  {o : Int32} (hf : f_X7_slugOn σ l1 l2 = some o) : gI l D dA (MW dA ad σ ++ tl) (MW dA ad σ ++ tl) [.ref (ad 0), .int l1, .int l2] o yX7_slugOn (ws_ yX7_slugOn cX7_slugOn 4 (some .int)) ({ frames := 0, cells := 0, slots := 0, locals := 0 } : Room) :=
  g_startI (own := RX7) ⟨rfl, rfl⟩ (by decide) rfl (Nat.le_of_ble_eq_true rfl) (fun x e hc hR => by
    subst e
    exact w_X7_slugOn hc σ l1 l2  (K := fun o1 => o1 = o) hf rfl (by rintro _ rfl; exact hR))
theorem hd_X7_slugOn : yX7_slugOn.cls = RX7 ∧ yX7_slugOn.cls ≠ "java/lang/invoke/MethodHandle" ∧ yX7_slugOn.cls ≠ "java/lang/invoke/VarHandle" ∧ (parseMethodDescriptor yX7_slugOn.desc).map (fun d => d.parameters.length) = some 2 := by decide +kernel
/-! HedgehogLotsModel.isFreeOn(II)Z -/
def f_X7_isFreeOn (σ : (Nat → Nat → Int32)) (l1 : Int32) (l2 : Int32) : Option (Int32) :=
  oB (f_X7_pegOn σ l1 l2) fun r2 => if r2 = (-4) then (oB (f_X7_slugOn σ l1 l2) fun r5 => if r5 = (-4) then (some 1) else (some 0)) else (some 0)
theorem w_X7_isFreeOn {x : gX} {ad : Nat → Nat} {tl : va_W}  (hc : gOk x RX7 cX7_isFreeOn 3 1 23)  (σ : (Nat → Nat → Int32)) (l1 : Int32) (l2 : Int32)  {K : Int32 → Prop} {o : Int32} (hf : f_X7_isFreeOn σ l1 l2 = some o) (hK : K o) (hR : ∀ o : Int32, K o → gRz x 0 0 (MW x.dA ad σ ++ tl) o) : gG x 3 0 0 (MW x.dA ad σ ++ tl) 0 [(0, .ref (ad 0)), (1, .int l1), (2, .int l2)] [] := by
  unfold f_X7_isFreeOn at hf
  refine g_aload_n hc dX7_isFreeOn_0 rfl 0 rfl ?_
  refine g_iload_n hc dX7_isFreeOn_1 rfl 1 rfl ?_
  refine g_iload_n hc dX7_isFreeOn_2 rfl 2 rfl ?_
  obtain ⟨r2, h1, hf⟩ := oB_some hf
  refine g_callVi hc [.int l1, .int l2] [] (c_X7_pegOn  h1) (MW_at (k := 0) (by decide)) rfl (lw_V q1123 q1125 qs43 q67 q1126) rfl hd_X7_pegOn rfl rfl (Nat.le_of_ble_eq_true rfl) gZ dX7_isFreeOn_3 ?_
  refine g_bipush (v := (-4)) hc dX7_isFreeOn_6 (by decide) ?_
  refine g_icmp_ne (tgt := 26) hc dX7_isFreeOn_8 (by decide) (fun h3 => ?_) (fun h3 => ?_)
  · have hf := oF h3 hf
    refine g_iconst (v := 0) hc dX7_isFreeOn_26 (by decide) ?_
    have hz := Option.some.inj hf; subst hz
    exact g_zret hc (hR _ hK) rfl dX7_isFreeOn_27
  · have hf := oT h3 hf
    refine g_aload_n hc dX7_isFreeOn_11 rfl 0 rfl ?_
    refine g_iload_n hc dX7_isFreeOn_12 rfl 1 rfl ?_
    refine g_iload_n hc dX7_isFreeOn_13 rfl 2 rfl ?_
    obtain ⟨r5, h4, hf⟩ := oB_some hf
    refine g_callVi hc [.int l1, .int l2] [] (c_X7_slugOn  h4) (MW_at (k := 0) (by decide)) rfl (lw_V q1127 q1129 qs44 q67 q1130) rfl hd_X7_slugOn rfl rfl (Nat.le_of_ble_eq_true rfl) gZ dX7_isFreeOn_14 ?_
    refine g_bipush (v := (-4)) hc dX7_isFreeOn_17 (by decide) ?_
    refine g_icmp_ne (tgt := 26) hc dX7_isFreeOn_19 (by decide) (fun h6 => ?_) (fun h6 => ?_)
    · have hf := oF h6 hf
      refine g_iconst (v := 0) hc dX7_isFreeOn_26 (by decide) ?_
      have hz := Option.some.inj hf; subst hz
      exact g_zret hc (hR _ hK) rfl dX7_isFreeOn_27
    · have hf := oT h6 hf
      refine g_iconst (v := 1) hc dX7_isFreeOn_22 (by decide) ?_
      refine g_goto (tgt := 27) hc dX7_isFreeOn_23 (by decide) ?_
      have hz := Option.some.inj hf; subst hz
      exact g_zret hc (hR _ hK) rfl dX7_isFreeOn_27
theorem c_X7_isFreeOn {l : Launch} {D : va_G} {dA : Nat → ClassId} {ad : Nat → Nat} {tl : va_W}  {σ : (Nat → Nat → Int32)} {l1 : Int32} {l2 : Int32}  {o : Int32} (hf : f_X7_isFreeOn σ l1 l2 = some o) : gI l D dA (MW dA ad σ ++ tl) (MW dA ad σ ++ tl) [.ref (ad 0), .int l1, .int l2] o yX7_isFreeOn (ws_ yX7_isFreeOn cX7_isFreeOn 3 (some .boolean)) ({ frames := 1, cells := 0, slots := 0, locals := 23 } : Room) :=
  g_startZ (own := RX7) ⟨rfl, rfl⟩ (by decide) rfl (Nat.le_of_ble_eq_true rfl) (fun x e hc hR => by
    subst e
    exact w_X7_isFreeOn hc σ l1 l2  (K := fun o1 => o1 = o) hf rfl (by rintro _ rfl; exact hR))
theorem hd_X7_isFreeOn : yX7_isFreeOn.cls = RX7 ∧ yX7_isFreeOn.cls ≠ "java/lang/invoke/MethodHandle" ∧ yX7_isFreeOn.cls ≠ "java/lang/invoke/VarHandle" ∧ (parseMethodDescriptor yX7_isFreeOn.desc).map (fun d => d.parameters.length) = some 2 := by decide +kernel
/-! HedgehogLotsModel.losesOf(I)I -/
def f_X7_losesOf (l0 : Int32) : Option (Int32) :=
  if l0 = 0 then (some 2) else (if l0 = 1 then (some 3) else (if l0 = 2 then (some 1) else (some 6)))
theorem w_X7_losesOf {x : gX} {Φ : va_W}  (hc : gOk x RX7 cX7_losesOf 1 0 0)  (l0 : Int32)  {K : Int32 → Prop} {o : Int32} (hf : f_X7_losesOf l0 = some o) (hK : K o) (hR : ∀ o : Int32, K o → gRi x 0 0 (Φ) o) : gG x 1 0 0 (Φ) 0 [(0, .int l0)] [] := by
  unfold f_X7_losesOf at hf
  refine g_iload_n hc dX7_losesOf_0 rfl 0 rfl ?_
  refine g_if_ne (tgt := 8) hc dX7_losesOf_1 (by decide) (fun h1 => ?_) (fun h1 => ?_)
  · have hf := oF h1 hf
    refine g_iload_n hc dX7_losesOf_8 rfl 0 rfl ?_
    refine g_iconst (v := 1) hc dX7_losesOf_9 (by decide) ?_
    refine g_icmp_ne (tgt := 17) hc dX7_losesOf_10 (by decide) (fun h2 => ?_) (fun h2 => ?_)
    · have hf := oF h2 hf
      refine g_iload_n hc dX7_losesOf_17 rfl 0 rfl ?_
      refine g_iconst (v := 2) hc dX7_losesOf_18 (by decide) ?_
      refine g_icmp_ne (tgt := 26) hc dX7_losesOf_19 (by decide) (fun h3 => ?_) (fun h3 => ?_)
      · have hf := oF h3 hf
        refine g_bipush (v := 6) hc dX7_losesOf_26 (by decide) ?_
        have hz := Option.some.inj hf; subst hz
        exact g_iret hc (hR _ hK) dX7_losesOf_28
      · have hf := oT h3 hf
        refine g_iconst (v := 1) hc dX7_losesOf_22 (by decide) ?_
        refine g_goto (tgt := 28) hc dX7_losesOf_23 (by decide) ?_
        have hz := Option.some.inj hf; subst hz
        exact g_iret hc (hR _ hK) dX7_losesOf_28
    · have hf := oT h2 hf
      refine g_iconst (v := 3) hc dX7_losesOf_13 (by decide) ?_
      refine g_goto (tgt := 28) hc dX7_losesOf_14 (by decide) ?_
      have hz := Option.some.inj hf; subst hz
      exact g_iret hc (hR _ hK) dX7_losesOf_28
  · have hf := oT h1 hf
    refine g_iconst (v := 2) hc dX7_losesOf_4 (by decide) ?_
    refine g_goto (tgt := 28) hc dX7_losesOf_5 (by decide) ?_
    have hz := Option.some.inj hf; subst hz
    exact g_iret hc (hR _ hK) dX7_losesOf_28
theorem c_X7_losesOf {l : Launch} {D : va_G} {dA : Nat → ClassId} {Φ : va_W}  {l0 : Int32}  {o : Int32} (hf : f_X7_losesOf l0 = some o) : gI l D dA (Φ) (Φ) [.int l0] o yX7_losesOf (ws_ yX7_losesOf cX7_losesOf 1 (some .int)) ({ frames := 0, cells := 0, slots := 0, locals := 0 } : Room) :=
  g_startI (own := RX7) ⟨rfl, rfl⟩ (by decide) rfl (Nat.le_of_ble_eq_true rfl) (fun x e hc hR => by
    subst e
    exact w_X7_losesOf hc l0  (K := fun o1 => o1 = o) hf rfl (by rintro _ rfl; exact hR))
theorem hd_X7_losesOf : yX7_losesOf.cls ≠ "java/lang/invoke/MethodHandle" ∧ yX7_losesOf.cls ≠ "java/lang/invoke/VarHandle" ∧ (parseMethodDescriptor yX7_losesOf.desc).map (fun d => d.parameters.length) = some 1 := by decide +kernel
/-! HedgehogLotsModel.turnOf(II)I -/
def f_X7_turnOf_b11 (l0 : Int32) (k1 : Int32) : Option (Int32) :=
  if l0 = 0 then (some k1) else (if l0 = 1 then (some (-k1)) else (if l0 = 2 then (some 1) else (some ((-2) * k1))))
theorem w_X7_turnOf_b11 {x : gX} {Φ : va_W}  (hc : gOk x RX7 cX7_turnOf 3 0 0)  (l0 : Int32) (k1 : Int32)  {K : Int32 → Prop} {o : Int32} (hf : f_X7_turnOf_b11 l0 k1 = some o) (hK : K o) (hR : ∀ o : Int32, K o → gRi x 0 0 (Φ) o) : gG x 3 0 0 (Φ) 11 [(0, .int l0)] [.int k1] := by
  unfold f_X7_turnOf_b11 at hf
  refine g_istore_n (lv' := [(2, .int k1), (0, .int l0)]) hc dX7_turnOf_11 rfl (by decide) rfl ?_
  refine g_iload_n hc dX7_turnOf_12 rfl 1 rfl ?_
  refine g_if_ne (tgt := 20) hc dX7_turnOf_13 (by decide) (fun h1 => ?_) (fun h1 => ?_)
  · have hf := oF h1 hf
    refine g_iload_n hc dX7_turnOf_20 rfl 1 rfl ?_
    refine g_iconst (v := 1) hc dX7_turnOf_21 (by decide) ?_
    refine g_icmp_ne (tgt := 30) hc dX7_turnOf_22 (by decide) (fun h2 => ?_) (fun h2 => ?_)
    · have hf := oF h2 hf
      refine g_iload_n hc dX7_turnOf_30 rfl 1 rfl ?_
      refine g_iconst (v := 2) hc dX7_turnOf_31 (by decide) ?_
      refine g_icmp_ne (tgt := 39) hc dX7_turnOf_32 (by decide) (fun h3 => ?_) (fun h3 => ?_)
      · have hf := oF h3 hf
        refine g_bipush (v := (-2)) hc dX7_turnOf_39 (by decide) ?_
        refine g_iload_n hc dX7_turnOf_41 rfl 0 rfl ?_
        refine g_imul hc dX7_turnOf_42 ?_
        have hz := Option.some.inj hf; subst hz
        exact g_iret hc (hR _ hK) dX7_turnOf_43
      · have hf := oT h3 hf
        refine g_iconst (v := 1) hc dX7_turnOf_35 (by decide) ?_
        refine g_goto (tgt := 43) hc dX7_turnOf_36 (by decide) ?_
        have hz := Option.some.inj hf; subst hz
        exact g_iret hc (hR _ hK) dX7_turnOf_43
    · have hf := oT h2 hf
      refine g_iload_n hc dX7_turnOf_25 rfl 0 rfl ?_
      refine g_ineg hc dX7_turnOf_26 ?_
      refine g_goto (tgt := 43) hc dX7_turnOf_27 (by decide) ?_
      have hz := Option.some.inj hf; subst hz
      exact g_iret hc (hR _ hK) dX7_turnOf_43
  · have hf := oT h1 hf
    refine g_iload_n hc dX7_turnOf_16 rfl 0 rfl ?_
    refine g_goto (tgt := 43) hc dX7_turnOf_17 (by decide) ?_
    have hz := Option.some.inj hf; subst hz
    exact g_iret hc (hR _ hK) dX7_turnOf_43
def f_X7_turnOf (l0 : Int32) (l1 : Int32) : Option (Int32) :=
  if (l1 - l1 / 2 * 2) = 0 then (f_X7_turnOf_b11 l0 (-1)) else (f_X7_turnOf_b11 l0 1)
theorem w_X7_turnOf {x : gX} {Φ : va_W}  (hc : gOk x RX7 cX7_turnOf 3 0 0)  (l0 : Int32) (l1 : Int32)  {K : Int32 → Prop} {o : Int32} (hf : f_X7_turnOf l0 l1 = some o) (hK : K o) (hR : ∀ o : Int32, K o → gRi x 0 0 (Φ) o) : gG x 3 0 0 (Φ) 0 [(0, .int l0), (1, .int l1)] [] := by
  unfold f_X7_turnOf at hf
  refine g_iload_n hc dX7_turnOf_0 rfl 1 rfl ?_
  refine g_iconst (v := 2) hc dX7_turnOf_1 (by decide) ?_
  refine g_irem hc dX7_turnOf_2 (by decide) ?_
  refine g_if_ne (tgt := 10) hc dX7_turnOf_3 (by decide) (fun h1 => ?_) (fun h1 => ?_)
  · have hf := oF h1 hf
    refine g_iconst (v := 1) hc dX7_turnOf_10 (by decide) ?_
    exact g_lv [0] rfl (w_X7_turnOf_b11 hc l0 1  (K := K) hf hK hR)
  · have hf := oT h1 hf
    refine g_iconst (v := (-1)) hc dX7_turnOf_6 (by decide) ?_
    refine g_goto (tgt := 11) hc dX7_turnOf_7 (by decide) ?_
    exact g_lv [0] rfl (w_X7_turnOf_b11 hc l0 (-1)  (K := K) hf hK hR)
theorem c_X7_turnOf {l : Launch} {D : va_G} {dA : Nat → ClassId} {Φ : va_W}  {l0 : Int32} {l1 : Int32}  {o : Int32} (hf : f_X7_turnOf l0 l1 = some o) : gI l D dA (Φ) (Φ) [.int l0, .int l1] o yX7_turnOf (ws_ yX7_turnOf cX7_turnOf 3 (some .int)) ({ frames := 0, cells := 0, slots := 0, locals := 0 } : Room) :=
  g_startI (own := RX7) ⟨rfl, rfl⟩ (by decide) rfl (Nat.le_of_ble_eq_true rfl) (fun x e hc hR => by
    subst e
    exact w_X7_turnOf hc l0 l1  (K := fun o1 => o1 = o) hf rfl (by rintro _ rfl; exact hR))
theorem hd_X7_turnOf : yX7_turnOf.cls ≠ "java/lang/invoke/MethodHandle" ∧ yX7_turnOf.cls ≠ "java/lang/invoke/VarHandle" ∧ (parseMethodDescriptor yX7_turnOf.desc).map (fun d => d.parameters.length) = some 2 := by decide +kernel
/-! HedgehogLotsModel.runsOn(IIII)V -/
def f_X7_runsOn_b225 (σ : (Nat → Nat → Int32)) (l1 : Int32) (l4 : Int32) (l5 : Int32) (l6 : Int32) (l7 : Int32) (l8 : Int32) : Option ((Int32 × Int32 × Int32 × (Nat → Nat → Int32)) ⊕ ((Nat → Nat → Int32))) :=
  some (.inl (l6, l7, (l8 + 1), σ))
theorem w_X7_runsOn_b225 {x : gX} {ad : Nat → Nat} {tl : va_W}  (hc : gOk x RX7 cX7_runsOn 12 1 23)  (σ : (Nat → Nat → Int32)) (l1 : Int32) (l4 : Int32) (l5 : Int32) (l6 : Int32) (l7 : Int32) (l8 : Int32)  {K : (Int32 × Int32 × Int32 × (Nat → Nat → Int32)) ⊕ ((Nat → Nat → Int32)) → Prop} {o : (Int32 × Int32 × Int32 × (Nat → Nat → Int32)) ⊕ ((Nat → Nat → Int32))} (hf : f_X7_runsOn_b225 σ l1 l4 l5 l6 l7 l8 = some o) (hK : K o) (hI54 : ∀ v : Int32 × Int32 × Int32 × (Nat → Nat → Int32), K (.inl v) → gG x 12 0 0 (MW x.dA ad v.2.2.2 ++ tl) 54 [(0, .ref (ad 0)), (1, .int l1), (4, .int l4), (5, .int l5), (6, .int v.1), (7, .int v.2.1), (8, .int v.2.2.1)] []) (hR : ∀ o : (Nat → Nat → Int32), K (.inr (o)) → gRv x 0 0 (MW x.dA ad o ++ tl)) : gG x 12 0 0 (MW x.dA ad σ ++ tl) 225 [(0, .ref (ad 0)), (1, .int l1), (4, .int l4), (5, .int l5), (6, .int l6), (7, .int l7), (8, .int l8)] [] := by
  unfold f_X7_runsOn_b225 at hf
  refine g_iinc (v := l8 + 1) (lv' := [(8, .int (l8 + 1)), (0, .ref (ad 0)), (1, .int l1), (4, .int l4), (5, .int l5), (6, .int l6), (7, .int l7)]) hc dX7_runsOn_225 (j := 6) rfl rfl (by decide) rfl ?_
  refine g_goto (tgt := 54) hc dX7_runsOn_228 (by decide) ?_
  have hz := Option.some.inj hf; subst hz
  exact g_lv [1, 2, 3, 4, 5, 6, 0] rfl (hI54 _ hK)
def f_X7_runsOn_b223 (σ : (Nat → Nat → Int32)) (l1 : Int32) (l4 : Int32) (l5 : Int32) (l6 : Int32) (l8 : Int32) (k1 : Int32) : Option ((Int32 × Int32 × Int32 × (Nat → Nat → Int32)) ⊕ ((Nat → Nat → Int32))) :=
  f_X7_runsOn_b225 σ l1 l4 l5 l6 k1 l8
theorem w_X7_runsOn_b223 {x : gX} {ad : Nat → Nat} {tl : va_W}  (hc : gOk x RX7 cX7_runsOn 12 1 23)  (σ : (Nat → Nat → Int32)) (l1 : Int32) (l4 : Int32) (l5 : Int32) (l6 : Int32) (l8 : Int32) (k1 : Int32)  {K : (Int32 × Int32 × Int32 × (Nat → Nat → Int32)) ⊕ ((Nat → Nat → Int32)) → Prop} {o : (Int32 × Int32 × Int32 × (Nat → Nat → Int32)) ⊕ ((Nat → Nat → Int32))} (hf : f_X7_runsOn_b223 σ l1 l4 l5 l6 l8 k1 = some o) (hK : K o) (hI54 : ∀ v : Int32 × Int32 × Int32 × (Nat → Nat → Int32), K (.inl v) → gG x 12 0 0 (MW x.dA ad v.2.2.2 ++ tl) 54 [(0, .ref (ad 0)), (1, .int l1), (4, .int l4), (5, .int l5), (6, .int v.1), (7, .int v.2.1), (8, .int v.2.2.1)] []) (hR : ∀ o : (Nat → Nat → Int32), K (.inr (o)) → gRv x 0 0 (MW x.dA ad o ++ tl)) : gG x 12 0 0 (MW x.dA ad σ ++ tl) 223 [(0, .ref (ad 0)), (1, .int l1), (4, .int l4), (5, .int l5), (6, .int l6), (8, .int l8)] [.int k1] := by
  unfold f_X7_runsOn_b223 at hf
  refine g_istore (lv' := [(7, .int k1), (0, .ref (ad 0)), (1, .int l1), (4, .int l4), (5, .int l5), (6, .int l6), (8, .int l8)]) hc dX7_runsOn_223 (by decide) rfl ?_
  exact g_lv [1, 2, 3, 4, 5, 0, 6] rfl (w_X7_runsOn_b225 hc σ l1 l4 l5 l6 k1 l8  (K := K) hf hK hI54 hR)
def f_X7_runsOn_b189 (σ : (Nat → Nat → Int32)) (l1 : Int32) (l4 : Int32) (l5 : Int32) (l6 : Int32) (l8 : Int32) (k2 : Int32) (k1 : Int32) : Option ((Int32 × Int32 × Int32 × (Nat → Nat → Int32)) ⊕ ((Nat → Nat → Int32))) :=
  oB (f_X7_turnOf l5 l8) fun r2 => if 0 ≤ (k1 + (k2 * r2)) then (if (k1 + (k2 * r2)) < 8 then (f_X7_runsOn_b223 σ l1 l4 l5 l6 l8 (k1 + (k2 * r2))) else (f_X7_runsOn_b223 σ l1 l4 l5 l6 l8 7)) else (f_X7_runsOn_b223 σ l1 l4 l5 l6 l8 0)
theorem w_X7_runsOn_b189 {x : gX} {ad : Nat → Nat} {tl : va_W}  (hc : gOk x RX7 cX7_runsOn 12 1 23)  (σ : (Nat → Nat → Int32)) (l1 : Int32) (l4 : Int32) (l5 : Int32) (l6 : Int32) (l8 : Int32) (k2 : Int32) (k1 : Int32)  {K : (Int32 × Int32 × Int32 × (Nat → Nat → Int32)) ⊕ ((Nat → Nat → Int32)) → Prop} {o : (Int32 × Int32 × Int32 × (Nat → Nat → Int32)) ⊕ ((Nat → Nat → Int32))} (hf : f_X7_runsOn_b189 σ l1 l4 l5 l6 l8 k2 k1 = some o) (hK : K o) (hI54 : ∀ v : Int32 × Int32 × Int32 × (Nat → Nat → Int32), K (.inl v) → gG x 12 0 0 (MW x.dA ad v.2.2.2 ++ tl) 54 [(0, .ref (ad 0)), (1, .int l1), (4, .int l4), (5, .int l5), (6, .int v.1), (7, .int v.2.1), (8, .int v.2.2.1)] []) (hR : ∀ o : (Nat → Nat → Int32), K (.inr (o)) → gRv x 0 0 (MW x.dA ad o ++ tl)) : gG x 12 0 0 (MW x.dA ad σ ++ tl) 189 [(0, .ref (ad 0)), (1, .int l1), (4, .int l4), (5, .int l5), (6, .int l6), (8, .int l8)] [.int k2, .int k1] := by
  unfold f_X7_runsOn_b189 at hf
  refine g_iload hc dX7_runsOn_189 3 rfl ?_
  refine g_iload hc dX7_runsOn_191 5 rfl ?_
  obtain ⟨r2, h1, hf⟩ := oB_some hf
  refine g_callSi hc [.int l5, .int l8] [.int k2, .int k1] (c_X7_turnOf  h1) (lw_S q1134 q1135 q67 q1136) rfl hd_X7_turnOf rfl rfl (Nat.le_of_ble_eq_true rfl) gZ dX7_runsOn_193 ?_
  refine g_imul hc dX7_runsOn_196 ?_
  refine g_iadd hc dX7_runsOn_197 ?_
  refine g_istore (lv' := [(11, .int (k1 + (k2 * r2))), (0, .ref (ad 0)), (1, .int l1), (4, .int l4), (5, .int l5), (6, .int l6), (8, .int l8)]) hc dX7_runsOn_198 (by decide) rfl ?_
  refine g_iload hc dX7_runsOn_200 0 rfl ?_
  refine g_if_ge (tgt := 209) hc dX7_runsOn_202 (by decide) (fun h3 => ?_) (fun h3 => ?_)
  · have hf := oT h3 hf
    refine g_iload hc dX7_runsOn_209 0 rfl ?_
    refine g_bipush (v := 8) hc dX7_runsOn_211 (by decide) ?_
    refine g_icmp_lt (tgt := 221) hc dX7_runsOn_213 (by decide) (fun h4 => ?_) (fun h4 => ?_)
    · have hf := oT h4 hf
      refine g_iload hc dX7_runsOn_221 0 rfl ?_
      exact g_lv [1, 2, 3, 4, 5, 6] rfl (w_X7_runsOn_b223 hc σ l1 l4 l5 l6 l8 (k1 + (k2 * r2))  (K := K) hf hK hI54 hR)
    · have hf := oF h4 hf
      refine g_bipush (v := 7) hc dX7_runsOn_216 (by decide) ?_
      refine g_goto (tgt := 223) hc dX7_runsOn_218 (by decide) ?_
      exact g_lv [1, 2, 3, 4, 5, 6] rfl (w_X7_runsOn_b223 hc σ l1 l4 l5 l6 l8 7  (K := K) hf hK hI54 hR)
  · have hf := oF h3 hf
    refine g_iconst (v := 0) hc dX7_runsOn_205 (by decide) ?_
    refine g_goto (tgt := 223) hc dX7_runsOn_206 (by decide) ?_
    exact g_lv [1, 2, 3, 4, 5, 6] rfl (w_X7_runsOn_b223 hc σ l1 l4 l5 l6 l8 0  (K := K) hf hK hI54 hR)
def f_X7_runsOn_L54 (σ : (Nat → Nat → Int32)) (l1 : Int32) (l4 : Int32) (l5 : Int32) (l6 : Int32) (l7 : Int32) (l8 : Int32) : Option ((Int32 × Int32 × Int32 × (Nat → Nat → Int32)) ⊕ ((Nat → Nat → Int32))) :=
  if 10 ≤ l8 then (oI (some σ)) else (if (σ 0 17) = 10 then (oB (f_X7_pegOn σ l1 ((10 * l8) + l7)) fun r6 => oC (inb l8 10) <| oL (upd2 σ 6 l8.toNatClampNeg l7) fun s7 => oB (f_X7_slugOn s7 l1 ((10 * l8) + l7)) fun r11 => if r11 = (-4) then (if r6 = (-4) then (f_X7_runsOn_b225 s7 l1 l4 l5 l6 l7 l8) else (oL (upd2 s7 0 18 ((s7 0 18) + 1)) fun s14 => oB (f_X7_losesOf l5) fun r17 => if 0 < (l6 - r17) then (if ((l4 >>> (l8 &&& 31)) &&& 1) = 1 then (f_X7_runsOn_b189 s14 l1 l4 l5 (l6 - r17) l8 (-1) l7) else (f_X7_runsOn_b189 s14 l1 l4 l5 (l6 - r17) l8 1 l7)) else (oL (upd2 s14 0 16 r6) fun s20 => oL (upd2 s20 0 17 l8) fun s22 => f_X7_runsOn_b225 s22 l1 l4 l5 (l6 - r17) l7 l8))) else (oL (upd2 s7 0 19 1) fun s24 => oL (upd2 s24 0 17 l8) fun s26 => f_X7_runsOn_b225 s26 l1 l4 l5 l6 l7 l8)) else (oI (some σ)))
theorem w_X7_runsOn_L54 {x : gX} {ad : Nat → Nat} {tl : va_W}  (hc : gOk x RX7 cX7_runsOn 12 1 23)  (σ : (Nat → Nat → Int32)) (l1 : Int32) (l4 : Int32) (l5 : Int32) (l6 : Int32) (l7 : Int32) (l8 : Int32)  {K : (Int32 × Int32 × Int32 × (Nat → Nat → Int32)) ⊕ ((Nat → Nat → Int32)) → Prop} {o : (Int32 × Int32 × Int32 × (Nat → Nat → Int32)) ⊕ ((Nat → Nat → Int32))} (hf : f_X7_runsOn_L54 σ l1 l4 l5 l6 l7 l8 = some o) (hK : K o) (hI54 : ∀ v : Int32 × Int32 × Int32 × (Nat → Nat → Int32), K (.inl v) → gG x 12 0 0 (MW x.dA ad v.2.2.2 ++ tl) 54 [(0, .ref (ad 0)), (1, .int l1), (4, .int l4), (5, .int l5), (6, .int v.1), (7, .int v.2.1), (8, .int v.2.2.1)] []) (hR : ∀ o : (Nat → Nat → Int32), K (.inr (o)) → gRv x 0 0 (MW x.dA ad o ++ tl)) : gG x 12 0 0 (MW x.dA ad σ ++ tl) 54 [(0, .ref (ad 0)), (1, .int l1), (4, .int l4), (5, .int l5), (6, .int l6), (7, .int l7), (8, .int l8)] [] := by
  unfold f_X7_runsOn_L54 at hf
  refine g_iload hc dX7_runsOn_54 6 rfl ?_
  refine g_bipush (v := 10) hc dX7_runsOn_56 (by decide) ?_
  refine g_icmp_ge (tgt := 231) hc dX7_runsOn_58 (by decide) (fun h1 => ?_) (fun h1 => ?_)
  · have hf := oT h1 hf
    obtain ⟨o2, hgo2, eo2⟩ := oI_some hf
    clear hf; subst eo2; have hf := hgo2; clear hgo2
    have hz := Option.some.inj hf; subst hz
    exact g_vret hc (hR _ hK) dX7_runsOn_231
  · have hf := oF h1 hf
    refine g_aload_n hc dX7_runsOn_61 rfl 0 rfl ?_
    refine g_get (v := .int (σ 0 17)) hc in_X7 (MW_at (k := 0) (by decide)) rfl 17 (by decide) q978 rfl dX7_runsOn_62 ?_
    refine g_bipush (v := 10) hc dX7_runsOn_65 (by decide) ?_
    refine g_icmp_ne (tgt := 231) hc dX7_runsOn_67 (by decide) (fun h3 => ?_) (fun h3 => ?_)
    · have hf := oF h3 hf
      obtain ⟨o4, hgo4, eo4⟩ := oI_some hf
      clear hf; subst eo4; have hf := hgo4; clear hgo4
      have hz := Option.some.inj hf; subst hz
      exact g_vret hc (hR _ hK) dX7_runsOn_231
    · have hf := oT h3 hf
      refine g_bipush (v := 10) hc dX7_runsOn_70 (by decide) ?_
      refine g_iload hc dX7_runsOn_72 6 rfl ?_
      refine g_imul hc dX7_runsOn_74 ?_
      refine g_iload hc dX7_runsOn_75 5 rfl ?_
      refine g_iadd hc dX7_runsOn_77 ?_
      refine g_istore (lv' := [(9, .int ((10 * l8) + l7)), (0, .ref (ad 0)), (1, .int l1), (4, .int l4), (5, .int l5), (6, .int l6), (7, .int l7), (8, .int l8)]) hc dX7_runsOn_78 (by decide) rfl ?_
      refine g_aload_n hc dX7_runsOn_80 rfl 1 rfl ?_
      refine g_iload_n hc dX7_runsOn_81 rfl 2 rfl ?_
      refine g_iload hc dX7_runsOn_82 0 rfl ?_
      obtain ⟨r6, h5, hf⟩ := oB_some hf
      refine g_callVi hc [.int l1, .int ((10 * l8) + l7)] [] (c_X7_pegOn  h5) (MW_at (k := 0) (by decide)) rfl (lw_V q1123 q1125 qs43 q67 q1126) rfl hd_X7_pegOn rfl rfl (Nat.le_of_ble_eq_true rfl) gZ dX7_runsOn_84 ?_
      refine g_istore (lv' := [(10, .int r6), (9, .int ((10 * l8) + l7)), (0, .ref (ad 0)), (1, .int l1), (4, .int l4), (5, .int l5), (6, .int l6), (7, .int l7), (8, .int l8)]) hc dX7_runsOn_87 (by decide) rfl ?_
      refine g_aload_n hc dX7_runsOn_89 rfl 2 rfl ?_
      refine g_get (v := .ref (ad 6)) hc in_X7 (MW_at (k := 0) (by decide)) rfl 20 (by decide) q981 rfl dX7_runsOn_90 ?_
      refine g_iload hc dX7_runsOn_93 8 rfl ?_
      refine g_iload hc dX7_runsOn_95 7 rfl ?_
      obtain ⟨h9, hf⟩ := oC_some hf
      obtain ⟨s7, e8, hf⟩ := oL_some hf
      refine g_iast (n := 10) (f := σ 6) hc (MW_at (k := 6) (by decide)) h9 (MW_set (μ1 := s7) (k := 6) (by decide) e8 rfl) dX7_runsOn_97 ?_
      refine g_aload_n hc dX7_runsOn_98 rfl 2 rfl ?_
      refine g_iload_n hc dX7_runsOn_99 rfl 3 rfl ?_
      refine g_iload hc dX7_runsOn_100 1 rfl ?_
      obtain ⟨r11, h10, hf⟩ := oB_some hf
      refine g_callVi hc [.int l1, .int ((10 * l8) + l7)] [] (c_X7_slugOn  h10) (MW_at (k := 0) (by decide)) rfl (lw_V q1127 q1129 qs44 q67 q1130) rfl hd_X7_slugOn rfl rfl (Nat.le_of_ble_eq_true rfl) gZ dX7_runsOn_102 ?_
      refine g_bipush (v := (-4)) hc dX7_runsOn_105 (by decide) ?_
      refine g_icmp_eq (tgt := 124) hc dX7_runsOn_107 (by decide) (fun h12 => ?_) (fun h12 => ?_)
      · have hf := oT h12 hf
        refine g_iload hc dX7_runsOn_124 0 rfl ?_
        refine g_bipush (v := (-4)) hc dX7_runsOn_126 (by decide) ?_
        refine g_icmp_eq (tgt := 225) hc dX7_runsOn_128 (by decide) (fun h13 => ?_) (fun h13 => ?_)
        · have hf := oT h13 hf
          exact g_lv [2, 3, 4, 5, 6, 7, 8] rfl (w_X7_runsOn_b225 hc s7 l1 l4 l5 l6 l7 l8  (K := K) hf hK hI54 hR)
        · have hf := oF h13 hf
          refine g_aload_n hc dX7_runsOn_131 rfl 2 rfl ?_
          refine g_dup hc dX7_runsOn_132 rfl ?_
          refine g_get (v := .int (s7 0 18)) hc in_X7 (MW_at (k := 0) (by decide)) rfl 18 (by decide) q979 rfl dX7_runsOn_133 ?_
          refine g_iconst (v := 1) hc dX7_runsOn_136 (by decide) ?_
          refine g_iadd hc dX7_runsOn_137 ?_
          obtain ⟨s14, e15, hf⟩ := oL_some hf
          refine g_put (v := .int ((s7 0 18) + 1)) hc in_X7 tyX7_ok nmX7 (MW_at (k := 0) (by decide)) rfl 18 (by decide) q979 rfl rfl rfl (Nat.le_of_ble_eq_true rfl) (MW_set (μ1 := s14) (k := 0) (by decide) e15 rfl) dX7_runsOn_138 ?_
          refine g_iload hc dX7_runsOn_141 6 rfl ?_
          refine g_iload hc dX7_runsOn_143 5 rfl ?_
          obtain ⟨r17, h16, hf⟩ := oB_some hf
          refine g_callSi hc [.int l5] [.int l6] (c_X7_losesOf  h16) (lw_S q1131 q1132 q67 q1133) rfl hd_X7_losesOf rfl rfl (Nat.le_of_ble_eq_true rfl) gZ dX7_runsOn_145 ?_
          refine g_isub hc dX7_runsOn_148 ?_
          refine g_istore (lv' := [(6, .int (l6 - r17)), (10, .int r6), (9, .int ((10 * l8) + l7)), (0, .ref (ad 0)), (1, .int l1), (4, .int l4), (5, .int l5), (7, .int l7), (8, .int l8)]) hc dX7_runsOn_149 (by decide) rfl ?_
          refine g_iload hc dX7_runsOn_151 0 rfl ?_
          refine g_if_gt (tgt := 171) hc dX7_runsOn_153 (by decide) (fun h18 => ?_) (fun h18 => ?_)
          · have hf := oT h18 hf
            refine g_iload hc dX7_runsOn_171 7 rfl ?_
            refine g_iload hc dX7_runsOn_173 5 rfl ?_
            refine g_iload hc dX7_runsOn_175 8 rfl ?_
            refine g_ishr hc dX7_runsOn_177 ?_
            refine g_iconst (v := 1) hc dX7_runsOn_178 (by decide) ?_
            refine g_iand hc dX7_runsOn_179 ?_
            refine g_iconst (v := 1) hc dX7_runsOn_180 (by decide) ?_
            refine g_icmp_ne (tgt := 188) hc dX7_runsOn_181 (by decide) (fun h19 => ?_) (fun h19 => ?_)
            · have hf := oF h19 hf
              refine g_iconst (v := 1) hc dX7_runsOn_188 (by decide) ?_
              exact g_lv [3, 4, 5, 6, 0, 8] rfl (w_X7_runsOn_b189 hc s14 l1 l4 l5 (l6 - r17) l8 1 l7  (K := K) hf hK hI54 hR)
            · have hf := oT h19 hf
              refine g_iconst (v := (-1)) hc dX7_runsOn_184 (by decide) ?_
              refine g_goto (tgt := 189) hc dX7_runsOn_185 (by decide) ?_
              exact g_lv [3, 4, 5, 6, 0, 8] rfl (w_X7_runsOn_b189 hc s14 l1 l4 l5 (l6 - r17) l8 (-1) l7  (K := K) hf hK hI54 hR)
          · have hf := oF h18 hf
            refine g_aload_n hc dX7_runsOn_156 rfl 3 rfl ?_
            refine g_iload hc dX7_runsOn_157 1 rfl ?_
            obtain ⟨s20, e21, hf⟩ := oL_some hf
            refine g_put (v := .int r6) hc in_X7 tyX7_ok nmX7 (MW_at (k := 0) (by decide)) rfl 16 (by decide) q977 rfl rfl rfl (Nat.le_of_ble_eq_true rfl) (MW_set (μ1 := s20) (k := 0) (by decide) e21 rfl) dX7_runsOn_159 ?_
            refine g_aload_n hc dX7_runsOn_162 rfl 3 rfl ?_
            refine g_iload hc dX7_runsOn_163 8 rfl ?_
            obtain ⟨s22, e23, hf⟩ := oL_some hf
            refine g_put (v := .int l8) hc in_X7 tyX7_ok nmX7 (MW_at (k := 0) (by decide)) rfl 17 (by decide) q978 rfl rfl rfl (Nat.le_of_ble_eq_true rfl) (MW_set (μ1 := s22) (k := 0) (by decide) e23 rfl) dX7_runsOn_165 ?_
            refine g_goto (tgt := 225) hc dX7_runsOn_168 (by decide) ?_
            exact g_lv [3, 4, 5, 6, 0, 7, 8] rfl (w_X7_runsOn_b225 hc s22 l1 l4 l5 (l6 - r17) l7 l8  (K := K) hf hK hI54 hR)
      · have hf := oF h12 hf
        refine g_aload_n hc dX7_runsOn_110 rfl 2 rfl ?_
        refine g_iconst (v := 1) hc dX7_runsOn_111 (by decide) ?_
        obtain ⟨s24, e25, hf⟩ := oL_some hf
        refine g_put (v := .int 1) hc in_X7 tyX7_ok nmX7 (MW_at (k := 0) (by decide)) rfl 19 (by decide) q980 rfl rfl rfl (Nat.le_of_ble_eq_true rfl) (MW_set (μ1 := s24) (k := 0) (by decide) e25 rfl) dX7_runsOn_112 ?_
        refine g_aload_n hc dX7_runsOn_115 rfl 2 rfl ?_
        refine g_iload hc dX7_runsOn_116 8 rfl ?_
        obtain ⟨s26, e27, hf⟩ := oL_some hf
        refine g_put (v := .int l8) hc in_X7 tyX7_ok nmX7 (MW_at (k := 0) (by decide)) rfl 17 (by decide) q978 rfl rfl rfl (Nat.le_of_ble_eq_true rfl) (MW_set (μ1 := s26) (k := 0) (by decide) e27 rfl) dX7_runsOn_118 ?_
        refine g_goto (tgt := 225) hc dX7_runsOn_121 (by decide) ?_
        exact g_lv [2, 3, 4, 5, 6, 7, 8] rfl (w_X7_runsOn_b225 hc s26 l1 l4 l5 l6 l7 l8  (K := K) hf hK hI54 hR)
def f_X7_runsOn_b54 (σ : (Nat → Nat → Int32)) (l1 : Int32) (l4 : Int32) (l5 : Int32) (l6 : Int32) (l7 : Int32) (l8 : Int32) : Option ((Nat → Nat → Int32)) :=
  oLoop gFU (fun v : Int32 × Int32 × Int32 × (Nat → Nat → Int32) => f_X7_runsOn_L54 v.2.2.2 l1 l4 l5 v.1 v.2.1 v.2.2.1) (l6, l7, l8, σ)
theorem w_X7_runsOn_b54 {x : gX} {ad : Nat → Nat} {tl : va_W}  (hc : gOk x RX7 cX7_runsOn 12 1 23)  (σ : (Nat → Nat → Int32)) (l1 : Int32) (l4 : Int32) (l5 : Int32) (l6 : Int32) (l7 : Int32) (l8 : Int32)  {K : (Nat → Nat → Int32) → Prop} {o : (Nat → Nat → Int32)} (hf : f_X7_runsOn_b54 σ l1 l4 l5 l6 l7 l8 = some o) (hK : K o) (hR : ∀ o : (Nat → Nat → Int32), K o → gRv x 0 0 (MW x.dA ad o ++ tl)) : gG x 12 0 0 (MW x.dA ad σ ++ tl) 54 [(0, .ref (ad 0)), (1, .int l1), (4, .int l4), (5, .int l5), (6, .int l6), (7, .int l7), (8, .int l8)] [] :=
  oLoop_ind (fun v : Int32 × Int32 × Int32 × (Nat → Nat → Int32) => gG x 12 0 0 (MW x.dA ad v.2.2.2 ++ tl) 54 [(0, .ref (ad 0)), (1, .int l1), (4, .int l4), (5, .int l5), (6, .int v.1), (7, .int v.2.1), (8, .int v.2.2.1)] []) K (fun v o1 hf1 hK1 => w_X7_runsOn_L54 hc v.2.2.2 l1 l4 l5 v.1 v.2.1 v.2.2.1  (K := Sum.elim (fun v : Int32 × Int32 × Int32 × (Nat → Nat → Int32) => gG x 12 0 0 (MW x.dA ad v.2.2.2 ++ tl) 54 [(0, .ref (ad 0)), (1, .int l1), (4, .int l4), (5, .int l5), (6, .int v.1), (7, .int v.2.1), (8, .int v.2.2.1)] []) K) hf1 hK1 (fun v hv => hv) hR) gFU _ o hf hK
def f_X7_runsOn (σ : (Nat → Nat → Int32)) (l1 : Int32) (l2 : Int32) (l3 : Int32) (l4 : Int32) : Option ((Nat → Nat → Int32)) :=
  oC (inb ((l1 + 18) + l2) 205) <| oC (inb ((l1 + 22) + l2) 205) <| oL (upd2 σ 0 16 (-4)) fun s3 => oL (upd2 s3 0 17 10) fun s5 => oL (upd2 s5 0 18 0) fun s7 => oL (upd2 s7 0 19 0) fun s9 => f_X7_runsOn_b54 s9 l1 l4 (σ 1 ((l1 + 18) + l2).toNatClampNeg) (σ 1 ((l1 + 22) + l2).toNatClampNeg) l3 0
theorem w_X7_runsOn {x : gX} {ad : Nat → Nat} {tl : va_W}  (hc : gOk x RX7 cX7_runsOn 12 1 23)  (σ : (Nat → Nat → Int32)) (l1 : Int32) (l2 : Int32) (l3 : Int32) (l4 : Int32)  {K : (Nat → Nat → Int32) → Prop} {o : (Nat → Nat → Int32)} (hf : f_X7_runsOn σ l1 l2 l3 l4 = some o) (hK : K o) (hR : ∀ o : (Nat → Nat → Int32), K o → gRv x 0 0 (MW x.dA ad o ++ tl)) : gG x 12 0 0 (MW x.dA ad σ ++ tl) 0 [(0, .ref (ad 0)), (1, .int l1), (2, .int l2), (3, .int l3), (4, .int l4)] [] := by
  unfold f_X7_runsOn at hf
  refine g_aload_n hc dX7_runsOn_0 rfl 0 rfl ?_
  refine g_get (v := .ref (ad 1)) hc in_X7 (MW_at (k := 0) (by decide)) rfl 0 (by decide) q961 rfl dX7_runsOn_1 ?_
  refine g_iload_n hc dX7_runsOn_4 rfl 1 rfl ?_
  refine g_bipush (v := 18) hc dX7_runsOn_5 (by decide) ?_
  refine g_iadd hc dX7_runsOn_7 ?_
  refine g_iload_n hc dX7_runsOn_8 rfl 2 rfl ?_
  refine g_iadd hc dX7_runsOn_9 ?_
  obtain ⟨h1, hf⟩ := oC_some hf
  refine g_iald (n := 205) (f := σ 1) hc (MW_at (k := 1) (by decide)) h1 dX7_runsOn_10 ?_
  refine g_istore (lv' := [(5, .int (σ 1 ((l1 + 18) + l2).toNatClampNeg)), (0, .ref (ad 0)), (1, .int l1), (2, .int l2), (3, .int l3), (4, .int l4)]) hc dX7_runsOn_11 (by decide) rfl ?_
  refine g_aload_n hc dX7_runsOn_13 rfl 1 rfl ?_
  refine g_get (v := .ref (ad 1)) hc in_X7 (MW_at (k := 0) (by decide)) rfl 0 (by decide) q961 rfl dX7_runsOn_14 ?_
  refine g_iload_n hc dX7_runsOn_17 rfl 2 rfl ?_
  refine g_bipush (v := 22) hc dX7_runsOn_18 (by decide) ?_
  refine g_iadd hc dX7_runsOn_20 ?_
  refine g_iload_n hc dX7_runsOn_21 rfl 3 rfl ?_
  refine g_iadd hc dX7_runsOn_22 ?_
  obtain ⟨h2, hf⟩ := oC_some hf
  refine g_iald (n := 205) (f := σ 1) hc (MW_at (k := 1) (by decide)) h2 dX7_runsOn_23 ?_
  refine g_istore (lv' := [(6, .int (σ 1 ((l1 + 22) + l2).toNatClampNeg)), (5, .int (σ 1 ((l1 + 18) + l2).toNatClampNeg)), (0, .ref (ad 0)), (1, .int l1), (2, .int l2), (3, .int l3), (4, .int l4)]) hc dX7_runsOn_24 (by decide) rfl ?_
  refine g_iload_n hc dX7_runsOn_26 rfl 5 rfl ?_
  refine g_istore (lv' := [(7, .int l3), (6, .int (σ 1 ((l1 + 22) + l2).toNatClampNeg)), (5, .int (σ 1 ((l1 + 18) + l2).toNatClampNeg)), (0, .ref (ad 0)), (1, .int l1), (2, .int l2), (3, .int l3), (4, .int l4)]) hc dX7_runsOn_27 (by decide) rfl ?_
  refine g_aload_n hc dX7_runsOn_29 rfl 3 rfl ?_
  refine g_bipush (v := (-4)) hc dX7_runsOn_30 (by decide) ?_
  obtain ⟨s3, e4, hf⟩ := oL_some hf
  refine g_put (v := .int (-4)) hc in_X7 tyX7_ok nmX7 (MW_at (k := 0) (by decide)) rfl 16 (by decide) q977 rfl rfl rfl (Nat.le_of_ble_eq_true rfl) (MW_set (μ1 := s3) (k := 0) (by decide) e4 rfl) dX7_runsOn_32 ?_
  refine g_aload_n hc dX7_runsOn_35 rfl 3 rfl ?_
  refine g_bipush (v := 10) hc dX7_runsOn_36 (by decide) ?_
  obtain ⟨s5, e6, hf⟩ := oL_some hf
  refine g_put (v := .int 10) hc in_X7 tyX7_ok nmX7 (MW_at (k := 0) (by decide)) rfl 17 (by decide) q978 rfl rfl rfl (Nat.le_of_ble_eq_true rfl) (MW_set (μ1 := s5) (k := 0) (by decide) e6 rfl) dX7_runsOn_38 ?_
  refine g_aload_n hc dX7_runsOn_41 rfl 3 rfl ?_
  refine g_iconst (v := 0) hc dX7_runsOn_42 (by decide) ?_
  obtain ⟨s7, e8, hf⟩ := oL_some hf
  refine g_put (v := .int 0) hc in_X7 tyX7_ok nmX7 (MW_at (k := 0) (by decide)) rfl 18 (by decide) q979 rfl rfl rfl (Nat.le_of_ble_eq_true rfl) (MW_set (μ1 := s7) (k := 0) (by decide) e8 rfl) dX7_runsOn_43 ?_
  refine g_aload_n hc dX7_runsOn_46 rfl 3 rfl ?_
  refine g_iconst (v := 0) hc dX7_runsOn_47 (by decide) ?_
  obtain ⟨s9, e10, hf⟩ := oL_some hf
  refine g_put (v := .int 0) hc in_X7 tyX7_ok nmX7 (MW_at (k := 0) (by decide)) rfl 19 (by decide) q980 rfl rfl rfl (Nat.le_of_ble_eq_true rfl) (MW_set (μ1 := s9) (k := 0) (by decide) e10 rfl) dX7_runsOn_48 ?_
  refine g_iconst (v := 0) hc dX7_runsOn_51 (by decide) ?_
  refine g_istore (lv' := [(8, .int 0), (7, .int l3), (6, .int (σ 1 ((l1 + 22) + l2).toNatClampNeg)), (5, .int (σ 1 ((l1 + 18) + l2).toNatClampNeg)), (0, .ref (ad 0)), (1, .int l1), (2, .int l2), (3, .int l3), (4, .int l4)]) hc dX7_runsOn_52 (by decide) rfl ?_
  exact g_lv [4, 5, 8, 3, 2, 1, 0] rfl (w_X7_runsOn_b54 hc s9 l1 l4 (σ 1 ((l1 + 18) + l2).toNatClampNeg) (σ 1 ((l1 + 22) + l2).toNatClampNeg) l3 0  (K := K) hf hK hR)
theorem c_X7_runsOn {l : Launch} {D : va_G} {dA : Nat → ClassId} {ad : Nat → Nat} {tl : va_W}  {σ : (Nat → Nat → Int32)} {l1 : Int32} {l2 : Int32} {l3 : Int32} {l4 : Int32}  {o : (Nat → Nat → Int32)} (hf : f_X7_runsOn σ l1 l2 l3 l4 = some o) : gV l D dA (MW dA ad σ ++ tl) (MW dA ad o ++ tl) [.ref (ad 0), .int l1, .int l2, .int l3, .int l4] yX7_runsOn (ws_ yX7_runsOn cX7_runsOn 12 none) ({ frames := 1, cells := 0, slots := 0, locals := 23 } : Room) :=
  g_startV (own := RX7) ⟨rfl, rfl⟩ (by decide) rfl (Nat.le_of_ble_eq_true rfl) (fun x e hc hR => by
    subst e
    exact w_X7_runsOn hc σ l1 l2 l3 l4  (K := fun o1 => o1 = o) hf rfl (by rintro _ rfl; exact hR))
theorem hd_X7_runsOn : yX7_runsOn.cls = RX7 ∧ yX7_runsOn.cls ≠ "java/lang/invoke/MethodHandle" ∧ yX7_runsOn.cls ≠ "java/lang/invoke/VarHandle" ∧ (parseMethodDescriptor yX7_runsOn.desc).map (fun d => d.parameters.length) = some 4 := by decide +kernel
/-! HedgehogLotsModel.winnerOn(III)I -/
def f_X7_winnerOn (σ : (Nat → Nat → Int32)) (l1 : Int32) (l2 : Int32) (l3 : Int32) : Option (Int32 × (Nat → Nat → Int32)) :=
  oB (f_X7_runsOn σ l1 l2 l3 0) fun r2 => if (r2 0 16) = (-4) then (some ((-4), r2)) else (oC (inb ((l1 + 7) + (r2 0 16)) 205) <| some ((r2 1 ((l1 + 7) + (r2 0 16)).toNatClampNeg), r2))
theorem w_X7_winnerOn {x : gX} {ad : Nat → Nat} {tl : va_W}  (hc : gOk x RX7 cX7_winnerOn 4 2 54)  (σ : (Nat → Nat → Int32)) (l1 : Int32) (l2 : Int32) (l3 : Int32)  {K : Int32 × (Nat → Nat → Int32) → Prop} {o : Int32 × (Nat → Nat → Int32)} (hf : f_X7_winnerOn σ l1 l2 l3 = some o) (hK : K o) (hR : ∀ o : Int32 × (Nat → Nat → Int32), K o → gRi x 0 0 (MW x.dA ad o.2 ++ tl) o.1) : gG x 4 0 0 (MW x.dA ad σ ++ tl) 0 [(0, .ref (ad 0)), (1, .int l1), (2, .int l2), (3, .int l3)] [] := by
  unfold f_X7_winnerOn at hf
  refine g_aload_n hc dX7_winnerOn_0 rfl 0 rfl ?_
  refine g_iload_n hc dX7_winnerOn_1 rfl 1 rfl ?_
  refine g_iload_n hc dX7_winnerOn_2 rfl 2 rfl ?_
  refine g_iload_n hc dX7_winnerOn_3 rfl 3 rfl ?_
  refine g_iconst (v := 0) hc dX7_winnerOn_4 (by decide) ?_
  obtain ⟨r2, h1, hf⟩ := oB_some hf
  refine g_callVv hc [.int l1, .int l2, .int l3, .int 0] [] (c_X7_runsOn  h1) (MW_at (k := 0) (by decide)) rfl (lw_V q1119 q1121 qs42 q67 q1122) rfl hd_X7_runsOn rfl rfl (Nat.le_of_ble_eq_true rfl) gZ dX7_winnerOn_5 ?_
  refine g_aload_n hc dX7_winnerOn_8 rfl 0 rfl ?_
  refine g_get (v := .int (r2 0 16)) hc in_X7 (MW_at (k := 0) (by decide)) rfl 16 (by decide) q977 rfl dX7_winnerOn_9 ?_
  refine g_bipush (v := (-4)) hc dX7_winnerOn_12 (by decide) ?_
  refine g_icmp_ne (tgt := 22) hc dX7_winnerOn_14 (by decide) (fun h3 => ?_) (fun h3 => ?_)
  · have hf := oF h3 hf
    refine g_aload_n hc dX7_winnerOn_22 rfl 0 rfl ?_
    refine g_get (v := .ref (ad 1)) hc in_X7 (MW_at (k := 0) (by decide)) rfl 0 (by decide) q961 rfl dX7_winnerOn_23 ?_
    refine g_iload_n hc dX7_winnerOn_26 rfl 1 rfl ?_
    refine g_bipush (v := 7) hc dX7_winnerOn_27 (by decide) ?_
    refine g_iadd hc dX7_winnerOn_29 ?_
    refine g_aload_n hc dX7_winnerOn_30 rfl 0 rfl ?_
    refine g_get (v := .int (r2 0 16)) hc in_X7 (MW_at (k := 0) (by decide)) rfl 16 (by decide) q977 rfl dX7_winnerOn_31 ?_
    refine g_iadd hc dX7_winnerOn_34 ?_
    obtain ⟨h4, hf⟩ := oC_some hf
    refine g_iald (n := 205) (f := r2 1) hc (MW_at (k := 1) (by decide)) h4 dX7_winnerOn_35 ?_
    have hz := Option.some.inj hf; subst hz
    exact g_iret hc (hR _ hK) dX7_winnerOn_36
  · have hf := oT h3 hf
    refine g_bipush (v := (-4)) hc dX7_winnerOn_17 (by decide) ?_
    refine g_goto (tgt := 36) hc dX7_winnerOn_19 (by decide) ?_
    have hz := Option.some.inj hf; subst hz
    exact g_iret hc (hR _ hK) dX7_winnerOn_36
theorem c_X7_winnerOn {l : Launch} {D : va_G} {dA : Nat → ClassId} {ad : Nat → Nat} {tl : va_W}  {σ : (Nat → Nat → Int32)} {l1 : Int32} {l2 : Int32} {l3 : Int32}  {o : Int32 × (Nat → Nat → Int32)} (hf : f_X7_winnerOn σ l1 l2 l3 = some o) : gI l D dA (MW dA ad σ ++ tl) (MW dA ad o.2 ++ tl) [.ref (ad 0), .int l1, .int l2, .int l3] o.1 yX7_winnerOn (ws_ yX7_winnerOn cX7_winnerOn 4 (some .int)) ({ frames := 2, cells := 0, slots := 0, locals := 54 } : Room) :=
  g_startI (own := RX7) ⟨rfl, rfl⟩ (by decide) rfl (Nat.le_of_ble_eq_true rfl) (fun x e hc hR => by
    subst e
    exact w_X7_winnerOn hc σ l1 l2 l3  (K := fun o1 => o1 = o) hf rfl (by rintro _ rfl; exact hR))
theorem hd_X7_winnerOn : yX7_winnerOn.cls = RX7 ∧ yX7_winnerOn.cls ≠ "java/lang/invoke/MethodHandle" ∧ yX7_winnerOn.cls ≠ "java/lang/invoke/VarHandle" ∧ (parseMethodDescriptor yX7_winnerOn.desc).map (fun d => d.parameters.length) = some 3 := by decide +kernel
/-! HedgehogLotsModel.winsOn(II)I -/
def f_X7_winsOn_b78 (σ : (Nat → Nat → Int32)) (l1 : Int32) (l2 : Int32) (l4 : Int32) (k2 : Int32) (k1 : Int32) : Option ((Int32 × Int32 × (Nat → Nat → Int32)) ⊕ (Int32 × (Nat → Nat → Int32))) :=
  some (.inl ((k1 ||| k2), (l4 + 1), σ))
theorem w_X7_winsOn_b78 {x : gX} {ad : Nat → Nat} {tl : va_W}  (hc : gOk x RX7 cX7_winsOn 6 3 77)  (σ : (Nat → Nat → Int32)) (l1 : Int32) (l2 : Int32) (l4 : Int32) (k2 : Int32) (k1 : Int32)  {K : (Int32 × Int32 × (Nat → Nat → Int32)) ⊕ (Int32 × (Nat → Nat → Int32)) → Prop} {o : (Int32 × Int32 × (Nat → Nat → Int32)) ⊕ (Int32 × (Nat → Nat → Int32))} (hf : f_X7_winsOn_b78 σ l1 l2 l4 k2 k1 = some o) (hK : K o) (hI5 : ∀ v : Int32 × Int32 × (Nat → Nat → Int32), K (.inl v) → gG x 6 0 0 (MW x.dA ad v.2.2 ++ tl) 5 [(0, .ref (ad 0)), (1, .int l1), (2, .int l2), (3, .int v.1), (4, .int v.2.1)] []) (hR : ∀ o : Int32 × (Nat → Nat → Int32), K (.inr (o)) → gRi x 0 0 (MW x.dA ad o.2 ++ tl) o.1) : gG x 6 0 0 (MW x.dA ad σ ++ tl) 78 [(0, .ref (ad 0)), (1, .int l1), (2, .int l2), (4, .int l4)] [.int k2, .int k1] := by
  unfold f_X7_winsOn_b78 at hf
  refine g_ior hc dX7_winsOn_78 ?_
  refine g_istore_n (lv' := [(3, .int (k1 ||| k2)), (0, .ref (ad 0)), (1, .int l1), (2, .int l2), (4, .int l4)]) hc dX7_winsOn_79 rfl (by decide) rfl ?_
  refine g_iinc (v := l4 + 1) (lv' := [(4, .int (l4 + 1)), (3, .int (k1 ||| k2)), (0, .ref (ad 0)), (1, .int l1), (2, .int l2)]) hc dX7_winsOn_80 (j := 4) rfl rfl (by decide) rfl ?_
  refine g_goto (tgt := 5) hc dX7_winsOn_83 (by decide) ?_
  have hz := Option.some.inj hf; subst hz
  exact g_lv [2, 3, 4, 1, 0] rfl (hI5 _ hK)
def f_X7_winsOn_b77 (σ : (Nat → Nat → Int32)) (l1 : Int32) (l2 : Int32) (l4 : Int32) (k1 : Int32) : Option ((Int32 × Int32 × (Nat → Nat → Int32)) ⊕ (Int32 × (Nat → Nat → Int32))) :=
  f_X7_winsOn_b78 σ l1 l2 l4 0 k1
theorem w_X7_winsOn_b77 {x : gX} {ad : Nat → Nat} {tl : va_W}  (hc : gOk x RX7 cX7_winsOn 6 3 77)  (σ : (Nat → Nat → Int32)) (l1 : Int32) (l2 : Int32) (l4 : Int32) (k1 : Int32)  {K : (Int32 × Int32 × (Nat → Nat → Int32)) ⊕ (Int32 × (Nat → Nat → Int32)) → Prop} {o : (Int32 × Int32 × (Nat → Nat → Int32)) ⊕ (Int32 × (Nat → Nat → Int32))} (hf : f_X7_winsOn_b77 σ l1 l2 l4 k1 = some o) (hK : K o) (hI5 : ∀ v : Int32 × Int32 × (Nat → Nat → Int32), K (.inl v) → gG x 6 0 0 (MW x.dA ad v.2.2 ++ tl) 5 [(0, .ref (ad 0)), (1, .int l1), (2, .int l2), (3, .int v.1), (4, .int v.2.1)] []) (hR : ∀ o : Int32 × (Nat → Nat → Int32), K (.inr (o)) → gRi x 0 0 (MW x.dA ad o.2 ++ tl) o.1) : gG x 6 0 0 (MW x.dA ad σ ++ tl) 77 [(0, .ref (ad 0)), (1, .int l1), (2, .int l2), (4, .int l4)] [.int k1] := by
  unfold f_X7_winsOn_b77 at hf
  refine g_iconst (v := 0) hc dX7_winsOn_77 (by decide) ?_
  exact g_lv [0, 1, 2, 3] rfl (w_X7_winsOn_b78 hc σ l1 l2 l4 0 k1  (K := K) hf hK hI5 hR)
def f_X7_winsOn_b70 (σ : (Nat → Nat → Int32)) (l1 : Int32) (l2 : Int32) (l4 : Int32) (k1 : Int32) : Option ((Int32 × Int32 × (Nat → Nat → Int32)) ⊕ (Int32 × (Nat → Nat → Int32))) :=
  f_X7_winsOn_b78 σ l1 l2 l4 ((1 : Int32) <<< (l4 &&& 31)) k1
theorem w_X7_winsOn_b70 {x : gX} {ad : Nat → Nat} {tl : va_W}  (hc : gOk x RX7 cX7_winsOn 6 3 77)  (σ : (Nat → Nat → Int32)) (l1 : Int32) (l2 : Int32) (l4 : Int32) (k1 : Int32)  {K : (Int32 × Int32 × (Nat → Nat → Int32)) ⊕ (Int32 × (Nat → Nat → Int32)) → Prop} {o : (Int32 × Int32 × (Nat → Nat → Int32)) ⊕ (Int32 × (Nat → Nat → Int32))} (hf : f_X7_winsOn_b70 σ l1 l2 l4 k1 = some o) (hK : K o) (hI5 : ∀ v : Int32 × Int32 × (Nat → Nat → Int32), K (.inl v) → gG x 6 0 0 (MW x.dA ad v.2.2 ++ tl) 5 [(0, .ref (ad 0)), (1, .int l1), (2, .int l2), (3, .int v.1), (4, .int v.2.1)] []) (hR : ∀ o : Int32 × (Nat → Nat → Int32), K (.inr (o)) → gRi x 0 0 (MW x.dA ad o.2 ++ tl) o.1) : gG x 6 0 0 (MW x.dA ad σ ++ tl) 70 [(0, .ref (ad 0)), (1, .int l1), (2, .int l2), (4, .int l4)] [.int k1] := by
  unfold f_X7_winsOn_b70 at hf
  refine g_iconst (v := 1) hc dX7_winsOn_70 (by decide) ?_
  refine g_iload hc dX7_winsOn_71 3 rfl ?_
  refine g_ishl hc dX7_winsOn_73 ?_
  refine g_goto (tgt := 78) hc dX7_winsOn_74 (by decide) ?_
  exact g_lv [0, 1, 2, 3] rfl (w_X7_winsOn_b78 hc σ l1 l2 l4 ((1 : Int32) <<< (l4 &&& 31)) k1  (K := K) hf hK hI5 hR)
def f_X7_winsOn_L5 (σ : (Nat → Nat → Int32)) (l1 : Int32) (l2 : Int32) (l3 : Int32) (l4 : Int32) : Option ((Int32 × Int32 × (Nat → Nat → Int32)) ⊕ (Int32 × (Nat → Nat → Int32))) :=
  oC (inb (l1 + 40) 205) <| if (σ 1 (l1 + 40).toNatClampNeg) ≤ l4 then (oI (some (l3, σ))) else (oC (inb ((l1 + 26) + l4) 205) <| oC (inb ((l1 + 32) + l4) 205) <| oB (f_X7_winnerOn σ l1 (σ 1 ((l1 + 26) + l4).toNatClampNeg) (σ 1 ((l1 + 32) + l4).toNatClampNeg)) fun r7 => if r7.1 = (-4) then (f_X7_winsOn_b77 r7.2 l1 l2 l4 l3) else (if l2 = (-4) then (f_X7_winsOn_b70 r7.2 l1 l2 l4 l3) else (if r7.1 = l2 then (f_X7_winsOn_b70 r7.2 l1 l2 l4 l3) else (f_X7_winsOn_b77 r7.2 l1 l2 l4 l3))))
theorem w_X7_winsOn_L5 {x : gX} {ad : Nat → Nat} {tl : va_W}  (hc : gOk x RX7 cX7_winsOn 6 3 77)  (σ : (Nat → Nat → Int32)) (l1 : Int32) (l2 : Int32) (l3 : Int32) (l4 : Int32)  {K : (Int32 × Int32 × (Nat → Nat → Int32)) ⊕ (Int32 × (Nat → Nat → Int32)) → Prop} {o : (Int32 × Int32 × (Nat → Nat → Int32)) ⊕ (Int32 × (Nat → Nat → Int32))} (hf : f_X7_winsOn_L5 σ l1 l2 l3 l4 = some o) (hK : K o) (hI5 : ∀ v : Int32 × Int32 × (Nat → Nat → Int32), K (.inl v) → gG x 6 0 0 (MW x.dA ad v.2.2 ++ tl) 5 [(0, .ref (ad 0)), (1, .int l1), (2, .int l2), (3, .int v.1), (4, .int v.2.1)] []) (hR : ∀ o : Int32 × (Nat → Nat → Int32), K (.inr (o)) → gRi x 0 0 (MW x.dA ad o.2 ++ tl) o.1) : gG x 6 0 0 (MW x.dA ad σ ++ tl) 5 [(0, .ref (ad 0)), (1, .int l1), (2, .int l2), (3, .int l3), (4, .int l4)] [] := by
  unfold f_X7_winsOn_L5 at hf
  refine g_iload hc dX7_winsOn_5 4 rfl ?_
  refine g_aload_n hc dX7_winsOn_7 rfl 0 rfl ?_
  refine g_get (v := .ref (ad 1)) hc in_X7 (MW_at (k := 0) (by decide)) rfl 0 (by decide) q961 rfl dX7_winsOn_8 ?_
  refine g_iload_n hc dX7_winsOn_11 rfl 1 rfl ?_
  refine g_bipush (v := 40) hc dX7_winsOn_12 (by decide) ?_
  refine g_iadd hc dX7_winsOn_14 ?_
  obtain ⟨h1, hf⟩ := oC_some hf
  refine g_iald (n := 205) (f := σ 1) hc (MW_at (k := 1) (by decide)) h1 dX7_winsOn_15 ?_
  refine g_icmp_ge (tgt := 86) hc dX7_winsOn_16 (by decide) (fun h2 => ?_) (fun h2 => ?_)
  · have hf := oT h2 hf
    obtain ⟨o3, hgo3, eo3⟩ := oI_some hf
    clear hf; subst eo3; have hf := hgo3; clear hgo3
    refine g_iload_n hc dX7_winsOn_86 rfl 3 rfl ?_
    have hz := Option.some.inj hf; subst hz
    exact g_iret hc (hR _ hK) dX7_winsOn_87
  · have hf := oF h2 hf
    refine g_aload_n hc dX7_winsOn_19 rfl 0 rfl ?_
    refine g_iload_n hc dX7_winsOn_20 rfl 1 rfl ?_
    refine g_aload_n hc dX7_winsOn_21 rfl 0 rfl ?_
    refine g_get (v := .ref (ad 1)) hc in_X7 (MW_at (k := 0) (by decide)) rfl 0 (by decide) q961 rfl dX7_winsOn_22 ?_
    refine g_iload_n hc dX7_winsOn_25 rfl 1 rfl ?_
    refine g_bipush (v := 26) hc dX7_winsOn_26 (by decide) ?_
    refine g_iadd hc dX7_winsOn_28 ?_
    refine g_iload hc dX7_winsOn_29 4 rfl ?_
    refine g_iadd hc dX7_winsOn_31 ?_
    obtain ⟨h4, hf⟩ := oC_some hf
    refine g_iald (n := 205) (f := σ 1) hc (MW_at (k := 1) (by decide)) h4 dX7_winsOn_32 ?_
    refine g_aload_n hc dX7_winsOn_33 rfl 0 rfl ?_
    refine g_get (v := .ref (ad 1)) hc in_X7 (MW_at (k := 0) (by decide)) rfl 0 (by decide) q961 rfl dX7_winsOn_34 ?_
    refine g_iload_n hc dX7_winsOn_37 rfl 1 rfl ?_
    refine g_bipush (v := 32) hc dX7_winsOn_38 (by decide) ?_
    refine g_iadd hc dX7_winsOn_40 ?_
    refine g_iload hc dX7_winsOn_41 4 rfl ?_
    refine g_iadd hc dX7_winsOn_43 ?_
    obtain ⟨h5, hf⟩ := oC_some hf
    refine g_iald (n := 205) (f := σ 1) hc (MW_at (k := 1) (by decide)) h5 dX7_winsOn_44 ?_
    obtain ⟨r7, h6, hf⟩ := oB_some hf
    refine g_callVi hc [.int l1, .int (σ 1 ((l1 + 26) + l4).toNatClampNeg), .int (σ 1 ((l1 + 32) + l4).toNatClampNeg)] [] (c_X7_winnerOn  h6) (MW_at (k := 0) (by decide)) rfl (lw_V q1141 q1143 qs46 q67 q1144) rfl hd_X7_winnerOn rfl rfl (Nat.le_of_ble_eq_true rfl) gZ dX7_winsOn_45 ?_
    refine g_istore (lv' := [(5, .int r7.1), (0, .ref (ad 0)), (1, .int l1), (2, .int l2), (3, .int l3), (4, .int l4)]) hc dX7_winsOn_48 (by decide) rfl ?_
    refine g_iload_n hc dX7_winsOn_50 rfl 4 rfl ?_
    refine g_iload hc dX7_winsOn_51 0 rfl ?_
    refine g_bipush (v := (-4)) hc dX7_winsOn_53 (by decide) ?_
    refine g_icmp_eq (tgt := 77) hc dX7_winsOn_55 (by decide) (fun h8 => ?_) (fun h8 => ?_)
    · have hf := oT h8 hf
      exact g_lv [1, 2, 3, 5] rfl (w_X7_winsOn_b77 hc r7.2 l1 l2 l4 l3  (K := K) hf hK hI5 hR)
    · have hf := oF h8 hf
      refine g_iload_n hc dX7_winsOn_58 rfl 3 rfl ?_
      refine g_bipush (v := (-4)) hc dX7_winsOn_59 (by decide) ?_
      refine g_icmp_eq (tgt := 70) hc dX7_winsOn_61 (by decide) (fun h9 => ?_) (fun h9 => ?_)
      · have hf := oT h9 hf
        exact g_lv [1, 2, 3, 5] rfl (w_X7_winsOn_b70 hc r7.2 l1 l2 l4 l3  (K := K) hf hK hI5 hR)
      · have hf := oF h9 hf
        refine g_iload hc dX7_winsOn_64 0 rfl ?_
        refine g_iload_n hc dX7_winsOn_66 rfl 3 rfl ?_
        refine g_icmp_ne (tgt := 77) hc dX7_winsOn_67 (by decide) (fun h10 => ?_) (fun h10 => ?_)
        · have hf := oF h10 hf
          exact g_lv [1, 2, 3, 5] rfl (w_X7_winsOn_b77 hc r7.2 l1 l2 l4 l3  (K := K) hf hK hI5 hR)
        · have hf := oT h10 hf
          exact g_lv [1, 2, 3, 5] rfl (w_X7_winsOn_b70 hc r7.2 l1 l2 l4 l3  (K := K) hf hK hI5 hR)
def f_X7_winsOn_b5 (σ : (Nat → Nat → Int32)) (l1 : Int32) (l2 : Int32) (l3 : Int32) (l4 : Int32) : Option (Int32 × (Nat → Nat → Int32)) :=
  oLoop gFU (fun v : Int32 × Int32 × (Nat → Nat → Int32) => f_X7_winsOn_L5 v.2.2 l1 l2 v.1 v.2.1) (l3, l4, σ)
theorem w_X7_winsOn_b5 {x : gX} {ad : Nat → Nat} {tl : va_W}  (hc : gOk x RX7 cX7_winsOn 6 3 77)  (σ : (Nat → Nat → Int32)) (l1 : Int32) (l2 : Int32) (l3 : Int32) (l4 : Int32)  {K : Int32 × (Nat → Nat → Int32) → Prop} {o : Int32 × (Nat → Nat → Int32)} (hf : f_X7_winsOn_b5 σ l1 l2 l3 l4 = some o) (hK : K o) (hR : ∀ o : Int32 × (Nat → Nat → Int32), K o → gRi x 0 0 (MW x.dA ad o.2 ++ tl) o.1) : gG x 6 0 0 (MW x.dA ad σ ++ tl) 5 [(0, .ref (ad 0)), (1, .int l1), (2, .int l2), (3, .int l3), (4, .int l4)] [] :=
  oLoop_ind (fun v : Int32 × Int32 × (Nat → Nat → Int32) => gG x 6 0 0 (MW x.dA ad v.2.2 ++ tl) 5 [(0, .ref (ad 0)), (1, .int l1), (2, .int l2), (3, .int v.1), (4, .int v.2.1)] []) K (fun v o1 hf1 hK1 => w_X7_winsOn_L5 hc v.2.2 l1 l2 v.1 v.2.1  (K := Sum.elim (fun v : Int32 × Int32 × (Nat → Nat → Int32) => gG x 6 0 0 (MW x.dA ad v.2.2 ++ tl) 5 [(0, .ref (ad 0)), (1, .int l1), (2, .int l2), (3, .int v.1), (4, .int v.2.1)] []) K) hf1 hK1 (fun v hv => hv) hR) gFU _ o hf hK
def f_X7_winsOn (σ : (Nat → Nat → Int32)) (l1 : Int32) (l2 : Int32) : Option (Int32 × (Nat → Nat → Int32)) :=
  f_X7_winsOn_b5 σ l1 l2 0 0
theorem w_X7_winsOn {x : gX} {ad : Nat → Nat} {tl : va_W}  (hc : gOk x RX7 cX7_winsOn 6 3 77)  (σ : (Nat → Nat → Int32)) (l1 : Int32) (l2 : Int32)  {K : Int32 × (Nat → Nat → Int32) → Prop} {o : Int32 × (Nat → Nat → Int32)} (hf : f_X7_winsOn σ l1 l2 = some o) (hK : K o) (hR : ∀ o : Int32 × (Nat → Nat → Int32), K o → gRi x 0 0 (MW x.dA ad o.2 ++ tl) o.1) : gG x 6 0 0 (MW x.dA ad σ ++ tl) 0 [(0, .ref (ad 0)), (1, .int l1), (2, .int l2)] [] := by
  unfold f_X7_winsOn at hf
  refine g_iconst (v := 0) hc dX7_winsOn_0 (by decide) ?_
  refine g_istore_n (lv' := [(3, .int 0), (0, .ref (ad 0)), (1, .int l1), (2, .int l2)]) hc dX7_winsOn_1 rfl (by decide) rfl ?_
  refine g_iconst (v := 0) hc dX7_winsOn_2 (by decide) ?_
  refine g_istore (lv' := [(4, .int 0), (3, .int 0), (0, .ref (ad 0)), (1, .int l1), (2, .int l2)]) hc dX7_winsOn_3 (by decide) rfl ?_
  exact g_lv [2, 3, 4, 1, 0] rfl (w_X7_winsOn_b5 hc σ l1 l2 0 0  (K := K) hf hK hR)
theorem c_X7_winsOn {l : Launch} {D : va_G} {dA : Nat → ClassId} {ad : Nat → Nat} {tl : va_W}  {σ : (Nat → Nat → Int32)} {l1 : Int32} {l2 : Int32}  {o : Int32 × (Nat → Nat → Int32)} (hf : f_X7_winsOn σ l1 l2 = some o) : gI l D dA (MW dA ad σ ++ tl) (MW dA ad o.2 ++ tl) [.ref (ad 0), .int l1, .int l2] o.1 yX7_winsOn (ws_ yX7_winsOn cX7_winsOn 6 (some .int)) ({ frames := 3, cells := 0, slots := 0, locals := 77 } : Room) :=
  g_startI (own := RX7) ⟨rfl, rfl⟩ (by decide) rfl (Nat.le_of_ble_eq_true rfl) (fun x e hc hR => by
    subst e
    exact w_X7_winsOn hc σ l1 l2  (K := fun o1 => o1 = o) hf rfl (by rintro _ rfl; exact hR))
theorem hd_X7_winsOn : yX7_winsOn.cls = RX7 ∧ yX7_winsOn.cls ≠ "java/lang/invoke/MethodHandle" ∧ yX7_winsOn.cls ≠ "java/lang/invoke/VarHandle" ∧ (parseMethodDescriptor yX7_winsOn.desc).map (fun d => d.parameters.length) = some 2 := by decide +kernel
/-! HedgehogLotsModel.bitsOf(I)I -/
def f_X7_bitsOf_L4 (l1 : Int32) (l2 : Int32) : Option ((Int32 × Int32) ⊕ (Int32)) :=
  if l2 ≤ 0 then (oI (some l1)) else (some (.inl ((l1 + (l2 &&& 1)), (l2 >>> ((1 : Int32) &&& 31)))))
theorem w_X7_bitsOf_L4 {x : gX} {Φ : va_W}  (hc : gOk x RX7 cX7_bitsOf 3 0 0)  (l1 : Int32) (l2 : Int32)  {K : (Int32 × Int32) ⊕ (Int32) → Prop} {o : (Int32 × Int32) ⊕ (Int32)} (hf : f_X7_bitsOf_L4 l1 l2 = some o) (hK : K o) (hI4 : ∀ v : Int32 × Int32, K (.inl v) → gG x 3 0 0 (Φ) 4 [(1, .int v.1), (2, .int v.2)] []) (hR : ∀ o : Int32, K (.inr (o)) → gRi x 0 0 (Φ) o) : gG x 3 0 0 (Φ) 4 [(1, .int l1), (2, .int l2)] [] := by
  unfold f_X7_bitsOf_L4 at hf
  refine g_iload_n hc dX7_bitsOf_4 rfl 1 rfl ?_
  refine g_if_le (tgt := 21) hc dX7_bitsOf_5 (by decide) (fun h1 => ?_) (fun h1 => ?_)
  · have hf := oT h1 hf
    obtain ⟨o2, hgo2, eo2⟩ := oI_some hf
    clear hf; subst eo2; have hf := hgo2; clear hgo2
    refine g_iload_n hc dX7_bitsOf_21 rfl 0 rfl ?_
    have hz := Option.some.inj hf; subst hz
    exact g_iret hc (hR _ hK) dX7_bitsOf_22
  · have hf := oF h1 hf
    refine g_iload_n hc dX7_bitsOf_8 rfl 0 rfl ?_
    refine g_iload_n hc dX7_bitsOf_9 rfl 1 rfl ?_
    refine g_iconst (v := 1) hc dX7_bitsOf_10 (by decide) ?_
    refine g_iand hc dX7_bitsOf_11 ?_
    refine g_iadd hc dX7_bitsOf_12 ?_
    refine g_istore_n (lv' := [(1, .int (l1 + (l2 &&& 1))), (2, .int l2)]) hc dX7_bitsOf_13 rfl (by decide) rfl ?_
    refine g_iload_n hc dX7_bitsOf_14 rfl 1 rfl ?_
    refine g_iconst (v := 1) hc dX7_bitsOf_15 (by decide) ?_
    refine g_ishr hc dX7_bitsOf_16 ?_
    refine g_istore_n (lv' := [(2, .int (l2 >>> ((1 : Int32) &&& 31))), (1, .int (l1 + (l2 &&& 1)))]) hc dX7_bitsOf_17 rfl (by decide) rfl ?_
    refine g_goto (tgt := 4) hc dX7_bitsOf_18 (by decide) ?_
    have hz := Option.some.inj hf; subst hz
    exact g_lv [1, 0] rfl (hI4 _ hK)
def f_X7_bitsOf_b4 (l1 : Int32) (l2 : Int32) : Option (Int32) :=
  oLoop gFU (fun v : Int32 × Int32 => f_X7_bitsOf_L4 v.1 v.2) (l1, l2)
theorem w_X7_bitsOf_b4 {x : gX} {Φ : va_W}  (hc : gOk x RX7 cX7_bitsOf 3 0 0)  (l1 : Int32) (l2 : Int32)  {K : Int32 → Prop} {o : Int32} (hf : f_X7_bitsOf_b4 l1 l2 = some o) (hK : K o) (hR : ∀ o : Int32, K o → gRi x 0 0 (Φ) o) : gG x 3 0 0 (Φ) 4 [(1, .int l1), (2, .int l2)] [] :=
  oLoop_ind (fun v : Int32 × Int32 => gG x 3 0 0 (Φ) 4 [(1, .int v.1), (2, .int v.2)] []) K (fun v o1 hf1 hK1 => w_X7_bitsOf_L4 hc v.1 v.2  (K := Sum.elim (fun v : Int32 × Int32 => gG x 3 0 0 (Φ) 4 [(1, .int v.1), (2, .int v.2)] []) K) hf1 hK1 (fun v hv => hv) hR) gFU _ o hf hK
def f_X7_bitsOf (l0 : Int32) : Option (Int32) :=
  f_X7_bitsOf_b4 0 l0
theorem w_X7_bitsOf {x : gX} {Φ : va_W}  (hc : gOk x RX7 cX7_bitsOf 3 0 0)  (l0 : Int32)  {K : Int32 → Prop} {o : Int32} (hf : f_X7_bitsOf l0 = some o) (hK : K o) (hR : ∀ o : Int32, K o → gRi x 0 0 (Φ) o) : gG x 3 0 0 (Φ) 0 [(0, .int l0)] [] := by
  unfold f_X7_bitsOf at hf
  refine g_iconst (v := 0) hc dX7_bitsOf_0 (by decide) ?_
  refine g_istore_n (lv' := [(1, .int 0), (0, .int l0)]) hc dX7_bitsOf_1 rfl (by decide) rfl ?_
  refine g_iload_n hc dX7_bitsOf_2 rfl 1 rfl ?_
  refine g_istore_n (lv' := [(2, .int l0), (1, .int 0), (0, .int l0)]) hc dX7_bitsOf_3 rfl (by decide) rfl ?_
  exact g_lv [1, 0] rfl (w_X7_bitsOf_b4 hc 0 l0  (K := K) hf hK hR)
theorem c_X7_bitsOf {l : Launch} {D : va_G} {dA : Nat → ClassId} {Φ : va_W}  {l0 : Int32}  {o : Int32} (hf : f_X7_bitsOf l0 = some o) : gI l D dA (Φ) (Φ) [.int l0] o yX7_bitsOf (ws_ yX7_bitsOf cX7_bitsOf 3 (some .int)) ({ frames := 0, cells := 0, slots := 0, locals := 0 } : Room) :=
  g_startI (own := RX7) ⟨rfl, rfl⟩ (by decide) rfl (Nat.le_of_ble_eq_true rfl) (fun x e hc hR => by
    subst e
    exact w_X7_bitsOf hc l0  (K := fun o1 => o1 = o) hf rfl (by rintro _ rfl; exact hR))
theorem hd_X7_bitsOf : yX7_bitsOf.cls ≠ "java/lang/invoke/MethodHandle" ∧ yX7_bitsOf.cls ≠ "java/lang/invoke/VarHandle" ∧ (parseMethodDescriptor yX7_bitsOf.desc).map (fun d => d.parameters.length) = some 1 := by decide +kernel
/-! HedgehogLotsModel.rule(I)I -/
def f_X7_rule_b54 (σ : (Nat → Nat → Int32)) (l1 : Int32) (l3 : Int32) (k2 : Int32) (k1 : Int32) : Option ((Int32 × Int32 × (Nat → Nat → Int32)) ⊕ (Int32 × (Nat → Nat → Int32))) :=
  some (.inl ((k1 ||| k2), (l3 + 1), σ))
theorem w_X7_rule_b54 {x : gX} {ad : Nat → Nat} {tl : va_W}  (hc : gOk x RX7 cX7_rule 4 4 102)  (σ : (Nat → Nat → Int32)) (l1 : Int32) (l3 : Int32) (k2 : Int32) (k1 : Int32)  {K : (Int32 × Int32 × (Nat → Nat → Int32)) ⊕ (Int32 × (Nat → Nat → Int32)) → Prop} {o : (Int32 × Int32 × (Nat → Nat → Int32)) ⊕ (Int32 × (Nat → Nat → Int32))} (hf : f_X7_rule_b54 σ l1 l3 k2 k1 = some o) (hK : K o) (hI4 : ∀ v : Int32 × Int32 × (Nat → Nat → Int32), K (.inl v) → gG x 4 0 0 (MW x.dA ad v.2.2 ++ tl) 4 [(0, .ref (ad 0)), (1, .int l1), (2, .int v.1), (3, .int v.2.1)] []) (hR : ∀ o : Int32 × (Nat → Nat → Int32), K (.inr (o)) → gRi x 0 0 (MW x.dA ad o.2 ++ tl) o.1) : gG x 4 0 0 (MW x.dA ad σ ++ tl) 54 [(0, .ref (ad 0)), (1, .int l1), (3, .int l3)] [.int k2, .int k1] := by
  unfold f_X7_rule_b54 at hf
  refine g_ior hc dX7_rule_54 ?_
  refine g_istore_n (lv' := [(2, .int (k1 ||| k2)), (0, .ref (ad 0)), (1, .int l1), (3, .int l3)]) hc dX7_rule_55 rfl (by decide) rfl ?_
  refine g_iinc (v := l3 + 1) (lv' := [(3, .int (l3 + 1)), (2, .int (k1 ||| k2)), (0, .ref (ad 0)), (1, .int l1)]) hc dX7_rule_56 (j := 3) rfl rfl (by decide) rfl ?_
  refine g_goto (tgt := 4) hc dX7_rule_59 (by decide) ?_
  have hz := Option.some.inj hf; subst hz
  exact g_lv [2, 3, 1, 0] rfl (hI4 _ hK)
def f_X7_rule_L4 (σ : (Nat → Nat → Int32)) (l1 : Int32) (l2 : Int32) (l3 : Int32) : Option ((Int32 × Int32 × (Nat → Nat → Int32)) ⊕ (Int32 × (Nat → Nat → Int32))) :=
  oC (inb 40 205) <| if (σ 1 (Int32.toNatClampNeg 40)) ≤ l3 then (oI (if l1 = 0 then (oC (inb 38 205) <| some ((σ 1 (Int32.toNatClampNeg 38)), σ)) else (if l1 = 1 then (oC (inb 39 205) <| some ((σ 1 (Int32.toNatClampNeg 39)), σ)) else (if l1 = 2 then (some ((σ 0 1), σ)) else (if l1 = 3 then (oC (inb 40 205) <| some ((σ 1 (Int32.toNatClampNeg 40)), σ)) else (if l1 = 4 then (oB (f_X7_winsOn σ 0 (-4)) fun r13 => some (r13.1, r13.2)) else (if l1 = 5 then (some (l2, σ)) else (some ((-1), σ))))))))) else (oC (inb (26 + l3) 205) <| oC (inb (32 + l3) 205) <| oB (f_X7_runsOn σ 0 (σ 1 (26 + l3).toNatClampNeg) (σ 1 (32 + l3).toNatClampNeg) 0) fun r19 => if (r19 0 19) = 0 then (f_X7_rule_b54 r19 l1 l3 0 l2) else (f_X7_rule_b54 r19 l1 l3 ((1 : Int32) <<< (l3 &&& 31)) l2))
theorem w_X7_rule_L4 {x : gX} {ad : Nat → Nat} {tl : va_W}  (hc : gOk x RX7 cX7_rule 4 4 102)  (σ : (Nat → Nat → Int32)) (l1 : Int32) (l2 : Int32) (l3 : Int32)  {K : (Int32 × Int32 × (Nat → Nat → Int32)) ⊕ (Int32 × (Nat → Nat → Int32)) → Prop} {o : (Int32 × Int32 × (Nat → Nat → Int32)) ⊕ (Int32 × (Nat → Nat → Int32))} (hf : f_X7_rule_L4 σ l1 l2 l3 = some o) (hK : K o) (hI4 : ∀ v : Int32 × Int32 × (Nat → Nat → Int32), K (.inl v) → gG x 4 0 0 (MW x.dA ad v.2.2 ++ tl) 4 [(0, .ref (ad 0)), (1, .int l1), (2, .int v.1), (3, .int v.2.1)] []) (hR : ∀ o : Int32 × (Nat → Nat → Int32), K (.inr (o)) → gRi x 0 0 (MW x.dA ad o.2 ++ tl) o.1) : gG x 4 0 0 (MW x.dA ad σ ++ tl) 4 [(0, .ref (ad 0)), (1, .int l1), (2, .int l2), (3, .int l3)] [] := by
  unfold f_X7_rule_L4 at hf
  refine g_iload_n hc dX7_rule_4 rfl 3 rfl ?_
  refine g_aload_n hc dX7_rule_5 rfl 0 rfl ?_
  refine g_get (v := .ref (ad 1)) hc in_X7 (MW_at (k := 0) (by decide)) rfl 0 (by decide) q961 rfl dX7_rule_6 ?_
  refine g_bipush (v := 40) hc dX7_rule_9 (by decide) ?_
  obtain ⟨h1, hf⟩ := oC_some hf
  refine g_iald (n := 205) (f := σ 1) hc (MW_at (k := 1) (by decide)) h1 dX7_rule_11 ?_
  refine g_icmp_ge (tgt := 62) hc dX7_rule_12 (by decide) (fun h2 => ?_) (fun h2 => ?_)
  · have hf := oT h2 hf
    obtain ⟨o15, hgo15, eo15⟩ := oI_some hf
    clear hf; subst eo15; have hf := hgo15; clear hgo15
    refine g_iload_n hc dX7_rule_62 rfl 1 rfl ?_
    by_cases h4 : l1 = 0
    · have hf := oT h4 hf
      refine g_tabIn (tgt := 100) hc dX7_rule_63 (by rw [h4]; decide) (by rw [h4]; decide) (by rw [h4]; rfl) (by decide) ?_
      refine g_aload_n hc dX7_rule_100 rfl 0 rfl ?_
      refine g_get (v := .ref (ad 1)) hc in_X7 (MW_at (k := 0) (by decide)) rfl 0 (by decide) q961 rfl dX7_rule_101 ?_
      refine g_bipush (v := 38) hc dX7_rule_104 (by decide) ?_
      obtain ⟨h5, hf⟩ := oC_some hf
      refine g_iald (n := 205) (f := σ 1) hc (MW_at (k := 1) (by decide)) h5 dX7_rule_106 ?_
      have hz := Option.some.inj hf; subst hz
      exact g_iret hc (hR _ hK) dX7_rule_107
    have hf := oF h4 hf
    by_cases h6 : l1 = 1
    · have hf := oT h6 hf
      refine g_tabIn (tgt := 108) hc dX7_rule_63 (by rw [h6]; decide) (by rw [h6]; decide) (by rw [h6]; rfl) (by decide) ?_
      refine g_aload_n hc dX7_rule_108 rfl 0 rfl ?_
      refine g_get (v := .ref (ad 1)) hc in_X7 (MW_at (k := 0) (by decide)) rfl 0 (by decide) q961 rfl dX7_rule_109 ?_
      refine g_bipush (v := 39) hc dX7_rule_112 (by decide) ?_
      obtain ⟨h7, hf⟩ := oC_some hf
      refine g_iald (n := 205) (f := σ 1) hc (MW_at (k := 1) (by decide)) h7 dX7_rule_114 ?_
      have hz := Option.some.inj hf; subst hz
      exact g_iret hc (hR _ hK) dX7_rule_115
    have hf := oF h6 hf
    by_cases h8 : l1 = 2
    · have hf := oT h8 hf
      refine g_tabIn (tgt := 116) hc dX7_rule_63 (by rw [h8]; decide) (by rw [h8]; decide) (by rw [h8]; rfl) (by decide) ?_
      refine g_aload_n hc dX7_rule_116 rfl 0 rfl ?_
      refine g_get (v := .int (σ 0 1)) hc in_X7 (MW_at (k := 0) (by decide)) rfl 1 (by decide) q962 rfl dX7_rule_117 ?_
      have hz := Option.some.inj hf; subst hz
      exact g_iret hc (hR _ hK) dX7_rule_120
    have hf := oF h8 hf
    by_cases h9 : l1 = 3
    · have hf := oT h9 hf
      refine g_tabIn (tgt := 121) hc dX7_rule_63 (by rw [h9]; decide) (by rw [h9]; decide) (by rw [h9]; rfl) (by decide) ?_
      refine g_aload_n hc dX7_rule_121 rfl 0 rfl ?_
      refine g_get (v := .ref (ad 1)) hc in_X7 (MW_at (k := 0) (by decide)) rfl 0 (by decide) q961 rfl dX7_rule_122 ?_
      refine g_bipush (v := 40) hc dX7_rule_125 (by decide) ?_
      obtain ⟨h10, hf⟩ := oC_some hf
      refine g_iald (n := 205) (f := σ 1) hc (MW_at (k := 1) (by decide)) h10 dX7_rule_127 ?_
      have hz := Option.some.inj hf; subst hz
      exact g_iret hc (hR _ hK) dX7_rule_128
    have hf := oF h9 hf
    by_cases h11 : l1 = 4
    · have hf := oT h11 hf
      refine g_tabIn (tgt := 129) hc dX7_rule_63 (by rw [h11]; decide) (by rw [h11]; decide) (by rw [h11]; rfl) (by decide) ?_
      refine g_aload_n hc dX7_rule_129 rfl 0 rfl ?_
      refine g_iconst (v := 0) hc dX7_rule_130 (by decide) ?_
      refine g_bipush (v := (-4)) hc dX7_rule_131 (by decide) ?_
      obtain ⟨r13, h12, hf⟩ := oB_some hf
      refine g_callVi hc [.int 0, .int (-4)] [] (c_X7_winsOn  h12) (MW_at (k := 0) (by decide)) rfl (lw_V q1137 q1139 qs45 q67 q1140) rfl hd_X7_winsOn rfl rfl (Nat.le_of_ble_eq_true rfl) gZ dX7_rule_133 ?_
      have hz := Option.some.inj hf; subst hz
      exact g_iret hc (hR _ hK) dX7_rule_136
    have hf := oF h11 hf
    by_cases h14 : l1 = 5
    · have hf := oT h14 hf
      refine g_tabIn (tgt := 137) hc dX7_rule_63 (by rw [h14]; decide) (by rw [h14]; decide) (by rw [h14]; rfl) (by decide) ?_
      refine g_iload_n hc dX7_rule_137 rfl 2 rfl ?_
      have hz := Option.some.inj hf; subst hz
      exact g_iret hc (hR _ hK) dX7_rule_138
    have hf := oF h14 hf
    have h4 := lv_neT h4 (a := 0) (by decide)
    have h6 := lv_neT h6 (a := 1) (by decide)
    have h8 := lv_neT h8 (a := 2) (by decide)
    have h9 := lv_neT h9 (a := 3) (by decide)
    have h11 := lv_neT h11 (a := 4) (by decide)
    have h14 := lv_neT h14 (a := 5) (by decide)
    refine g_tabOut (tgt := 139) hc dX7_rule_63 (by omega) (by decide) ?_
    refine g_iconst (v := (-1)) hc dX7_rule_139 (by decide) ?_
    have hz := Option.some.inj hf; subst hz
    exact g_iret hc (hR _ hK) dX7_rule_140
  · have hf := oF h2 hf
    refine g_aload_n hc dX7_rule_15 rfl 0 rfl ?_
    refine g_iconst (v := 0) hc dX7_rule_16 (by decide) ?_
    refine g_aload_n hc dX7_rule_17 rfl 0 rfl ?_
    refine g_get (v := .ref (ad 1)) hc in_X7 (MW_at (k := 0) (by decide)) rfl 0 (by decide) q961 rfl dX7_rule_18 ?_
    refine g_bipush (v := 26) hc dX7_rule_21 (by decide) ?_
    refine g_iload_n hc dX7_rule_23 rfl 3 rfl ?_
    refine g_iadd hc dX7_rule_24 ?_
    obtain ⟨h16, hf⟩ := oC_some hf
    refine g_iald (n := 205) (f := σ 1) hc (MW_at (k := 1) (by decide)) h16 dX7_rule_25 ?_
    refine g_aload_n hc dX7_rule_26 rfl 0 rfl ?_
    refine g_get (v := .ref (ad 1)) hc in_X7 (MW_at (k := 0) (by decide)) rfl 0 (by decide) q961 rfl dX7_rule_27 ?_
    refine g_bipush (v := 32) hc dX7_rule_30 (by decide) ?_
    refine g_iload_n hc dX7_rule_32 rfl 3 rfl ?_
    refine g_iadd hc dX7_rule_33 ?_
    obtain ⟨h17, hf⟩ := oC_some hf
    refine g_iald (n := 205) (f := σ 1) hc (MW_at (k := 1) (by decide)) h17 dX7_rule_34 ?_
    refine g_iconst (v := 0) hc dX7_rule_35 (by decide) ?_
    obtain ⟨r19, h18, hf⟩ := oB_some hf
    refine g_callVv hc [.int 0, .int (σ 1 (26 + l3).toNatClampNeg), .int (σ 1 (32 + l3).toNatClampNeg), .int 0] [] (c_X7_runsOn  h18) (MW_at (k := 0) (by decide)) rfl (lw_V q1119 q1121 qs42 q67 q1122) rfl hd_X7_runsOn rfl rfl (Nat.le_of_ble_eq_true rfl) gZ dX7_rule_36 ?_
    refine g_iload_n hc dX7_rule_39 rfl 2 rfl ?_
    refine g_aload_n hc dX7_rule_40 rfl 0 rfl ?_
    refine g_get (v := .int (r19 0 19)) hc in_X7 (MW_at (k := 0) (by decide)) rfl 19 (by decide) q980 rfl dX7_rule_41 ?_
    refine g_if_eq (tgt := 53) hc dX7_rule_44 (by decide) (fun h20 => ?_) (fun h20 => ?_)
    · have hf := oT h20 hf
      refine g_iconst (v := 0) hc dX7_rule_53 (by decide) ?_
      exact g_lv [0, 1, 3] rfl (w_X7_rule_b54 hc r19 l1 l3 0 l2  (K := K) hf hK hI4 hR)
    · have hf := oF h20 hf
      refine g_iconst (v := 1) hc dX7_rule_47 (by decide) ?_
      refine g_iload_n hc dX7_rule_48 rfl 3 rfl ?_
      refine g_ishl hc dX7_rule_49 ?_
      refine g_goto (tgt := 54) hc dX7_rule_50 (by decide) ?_
      exact g_lv [0, 1, 3] rfl (w_X7_rule_b54 hc r19 l1 l3 ((1 : Int32) <<< (l3 &&& 31)) l2  (K := K) hf hK hI4 hR)
def f_X7_rule_b4 (σ : (Nat → Nat → Int32)) (l1 : Int32) (l2 : Int32) (l3 : Int32) : Option (Int32 × (Nat → Nat → Int32)) :=
  oLoop gFU (fun v : Int32 × Int32 × (Nat → Nat → Int32) => f_X7_rule_L4 v.2.2 l1 v.1 v.2.1) (l2, l3, σ)
theorem w_X7_rule_b4 {x : gX} {ad : Nat → Nat} {tl : va_W}  (hc : gOk x RX7 cX7_rule 4 4 102)  (σ : (Nat → Nat → Int32)) (l1 : Int32) (l2 : Int32) (l3 : Int32)  {K : Int32 × (Nat → Nat → Int32) → Prop} {o : Int32 × (Nat → Nat → Int32)} (hf : f_X7_rule_b4 σ l1 l2 l3 = some o) (hK : K o) (hR : ∀ o : Int32 × (Nat → Nat → Int32), K o → gRi x 0 0 (MW x.dA ad o.2 ++ tl) o.1) : gG x 4 0 0 (MW x.dA ad σ ++ tl) 4 [(0, .ref (ad 0)), (1, .int l1), (2, .int l2), (3, .int l3)] [] :=
  oLoop_ind (fun v : Int32 × Int32 × (Nat → Nat → Int32) => gG x 4 0 0 (MW x.dA ad v.2.2 ++ tl) 4 [(0, .ref (ad 0)), (1, .int l1), (2, .int v.1), (3, .int v.2.1)] []) K (fun v o1 hf1 hK1 => w_X7_rule_L4 hc v.2.2 l1 v.1 v.2.1  (K := Sum.elim (fun v : Int32 × Int32 × (Nat → Nat → Int32) => gG x 4 0 0 (MW x.dA ad v.2.2 ++ tl) 4 [(0, .ref (ad 0)), (1, .int l1), (2, .int v.1), (3, .int v.2.1)] []) K) hf1 hK1 (fun v hv => hv) hR) gFU _ o hf hK
def f_X7_rule (σ : (Nat → Nat → Int32)) (l1 : Int32) : Option (Int32 × (Nat → Nat → Int32)) :=
  f_X7_rule_b4 σ l1 0 0
theorem w_X7_rule {x : gX} {ad : Nat → Nat} {tl : va_W}  (hc : gOk x RX7 cX7_rule 4 4 102)  (σ : (Nat → Nat → Int32)) (l1 : Int32)  {K : Int32 × (Nat → Nat → Int32) → Prop} {o : Int32 × (Nat → Nat → Int32)} (hf : f_X7_rule σ l1 = some o) (hK : K o) (hR : ∀ o : Int32 × (Nat → Nat → Int32), K o → gRi x 0 0 (MW x.dA ad o.2 ++ tl) o.1) : gG x 4 0 0 (MW x.dA ad σ ++ tl) 0 [(0, .ref (ad 0)), (1, .int l1)] [] := by
  unfold f_X7_rule at hf
  refine g_iconst (v := 0) hc dX7_rule_0 (by decide) ?_
  refine g_istore_n (lv' := [(2, .int 0), (0, .ref (ad 0)), (1, .int l1)]) hc dX7_rule_1 rfl (by decide) rfl ?_
  refine g_iconst (v := 0) hc dX7_rule_2 (by decide) ?_
  refine g_istore_n (lv' := [(3, .int 0), (2, .int 0), (0, .ref (ad 0)), (1, .int l1)]) hc dX7_rule_3 rfl (by decide) rfl ?_
  exact g_lv [2, 3, 1, 0] rfl (w_X7_rule_b4 hc σ l1 0 0  (K := K) hf hK hR)
theorem c_X7_rule {l : Launch} {D : va_G} {dA : Nat → ClassId} {ad : Nat → Nat} {tl : va_W}  {σ : (Nat → Nat → Int32)} {l1 : Int32}  {o : Int32 × (Nat → Nat → Int32)} (hf : f_X7_rule σ l1 = some o) : gI l D dA (MW dA ad σ ++ tl) (MW dA ad o.2 ++ tl) [.ref (ad 0), .int l1] o.1 yX7_rule (ws_ yX7_rule cX7_rule 4 (some .int)) ({ frames := 4, cells := 0, slots := 0, locals := 102 } : Room) :=
  g_startI (own := RX7) ⟨rfl, rfl⟩ (by decide) rfl (Nat.le_of_ble_eq_true rfl) (fun x e hc hR => by
    subst e
    exact w_X7_rule hc σ l1  (K := fun o1 => o1 = o) hf rfl (by rintro _ rfl; exact hR))
theorem hd_X7_rule : yX7_rule.cls = RX7 ∧ yX7_rule.cls ≠ "java/lang/invoke/MethodHandle" ∧ yX7_rule.cls ≠ "java/lang/invoke/VarHandle" ∧ (parseMethodDescriptor yX7_rule.desc).map (fun d => d.parameters.length) = some 1 := by decide +kernel
/-! HedgehogLotsModel.peg(II)I -/
def f_X7_peg_b82 (σ : (Nat → Nat → Int32)) (l1 : Int32) (l2 : Int32) (l4 : Int32) (k2 : Int32) (k1 : Int32) : Option ((Int32 × Int32 × (Nat → Nat → Int32)) ⊕ (Int32 × (Nat → Nat → Int32))) :=
  some (.inl ((k1 ||| k2), (l4 + 1), σ))
theorem w_X7_peg_b82 {x : gX} {ad : Nat → Nat} {tl : va_W}  (hc : gOk x RX7 cX7_peg 5 2 54)  (σ : (Nat → Nat → Int32)) (l1 : Int32) (l2 : Int32) (l4 : Int32) (k2 : Int32) (k1 : Int32)  {K : (Int32 × Int32 × (Nat → Nat → Int32)) ⊕ (Int32 × (Nat → Nat → Int32)) → Prop} {o : (Int32 × Int32 × (Nat → Nat → Int32)) ⊕ (Int32 × (Nat → Nat → Int32))} (hf : f_X7_peg_b82 σ l1 l2 l4 k2 k1 = some o) (hK : K o) (hI27 : ∀ v : Int32 × Int32 × (Nat → Nat → Int32), K (.inl v) → gG x 5 0 0 (MW x.dA ad v.2.2 ++ tl) 27 [(0, .ref (ad 0)), (1, .int l1), (2, .int l2), (3, .int v.1), (4, .int v.2.1)] []) (hR : ∀ o : Int32 × (Nat → Nat → Int32), K (.inr (o)) → gRi x 0 0 (MW x.dA ad o.2 ++ tl) o.1) : gG x 5 0 0 (MW x.dA ad σ ++ tl) 82 [(0, .ref (ad 0)), (1, .int l1), (2, .int l2), (4, .int l4)] [.int k2, .int k1] := by
  unfold f_X7_peg_b82 at hf
  refine g_ior hc dX7_peg_82 ?_
  refine g_istore_n (lv' := [(3, .int (k1 ||| k2)), (0, .ref (ad 0)), (1, .int l1), (2, .int l2), (4, .int l4)]) hc dX7_peg_83 rfl (by decide) rfl ?_
  refine g_iinc (v := l4 + 1) (lv' := [(4, .int (l4 + 1)), (3, .int (k1 ||| k2)), (0, .ref (ad 0)), (1, .int l1), (2, .int l2)]) hc dX7_peg_84 (j := 4) rfl rfl (by decide) rfl ?_
  refine g_goto (tgt := 27) hc dX7_peg_87 (by decide) ?_
  have hz := Option.some.inj hf; subst hz
  exact g_lv [2, 3, 4, 1, 0] rfl (hI27 _ hK)
def f_X7_peg_L27 (σ : (Nat → Nat → Int32)) (l1 : Int32) (l2 : Int32) (l3 : Int32) (l4 : Int32) : Option ((Int32 × Int32 × (Nat → Nat → Int32)) ⊕ (Int32 × (Nat → Nat → Int32))) :=
  oC (inb 40 205) <| if (σ 1 (Int32.toNatClampNeg 40)) ≤ l4 then (oI (if 2 ≤ l2 then (some (l3, σ)) else (oC (inb ((7 * l2) + l1) 205) <| some ((σ 1 ((7 * l2) + l1).toNatClampNeg), σ)))) else (oC (inb (26 + l4) 205) <| oC (inb (32 + l4) 205) <| oB (f_X7_runsOn σ 0 (σ 1 (26 + l4).toNatClampNeg) (σ 1 (32 + l4).toNatClampNeg) 0) fun r9 => if (r9 0 16) = l1 then (f_X7_peg_b82 r9 l1 l2 l4 ((1 : Int32) <<< (l4 &&& 31)) l3) else (f_X7_peg_b82 r9 l1 l2 l4 0 l3))
theorem w_X7_peg_L27 {x : gX} {ad : Nat → Nat} {tl : va_W}  (hc : gOk x RX7 cX7_peg 5 2 54)  (σ : (Nat → Nat → Int32)) (l1 : Int32) (l2 : Int32) (l3 : Int32) (l4 : Int32)  {K : (Int32 × Int32 × (Nat → Nat → Int32)) ⊕ (Int32 × (Nat → Nat → Int32)) → Prop} {o : (Int32 × Int32 × (Nat → Nat → Int32)) ⊕ (Int32 × (Nat → Nat → Int32))} (hf : f_X7_peg_L27 σ l1 l2 l3 l4 = some o) (hK : K o) (hI27 : ∀ v : Int32 × Int32 × (Nat → Nat → Int32), K (.inl v) → gG x 5 0 0 (MW x.dA ad v.2.2 ++ tl) 27 [(0, .ref (ad 0)), (1, .int l1), (2, .int l2), (3, .int v.1), (4, .int v.2.1)] []) (hR : ∀ o : Int32 × (Nat → Nat → Int32), K (.inr (o)) → gRi x 0 0 (MW x.dA ad o.2 ++ tl) o.1) : gG x 5 0 0 (MW x.dA ad σ ++ tl) 27 [(0, .ref (ad 0)), (1, .int l1), (2, .int l2), (3, .int l3), (4, .int l4)] [] := by
  unfold f_X7_peg_L27 at hf
  refine g_iload hc dX7_peg_27 4 rfl ?_
  refine g_aload_n hc dX7_peg_29 rfl 0 rfl ?_
  refine g_get (v := .ref (ad 1)) hc in_X7 (MW_at (k := 0) (by decide)) rfl 0 (by decide) q961 rfl dX7_peg_30 ?_
  refine g_bipush (v := 40) hc dX7_peg_33 (by decide) ?_
  obtain ⟨h1, hf⟩ := oC_some hf
  refine g_iald (n := 205) (f := σ 1) hc (MW_at (k := 1) (by decide)) h1 dX7_peg_35 ?_
  refine g_icmp_ge (tgt := 90) hc dX7_peg_36 (by decide) (fun h2 => ?_) (fun h2 => ?_)
  · have hf := oT h2 hf
    obtain ⟨o5, hgo5, eo5⟩ := oI_some hf
    clear hf; subst eo5; have hf := hgo5; clear hgo5
    refine g_iload_n hc dX7_peg_90 rfl 2 rfl ?_
    refine g_iconst (v := 2) hc dX7_peg_91 (by decide) ?_
    refine g_icmp_ge (tgt := 109) hc dX7_peg_92 (by decide) (fun h3 => ?_) (fun h3 => ?_)
    · have hf := oT h3 hf
      refine g_iload_n hc dX7_peg_109 rfl 3 rfl ?_
      have hz := Option.some.inj hf; subst hz
      exact g_iret hc (hR _ hK) dX7_peg_110
    · have hf := oF h3 hf
      refine g_aload_n hc dX7_peg_95 rfl 0 rfl ?_
      refine g_get (v := .ref (ad 1)) hc in_X7 (MW_at (k := 0) (by decide)) rfl 0 (by decide) q961 rfl dX7_peg_96 ?_
      refine g_bipush (v := 7) hc dX7_peg_99 (by decide) ?_
      refine g_iload_n hc dX7_peg_101 rfl 2 rfl ?_
      refine g_imul hc dX7_peg_102 ?_
      refine g_iload_n hc dX7_peg_103 rfl 1 rfl ?_
      refine g_iadd hc dX7_peg_104 ?_
      obtain ⟨h4, hf⟩ := oC_some hf
      refine g_iald (n := 205) (f := σ 1) hc (MW_at (k := 1) (by decide)) h4 dX7_peg_105 ?_
      refine g_goto (tgt := 110) hc dX7_peg_106 (by decide) ?_
      have hz := Option.some.inj hf; subst hz
      exact g_iret hc (hR _ hK) dX7_peg_110
  · have hf := oF h2 hf
    refine g_aload_n hc dX7_peg_39 rfl 0 rfl ?_
    refine g_iconst (v := 0) hc dX7_peg_40 (by decide) ?_
    refine g_aload_n hc dX7_peg_41 rfl 0 rfl ?_
    refine g_get (v := .ref (ad 1)) hc in_X7 (MW_at (k := 0) (by decide)) rfl 0 (by decide) q961 rfl dX7_peg_42 ?_
    refine g_bipush (v := 26) hc dX7_peg_45 (by decide) ?_
    refine g_iload hc dX7_peg_47 4 rfl ?_
    refine g_iadd hc dX7_peg_49 ?_
    obtain ⟨h6, hf⟩ := oC_some hf
    refine g_iald (n := 205) (f := σ 1) hc (MW_at (k := 1) (by decide)) h6 dX7_peg_50 ?_
    refine g_aload_n hc dX7_peg_51 rfl 0 rfl ?_
    refine g_get (v := .ref (ad 1)) hc in_X7 (MW_at (k := 0) (by decide)) rfl 0 (by decide) q961 rfl dX7_peg_52 ?_
    refine g_bipush (v := 32) hc dX7_peg_55 (by decide) ?_
    refine g_iload hc dX7_peg_57 4 rfl ?_
    refine g_iadd hc dX7_peg_59 ?_
    obtain ⟨h7, hf⟩ := oC_some hf
    refine g_iald (n := 205) (f := σ 1) hc (MW_at (k := 1) (by decide)) h7 dX7_peg_60 ?_
    refine g_iconst (v := 0) hc dX7_peg_61 (by decide) ?_
    obtain ⟨r9, h8, hf⟩ := oB_some hf
    refine g_callVv hc [.int 0, .int (σ 1 (26 + l4).toNatClampNeg), .int (σ 1 (32 + l4).toNatClampNeg), .int 0] [] (c_X7_runsOn  h8) (MW_at (k := 0) (by decide)) rfl (lw_V q1119 q1121 qs42 q67 q1122) rfl hd_X7_runsOn rfl rfl (Nat.le_of_ble_eq_true rfl) gZ dX7_peg_62 ?_
    refine g_iload_n hc dX7_peg_65 rfl 3 rfl ?_
    refine g_aload_n hc dX7_peg_66 rfl 0 rfl ?_
    refine g_get (v := .int (r9 0 16)) hc in_X7 (MW_at (k := 0) (by decide)) rfl 16 (by decide) q977 rfl dX7_peg_67 ?_
    refine g_iload_n hc dX7_peg_70 rfl 1 rfl ?_
    refine g_icmp_ne (tgt := 81) hc dX7_peg_71 (by decide) (fun h10 => ?_) (fun h10 => ?_)
    · have hf := oF h10 hf
      refine g_iconst (v := 0) hc dX7_peg_81 (by decide) ?_
      exact g_lv [0, 1, 2, 4] rfl (w_X7_peg_b82 hc r9 l1 l2 l4 0 l3  (K := K) hf hK hI27 hR)
    · have hf := oT h10 hf
      refine g_iconst (v := 1) hc dX7_peg_74 (by decide) ?_
      refine g_iload hc dX7_peg_75 4 rfl ?_
      refine g_ishl hc dX7_peg_77 ?_
      refine g_goto (tgt := 82) hc dX7_peg_78 (by decide) ?_
      exact g_lv [0, 1, 2, 4] rfl (w_X7_peg_b82 hc r9 l1 l2 l4 ((1 : Int32) <<< (l4 &&& 31)) l3  (K := K) hf hK hI27 hR)
def f_X7_peg_b27 (σ : (Nat → Nat → Int32)) (l1 : Int32) (l2 : Int32) (l3 : Int32) (l4 : Int32) : Option (Int32 × (Nat → Nat → Int32)) :=
  oLoop gFU (fun v : Int32 × Int32 × (Nat → Nat → Int32) => f_X7_peg_L27 v.2.2 l1 l2 v.1 v.2.1) (l3, l4, σ)
theorem w_X7_peg_b27 {x : gX} {ad : Nat → Nat} {tl : va_W}  (hc : gOk x RX7 cX7_peg 5 2 54)  (σ : (Nat → Nat → Int32)) (l1 : Int32) (l2 : Int32) (l3 : Int32) (l4 : Int32)  {K : Int32 × (Nat → Nat → Int32) → Prop} {o : Int32 × (Nat → Nat → Int32)} (hf : f_X7_peg_b27 σ l1 l2 l3 l4 = some o) (hK : K o) (hR : ∀ o : Int32 × (Nat → Nat → Int32), K o → gRi x 0 0 (MW x.dA ad o.2 ++ tl) o.1) : gG x 5 0 0 (MW x.dA ad σ ++ tl) 27 [(0, .ref (ad 0)), (1, .int l1), (2, .int l2), (3, .int l3), (4, .int l4)] [] :=
  oLoop_ind (fun v : Int32 × Int32 × (Nat → Nat → Int32) => gG x 5 0 0 (MW x.dA ad v.2.2 ++ tl) 27 [(0, .ref (ad 0)), (1, .int l1), (2, .int l2), (3, .int v.1), (4, .int v.2.1)] []) K (fun v o1 hf1 hK1 => w_X7_peg_L27 hc v.2.2 l1 l2 v.1 v.2.1  (K := Sum.elim (fun v : Int32 × Int32 × (Nat → Nat → Int32) => gG x 5 0 0 (MW x.dA ad v.2.2 ++ tl) 27 [(0, .ref (ad 0)), (1, .int l1), (2, .int l2), (3, .int v.1), (4, .int v.2.1)] []) K) hf1 hK1 (fun v hv => hv) hR) gFU _ o hf hK
def f_X7_peg (σ : (Nat → Nat → Int32)) (l1 : Int32) (l2 : Int32) : Option (Int32 × (Nat → Nat → Int32)) :=
  oB (f_X7_isPeg σ l1) fun r2 => if r2 = 0 then (some ((-1), σ)) else (oB (f_X7_in (Int32.toInt64 l2) 0 2) fun r5 => if r5 = 0 then (some ((-1), σ)) else (f_X7_peg_b27 σ l1 l2 0 0))
theorem w_X7_peg {x : gX} {ad : Nat → Nat} {tl : va_W}  (hc : gOk x RX7 cX7_peg 5 2 54)  (σ : (Nat → Nat → Int32)) (l1 : Int32) (l2 : Int32)  {K : Int32 × (Nat → Nat → Int32) → Prop} {o : Int32 × (Nat → Nat → Int32)} (hf : f_X7_peg σ l1 l2 = some o) (hK : K o) (hR : ∀ o : Int32 × (Nat → Nat → Int32), K o → gRi x 0 0 (MW x.dA ad o.2 ++ tl) o.1) : gG x 5 0 0 (MW x.dA ad σ ++ tl) 0 [(0, .ref (ad 0)), (1, .int l1), (2, .int l2)] [] := by
  unfold f_X7_peg at hf
  refine g_aload_n hc dX7_peg_0 rfl 0 rfl ?_
  refine g_iload_n hc dX7_peg_1 rfl 1 rfl ?_
  obtain ⟨r2, h1, hf⟩ := oB_some hf
  refine g_callVi hc [.int l1] [] (c_X7_isPeg  h1) (MW_at (k := 0) (by decide)) rfl (lw_V q1149 q1151 qs47 q67 q1152) rfl hd_X7_isPeg rfl rfl (Nat.le_of_ble_eq_true rfl) gZ dX7_peg_2 ?_
  refine g_if_eq (tgt := 20) hc dX7_peg_5 (by decide) (fun h3 => ?_) (fun h3 => ?_)
  · have hf := oT h3 hf
    refine g_iconst (v := (-1)) hc dX7_peg_20 (by decide) ?_
    have hz := Option.some.inj hf; subst hz
    exact g_iret hc (hR _ hK) dX7_peg_21
  · have hf := oF h3 hf
    refine g_iload_n hc dX7_peg_8 rfl 2 rfl ?_
    refine g_i2l hc dX7_peg_9 ?_
    refine g_lconst (v := 0) hc dX7_peg_10 (by decide) ?_
    refine g_ldc2 (v := 2) hc q1153 dX7_peg_11 ?_
    obtain ⟨r5, h4, hf⟩ := oB_some hf
    refine g_callSi hc [.long (Int32.toInt64 l2), .long 0, .long 2] [] (c_X7_in  h4) (lw_S q1055 q1056 q67 q1057) rfl hd_X7_in rfl rfl (Nat.le_of_ble_eq_true rfl) gZ dX7_peg_14 ?_
    refine g_if_ne (tgt := 22) hc dX7_peg_17 (by decide) (fun h6 => ?_) (fun h6 => ?_)
    · have hf := oF h6 hf
      refine g_iconst (v := 0) hc dX7_peg_22 (by decide) ?_
      refine g_istore_n (lv' := [(3, .int 0), (0, .ref (ad 0)), (1, .int l1), (2, .int l2)]) hc dX7_peg_23 rfl (by decide) rfl ?_
      refine g_iconst (v := 0) hc dX7_peg_24 (by decide) ?_
      refine g_istore (lv' := [(4, .int 0), (3, .int 0), (0, .ref (ad 0)), (1, .int l1), (2, .int l2)]) hc dX7_peg_25 (by decide) rfl ?_
      exact g_lv [2, 3, 4, 1, 0] rfl (w_X7_peg_b27 hc σ l1 l2 0 0  (K := K) hf hK hR)
    · have hf := oT h6 hf
      refine g_iconst (v := (-1)) hc dX7_peg_20 (by decide) ?_
      have hz := Option.some.inj hf; subst hz
      exact g_iret hc (hR _ hK) dX7_peg_21
theorem c_X7_peg {l : Launch} {D : va_G} {dA : Nat → ClassId} {ad : Nat → Nat} {tl : va_W}  {σ : (Nat → Nat → Int32)} {l1 : Int32} {l2 : Int32}  {o : Int32 × (Nat → Nat → Int32)} (hf : f_X7_peg σ l1 l2 = some o) : gI l D dA (MW dA ad σ ++ tl) (MW dA ad o.2 ++ tl) [.ref (ad 0), .int l1, .int l2] o.1 yX7_peg (ws_ yX7_peg cX7_peg 5 (some .int)) ({ frames := 2, cells := 0, slots := 0, locals := 54 } : Room) :=
  g_startI (own := RX7) ⟨rfl, rfl⟩ (by decide) rfl (Nat.le_of_ble_eq_true rfl) (fun x e hc hR => by
    subst e
    exact w_X7_peg hc σ l1 l2  (K := fun o1 => o1 = o) hf rfl (by rintro _ rfl; exact hR))
theorem hd_X7_peg : yX7_peg.cls = RX7 ∧ yX7_peg.cls ≠ "java/lang/invoke/MethodHandle" ∧ yX7_peg.cls ≠ "java/lang/invoke/VarHandle" ∧ (parseMethodDescriptor yX7_peg.desc).map (fun d => d.parameters.length) = some 2 := by decide +kernel
/-! HedgehogLotsModel.slug(I)I -/
def f_X7_slug (σ : (Nat → Nat → Int32)) (l1 : Int32) : Option (Int32) :=
  oC (inb 39 205) <| oB (f_X7_in (Int32.toInt64 l1) 0 (Int32.toInt64 ((σ 1 (Int32.toNatClampNeg 39)) - 1))) fun r3 => if r3 = 0 then (some (-1)) else (oC (inb (14 + l1) 205) <| some (σ 1 (14 + l1).toNatClampNeg))
theorem w_X7_slug {x : gX} {ad : Nat → Nat} {tl : va_W}  (hc : gOk x RX7 cX7_slug 2 1 25)  (σ : (Nat → Nat → Int32)) (l1 : Int32)  {K : Int32 → Prop} {o : Int32} (hf : f_X7_slug σ l1 = some o) (hK : K o) (hR : ∀ o : Int32, K o → gRi x 0 0 (MW x.dA ad σ ++ tl) o) : gG x 2 0 0 (MW x.dA ad σ ++ tl) 0 [(0, .ref (ad 0)), (1, .int l1)] [] := by
  unfold f_X7_slug at hf
  refine g_iload_n hc dX7_slug_0 rfl 1 rfl ?_
  refine g_i2l hc dX7_slug_1 ?_
  refine g_lconst (v := 0) hc dX7_slug_2 (by decide) ?_
  refine g_aload_n hc dX7_slug_3 rfl 0 rfl ?_
  refine g_get (v := .ref (ad 1)) hc in_X7 (MW_at (k := 0) (by decide)) rfl 0 (by decide) q961 rfl dX7_slug_4 ?_
  refine g_bipush (v := 39) hc dX7_slug_7 (by decide) ?_
  obtain ⟨h1, hf⟩ := oC_some hf
  refine g_iald (n := 205) (f := σ 1) hc (MW_at (k := 1) (by decide)) h1 dX7_slug_9 ?_
  refine g_iconst (v := 1) hc dX7_slug_10 (by decide) ?_
  refine g_isub hc dX7_slug_11 ?_
  refine g_i2l hc dX7_slug_12 ?_
  obtain ⟨r3, h2, hf⟩ := oB_some hf
  refine g_callSi hc [.long (Int32.toInt64 l1), .long 0, .long (Int32.toInt64 ((σ 1 (Int32.toNatClampNeg 39)) - 1))] [] (c_X7_in  h2) (lw_S q1055 q1056 q67 q1057) rfl hd_X7_in rfl rfl (Nat.le_of_ble_eq_true rfl) gZ dX7_slug_13 ?_
  refine g_if_eq (tgt := 31) hc dX7_slug_16 (by decide) (fun h4 => ?_) (fun h4 => ?_)
  · have hf := oT h4 hf
    refine g_iconst (v := (-1)) hc dX7_slug_31 (by decide) ?_
    have hz := Option.some.inj hf; subst hz
    exact g_iret hc (hR _ hK) dX7_slug_32
  · have hf := oF h4 hf
    refine g_aload_n hc dX7_slug_19 rfl 0 rfl ?_
    refine g_get (v := .ref (ad 1)) hc in_X7 (MW_at (k := 0) (by decide)) rfl 0 (by decide) q961 rfl dX7_slug_20 ?_
    refine g_bipush (v := 14) hc dX7_slug_23 (by decide) ?_
    refine g_iload_n hc dX7_slug_25 rfl 1 rfl ?_
    refine g_iadd hc dX7_slug_26 ?_
    obtain ⟨h5, hf⟩ := oC_some hf
    refine g_iald (n := 205) (f := σ 1) hc (MW_at (k := 1) (by decide)) h5 dX7_slug_27 ?_
    refine g_goto (tgt := 32) hc dX7_slug_28 (by decide) ?_
    have hz := Option.some.inj hf; subst hz
    exact g_iret hc (hR _ hK) dX7_slug_32
theorem c_X7_slug {l : Launch} {D : va_G} {dA : Nat → ClassId} {ad : Nat → Nat} {tl : va_W}  {σ : (Nat → Nat → Int32)} {l1 : Int32}  {o : Int32} (hf : f_X7_slug σ l1 = some o) : gI l D dA (MW dA ad σ ++ tl) (MW dA ad σ ++ tl) [.ref (ad 0), .int l1] o yX7_slug (ws_ yX7_slug cX7_slug 2 (some .int)) ({ frames := 1, cells := 0, slots := 0, locals := 25 } : Room) :=
  g_startI (own := RX7) ⟨rfl, rfl⟩ (by decide) rfl (Nat.le_of_ble_eq_true rfl) (fun x e hc hR => by
    subst e
    exact w_X7_slug hc σ l1  (K := fun o1 => o1 = o) hf rfl (by rintro _ rfl; exact hR))
theorem hd_X7_slug : yX7_slug.cls = RX7 ∧ yX7_slug.cls ≠ "java/lang/invoke/MethodHandle" ∧ yX7_slug.cls ≠ "java/lang/invoke/VarHandle" ∧ (parseMethodDescriptor yX7_slug.desc).map (fun d => d.parameters.length) = some 1 := by decide +kernel
/-! HedgehogLotsModel.hedgehog(II)I -/
def f_X7_hedgehog_b61 (σ : (Nat → Nat → Int32)) (l1 : Int32) (l2 : Int32) (l4 : Int32) (k2 : Int32) (k1 : Int32) : Option ((Int32 × Int32 × (Nat → Nat → Int32)) ⊕ (Int32 × (Nat → Nat → Int32))) :=
  some (.inl ((k1 ||| k2), (l4 + 1), σ))
theorem w_X7_hedgehog_b61 {x : gX} {ad : Nat → Nat} {tl : va_W}  (hc : gOk x RX7 cX7_hedgehog 5 2 54)  (σ : (Nat → Nat → Int32)) (l1 : Int32) (l2 : Int32) (l4 : Int32) (k2 : Int32) (k1 : Int32)  {K : (Int32 × Int32 × (Nat → Nat → Int32)) ⊕ (Int32 × (Nat → Nat → Int32)) → Prop} {o : (Int32 × Int32 × (Nat → Nat → Int32)) ⊕ (Int32 × (Nat → Nat → Int32))} (hf : f_X7_hedgehog_b61 σ l1 l2 l4 k2 k1 = some o) (hK : K o) (hI27 : ∀ v : Int32 × Int32 × (Nat → Nat → Int32), K (.inl v) → gG x 5 0 0 (MW x.dA ad v.2.2 ++ tl) 27 [(0, .ref (ad 0)), (1, .int l1), (2, .int l2), (3, .int v.1), (4, .int v.2.1)] []) (hR : ∀ o : Int32 × (Nat → Nat → Int32), K (.inr (o)) → gRi x 0 0 (MW x.dA ad o.2 ++ tl) o.1) : gG x 5 0 0 (MW x.dA ad σ ++ tl) 61 [(0, .ref (ad 0)), (1, .int l1), (2, .int l2), (4, .int l4)] [.int k2, .int k1] := by
  unfold f_X7_hedgehog_b61 at hf
  refine g_ior hc dX7_hedgehog_61 ?_
  refine g_istore_n (lv' := [(3, .int (k1 ||| k2)), (0, .ref (ad 0)), (1, .int l1), (2, .int l2), (4, .int l4)]) hc dX7_hedgehog_62 rfl (by decide) rfl ?_
  refine g_iinc (v := l4 + 1) (lv' := [(4, .int (l4 + 1)), (3, .int (k1 ||| k2)), (0, .ref (ad 0)), (1, .int l1), (2, .int l2)]) hc dX7_hedgehog_63 (j := 4) rfl rfl (by decide) rfl ?_
  refine g_goto (tgt := 27) hc dX7_hedgehog_66 (by decide) ?_
  have hz := Option.some.inj hf; subst hz
  exact g_lv [2, 3, 4, 1, 0] rfl (hI27 _ hK)
def f_X7_hedgehog_L27 (σ : (Nat → Nat → Int32)) (l1 : Int32) (l2 : Int32) (l3 : Int32) (l4 : Int32) : Option ((Int32 × Int32 × (Nat → Nat → Int32)) ⊕ (Int32 × (Nat → Nat → Int32))) :=
  if 8 ≤ l4 then (oI (if 2 ≤ l2 then (if l2 = 2 then (oC (inb (18 + l1) 205) <| oB (f_X7_losesOf (σ 1 (18 + l1).toNatClampNeg)) fun r6 => some (r6, σ)) else (some (l3, σ))) else (oC (inb ((18 + (4 * l2)) + l1) 205) <| some ((σ 1 ((18 + (4 * l2)) + l1).toNatClampNeg), σ)))) else (oB (f_X7_runsOn σ 0 l1 l4 0) fun r10 => if (r10 0 16) = (-4) then (f_X7_hedgehog_b61 r10 l1 l2 l4 0 l3) else (f_X7_hedgehog_b61 r10 l1 l2 l4 ((1 : Int32) <<< (l4 &&& 31)) l3))
theorem w_X7_hedgehog_L27 {x : gX} {ad : Nat → Nat} {tl : va_W}  (hc : gOk x RX7 cX7_hedgehog 5 2 54)  (σ : (Nat → Nat → Int32)) (l1 : Int32) (l2 : Int32) (l3 : Int32) (l4 : Int32)  {K : (Int32 × Int32 × (Nat → Nat → Int32)) ⊕ (Int32 × (Nat → Nat → Int32)) → Prop} {o : (Int32 × Int32 × (Nat → Nat → Int32)) ⊕ (Int32 × (Nat → Nat → Int32))} (hf : f_X7_hedgehog_L27 σ l1 l2 l3 l4 = some o) (hK : K o) (hI27 : ∀ v : Int32 × Int32 × (Nat → Nat → Int32), K (.inl v) → gG x 5 0 0 (MW x.dA ad v.2.2 ++ tl) 27 [(0, .ref (ad 0)), (1, .int l1), (2, .int l2), (3, .int v.1), (4, .int v.2.1)] []) (hR : ∀ o : Int32 × (Nat → Nat → Int32), K (.inr (o)) → gRi x 0 0 (MW x.dA ad o.2 ++ tl) o.1) : gG x 5 0 0 (MW x.dA ad σ ++ tl) 27 [(0, .ref (ad 0)), (1, .int l1), (2, .int l2), (3, .int l3), (4, .int l4)] [] := by
  unfold f_X7_hedgehog_L27 at hf
  refine g_iload hc dX7_hedgehog_27 4 rfl ?_
  refine g_bipush (v := 8) hc dX7_hedgehog_29 (by decide) ?_
  refine g_icmp_ge (tgt := 69) hc dX7_hedgehog_31 (by decide) (fun h1 => ?_) (fun h1 => ?_)
  · have hf := oT h1 hf
    obtain ⟨o8, hgo8, eo8⟩ := oI_some hf
    clear hf; subst eo8; have hf := hgo8; clear hgo8
    refine g_iload_n hc dX7_hedgehog_69 rfl 2 rfl ?_
    refine g_iconst (v := 2) hc dX7_hedgehog_70 (by decide) ?_
    refine g_icmp_ge (tgt := 90) hc dX7_hedgehog_71 (by decide) (fun h2 => ?_) (fun h2 => ?_)
    · have hf := oT h2 hf
      refine g_iload_n hc dX7_hedgehog_90 rfl 2 rfl ?_
      refine g_iconst (v := 2) hc dX7_hedgehog_91 (by decide) ?_
      refine g_icmp_ne (tgt := 110) hc dX7_hedgehog_92 (by decide) (fun h3 => ?_) (fun h3 => ?_)
      · have hf := oF h3 hf
        refine g_iload_n hc dX7_hedgehog_110 rfl 3 rfl ?_
        have hz := Option.some.inj hf; subst hz
        exact g_iret hc (hR _ hK) dX7_hedgehog_111
      · have hf := oT h3 hf
        refine g_aload_n hc dX7_hedgehog_95 rfl 0 rfl ?_
        refine g_get (v := .ref (ad 1)) hc in_X7 (MW_at (k := 0) (by decide)) rfl 0 (by decide) q961 rfl dX7_hedgehog_96 ?_
        refine g_bipush (v := 18) hc dX7_hedgehog_99 (by decide) ?_
        refine g_iload_n hc dX7_hedgehog_101 rfl 1 rfl ?_
        refine g_iadd hc dX7_hedgehog_102 ?_
        obtain ⟨h4, hf⟩ := oC_some hf
        refine g_iald (n := 205) (f := σ 1) hc (MW_at (k := 1) (by decide)) h4 dX7_hedgehog_103 ?_
        obtain ⟨r6, h5, hf⟩ := oB_some hf
        refine g_callSi hc [.int (σ 1 (18 + l1).toNatClampNeg)] [] (c_X7_losesOf  h5) (lw_S q1131 q1132 q67 q1133) rfl hd_X7_losesOf rfl rfl (Nat.le_of_ble_eq_true rfl) gZ dX7_hedgehog_104 ?_
        refine g_goto (tgt := 111) hc dX7_hedgehog_107 (by decide) ?_
        have hz := Option.some.inj hf; subst hz
        exact g_iret hc (hR _ hK) dX7_hedgehog_111
    · have hf := oF h2 hf
      refine g_aload_n hc dX7_hedgehog_74 rfl 0 rfl ?_
      refine g_get (v := .ref (ad 1)) hc in_X7 (MW_at (k := 0) (by decide)) rfl 0 (by decide) q961 rfl dX7_hedgehog_75 ?_
      refine g_bipush (v := 18) hc dX7_hedgehog_78 (by decide) ?_
      refine g_iconst (v := 4) hc dX7_hedgehog_80 (by decide) ?_
      refine g_iload_n hc dX7_hedgehog_81 rfl 2 rfl ?_
      refine g_imul hc dX7_hedgehog_82 ?_
      refine g_iadd hc dX7_hedgehog_83 ?_
      refine g_iload_n hc dX7_hedgehog_84 rfl 1 rfl ?_
      refine g_iadd hc dX7_hedgehog_85 ?_
      obtain ⟨h7, hf⟩ := oC_some hf
      refine g_iald (n := 205) (f := σ 1) hc (MW_at (k := 1) (by decide)) h7 dX7_hedgehog_86 ?_
      refine g_goto (tgt := 111) hc dX7_hedgehog_87 (by decide) ?_
      have hz := Option.some.inj hf; subst hz
      exact g_iret hc (hR _ hK) dX7_hedgehog_111
  · have hf := oF h1 hf
    refine g_aload_n hc dX7_hedgehog_34 rfl 0 rfl ?_
    refine g_iconst (v := 0) hc dX7_hedgehog_35 (by decide) ?_
    refine g_iload_n hc dX7_hedgehog_36 rfl 1 rfl ?_
    refine g_iload hc dX7_hedgehog_37 4 rfl ?_
    refine g_iconst (v := 0) hc dX7_hedgehog_39 (by decide) ?_
    obtain ⟨r10, h9, hf⟩ := oB_some hf
    refine g_callVv hc [.int 0, .int l1, .int l4, .int 0] [] (c_X7_runsOn  h9) (MW_at (k := 0) (by decide)) rfl (lw_V q1119 q1121 qs42 q67 q1122) rfl hd_X7_runsOn rfl rfl (Nat.le_of_ble_eq_true rfl) gZ dX7_hedgehog_40 ?_
    refine g_iload_n hc dX7_hedgehog_43 rfl 3 rfl ?_
    refine g_aload_n hc dX7_hedgehog_44 rfl 0 rfl ?_
    refine g_get (v := .int (r10 0 16)) hc in_X7 (MW_at (k := 0) (by decide)) rfl 16 (by decide) q977 rfl dX7_hedgehog_45 ?_
    refine g_bipush (v := (-4)) hc dX7_hedgehog_48 (by decide) ?_
    refine g_icmp_eq (tgt := 60) hc dX7_hedgehog_50 (by decide) (fun h11 => ?_) (fun h11 => ?_)
    · have hf := oT h11 hf
      refine g_iconst (v := 0) hc dX7_hedgehog_60 (by decide) ?_
      exact g_lv [0, 1, 2, 4] rfl (w_X7_hedgehog_b61 hc r10 l1 l2 l4 0 l3  (K := K) hf hK hI27 hR)
    · have hf := oF h11 hf
      refine g_iconst (v := 1) hc dX7_hedgehog_53 (by decide) ?_
      refine g_iload hc dX7_hedgehog_54 4 rfl ?_
      refine g_ishl hc dX7_hedgehog_56 ?_
      refine g_goto (tgt := 61) hc dX7_hedgehog_57 (by decide) ?_
      exact g_lv [0, 1, 2, 4] rfl (w_X7_hedgehog_b61 hc r10 l1 l2 l4 ((1 : Int32) <<< (l4 &&& 31)) l3  (K := K) hf hK hI27 hR)
def f_X7_hedgehog_b27 (σ : (Nat → Nat → Int32)) (l1 : Int32) (l2 : Int32) (l3 : Int32) (l4 : Int32) : Option (Int32 × (Nat → Nat → Int32)) :=
  oLoop gFU (fun v : Int32 × Int32 × (Nat → Nat → Int32) => f_X7_hedgehog_L27 v.2.2 l1 l2 v.1 v.2.1) (l3, l4, σ)
theorem w_X7_hedgehog_b27 {x : gX} {ad : Nat → Nat} {tl : va_W}  (hc : gOk x RX7 cX7_hedgehog 5 2 54)  (σ : (Nat → Nat → Int32)) (l1 : Int32) (l2 : Int32) (l3 : Int32) (l4 : Int32)  {K : Int32 × (Nat → Nat → Int32) → Prop} {o : Int32 × (Nat → Nat → Int32)} (hf : f_X7_hedgehog_b27 σ l1 l2 l3 l4 = some o) (hK : K o) (hR : ∀ o : Int32 × (Nat → Nat → Int32), K o → gRi x 0 0 (MW x.dA ad o.2 ++ tl) o.1) : gG x 5 0 0 (MW x.dA ad σ ++ tl) 27 [(0, .ref (ad 0)), (1, .int l1), (2, .int l2), (3, .int l3), (4, .int l4)] [] :=
  oLoop_ind (fun v : Int32 × Int32 × (Nat → Nat → Int32) => gG x 5 0 0 (MW x.dA ad v.2.2 ++ tl) 27 [(0, .ref (ad 0)), (1, .int l1), (2, .int l2), (3, .int v.1), (4, .int v.2.1)] []) K (fun v o1 hf1 hK1 => w_X7_hedgehog_L27 hc v.2.2 l1 l2 v.1 v.2.1  (K := Sum.elim (fun v : Int32 × Int32 × (Nat → Nat → Int32) => gG x 5 0 0 (MW x.dA ad v.2.2 ++ tl) 27 [(0, .ref (ad 0)), (1, .int l1), (2, .int l2), (3, .int v.1), (4, .int v.2.1)] []) K) hf1 hK1 (fun v hv => hv) hR) gFU _ o hf hK
def f_X7_hedgehog (σ : (Nat → Nat → Int32)) (l1 : Int32) (l2 : Int32) : Option (Int32 × (Nat → Nat → Int32)) :=
  oB (f_X7_isHog σ l1) fun r2 => if r2 = 0 then (some ((-1), σ)) else (oB (f_X7_in (Int32.toInt64 l2) 0 3) fun r5 => if r5 = 0 then (some ((-1), σ)) else (f_X7_hedgehog_b27 σ l1 l2 0 0))
theorem w_X7_hedgehog {x : gX} {ad : Nat → Nat} {tl : va_W}  (hc : gOk x RX7 cX7_hedgehog 5 2 54)  (σ : (Nat → Nat → Int32)) (l1 : Int32) (l2 : Int32)  {K : Int32 × (Nat → Nat → Int32) → Prop} {o : Int32 × (Nat → Nat → Int32)} (hf : f_X7_hedgehog σ l1 l2 = some o) (hK : K o) (hR : ∀ o : Int32 × (Nat → Nat → Int32), K o → gRi x 0 0 (MW x.dA ad o.2 ++ tl) o.1) : gG x 5 0 0 (MW x.dA ad σ ++ tl) 0 [(0, .ref (ad 0)), (1, .int l1), (2, .int l2)] [] := by
  unfold f_X7_hedgehog at hf
  refine g_aload_n hc dX7_hedgehog_0 rfl 0 rfl ?_
  refine g_iload_n hc dX7_hedgehog_1 rfl 1 rfl ?_
  obtain ⟨r2, h1, hf⟩ := oB_some hf
  refine g_callVi hc [.int l1] [] (c_X7_isHog  h1) (MW_at (k := 0) (by decide)) rfl (lw_V q1162 q1164 qs48 q67 q1165) rfl hd_X7_isHog rfl rfl (Nat.le_of_ble_eq_true rfl) gZ dX7_hedgehog_2 ?_
  refine g_if_eq (tgt := 20) hc dX7_hedgehog_5 (by decide) (fun h3 => ?_) (fun h3 => ?_)
  · have hf := oT h3 hf
    refine g_iconst (v := (-1)) hc dX7_hedgehog_20 (by decide) ?_
    have hz := Option.some.inj hf; subst hz
    exact g_iret hc (hR _ hK) dX7_hedgehog_21
  · have hf := oF h3 hf
    refine g_iload_n hc dX7_hedgehog_8 rfl 2 rfl ?_
    refine g_i2l hc dX7_hedgehog_9 ?_
    refine g_lconst (v := 0) hc dX7_hedgehog_10 (by decide) ?_
    refine g_ldc2 (v := 3) hc q1166 dX7_hedgehog_11 ?_
    obtain ⟨r5, h4, hf⟩ := oB_some hf
    refine g_callSi hc [.long (Int32.toInt64 l2), .long 0, .long 3] [] (c_X7_in  h4) (lw_S q1055 q1056 q67 q1057) rfl hd_X7_in rfl rfl (Nat.le_of_ble_eq_true rfl) gZ dX7_hedgehog_14 ?_
    refine g_if_ne (tgt := 22) hc dX7_hedgehog_17 (by decide) (fun h6 => ?_) (fun h6 => ?_)
    · have hf := oF h6 hf
      refine g_iconst (v := 0) hc dX7_hedgehog_22 (by decide) ?_
      refine g_istore_n (lv' := [(3, .int 0), (0, .ref (ad 0)), (1, .int l1), (2, .int l2)]) hc dX7_hedgehog_23 rfl (by decide) rfl ?_
      refine g_iconst (v := 0) hc dX7_hedgehog_24 (by decide) ?_
      refine g_istore (lv' := [(4, .int 0), (3, .int 0), (0, .ref (ad 0)), (1, .int l1), (2, .int l2)]) hc dX7_hedgehog_25 (by decide) rfl ?_
      exact g_lv [2, 3, 4, 1, 0] rfl (w_X7_hedgehog_b27 hc σ l1 l2 0 0  (K := K) hf hK hR)
    · have hf := oT h6 hf
      refine g_iconst (v := (-1)) hc dX7_hedgehog_20 (by decide) ?_
      have hz := Option.some.inj hf; subst hz
      exact g_iret hc (hR _ hK) dX7_hedgehog_21
theorem c_X7_hedgehog {l : Launch} {D : va_G} {dA : Nat → ClassId} {ad : Nat → Nat} {tl : va_W}  {σ : (Nat → Nat → Int32)} {l1 : Int32} {l2 : Int32}  {o : Int32 × (Nat → Nat → Int32)} (hf : f_X7_hedgehog σ l1 l2 = some o) : gI l D dA (MW dA ad σ ++ tl) (MW dA ad o.2 ++ tl) [.ref (ad 0), .int l1, .int l2] o.1 yX7_hedgehog (ws_ yX7_hedgehog cX7_hedgehog 5 (some .int)) ({ frames := 2, cells := 0, slots := 0, locals := 54 } : Room) :=
  g_startI (own := RX7) ⟨rfl, rfl⟩ (by decide) rfl (Nat.le_of_ble_eq_true rfl) (fun x e hc hR => by
    subst e
    exact w_X7_hedgehog hc σ l1 l2  (K := fun o1 => o1 = o) hf rfl (by rintro _ rfl; exact hR))
theorem hd_X7_hedgehog : yX7_hedgehog.cls = RX7 ∧ yX7_hedgehog.cls ≠ "java/lang/invoke/MethodHandle" ∧ yX7_hedgehog.cls ≠ "java/lang/invoke/VarHandle" ∧ (parseMethodDescriptor yX7_hedgehog.desc).map (fun d => d.parameters.length) = some 2 := by decide +kernel
/-! HedgehogLotsModel.suit(II)I -/
def f_X7_suit (σ : (Nat → Nat → Int32)) (l1 : Int32) (l2 : Int32) : Option (Int32 × (Nat → Nat → Int32)) :=
  oB (f_X7_isSuit σ l1) fun r2 => if r2 = 0 then (some ((-1), σ)) else (oB (f_X7_in (Int32.toInt64 l2) 0 2) fun r5 => if r5 = 0 then (some ((-1), σ)) else (if 2 ≤ l2 then (oC (inb (26 + l1) 205) <| oC (inb (32 + l1) 205) <| oB (f_X7_winnerOn σ 0 (σ 1 (26 + l1).toNatClampNeg) (σ 1 (32 + l1).toNatClampNeg)) fun r11 => some (r11.1, r11.2)) else (oC (inb ((26 + (6 * l2)) + l1) 205) <| some ((σ 1 ((26 + (6 * l2)) + l1).toNatClampNeg), σ))))
theorem w_X7_suit {x : gX} {ad : Nat → Nat} {tl : va_W}  (hc : gOk x RX7 cX7_suit 3 3 77)  (σ : (Nat → Nat → Int32)) (l1 : Int32) (l2 : Int32)  {K : Int32 × (Nat → Nat → Int32) → Prop} {o : Int32 × (Nat → Nat → Int32)} (hf : f_X7_suit σ l1 l2 = some o) (hK : K o) (hR : ∀ o : Int32 × (Nat → Nat → Int32), K o → gRi x 0 0 (MW x.dA ad o.2 ++ tl) o.1) : gG x 3 0 0 (MW x.dA ad σ ++ tl) 0 [(0, .ref (ad 0)), (1, .int l1), (2, .int l2)] [] := by
  unfold f_X7_suit at hf
  refine g_aload_n hc dX7_suit_0 rfl 0 rfl ?_
  refine g_iload_n hc dX7_suit_1 rfl 1 rfl ?_
  obtain ⟨r2, h1, hf⟩ := oB_some hf
  refine g_callVi hc [.int l1] [] (c_X7_isSuit  h1) (MW_at (k := 0) (by decide)) rfl (lw_V q1171 q1173 qs49 q67 q1174) rfl hd_X7_isSuit rfl rfl (Nat.le_of_ble_eq_true rfl) gZ dX7_suit_2 ?_
  refine g_if_eq (tgt := 20) hc dX7_suit_5 (by decide) (fun h3 => ?_) (fun h3 => ?_)
  · have hf := oT h3 hf
    refine g_iconst (v := (-1)) hc dX7_suit_20 (by decide) ?_
    have hz := Option.some.inj hf; subst hz
    exact g_iret hc (hR _ hK) dX7_suit_21
  · have hf := oF h3 hf
    refine g_iload_n hc dX7_suit_8 rfl 2 rfl ?_
    refine g_i2l hc dX7_suit_9 ?_
    refine g_lconst (v := 0) hc dX7_suit_10 (by decide) ?_
    refine g_ldc2 (v := 2) hc q1153 dX7_suit_11 ?_
    obtain ⟨r5, h4, hf⟩ := oB_some hf
    refine g_callSi hc [.long (Int32.toInt64 l2), .long 0, .long 2] [] (c_X7_in  h4) (lw_S q1055 q1056 q67 q1057) rfl hd_X7_in rfl rfl (Nat.le_of_ble_eq_true rfl) gZ dX7_suit_14 ?_
    refine g_if_ne (tgt := 22) hc dX7_suit_17 (by decide) (fun h6 => ?_) (fun h6 => ?_)
    · have hf := oF h6 hf
      refine g_iload_n hc dX7_suit_22 rfl 2 rfl ?_
      refine g_iconst (v := 2) hc dX7_suit_23 (by decide) ?_
      refine g_icmp_ge (tgt := 44) hc dX7_suit_24 (by decide) (fun h7 => ?_) (fun h7 => ?_)
      · have hf := oT h7 hf
        refine g_aload_n hc dX7_suit_44 rfl 0 rfl ?_
        refine g_iconst (v := 0) hc dX7_suit_45 (by decide) ?_
        refine g_aload_n hc dX7_suit_46 rfl 0 rfl ?_
        refine g_get (v := .ref (ad 1)) hc in_X7 (MW_at (k := 0) (by decide)) rfl 0 (by decide) q961 rfl dX7_suit_47 ?_
        refine g_bipush (v := 26) hc dX7_suit_50 (by decide) ?_
        refine g_iload_n hc dX7_suit_52 rfl 1 rfl ?_
        refine g_iadd hc dX7_suit_53 ?_
        obtain ⟨h8, hf⟩ := oC_some hf
        refine g_iald (n := 205) (f := σ 1) hc (MW_at (k := 1) (by decide)) h8 dX7_suit_54 ?_
        refine g_aload_n hc dX7_suit_55 rfl 0 rfl ?_
        refine g_get (v := .ref (ad 1)) hc in_X7 (MW_at (k := 0) (by decide)) rfl 0 (by decide) q961 rfl dX7_suit_56 ?_
        refine g_bipush (v := 32) hc dX7_suit_59 (by decide) ?_
        refine g_iload_n hc dX7_suit_61 rfl 1 rfl ?_
        refine g_iadd hc dX7_suit_62 ?_
        obtain ⟨h9, hf⟩ := oC_some hf
        refine g_iald (n := 205) (f := σ 1) hc (MW_at (k := 1) (by decide)) h9 dX7_suit_63 ?_
        obtain ⟨r11, h10, hf⟩ := oB_some hf
        refine g_callVi hc [.int 0, .int (σ 1 (26 + l1).toNatClampNeg), .int (σ 1 (32 + l1).toNatClampNeg)] [] (c_X7_winnerOn  h10) (MW_at (k := 0) (by decide)) rfl (lw_V q1141 q1143 qs46 q67 q1144) rfl hd_X7_winnerOn rfl rfl (Nat.le_of_ble_eq_true rfl) gZ dX7_suit_64 ?_
        have hz := Option.some.inj hf; subst hz
        exact g_iret hc (hR _ hK) dX7_suit_67
      · have hf := oF h7 hf
        refine g_aload_n hc dX7_suit_27 rfl 0 rfl ?_
        refine g_get (v := .ref (ad 1)) hc in_X7 (MW_at (k := 0) (by decide)) rfl 0 (by decide) q961 rfl dX7_suit_28 ?_
        refine g_bipush (v := 26) hc dX7_suit_31 (by decide) ?_
        refine g_bipush (v := 6) hc dX7_suit_33 (by decide) ?_
        refine g_iload_n hc dX7_suit_35 rfl 2 rfl ?_
        refine g_imul hc dX7_suit_36 ?_
        refine g_iadd hc dX7_suit_37 ?_
        refine g_iload_n hc dX7_suit_38 rfl 1 rfl ?_
        refine g_iadd hc dX7_suit_39 ?_
        obtain ⟨h12, hf⟩ := oC_some hf
        refine g_iald (n := 205) (f := σ 1) hc (MW_at (k := 1) (by decide)) h12 dX7_suit_40 ?_
        refine g_goto (tgt := 67) hc dX7_suit_41 (by decide) ?_
        have hz := Option.some.inj hf; subst hz
        exact g_iret hc (hR _ hK) dX7_suit_67
    · have hf := oT h6 hf
      refine g_iconst (v := (-1)) hc dX7_suit_20 (by decide) ?_
      have hz := Option.some.inj hf; subst hz
      exact g_iret hc (hR _ hK) dX7_suit_21
theorem c_X7_suit {l : Launch} {D : va_G} {dA : Nat → ClassId} {ad : Nat → Nat} {tl : va_W}  {σ : (Nat → Nat → Int32)} {l1 : Int32} {l2 : Int32}  {o : Int32 × (Nat → Nat → Int32)} (hf : f_X7_suit σ l1 l2 = some o) : gI l D dA (MW dA ad σ ++ tl) (MW dA ad o.2 ++ tl) [.ref (ad 0), .int l1, .int l2] o.1 yX7_suit (ws_ yX7_suit cX7_suit 3 (some .int)) ({ frames := 3, cells := 0, slots := 0, locals := 77 } : Room) :=
  g_startI (own := RX7) ⟨rfl, rfl⟩ (by decide) rfl (Nat.le_of_ble_eq_true rfl) (fun x e hc hR => by
    subst e
    exact w_X7_suit hc σ l1 l2  (K := fun o1 => o1 = o) hf rfl (by rintro _ rfl; exact hR))
theorem hd_X7_suit : yX7_suit.cls = RX7 ∧ yX7_suit.cls ≠ "java/lang/invoke/MethodHandle" ∧ yX7_suit.cls ≠ "java/lang/invoke/VarHandle" ∧ (parseMethodDescriptor yX7_suit.desc).map (fun d => d.parameters.length) = some 2 := by decide +kernel
/-! HedgehogLotsModel.puts(ZII)I -/
def f_X7_puts (σ : (Nat → Nat → Int32)) (l1 : Int32) (l2 : Int32) (l3 : Int32) : Option (Int32 × (Nat → Nat → Int32)) :=
  if l1 = 0 then (some ((-1), σ)) else (oC (inb l2 205) <| oC (inb l2 205) <| oL (upd2 σ 1 l2.toNatClampNeg l3) fun s3 => some ((σ 1 l2.toNatClampNeg), s3))
theorem w_X7_puts {x : gX} {ad : Nat → Nat} {tl : va_W}  (hc : gOk x RX7 cX7_puts 5 0 0)  (σ : (Nat → Nat → Int32)) (l1 : Int32) (l2 : Int32) (l3 : Int32)  {K : Int32 × (Nat → Nat → Int32) → Prop} {o : Int32 × (Nat → Nat → Int32)} (hf : f_X7_puts σ l1 l2 l3 = some o) (hK : K o) (hR : ∀ o : Int32 × (Nat → Nat → Int32), K o → gRi x 0 0 (MW x.dA ad o.2 ++ tl) o.1) : gG x 5 0 0 (MW x.dA ad σ ++ tl) 0 [(0, .ref (ad 0)), (1, .int l1), (2, .int l2), (3, .int l3)] [] := by
  unfold f_X7_puts at hf
  refine g_iload_n hc dX7_puts_0 rfl 1 rfl ?_
  refine g_if_ne (tgt := 6) hc dX7_puts_1 (by decide) (fun h1 => ?_) (fun h1 => ?_)
  · have hf := oF h1 hf
    refine g_aload_n hc dX7_puts_6 rfl 0 rfl ?_
    refine g_get (v := .ref (ad 1)) hc in_X7 (MW_at (k := 0) (by decide)) rfl 0 (by decide) q961 rfl dX7_puts_7 ?_
    refine g_iload_n hc dX7_puts_10 rfl 2 rfl ?_
    obtain ⟨h2, hf⟩ := oC_some hf
    refine g_iald (n := 205) (f := σ 1) hc (MW_at (k := 1) (by decide)) h2 dX7_puts_11 ?_
    refine g_istore (lv' := [(4, .int (σ 1 l2.toNatClampNeg)), (0, .ref (ad 0)), (1, .int l1), (2, .int l2), (3, .int l3)]) hc dX7_puts_12 (by decide) rfl ?_
    refine g_aload_n hc dX7_puts_14 rfl 1 rfl ?_
    refine g_get (v := .ref (ad 1)) hc in_X7 (MW_at (k := 0) (by decide)) rfl 0 (by decide) q961 rfl dX7_puts_15 ?_
    refine g_iload_n hc dX7_puts_18 rfl 3 rfl ?_
    refine g_iload_n hc dX7_puts_19 rfl 4 rfl ?_
    obtain ⟨h5, hf⟩ := oC_some hf
    obtain ⟨s3, e4, hf⟩ := oL_some hf
    refine g_iast (n := 205) (f := σ 1) hc (MW_at (k := 1) (by decide)) h5 (MW_set (μ1 := s3) (k := 1) (by decide) e4 rfl) dX7_puts_20 ?_
    refine g_iload hc dX7_puts_21 0 rfl ?_
    have hz := Option.some.inj hf; subst hz
    exact g_iret hc (hR _ hK) dX7_puts_23
  · have hf := oT h1 hf
    refine g_iconst (v := (-1)) hc dX7_puts_4 (by decide) ?_
    have hz := Option.some.inj hf; subst hz
    exact g_iret hc (hR _ hK) dX7_puts_5
theorem c_X7_puts {l : Launch} {D : va_G} {dA : Nat → ClassId} {ad : Nat → Nat} {tl : va_W}  {σ : (Nat → Nat → Int32)} {l1 : Int32} {l2 : Int32} {l3 : Int32}  {o : Int32 × (Nat → Nat → Int32)} (hf : f_X7_puts σ l1 l2 l3 = some o) : gI l D dA (MW dA ad σ ++ tl) (MW dA ad o.2 ++ tl) [.ref (ad 0), .int l1, .int l2, .int l3] o.1 yX7_puts (ws_ yX7_puts cX7_puts 5 (some .int)) ({ frames := 0, cells := 0, slots := 0, locals := 0 } : Room) :=
  g_startI (own := RX7) ⟨rfl, rfl⟩ (by decide) rfl (Nat.le_of_ble_eq_true rfl) (fun x e hc hR => by
    subst e
    exact w_X7_puts hc σ l1 l2 l3  (K := fun o1 => o1 = o) hf rfl (by rintro _ rfl; exact hR))
theorem hd_X7_puts : yX7_puts.cls = RX7 ∧ yX7_puts.cls ≠ "java/lang/invoke/MethodHandle" ∧ yX7_puts.cls ≠ "java/lang/invoke/VarHandle" ∧ (parseMethodDescriptor yX7_puts.desc).map (fun d => d.parameters.length) = some 3 := by decide +kernel
/-! HedgehogLotsModel.shift(II)I -/
def f_X7_shift_b36 (σ : (Nat → Nat → Int32)) (l1 : Int32) (l2 : Int32) : Option (Int32 × (Nat → Nat → Int32)) :=
  oB (f_X7_puts σ 1 l1 l2) fun r2 => some (r2.1, r2.2)
theorem w_X7_shift_b36 {x : gX} {ad : Nat → Nat} {tl : va_W}  (hc : gOk x RX7 cX7_shift 3 2 46)  (σ : (Nat → Nat → Int32)) (l1 : Int32) (l2 : Int32)  {K : Int32 × (Nat → Nat → Int32) → Prop} {o : Int32 × (Nat → Nat → Int32)} (hf : f_X7_shift_b36 σ l1 l2 = some o) (hK : K o) (hR : ∀ o : Int32 × (Nat → Nat → Int32), K o → gRi x 0 0 (MW x.dA ad o.2 ++ tl) o.1) : gG x 3 0 0 (MW x.dA ad σ ++ tl) 36 [(0, .ref (ad 0)), (1, .int l1), (2, .int l2)] [] := by
  unfold f_X7_shift_b36 at hf
  refine g_aload_n hc dX7_shift_36 rfl 0 rfl ?_
  refine g_iconst (v := 1) hc dX7_shift_37 (by decide) ?_
  refine g_iload_n hc dX7_shift_38 rfl 1 rfl ?_
  refine g_iload_n hc dX7_shift_39 rfl 2 rfl ?_
  obtain ⟨r2, h1, hf⟩ := oB_some hf
  refine g_callVi hc [.int 1, .int l1, .int l2] [] (c_X7_puts  h1) (MW_at (k := 0) (by decide)) rfl (lw_V q1186 q1188 qs51 q67 q1189) rfl hd_X7_puts rfl rfl (Nat.le_of_ble_eq_true rfl) gZ dX7_shift_40 ?_
  refine g_goto (tgt := 48) hc dX7_shift_43 (by decide) ?_
  have hz := Option.some.inj hf; subst hz
  exact g_iret hc (hR _ hK) dX7_shift_48
def f_X7_shift (σ : (Nat → Nat → Int32)) (l1 : Int32) (l2 : Int32) : Option (Int32 × (Nat → Nat → Int32)) :=
  oB (f_X7_isPeg σ l1) fun r2 => if r2 = 0 then (some ((-1), σ)) else (oB (f_X7_isCell l2) fun r5 => if r5 = 0 then (some ((-1), σ)) else (oB (f_X7_isFreeOn σ 0 l2) fun r8 => if r8 = 0 then (oB (f_X7_pegOn σ 0 l2) fun r11 => if r11 = l1 then (f_X7_shift_b36 σ l1 l2) else (some ((-2), σ))) else (f_X7_shift_b36 σ l1 l2)))
theorem w_X7_shift {x : gX} {ad : Nat → Nat} {tl : va_W}  (hc : gOk x RX7 cX7_shift 3 2 46)  (σ : (Nat → Nat → Int32)) (l1 : Int32) (l2 : Int32)  {K : Int32 × (Nat → Nat → Int32) → Prop} {o : Int32 × (Nat → Nat → Int32)} (hf : f_X7_shift σ l1 l2 = some o) (hK : K o) (hR : ∀ o : Int32 × (Nat → Nat → Int32), K o → gRi x 0 0 (MW x.dA ad o.2 ++ tl) o.1) : gG x 3 0 0 (MW x.dA ad σ ++ tl) 0 [(0, .ref (ad 0)), (1, .int l1), (2, .int l2)] [] := by
  unfold f_X7_shift at hf
  refine g_aload_n hc dX7_shift_0 rfl 0 rfl ?_
  refine g_iload_n hc dX7_shift_1 rfl 1 rfl ?_
  obtain ⟨r2, h1, hf⟩ := oB_some hf
  refine g_callVi hc [.int l1] [] (c_X7_isPeg  h1) (MW_at (k := 0) (by decide)) rfl (lw_V q1149 q1151 qs47 q67 q1152) rfl hd_X7_isPeg rfl rfl (Nat.le_of_ble_eq_true rfl) gZ dX7_shift_2 ?_
  refine g_if_eq (tgt := 15) hc dX7_shift_5 (by decide) (fun h3 => ?_) (fun h3 => ?_)
  · have hf := oT h3 hf
    refine g_iconst (v := (-1)) hc dX7_shift_15 (by decide) ?_
    have hz := Option.some.inj hf; subst hz
    exact g_iret hc (hR _ hK) dX7_shift_16
  · have hf := oF h3 hf
    refine g_iload_n hc dX7_shift_8 rfl 2 rfl ?_
    obtain ⟨r5, h4, hf⟩ := oB_some hf
    refine g_callSi hc [.int l2] [] (c_X7_isCell  h4) (lw_S q1179 q1180 q67 q1181) rfl hd_X7_isCell rfl rfl (Nat.le_of_ble_eq_true rfl) gZ dX7_shift_9 ?_
    refine g_if_ne (tgt := 17) hc dX7_shift_12 (by decide) (fun h6 => ?_) (fun h6 => ?_)
    · have hf := oF h6 hf
      refine g_aload_n hc dX7_shift_17 rfl 0 rfl ?_
      refine g_iconst (v := 0) hc dX7_shift_18 (by decide) ?_
      refine g_iload_n hc dX7_shift_19 rfl 2 rfl ?_
      obtain ⟨r8, h7, hf⟩ := oB_some hf
      refine g_callVi hc [.int 0, .int l2] [] (c_X7_isFreeOn  h7) (MW_at (k := 0) (by decide)) rfl (lw_V q1182 q1184 qs50 q67 q1185) rfl hd_X7_isFreeOn rfl rfl (Nat.le_of_ble_eq_true rfl) gZ dX7_shift_20 ?_
      refine g_if_ne (tgt := 36) hc dX7_shift_23 (by decide) (fun h9 => ?_) (fun h9 => ?_)
      · have hf := oF h9 hf
        exact g_lv [0, 1, 2] rfl (w_X7_shift_b36 hc σ l1 l2  (K := K) hf hK hR)
      · have hf := oT h9 hf
        refine g_aload_n hc dX7_shift_26 rfl 0 rfl ?_
        refine g_iconst (v := 0) hc dX7_shift_27 (by decide) ?_
        refine g_iload_n hc dX7_shift_28 rfl 2 rfl ?_
        obtain ⟨r11, h10, hf⟩ := oB_some hf
        refine g_callVi hc [.int 0, .int l2] [] (c_X7_pegOn  h10) (MW_at (k := 0) (by decide)) rfl (lw_V q1123 q1125 qs43 q67 q1126) rfl hd_X7_pegOn rfl rfl (Nat.le_of_ble_eq_true rfl) gZ dX7_shift_29 ?_
        refine g_iload_n hc dX7_shift_32 rfl 1 rfl ?_
        refine g_icmp_ne (tgt := 46) hc dX7_shift_33 (by decide) (fun h12 => ?_) (fun h12 => ?_)
        · have hf := oF h12 hf
          refine g_bipush (v := (-2)) hc dX7_shift_46 (by decide) ?_
          have hz := Option.some.inj hf; subst hz
          exact g_iret hc (hR _ hK) dX7_shift_48
        · have hf := oT h12 hf
          exact g_lv [0, 1, 2] rfl (w_X7_shift_b36 hc σ l1 l2  (K := K) hf hK hR)
    · have hf := oT h6 hf
      refine g_iconst (v := (-1)) hc dX7_shift_15 (by decide) ?_
      have hz := Option.some.inj hf; subst hz
      exact g_iret hc (hR _ hK) dX7_shift_16
theorem c_X7_shift {l : Launch} {D : va_G} {dA : Nat → ClassId} {ad : Nat → Nat} {tl : va_W}  {σ : (Nat → Nat → Int32)} {l1 : Int32} {l2 : Int32}  {o : Int32 × (Nat → Nat → Int32)} (hf : f_X7_shift σ l1 l2 = some o) : gI l D dA (MW dA ad σ ++ tl) (MW dA ad o.2 ++ tl) [.ref (ad 0), .int l1, .int l2] o.1 yX7_shift (ws_ yX7_shift cX7_shift 3 (some .int)) ({ frames := 2, cells := 0, slots := 0, locals := 46 } : Room) :=
  g_startI (own := RX7) ⟨rfl, rfl⟩ (by decide) rfl (Nat.le_of_ble_eq_true rfl) (fun x e hc hR => by
    subst e
    exact w_X7_shift hc σ l1 l2  (K := fun o1 => o1 = o) hf rfl (by rintro _ rfl; exact hR))
theorem hd_X7_shift : yX7_shift.cls = RX7 ∧ yX7_shift.cls ≠ "java/lang/invoke/MethodHandle" ∧ yX7_shift.cls ≠ "java/lang/invoke/VarHandle" ∧ (parseMethodDescriptor yX7_shift.desc).map (fun d => d.parameters.length) = some 2 := by decide +kernel
/-! HedgehogLotsModel.rag(II)I -/
def f_X7_rag_b21 (σ : (Nat → Nat → Int32)) (l1 : Int32) (l2 : Int32) (k2 : Int32) : Option (Int32 × (Nat → Nat → Int32)) :=
  oB (f_X7_puts σ k2 (7 + l1) l2) fun r2 => some (r2.1, r2.2)
theorem w_X7_rag_b21 {x : gX} {ad : Nat → Nat} {tl : va_W}  (hc : gOk x RX7 cX7_rag 3 2 46)  (σ : (Nat → Nat → Int32)) (l1 : Int32) (l2 : Int32) (k2 : Int32)  {K : Int32 × (Nat → Nat → Int32) → Prop} {o : Int32 × (Nat → Nat → Int32)} (hf : f_X7_rag_b21 σ l1 l2 k2 = some o) (hK : K o) (hR : ∀ o : Int32 × (Nat → Nat → Int32), K o → gRi x 0 0 (MW x.dA ad o.2 ++ tl) o.1) : gG x 3 0 0 (MW x.dA ad σ ++ tl) 21 [(1, .int l1), (2, .int l2)] [.int k2, .ref (ad 0)] := by
  unfold f_X7_rag_b21 at hf
  refine g_bipush (v := 7) hc dX7_rag_21 (by decide) ?_
  refine g_iload_n hc dX7_rag_23 rfl 0 rfl ?_
  refine g_iadd hc dX7_rag_24 ?_
  refine g_iload_n hc dX7_rag_25 rfl 1 rfl ?_
  obtain ⟨r2, h1, hf⟩ := oB_some hf
  refine g_callVi hc [.int k2, .int (7 + l1), .int l2] [] (c_X7_puts  h1) (MW_at (k := 0) (by decide)) rfl (lw_V q1186 q1188 qs51 q67 q1189) rfl hd_X7_puts rfl rfl (Nat.le_of_ble_eq_true rfl) gZ dX7_rag_26 ?_
  have hz := Option.some.inj hf; subst hz
  exact g_iret hc (hR _ hK) dX7_rag_29
def f_X7_rag_b20 (σ : (Nat → Nat → Int32)) (l1 : Int32) (l2 : Int32) : Option (Int32 × (Nat → Nat → Int32)) :=
  f_X7_rag_b21 σ l1 l2 0
theorem w_X7_rag_b20 {x : gX} {ad : Nat → Nat} {tl : va_W}  (hc : gOk x RX7 cX7_rag 3 2 46)  (σ : (Nat → Nat → Int32)) (l1 : Int32) (l2 : Int32)  {K : Int32 × (Nat → Nat → Int32) → Prop} {o : Int32 × (Nat → Nat → Int32)} (hf : f_X7_rag_b20 σ l1 l2 = some o) (hK : K o) (hR : ∀ o : Int32 × (Nat → Nat → Int32), K o → gRi x 0 0 (MW x.dA ad o.2 ++ tl) o.1) : gG x 3 0 0 (MW x.dA ad σ ++ tl) 20 [(1, .int l1), (2, .int l2)] [.ref (ad 0)] := by
  unfold f_X7_rag_b20 at hf
  refine g_iconst (v := 0) hc dX7_rag_20 (by decide) ?_
  exact g_lv [0, 1] rfl (w_X7_rag_b21 hc σ l1 l2 0  (K := K) hf hK hR)
def f_X7_rag (σ : (Nat → Nat → Int32)) (l1 : Int32) (l2 : Int32) : Option (Int32 × (Nat → Nat → Int32)) :=
  oB (f_X7_isPeg σ l1) fun r2 => if r2 = 0 then (f_X7_rag_b20 σ l1 l2) else (oB (f_X7_isRag l2) fun r5 => if r5 = 0 then (f_X7_rag_b20 σ l1 l2) else (f_X7_rag_b21 σ l1 l2 1))
theorem w_X7_rag {x : gX} {ad : Nat → Nat} {tl : va_W}  (hc : gOk x RX7 cX7_rag 3 2 46)  (σ : (Nat → Nat → Int32)) (l1 : Int32) (l2 : Int32)  {K : Int32 × (Nat → Nat → Int32) → Prop} {o : Int32 × (Nat → Nat → Int32)} (hf : f_X7_rag σ l1 l2 = some o) (hK : K o) (hR : ∀ o : Int32 × (Nat → Nat → Int32), K o → gRi x 0 0 (MW x.dA ad o.2 ++ tl) o.1) : gG x 3 0 0 (MW x.dA ad σ ++ tl) 0 [(0, .ref (ad 0)), (1, .int l1), (2, .int l2)] [] := by
  unfold f_X7_rag at hf
  refine g_aload_n hc dX7_rag_0 rfl 0 rfl ?_
  refine g_aload_n hc dX7_rag_1 rfl 0 rfl ?_
  refine g_iload_n hc dX7_rag_2 rfl 1 rfl ?_
  obtain ⟨r2, h1, hf⟩ := oB_some hf
  refine g_callVi hc [.int l1] [.ref (ad 0)] (c_X7_isPeg  h1) (MW_at (k := 0) (by decide)) rfl (lw_V q1149 q1151 qs47 q67 q1152) rfl hd_X7_isPeg rfl rfl (Nat.le_of_ble_eq_true rfl) gZ dX7_rag_3 ?_
  refine g_if_eq (tgt := 20) hc dX7_rag_6 (by decide) (fun h3 => ?_) (fun h3 => ?_)
  · have hf := oT h3 hf
    exact g_lv [1, 2] rfl (w_X7_rag_b20 hc σ l1 l2  (K := K) hf hK hR)
  · have hf := oF h3 hf
    refine g_iload_n hc dX7_rag_9 rfl 2 rfl ?_
    obtain ⟨r5, h4, hf⟩ := oB_some hf
    refine g_callSi hc [.int l2] [.ref (ad 0)] (c_X7_isRag  h4) (lw_S q1194 q1195 q67 q1196) rfl hd_X7_isRag rfl rfl (Nat.le_of_ble_eq_true rfl) gZ dX7_rag_10 ?_
    refine g_if_eq (tgt := 20) hc dX7_rag_13 (by decide) (fun h6 => ?_) (fun h6 => ?_)
    · have hf := oT h6 hf
      exact g_lv [1, 2] rfl (w_X7_rag_b20 hc σ l1 l2  (K := K) hf hK hR)
    · have hf := oF h6 hf
      refine g_iconst (v := 1) hc dX7_rag_16 (by decide) ?_
      refine g_goto (tgt := 21) hc dX7_rag_17 (by decide) ?_
      exact g_lv [1, 2] rfl (w_X7_rag_b21 hc σ l1 l2 1  (K := K) hf hK hR)
theorem c_X7_rag {l : Launch} {D : va_G} {dA : Nat → ClassId} {ad : Nat → Nat} {tl : va_W}  {σ : (Nat → Nat → Int32)} {l1 : Int32} {l2 : Int32}  {o : Int32 × (Nat → Nat → Int32)} (hf : f_X7_rag σ l1 l2 = some o) : gI l D dA (MW dA ad σ ++ tl) (MW dA ad o.2 ++ tl) [.ref (ad 0), .int l1, .int l2] o.1 yX7_rag (ws_ yX7_rag cX7_rag 3 (some .int)) ({ frames := 2, cells := 0, slots := 0, locals := 46 } : Room) :=
  g_startI (own := RX7) ⟨rfl, rfl⟩ (by decide) rfl (Nat.le_of_ble_eq_true rfl) (fun x e hc hR => by
    subst e
    exact w_X7_rag hc σ l1 l2  (K := fun o1 => o1 = o) hf rfl (by rintro _ rfl; exact hR))
theorem hd_X7_rag : yX7_rag.cls = RX7 ∧ yX7_rag.cls ≠ "java/lang/invoke/MethodHandle" ∧ yX7_rag.cls ≠ "java/lang/invoke/VarHandle" ∧ (parseMethodDescriptor yX7_rag.desc).map (fun d => d.parameters.length) = some 2 := by decide +kernel
/-! HedgehogLotsModel.alter(III)I -/
def f_X7_alter_b59 (σ : (Nat → Nat → Int32)) (l1 : Int32) (l2 : Int32) (l3 : Int32) (k2 : Int32) : Option (Int32 × (Nat → Nat → Int32)) :=
  oB (f_X7_puts σ k2 ((18 + (4 * l2)) + l1) l3) fun r2 => some (r2.1, r2.2)
theorem w_X7_alter_b59 {x : gX} {ad : Nat → Nat} {tl : va_W}  (hc : gOk x RX7 cX7_alter 5 2 46)  (σ : (Nat → Nat → Int32)) (l1 : Int32) (l2 : Int32) (l3 : Int32) (k2 : Int32)  {K : Int32 × (Nat → Nat → Int32) → Prop} {o : Int32 × (Nat → Nat → Int32)} (hf : f_X7_alter_b59 σ l1 l2 l3 k2 = some o) (hK : K o) (hR : ∀ o : Int32 × (Nat → Nat → Int32), K o → gRi x 0 0 (MW x.dA ad o.2 ++ tl) o.1) : gG x 5 0 0 (MW x.dA ad σ ++ tl) 59 [(1, .int l1), (2, .int l2), (3, .int l3)] [.int k2, .ref (ad 0)] := by
  unfold f_X7_alter_b59 at hf
  refine g_bipush (v := 18) hc dX7_alter_59 (by decide) ?_
  refine g_iconst (v := 4) hc dX7_alter_61 (by decide) ?_
  refine g_iload_n hc dX7_alter_62 rfl 1 rfl ?_
  refine g_imul hc dX7_alter_63 ?_
  refine g_iadd hc dX7_alter_64 ?_
  refine g_iload_n hc dX7_alter_65 rfl 0 rfl ?_
  refine g_iadd hc dX7_alter_66 ?_
  refine g_iload_n hc dX7_alter_67 rfl 2 rfl ?_
  obtain ⟨r2, h1, hf⟩ := oB_some hf
  refine g_callVi hc [.int k2, .int ((18 + (4 * l2)) + l1), .int l3] [] (c_X7_puts  h1) (MW_at (k := 0) (by decide)) rfl (lw_V q1186 q1188 qs51 q67 q1189) rfl hd_X7_puts rfl rfl (Nat.le_of_ble_eq_true rfl) gZ dX7_alter_68 ?_
  have hz := Option.some.inj hf; subst hz
  exact g_iret hc (hR _ hK) dX7_alter_71
def f_X7_alter_b58 (σ : (Nat → Nat → Int32)) (l1 : Int32) (l2 : Int32) (l3 : Int32) : Option (Int32 × (Nat → Nat → Int32)) :=
  f_X7_alter_b59 σ l1 l2 l3 0
theorem w_X7_alter_b58 {x : gX} {ad : Nat → Nat} {tl : va_W}  (hc : gOk x RX7 cX7_alter 5 2 46)  (σ : (Nat → Nat → Int32)) (l1 : Int32) (l2 : Int32) (l3 : Int32)  {K : Int32 × (Nat → Nat → Int32) → Prop} {o : Int32 × (Nat → Nat → Int32)} (hf : f_X7_alter_b58 σ l1 l2 l3 = some o) (hK : K o) (hR : ∀ o : Int32 × (Nat → Nat → Int32), K o → gRi x 0 0 (MW x.dA ad o.2 ++ tl) o.1) : gG x 5 0 0 (MW x.dA ad σ ++ tl) 58 [(1, .int l1), (2, .int l2), (3, .int l3)] [.ref (ad 0)] := by
  unfold f_X7_alter_b58 at hf
  refine g_iconst (v := 0) hc dX7_alter_58 (by decide) ?_
  exact g_lv [0, 1, 2] rfl (w_X7_alter_b59 hc σ l1 l2 l3 0  (K := K) hf hK hR)
def f_X7_alter_b38 (σ : (Nat → Nat → Int32)) (l1 : Int32) (l2 : Int32) (l3 : Int32) (k1 : Int32) : Option (Int32 × (Nat → Nat → Int32)) :=
  oB (f_X7_isHog σ l1) fun r2 => if r2 = 0 then (f_X7_alter_b58 σ l1 l2 l3) else (if k1 = 0 then (f_X7_alter_b58 σ l1 l2 l3) else (f_X7_alter_b59 σ l1 l2 l3 1))
theorem w_X7_alter_b38 {x : gX} {ad : Nat → Nat} {tl : va_W}  (hc : gOk x RX7 cX7_alter 5 2 46)  (σ : (Nat → Nat → Int32)) (l1 : Int32) (l2 : Int32) (l3 : Int32) (k1 : Int32)  {K : Int32 × (Nat → Nat → Int32) → Prop} {o : Int32 × (Nat → Nat → Int32)} (hf : f_X7_alter_b38 σ l1 l2 l3 k1 = some o) (hK : K o) (hR : ∀ o : Int32 × (Nat → Nat → Int32), K o → gRi x 0 0 (MW x.dA ad o.2 ++ tl) o.1) : gG x 5 0 0 (MW x.dA ad σ ++ tl) 38 [(0, .ref (ad 0)), (1, .int l1), (2, .int l2), (3, .int l3)] [.int k1] := by
  unfold f_X7_alter_b38 at hf
  refine g_istore (lv' := [(4, .int k1), (0, .ref (ad 0)), (1, .int l1), (2, .int l2), (3, .int l3)]) hc dX7_alter_38 (by decide) rfl ?_
  refine g_aload_n hc dX7_alter_40 rfl 1 rfl ?_
  refine g_aload_n hc dX7_alter_41 rfl 1 rfl ?_
  refine g_iload_n hc dX7_alter_42 rfl 2 rfl ?_
  obtain ⟨r2, h1, hf⟩ := oB_some hf
  refine g_callVi hc [.int l1] [.ref (ad 0)] (c_X7_isHog  h1) (MW_at (k := 0) (by decide)) rfl (lw_V q1162 q1164 qs48 q67 q1165) rfl hd_X7_isHog rfl rfl (Nat.le_of_ble_eq_true rfl) gZ dX7_alter_43 ?_
  refine g_if_eq (tgt := 58) hc dX7_alter_46 (by decide) (fun h3 => ?_) (fun h3 => ?_)
  · have hf := oT h3 hf
    exact g_lv [2, 3, 4] rfl (w_X7_alter_b58 hc σ l1 l2 l3  (K := K) hf hK hR)
  · have hf := oF h3 hf
    refine g_iload hc dX7_alter_49 0 rfl ?_
    refine g_if_eq (tgt := 58) hc dX7_alter_51 (by decide) (fun h4 => ?_) (fun h4 => ?_)
    · have hf := oT h4 hf
      exact g_lv [2, 3, 4] rfl (w_X7_alter_b58 hc σ l1 l2 l3  (K := K) hf hK hR)
    · have hf := oF h4 hf
      refine g_iconst (v := 1) hc dX7_alter_54 (by decide) ?_
      refine g_goto (tgt := 59) hc dX7_alter_55 (by decide) ?_
      exact g_lv [2, 3, 4] rfl (w_X7_alter_b59 hc σ l1 l2 l3 1  (K := K) hf hK hR)
def f_X7_alter_b37 (σ : (Nat → Nat → Int32)) (l1 : Int32) (l2 : Int32) (l3 : Int32) : Option (Int32 × (Nat → Nat → Int32)) :=
  f_X7_alter_b38 σ l1 l2 l3 0
theorem w_X7_alter_b37 {x : gX} {ad : Nat → Nat} {tl : va_W}  (hc : gOk x RX7 cX7_alter 5 2 46)  (σ : (Nat → Nat → Int32)) (l1 : Int32) (l2 : Int32) (l3 : Int32)  {K : Int32 × (Nat → Nat → Int32) → Prop} {o : Int32 × (Nat → Nat → Int32)} (hf : f_X7_alter_b37 σ l1 l2 l3 = some o) (hK : K o) (hR : ∀ o : Int32 × (Nat → Nat → Int32), K o → gRi x 0 0 (MW x.dA ad o.2 ++ tl) o.1) : gG x 5 0 0 (MW x.dA ad σ ++ tl) 37 [(0, .ref (ad 0)), (1, .int l1), (2, .int l2), (3, .int l3)] [] := by
  unfold f_X7_alter_b37 at hf
  refine g_iconst (v := 0) hc dX7_alter_37 (by decide) ?_
  exact g_lv [0, 1, 2, 3] rfl (w_X7_alter_b38 hc σ l1 l2 l3 0  (K := K) hf hK hR)
def f_X7_alter (σ : (Nat → Nat → Int32)) (l1 : Int32) (l2 : Int32) (l3 : Int32) : Option (Int32 × (Nat → Nat → Int32)) :=
  if l2 = 0 then (oB (f_X7_in (Int32.toInt64 l3) 0 3) fun r7 => f_X7_alter_b38 σ l1 l2 l3 r7) else (if l2 = 1 then (oB (f_X7_in (Int32.toInt64 l3) 1 9) fun r4 => if r4 = 0 then (f_X7_alter_b37 σ l1 l2 l3) else (f_X7_alter_b38 σ l1 l2 l3 1)) else (f_X7_alter_b37 σ l1 l2 l3))
theorem w_X7_alter {x : gX} {ad : Nat → Nat} {tl : va_W}  (hc : gOk x RX7 cX7_alter 5 2 46)  (σ : (Nat → Nat → Int32)) (l1 : Int32) (l2 : Int32) (l3 : Int32)  {K : Int32 × (Nat → Nat → Int32) → Prop} {o : Int32 × (Nat → Nat → Int32)} (hf : f_X7_alter σ l1 l2 l3 = some o) (hK : K o) (hR : ∀ o : Int32 × (Nat → Nat → Int32), K o → gRi x 0 0 (MW x.dA ad o.2 ++ tl) o.1) : gG x 5 0 0 (MW x.dA ad σ ++ tl) 0 [(0, .ref (ad 0)), (1, .int l1), (2, .int l2), (3, .int l3)] [] := by
  unfold f_X7_alter at hf
  refine g_iload_n hc dX7_alter_0 rfl 2 rfl ?_
  refine g_if_ne (tgt := 16) hc dX7_alter_1 (by decide) (fun h1 => ?_) (fun h1 => ?_)
  · have hf := oF h1 hf
    refine g_iload_n hc dX7_alter_16 rfl 2 rfl ?_
    refine g_iconst (v := 1) hc dX7_alter_17 (by decide) ?_
    refine g_icmp_ne (tgt := 37) hc dX7_alter_18 (by decide) (fun h2 => ?_) (fun h2 => ?_)
    · have hf := oF h2 hf
      exact g_lv [0, 1, 2, 3] rfl (w_X7_alter_b37 hc σ l1 l2 l3  (K := K) hf hK hR)
    · have hf := oT h2 hf
      refine g_iload_n hc dX7_alter_21 rfl 3 rfl ?_
      refine g_i2l hc dX7_alter_22 ?_
      refine g_lconst (v := 1) hc dX7_alter_23 (by decide) ?_
      refine g_ldc2 (v := 9) hc q1201 dX7_alter_24 ?_
      obtain ⟨r4, h3, hf⟩ := oB_some hf
      refine g_callSi hc [.long (Int32.toInt64 l3), .long 1, .long 9] [] (c_X7_in  h3) (lw_S q1055 q1056 q67 q1057) rfl hd_X7_in rfl rfl (Nat.le_of_ble_eq_true rfl) gZ dX7_alter_27 ?_
      refine g_if_eq (tgt := 37) hc dX7_alter_30 (by decide) (fun h5 => ?_) (fun h5 => ?_)
      · have hf := oT h5 hf
        exact g_lv [0, 1, 2, 3] rfl (w_X7_alter_b37 hc σ l1 l2 l3  (K := K) hf hK hR)
      · have hf := oF h5 hf
        refine g_iconst (v := 1) hc dX7_alter_33 (by decide) ?_
        refine g_goto (tgt := 38) hc dX7_alter_34 (by decide) ?_
        exact g_lv [0, 1, 2, 3] rfl (w_X7_alter_b38 hc σ l1 l2 l3 1  (K := K) hf hK hR)
  · have hf := oT h1 hf
    refine g_iload_n hc dX7_alter_4 rfl 3 rfl ?_
    refine g_i2l hc dX7_alter_5 ?_
    refine g_lconst (v := 0) hc dX7_alter_6 (by decide) ?_
    refine g_ldc2 (v := 3) hc q1166 dX7_alter_7 ?_
    obtain ⟨r7, h6, hf⟩ := oB_some hf
    refine g_callSi hc [.long (Int32.toInt64 l3), .long 0, .long 3] [] (c_X7_in  h6) (lw_S q1055 q1056 q67 q1057) rfl hd_X7_in rfl rfl (Nat.le_of_ble_eq_true rfl) gZ dX7_alter_10 ?_
    refine g_goto (tgt := 38) hc dX7_alter_13 (by decide) ?_
    exact g_lv [0, 1, 2, 3] rfl (w_X7_alter_b38 hc σ l1 l2 l3 r7  (K := K) hf hK hR)
theorem c_X7_alter {l : Launch} {D : va_G} {dA : Nat → ClassId} {ad : Nat → Nat} {tl : va_W}  {σ : (Nat → Nat → Int32)} {l1 : Int32} {l2 : Int32} {l3 : Int32}  {o : Int32 × (Nat → Nat → Int32)} (hf : f_X7_alter σ l1 l2 l3 = some o) : gI l D dA (MW dA ad σ ++ tl) (MW dA ad o.2 ++ tl) [.ref (ad 0), .int l1, .int l2, .int l3] o.1 yX7_alter (ws_ yX7_alter cX7_alter 5 (some .int)) ({ frames := 2, cells := 0, slots := 0, locals := 46 } : Room) :=
  g_startI (own := RX7) ⟨rfl, rfl⟩ (by decide) rfl (Nat.le_of_ble_eq_true rfl) (fun x e hc hR => by
    subst e
    exact w_X7_alter hc σ l1 l2 l3  (K := fun o1 => o1 = o) hf rfl (by rintro _ rfl; exact hR))
theorem hd_X7_alter : yX7_alter.cls = RX7 ∧ yX7_alter.cls ≠ "java/lang/invoke/MethodHandle" ∧ yX7_alter.cls ≠ "java/lang/invoke/VarHandle" ∧ (parseMethodDescriptor yX7_alter.desc).map (fun d => d.parameters.length) = some 3 := by decide +kernel
/-! HedgehogLotsModel.drivesOn(III)V -/
def f_X7_drivesOn (σ : (Nat → Nat → Int32)) (l1 : Int32) (l2 : Int32) (l3 : Int32) : Option ((Nat → Nat → Int32)) :=
  oC (inb (l1 + 38) 205) <| oC (inb (l1 + (σ 1 (l1 + 38).toNatClampNeg)) 205) <| oL (upd2 σ 1 (l1 + (σ 1 (l1 + 38).toNatClampNeg)).toNatClampNeg l2) fun s2 => oC (inb ((l1 + 7) + (σ 1 (l1 + 38).toNatClampNeg)) 205) <| oL (upd2 s2 1 ((l1 + 7) + (σ 1 (l1 + 38).toNatClampNeg)).toNatClampNeg l3) fun s5 => oC (inb (l1 + 38) 205) <| oC (inb (l1 + 38) 205) <| oL (upd2 s5 1 (l1 + 38).toNatClampNeg ((s5 1 (l1 + 38).toNatClampNeg) + 1)) fun s9 => some s9
theorem w_X7_drivesOn {x : gX} {ad : Nat → Nat} {tl : va_W}  (hc : gOk x RX7 cX7_drivesOn 5 0 0)  (σ : (Nat → Nat → Int32)) (l1 : Int32) (l2 : Int32) (l3 : Int32)  {K : (Nat → Nat → Int32) → Prop} {o : (Nat → Nat → Int32)} (hf : f_X7_drivesOn σ l1 l2 l3 = some o) (hK : K o) (hR : ∀ o : (Nat → Nat → Int32), K o → gRv x 0 0 (MW x.dA ad o ++ tl)) : gG x 5 0 0 (MW x.dA ad σ ++ tl) 0 [(0, .ref (ad 0)), (1, .int l1), (2, .int l2), (3, .int l3)] [] := by
  unfold f_X7_drivesOn at hf
  refine g_aload_n hc dX7_drivesOn_0 rfl 0 rfl ?_
  refine g_get (v := .ref (ad 1)) hc in_X7 (MW_at (k := 0) (by decide)) rfl 0 (by decide) q961 rfl dX7_drivesOn_1 ?_
  refine g_iload_n hc dX7_drivesOn_4 rfl 1 rfl ?_
  refine g_bipush (v := 38) hc dX7_drivesOn_5 (by decide) ?_
  refine g_iadd hc dX7_drivesOn_7 ?_
  obtain ⟨h1, hf⟩ := oC_some hf
  refine g_iald (n := 205) (f := σ 1) hc (MW_at (k := 1) (by decide)) h1 dX7_drivesOn_8 ?_
  refine g_istore (lv' := [(4, .int (σ 1 (l1 + 38).toNatClampNeg)), (0, .ref (ad 0)), (1, .int l1), (2, .int l2), (3, .int l3)]) hc dX7_drivesOn_9 (by decide) rfl ?_
  refine g_aload_n hc dX7_drivesOn_11 rfl 1 rfl ?_
  refine g_get (v := .ref (ad 1)) hc in_X7 (MW_at (k := 0) (by decide)) rfl 0 (by decide) q961 rfl dX7_drivesOn_12 ?_
  refine g_iload_n hc dX7_drivesOn_15 rfl 2 rfl ?_
  refine g_iload hc dX7_drivesOn_16 0 rfl ?_
  refine g_iadd hc dX7_drivesOn_18 ?_
  refine g_iload_n hc dX7_drivesOn_19 rfl 3 rfl ?_
  obtain ⟨h4, hf⟩ := oC_some hf
  obtain ⟨s2, e3, hf⟩ := oL_some hf
  refine g_iast (n := 205) (f := σ 1) hc (MW_at (k := 1) (by decide)) h4 (MW_set (μ1 := s2) (k := 1) (by decide) e3 rfl) dX7_drivesOn_20 ?_
  refine g_aload_n hc dX7_drivesOn_21 rfl 1 rfl ?_
  refine g_get (v := .ref (ad 1)) hc in_X7 (MW_at (k := 0) (by decide)) rfl 0 (by decide) q961 rfl dX7_drivesOn_22 ?_
  refine g_iload_n hc dX7_drivesOn_25 rfl 2 rfl ?_
  refine g_bipush (v := 7) hc dX7_drivesOn_26 (by decide) ?_
  refine g_iadd hc dX7_drivesOn_28 ?_
  refine g_iload hc dX7_drivesOn_29 0 rfl ?_
  refine g_iadd hc dX7_drivesOn_31 ?_
  refine g_iload_n hc dX7_drivesOn_32 rfl 4 rfl ?_
  obtain ⟨h7, hf⟩ := oC_some hf
  obtain ⟨s5, e6, hf⟩ := oL_some hf
  refine g_iast (n := 205) (f := s2 1) hc (MW_at (k := 1) (by decide)) h7 (MW_set (μ1 := s5) (k := 1) (by decide) e6 rfl) dX7_drivesOn_33 ?_
  refine g_aload_n hc dX7_drivesOn_34 rfl 1 rfl ?_
  refine g_get (v := .ref (ad 1)) hc in_X7 (MW_at (k := 0) (by decide)) rfl 0 (by decide) q961 rfl dX7_drivesOn_35 ?_
  refine g_iload_n hc dX7_drivesOn_38 rfl 2 rfl ?_
  refine g_bipush (v := 38) hc dX7_drivesOn_39 (by decide) ?_
  refine g_iadd hc dX7_drivesOn_41 ?_
  refine g_dup2 hc dX7_drivesOn_42 rfl rfl ?_
  obtain ⟨h8, hf⟩ := oC_some hf
  refine g_iald (n := 205) (f := s5 1) hc (MW_at (k := 1) (by decide)) h8 dX7_drivesOn_43 ?_
  refine g_iconst (v := 1) hc dX7_drivesOn_44 (by decide) ?_
  refine g_iadd hc dX7_drivesOn_45 ?_
  obtain ⟨h11, hf⟩ := oC_some hf
  obtain ⟨s9, e10, hf⟩ := oL_some hf
  refine g_iast (n := 205) (f := s5 1) hc (MW_at (k := 1) (by decide)) h11 (MW_set (μ1 := s9) (k := 1) (by decide) e10 rfl) dX7_drivesOn_46 ?_
  have hz := Option.some.inj hf; subst hz
  exact g_vret hc (hR _ hK) dX7_drivesOn_47
theorem c_X7_drivesOn {l : Launch} {D : va_G} {dA : Nat → ClassId} {ad : Nat → Nat} {tl : va_W}  {σ : (Nat → Nat → Int32)} {l1 : Int32} {l2 : Int32} {l3 : Int32}  {o : (Nat → Nat → Int32)} (hf : f_X7_drivesOn σ l1 l2 l3 = some o) : gV l D dA (MW dA ad σ ++ tl) (MW dA ad o ++ tl) [.ref (ad 0), .int l1, .int l2, .int l3] yX7_drivesOn (ws_ yX7_drivesOn cX7_drivesOn 5 none) ({ frames := 0, cells := 0, slots := 0, locals := 0 } : Room) :=
  g_startV (own := RX7) ⟨rfl, rfl⟩ (by decide) rfl (Nat.le_of_ble_eq_true rfl) (fun x e hc hR => by
    subst e
    exact w_X7_drivesOn hc σ l1 l2 l3  (K := fun o1 => o1 = o) hf rfl (by rintro _ rfl; exact hR))
theorem hd_X7_drivesOn : yX7_drivesOn.cls = RX7 ∧ yX7_drivesOn.cls ≠ "java/lang/invoke/MethodHandle" ∧ yX7_drivesOn.cls ≠ "java/lang/invoke/VarHandle" ∧ (parseMethodDescriptor yX7_drivesOn.desc).map (fun d => d.parameters.length) = some 3 := by decide +kernel
