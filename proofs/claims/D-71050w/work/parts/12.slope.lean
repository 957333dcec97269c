set_option maxRecDepth 100000
/-! HedgehogLots$Slope.pegIn(I)I -/
def f_X5_pegIn_b28 (σ : (Nat → Nat → Int32)) (t : Nat) (l1 : Int32) (l3 : Int32) (k1 : Int32) : Option ((Int32 × Int32) ⊕ (Int32)) :=
  some (.inl (k1, (l3 + 1)))
theorem w_X5_pegIn_b28 {x : gX} {N : Nat} {ad : Nat → Nat} {tl : va_W} {lam : (Nat → Int64)} (hc : gOk x RX5 cX5_pegIn 4 0 0)  (σ : (Nat → Nat → Int32)) (t : Nat) (l1 : Int32) (l3 : Int32) (k1 : Int32) (hN : 36 ≤ N) (ht : gS t N) {K : (Int32 × Int32) ⊕ (Int32) → Prop} {o : (Int32 × Int32) ⊕ (Int32)} (hf : f_X5_pegIn_b28 σ t l1 l3 k1 = some o) (hK : K o) (hI5 : ∀ v : Int32 × Int32, K (.inl v) → gG x 4 0 0 (XW x.dA N ad σ lam ++ tl) 5 [(0, .ref (ad (sb t))), (1, .int l1), (2, .int v.1), (3, .int v.2)] []) (hR : ∀ o : Int32, K (.inr (o)) → gRi x 0 0 (XW x.dA N ad σ lam ++ tl) o) : gG x 4 0 0 (XW x.dA N ad σ lam ++ tl) 28 [(0, .ref (ad (sb t))), (1, .int l1), (3, .int l3)] [.int k1] := by
  unfold f_X5_pegIn_b28 at hf
  refine g_istore_n (lv' := [(2, .int k1), (0, .ref (ad (sb t))), (1, .int l1), (3, .int l3)]) hc dX5_pegIn_28 rfl (by decide) rfl ?_
  refine g_iinc (v := l3 + 1) (lv' := [(3, .int (l3 + 1)), (2, .int k1), (0, .ref (ad (sb t))), (1, .int l1)]) hc dX5_pegIn_29 (j := 3) rfl rfl (by decide) rfl ?_
  refine g_goto (tgt := 5) hc dX5_pegIn_32 (by decide) ?_
  have hz := Option.some.inj hf; subst hz
  exact g_lv [2, 3, 1, 0] rfl (hI5 _ hK)
def f_X5_pegIn_L5 (σ : (Nat → Nat → Int32)) (t : Nat) (l1 : Int32) (l2 : Int32) (l3 : Int32) : Option ((Int32 × Int32) ⊕ (Int32)) :=
  if (σ (sb t) 0) ≤ l3 then (oI (some l2)) else (oC (inb l3 7) <| if (σ (sb t + 1) l3.toNatClampNeg) = l1 then (f_X5_pegIn_b28 σ t l1 l3 l3) else (f_X5_pegIn_b28 σ t l1 l3 l2))
theorem w_X5_pegIn_L5 {x : gX} {N : Nat} {ad : Nat → Nat} {tl : va_W} {lam : (Nat → Int64)} (hc : gOk x RX5 cX5_pegIn 4 0 0)  (σ : (Nat → Nat → Int32)) (t : Nat) (l1 : Int32) (l2 : Int32) (l3 : Int32) (hN : 36 ≤ N) (ht : gS t N) {K : (Int32 × Int32) ⊕ (Int32) → Prop} {o : (Int32 × Int32) ⊕ (Int32)} (hf : f_X5_pegIn_L5 σ t l1 l2 l3 = some o) (hK : K o) (hI5 : ∀ v : Int32 × Int32, K (.inl v) → gG x 4 0 0 (XW x.dA N ad σ lam ++ tl) 5 [(0, .ref (ad (sb t))), (1, .int l1), (2, .int v.1), (3, .int v.2)] []) (hR : ∀ o : Int32, K (.inr (o)) → gRi x 0 0 (XW x.dA N ad σ lam ++ tl) o) : gG x 4 0 0 (XW x.dA N ad σ lam ++ tl) 5 [(0, .ref (ad (sb t))), (1, .int l1), (2, .int l2), (3, .int l3)] [] := by
  unfold f_X5_pegIn_L5 at hf
  refine g_iload_n hc dX5_pegIn_5 rfl 3 rfl ?_
  refine g_aload_n hc dX5_pegIn_6 rfl 0 rfl ?_
  refine g_get (v := .int (σ (sb t) 0)) hc in_X5 (XW_s0 ht) rfl 0 (by decide) q128 rfl dX5_pegIn_7 ?_
  refine g_icmp_ge (tgt := 35) hc dX5_pegIn_10 (by decide) (fun h1 => ?_) (fun h1 => ?_)
  · have hf := oT h1 hf
    obtain ⟨o2, hgo2, eo2⟩ := oI_some hf
    clear hf; subst eo2; have hf := hgo2; clear hgo2
    refine g_iload_n hc dX5_pegIn_35 rfl 2 rfl ?_
    have hz := Option.some.inj hf; subst hz
    exact g_iret hc (hR _ hK) dX5_pegIn_36
  · have hf := oF h1 hf
    refine g_aload_n hc dX5_pegIn_13 rfl 0 rfl ?_
    refine g_get (v := .ref (ad (sb t + 1))) hc in_X5 (XW_s0 ht) rfl 1 (by decide) q131 rfl dX5_pegIn_14 ?_
    refine g_iload_n hc dX5_pegIn_17 rfl 3 rfl ?_
    obtain ⟨h3, hf⟩ := oC_some hf
    refine g_bald (n := 7) (f := σ (sb t + 1)) hc (XW_s1 ht) h3 dX5_pegIn_18 ?_
    refine g_iload_n hc dX5_pegIn_19 rfl 1 rfl ?_
    refine g_icmp_ne (tgt := 27) hc dX5_pegIn_20 (by decide) (fun h4 => ?_) (fun h4 => ?_)
    · have hf := oF h4 hf
      refine g_iload_n hc dX5_pegIn_27 rfl 2 rfl ?_
      exact g_lv [0, 1, 3] rfl (w_X5_pegIn_b28 hc σ t l1 l3 l2 hN ht (K := K) hf hK hI5 hR)
    · have hf := oT h4 hf
      refine g_iload_n hc dX5_pegIn_23 rfl 3 rfl ?_
      refine g_goto (tgt := 28) hc dX5_pegIn_24 (by decide) ?_
      exact g_lv [0, 1, 3] rfl (w_X5_pegIn_b28 hc σ t l1 l3 l3 hN ht (K := K) hf hK hI5 hR)
def f_X5_pegIn_b5 (σ : (Nat → Nat → Int32)) (t : Nat) (l1 : Int32) (l2 : Int32) (l3 : Int32) : Option (Int32) :=
  oLoop gFU (fun v : Int32 × Int32 => f_X5_pegIn_L5 σ t l1 v.1 v.2) (l2, l3)
theorem w_X5_pegIn_b5 {x : gX} {N : Nat} {ad : Nat → Nat} {tl : va_W} {lam : (Nat → Int64)} (hc : gOk x RX5 cX5_pegIn 4 0 0)  (σ : (Nat → Nat → Int32)) (t : Nat) (l1 : Int32) (l2 : Int32) (l3 : Int32) (hN : 36 ≤ N) (ht : gS t N) {K : Int32 → Prop} {o : Int32} (hf : f_X5_pegIn_b5 σ t l1 l2 l3 = some o) (hK : K o) (hR : ∀ o : Int32, K o → gRi x 0 0 (XW x.dA N ad σ lam ++ tl) o) : gG x 4 0 0 (XW x.dA N ad σ lam ++ tl) 5 [(0, .ref (ad (sb t))), (1, .int l1), (2, .int l2), (3, .int l3)] [] :=
  oLoop_ind (fun v : Int32 × Int32 => gG x 4 0 0 (XW x.dA N ad σ lam ++ tl) 5 [(0, .ref (ad (sb t))), (1, .int l1), (2, .int v.1), (3, .int v.2)] []) K (fun v o1 hf1 hK1 => w_X5_pegIn_L5 hc σ t l1 v.1 v.2 hN ht (K := Sum.elim (fun v : Int32 × Int32 => gG x 4 0 0 (XW x.dA N ad σ lam ++ tl) 5 [(0, .ref (ad (sb t))), (1, .int l1), (2, .int v.1), (3, .int v.2)] []) K) hf1 hK1 (fun v hv => hv) hR) gFU _ o hf hK
def f_X5_pegIn (σ : (Nat → Nat → Int32)) (t : Nat) (l1 : Int32) : Option (Int32) :=
  f_X5_pegIn_b5 σ t l1 (-4) 0
theorem w_X5_pegIn {x : gX} {N : Nat} {ad : Nat → Nat} {tl : va_W} {lam : (Nat → Int64)} (hc : gOk x RX5 cX5_pegIn 4 0 0)  (σ : (Nat → Nat → Int32)) (t : Nat) (l1 : Int32) (hN : 36 ≤ N) (ht : gS t N) {K : Int32 → Prop} {o : Int32} (hf : f_X5_pegIn σ t l1 = some o) (hK : K o) (hR : ∀ o : Int32, K o → gRi x 0 0 (XW x.dA N ad σ lam ++ tl) o) : gG x 4 0 0 (XW x.dA N ad σ lam ++ tl) 0 [(0, .ref (ad (sb t))), (1, .int l1)] [] := by
  unfold f_X5_pegIn at hf
  refine g_bipush (v := (-4)) hc dX5_pegIn_0 (by decide) ?_
  refine g_istore_n (lv' := [(2, .int (-4)), (0, .ref (ad (sb t))), (1, .int l1)]) hc dX5_pegIn_2 rfl (by decide) rfl ?_
  refine g_iconst (v := 0) hc dX5_pegIn_3 (by decide) ?_
  refine g_istore_n (lv' := [(3, .int 0), (2, .int (-4)), (0, .ref (ad (sb t))), (1, .int l1)]) hc dX5_pegIn_4 rfl (by decide) rfl ?_
  exact g_lv [2, 3, 1, 0] rfl (w_X5_pegIn_b5 hc σ t l1 (-4) 0 hN ht (K := K) hf hK hR)
theorem c_X5_pegIn {l : Launch} {D : va_G} {dA : Nat → ClassId} {N : Nat} {ad : Nat → Nat} {tl : va_W} {lam : (Nat → Int64)} {σ : (Nat → Nat → Int32)} {t : Nat} {l1 : Int32} (hN : 36 ≤ N) (ht : gS t N) {o : Int32} (hf : f_X5_pegIn σ t l1 = some o) : gI l D dA (XW dA N ad σ lam ++ tl) (XW dA N ad σ lam ++ tl) [.ref (ad (sb t)), .int l1] o yX5_pegIn (ws_ yX5_pegIn cX5_pegIn 4 (some .int)) ({ frames := 0, cells := 0, slots := 0, locals := 0 } : Room) :=
  g_startI (own := RX5) ⟨rfl, rfl⟩ (by decide) rfl (Nat.le_of_ble_eq_true rfl) (fun x e hc hR => by
    subst e
    exact w_X5_pegIn hc σ t l1 hN ht (K := fun o1 => o1 = o) hf rfl (by rintro _ rfl; exact hR))
theorem hd_X5_pegIn : yX5_pegIn.cls = RX5 ∧ yX5_pegIn.cls ≠ "java/lang/invoke/MethodHandle" ∧ yX5_pegIn.cls ≠ "java/lang/invoke/VarHandle" ∧ (parseMethodDescriptor yX5_pegIn.desc).map (fun d => d.parameters.length) = some 1 := by decide +kernel
/-! HedgehogLots$Slope.isSlugIn(I)Z -/
def f_X5_isSlugIn_b28 (σ : (Nat → Nat → Int32)) (t : Nat) (l1 : Int32) (l3 : Int32) (k2 : Int32) (k1 : Int32) : Option ((Int32 × Int32) ⊕ (Int32)) :=
  some (.inl ((k1 ||| k2), (l3 + 1)))
theorem w_X5_isSlugIn_b28 {x : gX} {N : Nat} {ad : Nat → Nat} {tl : va_W} {lam : (Nat → Int64)} (hc : gOk x RX5 cX5_isSlugIn 4 0 0)  (σ : (Nat → Nat → Int32)) (t : Nat) (l1 : Int32) (l3 : Int32) (k2 : Int32) (k1 : Int32) (hN : 36 ≤ N) (ht : gS t N) {K : (Int32 × Int32) ⊕ (Int32) → Prop} {o : (Int32 × Int32) ⊕ (Int32)} (hf : f_X5_isSlugIn_b28 σ t l1 l3 k2 k1 = some o) (hK : K o) (hI4 : ∀ v : Int32 × Int32, K (.inl v) → gG x 4 0 0 (XW x.dA N ad σ lam ++ tl) 4 [(0, .ref (ad (sb t))), (1, .int l1), (2, .int v.1), (3, .int v.2)] []) (hR : ∀ o : Int32, K (.inr (o)) → gRz x 0 0 (XW x.dA N ad σ lam ++ tl) o) : gG x 4 0 0 (XW x.dA N ad σ lam ++ tl) 28 [(0, .ref (ad (sb t))), (1, .int l1), (3, .int l3)] [.int k2, .int k1] := by
  unfold f_X5_isSlugIn_b28 at hf
  refine g_ior hc dX5_isSlugIn_28 ?_
  refine g_istore_n (lv' := [(2, .int (k1 ||| k2)), (0, .ref (ad (sb t))), (1, .int l1), (3, .int l3)]) hc dX5_isSlugIn_29 rfl (by decide) rfl ?_
  refine g_iinc (v := l3 + 1) (lv' := [(3, .int (l3 + 1)), (2, .int (k1 ||| k2)), (0, .ref (ad (sb t))), (1, .int l1)]) hc dX5_isSlugIn_30 (j := 3) rfl rfl (by decide) rfl ?_
  refine g_goto (tgt := 4) hc dX5_isSlugIn_33 (by decide) ?_
  have hz := Option.some.inj hf; subst hz
  exact g_lv [2, 3, 1, 0] rfl (hI4 _ hK)
def f_X5_isSlugIn_L4 (σ : (Nat → Nat → Int32)) (t : Nat) (l1 : Int32) (l2 : Int32) (l3 : Int32) : Option ((Int32 × Int32) ⊕ (Int32)) :=
  if (σ (sb t) 3) ≤ l3 then (oI (oC (isB l2) <| some l2)) else (oC (inb l3 4) <| if (σ (sb t + 3) l3.toNatClampNeg) = l1 then (f_X5_isSlugIn_b28 σ t l1 l3 1 l2) else (f_X5_isSlugIn_b28 σ t l1 l3 0 l2))
theorem w_X5_isSlugIn_L4 {x : gX} {N : Nat} {ad : Nat → Nat} {tl : va_W} {lam : (Nat → Int64)} (hc : gOk x RX5 cX5_isSlugIn 4 0 0)  (σ : (Nat → Nat → Int32)) (t : Nat) (l1 : Int32) (l2 : Int32) (l3 : Int32) (hN : 36 ≤ N) (ht : gS t N) {K : (Int32 × Int32) ⊕ (Int32) → Prop} {o : (Int32 × Int32) ⊕ (Int32)} (hf : f_X5_isSlugIn_L4 σ t l1 l2 l3 = some o) (hK : K o) (hI4 : ∀ v : Int32 × Int32, K (.inl v) → gG x 4 0 0 (XW x.dA N ad σ lam ++ tl) 4 [(0, .ref (ad (sb t))), (1, .int l1), (2, .int v.1), (3, .int v.2)] []) (hR : ∀ o : Int32, K (.inr (o)) → gRz x 0 0 (XW x.dA N ad σ lam ++ tl) o) : gG x 4 0 0 (XW x.dA N ad σ lam ++ tl) 4 [(0, .ref (ad (sb t))), (1, .int l1), (2, .int l2), (3, .int l3)] [] := by
  unfold f_X5_isSlugIn_L4 at hf
  refine g_iload_n hc dX5_isSlugIn_4 rfl 3 rfl ?_
  refine g_aload_n hc dX5_isSlugIn_5 rfl 0 rfl ?_
  refine g_get (v := .int (σ (sb t) 3)) hc in_X5 (XW_s0 ht) rfl 3 (by decide) q135 rfl dX5_isSlugIn_6 ?_
  refine g_icmp_ge (tgt := 36) hc dX5_isSlugIn_9 (by decide) (fun h1 => ?_) (fun h1 => ?_)
  · have hf := oT h1 hf
    obtain ⟨o3, hgo3, eo3⟩ := oI_some hf
    clear hf; subst eo3; have hf := hgo3; clear hgo3
    refine g_iload_n hc dX5_isSlugIn_36 rfl 2 rfl ?_
    obtain ⟨h2, hf⟩ := oC_some hf
    have hz := Option.some.inj hf; subst hz
    exact g_zret hc (hR _ hK) (isB_nar h2) dX5_isSlugIn_37
  · have hf := oF h1 hf
    refine g_iload_n hc dX5_isSlugIn_12 rfl 2 rfl ?_
    refine g_aload_n hc dX5_isSlugIn_13 rfl 0 rfl ?_
    refine g_get (v := .ref (ad (sb t + 3))) hc in_X5 (XW_s0 ht) rfl 4 (by decide) q138 rfl dX5_isSlugIn_14 ?_
    refine g_iload_n hc dX5_isSlugIn_17 rfl 3 rfl ?_
    obtain ⟨h4, hf⟩ := oC_some hf
    refine g_bald (n := 4) (f := σ (sb t + 3)) hc (XW_s3 ht) h4 dX5_isSlugIn_18 ?_
    refine g_iload_n hc dX5_isSlugIn_19 rfl 1 rfl ?_
    refine g_icmp_ne (tgt := 27) hc dX5_isSlugIn_20 (by decide) (fun h5 => ?_) (fun h5 => ?_)
    · have hf := oF h5 hf
      refine g_iconst (v := 0) hc dX5_isSlugIn_27 (by decide) ?_
      exact g_lv [0, 1, 3] rfl (w_X5_isSlugIn_b28 hc σ t l1 l3 0 l2 hN ht (K := K) hf hK hI4 hR)
    · have hf := oT h5 hf
      refine g_iconst (v := 1) hc dX5_isSlugIn_23 (by decide) ?_
      refine g_goto (tgt := 28) hc dX5_isSlugIn_24 (by decide) ?_
      exact g_lv [0, 1, 3] rfl (w_X5_isSlugIn_b28 hc σ t l1 l3 1 l2 hN ht (K := K) hf hK hI4 hR)
def f_X5_isSlugIn_b4 (σ : (Nat → Nat → Int32)) (t : Nat) (l1 : Int32) (l2 : Int32) (l3 : Int32) : Option (Int32) :=
  oLoop gFU (fun v : Int32 × Int32 => f_X5_isSlugIn_L4 σ t l1 v.1 v.2) (l2, l3)
theorem w_X5_isSlugIn_b4 {x : gX} {N : Nat} {ad : Nat → Nat} {tl : va_W} {lam : (Nat → Int64)} (hc : gOk x RX5 cX5_isSlugIn 4 0 0)  (σ : (Nat → Nat → Int32)) (t : Nat) (l1 : Int32) (l2 : Int32) (l3 : Int32) (hN : 36 ≤ N) (ht : gS t N) {K : Int32 → Prop} {o : Int32} (hf : f_X5_isSlugIn_b4 σ t l1 l2 l3 = some o) (hK : K o) (hR : ∀ o : Int32, K o → gRz x 0 0 (XW x.dA N ad σ lam ++ tl) o) : gG x 4 0 0 (XW x.dA N ad σ lam ++ tl) 4 [(0, .ref (ad (sb t))), (1, .int l1), (2, .int l2), (3, .int l3)] [] :=
  oLoop_ind (fun v : Int32 × Int32 => gG x 4 0 0 (XW x.dA N ad σ lam ++ tl) 4 [(0, .ref (ad (sb t))), (1, .int l1), (2, .int v.1), (3, .int v.2)] []) K (fun v o1 hf1 hK1 => w_X5_isSlugIn_L4 hc σ t l1 v.1 v.2 hN ht (K := Sum.elim (fun v : Int32 × Int32 => gG x 4 0 0 (XW x.dA N ad σ lam ++ tl) 4 [(0, .ref (ad (sb t))), (1, .int l1), (2, .int v.1), (3, .int v.2)] []) K) hf1 hK1 (fun v hv => hv) hR) gFU _ o hf hK
def f_X5_isSlugIn (σ : (Nat → Nat → Int32)) (t : Nat) (l1 : Int32) : Option (Int32) :=
  f_X5_isSlugIn_b4 σ t l1 0 0
theorem w_X5_isSlugIn {x : gX} {N : Nat} {ad : Nat → Nat} {tl : va_W} {lam : (Nat → Int64)} (hc : gOk x RX5 cX5_isSlugIn 4 0 0)  (σ : (Nat → Nat → Int32)) (t : Nat) (l1 : Int32) (hN : 36 ≤ N) (ht : gS t N) {K : Int32 → Prop} {o : Int32} (hf : f_X5_isSlugIn σ t l1 = some o) (hK : K o) (hR : ∀ o : Int32, K o → gRz x 0 0 (XW x.dA N ad σ lam ++ tl) o) : gG x 4 0 0 (XW x.dA N ad σ lam ++ tl) 0 [(0, .ref (ad (sb t))), (1, .int l1)] [] := by
  unfold f_X5_isSlugIn at hf
  refine g_iconst (v := 0) hc dX5_isSlugIn_0 (by decide) ?_
  refine g_istore_n (lv' := [(2, .int 0), (0, .ref (ad (sb t))), (1, .int l1)]) hc dX5_isSlugIn_1 rfl (by decide) rfl ?_
  refine g_iconst (v := 0) hc dX5_isSlugIn_2 (by decide) ?_
  refine g_istore_n (lv' := [(3, .int 0), (2, .int 0), (0, .ref (ad (sb t))), (1, .int l1)]) hc dX5_isSlugIn_3 rfl (by decide) rfl ?_
  exact g_lv [2, 3, 1, 0] rfl (w_X5_isSlugIn_b4 hc σ t l1 0 0 hN ht (K := K) hf hK hR)
theorem c_X5_isSlugIn {l : Launch} {D : va_G} {dA : Nat → ClassId} {N : Nat} {ad : Nat → Nat} {tl : va_W} {lam : (Nat → Int64)} {σ : (Nat → Nat → Int32)} {t : Nat} {l1 : Int32} (hN : 36 ≤ N) (ht : gS t N) {o : Int32} (hf : f_X5_isSlugIn σ t l1 = some o) : gI l D dA (XW dA N ad σ lam ++ tl) (XW dA N ad σ lam ++ tl) [.ref (ad (sb t)), .int l1] o yX5_isSlugIn (ws_ yX5_isSlugIn cX5_isSlugIn 4 (some .boolean)) ({ frames := 0, cells := 0, slots := 0, locals := 0 } : Room) :=
  g_startZ (own := RX5) ⟨rfl, rfl⟩ (by decide) rfl (Nat.le_of_ble_eq_true rfl) (fun x e hc hR => by
    subst e
    exact w_X5_isSlugIn hc σ t l1 hN ht (K := fun o1 => o1 = o) hf rfl (by rintro _ rfl; exact hR))
theorem hd_X5_isSlugIn : yX5_isSlugIn.cls = RX5 ∧ yX5_isSlugIn.cls ≠ "java/lang/invoke/MethodHandle" ∧ yX5_isSlugIn.cls ≠ "java/lang/invoke/VarHandle" ∧ (parseMethodDescriptor yX5_isSlugIn.desc).map (fun d => d.parameters.length) = some 1 := by decide +kernel
/-! HedgehogLots$Slope.isFree(I)Z -/
def f_X5_isFree (σ : (Nat → Nat → Int32)) (t : Nat) (l1 : Int32) : Option (Int32) :=
  oB (f_X5_pegIn σ t l1) fun r2 => if r2 = (-4) then (oB (f_X5_isSlugIn σ t l1) fun r5 => if r5 = 0 then (some 1) else (some 0)) else (some 0)
theorem w_X5_isFree {x : gX} {N : Nat} {ad : Nat → Nat} {tl : va_W} {lam : (Nat → Int64)} (hc : gOk x RX5 cX5_isFree 2 1 23)  (σ : (Nat → Nat → Int32)) (t : Nat) (l1 : Int32) (hN : 36 ≤ N) (ht : gS t N) {K : Int32 → Prop} {o : Int32} (hf : f_X5_isFree σ t l1 = some o) (hK : K o) (hR : ∀ o : Int32, K o → gRz x 0 0 (XW x.dA N ad σ lam ++ tl) o) : gG x 2 0 0 (XW x.dA N ad σ lam ++ tl) 0 [(0, .ref (ad (sb t))), (1, .int l1)] [] := by
  unfold f_X5_isFree at hf
  refine g_aload_n hc dX5_isFree_0 rfl 0 rfl ?_
  refine g_iload_n hc dX5_isFree_1 rfl 1 rfl ?_
  obtain ⟨r2, h1, hf⟩ := oB_some hf
  refine g_callVi hc [.int l1] [] (c_X5_pegIn hN ht h1) (XW_s0 ht) rfl (lw_V q493 q494 q495 q65 q496) rfl hd_X5_pegIn rfl rfl (Nat.le_of_ble_eq_true rfl) gZ dX5_isFree_2 ?_
  refine g_bipush (v := (-4)) hc dX5_isFree_5 (by decide) ?_
  refine g_icmp_ne (tgt := 22) hc dX5_isFree_7 (by decide) (fun h3 => ?_) (fun h3 => ?_)
  · have hf := oF h3 hf
    refine g_iconst (v := 0) hc dX5_isFree_22 (by decide) ?_
    have hz := Option.some.inj hf; subst hz
    exact g_zret hc (hR _ hK) rfl dX5_isFree_23
  · have hf := oT h3 hf
    refine g_aload_n hc dX5_isFree_10 rfl 0 rfl ?_
    refine g_iload_n hc dX5_isFree_11 rfl 1 rfl ?_
    obtain ⟨r5, h4, hf⟩ := oB_some hf
    refine g_callVi hc [.int l1] [] (c_X5_isSlugIn hN ht h4) (XW_s0 ht) rfl (lw_V q497 q498 q499 q65 q500) rfl hd_X5_isSlugIn rfl rfl (Nat.le_of_ble_eq_true rfl) gZ dX5_isFree_12 ?_
    refine g_if_ne (tgt := 22) hc dX5_isFree_15 (by decide) (fun h6 => ?_) (fun h6 => ?_)
    · have hf := oF h6 hf
      refine g_iconst (v := 0) hc dX5_isFree_22 (by decide) ?_
      have hz := Option.some.inj hf; subst hz
      exact g_zret hc (hR _ hK) rfl dX5_isFree_23
    · have hf := oT h6 hf
      refine g_iconst (v := 1) hc dX5_isFree_18 (by decide) ?_
      refine g_goto (tgt := 23) hc dX5_isFree_19 (by decide) ?_
      have hz := Option.some.inj hf; subst hz
      exact g_zret hc (hR _ hK) rfl dX5_isFree_23
theorem c_X5_isFree {l : Launch} {D : va_G} {dA : Nat → ClassId} {N : Nat} {ad : Nat → Nat} {tl : va_W} {lam : (Nat → Int64)} {σ : (Nat → Nat → Int32)} {t : Nat} {l1 : Int32} (hN : 36 ≤ N) (ht : gS t N) {o : Int32} (hf : f_X5_isFree σ t l1 = some o) : gI l D dA (XW dA N ad σ lam ++ tl) (XW dA N ad σ lam ++ tl) [.ref (ad (sb t)), .int l1] o yX5_isFree (ws_ yX5_isFree cX5_isFree 2 (some .boolean)) ({ frames := 1, cells := 0, slots := 0, locals := 23 } : Room) :=
  g_startZ (own := RX5) ⟨rfl, rfl⟩ (by decide) rfl (Nat.le_of_ble_eq_true rfl) (fun x e hc hR => by
    subst e
    exact w_X5_isFree hc σ t l1 hN ht (K := fun o1 => o1 = o) hf rfl (by rintro _ rfl; exact hR))
theorem hd_X5_isFree : yX5_isFree.cls = RX5 ∧ yX5_isFree.cls ≠ "java/lang/invoke/MethodHandle" ∧ yX5_isFree.cls ≠ "java/lang/invoke/VarHandle" ∧ (parseMethodDescriptor yX5_isFree.desc).map (fun d => d.parameters.length) = some 1 := by decide +kernel
/-! HedgehogLots$Slope.drives(II)V -/
def f_X5_drives (σ : (Nat → Nat → Int32)) (t : Nat) (l1 : Int32) (l2 : Int32) : Option ((Nat → Nat → Int32)) :=
  oC (inb (σ (sb t) 0) 7) <| oL (upd2 σ (sb t + 1) (σ (sb t) 0).toNatClampNeg (nbt (Int8.toInt32 (Int32.toInt8 l1)))) fun s1 => oC (inb (s1 (sb t) 0) 7) <| oL (upd2 s1 (sb t + 2) (s1 (sb t) 0).toNatClampNeg (nbt (Int8.toInt32 (Int32.toInt8 l2)))) fun s4 => oL (upd2 s4 (sb t) 0 ((s4 (sb t) 0) + 1)) fun s7 => some s7
theorem w_X5_drives {x : gX} {N : Nat} {ad : Nat → Nat} {tl : va_W} {lam : (Nat → Int64)} (hc : gOk x RX5 cX5_drives 3 0 0)  (σ : (Nat → Nat → Int32)) (t : Nat) (l1 : Int32) (l2 : Int32) (hN : 36 ≤ N) (ht : gS t N) {K : (Nat → Nat → Int32) → Prop} {o : (Nat → Nat → Int32)} (hf : f_X5_drives σ t l1 l2 = some o) (hK : K o) (hR : ∀ o : (Nat → Nat → Int32), K o → gRv x 0 0 (XW x.dA N ad o lam ++ tl)) : gG x 3 0 0 (XW x.dA N ad σ lam ++ tl) 0 [(0, .ref (ad (sb t))), (1, .int l1), (2, .int l2)] [] := by
  unfold f_X5_drives at hf
  refine g_aload_n hc dX5_drives_0 rfl 0 rfl ?_
  refine g_get (v := .ref (ad (sb t + 1))) hc in_X5 (XW_s0 ht) rfl 1 (by decide) q131 rfl dX5_drives_1 ?_
  refine g_aload_n hc dX5_drives_4 rfl 0 rfl ?_
  refine g_get (v := .int (σ (sb t) 0)) hc in_X5 (XW_s0 ht) rfl 0 (by decide) q128 rfl dX5_drives_5 ?_
  refine g_iload_n hc dX5_drives_8 rfl 1 rfl ?_
  refine g_i2b hc dX5_drives_9 ?_
  obtain ⟨h3, hf⟩ := oC_some hf
  obtain ⟨s1, e2, hf⟩ := oL_some hf
  refine g_bast (n := 7) (f := σ (sb t + 1)) hc (XW_s1 ht) h3 (XW_pa (σ1 := s1) ht (k := 1) (by decide) e2 rfl) dX5_drives_10 ?_
  refine g_aload_n hc dX5_drives_11 rfl 0 rfl ?_
  refine g_get (v := .ref (ad (sb t + 2))) hc in_X5 (XW_s0 ht) rfl 2 (by decide) q133 rfl dX5_drives_12 ?_
  refine g_aload_n hc dX5_drives_15 rfl 0 rfl ?_
  refine g_get (v := .int (s1 (sb t) 0)) hc in_X5 (XW_s0 ht) rfl 0 (by decide) q128 rfl dX5_drives_16 ?_
  refine g_iload_n hc dX5_drives_19 rfl 2 rfl ?_
  refine g_i2b hc dX5_drives_20 ?_
  obtain ⟨h6, hf⟩ := oC_some hf
  obtain ⟨s4, e5, hf⟩ := oL_some hf
  refine g_bast (n := 7) (f := s1 (sb t + 2)) hc (XW_s2 ht) h6 (XW_pa (σ1 := s4) ht (k := 2) (by decide) e5 rfl) dX5_drives_21 ?_
  refine g_aload_n hc dX5_drives_22 rfl 0 rfl ?_
  refine g_dup hc dX5_drives_23 rfl ?_
  refine g_get (v := .int (s4 (sb t) 0)) hc in_X5 (XW_s0 ht) rfl 0 (by decide) q128 rfl dX5_drives_24 ?_
  refine g_iconst (v := 1) hc dX5_drives_27 (by decide) ?_
  refine g_iadd hc dX5_drives_28 ?_
  obtain ⟨s7, e8, hf⟩ := oL_some hf
  refine g_put (v := .int ((s4 (sb t) 0) + 1)) hc in_X5 tyX5_ok nmX5 (XW_s0 ht) rfl 0 (by decide) q128 rfl rfl rfl (Nat.le_of_ble_eq_true rfl) (XW_p0 (σ1 := s7) ht e8 rfl) dX5_drives_29 ?_
  have hz := Option.some.inj hf; subst hz
  exact g_vret hc (hR _ hK) dX5_drives_32
theorem c_X5_drives {l : Launch} {D : va_G} {dA : Nat → ClassId} {N : Nat} {ad : Nat → Nat} {tl : va_W} {lam : (Nat → Int64)} {σ : (Nat → Nat → Int32)} {t : Nat} {l1 : Int32} {l2 : Int32} (hN : 36 ≤ N) (ht : gS t N) {o : (Nat → Nat → Int32)} (hf : f_X5_drives σ t l1 l2 = some o) : gV l D dA (XW dA N ad σ lam ++ tl) (XW dA N ad o lam ++ tl) [.ref (ad (sb t)), .int l1, .int l2] yX5_drives (ws_ yX5_drives cX5_drives 3 none) ({ frames := 0, cells := 0, slots := 0, locals := 0 } : Room) :=
  g_startV (own := RX5) ⟨rfl, rfl⟩ (by decide) rfl (Nat.le_of_ble_eq_true rfl) (fun x e hc hR => by
    subst e
    exact w_X5_drives hc σ t l1 l2 hN ht (K := fun o1 => o1 = o) hf rfl (by rintro _ rfl; exact hR))
theorem hd_X5_drives : yX5_drives.cls = RX5 ∧ yX5_drives.cls ≠ "java/lang/invoke/MethodHandle" ∧ yX5_drives.cls ≠ "java/lang/invoke/VarHandle" ∧ (parseMethodDescriptor yX5_drives.desc).map (fun d => d.parameters.length) = some 2 := by decide +kernel
/-! HedgehogLots$Slope.lays(I)V -/
def f_X5_lays (σ : (Nat → Nat → Int32)) (t : Nat) (l1 : Int32) : Option ((Nat → Nat → Int32)) :=
  oC (inb (σ (sb t) 3) 4) <| oL (upd2 σ (sb t + 3) (σ (sb t) 3).toNatClampNeg (nbt (Int8.toInt32 (Int32.toInt8 l1)))) fun s1 => oL (upd2 s1 (sb t) 3 ((s1 (sb t) 3) + 1)) fun s4 => some s4
theorem w_X5_lays {x : gX} {N : Nat} {ad : Nat → Nat} {tl : va_W} {lam : (Nat → Int64)} (hc : gOk x RX5 cX5_lays 2 0 0)  (σ : (Nat → Nat → Int32)) (t : Nat) (l1 : Int32) (hN : 36 ≤ N) (ht : gS t N) {K : (Nat → Nat → Int32) → Prop} {o : (Nat → Nat → Int32)} (hf : f_X5_lays σ t l1 = some o) (hK : K o) (hR : ∀ o : (Nat → Nat → Int32), K o → gRv x 0 0 (XW x.dA N ad o lam ++ tl)) : gG x 2 0 0 (XW x.dA N ad σ lam ++ tl) 0 [(0, .ref (ad (sb t))), (1, .int l1)] [] := by
  unfold f_X5_lays at hf
  refine g_aload_n hc dX5_lays_0 rfl 0 rfl ?_
  refine g_get (v := .ref (ad (sb t + 3))) hc in_X5 (XW_s0 ht) rfl 4 (by decide) q138 rfl dX5_lays_1 ?_
  refine g_aload_n hc dX5_lays_4 rfl 0 rfl ?_
  refine g_get (v := .int (σ (sb t) 3)) hc in_X5 (XW_s0 ht) rfl 3 (by decide) q135 rfl dX5_lays_5 ?_
  refine g_iload_n hc dX5_lays_8 rfl 1 rfl ?_
  refine g_i2b hc dX5_lays_9 ?_
  obtain ⟨h3, hf⟩ := oC_some hf
  obtain ⟨s1, e2, hf⟩ := oL_some hf
  refine g_bast (n := 4) (f := σ (sb t + 3)) hc (XW_s3 ht) h3 (XW_pa (σ1 := s1) ht (k := 3) (by decide) e2 rfl) dX5_lays_10 ?_
  refine g_aload_n hc dX5_lays_11 rfl 0 rfl ?_
  refine g_dup hc dX5_lays_12 rfl ?_
  refine g_get (v := .int (s1 (sb t) 3)) hc in_X5 (XW_s0 ht) rfl 3 (by decide) q135 rfl dX5_lays_13 ?_
  refine g_iconst (v := 1) hc dX5_lays_16 (by decide) ?_
  refine g_iadd hc dX5_lays_17 ?_
  obtain ⟨s4, e5, hf⟩ := oL_some hf
  refine g_put (v := .int ((s1 (sb t) 3) + 1)) hc in_X5 tyX5_ok nmX5 (XW_s0 ht) rfl 3 (by decide) q135 rfl rfl rfl (Nat.le_of_ble_eq_true rfl) (XW_p0 (σ1 := s4) ht e5 rfl) dX5_lays_18 ?_
  have hz := Option.some.inj hf; subst hz
  exact g_vret hc (hR _ hK) dX5_lays_21
theorem c_X5_lays {l : Launch} {D : va_G} {dA : Nat → ClassId} {N : Nat} {ad : Nat → Nat} {tl : va_W} {lam : (Nat → Int64)} {σ : (Nat → Nat → Int32)} {t : Nat} {l1 : Int32} (hN : 36 ≤ N) (ht : gS t N) {o : (Nat → Nat → Int32)} (hf : f_X5_lays σ t l1 = some o) : gV l D dA (XW dA N ad σ lam ++ tl) (XW dA N ad o lam ++ tl) [.ref (ad (sb t)), .int l1] yX5_lays (ws_ yX5_lays cX5_lays 2 none) ({ frames := 0, cells := 0, slots := 0, locals := 0 } : Room) :=
  g_startV (own := RX5) ⟨rfl, rfl⟩ (by decide) rfl (Nat.le_of_ble_eq_true rfl) (fun x e hc hR => by
    subst e
    exact w_X5_lays hc σ t l1 hN ht (K := fun o1 => o1 = o) hf rfl (by rintro _ rfl; exact hR))
theorem hd_X5_lays : yX5_lays.cls = RX5 ∧ yX5_lays.cls ≠ "java/lang/invoke/MethodHandle" ∧ yX5_lays.cls ≠ "java/lang/invoke/VarHandle" ∧ (parseMethodDescriptor yX5_lays.desc).map (fun d => d.parameters.length) = some 1 := by decide +kernel
/-! HedgehogLots$Slope.pulls(I)V -/
def f_X5_pulls (σ : (Nat → Nat → Int32)) (t : Nat) (l1 : Int32) : Option ((Nat → Nat → Int32)) :=
  oC (cpOk (σ (sb t + 1)) (l1 + 1) l1 (6 - l1) 7 7) <| oL (updc σ (sb t + 1) (va_cpy (σ (sb t + 1)) (σ (sb t + 1)) (Int32.toNatClampNeg (l1 + 1)) (Int32.toNatClampNeg l1) (Int32.toNatClampNeg (6 - l1)))) fun s2 => oC (cpOk (s2 (sb t + 2)) (l1 + 1) l1 (6 - l1) 7 7) <| oL (updc s2 (sb t + 2) (va_cpy (s2 (sb t + 2)) (s2 (sb t + 2)) (Int32.toNatClampNeg (l1 + 1)) (Int32.toNatClampNeg l1) (Int32.toNatClampNeg (6 - l1)))) fun s5 => oL (upd2 s5 (sb t) 0 ((s5 (sb t) 0) - 1)) fun s7 => some s7
theorem w_X5_pulls {x : gX} {N : Nat} {ad : Nat → Nat} {tl : va_W} {lam : (Nat → Int64)} (hc : gOk x RX5 cX5_pulls 2 1 80)  (σ : (Nat → Nat → Int32)) (t : Nat) (l1 : Int32) (hN : 36 ≤ N) (ht : gS t N) {K : (Nat → Nat → Int32) → Prop} {o : (Nat → Nat → Int32)} (hf : f_X5_pulls σ t l1 = some o) (hK : K o) (hR : ∀ o : (Nat → Nat → Int32), K o → gRv x 0 0 (XW x.dA N ad o lam ++ tl)) : gG x 2 0 0 (XW x.dA N ad σ lam ++ tl) 0 [(0, .ref (ad (sb t))), (1, .int l1)] [] := by
  unfold f_X5_pulls at hf
  refine g_aload_n hc dX5_pulls_0 rfl 0 rfl ?_
  refine g_get (v := .ref (ad (sb t + 1))) hc in_X5 (XW_s0 ht) rfl 1 (by decide) q131 rfl dX5_pulls_1 ?_
  refine g_iload_n hc dX5_pulls_4 rfl 1 rfl ?_
  refine g_iconst (v := 1) hc dX5_pulls_5 (by decide) ?_
  refine g_iadd hc dX5_pulls_6 ?_
  refine g_aload_n hc dX5_pulls_7 rfl 0 rfl ?_
  refine g_get (v := .ref (ad (sb t + 1))) hc in_X5 (XW_s0 ht) rfl 1 (by decide) q131 rfl dX5_pulls_8 ?_
  refine g_iload_n hc dX5_pulls_11 rfl 1 rfl ?_
  refine g_bipush (v := 6) hc dX5_pulls_12 (by decide) ?_
  refine g_iload_n hc dX5_pulls_14 rfl 1 rfl ?_
  refine g_isub hc dX5_pulls_15 ?_
  obtain ⟨h1, hf⟩ := oC_some hf
  obtain ⟨s2, e3, hf⟩ := oL_some hf
  refine g_copyb hc (XW_s1 ht) (XW_s1 ht) h1 q525 (by decide) (Nat.le_of_ble_eq_true rfl) (XW_pa (σ1 := s2) ht (k := 1) (by decide) e3 rfl) dX5_pulls_16 ?_
  refine g_aload_n hc dX5_pulls_19 rfl 0 rfl ?_
  refine g_get (v := .ref (ad (sb t + 2))) hc in_X5 (XW_s0 ht) rfl 2 (by decide) q133 rfl dX5_pulls_20 ?_
  refine g_iload_n hc dX5_pulls_23 rfl 1 rfl ?_
  refine g_iconst (v := 1) hc dX5_pulls_24 (by decide) ?_
  refine g_iadd hc dX5_pulls_25 ?_
  refine g_aload_n hc dX5_pulls_26 rfl 0 rfl ?_
  refine g_get (v := .ref (ad (sb t + 2))) hc in_X5 (XW_s0 ht) rfl 2 (by decide) q133 rfl dX5_pulls_27 ?_
  refine g_iload_n hc dX5_pulls_30 rfl 1 rfl ?_
  refine g_bipush (v := 6) hc dX5_pulls_31 (by decide) ?_
  refine g_iload_n hc dX5_pulls_33 rfl 1 rfl ?_
  refine g_isub hc dX5_pulls_34 ?_
  obtain ⟨h4, hf⟩ := oC_some hf
  obtain ⟨s5, e6, hf⟩ := oL_some hf
  refine g_copyb hc (XW_s2 ht) (XW_s2 ht) h4 q525 (by decide) (Nat.le_of_ble_eq_true rfl) (XW_pa (σ1 := s5) ht (k := 2) (by decide) e6 rfl) dX5_pulls_35 ?_
  refine g_aload_n hc dX5_pulls_38 rfl 0 rfl ?_
  refine g_dup hc dX5_pulls_39 rfl ?_
  refine g_get (v := .int (s5 (sb t) 0)) hc in_X5 (XW_s0 ht) rfl 0 (by decide) q128 rfl dX5_pulls_40 ?_
  refine g_iconst (v := 1) hc dX5_pulls_43 (by decide) ?_
  refine g_isub hc dX5_pulls_44 ?_
  obtain ⟨s7, e8, hf⟩ := oL_some hf
  refine g_put (v := .int ((s5 (sb t) 0) - 1)) hc in_X5 tyX5_ok nmX5 (XW_s0 ht) rfl 0 (by decide) q128 rfl rfl rfl (Nat.le_of_ble_eq_true rfl) (XW_p0 (σ1 := s7) ht e8 rfl) dX5_pulls_45 ?_
  have hz := Option.some.inj hf; subst hz
  exact g_vret hc (hR _ hK) dX5_pulls_48
theorem c_X5_pulls {l : Launch} {D : va_G} {dA : Nat → ClassId} {N : Nat} {ad : Nat → Nat} {tl : va_W} {lam : (Nat → Int64)} {σ : (Nat → Nat → Int32)} {t : Nat} {l1 : Int32} (hN : 36 ≤ N) (ht : gS t N) {o : (Nat → Nat → Int32)} (hf : f_X5_pulls σ t l1 = some o) : gV l D dA (XW dA N ad σ lam ++ tl) (XW dA N ad o lam ++ tl) [.ref (ad (sb t)), .int l1] yX5_pulls (ws_ yX5_pulls cX5_pulls 2 none) ({ frames := 1, cells := 0, slots := 0, locals := 80 } : Room) :=
  g_startV (own := RX5) ⟨rfl, rfl⟩ (by decide) rfl (Nat.le_of_ble_eq_true rfl) (fun x e hc hR => by
    subst e
    exact w_X5_pulls hc σ t l1 hN ht (K := fun o1 => o1 = o) hf rfl (by rintro _ rfl; exact hR))
theorem hd_X5_pulls : yX5_pulls.cls = RX5 ∧ yX5_pulls.cls ≠ "java/lang/invoke/MethodHandle" ∧ yX5_pulls.cls ≠ "java/lang/invoke/VarHandle" ∧ (parseMethodDescriptor yX5_pulls.desc).map (fun d => d.parameters.length) = some 1 := by decide +kernel
/-! HedgehogLots$Slope.as(LHedgehogLots$Slope;)V -/
def f_X5_as (σ : (Nat → Nat → Int32)) (t : Nat) (u : Nat) : Option ((Nat → Nat → Int32)) :=
  oL (upd2 σ (sb t) 0 (σ (sb u) 0)) fun s1 => oC (cpOk (s1 (sb u + 1)) 0 0 7 7 7) <| oL (updc s1 (sb t + 1) (va_cpy (s1 (sb u + 1)) (s1 (sb t + 1)) (Int32.toNatClampNeg 0) (Int32.toNatClampNeg 0) (Int32.toNatClampNeg 7))) fun s4 => oC (cpOk (s4 (sb u + 2)) 0 0 7 7 7) <| oL (updc s4 (sb t + 2) (va_cpy (s4 (sb u + 2)) (s4 (sb t + 2)) (Int32.toNatClampNeg 0) (Int32.toNatClampNeg 0) (Int32.toNatClampNeg 7))) fun s7 => oL (upd2 s7 (sb t) 3 (s7 (sb u) 3)) fun s9 => oC (cpOk (s9 (sb u + 3)) 0 0 4 4 4) <| oL (updc s9 (sb t + 3) (va_cpy (s9 (sb u + 3)) (s9 (sb t + 3)) (Int32.toNatClampNeg 0) (Int32.toNatClampNeg 0) (Int32.toNatClampNeg 4))) fun s12 => oL (upd2 s12 (sb t) 5 (s12 (sb u) 5)) fun s14 => oC (cpOk (s14 (sb u + 4)) 0 0 8 8 8) <| oL (updc s14 (sb t + 4) (va_cpy (s14 (sb u + 4)) (s14 (sb t + 4)) (Int32.toNatClampNeg 0) (Int32.toNatClampNeg 0) (Int32.toNatClampNeg 8))) fun s17 => oL (upd2 s17 (sb t) 7 (s17 (sb u) 7)) fun s19 => oC (cpOk (s19 (sb u + 5)) 0 0 12 12 12) <| oL (updc s19 (sb t + 5) (va_cpy (s19 (sb u + 5)) (s19 (sb t + 5)) (Int32.toNatClampNeg 0) (Int32.toNatClampNeg 0) (Int32.toNatClampNeg 12))) fun s22 => some s22
theorem w_X5_as {x : gX} {N : Nat} {ad : Nat → Nat} {tl : va_W} {lam : (Nat → Int64)} (hc : gOk x RX5 cX5_as 2 1 80)  (σ : (Nat → Nat → Int32)) (t : Nat) (u : Nat) (hN : 36 ≤ N) (ht : gS t N) (hu : gS u N) {K : (Nat → Nat → Int32) → Prop} {o : (Nat → Nat → Int32)} (hf : f_X5_as σ t u = some o) (hK : K o) (hR : ∀ o : (Nat → Nat → Int32), K o → gRv x 0 0 (XW x.dA N ad o lam ++ tl)) : gG x 2 0 0 (XW x.dA N ad σ lam ++ tl) 0 [(0, .ref (ad (sb t))), (1, .ref (ad (sb u)))] [] := by
  unfold f_X5_as at hf
  refine g_aload_n hc dX5_as_0 rfl 0 rfl ?_
  refine g_aload_n hc dX5_as_1 rfl 1 rfl ?_
  refine g_get (v := .int (σ (sb u) 0)) hc in_X5 (XW_s0 hu) rfl 0 (by decide) q128 rfl dX5_as_2 ?_
  obtain ⟨s1, e2, hf⟩ := oL_some hf
  refine g_put (v := .int (σ (sb u) 0)) hc in_X5 tyX5_ok nmX5 (XW_s0 ht) rfl 0 (by decide) q128 rfl rfl rfl (Nat.le_of_ble_eq_true rfl) (XW_p0 (σ1 := s1) ht e2 rfl) dX5_as_5 ?_
  refine g_aload_n hc dX5_as_8 rfl 1 rfl ?_
  refine g_get (v := .ref (ad (sb u + 1))) hc in_X5 (XW_s0 hu) rfl 1 (by decide) q131 rfl dX5_as_9 ?_
  refine g_iconst (v := 0) hc dX5_as_12 (by decide) ?_
  refine g_aload_n hc dX5_as_13 rfl 0 rfl ?_
  refine g_get (v := .ref (ad (sb t + 1))) hc in_X5 (XW_s0 ht) rfl 1 (by decide) q131 rfl dX5_as_14 ?_
  refine g_iconst (v := 0) hc dX5_as_17 (by decide) ?_
  refine g_bipush (v := 7) hc dX5_as_18 (by decide) ?_
  obtain ⟨h3, hf⟩ := oC_some hf
  obtain ⟨s4, e5, hf⟩ := oL_some hf
  refine g_copyb hc (XW_s1 hu) (XW_s1 ht) h3 q525 (by decide) (Nat.le_of_ble_eq_true rfl) (XW_pa (σ1 := s4) ht (k := 1) (by decide) e5 rfl) dX5_as_20 ?_
  refine g_aload_n hc dX5_as_23 rfl 1 rfl ?_
  refine g_get (v := .ref (ad (sb u + 2))) hc in_X5 (XW_s0 hu) rfl 2 (by decide) q133 rfl dX5_as_24 ?_
  refine g_iconst (v := 0) hc dX5_as_27 (by decide) ?_
  refine g_aload_n hc dX5_as_28 rfl 0 rfl ?_
  refine g_get (v := .ref (ad (sb t + 2))) hc in_X5 (XW_s0 ht) rfl 2 (by decide) q133 rfl dX5_as_29 ?_
  refine g_iconst (v := 0) hc dX5_as_32 (by decide) ?_
  refine g_bipush (v := 7) hc dX5_as_33 (by decide) ?_
  obtain ⟨h6, hf⟩ := oC_some hf
  obtain ⟨s7, e8, hf⟩ := oL_some hf
  refine g_copyb hc (XW_s2 hu) (XW_s2 ht) h6 q525 (by decide) (Nat.le_of_ble_eq_true rfl) (XW_pa (σ1 := s7) ht (k := 2) (by decide) e8 rfl) dX5_as_35 ?_
  refine g_aload_n hc dX5_as_38 rfl 0 rfl ?_
  refine g_aload_n hc dX5_as_39 rfl 1 rfl ?_
  refine g_get (v := .int (s7 (sb u) 3)) hc in_X5 (XW_s0 hu) rfl 3 (by decide) q135 rfl dX5_as_40 ?_
  obtain ⟨s9, e10, hf⟩ := oL_some hf
  refine g_put (v := .int (s7 (sb u) 3)) hc in_X5 tyX5_ok nmX5 (XW_s0 ht) rfl 3 (by decide) q135 rfl rfl rfl (Nat.le_of_ble_eq_true rfl) (XW_p0 (σ1 := s9) ht e10 rfl) dX5_as_43 ?_
  refine g_aload_n hc dX5_as_46 rfl 1 rfl ?_
  refine g_get (v := .ref (ad (sb u + 3))) hc in_X5 (XW_s0 hu) rfl 4 (by decide) q138 rfl dX5_as_47 ?_
  refine g_iconst (v := 0) hc dX5_as_50 (by decide) ?_
  refine g_aload_n hc dX5_as_51 rfl 0 rfl ?_
  refine g_get (v := .ref (ad (sb t + 3))) hc in_X5 (XW_s0 ht) rfl 4 (by decide) q138 rfl dX5_as_52 ?_
  refine g_iconst (v := 0) hc dX5_as_55 (by decide) ?_
  refine g_iconst (v := 4) hc dX5_as_56 (by decide) ?_
  obtain ⟨h11, hf⟩ := oC_some hf
  obtain ⟨s12, e13, hf⟩ := oL_some hf
  refine g_copyb hc (XW_s3 hu) (XW_s3 ht) h11 q525 (by decide) (Nat.le_of_ble_eq_true rfl) (XW_pa (σ1 := s12) ht (k := 3) (by decide) e13 rfl) dX5_as_57 ?_
  refine g_aload_n hc dX5_as_60 rfl 0 rfl ?_
  refine g_aload_n hc dX5_as_61 rfl 1 rfl ?_
  refine g_get (v := .int (s12 (sb u) 5)) hc in_X5 (XW_s0 hu) rfl 5 (by decide) q140 rfl dX5_as_62 ?_
  obtain ⟨s14, e15, hf⟩ := oL_some hf
  refine g_put (v := .int (s12 (sb u) 5)) hc in_X5 tyX5_ok nmX5 (XW_s0 ht) rfl 5 (by decide) q140 rfl rfl rfl (Nat.le_of_ble_eq_true rfl) (XW_p0 (σ1 := s14) ht e15 rfl) dX5_as_65 ?_
  refine g_aload_n hc dX5_as_68 rfl 1 rfl ?_
  refine g_get (v := .ref (ad (sb u + 4))) hc in_X5 (XW_s0 hu) rfl 6 (by decide) q143 rfl dX5_as_69 ?_
  refine g_iconst (v := 0) hc dX5_as_72 (by decide) ?_
  refine g_aload_n hc dX5_as_73 rfl 0 rfl ?_
  refine g_get (v := .ref (ad (sb t + 4))) hc in_X5 (XW_s0 ht) rfl 6 (by decide) q143 rfl dX5_as_74 ?_
  refine g_iconst (v := 0) hc dX5_as_77 (by decide) ?_
  refine g_bipush (v := 8) hc dX5_as_78 (by decide) ?_
  obtain ⟨h16, hf⟩ := oC_some hf
  obtain ⟨s17, e18, hf⟩ := oL_some hf
  refine g_copyb hc (XW_s4 hu) (XW_s4 ht) h16 q525 (by decide) (Nat.le_of_ble_eq_true rfl) (XW_pa (σ1 := s17) ht (k := 4) (by decide) e18 rfl) dX5_as_80 ?_
  refine g_aload_n hc dX5_as_83 rfl 0 rfl ?_
  refine g_aload_n hc dX5_as_84 rfl 1 rfl ?_
  refine g_get (v := .int (s17 (sb u) 7)) hc in_X5 (XW_s0 hu) rfl 7 (by decide) q146 rfl dX5_as_85 ?_
  obtain ⟨s19, e20, hf⟩ := oL_some hf
  refine g_put (v := .int (s17 (sb u) 7)) hc in_X5 tyX5_ok nmX5 (XW_s0 ht) rfl 7 (by decide) q146 rfl rfl rfl (Nat.le_of_ble_eq_true rfl) (XW_p0 (σ1 := s19) ht e20 rfl) dX5_as_88 ?_
  refine g_aload_n hc dX5_as_91 rfl 1 rfl ?_
  refine g_get (v := .ref (ad (sb u + 5))) hc in_X5 (XW_s0 hu) rfl 8 (by decide) q149 rfl dX5_as_92 ?_
  refine g_iconst (v := 0) hc dX5_as_95 (by decide) ?_
  refine g_aload_n hc dX5_as_96 rfl 0 rfl ?_
  refine g_get (v := .ref (ad (sb t + 5))) hc in_X5 (XW_s0 ht) rfl 8 (by decide) q149 rfl dX5_as_97 ?_
  refine g_iconst (v := 0) hc dX5_as_100 (by decide) ?_
  refine g_bipush (v := 12) hc dX5_as_101 (by decide) ?_
  obtain ⟨h21, hf⟩ := oC_some hf
  obtain ⟨s22, e23, hf⟩ := oL_some hf
  refine g_copyb hc (XW_s5 hu) (XW_s5 ht) h21 q525 (by decide) (Nat.le_of_ble_eq_true rfl) (XW_pa (σ1 := s22) ht (k := 5) (by decide) e23 rfl) dX5_as_103 ?_
  have hz := Option.some.inj hf; subst hz
  exact g_vret hc (hR _ hK) dX5_as_106
theorem c_X5_as {l : Launch} {D : va_G} {dA : Nat → ClassId} {N : Nat} {ad : Nat → Nat} {tl : va_W} {lam : (Nat → Int64)} {σ : (Nat → Nat → Int32)} {t : Nat} {u : Nat} (hN : 36 ≤ N) (ht : gS t N) (hu : gS u N) {o : (Nat → Nat → Int32)} (hf : f_X5_as σ t u = some o) : gV l D dA (XW dA N ad σ lam ++ tl) (XW dA N ad o lam ++ tl) [.ref (ad (sb t)), .ref (ad (sb u))] yX5_as (ws_ yX5_as cX5_as 2 none) ({ frames := 1, cells := 0, slots := 0, locals := 80 } : Room) :=
  g_startV (own := RX5) ⟨rfl, rfl⟩ (by decide) rfl (Nat.le_of_ble_eq_true rfl) (fun x e hc hR => by
    subst e
    exact w_X5_as hc σ t u hN ht hu (K := fun o1 => o1 = o) hf rfl (by rintro _ rfl; exact hR))
theorem hd_X5_as : yX5_as.cls = RX5 ∧ yX5_as.cls ≠ "java/lang/invoke/MethodHandle" ∧ yX5_as.cls ≠ "java/lang/invoke/VarHandle" ∧ (parseMethodDescriptor yX5_as.desc).map (fun d => d.parameters.length) = some 1 := by decide +kernel
/-! java/lang/Integer.bitCount(I)I -/
def f_J7_bitCount (l0 : Int32) : Option (Int32) :=
  some ((((((((l0 - ((UInt32.toInt32 (Int32.toUInt32 l0 >>> (Int32.toUInt32 1 &&& Int32.toUInt32 31))) &&& 1431655765)) &&& 858993459) + ((UInt32.toInt32 (Int32.toUInt32 (l0 - ((UInt32.toInt32 (Int32.toUInt32 l0 >>> (Int32.toUInt32 1 &&& Int32.toUInt32 31))) &&& 1431655765)) >>> (Int32.toUInt32 2 &&& Int32.toUInt32 31))) &&& 858993459)) + (UInt32.toInt32 (Int32.toUInt32 (((l0 - ((UInt32.toInt32 (Int32.toUInt32 l0 >>> (Int32.toUInt32 1 &&& Int32.toUInt32 31))) &&& 1431655765)) &&& 858993459) + ((UInt32.toInt32 (Int32.toUInt32 (l0 - ((UInt32.toInt32 (Int32.toUInt32 l0 >>> (Int32.toUInt32 1 &&& Int32.toUInt32 31))) &&& 1431655765)) >>> (Int32.toUInt32 2 &&& Int32.toUInt32 31))) &&& 858993459)) >>> (Int32.toUInt32 4 &&& Int32.toUInt32 31)))) &&& 252645135) + (UInt32.toInt32 (Int32.toUInt32 (((((l0 - ((UInt32.toInt32 (Int32.toUInt32 l0 >>> (Int32.toUInt32 1 &&& Int32.toUInt32 31))) &&& 1431655765)) &&& 858993459) + ((UInt32.toInt32 (Int32.toUInt32 (l0 - ((UInt32.toInt32 (Int32.toUInt32 l0 >>> (Int32.toUInt32 1 &&& Int32.toUInt32 31))) &&& 1431655765)) >>> (Int32.toUInt32 2 &&& Int32.toUInt32 31))) &&& 858993459)) + (UInt32.toInt32 (Int32.toUInt32 (((l0 - ((UInt32.toInt32 (Int32.toUInt32 l0 >>> (Int32.toUInt32 1 &&& Int32.toUInt32 31))) &&& 1431655765)) &&& 858993459) + ((UInt32.toInt32 (Int32.toUInt32 (l0 - ((UInt32.toInt32 (Int32.toUInt32 l0 >>> (Int32.toUInt32 1 &&& Int32.toUInt32 31))) &&& 1431655765)) >>> (Int32.toUInt32 2 &&& Int32.toUInt32 31))) &&& 858993459)) >>> (Int32.toUInt32 4 &&& Int32.toUInt32 31)))) &&& 252645135) >>> (Int32.toUInt32 8 &&& Int32.toUInt32 31)))) + (UInt32.toInt32 (Int32.toUInt32 ((((((l0 - ((UInt32.toInt32 (Int32.toUInt32 l0 >>> (Int32.toUInt32 1 &&& Int32.toUInt32 31))) &&& 1431655765)) &&& 858993459) + ((UInt32.toInt32 (Int32.toUInt32 (l0 - ((UInt32.toInt32 (Int32.toUInt32 l0 >>> (Int32.toUInt32 1 &&& Int32.toUInt32 31))) &&& 1431655765)) >>> (Int32.toUInt32 2 &&& Int32.toUInt32 31))) &&& 858993459)) + (UInt32.toInt32 (Int32.toUInt32 (((l0 - ((UInt32.toInt32 (Int32.toUInt32 l0 >>> (Int32.toUInt32 1 &&& Int32.toUInt32 31))) &&& 1431655765)) &&& 858993459) + ((UInt32.toInt32 (Int32.toUInt32 (l0 - ((UInt32.toInt32 (Int32.toUInt32 l0 >>> (Int32.toUInt32 1 &&& Int32.toUInt32 31))) &&& 1431655765)) >>> (Int32.toUInt32 2 &&& Int32.toUInt32 31))) &&& 858993459)) >>> (Int32.toUInt32 4 &&& Int32.toUInt32 31)))) &&& 252645135) + (UInt32.toInt32 (Int32.toUInt32 (((((l0 - ((UInt32.toInt32 (Int32.toUInt32 l0 >>> (Int32.toUInt32 1 &&& Int32.toUInt32 31))) &&& 1431655765)) &&& 858993459) + ((UInt32.toInt32 (Int32.toUInt32 (l0 - ((UInt32.toInt32 (Int32.toUInt32 l0 >>> (Int32.toUInt32 1 &&& Int32.toUInt32 31))) &&& 1431655765)) >>> (Int32.toUInt32 2 &&& Int32.toUInt32 31))) &&& 858993459)) + (UInt32.toInt32 (Int32.toUInt32 (((l0 - ((UInt32.toInt32 (Int32.toUInt32 l0 >>> (Int32.toUInt32 1 &&& Int32.toUInt32 31))) &&& 1431655765)) &&& 858993459) + ((UInt32.toInt32 (Int32.toUInt32 (l0 - ((UInt32.toInt32 (Int32.toUInt32 l0 >>> (Int32.toUInt32 1 &&& Int32.toUInt32 31))) &&& 1431655765)) >>> (Int32.toUInt32 2 &&& Int32.toUInt32 31))) &&& 858993459)) >>> (Int32.toUInt32 4 &&& Int32.toUInt32 31)))) &&& 252645135) >>> (Int32.toUInt32 8 &&& Int32.toUInt32 31)))) >>> (Int32.toUInt32 16 &&& Int32.toUInt32 31)))) &&& 63)
theorem w_J7_bitCount {x : gX} {Φ : va_W}  (hc : gOk x RJ7 cJ7_bitCount 1 0 0)  (l0 : Int32)  {K : Int32 → Prop} {o : Int32} (hf : f_J7_bitCount l0 = some o) (hK : K o) (hR : ∀ o : Int32, K o → gRi x 0 0 (Φ) o) : gG x 1 0 0 (Φ) 0 [(0, .int l0)] [] := by
  unfold f_J7_bitCount at hf
  refine g_iload_n hc dJ7_bitCount_0 rfl 0 rfl ?_
  refine g_iload_n hc dJ7_bitCount_1 rfl 0 rfl ?_
  refine g_iconst (v := 1) hc dJ7_bitCount_2 (by decide) ?_
  refine g_iushr hc dJ7_bitCount_3 ?_
  refine g_ldcw (v := 1431655765) hc q703 dJ7_bitCount_4 ?_
  refine g_iand hc dJ7_bitCount_7 ?_
  refine g_isub hc dJ7_bitCount_8 ?_
  refine g_istore_n (lv' := [(0, .int (l0 - ((UInt32.toInt32 (Int32.toUInt32 l0 >>> (Int32.toUInt32 1 &&& Int32.toUInt32 31))) &&& 1431655765)))]) hc dJ7_bitCount_9 rfl (by decide) rfl ?_
  refine g_iload_n hc dJ7_bitCount_10 rfl 0 rfl ?_
  refine g_ldcw (v := 858993459) hc q704 dJ7_bitCount_11 ?_
  refine g_iand hc dJ7_bitCount_14 ?_
  refine g_iload_n hc dJ7_bitCount_15 rfl 0 rfl ?_
  refine g_iconst (v := 2) hc dJ7_bitCount_16 (by decide) ?_
  refine g_iushr hc dJ7_bitCount_17 ?_
  refine g_ldcw (v := 858993459) hc q704 dJ7_bitCount_18 ?_
  refine g_iand hc dJ7_bitCount_21 ?_
  refine g_iadd hc dJ7_bitCount_22 ?_
  refine g_istore_n (lv' := [(0, .int (((l0 - ((UInt32.toInt32 (Int32.toUInt32 l0 >>> (Int32.toUInt32 1 &&& Int32.toUInt32 31))) &&& 1431655765)) &&& 858993459) + ((UInt32.toInt32 (Int32.toUInt32 (l0 - ((UInt32.toInt32 (Int32.toUInt32 l0 >>> (Int32.toUInt32 1 &&& Int32.toUInt32 31))) &&& 1431655765)) >>> (Int32.toUInt32 2 &&& Int32.toUInt32 31))) &&& 858993459)))]) hc dJ7_bitCount_23 rfl (by decide) rfl ?_
  refine g_iload_n hc dJ7_bitCount_24 rfl 0 rfl ?_
  refine g_iload_n hc dJ7_bitCount_25 rfl 0 rfl ?_
  refine g_iconst (v := 4) hc dJ7_bitCount_26 (by decide) ?_
  refine g_iushr hc dJ7_bitCount_27 ?_
  refine g_iadd hc dJ7_bitCount_28 ?_
  refine g_ldcw (v := 252645135) hc q705 dJ7_bitCount_29 ?_
  refine g_iand hc dJ7_bitCount_32 ?_
  refine g_istore_n (lv' := [(0, .int (((((l0 - ((UInt32.toInt32 (Int32.toUInt32 l0 >>> (Int32.toUInt32 1 &&& Int32.toUInt32 31))) &&& 1431655765)) &&& 858993459) + ((UInt32.toInt32 (Int32.toUInt32 (l0 - ((UInt32.toInt32 (Int32.toUInt32 l0 >>> (Int32.toUInt32 1 &&& Int32.toUInt32 31))) &&& 1431655765)) >>> (Int32.toUInt32 2 &&& Int32.toUInt32 31))) &&& 858993459)) + (UInt32.toInt32 (Int32.toUInt32 (((l0 - ((UInt32.toInt32 (Int32.toUInt32 l0 >>> (Int32.toUInt32 1 &&& Int32.toUInt32 31))) &&& 1431655765)) &&& 858993459) + ((UInt32.toInt32 (Int32.toUInt32 (l0 - ((UInt32.toInt32 (Int32.toUInt32 l0 >>> (Int32.toUInt32 1 &&& Int32.toUInt32 31))) &&& 1431655765)) >>> (Int32.toUInt32 2 &&& Int32.toUInt32 31))) &&& 858993459)) >>> (Int32.toUInt32 4 &&& Int32.toUInt32 31)))) &&& 252645135))]) hc dJ7_bitCount_33 rfl (by decide) rfl ?_
  refine g_iload_n hc dJ7_bitCount_34 rfl 0 rfl ?_
  refine g_iload_n hc dJ7_bitCount_35 rfl 0 rfl ?_
  refine g_bipush (v := 8) hc dJ7_bitCount_36 (by decide) ?_
  refine g_iushr hc dJ7_bitCount_38 ?_
  refine g_iadd hc dJ7_bitCount_39 ?_
  refine g_istore_n (lv' := [(0, .int ((((((l0 - ((UInt32.toInt32 (Int32.toUInt32 l0 >>> (Int32.toUInt32 1 &&& Int32.toUInt32 31))) &&& 1431655765)) &&& 858993459) + ((UInt32.toInt32 (Int32.toUInt32 (l0 - ((UInt32.toInt32 (Int32.toUInt32 l0 >>> (Int32.toUInt32 1 &&& Int32.toUInt32 31))) &&& 1431655765)) >>> (Int32.toUInt32 2 &&& Int32.toUInt32 31))) &&& 858993459)) + (UInt32.toInt32 (Int32.toUInt32 (((l0 - ((UInt32.toInt32 (Int32.toUInt32 l0 >>> (Int32.toUInt32 1 &&& Int32.toUInt32 31))) &&& 1431655765)) &&& 858993459) + ((UInt32.toInt32 (Int32.toUInt32 (l0 - ((UInt32.toInt32 (Int32.toUInt32 l0 >>> (Int32.toUInt32 1 &&& Int32.toUInt32 31))) &&& 1431655765)) >>> (Int32.toUInt32 2 &&& Int32.toUInt32 31))) &&& 858993459)) >>> (Int32.toUInt32 4 &&& Int32.toUInt32 31)))) &&& 252645135) + (UInt32.toInt32 (Int32.toUInt32 (((((l0 - ((UInt32.toInt32 (Int32.toUInt32 l0 >>> (Int32.toUInt32 1 &&& Int32.toUInt32 31))) &&& 1431655765)) &&& 858993459) + ((UInt32.toInt32 (Int32.toUInt32 (l0 - ((UInt32.toInt32 (Int32.toUInt32 l0 >>> (Int32.toUInt32 1 &&& Int32.toUInt32 31))) &&& 1431655765)) >>> (Int32.toUInt32 2 &&& Int32.toUInt32 31))) &&& 858993459)) + (UInt32.toInt32 (Int32.toUInt32 (((l0 - ((UInt32.toInt32 (Int32.toUInt32 l0 >>> (Int32.toUInt32 1 &&& Int32.toUInt32 31))) &&& 1431655765)) &&& 858993459) + ((UInt32.toInt32 (Int32.toUInt32 (l0 - ((UInt32.toInt32 (Int32.toUInt32 l0 >>> (Int32.toUInt32 1 &&& Int32.toUInt32 31))) &&& 1431655765)) >>> (Int32.toUInt32 2 &&& Int32.toUInt32 31))) &&& 858993459)) >>> (Int32.toUInt32 4 &&& Int32.toUInt32 31)))) &&& 252645135) >>> (Int32.toUInt32 8 &&& Int32.toUInt32 31)))))]) hc dJ7_bitCount_40 rfl (by decide) rfl ?_
  refine g_iload_n hc dJ7_bitCount_41 rfl 0 rfl ?_
  refine g_iload_n hc dJ7_bitCount_42 rfl 0 rfl ?_
  refine g_bipush (v := 16) hc dJ7_bitCount_43 (by decide) ?_
  refine g_iushr hc dJ7_bitCount_45 ?_
  refine g_iadd hc dJ7_bitCount_46 ?_
  refine g_istore_n (lv' := [(0, .int (((((((l0 - ((UInt32.toInt32 (Int32.toUInt32 l0 >>> (Int32.toUInt32 1 &&& Int32.toUInt32 31))) &&& 1431655765)) &&& 858993459) + ((UInt32.toInt32 (Int32.toUInt32 (l0 - ((UInt32.toInt32 (Int32.toUInt32 l0 >>> (Int32.toUInt32 1 &&& Int32.toUInt32 31))) &&& 1431655765)) >>> (Int32.toUInt32 2 &&& Int32.toUInt32 31))) &&& 858993459)) + (UInt32.toInt32 (Int32.toUInt32 (((l0 - ((UInt32.toInt32 (Int32.toUInt32 l0 >>> (Int32.toUInt32 1 &&& Int32.toUInt32 31))) &&& 1431655765)) &&& 858993459) + ((UInt32.toInt32 (Int32.toUInt32 (l0 - ((UInt32.toInt32 (Int32.toUInt32 l0 >>> (Int32.toUInt32 1 &&& Int32.toUInt32 31))) &&& 1431655765)) >>> (Int32.toUInt32 2 &&& Int32.toUInt32 31))) &&& 858993459)) >>> (Int32.toUInt32 4 &&& Int32.toUInt32 31)))) &&& 252645135) + (UInt32.toInt32 (Int32.toUInt32 (((((l0 - ((UInt32.toInt32 (Int32.toUInt32 l0 >>> (Int32.toUInt32 1 &&& Int32.toUInt32 31))) &&& 1431655765)) &&& 858993459) + ((UInt32.toInt32 (Int32.toUInt32 (l0 - ((UInt32.toInt32 (Int32.toUInt32 l0 >>> (Int32.toUInt32 1 &&& Int32.toUInt32 31))) &&& 1431655765)) >>> (Int32.toUInt32 2 &&& Int32.toUInt32 31))) &&& 858993459)) + (UInt32.toInt32 (Int32.toUInt32 (((l0 - ((UInt32.toInt32 (Int32.toUInt32 l0 >>> (Int32.toUInt32 1 &&& Int32.toUInt32 31))) &&& 1431655765)) &&& 858993459) + ((UInt32.toInt32 (Int32.toUInt32 (l0 - ((UInt32.toInt32 (Int32.toUInt32 l0 >>> (Int32.toUInt32 1 &&& Int32.toUInt32 31))) &&& 1431655765)) >>> (Int32.toUInt32 2 &&& Int32.toUInt32 31))) &&& 858993459)) >>> (Int32.toUInt32 4 &&& Int32.toUInt32 31)))) &&& 252645135) >>> (Int32.toUInt32 8 &&& Int32.toUInt32 31)))) + (UInt32.toInt32 (Int32.toUInt32 ((((((l0 - ((UInt32.toInt32 (Int32.toUInt32 l0 >>> (Int32.toUInt32 1 &&& Int32.toUInt32 31))) &&& 1431655765)) &&& 858993459) + ((UInt32.toInt32 (Int32.toUInt32 (l0 - ((UInt32.toInt32 (Int32.toUInt32 l0 >>> (Int32.toUInt32 1 &&& Int32.toUInt32 31))) &&& 1431655765)) >>> (Int32.toUInt32 2 &&& Int32.toUInt32 31))) &&& 858993459)) + (UInt32.toInt32 (Int32.toUInt32 (((l0 - ((UInt32.toInt32 (Int32.toUInt32 l0 >>> (Int32.toUInt32 1 &&& Int32.toUInt32 31))) &&& 1431655765)) &&& 858993459) + ((UInt32.toInt32 (Int32.toUInt32 (l0 - ((UInt32.toInt32 (Int32.toUInt32 l0 >>> (Int32.toUInt32 1 &&& Int32.toUInt32 31))) &&& 1431655765)) >>> (Int32.toUInt32 2 &&& Int32.toUInt32 31))) &&& 858993459)) >>> (Int32.toUInt32 4 &&& Int32.toUInt32 31)))) &&& 252645135) + (UInt32.toInt32 (Int32.toUInt32 (((((l0 - ((UInt32.toInt32 (Int32.toUInt32 l0 >>> (Int32.toUInt32 1 &&& Int32.toUInt32 31))) &&& 1431655765)) &&& 858993459) + ((UInt32.toInt32 (Int32.toUInt32 (l0 - ((UInt32.toInt32 (Int32.toUInt32 l0 >>> (Int32.toUInt32 1 &&& Int32.toUInt32 31))) &&& 1431655765)) >>> (Int32.toUInt32 2 &&& Int32.toUInt32 31))) &&& 858993459)) + (UInt32.toInt32 (Int32.toUInt32 (((l0 - ((UInt32.toInt32 (Int32.toUInt32 l0 >>> (Int32.toUInt32 1 &&& Int32.toUInt32 31))) &&& 1431655765)) &&& 858993459) + ((UInt32.toInt32 (Int32.toUInt32 (l0 - ((UInt32.toInt32 (Int32.toUInt32 l0 >>> (Int32.toUInt32 1 &&& Int32.toUInt32 31))) &&& 1431655765)) >>> (Int32.toUInt32 2 &&& Int32.toUInt32 31))) &&& 858993459)) >>> (Int32.toUInt32 4 &&& Int32.toUInt32 31)))) &&& 252645135) >>> (Int32.toUInt32 8 &&& Int32.toUInt32 31)))) >>> (Int32.toUInt32 16 &&& Int32.toUInt32 31)))))]) hc dJ7_bitCount_47 rfl (by decide) rfl ?_
  refine g_iload_n hc dJ7_bitCount_48 rfl 0 rfl ?_
  refine g_bipush (v := 63) hc dJ7_bitCount_49 (by decide) ?_
  refine g_iand hc dJ7_bitCount_51 ?_
  have hz := Option.some.inj hf; subst hz
  exact g_iret hc (hR _ hK) dJ7_bitCount_52
theorem c_J7_bitCount {l : Launch} {D : va_G} {dA : Nat → ClassId} {Φ : va_W}  {l0 : Int32}  {o : Int32} (hf : f_J7_bitCount l0 = some o) : gI l D dA (Φ) (Φ) [.int l0] o yJ7_bitCount (ws_ yJ7_bitCount cJ7_bitCount 1 (some .int)) ({ frames := 0, cells := 0, slots := 0, locals := 0 } : Room) :=
  g_startI (own := RJ7) ⟨rfl, rfl⟩ (by decide) rfl (Nat.le_of_ble_eq_true rfl) (fun x e hc hR => by
    subst e
    exact w_J7_bitCount hc l0  (K := fun o1 => o1 = o) hf rfl (by rintro _ rfl; exact hR))
theorem hd_J7_bitCount : yJ7_bitCount.cls ≠ "java/lang/invoke/MethodHandle" ∧ yJ7_bitCount.cls ≠ "java/lang/invoke/VarHandle" ∧ (parseMethodDescriptor yJ7_bitCount.desc).map (fun d => d.parameters.length) = some 1 := by decide +kernel
/-! java/lang/Integer.numberOfTrailingZeros(I)I -/
def f_J7_numberOfTrailingZeros_b74 (l0 : Int32) (l1 : Int32) : Option (Int32) :=
  some (l1 + (UInt32.toInt32 (Int32.toUInt32 l0 >>> (Int32.toUInt32 1 &&& Int32.toUInt32 31))))
theorem w_J7_numberOfTrailingZeros_b74 {x : gX} {Φ : va_W}  (hc : gOk x RJ7 cJ7_numberOfTrailingZeros 2 0 0)  (l0 : Int32) (l1 : Int32)  {K : Int32 → Prop} {o : Int32} (hf : f_J7_numberOfTrailingZeros_b74 l0 l1 = some o) (hK : K o) (hR : ∀ o : Int32, K o → gRi x 0 0 (Φ) o) : gG x 2 0 0 (Φ) 74 [(0, .int l0), (1, .int l1)] [] := by
  unfold f_J7_numberOfTrailingZeros_b74 at hf
  refine g_iload_n hc dJ7_numberOfTrailingZeros_74 rfl 1 rfl ?_
  refine g_iload_n hc dJ7_numberOfTrailingZeros_75 rfl 0 rfl ?_
  refine g_iconst (v := 1) hc dJ7_numberOfTrailingZeros_76 (by decide) ?_
  refine g_iushr hc dJ7_numberOfTrailingZeros_77 ?_
  refine g_iadd hc dJ7_numberOfTrailingZeros_78 ?_
  have hz := Option.some.inj hf; subst hz
  exact g_iret hc (hR _ hK) dJ7_numberOfTrailingZeros_79
def f_J7_numberOfTrailingZeros_b62 (l0 : Int32) (l1 : Int32) : Option (Int32) :=
  if l0 ≤ 4 then (f_J7_numberOfTrailingZeros_b74 l0 l1) else (f_J7_numberOfTrailingZeros_b74 (UInt32.toInt32 (Int32.toUInt32 l0 >>> (Int32.toUInt32 2 &&& Int32.toUInt32 31))) (l1 + 2))
theorem w_J7_numberOfTrailingZeros_b62 {x : gX} {Φ : va_W}  (hc : gOk x RJ7 cJ7_numberOfTrailingZeros 2 0 0)  (l0 : Int32) (l1 : Int32)  {K : Int32 → Prop} {o : Int32} (hf : f_J7_numberOfTrailingZeros_b62 l0 l1 = some o) (hK : K o) (hR : ∀ o : Int32, K o → gRi x 0 0 (Φ) o) : gG x 2 0 0 (Φ) 62 [(0, .int l0), (1, .int l1)] [] := by
  unfold f_J7_numberOfTrailingZeros_b62 at hf
  refine g_iload_n hc dJ7_numberOfTrailingZeros_62 rfl 0 rfl ?_
  refine g_iconst (v := 4) hc dJ7_numberOfTrailingZeros_63 (by decide) ?_
  refine g_icmp_le (tgt := 74) hc dJ7_numberOfTrailingZeros_64 (by decide) (fun h1 => ?_) (fun h1 => ?_)
  · have hf := oT h1 hf
    exact g_lv [0, 1] rfl (w_J7_numberOfTrailingZeros_b74 hc l0 l1  (K := K) hf hK hR)
  · have hf := oF h1 hf
    refine g_iinc (v := l1 + 2) (lv' := [(1, .int (l1 + 2)), (0, .int l0)]) hc dJ7_numberOfTrailingZeros_67 (j := 1) rfl rfl (by decide) rfl ?_
    refine g_iload_n hc dJ7_numberOfTrailingZeros_70 rfl 1 rfl ?_
    refine g_iconst (v := 2) hc dJ7_numberOfTrailingZeros_71 (by decide) ?_
    refine g_iushr hc dJ7_numberOfTrailingZeros_72 ?_
    refine g_istore_n (lv' := [(0, .int (UInt32.toInt32 (Int32.toUInt32 l0 >>> (Int32.toUInt32 2 &&& Int32.toUInt32 31)))), (1, .int (l1 + 2))]) hc dJ7_numberOfTrailingZeros_73 rfl (by decide) rfl ?_
    exact g_lv [0, 1] rfl (w_J7_numberOfTrailingZeros_b74 hc (UInt32.toInt32 (Int32.toUInt32 l0 >>> (Int32.toUInt32 2 &&& Int32.toUInt32 31))) (l1 + 2)  (K := K) hf hK hR)
def f_J7_numberOfTrailingZeros_b49 (l0 : Int32) (l1 : Int32) : Option (Int32) :=
  if l0 ≤ 16 then (f_J7_numberOfTrailingZeros_b62 l0 l1) else (f_J7_numberOfTrailingZeros_b62 (UInt32.toInt32 (Int32.toUInt32 l0 >>> (Int32.toUInt32 4 &&& Int32.toUInt32 31))) (l1 + 4))
theorem w_J7_numberOfTrailingZeros_b49 {x : gX} {Φ : va_W}  (hc : gOk x RJ7 cJ7_numberOfTrailingZeros 2 0 0)  (l0 : Int32) (l1 : Int32)  {K : Int32 → Prop} {o : Int32} (hf : f_J7_numberOfTrailingZeros_b49 l0 l1 = some o) (hK : K o) (hR : ∀ o : Int32, K o → gRi x 0 0 (Φ) o) : gG x 2 0 0 (Φ) 49 [(0, .int l0), (1, .int l1)] [] := by
  unfold f_J7_numberOfTrailingZeros_b49 at hf
  refine g_iload_n hc dJ7_numberOfTrailingZeros_49 rfl 0 rfl ?_
  refine g_bipush (v := 16) hc dJ7_numberOfTrailingZeros_50 (by decide) ?_
  refine g_icmp_le (tgt := 62) hc dJ7_numberOfTrailingZeros_52 (by decide) (fun h1 => ?_) (fun h1 => ?_)
  · have hf := oT h1 hf
    exact g_lv [0, 1] rfl (w_J7_numberOfTrailingZeros_b62 hc l0 l1  (K := K) hf hK hR)
  · have hf := oF h1 hf
    refine g_iinc (v := l1 + 4) (lv' := [(1, .int (l1 + 4)), (0, .int l0)]) hc dJ7_numberOfTrailingZeros_55 (j := 1) rfl rfl (by decide) rfl ?_
    refine g_iload_n hc dJ7_numberOfTrailingZeros_58 rfl 1 rfl ?_
    refine g_iconst (v := 4) hc dJ7_numberOfTrailingZeros_59 (by decide) ?_
    refine g_iushr hc dJ7_numberOfTrailingZeros_60 ?_
    refine g_istore_n (lv' := [(0, .int (UInt32.toInt32 (Int32.toUInt32 l0 >>> (Int32.toUInt32 4 &&& Int32.toUInt32 31)))), (1, .int (l1 + 4))]) hc dJ7_numberOfTrailingZeros_61 rfl (by decide) rfl ?_
    exact g_lv [0, 1] rfl (w_J7_numberOfTrailingZeros_b62 hc (UInt32.toInt32 (Int32.toUInt32 l0 >>> (Int32.toUInt32 4 &&& Int32.toUInt32 31))) (l1 + 4)  (K := K) hf hK hR)
def f_J7_numberOfTrailingZeros_b34 (l0 : Int32) (l1 : Int32) : Option (Int32) :=
  if l0 ≤ 256 then (f_J7_numberOfTrailingZeros_b49 l0 l1) else (f_J7_numberOfTrailingZeros_b49 (UInt32.toInt32 (Int32.toUInt32 l0 >>> (Int32.toUInt32 8 &&& Int32.toUInt32 31))) (l1 + 8))
theorem w_J7_numberOfTrailingZeros_b34 {x : gX} {Φ : va_W}  (hc : gOk x RJ7 cJ7_numberOfTrailingZeros 2 0 0)  (l0 : Int32) (l1 : Int32)  {K : Int32 → Prop} {o : Int32} (hf : f_J7_numberOfTrailingZeros_b34 l0 l1 = some o) (hK : K o) (hR : ∀ o : Int32, K o → gRi x 0 0 (Φ) o) : gG x 2 0 0 (Φ) 34 [(0, .int l0), (1, .int l1)] [] := by
  unfold f_J7_numberOfTrailingZeros_b34 at hf
  refine g_iload_n hc dJ7_numberOfTrailingZeros_34 rfl 0 rfl ?_
  refine g_sipush (v := 256) hc dJ7_numberOfTrailingZeros_35 (by decide) ?_
  refine g_icmp_le (tgt := 49) hc dJ7_numberOfTrailingZeros_38 (by decide) (fun h1 => ?_) (fun h1 => ?_)
  · have hf := oT h1 hf
    exact g_lv [0, 1] rfl (w_J7_numberOfTrailingZeros_b49 hc l0 l1  (K := K) hf hK hR)
  · have hf := oF h1 hf
    refine g_iinc (v := l1 + 8) (lv' := [(1, .int (l1 + 8)), (0, .int l0)]) hc dJ7_numberOfTrailingZeros_41 (j := 1) rfl rfl (by decide) rfl ?_
    refine g_iload_n hc dJ7_numberOfTrailingZeros_44 rfl 1 rfl ?_
    refine g_bipush (v := 8) hc dJ7_numberOfTrailingZeros_45 (by decide) ?_
    refine g_iushr hc dJ7_numberOfTrailingZeros_47 ?_
    refine g_istore_n (lv' := [(0, .int (UInt32.toInt32 (Int32.toUInt32 l0 >>> (Int32.toUInt32 8 &&& Int32.toUInt32 31)))), (1, .int (l1 + 8))]) hc dJ7_numberOfTrailingZeros_48 rfl (by decide) rfl ?_
    exact g_lv [0, 1] rfl (w_J7_numberOfTrailingZeros_b49 hc (UInt32.toInt32 (Int32.toUInt32 l0 >>> (Int32.toUInt32 8 &&& Int32.toUInt32 31))) (l1 + 8)  (K := K) hf hK hR)
def f_J7_numberOfTrailingZeros (l0 : Int32) : Option (Int32) :=
  if 0 < ((l0 ^^^ (-1)) &&& (l0 - 1)) then (if ((l0 ^^^ (-1)) &&& (l0 - 1)) ≤ 65536 then (f_J7_numberOfTrailingZeros_b34 ((l0 ^^^ (-1)) &&& (l0 - 1)) 1) else (f_J7_numberOfTrailingZeros_b34 (UInt32.toInt32 (Int32.toUInt32 ((l0 ^^^ (-1)) &&& (l0 - 1)) >>> (Int32.toUInt32 16 &&& Int32.toUInt32 31))) (1 + 16))) else (some (((l0 ^^^ (-1)) &&& (l0 - 1)) &&& 32))
theorem w_J7_numberOfTrailingZeros {x : gX} {Φ : va_W}  (hc : gOk x RJ7 cJ7_numberOfTrailingZeros 2 0 0)  (l0 : Int32)  {K : Int32 → Prop} {o : Int32} (hf : f_J7_numberOfTrailingZeros l0 = some o) (hK : K o) (hR : ∀ o : Int32, K o → gRi x 0 0 (Φ) o) : gG x 2 0 0 (Φ) 0 [(0, .int l0)] [] := by
  unfold f_J7_numberOfTrailingZeros at hf
  refine g_iload_n hc dJ7_numberOfTrailingZeros_0 rfl 0 rfl ?_
  refine g_iconst (v := (-1)) hc dJ7_numberOfTrailingZeros_1 (by decide) ?_
  refine g_ixor hc dJ7_numberOfTrailingZeros_2 ?_
  refine g_iload_n hc dJ7_numberOfTrailingZeros_3 rfl 0 rfl ?_
  refine g_iconst (v := 1) hc dJ7_numberOfTrailingZeros_4 (by decide) ?_
  refine g_isub hc dJ7_numberOfTrailingZeros_5 ?_
  refine g_iand hc dJ7_numberOfTrailingZeros_6 ?_
  refine g_istore_n (lv' := [(0, .int ((l0 ^^^ (-1)) &&& (l0 - 1)))]) hc dJ7_numberOfTrailingZeros_7 rfl (by decide) rfl ?_
  refine g_iload_n hc dJ7_numberOfTrailingZeros_8 rfl 0 rfl ?_
  refine g_if_gt (tgt := 17) hc dJ7_numberOfTrailingZeros_9 (by decide) (fun h1 => ?_) (fun h1 => ?_)
  · have hf := oT h1 hf
    refine g_iconst (v := 1) hc dJ7_numberOfTrailingZeros_17 (by decide) ?_
    refine g_istore_n (lv' := [(1, .int 1), (0, .int ((l0 ^^^ (-1)) &&& (l0 - 1)))]) hc dJ7_numberOfTrailingZeros_18 rfl (by decide) rfl ?_
    refine g_iload_n hc dJ7_numberOfTrailingZeros_19 rfl 1 rfl ?_
    refine g_ldcw (v := 65536) hc q713 dJ7_numberOfTrailingZeros_20 ?_
    refine g_icmp_le (tgt := 34) hc dJ7_numberOfTrailingZeros_23 (by decide) (fun h2 => ?_) (fun h2 => ?_)
    · have hf := oT h2 hf
      exact g_lv [1, 0] rfl (w_J7_numberOfTrailingZeros_b34 hc ((l0 ^^^ (-1)) &&& (l0 - 1)) 1  (K := K) hf hK hR)
    · have hf := oF h2 hf
      refine g_iinc (v := 1 + 16) (lv' := [(1, .int (1 + 16)), (0, .int ((l0 ^^^ (-1)) &&& (l0 - 1)))]) hc dJ7_numberOfTrailingZeros_26 (j := 0) rfl rfl (by decide) rfl ?_
      refine g_iload_n hc dJ7_numberOfTrailingZeros_29 rfl 1 rfl ?_
      refine g_bipush (v := 16) hc dJ7_numberOfTrailingZeros_30 (by decide) ?_
      refine g_iushr hc dJ7_numberOfTrailingZeros_32 ?_
      refine g_istore_n (lv' := [(0, .int (UInt32.toInt32 (Int32.toUInt32 ((l0 ^^^ (-1)) &&& (l0 - 1)) >>> (Int32.toUInt32 16 &&& Int32.toUInt32 31)))), (1, .int (1 + 16))]) hc dJ7_numberOfTrailingZeros_33 rfl (by decide) rfl ?_
      exact g_lv [0, 1] rfl (w_J7_numberOfTrailingZeros_b34 hc (UInt32.toInt32 (Int32.toUInt32 ((l0 ^^^ (-1)) &&& (l0 - 1)) >>> (Int32.toUInt32 16 &&& Int32.toUInt32 31))) (1 + 16)  (K := K) hf hK hR)
  · have hf := oF h1 hf
    refine g_iload_n hc dJ7_numberOfTrailingZeros_12 rfl 0 rfl ?_
    refine g_bipush (v := 32) hc dJ7_numberOfTrailingZeros_13 (by decide) ?_
    refine g_iand hc dJ7_numberOfTrailingZeros_15 ?_
    have hz := Option.some.inj hf; subst hz
    exact g_iret hc (hR _ hK) dJ7_numberOfTrailingZeros_16
theorem c_J7_numberOfTrailingZeros {l : Launch} {D : va_G} {dA : Nat → ClassId} {Φ : va_W}  {l0 : Int32}  {o : Int32} (hf : f_J7_numberOfTrailingZeros l0 = some o) : gI l D dA (Φ) (Φ) [.int l0] o yJ7_numberOfTrailingZeros (ws_ yJ7_numberOfTrailingZeros cJ7_numberOfTrailingZeros 2 (some .int)) ({ frames := 0, cells := 0, slots := 0, locals := 0 } : Room) :=
  g_startI (own := RJ7) ⟨rfl, rfl⟩ (by decide) rfl (Nat.le_of_ble_eq_true rfl) (fun x e hc hR => by
    subst e
    exact w_J7_numberOfTrailingZeros hc l0  (K := fun o1 => o1 = o) hf rfl (by rintro _ rfl; exact hR))
theorem hd_J7_numberOfTrailingZeros : yJ7_numberOfTrailingZeros.cls ≠ "java/lang/invoke/MethodHandle" ∧ yJ7_numberOfTrailingZeros.cls ≠ "java/lang/invoke/VarHandle" ∧ (parseMethodDescriptor yJ7_numberOfTrailingZeros.desc).map (fun d => d.parameters.length) = some 1 := by decide +kernel
