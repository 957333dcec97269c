set_option maxRecDepth 100000
/-! HedgehogLots.judges(II)V -/
def f_X0_judges_b17 (σ : (Nat → Nat → Int32)) (l2 : Int32) (k2 : Int32) : Option ((Nat → Nat → Int32)) :=
  oL (upd2 σ 0 15 k2) fun s1 => oL (upd2 s1 0 16 (if (s1 0 16) < l2 then l2 else (s1 0 16))) fun s3 => some s3
theorem w_X0_judges_b17 {x : gX} {N : Nat} {ad : Nat → Nat} {tl : va_W} {lam : (Nat → Int64)} (hc : gOk x RX0 cX0_judges 3 1 32)  (σ : (Nat → Nat → Int32)) (l2 : Int32) (k2 : Int32) (hN : 36 ≤ N) {K : (Nat → Nat → Int32) → Prop} {o : (Nat → Nat → Int32)} (hf : f_X0_judges_b17 σ l2 k2 = some o) (hK : K o) (hR : ∀ o : (Nat → Nat → Int32), K o → gRv x 0 0 (XW x.dA N ad o lam ++ tl)) : gG x 3 0 0 (XW x.dA N ad σ lam ++ tl) 17 [(0, .ref (ad 0)), (2, .int l2)] [.int k2, .ref (ad 0)] := by
  unfold f_X0_judges_b17 at hf
  obtain ⟨s1, e2, hf⟩ := oL_some hf
  refine g_put (v := .int k2) hc in_X0 tyX0_ok nmX0 (XW_at (k := 0) (Nat.lt_of_lt_of_le (by decide) hN)) rfl 15 (by decide) q200 rfl rfl rfl (Nat.le_of_ble_eq_true rfl) (XW_set (σ1 := s1) (k := 0) (Nat.lt_of_lt_of_le (by decide) hN) e2 rfl) dX0_judges_17 ?_
  refine g_aload_n hc dX0_judges_20 rfl 0 rfl ?_
  refine g_aload_n hc dX0_judges_21 rfl 0 rfl ?_
  refine g_get (v := .int (s1 0 16)) hc in_X0 (XW_at (k := 0) (Nat.lt_of_lt_of_le (by decide) hN)) rfl 16 (by decide) q201 rfl dX0_judges_22 ?_
  refine g_iload_n hc dX0_judges_25 rfl 1 rfl ?_
  refine g_max hc q592 q519 q520 (by decide) (Nat.le_of_ble_eq_true rfl) gZ dX0_judges_26 ?_
  obtain ⟨s3, e4, hf⟩ := oL_some hf
  refine g_put (v := .int (if (s1 0 16) < l2 then l2 else (s1 0 16))) hc in_X0 tyX0_ok nmX0 (XW_at (k := 0) (Nat.lt_of_lt_of_le (by decide) hN)) rfl 16 (by decide) q201 rfl rfl rfl (Nat.le_of_ble_eq_true rfl) (XW_set (σ1 := s3) (k := 0) (Nat.lt_of_lt_of_le (by decide) hN) e4 rfl) dX0_judges_29 ?_
  have hz := Option.some.inj hf; subst hz
  exact g_vret hc (hR _ hK) dX0_judges_32
def f_X0_judges (σ : (Nat → Nat → Int32)) (l1 : Int32) (l2 : Int32) : Option ((Nat → Nat → Int32)) :=
  if l2 ≤ (σ 0 16) then (f_X0_judges_b17 σ l2 (σ 0 15)) else (f_X0_judges_b17 σ l2 l1)
theorem w_X0_judges {x : gX} {N : Nat} {ad : Nat → Nat} {tl : va_W} {lam : (Nat → Int64)} (hc : gOk x RX0 cX0_judges 3 1 32)  (σ : (Nat → Nat → Int32)) (l1 : Int32) (l2 : Int32) (hN : 36 ≤ N) {K : (Nat → Nat → Int32) → Prop} {o : (Nat → Nat → Int32)} (hf : f_X0_judges σ l1 l2 = some o) (hK : K o) (hR : ∀ o : (Nat → Nat → Int32), K o → gRv x 0 0 (XW x.dA N ad o lam ++ tl)) : gG x 3 0 0 (XW x.dA N ad σ lam ++ tl) 0 [(0, .ref (ad 0)), (1, .int l1), (2, .int l2)] [] := by
  unfold f_X0_judges at hf
  refine g_aload_n hc dX0_judges_0 rfl 0 rfl ?_
  refine g_iload_n hc dX0_judges_1 rfl 2 rfl ?_
  refine g_aload_n hc dX0_judges_2 rfl 0 rfl ?_
  refine g_get (v := .int (σ 0 16)) hc in_X0 (XW_at (k := 0) (Nat.lt_of_lt_of_le (by decide) hN)) rfl 16 (by decide) q201 rfl dX0_judges_3 ?_
  refine g_icmp_le (tgt := 13) hc dX0_judges_6 (by decide) (fun h1 => ?_) (fun h1 => ?_)
  · have hf := oT h1 hf
    refine g_aload_n hc dX0_judges_13 rfl 0 rfl ?_
    refine g_get (v := .int (σ 0 15)) hc in_X0 (XW_at (k := 0) (Nat.lt_of_lt_of_le (by decide) hN)) rfl 15 (by decide) q200 rfl dX0_judges_14 ?_
    exact g_lv [0, 2] rfl (w_X0_judges_b17 hc σ l2 (σ 0 15) hN (K := K) hf hK hR)
  · have hf := oF h1 hf
    refine g_iload_n hc dX0_judges_9 rfl 1 rfl ?_
    refine g_goto (tgt := 17) hc dX0_judges_10 (by decide) ?_
    exact g_lv [0, 2] rfl (w_X0_judges_b17 hc σ l2 l1 hN (K := K) hf hK hR)
theorem c_X0_judges {l : Launch} {D : va_G} {dA : Nat → ClassId} {N : Nat} {ad : Nat → Nat} {tl : va_W} {lam : (Nat → Int64)} {σ : (Nat → Nat → Int32)} {l1 : Int32} {l2 : Int32} (hN : 36 ≤ N) {o : (Nat → Nat → Int32)} (hf : f_X0_judges σ l1 l2 = some o) : gV l D dA (XW dA N ad σ lam ++ tl) (XW dA N ad o lam ++ tl) [.ref (ad 0), .int l1, .int l2] yX0_judges (ws_ yX0_judges cX0_judges 3 none) ({ frames := 1, cells := 0, slots := 0, locals := 32 } : Room) :=
  g_startV (own := RX0) ⟨rfl, rfl⟩ (by decide) rfl (Nat.le_of_ble_eq_true rfl) (fun x e hc hR => by
    subst e
    exact w_X0_judges hc σ l1 l2 hN (K := fun o1 => o1 = o) hf rfl (by rintro _ rfl; exact hR))
theorem hd_X0_judges : yX0_judges.cls = RX0 ∧ yX0_judges.cls ≠ "java/lang/invoke/MethodHandle" ∧ yX0_judges.cls ≠ "java/lang/invoke/VarHandle" ∧ (parseMethodDescriptor yX0_judges.desc).map (fun d => d.parameters.length) = some 2 := by decide +kernel
/-! HedgehogLots.judged(I)I -/
def f_X0_judged (σ : (Nat → Nat → Int32)) (l1 : Int32) : Option (Int32) :=
  if (σ 0 15) = (-4) then (some (-4)) else (if l1 = 0 then (some (σ 0 15)) else (some (σ 0 16)))
theorem w_X0_judged {x : gX} {N : Nat} {ad : Nat → Nat} {tl : va_W} {lam : (Nat → Int64)} (hc : gOk x RX0 cX0_judged 2 0 0)  (σ : (Nat → Nat → Int32)) (l1 : Int32) (hN : 36 ≤ N) {K : Int32 → Prop} {o : Int32} (hf : f_X0_judged σ l1 = some o) (hK : K o) (hR : ∀ o : Int32, K o → gRi x 0 0 (XW x.dA N ad σ lam ++ tl) o) : gG x 2 0 0 (XW x.dA N ad σ lam ++ tl) 0 [(0, .ref (ad 0)), (1, .int l1)] [] := by
  unfold f_X0_judged at hf
  refine g_aload_n hc dX0_judged_0 rfl 0 rfl ?_
  refine g_get (v := .int (σ 0 15)) hc in_X0 (XW_at (k := 0) (Nat.lt_of_lt_of_le (by decide) hN)) rfl 15 (by decide) q200 rfl dX0_judged_1 ?_
  refine g_bipush (v := (-4)) hc dX0_judged_4 (by decide) ?_
  refine g_icmp_ne (tgt := 14) hc dX0_judged_6 (by decide) (fun h1 => ?_) (fun h1 => ?_)
  · have hf := oF h1 hf
    refine g_iload_n hc dX0_judged_14 rfl 1 rfl ?_
    refine g_if_ne (tgt := 25) hc dX0_judged_15 (by decide) (fun h2 => ?_) (fun h2 => ?_)
    · have hf := oF h2 hf
      refine g_aload_n hc dX0_judged_25 rfl 0 rfl ?_
      refine g_get (v := .int (σ 0 16)) hc in_X0 (XW_at (k := 0) (Nat.lt_of_lt_of_le (by decide) hN)) rfl 16 (by decide) q201 rfl dX0_judged_26 ?_
      have hz := Option.some.inj hf; subst hz
      exact g_iret hc (hR _ hK) dX0_judged_29
    · have hf := oT h2 hf
      refine g_aload_n hc dX0_judged_18 rfl 0 rfl ?_
      refine g_get (v := .int (σ 0 15)) hc in_X0 (XW_at (k := 0) (Nat.lt_of_lt_of_le (by decide) hN)) rfl 15 (by decide) q200 rfl dX0_judged_19 ?_
      refine g_goto (tgt := 29) hc dX0_judged_22 (by decide) ?_
      have hz := Option.some.inj hf; subst hz
      exact g_iret hc (hR _ hK) dX0_judged_29
  · have hf := oT h1 hf
    refine g_bipush (v := (-4)) hc dX0_judged_9 (by decide) ?_
    refine g_goto (tgt := 29) hc dX0_judged_11 (by decide) ?_
    have hz := Option.some.inj hf; subst hz
    exact g_iret hc (hR _ hK) dX0_judged_29
theorem c_X0_judged {l : Launch} {D : va_G} {dA : Nat → ClassId} {N : Nat} {ad : Nat → Nat} {tl : va_W} {lam : (Nat → Int64)} {σ : (Nat → Nat → Int32)} {l1 : Int32} (hN : 36 ≤ N) {o : Int32} (hf : f_X0_judged σ l1 = some o) : gI l D dA (XW dA N ad σ lam ++ tl) (XW dA N ad σ lam ++ tl) [.ref (ad 0), .int l1] o yX0_judged (ws_ yX0_judged cX0_judged 2 (some .int)) ({ frames := 0, cells := 0, slots := 0, locals := 0 } : Room) :=
  g_startI (own := RX0) ⟨rfl, rfl⟩ (by decide) rfl (Nat.le_of_ble_eq_true rfl) (fun x e hc hR => by
    subst e
    exact w_X0_judged hc σ l1 hN (K := fun o1 => o1 = o) hf rfl (by rintro _ rfl; exact hR))
theorem hd_X0_judged : yX0_judged.cls = RX0 ∧ yX0_judged.cls ≠ "java/lang/invoke/MethodHandle" ∧ yX0_judged.cls ≠ "java/lang/invoke/VarHandle" ∧ (parseMethodDescriptor yX0_judged.desc).map (fun d => d.parameters.length) = some 1 := by decide +kernel
/-! HedgehogLots.place(II)I -/
def f_X0_place_b96 (σ : (Nat → Nat → Int32)) (l1 : Int32) (l2 : Int32) (l3 : Int32) : Option ((Int32 × (Nat → Nat → Int32)) ⊕ (Int32 × (Nat → Nat → Int32))) :=
  some (.inl ((l3 + 1), σ))
theorem w_X0_place_b96 {x : gX} {N : Nat} {ad : Nat → Nat} {tl : va_W} {lam : (Nat → Int64)} (hc : gOk x RX0 cX0_place 4 8 220)  (σ : (Nat → Nat → Int32)) (l1 : Int32) (l2 : Int32) (l3 : Int32) (hN : 36 ≤ N) {K : (Int32 × (Nat → Nat → Int32)) ⊕ (Int32 × (Nat → Nat → Int32)) → Prop} {o : (Int32 × (Nat → Nat → Int32)) ⊕ (Int32 × (Nat → Nat → Int32))} (hf : f_X0_place_b96 σ l1 l2 l3 = some o) (hK : K o) (hI38 : ∀ v : Int32 × (Nat → Nat → Int32), K (.inl v) → gG x 4 0 0 (XW x.dA N ad v.2 lam ++ tl) 38 [(0, .ref (ad 0)), (1, .int l1), (2, .int l2), (3, .int v.1)] []) (hR : ∀ o : Int32 × (Nat → Nat → Int32), K (.inr (o)) → gRi x 0 0 (XW x.dA N ad o.2 lam ++ tl) o.1) : gG x 4 0 0 (XW x.dA N ad σ lam ++ tl) 96 [(0, .ref (ad 0)), (1, .int l1), (2, .int l2), (3, .int l3)] [] := by
  unfold f_X0_place_b96 at hf
  refine g_iinc (v := l3 + 1) (lv' := [(3, .int (l3 + 1)), (0, .ref (ad 0)), (1, .int l1), (2, .int l2)]) hc dX0_place_96 (j := 3) rfl rfl (by decide) rfl ?_
  refine g_goto (tgt := 38) hc dX0_place_99 (by decide) ?_
  have hz := Option.some.inj hf; subst hz
  exact g_lv [1, 2, 3, 0] rfl (hI38 _ hK)
def f_X0_place_L38 (σ : (Nat → Nat → Int32)) (l1 : Int32) (l2 : Int32) (l3 : Int32) : Option ((Int32 × (Nat → Nat → Int32)) ⊕ (Int32 × (Nat → Nat → Int32))) :=
  if 100 ≤ l3 then (oI (oB (f_X0_judged σ l2) fun r3 => some (r3, σ))) else (oB (f_X0_isCell l3) fun r6 => if r6 = 0 then (f_X0_place_b96 σ l1 l2 l3) else (oB (f_X5_isFree σ 0 l3) fun r9 => if r9 = 0 then (f_X0_place_b96 σ l1 l2 l3) else (oB (f_X5_as σ 1 0) fun r12 => oB (f_X5_drives r12 1 l3 l1) fun r14 => oB (f_X0_wonMany r14 1 l1) fun r16 => oB (f_X0_judges r16.2 l3 r16.1) fun r18 => f_X0_place_b96 r18 l1 l2 l3)))
theorem w_X0_place_L38 {x : gX} {N : Nat} {ad : Nat → Nat} {tl : va_W} {lam : (Nat → Int64)} (hc : gOk x RX0 cX0_place 4 8 220)  (σ : (Nat → Nat → Int32)) (l1 : Int32) (l2 : Int32) (l3 : Int32) (hN : 36 ≤ N) {K : (Int32 × (Nat → Nat → Int32)) ⊕ (Int32 × (Nat → Nat → Int32)) → Prop} {o : (Int32 × (Nat → Nat → Int32)) ⊕ (Int32 × (Nat → Nat → Int32))} (hf : f_X0_place_L38 σ l1 l2 l3 = some o) (hK : K o) (hI38 : ∀ v : Int32 × (Nat → Nat → Int32), K (.inl v) → gG x 4 0 0 (XW x.dA N ad v.2 lam ++ tl) 38 [(0, .ref (ad 0)), (1, .int l1), (2, .int l2), (3, .int v.1)] []) (hR : ∀ o : Int32 × (Nat → Nat → Int32), K (.inr (o)) → gRi x 0 0 (XW x.dA N ad o.2 lam ++ tl) o.1) : gG x 4 0 0 (XW x.dA N ad σ lam ++ tl) 38 [(0, .ref (ad 0)), (1, .int l1), (2, .int l2), (3, .int l3)] [] := by
  unfold f_X0_place_L38 at hf
  refine g_iload_n hc dX0_place_38 rfl 3 rfl ?_
  refine g_bipush (v := 100) hc dX0_place_39 (by decide) ?_
  refine g_icmp_ge (tgt := 102) hc dX0_place_41 (by decide) (fun h1 => ?_) (fun h1 => ?_)
  · have hf := oT h1 hf
    obtain ⟨o4, hgo4, eo4⟩ := oI_some hf
    clear hf; subst eo4; have hf := hgo4; clear hgo4
    refine g_aload_n hc dX0_place_102 rfl 0 rfl ?_
    refine g_iload_n hc dX0_place_103 rfl 2 rfl ?_
    obtain ⟨r3, h2, hf⟩ := oB_some hf
    refine g_callVi hc [.int l2] [] (c_X0_judged hN h2) (XW_at (k := 0) (Nat.lt_of_lt_of_le (by decide) hN)) rfl (lw_V q737 q739 qs25 q60 q740) rfl hd_X0_judged rfl rfl (Nat.le_of_ble_eq_true rfl) gZ dX0_place_104 ?_
    have hz := Option.some.inj hf; subst hz
    exact g_iret hc (hR _ hK) dX0_place_107
  · have hf := oF h1 hf
    refine g_iload_n hc dX0_place_44 rfl 3 rfl ?_
    obtain ⟨r6, h5, hf⟩ := oB_some hf
    refine g_callSi hc [.int l3] [] (c_X0_isCell  h5) (lw_S q635 q486 q60 q487) rfl hd_X0_isCell rfl rfl (Nat.le_of_ble_eq_true rfl) gZ dX0_place_45 ?_
    refine g_if_eq (tgt := 96) hc dX0_place_48 (by decide) (fun h7 => ?_) (fun h7 => ?_)
    · have hf := oT h7 hf
      exact g_lv [0, 1, 2, 3] rfl (w_X0_place_b96 hc σ l1 l2 l3 hN (K := K) hf hK hI38 hR)
    · have hf := oF h7 hf
      refine g_aload_n hc dX0_place_51 rfl 0 rfl ?_
      refine g_get (v := .ref (ad (sb 0))) hc in_X0 (XW_at (k := 0) (Nat.lt_of_lt_of_le (by decide) hN)) rfl 1 (by decide) q185 rfl dX0_place_52 ?_
      refine g_iload_n hc dX0_place_55 rfl 3 rfl ?_
      obtain ⟨r9, h8, hf⟩ := oB_some hf
      refine g_callVi hc [.int l3] [] (c_X5_isFree hN (gSl 0 hN (by decide)) h8) (XW_s0 (gSl 0 hN (by decide))) rfl (lw_V q636 q490 q491 q65 q492) rfl hd_X5_isFree rfl rfl (Nat.le_of_ble_eq_true rfl) gZ dX0_place_56 ?_
      refine g_if_eq (tgt := 96) hc dX0_place_59 (by decide) (fun h10 => ?_) (fun h10 => ?_)
      · have hf := oT h10 hf
        exact g_lv [0, 1, 2, 3] rfl (w_X0_place_b96 hc σ l1 l2 l3 hN (K := K) hf hK hI38 hR)
      · have hf := oF h10 hf
        refine g_aload_n hc dX0_place_62 rfl 0 rfl ?_
        refine g_get (v := .ref (ad (sb 1))) hc in_X0 (XW_at (k := 0) (Nat.lt_of_lt_of_le (by decide) hN)) rfl 2 (by decide) q186 rfl dX0_place_63 ?_
        refine g_aload_n hc dX0_place_66 rfl 0 rfl ?_
        refine g_get (v := .ref (ad (sb 0))) hc in_X0 (XW_at (k := 0) (Nat.lt_of_lt_of_le (by decide) hN)) rfl 1 (by decide) q185 rfl dX0_place_67 ?_
        obtain ⟨r12, h11, hf⟩ := oB_some hf
        refine g_callVv hc [.ref (ad (sb 0))] [] (c_X5_as hN (gSl 1 hN (by decide)) (gSl 0 hN (by decide)) h11) (XW_s0 (gSl 1 hN (by decide))) rfl (lw_V q521 q522 q523 q65 q524) rfl hd_X5_as rfl rfl (Nat.le_of_ble_eq_true rfl) gZ dX0_place_70 ?_
        refine g_aload_n hc dX0_place_73 rfl 0 rfl ?_
        refine g_get (v := .ref (ad (sb 1))) hc in_X0 (XW_at (k := 0) (Nat.lt_of_lt_of_le (by decide) hN)) rfl 2 (by decide) q186 rfl dX0_place_74 ?_
        refine g_iload_n hc dX0_place_77 rfl 3 rfl ?_
        refine g_iload_n hc dX0_place_78 rfl 1 rfl ?_
        obtain ⟨r14, h13, hf⟩ := oB_some hf
        refine g_callVv hc [.int l3, .int l1] [] (c_X5_drives hN (gSl 1 hN (by decide)) h13) (XW_s0 (gSl 1 hN (by decide))) rfl (lw_V q653 q507 q508 q65 q509) rfl hd_X5_drives rfl rfl (Nat.le_of_ble_eq_true rfl) gZ dX0_place_79 ?_
        refine g_aload_n hc dX0_place_82 rfl 0 rfl ?_
        refine g_iload_n hc dX0_place_83 rfl 3 rfl ?_
        refine g_aload_n hc dX0_place_84 rfl 0 rfl ?_
        refine g_aload_n hc dX0_place_85 rfl 0 rfl ?_
        refine g_get (v := .ref (ad (sb 1))) hc in_X0 (XW_at (k := 0) (Nat.lt_of_lt_of_le (by decide) hN)) rfl 2 (by decide) q186 rfl dX0_place_86 ?_
        refine g_iload_n hc dX0_place_89 rfl 1 rfl ?_
        obtain ⟨r16, h15, hf⟩ := oB_some hf
        refine g_callVi hc [.ref (ad (sb 1)), .int l1] [.int l3, .ref (ad 0)] (c_X0_wonMany hN (gSl 1 hN (by decide)) h15) (XW_at (k := 0) (Nat.lt_of_lt_of_le (by decide) hN)) rfl (lw_V q729 q731 qs23 q60 q732) rfl hd_X0_wonMany rfl rfl (Nat.le_of_ble_eq_true rfl) gZ dX0_place_90 ?_
        obtain ⟨r18, h17, hf⟩ := oB_some hf
        refine g_callVv hc [.int l3, .int r16.1] [] (c_X0_judges hN h17) (XW_at (k := 0) (Nat.lt_of_lt_of_le (by decide) hN)) rfl (lw_V q733 q735 qs24 q60 q736) rfl hd_X0_judges rfl rfl (Nat.le_of_ble_eq_true rfl) gZ dX0_place_93 ?_
        exact g_lv [0, 1, 2, 3] rfl (w_X0_place_b96 hc r18 l1 l2 l3 hN (K := K) hf hK hI38 hR)
def f_X0_place_b38 (σ : (Nat → Nat → Int32)) (l1 : Int32) (l2 : Int32) (l3 : Int32) : Option (Int32 × (Nat → Nat → Int32)) :=
  oLoop gFU (fun v : Int32 × (Nat → Nat → Int32) => f_X0_place_L38 v.2 l1 l2 v.1) (l3, σ)
theorem w_X0_place_b38 {x : gX} {N : Nat} {ad : Nat → Nat} {tl : va_W} {lam : (Nat → Int64)} (hc : gOk x RX0 cX0_place 4 8 220)  (σ : (Nat → Nat → Int32)) (l1 : Int32) (l2 : Int32) (l3 : Int32) (hN : 36 ≤ N) {K : Int32 × (Nat → Nat → Int32) → Prop} {o : Int32 × (Nat → Nat → Int32)} (hf : f_X0_place_b38 σ l1 l2 l3 = some o) (hK : K o) (hR : ∀ o : Int32 × (Nat → Nat → Int32), K o → gRi x 0 0 (XW x.dA N ad o.2 lam ++ tl) o.1) : gG x 4 0 0 (XW x.dA N ad σ lam ++ tl) 38 [(0, .ref (ad 0)), (1, .int l1), (2, .int l2), (3, .int l3)] [] :=
  oLoop_ind (fun v : Int32 × (Nat → Nat → Int32) => gG x 4 0 0 (XW x.dA N ad v.2 lam ++ tl) 38 [(0, .ref (ad 0)), (1, .int l1), (2, .int l2), (3, .int v.1)] []) K (fun v o1 hf1 hK1 => w_X0_place_L38 hc v.2 l1 l2 v.1 hN (K := Sum.elim (fun v : Int32 × (Nat → Nat → Int32) => gG x 4 0 0 (XW x.dA N ad v.2 lam ++ tl) 38 [(0, .ref (ad 0)), (1, .int l1), (2, .int l2), (3, .int v.1)] []) K) hf1 hK1 (fun v hv => hv) hR) gFU _ o hf hK
def f_X0_place (σ : (Nat → Nat → Int32)) (l1 : Int32) (l2 : Int32) : Option (Int32 × (Nat → Nat → Int32)) :=
  oB (f_X0_isRag l1) fun r2 => if r2 = 0 then (some ((-1), σ)) else (oB (f_X0_isPart l2) fun r5 => if r5 = 0 then (some ((-1), σ)) else (if (σ (sb 0) 0) = 7 then (some ((-3), σ)) else (oB (f_X0_startsJudging σ (-1)) fun r9 => f_X0_place_b38 r9 l1 l2 0)))
theorem w_X0_place {x : gX} {N : Nat} {ad : Nat → Nat} {tl : va_W} {lam : (Nat → Int64)} (hc : gOk x RX0 cX0_place 4 8 220)  (σ : (Nat → Nat → Int32)) (l1 : Int32) (l2 : Int32) (hN : 36 ≤ N) {K : Int32 × (Nat → Nat → Int32) → Prop} {o : Int32 × (Nat → Nat → Int32)} (hf : f_X0_place σ l1 l2 = some o) (hK : K o) (hR : ∀ o : Int32 × (Nat → Nat → Int32), K o → gRi x 0 0 (XW x.dA N ad o.2 lam ++ tl) o.1) : gG x 4 0 0 (XW x.dA N ad σ lam ++ tl) 0 [(0, .ref (ad 0)), (1, .int l1), (2, .int l2)] [] := by
  unfold f_X0_place at hf
  refine g_iload_n hc dX0_place_0 rfl 1 rfl ?_
  obtain ⟨r2, h1, hf⟩ := oB_some hf
  refine g_callSi hc [.int l1] [] (c_X0_isRag  h1) (lw_S q641 q642 q60 q643) rfl hd_X0_isRag rfl rfl (Nat.le_of_ble_eq_true rfl) gZ dX0_place_1 ?_
  refine g_if_eq (tgt := 14) hc dX0_place_4 (by decide) (fun h3 => ?_) (fun h3 => ?_)
  · have hf := oT h3 hf
    refine g_iconst (v := (-1)) hc dX0_place_14 (by decide) ?_
    have hz := Option.some.inj hf; subst hz
    exact g_iret hc (hR _ hK) dX0_place_15
  · have hf := oF h3 hf
    refine g_iload_n hc dX0_place_7 rfl 2 rfl ?_
    obtain ⟨r5, h4, hf⟩ := oB_some hf
    refine g_callSi hc [.int l2] [] (c_X0_isPart  h4) (lw_S q722 q723 q60 q724) rfl hd_X0_isPart rfl rfl (Nat.le_of_ble_eq_true rfl) gZ dX0_place_8 ?_
    refine g_if_ne (tgt := 16) hc dX0_place_11 (by decide) (fun h6 => ?_) (fun h6 => ?_)
    · have hf := oF h6 hf
      refine g_aload_n hc dX0_place_16 rfl 0 rfl ?_
      refine g_get (v := .ref (ad (sb 0))) hc in_X0 (XW_at (k := 0) (Nat.lt_of_lt_of_le (by decide) hN)) rfl 1 (by decide) q185 rfl dX0_place_17 ?_
      refine g_getN (v := .int (σ (sb 0) 0)) hc in_X5 (XW_s0 (gSl 0 hN (by decide))) rfl 0 (by decide) 1 rfl rfl dX0_place_20 ?_
      refine g_bipush (v := 7) hc dX0_place_23 (by decide) ?_
      refine g_icmp_ne (tgt := 31) hc dX0_place_25 (by decide) (fun h7 => ?_) (fun h7 => ?_)
      · have hf := oF h7 hf
        refine g_aload_n hc dX0_place_31 rfl 0 rfl ?_
        refine g_iconst (v := (-1)) hc dX0_place_32 (by decide) ?_
        obtain ⟨r9, h8, hf⟩ := oB_some hf
        refine g_callVv hc [.int (-1)] [] (c_X0_startsJudging hN h8) (XW_at (k := 0) (Nat.lt_of_lt_of_le (by decide) hN)) rfl (lw_V q725 q727 qs22 q60 q728) rfl hd_X0_startsJudging rfl rfl (Nat.le_of_ble_eq_true rfl) gZ dX0_place_33 ?_
        refine g_iconst (v := 0) hc dX0_place_36 (by decide) ?_
        refine g_istore_n (lv' := [(3, .int 0), (0, .ref (ad 0)), (1, .int l1), (2, .int l2)]) hc dX0_place_37 rfl (by decide) rfl ?_
        exact g_lv [1, 2, 3, 0] rfl (w_X0_place_b38 hc r9 l1 l2 0 hN (K := K) hf hK hR)
      · have hf := oT h7 hf
        refine g_bipush (v := (-3)) hc dX0_place_28 (by decide) ?_
        have hz := Option.some.inj hf; subst hz
        exact g_iret hc (hR _ hK) dX0_place_30
    · have hf := oT h6 hf
      refine g_iconst (v := (-1)) hc dX0_place_14 (by decide) ?_
      have hz := Option.some.inj hf; subst hz
      exact g_iret hc (hR _ hK) dX0_place_15
theorem c_X0_place {l : Launch} {D : va_G} {dA : Nat → ClassId} {N : Nat} {ad : Nat → Nat} {tl : va_W} {lam : (Nat → Int64)} {σ : (Nat → Nat → Int32)} {l1 : Int32} {l2 : Int32} (hN : 36 ≤ N) {o : Int32 × (Nat → Nat → Int32)} (hf : f_X0_place σ l1 l2 = some o) : gI l D dA (XW dA N ad σ lam ++ tl) (XW dA N ad o.2 lam ++ tl) [.ref (ad 0), .int l1, .int l2] o.1 yX0_place (ws_ yX0_place cX0_place 4 (some .int)) ({ frames := 8, cells := 0, slots := 0, locals := 220 } : Room) :=
  g_startI (own := RX0) ⟨rfl, rfl⟩ (by decide) rfl (Nat.le_of_ble_eq_true rfl) (fun x e hc hR => by
    subst e
    exact w_X0_place hc σ l1 l2 hN (K := fun o1 => o1 = o) hf rfl (by rintro _ rfl; exact hR))
theorem hd_X0_place : yX0_place.cls = RX0 ∧ yX0_place.cls ≠ "java/lang/invoke/MethodHandle" ∧ yX0_place.cls ≠ "java/lang/invoke/VarHandle" ∧ (parseMethodDescriptor yX0_place.desc).map (fun d => d.parameters.length) = some 2 := by decide +kernel
/-! HedgehogLots.move(II)I -/
def f_X0_move_b105 (σ : (Nat → Nat → Int32)) (l1 : Int32) (l2 : Int32) (l3 : Int32) : Option ((Int32 × (Nat → Nat → Int32)) ⊕ (Int32 × (Nat → Nat → Int32))) :=
  some (.inl ((l3 + 1), σ))
theorem w_X0_move_b105 {x : gX} {N : Nat} {ad : Nat → Nat} {tl : va_W} {lam : (Nat → Int64)} (hc : gOk x RX0 cX0_move 4 8 220)  (σ : (Nat → Nat → Int32)) (l1 : Int32) (l2 : Int32) (l3 : Int32) (hN : 36 ≤ N) {K : (Int32 × (Nat → Nat → Int32)) ⊕ (Int32 × (Nat → Nat → Int32)) → Prop} {o : (Int32 × (Nat → Nat → Int32)) ⊕ (Int32 × (Nat → Nat → Int32))} (hf : f_X0_move_b105 σ l1 l2 l3 = some o) (hK : K o) (hI35 : ∀ v : Int32 × (Nat → Nat → Int32), K (.inl v) → gG x 4 0 0 (XW x.dA N ad v.2 lam ++ tl) 35 [(0, .ref (ad 0)), (1, .int l1), (2, .int l2), (3, .int v.1)] []) (hR : ∀ o : Int32 × (Nat → Nat → Int32), K (.inr (o)) → gRi x 0 0 (XW x.dA N ad o.2 lam ++ tl) o.1) : gG x 4 0 0 (XW x.dA N ad σ lam ++ tl) 105 [(0, .ref (ad 0)), (1, .int l1), (2, .int l2), (3, .int l3)] [] := by
  unfold f_X0_move_b105 at hf
  refine g_iinc (v := l3 + 1) (lv' := [(3, .int (l3 + 1)), (0, .ref (ad 0)), (1, .int l1), (2, .int l2)]) hc dX0_move_105 (j := 3) rfl rfl (by decide) rfl ?_
  refine g_goto (tgt := 35) hc dX0_move_108 (by decide) ?_
  have hz := Option.some.inj hf; subst hz
  exact g_lv [1, 2, 3, 0] rfl (hI35 _ hK)
def f_X0_move_b72 (σ : (Nat → Nat → Int32)) (l1 : Int32) (l2 : Int32) (l3 : Int32) : Option ((Int32 × (Nat → Nat → Int32)) ⊕ (Int32 × (Nat → Nat → Int32))) :=
  oC (inb l1 7) <| oL (upd2 σ (sb 1 + 1) l1.toNatClampNeg (nbt (Int8.toInt32 (Int32.toInt8 l3)))) fun s1 => oC (inb l1 7) <| oB (f_X0_wonMany s1 1 (s1 (sb 0 + 2) l1.toNatClampNeg)) fun r6 => oB (f_X0_judges r6.2 l3 r6.1) fun r8 => f_X0_move_b105 r8 l1 l2 l3
theorem w_X0_move_b72 {x : gX} {N : Nat} {ad : Nat → Nat} {tl : va_W} {lam : (Nat → Int64)} (hc : gOk x RX0 cX0_move 4 8 220)  (σ : (Nat → Nat → Int32)) (l1 : Int32) (l2 : Int32) (l3 : Int32) (hN : 36 ≤ N) {K : (Int32 × (Nat → Nat → Int32)) ⊕ (Int32 × (Nat → Nat → Int32)) → Prop} {o : (Int32 × (Nat → Nat → Int32)) ⊕ (Int32 × (Nat → Nat → Int32))} (hf : f_X0_move_b72 σ l1 l2 l3 = some o) (hK : K o) (hI35 : ∀ v : Int32 × (Nat → Nat → Int32), K (.inl v) → gG x 4 0 0 (XW x.dA N ad v.2 lam ++ tl) 35 [(0, .ref (ad 0)), (1, .int l1), (2, .int l2), (3, .int v.1)] []) (hR : ∀ o : Int32 × (Nat → Nat → Int32), K (.inr (o)) → gRi x 0 0 (XW x.dA N ad o.2 lam ++ tl) o.1) : gG x 4 0 0 (XW x.dA N ad σ lam ++ tl) 72 [(0, .ref (ad 0)), (1, .int l1), (2, .int l2), (3, .int l3)] [] := by
  unfold f_X0_move_b72 at hf
  refine g_aload_n hc dX0_move_72 rfl 0 rfl ?_
  refine g_get (v := .ref (ad (sb 1))) hc in_X0 (XW_at (k := 0) (Nat.lt_of_lt_of_le (by decide) hN)) rfl 2 (by decide) q186 rfl dX0_move_73 ?_
  refine g_getN (v := .ref (ad (sb 1 + 1))) hc in_X5 (XW_s0 (gSl 1 hN (by decide))) rfl 1 (by decide) 2 rfl rfl dX0_move_76 ?_
  refine g_iload_n hc dX0_move_79 rfl 1 rfl ?_
  refine g_iload_n hc dX0_move_80 rfl 3 rfl ?_
  refine g_i2b hc dX0_move_81 ?_
  obtain ⟨h3, hf⟩ := oC_some hf
  obtain ⟨s1, e2, hf⟩ := oL_some hf
  refine g_bast (n := 7) (f := σ (sb 1 + 1)) hc (XW_s1 (gSl 1 hN (by decide))) h3 (XW_pa (σ1 := s1) (gSl 1 hN (by decide)) (k := 1) (by decide) e2 rfl) dX0_move_82 ?_
  refine g_aload_n hc dX0_move_83 rfl 0 rfl ?_
  refine g_iload_n hc dX0_move_84 rfl 3 rfl ?_
  refine g_aload_n hc dX0_move_85 rfl 0 rfl ?_
  refine g_aload_n hc dX0_move_86 rfl 0 rfl ?_
  refine g_get (v := .ref (ad (sb 1))) hc in_X0 (XW_at (k := 0) (Nat.lt_of_lt_of_le (by decide) hN)) rfl 2 (by decide) q186 rfl dX0_move_87 ?_
  refine g_aload_n hc dX0_move_90 rfl 0 rfl ?_
  refine g_get (v := .ref (ad (sb 0))) hc in_X0 (XW_at (k := 0) (Nat.lt_of_lt_of_le (by decide) hN)) rfl 1 (by decide) q185 rfl dX0_move_91 ?_
  refine g_getN (v := .ref (ad (sb 0 + 2))) hc in_X5 (XW_s0 (gSl 0 hN (by decide))) rfl 2 (by decide) 3 rfl rfl dX0_move_94 ?_
  refine g_iload_n hc dX0_move_97 rfl 1 rfl ?_
  obtain ⟨h4, hf⟩ := oC_some hf
  refine g_bald (n := 7) (f := s1 (sb 0 + 2)) hc (XW_s2 (gSl 0 hN (by decide))) h4 dX0_move_98 ?_
  obtain ⟨r6, h5, hf⟩ := oB_some hf
  refine g_callVi hc [.ref (ad (sb 1)), .int (s1 (sb 0 + 2) l1.toNatClampNeg)] [.int l3, .ref (ad 0)] (c_X0_wonMany hN (gSl 1 hN (by decide)) h5) (XW_at (k := 0) (Nat.lt_of_lt_of_le (by decide) hN)) rfl (lw_V q729 q731 qs23 q60 q732) rfl hd_X0_wonMany rfl rfl (Nat.le_of_ble_eq_true rfl) gZ dX0_move_99 ?_
  obtain ⟨r8, h7, hf⟩ := oB_some hf
  refine g_callVv hc [.int l3, .int r6.1] [] (c_X0_judges hN h7) (XW_at (k := 0) (Nat.lt_of_lt_of_le (by decide) hN)) rfl (lw_V q733 q735 qs24 q60 q736) rfl hd_X0_judges rfl rfl (Nat.le_of_ble_eq_true rfl) gZ dX0_move_102 ?_
  exact g_lv [0, 1, 2, 3] rfl (w_X0_move_b105 hc r8 l1 l2 l3 hN (K := K) hf hK hI35 hR)
def f_X0_move_L35 (σ : (Nat → Nat → Int32)) (l1 : Int32) (l2 : Int32) (l3 : Int32) : Option ((Int32 × (Nat → Nat → Int32)) ⊕ (Int32 × (Nat → Nat → Int32))) :=
  if 100 ≤ l3 then (oI (oB (f_X0_judged σ l2) fun r3 => some (r3, σ))) else (oB (f_X0_isCell l3) fun r6 => if r6 = 0 then (f_X0_move_b105 σ l1 l2 l3) else (oC (inb l1 7) <| if (σ (sb 0 + 1) l1.toNatClampNeg) = l3 then (f_X0_move_b72 σ l1 l2 l3) else (oB (f_X5_isFree σ 0 l3) fun r11 => if r11 = 0 then (f_X0_move_b105 σ l1 l2 l3) else (f_X0_move_b72 σ l1 l2 l3))))
theorem w_X0_move_L35 {x : gX} {N : Nat} {ad : Nat → Nat} {tl : va_W} {lam : (Nat → Int64)} (hc : gOk x RX0 cX0_move 4 8 220)  (σ : (Nat → Nat → Int32)) (l1 : Int32) (l2 : Int32) (l3 : Int32) (hN : 36 ≤ N) {K : (Int32 × (Nat → Nat → Int32)) ⊕ (Int32 × (Nat → Nat → Int32)) → Prop} {o : (Int32 × (Nat → Nat → Int32)) ⊕ (Int32 × (Nat → Nat → Int32))} (hf : f_X0_move_L35 σ l1 l2 l3 = some o) (hK : K o) (hI35 : ∀ v : Int32 × (Nat → Nat → Int32), K (.inl v) → gG x 4 0 0 (XW x.dA N ad v.2 lam ++ tl) 35 [(0, .ref (ad 0)), (1, .int l1), (2, .int l2), (3, .int v.1)] []) (hR : ∀ o : Int32 × (Nat → Nat → Int32), K (.inr (o)) → gRi x 0 0 (XW x.dA N ad o.2 lam ++ tl) o.1) : gG x 4 0 0 (XW x.dA N ad σ lam ++ tl) 35 [(0, .ref (ad 0)), (1, .int l1), (2, .int l2), (3, .int l3)] [] := by
  unfold f_X0_move_L35 at hf
  refine g_iload_n hc dX0_move_35 rfl 3 rfl ?_
  refine g_bipush (v := 100) hc dX0_move_36 (by decide) ?_
  refine g_icmp_ge (tgt := 111) hc dX0_move_38 (by decide) (fun h1 => ?_) (fun h1 => ?_)
  · have hf := oT h1 hf
    obtain ⟨o4, hgo4, eo4⟩ := oI_some hf
    clear hf; subst eo4; have hf := hgo4; clear hgo4
    refine g_aload_n hc dX0_move_111 rfl 0 rfl ?_
    refine g_iload_n hc dX0_move_112 rfl 2 rfl ?_
    obtain ⟨r3, h2, hf⟩ := oB_some hf
    refine g_callVi hc [.int l2] [] (c_X0_judged hN h2) (XW_at (k := 0) (Nat.lt_of_lt_of_le (by decide) hN)) rfl (lw_V q737 q739 qs25 q60 q740) rfl hd_X0_judged rfl rfl (Nat.le_of_ble_eq_true rfl) gZ dX0_move_113 ?_
    have hz := Option.some.inj hf; subst hz
    exact g_iret hc (hR _ hK) dX0_move_116
  · have hf := oF h1 hf
    refine g_iload_n hc dX0_move_41 rfl 3 rfl ?_
    obtain ⟨r6, h5, hf⟩ := oB_some hf
    refine g_callSi hc [.int l3] [] (c_X0_isCell  h5) (lw_S q635 q486 q60 q487) rfl hd_X0_isCell rfl rfl (Nat.le_of_ble_eq_true rfl) gZ dX0_move_42 ?_
    refine g_if_eq (tgt := 105) hc dX0_move_45 (by decide) (fun h7 => ?_) (fun h7 => ?_)
    · have hf := oT h7 hf
      exact g_lv [0, 1, 2, 3] rfl (w_X0_move_b105 hc σ l1 l2 l3 hN (K := K) hf hK hI35 hR)
    · have hf := oF h7 hf
      refine g_aload_n hc dX0_move_48 rfl 0 rfl ?_
      refine g_get (v := .ref (ad (sb 0))) hc in_X0 (XW_at (k := 0) (Nat.lt_of_lt_of_le (by decide) hN)) rfl 1 (by decide) q185 rfl dX0_move_49 ?_
      refine g_getN (v := .ref (ad (sb 0 + 1))) hc in_X5 (XW_s0 (gSl 0 hN (by decide))) rfl 1 (by decide) 2 rfl rfl dX0_move_52 ?_
      refine g_iload_n hc dX0_move_55 rfl 1 rfl ?_
      obtain ⟨h8, hf⟩ := oC_some hf
      refine g_bald (n := 7) (f := σ (sb 0 + 1)) hc (XW_s1 (gSl 0 hN (by decide))) h8 dX0_move_56 ?_
      refine g_iload_n hc dX0_move_57 rfl 3 rfl ?_
      refine g_icmp_eq (tgt := 72) hc dX0_move_58 (by decide) (fun h9 => ?_) (fun h9 => ?_)
      · have hf := oT h9 hf
        exact g_lv [0, 1, 2, 3] rfl (w_X0_move_b72 hc σ l1 l2 l3 hN (K := K) hf hK hI35 hR)
      · have hf := oF h9 hf
        refine g_aload_n hc dX0_move_61 rfl 0 rfl ?_
        refine g_get (v := .ref (ad (sb 0))) hc in_X0 (XW_at (k := 0) (Nat.lt_of_lt_of_le (by decide) hN)) rfl 1 (by decide) q185 rfl dX0_move_62 ?_
        refine g_iload_n hc dX0_move_65 rfl 3 rfl ?_
        obtain ⟨r11, h10, hf⟩ := oB_some hf
        refine g_callVi hc [.int l3] [] (c_X5_isFree hN (gSl 0 hN (by decide)) h10) (XW_s0 (gSl 0 hN (by decide))) rfl (lw_V q636 q490 q491 q65 q492) rfl hd_X5_isFree rfl rfl (Nat.le_of_ble_eq_true rfl) gZ dX0_move_66 ?_
        refine g_if_eq (tgt := 105) hc dX0_move_69 (by decide) (fun h12 => ?_) (fun h12 => ?_)
        · have hf := oT h12 hf
          exact g_lv [0, 1, 2, 3] rfl (w_X0_move_b105 hc σ l1 l2 l3 hN (K := K) hf hK hI35 hR)
        · have hf := oF h12 hf
          exact g_lv [0, 1, 2, 3] rfl (w_X0_move_b72 hc σ l1 l2 l3 hN (K := K) hf hK hI35 hR)
def f_X0_move_b35 (σ : (Nat → Nat → Int32)) (l1 : Int32) (l2 : Int32) (l3 : Int32) : Option (Int32 × (Nat → Nat → Int32)) :=
  oLoop gFU (fun v : Int32 × (Nat → Nat → Int32) => f_X0_move_L35 v.2 l1 l2 v.1) (l3, σ)
theorem w_X0_move_b35 {x : gX} {N : Nat} {ad : Nat → Nat} {tl : va_W} {lam : (Nat → Int64)} (hc : gOk x RX0 cX0_move 4 8 220)  (σ : (Nat → Nat → Int32)) (l1 : Int32) (l2 : Int32) (l3 : Int32) (hN : 36 ≤ N) {K : Int32 × (Nat → Nat → Int32) → Prop} {o : Int32 × (Nat → Nat → Int32)} (hf : f_X0_move_b35 σ l1 l2 l3 = some o) (hK : K o) (hR : ∀ o : Int32 × (Nat → Nat → Int32), K o → gRi x 0 0 (XW x.dA N ad o.2 lam ++ tl) o.1) : gG x 4 0 0 (XW x.dA N ad σ lam ++ tl) 35 [(0, .ref (ad 0)), (1, .int l1), (2, .int l2), (3, .int l3)] [] :=
  oLoop_ind (fun v : Int32 × (Nat → Nat → Int32) => gG x 4 0 0 (XW x.dA N ad v.2 lam ++ tl) 35 [(0, .ref (ad 0)), (1, .int l1), (2, .int l2), (3, .int v.1)] []) K (fun v o1 hf1 hK1 => w_X0_move_L35 hc v.2 l1 l2 v.1 hN (K := Sum.elim (fun v : Int32 × (Nat → Nat → Int32) => gG x 4 0 0 (XW x.dA N ad v.2 lam ++ tl) 35 [(0, .ref (ad 0)), (1, .int l1), (2, .int l2), (3, .int v.1)] []) K) hf1 hK1 (fun v hv => hv) hR) gFU _ o hf hK
def f_X0_move (σ : (Nat → Nat → Int32)) (l1 : Int32) (l2 : Int32) : Option (Int32 × (Nat → Nat → Int32)) :=
  oB (f_X0_isPeg σ l1) fun r2 => if r2 = 0 then (some ((-1), σ)) else (oB (f_X0_isPart l2) fun r5 => if r5 = 0 then (some ((-1), σ)) else (oB (f_X0_startsJudging σ (-1)) fun r8 => oB (f_X5_as r8 1 0) fun r10 => f_X0_move_b35 r10 l1 l2 0))
theorem w_X0_move {x : gX} {N : Nat} {ad : Nat → Nat} {tl : va_W} {lam : (Nat → Int64)} (hc : gOk x RX0 cX0_move 4 8 220)  (σ : (Nat → Nat → Int32)) (l1 : Int32) (l2 : Int32) (hN : 36 ≤ N) {K : Int32 × (Nat → Nat → Int32) → Prop} {o : Int32 × (Nat → Nat → Int32)} (hf : f_X0_move σ l1 l2 = some o) (hK : K o) (hR : ∀ o : Int32 × (Nat → Nat → Int32), K o → gRi x 0 0 (XW x.dA N ad o.2 lam ++ tl) o.1) : gG x 4 0 0 (XW x.dA N ad σ lam ++ tl) 0 [(0, .ref (ad 0)), (1, .int l1), (2, .int l2)] [] := by
  unfold f_X0_move at hf
  refine g_aload_n hc dX0_move_0 rfl 0 rfl ?_
  refine g_iload_n hc dX0_move_1 rfl 1 rfl ?_
  obtain ⟨r2, h1, hf⟩ := oB_some hf
  refine g_callVi hc [.int l1] [] (c_X0_isPeg hN h1) (XW_at (k := 0) (Nat.lt_of_lt_of_le (by decide) hN)) rfl (lw_V q609 q611 qs18 q60 q612) rfl hd_X0_isPeg rfl rfl (Nat.le_of_ble_eq_true rfl) gZ dX0_move_2 ?_
  refine g_if_eq (tgt := 15) hc dX0_move_5 (by decide) (fun h3 => ?_) (fun h3 => ?_)
  · have hf := oT h3 hf
    refine g_iconst (v := (-1)) hc dX0_move_15 (by decide) ?_
    have hz := Option.some.inj hf; subst hz
    exact g_iret hc (hR _ hK) dX0_move_16
  · have hf := oF h3 hf
    refine g_iload_n hc dX0_move_8 rfl 2 rfl ?_
    obtain ⟨r5, h4, hf⟩ := oB_some hf
    refine g_callSi hc [.int l2] [] (c_X0_isPart  h4) (lw_S q722 q723 q60 q724) rfl hd_X0_isPart rfl rfl (Nat.le_of_ble_eq_true rfl) gZ dX0_move_9 ?_
    refine g_if_ne (tgt := 17) hc dX0_move_12 (by decide) (fun h6 => ?_) (fun h6 => ?_)
    · have hf := oF h6 hf
      refine g_aload_n hc dX0_move_17 rfl 0 rfl ?_
      refine g_iconst (v := (-1)) hc dX0_move_18 (by decide) ?_
      obtain ⟨r8, h7, hf⟩ := oB_some hf
      refine g_callVv hc [.int (-1)] [] (c_X0_startsJudging hN h7) (XW_at (k := 0) (Nat.lt_of_lt_of_le (by decide) hN)) rfl (lw_V q725 q727 qs22 q60 q728) rfl hd_X0_startsJudging rfl rfl (Nat.le_of_ble_eq_true rfl) gZ dX0_move_19 ?_
      refine g_aload_n hc dX0_move_22 rfl 0 rfl ?_
      refine g_get (v := .ref (ad (sb 1))) hc in_X0 (XW_at (k := 0) (Nat.lt_of_lt_of_le (by decide) hN)) rfl 2 (by decide) q186 rfl dX0_move_23 ?_
      refine g_aload_n hc dX0_move_26 rfl 0 rfl ?_
      refine g_get (v := .ref (ad (sb 0))) hc in_X0 (XW_at (k := 0) (Nat.lt_of_lt_of_le (by decide) hN)) rfl 1 (by decide) q185 rfl dX0_move_27 ?_
      obtain ⟨r10, h9, hf⟩ := oB_some hf
      refine g_callVv hc [.ref (ad (sb 0))] [] (c_X5_as hN (gSl 1 hN (by decide)) (gSl 0 hN (by decide)) h9) (XW_s0 (gSl 1 hN (by decide))) rfl (lw_V q521 q522 q523 q65 q524) rfl hd_X5_as rfl rfl (Nat.le_of_ble_eq_true rfl) gZ dX0_move_30 ?_
      refine g_iconst (v := 0) hc dX0_move_33 (by decide) ?_
      refine g_istore_n (lv' := [(3, .int 0), (0, .ref (ad 0)), (1, .int l1), (2, .int l2)]) hc dX0_move_34 rfl (by decide) rfl ?_
      exact g_lv [1, 2, 3, 0] rfl (w_X0_move_b35 hc r10 l1 l2 0 hN (K := K) hf hK hR)
    · have hf := oT h6 hf
      refine g_iconst (v := (-1)) hc dX0_move_15 (by decide) ?_
      have hz := Option.some.inj hf; subst hz
      exact g_iret hc (hR _ hK) dX0_move_16
theorem c_X0_move {l : Launch} {D : va_G} {dA : Nat → ClassId} {N : Nat} {ad : Nat → Nat} {tl : va_W} {lam : (Nat → Int64)} {σ : (Nat → Nat → Int32)} {l1 : Int32} {l2 : Int32} (hN : 36 ≤ N) {o : Int32 × (Nat → Nat → Int32)} (hf : f_X0_move σ l1 l2 = some o) : gI l D dA (XW dA N ad σ lam ++ tl) (XW dA N ad o.2 lam ++ tl) [.ref (ad 0), .int l1, .int l2] o.1 yX0_move (ws_ yX0_move cX0_move 4 (some .int)) ({ frames := 8, cells := 0, slots := 0, locals := 220 } : Room) :=
  g_startI (own := RX0) ⟨rfl, rfl⟩ (by decide) rfl (Nat.le_of_ble_eq_true rfl) (fun x e hc hR => by
    subst e
    exact w_X0_move hc σ l1 l2 hN (K := fun o1 => o1 = o) hf rfl (by rintro _ rfl; exact hR))
theorem hd_X0_move : yX0_move.cls = RX0 ∧ yX0_move.cls ≠ "java/lang/invoke/MethodHandle" ∧ yX0_move.cls ≠ "java/lang/invoke/VarHandle" ∧ (parseMethodDescriptor yX0_move.desc).map (fun d => d.parameters.length) = some 2 := by decide +kernel
/-! HedgehogLots.wonByOthers(LHedgehogLots$Slope;I)I -/
def f_X0_wonByOthers (σ : (Nat → Nat → Int32)) (u : Nat) (l2 : Int32) : Option (Int32 × (Nat → Nat → Int32)) :=
  oB (f_X0_wonByAny σ u) fun r2 => oB (f_X0_won r2.2 u l2) fun r4 => oB (f_J7_bitCount (r2.1 &&& (r4.1 ^^^ (-1)))) fun r6 => some (r6, r4.2)
theorem w_X0_wonByOthers {x : gX} {N : Nat} {ad : Nat → Nat} {tl : va_W} {lam : (Nat → Int64)} (hc : gOk x RX0 cX0_wonByOthers 3 8 221)  (σ : (Nat → Nat → Int32)) (u : Nat) (l2 : Int32) (hN : 36 ≤ N) (hu : gS u N) {K : Int32 × (Nat → Nat → Int32) → Prop} {o : Int32 × (Nat → Nat → Int32)} (hf : f_X0_wonByOthers σ u l2 = some o) (hK : K o) (hR : ∀ o : Int32 × (Nat → Nat → Int32), K o → gRi x 0 0 (XW x.dA N ad o.2 lam ++ tl) o.1) : gG x 3 0 0 (XW x.dA N ad σ lam ++ tl) 0 [(0, .ref (ad 0)), (1, .ref (ad (sb u))), (2, .int l2)] [] := by
  unfold f_X0_wonByOthers at hf
  refine g_aload_n hc dX0_wonByOthers_0 rfl 0 rfl ?_
  refine g_aload_n hc dX0_wonByOthers_1 rfl 1 rfl ?_
  obtain ⟨r2, h1, hf⟩ := oB_some hf
  refine g_callVi hc [.ref (ad (sb u))] [] (c_X0_wonByAny hN hu h1) (XW_at (k := 0) (Nat.lt_of_lt_of_le (by decide) hN)) rfl (lw_V q593 q595 qs15 q60 q596) rfl hd_X0_wonByAny rfl rfl (Nat.le_of_ble_eq_true rfl) gZ dX0_wonByOthers_2 ?_
  refine g_aload_n hc dX0_wonByOthers_5 rfl 0 rfl ?_
  refine g_aload_n hc dX0_wonByOthers_6 rfl 1 rfl ?_
  refine g_iload_n hc dX0_wonByOthers_7 rfl 2 rfl ?_
  obtain ⟨r4, h3, hf⟩ := oB_some hf
  refine g_callVi hc [.ref (ad (sb u)), .int l2] [.int r2.1] (c_X0_won hN hu h3) (XW_at (k := 0) (Nat.lt_of_lt_of_le (by decide) hN)) rfl (lw_V q597 q599 qs16 q60 q600) rfl hd_X0_won rfl rfl (Nat.le_of_ble_eq_true rfl) gZ dX0_wonByOthers_8 ?_
  refine g_iconst (v := (-1)) hc dX0_wonByOthers_11 (by decide) ?_
  refine g_ixor hc dX0_wonByOthers_12 ?_
  refine g_iand hc dX0_wonByOthers_13 ?_
  obtain ⟨r6, h5, hf⟩ := oB_some hf
  refine g_callSi hc [.int (r2.1 &&& (r4.1 ^^^ (-1)))] [] (c_J7_bitCount  h5) (lw_S q700 q701 q78 q702) rfl hd_J7_bitCount rfl rfl (Nat.le_of_ble_eq_true rfl) gZ dX0_wonByOthers_14 ?_
  have hz := Option.some.inj hf; subst hz
  exact g_iret hc (hR _ hK) dX0_wonByOthers_17
theorem c_X0_wonByOthers {l : Launch} {D : va_G} {dA : Nat → ClassId} {N : Nat} {ad : Nat → Nat} {tl : va_W} {lam : (Nat → Int64)} {σ : (Nat → Nat → Int32)} {u : Nat} {l2 : Int32} (hN : 36 ≤ N) (hu : gS u N) {o : Int32 × (Nat → Nat → Int32)} (hf : f_X0_wonByOthers σ u l2 = some o) : gI l D dA (XW dA N ad σ lam ++ tl) (XW dA N ad o.2 lam ++ tl) [.ref (ad 0), .ref (ad (sb u)), .int l2] o.1 yX0_wonByOthers (ws_ yX0_wonByOthers cX0_wonByOthers 3 (some .int)) ({ frames := 8, cells := 0, slots := 0, locals := 221 } : Room) :=
  g_startI (own := RX0) ⟨rfl, rfl⟩ (by decide) rfl (Nat.le_of_ble_eq_true rfl) (fun x e hc hR => by
    subst e
    exact w_X0_wonByOthers hc σ u l2 hN hu (K := fun o1 => o1 = o) hf rfl (by rintro _ rfl; exact hR))
theorem hd_X0_wonByOthers : yX0_wonByOthers.cls = RX0 ∧ yX0_wonByOthers.cls ≠ "java/lang/invoke/MethodHandle" ∧ yX0_wonByOthers.cls ≠ "java/lang/invoke/VarHandle" ∧ (parseMethodDescriptor yX0_wonByOthers.desc).map (fun d => d.parameters.length) = some 2 := by decide +kernel
/-! HedgehogLots.bribe(II)I -/
def f_X0_bribe_b121 (σ : (Nat → Nat → Int32)) (l1 : Int32) (l2 : Int32) (l3 : Int32) (l4 : Int32) (l5 : Int32) : Option ((Int32 × Int32 × Int32 × (Nat → Nat → Int32)) ⊕ (Int32 × (Nat → Nat → Int32))) :=
  some (.inl (l3, l4, (l5 + 1), σ))
theorem w_X0_bribe_b121 {x : gX} {N : Nat} {ad : Nat → Nat} {tl : va_W} {lam : (Nat → Int64)} (hc : gOk x RX0 cX0_bribe 7 9 243)  (σ : (Nat → Nat → Int32)) (l1 : Int32) (l2 : Int32) (l3 : Int32) (l4 : Int32) (l5 : Int32) (hN : 36 ≤ N) {K : (Int32 × Int32 × Int32 × (Nat → Nat → Int32)) ⊕ (Int32 × (Nat → Nat → Int32)) → Prop} {o : (Int32 × Int32 × Int32 × (Nat → Nat → Int32)) ⊕ (Int32 × (Nat → Nat → Int32))} (hf : f_X0_bribe_b121 σ l1 l2 l3 l4 l5 = some o) (hK : K o) (hI41 : ∀ v : Int32 × Int32 × Int32 × (Nat → Nat → Int32), K (.inl v) → gG x 7 0 0 (XW x.dA N ad v.2.2.2 lam ++ tl) 41 [(0, .ref (ad 0)), (1, .int l1), (2, .int l2), (3, .int v.1), (4, .int v.2.1), (5, .int v.2.2.1)] []) (hR : ∀ o : Int32 × (Nat → Nat → Int32), K (.inr (o)) → gRi x 0 0 (XW x.dA N ad o.2 lam ++ tl) o.1) : gG x 7 0 0 (XW x.dA N ad σ lam ++ tl) 121 [(0, .ref (ad 0)), (1, .int l1), (2, .int l2), (3, .int l3), (4, .int l4), (5, .int l5)] [] := by
  unfold f_X0_bribe_b121 at hf
  refine g_iinc (v := l5 + 1) (lv' := [(5, .int (l5 + 1)), (0, .ref (ad 0)), (1, .int l1), (2, .int l2), (3, .int l3), (4, .int l4)]) hc dX0_bribe_121 (j := 5) rfl rfl (by decide) rfl ?_
  refine g_goto (tgt := 41) hc dX0_bribe_124 (by decide) ?_
  have hz := Option.some.inj hf; subst hz
  exact g_lv [1, 2, 3, 4, 5, 0] rfl (hI41 _ hK)
def f_X0_bribe_b112 (σ : (Nat → Nat → Int32)) (l1 : Int32) (l2 : Int32) (l3 : Int32) (l5 : Int32) (l6 : Int32) (k1 : Int32) : Option ((Int32 × Int32 × Int32 × (Nat → Nat → Int32)) ⊕ (Int32 × (Nat → Nat → Int32))) :=
  f_X0_bribe_b121 σ l1 l2 (if l6 < l3 then l6 else l3) k1 l5
theorem w_X0_bribe_b112 {x : gX} {N : Nat} {ad : Nat → Nat} {tl : va_W} {lam : (Nat → Int64)} (hc : gOk x RX0 cX0_bribe 7 9 243)  (σ : (Nat → Nat → Int32)) (l1 : Int32) (l2 : Int32) (l3 : Int32) (l5 : Int32) (l6 : Int32) (k1 : Int32) (hN : 36 ≤ N) {K : (Int32 × Int32 × Int32 × (Nat → Nat → Int32)) ⊕ (Int32 × (Nat → Nat → Int32)) → Prop} {o : (Int32 × Int32 × Int32 × (Nat → Nat → Int32)) ⊕ (Int32 × (Nat → Nat → Int32))} (hf : f_X0_bribe_b112 σ l1 l2 l3 l5 l6 k1 = some o) (hK : K o) (hI41 : ∀ v : Int32 × Int32 × Int32 × (Nat → Nat → Int32), K (.inl v) → gG x 7 0 0 (XW x.dA N ad v.2.2.2 lam ++ tl) 41 [(0, .ref (ad 0)), (1, .int l1), (2, .int l2), (3, .int v.1), (4, .int v.2.1), (5, .int v.2.2.1)] []) (hR : ∀ o : Int32 × (Nat → Nat → Int32), K (.inr (o)) → gRi x 0 0 (XW x.dA N ad o.2 lam ++ tl) o.1) : gG x 7 0 0 (XW x.dA N ad σ lam ++ tl) 112 [(0, .ref (ad 0)), (1, .int l1), (2, .int l2), (3, .int l3), (5, .int l5), (6, .int l6)] [.int k1] := by
  unfold f_X0_bribe_b112 at hf
  refine g_istore (lv' := [(4, .int k1), (0, .ref (ad 0)), (1, .int l1), (2, .int l2), (3, .int l3), (5, .int l5), (6, .int l6)]) hc dX0_bribe_112 (by decide) rfl ?_
  refine g_iload_n hc dX0_bribe_114 rfl 4 rfl ?_
  refine g_iload hc dX0_bribe_115 6 rfl ?_
  refine g_min hc q589 q590 q591 (by decide) (Nat.le_of_ble_eq_true rfl) gZ dX0_bribe_117 ?_
  refine g_istore_n (lv' := [(3, .int (if l6 < l3 then l6 else l3)), (4, .int k1), (0, .ref (ad 0)), (1, .int l1), (2, .int l2), (5, .int l5), (6, .int l6)]) hc dX0_bribe_120 rfl (by decide) rfl ?_
  exact g_lv [2, 3, 4, 0, 1, 5] rfl (w_X0_bribe_b121 hc σ l1 l2 (if l6 < l3 then l6 else l3) k1 l5 hN (K := K) hf hK hI41 hR)
def f_X0_bribe_L41 (σ : (Nat → Nat → Int32)) (l1 : Int32) (l2 : Int32) (l3 : Int32) (l4 : Int32) (l5 : Int32) : Option ((Int32 × Int32 × Int32 × (Nat → Nat → Int32)) ⊕ (Int32 × (Nat → Nat → Int32))) :=
  if 100 ≤ l5 then (oI (if l2 = 0 then (some (l4, σ)) else (some (l3, σ)))) else (oB (f_X0_isCell l5) fun r5 => if r5 = 0 then (f_X0_bribe_b121 σ l1 l2 l3 l4 l5) else (oB (f_X5_isFree σ 0 l5) fun r8 => if r8 = 0 then (f_X0_bribe_b121 σ l1 l2 l3 l4 l5) else (oB (f_X5_as σ 1 0) fun r11 => oB (f_X5_lays r11 1 l5) fun r13 => oB (f_X0_wonByOthers r13 1 l1) fun r15 => if l3 ≤ r15.1 then (f_X0_bribe_b112 r15.2 l1 l2 l3 l5 r15.1 l4) else (f_X0_bribe_b112 r15.2 l1 l2 l3 l5 r15.1 l5))))
theorem w_X0_bribe_L41 {x : gX} {N : Nat} {ad : Nat → Nat} {tl : va_W} {lam : (Nat → Int64)} (hc : gOk x RX0 cX0_bribe 7 9 243)  (σ : (Nat → Nat → Int32)) (l1 : Int32) (l2 : Int32) (l3 : Int32) (l4 : Int32) (l5 : Int32) (hN : 36 ≤ N) {K : (Int32 × Int32 × Int32 × (Nat → Nat → Int32)) ⊕ (Int32 × (Nat → Nat → Int32)) → Prop} {o : (Int32 × Int32 × Int32 × (Nat → Nat → Int32)) ⊕ (Int32 × (Nat → Nat → Int32))} (hf : f_X0_bribe_L41 σ l1 l2 l3 l4 l5 = some o) (hK : K o) (hI41 : ∀ v : Int32 × Int32 × Int32 × (Nat → Nat → Int32), K (.inl v) → gG x 7 0 0 (XW x.dA N ad v.2.2.2 lam ++ tl) 41 [(0, .ref (ad 0)), (1, .int l1), (2, .int l2), (3, .int v.1), (4, .int v.2.1), (5, .int v.2.2.1)] []) (hR : ∀ o : Int32 × (Nat → Nat → Int32), K (.inr (o)) → gRi x 0 0 (XW x.dA N ad o.2 lam ++ tl) o.1) : gG x 7 0 0 (XW x.dA N ad σ lam ++ tl) 41 [(0, .ref (ad 0)), (1, .int l1), (2, .int l2), (3, .int l3), (4, .int l4), (5, .int l5)] [] := by
  unfold f_X0_bribe_L41 at hf
  refine g_iload hc dX0_bribe_41 5 rfl ?_
  refine g_bipush (v := 100) hc dX0_bribe_43 (by decide) ?_
  refine g_icmp_ge (tgt := 127) hc dX0_bribe_45 (by decide) (fun h1 => ?_) (fun h1 => ?_)
  · have hf := oT h1 hf
    obtain ⟨o3, hgo3, eo3⟩ := oI_some hf
    clear hf; subst eo3; have hf := hgo3; clear hgo3
    refine g_iload_n hc dX0_bribe_127 rfl 2 rfl ?_
    refine g_if_ne (tgt := 136) hc dX0_bribe_128 (by decide) (fun h2 => ?_) (fun h2 => ?_)
    · have hf := oF h2 hf
      refine g_iload_n hc dX0_bribe_136 rfl 3 rfl ?_
      have hz := Option.some.inj hf; subst hz
      exact g_iret hc (hR _ hK) dX0_bribe_137
    · have hf := oT h2 hf
      refine g_iload hc dX0_bribe_131 4 rfl ?_
      refine g_goto (tgt := 137) hc dX0_bribe_133 (by decide) ?_
      have hz := Option.some.inj hf; subst hz
      exact g_iret hc (hR _ hK) dX0_bribe_137
  · have hf := oF h1 hf
    refine g_iload hc dX0_bribe_48 5 rfl ?_
    obtain ⟨r5, h4, hf⟩ := oB_some hf
    refine g_callSi hc [.int l5] [] (c_X0_isCell  h4) (lw_S q635 q486 q60 q487) rfl hd_X0_isCell rfl rfl (Nat.le_of_ble_eq_true rfl) gZ dX0_bribe_50 ?_
    refine g_if_eq (tgt := 121) hc dX0_bribe_53 (by decide) (fun h6 => ?_) (fun h6 => ?_)
    · have hf := oT h6 hf
      exact g_lv [0, 1, 2, 3, 4, 5] rfl (w_X0_bribe_b121 hc σ l1 l2 l3 l4 l5 hN (K := K) hf hK hI41 hR)
    · have hf := oF h6 hf
      refine g_aload_n hc dX0_bribe_56 rfl 0 rfl ?_
      refine g_get (v := .ref (ad (sb 0))) hc in_X0 (XW_at (k := 0) (Nat.lt_of_lt_of_le (by decide) hN)) rfl 1 (by decide) q185 rfl dX0_bribe_57 ?_
      refine g_iload hc dX0_bribe_60 5 rfl ?_
      obtain ⟨r8, h7, hf⟩ := oB_some hf
      refine g_callVi hc [.int l5] [] (c_X5_isFree hN (gSl 0 hN (by decide)) h7) (XW_s0 (gSl 0 hN (by decide))) rfl (lw_V q636 q490 q491 q65 q492) rfl hd_X5_isFree rfl rfl (Nat.le_of_ble_eq_true rfl) gZ dX0_bribe_62 ?_
      refine g_if_eq (tgt := 121) hc dX0_bribe_65 (by decide) (fun h9 => ?_) (fun h9 => ?_)
      · have hf := oT h9 hf
        exact g_lv [0, 1, 2, 3, 4, 5] rfl (w_X0_bribe_b121 hc σ l1 l2 l3 l4 l5 hN (K := K) hf hK hI41 hR)
      · have hf := oF h9 hf
        refine g_aload_n hc dX0_bribe_68 rfl 0 rfl ?_
        refine g_get (v := .ref (ad (sb 1))) hc in_X0 (XW_at (k := 0) (Nat.lt_of_lt_of_le (by decide) hN)) rfl 2 (by decide) q186 rfl dX0_bribe_69 ?_
        refine g_aload_n hc dX0_bribe_72 rfl 0 rfl ?_
        refine g_get (v := .ref (ad (sb 0))) hc in_X0 (XW_at (k := 0) (Nat.lt_of_lt_of_le (by decide) hN)) rfl 1 (by decide) q185 rfl dX0_bribe_73 ?_
        obtain ⟨r11, h10, hf⟩ := oB_some hf
        refine g_callVv hc [.ref (ad (sb 0))] [] (c_X5_as hN (gSl 1 hN (by decide)) (gSl 0 hN (by decide)) h10) (XW_s0 (gSl 1 hN (by decide))) rfl (lw_V q521 q522 q523 q65 q524) rfl hd_X5_as rfl rfl (Nat.le_of_ble_eq_true rfl) gZ dX0_bribe_76 ?_
        refine g_aload_n hc dX0_bribe_79 rfl 0 rfl ?_
        refine g_get (v := .ref (ad (sb 1))) hc in_X0 (XW_at (k := 0) (Nat.lt_of_lt_of_le (by decide) hN)) rfl 2 (by decide) q186 rfl dX0_bribe_80 ?_
        refine g_iload hc dX0_bribe_83 5 rfl ?_
        obtain ⟨r13, h12, hf⟩ := oB_some hf
        refine g_callVv hc [.int l5] [] (c_X5_lays hN (gSl 1 hN (by decide)) h12) (XW_s0 (gSl 1 hN (by decide))) rfl (lw_V q658 q511 q512 q65 q513) rfl hd_X5_lays rfl rfl (Nat.le_of_ble_eq_true rfl) gZ dX0_bribe_85 ?_
        refine g_aload_n hc dX0_bribe_88 rfl 0 rfl ?_
        refine g_aload_n hc dX0_bribe_89 rfl 0 rfl ?_
        refine g_get (v := .ref (ad (sb 1))) hc in_X0 (XW_at (k := 0) (Nat.lt_of_lt_of_le (by decide) hN)) rfl 2 (by decide) q186 rfl dX0_bribe_90 ?_
        refine g_iload_n hc dX0_bribe_93 rfl 1 rfl ?_
        obtain ⟨r15, h14, hf⟩ := oB_some hf
        refine g_callVi hc [.ref (ad (sb 1)), .int l1] [] (c_X0_wonByOthers hN (gSl 1 hN (by decide)) h14) (XW_at (k := 0) (Nat.lt_of_lt_of_le (by decide) hN)) rfl (lw_V q750 q752 qs26 q60 q753) rfl hd_X0_wonByOthers rfl rfl (Nat.le_of_ble_eq_true rfl) gZ dX0_bribe_94 ?_
        refine g_istore (lv' := [(6, .int r15.1), (0, .ref (ad 0)), (1, .int l1), (2, .int l2), (3, .int l3), (4, .int l4), (5, .int l5)]) hc dX0_bribe_97 (by decide) rfl ?_
        refine g_iload hc dX0_bribe_99 0 rfl ?_
        refine g_iload_n hc dX0_bribe_101 rfl 4 rfl ?_
        refine g_icmp_ge (tgt := 110) hc dX0_bribe_102 (by decide) (fun h16 => ?_) (fun h16 => ?_)
        · have hf := oT h16 hf
          refine g_iload hc dX0_bribe_110 5 rfl ?_
          exact g_lv [1, 2, 3, 4, 6, 0] rfl (w_X0_bribe_b112 hc r15.2 l1 l2 l3 l5 r15.1 l4 hN (K := K) hf hK hI41 hR)
        · have hf := oF h16 hf
          refine g_iload hc dX0_bribe_105 6 rfl ?_
          refine g_goto (tgt := 112) hc dX0_bribe_107 (by decide) ?_
          exact g_lv [1, 2, 3, 4, 6, 0] rfl (w_X0_bribe_b112 hc r15.2 l1 l2 l3 l5 r15.1 l5 hN (K := K) hf hK hI41 hR)
def f_X0_bribe_b41 (σ : (Nat → Nat → Int32)) (l1 : Int32) (l2 : Int32) (l3 : Int32) (l4 : Int32) (l5 : Int32) : Option (Int32 × (Nat → Nat → Int32)) :=
  oLoop gFU (fun v : Int32 × Int32 × Int32 × (Nat → Nat → Int32) => f_X0_bribe_L41 v.2.2.2 l1 l2 v.1 v.2.1 v.2.2.1) (l3, l4, l5, σ)
theorem w_X0_bribe_b41 {x : gX} {N : Nat} {ad : Nat → Nat} {tl : va_W} {lam : (Nat → Int64)} (hc : gOk x RX0 cX0_bribe 7 9 243)  (σ : (Nat → Nat → Int32)) (l1 : Int32) (l2 : Int32) (l3 : Int32) (l4 : Int32) (l5 : Int32) (hN : 36 ≤ N) {K : Int32 × (Nat → Nat → Int32) → Prop} {o : Int32 × (Nat → Nat → Int32)} (hf : f_X0_bribe_b41 σ l1 l2 l3 l4 l5 = some o) (hK : K o) (hR : ∀ o : Int32 × (Nat → Nat → Int32), K o → gRi x 0 0 (XW x.dA N ad o.2 lam ++ tl) o.1) : gG x 7 0 0 (XW x.dA N ad σ lam ++ tl) 41 [(0, .ref (ad 0)), (1, .int l1), (2, .int l2), (3, .int l3), (4, .int l4), (5, .int l5)] [] :=
  oLoop_ind (fun v : Int32 × Int32 × Int32 × (Nat → Nat → Int32) => gG x 7 0 0 (XW x.dA N ad v.2.2.2 lam ++ tl) 41 [(0, .ref (ad 0)), (1, .int l1), (2, .int l2), (3, .int v.1), (4, .int v.2.1), (5, .int v.2.2.1)] []) K (fun v o1 hf1 hK1 => w_X0_bribe_L41 hc v.2.2.2 l1 l2 v.1 v.2.1 v.2.2.1 hN (K := Sum.elim (fun v : Int32 × Int32 × Int32 × (Nat → Nat → Int32) => gG x 7 0 0 (XW x.dA N ad v.2.2.2 lam ++ tl) 41 [(0, .ref (ad 0)), (1, .int l1), (2, .int l2), (3, .int v.1), (4, .int v.2.1), (5, .int v.2.2.1)] []) K) hf1 hK1 (fun v hv => hv) hR) gFU _ o hf hK
def f_X0_bribe (σ : (Nat → Nat → Int32)) (l1 : Int32) (l2 : Int32) : Option (Int32 × (Nat → Nat → Int32)) :=
  oB (f_X0_isRag l1) fun r2 => if r2 = 0 then (some ((-1), σ)) else (oB (f_X0_isPart l2) fun r5 => if r5 = 0 then (some ((-1), σ)) else (if (σ (sb 0) 3) = 4 then (some ((-3), σ)) else (f_X0_bribe_b41 σ l1 l2 1000000 (-4) 0)))
theorem w_X0_bribe {x : gX} {N : Nat} {ad : Nat → Nat} {tl : va_W} {lam : (Nat → Int64)} (hc : gOk x RX0 cX0_bribe 7 9 243)  (σ : (Nat → Nat → Int32)) (l1 : Int32) (l2 : Int32) (hN : 36 ≤ N) {K : Int32 × (Nat → Nat → Int32) → Prop} {o : Int32 × (Nat → Nat → Int32)} (hf : f_X0_bribe σ l1 l2 = some o) (hK : K o) (hR : ∀ o : Int32 × (Nat → Nat → Int32), K o → gRi x 0 0 (XW x.dA N ad o.2 lam ++ tl) o.1) : gG x 7 0 0 (XW x.dA N ad σ lam ++ tl) 0 [(0, .ref (ad 0)), (1, .int l1), (2, .int l2)] [] := by
  unfold f_X0_bribe at hf
  refine g_iload_n hc dX0_bribe_0 rfl 1 rfl ?_
  obtain ⟨r2, h1, hf⟩ := oB_some hf
  refine g_callSi hc [.int l1] [] (c_X0_isRag  h1) (lw_S q641 q642 q60 q643) rfl hd_X0_isRag rfl rfl (Nat.le_of_ble_eq_true rfl) gZ dX0_bribe_1 ?_
  refine g_if_eq (tgt := 14) hc dX0_bribe_4 (by decide) (fun h3 => ?_) (fun h3 => ?_)
  · have hf := oT h3 hf
    refine g_iconst (v := (-1)) hc dX0_bribe_14 (by decide) ?_
    have hz := Option.some.inj hf; subst hz
    exact g_iret hc (hR _ hK) dX0_bribe_15
  · have hf := oF h3 hf
    refine g_iload_n hc dX0_bribe_7 rfl 2 rfl ?_
    obtain ⟨r5, h4, hf⟩ := oB_some hf
    refine g_callSi hc [.int l2] [] (c_X0_isPart  h4) (lw_S q722 q723 q60 q724) rfl hd_X0_isPart rfl rfl (Nat.le_of_ble_eq_true rfl) gZ dX0_bribe_8 ?_
    refine g_if_ne (tgt := 16) hc dX0_bribe_11 (by decide) (fun h6 => ?_) (fun h6 => ?_)
    · have hf := oF h6 hf
      refine g_aload_n hc dX0_bribe_16 rfl 0 rfl ?_
      refine g_get (v := .ref (ad (sb 0))) hc in_X0 (XW_at (k := 0) (Nat.lt_of_lt_of_le (by decide) hN)) rfl 1 (by decide) q185 rfl dX0_bribe_17 ?_
      refine g_getN (v := .int (σ (sb 0) 3)) hc in_X5 (XW_s0 (gSl 0 hN (by decide))) rfl 3 (by decide) 5 rfl rfl dX0_bribe_20 ?_
      refine g_iconst (v := 4) hc dX0_bribe_23 (by decide) ?_
      refine g_icmp_ne (tgt := 30) hc dX0_bribe_24 (by decide) (fun h7 => ?_) (fun h7 => ?_)
      · have hf := oF h7 hf
        refine g_ldcw (v := 1000000) hc q749 dX0_bribe_30 ?_
        refine g_istore_n (lv' := [(3, .int 1000000), (0, .ref (ad 0)), (1, .int l1), (2, .int l2)]) hc dX0_bribe_33 rfl (by decide) rfl ?_
        refine g_bipush (v := (-4)) hc dX0_bribe_34 (by decide) ?_
        refine g_istore (lv' := [(4, .int (-4)), (3, .int 1000000), (0, .ref (ad 0)), (1, .int l1), (2, .int l2)]) hc dX0_bribe_36 (by decide) rfl ?_
        refine g_iconst (v := 0) hc dX0_bribe_38 (by decide) ?_
        refine g_istore (lv' := [(5, .int 0), (4, .int (-4)), (3, .int 1000000), (0, .ref (ad 0)), (1, .int l1), (2, .int l2)]) hc dX0_bribe_39 (by decide) rfl ?_
        exact g_lv [3, 4, 5, 2, 1, 0] rfl (w_X0_bribe_b41 hc σ l1 l2 1000000 (-4) 0 hN (K := K) hf hK hR)
      · have hf := oT h7 hf
        refine g_bipush (v := (-3)) hc dX0_bribe_27 (by decide) ?_
        have hz := Option.some.inj hf; subst hz
        exact g_iret hc (hR _ hK) dX0_bribe_29
    · have hf := oT h6 hf
      refine g_iconst (v := (-1)) hc dX0_bribe_14 (by decide) ?_
      have hz := Option.some.inj hf; subst hz
      exact g_iret hc (hR _ hK) dX0_bribe_15
theorem c_X0_bribe {l : Launch} {D : va_G} {dA : Nat → ClassId} {N : Nat} {ad : Nat → Nat} {tl : va_W} {lam : (Nat → Int64)} {σ : (Nat → Nat → Int32)} {l1 : Int32} {l2 : Int32} (hN : 36 ≤ N) {o : Int32 × (Nat → Nat → Int32)} (hf : f_X0_bribe σ l1 l2 = some o) : gI l D dA (XW dA N ad σ lam ++ tl) (XW dA N ad o.2 lam ++ tl) [.ref (ad 0), .int l1, .int l2] o.1 yX0_bribe (ws_ yX0_bribe cX0_bribe 7 (some .int)) ({ frames := 9, cells := 0, slots := 0, locals := 243 } : Room) :=
  g_startI (own := RX0) ⟨rfl, rfl⟩ (by decide) rfl (Nat.le_of_ble_eq_true rfl) (fun x e hc hR => by
    subst e
    exact w_X0_bribe hc σ l1 l2 hN (K := fun o1 => o1 = o) hf rfl (by rintro _ rfl; exact hR))
theorem hd_X0_bribe : yX0_bribe.cls = RX0 ∧ yX0_bribe.cls ≠ "java/lang/invoke/MethodHandle" ∧ yX0_bribe.cls ≠ "java/lang/invoke/VarHandle" ∧ (parseMethodDescriptor yX0_bribe.desc).map (fun d => d.parameters.length) = some 2 := by decide +kernel
/-! HedgehogLots.need(II)I -/
def f_X0_need_L24 (σ : (Nat → Nat → Int32)) (l1 : Int32) (l2 : Int32) (l3 : Int32) : Option ((Int32 × (Nat → Nat → Int32)) ⊕ (Int32 × (Nat → Nat → Int32))) :=
  if 9 < l3 then (oI (some ((-4), σ))) else (oC (inb ((2 * l1) + 1) 8) <| oL (upd2 σ (sb 1 + 4) ((2 * l1) + 1).toNatClampNeg (nbt (Int8.toInt32 (Int32.toInt8 l3)))) fun s3 => oB (f_X0_runs s3 1 l1 l2 0) fun r7 => if (r7 0 9) = 10 then (oI (some (l3, r7))) else (some (.inl ((l3 + 1), r7))))
theorem w_X0_need_L24 {x : gX} {N : Nat} {ad : Nat → Nat} {tl : va_W} {lam : (Nat → Int64)} (hc : gOk x RX0 cX0_need 4 5 152)  (σ : (Nat → Nat → Int32)) (l1 : Int32) (l2 : Int32) (l3 : Int32) (hN : 36 ≤ N) {K : (Int32 × (Nat → Nat → Int32)) ⊕ (Int32 × (Nat → Nat → Int32)) → Prop} {o : (Int32 × (Nat → Nat → Int32)) ⊕ (Int32 × (Nat → Nat → Int32))} (hf : f_X0_need_L24 σ l1 l2 l3 = some o) (hK : K o) (hI24 : ∀ v : Int32 × (Nat → Nat → Int32), K (.inl v) → gG x 4 0 0 (XW x.dA N ad v.2 lam ++ tl) 24 [(0, .ref (ad 0)), (1, .int l1), (2, .int l2), (3, .int v.1)] []) (hR : ∀ o : Int32 × (Nat → Nat → Int32), K (.inr (o)) → gRi x 0 0 (XW x.dA N ad o.2 lam ++ tl) o.1) : gG x 4 0 0 (XW x.dA N ad σ lam ++ tl) 24 [(0, .ref (ad 0)), (1, .int l1), (2, .int l2), (3, .int l3)] [] := by
  unfold f_X0_need_L24 at hf
  refine g_iload_n hc dX0_need_24 rfl 3 rfl ?_
  refine g_bipush (v := 9) hc dX0_need_25 (by decide) ?_
  refine g_icmp_gt (tgt := 73) hc dX0_need_27 (by decide) (fun h1 => ?_) (fun h1 => ?_)
  · have hf := oT h1 hf
    obtain ⟨o2, hgo2, eo2⟩ := oI_some hf
    clear hf; subst eo2; have hf := hgo2; clear hgo2
    refine g_bipush (v := (-4)) hc dX0_need_73 (by decide) ?_
    have hz := Option.some.inj hf; subst hz
    exact g_iret hc (hR _ hK) dX0_need_75
  · have hf := oF h1 hf
    refine g_aload_n hc dX0_need_30 rfl 0 rfl ?_
    refine g_get (v := .ref (ad (sb 1))) hc in_X0 (XW_at (k := 0) (Nat.lt_of_lt_of_le (by decide) hN)) rfl 2 (by decide) q186 rfl dX0_need_31 ?_
    refine g_getN (v := .ref (ad (sb 1 + 4))) hc in_X5 (XW_s0 (gSl 1 hN (by decide))) rfl 6 (by decide) 9 rfl rfl dX0_need_34 ?_
    refine g_iconst (v := 2) hc dX0_need_37 (by decide) ?_
    refine g_iload_n hc dX0_need_38 rfl 1 rfl ?_
    refine g_imul hc dX0_need_39 ?_
    refine g_iconst (v := 1) hc dX0_need_40 (by decide) ?_
    refine g_iadd hc dX0_need_41 ?_
    refine g_iload_n hc dX0_need_42 rfl 3 rfl ?_
    refine g_i2b hc dX0_need_43 ?_
    obtain ⟨h5, hf⟩ := oC_some hf
    obtain ⟨s3, e4, hf⟩ := oL_some hf
    refine g_bast (n := 8) (f := σ (sb 1 + 4)) hc (XW_s4 (gSl 1 hN (by decide))) h5 (XW_pa (σ1 := s3) (gSl 1 hN (by decide)) (k := 4) (by decide) e4 rfl) dX0_need_44 ?_
    refine g_aload_n hc dX0_need_45 rfl 0 rfl ?_
    refine g_aload_n hc dX0_need_46 rfl 0 rfl ?_
    refine g_get (v := .ref (ad (sb 1))) hc in_X0 (XW_at (k := 0) (Nat.lt_of_lt_of_le (by decide) hN)) rfl 2 (by decide) q186 rfl dX0_need_47 ?_
    refine g_iload_n hc dX0_need_50 rfl 1 rfl ?_
    refine g_iload_n hc dX0_need_51 rfl 2 rfl ?_
    refine g_iconst (v := 0) hc dX0_need_52 (by decide) ?_
    obtain ⟨r7, h6, hf⟩ := oB_some hf
    refine g_callVv hc [.ref (ad (sb 1)), .int l1, .int l2, .int 0] [] (c_X0_runs hN (gSl 1 hN (by decide)) h6) (XW_at (k := 0) (Nat.lt_of_lt_of_le (by decide) hN)) rfl (lw_V q540 q542 qs14 q60 q543) rfl hd_X0_runs rfl rfl (Nat.le_of_ble_eq_true rfl) gZ dX0_need_53 ?_
    refine g_aload_n hc dX0_need_56 rfl 0 rfl ?_
    refine g_get (v := .int (r7 0 9)) hc in_X0 (XW_at (k := 0) (Nat.lt_of_lt_of_le (by decide) hN)) rfl 9 (by decide) q193 rfl dX0_need_57 ?_
    refine g_bipush (v := 10) hc dX0_need_60 (by decide) ?_
    refine g_icmp_ne (tgt := 67) hc dX0_need_62 (by decide) (fun h8 => ?_) (fun h8 => ?_)
    · have hf := oF h8 hf
      refine g_iinc (v := l3 + 1) (lv' := [(3, .int (l3 + 1)), (0, .ref (ad 0)), (1, .int l1), (2, .int l2)]) hc dX0_need_67 (j := 3) rfl rfl (by decide) rfl ?_
      refine g_goto (tgt := 24) hc dX0_need_70 (by decide) ?_
      have hz := Option.some.inj hf; subst hz
      exact g_lv [1, 2, 3, 0] rfl (hI24 _ hK)
    · have hf := oT h8 hf
      obtain ⟨o9, hgo9, eo9⟩ := oI_some hf
      clear hf; subst eo9; have hf := hgo9; clear hgo9
      refine g_iload_n hc dX0_need_65 rfl 3 rfl ?_
      have hz := Option.some.inj hf; subst hz
      exact g_iret hc (hR _ hK) dX0_need_66
def f_X0_need_b24 (σ : (Nat → Nat → Int32)) (l1 : Int32) (l2 : Int32) (l3 : Int32) : Option (Int32 × (Nat → Nat → Int32)) :=
  oLoop gFU (fun v : Int32 × (Nat → Nat → Int32) => f_X0_need_L24 v.2 l1 l2 v.1) (l3, σ)
theorem w_X0_need_b24 {x : gX} {N : Nat} {ad : Nat → Nat} {tl : va_W} {lam : (Nat → Int64)} (hc : gOk x RX0 cX0_need 4 5 152)  (σ : (Nat → Nat → Int32)) (l1 : Int32) (l2 : Int32) (l3 : Int32) (hN : 36 ≤ N) {K : Int32 × (Nat → Nat → Int32) → Prop} {o : Int32 × (Nat → Nat → Int32)} (hf : f_X0_need_b24 σ l1 l2 l3 = some o) (hK : K o) (hR : ∀ o : Int32 × (Nat → Nat → Int32), K o → gRi x 0 0 (XW x.dA N ad o.2 lam ++ tl) o.1) : gG x 4 0 0 (XW x.dA N ad σ lam ++ tl) 24 [(0, .ref (ad 0)), (1, .int l1), (2, .int l2), (3, .int l3)] [] :=
  oLoop_ind (fun v : Int32 × (Nat → Nat → Int32) => gG x 4 0 0 (XW x.dA N ad v.2 lam ++ tl) 24 [(0, .ref (ad 0)), (1, .int l1), (2, .int l2), (3, .int v.1)] []) K (fun v o1 hf1 hK1 => w_X0_need_L24 hc v.2 l1 l2 v.1 hN (K := Sum.elim (fun v : Int32 × (Nat → Nat → Int32) => gG x 4 0 0 (XW x.dA N ad v.2 lam ++ tl) 24 [(0, .ref (ad 0)), (1, .int l1), (2, .int l2), (3, .int v.1)] []) K) hf1 hK1 (fun v hv => hv) hR) gFU _ o hf hK
def f_X0_need (σ : (Nat → Nat → Int32)) (l1 : Int32) (l2 : Int32) : Option (Int32 × (Nat → Nat → Int32)) :=
  oB (f_X0_isRun σ l1 l2) fun r2 => if r2 = 0 then (some ((-1), σ)) else (oB (f_X5_as σ 1 0) fun r5 => f_X0_need_b24 r5 l1 l2 1)
theorem w_X0_need {x : gX} {N : Nat} {ad : Nat → Nat} {tl : va_W} {lam : (Nat → Int64)} (hc : gOk x RX0 cX0_need 4 5 152)  (σ : (Nat → Nat → Int32)) (l1 : Int32) (l2 : Int32) (hN : 36 ≤ N) {K : Int32 × (Nat → Nat → Int32) → Prop} {o : Int32 × (Nat → Nat → Int32)} (hf : f_X0_need σ l1 l2 = some o) (hK : K o) (hR : ∀ o : Int32 × (Nat → Nat → Int32), K o → gRi x 0 0 (XW x.dA N ad o.2 lam ++ tl) o.1) : gG x 4 0 0 (XW x.dA N ad σ lam ++ tl) 0 [(0, .ref (ad 0)), (1, .int l1), (2, .int l2)] [] := by
  unfold f_X0_need at hf
  refine g_aload_n hc dX0_need_0 rfl 0 rfl ?_
  refine g_iload_n hc dX0_need_1 rfl 1 rfl ?_
  refine g_iload_n hc dX0_need_2 rfl 2 rfl ?_
  obtain ⟨r2, h1, hf⟩ := oB_some hf
  refine g_callVi hc [.int l1, .int l2] [] (c_X0_isRun hN h1) (XW_at (k := 0) (Nat.lt_of_lt_of_le (by decide) hN)) rfl (lw_V q667 q669 qs20 q60 q670) rfl hd_X0_isRun rfl rfl (Nat.le_of_ble_eq_true rfl) gZ dX0_need_3 ?_
  refine g_if_ne (tgt := 11) hc dX0_need_6 (by decide) (fun h3 => ?_) (fun h3 => ?_)
  · have hf := oF h3 hf
    refine g_aload_n hc dX0_need_11 rfl 0 rfl ?_
    refine g_get (v := .ref (ad (sb 1))) hc in_X0 (XW_at (k := 0) (Nat.lt_of_lt_of_le (by decide) hN)) rfl 2 (by decide) q186 rfl dX0_need_12 ?_
    refine g_aload_n hc dX0_need_15 rfl 0 rfl ?_
    refine g_get (v := .ref (ad (sb 0))) hc in_X0 (XW_at (k := 0) (Nat.lt_of_lt_of_le (by decide) hN)) rfl 1 (by decide) q185 rfl dX0_need_16 ?_
    obtain ⟨r5, h4, hf⟩ := oB_some hf
    refine g_callVv hc [.ref (ad (sb 0))] [] (c_X5_as hN (gSl 1 hN (by decide)) (gSl 0 hN (by decide)) h4) (XW_s0 (gSl 1 hN (by decide))) rfl (lw_V q521 q522 q523 q65 q524) rfl hd_X5_as rfl rfl (Nat.le_of_ble_eq_true rfl) gZ dX0_need_19 ?_
    refine g_iconst (v := 1) hc dX0_need_22 (by decide) ?_
    refine g_istore_n (lv' := [(3, .int 1), (0, .ref (ad 0)), (1, .int l1), (2, .int l2)]) hc dX0_need_23 rfl (by decide) rfl ?_
    exact g_lv [1, 2, 3, 0] rfl (w_X0_need_b24 hc r5 l1 l2 1 hN (K := K) hf hK hR)
  · have hf := oT h3 hf
    refine g_iconst (v := (-1)) hc dX0_need_9 (by decide) ?_
    have hz := Option.some.inj hf; subst hz
    exact g_iret hc (hR _ hK) dX0_need_10
theorem c_X0_need {l : Launch} {D : va_G} {dA : Nat → ClassId} {N : Nat} {ad : Nat → Nat} {tl : va_W} {lam : (Nat → Int64)} {σ : (Nat → Nat → Int32)} {l1 : Int32} {l2 : Int32} (hN : 36 ≤ N) {o : Int32 × (Nat → Nat → Int32)} (hf : f_X0_need σ l1 l2 = some o) : gI l D dA (XW dA N ad σ lam ++ tl) (XW dA N ad o.2 lam ++ tl) [.ref (ad 0), .int l1, .int l2] o.1 yX0_need (ws_ yX0_need cX0_need 4 (some .int)) ({ frames := 5, cells := 0, slots := 0, locals := 152 } : Room) :=
  g_startI (own := RX0) ⟨rfl, rfl⟩ (by decide) rfl (Nat.le_of_ble_eq_true rfl) (fun x e hc hR => by
    subst e
    exact w_X0_need hc σ l1 l2 hN (K := fun o1 => o1 = o) hf rfl (by rintro _ rfl; exact hR))
theorem hd_X0_need : yX0_need.cls = RX0 ∧ yX0_need.cls ≠ "java/lang/invoke/MethodHandle" ∧ yX0_need.cls ≠ "java/lang/invoke/VarHandle" ∧ (parseMethodDescriptor yX0_need.desc).map (fun d => d.parameters.length) = some 2 := by decide +kernel
/-! HedgehogLots.swap(II)I -/
def f_X0_swap_b134 (σ : (Nat → Nat → Int32)) (l1 : Int32) (l2 : Int32) (l3 : Int32) (l4 : Int32) (l5 : Int32) (k3 : Int32) (k2 : Int32) : Option ((Int32 × (Nat → Nat → Int32)) ⊕ ((Int32 × (Nat → Nat → Int32)) ⊕ ((Int32 × (Nat → Nat → Int32)) ⊕ (Int32 × (Nat → Nat → Int32))))) :=
  oC (inb k2 12) <| oL (upd2 σ (sb 1 + 5) k2.toNatClampNeg (nbt (Int8.toInt32 (Int32.toInt8 k3)))) fun s1 => some (.inl ((l5 + 1), s1))
theorem w_X0_swap_b134 {x : gX} {N : Nat} {ad : Nat → Nat} {tl : va_W} {lam : (Nat → Int64)} (hc : gOk x RX0 cX0_swap 7 8 220)  (σ : (Nat → Nat → Int32)) (l1 : Int32) (l2 : Int32) (l3 : Int32) (l4 : Int32) (l5 : Int32) (k3 : Int32) (k2 : Int32) (hN : 36 ≤ N) {K : (Int32 × (Nat → Nat → Int32)) ⊕ ((Int32 × (Nat → Nat → Int32)) ⊕ ((Int32 × (Nat → Nat → Int32)) ⊕ (Int32 × (Nat → Nat → Int32)))) → Prop} {o : (Int32 × (Nat → Nat → Int32)) ⊕ ((Int32 × (Nat → Nat → Int32)) ⊕ ((Int32 × (Nat → Nat → Int32)) ⊕ (Int32 × (Nat → Nat → Int32))))} (hf : f_X0_swap_b134 σ l1 l2 l3 l4 l5 k3 k2 = some o) (hK : K o) (hI73 : ∀ v : Int32 × (Nat → Nat → Int32), K (.inl v) → gG x 7 0 0 (XW x.dA N ad v.2 lam ++ tl) 73 [(0, .ref (ad 0)), (1, .int l1), (2, .int l2), (3, .int l3), (4, .int l4), (5, .int v.1)] []) (hI47 : ∀ v : Int32 × (Nat → Nat → Int32), K (.inr (.inl v)) → gG x 7 0 0 (XW x.dA N ad v.2 lam ++ tl) 47 [(0, .ref (ad 0)), (1, .int l1), (2, .int l2), (3, .int l3), (4, .int v.1)] []) (hI31 : ∀ v : Int32 × (Nat → Nat → Int32), K (.inr (.inr (.inl v))) → gG x 7 0 0 (XW x.dA N ad v.2 lam ++ tl) 31 [(0, .ref (ad 0)), (1, .int l1), (2, .int l2), (3, .int v.1)] []) (hR : ∀ o : Int32 × (Nat → Nat → Int32), K (.inr (.inr (.inr (o)))) → gRi x 0 0 (XW x.dA N ad o.2 lam ++ tl) o.1) : gG x 7 0 0 (XW x.dA N ad σ lam ++ tl) 134 [(0, .ref (ad 0)), (1, .int l1), (2, .int l2), (3, .int l3), (4, .int l4), (5, .int l5)] [.int k3, .int k2, .ref (ad (sb 1 + 5))] := by
  unfold f_X0_swap_b134 at hf
  refine g_i2b hc dX0_swap_134 ?_
  obtain ⟨h3, hf⟩ := oC_some hf
  obtain ⟨s1, e2, hf⟩ := oL_some hf
  refine g_bast (n := 12) (f := σ (sb 1 + 5)) hc (XW_s5 (gSl 1 hN (by decide))) h3 (XW_pa (σ1 := s1) (gSl 1 hN (by decide)) (k := 5) (by decide) e2 rfl) dX0_swap_135 ?_
  refine g_iinc (v := l5 + 1) (lv' := [(5, .int (l5 + 1)), (0, .ref (ad 0)), (1, .int l1), (2, .int l2), (3, .int l3), (4, .int l4)]) hc dX0_swap_136 (j := 5) rfl rfl (by decide) rfl ?_
  refine g_goto (tgt := 73) hc dX0_swap_139 (by decide) ?_
  have hz := Option.some.inj hf; subst hz
  exact g_lv [1, 2, 3, 4, 5, 0] rfl (hI73 _ hK)
def f_X0_swap_L73 (σ : (Nat → Nat → Int32)) (l1 : Int32) (l2 : Int32) (l3 : Int32) (l4 : Int32) (l5 : Int32) : Option ((Int32 × (Nat → Nat → Int32)) ⊕ ((Int32 × (Nat → Nat → Int32)) ⊕ ((Int32 × (Nat → Nat → Int32)) ⊕ (Int32 × (Nat → Nat → Int32))))) :=
  if (σ (sb 0) 7) ≤ l5 then (oI (oB (f_X0_wonMany σ 1 l1) fun r3 => oB (f_X0_judges r3.2 ((10 * l3) + l4) r3.1) fun r5 => some (.inl ((l4 + 1), r5)))) else (oC (inb (2 * l5) 12) <| if (σ (sb 0 + 5) (2 * l5).toNatClampNeg) = l3 then (f_X0_swap_b134 σ l1 l2 l3 l4 l5 l4 (2 * l5)) else (if (σ (sb 0 + 5) (2 * l5).toNatClampNeg) = l4 then (f_X0_swap_b134 σ l1 l2 l3 l4 l5 l3 (2 * l5)) else (f_X0_swap_b134 σ l1 l2 l3 l4 l5 (σ (sb 0 + 5) (2 * l5).toNatClampNeg) (2 * l5))))
theorem w_X0_swap_L73 {x : gX} {N : Nat} {ad : Nat → Nat} {tl : va_W} {lam : (Nat → Int64)} (hc : gOk x RX0 cX0_swap 7 8 220)  (σ : (Nat → Nat → Int32)) (l1 : Int32) (l2 : Int32) (l3 : Int32) (l4 : Int32) (l5 : Int32) (hN : 36 ≤ N) {K : (Int32 × (Nat → Nat → Int32)) ⊕ ((Int32 × (Nat → Nat → Int32)) ⊕ ((Int32 × (Nat → Nat → Int32)) ⊕ (Int32 × (Nat → Nat → Int32)))) → Prop} {o : (Int32 × (Nat → Nat → Int32)) ⊕ ((Int32 × (Nat → Nat → Int32)) ⊕ ((Int32 × (Nat → Nat → Int32)) ⊕ (Int32 × (Nat → Nat → Int32))))} (hf : f_X0_swap_L73 σ l1 l2 l3 l4 l5 = some o) (hK : K o) (hI73 : ∀ v : Int32 × (Nat → Nat → Int32), K (.inl v) → gG x 7 0 0 (XW x.dA N ad v.2 lam ++ tl) 73 [(0, .ref (ad 0)), (1, .int l1), (2, .int l2), (3, .int l3), (4, .int l4), (5, .int v.1)] []) (hI47 : ∀ v : Int32 × (Nat → Nat → Int32), K (.inr (.inl v)) → gG x 7 0 0 (XW x.dA N ad v.2 lam ++ tl) 47 [(0, .ref (ad 0)), (1, .int l1), (2, .int l2), (3, .int l3), (4, .int v.1)] []) (hI31 : ∀ v : Int32 × (Nat → Nat → Int32), K (.inr (.inr (.inl v))) → gG x 7 0 0 (XW x.dA N ad v.2 lam ++ tl) 31 [(0, .ref (ad 0)), (1, .int l1), (2, .int l2), (3, .int v.1)] []) (hR : ∀ o : Int32 × (Nat → Nat → Int32), K (.inr (.inr (.inr (o)))) → gRi x 0 0 (XW x.dA N ad o.2 lam ++ tl) o.1) : gG x 7 0 0 (XW x.dA N ad σ lam ++ tl) 73 [(0, .ref (ad 0)), (1, .int l1), (2, .int l2), (3, .int l3), (4, .int l4), (5, .int l5)] [] := by
  unfold f_X0_swap_L73 at hf
  refine g_iload hc dX0_swap_73 5 rfl ?_
  refine g_aload_n hc dX0_swap_75 rfl 0 rfl ?_
  refine g_get (v := .ref (ad (sb 0))) hc in_X0 (XW_at (k := 0) (Nat.lt_of_lt_of_le (by decide) hN)) rfl 1 (by decide) q185 rfl dX0_swap_76 ?_
  refine g_getN (v := .int (σ (sb 0) 7)) hc in_X5 (XW_s0 (gSl 0 hN (by decide))) rfl 7 (by decide) 11 rfl rfl dX0_swap_79 ?_
  refine g_icmp_ge (tgt := 142) hc dX0_swap_82 (by decide) (fun h1 => ?_) (fun h1 => ?_)
  · have hf := oT h1 hf
    obtain ⟨o6, hgo6, eo6⟩ := oI_some hf
    clear hf; subst eo6; have hf := hgo6; clear hgo6
    refine g_aload_n hc dX0_swap_142 rfl 0 rfl ?_
    refine g_bipush (v := 10) hc dX0_swap_143 (by decide) ?_
    refine g_iload_n hc dX0_swap_145 rfl 3 rfl ?_
    refine g_imul hc dX0_swap_146 ?_
    refine g_iload hc dX0_swap_147 4 rfl ?_
    refine g_iadd hc dX0_swap_149 ?_
    refine g_aload_n hc dX0_swap_150 rfl 0 rfl ?_
    refine g_aload_n hc dX0_swap_151 rfl 0 rfl ?_
    refine g_get (v := .ref (ad (sb 1))) hc in_X0 (XW_at (k := 0) (Nat.lt_of_lt_of_le (by decide) hN)) rfl 2 (by decide) q186 rfl dX0_swap_152 ?_
    refine g_iload_n hc dX0_swap_155 rfl 1 rfl ?_
    obtain ⟨r3, h2, hf⟩ := oB_some hf
    refine g_callVi hc [.ref (ad (sb 1)), .int l1] [.int ((10 * l3) + l4), .ref (ad 0)] (c_X0_wonMany hN (gSl 1 hN (by decide)) h2) (XW_at (k := 0) (Nat.lt_of_lt_of_le (by decide) hN)) rfl (lw_V q729 q731 qs23 q60 q732) rfl hd_X0_wonMany rfl rfl (Nat.le_of_ble_eq_true rfl) gZ dX0_swap_156 ?_
    obtain ⟨r5, h4, hf⟩ := oB_some hf
    refine g_callVv hc [.int ((10 * l3) + l4), .int r3.1] [] (c_X0_judges hN h4) (XW_at (k := 0) (Nat.lt_of_lt_of_le (by decide) hN)) rfl (lw_V q733 q735 qs24 q60 q736) rfl hd_X0_judges rfl rfl (Nat.le_of_ble_eq_true rfl) gZ dX0_swap_159 ?_
    refine g_iinc (v := l4 + 1) (lv' := [(4, .int (l4 + 1)), (0, .ref (ad 0)), (1, .int l1), (2, .int l2), (3, .int l3), (5, .int l5)]) hc dX0_swap_162 (j := 4) rfl rfl (by decide) rfl ?_
    refine g_goto (tgt := 47) hc dX0_swap_165 (by decide) ?_
    have hz := Option.some.inj hf; subst hz
    exact g_lv [1, 2, 3, 4, 0] rfl (hI47 _ hK)
  · have hf := oF h1 hf
    refine g_aload_n hc dX0_swap_85 rfl 0 rfl ?_
    refine g_get (v := .ref (ad (sb 0))) hc in_X0 (XW_at (k := 0) (Nat.lt_of_lt_of_le (by decide) hN)) rfl 1 (by decide) q185 rfl dX0_swap_86 ?_
    refine g_getN (v := .ref (ad (sb 0 + 5))) hc in_X5 (XW_s0 (gSl 0 hN (by decide))) rfl 8 (by decide) 13 rfl rfl dX0_swap_89 ?_
    refine g_iconst (v := 2) hc dX0_swap_92 (by decide) ?_
    refine g_iload hc dX0_swap_93 5 rfl ?_
    refine g_imul hc dX0_swap_95 ?_
    obtain ⟨h7, hf⟩ := oC_some hf
    refine g_bald (n := 12) (f := σ (sb 0 + 5)) hc (XW_s5 (gSl 0 hN (by decide))) h7 dX0_swap_96 ?_
    refine g_istore (lv' := [(6, .int (σ (sb 0 + 5) (2 * l5).toNatClampNeg)), (0, .ref (ad 0)), (1, .int l1), (2, .int l2), (3, .int l3), (4, .int l4), (5, .int l5)]) hc dX0_swap_97 (by decide) rfl ?_
    refine g_aload_n hc dX0_swap_99 rfl 1 rfl ?_
    refine g_get (v := .ref (ad (sb 1))) hc in_X0 (XW_at (k := 0) (Nat.lt_of_lt_of_le (by decide) hN)) rfl 2 (by decide) q186 rfl dX0_swap_100 ?_
    refine g_getN (v := .ref (ad (sb 1 + 5))) hc in_X5 (XW_s0 (gSl 1 hN (by decide))) rfl 8 (by decide) 13 rfl rfl dX0_swap_103 ?_
    refine g_iconst (v := 2) hc dX0_swap_106 (by decide) ?_
    refine g_iload hc dX0_swap_107 6 rfl ?_
    refine g_imul hc dX0_swap_109 ?_
    refine g_iload hc dX0_swap_110 0 rfl ?_
    refine g_iload_n hc dX0_swap_112 rfl 4 rfl ?_
    refine g_icmp_ne (tgt := 121) hc dX0_swap_113 (by decide) (fun h8 => ?_) (fun h8 => ?_)
    · have hf := oF h8 hf
      refine g_iload hc dX0_swap_121 0 rfl ?_
      refine g_iload hc dX0_swap_123 5 rfl ?_
      refine g_icmp_ne (tgt := 132) hc dX0_swap_125 (by decide) (fun h9 => ?_) (fun h9 => ?_)
      · have hf := oF h9 hf
        refine g_iload hc dX0_swap_132 0 rfl ?_
        exact g_lv [1, 2, 3, 4, 5, 6] rfl (w_X0_swap_b134 hc σ l1 l2 l3 l4 l5 (σ (sb 0 + 5) (2 * l5).toNatClampNeg) (2 * l5) hN (K := K) hf hK hI73 hI47 hI31 hR)
      · have hf := oT h9 hf
        refine g_iload_n hc dX0_swap_128 rfl 4 rfl ?_
        refine g_goto (tgt := 134) hc dX0_swap_129 (by decide) ?_
        exact g_lv [1, 2, 3, 4, 5, 6] rfl (w_X0_swap_b134 hc σ l1 l2 l3 l4 l5 l3 (2 * l5) hN (K := K) hf hK hI73 hI47 hI31 hR)
    · have hf := oT h8 hf
      refine g_iload hc dX0_swap_116 5 rfl ?_
      refine g_goto (tgt := 134) hc dX0_swap_118 (by decide) ?_
      exact g_lv [1, 2, 3, 4, 5, 6] rfl (w_X0_swap_b134 hc σ l1 l2 l3 l4 l5 l4 (2 * l5) hN (K := K) hf hK hI73 hI47 hI31 hR)
def f_X0_swap_b73 (σ : (Nat → Nat → Int32)) (l1 : Int32) (l2 : Int32) (l3 : Int32) (l4 : Int32) (l5 : Int32) : Option ((Int32 × (Nat → Nat → Int32)) ⊕ ((Int32 × (Nat → Nat → Int32)) ⊕ (Int32 × (Nat → Nat → Int32)))) :=
  oLoop gFU (fun v : Int32 × (Nat → Nat → Int32) => f_X0_swap_L73 v.2 l1 l2 l3 l4 v.1) (l5, σ)
theorem w_X0_swap_b73 {x : gX} {N : Nat} {ad : Nat → Nat} {tl : va_W} {lam : (Nat → Int64)} (hc : gOk x RX0 cX0_swap 7 8 220)  (σ : (Nat → Nat → Int32)) (l1 : Int32) (l2 : Int32) (l3 : Int32) (l4 : Int32) (l5 : Int32) (hN : 36 ≤ N) {K : (Int32 × (Nat → Nat → Int32)) ⊕ ((Int32 × (Nat → Nat → Int32)) ⊕ (Int32 × (Nat → Nat → Int32))) → Prop} {o : (Int32 × (Nat → Nat → Int32)) ⊕ ((Int32 × (Nat → Nat → Int32)) ⊕ (Int32 × (Nat → Nat → Int32)))} (hf : f_X0_swap_b73 σ l1 l2 l3 l4 l5 = some o) (hK : K o) (hI47 : ∀ v : Int32 × (Nat → Nat → Int32), K (.inl v) → gG x 7 0 0 (XW x.dA N ad v.2 lam ++ tl) 47 [(0, .ref (ad 0)), (1, .int l1), (2, .int l2), (3, .int l3), (4, .int v.1)] []) (hI31 : ∀ v : Int32 × (Nat → Nat → Int32), K (.inr (.inl v)) → gG x 7 0 0 (XW x.dA N ad v.2 lam ++ tl) 31 [(0, .ref (ad 0)), (1, .int l1), (2, .int l2), (3, .int v.1)] []) (hR : ∀ o : Int32 × (Nat → Nat → Int32), K (.inr (.inr (o))) → gRi x 0 0 (XW x.dA N ad o.2 lam ++ tl) o.1) : gG x 7 0 0 (XW x.dA N ad σ lam ++ tl) 73 [(0, .ref (ad 0)), (1, .int l1), (2, .int l2), (3, .int l3), (4, .int l4), (5, .int l5)] [] :=
  oLoop_ind (fun v : Int32 × (Nat → Nat → Int32) => gG x 7 0 0 (XW x.dA N ad v.2 lam ++ tl) 73 [(0, .ref (ad 0)), (1, .int l1), (2, .int l2), (3, .int l3), (4, .int l4), (5, .int v.1)] []) K (fun v o1 hf1 hK1 => w_X0_swap_L73 hc v.2 l1 l2 l3 l4 v.1 hN (K := Sum.elim (fun v : Int32 × (Nat → Nat → Int32) => gG x 7 0 0 (XW x.dA N ad v.2 lam ++ tl) 73 [(0, .ref (ad 0)), (1, .int l1), (2, .int l2), (3, .int l3), (4, .int l4), (5, .int v.1)] []) K) hf1 hK1 (fun v hv => hv) hI47 hI31 hR) gFU _ o hf hK
def f_X0_swap_L47 (σ : (Nat → Nat → Int32)) (l1 : Int32) (l2 : Int32) (l3 : Int32) (l4 : Int32) : Option ((Int32 × (Nat → Nat → Int32)) ⊕ ((Int32 × (Nat → Nat → Int32)) ⊕ (Int32 × (Nat → Nat → Int32)))) :=
  if (σ (sb 0) 5) ≤ l4 then (oI (some (.inl ((l3 + 1), σ)))) else (oB (f_X5_as σ 1 0) fun r4 => f_X0_swap_b73 r4 l1 l2 l3 l4 0)
theorem w_X0_swap_L47 {x : gX} {N : Nat} {ad : Nat → Nat} {tl : va_W} {lam : (Nat → Int64)} (hc : gOk x RX0 cX0_swap 7 8 220)  (σ : (Nat → Nat → Int32)) (l1 : Int32) (l2 : Int32) (l3 : Int32) (l4 : Int32) (hN : 36 ≤ N) {K : (Int32 × (Nat → Nat → Int32)) ⊕ ((Int32 × (Nat → Nat → Int32)) ⊕ (Int32 × (Nat → Nat → Int32))) → Prop} {o : (Int32 × (Nat → Nat → Int32)) ⊕ ((Int32 × (Nat → Nat → Int32)) ⊕ (Int32 × (Nat → Nat → Int32)))} (hf : f_X0_swap_L47 σ l1 l2 l3 l4 = some o) (hK : K o) (hI47 : ∀ v : Int32 × (Nat → Nat → Int32), K (.inl v) → gG x 7 0 0 (XW x.dA N ad v.2 lam ++ tl) 47 [(0, .ref (ad 0)), (1, .int l1), (2, .int l2), (3, .int l3), (4, .int v.1)] []) (hI31 : ∀ v : Int32 × (Nat → Nat → Int32), K (.inr (.inl v)) → gG x 7 0 0 (XW x.dA N ad v.2 lam ++ tl) 31 [(0, .ref (ad 0)), (1, .int l1), (2, .int l2), (3, .int v.1)] []) (hR : ∀ o : Int32 × (Nat → Nat → Int32), K (.inr (.inr (o))) → gRi x 0 0 (XW x.dA N ad o.2 lam ++ tl) o.1) : gG x 7 0 0 (XW x.dA N ad σ lam ++ tl) 47 [(0, .ref (ad 0)), (1, .int l1), (2, .int l2), (3, .int l3), (4, .int l4)] [] := by
  unfold f_X0_swap_L47 at hf
  refine g_iload hc dX0_swap_47 4 rfl ?_
  refine g_aload_n hc dX0_swap_49 rfl 0 rfl ?_
  refine g_get (v := .ref (ad (sb 0))) hc in_X0 (XW_at (k := 0) (Nat.lt_of_lt_of_le (by decide) hN)) rfl 1 (by decide) q185 rfl dX0_swap_50 ?_
  refine g_getN (v := .int (σ (sb 0) 5)) hc in_X5 (XW_s0 (gSl 0 hN (by decide))) rfl 5 (by decide) 8 rfl rfl dX0_swap_53 ?_
  refine g_icmp_ge (tgt := 168) hc dX0_swap_56 (by decide) (fun h1 => ?_) (fun h1 => ?_)
  · have hf := oT h1 hf
    obtain ⟨o2, hgo2, eo2⟩ := oI_some hf
    clear hf; subst eo2; have hf := hgo2; clear hgo2
    refine g_iinc (v := l3 + 1) (lv' := [(3, .int (l3 + 1)), (0, .ref (ad 0)), (1, .int l1), (2, .int l2), (4, .int l4)]) hc dX0_swap_168 (j := 3) rfl rfl (by decide) rfl ?_
    refine g_goto (tgt := 31) hc dX0_swap_171 (by decide) ?_
    have hz := Option.some.inj hf; subst hz
    exact g_lv [1, 2, 3, 0] rfl (hI31 _ hK)
  · have hf := oF h1 hf
    refine g_aload_n hc dX0_swap_59 rfl 0 rfl ?_
    refine g_get (v := .ref (ad (sb 1))) hc in_X0 (XW_at (k := 0) (Nat.lt_of_lt_of_le (by decide) hN)) rfl 2 (by decide) q186 rfl dX0_swap_60 ?_
    refine g_aload_n hc dX0_swap_63 rfl 0 rfl ?_
    refine g_get (v := .ref (ad (sb 0))) hc in_X0 (XW_at (k := 0) (Nat.lt_of_lt_of_le (by decide) hN)) rfl 1 (by decide) q185 rfl dX0_swap_64 ?_
    obtain ⟨r4, h3, hf⟩ := oB_some hf
    refine g_callVv hc [.ref (ad (sb 0))] [] (c_X5_as hN (gSl 1 hN (by decide)) (gSl 0 hN (by decide)) h3) (XW_s0 (gSl 1 hN (by decide))) rfl (lw_V q521 q522 q523 q65 q524) rfl hd_X5_as rfl rfl (Nat.le_of_ble_eq_true rfl) gZ dX0_swap_67 ?_
    refine g_iconst (v := 0) hc dX0_swap_70 (by decide) ?_
    refine g_istore (lv' := [(5, .int 0), (0, .ref (ad 0)), (1, .int l1), (2, .int l2), (3, .int l3), (4, .int l4)]) hc dX0_swap_71 (by decide) rfl ?_
    exact g_lv [1, 2, 3, 4, 5, 0] rfl (w_X0_swap_b73 hc r4 l1 l2 l3 l4 0 hN (K := K) hf hK hI47 hI31 hR)
def f_X0_swap_b47 (σ : (Nat → Nat → Int32)) (l1 : Int32) (l2 : Int32) (l3 : Int32) (l4 : Int32) : Option ((Int32 × (Nat → Nat → Int32)) ⊕ (Int32 × (Nat → Nat → Int32))) :=
  oLoop gFU (fun v : Int32 × (Nat → Nat → Int32) => f_X0_swap_L47 v.2 l1 l2 l3 v.1) (l4, σ)
theorem w_X0_swap_b47 {x : gX} {N : Nat} {ad : Nat → Nat} {tl : va_W} {lam : (Nat → Int64)} (hc : gOk x RX0 cX0_swap 7 8 220)  (σ : (Nat → Nat → Int32)) (l1 : Int32) (l2 : Int32) (l3 : Int32) (l4 : Int32) (hN : 36 ≤ N) {K : (Int32 × (Nat → Nat → Int32)) ⊕ (Int32 × (Nat → Nat → Int32)) → Prop} {o : (Int32 × (Nat → Nat → Int32)) ⊕ (Int32 × (Nat → Nat → Int32))} (hf : f_X0_swap_b47 σ l1 l2 l3 l4 = some o) (hK : K o) (hI31 : ∀ v : Int32 × (Nat → Nat → Int32), K (.inl v) → gG x 7 0 0 (XW x.dA N ad v.2 lam ++ tl) 31 [(0, .ref (ad 0)), (1, .int l1), (2, .int l2), (3, .int v.1)] []) (hR : ∀ o : Int32 × (Nat → Nat → Int32), K (.inr (o)) → gRi x 0 0 (XW x.dA N ad o.2 lam ++ tl) o.1) : gG x 7 0 0 (XW x.dA N ad σ lam ++ tl) 47 [(0, .ref (ad 0)), (1, .int l1), (2, .int l2), (3, .int l3), (4, .int l4)] [] :=
  oLoop_ind (fun v : Int32 × (Nat → Nat → Int32) => gG x 7 0 0 (XW x.dA N ad v.2 lam ++ tl) 47 [(0, .ref (ad 0)), (1, .int l1), (2, .int l2), (3, .int l3), (4, .int v.1)] []) K (fun v o1 hf1 hK1 => w_X0_swap_L47 hc v.2 l1 l2 l3 v.1 hN (K := Sum.elim (fun v : Int32 × (Nat → Nat → Int32) => gG x 7 0 0 (XW x.dA N ad v.2 lam ++ tl) 47 [(0, .ref (ad 0)), (1, .int l1), (2, .int l2), (3, .int l3), (4, .int v.1)] []) K) hf1 hK1 (fun v hv => hv) hI31 hR) gFU _ o hf hK
def f_X0_swap_L31 (σ : (Nat → Nat → Int32)) (l1 : Int32) (l2 : Int32) (l3 : Int32) : Option ((Int32 × (Nat → Nat → Int32)) ⊕ (Int32 × (Nat → Nat → Int32))) :=
  if (σ (sb 0) 5) ≤ l3 then (oI (oB (f_X0_judged σ l2) fun r3 => some (r3, σ))) else (f_X0_swap_b47 σ l1 l2 l3 (l3 + 1))
theorem w_X0_swap_L31 {x : gX} {N : Nat} {ad : Nat → Nat} {tl : va_W} {lam : (Nat → Int64)} (hc : gOk x RX0 cX0_swap 7 8 220)  (σ : (Nat → Nat → Int32)) (l1 : Int32) (l2 : Int32) (l3 : Int32) (hN : 36 ≤ N) {K : (Int32 × (Nat → Nat → Int32)) ⊕ (Int32 × (Nat → Nat → Int32)) → Prop} {o : (Int32 × (Nat → Nat → Int32)) ⊕ (Int32 × (Nat → Nat → Int32))} (hf : f_X0_swap_L31 σ l1 l2 l3 = some o) (hK : K o) (hI31 : ∀ v : Int32 × (Nat → Nat → Int32), K (.inl v) → gG x 7 0 0 (XW x.dA N ad v.2 lam ++ tl) 31 [(0, .ref (ad 0)), (1, .int l1), (2, .int l2), (3, .int v.1)] []) (hR : ∀ o : Int32 × (Nat → Nat → Int32), K (.inr (o)) → gRi x 0 0 (XW x.dA N ad o.2 lam ++ tl) o.1) : gG x 7 0 0 (XW x.dA N ad σ lam ++ tl) 31 [(0, .ref (ad 0)), (1, .int l1), (2, .int l2), (3, .int l3)] [] := by
  unfold f_X0_swap_L31 at hf
  refine g_iload_n hc dX0_swap_31 rfl 3 rfl ?_
  refine g_aload_n hc dX0_swap_32 rfl 0 rfl ?_
  refine g_get (v := .ref (ad (sb 0))) hc in_X0 (XW_at (k := 0) (Nat.lt_of_lt_of_le (by decide) hN)) rfl 1 (by decide) q185 rfl dX0_swap_33 ?_
  refine g_getN (v := .int (σ (sb 0) 5)) hc in_X5 (XW_s0 (gSl 0 hN (by decide))) rfl 5 (by decide) 8 rfl rfl dX0_swap_36 ?_
  refine g_icmp_ge (tgt := 174) hc dX0_swap_39 (by decide) (fun h1 => ?_) (fun h1 => ?_)
  · have hf := oT h1 hf
    obtain ⟨o4, hgo4, eo4⟩ := oI_some hf
    clear hf; subst eo4; have hf := hgo4; clear hgo4
    refine g_aload_n hc dX0_swap_174 rfl 0 rfl ?_
    refine g_iload_n hc dX0_swap_175 rfl 2 rfl ?_
    obtain ⟨r3, h2, hf⟩ := oB_some hf
    refine g_callVi hc [.int l2] [] (c_X0_judged hN h2) (XW_at (k := 0) (Nat.lt_of_lt_of_le (by decide) hN)) rfl (lw_V q737 q739 qs25 q60 q740) rfl hd_X0_judged rfl rfl (Nat.le_of_ble_eq_true rfl) gZ dX0_swap_176 ?_
    have hz := Option.some.inj hf; subst hz
    exact g_iret hc (hR _ hK) dX0_swap_179
  · have hf := oF h1 hf
    refine g_iload_n hc dX0_swap_42 rfl 3 rfl ?_
    refine g_iconst (v := 1) hc dX0_swap_43 (by decide) ?_
    refine g_iadd hc dX0_swap_44 ?_
    refine g_istore (lv' := [(4, .int (l3 + 1)), (0, .ref (ad 0)), (1, .int l1), (2, .int l2), (3, .int l3)]) hc dX0_swap_45 (by decide) rfl ?_
    exact g_lv [1, 2, 3, 4, 0] rfl (w_X0_swap_b47 hc σ l1 l2 l3 (l3 + 1) hN (K := K) hf hK hI31 hR)
def f_X0_swap_b31 (σ : (Nat → Nat → Int32)) (l1 : Int32) (l2 : Int32) (l3 : Int32) : Option (Int32 × (Nat → Nat → Int32)) :=
  oLoop gFU (fun v : Int32 × (Nat → Nat → Int32) => f_X0_swap_L31 v.2 l1 l2 v.1) (l3, σ)
theorem w_X0_swap_b31 {x : gX} {N : Nat} {ad : Nat → Nat} {tl : va_W} {lam : (Nat → Int64)} (hc : gOk x RX0 cX0_swap 7 8 220)  (σ : (Nat → Nat → Int32)) (l1 : Int32) (l2 : Int32) (l3 : Int32) (hN : 36 ≤ N) {K : Int32 × (Nat → Nat → Int32) → Prop} {o : Int32 × (Nat → Nat → Int32)} (hf : f_X0_swap_b31 σ l1 l2 l3 = some o) (hK : K o) (hR : ∀ o : Int32 × (Nat → Nat → Int32), K o → gRi x 0 0 (XW x.dA N ad o.2 lam ++ tl) o.1) : gG x 7 0 0 (XW x.dA N ad σ lam ++ tl) 31 [(0, .ref (ad 0)), (1, .int l1), (2, .int l2), (3, .int l3)] [] :=
  oLoop_ind (fun v : Int32 × (Nat → Nat → Int32) => gG x 7 0 0 (XW x.dA N ad v.2 lam ++ tl) 31 [(0, .ref (ad 0)), (1, .int l1), (2, .int l2), (3, .int v.1)] []) K (fun v o1 hf1 hK1 => w_X0_swap_L31 hc v.2 l1 l2 v.1 hN (K := Sum.elim (fun v : Int32 × (Nat → Nat → Int32) => gG x 7 0 0 (XW x.dA N ad v.2 lam ++ tl) 31 [(0, .ref (ad 0)), (1, .int l1), (2, .int l2), (3, .int v.1)] []) K) hf1 hK1 (fun v hv => hv) hR) gFU _ o hf hK
def f_X0_swap (σ : (Nat → Nat → Int32)) (l1 : Int32) (l2 : Int32) : Option (Int32 × (Nat → Nat → Int32)) :=
  oB (f_X0_isRag l1) fun r2 => if r2 = 0 then (some ((-1), σ)) else (oB (f_X0_isPart l2) fun r5 => if r5 = 0 then (some ((-1), σ)) else (oB (f_X0_wonMany σ 0 l1) fun r8 => oB (f_X0_startsJudging r8.2 r8.1) fun r10 => f_X0_swap_b31 r10 l1 l2 0))
theorem w_X0_swap {x : gX} {N : Nat} {ad : Nat → Nat} {tl : va_W} {lam : (Nat → Int64)} (hc : gOk x RX0 cX0_swap 7 8 220)  (σ : (Nat → Nat → Int32)) (l1 : Int32) (l2 : Int32) (hN : 36 ≤ N) {K : Int32 × (Nat → Nat → Int32) → Prop} {o : Int32 × (Nat → Nat → Int32)} (hf : f_X0_swap σ l1 l2 = some o) (hK : K o) (hR : ∀ o : Int32 × (Nat → Nat → Int32), K o → gRi x 0 0 (XW x.dA N ad o.2 lam ++ tl) o.1) : gG x 7 0 0 (XW x.dA N ad σ lam ++ tl) 0 [(0, .ref (ad 0)), (1, .int l1), (2, .int l2)] [] := by
  unfold f_X0_swap at hf
  refine g_iload_n hc dX0_swap_0 rfl 1 rfl ?_
  obtain ⟨r2, h1, hf⟩ := oB_some hf
  refine g_callSi hc [.int l1] [] (c_X0_isRag  h1) (lw_S q641 q642 q60 q643) rfl hd_X0_isRag rfl rfl (Nat.le_of_ble_eq_true rfl) gZ dX0_swap_1 ?_
  refine g_if_eq (tgt := 14) hc dX0_swap_4 (by decide) (fun h3 => ?_) (fun h3 => ?_)
  · have hf := oT h3 hf
    refine g_iconst (v := (-1)) hc dX0_swap_14 (by decide) ?_
    have hz := Option.some.inj hf; subst hz
    exact g_iret hc (hR _ hK) dX0_swap_15
  · have hf := oF h3 hf
    refine g_iload_n hc dX0_swap_7 rfl 2 rfl ?_
    obtain ⟨r5, h4, hf⟩ := oB_some hf
    refine g_callSi hc [.int l2] [] (c_X0_isPart  h4) (lw_S q722 q723 q60 q724) rfl hd_X0_isPart rfl rfl (Nat.le_of_ble_eq_true rfl) gZ dX0_swap_8 ?_
    refine g_if_ne (tgt := 16) hc dX0_swap_11 (by decide) (fun h6 => ?_) (fun h6 => ?_)
    · have hf := oF h6 hf
      refine g_aload_n hc dX0_swap_16 rfl 0 rfl ?_
      refine g_aload_n hc dX0_swap_17 rfl 0 rfl ?_
      refine g_aload_n hc dX0_swap_18 rfl 0 rfl ?_
      refine g_get (v := .ref (ad (sb 0))) hc in_X0 (XW_at (k := 0) (Nat.lt_of_lt_of_le (by decide) hN)) rfl 1 (by decide) q185 rfl dX0_swap_19 ?_
      refine g_iload_n hc dX0_swap_22 rfl 1 rfl ?_
      obtain ⟨r8, h7, hf⟩ := oB_some hf
      refine g_callVi hc [.ref (ad (sb 0)), .int l1] [.ref (ad 0)] (c_X0_wonMany hN (gSl 0 hN (by decide)) h7) (XW_at (k := 0) (Nat.lt_of_lt_of_le (by decide) hN)) rfl (lw_V q729 q731 qs23 q60 q732) rfl hd_X0_wonMany rfl rfl (Nat.le_of_ble_eq_true rfl) gZ dX0_swap_23 ?_
      obtain ⟨r10, h9, hf⟩ := oB_some hf
      refine g_callVv hc [.int r8.1] [] (c_X0_startsJudging hN h9) (XW_at (k := 0) (Nat.lt_of_lt_of_le (by decide) hN)) rfl (lw_V q725 q727 qs22 q60 q728) rfl hd_X0_startsJudging rfl rfl (Nat.le_of_ble_eq_true rfl) gZ dX0_swap_26 ?_
      refine g_iconst (v := 0) hc dX0_swap_29 (by decide) ?_
      refine g_istore_n (lv' := [(3, .int 0), (0, .ref (ad 0)), (1, .int l1), (2, .int l2)]) hc dX0_swap_30 rfl (by decide) rfl ?_
      exact g_lv [1, 2, 3, 0] rfl (w_X0_swap_b31 hc r10 l1 l2 0 hN (K := K) hf hK hR)
    · have hf := oT h6 hf
      refine g_iconst (v := (-1)) hc dX0_swap_14 (by decide) ?_
      have hz := Option.some.inj hf; subst hz
      exact g_iret hc (hR _ hK) dX0_swap_15
theorem c_X0_swap {l : Launch} {D : va_G} {dA : Nat → ClassId} {N : Nat} {ad : Nat → Nat} {tl : va_W} {lam : (Nat → Int64)} {σ : (Nat → Nat → Int32)} {l1 : Int32} {l2 : Int32} (hN : 36 ≤ N) {o : Int32 × (Nat → Nat → Int32)} (hf : f_X0_swap σ l1 l2 = some o) : gI l D dA (XW dA N ad σ lam ++ tl) (XW dA N ad o.2 lam ++ tl) [.ref (ad 0), .int l1, .int l2] o.1 yX0_swap (ws_ yX0_swap cX0_swap 7 (some .int)) ({ frames := 8, cells := 0, slots := 0, locals := 220 } : Room) :=
  g_startI (own := RX0) ⟨rfl, rfl⟩ (by decide) rfl (Nat.le_of_ble_eq_true rfl) (fun x e hc hR => by
    subst e
    exact w_X0_swap hc σ l1 l2 hN (K := fun o1 => o1 = o) hf rfl (by rintro _ rfl; exact hR))
theorem hd_X0_swap : yX0_swap.cls = RX0 ∧ yX0_swap.cls ≠ "java/lang/invoke/MethodHandle" ∧ yX0_swap.cls ≠ "java/lang/invoke/VarHandle" ∧ (parseMethodDescriptor yX0_swap.desc).map (fun d => d.parameters.length) = some 2 := by decide +kernel
/-! HedgehogLots.pull(II)I -/
def f_X0_pull_L31 (σ : (Nat → Nat → Int32)) (l1 : Int32) (l2 : Int32) (l3 : Int32) : Option ((Int32 × (Nat → Nat → Int32)) ⊕ (Int32 × (Nat → Nat → Int32))) :=
  if (σ (sb 0) 0) ≤ l3 then (oI (oB (f_X0_judged σ l2) fun r3 => some (r3, σ))) else (oB (f_X5_as σ 1 0) fun r6 => oB (f_X5_pulls r6 1 l3) fun r8 => oB (f_X0_wonMany r8 1 l1) fun r10 => oB (f_X0_judges r10.2 l3 r10.1) fun r12 => some (.inl ((l3 + 1), r12)))
theorem w_X0_pull_L31 {x : gX} {N : Nat} {ad : Nat → Nat} {tl : va_W} {lam : (Nat → Int64)} (hc : gOk x RX0 cX0_pull 4 8 220)  (σ : (Nat → Nat → Int32)) (l1 : Int32) (l2 : Int32) (l3 : Int32) (hN : 36 ≤ N) {K : (Int32 × (Nat → Nat → Int32)) ⊕ (Int32 × (Nat → Nat → Int32)) → Prop} {o : (Int32 × (Nat → Nat → Int32)) ⊕ (Int32 × (Nat → Nat → Int32))} (hf : f_X0_pull_L31 σ l1 l2 l3 = some o) (hK : K o) (hI31 : ∀ v : Int32 × (Nat → Nat → Int32), K (.inl v) → gG x 4 0 0 (XW x.dA N ad v.2 lam ++ tl) 31 [(0, .ref (ad 0)), (1, .int l1), (2, .int l2), (3, .int v.1)] []) (hR : ∀ o : Int32 × (Nat → Nat → Int32), K (.inr (o)) → gRi x 0 0 (XW x.dA N ad o.2 lam ++ tl) o.1) : gG x 4 0 0 (XW x.dA N ad σ lam ++ tl) 31 [(0, .ref (ad 0)), (1, .int l1), (2, .int l2), (3, .int l3)] [] := by
  unfold f_X0_pull_L31 at hf
  refine g_iload_n hc dX0_pull_31 rfl 3 rfl ?_
  refine g_aload_n hc dX0_pull_32 rfl 0 rfl ?_
  refine g_get (v := .ref (ad (sb 0))) hc in_X0 (XW_at (k := 0) (Nat.lt_of_lt_of_le (by decide) hN)) rfl 1 (by decide) q185 rfl dX0_pull_33 ?_
  refine g_getN (v := .int (σ (sb 0) 0)) hc in_X5 (XW_s0 (gSl 0 hN (by decide))) rfl 0 (by decide) 1 rfl rfl dX0_pull_36 ?_
  refine g_icmp_ge (tgt := 81) hc dX0_pull_39 (by decide) (fun h1 => ?_) (fun h1 => ?_)
  · have hf := oT h1 hf
    obtain ⟨o4, hgo4, eo4⟩ := oI_some hf
    clear hf; subst eo4; have hf := hgo4; clear hgo4
    refine g_aload_n hc dX0_pull_81 rfl 0 rfl ?_
    refine g_iload_n hc dX0_pull_82 rfl 2 rfl ?_
    obtain ⟨r3, h2, hf⟩ := oB_some hf
    refine g_callVi hc [.int l2] [] (c_X0_judged hN h2) (XW_at (k := 0) (Nat.lt_of_lt_of_le (by decide) hN)) rfl (lw_V q737 q739 qs25 q60 q740) rfl hd_X0_judged rfl rfl (Nat.le_of_ble_eq_true rfl) gZ dX0_pull_83 ?_
    have hz := Option.some.inj hf; subst hz
    exact g_iret hc (hR _ hK) dX0_pull_86
  · have hf := oF h1 hf
    refine g_aload_n hc dX0_pull_42 rfl 0 rfl ?_
    refine g_get (v := .ref (ad (sb 1))) hc in_X0 (XW_at (k := 0) (Nat.lt_of_lt_of_le (by decide) hN)) rfl 2 (by decide) q186 rfl dX0_pull_43 ?_
    refine g_aload_n hc dX0_pull_46 rfl 0 rfl ?_
    refine g_get (v := .ref (ad (sb 0))) hc in_X0 (XW_at (k := 0) (Nat.lt_of_lt_of_le (by decide) hN)) rfl 1 (by decide) q185 rfl dX0_pull_47 ?_
    obtain ⟨r6, h5, hf⟩ := oB_some hf
    refine g_callVv hc [.ref (ad (sb 0))] [] (c_X5_as hN (gSl 1 hN (by decide)) (gSl 0 hN (by decide)) h5) (XW_s0 (gSl 1 hN (by decide))) rfl (lw_V q521 q522 q523 q65 q524) rfl hd_X5_as rfl rfl (Nat.le_of_ble_eq_true rfl) gZ dX0_pull_50 ?_
    refine g_aload_n hc dX0_pull_53 rfl 0 rfl ?_
    refine g_get (v := .ref (ad (sb 1))) hc in_X0 (XW_at (k := 0) (Nat.lt_of_lt_of_le (by decide) hN)) rfl 2 (by decide) q186 rfl dX0_pull_54 ?_
    refine g_iload_n hc dX0_pull_57 rfl 3 rfl ?_
    obtain ⟨r8, h7, hf⟩ := oB_some hf
    refine g_callVv hc [.int l3] [] (c_X5_pulls hN (gSl 1 hN (by decide)) h7) (XW_s0 (gSl 1 hN (by decide))) rfl (lw_V q766 q767 q768 q65 q769) rfl hd_X5_pulls rfl rfl (Nat.le_of_ble_eq_true rfl) gZ dX0_pull_58 ?_
    refine g_aload_n hc dX0_pull_61 rfl 0 rfl ?_
    refine g_iload_n hc dX0_pull_62 rfl 3 rfl ?_
    refine g_aload_n hc dX0_pull_63 rfl 0 rfl ?_
    refine g_aload_n hc dX0_pull_64 rfl 0 rfl ?_
    refine g_get (v := .ref (ad (sb 1))) hc in_X0 (XW_at (k := 0) (Nat.lt_of_lt_of_le (by decide) hN)) rfl 2 (by decide) q186 rfl dX0_pull_65 ?_
    refine g_iload_n hc dX0_pull_68 rfl 1 rfl ?_
    obtain ⟨r10, h9, hf⟩ := oB_some hf
    refine g_callVi hc [.ref (ad (sb 1)), .int l1] [.int l3, .ref (ad 0)] (c_X0_wonMany hN (gSl 1 hN (by decide)) h9) (XW_at (k := 0) (Nat.lt_of_lt_of_le (by decide) hN)) rfl (lw_V q729 q731 qs23 q60 q732) rfl hd_X0_wonMany rfl rfl (Nat.le_of_ble_eq_true rfl) gZ dX0_pull_69 ?_
    obtain ⟨r12, h11, hf⟩ := oB_some hf
    refine g_callVv hc [.int l3, .int r10.1] [] (c_X0_judges hN h11) (XW_at (k := 0) (Nat.lt_of_lt_of_le (by decide) hN)) rfl (lw_V q733 q735 qs24 q60 q736) rfl hd_X0_judges rfl rfl (Nat.le_of_ble_eq_true rfl) gZ dX0_pull_72 ?_
    refine g_iinc (v := l3 + 1) (lv' := [(3, .int (l3 + 1)), (0, .ref (ad 0)), (1, .int l1), (2, .int l2)]) hc dX0_pull_75 (j := 3) rfl rfl (by decide) rfl ?_
    refine g_goto (tgt := 31) hc dX0_pull_78 (by decide) ?_
    have hz := Option.some.inj hf; subst hz
    exact g_lv [1, 2, 3, 0] rfl (hI31 _ hK)
def f_X0_pull_b31 (σ : (Nat → Nat → Int32)) (l1 : Int32) (l2 : Int32) (l3 : Int32) : Option (Int32 × (Nat → Nat → Int32)) :=
  oLoop gFU (fun v : Int32 × (Nat → Nat → Int32) => f_X0_pull_L31 v.2 l1 l2 v.1) (l3, σ)
theorem w_X0_pull_b31 {x : gX} {N : Nat} {ad : Nat → Nat} {tl : va_W} {lam : (Nat → Int64)} (hc : gOk x RX0 cX0_pull 4 8 220)  (σ : (Nat → Nat → Int32)) (l1 : Int32) (l2 : Int32) (l3 : Int32) (hN : 36 ≤ N) {K : Int32 × (Nat → Nat → Int32) → Prop} {o : Int32 × (Nat → Nat → Int32)} (hf : f_X0_pull_b31 σ l1 l2 l3 = some o) (hK : K o) (hR : ∀ o : Int32 × (Nat → Nat → Int32), K o → gRi x 0 0 (XW x.dA N ad o.2 lam ++ tl) o.1) : gG x 4 0 0 (XW x.dA N ad σ lam ++ tl) 31 [(0, .ref (ad 0)), (1, .int l1), (2, .int l2), (3, .int l3)] [] :=
  oLoop_ind (fun v : Int32 × (Nat → Nat → Int32) => gG x 4 0 0 (XW x.dA N ad v.2 lam ++ tl) 31 [(0, .ref (ad 0)), (1, .int l1), (2, .int l2), (3, .int v.1)] []) K (fun v o1 hf1 hK1 => w_X0_pull_L31 hc v.2 l1 l2 v.1 hN (K := Sum.elim (fun v : Int32 × (Nat → Nat → Int32) => gG x 4 0 0 (XW x.dA N ad v.2 lam ++ tl) 31 [(0, .ref (ad 0)), (1, .int l1), (2, .int l2), (3, .int v.1)] []) K) hf1 hK1 (fun v hv => hv) hR) gFU _ o hf hK
def f_X0_pull (σ : (Nat → Nat → Int32)) (l1 : Int32) (l2 : Int32) : Option (Int32 × (Nat → Nat → Int32)) :=
  oB (f_X0_isRag l1) fun r2 => if r2 = 0 then (some ((-1), σ)) else (oB (f_X0_isPart l2) fun r5 => if r5 = 0 then (some ((-1), σ)) else (oB (f_X0_wonMany σ 0 l1) fun r8 => oB (f_X0_startsJudging r8.2 r8.1) fun r10 => f_X0_pull_b31 r10 l1 l2 0))
theorem w_X0_pull {x : gX} {N : Nat} {ad : Nat → Nat} {tl : va_W} {lam : (Nat → Int64)} (hc : gOk x RX0 cX0_pull 4 8 220)  (σ : (Nat → Nat → Int32)) (l1 : Int32) (l2 : Int32) (hN : 36 ≤ N) {K : Int32 × (Nat → Nat → Int32) → Prop} {o : Int32 × (Nat → Nat → Int32)} (hf : f_X0_pull σ l1 l2 = some o) (hK : K o) (hR : ∀ o : Int32 × (Nat → Nat → Int32), K o → gRi x 0 0 (XW x.dA N ad o.2 lam ++ tl) o.1) : gG x 4 0 0 (XW x.dA N ad σ lam ++ tl) 0 [(0, .ref (ad 0)), (1, .int l1), (2, .int l2)] [] := by
  unfold f_X0_pull at hf
  refine g_iload_n hc dX0_pull_0 rfl 1 rfl ?_
  obtain ⟨r2, h1, hf⟩ := oB_some hf
  refine g_callSi hc [.int l1] [] (c_X0_isRag  h1) (lw_S q641 q642 q60 q643) rfl hd_X0_isRag rfl rfl (Nat.le_of_ble_eq_true rfl) gZ dX0_pull_1 ?_
  refine g_if_eq (tgt := 14) hc dX0_pull_4 (by decide) (fun h3 => ?_) (fun h3 => ?_)
  · have hf := oT h3 hf
    refine g_iconst (v := (-1)) hc dX0_pull_14 (by decide) ?_
    have hz := Option.some.inj hf; subst hz
    exact g_iret hc (hR _ hK) dX0_pull_15
  · have hf := oF h3 hf
    refine g_iload_n hc dX0_pull_7 rfl 2 rfl ?_
    obtain ⟨r5, h4, hf⟩ := oB_some hf
    refine g_callSi hc [.int l2] [] (c_X0_isPart  h4) (lw_S q722 q723 q60 q724) rfl hd_X0_isPart rfl rfl (Nat.le_of_ble_eq_true rfl) gZ dX0_pull_8 ?_
    refine g_if_ne (tgt := 16) hc dX0_pull_11 (by decide) (fun h6 => ?_) (fun h6 => ?_)
    · have hf := oF h6 hf
      refine g_aload_n hc dX0_pull_16 rfl 0 rfl ?_
      refine g_aload_n hc dX0_pull_17 rfl 0 rfl ?_
      refine g_aload_n hc dX0_pull_18 rfl 0 rfl ?_
      refine g_get (v := .ref (ad (sb 0))) hc in_X0 (XW_at (k := 0) (Nat.lt_of_lt_of_le (by decide) hN)) rfl 1 (by decide) q185 rfl dX0_pull_19 ?_
      refine g_iload_n hc dX0_pull_22 rfl 1 rfl ?_
      obtain ⟨r8, h7, hf⟩ := oB_some hf
      refine g_callVi hc [.ref (ad (sb 0)), .int l1] [.ref (ad 0)] (c_X0_wonMany hN (gSl 0 hN (by decide)) h7) (XW_at (k := 0) (Nat.lt_of_lt_of_le (by decide) hN)) rfl (lw_V q729 q731 qs23 q60 q732) rfl hd_X0_wonMany rfl rfl (Nat.le_of_ble_eq_true rfl) gZ dX0_pull_23 ?_
      obtain ⟨r10, h9, hf⟩ := oB_some hf
      refine g_callVv hc [.int r8.1] [] (c_X0_startsJudging hN h9) (XW_at (k := 0) (Nat.lt_of_lt_of_le (by decide) hN)) rfl (lw_V q725 q727 qs22 q60 q728) rfl hd_X0_startsJudging rfl rfl (Nat.le_of_ble_eq_true rfl) gZ dX0_pull_26 ?_
      refine g_iconst (v := 0) hc dX0_pull_29 (by decide) ?_
      refine g_istore_n (lv' := [(3, .int 0), (0, .ref (ad 0)), (1, .int l1), (2, .int l2)]) hc dX0_pull_30 rfl (by decide) rfl ?_
      exact g_lv [1, 2, 3, 0] rfl (w_X0_pull_b31 hc r10 l1 l2 0 hN (K := K) hf hK hR)
    · have hf := oT h6 hf
      refine g_iconst (v := (-1)) hc dX0_pull_14 (by decide) ?_
      have hz := Option.some.inj hf; subst hz
      exact g_iret hc (hR _ hK) dX0_pull_15
theorem c_X0_pull {l : Launch} {D : va_G} {dA : Nat → ClassId} {N : Nat} {ad : Nat → Nat} {tl : va_W} {lam : (Nat → Int64)} {σ : (Nat → Nat → Int32)} {l1 : Int32} {l2 : Int32} (hN : 36 ≤ N) {o : Int32 × (Nat → Nat → Int32)} (hf : f_X0_pull σ l1 l2 = some o) : gI l D dA (XW dA N ad σ lam ++ tl) (XW dA N ad o.2 lam ++ tl) [.ref (ad 0), .int l1, .int l2] o.1 yX0_pull (ws_ yX0_pull cX0_pull 4 (some .int)) ({ frames := 8, cells := 0, slots := 0, locals := 220 } : Room) :=
  g_startI (own := RX0) ⟨rfl, rfl⟩ (by decide) rfl (Nat.le_of_ble_eq_true rfl) (fun x e hc hR => by
    subst e
    exact w_X0_pull hc σ l1 l2 hN (K := fun o1 => o1 = o) hf rfl (by rintro _ rfl; exact hR))
theorem hd_X0_pull : yX0_pull.cls = RX0 ∧ yX0_pull.cls ≠ "java/lang/invoke/MethodHandle" ∧ yX0_pull.cls ≠ "java/lang/invoke/VarHandle" ∧ (parseMethodDescriptor yX0_pull.desc).map (fun d => d.parameters.length) = some 2 := by decide +kernel
/-! HedgehogLots.lowest(JJI)J -/
def f_X0_lowest_L6 (l0 : Int64) (l2 : Int64) (l4 : Int32) (l5 : Int64) (l7 : Int64) : Option ((Int64 × Int64) ⊕ (Int64)) :=
  if (lg_cmp l7 0) = 0 then (oI (if l4 = 0 then (oC (nzl l5) <| some (l0 / l5)) else (oC (nzl l5) <| some (l2 / l5)))) else (oC (nzl l7) <| some (.inl (l7, (l5 - l5 / l7 * l7))))
theorem w_X0_lowest_L6 {x : gX} {Φ : va_W}  (hc : gOk x RX0 cX0_lowest 11 0 0)  (l0 : Int64) (l2 : Int64) (l4 : Int32) (l5 : Int64) (l7 : Int64)  {K : (Int64 × Int64) ⊕ (Int64) → Prop} {o : (Int64 × Int64) ⊕ (Int64)} (hf : f_X0_lowest_L6 l0 l2 l4 l5 l7 = some o) (hK : K o) (hI6 : ∀ v : Int64 × Int64, K (.inl v) → gG x 11 0 0 (Φ) 6 [(0, .long l0), (2, .long l2), (4, .int l4), (5, .long v.1), (7, .long v.2)] []) (hR : ∀ o : Int64, K (.inr (o)) → gRl x 0 0 (Φ) o) : gG x 11 0 0 (Φ) 6 [(0, .long l0), (2, .long l2), (4, .int l4), (5, .long l5), (7, .long l7)] [] := by
  unfold f_X0_lowest_L6 at hf
  refine g_lload hc dX0_lowest_6 4 rfl ?_
  refine g_lconst (v := 0) hc dX0_lowest_8 (by decide) ?_
  refine g_lcmp hc dX0_lowest_9 ?_
  refine g_if_eq (tgt := 31) hc dX0_lowest_10 (by decide) (fun h1 => ?_) (fun h1 => ?_)
  · have hf := oT h1 hf
    obtain ⟨o5, hgo5, eo5⟩ := oI_some hf
    clear hf; subst eo5; have hf := hgo5; clear hgo5
    refine g_iload hc dX0_lowest_31 2 rfl ?_
    refine g_if_ne (tgt := 43) hc dX0_lowest_33 (by decide) (fun h2 => ?_) (fun h2 => ?_)
    · have hf := oF h2 hf
      refine g_lload_n hc dX0_lowest_43 rfl 1 rfl ?_
      refine g_lload hc dX0_lowest_44 3 rfl ?_
      obtain ⟨h3, hf⟩ := oC_some hf
      refine g_ldiv hc dX0_lowest_46 (nzl_ne h3) ?_
      have hz := Option.some.inj hf; subst hz
      exact g_lret hc (hR _ hK) dX0_lowest_47
    · have hf := oT h2 hf
      refine g_lload_n hc dX0_lowest_36 rfl 0 rfl ?_
      refine g_lload hc dX0_lowest_37 3 rfl ?_
      obtain ⟨h4, hf⟩ := oC_some hf
      refine g_ldiv hc dX0_lowest_39 (nzl_ne h4) ?_
      refine g_goto (tgt := 47) hc dX0_lowest_40 (by decide) ?_
      have hz := Option.some.inj hf; subst hz
      exact g_lret hc (hR _ hK) dX0_lowest_47
  · have hf := oF h1 hf
    refine g_lload hc dX0_lowest_13 3 rfl ?_
    refine g_lload hc dX0_lowest_15 4 rfl ?_
    obtain ⟨h6, hf⟩ := oC_some hf
    refine g_lrem hc dX0_lowest_17 (nzl_ne h6) ?_
    refine g_lstore (lv' := [(9, .long (l5 - l5 / l7 * l7)), (0, .long l0), (2, .long l2), (4, .int l4), (5, .long l5), (7, .long l7)]) hc dX0_lowest_18 (by decide) rfl ?_
    refine g_lload hc dX0_lowest_20 5 rfl ?_
    refine g_lstore (lv' := [(5, .long l7), (9, .long (l5 - l5 / l7 * l7)), (0, .long l0), (2, .long l2), (4, .int l4), (7, .long l7)]) hc dX0_lowest_22 (by decide) rfl ?_
    refine g_lload hc dX0_lowest_24 1 rfl ?_
    refine g_lstore (lv' := [(7, .long (l5 - l5 / l7 * l7)), (5, .long l7), (9, .long (l5 - l5 / l7 * l7)), (0, .long l0), (2, .long l2), (4, .int l4)]) hc dX0_lowest_26 (by decide) rfl ?_
    refine g_goto (tgt := 6) hc dX0_lowest_28 (by decide) ?_
    have hz := Option.some.inj hf; subst hz
    exact g_lv [3, 4, 5, 1, 0] rfl (hI6 _ hK)
def f_X0_lowest_b6 (l0 : Int64) (l2 : Int64) (l4 : Int32) (l5 : Int64) (l7 : Int64) : Option (Int64) :=
  oLoop gFU (fun v : Int64 × Int64 => f_X0_lowest_L6 l0 l2 l4 v.1 v.2) (l5, l7)
theorem w_X0_lowest_b6 {x : gX} {Φ : va_W}  (hc : gOk x RX0 cX0_lowest 11 0 0)  (l0 : Int64) (l2 : Int64) (l4 : Int32) (l5 : Int64) (l7 : Int64)  {K : Int64 → Prop} {o : Int64} (hf : f_X0_lowest_b6 l0 l2 l4 l5 l7 = some o) (hK : K o) (hR : ∀ o : Int64, K o → gRl x 0 0 (Φ) o) : gG x 11 0 0 (Φ) 6 [(0, .long l0), (2, .long l2), (4, .int l4), (5, .long l5), (7, .long l7)] [] :=
  oLoop_ind (fun v : Int64 × Int64 => gG x 11 0 0 (Φ) 6 [(0, .long l0), (2, .long l2), (4, .int l4), (5, .long v.1), (7, .long v.2)] []) K (fun v o1 hf1 hK1 => w_X0_lowest_L6 hc l0 l2 l4 v.1 v.2  (K := Sum.elim (fun v : Int64 × Int64 => gG x 11 0 0 (Φ) 6 [(0, .long l0), (2, .long l2), (4, .int l4), (5, .long v.1), (7, .long v.2)] []) K) hf1 hK1 (fun v hv => hv) hR) gFU _ o hf hK
def f_X0_lowest (l0 : Int64) (l2 : Int64) (l4 : Int32) : Option (Int64) :=
  f_X0_lowest_b6 l0 l2 l4 l2 l0
theorem w_X0_lowest {x : gX} {Φ : va_W}  (hc : gOk x RX0 cX0_lowest 11 0 0)  (l0 : Int64) (l2 : Int64) (l4 : Int32)  {K : Int64 → Prop} {o : Int64} (hf : f_X0_lowest l0 l2 l4 = some o) (hK : K o) (hR : ∀ o : Int64, K o → gRl x 0 0 (Φ) o) : gG x 11 0 0 (Φ) 0 [(0, .long l0), (2, .long l2), (4, .int l4)] [] := by
  unfold f_X0_lowest at hf
  refine g_lload_n hc dX0_lowest_0 rfl 1 rfl ?_
  refine g_lstore (lv' := [(5, .long l2), (0, .long l0), (2, .long l2), (4, .int l4)]) hc dX0_lowest_1 (by decide) rfl ?_
  refine g_lload_n hc dX0_lowest_3 rfl 1 rfl ?_
  refine g_lstore (lv' := [(7, .long l0), (5, .long l2), (0, .long l0), (2, .long l2), (4, .int l4)]) hc dX0_lowest_4 (by decide) rfl ?_
  exact g_lv [2, 3, 4, 1, 0] rfl (w_X0_lowest_b6 hc l0 l2 l4 l2 l0  (K := K) hf hK hR)
theorem c_X0_lowest {l : Launch} {D : va_G} {dA : Nat → ClassId} {Φ : va_W}  {l0 : Int64} {l2 : Int64} {l4 : Int32}  {o : Int64} (hf : f_X0_lowest l0 l2 l4 = some o) : gLo l D dA (Φ) (Φ) [.long l0, .long l2, .int l4] o yX0_lowest (ws_ yX0_lowest cX0_lowest 11 (some .long)) ({ frames := 0, cells := 0, slots := 0, locals := 0 } : Room) :=
  g_startL (own := RX0) ⟨rfl, rfl⟩ (by decide) rfl (Nat.le_of_ble_eq_true rfl) (fun x e hc hR => by
    subst e
    exact w_X0_lowest hc l0 l2 l4  (K := fun o1 => o1 = o) hf rfl (by rintro _ rfl; exact hR))
theorem hd_X0_lowest : yX0_lowest.cls ≠ "java/lang/invoke/MethodHandle" ∧ yX0_lowest.cls ≠ "java/lang/invoke/VarHandle" ∧ (parseMethodDescriptor yX0_lowest.desc).map (fun d => d.parameters.length) = some 3 := by decide +kernel
/-! HedgehogLots.findOdds(IIII)V -/
def f_X0_findOdds_b117 (σ : (Nat → Nat → Int32)) (lam : (Nat → Int64)) (l1 : Int32) (l2 : Int32) (l3 : Int32) (l4 : Int32) (l5 : Int32) (l6 : Int64) (k3 : Int64) (k2 : Int64) : Option ((Int32 × (Nat → Nat → Int32) × (Nat → Int64)) ⊕ ((Nat → Nat → Int32) × (Nat → Int64))) :=
  oL (vp_updL lam 17 (k2 + k3)) fun s1 => oL (vp_updL s1 18 ((s1 18) + (l6 * (Int32.toInt64 (σ 0 10))))) fun s3 => some (.inl ((l5 + 1), σ, s3))
theorem w_X0_findOdds_b117 {x : gX} {N : Nat} {ad : Nat → Nat} {tl : va_W}  (hc : gOk x RX0 cX0_findOdds 9 5 152)  (σ : (Nat → Nat → Int32)) (lam : (Nat → Int64)) (l1 : Int32) (l2 : Int32) (l3 : Int32) (l4 : Int32) (l5 : Int32) (l6 : Int64) (k3 : Int64) (k2 : Int64) (hN : 36 ≤ N) {K : (Int32 × (Nat → Nat → Int32) × (Nat → Int64)) ⊕ ((Nat → Nat → Int32) × (Nat → Int64)) → Prop} {o : (Int32 × (Nat → Nat → Int32) × (Nat → Int64)) ⊕ ((Nat → Nat → Int32) × (Nat → Int64))} (hf : f_X0_findOdds_b117 σ lam l1 l2 l3 l4 l5 l6 k3 k2 = some o) (hK : K o) (hI18 : ∀ v : Int32 × (Nat → Nat → Int32) × (Nat → Int64), K (.inl v) → gG x 9 0 0 (XW x.dA N ad v.2.1 v.2.2 ++ tl) 18 [(0, .ref (ad 0)), (1, .int l1), (2, .int l2), (3, .int l3), (4, .int l4), (5, .int v.1)] []) (hR : ∀ o : (Nat → Nat → Int32) × (Nat → Int64), K (.inr (o)) → gRv x 0 0 (XW x.dA N ad o.1 o.2 ++ tl)) : gG x 9 0 0 (XW x.dA N ad σ lam ++ tl) 117 [(0, .ref (ad 0)), (1, .int l1), (2, .int l2), (3, .int l3), (4, .int l4), (5, .int l5), (6, .long l6)] [.long k3, .long k2, .ref (ad 0)] := by
  unfold f_X0_findOdds_b117 at hf
  refine g_ladd hc dX0_findOdds_117 ?_
  obtain ⟨s1, e2, hf⟩ := oL_some hf
  refine g_put (v := .long (k2 + k3)) hc in_X0 tyX0_ok nmX0 (XW_at (k := 0) (Nat.lt_of_lt_of_le (by decide) hN)) rfl 17 (by decide) q202 rfl rfl rfl (Nat.le_of_ble_eq_true rfl) (XW_setL (lam1 := s1) (Nat.lt_of_lt_of_le (by decide) hN) (by rw [e2]; rfl)) dX0_findOdds_118 ?_
  refine g_aload_n hc dX0_findOdds_121 rfl 0 rfl ?_
  refine g_dup hc dX0_findOdds_122 rfl ?_
  refine g_get (v := .long (s1 18)) hc in_X0 (XW_at (k := 0) (Nat.lt_of_lt_of_le (by decide) hN)) rfl 18 (by decide) q203 rfl dX0_findOdds_123 ?_
  refine g_lload hc dX0_findOdds_126 6 rfl ?_
  refine g_aload_n hc dX0_findOdds_128 rfl 0 rfl ?_
  refine g_get (v := .int (σ 0 10)) hc in_X0 (XW_at (k := 0) (Nat.lt_of_lt_of_le (by decide) hN)) rfl 10 (by decide) q194 rfl dX0_findOdds_129 ?_
  refine g_i2l hc dX0_findOdds_132 ?_
  refine g_lmul hc dX0_findOdds_133 ?_
  refine g_ladd hc dX0_findOdds_134 ?_
  obtain ⟨s3, e4, hf⟩ := oL_some hf
  refine g_put (v := .long ((s1 18) + (l6 * (Int32.toInt64 (σ 0 10))))) hc in_X0 tyX0_ok nmX0 (XW_at (k := 0) (Nat.lt_of_lt_of_le (by decide) hN)) rfl 18 (by decide) q203 rfl rfl rfl (Nat.le_of_ble_eq_true rfl) (XW_setL (lam1 := s3) (Nat.lt_of_lt_of_le (by decide) hN) (by rw [e4]; rfl)) dX0_findOdds_135 ?_
  refine g_iinc (v := l5 + 1) (lv' := [(5, .int (l5 + 1)), (0, .ref (ad 0)), (1, .int l1), (2, .int l2), (3, .int l3), (4, .int l4), (6, .long l6)]) hc dX0_findOdds_138 (j := 5) rfl rfl (by decide) rfl ?_
  refine g_goto (tgt := 18) hc dX0_findOdds_141 (by decide) ?_
  have hz := Option.some.inj hf; subst hz
  exact g_lv [1, 2, 3, 4, 5, 0] rfl (hI18 _ hK)
def f_X0_findOdds_b61 (σ : (Nat → Nat → Int32)) (lam : (Nat → Int64)) (l1 : Int32) (l2 : Int32) (l3 : Int32) (l4 : Int32) (l5 : Int32) (l8 : Int32) (k2 : Int64) (k1 : Int64) : Option ((Int64 × Int32) ⊕ ((Int32 × (Nat → Nat → Int32) × (Nat → Int64)) ⊕ ((Nat → Nat → Int32) × (Nat → Int64)))) :=
  some (.inl ((k1 * k2), (l8 + 1)))
theorem w_X0_findOdds_b61 {x : gX} {N : Nat} {ad : Nat → Nat} {tl : va_W}  (hc : gOk x RX0 cX0_findOdds 9 5 152)  (σ : (Nat → Nat → Int32)) (lam : (Nat → Int64)) (l1 : Int32) (l2 : Int32) (l3 : Int32) (l4 : Int32) (l5 : Int32) (l8 : Int32) (k2 : Int64) (k1 : Int64) (hN : 36 ≤ N) {K : (Int64 × Int32) ⊕ ((Int32 × (Nat → Nat → Int32) × (Nat → Int64)) ⊕ ((Nat → Nat → Int32) × (Nat → Int64))) → Prop} {o : (Int64 × Int32) ⊕ ((Int32 × (Nat → Nat → Int32) × (Nat → Int64)) ⊕ ((Nat → Nat → Int32) × (Nat → Int64)))} (hf : f_X0_findOdds_b61 σ lam l1 l2 l3 l4 l5 l8 k2 k1 = some o) (hK : K o) (hI32 : ∀ v : Int64 × Int32, K (.inl v) → gG x 9 0 0 (XW x.dA N ad σ lam ++ tl) 32 [(0, .ref (ad 0)), (1, .int l1), (2, .int l2), (3, .int l3), (4, .int l4), (5, .int l5), (6, .long v.1), (8, .int v.2)] []) (hI18 : ∀ v : Int32 × (Nat → Nat → Int32) × (Nat → Int64), K (.inr (.inl v)) → gG x 9 0 0 (XW x.dA N ad v.2.1 v.2.2 ++ tl) 18 [(0, .ref (ad 0)), (1, .int l1), (2, .int l2), (3, .int l3), (4, .int l4), (5, .int v.1)] []) (hR : ∀ o : (Nat → Nat → Int32) × (Nat → Int64), K (.inr (.inr (o))) → gRv x 0 0 (XW x.dA N ad o.1 o.2 ++ tl)) : gG x 9 0 0 (XW x.dA N ad σ lam ++ tl) 61 [(0, .ref (ad 0)), (1, .int l1), (2, .int l2), (3, .int l3), (4, .int l4), (5, .int l5), (8, .int l8)] [.long k2, .long k1] := by
  unfold f_X0_findOdds_b61 at hf
  refine g_lmul hc dX0_findOdds_61 ?_
  refine g_lstore (lv' := [(6, .long (k1 * k2)), (0, .ref (ad 0)), (1, .int l1), (2, .int l2), (3, .int l3), (4, .int l4), (5, .int l5), (8, .int l8)]) hc dX0_findOdds_62 (by decide) rfl ?_
  refine g_iinc (v := l8 + 1) (lv' := [(8, .int (l8 + 1)), (6, .long (k1 * k2)), (0, .ref (ad 0)), (1, .int l1), (2, .int l2), (3, .int l3), (4, .int l4), (5, .int l5)]) hc dX0_findOdds_64 (j := 7) rfl rfl (by decide) rfl ?_
  refine g_goto (tgt := 32) hc dX0_findOdds_67 (by decide) ?_
  have hz := Option.some.inj hf; subst hz
  exact g_lv [2, 3, 4, 5, 6, 7, 1, 0] rfl (hI32 _ hK)
def f_X0_findOdds_L32 (σ : (Nat → Nat → Int32)) (lam : (Nat → Int64)) (l1 : Int32) (l2 : Int32) (l3 : Int32) (l4 : Int32) (l5 : Int32) (l6 : Int64) (l8 : Int32) : Option ((Int64 × Int32) ⊕ ((Int32 × (Nat → Nat → Int32) × (Nat → Int64)) ⊕ ((Nat → Nat → Int32) × (Nat → Int64)))) :=
  if 10 ≤ l8 then (oI (oB (f_X0_runs σ 0 l2 l3 l5) fun r3 => oL (vp_updL lam 19 ((lam 19) + l6)) fun s4 => oB (f_X0_winner r3 0) fun r7 => if r7 = l4 then (f_X0_findOdds_b117 r3 s4 l1 l2 l3 l4 l5 l6 l6 (s4 17)) else (f_X0_findOdds_b117 r3 s4 l1 l2 l3 l4 l5 l6 0 (s4 17)))) else (oB (f_X0_has l5 l8) fun r11 => if r11 = 0 then (f_X0_findOdds_b61 σ lam l1 l2 l3 l4 l5 l8 (Int32.toInt64 (10 - l1)) l6) else (f_X0_findOdds_b61 σ lam l1 l2 l3 l4 l5 l8 (Int32.toInt64 l1) l6))
theorem w_X0_findOdds_L32 {x : gX} {N : Nat} {ad : Nat → Nat} {tl : va_W}  (hc : gOk x RX0 cX0_findOdds 9 5 152)  (σ : (Nat → Nat → Int32)) (lam : (Nat → Int64)) (l1 : Int32) (l2 : Int32) (l3 : Int32) (l4 : Int32) (l5 : Int32) (l6 : Int64) (l8 : Int32) (hN : 36 ≤ N) {K : (Int64 × Int32) ⊕ ((Int32 × (Nat → Nat → Int32) × (Nat → Int64)) ⊕ ((Nat → Nat → Int32) × (Nat → Int64))) → Prop} {o : (Int64 × Int32) ⊕ ((Int32 × (Nat → Nat → Int32) × (Nat → Int64)) ⊕ ((Nat → Nat → Int32) × (Nat → Int64)))} (hf : f_X0_findOdds_L32 σ lam l1 l2 l3 l4 l5 l6 l8 = some o) (hK : K o) (hI32 : ∀ v : Int64 × Int32, K (.inl v) → gG x 9 0 0 (XW x.dA N ad σ lam ++ tl) 32 [(0, .ref (ad 0)), (1, .int l1), (2, .int l2), (3, .int l3), (4, .int l4), (5, .int l5), (6, .long v.1), (8, .int v.2)] []) (hI18 : ∀ v : Int32 × (Nat → Nat → Int32) × (Nat → Int64), K (.inr (.inl v)) → gG x 9 0 0 (XW x.dA N ad v.2.1 v.2.2 ++ tl) 18 [(0, .ref (ad 0)), (1, .int l1), (2, .int l2), (3, .int l3), (4, .int l4), (5, .int v.1)] []) (hR : ∀ o : (Nat → Nat → Int32) × (Nat → Int64), K (.inr (.inr (o))) → gRv x 0 0 (XW x.dA N ad o.1 o.2 ++ tl)) : gG x 9 0 0 (XW x.dA N ad σ lam ++ tl) 32 [(0, .ref (ad 0)), (1, .int l1), (2, .int l2), (3, .int l3), (4, .int l4), (5, .int l5), (6, .long l6), (8, .int l8)] [] := by
  unfold f_X0_findOdds_L32 at hf
  refine g_iload hc dX0_findOdds_32 7 rfl ?_
  refine g_bipush (v := 10) hc dX0_findOdds_34 (by decide) ?_
  refine g_icmp_ge (tgt := 70) hc dX0_findOdds_36 (by decide) (fun h1 => ?_) (fun h1 => ?_)
  · have hf := oT h1 hf
    obtain ⟨o9, hgo9, eo9⟩ := oI_some hf
    clear hf; subst eo9; have hf := hgo9; clear hgo9
    refine g_aload_n hc dX0_findOdds_70 rfl 0 rfl ?_
    refine g_aload_n hc dX0_findOdds_71 rfl 0 rfl ?_
    refine g_get (v := .ref (ad (sb 0))) hc in_X0 (XW_at (k := 0) (Nat.lt_of_lt_of_le (by decide) hN)) rfl 1 (by decide) q185 rfl dX0_findOdds_72 ?_
    refine g_iload_n hc dX0_findOdds_75 rfl 2 rfl ?_
    refine g_iload_n hc dX0_findOdds_76 rfl 3 rfl ?_
    refine g_iload hc dX0_findOdds_77 5 rfl ?_
    obtain ⟨r3, h2, hf⟩ := oB_some hf
    refine g_callVv hc [.ref (ad (sb 0)), .int l2, .int l3, .int l5] [] (c_X0_runs hN (gSl 0 hN (by decide)) h2) (XW_at (k := 0) (Nat.lt_of_lt_of_le (by decide) hN)) rfl (lw_V q540 q542 qs14 q60 q543) rfl hd_X0_runs rfl rfl (Nat.le_of_ble_eq_true rfl) gZ dX0_findOdds_79 ?_
    refine g_aload_n hc dX0_findOdds_82 rfl 0 rfl ?_
    refine g_dup hc dX0_findOdds_83 rfl ?_
    refine g_get (v := .long (lam 19)) hc in_X0 (XW_at (k := 0) (Nat.lt_of_lt_of_le (by decide) hN)) rfl 19 (by decide) q204 rfl dX0_findOdds_84 ?_
    refine g_lload hc dX0_findOdds_87 6 rfl ?_
    refine g_ladd hc dX0_findOdds_89 ?_
    obtain ⟨s4, e5, hf⟩ := oL_some hf
    refine g_put (v := .long ((lam 19) + l6)) hc in_X0 tyX0_ok nmX0 (XW_at (k := 0) (Nat.lt_of_lt_of_le (by decide) hN)) rfl 19 (by decide) q204 rfl rfl rfl (Nat.le_of_ble_eq_true rfl) (XW_setL (lam1 := s4) (Nat.lt_of_lt_of_le (by decide) hN) (by rw [e5]; rfl)) dX0_findOdds_90 ?_
    refine g_aload_n hc dX0_findOdds_93 rfl 0 rfl ?_
    refine g_dup hc dX0_findOdds_94 rfl ?_
    refine g_get (v := .long (s4 17)) hc in_X0 (XW_at (k := 0) (Nat.lt_of_lt_of_le (by decide) hN)) rfl 17 (by decide) q202 rfl dX0_findOdds_95 ?_
    refine g_aload_n hc dX0_findOdds_98 rfl 0 rfl ?_
    refine g_aload_n hc dX0_findOdds_99 rfl 0 rfl ?_
    refine g_get (v := .ref (ad (sb 0))) hc in_X0 (XW_at (k := 0) (Nat.lt_of_lt_of_le (by decide) hN)) rfl 1 (by decide) q185 rfl dX0_findOdds_100 ?_
    obtain ⟨r7, h6, hf⟩ := oB_some hf
    refine g_callVi hc [.ref (ad (sb 0))] [.long (s4 17), .ref (ad 0)] (c_X0_winner hN (gSl 0 hN (by decide)) h6) (XW_at (k := 0) (Nat.lt_of_lt_of_le (by decide) hN)) rfl (lw_V q601 q603 qs17 q60 q604) rfl hd_X0_winner rfl rfl (Nat.le_of_ble_eq_true rfl) gZ dX0_findOdds_103 ?_
    refine g_iload hc dX0_findOdds_106 4 rfl ?_
    refine g_icmp_ne (tgt := 116) hc dX0_findOdds_108 (by decide) (fun h8 => ?_) (fun h8 => ?_)
    · have hf := oF h8 hf
      refine g_lconst (v := 0) hc dX0_findOdds_116 (by decide) ?_
      exact g_lv [0, 1, 2, 3, 4, 5, 6] rfl (w_X0_findOdds_b117 hc r3 s4 l1 l2 l3 l4 l5 l6 0 (s4 17) hN (K := (fun o1 => K (.inr o1))) hf hK hI18 hR)
    · have hf := oT h8 hf
      refine g_lload hc dX0_findOdds_111 6 rfl ?_
      refine g_goto (tgt := 117) hc dX0_findOdds_113 (by decide) ?_
      exact g_lv [0, 1, 2, 3, 4, 5, 6] rfl (w_X0_findOdds_b117 hc r3 s4 l1 l2 l3 l4 l5 l6 l6 (s4 17) hN (K := (fun o1 => K (.inr o1))) hf hK hI18 hR)
  · have hf := oF h1 hf
    refine g_lload hc dX0_findOdds_39 6 rfl ?_
    refine g_iload hc dX0_findOdds_41 5 rfl ?_
    refine g_iload hc dX0_findOdds_43 7 rfl ?_
    obtain ⟨r11, h10, hf⟩ := oB_some hf
    refine g_callSi hc [.int l5, .int l8] [.long l6] (c_X0_has  h10) (lw_S q583 q584 q60 q585) rfl hd_X0_has rfl rfl (Nat.le_of_ble_eq_true rfl) gZ dX0_findOdds_45 ?_
    refine g_if_eq (tgt := 56) hc dX0_findOdds_48 (by decide) (fun h12 => ?_) (fun h12 => ?_)
    · have hf := oT h12 hf
      refine g_bipush (v := 10) hc dX0_findOdds_56 (by decide) ?_
      refine g_iload_n hc dX0_findOdds_58 rfl 1 rfl ?_
      refine g_isub hc dX0_findOdds_59 ?_
      refine g_i2l hc dX0_findOdds_60 ?_
      exact g_lv [0, 1, 2, 3, 4, 5, 7] rfl (w_X0_findOdds_b61 hc σ lam l1 l2 l3 l4 l5 l8 (Int32.toInt64 (10 - l1)) l6 hN (K := K) hf hK hI32 hI18 hR)
    · have hf := oF h12 hf
      refine g_iload_n hc dX0_findOdds_51 rfl 1 rfl ?_
      refine g_i2l hc dX0_findOdds_52 ?_
      refine g_goto (tgt := 61) hc dX0_findOdds_53 (by decide) ?_
      exact g_lv [0, 1, 2, 3, 4, 5, 7] rfl (w_X0_findOdds_b61 hc σ lam l1 l2 l3 l4 l5 l8 (Int32.toInt64 l1) l6 hN (K := K) hf hK hI32 hI18 hR)
def f_X0_findOdds_b32 (σ : (Nat → Nat → Int32)) (lam : (Nat → Int64)) (l1 : Int32) (l2 : Int32) (l3 : Int32) (l4 : Int32) (l5 : Int32) (l6 : Int64) (l8 : Int32) : Option ((Int32 × (Nat → Nat → Int32) × (Nat → Int64)) ⊕ ((Nat → Nat → Int32) × (Nat → Int64))) :=
  oLoop gFU (fun v : Int64 × Int32 => f_X0_findOdds_L32 σ lam l1 l2 l3 l4 l5 v.1 v.2) (l6, l8)
theorem w_X0_findOdds_b32 {x : gX} {N : Nat} {ad : Nat → Nat} {tl : va_W}  (hc : gOk x RX0 cX0_findOdds 9 5 152)  (σ : (Nat → Nat → Int32)) (lam : (Nat → Int64)) (l1 : Int32) (l2 : Int32) (l3 : Int32) (l4 : Int32) (l5 : Int32) (l6 : Int64) (l8 : Int32) (hN : 36 ≤ N) {K : (Int32 × (Nat → Nat → Int32) × (Nat → Int64)) ⊕ ((Nat → Nat → Int32) × (Nat → Int64)) → Prop} {o : (Int32 × (Nat → Nat → Int32) × (Nat → Int64)) ⊕ ((Nat → Nat → Int32) × (Nat → Int64))} (hf : f_X0_findOdds_b32 σ lam l1 l2 l3 l4 l5 l6 l8 = some o) (hK : K o) (hI18 : ∀ v : Int32 × (Nat → Nat → Int32) × (Nat → Int64), K (.inl v) → gG x 9 0 0 (XW x.dA N ad v.2.1 v.2.2 ++ tl) 18 [(0, .ref (ad 0)), (1, .int l1), (2, .int l2), (3, .int l3), (4, .int l4), (5, .int v.1)] []) (hR : ∀ o : (Nat → Nat → Int32) × (Nat → Int64), K (.inr (o)) → gRv x 0 0 (XW x.dA N ad o.1 o.2 ++ tl)) : gG x 9 0 0 (XW x.dA N ad σ lam ++ tl) 32 [(0, .ref (ad 0)), (1, .int l1), (2, .int l2), (3, .int l3), (4, .int l4), (5, .int l5), (6, .long l6), (8, .int l8)] [] :=
  oLoop_ind (fun v : Int64 × Int32 => gG x 9 0 0 (XW x.dA N ad σ lam ++ tl) 32 [(0, .ref (ad 0)), (1, .int l1), (2, .int l2), (3, .int l3), (4, .int l4), (5, .int l5), (6, .long v.1), (8, .int v.2)] []) K (fun v o1 hf1 hK1 => w_X0_findOdds_L32 hc σ lam l1 l2 l3 l4 l5 v.1 v.2 hN (K := Sum.elim (fun v : Int64 × Int32 => gG x 9 0 0 (XW x.dA N ad σ lam ++ tl) 32 [(0, .ref (ad 0)), (1, .int l1), (2, .int l2), (3, .int l3), (4, .int l4), (5, .int l5), (6, .long v.1), (8, .int v.2)] []) K) hf1 hK1 (fun v hv => hv) hI18 hR) gFU _ o hf hK
def f_X0_findOdds_L18 (σ : (Nat → Nat → Int32)) (lam : (Nat → Int64)) (l1 : Int32) (l2 : Int32) (l3 : Int32) (l4 : Int32) (l5 : Int32) : Option ((Int32 × (Nat → Nat → Int32) × (Nat → Int64)) ⊕ ((Nat → Nat → Int32) × (Nat → Int64))) :=
  if 1024 ≤ l5 then (oI (some (σ, lam))) else (f_X0_findOdds_b32 σ lam l1 l2 l3 l4 l5 1 0)
theorem w_X0_findOdds_L18 {x : gX} {N : Nat} {ad : Nat → Nat} {tl : va_W}  (hc : gOk x RX0 cX0_findOdds 9 5 152)  (σ : (Nat → Nat → Int32)) (lam : (Nat → Int64)) (l1 : Int32) (l2 : Int32) (l3 : Int32) (l4 : Int32) (l5 : Int32) (hN : 36 ≤ N) {K : (Int32 × (Nat → Nat → Int32) × (Nat → Int64)) ⊕ ((Nat → Nat → Int32) × (Nat → Int64)) → Prop} {o : (Int32 × (Nat → Nat → Int32) × (Nat → Int64)) ⊕ ((Nat → Nat → Int32) × (Nat → Int64))} (hf : f_X0_findOdds_L18 σ lam l1 l2 l3 l4 l5 = some o) (hK : K o) (hI18 : ∀ v : Int32 × (Nat → Nat → Int32) × (Nat → Int64), K (.inl v) → gG x 9 0 0 (XW x.dA N ad v.2.1 v.2.2 ++ tl) 18 [(0, .ref (ad 0)), (1, .int l1), (2, .int l2), (3, .int l3), (4, .int l4), (5, .int v.1)] []) (hR : ∀ o : (Nat → Nat → Int32) × (Nat → Int64), K (.inr (o)) → gRv x 0 0 (XW x.dA N ad o.1 o.2 ++ tl)) : gG x 9 0 0 (XW x.dA N ad σ lam ++ tl) 18 [(0, .ref (ad 0)), (1, .int l1), (2, .int l2), (3, .int l3), (4, .int l4), (5, .int l5)] [] := by
  unfold f_X0_findOdds_L18 at hf
  refine g_iload hc dX0_findOdds_18 5 rfl ?_
  refine g_sipush (v := 1024) hc dX0_findOdds_20 (by decide) ?_
  refine g_icmp_ge (tgt := 144) hc dX0_findOdds_23 (by decide) (fun h1 => ?_) (fun h1 => ?_)
  · have hf := oT h1 hf
    obtain ⟨o2, hgo2, eo2⟩ := oI_some hf
    clear hf; subst eo2; have hf := hgo2; clear hgo2
    have hz := Option.some.inj hf; subst hz
    exact g_vret hc (hR _ hK) dX0_findOdds_144
  · have hf := oF h1 hf
    refine g_lconst (v := 1) hc dX0_findOdds_26 (by decide) ?_
    refine g_lstore (lv' := [(6, .long 1), (0, .ref (ad 0)), (1, .int l1), (2, .int l2), (3, .int l3), (4, .int l4), (5, .int l5)]) hc dX0_findOdds_27 (by decide) rfl ?_
    refine g_iconst (v := 0) hc dX0_findOdds_29 (by decide) ?_
    refine g_istore (lv' := [(8, .int 0), (6, .long 1), (0, .ref (ad 0)), (1, .int l1), (2, .int l2), (3, .int l3), (4, .int l4), (5, .int l5)]) hc dX0_findOdds_30 (by decide) rfl ?_
    exact g_lv [2, 3, 4, 5, 6, 7, 1, 0] rfl (w_X0_findOdds_b32 hc σ lam l1 l2 l3 l4 l5 1 0 hN (K := K) hf hK hI18 hR)
def f_X0_findOdds_b18 (σ : (Nat → Nat → Int32)) (lam : (Nat → Int64)) (l1 : Int32) (l2 : Int32) (l3 : Int32) (l4 : Int32) (l5 : Int32) : Option ((Nat → Nat → Int32) × (Nat → Int64)) :=
  oLoop gFU (fun v : Int32 × (Nat → Nat → Int32) × (Nat → Int64) => f_X0_findOdds_L18 v.2.1 v.2.2 l1 l2 l3 l4 v.1) (l5, σ, lam)
theorem w_X0_findOdds_b18 {x : gX} {N : Nat} {ad : Nat → Nat} {tl : va_W}  (hc : gOk x RX0 cX0_findOdds 9 5 152)  (σ : (Nat → Nat → Int32)) (lam : (Nat → Int64)) (l1 : Int32) (l2 : Int32) (l3 : Int32) (l4 : Int32) (l5 : Int32) (hN : 36 ≤ N) {K : (Nat → Nat → Int32) × (Nat → Int64) → Prop} {o : (Nat → Nat → Int32) × (Nat → Int64)} (hf : f_X0_findOdds_b18 σ lam l1 l2 l3 l4 l5 = some o) (hK : K o) (hR : ∀ o : (Nat → Nat → Int32) × (Nat → Int64), K o → gRv x 0 0 (XW x.dA N ad o.1 o.2 ++ tl)) : gG x 9 0 0 (XW x.dA N ad σ lam ++ tl) 18 [(0, .ref (ad 0)), (1, .int l1), (2, .int l2), (3, .int l3), (4, .int l4), (5, .int l5)] [] :=
  oLoop_ind (fun v : Int32 × (Nat → Nat → Int32) × (Nat → Int64) => gG x 9 0 0 (XW x.dA N ad v.2.1 v.2.2 ++ tl) 18 [(0, .ref (ad 0)), (1, .int l1), (2, .int l2), (3, .int l3), (4, .int l4), (5, .int v.1)] []) K (fun v o1 hf1 hK1 => w_X0_findOdds_L18 hc v.2.1 v.2.2 l1 l2 l3 l4 v.1 hN (K := Sum.elim (fun v : Int32 × (Nat → Nat → Int32) × (Nat → Int64) => gG x 9 0 0 (XW x.dA N ad v.2.1 v.2.2 ++ tl) 18 [(0, .ref (ad 0)), (1, .int l1), (2, .int l2), (3, .int l3), (4, .int l4), (5, .int v.1)] []) K) hf1 hK1 (fun v hv => hv) hR) gFU _ o hf hK
def f_X0_findOdds (σ : (Nat → Nat → Int32)) (lam : (Nat → Int64)) (l1 : Int32) (l2 : Int32) (l3 : Int32) (l4 : Int32) : Option ((Nat → Nat → Int32) × (Nat → Int64)) :=
  oL (vp_updL lam 17 0) fun s1 => oL (vp_updL s1 18 0) fun s3 => oL (vp_updL s3 19 0) fun s5 => f_X0_findOdds_b18 σ s5 l1 l2 l3 l4 0
theorem w_X0_findOdds {x : gX} {N : Nat} {ad : Nat → Nat} {tl : va_W}  (hc : gOk x RX0 cX0_findOdds 9 5 152)  (σ : (Nat → Nat → Int32)) (lam : (Nat → Int64)) (l1 : Int32) (l2 : Int32) (l3 : Int32) (l4 : Int32) (hN : 36 ≤ N) {K : (Nat → Nat → Int32) × (Nat → Int64) → Prop} {o : (Nat → Nat → Int32) × (Nat → Int64)} (hf : f_X0_findOdds σ lam l1 l2 l3 l4 = some o) (hK : K o) (hR : ∀ o : (Nat → Nat → Int32) × (Nat → Int64), K o → gRv x 0 0 (XW x.dA N ad o.1 o.2 ++ tl)) : gG x 9 0 0 (XW x.dA N ad σ lam ++ tl) 0 [(0, .ref (ad 0)), (1, .int l1), (2, .int l2), (3, .int l3), (4, .int l4)] [] := by
  unfold f_X0_findOdds at hf
  refine g_aload_n hc dX0_findOdds_0 rfl 0 rfl ?_
  refine g_lconst (v := 0) hc dX0_findOdds_1 (by decide) ?_
  obtain ⟨s1, e2, hf⟩ := oL_some hf
  refine g_put (v := .long 0) hc in_X0 tyX0_ok nmX0 (XW_at (k := 0) (Nat.lt_of_lt_of_le (by decide) hN)) rfl 17 (by decide) q202 rfl rfl rfl (Nat.le_of_ble_eq_true rfl) (XW_setL (lam1 := s1) (Nat.lt_of_lt_of_le (by decide) hN) (by rw [e2]; rfl)) dX0_findOdds_2 ?_
  refine g_aload_n hc dX0_findOdds_5 rfl 0 rfl ?_
  refine g_lconst (v := 0) hc dX0_findOdds_6 (by decide) ?_
  obtain ⟨s3, e4, hf⟩ := oL_some hf
  refine g_put (v := .long 0) hc in_X0 tyX0_ok nmX0 (XW_at (k := 0) (Nat.lt_of_lt_of_le (by decide) hN)) rfl 18 (by decide) q203 rfl rfl rfl (Nat.le_of_ble_eq_true rfl) (XW_setL (lam1 := s3) (Nat.lt_of_lt_of_le (by decide) hN) (by rw [e4]; rfl)) dX0_findOdds_7 ?_
  refine g_aload_n hc dX0_findOdds_10 rfl 0 rfl ?_
  refine g_lconst (v := 0) hc dX0_findOdds_11 (by decide) ?_
  obtain ⟨s5, e6, hf⟩ := oL_some hf
  refine g_put (v := .long 0) hc in_X0 tyX0_ok nmX0 (XW_at (k := 0) (Nat.lt_of_lt_of_le (by decide) hN)) rfl 19 (by decide) q204 rfl rfl rfl (Nat.le_of_ble_eq_true rfl) (XW_setL (lam1 := s5) (Nat.lt_of_lt_of_le (by decide) hN) (by rw [e6]; rfl)) dX0_findOdds_12 ?_
  refine g_iconst (v := 0) hc dX0_findOdds_15 (by decide) ?_
  refine g_istore (lv' := [(5, .int 0), (0, .ref (ad 0)), (1, .int l1), (2, .int l2), (3, .int l3), (4, .int l4)]) hc dX0_findOdds_16 (by decide) rfl ?_
  exact g_lv [1, 2, 3, 4, 5, 0] rfl (w_X0_findOdds_b18 hc σ s5 l1 l2 l3 l4 0 hN (K := K) hf hK hR)
theorem c_X0_findOdds {l : Launch} {D : va_G} {dA : Nat → ClassId} {N : Nat} {ad : Nat → Nat} {tl : va_W}  {σ : (Nat → Nat → Int32)} {lam : (Nat → Int64)} {l1 : Int32} {l2 : Int32} {l3 : Int32} {l4 : Int32} (hN : 36 ≤ N) {o : (Nat → Nat → Int32) × (Nat → Int64)} (hf : f_X0_findOdds σ lam l1 l2 l3 l4 = some o) : gV l D dA (XW dA N ad σ lam ++ tl) (XW dA N ad o.1 o.2 ++ tl) [.ref (ad 0), .int l1, .int l2, .int l3, .int l4] yX0_findOdds (ws_ yX0_findOdds cX0_findOdds 9 none) ({ frames := 5, cells := 0, slots := 0, locals := 152 } : Room) :=
  g_startV (own := RX0) ⟨rfl, rfl⟩ (by decide) rfl (Nat.le_of_ble_eq_true rfl) (fun x e hc hR => by
    subst e
    exact w_X0_findOdds hc σ lam l1 l2 l3 l4 hN (K := fun o1 => o1 = o) hf rfl (by rintro _ rfl; exact hR))
theorem hd_X0_findOdds : yX0_findOdds.cls = RX0 ∧ yX0_findOdds.cls ≠ "java/lang/invoke/MethodHandle" ∧ yX0_findOdds.cls ≠ "java/lang/invoke/VarHandle" ∧ (parseMethodDescriptor yX0_findOdds.desc).map (fun d => d.parameters.length) = some 4 := by decide +kernel
/-! HedgehogLots.luck(IIIII)J -/
def f_X0_luck (σ : (Nat → Nat → Int32)) (lam : (Nat → Int64)) (l1 : Int32) (l2 : Int32) (l3 : Int32) (l4 : Int32) (l5 : Int32) : Option (Int64 × (Nat → Nat → Int32) × (Nat → Int64)) :=
  oB (f_X0_in (Int32.toInt64 l1) 0 10) fun r2 => if r2 = 0 then (some ((-1), σ, lam)) else (oB (f_X0_isRun σ l2 l3) fun r5 => if r5 = 0 then (some ((-1), σ, lam)) else (oB (f_X0_isRag l4) fun r8 => if r8 = 0 then (some ((-1), σ, lam)) else (oB (f_X0_isPart l5) fun r11 => if r11 = 0 then (some ((-1), σ, lam)) else (oB (f_X0_findOdds σ lam l1 l2 l3 l4) fun r14 => oB (f_X0_lowest (r14.2 17) (r14.2 19) l5) fun r16 => some (r16, r14.1, r14.2)))))
theorem w_X0_luck {x : gX} {N : Nat} {ad : Nat → Nat} {tl : va_W}  (hc : gOk x RX0 cX0_luck 6 6 180)  (σ : (Nat → Nat → Int32)) (lam : (Nat → Int64)) (l1 : Int32) (l2 : Int32) (l3 : Int32) (l4 : Int32) (l5 : Int32) (hN : 36 ≤ N) {K : Int64 × (Nat → Nat → Int32) × (Nat → Int64) → Prop} {o : Int64 × (Nat → Nat → Int32) × (Nat → Int64)} (hf : f_X0_luck σ lam l1 l2 l3 l4 l5 = some o) (hK : K o) (hR : ∀ o : Int64 × (Nat → Nat → Int32) × (Nat → Int64), K o → gRl x 0 0 (XW x.dA N ad o.2.1 o.2.2 ++ tl) o.1) : gG x 6 0 0 (XW x.dA N ad σ lam ++ tl) 0 [(0, .ref (ad 0)), (1, .int l1), (2, .int l2), (3, .int l3), (4, .int l4), (5, .int l5)] [] := by
  unfold f_X0_luck at hf
  refine g_iload_n hc dX0_luck_0 rfl 1 rfl ?_
  refine g_i2l hc dX0_luck_1 ?_
  refine g_lconst (v := 0) hc dX0_luck_2 (by decide) ?_
  refine g_ldc2 (v := 10) hc q774 dX0_luck_3 ?_
  obtain ⟨r2, h1, hf⟩ := oB_some hf
  refine g_callSi hc [.long (Int32.toInt64 l1), .long 0, .long 10] [] (c_X0_in  h1) (lw_S q260 q261 q60 q262) rfl hd_X0_in rfl rfl (Nat.le_of_ble_eq_true rfl) gZ dX0_luck_6 ?_
  refine g_if_eq (tgt := 37) hc dX0_luck_9 (by decide) (fun h3 => ?_) (fun h3 => ?_)
  · have hf := oT h3 hf
    refine g_ldc2 (v := (-1)) hc q775 dX0_luck_37 ?_
    have hz := Option.some.inj hf; subst hz
    exact g_lret hc (hR _ hK) dX0_luck_40
  · have hf := oF h3 hf
    refine g_aload_n hc dX0_luck_12 rfl 0 rfl ?_
    refine g_iload_n hc dX0_luck_13 rfl 2 rfl ?_
    refine g_iload_n hc dX0_luck_14 rfl 3 rfl ?_
    obtain ⟨r5, h4, hf⟩ := oB_some hf
    refine g_callVi hc [.int l2, .int l3] [] (c_X0_isRun hN h4) (XW_at (k := 0) (Nat.lt_of_lt_of_le (by decide) hN)) rfl (lw_V q667 q669 qs20 q60 q670) rfl hd_X0_isRun rfl rfl (Nat.le_of_ble_eq_true rfl) gZ dX0_luck_15 ?_
    refine g_if_eq (tgt := 37) hc dX0_luck_18 (by decide) (fun h6 => ?_) (fun h6 => ?_)
    · have hf := oT h6 hf
      refine g_ldc2 (v := (-1)) hc q775 dX0_luck_37 ?_
      have hz := Option.some.inj hf; subst hz
      exact g_lret hc (hR _ hK) dX0_luck_40
    · have hf := oF h6 hf
      refine g_iload hc dX0_luck_21 4 rfl ?_
      obtain ⟨r8, h7, hf⟩ := oB_some hf
      refine g_callSi hc [.int l4] [] (c_X0_isRag  h7) (lw_S q641 q642 q60 q643) rfl hd_X0_isRag rfl rfl (Nat.le_of_ble_eq_true rfl) gZ dX0_luck_23 ?_
      refine g_if_eq (tgt := 37) hc dX0_luck_26 (by decide) (fun h9 => ?_) (fun h9 => ?_)
      · have hf := oT h9 hf
        refine g_ldc2 (v := (-1)) hc q775 dX0_luck_37 ?_
        have hz := Option.some.inj hf; subst hz
        exact g_lret hc (hR _ hK) dX0_luck_40
      · have hf := oF h9 hf
        refine g_iload hc dX0_luck_29 5 rfl ?_
        obtain ⟨r11, h10, hf⟩ := oB_some hf
        refine g_callSi hc [.int l5] [] (c_X0_isPart  h10) (lw_S q722 q723 q60 q724) rfl hd_X0_isPart rfl rfl (Nat.le_of_ble_eq_true rfl) gZ dX0_luck_31 ?_
        refine g_if_ne (tgt := 41) hc dX0_luck_34 (by decide) (fun h12 => ?_) (fun h12 => ?_)
        · have hf := oF h12 hf
          refine g_aload_n hc dX0_luck_41 rfl 0 rfl ?_
          refine g_iload_n hc dX0_luck_42 rfl 1 rfl ?_
          refine g_iload_n hc dX0_luck_43 rfl 2 rfl ?_
          refine g_iload_n hc dX0_luck_44 rfl 3 rfl ?_
          refine g_iload hc dX0_luck_45 4 rfl ?_
          obtain ⟨r14, h13, hf⟩ := oB_some hf
          refine g_callVv hc [.int l1, .int l2, .int l3, .int l4] [] (c_X0_findOdds hN h13) (XW_at (k := 0) (Nat.lt_of_lt_of_le (by decide) hN)) rfl (lw_V q776 q778 qs27 q60 q779) rfl hd_X0_findOdds rfl rfl (Nat.le_of_ble_eq_true rfl) gZ dX0_luck_47 ?_
          refine g_aload_n hc dX0_luck_50 rfl 0 rfl ?_
          refine g_get (v := .long (r14.2 17)) hc in_X0 (XW_at (k := 0) (Nat.lt_of_lt_of_le (by decide) hN)) rfl 17 (by decide) q202 rfl dX0_luck_51 ?_
          refine g_aload_n hc dX0_luck_54 rfl 0 rfl ?_
          refine g_get (v := .long (r14.2 19)) hc in_X0 (XW_at (k := 0) (Nat.lt_of_lt_of_le (by decide) hN)) rfl 19 (by decide) q204 rfl dX0_luck_55 ?_
          refine g_iload hc dX0_luck_58 5 rfl ?_
          obtain ⟨r16, h15, hf⟩ := oB_some hf
          refine g_callSl hc [.long (r14.2 17), .long (r14.2 19), .int l5] [] (c_X0_lowest  h15) (lw_S q780 q781 q60 q782) rfl hd_X0_lowest rfl rfl (Nat.le_of_ble_eq_true rfl) gZ dX0_luck_60 ?_
          have hz := Option.some.inj hf; subst hz
          exact g_lret hc (hR _ hK) dX0_luck_63
        · have hf := oT h12 hf
          refine g_ldc2 (v := (-1)) hc q775 dX0_luck_37 ?_
          have hz := Option.some.inj hf; subst hz
          exact g_lret hc (hR _ hK) dX0_luck_40
theorem c_X0_luck {l : Launch} {D : va_G} {dA : Nat → ClassId} {N : Nat} {ad : Nat → Nat} {tl : va_W}  {σ : (Nat → Nat → Int32)} {lam : (Nat → Int64)} {l1 : Int32} {l2 : Int32} {l3 : Int32} {l4 : Int32} {l5 : Int32} (hN : 36 ≤ N) {o : Int64 × (Nat → Nat → Int32) × (Nat → Int64)} (hf : f_X0_luck σ lam l1 l2 l3 l4 l5 = some o) : gLo l D dA (XW dA N ad σ lam ++ tl) (XW dA N ad o.2.1 o.2.2 ++ tl) [.ref (ad 0), .int l1, .int l2, .int l3, .int l4, .int l5] o.1 yX0_luck (ws_ yX0_luck cX0_luck 6 (some .long)) ({ frames := 6, cells := 0, slots := 0, locals := 180 } : Room) :=
  g_startL (own := RX0) ⟨rfl, rfl⟩ (by decide) rfl (Nat.le_of_ble_eq_true rfl) (fun x e hc hR => by
    subst e
    exact w_X0_luck hc σ lam l1 l2 l3 l4 l5 hN (K := fun o1 => o1 = o) hf rfl (by rintro _ rfl; exact hR))
theorem hd_X0_luck : yX0_luck.cls = RX0 ∧ yX0_luck.cls ≠ "java/lang/invoke/MethodHandle" ∧ yX0_luck.cls ≠ "java/lang/invoke/VarHandle" ∧ (parseMethodDescriptor yX0_luck.desc).map (fun d => d.parameters.length) = some 5 := by decide +kernel
/-! HedgehogLots.mean(IIII)J -/
def f_X0_mean (σ : (Nat → Nat → Int32)) (lam : (Nat → Int64)) (l1 : Int32) (l2 : Int32) (l3 : Int32) (l4 : Int32) : Option (Int64 × (Nat → Nat → Int32) × (Nat → Int64)) :=
  oB (f_X0_in (Int32.toInt64 l1) 0 10) fun r2 => if r2 = 0 then (some ((-1), σ, lam)) else (oB (f_X0_isRun σ l2 l3) fun r5 => if r5 = 0 then (some ((-1), σ, lam)) else (oB (f_X0_isPart l4) fun r8 => if r8 = 0 then (some ((-1), σ, lam)) else (oB (f_X0_findOdds σ lam l1 l2 l3 0) fun r11 => oB (f_X0_lowest (r11.2 18) (r11.2 19) l4) fun r13 => some (r13, r11.1, r11.2))))
theorem w_X0_mean {x : gX} {N : Nat} {ad : Nat → Nat} {tl : va_W}  (hc : gOk x RX0 cX0_mean 5 6 180)  (σ : (Nat → Nat → Int32)) (lam : (Nat → Int64)) (l1 : Int32) (l2 : Int32) (l3 : Int32) (l4 : Int32) (hN : 36 ≤ N) {K : Int64 × (Nat → Nat → Int32) × (Nat → Int64) → Prop} {o : Int64 × (Nat → Nat → Int32) × (Nat → Int64)} (hf : f_X0_mean σ lam l1 l2 l3 l4 = some o) (hK : K o) (hR : ∀ o : Int64 × (Nat → Nat → Int32) × (Nat → Int64), K o → gRl x 0 0 (XW x.dA N ad o.2.1 o.2.2 ++ tl) o.1) : gG x 5 0 0 (XW x.dA N ad σ lam ++ tl) 0 [(0, .ref (ad 0)), (1, .int l1), (2, .int l2), (3, .int l3), (4, .int l4)] [] := by
  unfold f_X0_mean at hf
  refine g_iload_n hc dX0_mean_0 rfl 1 rfl ?_
  refine g_i2l hc dX0_mean_1 ?_
  refine g_lconst (v := 0) hc dX0_mean_2 (by decide) ?_
  refine g_ldc2 (v := 10) hc q774 dX0_mean_3 ?_
  obtain ⟨r2, h1, hf⟩ := oB_some hf
  refine g_callSi hc [.long (Int32.toInt64 l1), .long 0, .long 10] [] (c_X0_in  h1) (lw_S q260 q261 q60 q262) rfl hd_X0_in rfl rfl (Nat.le_of_ble_eq_true rfl) gZ dX0_mean_6 ?_
  refine g_if_eq (tgt := 29) hc dX0_mean_9 (by decide) (fun h3 => ?_) (fun h3 => ?_)
  · have hf := oT h3 hf
    refine g_ldc2 (v := (-1)) hc q775 dX0_mean_29 ?_
    have hz := Option.some.inj hf; subst hz
    exact g_lret hc (hR _ hK) dX0_mean_32
  · have hf := oF h3 hf
    refine g_aload_n hc dX0_mean_12 rfl 0 rfl ?_
    refine g_iload_n hc dX0_mean_13 rfl 2 rfl ?_
    refine g_iload_n hc dX0_mean_14 rfl 3 rfl ?_
    obtain ⟨r5, h4, hf⟩ := oB_some hf
    refine g_callVi hc [.int l2, .int l3] [] (c_X0_isRun hN h4) (XW_at (k := 0) (Nat.lt_of_lt_of_le (by decide) hN)) rfl (lw_V q667 q669 qs20 q60 q670) rfl hd_X0_isRun rfl rfl (Nat.le_of_ble_eq_true rfl) gZ dX0_mean_15 ?_
    refine g_if_eq (tgt := 29) hc dX0_mean_18 (by decide) (fun h6 => ?_) (fun h6 => ?_)
    · have hf := oT h6 hf
      refine g_ldc2 (v := (-1)) hc q775 dX0_mean_29 ?_
      have hz := Option.some.inj hf; subst hz
      exact g_lret hc (hR _ hK) dX0_mean_32
    · have hf := oF h6 hf
      refine g_iload hc dX0_mean_21 4 rfl ?_
      obtain ⟨r8, h7, hf⟩ := oB_some hf
      refine g_callSi hc [.int l4] [] (c_X0_isPart  h7) (lw_S q722 q723 q60 q724) rfl hd_X0_isPart rfl rfl (Nat.le_of_ble_eq_true rfl) gZ dX0_mean_23 ?_
      refine g_if_ne (tgt := 33) hc dX0_mean_26 (by decide) (fun h9 => ?_) (fun h9 => ?_)
      · have hf := oF h9 hf
        refine g_aload_n hc dX0_mean_33 rfl 0 rfl ?_
        refine g_iload_n hc dX0_mean_34 rfl 1 rfl ?_
        refine g_iload_n hc dX0_mean_35 rfl 2 rfl ?_
        refine g_iload_n hc dX0_mean_36 rfl 3 rfl ?_
        refine g_iconst (v := 0) hc dX0_mean_37 (by decide) ?_
        obtain ⟨r11, h10, hf⟩ := oB_some hf
        refine g_callVv hc [.int l1, .int l2, .int l3, .int 0] [] (c_X0_findOdds hN h10) (XW_at (k := 0) (Nat.lt_of_lt_of_le (by decide) hN)) rfl (lw_V q776 q778 qs27 q60 q779) rfl hd_X0_findOdds rfl rfl (Nat.le_of_ble_eq_true rfl) gZ dX0_mean_38 ?_
        refine g_aload_n hc dX0_mean_41 rfl 0 rfl ?_
        refine g_get (v := .long (r11.2 18)) hc in_X0 (XW_at (k := 0) (Nat.lt_of_lt_of_le (by decide) hN)) rfl 18 (by decide) q203 rfl dX0_mean_42 ?_
        refine g_aload_n hc dX0_mean_45 rfl 0 rfl ?_
        refine g_get (v := .long (r11.2 19)) hc in_X0 (XW_at (k := 0) (Nat.lt_of_lt_of_le (by decide) hN)) rfl 19 (by decide) q204 rfl dX0_mean_46 ?_
        refine g_iload hc dX0_mean_49 4 rfl ?_
        obtain ⟨r13, h12, hf⟩ := oB_some hf
        refine g_callSl hc [.long (r11.2 18), .long (r11.2 19), .int l4] [] (c_X0_lowest  h12) (lw_S q780 q781 q60 q782) rfl hd_X0_lowest rfl rfl (Nat.le_of_ble_eq_true rfl) gZ dX0_mean_51 ?_
        have hz := Option.some.inj hf; subst hz
        exact g_lret hc (hR _ hK) dX0_mean_54
      · have hf := oT h9 hf
        refine g_ldc2 (v := (-1)) hc q775 dX0_mean_29 ?_
        have hz := Option.some.inj hf; subst hz
        exact g_lret hc (hR _ hK) dX0_mean_32
theorem c_X0_mean {l : Launch} {D : va_G} {dA : Nat → ClassId} {N : Nat} {ad : Nat → Nat} {tl : va_W}  {σ : (Nat → Nat → Int32)} {lam : (Nat → Int64)} {l1 : Int32} {l2 : Int32} {l3 : Int32} {l4 : Int32} (hN : 36 ≤ N) {o : Int64 × (Nat → Nat → Int32) × (Nat → Int64)} (hf : f_X0_mean σ lam l1 l2 l3 l4 = some o) : gLo l D dA (XW dA N ad σ lam ++ tl) (XW dA N ad o.2.1 o.2.2 ++ tl) [.ref (ad 0), .int l1, .int l2, .int l3, .int l4] o.1 yX0_mean (ws_ yX0_mean cX0_mean 5 (some .long)) ({ frames := 6, cells := 0, slots := 0, locals := 180 } : Room) :=
  g_startL (own := RX0) ⟨rfl, rfl⟩ (by decide) rfl (Nat.le_of_ble_eq_true rfl) (fun x e hc hR => by
    subst e
    exact w_X0_mean hc σ lam l1 l2 l3 l4 hN (K := fun o1 => o1 = o) hf rfl (by rintro _ rfl; exact hR))
theorem hd_X0_mean : yX0_mean.cls = RX0 ∧ yX0_mean.cls ≠ "java/lang/invoke/MethodHandle" ∧ yX0_mean.cls ≠ "java/lang/invoke/VarHandle" ∧ (parseMethodDescriptor yX0_mean.desc).map (fun d => d.parameters.length) = some 4 := by decide +kernel
/-! HedgehogLots.see(III)I -/
def f_X0_see_b93 (σ : (Nat → Nat → Int32)) (k3 : Int32) (k2 : Int32) : Option (Int32 × (Nat → Nat → Int32)) :=
  oC (inb k2 18) <| oL (upd2 σ 6 k2.toNatClampNeg (nbt (Int8.toInt32 (Int32.toInt8 k3)))) fun s1 => oL (upd2 s1 0 6 ((s1 0 6) + 1)) fun s4 => some ((s4 0 6), s4)
theorem w_X0_see_b93 {x : gX} {N : Nat} {ad : Nat → Nat} {tl : va_W} {lam : (Nat → Int64)} (hc : gOk x RX0 cX0_see 4 3 68)  (σ : (Nat → Nat → Int32)) (k3 : Int32) (k2 : Int32) (hN : 36 ≤ N) {K : Int32 × (Nat → Nat → Int32) → Prop} {o : Int32 × (Nat → Nat → Int32)} (hf : f_X0_see_b93 σ k3 k2 = some o) (hK : K o) (hR : ∀ o : Int32 × (Nat → Nat → Int32), K o → gRi x 0 0 (XW x.dA N ad o.2 lam ++ tl) o.1) : gG x 4 0 0 (XW x.dA N ad σ lam ++ tl) 93 [(0, .ref (ad 0))] [.int k3, .int k2, .ref (ad 6)] := by
  unfold f_X0_see_b93 at hf
  refine g_i2b hc dX0_see_93 ?_
  obtain ⟨h3, hf⟩ := oC_some hf
  obtain ⟨s1, e2, hf⟩ := oL_some hf
  refine g_bast (n := 18) (f := σ 6) hc (XW_at (k := 6) (Nat.lt_of_lt_of_le (by decide) hN)) h3 (XW_set (σ1 := s1) (k := 6) (Nat.lt_of_lt_of_le (by decide) hN) e2 rfl) dX0_see_94 ?_
  refine g_aload_n hc dX0_see_95 rfl 0 rfl ?_
  refine g_dup hc dX0_see_96 rfl ?_
  refine g_get (v := .int (s1 0 6)) hc in_X0 (XW_at (k := 0) (Nat.lt_of_lt_of_le (by decide) hN)) rfl 6 (by decide) q190 rfl dX0_see_97 ?_
  refine g_iconst (v := 1) hc dX0_see_100 (by decide) ?_
  refine g_iadd hc dX0_see_101 ?_
  obtain ⟨s4, e5, hf⟩ := oL_some hf
  refine g_put (v := .int ((s1 0 6) + 1)) hc in_X0 tyX0_ok nmX0 (XW_at (k := 0) (Nat.lt_of_lt_of_le (by decide) hN)) rfl 6 (by decide) q190 rfl rfl rfl (Nat.le_of_ble_eq_true rfl) (XW_set (σ1 := s4) (k := 0) (Nat.lt_of_lt_of_le (by decide) hN) e5 rfl) dX0_see_102 ?_
  refine g_aload_n hc dX0_see_105 rfl 0 rfl ?_
  refine g_get (v := .int (s4 0 6)) hc in_X0 (XW_at (k := 0) (Nat.lt_of_lt_of_le (by decide) hN)) rfl 6 (by decide) q190 rfl dX0_see_106 ?_
  have hz := Option.some.inj hf; subst hz
  exact g_iret hc (hR _ hK) dX0_see_109
def f_X0_see_b29 (σ : (Nat → Nat → Int32)) (l1 : Int32) (l2 : Int32) (l3 : Int32) : Option (Int32 × (Nat → Nat → Int32)) :=
  if (σ 0 6) = 6 then (some ((-3), σ)) else (oC (inb (3 * (σ 0 6)) 18) <| oL (upd2 σ 6 (3 * (σ 0 6)).toNatClampNeg (nbt (Int8.toInt32 (Int32.toInt8 l1)))) fun s2 => oC (inb ((3 * (s2 0 6)) + 1) 18) <| oL (upd2 s2 6 ((3 * (s2 0 6)) + 1).toNatClampNeg (nbt (Int8.toInt32 (Int32.toInt8 l2)))) fun s5 => if l3 = 9 then (f_X0_see_b93 s5 (-4) ((3 * (s5 0 6)) + 2)) else (f_X0_see_b93 s5 l3 ((3 * (s5 0 6)) + 2)))
theorem w_X0_see_b29 {x : gX} {N : Nat} {ad : Nat → Nat} {tl : va_W} {lam : (Nat → Int64)} (hc : gOk x RX0 cX0_see 4 3 68)  (σ : (Nat → Nat → Int32)) (l1 : Int32) (l2 : Int32) (l3 : Int32) (hN : 36 ≤ N) {K : Int32 × (Nat → Nat → Int32) → Prop} {o : Int32 × (Nat → Nat → Int32)} (hf : f_X0_see_b29 σ l1 l2 l3 = some o) (hK : K o) (hR : ∀ o : Int32 × (Nat → Nat → Int32), K o → gRi x 0 0 (XW x.dA N ad o.2 lam ++ tl) o.1) : gG x 4 0 0 (XW x.dA N ad σ lam ++ tl) 29 [(0, .ref (ad 0)), (1, .int l1), (2, .int l2), (3, .int l3)] [] := by
  unfold f_X0_see_b29 at hf
  refine g_aload_n hc dX0_see_29 rfl 0 rfl ?_
  refine g_get (v := .int (σ 0 6)) hc in_X0 (XW_at (k := 0) (Nat.lt_of_lt_of_le (by decide) hN)) rfl 6 (by decide) q190 rfl dX0_see_30 ?_
  refine g_bipush (v := 6) hc dX0_see_33 (by decide) ?_
  refine g_icmp_ne (tgt := 41) hc dX0_see_35 (by decide) (fun h1 => ?_) (fun h1 => ?_)
  · have hf := oF h1 hf
    refine g_aload_n hc dX0_see_41 rfl 0 rfl ?_
    refine g_get (v := .ref (ad 6)) hc in_X0 (XW_at (k := 0) (Nat.lt_of_lt_of_le (by decide) hN)) rfl 5 (by decide) q189 rfl dX0_see_42 ?_
    refine g_iconst (v := 3) hc dX0_see_45 (by decide) ?_
    refine g_aload_n hc dX0_see_46 rfl 0 rfl ?_
    refine g_get (v := .int (σ 0 6)) hc in_X0 (XW_at (k := 0) (Nat.lt_of_lt_of_le (by decide) hN)) rfl 6 (by decide) q190 rfl dX0_see_47 ?_
    refine g_imul hc dX0_see_50 ?_
    refine g_iload_n hc dX0_see_51 rfl 1 rfl ?_
    refine g_i2b hc dX0_see_52 ?_
    obtain ⟨h4, hf⟩ := oC_some hf
    obtain ⟨s2, e3, hf⟩ := oL_some hf
    refine g_bast (n := 18) (f := σ 6) hc (XW_at (k := 6) (Nat.lt_of_lt_of_le (by decide) hN)) h4 (XW_set (σ1 := s2) (k := 6) (Nat.lt_of_lt_of_le (by decide) hN) e3 rfl) dX0_see_53 ?_
    refine g_aload_n hc dX0_see_54 rfl 0 rfl ?_
    refine g_get (v := .ref (ad 6)) hc in_X0 (XW_at (k := 0) (Nat.lt_of_lt_of_le (by decide) hN)) rfl 5 (by decide) q189 rfl dX0_see_55 ?_
    refine g_iconst (v := 3) hc dX0_see_58 (by decide) ?_
    refine g_aload_n hc dX0_see_59 rfl 0 rfl ?_
    refine g_get (v := .int (s2 0 6)) hc in_X0 (XW_at (k := 0) (Nat.lt_of_lt_of_le (by decide) hN)) rfl 6 (by decide) q190 rfl dX0_see_60 ?_
    refine g_imul hc dX0_see_63 ?_
    refine g_iconst (v := 1) hc dX0_see_64 (by decide) ?_
    refine g_iadd hc dX0_see_65 ?_
    refine g_iload_n hc dX0_see_66 rfl 2 rfl ?_
    refine g_i2b hc dX0_see_67 ?_
    obtain ⟨h7, hf⟩ := oC_some hf
    obtain ⟨s5, e6, hf⟩ := oL_some hf
    refine g_bast (n := 18) (f := s2 6) hc (XW_at (k := 6) (Nat.lt_of_lt_of_le (by decide) hN)) h7 (XW_set (σ1 := s5) (k := 6) (Nat.lt_of_lt_of_le (by decide) hN) e6 rfl) dX0_see_68 ?_
    refine g_aload_n hc dX0_see_69 rfl 0 rfl ?_
    refine g_get (v := .ref (ad 6)) hc in_X0 (XW_at (k := 0) (Nat.lt_of_lt_of_le (by decide) hN)) rfl 5 (by decide) q189 rfl dX0_see_70 ?_
    refine g_iconst (v := 3) hc dX0_see_73 (by decide) ?_
    refine g_aload_n hc dX0_see_74 rfl 0 rfl ?_
    refine g_get (v := .int (s5 0 6)) hc in_X0 (XW_at (k := 0) (Nat.lt_of_lt_of_le (by decide) hN)) rfl 6 (by decide) q190 rfl dX0_see_75 ?_
    refine g_imul hc dX0_see_78 ?_
    refine g_iconst (v := 2) hc dX0_see_79 (by decide) ?_
    refine g_iadd hc dX0_see_80 ?_
    refine g_iload_n hc dX0_see_81 rfl 3 rfl ?_
    refine g_bipush (v := 9) hc dX0_see_82 (by decide) ?_
    refine g_icmp_ne (tgt := 92) hc dX0_see_84 (by decide) (fun h8 => ?_) (fun h8 => ?_)
    · have hf := oF h8 hf
      refine g_iload_n hc dX0_see_92 rfl 3 rfl ?_
      exact g_lv [0] rfl (w_X0_see_b93 hc s5 l3 ((3 * (s5 0 6)) + 2) hN (K := K) hf hK hR)
    · have hf := oT h8 hf
      refine g_bipush (v := (-4)) hc dX0_see_87 (by decide) ?_
      refine g_goto (tgt := 93) hc dX0_see_89 (by decide) ?_
      exact g_lv [0] rfl (w_X0_see_b93 hc s5 (-4) ((3 * (s5 0 6)) + 2) hN (K := K) hf hK hR)
  · have hf := oT h1 hf
    refine g_bipush (v := (-3)) hc dX0_see_38 (by decide) ?_
    have hz := Option.some.inj hf; subst hz
    exact g_iret hc (hR _ hK) dX0_see_40
def f_X0_see (σ : (Nat → Nat → Int32)) (l1 : Int32) (l2 : Int32) (l3 : Int32) : Option (Int32 × (Nat → Nat → Int32)) :=
  oB (f_X0_isRun σ l1 l2) fun r2 => if r2 = 0 then (some ((-1), σ)) else (oB (f_X0_in (Int32.toInt64 l3) 0 6) fun r5 => if r5 = 0 then (if l3 = 9 then (f_X0_see_b29 σ l1 l2 l3) else (some ((-1), σ))) else (f_X0_see_b29 σ l1 l2 l3))
theorem w_X0_see {x : gX} {N : Nat} {ad : Nat → Nat} {tl : va_W} {lam : (Nat → Int64)} (hc : gOk x RX0 cX0_see 4 3 68)  (σ : (Nat → Nat → Int32)) (l1 : Int32) (l2 : Int32) (l3 : Int32) (hN : 36 ≤ N) {K : Int32 × (Nat → Nat → Int32) → Prop} {o : Int32 × (Nat → Nat → Int32)} (hf : f_X0_see σ l1 l2 l3 = some o) (hK : K o) (hR : ∀ o : Int32 × (Nat → Nat → Int32), K o → gRi x 0 0 (XW x.dA N ad o.2 lam ++ tl) o.1) : gG x 4 0 0 (XW x.dA N ad σ lam ++ tl) 0 [(0, .ref (ad 0)), (1, .int l1), (2, .int l2), (3, .int l3)] [] := by
  unfold f_X0_see at hf
  refine g_aload_n hc dX0_see_0 rfl 0 rfl ?_
  refine g_iload_n hc dX0_see_1 rfl 1 rfl ?_
  refine g_iload_n hc dX0_see_2 rfl 2 rfl ?_
  obtain ⟨r2, h1, hf⟩ := oB_some hf
  refine g_callVi hc [.int l1, .int l2] [] (c_X0_isRun hN h1) (XW_at (k := 0) (Nat.lt_of_lt_of_le (by decide) hN)) rfl (lw_V q667 q669 qs20 q60 q670) rfl hd_X0_isRun rfl rfl (Nat.le_of_ble_eq_true rfl) gZ dX0_see_3 ?_
  refine g_if_eq (tgt := 27) hc dX0_see_6 (by decide) (fun h3 => ?_) (fun h3 => ?_)
  · have hf := oT h3 hf
    refine g_iconst (v := (-1)) hc dX0_see_27 (by decide) ?_
    have hz := Option.some.inj hf; subst hz
    exact g_iret hc (hR _ hK) dX0_see_28
  · have hf := oF h3 hf
    refine g_iload_n hc dX0_see_9 rfl 3 rfl ?_
    refine g_i2l hc dX0_see_10 ?_
    refine g_lconst (v := 0) hc dX0_see_11 (by decide) ?_
    refine g_ldc2 (v := 6) hc q791 dX0_see_12 ?_
    obtain ⟨r5, h4, hf⟩ := oB_some hf
    refine g_callSi hc [.long (Int32.toInt64 l3), .long 0, .long 6] [] (c_X0_in  h4) (lw_S q260 q261 q60 q262) rfl hd_X0_in rfl rfl (Nat.le_of_ble_eq_true rfl) gZ dX0_see_15 ?_
    refine g_if_ne (tgt := 29) hc dX0_see_18 (by decide) (fun h6 => ?_) (fun h6 => ?_)
    · have hf := oF h6 hf
      exact g_lv [0, 1, 2, 3] rfl (w_X0_see_b29 hc σ l1 l2 l3 hN (K := K) hf hK hR)
    · have hf := oT h6 hf
      refine g_iload_n hc dX0_see_21 rfl 3 rfl ?_
      refine g_bipush (v := 9) hc dX0_see_22 (by decide) ?_
      refine g_icmp_eq (tgt := 29) hc dX0_see_24 (by decide) (fun h7 => ?_) (fun h7 => ?_)
      · have hf := oT h7 hf
        exact g_lv [0, 1, 2, 3] rfl (w_X0_see_b29 hc σ l1 l2 l3 hN (K := K) hf hK hR)
      · have hf := oF h7 hf
        refine g_iconst (v := (-1)) hc dX0_see_27 (by decide) ?_
        have hz := Option.some.inj hf; subst hz
        exact g_iret hc (hR _ hK) dX0_see_28
theorem c_X0_see {l : Launch} {D : va_G} {dA : Nat → ClassId} {N : Nat} {ad : Nat → Nat} {tl : va_W} {lam : (Nat → Int64)} {σ : (Nat → Nat → Int32)} {l1 : Int32} {l2 : Int32} {l3 : Int32} (hN : 36 ≤ N) {o : Int32 × (Nat → Nat → Int32)} (hf : f_X0_see σ l1 l2 l3 = some o) : gI l D dA (XW dA N ad σ lam ++ tl) (XW dA N ad o.2 lam ++ tl) [.ref (ad 0), .int l1, .int l2, .int l3] o.1 yX0_see (ws_ yX0_see cX0_see 4 (some .int)) ({ frames := 3, cells := 0, slots := 0, locals := 68 } : Room) :=
  g_startI (own := RX0) ⟨rfl, rfl⟩ (by decide) rfl (Nat.le_of_ble_eq_true rfl) (fun x e hc hR => by
    subst e
    exact w_X0_see hc σ l1 l2 l3 hN (K := fun o1 => o1 = o) hf rfl (by rintro _ rfl; exact hR))
theorem hd_X0_see : yX0_see.cls = RX0 ∧ yX0_see.cls ≠ "java/lang/invoke/MethodHandle" ∧ yX0_see.cls ≠ "java/lang/invoke/VarHandle" ∧ (parseMethodDescriptor yX0_see.desc).map (fun d => d.parameters.length) = some 3 := by decide +kernel
/-! HedgehogLots.forget(I)I -/
def f_X0_forget (σ : (Nat → Nat → Int32)) (l1 : Int32) : Option (Int32 × (Nat → Nat → Int32)) :=
  oB (f_X0_in (Int32.toInt64 l1) 0 (Int32.toInt64 (σ 0 6))) fun r2 => if r2 = 0 then (some ((-1), σ)) else (oL (upd2 σ 0 6 l1) fun s4 => some ((σ 0 6), s4))
theorem w_X0_forget {x : gX} {N : Nat} {ad : Nat → Nat} {tl : va_W} {lam : (Nat → Int64)} (hc : gOk x RX0 cX0_forget 3 1 25)  (σ : (Nat → Nat → Int32)) (l1 : Int32) (hN : 36 ≤ N) {K : Int32 × (Nat → Nat → Int32) → Prop} {o : Int32 × (Nat → Nat → Int32)} (hf : f_X0_forget σ l1 = some o) (hK : K o) (hR : ∀ o : Int32 × (Nat → Nat → Int32), K o → gRi x 0 0 (XW x.dA N ad o.2 lam ++ tl) o.1) : gG x 3 0 0 (XW x.dA N ad σ lam ++ tl) 0 [(0, .ref (ad 0)), (1, .int l1)] [] := by
  unfold f_X0_forget at hf
  refine g_iload_n hc dX0_forget_0 rfl 1 rfl ?_
  refine g_i2l hc dX0_forget_1 ?_
  refine g_lconst (v := 0) hc dX0_forget_2 (by decide) ?_
  refine g_aload_n hc dX0_forget_3 rfl 0 rfl ?_
  refine g_get (v := .int (σ 0 6)) hc in_X0 (XW_at (k := 0) (Nat.lt_of_lt_of_le (by decide) hN)) rfl 6 (by decide) q190 rfl dX0_forget_4 ?_
  refine g_i2l hc dX0_forget_7 ?_
  obtain ⟨r2, h1, hf⟩ := oB_some hf
  refine g_callSi hc [.long (Int32.toInt64 l1), .long 0, .long (Int32.toInt64 (σ 0 6))] [] (c_X0_in  h1) (lw_S q260 q261 q60 q262) rfl hd_X0_in rfl rfl (Nat.le_of_ble_eq_true rfl) gZ dX0_forget_8 ?_
  refine g_if_ne (tgt := 16) hc dX0_forget_11 (by decide) (fun h3 => ?_) (fun h3 => ?_)
  · have hf := oF h3 hf
    refine g_aload_n hc dX0_forget_16 rfl 0 rfl ?_
    refine g_get (v := .int (σ 0 6)) hc in_X0 (XW_at (k := 0) (Nat.lt_of_lt_of_le (by decide) hN)) rfl 6 (by decide) q190 rfl dX0_forget_17 ?_
    refine g_istore_n (lv' := [(2, .int (σ 0 6)), (0, .ref (ad 0)), (1, .int l1)]) hc dX0_forget_20 rfl (by decide) rfl ?_
    refine g_aload_n hc dX0_forget_21 rfl 1 rfl ?_
    refine g_iload_n hc dX0_forget_22 rfl 2 rfl ?_
    obtain ⟨s4, e5, hf⟩ := oL_some hf
    refine g_put (v := .int l1) hc in_X0 tyX0_ok nmX0 (XW_at (k := 0) (Nat.lt_of_lt_of_le (by decide) hN)) rfl 6 (by decide) q190 rfl rfl rfl (Nat.le_of_ble_eq_true rfl) (XW_set (σ1 := s4) (k := 0) (Nat.lt_of_lt_of_le (by decide) hN) e5 rfl) dX0_forget_23 ?_
    refine g_iload_n hc dX0_forget_26 rfl 0 rfl ?_
    have hz := Option.some.inj hf; subst hz
    exact g_iret hc (hR _ hK) dX0_forget_27
  · have hf := oT h3 hf
    refine g_iconst (v := (-1)) hc dX0_forget_14 (by decide) ?_
    have hz := Option.some.inj hf; subst hz
    exact g_iret hc (hR _ hK) dX0_forget_15
theorem c_X0_forget {l : Launch} {D : va_G} {dA : Nat → ClassId} {N : Nat} {ad : Nat → Nat} {tl : va_W} {lam : (Nat → Int64)} {σ : (Nat → Nat → Int32)} {l1 : Int32} (hN : 36 ≤ N) {o : Int32 × (Nat → Nat → Int32)} (hf : f_X0_forget σ l1 = some o) : gI l D dA (XW dA N ad σ lam ++ tl) (XW dA N ad o.2 lam ++ tl) [.ref (ad 0), .int l1] o.1 yX0_forget (ws_ yX0_forget cX0_forget 3 (some .int)) ({ frames := 1, cells := 0, slots := 0, locals := 25 } : Room) :=
  g_startI (own := RX0) ⟨rfl, rfl⟩ (by decide) rfl (Nat.le_of_ble_eq_true rfl) (fun x e hc hR => by
    subst e
    exact w_X0_forget hc σ l1 hN (K := fun o1 => o1 = o) hf rfl (by rintro _ rfl; exact hR))
theorem hd_X0_forget : yX0_forget.cls = RX0 ∧ yX0_forget.cls ≠ "java/lang/invoke/MethodHandle" ∧ yX0_forget.cls ≠ "java/lang/invoke/VarHandle" ∧ (parseMethodDescriptor yX0_forget.desc).map (fun d => d.parameters.length) = some 1 := by decide +kernel
/-! HedgehogLots.isSo(III)Z -/
def f_X0_isSo_b129 (σ : (Nat → Nat → Int32)) (l4 : Int32) (l5 : Int32) : Option ((Int32 × Int32 × (Nat → Nat → Int32)) ⊕ (Int32 × (Nat → Nat → Int32))) :=
  some (.inl (l4, (l5 + 1), σ))
theorem w_X0_isSo_b129 {x : gX} {N : Nat} {ad : Nat → Nat} {tl : va_W} {lam : (Nat → Int64)} (hc : gOk x RX0 cX0_isSo 6 5 152)  (σ : (Nat → Nat → Int32)) (l4 : Int32) (l5 : Int32) (hN : 36 ≤ N) {K : (Int32 × Int32 × (Nat → Nat → Int32)) ⊕ (Int32 × (Nat → Nat → Int32)) → Prop} {o : (Int32 × Int32 × (Nat → Nat → Int32)) ⊕ (Int32 × (Nat → Nat → Int32))} (hf : f_X0_isSo_b129 σ l4 l5 = some o) (hK : K o) (hI32 : ∀ v : Int32 × Int32 × (Nat → Nat → Int32), K (.inl v) → gG x 6 0 0 (XW x.dA N ad v.2.2 lam ++ tl) 32 [(0, .ref (ad 0)), (4, .int v.1), (5, .int v.2.1)] []) (hR : ∀ o : Int32 × (Nat → Nat → Int32), K (.inr (o)) → gRz x 0 0 (XW x.dA N ad o.2 lam ++ tl) o.1) : gG x 6 0 0 (XW x.dA N ad σ lam ++ tl) 129 [(0, .ref (ad 0)), (4, .int l4), (5, .int l5)] [] := by
  unfold f_X0_isSo_b129 at hf
  refine g_iinc (v := l5 + 1) (lv' := [(5, .int (l5 + 1)), (0, .ref (ad 0)), (4, .int l4)]) hc dX0_isSo_129 (j := 2) rfl rfl (by decide) rfl ?_
  refine g_goto (tgt := 32) hc dX0_isSo_132 (by decide) ?_
  have hz := Option.some.inj hf; subst hz
  exact g_lv [1, 2, 0] rfl (hI32 _ hK)
def f_X0_isSo_b127 (σ : (Nat → Nat → Int32)) (l5 : Int32) (k1 : Int32) : Option ((Int32 × Int32 × (Nat → Nat → Int32)) ⊕ (Int32 × (Nat → Nat → Int32))) :=
  f_X0_isSo_b129 σ k1 l5
theorem w_X0_isSo_b127 {x : gX} {N : Nat} {ad : Nat → Nat} {tl : va_W} {lam : (Nat → Int64)} (hc : gOk x RX0 cX0_isSo 6 5 152)  (σ : (Nat → Nat → Int32)) (l5 : Int32) (k1 : Int32) (hN : 36 ≤ N) {K : (Int32 × Int32 × (Nat → Nat → Int32)) ⊕ (Int32 × (Nat → Nat → Int32)) → Prop} {o : (Int32 × Int32 × (Nat → Nat → Int32)) ⊕ (Int32 × (Nat → Nat → Int32))} (hf : f_X0_isSo_b127 σ l5 k1 = some o) (hK : K o) (hI32 : ∀ v : Int32 × Int32 × (Nat → Nat → Int32), K (.inl v) → gG x 6 0 0 (XW x.dA N ad v.2.2 lam ++ tl) 32 [(0, .ref (ad 0)), (4, .int v.1), (5, .int v.2.1)] []) (hR : ∀ o : Int32 × (Nat → Nat → Int32), K (.inr (o)) → gRz x 0 0 (XW x.dA N ad o.2 lam ++ tl) o.1) : gG x 6 0 0 (XW x.dA N ad σ lam ++ tl) 127 [(0, .ref (ad 0)), (5, .int l5)] [.int k1] := by
  unfold f_X0_isSo_b127 at hf
  refine g_istore (lv' := [(4, .int k1), (0, .ref (ad 0)), (5, .int l5)]) hc dX0_isSo_127 (by decide) rfl ?_
  exact g_lv [1, 0, 2] rfl (w_X0_isSo_b129 hc σ k1 l5 hN (K := K) hf hK hI32 hR)
def f_X0_isSo_b67 (σ : (Nat → Nat → Int32)) (l5 : Int32) (k2 : Int32) (k1 : Int32) : Option ((Int32 × Int32 × (Nat → Nat → Int32)) ⊕ (Int32 × (Nat → Nat → Int32))) :=
  if (k1 &&& k2) = 0 then (f_X0_isSo_b129 σ (k1 &&& k2) l5) else (oC (inb (3 * l5) 18) <| oC (inb ((3 * l5) + 1) 18) <| oB (f_X0_runs σ 1 (σ 6 (3 * l5).toNatClampNeg) (σ 6 ((3 * l5) + 1).toNatClampNeg) 0) fun r5 => oC (inb ((3 * l5) + 2) 18) <| if (r5 0 8) = (r5 6 ((3 * l5) + 2).toNatClampNeg) then (f_X0_isSo_b127 r5 l5 1) else (f_X0_isSo_b127 r5 l5 0))
theorem w_X0_isSo_b67 {x : gX} {N : Nat} {ad : Nat → Nat} {tl : va_W} {lam : (Nat → Int64)} (hc : gOk x RX0 cX0_isSo 6 5 152)  (σ : (Nat → Nat → Int32)) (l5 : Int32) (k2 : Int32) (k1 : Int32) (hN : 36 ≤ N) {K : (Int32 × Int32 × (Nat → Nat → Int32)) ⊕ (Int32 × (Nat → Nat → Int32)) → Prop} {o : (Int32 × Int32 × (Nat → Nat → Int32)) ⊕ (Int32 × (Nat → Nat → Int32))} (hf : f_X0_isSo_b67 σ l5 k2 k1 = some o) (hK : K o) (hI32 : ∀ v : Int32 × Int32 × (Nat → Nat → Int32), K (.inl v) → gG x 6 0 0 (XW x.dA N ad v.2.2 lam ++ tl) 32 [(0, .ref (ad 0)), (4, .int v.1), (5, .int v.2.1)] []) (hR : ∀ o : Int32 × (Nat → Nat → Int32), K (.inr (o)) → gRz x 0 0 (XW x.dA N ad o.2 lam ++ tl) o.1) : gG x 6 0 0 (XW x.dA N ad σ lam ++ tl) 67 [(0, .ref (ad 0)), (5, .int l5)] [.int k2, .int k1] := by
  unfold f_X0_isSo_b67 at hf
  refine g_iand hc dX0_isSo_67 ?_
  refine g_istore (lv' := [(4, .int (k1 &&& k2)), (0, .ref (ad 0)), (5, .int l5)]) hc dX0_isSo_68 (by decide) rfl ?_
  refine g_iload hc dX0_isSo_70 0 rfl ?_
  refine g_if_eq (tgt := 129) hc dX0_isSo_72 (by decide) (fun h1 => ?_) (fun h1 => ?_)
  · have hf := oT h1 hf
    exact g_lv [1, 0, 2] rfl (w_X0_isSo_b129 hc σ (k1 &&& k2) l5 hN (K := K) hf hK hI32 hR)
  · have hf := oF h1 hf
    refine g_aload_n hc dX0_isSo_75 rfl 1 rfl ?_
    refine g_aload_n hc dX0_isSo_76 rfl 1 rfl ?_
    refine g_get (v := .ref (ad (sb 1))) hc in_X0 (XW_at (k := 0) (Nat.lt_of_lt_of_le (by decide) hN)) rfl 2 (by decide) q186 rfl dX0_isSo_77 ?_
    refine g_aload_n hc dX0_isSo_80 rfl 1 rfl ?_
    refine g_get (v := .ref (ad 6)) hc in_X0 (XW_at (k := 0) (Nat.lt_of_lt_of_le (by decide) hN)) rfl 5 (by decide) q189 rfl dX0_isSo_81 ?_
    refine g_iconst (v := 3) hc dX0_isSo_84 (by decide) ?_
    refine g_iload hc dX0_isSo_85 2 rfl ?_
    refine g_imul hc dX0_isSo_87 ?_
    obtain ⟨h2, hf⟩ := oC_some hf
    refine g_bald (n := 18) (f := σ 6) hc (XW_at (k := 6) (Nat.lt_of_lt_of_le (by decide) hN)) h2 dX0_isSo_88 ?_
    refine g_aload_n hc dX0_isSo_89 rfl 1 rfl ?_
    refine g_get (v := .ref (ad 6)) hc in_X0 (XW_at (k := 0) (Nat.lt_of_lt_of_le (by decide) hN)) rfl 5 (by decide) q189 rfl dX0_isSo_90 ?_
    refine g_iconst (v := 3) hc dX0_isSo_93 (by decide) ?_
    refine g_iload hc dX0_isSo_94 2 rfl ?_
    refine g_imul hc dX0_isSo_96 ?_
    refine g_iconst (v := 1) hc dX0_isSo_97 (by decide) ?_
    refine g_iadd hc dX0_isSo_98 ?_
    obtain ⟨h3, hf⟩ := oC_some hf
    refine g_bald (n := 18) (f := σ 6) hc (XW_at (k := 6) (Nat.lt_of_lt_of_le (by decide) hN)) h3 dX0_isSo_99 ?_
    refine g_iconst (v := 0) hc dX0_isSo_100 (by decide) ?_
    obtain ⟨r5, h4, hf⟩ := oB_some hf
    refine g_callVv hc [.ref (ad (sb 1)), .int (σ 6 (3 * l5).toNatClampNeg), .int (σ 6 ((3 * l5) + 1).toNatClampNeg), .int 0] [] (c_X0_runs hN (gSl 1 hN (by decide)) h4) (XW_at (k := 0) (Nat.lt_of_lt_of_le (by decide) hN)) rfl (lw_V q540 q542 qs14 q60 q543) rfl hd_X0_runs rfl rfl (Nat.le_of_ble_eq_true rfl) gZ dX0_isSo_101 ?_
    refine g_aload_n hc dX0_isSo_104 rfl 1 rfl ?_
    refine g_get (v := .int (r5 0 8)) hc in_X0 (XW_at (k := 0) (Nat.lt_of_lt_of_le (by decide) hN)) rfl 8 (by decide) q192 rfl dX0_isSo_105 ?_
    refine g_aload_n hc dX0_isSo_108 rfl 1 rfl ?_
    refine g_get (v := .ref (ad 6)) hc in_X0 (XW_at (k := 0) (Nat.lt_of_lt_of_le (by decide) hN)) rfl 5 (by decide) q189 rfl dX0_isSo_109 ?_
    refine g_iconst (v := 3) hc dX0_isSo_112 (by decide) ?_
    refine g_iload hc dX0_isSo_113 2 rfl ?_
    refine g_imul hc dX0_isSo_115 ?_
    refine g_iconst (v := 2) hc dX0_isSo_116 (by decide) ?_
    refine g_iadd hc dX0_isSo_117 ?_
    obtain ⟨h6, hf⟩ := oC_some hf
    refine g_bald (n := 18) (f := r5 6) hc (XW_at (k := 6) (Nat.lt_of_lt_of_le (by decide) hN)) h6 dX0_isSo_118 ?_
    refine g_icmp_ne (tgt := 126) hc dX0_isSo_119 (by decide) (fun h7 => ?_) (fun h7 => ?_)
    · have hf := oF h7 hf
      refine g_iconst (v := 0) hc dX0_isSo_126 (by decide) ?_
      exact g_lv [1, 2] rfl (w_X0_isSo_b127 hc r5 l5 0 hN (K := K) hf hK hI32 hR)
    · have hf := oT h7 hf
      refine g_iconst (v := 1) hc dX0_isSo_122 (by decide) ?_
      refine g_goto (tgt := 127) hc dX0_isSo_123 (by decide) ?_
      exact g_lv [1, 2] rfl (w_X0_isSo_b127 hc r5 l5 1 hN (K := K) hf hK hI32 hR)
def f_X0_isSo_L32 (σ : (Nat → Nat → Int32)) (l4 : Int32) (l5 : Int32) : Option ((Int32 × Int32 × (Nat → Nat → Int32)) ⊕ (Int32 × (Nat → Nat → Int32))) :=
  if (σ 0 6) ≤ l5 then (oI (oC (isB l4) <| some (l4, σ))) else (oC (inb (3 * l5) 18) <| if (σ (sb 1) 5) ≤ (σ 6 (3 * l5).toNatClampNeg) then (f_X0_isSo_b67 σ l5 0 l4) else (f_X0_isSo_b67 σ l5 1 l4))
theorem w_X0_isSo_L32 {x : gX} {N : Nat} {ad : Nat → Nat} {tl : va_W} {lam : (Nat → Int64)} (hc : gOk x RX0 cX0_isSo 6 5 152)  (σ : (Nat → Nat → Int32)) (l4 : Int32) (l5 : Int32) (hN : 36 ≤ N) {K : (Int32 × Int32 × (Nat → Nat → Int32)) ⊕ (Int32 × (Nat → Nat → Int32)) → Prop} {o : (Int32 × Int32 × (Nat → Nat → Int32)) ⊕ (Int32 × (Nat → Nat → Int32))} (hf : f_X0_isSo_L32 σ l4 l5 = some o) (hK : K o) (hI32 : ∀ v : Int32 × Int32 × (Nat → Nat → Int32), K (.inl v) → gG x 6 0 0 (XW x.dA N ad v.2.2 lam ++ tl) 32 [(0, .ref (ad 0)), (4, .int v.1), (5, .int v.2.1)] []) (hR : ∀ o : Int32 × (Nat → Nat → Int32), K (.inr (o)) → gRz x 0 0 (XW x.dA N ad o.2 lam ++ tl) o.1) : gG x 6 0 0 (XW x.dA N ad σ lam ++ tl) 32 [(0, .ref (ad 0)), (4, .int l4), (5, .int l5)] [] := by
  unfold f_X0_isSo_L32 at hf
  refine g_iload hc dX0_isSo_32 2 rfl ?_
  refine g_aload_n hc dX0_isSo_34 rfl 0 rfl ?_
  refine g_get (v := .int (σ 0 6)) hc in_X0 (XW_at (k := 0) (Nat.lt_of_lt_of_le (by decide) hN)) rfl 6 (by decide) q190 rfl dX0_isSo_35 ?_
  refine g_icmp_ge (tgt := 135) hc dX0_isSo_38 (by decide) (fun h1 => ?_) (fun h1 => ?_)
  · have hf := oT h1 hf
    obtain ⟨o3, hgo3, eo3⟩ := oI_some hf
    clear hf; subst eo3; have hf := hgo3; clear hgo3
    refine g_iload hc dX0_isSo_135 1 rfl ?_
    obtain ⟨h2, hf⟩ := oC_some hf
    have hz := Option.some.inj hf; subst hz
    exact g_zret hc (hR _ hK) (isB_nar h2) dX0_isSo_137
  · have hf := oF h1 hf
    refine g_iload hc dX0_isSo_41 1 rfl ?_
    refine g_aload_n hc dX0_isSo_43 rfl 0 rfl ?_
    refine g_get (v := .ref (ad 6)) hc in_X0 (XW_at (k := 0) (Nat.lt_of_lt_of_le (by decide) hN)) rfl 5 (by decide) q189 rfl dX0_isSo_44 ?_
    refine g_iconst (v := 3) hc dX0_isSo_47 (by decide) ?_
    refine g_iload hc dX0_isSo_48 2 rfl ?_
    refine g_imul hc dX0_isSo_50 ?_
    obtain ⟨h4, hf⟩ := oC_some hf
    refine g_bald (n := 18) (f := σ 6) hc (XW_at (k := 6) (Nat.lt_of_lt_of_le (by decide) hN)) h4 dX0_isSo_51 ?_
    refine g_aload_n hc dX0_isSo_52 rfl 0 rfl ?_
    refine g_get (v := .ref (ad (sb 1))) hc in_X0 (XW_at (k := 0) (Nat.lt_of_lt_of_le (by decide) hN)) rfl 2 (by decide) q186 rfl dX0_isSo_53 ?_
    refine g_getN (v := .int (σ (sb 1) 5)) hc in_X5 (XW_s0 (gSl 1 hN (by decide))) rfl 5 (by decide) 8 rfl rfl dX0_isSo_56 ?_
    refine g_icmp_ge (tgt := 66) hc dX0_isSo_59 (by decide) (fun h5 => ?_) (fun h5 => ?_)
    · have hf := oT h5 hf
      refine g_iconst (v := 0) hc dX0_isSo_66 (by decide) ?_
      exact g_lv [0, 2] rfl (w_X0_isSo_b67 hc σ l5 0 l4 hN (K := K) hf hK hI32 hR)
    · have hf := oF h5 hf
      refine g_iconst (v := 1) hc dX0_isSo_62 (by decide) ?_
      refine g_goto (tgt := 67) hc dX0_isSo_63 (by decide) ?_
      exact g_lv [0, 2] rfl (w_X0_isSo_b67 hc σ l5 1 l4 hN (K := K) hf hK hI32 hR)
def f_X0_isSo_b32 (σ : (Nat → Nat → Int32)) (l4 : Int32) (l5 : Int32) : Option (Int32 × (Nat → Nat → Int32)) :=
  oLoop gFU (fun v : Int32 × Int32 × (Nat → Nat → Int32) => f_X0_isSo_L32 v.2.2 v.1 v.2.1) (l4, l5, σ)
theorem w_X0_isSo_b32 {x : gX} {N : Nat} {ad : Nat → Nat} {tl : va_W} {lam : (Nat → Int64)} (hc : gOk x RX0 cX0_isSo 6 5 152)  (σ : (Nat → Nat → Int32)) (l4 : Int32) (l5 : Int32) (hN : 36 ≤ N) {K : Int32 × (Nat → Nat → Int32) → Prop} {o : Int32 × (Nat → Nat → Int32)} (hf : f_X0_isSo_b32 σ l4 l5 = some o) (hK : K o) (hR : ∀ o : Int32 × (Nat → Nat → Int32), K o → gRz x 0 0 (XW x.dA N ad o.2 lam ++ tl) o.1) : gG x 6 0 0 (XW x.dA N ad σ lam ++ tl) 32 [(0, .ref (ad 0)), (4, .int l4), (5, .int l5)] [] :=
  oLoop_ind (fun v : Int32 × Int32 × (Nat → Nat → Int32) => gG x 6 0 0 (XW x.dA N ad v.2.2 lam ++ tl) 32 [(0, .ref (ad 0)), (4, .int v.1), (5, .int v.2.1)] []) K (fun v o1 hf1 hK1 => w_X0_isSo_L32 hc v.2.2 v.1 v.2.1 hN (K := Sum.elim (fun v : Int32 × Int32 × (Nat → Nat → Int32) => gG x 6 0 0 (XW x.dA N ad v.2.2 lam ++ tl) 32 [(0, .ref (ad 0)), (4, .int v.1), (5, .int v.2.1)] []) K) hf1 hK1 (fun v hv => hv) hR) gFU _ o hf hK
def f_X0_isSo (σ : (Nat → Nat → Int32)) (l1 : Int32) (l2 : Int32) (l3 : Int32) : Option (Int32 × (Nat → Nat → Int32)) :=
  oB (f_X5_as σ 1 0) fun r2 => oC (inb ((2 * l1) + l2) 8) <| oL (upd2 r2 (sb 1 + 4) ((2 * l1) + l2).toNatClampNeg (nbt (Int8.toInt32 (Int32.toInt8 l3)))) fun s3 => f_X0_isSo_b32 s3 1 0
theorem w_X0_isSo {x : gX} {N : Nat} {ad : Nat → Nat} {tl : va_W} {lam : (Nat → Int64)} (hc : gOk x RX0 cX0_isSo 6 5 152)  (σ : (Nat → Nat → Int32)) (l1 : Int32) (l2 : Int32) (l3 : Int32) (hN : 36 ≤ N) {K : Int32 × (Nat → Nat → Int32) → Prop} {o : Int32 × (Nat → Nat → Int32)} (hf : f_X0_isSo σ l1 l2 l3 = some o) (hK : K o) (hR : ∀ o : Int32 × (Nat → Nat → Int32), K o → gRz x 0 0 (XW x.dA N ad o.2 lam ++ tl) o.1) : gG x 6 0 0 (XW x.dA N ad σ lam ++ tl) 0 [(0, .ref (ad 0)), (1, .int l1), (2, .int l2), (3, .int l3)] [] := by
  unfold f_X0_isSo at hf
  refine g_iconst (v := 1) hc dX0_isSo_0 (by decide) ?_
  refine g_istore (lv' := [(4, .int 1), (0, .ref (ad 0)), (1, .int l1), (2, .int l2), (3, .int l3)]) hc dX0_isSo_1 (by decide) rfl ?_
  refine g_aload_n hc dX0_isSo_3 rfl 1 rfl ?_
  refine g_get (v := .ref (ad (sb 1))) hc in_X0 (XW_at (k := 0) (Nat.lt_of_lt_of_le (by decide) hN)) rfl 2 (by decide) q186 rfl dX0_isSo_4 ?_
  refine g_aload_n hc dX0_isSo_7 rfl 1 rfl ?_
  refine g_get (v := .ref (ad (sb 0))) hc in_X0 (XW_at (k := 0) (Nat.lt_of_lt_of_le (by decide) hN)) rfl 1 (by decide) q185 rfl dX0_isSo_8 ?_
  obtain ⟨r2, h1, hf⟩ := oB_some hf
  refine g_callVv hc [.ref (ad (sb 0))] [] (c_X5_as hN (gSl 1 hN (by decide)) (gSl 0 hN (by decide)) h1) (XW_s0 (gSl 1 hN (by decide))) rfl (lw_V q521 q522 q523 q65 q524) rfl hd_X5_as rfl rfl (Nat.le_of_ble_eq_true rfl) gZ dX0_isSo_11 ?_
  refine g_aload_n hc dX0_isSo_14 rfl 1 rfl ?_
  refine g_get (v := .ref (ad (sb 1))) hc in_X0 (XW_at (k := 0) (Nat.lt_of_lt_of_le (by decide) hN)) rfl 2 (by decide) q186 rfl dX0_isSo_15 ?_
  refine g_getN (v := .ref (ad (sb 1 + 4))) hc in_X5 (XW_s0 (gSl 1 hN (by decide))) rfl 6 (by decide) 9 rfl rfl dX0_isSo_18 ?_
  refine g_iconst (v := 2) hc dX0_isSo_21 (by decide) ?_
  refine g_iload_n hc dX0_isSo_22 rfl 2 rfl ?_
  refine g_imul hc dX0_isSo_23 ?_
  refine g_iload_n hc dX0_isSo_24 rfl 3 rfl ?_
  refine g_iadd hc dX0_isSo_25 ?_
  refine g_iload_n hc dX0_isSo_26 rfl 4 rfl ?_
  refine g_i2b hc dX0_isSo_27 ?_
  obtain ⟨h5, hf⟩ := oC_some hf
  obtain ⟨s3, e4, hf⟩ := oL_some hf
  refine g_bast (n := 8) (f := r2 (sb 1 + 4)) hc (XW_s4 (gSl 1 hN (by decide))) h5 (XW_pa (σ1 := s3) (gSl 1 hN (by decide)) (k := 4) (by decide) e4 rfl) dX0_isSo_28 ?_
  refine g_iconst (v := 0) hc dX0_isSo_29 (by decide) ?_
  refine g_istore (lv' := [(5, .int 0), (4, .int 1), (0, .ref (ad 0)), (1, .int l1), (2, .int l2), (3, .int l3)]) hc dX0_isSo_30 (by decide) rfl ?_
  exact g_lv [2, 1, 0] rfl (w_X0_isSo_b32 hc s3 1 0 hN (K := K) hf hK hR)
theorem c_X0_isSo {l : Launch} {D : va_G} {dA : Nat → ClassId} {N : Nat} {ad : Nat → Nat} {tl : va_W} {lam : (Nat → Int64)} {σ : (Nat → Nat → Int32)} {l1 : Int32} {l2 : Int32} {l3 : Int32} (hN : 36 ≤ N) {o : Int32 × (Nat → Nat → Int32)} (hf : f_X0_isSo σ l1 l2 l3 = some o) : gI l D dA (XW dA N ad σ lam ++ tl) (XW dA N ad o.2 lam ++ tl) [.ref (ad 0), .int l1, .int l2, .int l3] o.1 yX0_isSo (ws_ yX0_isSo cX0_isSo 6 (some .boolean)) ({ frames := 5, cells := 0, slots := 0, locals := 152 } : Room) :=
  g_startZ (own := RX0) ⟨rfl, rfl⟩ (by decide) rfl (Nat.le_of_ble_eq_true rfl) (fun x e hc hR => by
    subst e
    exact w_X0_isSo hc σ l1 l2 l3 hN (K := fun o1 => o1 = o) hf rfl (by rintro _ rfl; exact hR))
theorem hd_X0_isSo : yX0_isSo.cls = RX0 ∧ yX0_isSo.cls ≠ "java/lang/invoke/MethodHandle" ∧ yX0_isSo.cls ≠ "java/lang/invoke/VarHandle" ∧ (parseMethodDescriptor yX0_isSo.desc).map (fun d => d.parameters.length) = some 3 := by decide +kernel
/-! HedgehogLots.kinds(I)I -/
def f_X0_kinds_b37 (σ : (Nat → Nat → Int32)) (l1 : Int32) (l3 : Int32) (k2 : Int32) (k1 : Int32) : Option ((Int32 × Int32 × (Nat → Nat → Int32)) ⊕ (Int32 × (Nat → Nat → Int32))) :=
  some (.inl ((k1 ||| k2), (l3 + 1), σ))
theorem w_X0_kinds_b37 {x : gX} {N : Nat} {ad : Nat → Nat} {tl : va_W} {lam : (Nat → Int64)} (hc : gOk x RX0 cX0_kinds 4 6 177)  (σ : (Nat → Nat → Int32)) (l1 : Int32) (l3 : Int32) (k2 : Int32) (k1 : Int32) (hN : 36 ≤ N) {K : (Int32 × Int32 × (Nat → Nat → Int32)) ⊕ (Int32 × (Nat → Nat → Int32)) → Prop} {o : (Int32 × Int32 × (Nat → Nat → Int32)) ⊕ (Int32 × (Nat → Nat → Int32))} (hf : f_X0_kinds_b37 σ l1 l3 k2 k1 = some o) (hK : K o) (hI14 : ∀ v : Int32 × Int32 × (Nat → Nat → Int32), K (.inl v) → gG x 4 0 0 (XW x.dA N ad v.2.2 lam ++ tl) 14 [(0, .ref (ad 0)), (1, .int l1), (2, .int v.1), (3, .int v.2.1)] []) (hR : ∀ o : Int32 × (Nat → Nat → Int32), K (.inr (o)) → gRi x 0 0 (XW x.dA N ad o.2 lam ++ tl) o.1) : gG x 4 0 0 (XW x.dA N ad σ lam ++ tl) 37 [(0, .ref (ad 0)), (1, .int l1), (3, .int l3)] [.int k2, .int k1] := by
  unfold f_X0_kinds_b37 at hf
  refine g_ior hc dX0_kinds_37 ?_
  refine g_istore_n (lv' := [(2, .int (k1 ||| k2)), (0, .ref (ad 0)), (1, .int l1), (3, .int l3)]) hc dX0_kinds_38 rfl (by decide) rfl ?_
  refine g_iinc (v := l3 + 1) (lv' := [(3, .int (l3 + 1)), (2, .int (k1 ||| k2)), (0, .ref (ad 0)), (1, .int l1)]) hc dX0_kinds_39 (j := 3) rfl rfl (by decide) rfl ?_
  refine g_goto (tgt := 14) hc dX0_kinds_42 (by decide) ?_
  have hz := Option.some.inj hf; subst hz
  exact g_lv [2, 3, 1, 0] rfl (hI14 _ hK)
def f_X0_kinds_L14 (σ : (Nat → Nat → Int32)) (l1 : Int32) (l2 : Int32) (l3 : Int32) : Option ((Int32 × Int32 × (Nat → Nat → Int32)) ⊕ (Int32 × (Nat → Nat → Int32))) :=
  if 4 ≤ l3 then (oI (some (l2, σ))) else (oB (f_X0_isSo σ l1 0 l3) fun r4 => if r4.1 = 0 then (f_X0_kinds_b37 r4.2 l1 l3 0 l2) else (f_X0_kinds_b37 r4.2 l1 l3 ((1 : Int32) <<< (l3 &&& 31)) l2))
theorem w_X0_kinds_L14 {x : gX} {N : Nat} {ad : Nat → Nat} {tl : va_W} {lam : (Nat → Int64)} (hc : gOk x RX0 cX0_kinds 4 6 177)  (σ : (Nat → Nat → Int32)) (l1 : Int32) (l2 : Int32) (l3 : Int32) (hN : 36 ≤ N) {K : (Int32 × Int32 × (Nat → Nat → Int32)) ⊕ (Int32 × (Nat → Nat → Int32)) → Prop} {o : (Int32 × Int32 × (Nat → Nat → Int32)) ⊕ (Int32 × (Nat → Nat → Int32))} (hf : f_X0_kinds_L14 σ l1 l2 l3 = some o) (hK : K o) (hI14 : ∀ v : Int32 × Int32 × (Nat → Nat → Int32), K (.inl v) → gG x 4 0 0 (XW x.dA N ad v.2.2 lam ++ tl) 14 [(0, .ref (ad 0)), (1, .int l1), (2, .int v.1), (3, .int v.2.1)] []) (hR : ∀ o : Int32 × (Nat → Nat → Int32), K (.inr (o)) → gRi x 0 0 (XW x.dA N ad o.2 lam ++ tl) o.1) : gG x 4 0 0 (XW x.dA N ad σ lam ++ tl) 14 [(0, .ref (ad 0)), (1, .int l1), (2, .int l2), (3, .int l3)] [] := by
  unfold f_X0_kinds_L14 at hf
  refine g_iload_n hc dX0_kinds_14 rfl 3 rfl ?_
  refine g_iconst (v := 4) hc dX0_kinds_15 (by decide) ?_
  refine g_icmp_ge (tgt := 45) hc dX0_kinds_16 (by decide) (fun h1 => ?_) (fun h1 => ?_)
  · have hf := oT h1 hf
    obtain ⟨o2, hgo2, eo2⟩ := oI_some hf
    clear hf; subst eo2; have hf := hgo2; clear hgo2
    refine g_iload_n hc dX0_kinds_45 rfl 2 rfl ?_
    have hz := Option.some.inj hf; subst hz
    exact g_iret hc (hR _ hK) dX0_kinds_46
  · have hf := oF h1 hf
    refine g_iload_n hc dX0_kinds_19 rfl 2 rfl ?_
    refine g_aload_n hc dX0_kinds_20 rfl 0 rfl ?_
    refine g_iload_n hc dX0_kinds_21 rfl 1 rfl ?_
    refine g_iconst (v := 0) hc dX0_kinds_22 (by decide) ?_
    refine g_iload_n hc dX0_kinds_23 rfl 3 rfl ?_
    obtain ⟨r4, h3, hf⟩ := oB_some hf
    refine g_callVi hc [.int l1, .int 0, .int l3] [.int l2] (c_X0_isSo hN h3) (XW_at (k := 0) (Nat.lt_of_lt_of_le (by decide) hN)) rfl (lw_V q800 q802 qs28 q60 q803) rfl hd_X0_isSo rfl rfl (Nat.le_of_ble_eq_true rfl) gZ dX0_kinds_24 ?_
    refine g_if_eq (tgt := 36) hc dX0_kinds_27 (by decide) (fun h5 => ?_) (fun h5 => ?_)
    · have hf := oT h5 hf
      refine g_iconst (v := 0) hc dX0_kinds_36 (by decide) ?_
      exact g_lv [0, 1, 3] rfl (w_X0_kinds_b37 hc r4.2 l1 l3 0 l2 hN (K := K) hf hK hI14 hR)
    · have hf := oF h5 hf
      refine g_iconst (v := 1) hc dX0_kinds_30 (by decide) ?_
      refine g_iload_n hc dX0_kinds_31 rfl 3 rfl ?_
      refine g_ishl hc dX0_kinds_32 ?_
      refine g_goto (tgt := 37) hc dX0_kinds_33 (by decide) ?_
      exact g_lv [0, 1, 3] rfl (w_X0_kinds_b37 hc r4.2 l1 l3 ((1 : Int32) <<< (l3 &&& 31)) l2 hN (K := K) hf hK hI14 hR)
def f_X0_kinds_b14 (σ : (Nat → Nat → Int32)) (l1 : Int32) (l2 : Int32) (l3 : Int32) : Option (Int32 × (Nat → Nat → Int32)) :=
  oLoop gFU (fun v : Int32 × Int32 × (Nat → Nat → Int32) => f_X0_kinds_L14 v.2.2 l1 v.1 v.2.1) (l2, l3, σ)
theorem w_X0_kinds_b14 {x : gX} {N : Nat} {ad : Nat → Nat} {tl : va_W} {lam : (Nat → Int64)} (hc : gOk x RX0 cX0_kinds 4 6 177)  (σ : (Nat → Nat → Int32)) (l1 : Int32) (l2 : Int32) (l3 : Int32) (hN : 36 ≤ N) {K : Int32 × (Nat → Nat → Int32) → Prop} {o : Int32 × (Nat → Nat → Int32)} (hf : f_X0_kinds_b14 σ l1 l2 l3 = some o) (hK : K o) (hR : ∀ o : Int32 × (Nat → Nat → Int32), K o → gRi x 0 0 (XW x.dA N ad o.2 lam ++ tl) o.1) : gG x 4 0 0 (XW x.dA N ad σ lam ++ tl) 14 [(0, .ref (ad 0)), (1, .int l1), (2, .int l2), (3, .int l3)] [] :=
  oLoop_ind (fun v : Int32 × Int32 × (Nat → Nat → Int32) => gG x 4 0 0 (XW x.dA N ad v.2.2 lam ++ tl) 14 [(0, .ref (ad 0)), (1, .int l1), (2, .int v.1), (3, .int v.2.1)] []) K (fun v o1 hf1 hK1 => w_X0_kinds_L14 hc v.2.2 l1 v.1 v.2.1 hN (K := Sum.elim (fun v : Int32 × Int32 × (Nat → Nat → Int32) => gG x 4 0 0 (XW x.dA N ad v.2.2 lam ++ tl) 14 [(0, .ref (ad 0)), (1, .int l1), (2, .int v.1), (3, .int v.2.1)] []) K) hf1 hK1 (fun v hv => hv) hR) gFU _ o hf hK
def f_X0_kinds (σ : (Nat → Nat → Int32)) (l1 : Int32) : Option (Int32 × (Nat → Nat → Int32)) :=
  oB (f_X0_isHedgehog σ l1) fun r2 => if r2 = 0 then (some ((-1), σ)) else (f_X0_kinds_b14 σ l1 0 0)
theorem w_X0_kinds {x : gX} {N : Nat} {ad : Nat → Nat} {tl : va_W} {lam : (Nat → Int64)} (hc : gOk x RX0 cX0_kinds 4 6 177)  (σ : (Nat → Nat → Int32)) (l1 : Int32) (hN : 36 ≤ N) {K : Int32 × (Nat → Nat → Int32) → Prop} {o : Int32 × (Nat → Nat → Int32)} (hf : f_X0_kinds σ l1 = some o) (hK : K o) (hR : ∀ o : Int32 × (Nat → Nat → Int32), K o → gRi x 0 0 (XW x.dA N ad o.2 lam ++ tl) o.1) : gG x 4 0 0 (XW x.dA N ad σ lam ++ tl) 0 [(0, .ref (ad 0)), (1, .int l1)] [] := by
  unfold f_X0_kinds at hf
  refine g_aload_n hc dX0_kinds_0 rfl 0 rfl ?_
  refine g_iload_n hc dX0_kinds_1 rfl 1 rfl ?_
  obtain ⟨r2, h1, hf⟩ := oB_some hf
  refine g_callVi hc [.int l1] [] (c_X0_isHedgehog hN h1) (XW_at (k := 0) (Nat.lt_of_lt_of_le (by decide) hN)) rfl (lw_V q622 q624 qs19 q60 q625) rfl hd_X0_isHedgehog rfl rfl (Nat.le_of_ble_eq_true rfl) gZ dX0_kinds_2 ?_
  refine g_if_ne (tgt := 10) hc dX0_kinds_5 (by decide) (fun h3 => ?_) (fun h3 => ?_)
  · have hf := oF h3 hf
    refine g_iconst (v := 0) hc dX0_kinds_10 (by decide) ?_
    refine g_istore_n (lv' := [(2, .int 0), (0, .ref (ad 0)), (1, .int l1)]) hc dX0_kinds_11 rfl (by decide) rfl ?_
    refine g_iconst (v := 0) hc dX0_kinds_12 (by decide) ?_
    refine g_istore_n (lv' := [(3, .int 0), (2, .int 0), (0, .ref (ad 0)), (1, .int l1)]) hc dX0_kinds_13 rfl (by decide) rfl ?_
    exact g_lv [2, 3, 1, 0] rfl (w_X0_kinds_b14 hc σ l1 0 0 hN (K := K) hf hK hR)
  · have hf := oT h3 hf
    refine g_iconst (v := (-1)) hc dX0_kinds_8 (by decide) ?_
    have hz := Option.some.inj hf; subst hz
    exact g_iret hc (hR _ hK) dX0_kinds_9
theorem c_X0_kinds {l : Launch} {D : va_G} {dA : Nat → ClassId} {N : Nat} {ad : Nat → Nat} {tl : va_W} {lam : (Nat → Int64)} {σ : (Nat → Nat → Int32)} {l1 : Int32} (hN : 36 ≤ N) {o : Int32 × (Nat → Nat → Int32)} (hf : f_X0_kinds σ l1 = some o) : gI l D dA (XW dA N ad σ lam ++ tl) (XW dA N ad o.2 lam ++ tl) [.ref (ad 0), .int l1] o.1 yX0_kinds (ws_ yX0_kinds cX0_kinds 4 (some .int)) ({ frames := 6, cells := 0, slots := 0, locals := 177 } : Room) :=
  g_startI (own := RX0) ⟨rfl, rfl⟩ (by decide) rfl (Nat.le_of_ble_eq_true rfl) (fun x e hc hR => by
    subst e
    exact w_X0_kinds hc σ l1 hN (K := fun o1 => o1 = o) hf rfl (by rintro _ rfl; exact hR))
theorem hd_X0_kinds : yX0_kinds.cls = RX0 ∧ yX0_kinds.cls ≠ "java/lang/invoke/MethodHandle" ∧ yX0_kinds.cls ≠ "java/lang/invoke/VarHandle" ∧ (parseMethodDescriptor yX0_kinds.desc).map (fun d => d.parameters.length) = some 1 := by decide +kernel
/-! HedgehogLots.speedsOf(I)I -/
def f_X0_speedsOf_b28 (σ : (Nat → Nat → Int32)) (l1 : Int32) (l3 : Int32) (k2 : Int32) (k1 : Int32) : Option ((Int32 × Int32 × (Nat → Nat → Int32)) ⊕ (Int32 × (Nat → Nat → Int32))) :=
  some (.inl ((k1 ||| k2), (l3 + 1), σ))
theorem w_X0_speedsOf_b28 {x : gX} {N : Nat} {ad : Nat → Nat} {tl : va_W} {lam : (Nat → Int64)} (hc : gOk x RX0 cX0_speedsOf 4 6 177)  (σ : (Nat → Nat → Int32)) (l1 : Int32) (l3 : Int32) (k2 : Int32) (k1 : Int32) (hN : 36 ≤ N) {K : (Int32 × Int32 × (Nat → Nat → Int32)) ⊕ (Int32 × (Nat → Nat → Int32)) → Prop} {o : (Int32 × Int32 × (Nat → Nat → Int32)) ⊕ (Int32 × (Nat → Nat → Int32))} (hf : f_X0_speedsOf_b28 σ l1 l3 k2 k1 = some o) (hK : K o) (hI4 : ∀ v : Int32 × Int32 × (Nat → Nat → Int32), K (.inl v) → gG x 4 0 0 (XW x.dA N ad v.2.2 lam ++ tl) 4 [(0, .ref (ad 0)), (1, .int l1), (2, .int v.1), (3, .int v.2.1)] []) (hR : ∀ o : Int32 × (Nat → Nat → Int32), K (.inr (o)) → gRi x 0 0 (XW x.dA N ad o.2 lam ++ tl) o.1) : gG x 4 0 0 (XW x.dA N ad σ lam ++ tl) 28 [(0, .ref (ad 0)), (1, .int l1), (3, .int l3)] [.int k2, .int k1] := by
  unfold f_X0_speedsOf_b28 at hf
  refine g_ior hc dX0_speedsOf_28 ?_
  refine g_istore_n (lv' := [(2, .int (k1 ||| k2)), (0, .ref (ad 0)), (1, .int l1), (3, .int l3)]) hc dX0_speedsOf_29 rfl (by decide) rfl ?_
  refine g_iinc (v := l3 + 1) (lv' := [(3, .int (l3 + 1)), (2, .int (k1 ||| k2)), (0, .ref (ad 0)), (1, .int l1)]) hc dX0_speedsOf_30 (j := 3) rfl rfl (by decide) rfl ?_
  refine g_goto (tgt := 4) hc dX0_speedsOf_33 (by decide) ?_
  have hz := Option.some.inj hf; subst hz
  exact g_lv [2, 3, 1, 0] rfl (hI4 _ hK)
def f_X0_speedsOf_L4 (σ : (Nat → Nat → Int32)) (l1 : Int32) (l2 : Int32) (l3 : Int32) : Option ((Int32 × Int32 × (Nat → Nat → Int32)) ⊕ (Int32 × (Nat → Nat → Int32))) :=
  if 9 < l3 then (oI (some (l2, σ))) else (oB (f_X0_isSo σ l1 1 l3) fun r4 => if r4.1 = 0 then (f_X0_speedsOf_b28 r4.2 l1 l3 0 l2) else (f_X0_speedsOf_b28 r4.2 l1 l3 ((1 : Int32) <<< (l3 &&& 31)) l2))
theorem w_X0_speedsOf_L4 {x : gX} {N : Nat} {ad : Nat → Nat} {tl : va_W} {lam : (Nat → Int64)} (hc : gOk x RX0 cX0_speedsOf 4 6 177)  (σ : (Nat → Nat → Int32)) (l1 : Int32) (l2 : Int32) (l3 : Int32) (hN : 36 ≤ N) {K : (Int32 × Int32 × (Nat → Nat → Int32)) ⊕ (Int32 × (Nat → Nat → Int32)) → Prop} {o : (Int32 × Int32 × (Nat → Nat → Int32)) ⊕ (Int32 × (Nat → Nat → Int32))} (hf : f_X0_speedsOf_L4 σ l1 l2 l3 = some o) (hK : K o) (hI4 : ∀ v : Int32 × Int32 × (Nat → Nat → Int32), K (.inl v) → gG x 4 0 0 (XW x.dA N ad v.2.2 lam ++ tl) 4 [(0, .ref (ad 0)), (1, .int l1), (2, .int v.1), (3, .int v.2.1)] []) (hR : ∀ o : Int32 × (Nat → Nat → Int32), K (.inr (o)) → gRi x 0 0 (XW x.dA N ad o.2 lam ++ tl) o.1) : gG x 4 0 0 (XW x.dA N ad σ lam ++ tl) 4 [(0, .ref (ad 0)), (1, .int l1), (2, .int l2), (3, .int l3)] [] := by
  unfold f_X0_speedsOf_L4 at hf
  refine g_iload_n hc dX0_speedsOf_4 rfl 3 rfl ?_
  refine g_bipush (v := 9) hc dX0_speedsOf_5 (by decide) ?_
  refine g_icmp_gt (tgt := 36) hc dX0_speedsOf_7 (by decide) (fun h1 => ?_) (fun h1 => ?_)
  · have hf := oT h1 hf
    obtain ⟨o2, hgo2, eo2⟩ := oI_some hf
    clear hf; subst eo2; have hf := hgo2; clear hgo2
    refine g_iload_n hc dX0_speedsOf_36 rfl 2 rfl ?_
    have hz := Option.some.inj hf; subst hz
    exact g_iret hc (hR _ hK) dX0_speedsOf_37
  · have hf := oF h1 hf
    refine g_iload_n hc dX0_speedsOf_10 rfl 2 rfl ?_
    refine g_aload_n hc dX0_speedsOf_11 rfl 0 rfl ?_
    refine g_iload_n hc dX0_speedsOf_12 rfl 1 rfl ?_
    refine g_iconst (v := 1) hc dX0_speedsOf_13 (by decide) ?_
    refine g_iload_n hc dX0_speedsOf_14 rfl 3 rfl ?_
    obtain ⟨r4, h3, hf⟩ := oB_some hf
    refine g_callVi hc [.int l1, .int 1, .int l3] [.int l2] (c_X0_isSo hN h3) (XW_at (k := 0) (Nat.lt_of_lt_of_le (by decide) hN)) rfl (lw_V q800 q802 qs28 q60 q803) rfl hd_X0_isSo rfl rfl (Nat.le_of_ble_eq_true rfl) gZ dX0_speedsOf_15 ?_
    refine g_if_eq (tgt := 27) hc dX0_speedsOf_18 (by decide) (fun h5 => ?_) (fun h5 => ?_)
    · have hf := oT h5 hf
      refine g_iconst (v := 0) hc dX0_speedsOf_27 (by decide) ?_
      exact g_lv [0, 1, 3] rfl (w_X0_speedsOf_b28 hc r4.2 l1 l3 0 l2 hN (K := K) hf hK hI4 hR)
    · have hf := oF h5 hf
      refine g_iconst (v := 1) hc dX0_speedsOf_21 (by decide) ?_
      refine g_iload_n hc dX0_speedsOf_22 rfl 3 rfl ?_
      refine g_ishl hc dX0_speedsOf_23 ?_
      refine g_goto (tgt := 28) hc dX0_speedsOf_24 (by decide) ?_
      exact g_lv [0, 1, 3] rfl (w_X0_speedsOf_b28 hc r4.2 l1 l3 ((1 : Int32) <<< (l3 &&& 31)) l2 hN (K := K) hf hK hI4 hR)
def f_X0_speedsOf_b4 (σ : (Nat → Nat → Int32)) (l1 : Int32) (l2 : Int32) (l3 : Int32) : Option (Int32 × (Nat → Nat → Int32)) :=
  oLoop gFU (fun v : Int32 × Int32 × (Nat → Nat → Int32) => f_X0_speedsOf_L4 v.2.2 l1 v.1 v.2.1) (l2, l3, σ)
theorem w_X0_speedsOf_b4 {x : gX} {N : Nat} {ad : Nat → Nat} {tl : va_W} {lam : (Nat → Int64)} (hc : gOk x RX0 cX0_speedsOf 4 6 177)  (σ : (Nat → Nat → Int32)) (l1 : Int32) (l2 : Int32) (l3 : Int32) (hN : 36 ≤ N) {K : Int32 × (Nat → Nat → Int32) → Prop} {o : Int32 × (Nat → Nat → Int32)} (hf : f_X0_speedsOf_b4 σ l1 l2 l3 = some o) (hK : K o) (hR : ∀ o : Int32 × (Nat → Nat → Int32), K o → gRi x 0 0 (XW x.dA N ad o.2 lam ++ tl) o.1) : gG x 4 0 0 (XW x.dA N ad σ lam ++ tl) 4 [(0, .ref (ad 0)), (1, .int l1), (2, .int l2), (3, .int l3)] [] :=
  oLoop_ind (fun v : Int32 × Int32 × (Nat → Nat → Int32) => gG x 4 0 0 (XW x.dA N ad v.2.2 lam ++ tl) 4 [(0, .ref (ad 0)), (1, .int l1), (2, .int v.1), (3, .int v.2.1)] []) K (fun v o1 hf1 hK1 => w_X0_speedsOf_L4 hc v.2.2 l1 v.1 v.2.1 hN (K := Sum.elim (fun v : Int32 × Int32 × (Nat → Nat → Int32) => gG x 4 0 0 (XW x.dA N ad v.2.2 lam ++ tl) 4 [(0, .ref (ad 0)), (1, .int l1), (2, .int v.1), (3, .int v.2.1)] []) K) hf1 hK1 (fun v hv => hv) hR) gFU _ o hf hK
def f_X0_speedsOf (σ : (Nat → Nat → Int32)) (l1 : Int32) : Option (Int32 × (Nat → Nat → Int32)) :=
  f_X0_speedsOf_b4 σ l1 0 1
theorem w_X0_speedsOf {x : gX} {N : Nat} {ad : Nat → Nat} {tl : va_W} {lam : (Nat → Int64)} (hc : gOk x RX0 cX0_speedsOf 4 6 177)  (σ : (Nat → Nat → Int32)) (l1 : Int32) (hN : 36 ≤ N) {K : Int32 × (Nat → Nat → Int32) → Prop} {o : Int32 × (Nat → Nat → Int32)} (hf : f_X0_speedsOf σ l1 = some o) (hK : K o) (hR : ∀ o : Int32 × (Nat → Nat → Int32), K o → gRi x 0 0 (XW x.dA N ad o.2 lam ++ tl) o.1) : gG x 4 0 0 (XW x.dA N ad σ lam ++ tl) 0 [(0, .ref (ad 0)), (1, .int l1)] [] := by
  unfold f_X0_speedsOf at hf
  refine g_iconst (v := 0) hc dX0_speedsOf_0 (by decide) ?_
  refine g_istore_n (lv' := [(2, .int 0), (0, .ref (ad 0)), (1, .int l1)]) hc dX0_speedsOf_1 rfl (by decide) rfl ?_
  refine g_iconst (v := 1) hc dX0_speedsOf_2 (by decide) ?_
  refine g_istore_n (lv' := [(3, .int 1), (2, .int 0), (0, .ref (ad 0)), (1, .int l1)]) hc dX0_speedsOf_3 rfl (by decide) rfl ?_
  exact g_lv [2, 3, 1, 0] rfl (w_X0_speedsOf_b4 hc σ l1 0 1 hN (K := K) hf hK hR)
theorem c_X0_speedsOf {l : Launch} {D : va_G} {dA : Nat → ClassId} {N : Nat} {ad : Nat → Nat} {tl : va_W} {lam : (Nat → Int64)} {σ : (Nat → Nat → Int32)} {l1 : Int32} (hN : 36 ≤ N) {o : Int32 × (Nat → Nat → Int32)} (hf : f_X0_speedsOf σ l1 = some o) : gI l D dA (XW dA N ad σ lam ++ tl) (XW dA N ad o.2 lam ++ tl) [.ref (ad 0), .int l1] o.1 yX0_speedsOf (ws_ yX0_speedsOf cX0_speedsOf 4 (some .int)) ({ frames := 6, cells := 0, slots := 0, locals := 177 } : Room) :=
  g_startI (own := RX0) ⟨rfl, rfl⟩ (by decide) rfl (Nat.le_of_ble_eq_true rfl) (fun x e hc hR => by
    subst e
    exact w_X0_speedsOf hc σ l1 hN (K := fun o1 => o1 = o) hf rfl (by rintro _ rfl; exact hR))
theorem hd_X0_speedsOf : yX0_speedsOf.cls = RX0 ∧ yX0_speedsOf.cls ≠ "java/lang/invoke/MethodHandle" ∧ yX0_speedsOf.cls ≠ "java/lang/invoke/VarHandle" ∧ (parseMethodDescriptor yX0_speedsOf.desc).map (fun d => d.parameters.length) = some 1 := by decide +kernel
/-! HedgehogLots.speeds(I)I -/
def f_X0_speeds (σ : (Nat → Nat → Int32)) (l1 : Int32) : Option (Int32 × (Nat → Nat → Int32)) :=
  oB (f_X0_isHedgehog σ l1) fun r2 => if r2 = 0 then (some ((-1), σ)) else (oB (f_X0_speedsOf σ l1) fun r5 => some (r5.1, r5.2))
theorem w_X0_speeds {x : gX} {N : Nat} {ad : Nat → Nat} {tl : va_W} {lam : (Nat → Int64)} (hc : gOk x RX0 cX0_speeds 2 7 200)  (σ : (Nat → Nat → Int32)) (l1 : Int32) (hN : 36 ≤ N) {K : Int32 × (Nat → Nat → Int32) → Prop} {o : Int32 × (Nat → Nat → Int32)} (hf : f_X0_speeds σ l1 = some o) (hK : K o) (hR : ∀ o : Int32 × (Nat → Nat → Int32), K o → gRi x 0 0 (XW x.dA N ad o.2 lam ++ tl) o.1) : gG x 2 0 0 (XW x.dA N ad σ lam ++ tl) 0 [(0, .ref (ad 0)), (1, .int l1)] [] := by
  unfold f_X0_speeds at hf
  refine g_aload_n hc dX0_speeds_0 rfl 0 rfl ?_
  refine g_iload_n hc dX0_speeds_1 rfl 1 rfl ?_
  obtain ⟨r2, h1, hf⟩ := oB_some hf
  refine g_callVi hc [.int l1] [] (c_X0_isHedgehog hN h1) (XW_at (k := 0) (Nat.lt_of_lt_of_le (by decide) hN)) rfl (lw_V q622 q624 qs19 q60 q625) rfl hd_X0_isHedgehog rfl rfl (Nat.le_of_ble_eq_true rfl) gZ dX0_speeds_2 ?_
  refine g_if_eq (tgt := 16) hc dX0_speeds_5 (by decide) (fun h3 => ?_) (fun h3 => ?_)
  · have hf := oT h3 hf
    refine g_iconst (v := (-1)) hc dX0_speeds_16 (by decide) ?_
    have hz := Option.some.inj hf; subst hz
    exact g_iret hc (hR _ hK) dX0_speeds_17
  · have hf := oF h3 hf
    refine g_aload_n hc dX0_speeds_8 rfl 0 rfl ?_
    refine g_iload_n hc dX0_speeds_9 rfl 1 rfl ?_
    obtain ⟨r5, h4, hf⟩ := oB_some hf
    refine g_callVi hc [.int l1] [] (c_X0_speedsOf hN h4) (XW_at (k := 0) (Nat.lt_of_lt_of_le (by decide) hN)) rfl (lw_V q808 q810 qs29 q60 q811) rfl hd_X0_speedsOf rfl rfl (Nat.le_of_ble_eq_true rfl) gZ dX0_speeds_10 ?_
    refine g_goto (tgt := 17) hc dX0_speeds_13 (by decide) ?_
    have hz := Option.some.inj hf; subst hz
    exact g_iret hc (hR _ hK) dX0_speeds_17
theorem c_X0_speeds {l : Launch} {D : va_G} {dA : Nat → ClassId} {N : Nat} {ad : Nat → Nat} {tl : va_W} {lam : (Nat → Int64)} {σ : (Nat → Nat → Int32)} {l1 : Int32} (hN : 36 ≤ N) {o : Int32 × (Nat → Nat → Int32)} (hf : f_X0_speeds σ l1 = some o) : gI l D dA (XW dA N ad σ lam ++ tl) (XW dA N ad o.2 lam ++ tl) [.ref (ad 0), .int l1] o.1 yX0_speeds (ws_ yX0_speeds cX0_speeds 2 (some .int)) ({ frames := 7, cells := 0, slots := 0, locals := 200 } : Room) :=
  g_startI (own := RX0) ⟨rfl, rfl⟩ (by decide) rfl (Nat.le_of_ble_eq_true rfl) (fun x e hc hR => by
    subst e
    exact w_X0_speeds hc σ l1 hN (K := fun o1 => o1 = o) hf rfl (by rintro _ rfl; exact hR))
theorem hd_X0_speeds : yX0_speeds.cls = RX0 ∧ yX0_speeds.cls ≠ "java/lang/invoke/MethodHandle" ∧ yX0_speeds.cls ≠ "java/lang/invoke/VarHandle" ∧ (parseMethodDescriptor yX0_speeds.desc).map (fun d => d.parameters.length) = some 1 := by decide +kernel
/-! HedgehogLots.worstFrom(III)I -/
def f_X0_worstFrom_b130 (σ : (Nat → Nat → Int32)) (l1 : Int32) (l2 : Int32) (l3 : Int32) (l4 : Int32) (l5 : Int32) : Option ((Int32 × Int32 × (Nat → Nat → Int32)) ⊕ (Int32 × (Nat → Nat → Int32))) :=
  some (.inl (l4, (l5 + 1), σ))
theorem w_X0_worstFrom_b130 {x : gX} {N : Nat} {ad : Nat → Nat} {tl : va_W} {lam : (Nat → Int64)} (hc : gOk x RX0 cX0_worstFrom 7 5 152)  (σ : (Nat → Nat → Int32)) (l1 : Int32) (l2 : Int32) (l3 : Int32) (l4 : Int32) (l5 : Int32) (hN : 36 ≤ N) {K : (Int32 × Int32 × (Nat → Nat → Int32)) ⊕ (Int32 × (Nat → Nat → Int32)) → Prop} {o : (Int32 × Int32 × (Nat → Nat → Int32)) ⊕ (Int32 × (Nat → Nat → Int32))} (hf : f_X0_worstFrom_b130 σ l1 l2 l3 l4 l5 = some o) (hK : K o) (hI41 : ∀ v : Int32 × Int32 × (Nat → Nat → Int32), K (.inl v) → gG x 7 0 0 (XW x.dA N ad v.2.2 lam ++ tl) 41 [(0, .ref (ad 0)), (1, .int l1), (2, .int l2), (3, .int l3), (4, .int v.1), (5, .int v.2.1)] []) (hR : ∀ o : Int32 × (Nat → Nat → Int32), K (.inr (o)) → gRi x 0 0 (XW x.dA N ad o.2 lam ++ tl) o.1) : gG x 7 0 0 (XW x.dA N ad σ lam ++ tl) 130 [(0, .ref (ad 0)), (1, .int l1), (2, .int l2), (3, .int l3), (4, .int l4), (5, .int l5)] [] := by
  unfold f_X0_worstFrom_b130 at hf
  refine g_iinc (v := l5 + 1) (lv' := [(5, .int (l5 + 1)), (0, .ref (ad 0)), (1, .int l1), (2, .int l2), (3, .int l3), (4, .int l4)]) hc dX0_worstFrom_130 (j := 5) rfl rfl (by decide) rfl ?_
  refine g_goto (tgt := 41) hc dX0_worstFrom_133 (by decide) ?_
  have hz := Option.some.inj hf; subst hz
  exact g_lv [1, 2, 3, 4, 5, 0] rfl (hI41 _ hK)
def f_X0_worstFrom_b102 (σ : (Nat → Nat → Int32)) (l1 : Int32) (l2 : Int32) (l3 : Int32) (l4 : Int32) (l5 : Int32) (k1 : Int32) : Option ((Int32 × Int32 × (Nat → Nat → Int32)) ⊕ (Int32 × (Nat → Nat → Int32))) :=
  oC (inb k1 8) <| oC (inb k1 8) <| oL (upd2 σ 9 k1.toNatClampNeg (nbt (Int8.toInt32 (Int32.toInt8 ((σ 9 k1.toNatClampNeg) + 1))))) fun s2 => oC (inb k1 8) <| f_X0_worstFrom_b130 s2 l1 l2 l3 (if l4 < (s2 9 k1.toNatClampNeg) then (s2 9 k1.toNatClampNeg) else l4) l5
theorem w_X0_worstFrom_b102 {x : gX} {N : Nat} {ad : Nat → Nat} {tl : va_W} {lam : (Nat → Int64)} (hc : gOk x RX0 cX0_worstFrom 7 5 152)  (σ : (Nat → Nat → Int32)) (l1 : Int32) (l2 : Int32) (l3 : Int32) (l4 : Int32) (l5 : Int32) (k1 : Int32) (hN : 36 ≤ N) {K : (Int32 × Int32 × (Nat → Nat → Int32)) ⊕ (Int32 × (Nat → Nat → Int32)) → Prop} {o : (Int32 × Int32 × (Nat → Nat → Int32)) ⊕ (Int32 × (Nat → Nat → Int32))} (hf : f_X0_worstFrom_b102 σ l1 l2 l3 l4 l5 k1 = some o) (hK : K o) (hI41 : ∀ v : Int32 × Int32 × (Nat → Nat → Int32), K (.inl v) → gG x 7 0 0 (XW x.dA N ad v.2.2 lam ++ tl) 41 [(0, .ref (ad 0)), (1, .int l1), (2, .int l2), (3, .int l3), (4, .int v.1), (5, .int v.2.1)] []) (hR : ∀ o : Int32 × (Nat → Nat → Int32), K (.inr (o)) → gRi x 0 0 (XW x.dA N ad o.2 lam ++ tl) o.1) : gG x 7 0 0 (XW x.dA N ad σ lam ++ tl) 102 [(0, .ref (ad 0)), (1, .int l1), (2, .int l2), (3, .int l3), (4, .int l4), (5, .int l5)] [.int k1] := by
  unfold f_X0_worstFrom_b102 at hf
  refine g_istore (lv' := [(6, .int k1), (0, .ref (ad 0)), (1, .int l1), (2, .int l2), (3, .int l3), (4, .int l4), (5, .int l5)]) hc dX0_worstFrom_102 (by decide) rfl ?_
  refine g_aload_n hc dX0_worstFrom_104 rfl 1 rfl ?_
  refine g_get (v := .ref (ad 9)) hc in_X0 (XW_at (k := 0) (Nat.lt_of_lt_of_le (by decide) hN)) rfl 20 (by decide) q205 rfl dX0_worstFrom_105 ?_
  refine g_iload hc dX0_worstFrom_108 0 rfl ?_
  refine g_dup2 hc dX0_worstFrom_110 rfl rfl ?_
  obtain ⟨h1, hf⟩ := oC_some hf
  refine g_bald (n := 8) (f := σ 9) hc (XW_at (k := 9) (Nat.lt_of_lt_of_le (by decide) hN)) h1 dX0_worstFrom_111 ?_
  refine g_iconst (v := 1) hc dX0_worstFrom_112 (by decide) ?_
  refine g_iadd hc dX0_worstFrom_113 ?_
  refine g_i2b hc dX0_worstFrom_114 ?_
  obtain ⟨h4, hf⟩ := oC_some hf
  obtain ⟨s2, e3, hf⟩ := oL_some hf
  refine g_bast (n := 8) (f := σ 9) hc (XW_at (k := 9) (Nat.lt_of_lt_of_le (by decide) hN)) h4 (XW_set (σ1 := s2) (k := 9) (Nat.lt_of_lt_of_le (by decide) hN) e3 rfl) dX0_worstFrom_115 ?_
  refine g_iload hc dX0_worstFrom_116 5 rfl ?_
  refine g_aload_n hc dX0_worstFrom_118 rfl 1 rfl ?_
  refine g_get (v := .ref (ad 9)) hc in_X0 (XW_at (k := 0) (Nat.lt_of_lt_of_le (by decide) hN)) rfl 20 (by decide) q205 rfl dX0_worstFrom_119 ?_
  refine g_iload hc dX0_worstFrom_122 0 rfl ?_
  obtain ⟨h5, hf⟩ := oC_some hf
  refine g_bald (n := 8) (f := s2 9) hc (XW_at (k := 9) (Nat.lt_of_lt_of_le (by decide) hN)) h5 dX0_worstFrom_124 ?_
  refine g_max hc q592 q519 q520 (by decide) (Nat.le_of_ble_eq_true rfl) gZ dX0_worstFrom_125 ?_
  refine g_istore (lv' := [(4, .int (if l4 < (s2 9 k1.toNatClampNeg) then (s2 9 k1.toNatClampNeg) else l4)), (6, .int k1), (0, .ref (ad 0)), (1, .int l1), (2, .int l2), (3, .int l3), (5, .int l5)]) hc dX0_worstFrom_128 (by decide) rfl ?_
  exact g_lv [2, 3, 4, 5, 0, 6] rfl (w_X0_worstFrom_b130 hc s2 l1 l2 l3 (if l4 < (s2 9 k1.toNatClampNeg) then (s2 9 k1.toNatClampNeg) else l4) l5 hN (K := K) hf hK hI41 hR)
def f_X0_worstFrom_L41 (σ : (Nat → Nat → Int32)) (l1 : Int32) (l2 : Int32) (l3 : Int32) (l4 : Int32) (l5 : Int32) : Option ((Int32 × Int32 × (Nat → Nat → Int32)) ⊕ (Int32 × (Nat → Nat → Int32))) :=
  if 9 < l5 then (oI (some (l4, σ))) else (oB (f_X0_has l3 l5) fun r4 => if r4 = 0 then (f_X0_worstFrom_b130 σ l1 l2 l3 l4 l5) else (oC (inb ((2 * l1) + 1) 8) <| oL (upd2 σ (sb 1 + 4) ((2 * l1) + 1).toNatClampNeg (nbt (Int8.toInt32 (Int32.toInt8 l5)))) fun s6 => oB (f_X0_runs s6 1 l1 l2 0) fun r10 => if (r10 0 8) = (-4) then (f_X0_worstFrom_b102 r10 l1 l2 l3 l4 l5 7) else (f_X0_worstFrom_b102 r10 l1 l2 l3 l4 l5 (r10 0 8))))
theorem w_X0_worstFrom_L41 {x : gX} {N : Nat} {ad : Nat → Nat} {tl : va_W} {lam : (Nat → Int64)} (hc : gOk x RX0 cX0_worstFrom 7 5 152)  (σ : (Nat → Nat → Int32)) (l1 : Int32) (l2 : Int32) (l3 : Int32) (l4 : Int32) (l5 : Int32) (hN : 36 ≤ N) {K : (Int32 × Int32 × (Nat → Nat → Int32)) ⊕ (Int32 × (Nat → Nat → Int32)) → Prop} {o : (Int32 × Int32 × (Nat → Nat → Int32)) ⊕ (Int32 × (Nat → Nat → Int32))} (hf : f_X0_worstFrom_L41 σ l1 l2 l3 l4 l5 = some o) (hK : K o) (hI41 : ∀ v : Int32 × Int32 × (Nat → Nat → Int32), K (.inl v) → gG x 7 0 0 (XW x.dA N ad v.2.2 lam ++ tl) 41 [(0, .ref (ad 0)), (1, .int l1), (2, .int l2), (3, .int l3), (4, .int v.1), (5, .int v.2.1)] []) (hR : ∀ o : Int32 × (Nat → Nat → Int32), K (.inr (o)) → gRi x 0 0 (XW x.dA N ad o.2 lam ++ tl) o.1) : gG x 7 0 0 (XW x.dA N ad σ lam ++ tl) 41 [(0, .ref (ad 0)), (1, .int l1), (2, .int l2), (3, .int l3), (4, .int l4), (5, .int l5)] [] := by
  unfold f_X0_worstFrom_L41 at hf
  refine g_iload hc dX0_worstFrom_41 5 rfl ?_
  refine g_bipush (v := 9) hc dX0_worstFrom_43 (by decide) ?_
  refine g_icmp_gt (tgt := 136) hc dX0_worstFrom_45 (by decide) (fun h1 => ?_) (fun h1 => ?_)
  · have hf := oT h1 hf
    obtain ⟨o2, hgo2, eo2⟩ := oI_some hf
    clear hf; subst eo2; have hf := hgo2; clear hgo2
    refine g_iload hc dX0_worstFrom_136 4 rfl ?_
    have hz := Option.some.inj hf; subst hz
    exact g_iret hc (hR _ hK) dX0_worstFrom_138
  · have hf := oF h1 hf
    refine g_iload_n hc dX0_worstFrom_48 rfl 3 rfl ?_
    refine g_iload hc dX0_worstFrom_49 5 rfl ?_
    obtain ⟨r4, h3, hf⟩ := oB_some hf
    refine g_callSi hc [.int l3, .int l5] [] (c_X0_has  h3) (lw_S q583 q584 q60 q585) rfl hd_X0_has rfl rfl (Nat.le_of_ble_eq_true rfl) gZ dX0_worstFrom_51 ?_
    refine g_if_eq (tgt := 130) hc dX0_worstFrom_54 (by decide) (fun h5 => ?_) (fun h5 => ?_)
    · have hf := oT h5 hf
      exact g_lv [0, 1, 2, 3, 4, 5] rfl (w_X0_worstFrom_b130 hc σ l1 l2 l3 l4 l5 hN (K := K) hf hK hI41 hR)
    · have hf := oF h5 hf
      refine g_aload_n hc dX0_worstFrom_57 rfl 0 rfl ?_
      refine g_get (v := .ref (ad (sb 1))) hc in_X0 (XW_at (k := 0) (Nat.lt_of_lt_of_le (by decide) hN)) rfl 2 (by decide) q186 rfl dX0_worstFrom_58 ?_
      refine g_getN (v := .ref (ad (sb 1 + 4))) hc in_X5 (XW_s0 (gSl 1 hN (by decide))) rfl 6 (by decide) 9 rfl rfl dX0_worstFrom_61 ?_
      refine g_iconst (v := 2) hc dX0_worstFrom_64 (by decide) ?_
      refine g_iload_n hc dX0_worstFrom_65 rfl 1 rfl ?_
      refine g_imul hc dX0_worstFrom_66 ?_
      refine g_iconst (v := 1) hc dX0_worstFrom_67 (by decide) ?_
      refine g_iadd hc dX0_worstFrom_68 ?_
      refine g_iload hc dX0_worstFrom_69 5 rfl ?_
      refine g_i2b hc dX0_worstFrom_71 ?_
      obtain ⟨h8, hf⟩ := oC_some hf
      obtain ⟨s6, e7, hf⟩ := oL_some hf
      refine g_bast (n := 8) (f := σ (sb 1 + 4)) hc (XW_s4 (gSl 1 hN (by decide))) h8 (XW_pa (σ1 := s6) (gSl 1 hN (by decide)) (k := 4) (by decide) e7 rfl) dX0_worstFrom_72 ?_
      refine g_aload_n hc dX0_worstFrom_73 rfl 0 rfl ?_
      refine g_aload_n hc dX0_worstFrom_74 rfl 0 rfl ?_
      refine g_get (v := .ref (ad (sb 1))) hc in_X0 (XW_at (k := 0) (Nat.lt_of_lt_of_le (by decide) hN)) rfl 2 (by decide) q186 rfl dX0_worstFrom_75 ?_
      refine g_iload_n hc dX0_worstFrom_78 rfl 1 rfl ?_
      refine g_iload_n hc dX0_worstFrom_79 rfl 2 rfl ?_
      refine g_iconst (v := 0) hc dX0_worstFrom_80 (by decide) ?_
      obtain ⟨r10, h9, hf⟩ := oB_some hf
      refine g_callVv hc [.ref (ad (sb 1)), .int l1, .int l2, .int 0] [] (c_X0_runs hN (gSl 1 hN (by decide)) h9) (XW_at (k := 0) (Nat.lt_of_lt_of_le (by decide) hN)) rfl (lw_V q540 q542 qs14 q60 q543) rfl hd_X0_runs rfl rfl (Nat.le_of_ble_eq_true rfl) gZ dX0_worstFrom_81 ?_
      refine g_aload_n hc dX0_worstFrom_84 rfl 0 rfl ?_
      refine g_get (v := .int (r10 0 8)) hc in_X0 (XW_at (k := 0) (Nat.lt_of_lt_of_le (by decide) hN)) rfl 8 (by decide) q192 rfl dX0_worstFrom_85 ?_
      refine g_bipush (v := (-4)) hc dX0_worstFrom_88 (by decide) ?_
      refine g_icmp_ne (tgt := 98) hc dX0_worstFrom_90 (by decide) (fun h11 => ?_) (fun h11 => ?_)
      · have hf := oF h11 hf
        refine g_aload_n hc dX0_worstFrom_98 rfl 0 rfl ?_
        refine g_get (v := .int (r10 0 8)) hc in_X0 (XW_at (k := 0) (Nat.lt_of_lt_of_le (by decide) hN)) rfl 8 (by decide) q192 rfl dX0_worstFrom_99 ?_
        exact g_lv [0, 1, 2, 3, 4, 5] rfl (w_X0_worstFrom_b102 hc r10 l1 l2 l3 l4 l5 (r10 0 8) hN (K := K) hf hK hI41 hR)
      · have hf := oT h11 hf
        refine g_bipush (v := 7) hc dX0_worstFrom_93 (by decide) ?_
        refine g_goto (tgt := 102) hc dX0_worstFrom_95 (by decide) ?_
        exact g_lv [0, 1, 2, 3, 4, 5] rfl (w_X0_worstFrom_b102 hc r10 l1 l2 l3 l4 l5 7 hN (K := K) hf hK hI41 hR)
def f_X0_worstFrom_b41 (σ : (Nat → Nat → Int32)) (l1 : Int32) (l2 : Int32) (l3 : Int32) (l4 : Int32) (l5 : Int32) : Option (Int32 × (Nat → Nat → Int32)) :=
  oLoop gFU (fun v : Int32 × Int32 × (Nat → Nat → Int32) => f_X0_worstFrom_L41 v.2.2 l1 l2 l3 v.1 v.2.1) (l4, l5, σ)
theorem w_X0_worstFrom_b41 {x : gX} {N : Nat} {ad : Nat → Nat} {tl : va_W} {lam : (Nat → Int64)} (hc : gOk x RX0 cX0_worstFrom 7 5 152)  (σ : (Nat → Nat → Int32)) (l1 : Int32) (l2 : Int32) (l3 : Int32) (l4 : Int32) (l5 : Int32) (hN : 36 ≤ N) {K : Int32 × (Nat → Nat → Int32) → Prop} {o : Int32 × (Nat → Nat → Int32)} (hf : f_X0_worstFrom_b41 σ l1 l2 l3 l4 l5 = some o) (hK : K o) (hR : ∀ o : Int32 × (Nat → Nat → Int32), K o → gRi x 0 0 (XW x.dA N ad o.2 lam ++ tl) o.1) : gG x 7 0 0 (XW x.dA N ad σ lam ++ tl) 41 [(0, .ref (ad 0)), (1, .int l1), (2, .int l2), (3, .int l3), (4, .int l4), (5, .int l5)] [] :=
  oLoop_ind (fun v : Int32 × Int32 × (Nat → Nat → Int32) => gG x 7 0 0 (XW x.dA N ad v.2.2 lam ++ tl) 41 [(0, .ref (ad 0)), (1, .int l1), (2, .int l2), (3, .int l3), (4, .int v.1), (5, .int v.2.1)] []) K (fun v o1 hf1 hK1 => w_X0_worstFrom_L41 hc v.2.2 l1 l2 l3 v.1 v.2.1 hN (K := Sum.elim (fun v : Int32 × Int32 × (Nat → Nat → Int32) => gG x 7 0 0 (XW x.dA N ad v.2.2 lam ++ tl) 41 [(0, .ref (ad 0)), (1, .int l1), (2, .int l2), (3, .int l3), (4, .int v.1), (5, .int v.2.1)] []) K) hf1 hK1 (fun v hv => hv) hR) gFU _ o hf hK
def f_X0_worstFrom_L6 (σ : (Nat → Nat → Int32)) (l1 : Int32) (l2 : Int32) (l3 : Int32) (l4 : Int32) (l5 : Int32) : Option ((Int32 × (Nat → Nat → Int32)) ⊕ (Int32 × (Nat → Nat → Int32))) :=
  if 7 < l5 then (oI (oB (f_X5_as σ 1 0) fun r3 => f_X0_worstFrom_b41 r3 l1 l2 l3 l4 1)) else (oC (inb l5 8) <| oL (upd2 σ 9 l5.toNatClampNeg (nbt 0)) fun s5 => some (.inl ((l5 + 1), s5)))
theorem w_X0_worstFrom_L6 {x : gX} {N : Nat} {ad : Nat → Nat} {tl : va_W} {lam : (Nat → Int64)} (hc : gOk x RX0 cX0_worstFrom 7 5 152)  (σ : (Nat → Nat → Int32)) (l1 : Int32) (l2 : Int32) (l3 : Int32) (l4 : Int32) (l5 : Int32) (hN : 36 ≤ N) {K : (Int32 × (Nat → Nat → Int32)) ⊕ (Int32 × (Nat → Nat → Int32)) → Prop} {o : (Int32 × (Nat → Nat → Int32)) ⊕ (Int32 × (Nat → Nat → Int32))} (hf : f_X0_worstFrom_L6 σ l1 l2 l3 l4 l5 = some o) (hK : K o) (hI6 : ∀ v : Int32 × (Nat → Nat → Int32), K (.inl v) → gG x 7 0 0 (XW x.dA N ad v.2 lam ++ tl) 6 [(0, .ref (ad 0)), (1, .int l1), (2, .int l2), (3, .int l3), (4, .int l4), (5, .int v.1)] []) (hR : ∀ o : Int32 × (Nat → Nat → Int32), K (.inr (o)) → gRi x 0 0 (XW x.dA N ad o.2 lam ++ tl) o.1) : gG x 7 0 0 (XW x.dA N ad σ lam ++ tl) 6 [(0, .ref (ad 0)), (1, .int l1), (2, .int l2), (3, .int l3), (4, .int l4), (5, .int l5)] [] := by
  unfold f_X0_worstFrom_L6 at hf
  refine g_iload hc dX0_worstFrom_6 5 rfl ?_
  refine g_bipush (v := 7) hc dX0_worstFrom_8 (by decide) ?_
  refine g_icmp_gt (tgt := 27) hc dX0_worstFrom_10 (by decide) (fun h1 => ?_) (fun h1 => ?_)
  · have hf := oT h1 hf
    obtain ⟨o4, hgo4, eo4⟩ := oI_some hf
    clear hf; subst eo4; have hf := hgo4; clear hgo4
    refine g_aload_n hc dX0_worstFrom_27 rfl 0 rfl ?_
    refine g_get (v := .ref (ad (sb 1))) hc in_X0 (XW_at (k := 0) (Nat.lt_of_lt_of_le (by decide) hN)) rfl 2 (by decide) q186 rfl dX0_worstFrom_28 ?_
    refine g_aload_n hc dX0_worstFrom_31 rfl 0 rfl ?_
    refine g_get (v := .ref (ad (sb 0))) hc in_X0 (XW_at (k := 0) (Nat.lt_of_lt_of_le (by decide) hN)) rfl 1 (by decide) q185 rfl dX0_worstFrom_32 ?_
    obtain ⟨r3, h2, hf⟩ := oB_some hf
    refine g_callVv hc [.ref (ad (sb 0))] [] (c_X5_as hN (gSl 1 hN (by decide)) (gSl 0 hN (by decide)) h2) (XW_s0 (gSl 1 hN (by decide))) rfl (lw_V q521 q522 q523 q65 q524) rfl hd_X5_as rfl rfl (Nat.le_of_ble_eq_true rfl) gZ dX0_worstFrom_35 ?_
    refine g_iconst (v := 1) hc dX0_worstFrom_38 (by decide) ?_
    refine g_istore (lv' := [(5, .int 1), (0, .ref (ad 0)), (1, .int l1), (2, .int l2), (3, .int l3), (4, .int l4)]) hc dX0_worstFrom_39 (by decide) rfl ?_
    exact g_lv [1, 2, 3, 4, 5, 0] rfl (w_X0_worstFrom_b41 hc r3 l1 l2 l3 l4 1 hN (K := (fun o1 => K (.inr o1))) hf hK hR)
  · have hf := oF h1 hf
    refine g_aload_n hc dX0_worstFrom_13 rfl 0 rfl ?_
    refine g_get (v := .ref (ad 9)) hc in_X0 (XW_at (k := 0) (Nat.lt_of_lt_of_le (by decide) hN)) rfl 20 (by decide) q205 rfl dX0_worstFrom_14 ?_
    refine g_iload hc dX0_worstFrom_17 5 rfl ?_
    refine g_iconst (v := 0) hc dX0_worstFrom_19 (by decide) ?_
    obtain ⟨h7, hf⟩ := oC_some hf
    obtain ⟨s5, e6, hf⟩ := oL_some hf
    refine g_bast (n := 8) (f := σ 9) hc (XW_at (k := 9) (Nat.lt_of_lt_of_le (by decide) hN)) h7 (XW_set (σ1 := s5) (k := 9) (Nat.lt_of_lt_of_le (by decide) hN) e6 rfl) dX0_worstFrom_20 ?_
    refine g_iinc (v := l5 + 1) (lv' := [(5, .int (l5 + 1)), (0, .ref (ad 0)), (1, .int l1), (2, .int l2), (3, .int l3), (4, .int l4)]) hc dX0_worstFrom_21 (j := 5) rfl rfl (by decide) rfl ?_
    refine g_goto (tgt := 6) hc dX0_worstFrom_24 (by decide) ?_
    have hz := Option.some.inj hf; subst hz
    exact g_lv [1, 2, 3, 4, 5, 0] rfl (hI6 _ hK)
def f_X0_worstFrom_b6 (σ : (Nat → Nat → Int32)) (l1 : Int32) (l2 : Int32) (l3 : Int32) (l4 : Int32) (l5 : Int32) : Option (Int32 × (Nat → Nat → Int32)) :=
  oLoop gFU (fun v : Int32 × (Nat → Nat → Int32) => f_X0_worstFrom_L6 v.2 l1 l2 l3 l4 v.1) (l5, σ)
theorem w_X0_worstFrom_b6 {x : gX} {N : Nat} {ad : Nat → Nat} {tl : va_W} {lam : (Nat → Int64)} (hc : gOk x RX0 cX0_worstFrom 7 5 152)  (σ : (Nat → Nat → Int32)) (l1 : Int32) (l2 : Int32) (l3 : Int32) (l4 : Int32) (l5 : Int32) (hN : 36 ≤ N) {K : Int32 × (Nat → Nat → Int32) → Prop} {o : Int32 × (Nat → Nat → Int32)} (hf : f_X0_worstFrom_b6 σ l1 l2 l3 l4 l5 = some o) (hK : K o) (hR : ∀ o : Int32 × (Nat → Nat → Int32), K o → gRi x 0 0 (XW x.dA N ad o.2 lam ++ tl) o.1) : gG x 7 0 0 (XW x.dA N ad σ lam ++ tl) 6 [(0, .ref (ad 0)), (1, .int l1), (2, .int l2), (3, .int l3), (4, .int l4), (5, .int l5)] [] :=
  oLoop_ind (fun v : Int32 × (Nat → Nat → Int32) => gG x 7 0 0 (XW x.dA N ad v.2 lam ++ tl) 6 [(0, .ref (ad 0)), (1, .int l1), (2, .int l2), (3, .int l3), (4, .int l4), (5, .int v.1)] []) K (fun v o1 hf1 hK1 => w_X0_worstFrom_L6 hc v.2 l1 l2 l3 l4 v.1 hN (K := Sum.elim (fun v : Int32 × (Nat → Nat → Int32) => gG x 7 0 0 (XW x.dA N ad v.2 lam ++ tl) 6 [(0, .ref (ad 0)), (1, .int l1), (2, .int l2), (3, .int l3), (4, .int l4), (5, .int v.1)] []) K) hf1 hK1 (fun v hv => hv) hR) gFU _ o hf hK
def f_X0_worstFrom (σ : (Nat → Nat → Int32)) (l1 : Int32) (l2 : Int32) (l3 : Int32) : Option (Int32 × (Nat → Nat → Int32)) :=
  f_X0_worstFrom_b6 σ l1 l2 l3 0 0
theorem w_X0_worstFrom {x : gX} {N : Nat} {ad : Nat → Nat} {tl : va_W} {lam : (Nat → Int64)} (hc : gOk x RX0 cX0_worstFrom 7 5 152)  (σ : (Nat → Nat → Int32)) (l1 : Int32) (l2 : Int32) (l3 : Int32) (hN : 36 ≤ N) {K : Int32 × (Nat → Nat → Int32) → Prop} {o : Int32 × (Nat → Nat → Int32)} (hf : f_X0_worstFrom σ l1 l2 l3 = some o) (hK : K o) (hR : ∀ o : Int32 × (Nat → Nat → Int32), K o → gRi x 0 0 (XW x.dA N ad o.2 lam ++ tl) o.1) : gG x 7 0 0 (XW x.dA N ad σ lam ++ tl) 0 [(0, .ref (ad 0)), (1, .int l1), (2, .int l2), (3, .int l3)] [] := by
  unfold f_X0_worstFrom at hf
  refine g_iconst (v := 0) hc dX0_worstFrom_0 (by decide) ?_
  refine g_istore (lv' := [(4, .int 0), (0, .ref (ad 0)), (1, .int l1), (2, .int l2), (3, .int l3)]) hc dX0_worstFrom_1 (by decide) rfl ?_
  refine g_iconst (v := 0) hc dX0_worstFrom_3 (by decide) ?_
  refine g_istore (lv' := [(5, .int 0), (4, .int 0), (0, .ref (ad 0)), (1, .int l1), (2, .int l2), (3, .int l3)]) hc dX0_worstFrom_4 (by decide) rfl ?_
  exact g_lv [2, 3, 4, 5, 1, 0] rfl (w_X0_worstFrom_b6 hc σ l1 l2 l3 0 0 hN (K := K) hf hK hR)
theorem c_X0_worstFrom {l : Launch} {D : va_G} {dA : Nat → ClassId} {N : Nat} {ad : Nat → Nat} {tl : va_W} {lam : (Nat → Int64)} {σ : (Nat → Nat → Int32)} {l1 : Int32} {l2 : Int32} {l3 : Int32} (hN : 36 ≤ N) {o : Int32 × (Nat → Nat → Int32)} (hf : f_X0_worstFrom σ l1 l2 l3 = some o) : gI l D dA (XW dA N ad σ lam ++ tl) (XW dA N ad o.2 lam ++ tl) [.ref (ad 0), .int l1, .int l2, .int l3] o.1 yX0_worstFrom (ws_ yX0_worstFrom cX0_worstFrom 7 (some .int)) ({ frames := 5, cells := 0, slots := 0, locals := 152 } : Room) :=
  g_startI (own := RX0) ⟨rfl, rfl⟩ (by decide) rfl (Nat.le_of_ble_eq_true rfl) (fun x e hc hR => by
    subst e
    exact w_X0_worstFrom hc σ l1 l2 l3 hN (K := fun o1 => o1 = o) hf rfl (by rintro _ rfl; exact hR))
theorem hd_X0_worstFrom : yX0_worstFrom.cls = RX0 ∧ yX0_worstFrom.cls ≠ "java/lang/invoke/MethodHandle" ∧ yX0_worstFrom.cls ≠ "java/lang/invoke/VarHandle" ∧ (parseMethodDescriptor yX0_worstFrom.desc).map (fun d => d.parameters.length) = some 3 := by decide +kernel
/-! HedgehogLots.ask(II)I -/
def f_X0_ask_b67 (σ : (Nat → Nat → Int32)) (l1 : Int32) (l2 : Int32) (l3 : Int32) (l4 : Int32) (l6 : Int32) (l7 : Int32) (k1 : Int32) : Option ((Int32 × Int32 × Int32 × (Nat → Nat → Int32)) ⊕ (Int32 × (Nat → Nat → Int32))) :=
  some (.inl ((if l7 < l4 then l7 else l4), k1, (l6 + 1), σ))
theorem w_X0_ask_b67 {x : gX} {N : Nat} {ad : Nat → Nat} {tl : va_W} {lam : (Nat → Int64)} (hc : gOk x RX0 cX0_ask 8 7 200)  (σ : (Nat → Nat → Int32)) (l1 : Int32) (l2 : Int32) (l3 : Int32) (l4 : Int32) (l6 : Int32) (l7 : Int32) (k1 : Int32) (hN : 36 ≤ N) {K : (Int32 × Int32 × Int32 × (Nat → Nat → Int32)) ⊕ (Int32 × (Nat → Nat → Int32)) → Prop} {o : (Int32 × Int32 × Int32 × (Nat → Nat → Int32)) ⊕ (Int32 × (Nat → Nat → Int32))} (hf : f_X0_ask_b67 σ l1 l2 l3 l4 l6 l7 k1 = some o) (hK : K o) (hI36 : ∀ v : Int32 × Int32 × Int32 × (Nat → Nat → Int32), K (.inl v) → gG x 8 0 0 (XW x.dA N ad v.2.2.2 lam ++ tl) 36 [(0, .ref (ad 0)), (1, .int l1), (2, .int l2), (3, .int l3), (4, .int v.1), (5, .int v.2.1), (6, .int v.2.2.1)] []) (hR : ∀ o : Int32 × (Nat → Nat → Int32), K (.inr (o)) → gRi x 0 0 (XW x.dA N ad o.2 lam ++ tl) o.1) : gG x 8 0 0 (XW x.dA N ad σ lam ++ tl) 67 [(0, .ref (ad 0)), (1, .int l1), (2, .int l2), (3, .int l3), (4, .int l4), (6, .int l6), (7, .int l7)] [.int k1] := by
  unfold f_X0_ask_b67 at hf
  refine g_istore (lv' := [(5, .int k1), (0, .ref (ad 0)), (1, .int l1), (2, .int l2), (3, .int l3), (4, .int l4), (6, .int l6), (7, .int l7)]) hc dX0_ask_67 (by decide) rfl ?_
  refine g_iload hc dX0_ask_69 5 rfl ?_
  refine g_iload hc dX0_ask_71 7 rfl ?_
  refine g_min hc q589 q590 q591 (by decide) (Nat.le_of_ble_eq_true rfl) gZ dX0_ask_73 ?_
  refine g_istore (lv' := [(4, .int (if l7 < l4 then l7 else l4)), (5, .int k1), (0, .ref (ad 0)), (1, .int l1), (2, .int l2), (3, .int l3), (6, .int l6), (7, .int l7)]) hc dX0_ask_76 (by decide) rfl ?_
  refine g_iinc (v := l6 + 1) (lv' := [(6, .int (l6 + 1)), (4, .int (if l7 < l4 then l7 else l4)), (5, .int k1), (0, .ref (ad 0)), (1, .int l1), (2, .int l2), (3, .int l3), (7, .int l7)]) hc dX0_ask_78 (j := 6) rfl rfl (by decide) rfl ?_
  refine g_goto (tgt := 36) hc dX0_ask_81 (by decide) ?_
  have hz := Option.some.inj hf; subst hz
  exact g_lv [3, 4, 5, 6, 1, 2, 0] rfl (hI36 _ hK)
def f_X0_ask_L36 (σ : (Nat → Nat → Int32)) (l1 : Int32) (l2 : Int32) (l3 : Int32) (l4 : Int32) (l5 : Int32) (l6 : Int32) : Option ((Int32 × Int32 × Int32 × (Nat → Nat → Int32)) ⊕ (Int32 × (Nat → Nat → Int32))) :=
  if 8 ≤ l6 then (oI (if l5 = (-4) then (some ((-4), σ)) else (if l2 = 0 then (some (l5, σ)) else (some (l4, σ))))) else (oB (f_X0_worstFrom σ l1 l6 l3) fun r6 => if l4 ≤ r6.1 then (f_X0_ask_b67 r6.2 l1 l2 l3 l4 l6 r6.1 l5) else (f_X0_ask_b67 r6.2 l1 l2 l3 l4 l6 r6.1 l6))
theorem w_X0_ask_L36 {x : gX} {N : Nat} {ad : Nat → Nat} {tl : va_W} {lam : (Nat → Int64)} (hc : gOk x RX0 cX0_ask 8 7 200)  (σ : (Nat → Nat → Int32)) (l1 : Int32) (l2 : Int32) (l3 : Int32) (l4 : Int32) (l5 : Int32) (l6 : Int32) (hN : 36 ≤ N) {K : (Int32 × Int32 × Int32 × (Nat → Nat → Int32)) ⊕ (Int32 × (Nat → Nat → Int32)) → Prop} {o : (Int32 × Int32 × Int32 × (Nat → Nat → Int32)) ⊕ (Int32 × (Nat → Nat → Int32))} (hf : f_X0_ask_L36 σ l1 l2 l3 l4 l5 l6 = some o) (hK : K o) (hI36 : ∀ v : Int32 × Int32 × Int32 × (Nat → Nat → Int32), K (.inl v) → gG x 8 0 0 (XW x.dA N ad v.2.2.2 lam ++ tl) 36 [(0, .ref (ad 0)), (1, .int l1), (2, .int l2), (3, .int l3), (4, .int v.1), (5, .int v.2.1), (6, .int v.2.2.1)] []) (hR : ∀ o : Int32 × (Nat → Nat → Int32), K (.inr (o)) → gRi x 0 0 (XW x.dA N ad o.2 lam ++ tl) o.1) : gG x 8 0 0 (XW x.dA N ad σ lam ++ tl) 36 [(0, .ref (ad 0)), (1, .int l1), (2, .int l2), (3, .int l3), (4, .int l4), (5, .int l5), (6, .int l6)] [] := by
  unfold f_X0_ask_L36 at hf
  refine g_iload hc dX0_ask_36 6 rfl ?_
  refine g_bipush (v := 8) hc dX0_ask_38 (by decide) ?_
  refine g_icmp_ge (tgt := 84) hc dX0_ask_40 (by decide) (fun h1 => ?_) (fun h1 => ?_)
  · have hf := oT h1 hf
    obtain ⟨o4, hgo4, eo4⟩ := oI_some hf
    clear hf; subst eo4; have hf := hgo4; clear hgo4
    refine g_iload hc dX0_ask_84 5 rfl ?_
    refine g_bipush (v := (-4)) hc dX0_ask_86 (by decide) ?_
    refine g_icmp_ne (tgt := 96) hc dX0_ask_88 (by decide) (fun h2 => ?_) (fun h2 => ?_)
    · have hf := oF h2 hf
      refine g_iload_n hc dX0_ask_96 rfl 2 rfl ?_
      refine g_if_ne (tgt := 105) hc dX0_ask_97 (by decide) (fun h3 => ?_) (fun h3 => ?_)
      · have hf := oF h3 hf
        refine g_iload hc dX0_ask_105 4 rfl ?_
        have hz := Option.some.inj hf; subst hz
        exact g_iret hc (hR _ hK) dX0_ask_107
      · have hf := oT h3 hf
        refine g_iload hc dX0_ask_100 5 rfl ?_
        refine g_goto (tgt := 107) hc dX0_ask_102 (by decide) ?_
        have hz := Option.some.inj hf; subst hz
        exact g_iret hc (hR _ hK) dX0_ask_107
    · have hf := oT h2 hf
      refine g_bipush (v := (-4)) hc dX0_ask_91 (by decide) ?_
      refine g_goto (tgt := 107) hc dX0_ask_93 (by decide) ?_
      have hz := Option.some.inj hf; subst hz
      exact g_iret hc (hR _ hK) dX0_ask_107
  · have hf := oF h1 hf
    refine g_aload_n hc dX0_ask_43 rfl 0 rfl ?_
    refine g_iload_n hc dX0_ask_44 rfl 1 rfl ?_
    refine g_iload hc dX0_ask_45 6 rfl ?_
    refine g_iload_n hc dX0_ask_47 rfl 3 rfl ?_
    obtain ⟨r6, h5, hf⟩ := oB_some hf
    refine g_callVi hc [.int l1, .int l6, .int l3] [] (c_X0_worstFrom hN h5) (XW_at (k := 0) (Nat.lt_of_lt_of_le (by decide) hN)) rfl (lw_V q816 q818 qs30 q60 q819) rfl hd_X0_worstFrom rfl rfl (Nat.le_of_ble_eq_true rfl) gZ dX0_ask_48 ?_
    refine g_istore (lv' := [(7, .int r6.1), (0, .ref (ad 0)), (1, .int l1), (2, .int l2), (3, .int l3), (4, .int l4), (5, .int l5), (6, .int l6)]) hc dX0_ask_51 (by decide) rfl ?_
    refine g_iload hc dX0_ask_53 0 rfl ?_
    refine g_iload hc dX0_ask_55 5 rfl ?_
    refine g_icmp_ge (tgt := 65) hc dX0_ask_57 (by decide) (fun h7 => ?_) (fun h7 => ?_)
    · have hf := oT h7 hf
      refine g_iload hc dX0_ask_65 6 rfl ?_
      exact g_lv [1, 2, 3, 4, 5, 7, 0] rfl (w_X0_ask_b67 hc r6.2 l1 l2 l3 l4 l6 r6.1 l5 hN (K := K) hf hK hI36 hR)
    · have hf := oF h7 hf
      refine g_iload hc dX0_ask_60 7 rfl ?_
      refine g_goto (tgt := 67) hc dX0_ask_62 (by decide) ?_
      exact g_lv [1, 2, 3, 4, 5, 7, 0] rfl (w_X0_ask_b67 hc r6.2 l1 l2 l3 l4 l6 r6.1 l6 hN (K := K) hf hK hI36 hR)
def f_X0_ask_b36 (σ : (Nat → Nat → Int32)) (l1 : Int32) (l2 : Int32) (l3 : Int32) (l4 : Int32) (l5 : Int32) (l6 : Int32) : Option (Int32 × (Nat → Nat → Int32)) :=
  oLoop gFU (fun v : Int32 × Int32 × Int32 × (Nat → Nat → Int32) => f_X0_ask_L36 v.2.2.2 l1 l2 l3 v.1 v.2.1 v.2.2.1) (l4, l5, l6, σ)
theorem w_X0_ask_b36 {x : gX} {N : Nat} {ad : Nat → Nat} {tl : va_W} {lam : (Nat → Int64)} (hc : gOk x RX0 cX0_ask 8 7 200)  (σ : (Nat → Nat → Int32)) (l1 : Int32) (l2 : Int32) (l3 : Int32) (l4 : Int32) (l5 : Int32) (l6 : Int32) (hN : 36 ≤ N) {K : Int32 × (Nat → Nat → Int32) → Prop} {o : Int32 × (Nat → Nat → Int32)} (hf : f_X0_ask_b36 σ l1 l2 l3 l4 l5 l6 = some o) (hK : K o) (hR : ∀ o : Int32 × (Nat → Nat → Int32), K o → gRi x 0 0 (XW x.dA N ad o.2 lam ++ tl) o.1) : gG x 8 0 0 (XW x.dA N ad σ lam ++ tl) 36 [(0, .ref (ad 0)), (1, .int l1), (2, .int l2), (3, .int l3), (4, .int l4), (5, .int l5), (6, .int l6)] [] :=
  oLoop_ind (fun v : Int32 × Int32 × Int32 × (Nat → Nat → Int32) => gG x 8 0 0 (XW x.dA N ad v.2.2.2 lam ++ tl) 36 [(0, .ref (ad 0)), (1, .int l1), (2, .int l2), (3, .int l3), (4, .int v.1), (5, .int v.2.1), (6, .int v.2.2.1)] []) K (fun v o1 hf1 hK1 => w_X0_ask_L36 hc v.2.2.2 l1 l2 l3 v.1 v.2.1 v.2.2.1 hN (K := Sum.elim (fun v : Int32 × Int32 × Int32 × (Nat → Nat → Int32) => gG x 8 0 0 (XW x.dA N ad v.2.2.2 lam ++ tl) 36 [(0, .ref (ad 0)), (1, .int l1), (2, .int l2), (3, .int l3), (4, .int v.1), (5, .int v.2.1), (6, .int v.2.2.1)] []) K) hf1 hK1 (fun v hv => hv) hR) gFU _ o hf hK
def f_X0_ask (σ : (Nat → Nat → Int32)) (l1 : Int32) (l2 : Int32) : Option (Int32 × (Nat → Nat → Int32)) :=
  oB (f_X0_isHedgehog σ l1) fun r2 => if r2 = 0 then (some ((-1), σ)) else (oB (f_X0_isPart l2) fun r5 => if r5 = 0 then (some ((-1), σ)) else (oB (f_X0_speedsOf σ l1) fun r8 => oB (f_J7_bitCount r8.1) fun r10 => f_X0_ask_b36 r8.2 l1 l2 r8.1 r10 (-4) 0))
theorem w_X0_ask {x : gX} {N : Nat} {ad : Nat → Nat} {tl : va_W} {lam : (Nat → Int64)} (hc : gOk x RX0 cX0_ask 8 7 200)  (σ : (Nat → Nat → Int32)) (l1 : Int32) (l2 : Int32) (hN : 36 ≤ N) {K : Int32 × (Nat → Nat → Int32) → Prop} {o : Int32 × (Nat → Nat → Int32)} (hf : f_X0_ask σ l1 l2 = some o) (hK : K o) (hR : ∀ o : Int32 × (Nat → Nat → Int32), K o → gRi x 0 0 (XW x.dA N ad o.2 lam ++ tl) o.1) : gG x 8 0 0 (XW x.dA N ad σ lam ++ tl) 0 [(0, .ref (ad 0)), (1, .int l1), (2, .int l2)] [] := by
  unfold f_X0_ask at hf
  refine g_aload_n hc dX0_ask_0 rfl 0 rfl ?_
  refine g_iload_n hc dX0_ask_1 rfl 1 rfl ?_
  obtain ⟨r2, h1, hf⟩ := oB_some hf
  refine g_callVi hc [.int l1] [] (c_X0_isHedgehog hN h1) (XW_at (k := 0) (Nat.lt_of_lt_of_le (by decide) hN)) rfl (lw_V q622 q624 qs19 q60 q625) rfl hd_X0_isHedgehog rfl rfl (Nat.le_of_ble_eq_true rfl) gZ dX0_ask_2 ?_
  refine g_if_eq (tgt := 15) hc dX0_ask_5 (by decide) (fun h3 => ?_) (fun h3 => ?_)
  · have hf := oT h3 hf
    refine g_iconst (v := (-1)) hc dX0_ask_15 (by decide) ?_
    have hz := Option.some.inj hf; subst hz
    exact g_iret hc (hR _ hK) dX0_ask_16
  · have hf := oF h3 hf
    refine g_iload_n hc dX0_ask_8 rfl 2 rfl ?_
    obtain ⟨r5, h4, hf⟩ := oB_some hf
    refine g_callSi hc [.int l2] [] (c_X0_isPart  h4) (lw_S q722 q723 q60 q724) rfl hd_X0_isPart rfl rfl (Nat.le_of_ble_eq_true rfl) gZ dX0_ask_9 ?_
    refine g_if_ne (tgt := 17) hc dX0_ask_12 (by decide) (fun h6 => ?_) (fun h6 => ?_)
    · have hf := oF h6 hf
      refine g_aload_n hc dX0_ask_17 rfl 0 rfl ?_
      refine g_iload_n hc dX0_ask_18 rfl 1 rfl ?_
      obtain ⟨r8, h7, hf⟩ := oB_some hf
      refine g_callVi hc [.int l1] [] (c_X0_speedsOf hN h7) (XW_at (k := 0) (Nat.lt_of_lt_of_le (by decide) hN)) rfl (lw_V q808 q810 qs29 q60 q811) rfl hd_X0_speedsOf rfl rfl (Nat.le_of_ble_eq_true rfl) gZ dX0_ask_19 ?_
      refine g_istore_n (lv' := [(3, .int r8.1), (0, .ref (ad 0)), (1, .int l1), (2, .int l2)]) hc dX0_ask_22 rfl (by decide) rfl ?_
      refine g_iload_n hc dX0_ask_23 rfl 0 rfl ?_
      obtain ⟨r10, h9, hf⟩ := oB_some hf
      refine g_callSi hc [.int r8.1] [] (c_J7_bitCount  h9) (lw_S q700 q701 q78 q702) rfl hd_J7_bitCount rfl rfl (Nat.le_of_ble_eq_true rfl) gZ dX0_ask_24 ?_
      refine g_istore (lv' := [(4, .int r10), (3, .int r8.1), (0, .ref (ad 0)), (1, .int l1), (2, .int l2)]) hc dX0_ask_27 (by decide) rfl ?_
      refine g_bipush (v := (-4)) hc dX0_ask_29 (by decide) ?_
      refine g_istore (lv' := [(5, .int (-4)), (4, .int r10), (3, .int r8.1), (0, .ref (ad 0)), (1, .int l1), (2, .int l2)]) hc dX0_ask_31 (by decide) rfl ?_
      refine g_iconst (v := 0) hc dX0_ask_33 (by decide) ?_
      refine g_istore (lv' := [(6, .int 0), (5, .int (-4)), (4, .int r10), (3, .int r8.1), (0, .ref (ad 0)), (1, .int l1), (2, .int l2)]) hc dX0_ask_34 (by decide) rfl ?_
      exact g_lv [4, 5, 6, 3, 2, 1, 0] rfl (w_X0_ask_b36 hc r8.2 l1 l2 r8.1 r10 (-4) 0 hN (K := K) hf hK hR)
    · have hf := oT h6 hf
      refine g_iconst (v := (-1)) hc dX0_ask_15 (by decide) ?_
      have hz := Option.some.inj hf; subst hz
      exact g_iret hc (hR _ hK) dX0_ask_16
theorem c_X0_ask {l : Launch} {D : va_G} {dA : Nat → ClassId} {N : Nat} {ad : Nat → Nat} {tl : va_W} {lam : (Nat → Int64)} {σ : (Nat → Nat → Int32)} {l1 : Int32} {l2 : Int32} (hN : 36 ≤ N) {o : Int32 × (Nat → Nat → Int32)} (hf : f_X0_ask σ l1 l2 = some o) : gI l D dA (XW dA N ad σ lam ++ tl) (XW dA N ad o.2 lam ++ tl) [.ref (ad 0), .int l1, .int l2] o.1 yX0_ask (ws_ yX0_ask cX0_ask 8 (some .int)) ({ frames := 7, cells := 0, slots := 0, locals := 200 } : Room) :=
  g_startI (own := RX0) ⟨rfl, rfl⟩ (by decide) rfl (Nat.le_of_ble_eq_true rfl) (fun x e hc hR => by
    subst e
    exact w_X0_ask hc σ l1 l2 hN (K := fun o1 => o1 = o) hf rfl (by rintro _ rfl; exact hR))
theorem hd_X0_ask : yX0_ask.cls = RX0 ∧ yX0_ask.cls ≠ "java/lang/invoke/MethodHandle" ∧ yX0_ask.cls ≠ "java/lang/invoke/VarHandle" ∧ (parseMethodDescriptor yX0_ask.desc).map (fun d => d.parameters.length) = some 2 := by decide +kernel
/-! HedgehogLots.drift(III)I -/
def f_X0_drift_b214 (σ : (Nat → Nat → Int32)) (l2 : Int32) (l3 : Int32) (l4 : Int32) (l5 : Int32) (l6 : Int32) (l7 : Int32) : Option ((Int32 × Int32 × Int32 × Int32 × (Nat → Nat → Int32)) ⊕ (Int32 × (Nat → Nat → Int32))) :=
  some (.inl (l4, l5, l6, (l7 + 1), σ))
theorem w_X0_drift_b214 {x : gX} {N : Nat} {ad : Nat → Nat} {tl : va_W} {lam : (Nat → Int64)} (hc : gOk x RX0 cX0_drift 10 5 152)  (σ : (Nat → Nat → Int32)) (l2 : Int32) (l3 : Int32) (l4 : Int32) (l5 : Int32) (l6 : Int32) (l7 : Int32) (hN : 36 ≤ N) {K : (Int32 × Int32 × Int32 × Int32 × (Nat → Nat → Int32)) ⊕ (Int32 × (Nat → Nat → Int32)) → Prop} {o : (Int32 × Int32 × Int32 × Int32 × (Nat → Nat → Int32)) ⊕ (Int32 × (Nat → Nat → Int32))} (hf : f_X0_drift_b214 σ l2 l3 l4 l5 l6 l7 = some o) (hK : K o) (hI57 : ∀ v : Int32 × Int32 × Int32 × Int32 × (Nat → Nat → Int32), K (.inl v) → gG x 10 0 0 (XW x.dA N ad v.2.2.2.2 lam ++ tl) 57 [(0, .ref (ad 0)), (2, .int l2), (3, .int l3), (4, .int v.1), (5, .int v.2.1), (6, .int v.2.2.1), (7, .int v.2.2.2.1)] []) (hR : ∀ o : Int32 × (Nat → Nat → Int32), K (.inr (o)) → gRi x 0 0 (XW x.dA N ad o.2 lam ++ tl) o.1) : gG x 10 0 0 (XW x.dA N ad σ lam ++ tl) 214 [(0, .ref (ad 0)), (2, .int l2), (3, .int l3), (4, .int l4), (5, .int l5), (6, .int l6), (7, .int l7)] [] := by
  unfold f_X0_drift_b214 at hf
  refine g_iinc (v := l7 + 1) (lv' := [(7, .int (l7 + 1)), (0, .ref (ad 0)), (2, .int l2), (3, .int l3), (4, .int l4), (5, .int l5), (6, .int l6)]) hc dX0_drift_214 (j := 6) rfl rfl (by decide) rfl ?_
  refine g_goto (tgt := 57) hc dX0_drift_217 (by decide) ?_
  have hz := Option.some.inj hf; subst hz
  exact g_lv [1, 2, 3, 4, 5, 6, 0] rfl (hI57 _ hK)
def f_X0_drift_b213 (σ : (Nat → Nat → Int32)) (l2 : Int32) (l3 : Int32) (l4 : Int32) (l5 : Int32) (l6 : Int32) (l7 : Int32) (k3 : Int32) (k2 : Int32) : Option ((Int32 × Int32 × Int32 × Int32 × (Nat → Nat → Int32)) ⊕ (Int32 × (Nat → Nat → Int32))) :=
  oC (inb k2 7) <| oL (upd2 σ (sb 1 + 1) k2.toNatClampNeg (nbt k3)) fun s1 => f_X0_drift_b214 s1 l2 l3 l4 l5 l6 l7
theorem w_X0_drift_b213 {x : gX} {N : Nat} {ad : Nat → Nat} {tl : va_W} {lam : (Nat → Int64)} (hc : gOk x RX0 cX0_drift 10 5 152)  (σ : (Nat → Nat → Int32)) (l2 : Int32) (l3 : Int32) (l4 : Int32) (l5 : Int32) (l6 : Int32) (l7 : Int32) (k3 : Int32) (k2 : Int32) (hN : 36 ≤ N) {K : (Int32 × Int32 × Int32 × Int32 × (Nat → Nat → Int32)) ⊕ (Int32 × (Nat → Nat → Int32)) → Prop} {o : (Int32 × Int32 × Int32 × Int32 × (Nat → Nat → Int32)) ⊕ (Int32 × (Nat → Nat → Int32))} (hf : f_X0_drift_b213 σ l2 l3 l4 l5 l6 l7 k3 k2 = some o) (hK : K o) (hI57 : ∀ v : Int32 × Int32 × Int32 × Int32 × (Nat → Nat → Int32), K (.inl v) → gG x 10 0 0 (XW x.dA N ad v.2.2.2.2 lam ++ tl) 57 [(0, .ref (ad 0)), (2, .int l2), (3, .int l3), (4, .int v.1), (5, .int v.2.1), (6, .int v.2.2.1), (7, .int v.2.2.2.1)] []) (hR : ∀ o : Int32 × (Nat → Nat → Int32), K (.inr (o)) → gRi x 0 0 (XW x.dA N ad o.2 lam ++ tl) o.1) : gG x 10 0 0 (XW x.dA N ad σ lam ++ tl) 213 [(0, .ref (ad 0)), (2, .int l2), (3, .int l3), (4, .int l4), (5, .int l5), (6, .int l6), (7, .int l7)] [.int k3, .int k2, .ref (ad (sb 1 + 1))] := by
  unfold f_X0_drift_b213 at hf
  obtain ⟨h3, hf⟩ := oC_some hf
  obtain ⟨s1, e2, hf⟩ := oL_some hf
  refine g_bast (n := 7) (f := σ (sb 1 + 1)) hc (XW_s1 (gSl 1 hN (by decide))) h3 (XW_pa (σ1 := s1) (gSl 1 hN (by decide)) (k := 1) (by decide) e2 rfl) dX0_drift_213 ?_
  exact g_lv [0, 1, 2, 3, 4, 5, 6] rfl (w_X0_drift_b214 hc s1 l2 l3 l4 l5 l6 l7 hN (K := K) hf hK hI57 hR)
def f_X0_drift_b169 (σ : (Nat → Nat → Int32)) (l2 : Int32) (l3 : Int32) (l4 : Int32) (l5 : Int32) (l7 : Int32) (l9 : Int32) (k2 : Int32) (k1 : Int32) : Option ((Int32 × Int32 × Int32 × Int32 × (Nat → Nat → Int32)) ⊕ (Int32 × (Nat → Nat → Int32))) :=
  oB (f_X5_isFree σ 1 l9) fun r2 => if r2 = 0 then (oC (inb (σ 0 8) 7) <| f_X0_drift_b213 σ l2 l3 l4 l5 (k1 + k2) l7 (σ (sb 1 + 1) (σ 0 8).toNatClampNeg) (σ 0 8)) else (f_X0_drift_b213 σ l2 l3 l4 l5 (k1 + k2) l7 (Int8.toInt32 (Int32.toInt8 l9)) (σ 0 8))
theorem w_X0_drift_b169 {x : gX} {N : Nat} {ad : Nat → Nat} {tl : va_W} {lam : (Nat → Int64)} (hc : gOk x RX0 cX0_drift 10 5 152)  (σ : (Nat → Nat → Int32)) (l2 : Int32) (l3 : Int32) (l4 : Int32) (l5 : Int32) (l7 : Int32) (l9 : Int32) (k2 : Int32) (k1 : Int32) (hN : 36 ≤ N) {K : (Int32 × Int32 × Int32 × Int32 × (Nat → Nat → Int32)) ⊕ (Int32 × (Nat → Nat → Int32)) → Prop} {o : (Int32 × Int32 × Int32 × Int32 × (Nat → Nat → Int32)) ⊕ (Int32 × (Nat → Nat → Int32))} (hf : f_X0_drift_b169 σ l2 l3 l4 l5 l7 l9 k2 k1 = some o) (hK : K o) (hI57 : ∀ v : Int32 × Int32 × Int32 × Int32 × (Nat → Nat → Int32), K (.inl v) → gG x 10 0 0 (XW x.dA N ad v.2.2.2.2 lam ++ tl) 57 [(0, .ref (ad 0)), (2, .int l2), (3, .int l3), (4, .int v.1), (5, .int v.2.1), (6, .int v.2.2.1), (7, .int v.2.2.2.1)] []) (hR : ∀ o : Int32 × (Nat → Nat → Int32), K (.inr (o)) → gRi x 0 0 (XW x.dA N ad o.2 lam ++ tl) o.1) : gG x 10 0 0 (XW x.dA N ad σ lam ++ tl) 169 [(0, .ref (ad 0)), (2, .int l2), (3, .int l3), (4, .int l4), (5, .int l5), (7, .int l7), (9, .int l9)] [.int k2, .int k1] := by
  unfold f_X0_drift_b169 at hf
  refine g_iadd hc dX0_drift_169 ?_
  refine g_istore (lv' := [(6, .int (k1 + k2)), (0, .ref (ad 0)), (2, .int l2), (3, .int l3), (4, .int l4), (5, .int l5), (7, .int l7), (9, .int l9)]) hc dX0_drift_170 (by decide) rfl ?_
  refine g_aload_n hc dX0_drift_172 rfl 1 rfl ?_
  refine g_get (v := .ref (ad (sb 1))) hc in_X0 (XW_at (k := 0) (Nat.lt_of_lt_of_le (by decide) hN)) rfl 2 (by decide) q186 rfl dX0_drift_173 ?_
  refine g_getN (v := .ref (ad (sb 1 + 1))) hc in_X5 (XW_s0 (gSl 1 hN (by decide))) rfl 1 (by decide) 2 rfl rfl dX0_drift_176 ?_
  refine g_aload_n hc dX0_drift_179 rfl 1 rfl ?_
  refine g_get (v := .int (σ 0 8)) hc in_X0 (XW_at (k := 0) (Nat.lt_of_lt_of_le (by decide) hN)) rfl 8 (by decide) q192 rfl dX0_drift_180 ?_
  refine g_aload_n hc dX0_drift_183 rfl 1 rfl ?_
  refine g_get (v := .ref (ad (sb 1))) hc in_X0 (XW_at (k := 0) (Nat.lt_of_lt_of_le (by decide) hN)) rfl 2 (by decide) q186 rfl dX0_drift_184 ?_
  refine g_iload hc dX0_drift_187 7 rfl ?_
  obtain ⟨r2, h1, hf⟩ := oB_some hf
  refine g_callVi hc [.int l9] [.int (σ 0 8), .ref (ad (sb 1 + 1))] (c_X5_isFree hN (gSl 1 hN (by decide)) h1) (XW_s0 (gSl 1 hN (by decide))) rfl (lw_V q636 q490 q491 q65 q492) rfl hd_X5_isFree rfl rfl (Nat.le_of_ble_eq_true rfl) gZ dX0_drift_189 ?_
  refine g_if_eq (tgt := 201) hc dX0_drift_192 (by decide) (fun h3 => ?_) (fun h3 => ?_)
  · have hf := oT h3 hf
    refine g_aload_n hc dX0_drift_201 rfl 1 rfl ?_
    refine g_get (v := .ref (ad (sb 1))) hc in_X0 (XW_at (k := 0) (Nat.lt_of_lt_of_le (by decide) hN)) rfl 2 (by decide) q186 rfl dX0_drift_202 ?_
    refine g_getN (v := .ref (ad (sb 1 + 1))) hc in_X5 (XW_s0 (gSl 1 hN (by decide))) rfl 1 (by decide) 2 rfl rfl dX0_drift_205 ?_
    refine g_aload_n hc dX0_drift_208 rfl 1 rfl ?_
    refine g_get (v := .int (σ 0 8)) hc in_X0 (XW_at (k := 0) (Nat.lt_of_lt_of_le (by decide) hN)) rfl 8 (by decide) q192 rfl dX0_drift_209 ?_
    obtain ⟨h4, hf⟩ := oC_some hf
    refine g_bald (n := 7) (f := σ (sb 1 + 1)) hc (XW_s1 (gSl 1 hN (by decide))) h4 dX0_drift_212 ?_
    exact g_lv [1, 2, 3, 4, 5, 0, 6] rfl (w_X0_drift_b213 hc σ l2 l3 l4 l5 (k1 + k2) l7 (σ (sb 1 + 1) (σ 0 8).toNatClampNeg) (σ 0 8) hN (K := K) hf hK hI57 hR)
  · have hf := oF h3 hf
    refine g_iload hc dX0_drift_195 7 rfl ?_
    refine g_i2b hc dX0_drift_197 ?_
    refine g_goto (tgt := 213) hc dX0_drift_198 (by decide) ?_
    exact g_lv [1, 2, 3, 4, 5, 0, 6] rfl (w_X0_drift_b213 hc σ l2 l3 l4 l5 (k1 + k2) l7 (Int8.toInt32 (Int32.toInt8 l9)) (σ 0 8) hN (K := K) hf hK hI57 hR)
def f_X0_drift_L57 (σ : (Nat → Nat → Int32)) (l2 : Int32) (l3 : Int32) (l4 : Int32) (l5 : Int32) (l6 : Int32) (l7 : Int32) : Option ((Int32 × Int32 × Int32 × Int32 × (Nat → Nat → Int32)) ⊕ (Int32 × (Nat → Nat → Int32))) :=
  if l2 ≤ l7 then (oI (if l3 = 0 then (some (l5, σ)) else (some (l6, σ)))) else (oC (nz (σ (sb 0) 5)) <| oB (f_X0_runs σ 1 (((UInt32.toInt32 (Int32.toUInt32 ((l4 * 1103515245) + 12345) >>> (Int32.toUInt32 16 &&& Int32.toUInt32 31))) &&& 32767) - ((UInt32.toInt32 (Int32.toUInt32 ((l4 * 1103515245) + 12345) >>> (Int32.toUInt32 16 &&& Int32.toUInt32 31))) &&& 32767) / (σ (sb 0) 5) * (σ (sb 0) 5)) ((((UInt32.toInt32 (Int32.toUInt32 ((l4 * 1103515245) + 12345) >>> (Int32.toUInt32 16 &&& Int32.toUInt32 31))) &&& 32767) / 4) - (((UInt32.toInt32 (Int32.toUInt32 ((l4 * 1103515245) + 12345) >>> (Int32.toUInt32 16 &&& Int32.toUInt32 31))) &&& 32767) / 4) / 8 * 8) 0) fun r6 => if (r6 0 8) = (-4) then (f_X0_drift_b214 r6 l2 l3 ((l4 * 1103515245) + 12345) l5 l6 l7) else (oC (inb (r6 0 8) 7) <| if (r6 (sb 1 + 2) (r6 0 8).toNatClampNeg) = 0 then (f_X0_drift_b169 r6 l2 l3 ((l4 * 1103515245) + 12345) (l5 + 1) l7 ((10 * ((((UInt32.toInt32 (Int32.toUInt32 ((l4 * 1103515245) + 12345) >>> (Int32.toUInt32 16 &&& Int32.toUInt32 31))) &&& 32767) / 32) - (((UInt32.toInt32 (Int32.toUInt32 ((l4 * 1103515245) + 12345) >>> (Int32.toUInt32 16 &&& Int32.toUInt32 31))) &&& 32767) / 32) / 10 * 10)) + ((((UInt32.toInt32 (Int32.toUInt32 ((l4 * 1103515245) + 12345) >>> (Int32.toUInt32 16 &&& Int32.toUInt32 31))) &&& 32767) / 320) - (((UInt32.toInt32 (Int32.toUInt32 ((l4 * 1103515245) + 12345) >>> (Int32.toUInt32 16 &&& Int32.toUInt32 31))) &&& 32767) / 320) / 8 * 8)) 1 l6) else (f_X0_drift_b169 r6 l2 l3 ((l4 * 1103515245) + 12345) (l5 + 1) l7 ((10 * ((((UInt32.toInt32 (Int32.toUInt32 ((l4 * 1103515245) + 12345) >>> (Int32.toUInt32 16 &&& Int32.toUInt32 31))) &&& 32767) / 32) - (((UInt32.toInt32 (Int32.toUInt32 ((l4 * 1103515245) + 12345) >>> (Int32.toUInt32 16 &&& Int32.toUInt32 31))) &&& 32767) / 32) / 10 * 10)) + ((((UInt32.toInt32 (Int32.toUInt32 ((l4 * 1103515245) + 12345) >>> (Int32.toUInt32 16 &&& Int32.toUInt32 31))) &&& 32767) / 320) - (((UInt32.toInt32 (Int32.toUInt32 ((l4 * 1103515245) + 12345) >>> (Int32.toUInt32 16 &&& Int32.toUInt32 31))) &&& 32767) / 320) / 8 * 8)) 0 l6)))
theorem w_X0_drift_L57 {x : gX} {N : Nat} {ad : Nat → Nat} {tl : va_W} {lam : (Nat → Int64)} (hc : gOk x RX0 cX0_drift 10 5 152)  (σ : (Nat → Nat → Int32)) (l2 : Int32) (l3 : Int32) (l4 : Int32) (l5 : Int32) (l6 : Int32) (l7 : Int32) (hN : 36 ≤ N) {K : (Int32 × Int32 × Int32 × Int32 × (Nat → Nat → Int32)) ⊕ (Int32 × (Nat → Nat → Int32)) → Prop} {o : (Int32 × Int32 × Int32 × Int32 × (Nat → Nat → Int32)) ⊕ (Int32 × (Nat → Nat → Int32))} (hf : f_X0_drift_L57 σ l2 l3 l4 l5 l6 l7 = some o) (hK : K o) (hI57 : ∀ v : Int32 × Int32 × Int32 × Int32 × (Nat → Nat → Int32), K (.inl v) → gG x 10 0 0 (XW x.dA N ad v.2.2.2.2 lam ++ tl) 57 [(0, .ref (ad 0)), (2, .int l2), (3, .int l3), (4, .int v.1), (5, .int v.2.1), (6, .int v.2.2.1), (7, .int v.2.2.2.1)] []) (hR : ∀ o : Int32 × (Nat → Nat → Int32), K (.inr (o)) → gRi x 0 0 (XW x.dA N ad o.2 lam ++ tl) o.1) : gG x 10 0 0 (XW x.dA N ad σ lam ++ tl) 57 [(0, .ref (ad 0)), (2, .int l2), (3, .int l3), (4, .int l4), (5, .int l5), (6, .int l6), (7, .int l7)] [] := by
  unfold f_X0_drift_L57 at hf
  refine g_iload hc dX0_drift_57 6 rfl ?_
  refine g_iload_n hc dX0_drift_59 rfl 1 rfl ?_
  refine g_icmp_ge (tgt := 220) hc dX0_drift_60 (by decide) (fun h1 => ?_) (fun h1 => ?_)
  · have hf := oT h1 hf
    obtain ⟨o3, hgo3, eo3⟩ := oI_some hf
    clear hf; subst eo3; have hf := hgo3; clear hgo3
    refine g_iload_n hc dX0_drift_220 rfl 2 rfl ?_
    refine g_if_ne (tgt := 229) hc dX0_drift_221 (by decide) (fun h2 => ?_) (fun h2 => ?_)
    · have hf := oF h2 hf
      refine g_iload hc dX0_drift_229 5 rfl ?_
      have hz := Option.some.inj hf; subst hz
      exact g_iret hc (hR _ hK) dX0_drift_231
    · have hf := oT h2 hf
      refine g_iload hc dX0_drift_224 4 rfl ?_
      refine g_goto (tgt := 231) hc dX0_drift_226 (by decide) ?_
      have hz := Option.some.inj hf; subst hz
      exact g_iret hc (hR _ hK) dX0_drift_231
  · have hf := oF h1 hf
    refine g_iload hc dX0_drift_63 3 rfl ?_
    refine g_ldcw (v := 1103515245) hc q825 dX0_drift_65 ?_
    refine g_imul hc dX0_drift_68 ?_
    refine g_sipush (v := 12345) hc dX0_drift_69 (by decide) ?_
    refine g_iadd hc dX0_drift_72 ?_
    refine g_istore (lv' := [(4, .int ((l4 * 1103515245) + 12345)), (0, .ref (ad 0)), (2, .int l2), (3, .int l3), (5, .int l5), (6, .int l6), (7, .int l7)]) hc dX0_drift_73 (by decide) rfl ?_
    refine g_iload hc dX0_drift_75 0 rfl ?_
    refine g_bipush (v := 16) hc dX0_drift_77 (by decide) ?_
    refine g_iushr hc dX0_drift_79 ?_
    refine g_sipush (v := 32767) hc dX0_drift_80 (by decide) ?_
    refine g_iand hc dX0_drift_83 ?_
    refine g_istore (lv' := [(8, .int ((UInt32.toInt32 (Int32.toUInt32 ((l4 * 1103515245) + 12345) >>> (Int32.toUInt32 16 &&& Int32.toUInt32 31))) &&& 32767)), (4, .int ((l4 * 1103515245) + 12345)), (0, .ref (ad 0)), (2, .int l2), (3, .int l3), (5, .int l5), (6, .int l6), (7, .int l7)]) hc dX0_drift_84 (by decide) rfl ?_
    refine g_aload_n hc dX0_drift_86 rfl 2 rfl ?_
    refine g_aload_n hc dX0_drift_87 rfl 2 rfl ?_
    refine g_get (v := .ref (ad (sb 1))) hc in_X0 (XW_at (k := 0) (Nat.lt_of_lt_of_le (by decide) hN)) rfl 2 (by decide) q186 rfl dX0_drift_88 ?_
    refine g_iload hc dX0_drift_91 0 rfl ?_
    refine g_aload_n hc dX0_drift_93 rfl 2 rfl ?_
    refine g_get (v := .ref (ad (sb 0))) hc in_X0 (XW_at (k := 0) (Nat.lt_of_lt_of_le (by decide) hN)) rfl 1 (by decide) q185 rfl dX0_drift_94 ?_
    refine g_getN (v := .int (σ (sb 0) 5)) hc in_X5 (XW_s0 (gSl 0 hN (by decide))) rfl 5 (by decide) 8 rfl rfl dX0_drift_97 ?_
    obtain ⟨h4, hf⟩ := oC_some hf
    refine g_irem hc dX0_drift_100 (nz_ne h4) ?_
    refine g_iload hc dX0_drift_101 0 rfl ?_
    refine g_iconst (v := 4) hc dX0_drift_103 (by decide) ?_
    refine g_idiv hc dX0_drift_104 (by decide) ?_
    refine g_bipush (v := 8) hc dX0_drift_105 (by decide) ?_
    refine g_irem hc dX0_drift_107 (by decide) ?_
    refine g_iconst (v := 0) hc dX0_drift_108 (by decide) ?_
    obtain ⟨r6, h5, hf⟩ := oB_some hf
    refine g_callVv hc [.ref (ad (sb 1)), .int (((UInt32.toInt32 (Int32.toUInt32 ((l4 * 1103515245) + 12345) >>> (Int32.toUInt32 16 &&& Int32.toUInt32 31))) &&& 32767) - ((UInt32.toInt32 (Int32.toUInt32 ((l4 * 1103515245) + 12345) >>> (Int32.toUInt32 16 &&& Int32.toUInt32 31))) &&& 32767) / (σ (sb 0) 5) * (σ (sb 0) 5)), .int ((((UInt32.toInt32 (Int32.toUInt32 ((l4 * 1103515245) + 12345) >>> (Int32.toUInt32 16 &&& Int32.toUInt32 31))) &&& 32767) / 4) - (((UInt32.toInt32 (Int32.toUInt32 ((l4 * 1103515245) + 12345) >>> (Int32.toUInt32 16 &&& Int32.toUInt32 31))) &&& 32767) / 4) / 8 * 8), .int 0] [] (c_X0_runs hN (gSl 1 hN (by decide)) h5) (XW_at (k := 0) (Nat.lt_of_lt_of_le (by decide) hN)) rfl (lw_V q540 q542 qs14 q60 q543) rfl hd_X0_runs rfl rfl (Nat.le_of_ble_eq_true rfl) gZ dX0_drift_109 ?_
    refine g_aload_n hc dX0_drift_112 rfl 2 rfl ?_
    refine g_get (v := .int (r6 0 8)) hc in_X0 (XW_at (k := 0) (Nat.lt_of_lt_of_le (by decide) hN)) rfl 8 (by decide) q192 rfl dX0_drift_113 ?_
    refine g_bipush (v := (-4)) hc dX0_drift_116 (by decide) ?_
    refine g_icmp_eq (tgt := 214) hc dX0_drift_118 (by decide) (fun h7 => ?_) (fun h7 => ?_)
    · have hf := oT h7 hf
      exact g_lv [2, 3, 4, 1, 5, 6, 7] rfl (w_X0_drift_b214 hc r6 l2 l3 ((l4 * 1103515245) + 12345) l5 l6 l7 hN (K := K) hf hK hI57 hR)
    · have hf := oF h7 hf
      refine g_bipush (v := 10) hc dX0_drift_121 (by decide) ?_
      refine g_iload hc dX0_drift_123 0 rfl ?_
      refine g_bipush (v := 32) hc dX0_drift_125 (by decide) ?_
      refine g_idiv hc dX0_drift_127 (by decide) ?_
      refine g_bipush (v := 10) hc dX0_drift_128 (by decide) ?_
      refine g_irem hc dX0_drift_130 (by decide) ?_
      refine g_imul hc dX0_drift_131 ?_
      refine g_iload hc dX0_drift_132 0 rfl ?_
      refine g_sipush (v := 320) hc dX0_drift_134 (by decide) ?_
      refine g_idiv hc dX0_drift_137 (by decide) ?_
      refine g_bipush (v := 8) hc dX0_drift_138 (by decide) ?_
      refine g_irem hc dX0_drift_140 (by decide) ?_
      refine g_iadd hc dX0_drift_141 ?_
      refine g_istore (lv' := [(9, .int ((10 * ((((UInt32.toInt32 (Int32.toUInt32 ((l4 * 1103515245) + 12345) >>> (Int32.toUInt32 16 &&& Int32.toUInt32 31))) &&& 32767) / 32) - (((UInt32.toInt32 (Int32.toUInt32 ((l4 * 1103515245) + 12345) >>> (Int32.toUInt32 16 &&& Int32.toUInt32 31))) &&& 32767) / 32) / 10 * 10)) + ((((UInt32.toInt32 (Int32.toUInt32 ((l4 * 1103515245) + 12345) >>> (Int32.toUInt32 16 &&& Int32.toUInt32 31))) &&& 32767) / 320) - (((UInt32.toInt32 (Int32.toUInt32 ((l4 * 1103515245) + 12345) >>> (Int32.toUInt32 16 &&& Int32.toUInt32 31))) &&& 32767) / 320) / 8 * 8))), (8, .int ((UInt32.toInt32 (Int32.toUInt32 ((l4 * 1103515245) + 12345) >>> (Int32.toUInt32 16 &&& Int32.toUInt32 31))) &&& 32767)), (4, .int ((l4 * 1103515245) + 12345)), (0, .ref (ad 0)), (2, .int l2), (3, .int l3), (5, .int l5), (6, .int l6), (7, .int l7)]) hc dX0_drift_142 (by decide) rfl ?_
      refine g_iinc (v := l5 + 1) (lv' := [(5, .int (l5 + 1)), (9, .int ((10 * ((((UInt32.toInt32 (Int32.toUInt32 ((l4 * 1103515245) + 12345) >>> (Int32.toUInt32 16 &&& Int32.toUInt32 31))) &&& 32767) / 32) - (((UInt32.toInt32 (Int32.toUInt32 ((l4 * 1103515245) + 12345) >>> (Int32.toUInt32 16 &&& Int32.toUInt32 31))) &&& 32767) / 32) / 10 * 10)) + ((((UInt32.toInt32 (Int32.toUInt32 ((l4 * 1103515245) + 12345) >>> (Int32.toUInt32 16 &&& Int32.toUInt32 31))) &&& 32767) / 320) - (((UInt32.toInt32 (Int32.toUInt32 ((l4 * 1103515245) + 12345) >>> (Int32.toUInt32 16 &&& Int32.toUInt32 31))) &&& 32767) / 320) / 8 * 8))), (8, .int ((UInt32.toInt32 (Int32.toUInt32 ((l4 * 1103515245) + 12345) >>> (Int32.toUInt32 16 &&& Int32.toUInt32 31))) &&& 32767)), (4, .int ((l4 * 1103515245) + 12345)), (0, .ref (ad 0)), (2, .int l2), (3, .int l3), (6, .int l6), (7, .int l7)]) hc dX0_drift_144 (j := 6) rfl rfl (by decide) rfl ?_
      refine g_iload hc dX0_drift_147 7 rfl ?_
      refine g_aload_n hc dX0_drift_149 rfl 4 rfl ?_
      refine g_get (v := .ref (ad (sb 1))) hc in_X0 (XW_at (k := 0) (Nat.lt_of_lt_of_le (by decide) hN)) rfl 2 (by decide) q186 rfl dX0_drift_150 ?_
      refine g_getN (v := .ref (ad (sb 1 + 2))) hc in_X5 (XW_s0 (gSl 1 hN (by decide))) rfl 2 (by decide) 3 rfl rfl dX0_drift_153 ?_
      refine g_aload_n hc dX0_drift_156 rfl 4 rfl ?_
      refine g_get (v := .int (r6 0 8)) hc in_X0 (XW_at (k := 0) (Nat.lt_of_lt_of_le (by decide) hN)) rfl 8 (by decide) q192 rfl dX0_drift_157 ?_
      obtain ⟨h8, hf⟩ := oC_some hf
      refine g_bald (n := 7) (f := r6 (sb 1 + 2)) hc (XW_s2 (gSl 1 hN (by decide))) h8 dX0_drift_160 ?_
      refine g_if_ne (tgt := 168) hc dX0_drift_161 (by decide) (fun h9 => ?_) (fun h9 => ?_)
      · have hf := oF h9 hf
        refine g_iconst (v := 0) hc dX0_drift_168 (by decide) ?_
        exact g_lv [4, 5, 6, 3, 0, 8, 1] rfl (w_X0_drift_b169 hc r6 l2 l3 ((l4 * 1103515245) + 12345) (l5 + 1) l7 ((10 * ((((UInt32.toInt32 (Int32.toUInt32 ((l4 * 1103515245) + 12345) >>> (Int32.toUInt32 16 &&& Int32.toUInt32 31))) &&& 32767) / 32) - (((UInt32.toInt32 (Int32.toUInt32 ((l4 * 1103515245) + 12345) >>> (Int32.toUInt32 16 &&& Int32.toUInt32 31))) &&& 32767) / 32) / 10 * 10)) + ((((UInt32.toInt32 (Int32.toUInt32 ((l4 * 1103515245) + 12345) >>> (Int32.toUInt32 16 &&& Int32.toUInt32 31))) &&& 32767) / 320) - (((UInt32.toInt32 (Int32.toUInt32 ((l4 * 1103515245) + 12345) >>> (Int32.toUInt32 16 &&& Int32.toUInt32 31))) &&& 32767) / 320) / 8 * 8)) 0 l6 hN (K := K) hf hK hI57 hR)
      · have hf := oT h9 hf
        refine g_iconst (v := 1) hc dX0_drift_164 (by decide) ?_
        refine g_goto (tgt := 169) hc dX0_drift_165 (by decide) ?_
        exact g_lv [4, 5, 6, 3, 0, 8, 1] rfl (w_X0_drift_b169 hc r6 l2 l3 ((l4 * 1103515245) + 12345) (l5 + 1) l7 ((10 * ((((UInt32.toInt32 (Int32.toUInt32 ((l4 * 1103515245) + 12345) >>> (Int32.toUInt32 16 &&& Int32.toUInt32 31))) &&& 32767) / 32) - (((UInt32.toInt32 (Int32.toUInt32 ((l4 * 1103515245) + 12345) >>> (Int32.toUInt32 16 &&& Int32.toUInt32 31))) &&& 32767) / 32) / 10 * 10)) + ((((UInt32.toInt32 (Int32.toUInt32 ((l4 * 1103515245) + 12345) >>> (Int32.toUInt32 16 &&& Int32.toUInt32 31))) &&& 32767) / 320) - (((UInt32.toInt32 (Int32.toUInt32 ((l4 * 1103515245) + 12345) >>> (Int32.toUInt32 16 &&& Int32.toUInt32 31))) &&& 32767) / 320) / 8 * 8)) 1 l6 hN (K := K) hf hK hI57 hR)
def f_X0_drift_b57 (σ : (Nat → Nat → Int32)) (l2 : Int32) (l3 : Int32) (l4 : Int32) (l5 : Int32) (l6 : Int32) (l7 : Int32) : Option (Int32 × (Nat → Nat → Int32)) :=
  oLoop gFU (fun v : Int32 × Int32 × Int32 × Int32 × (Nat → Nat → Int32) => f_X0_drift_L57 v.2.2.2.2 l2 l3 v.1 v.2.1 v.2.2.1 v.2.2.2.1) (l4, l5, l6, l7, σ)
theorem w_X0_drift_b57 {x : gX} {N : Nat} {ad : Nat → Nat} {tl : va_W} {lam : (Nat → Int64)} (hc : gOk x RX0 cX0_drift 10 5 152)  (σ : (Nat → Nat → Int32)) (l2 : Int32) (l3 : Int32) (l4 : Int32) (l5 : Int32) (l6 : Int32) (l7 : Int32) (hN : 36 ≤ N) {K : Int32 × (Nat → Nat → Int32) → Prop} {o : Int32 × (Nat → Nat → Int32)} (hf : f_X0_drift_b57 σ l2 l3 l4 l5 l6 l7 = some o) (hK : K o) (hR : ∀ o : Int32 × (Nat → Nat → Int32), K o → gRi x 0 0 (XW x.dA N ad o.2 lam ++ tl) o.1) : gG x 10 0 0 (XW x.dA N ad σ lam ++ tl) 57 [(0, .ref (ad 0)), (2, .int l2), (3, .int l3), (4, .int l4), (5, .int l5), (6, .int l6), (7, .int l7)] [] :=
  oLoop_ind (fun v : Int32 × Int32 × Int32 × Int32 × (Nat → Nat → Int32) => gG x 10 0 0 (XW x.dA N ad v.2.2.2.2 lam ++ tl) 57 [(0, .ref (ad 0)), (2, .int l2), (3, .int l3), (4, .int v.1), (5, .int v.2.1), (6, .int v.2.2.1), (7, .int v.2.2.2.1)] []) K (fun v o1 hf1 hK1 => w_X0_drift_L57 hc v.2.2.2.2 l2 l3 v.1 v.2.1 v.2.2.1 v.2.2.2.1 hN (K := Sum.elim (fun v : Int32 × Int32 × Int32 × Int32 × (Nat → Nat → Int32) => gG x 10 0 0 (XW x.dA N ad v.2.2.2.2 lam ++ tl) 57 [(0, .ref (ad 0)), (2, .int l2), (3, .int l3), (4, .int v.1), (5, .int v.2.1), (6, .int v.2.2.1), (7, .int v.2.2.2.1)] []) K) hf1 hK1 (fun v hv => hv) hR) gFU _ o hf hK
def f_X0_drift (σ : (Nat → Nat → Int32)) (l1 : Int32) (l2 : Int32) (l3 : Int32) : Option (Int32 × (Nat → Nat → Int32)) :=
  oB (f_X0_in (Int32.toInt64 l2) 1 60) fun r2 => if r2 = 0 then (some ((-1), σ)) else (oB (f_X0_isPart l3) fun r5 => if r5 = 0 then (some ((-1), σ)) else (if (σ (sb 0) 5) = 0 then (some ((-2), σ)) else (oB (f_X5_as σ 1 0) fun r9 => f_X0_drift_b57 r9 l2 l3 l1 0 0 0)))
theorem w_X0_drift {x : gX} {N : Nat} {ad : Nat → Nat} {tl : va_W} {lam : (Nat → Int64)} (hc : gOk x RX0 cX0_drift 10 5 152)  (σ : (Nat → Nat → Int32)) (l1 : Int32) (l2 : Int32) (l3 : Int32) (hN : 36 ≤ N) {K : Int32 × (Nat → Nat → Int32) → Prop} {o : Int32 × (Nat → Nat → Int32)} (hf : f_X0_drift σ l1 l2 l3 = some o) (hK : K o) (hR : ∀ o : Int32 × (Nat → Nat → Int32), K o → gRi x 0 0 (XW x.dA N ad o.2 lam ++ tl) o.1) : gG x 10 0 0 (XW x.dA N ad σ lam ++ tl) 0 [(0, .ref (ad 0)), (1, .int l1), (2, .int l2), (3, .int l3)] [] := by
  unfold f_X0_drift at hf
  refine g_iload_n hc dX0_drift_0 rfl 2 rfl ?_
  refine g_i2l hc dX0_drift_1 ?_
  refine g_lconst (v := 1) hc dX0_drift_2 (by decide) ?_
  refine g_ldc2 (v := 60) hc q824 dX0_drift_3 ?_
  obtain ⟨r2, h1, hf⟩ := oB_some hf
  refine g_callSi hc [.long (Int32.toInt64 l2), .long 1, .long 60] [] (c_X0_in  h1) (lw_S q260 q261 q60 q262) rfl hd_X0_in rfl rfl (Nat.le_of_ble_eq_true rfl) gZ dX0_drift_6 ?_
  refine g_if_eq (tgt := 19) hc dX0_drift_9 (by decide) (fun h3 => ?_) (fun h3 => ?_)
  · have hf := oT h3 hf
    refine g_iconst (v := (-1)) hc dX0_drift_19 (by decide) ?_
    have hz := Option.some.inj hf; subst hz
    exact g_iret hc (hR _ hK) dX0_drift_20
  · have hf := oF h3 hf
    refine g_iload_n hc dX0_drift_12 rfl 3 rfl ?_
    obtain ⟨r5, h4, hf⟩ := oB_some hf
    refine g_callSi hc [.int l3] [] (c_X0_isPart  h4) (lw_S q722 q723 q60 q724) rfl hd_X0_isPart rfl rfl (Nat.le_of_ble_eq_true rfl) gZ dX0_drift_13 ?_
    refine g_if_ne (tgt := 21) hc dX0_drift_16 (by decide) (fun h6 => ?_) (fun h6 => ?_)
    · have hf := oF h6 hf
      refine g_aload_n hc dX0_drift_21 rfl 0 rfl ?_
      refine g_get (v := .ref (ad (sb 0))) hc in_X0 (XW_at (k := 0) (Nat.lt_of_lt_of_le (by decide) hN)) rfl 1 (by decide) q185 rfl dX0_drift_22 ?_
      refine g_getN (v := .int (σ (sb 0) 5)) hc in_X5 (XW_s0 (gSl 0 hN (by decide))) rfl 5 (by decide) 8 rfl rfl dX0_drift_25 ?_
      refine g_if_ne (tgt := 34) hc dX0_drift_28 (by decide) (fun h7 => ?_) (fun h7 => ?_)
      · have hf := oF h7 hf
        refine g_aload_n hc dX0_drift_34 rfl 0 rfl ?_
        refine g_get (v := .ref (ad (sb 1))) hc in_X0 (XW_at (k := 0) (Nat.lt_of_lt_of_le (by decide) hN)) rfl 2 (by decide) q186 rfl dX0_drift_35 ?_
        refine g_aload_n hc dX0_drift_38 rfl 0 rfl ?_
        refine g_get (v := .ref (ad (sb 0))) hc in_X0 (XW_at (k := 0) (Nat.lt_of_lt_of_le (by decide) hN)) rfl 1 (by decide) q185 rfl dX0_drift_39 ?_
        obtain ⟨r9, h8, hf⟩ := oB_some hf
        refine g_callVv hc [.ref (ad (sb 0))] [] (c_X5_as hN (gSl 1 hN (by decide)) (gSl 0 hN (by decide)) h8) (XW_s0 (gSl 1 hN (by decide))) rfl (lw_V q521 q522 q523 q65 q524) rfl hd_X5_as rfl rfl (Nat.le_of_ble_eq_true rfl) gZ dX0_drift_42 ?_
        refine g_iload_n hc dX0_drift_45 rfl 1 rfl ?_
        refine g_istore (lv' := [(4, .int l1), (0, .ref (ad 0)), (1, .int l1), (2, .int l2), (3, .int l3)]) hc dX0_drift_46 (by decide) rfl ?_
        refine g_iconst (v := 0) hc dX0_drift_48 (by decide) ?_
        refine g_istore (lv' := [(5, .int 0), (4, .int l1), (0, .ref (ad 0)), (1, .int l1), (2, .int l2), (3, .int l3)]) hc dX0_drift_49 (by decide) rfl ?_
        refine g_iconst (v := 0) hc dX0_drift_51 (by decide) ?_
        refine g_istore (lv' := [(6, .int 0), (5, .int 0), (4, .int l1), (0, .ref (ad 0)), (1, .int l1), (2, .int l2), (3, .int l3)]) hc dX0_drift_52 (by decide) rfl ?_
        refine g_iconst (v := 0) hc dX0_drift_54 (by decide) ?_
        refine g_istore (lv' := [(7, .int 0), (6, .int 0), (5, .int 0), (4, .int l1), (0, .ref (ad 0)), (1, .int l1), (2, .int l2), (3, .int l3)]) hc dX0_drift_55 (by decide) rfl ?_
        exact g_lv [4, 6, 7, 3, 2, 1, 0] rfl (w_X0_drift_b57 hc r9 l2 l3 l1 0 0 0 hN (K := K) hf hK hR)
      · have hf := oT h7 hf
        refine g_bipush (v := (-2)) hc dX0_drift_31 (by decide) ?_
        have hz := Option.some.inj hf; subst hz
        exact g_iret hc (hR _ hK) dX0_drift_33
    · have hf := oT h6 hf
      refine g_iconst (v := (-1)) hc dX0_drift_19 (by decide) ?_
      have hz := Option.some.inj hf; subst hz
      exact g_iret hc (hR _ hK) dX0_drift_20
theorem c_X0_drift {l : Launch} {D : va_G} {dA : Nat → ClassId} {N : Nat} {ad : Nat → Nat} {tl : va_W} {lam : (Nat → Int64)} {σ : (Nat → Nat → Int32)} {l1 : Int32} {l2 : Int32} {l3 : Int32} (hN : 36 ≤ N) {o : Int32 × (Nat → Nat → Int32)} (hf : f_X0_drift σ l1 l2 l3 = some o) : gI l D dA (XW dA N ad σ lam ++ tl) (XW dA N ad o.2 lam ++ tl) [.ref (ad 0), .int l1, .int l2, .int l3] o.1 yX0_drift (ws_ yX0_drift cX0_drift 10 (some .int)) ({ frames := 5, cells := 0, slots := 0, locals := 152 } : Room) :=
  g_startI (own := RX0) ⟨rfl, rfl⟩ (by decide) rfl (Nat.le_of_ble_eq_true rfl) (fun x e hc hR => by
    subst e
    exact w_X0_drift hc σ l1 l2 l3 hN (K := fun o1 => o1 = o) hf rfl (by rintro _ rfl; exact hR))
theorem hd_X0_drift : yX0_drift.cls = RX0 ∧ yX0_drift.cls ≠ "java/lang/invoke/MethodHandle" ∧ yX0_drift.cls ≠ "java/lang/invoke/VarHandle" ∧ (parseMethodDescriptor yX0_drift.desc).map (fun d => d.parameters.length) = some 3 := by decide +kernel
/-! HedgehogLots.keep(I)I -/
def f_X0_keep (σ : (Nat → Nat → Int32)) (l1 : Int32) : Option (Int32 × (Nat → Nat → Int32)) :=
  oB (f_X0_in (Int32.toInt64 l1) 0 1) fun r2 => if r2 = 0 then (some ((-1), σ)) else (oC (inb l1 2) <| oB (f_X5_as σ (2 + l1.toNatClampNeg) 0) fun r6 => oL (upd2 r6 0 4 ((r6 0 4) ||| ((1 : Int32) <<< (l1 &&& 31)))) fun s7 => some ((((σ 0 4) >>> (l1 &&& 31)) &&& 1), s7))
theorem w_X0_keep {x : gX} {N : Nat} {ad : Nat → Nat} {tl : va_W} {lam : (Nat → Int64)} (hc : gOk x RX0 cX0_keep 3 2 101)  (σ : (Nat → Nat → Int32)) (l1 : Int32) (hN : 36 ≤ N) {K : Int32 × (Nat → Nat → Int32) → Prop} {o : Int32 × (Nat → Nat → Int32)} (hf : f_X0_keep σ l1 = some o) (hK : K o) (hR : ∀ o : Int32 × (Nat → Nat → Int32), K o → gRi x 0 0 (XW x.dA N ad o.2 lam ++ tl) o.1) : gG x 3 0 0 (XW x.dA N ad σ lam ++ tl) 0 [(0, .ref (ad 0)), (1, .int l1)] [] := by
  unfold f_X0_keep at hf
  refine g_iload_n hc dX0_keep_0 rfl 1 rfl ?_
  refine g_i2l hc dX0_keep_1 ?_
  refine g_lconst (v := 0) hc dX0_keep_2 (by decide) ?_
  refine g_lconst (v := 1) hc dX0_keep_3 (by decide) ?_
  obtain ⟨r2, h1, hf⟩ := oB_some hf
  refine g_callSi hc [.long (Int32.toInt64 l1), .long 0, .long 1] [] (c_X0_in  h1) (lw_S q260 q261 q60 q262) rfl hd_X0_in rfl rfl (Nat.le_of_ble_eq_true rfl) gZ dX0_keep_4 ?_
  refine g_if_ne (tgt := 12) hc dX0_keep_7 (by decide) (fun h3 => ?_) (fun h3 => ?_)
  · have hf := oF h3 hf
    refine g_aload_n hc dX0_keep_12 rfl 0 rfl ?_
    refine g_get (v := .int (σ 0 4)) hc in_X0 (XW_at (k := 0) (Nat.lt_of_lt_of_le (by decide) hN)) rfl 4 (by decide) q188 rfl dX0_keep_13 ?_
    refine g_iload_n hc dX0_keep_16 rfl 1 rfl ?_
    refine g_ishr hc dX0_keep_17 ?_
    refine g_iconst (v := 1) hc dX0_keep_18 (by decide) ?_
    refine g_iand hc dX0_keep_19 ?_
    refine g_istore_n (lv' := [(2, .int (((σ 0 4) >>> (l1 &&& 31)) &&& 1)), (0, .ref (ad 0)), (1, .int l1)]) hc dX0_keep_20 rfl (by decide) rfl ?_
    refine g_aload_n hc dX0_keep_21 rfl 1 rfl ?_
    refine g_get (v := .ref (ad 10)) hc in_X0 (XW_at (k := 0) (Nat.lt_of_lt_of_le (by decide) hN)) rfl 3 (by decide) q187 rfl dX0_keep_22 ?_
    refine g_iload_n hc dX0_keep_25 rfl 2 rfl ?_
    obtain ⟨h4, hf⟩ := oC_some hf
    refine g_aald (v := ad (sb (2 + l1.toNatClampNeg))) hc 5 (XW_at (k := 10) (Nat.lt_of_lt_of_le (by decide) hN)) rfl h4 rfl dX0_keep_26 ?_
    refine g_aload_n hc dX0_keep_27 rfl 1 rfl ?_
    refine g_get (v := .ref (ad (sb 0))) hc in_X0 (XW_at (k := 0) (Nat.lt_of_lt_of_le (by decide) hN)) rfl 1 (by decide) q185 rfl dX0_keep_28 ?_
    obtain ⟨r6, h5, hf⟩ := oB_some hf
    refine g_callVv hc [.ref (ad (sb 0))] [] (c_X5_as hN (gSi hN h4) (gSl 0 hN (by decide)) h5) (XW_s0 (gSi hN h4)) rfl (lw_V q521 q522 q523 q65 q524) rfl hd_X5_as rfl rfl (Nat.le_of_ble_eq_true rfl) gZ dX0_keep_31 ?_
    refine g_aload_n hc dX0_keep_34 rfl 1 rfl ?_
    refine g_dup hc dX0_keep_35 rfl ?_
    refine g_get (v := .int (r6 0 4)) hc in_X0 (XW_at (k := 0) (Nat.lt_of_lt_of_le (by decide) hN)) rfl 4 (by decide) q188 rfl dX0_keep_36 ?_
    refine g_iconst (v := 1) hc dX0_keep_39 (by decide) ?_
    refine g_iload_n hc dX0_keep_40 rfl 2 rfl ?_
    refine g_ishl hc dX0_keep_41 ?_
    refine g_ior hc dX0_keep_42 ?_
    obtain ⟨s7, e8, hf⟩ := oL_some hf
    refine g_put (v := .int ((r6 0 4) ||| ((1 : Int32) <<< (l1 &&& 31)))) hc in_X0 tyX0_ok nmX0 (XW_at (k := 0) (Nat.lt_of_lt_of_le (by decide) hN)) rfl 4 (by decide) q188 rfl rfl rfl (Nat.le_of_ble_eq_true rfl) (XW_set (σ1 := s7) (k := 0) (Nat.lt_of_lt_of_le (by decide) hN) e8 rfl) dX0_keep_43 ?_
    refine g_iload_n hc dX0_keep_46 rfl 0 rfl ?_
    have hz := Option.some.inj hf; subst hz
    exact g_iret hc (hR _ hK) dX0_keep_47
  · have hf := oT h3 hf
    refine g_iconst (v := (-1)) hc dX0_keep_10 (by decide) ?_
    have hz := Option.some.inj hf; subst hz
    exact g_iret hc (hR _ hK) dX0_keep_11
theorem c_X0_keep {l : Launch} {D : va_G} {dA : Nat → ClassId} {N : Nat} {ad : Nat → Nat} {tl : va_W} {lam : (Nat → Int64)} {σ : (Nat → Nat → Int32)} {l1 : Int32} (hN : 36 ≤ N) {o : Int32 × (Nat → Nat → Int32)} (hf : f_X0_keep σ l1 = some o) : gI l D dA (XW dA N ad σ lam ++ tl) (XW dA N ad o.2 lam ++ tl) [.ref (ad 0), .int l1] o.1 yX0_keep (ws_ yX0_keep cX0_keep 3 (some .int)) ({ frames := 2, cells := 0, slots := 0, locals := 101 } : Room) :=
  g_startI (own := RX0) ⟨rfl, rfl⟩ (by decide) rfl (Nat.le_of_ble_eq_true rfl) (fun x e hc hR => by
    subst e
    exact w_X0_keep hc σ l1 hN (K := fun o1 => o1 = o) hf rfl (by rintro _ rfl; exact hR))
theorem hd_X0_keep : yX0_keep.cls = RX0 ∧ yX0_keep.cls ≠ "java/lang/invoke/MethodHandle" ∧ yX0_keep.cls ≠ "java/lang/invoke/VarHandle" ∧ (parseMethodDescriptor yX0_keep.desc).map (fun d => d.parameters.length) = some 1 := by decide +kernel
/-! HedgehogLots.back(I)I -/
def f_X0_back (σ : (Nat → Nat → Int32)) (l1 : Int32) : Option (Int32 × (Nat → Nat → Int32)) :=
  oB (f_X0_in (Int32.toInt64 l1) 0 1) fun r2 => if r2 = 0 then (some ((-1), σ)) else (oB (f_X0_has (σ 0 4) l1) fun r5 => if r5 = 0 then (some ((-2), σ)) else (oC (inb l1 2) <| oB (f_X5_as σ 0 (2 + l1.toNatClampNeg)) fun r9 => oB (f_X0_wonByAny r9 0) fun r11 => oB (f_J7_bitCount r11.1) fun r13 => some (r13, r11.2)))
theorem w_X0_back {x : gX} {N : Nat} {ad : Nat → Nat} {tl : va_W} {lam : (Nat → Int64)} (hc : gOk x RX0 cX0_back 2 8 221)  (σ : (Nat → Nat → Int32)) (l1 : Int32) (hN : 36 ≤ N) {K : Int32 × (Nat → Nat → Int32) → Prop} {o : Int32 × (Nat → Nat → Int32)} (hf : f_X0_back σ l1 = some o) (hK : K o) (hR : ∀ o : Int32 × (Nat → Nat → Int32), K o → gRi x 0 0 (XW x.dA N ad o.2 lam ++ tl) o.1) : gG x 2 0 0 (XW x.dA N ad σ lam ++ tl) 0 [(0, .ref (ad 0)), (1, .int l1)] [] := by
  unfold f_X0_back at hf
  refine g_iload_n hc dX0_back_0 rfl 1 rfl ?_
  refine g_i2l hc dX0_back_1 ?_
  refine g_lconst (v := 0) hc dX0_back_2 (by decide) ?_
  refine g_lconst (v := 1) hc dX0_back_3 (by decide) ?_
  obtain ⟨r2, h1, hf⟩ := oB_some hf
  refine g_callSi hc [.long (Int32.toInt64 l1), .long 0, .long 1] [] (c_X0_in  h1) (lw_S q260 q261 q60 q262) rfl hd_X0_in rfl rfl (Nat.le_of_ble_eq_true rfl) gZ dX0_back_4 ?_
  refine g_if_ne (tgt := 12) hc dX0_back_7 (by decide) (fun h3 => ?_) (fun h3 => ?_)
  · have hf := oF h3 hf
    refine g_aload_n hc dX0_back_12 rfl 0 rfl ?_
    refine g_get (v := .int (σ 0 4)) hc in_X0 (XW_at (k := 0) (Nat.lt_of_lt_of_le (by decide) hN)) rfl 4 (by decide) q188 rfl dX0_back_13 ?_
    refine g_iload_n hc dX0_back_16 rfl 1 rfl ?_
    obtain ⟨r5, h4, hf⟩ := oB_some hf
    refine g_callSi hc [.int (σ 0 4), .int l1] [] (c_X0_has  h4) (lw_S q583 q584 q60 q585) rfl hd_X0_has rfl rfl (Nat.le_of_ble_eq_true rfl) gZ dX0_back_17 ?_
    refine g_if_ne (tgt := 26) hc dX0_back_20 (by decide) (fun h6 => ?_) (fun h6 => ?_)
    · have hf := oF h6 hf
      refine g_aload_n hc dX0_back_26 rfl 0 rfl ?_
      refine g_get (v := .ref (ad (sb 0))) hc in_X0 (XW_at (k := 0) (Nat.lt_of_lt_of_le (by decide) hN)) rfl 1 (by decide) q185 rfl dX0_back_27 ?_
      refine g_aload_n hc dX0_back_30 rfl 0 rfl ?_
      refine g_get (v := .ref (ad 10)) hc in_X0 (XW_at (k := 0) (Nat.lt_of_lt_of_le (by decide) hN)) rfl 3 (by decide) q187 rfl dX0_back_31 ?_
      refine g_iload_n hc dX0_back_34 rfl 1 rfl ?_
      obtain ⟨h7, hf⟩ := oC_some hf
      refine g_aald (v := ad (sb (2 + l1.toNatClampNeg))) hc 5 (XW_at (k := 10) (Nat.lt_of_lt_of_le (by decide) hN)) rfl h7 rfl dX0_back_35 ?_
      obtain ⟨r9, h8, hf⟩ := oB_some hf
      refine g_callVv hc [.ref (ad (sb (2 + l1.toNatClampNeg)))] [] (c_X5_as hN (gSl 0 hN (by decide)) (gSi hN h7) h8) (XW_s0 (gSl 0 hN (by decide))) rfl (lw_V q521 q522 q523 q65 q524) rfl hd_X5_as rfl rfl (Nat.le_of_ble_eq_true rfl) gZ dX0_back_36 ?_
      refine g_aload_n hc dX0_back_39 rfl 0 rfl ?_
      refine g_aload_n hc dX0_back_40 rfl 0 rfl ?_
      refine g_get (v := .ref (ad (sb 0))) hc in_X0 (XW_at (k := 0) (Nat.lt_of_lt_of_le (by decide) hN)) rfl 1 (by decide) q185 rfl dX0_back_41 ?_
      obtain ⟨r11, h10, hf⟩ := oB_some hf
      refine g_callVi hc [.ref (ad (sb 0))] [] (c_X0_wonByAny hN (gSl 0 hN (by decide)) h10) (XW_at (k := 0) (Nat.lt_of_lt_of_le (by decide) hN)) rfl (lw_V q593 q595 qs15 q60 q596) rfl hd_X0_wonByAny rfl rfl (Nat.le_of_ble_eq_true rfl) gZ dX0_back_44 ?_
      obtain ⟨r13, h12, hf⟩ := oB_some hf
      refine g_callSi hc [.int r11.1] [] (c_J7_bitCount  h12) (lw_S q700 q701 q78 q702) rfl hd_J7_bitCount rfl rfl (Nat.le_of_ble_eq_true rfl) gZ dX0_back_47 ?_
      have hz := Option.some.inj hf; subst hz
      exact g_iret hc (hR _ hK) dX0_back_50
    · have hf := oT h6 hf
      refine g_bipush (v := (-2)) hc dX0_back_23 (by decide) ?_
      have hz := Option.some.inj hf; subst hz
      exact g_iret hc (hR _ hK) dX0_back_25
  · have hf := oT h3 hf
    refine g_iconst (v := (-1)) hc dX0_back_10 (by decide) ?_
    have hz := Option.some.inj hf; subst hz
    exact g_iret hc (hR _ hK) dX0_back_11
theorem c_X0_back {l : Launch} {D : va_G} {dA : Nat → ClassId} {N : Nat} {ad : Nat → Nat} {tl : va_W} {lam : (Nat → Int64)} {σ : (Nat → Nat → Int32)} {l1 : Int32} (hN : 36 ≤ N) {o : Int32 × (Nat → Nat → Int32)} (hf : f_X0_back σ l1 = some o) : gI l D dA (XW dA N ad σ lam ++ tl) (XW dA N ad o.2 lam ++ tl) [.ref (ad 0), .int l1] o.1 yX0_back (ws_ yX0_back cX0_back 2 (some .int)) ({ frames := 8, cells := 0, slots := 0, locals := 221 } : Room) :=
  g_startI (own := RX0) ⟨rfl, rfl⟩ (by decide) rfl (Nat.le_of_ble_eq_true rfl) (fun x e hc hR => by
    subst e
    exact w_X0_back hc σ l1 hN (K := fun o1 => o1 = o) hf rfl (by rintro _ rfl; exact hR))
theorem hd_X0_back : yX0_back.cls = RX0 ∧ yX0_back.cls ≠ "java/lang/invoke/MethodHandle" ∧ yX0_back.cls ≠ "java/lang/invoke/VarHandle" ∧ (parseMethodDescriptor yX0_back.desc).map (fun d => d.parameters.length) = some 1 := by decide +kernel
/-! HedgehogLots.isSheet(II)Z -/
def f_X0_isSheet (l0 : Int32) (l1 : Int32) : Option (Int32) :=
  oB (f_X0_in (Int32.toInt64 l0) 0 3) fun r2 => if r2 = 0 then (some 0) else (oB (f_X0_in (Int32.toInt64 l1) 0 2) fun r5 => if r5 = 0 then (some 0) else (some 1))
theorem w_X0_isSheet {x : gX} {Φ : va_W}  (hc : gOk x RX0 cX0_isSheet 2 1 25)  (l0 : Int32) (l1 : Int32)  {K : Int32 → Prop} {o : Int32} (hf : f_X0_isSheet l0 l1 = some o) (hK : K o) (hR : ∀ o : Int32, K o → gRz x 0 0 (Φ) o) : gG x 2 0 0 (Φ) 0 [(0, .int l0), (1, .int l1)] [] := by
  unfold f_X0_isSheet at hf
  refine g_iload_n hc dX0_isSheet_0 rfl 0 rfl ?_
  refine g_i2l hc dX0_isSheet_1 ?_
  refine g_lconst (v := 0) hc dX0_isSheet_2 (by decide) ?_
  refine g_ldc2 (v := 3) hc q626 dX0_isSheet_3 ?_
  obtain ⟨r2, h1, hf⟩ := oB_some hf
  refine g_callSi hc [.long (Int32.toInt64 l0), .long 0, .long 3] [] (c_X0_in  h1) (lw_S q260 q261 q60 q262) rfl hd_X0_in rfl rfl (Nat.le_of_ble_eq_true rfl) gZ dX0_isSheet_6 ?_
  refine g_if_eq (tgt := 28) hc dX0_isSheet_9 (by decide) (fun h3 => ?_) (fun h3 => ?_)
  · have hf := oT h3 hf
    refine g_iconst (v := 0) hc dX0_isSheet_28 (by decide) ?_
    have hz := Option.some.inj hf; subst hz
    exact g_zret hc (hR _ hK) rfl dX0_isSheet_29
  · have hf := oF h3 hf
    refine g_iload_n hc dX0_isSheet_12 rfl 1 rfl ?_
    refine g_i2l hc dX0_isSheet_13 ?_
    refine g_lconst (v := 0) hc dX0_isSheet_14 (by decide) ?_
    refine g_ldc2 (v := 2) hc q613 dX0_isSheet_15 ?_
    obtain ⟨r5, h4, hf⟩ := oB_some hf
    refine g_callSi hc [.long (Int32.toInt64 l1), .long 0, .long 2] [] (c_X0_in  h4) (lw_S q260 q261 q60 q262) rfl hd_X0_in rfl rfl (Nat.le_of_ble_eq_true rfl) gZ dX0_isSheet_18 ?_
    refine g_if_eq (tgt := 28) hc dX0_isSheet_21 (by decide) (fun h6 => ?_) (fun h6 => ?_)
    · have hf := oT h6 hf
      refine g_iconst (v := 0) hc dX0_isSheet_28 (by decide) ?_
      have hz := Option.some.inj hf; subst hz
      exact g_zret hc (hR _ hK) rfl dX0_isSheet_29
    · have hf := oF h6 hf
      refine g_iconst (v := 1) hc dX0_isSheet_24 (by decide) ?_
      refine g_goto (tgt := 29) hc dX0_isSheet_25 (by decide) ?_
      have hz := Option.some.inj hf; subst hz
      exact g_zret hc (hR _ hK) rfl dX0_isSheet_29
theorem c_X0_isSheet {l : Launch} {D : va_G} {dA : Nat → ClassId} {Φ : va_W}  {l0 : Int32} {l1 : Int32}  {o : Int32} (hf : f_X0_isSheet l0 l1 = some o) : gI l D dA (Φ) (Φ) [.int l0, .int l1] o yX0_isSheet (ws_ yX0_isSheet cX0_isSheet 2 (some .boolean)) ({ frames := 1, cells := 0, slots := 0, locals := 25 } : Room) :=
  g_startZ (own := RX0) ⟨rfl, rfl⟩ (by decide) rfl (Nat.le_of_ble_eq_true rfl) (fun x e hc hR => by
    subst e
    exact w_X0_isSheet hc l0 l1  (K := fun o1 => o1 = o) hf rfl (by rintro _ rfl; exact hR))
theorem hd_X0_isSheet : yX0_isSheet.cls ≠ "java/lang/invoke/MethodHandle" ∧ yX0_isSheet.cls ≠ "java/lang/invoke/VarHandle" ∧ (parseMethodDescriptor yX0_isSheet.desc).map (fun d => d.parameters.length) = some 2 := by decide +kernel
/-! HedgehogLots.torn()I -/
def f_X0_torn (σ : (Nat → Nat → Int32)) : Option (Int32) :=
  some (σ 0 22)
theorem w_X0_torn {x : gX} {N : Nat} {ad : Nat → Nat} {tl : va_W} {lam : (Nat → Int64)} (hc : gOk x RX0 cX0_torn 1 0 0)  (σ : (Nat → Nat → Int32)) (hN : 36 ≤ N) {K : Int32 → Prop} {o : Int32} (hf : f_X0_torn σ = some o) (hK : K o) (hR : ∀ o : Int32, K o → gRi x 0 0 (XW x.dA N ad σ lam ++ tl) o) : gG x 1 0 0 (XW x.dA N ad σ lam ++ tl) 0 [(0, .ref (ad 0))] [] := by
  unfold f_X0_torn at hf
  refine g_aload_n hc dX0_torn_0 rfl 0 rfl ?_
  refine g_get (v := .int (σ 0 22)) hc in_X0 (XW_at (k := 0) (Nat.lt_of_lt_of_le (by decide) hN)) rfl 22 (by decide) q207 rfl dX0_torn_1 ?_
  have hz := Option.some.inj hf; subst hz
  exact g_iret hc (hR _ hK) dX0_torn_4
theorem c_X0_torn {l : Launch} {D : va_G} {dA : Nat → ClassId} {N : Nat} {ad : Nat → Nat} {tl : va_W} {lam : (Nat → Int64)} {σ : (Nat → Nat → Int32)} (hN : 36 ≤ N) {o : Int32} (hf : f_X0_torn σ = some o) : gI l D dA (XW dA N ad σ lam ++ tl) (XW dA N ad σ lam ++ tl) [.ref (ad 0)] o yX0_torn (ws_ yX0_torn cX0_torn 1 (some .int)) ({ frames := 0, cells := 0, slots := 0, locals := 0 } : Room) :=
  g_startI (own := RX0) ⟨rfl, rfl⟩ (by decide) rfl (Nat.le_of_ble_eq_true rfl) (fun x e hc hR => by
    subst e
    exact w_X0_torn hc σ hN (K := fun o1 => o1 = o) hf rfl (by rintro _ rfl; exact hR))
theorem hd_X0_torn : yX0_torn.cls = RX0 ∧ yX0_torn.cls ≠ "java/lang/invoke/MethodHandle" ∧ yX0_torn.cls ≠ "java/lang/invoke/VarHandle" ∧ (parseMethodDescriptor yX0_torn.desc).map (fun d => d.parameters.length) = some 0 := by decide +kernel
