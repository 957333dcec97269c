/-! ===== the Reader's methods ===== -/
set_option maxRecDepth 100000
variable {kS : gKS}
/-! HedgehogLots$Reader.isIn(CC)Z -/
def f_X8_isIn (σ : (Nat → Nat → Int32)) (l1 : Int32) (l2 : Int32) : Option (Int32) :=
  if (σ 42 0) ≤ (σ 42 3) then (some 0) else (oC (inb (σ 42 3) 160) <| if (σ 8 (σ 42 3).toNatClampNeg) < l1 then (some 0) else (oC (inb (σ 42 3) 160) <| if l2 < (σ 8 (σ 42 3).toNatClampNeg) then (some 0) else (some 1)))
theorem w_X8_isIn {x : gX} {N : Nat} {ad : Nat → Nat} {tl : va_W} {lam : (Nat → Int64)} (hc : gOk x RX8 cX8_isIn 3 0 0)  (σ : (Nat → Nat → Int32)) (l1 : Int32) (l2 : Int32) (hN : 43 ≤ N) {K : Int32 → Prop} {o : Int32} (hf : f_X8_isIn σ l1 l2 = some o) (hK : K o) (hR : ∀ o : Int32, K o → gRz x 0 0 (XW x.dA N ad σ lam ++ tl) o) : gG x 3 0 0 (XW x.dA N ad σ lam ++ tl) 0 [(0, .ref (ad 42)), (1, .int l1), (2, .int l2)] [] := by
  unfold f_X8_isIn at hf
  refine g_aload_n hc dX8_isIn_0 rfl 0 rfl ?_
  refine g_get (v := .int (σ 42 3)) hc in_X8 (XW_at (k := 42) (Nat.lt_of_lt_of_le (by decide) hN)) rfl 3 (by decide) q380 rfl dX8_isIn_1 ?_
  refine g_aload_n hc dX8_isIn_4 rfl 0 rfl ?_
  refine g_get (v := .int (σ 42 0)) hc in_X8 (XW_at (k := 42) (Nat.lt_of_lt_of_le (by decide) hN)) rfl 0 (by decide) q376 rfl dX8_isIn_5 ?_
  refine g_icmp_ge (tgt := 47) hc dX8_isIn_8 (by decide) (fun h1 => ?_) (fun h1 => ?_)
  · have hf := oT h1 hf
    refine g_iconst (v := 0) hc dX8_isIn_47 (by decide) ?_
    have hz := Option.some.inj hf; subst hz
    exact g_zret hc (hR _ hK) rfl dX8_isIn_48
  · have hf := oF h1 hf
    refine g_aload_n hc dX8_isIn_11 rfl 0 rfl ?_
    refine g_get (v := .ref (ad 0)) hc in_X8 (XW_at (k := 42) (Nat.lt_of_lt_of_le (by decide) hN)) rfl 7 (by decide) q384 rfl dX8_isIn_12 ?_
    refine g_getN (v := .ref (ad 8)) hc in_X0 (XW_at (k := 0) (Nat.lt_of_lt_of_le (by decide) hN)) rfl 12 (by decide) 16 rfl rfl dX8_isIn_15 ?_
    refine g_aload_n hc dX8_isIn_18 rfl 0 rfl ?_
    refine g_get (v := .int (σ 42 3)) hc in_X8 (XW_at (k := 42) (Nat.lt_of_lt_of_le (by decide) hN)) rfl 3 (by decide) q380 rfl dX8_isIn_19 ?_
    obtain ⟨h2, hf⟩ := oC_some hf
    refine g_bald (n := 160) (f := σ 8) hc (XW_at (k := 8) (Nat.lt_of_lt_of_le (by decide) hN)) h2 dX8_isIn_22 ?_
    refine g_iload_n hc dX8_isIn_23 rfl 1 rfl ?_
    refine g_icmp_lt (tgt := 47) hc dX8_isIn_24 (by decide) (fun h3 => ?_) (fun h3 => ?_)
    · have hf := oT h3 hf
      refine g_iconst (v := 0) hc dX8_isIn_47 (by decide) ?_
      have hz := Option.some.inj hf; subst hz
      exact g_zret hc (hR _ hK) rfl dX8_isIn_48
    · have hf := oF h3 hf
      refine g_aload_n hc dX8_isIn_27 rfl 0 rfl ?_
      refine g_get (v := .ref (ad 0)) hc in_X8 (XW_at (k := 42) (Nat.lt_of_lt_of_le (by decide) hN)) rfl 7 (by decide) q384 rfl dX8_isIn_28 ?_
      refine g_getN (v := .ref (ad 8)) hc in_X0 (XW_at (k := 0) (Nat.lt_of_lt_of_le (by decide) hN)) rfl 12 (by decide) 16 rfl rfl dX8_isIn_31 ?_
      refine g_aload_n hc dX8_isIn_34 rfl 0 rfl ?_
      refine g_get (v := .int (σ 42 3)) hc in_X8 (XW_at (k := 42) (Nat.lt_of_lt_of_le (by decide) hN)) rfl 3 (by decide) q380 rfl dX8_isIn_35 ?_
      obtain ⟨h4, hf⟩ := oC_some hf
      refine g_bald (n := 160) (f := σ 8) hc (XW_at (k := 8) (Nat.lt_of_lt_of_le (by decide) hN)) h4 dX8_isIn_38 ?_
      refine g_iload_n hc dX8_isIn_39 rfl 2 rfl ?_
      refine g_icmp_gt (tgt := 47) hc dX8_isIn_40 (by decide) (fun h5 => ?_) (fun h5 => ?_)
      · have hf := oT h5 hf
        refine g_iconst (v := 0) hc dX8_isIn_47 (by decide) ?_
        have hz := Option.some.inj hf; subst hz
        exact g_zret hc (hR _ hK) rfl dX8_isIn_48
      · have hf := oF h5 hf
        refine g_iconst (v := 1) hc dX8_isIn_43 (by decide) ?_
        refine g_goto (tgt := 48) hc dX8_isIn_44 (by decide) ?_
        have hz := Option.some.inj hf; subst hz
        exact g_zret hc (hR _ hK) rfl dX8_isIn_48
theorem c_X8_isIn {l : Launch} {D : va_G} {dA : Nat → ClassId} {N : Nat} {ad : Nat → Nat} {tl : va_W} {lam : (Nat → Int64)} {σ : (Nat → Nat → Int32)} {l1 : Int32} {l2 : Int32} (hN : 43 ≤ N) {o : Int32} (hf : f_X8_isIn σ l1 l2 = some o) : gI l D dA (XW dA N ad σ lam ++ tl) (XW dA N ad σ lam ++ tl) [.ref (ad 42), .int l1, .int l2] o yX8_isIn (ws_ yX8_isIn cX8_isIn 3 (some .boolean)) ({ frames := 0, cells := 0, slots := 0, locals := 0 } : Room) :=
  g_startZ (own := RX8) ⟨rfl, rfl⟩ (by decide) rfl (Nat.le_of_ble_eq_true rfl) (fun x e hc hR => by
    subst e
    exact w_X8_isIn hc σ l1 l2 hN (K := fun o1 => o1 = o) hf rfl (by rintro _ rfl; exact hR))
theorem hd_X8_isIn : yX8_isIn.cls = RX8 ∧ yX8_isIn.cls ≠ "java/lang/invoke/MethodHandle" ∧ yX8_isIn.cls ≠ "java/lang/invoke/VarHandle" ∧ (parseMethodDescriptor yX8_isIn.desc).map (fun d => d.parameters.length) = some 2 := by decide +kernel
/-! HedgehogLots$Reader.hasRoom(I)Z -/
def f_X8_hasRoom (σ : (Nat → Nat → Int32)) (l1 : Int32) : Option (Int32) :=
  if 4 ≤ l1 then (if l1 = 4 then (if 7 ≤ (σ (sb 4) 0) then (some 0) else (some 1)) else (if l1 = 5 then (if 4 ≤ (σ (sb 4) 3) then (some 0) else (some 1)) else (if 6 ≤ (σ (sb 4) 7) then (some 0) else (some 1)))) else (if 4 ≤ (σ (sb 4) 5) then (some 0) else (some 1))
theorem w_X8_hasRoom {x : gX} {N : Nat} {ad : Nat → Nat} {tl : va_W} {lam : (Nat → Int64)} (hc : gOk x RX8 cX8_hasRoom 2 0 0)  (σ : (Nat → Nat → Int32)) (l1 : Int32) (hN : 43 ≤ N) {K : Int32 → Prop} {o : Int32} (hf : f_X8_hasRoom σ l1 = some o) (hK : K o) (hR : ∀ o : Int32, K o → gRz x 0 0 (XW x.dA N ad σ lam ++ tl) o) : gG x 2 0 0 (XW x.dA N ad σ lam ++ tl) 0 [(0, .ref (ad 42)), (1, .int l1)] [] := by
  unfold f_X8_hasRoom at hf
  refine g_iload_n hc dX8_hasRoom_0 rfl 1 rfl ?_
  refine g_iconst (v := 4) hc dX8_hasRoom_1 (by decide) ?_
  refine g_icmp_ge (tgt := 24) hc dX8_hasRoom_2 (by decide) (fun h1 => ?_) (fun h1 => ?_)
  · have hf := oT h1 hf
    refine g_iload_n hc dX8_hasRoom_24 rfl 1 rfl ?_
    refine g_iconst (v := 4) hc dX8_hasRoom_25 (by decide) ?_
    refine g_icmp_ne (tgt := 49) hc dX8_hasRoom_26 (by decide) (fun h2 => ?_) (fun h2 => ?_)
    · have hf := oF h2 hf
      refine g_iload_n hc dX8_hasRoom_49 rfl 1 rfl ?_
      refine g_iconst (v := 5) hc dX8_hasRoom_50 (by decide) ?_
      refine g_icmp_ne (tgt := 73) hc dX8_hasRoom_51 (by decide) (fun h3 => ?_) (fun h3 => ?_)
      · have hf := oF h3 hf
        refine g_aload_n hc dX8_hasRoom_73 rfl 0 rfl ?_
        refine g_get (v := .ref (ad (sb 4))) hc in_X8 (XW_at (k := 42) (Nat.lt_of_lt_of_le (by decide) hN)) rfl 1 (by decide) q377 rfl dX8_hasRoom_74 ?_
        refine g_getN (v := .int (σ (sb 4) 7)) hc in_X5 (XW_s0 (gS8 hN)) rfl 7 (by decide) 12 rfl rfl dX8_hasRoom_77 ?_
        refine g_bipush (v := 6) hc dX8_hasRoom_80 (by decide) ?_
        refine g_icmp_ge (tgt := 89) hc dX8_hasRoom_82 (by decide) (fun h4 => ?_) (fun h4 => ?_)
        · have hf := oT h4 hf
          refine g_iconst (v := 0) hc dX8_hasRoom_89 (by decide) ?_
          have hz := Option.some.inj hf; subst hz
          exact g_zret hc (hR _ hK) rfl dX8_hasRoom_90
        · have hf := oF h4 hf
          refine g_iconst (v := 1) hc dX8_hasRoom_85 (by decide) ?_
          refine g_goto (tgt := 90) hc dX8_hasRoom_86 (by decide) ?_
          have hz := Option.some.inj hf; subst hz
          exact g_zret hc (hR _ hK) rfl dX8_hasRoom_90
      · have hf := oT h3 hf
        refine g_aload_n hc dX8_hasRoom_54 rfl 0 rfl ?_
        refine g_get (v := .ref (ad (sb 4))) hc in_X8 (XW_at (k := 42) (Nat.lt_of_lt_of_le (by decide) hN)) rfl 1 (by decide) q377 rfl dX8_hasRoom_55 ?_
        refine g_getN (v := .int (σ (sb 4) 3)) hc in_X5 (XW_s0 (gS8 hN)) rfl 3 (by decide) 4 rfl rfl dX8_hasRoom_58 ?_
        refine g_iconst (v := 4) hc dX8_hasRoom_61 (by decide) ?_
        refine g_icmp_ge (tgt := 69) hc dX8_hasRoom_62 (by decide) (fun h5 => ?_) (fun h5 => ?_)
        · have hf := oT h5 hf
          refine g_iconst (v := 0) hc dX8_hasRoom_69 (by decide) ?_
          refine g_goto (tgt := 90) hc dX8_hasRoom_70 (by decide) ?_
          have hz := Option.some.inj hf; subst hz
          exact g_zret hc (hR _ hK) rfl dX8_hasRoom_90
        · have hf := oF h5 hf
          refine g_iconst (v := 1) hc dX8_hasRoom_65 (by decide) ?_
          refine g_goto (tgt := 90) hc dX8_hasRoom_66 (by decide) ?_
          have hz := Option.some.inj hf; subst hz
          exact g_zret hc (hR _ hK) rfl dX8_hasRoom_90
    · have hf := oT h2 hf
      refine g_aload_n hc dX8_hasRoom_29 rfl 0 rfl ?_
      refine g_get (v := .ref (ad (sb 4))) hc in_X8 (XW_at (k := 42) (Nat.lt_of_lt_of_le (by decide) hN)) rfl 1 (by decide) q377 rfl dX8_hasRoom_30 ?_
      refine g_getN (v := .int (σ (sb 4) 0)) hc in_X5 (XW_s0 (gS8 hN)) rfl 0 (by decide) 0 rfl rfl dX8_hasRoom_33 ?_
      refine g_bipush (v := 7) hc dX8_hasRoom_36 (by decide) ?_
      refine g_icmp_ge (tgt := 45) hc dX8_hasRoom_38 (by decide) (fun h6 => ?_) (fun h6 => ?_)
      · have hf := oT h6 hf
        refine g_iconst (v := 0) hc dX8_hasRoom_45 (by decide) ?_
        refine g_goto (tgt := 90) hc dX8_hasRoom_46 (by decide) ?_
        have hz := Option.some.inj hf; subst hz
        exact g_zret hc (hR _ hK) rfl dX8_hasRoom_90
      · have hf := oF h6 hf
        refine g_iconst (v := 1) hc dX8_hasRoom_41 (by decide) ?_
        refine g_goto (tgt := 90) hc dX8_hasRoom_42 (by decide) ?_
        have hz := Option.some.inj hf; subst hz
        exact g_zret hc (hR _ hK) rfl dX8_hasRoom_90
  · have hf := oF h1 hf
    refine g_aload_n hc dX8_hasRoom_5 rfl 0 rfl ?_
    refine g_get (v := .ref (ad (sb 4))) hc in_X8 (XW_at (k := 42) (Nat.lt_of_lt_of_le (by decide) hN)) rfl 1 (by decide) q377 rfl dX8_hasRoom_6 ?_
    refine g_getN (v := .int (σ (sb 4) 5)) hc in_X5 (XW_s0 (gS8 hN)) rfl 5 (by decide) 7 rfl rfl dX8_hasRoom_9 ?_
    refine g_iconst (v := 4) hc dX8_hasRoom_12 (by decide) ?_
    refine g_icmp_ge (tgt := 20) hc dX8_hasRoom_13 (by decide) (fun h7 => ?_) (fun h7 => ?_)
    · have hf := oT h7 hf
      refine g_iconst (v := 0) hc dX8_hasRoom_20 (by decide) ?_
      refine g_goto (tgt := 90) hc dX8_hasRoom_21 (by decide) ?_
      have hz := Option.some.inj hf; subst hz
      exact g_zret hc (hR _ hK) rfl dX8_hasRoom_90
    · have hf := oF h7 hf
      refine g_iconst (v := 1) hc dX8_hasRoom_16 (by decide) ?_
      refine g_goto (tgt := 90) hc dX8_hasRoom_17 (by decide) ?_
      have hz := Option.some.inj hf; subst hz
      exact g_zret hc (hR _ hK) rfl dX8_hasRoom_90
theorem c_X8_hasRoom {l : Launch} {D : va_G} {dA : Nat → ClassId} {N : Nat} {ad : Nat → Nat} {tl : va_W} {lam : (Nat → Int64)} {σ : (Nat → Nat → Int32)} {l1 : Int32} (hN : 43 ≤ N) {o : Int32} (hf : f_X8_hasRoom σ l1 = some o) : gI l D dA (XW dA N ad σ lam ++ tl) (XW dA N ad σ lam ++ tl) [.ref (ad 42), .int l1] o yX8_hasRoom (ws_ yX8_hasRoom cX8_hasRoom 2 (some .boolean)) ({ frames := 0, cells := 0, slots := 0, locals := 0 } : Room) :=
  g_startZ (own := RX8) ⟨rfl, rfl⟩ (by decide) rfl (Nat.le_of_ble_eq_true rfl) (fun x e hc hR => by
    subst e
    exact w_X8_hasRoom hc σ l1 hN (K := fun o1 => o1 = o) hf rfl (by rintro _ rfl; exact hR))
theorem hd_X8_hasRoom : yX8_hasRoom.cls = RX8 ∧ yX8_hasRoom.cls ≠ "java/lang/invoke/MethodHandle" ∧ yX8_hasRoom.cls ≠ "java/lang/invoke/VarHandle" ∧ (parseMethodDescriptor yX8_hasRoom.desc).map (fun d => d.parameters.length) = some 1 := by decide +kernel
/-! HedgehogLots$Reader.need(ZI)V -/
def f_X8_need (σ : (Nat → Nat → Int32)) (l1 : Int32) (l2 : Int32) : Option ((Int32 × Int32 × (Nat → Nat → Int32)) ⊕ ((Nat → Nat → Int32))) :=
  if l1 = 0 then (some (.inl (l2, (σ 42 4), σ))) else (some (.inr σ))
theorem w_X8_need {x : gX} {N : Nat} {ad : Nat → Nat} {tl : va_W} {lam : (Nat → Int64)} (hc : gOk x RX8 cX8_need 3 4 82) (hz : gZs kS x.A x.s x.s.heap)  (σ : (Nat → Nat → Int32)) (l1 : Int32) (l2 : Int32) (hN : 43 ≤ N) {K : (Int32 × Int32 × (Nat → Nat → Int32)) ⊕ ((Nat → Nat → Int32)) → Prop} {o : (Int32 × Int32 × (Nat → Nat → Int32)) ⊕ ((Nat → Nat → Int32))} (hf : f_X8_need σ l1 l2 = some o) (hK : K o) (hR : ∀ o : (Nat → Nat → Int32), K (.inr o) → gRv x 0 0 (XW x.dA N ad o lam ++ tl)) (hT : ∀ o : (Int32 × Int32 × (Nat → Nat → Int32)), K (.inl o) → (1 ≤ x.R.cells ∧ 8 ≤ x.R.slots) ∧ ∀ (q pc : Nat) (lv : List (Nat × Value)), gT x 3 1 8 ((XW x.dA N ad o.2.2 lam ++ tl) ++ fltC q o.1 o.2.1) pc lv q) : gG x 3 0 0 (XW x.dA N ad σ lam ++ tl) 0 [(0, .ref (ad 42)), (1, .int l1), (2, .int l2)] [] := by
  unfold f_X8_need at hf
  refine g_iload_n hc dX8_need_0 rfl 1 rfl ?_
  refine g_if_ne (tgt := 17) hc dX8_need_1 (by decide) (fun h1 => ?_) (fun h1 => ?_)
  · have hf := oF h1 hf
    have hz := Option.some.inj hf; subst hz
    exact g_vret hc (hR _ hK) dX8_need_17
  · have hf := oT h1 hf
    have hz0 := Option.some.inj hf; subst hz0
    obtain ⟨hRc, hTq⟩ := hT _ hK
    refine g_new (fs := flt 0 0) (ci := 9) hc in_X9 tyX9_ok q292 q293 q71 rfl (by decide) (Nat.le_trans (Nat.le_of_ble_eq_true rfl) hRc.1) (Nat.le_trans (Nat.le_of_ble_eq_true rfl) hRc.2) dX8_need_4 (fun q => ?_)
    refine g_eq (List.append_assoc _ _ _) ?_
    refine g_dup hc dX8_need_7 rfl ?_
    refine g_iload_n hc dX8_need_8 rfl 2 rfl ?_
    refine g_aload_n hc dX8_need_9 rfl 0 rfl ?_
    refine g_get (v := .int (σ 42 4)) hc in_X8 (XW_at (k := 42) (Nat.lt_of_lt_of_le (by decide) hN)) rfl 4 (by decide) q381 rfl dX8_need_10 ?_
    refine g_eq (List.append_assoc _ _ _).symm ?_
    refine g_callTI (n := 2) (ca := 1) (sl := 8) hc hz [.int l2, .int (σ 42 4)] [.ref (q)] (c_X9_init (l := x.l) (D := x.D) (dA := x.dA) (Φ := XW x.dA N ad σ lam ++ tl) q l2 (σ 42 4)) q346 q348 q71 q347 rfl ⟨rfl, by decide, by decide, by decide +kernel⟩ rfl rfl (Nat.le_of_ble_eq_true rfl) hRc dX8_need_13 (fun _ _ _ _ h => h.elim) (fun Φ1 hΦ => ?_)
    subst hΦ
    exact g_athrow hc dX8_need_16 (hTq q _ _)
theorem c_X8_need {l : Launch} {D : va_G} {dA : Nat → ClassId} {N : Nat} {ad : Nat → Nat} {tl : va_W} {lam : (Nat → Int64)} {σ : (Nat → Nat → Int32)} {l1 : Int32} {l2 : Int32} (hN : 43 ≤ N) {o : (Nat → Nat → Int32)} (hf : f_X8_need σ l1 l2 = some (.inr o)) : gVz kS l D dA (XW dA N ad σ lam ++ tl) (XW dA N ad o lam ++ tl) [.ref (ad 42), .int l1, .int l2] yX8_need (ws_ yX8_need cX8_need 3 none) ({ frames := 4, cells := 0, slots := 0, locals := 82 } : Room) :=
  g_startVz (own := RX8) ⟨rfl, rfl⟩ (by decide) rfl (Nat.le_of_ble_eq_true rfl) (fun x e hc hz hR => by
    subst e
    exact w_X8_need hc hz σ l1 l2 hN (K := fun o1 => o1 = .inr o) hf rfl (fun o1 h1 => by cases h1; exact hR) (fun o1 h1 => by cases h1))
theorem ct_X8_need {l : Launch} {D : va_G} {dA : Nat → ClassId} {N : Nat} {ad : Nat → Nat} {tl : va_W} {lam : (Nat → Int64)} {σ : (Nat → Nat → Int32)} {l1 : Int32} {l2 : Int32} (hN : 43 ≤ N) {o : (Int32 × Int32 × (Nat → Nat → Int32))} (hf : f_X8_need σ l1 l2 = some (.inl o)) : gTv kS l D dA (XW dA N ad σ lam ++ tl) [.ref (ad 42), .int l1, .int l2] (fun _ => False) (fun t => t.1 = o.1 ∧ t.2.1 = o.2.1 ∧ t.2.2 = XW dA N ad o.2.2 lam ++ tl) yX8_need (ws_ yX8_need cX8_need 3 none) ({ frames := 4, cells := 1, slots := 8, locals := 82 } : Room) 1 8 :=
  g_startTv (mc := 1) (ms := 8) (own := RX8) (by decide) rfl (Nat.le_of_ble_eq_true rfl) (fun x e hc hz hnm hRc hR hX => by
    subst e
    exact w_X8_need hc hz σ l1 l2 hN (K := fun o1 => o1 = .inl o) hf rfl (fun o1 h1 => by cases h1) (fun o1 h1 => by
      cases h1
      exact ⟨hRc, fun q pc lv => hX _ _ _ q pc lv ⟨rfl, rfl, rfl⟩⟩))
theorem hd_X8_need : yX8_need.cls = RX8 ∧ yX8_need.cls ≠ "java/lang/invoke/MethodHandle" ∧ yX8_need.cls ≠ "java/lang/invoke/VarHandle" ∧ (parseMethodDescriptor yX8_need.desc).map (fun d => d.parameters.length) = some 2 := by decide +kernel
/-! HedgehogLots$Reader.next()V -/
def f_X8_next_b202 (σ : (Nat → Nat → Int32)) (k2 : Int32) : Option ((Int32 × Int32 × (Nat → Nat → Int32)) ⊕ ((Nat → Nat → Int32))) :=
  oB (f_X8_need σ k2 1) fun r2 => oM r2 (fun t4 => some (.inl t4)) fun v3 => some (.inr v3)
theorem w_X8_next_b202 {x : gX} {N : Nat} {ad : Nat → Nat} {tl : va_W} {lam : (Nat → Int64)} (hc : gOk x RX8 cX8_next 1 5 104) (hz : gZs kS x.A x.s x.s.heap)  (σ : (Nat → Nat → Int32)) (k2 : Int32) (hN : 43 ≤ N) {K : (Int32 × Int32 × (Nat → Nat → Int32)) ⊕ ((Nat → Nat → Int32)) → Prop} {o : (Int32 × Int32 × (Nat → Nat → Int32)) ⊕ ((Nat → Nat → Int32))} (hf : f_X8_next_b202 σ k2 = some o) (hK : K o) (hR : ∀ o : (Nat → Nat → Int32), K (.inr o) → gRv x 0 0 (XW x.dA N ad o lam ++ tl)) (hT : ∀ o : (Int32 × Int32 × (Nat → Nat → Int32)), K (.inl o) → (1 ≤ x.R.cells ∧ 8 ≤ x.R.slots) ∧ ∀ (q pc : Nat) (lv : List (Nat × Value)), gT x 1 1 8 ((XW x.dA N ad o.2.2 lam ++ tl) ++ fltC q o.1 o.2.1) pc lv q) : gG x 1 0 0 (XW x.dA N ad σ lam ++ tl) 202 [] [.int k2, .ref (ad 42)] := by
  unfold f_X8_next_b202 at hf
  refine g_iconst (v := 1) hc dX8_next_202 (by decide) ?_
  obtain ⟨r2, h1, hf⟩ := oB_some hf
  cases r2 with
  | inl t4 =>
    have hz0 := Option.some.inj hf; subst hz0
    obtain ⟨hRc, hTq⟩ := hT _ hK
    refine g_callTv hc hz [.int k2, .int 1] [] (ct_X8_need hN h1) (XW_at (k := 42) (Nat.lt_of_lt_of_le (by decide) hN)) rfl (lw_V q288 q290 qs2 q68 q291) rfl hd_X8_need rfl rfl (Nat.le_of_ble_eq_true rfl) hRc dX8_next_203 (fun c pl Φ1 q hq => ?_) (fun _ h => h.elim)
    obtain ⟨rfl, rfl, rfl⟩ := hq
    exact hTq q _ _
  | inr v3 =>
    have hf := oM_r hf
    refine g_callVzv hc hz [.int k2, .int 1] [] (c_X8_need hN h1) (XW_at (k := 42) (Nat.lt_of_lt_of_le (by decide) hN)) rfl (lw_V q288 q290 qs2 q68 q291) rfl hd_X8_need rfl rfl (Nat.le_of_ble_eq_true rfl) gZ dX8_next_203 ?_
    refine g_goto (tgt := 237) hc dX8_next_206 (by decide) ?_
    have hz := Option.some.inj hf; subst hz
    exact g_vret hc (hR _ hK) dX8_next_237
def f_X8_next_b167 (σ : (Nat → Nat → Int32)) (k2 : Int32) : Option (((Nat → Nat → Int32)) ⊕ ((Int32 × Int32 × (Nat → Nat → Int32)) ⊕ ((Nat → Nat → Int32)))) :=
  oL (upd2 σ 42 6 k2) fun s1 => oL (upd2 s1 42 3 ((s1 42 3) + 1)) fun s3 => some (.inl s3)
theorem w_X8_next_b167 {x : gX} {N : Nat} {ad : Nat → Nat} {tl : va_W} {lam : (Nat → Int64)} (hc : gOk x RX8 cX8_next 1 5 104) (hz : gZs kS x.A x.s x.s.heap)  (σ : (Nat → Nat → Int32)) (k2 : Int32) (hN : 43 ≤ N) {K : ((Nat → Nat → Int32)) ⊕ ((Int32 × Int32 × (Nat → Nat → Int32)) ⊕ ((Nat → Nat → Int32))) → Prop} {o : ((Nat → Nat → Int32)) ⊕ ((Int32 × Int32 × (Nat → Nat → Int32)) ⊕ ((Nat → Nat → Int32)))} (hf : f_X8_next_b167 σ k2 = some o) (hK : K o) (hI112 : ∀ v : (Nat → Nat → Int32), K (.inl v) → gG x 1 0 0 (XW x.dA N ad v lam ++ tl) 112 [(0, .ref (ad 42))] []) (hR : ∀ o : (Nat → Nat → Int32), K (.inr (.inr o)) → gRv x 0 0 (XW x.dA N ad o lam ++ tl)) (hT : ∀ o : (Int32 × Int32 × (Nat → Nat → Int32)), K (.inr (.inl o)) → (1 ≤ x.R.cells ∧ 8 ≤ x.R.slots) ∧ ∀ (q pc : Nat) (lv : List (Nat × Value)), gT x 1 1 8 ((XW x.dA N ad o.2.2 lam ++ tl) ++ fltC q o.1 o.2.1) pc lv q) : gG x 1 0 0 (XW x.dA N ad σ lam ++ tl) 167 [(0, .ref (ad 42))] [.int k2, .ref (ad 42)] := by
  unfold f_X8_next_b167 at hf
  obtain ⟨s1, e2, hf⟩ := oL_some hf
  refine g_put (v := .int k2) hc in_X8 tyX8_ok nmX8 (XW_at (k := 42) (Nat.lt_of_lt_of_le (by decide) hN)) rfl 6 (by decide) q383 rfl rfl rfl (Nat.le_of_ble_eq_true rfl) (XW_set (σ1 := s1) (k := 42) (Nat.lt_of_lt_of_le (by decide) hN) e2 rfl) dX8_next_167 ?_
  refine g_aload_n hc dX8_next_170 rfl 0 rfl ?_
  refine g_dup hc dX8_next_171 rfl ?_
  refine g_get (v := .int (s1 42 3)) hc in_X8 (XW_at (k := 42) (Nat.lt_of_lt_of_le (by decide) hN)) rfl 3 (by decide) q380 rfl dX8_next_172 ?_
  refine g_iconst (v := 1) hc dX8_next_175 (by decide) ?_
  refine g_iadd hc dX8_next_176 ?_
  obtain ⟨s3, e4, hf⟩ := oL_some hf
  refine g_put (v := .int ((s1 42 3) + 1)) hc in_X8 tyX8_ok nmX8 (XW_at (k := 42) (Nat.lt_of_lt_of_le (by decide) hN)) rfl 3 (by decide) q380 rfl rfl rfl (Nat.le_of_ble_eq_true rfl) (XW_set (σ1 := s3) (k := 42) (Nat.lt_of_lt_of_le (by decide) hN) e4 rfl) dX8_next_177 ?_
  refine g_goto (tgt := 112) hc dX8_next_180 (by decide) ?_
  have hz := Option.some.inj hf; subst hz
  exact g_lv [0] rfl (hI112 _ hK)
def f_X8_next_L112 (σ : (Nat → Nat → Int32)) : Option (((Nat → Nat → Int32)) ⊕ ((Int32 × Int32 × (Nat → Nat → Int32)) ⊕ ((Nat → Nat → Int32)))) :=
  oB (f_X8_isIn σ 48 57) fun r2 => if r2 = 0 then (oI (if 3 ≤ ((σ 42 3) - (σ 42 4)) then (f_X8_next_b202 σ 0) else (f_X8_next_b202 σ 1))) else (if 2 ≤ ((σ 42 3) - (σ 42 4)) then (f_X8_next_b167 σ (σ 42 6)) else (oC (inb (σ 42 3) 160) <| f_X8_next_b167 σ (((10 * (σ 42 6)) + (σ 8 (σ 42 3).toNatClampNeg)) - 48)))
theorem w_X8_next_L112 {x : gX} {N : Nat} {ad : Nat → Nat} {tl : va_W} {lam : (Nat → Int64)} (hc : gOk x RX8 cX8_next 1 5 104) (hz : gZs kS x.A x.s x.s.heap)  (σ : (Nat → Nat → Int32)) (hN : 43 ≤ N) {K : ((Nat → Nat → Int32)) ⊕ ((Int32 × Int32 × (Nat → Nat → Int32)) ⊕ ((Nat → Nat → Int32))) → Prop} {o : ((Nat → Nat → Int32)) ⊕ ((Int32 × Int32 × (Nat → Nat → Int32)) ⊕ ((Nat → Nat → Int32)))} (hf : f_X8_next_L112 σ = some o) (hK : K o) (hI112 : ∀ v : (Nat → Nat → Int32), K (.inl v) → gG x 1 0 0 (XW x.dA N ad v lam ++ tl) 112 [(0, .ref (ad 42))] []) (hR : ∀ o : (Nat → Nat → Int32), K (.inr (.inr o)) → gRv x 0 0 (XW x.dA N ad o lam ++ tl)) (hT : ∀ o : (Int32 × Int32 × (Nat → Nat → Int32)), K (.inr (.inl o)) → (1 ≤ x.R.cells ∧ 8 ≤ x.R.slots) ∧ ∀ (q pc : Nat) (lv : List (Nat × Value)), gT x 1 1 8 ((XW x.dA N ad o.2.2 lam ++ tl) ++ fltC q o.1 o.2.1) pc lv q) : gG x 1 0 0 (XW x.dA N ad σ lam ++ tl) 112 [(0, .ref (ad 42))] [] := by
  unfold f_X8_next_L112 at hf
  refine g_aload_n hc dX8_next_112 rfl 0 rfl ?_
  refine g_bipush (v := 48) hc dX8_next_113 (by decide) ?_
  refine g_bipush (v := 57) hc dX8_next_115 (by decide) ?_
  obtain ⟨r2, h1, hf⟩ := oB_some hf
  refine g_callVi hc [.int 48, .int 57] [] (c_X8_isIn hN h1) (XW_at (k := 42) (Nat.lt_of_lt_of_le (by decide) hN)) rfl (lw_V q284 q286 qs1 q68 q287) rfl hd_X8_isIn rfl rfl (Nat.le_of_ble_eq_true rfl) gZ dX8_next_117 ?_
  refine g_if_eq (tgt := 183) hc dX8_next_120 (by decide) (fun h3 => ?_) (fun h3 => ?_)
  · have hf := oT h3 hf
    obtain ⟨o5, hgo5, eo5⟩ := oI_some hf
    clear hf; subst eo5; have hf := hgo5; clear hgo5
    refine g_aload_n hc dX8_next_183 rfl 0 rfl ?_
    refine g_aload_n hc dX8_next_184 rfl 0 rfl ?_
    refine g_get (v := .int (σ 42 3)) hc in_X8 (XW_at (k := 42) (Nat.lt_of_lt_of_le (by decide) hN)) rfl 3 (by decide) q380 rfl dX8_next_185 ?_
    refine g_aload_n hc dX8_next_188 rfl 0 rfl ?_
    refine g_get (v := .int (σ 42 4)) hc in_X8 (XW_at (k := 42) (Nat.lt_of_lt_of_le (by decide) hN)) rfl 4 (by decide) q381 rfl dX8_next_189 ?_
    refine g_isub hc dX8_next_192 ?_
    refine g_iconst (v := 3) hc dX8_next_193 (by decide) ?_
    refine g_icmp_ge (tgt := 201) hc dX8_next_194 (by decide) (fun h4 => ?_) (fun h4 => ?_)
    · have hf := oT h4 hf
      refine g_iconst (v := 0) hc dX8_next_201 (by decide) ?_
      exact g_lv [] rfl (w_X8_next_b202 hc hz σ 0 hN (K := (fun o1 => K (.inr o1))) hf hK hR hT)
    · have hf := oF h4 hf
      refine g_iconst (v := 1) hc dX8_next_197 (by decide) ?_
      refine g_goto (tgt := 202) hc dX8_next_198 (by decide) ?_
      exact g_lv [] rfl (w_X8_next_b202 hc hz σ 1 hN (K := (fun o1 => K (.inr o1))) hf hK hR hT)
  · have hf := oF h3 hf
    refine g_aload_n hc dX8_next_123 rfl 0 rfl ?_
    refine g_aload_n hc dX8_next_124 rfl 0 rfl ?_
    refine g_get (v := .int (σ 42 3)) hc in_X8 (XW_at (k := 42) (Nat.lt_of_lt_of_le (by decide) hN)) rfl 3 (by decide) q380 rfl dX8_next_125 ?_
    refine g_aload_n hc dX8_next_128 rfl 0 rfl ?_
    refine g_get (v := .int (σ 42 4)) hc in_X8 (XW_at (k := 42) (Nat.lt_of_lt_of_le (by decide) hN)) rfl 4 (by decide) q381 rfl dX8_next_129 ?_
    refine g_isub hc dX8_next_132 ?_
    refine g_iconst (v := 2) hc dX8_next_133 (by decide) ?_
    refine g_icmp_ge (tgt := 163) hc dX8_next_134 (by decide) (fun h6 => ?_) (fun h6 => ?_)
    · have hf := oT h6 hf
      refine g_aload_n hc dX8_next_163 rfl 0 rfl ?_
      refine g_get (v := .int (σ 42 6)) hc in_X8 (XW_at (k := 42) (Nat.lt_of_lt_of_le (by decide) hN)) rfl 6 (by decide) q383 rfl dX8_next_164 ?_
      exact g_lv [0] rfl (w_X8_next_b167 hc hz σ (σ 42 6) hN (K := K) hf hK hI112 hR hT)
    · have hf := oF h6 hf
      refine g_bipush (v := 10) hc dX8_next_137 (by decide) ?_
      refine g_aload_n hc dX8_next_139 rfl 0 rfl ?_
      refine g_get (v := .int (σ 42 6)) hc in_X8 (XW_at (k := 42) (Nat.lt_of_lt_of_le (by decide) hN)) rfl 6 (by decide) q383 rfl dX8_next_140 ?_
      refine g_imul hc dX8_next_143 ?_
      refine g_aload_n hc dX8_next_144 rfl 0 rfl ?_
      refine g_get (v := .ref (ad 0)) hc in_X8 (XW_at (k := 42) (Nat.lt_of_lt_of_le (by decide) hN)) rfl 7 (by decide) q384 rfl dX8_next_145 ?_
      refine g_getN (v := .ref (ad 8)) hc in_X0 (XW_at (k := 0) (Nat.lt_of_lt_of_le (by decide) hN)) rfl 12 (by decide) 16 rfl rfl dX8_next_148 ?_
      refine g_aload_n hc dX8_next_151 rfl 0 rfl ?_
      refine g_get (v := .int (σ 42 3)) hc in_X8 (XW_at (k := 42) (Nat.lt_of_lt_of_le (by decide) hN)) rfl 3 (by decide) q380 rfl dX8_next_152 ?_
      obtain ⟨h7, hf⟩ := oC_some hf
      refine g_bald (n := 160) (f := σ 8) hc (XW_at (k := 8) (Nat.lt_of_lt_of_le (by decide) hN)) h7 dX8_next_155 ?_
      refine g_iadd hc dX8_next_156 ?_
      refine g_bipush (v := 48) hc dX8_next_157 (by decide) ?_
      refine g_isub hc dX8_next_159 ?_
      refine g_goto (tgt := 167) hc dX8_next_160 (by decide) ?_
      exact g_lv [0] rfl (w_X8_next_b167 hc hz σ (((10 * (σ 42 6)) + (σ 8 (σ 42 3).toNatClampNeg)) - 48) hN (K := K) hf hK hI112 hR hT)
def f_X8_next_b112 (σ : (Nat → Nat → Int32)) : Option ((Int32 × Int32 × (Nat → Nat → Int32)) ⊕ ((Nat → Nat → Int32))) :=
  oLoop gFU (fun v : (Nat → Nat → Int32) => f_X8_next_L112 v) σ
theorem w_X8_next_b112 {x : gX} {N : Nat} {ad : Nat → Nat} {tl : va_W} {lam : (Nat → Int64)} (hc : gOk x RX8 cX8_next 1 5 104) (hz : gZs kS x.A x.s x.s.heap)  (σ : (Nat → Nat → Int32)) (hN : 43 ≤ N) {K : (Int32 × Int32 × (Nat → Nat → Int32)) ⊕ ((Nat → Nat → Int32)) → Prop} {o : (Int32 × Int32 × (Nat → Nat → Int32)) ⊕ ((Nat → Nat → Int32))} (hf : f_X8_next_b112 σ = some o) (hK : K o) (hR : ∀ o : (Nat → Nat → Int32), K (.inr o) → gRv x 0 0 (XW x.dA N ad o lam ++ tl)) (hT : ∀ o : (Int32 × Int32 × (Nat → Nat → Int32)), K (.inl o) → (1 ≤ x.R.cells ∧ 8 ≤ x.R.slots) ∧ ∀ (q pc : Nat) (lv : List (Nat × Value)), gT x 1 1 8 ((XW x.dA N ad o.2.2 lam ++ tl) ++ fltC q o.1 o.2.1) pc lv q) : gG x 1 0 0 (XW x.dA N ad σ lam ++ tl) 112 [(0, .ref (ad 42))] [] :=
  oLoop_ind (fun v : (Nat → Nat → Int32) => gG x 1 0 0 (XW x.dA N ad v lam ++ tl) 112 [(0, .ref (ad 42))] []) K (fun v o1 hf1 hK1 => w_X8_next_L112 hc hz v hN (K := Sum.elim (fun v : (Nat → Nat → Int32) => gG x 1 0 0 (XW x.dA N ad v lam ++ tl) 112 [(0, .ref (ad 42))] []) K) hf1 hK1 (fun v hv => hv) hR hT) gFU _ o hf hK
def f_X8_next_L67 (σ : (Nat → Nat → Int32)) : Option (((Nat → Nat → Int32)) ⊕ ((Int32 × Int32 × (Nat → Nat → Int32)) ⊕ ((Nat → Nat → Int32)))) :=
  oB (f_X8_isIn σ 97 122) fun r2 => if r2 = 0 then (oI (some (.inr σ))) else (oL (upd2 σ 42 3 ((σ 42 3) + 1)) fun s5 => some (.inl s5))
theorem w_X8_next_L67 {x : gX} {N : Nat} {ad : Nat → Nat} {tl : va_W} {lam : (Nat → Int64)} (hc : gOk x RX8 cX8_next 1 5 104) (hz : gZs kS x.A x.s x.s.heap)  (σ : (Nat → Nat → Int32)) (hN : 43 ≤ N) {K : ((Nat → Nat → Int32)) ⊕ ((Int32 × Int32 × (Nat → Nat → Int32)) ⊕ ((Nat → Nat → Int32))) → Prop} {o : ((Nat → Nat → Int32)) ⊕ ((Int32 × Int32 × (Nat → Nat → Int32)) ⊕ ((Nat → Nat → Int32)))} (hf : f_X8_next_L67 σ = some o) (hK : K o) (hI67 : ∀ v : (Nat → Nat → Int32), K (.inl v) → gG x 1 0 0 (XW x.dA N ad v lam ++ tl) 67 [(0, .ref (ad 42))] []) (hR : ∀ o : (Nat → Nat → Int32), K (.inr (.inr o)) → gRv x 0 0 (XW x.dA N ad o lam ++ tl)) (hT : ∀ o : (Int32 × Int32 × (Nat → Nat → Int32)), K (.inr (.inl o)) → (1 ≤ x.R.cells ∧ 8 ≤ x.R.slots) ∧ ∀ (q pc : Nat) (lv : List (Nat × Value)), gT x 1 1 8 ((XW x.dA N ad o.2.2 lam ++ tl) ++ fltC q o.1 o.2.1) pc lv q) : gG x 1 0 0 (XW x.dA N ad σ lam ++ tl) 67 [(0, .ref (ad 42))] [] := by
  unfold f_X8_next_L67 at hf
  refine g_aload_n hc dX8_next_67 rfl 0 rfl ?_
  refine g_bipush (v := 97) hc dX8_next_68 (by decide) ?_
  refine g_bipush (v := 122) hc dX8_next_70 (by decide) ?_
  obtain ⟨r2, h1, hf⟩ := oB_some hf
  refine g_callVi hc [.int 97, .int 122] [] (c_X8_isIn hN h1) (XW_at (k := 42) (Nat.lt_of_lt_of_le (by decide) hN)) rfl (lw_V q284 q286 qs1 q68 q287) rfl hd_X8_isIn rfl rfl (Nat.le_of_ble_eq_true rfl) gZ dX8_next_72 ?_
  refine g_if_eq (tgt := 237) hc dX8_next_75 (by decide) (fun h3 => ?_) (fun h3 => ?_)
  · have hf := oT h3 hf
    obtain ⟨o4, hgo4, eo4⟩ := oI_some hf
    clear hf; subst eo4; have hf := hgo4; clear hgo4
    have hz := Option.some.inj hf; subst hz
    exact g_vret hc (hR _ hK) dX8_next_237
  · have hf := oF h3 hf
    refine g_aload_n hc dX8_next_78 rfl 0 rfl ?_
    refine g_dup hc dX8_next_79 rfl ?_
    refine g_get (v := .int (σ 42 3)) hc in_X8 (XW_at (k := 42) (Nat.lt_of_lt_of_le (by decide) hN)) rfl 3 (by decide) q380 rfl dX8_next_80 ?_
    refine g_iconst (v := 1) hc dX8_next_83 (by decide) ?_
    refine g_iadd hc dX8_next_84 ?_
    obtain ⟨s5, e6, hf⟩ := oL_some hf
    refine g_put (v := .int ((σ 42 3) + 1)) hc in_X8 tyX8_ok nmX8 (XW_at (k := 42) (Nat.lt_of_lt_of_le (by decide) hN)) rfl 3 (by decide) q380 rfl rfl rfl (Nat.le_of_ble_eq_true rfl) (XW_set (σ1 := s5) (k := 42) (Nat.lt_of_lt_of_le (by decide) hN) e6 rfl) dX8_next_85 ?_
    refine g_goto (tgt := 67) hc dX8_next_88 (by decide) ?_
    have hz := Option.some.inj hf; subst hz
    exact g_lv [0] rfl (hI67 _ hK)
def f_X8_next_b67 (σ : (Nat → Nat → Int32)) : Option ((Int32 × Int32 × (Nat → Nat → Int32)) ⊕ ((Nat → Nat → Int32))) :=
  oLoop gFU (fun v : (Nat → Nat → Int32) => f_X8_next_L67 v) σ
theorem w_X8_next_b67 {x : gX} {N : Nat} {ad : Nat → Nat} {tl : va_W} {lam : (Nat → Int64)} (hc : gOk x RX8 cX8_next 1 5 104) (hz : gZs kS x.A x.s x.s.heap)  (σ : (Nat → Nat → Int32)) (hN : 43 ≤ N) {K : (Int32 × Int32 × (Nat → Nat → Int32)) ⊕ ((Nat → Nat → Int32)) → Prop} {o : (Int32 × Int32 × (Nat → Nat → Int32)) ⊕ ((Nat → Nat → Int32))} (hf : f_X8_next_b67 σ = some o) (hK : K o) (hR : ∀ o : (Nat → Nat → Int32), K (.inr o) → gRv x 0 0 (XW x.dA N ad o lam ++ tl)) (hT : ∀ o : (Int32 × Int32 × (Nat → Nat → Int32)), K (.inl o) → (1 ≤ x.R.cells ∧ 8 ≤ x.R.slots) ∧ ∀ (q pc : Nat) (lv : List (Nat × Value)), gT x 1 1 8 ((XW x.dA N ad o.2.2 lam ++ tl) ++ fltC q o.1 o.2.1) pc lv q) : gG x 1 0 0 (XW x.dA N ad σ lam ++ tl) 67 [(0, .ref (ad 42))] [] :=
  oLoop_ind (fun v : (Nat → Nat → Int32) => gG x 1 0 0 (XW x.dA N ad v lam ++ tl) 67 [(0, .ref (ad 42))] []) K (fun v o1 hf1 hK1 => w_X8_next_L67 hc hz v hN (K := Sum.elim (fun v : (Nat → Nat → Int32) => gG x 1 0 0 (XW x.dA N ad v lam ++ tl) 67 [(0, .ref (ad 42))] []) K) hf1 hK1 (fun v hv => hv) hR hT) gFU _ o hf hK
def f_X8_next_L0 (σ : (Nat → Nat → Int32)) : Option (((Nat → Nat → Int32)) ⊕ ((Int32 × Int32 × (Nat → Nat → Int32)) ⊕ ((Nat → Nat → Int32)))) :=
  oB (f_X8_isIn σ 32 32) fun r2 => if r2 = 0 then (oI (oL (upd2 σ 42 4 (σ 42 3)) fun s4 => if (s4 42 3) = (s4 42 0) then (oL (upd2 s4 42 5 0) fun s29 => some (.inr s29)) else (oB (f_X8_isIn s4 97 122) fun r8 => if r8 = 0 then (oB (f_X8_isIn s4 48 57) fun r11 => if r11 = 0 then (oL (upd2 s4 42 5 3) fun s13 => oB (f_X8_isIn s13 59 59) fun r16 => oB (f_X8_need s13 r16 1) fun r18 => oM r18 (fun t20 => some (.inl t20)) fun v19 => oL (upd2 v19 42 3 ((v19 42 3) + 1)) fun s21 => some (.inr s21)) else (oL (upd2 s4 42 5 2) fun s23 => oL (upd2 s23 42 6 0) fun s25 => f_X8_next_b112 s25)) else (oL (upd2 s4 42 5 1) fun s27 => f_X8_next_b67 s27)))) else (oL (upd2 σ 42 3 ((σ 42 3) + 1)) fun s32 => some (.inl s32))
theorem w_X8_next_L0 {x : gX} {N : Nat} {ad : Nat → Nat} {tl : va_W} {lam : (Nat → Int64)} (hc : gOk x RX8 cX8_next 1 5 104) (hz : gZs kS x.A x.s x.s.heap)  (σ : (Nat → Nat → Int32)) (hN : 43 ≤ N) {K : ((Nat → Nat → Int32)) ⊕ ((Int32 × Int32 × (Nat → Nat → Int32)) ⊕ ((Nat → Nat → Int32))) → Prop} {o : ((Nat → Nat → Int32)) ⊕ ((Int32 × Int32 × (Nat → Nat → Int32)) ⊕ ((Nat → Nat → Int32)))} (hf : f_X8_next_L0 σ = some o) (hK : K o) (hI0 : ∀ v : (Nat → Nat → Int32), K (.inl v) → gG x 1 0 0 (XW x.dA N ad v lam ++ tl) 0 [(0, .ref (ad 42))] []) (hR : ∀ o : (Nat → Nat → Int32), K (.inr (.inr o)) → gRv x 0 0 (XW x.dA N ad o lam ++ tl)) (hT : ∀ o : (Int32 × Int32 × (Nat → Nat → Int32)), K (.inr (.inl o)) → (1 ≤ x.R.cells ∧ 8 ≤ x.R.slots) ∧ ∀ (q pc : Nat) (lv : List (Nat × Value)), gT x 1 1 8 ((XW x.dA N ad o.2.2 lam ++ tl) ++ fltC q o.1 o.2.1) pc lv q) : gG x 1 0 0 (XW x.dA N ad σ lam ++ tl) 0 [(0, .ref (ad 42))] [] := by
  unfold f_X8_next_L0 at hf
  refine g_aload_n hc dX8_next_0 rfl 0 rfl ?_
  refine g_bipush (v := 32) hc dX8_next_1 (by decide) ?_
  refine g_bipush (v := 32) hc dX8_next_3 (by decide) ?_
  obtain ⟨r2, h1, hf⟩ := oB_some hf
  refine g_callVi hc [.int 32, .int 32] [] (c_X8_isIn hN h1) (XW_at (k := 42) (Nat.lt_of_lt_of_le (by decide) hN)) rfl (lw_V q284 q286 qs1 q68 q287) rfl hd_X8_isIn rfl rfl (Nat.le_of_ble_eq_true rfl) gZ dX8_next_5 ?_
  refine g_if_eq (tgt := 24) hc dX8_next_8 (by decide) (fun h3 => ?_) (fun h3 => ?_)
  · have hf := oT h3 hf
    obtain ⟨o31, hgo31, eo31⟩ := oI_some hf
    clear hf; subst eo31; have hf := hgo31; clear hgo31
    refine g_aload_n hc dX8_next_24 rfl 0 rfl ?_
    refine g_aload_n hc dX8_next_25 rfl 0 rfl ?_
    refine g_get (v := .int (σ 42 3)) hc in_X8 (XW_at (k := 42) (Nat.lt_of_lt_of_le (by decide) hN)) rfl 3 (by decide) q380 rfl dX8_next_26 ?_
    obtain ⟨s4, e5, hf⟩ := oL_some hf
    refine g_put (v := .int (σ 42 3)) hc in_X8 tyX8_ok nmX8 (XW_at (k := 42) (Nat.lt_of_lt_of_le (by decide) hN)) rfl 4 (by decide) q381 rfl rfl rfl (Nat.le_of_ble_eq_true rfl) (XW_set (σ1 := s4) (k := 42) (Nat.lt_of_lt_of_le (by decide) hN) e5 rfl) dX8_next_29 ?_
    refine g_aload_n hc dX8_next_32 rfl 0 rfl ?_
    refine g_get (v := .int (s4 42 3)) hc in_X8 (XW_at (k := 42) (Nat.lt_of_lt_of_le (by decide) hN)) rfl 3 (by decide) q380 rfl dX8_next_33 ?_
    refine g_aload_n hc dX8_next_36 rfl 0 rfl ?_
    refine g_get (v := .int (s4 42 0)) hc in_X8 (XW_at (k := 42) (Nat.lt_of_lt_of_le (by decide) hN)) rfl 0 (by decide) q376 rfl dX8_next_37 ?_
    refine g_icmp_ne (tgt := 51) hc dX8_next_40 (by decide) (fun h6 => ?_) (fun h6 => ?_)
    · have hf := oF h6 hf
      refine g_aload_n hc dX8_next_51 rfl 0 rfl ?_
      refine g_bipush (v := 97) hc dX8_next_52 (by decide) ?_
      refine g_bipush (v := 122) hc dX8_next_54 (by decide) ?_
      obtain ⟨r8, h7, hf⟩ := oB_some hf
      refine g_callVi hc [.int 97, .int 122] [] (c_X8_isIn hN h7) (XW_at (k := 42) (Nat.lt_of_lt_of_le (by decide) hN)) rfl (lw_V q284 q286 qs1 q68 q287) rfl hd_X8_isIn rfl rfl (Nat.le_of_ble_eq_true rfl) gZ dX8_next_56 ?_
      refine g_if_eq (tgt := 91) hc dX8_next_59 (by decide) (fun h9 => ?_) (fun h9 => ?_)
      · have hf := oT h9 hf
        refine g_aload_n hc dX8_next_91 rfl 0 rfl ?_
        refine g_bipush (v := 48) hc dX8_next_92 (by decide) ?_
        refine g_bipush (v := 57) hc dX8_next_94 (by decide) ?_
        obtain ⟨r11, h10, hf⟩ := oB_some hf
        refine g_callVi hc [.int 48, .int 57] [] (c_X8_isIn hN h10) (XW_at (k := 42) (Nat.lt_of_lt_of_le (by decide) hN)) rfl (lw_V q284 q286 qs1 q68 q287) rfl hd_X8_isIn rfl rfl (Nat.le_of_ble_eq_true rfl) gZ dX8_next_96 ?_
        refine g_if_eq (tgt := 209) hc dX8_next_99 (by decide) (fun h12 => ?_) (fun h12 => ?_)
        · have hf := oT h12 hf
          refine g_aload_n hc dX8_next_209 rfl 0 rfl ?_
          refine g_iconst (v := 3) hc dX8_next_210 (by decide) ?_
          obtain ⟨s13, e14, hf⟩ := oL_some hf
          refine g_put (v := .int 3) hc in_X8 tyX8_ok nmX8 (XW_at (k := 42) (Nat.lt_of_lt_of_le (by decide) hN)) rfl 5 (by decide) q382 rfl rfl rfl (Nat.le_of_ble_eq_true rfl) (XW_set (σ1 := s13) (k := 42) (Nat.lt_of_lt_of_le (by decide) hN) e14 rfl) dX8_next_211 ?_
          refine g_aload_n hc dX8_next_214 rfl 0 rfl ?_
          refine g_aload_n hc dX8_next_215 rfl 0 rfl ?_
          refine g_bipush (v := 59) hc dX8_next_216 (by decide) ?_
          refine g_bipush (v := 59) hc dX8_next_218 (by decide) ?_
          obtain ⟨r16, h15, hf⟩ := oB_some hf
          refine g_callVi hc [.int 59, .int 59] [.ref (ad 42)] (c_X8_isIn hN h15) (XW_at (k := 42) (Nat.lt_of_lt_of_le (by decide) hN)) rfl (lw_V q284 q286 qs1 q68 q287) rfl hd_X8_isIn rfl rfl (Nat.le_of_ble_eq_true rfl) gZ dX8_next_220 ?_
          refine g_iconst (v := 1) hc dX8_next_223 (by decide) ?_
          obtain ⟨r18, h17, hf⟩ := oB_some hf
          cases r18 with
          | inl t20 =>
            have hz0 := Option.some.inj hf; subst hz0
            obtain ⟨hRc, hTq⟩ := hT _ hK
            refine g_callTv hc hz [.int r16, .int 1] [] (ct_X8_need hN h17) (XW_at (k := 42) (Nat.lt_of_lt_of_le (by decide) hN)) rfl (lw_V q288 q290 qs2 q68 q291) rfl hd_X8_need rfl rfl (Nat.le_of_ble_eq_true rfl) hRc dX8_next_224 (fun c pl Φ1 q hq => ?_) (fun _ h => h.elim)
            obtain ⟨rfl, rfl, rfl⟩ := hq
            exact hTq q _ _
          | inr v19 =>
            have hf := oM_r hf
            refine g_callVzv hc hz [.int r16, .int 1] [] (c_X8_need hN h17) (XW_at (k := 42) (Nat.lt_of_lt_of_le (by decide) hN)) rfl (lw_V q288 q290 qs2 q68 q291) rfl hd_X8_need rfl rfl (Nat.le_of_ble_eq_true rfl) gZ dX8_next_224 ?_
            refine g_aload_n hc dX8_next_227 rfl 0 rfl ?_
            refine g_dup hc dX8_next_228 rfl ?_
            refine g_get (v := .int (v19 42 3)) hc in_X8 (XW_at (k := 42) (Nat.lt_of_lt_of_le (by decide) hN)) rfl 3 (by decide) q380 rfl dX8_next_229 ?_
            refine g_iconst (v := 1) hc dX8_next_232 (by decide) ?_
            refine g_iadd hc dX8_next_233 ?_
            obtain ⟨s21, e22, hf⟩ := oL_some hf
            refine g_put (v := .int ((v19 42 3) + 1)) hc in_X8 tyX8_ok nmX8 (XW_at (k := 42) (Nat.lt_of_lt_of_le (by decide) hN)) rfl 3 (by decide) q380 rfl rfl rfl (Nat.le_of_ble_eq_true rfl) (XW_set (σ1 := s21) (k := 42) (Nat.lt_of_lt_of_le (by decide) hN) e22 rfl) dX8_next_234 ?_
            have hz := Option.some.inj hf; subst hz
            exact g_vret hc (hR _ hK) dX8_next_237
        · have hf := oF h12 hf
          refine g_aload_n hc dX8_next_102 rfl 0 rfl ?_
          refine g_iconst (v := 2) hc dX8_next_103 (by decide) ?_
          obtain ⟨s23, e24, hf⟩ := oL_some hf
          refine g_put (v := .int 2) hc in_X8 tyX8_ok nmX8 (XW_at (k := 42) (Nat.lt_of_lt_of_le (by decide) hN)) rfl 5 (by decide) q382 rfl rfl rfl (Nat.le_of_ble_eq_true rfl) (XW_set (σ1 := s23) (k := 42) (Nat.lt_of_lt_of_le (by decide) hN) e24 rfl) dX8_next_104 ?_
          refine g_aload_n hc dX8_next_107 rfl 0 rfl ?_
          refine g_iconst (v := 0) hc dX8_next_108 (by decide) ?_
          obtain ⟨s25, e26, hf⟩ := oL_some hf
          refine g_put (v := .int 0) hc in_X8 tyX8_ok nmX8 (XW_at (k := 42) (Nat.lt_of_lt_of_le (by decide) hN)) rfl 6 (by decide) q383 rfl rfl rfl (Nat.le_of_ble_eq_true rfl) (XW_set (σ1 := s25) (k := 42) (Nat.lt_of_lt_of_le (by decide) hN) e26 rfl) dX8_next_109 ?_
          exact g_lv [0] rfl (w_X8_next_b112 hc hz s25 hN (K := (fun o1 => K (.inr o1))) hf hK hR hT)
      · have hf := oF h9 hf
        refine g_aload_n hc dX8_next_62 rfl 0 rfl ?_
        refine g_iconst (v := 1) hc dX8_next_63 (by decide) ?_
        obtain ⟨s27, e28, hf⟩ := oL_some hf
        refine g_put (v := .int 1) hc in_X8 tyX8_ok nmX8 (XW_at (k := 42) (Nat.lt_of_lt_of_le (by decide) hN)) rfl 5 (by decide) q382 rfl rfl rfl (Nat.le_of_ble_eq_true rfl) (XW_set (σ1 := s27) (k := 42) (Nat.lt_of_lt_of_le (by decide) hN) e28 rfl) dX8_next_64 ?_
        exact g_lv [0] rfl (w_X8_next_b67 hc hz s27 hN (K := (fun o1 => K (.inr o1))) hf hK hR hT)
    · have hf := oT h6 hf
      refine g_aload_n hc dX8_next_43 rfl 0 rfl ?_
      refine g_iconst (v := 0) hc dX8_next_44 (by decide) ?_
      obtain ⟨s29, e30, hf⟩ := oL_some hf
      refine g_put (v := .int 0) hc in_X8 tyX8_ok nmX8 (XW_at (k := 42) (Nat.lt_of_lt_of_le (by decide) hN)) rfl 5 (by decide) q382 rfl rfl rfl (Nat.le_of_ble_eq_true rfl) (XW_set (σ1 := s29) (k := 42) (Nat.lt_of_lt_of_le (by decide) hN) e30 rfl) dX8_next_45 ?_
      refine g_goto (tgt := 237) hc dX8_next_48 (by decide) ?_
      have hz := Option.some.inj hf; subst hz
      exact g_vret hc (hR _ hK) dX8_next_237
  · have hf := oF h3 hf
    refine g_aload_n hc dX8_next_11 rfl 0 rfl ?_
    refine g_dup hc dX8_next_12 rfl ?_
    refine g_get (v := .int (σ 42 3)) hc in_X8 (XW_at (k := 42) (Nat.lt_of_lt_of_le (by decide) hN)) rfl 3 (by decide) q380 rfl dX8_next_13 ?_
    refine g_iconst (v := 1) hc dX8_next_16 (by decide) ?_
    refine g_iadd hc dX8_next_17 ?_
    obtain ⟨s32, e33, hf⟩ := oL_some hf
    refine g_put (v := .int ((σ 42 3) + 1)) hc in_X8 tyX8_ok nmX8 (XW_at (k := 42) (Nat.lt_of_lt_of_le (by decide) hN)) rfl 3 (by decide) q380 rfl rfl rfl (Nat.le_of_ble_eq_true rfl) (XW_set (σ1 := s32) (k := 42) (Nat.lt_of_lt_of_le (by decide) hN) e33 rfl) dX8_next_18 ?_
    refine g_goto (tgt := 0) hc dX8_next_21 (by decide) ?_
    have hz := Option.some.inj hf; subst hz
    exact g_lv [0] rfl (hI0 _ hK)
def f_X8_next_b0 (σ : (Nat → Nat → Int32)) : Option ((Int32 × Int32 × (Nat → Nat → Int32)) ⊕ ((Nat → Nat → Int32))) :=
  oLoop gFU (fun v : (Nat → Nat → Int32) => f_X8_next_L0 v) σ
theorem w_X8_next_b0 {x : gX} {N : Nat} {ad : Nat → Nat} {tl : va_W} {lam : (Nat → Int64)} (hc : gOk x RX8 cX8_next 1 5 104) (hz : gZs kS x.A x.s x.s.heap)  (σ : (Nat → Nat → Int32)) (hN : 43 ≤ N) {K : (Int32 × Int32 × (Nat → Nat → Int32)) ⊕ ((Nat → Nat → Int32)) → Prop} {o : (Int32 × Int32 × (Nat → Nat → Int32)) ⊕ ((Nat → Nat → Int32))} (hf : f_X8_next_b0 σ = some o) (hK : K o) (hR : ∀ o : (Nat → Nat → Int32), K (.inr o) → gRv x 0 0 (XW x.dA N ad o lam ++ tl)) (hT : ∀ o : (Int32 × Int32 × (Nat → Nat → Int32)), K (.inl o) → (1 ≤ x.R.cells ∧ 8 ≤ x.R.slots) ∧ ∀ (q pc : Nat) (lv : List (Nat × Value)), gT x 1 1 8 ((XW x.dA N ad o.2.2 lam ++ tl) ++ fltC q o.1 o.2.1) pc lv q) : gG x 1 0 0 (XW x.dA N ad σ lam ++ tl) 0 [(0, .ref (ad 42))] [] :=
  oLoop_ind (fun v : (Nat → Nat → Int32) => gG x 1 0 0 (XW x.dA N ad v lam ++ tl) 0 [(0, .ref (ad 42))] []) K (fun v o1 hf1 hK1 => w_X8_next_L0 hc hz v hN (K := Sum.elim (fun v : (Nat → Nat → Int32) => gG x 1 0 0 (XW x.dA N ad v lam ++ tl) 0 [(0, .ref (ad 42))] []) K) hf1 hK1 (fun v hv => hv) hR hT) gFU _ o hf hK
theorem c_X8_next {l : Launch} {D : va_G} {dA : Nat → ClassId} {N : Nat} {ad : Nat → Nat} {tl : va_W} {lam : (Nat → Int64)} {σ : (Nat → Nat → Int32)} (hN : 43 ≤ N) {o : (Nat → Nat → Int32)} (hf : f_X8_next_b0 σ = some (.inr o)) : gVz kS l D dA (XW dA N ad σ lam ++ tl) (XW dA N ad o lam ++ tl) [.ref (ad 42)] yX8_next (ws_ yX8_next cX8_next 1 none) ({ frames := 5, cells := 0, slots := 0, locals := 104 } : Room) :=
  g_startVz (own := RX8) ⟨rfl, rfl⟩ (by decide) rfl (Nat.le_of_ble_eq_true rfl) (fun x e hc hz hR => by
    subst e
    exact w_X8_next_b0 hc hz σ hN (K := fun o1 => o1 = .inr o) hf rfl (fun o1 h1 => by cases h1; exact hR) (fun o1 h1 => by cases h1))
theorem ct_X8_next {l : Launch} {D : va_G} {dA : Nat → ClassId} {N : Nat} {ad : Nat → Nat} {tl : va_W} {lam : (Nat → Int64)} {σ : (Nat → Nat → Int32)} (hN : 43 ≤ N) {o : (Int32 × Int32 × (Nat → Nat → Int32))} (hf : f_X8_next_b0 σ = some (.inl o)) : gTv kS l D dA (XW dA N ad σ lam ++ tl) [.ref (ad 42)] (fun _ => False) (fun t => t.1 = o.1 ∧ t.2.1 = o.2.1 ∧ t.2.2 = XW dA N ad o.2.2 lam ++ tl) yX8_next (ws_ yX8_next cX8_next 1 none) ({ frames := 5, cells := 1, slots := 8, locals := 104 } : Room) 1 8 :=
  g_startTv (mc := 1) (ms := 8) (own := RX8) (by decide) rfl (Nat.le_of_ble_eq_true rfl) (fun x e hc hz hnm hRc hR hX => by
    subst e
    exact w_X8_next_b0 hc hz σ hN (K := fun o1 => o1 = .inl o) hf rfl (fun o1 h1 => by cases h1) (fun o1 h1 => by
      cases h1
      exact ⟨hRc, fun q pc lv => hX _ _ _ q pc lv ⟨rfl, rfl, rfl⟩⟩))
theorem hd_X8_next : yX8_next.cls = RX8 ∧ yX8_next.cls ≠ "java/lang/invoke/MethodHandle" ∧ yX8_next.cls ≠ "java/lang/invoke/VarHandle" ∧ (parseMethodDescriptor yX8_next.desc).map (fun d => d.parameters.length) = some 0 := by decide +kernel
/-! HedgehogLots$Reader.taken(II)I -/
def f_X8_taken_b14 (σ : (Nat → Nat → Int32)) (l1 : Int32) (l2 : Int32) (k2 : Int32) : Option ((Int32 × Int32 × (Nat → Nat → Int32)) ⊕ (Int32 × (Nat → Nat → Int32))) :=
  oB (f_X8_need σ k2 2) fun r2 => oM r2 (fun t4 => some (.inl t4)) fun v3 => oB (f_X0_in (Int32.toInt64 (v3 42 6)) (Int32.toInt64 l1) (Int32.toInt64 l2)) fun r6 => oB (f_X8_need v3 r6 3) fun r8 => oM r8 (fun t10 => some (.inl t10)) fun v9 => oB (f_X8_next_b0 v9) fun r12 => oM r12 (fun t14 => some (.inl t14)) fun v13 => some (.inr ((v9 42 6), v13))
theorem w_X8_taken_b14 {x : gX} {N : Nat} {ad : Nat → Nat} {tl : va_W} {lam : (Nat → Int64)} (hc : gOk x RX8 cX8_taken 4 6 124) (hz : gZs kS x.A x.s x.s.heap)  (σ : (Nat → Nat → Int32)) (l1 : Int32) (l2 : Int32) (k2 : Int32) (hN : 43 ≤ N) {K : (Int32 × Int32 × (Nat → Nat → Int32)) ⊕ (Int32 × (Nat → Nat → Int32)) → Prop} {o : (Int32 × Int32 × (Nat → Nat → Int32)) ⊕ (Int32 × (Nat → Nat → Int32))} (hf : f_X8_taken_b14 σ l1 l2 k2 = some o) (hK : K o) (hR : ∀ o : Int32 × (Nat → Nat → Int32), K (.inr o) → gRi x 0 0 (XW x.dA N ad o.2 lam ++ tl) o.1) (hT : ∀ o : (Int32 × Int32 × (Nat → Nat → Int32)), K (.inl o) → (1 ≤ x.R.cells ∧ 8 ≤ x.R.slots) ∧ ∀ (q pc : Nat) (lv : List (Nat × Value)), gT x 4 1 8 ((XW x.dA N ad o.2.2 lam ++ tl) ++ fltC q o.1 o.2.1) pc lv q) : gG x 4 0 0 (XW x.dA N ad σ lam ++ tl) 14 [(0, .ref (ad 42)), (1, .int l1), (2, .int l2)] [.int k2, .ref (ad 42)] := by
  unfold f_X8_taken_b14 at hf
  refine g_iconst (v := 2) hc dX8_taken_14 (by decide) ?_
  obtain ⟨r2, h1, hf⟩ := oB_some hf
  cases r2 with
  | inl t4 =>
    have hz0 := Option.some.inj hf; subst hz0
    obtain ⟨hRc, hTq⟩ := hT _ hK
    refine g_callTv hc hz [.int k2, .int 2] [] (ct_X8_need hN h1) (XW_at (k := 42) (Nat.lt_of_lt_of_le (by decide) hN)) rfl (lw_V q288 q290 qs2 q68 q291) rfl hd_X8_need rfl rfl (Nat.le_of_ble_eq_true rfl) hRc dX8_taken_15 (fun c pl Φ1 q hq => ?_) (fun _ h => h.elim)
    obtain ⟨rfl, rfl, rfl⟩ := hq
    exact hTq q _ _
  | inr v3 =>
    have hf := oM_r hf
    refine g_callVzv hc hz [.int k2, .int 2] [] (c_X8_need hN h1) (XW_at (k := 42) (Nat.lt_of_lt_of_le (by decide) hN)) rfl (lw_V q288 q290 qs2 q68 q291) rfl hd_X8_need rfl rfl (Nat.le_of_ble_eq_true rfl) gZ dX8_taken_15 ?_
    refine g_aload_n hc dX8_taken_18 rfl 0 rfl ?_
    refine g_aload_n hc dX8_taken_19 rfl 0 rfl ?_
    refine g_get (v := .int (v3 42 6)) hc in_X8 (XW_at (k := 42) (Nat.lt_of_lt_of_le (by decide) hN)) rfl 6 (by decide) q383 rfl dX8_taken_20 ?_
    refine g_i2l hc dX8_taken_23 ?_
    refine g_iload_n hc dX8_taken_24 rfl 1 rfl ?_
    refine g_i2l hc dX8_taken_25 ?_
    refine g_iload_n hc dX8_taken_26 rfl 2 rfl ?_
    refine g_i2l hc dX8_taken_27 ?_
    obtain ⟨r6, h5, hf⟩ := oB_some hf
    refine g_callSNi hc [.long (Int32.toInt64 (v3 42 6)), .long (Int32.toInt64 l1), .long (Int32.toInt64 l2)] [.ref (ad 42)] (c_X0_in  h5) 11 rfl q262 q60 q261 rfl hd_X0_in rfl rfl (Nat.le_of_ble_eq_true rfl) gZ dX8_taken_28 ?_
    refine g_iconst (v := 3) hc dX8_taken_31 (by decide) ?_
    obtain ⟨r8, h7, hf⟩ := oB_some hf
    cases r8 with
    | inl t10 =>
      have hz0 := Option.some.inj hf; subst hz0
      obtain ⟨hRc, hTq⟩ := hT _ hK
      refine g_callTv hc hz [.int r6, .int 3] [] (ct_X8_need hN h7) (XW_at (k := 42) (Nat.lt_of_lt_of_le (by decide) hN)) rfl (lw_V q288 q290 qs2 q68 q291) rfl hd_X8_need rfl rfl (Nat.le_of_ble_eq_true rfl) hRc dX8_taken_32 (fun c pl Φ1 q hq => ?_) (fun _ h => h.elim)
      obtain ⟨rfl, rfl, rfl⟩ := hq
      exact hTq q _ _
    | inr v9 =>
      have hf := oM_r hf
      refine g_callVzv hc hz [.int r6, .int 3] [] (c_X8_need hN h7) (XW_at (k := 42) (Nat.lt_of_lt_of_le (by decide) hN)) rfl (lw_V q288 q290 qs2 q68 q291) rfl hd_X8_need rfl rfl (Nat.le_of_ble_eq_true rfl) gZ dX8_taken_32 ?_
      refine g_aload_n hc dX8_taken_35 rfl 0 rfl ?_
      refine g_get (v := .int (v9 42 6)) hc in_X8 (XW_at (k := 42) (Nat.lt_of_lt_of_le (by decide) hN)) rfl 6 (by decide) q383 rfl dX8_taken_36 ?_
      refine g_istore_n (lv' := [(3, .int (v9 42 6)), (0, .ref (ad 42)), (1, .int l1), (2, .int l2)]) hc dX8_taken_39 rfl (by decide) rfl ?_
      refine g_aload_n hc dX8_taken_40 rfl 1 rfl ?_
      obtain ⟨r12, h11, hf⟩ := oB_some hf
      cases r12 with
      | inl t14 =>
        have hz0 := Option.some.inj hf; subst hz0
        obtain ⟨hRc, hTq⟩ := hT _ hK
        refine g_callTv hc hz [] [] (ct_X8_next hN h11) (XW_at (k := 42) (Nat.lt_of_lt_of_le (by decide) hN)) rfl (lw_V q280 q282 qs0 q68 q283) rfl hd_X8_next rfl rfl (Nat.le_of_ble_eq_true rfl) hRc dX8_taken_41 (fun c pl Φ1 q hq => ?_) (fun _ h => h.elim)
        obtain ⟨rfl, rfl, rfl⟩ := hq
        exact hTq q _ _
      | inr v13 =>
        have hf := oM_r hf
        refine g_callVzv hc hz [] [] (c_X8_next hN h11) (XW_at (k := 42) (Nat.lt_of_lt_of_le (by decide) hN)) rfl (lw_V q280 q282 qs0 q68 q283) rfl hd_X8_next rfl rfl (Nat.le_of_ble_eq_true rfl) gZ dX8_taken_41 ?_
        refine g_iload_n hc dX8_taken_44 rfl 0 rfl ?_
        have hz := Option.some.inj hf; subst hz
        exact g_iret hc (hR _ hK) dX8_taken_45
def f_X8_taken (σ : (Nat → Nat → Int32)) (l1 : Int32) (l2 : Int32) : Option ((Int32 × Int32 × (Nat → Nat → Int32)) ⊕ (Int32 × (Nat → Nat → Int32))) :=
  if (σ 42 5) = 2 then (f_X8_taken_b14 σ l1 l2 1) else (f_X8_taken_b14 σ l1 l2 0)
theorem w_X8_taken {x : gX} {N : Nat} {ad : Nat → Nat} {tl : va_W} {lam : (Nat → Int64)} (hc : gOk x RX8 cX8_taken 4 6 124) (hz : gZs kS x.A x.s x.s.heap)  (σ : (Nat → Nat → Int32)) (l1 : Int32) (l2 : Int32) (hN : 43 ≤ N) {K : (Int32 × Int32 × (Nat → Nat → Int32)) ⊕ (Int32 × (Nat → Nat → Int32)) → Prop} {o : (Int32 × Int32 × (Nat → Nat → Int32)) ⊕ (Int32 × (Nat → Nat → Int32))} (hf : f_X8_taken σ l1 l2 = some o) (hK : K o) (hR : ∀ o : Int32 × (Nat → Nat → Int32), K (.inr o) → gRi x 0 0 (XW x.dA N ad o.2 lam ++ tl) o.1) (hT : ∀ o : (Int32 × Int32 × (Nat → Nat → Int32)), K (.inl o) → (1 ≤ x.R.cells ∧ 8 ≤ x.R.slots) ∧ ∀ (q pc : Nat) (lv : List (Nat × Value)), gT x 4 1 8 ((XW x.dA N ad o.2.2 lam ++ tl) ++ fltC q o.1 o.2.1) pc lv q) : gG x 4 0 0 (XW x.dA N ad σ lam ++ tl) 0 [(0, .ref (ad 42)), (1, .int l1), (2, .int l2)] [] := by
  unfold f_X8_taken at hf
  refine g_aload_n hc dX8_taken_0 rfl 0 rfl ?_
  refine g_aload_n hc dX8_taken_1 rfl 0 rfl ?_
  refine g_get (v := .int (σ 42 5)) hc in_X8 (XW_at (k := 42) (Nat.lt_of_lt_of_le (by decide) hN)) rfl 5 (by decide) q382 rfl dX8_taken_2 ?_
  refine g_iconst (v := 2) hc dX8_taken_5 (by decide) ?_
  refine g_icmp_ne (tgt := 13) hc dX8_taken_6 (by decide) (fun h1 => ?_) (fun h1 => ?_)
  · have hf := oF h1 hf
    refine g_iconst (v := 0) hc dX8_taken_13 (by decide) ?_
    exact g_lv [0, 1, 2] rfl (w_X8_taken_b14 hc hz σ l1 l2 0 hN (K := K) hf hK hR hT)
  · have hf := oT h1 hf
    refine g_iconst (v := 1) hc dX8_taken_9 (by decide) ?_
    refine g_goto (tgt := 14) hc dX8_taken_10 (by decide) ?_
    exact g_lv [0, 1, 2] rfl (w_X8_taken_b14 hc hz σ l1 l2 1 hN (K := K) hf hK hR hT)
theorem c_X8_taken {l : Launch} {D : va_G} {dA : Nat → ClassId} {N : Nat} {ad : Nat → Nat} {tl : va_W} {lam : (Nat → Int64)} {σ : (Nat → Nat → Int32)} {l1 : Int32} {l2 : Int32} (hN : 43 ≤ N) {o : Int32 × (Nat → Nat → Int32)} (hf : f_X8_taken σ l1 l2 = some (.inr o)) : gIz kS l D dA (XW dA N ad σ lam ++ tl) (XW dA N ad o.2 lam ++ tl) [.ref (ad 42), .int l1, .int l2] o.1 yX8_taken (ws_ yX8_taken cX8_taken 4 (some .int)) ({ frames := 6, cells := 0, slots := 0, locals := 124 } : Room) :=
  g_startIz (own := RX8) ⟨rfl, rfl⟩ (by decide) rfl (Nat.le_of_ble_eq_true rfl) (fun x e hc hz hR => by
    subst e
    exact w_X8_taken hc hz σ l1 l2 hN (K := fun o1 => o1 = .inr o) hf rfl (fun o1 h1 => by cases h1; exact hR) (fun o1 h1 => by cases h1))
theorem ct_X8_taken {l : Launch} {D : va_G} {dA : Nat → ClassId} {N : Nat} {ad : Nat → Nat} {tl : va_W} {lam : (Nat → Int64)} {σ : (Nat → Nat → Int32)} {l1 : Int32} {l2 : Int32} (hN : 43 ≤ N) {o : (Int32 × Int32 × (Nat → Nat → Int32))} (hf : f_X8_taken σ l1 l2 = some (.inl o)) : gTi kS l D dA (XW dA N ad σ lam ++ tl) [.ref (ad 42), .int l1, .int l2] (fun _ => False) (fun t => t.1 = o.1 ∧ t.2.1 = o.2.1 ∧ t.2.2 = XW dA N ad o.2.2 lam ++ tl) yX8_taken (ws_ yX8_taken cX8_taken 4 (some .int)) ({ frames := 6, cells := 1, slots := 8, locals := 124 } : Room) 1 8 :=
  g_startTi (mc := 1) (ms := 8) (own := RX8) (by decide) rfl (Nat.le_of_ble_eq_true rfl) (fun x e hc hz hRc hR hX => by
    subst e
    exact w_X8_taken hc hz σ l1 l2 hN (K := fun o1 => o1 = .inl o) hf rfl (fun o1 h1 => by cases h1) (fun o1 h1 => by
      cases h1
      exact ⟨hRc, fun q pc lv => hX _ _ _ q pc lv ⟨rfl, rfl, rfl⟩⟩))
theorem hd_X8_taken : yX8_taken.cls = RX8 ∧ yX8_taken.cls ≠ "java/lang/invoke/MethodHandle" ∧ yX8_taken.cls ≠ "java/lang/invoke/VarHandle" ∧ (parseMethodDescriptor yX8_taken.desc).map (fun d => d.parameters.length) = some 2 := by decide +kernel
/-! HedgehogLots$Reader.takenCell()I -/
def f_X8_takenCell_b14 (σ : (Nat → Nat → Int32)) (k2 : Int32) : Option ((Int32 × Int32 × (Nat → Nat → Int32)) ⊕ (Int32 × (Nat → Nat → Int32))) :=
  oB (f_X8_need σ k2 2) fun r2 => oM r2 (fun t4 => some (.inl t4)) fun v3 => oB (f_X0_isCell (v3 42 6)) fun r6 => oB (f_X8_need v3 r6 3) fun r8 => oM r8 (fun t10 => some (.inl t10)) fun v9 => oB (f_X5_isFree v9 4 (v9 42 6)) fun r12 => oB (f_X8_need v9 r12 4) fun r14 => oM r14 (fun t16 => some (.inl t16)) fun v15 => oB (f_X8_next_b0 v15) fun r18 => oM r18 (fun t20 => some (.inl t20)) fun v19 => some (.inr ((v15 42 6), v19))
theorem w_X8_takenCell_b14 {x : gX} {N : Nat} {ad : Nat → Nat} {tl : va_W} {lam : (Nat → Int64)} (hc : gOk x RX8 cX8_takenCell 2 6 124) (hz : gZs kS x.A x.s x.s.heap)  (σ : (Nat → Nat → Int32)) (k2 : Int32) (hN : 43 ≤ N) {K : (Int32 × Int32 × (Nat → Nat → Int32)) ⊕ (Int32 × (Nat → Nat → Int32)) → Prop} {o : (Int32 × Int32 × (Nat → Nat → Int32)) ⊕ (Int32 × (Nat → Nat → Int32))} (hf : f_X8_takenCell_b14 σ k2 = some o) (hK : K o) (hR : ∀ o : Int32 × (Nat → Nat → Int32), K (.inr o) → gRi x 0 0 (XW x.dA N ad o.2 lam ++ tl) o.1) (hT : ∀ o : (Int32 × Int32 × (Nat → Nat → Int32)), K (.inl o) → (1 ≤ x.R.cells ∧ 8 ≤ x.R.slots) ∧ ∀ (q pc : Nat) (lv : List (Nat × Value)), gT x 2 1 8 ((XW x.dA N ad o.2.2 lam ++ tl) ++ fltC q o.1 o.2.1) pc lv q) : gG x 2 0 0 (XW x.dA N ad σ lam ++ tl) 14 [(0, .ref (ad 42))] [.int k2, .ref (ad 42)] := by
  unfold f_X8_takenCell_b14 at hf
  refine g_iconst (v := 2) hc dX8_takenCell_14 (by decide) ?_
  obtain ⟨r2, h1, hf⟩ := oB_some hf
  cases r2 with
  | inl t4 =>
    have hz0 := Option.some.inj hf; subst hz0
    obtain ⟨hRc, hTq⟩ := hT _ hK
    refine g_callTv hc hz [.int k2, .int 2] [] (ct_X8_need hN h1) (XW_at (k := 42) (Nat.lt_of_lt_of_le (by decide) hN)) rfl (lw_V q288 q290 qs2 q68 q291) rfl hd_X8_need rfl rfl (Nat.le_of_ble_eq_true rfl) hRc dX8_takenCell_15 (fun c pl Φ1 q hq => ?_) (fun _ h => h.elim)
    obtain ⟨rfl, rfl, rfl⟩ := hq
    exact hTq q _ _
  | inr v3 =>
    have hf := oM_r hf
    refine g_callVzv hc hz [.int k2, .int 2] [] (c_X8_need hN h1) (XW_at (k := 42) (Nat.lt_of_lt_of_le (by decide) hN)) rfl (lw_V q288 q290 qs2 q68 q291) rfl hd_X8_need rfl rfl (Nat.le_of_ble_eq_true rfl) gZ dX8_takenCell_15 ?_
    refine g_aload_n hc dX8_takenCell_18 rfl 0 rfl ?_
    refine g_aload_n hc dX8_takenCell_19 rfl 0 rfl ?_
    refine g_get (v := .int (v3 42 6)) hc in_X8 (XW_at (k := 42) (Nat.lt_of_lt_of_le (by decide) hN)) rfl 6 (by decide) q383 rfl dX8_takenCell_20 ?_
    obtain ⟨r6, h5, hf⟩ := oB_some hf
    refine g_callSNi hc [.int (v3 42 6)] [.ref (ad 42)] (c_X0_isCell  h5) 10 rfl q487 q60 q486 rfl hd_X0_isCell rfl rfl (Nat.le_of_ble_eq_true rfl) gZ dX8_takenCell_23 ?_
    refine g_iconst (v := 3) hc dX8_takenCell_26 (by decide) ?_
    obtain ⟨r8, h7, hf⟩ := oB_some hf
    cases r8 with
    | inl t10 =>
      have hz0 := Option.some.inj hf; subst hz0
      obtain ⟨hRc, hTq⟩ := hT _ hK
      refine g_callTv hc hz [.int r6, .int 3] [] (ct_X8_need hN h7) (XW_at (k := 42) (Nat.lt_of_lt_of_le (by decide) hN)) rfl (lw_V q288 q290 qs2 q68 q291) rfl hd_X8_need rfl rfl (Nat.le_of_ble_eq_true rfl) hRc dX8_takenCell_27 (fun c pl Φ1 q hq => ?_) (fun _ h => h.elim)
      obtain ⟨rfl, rfl, rfl⟩ := hq
      exact hTq q _ _
    | inr v9 =>
      have hf := oM_r hf
      refine g_callVzv hc hz [.int r6, .int 3] [] (c_X8_need hN h7) (XW_at (k := 42) (Nat.lt_of_lt_of_le (by decide) hN)) rfl (lw_V q288 q290 qs2 q68 q291) rfl hd_X8_need rfl rfl (Nat.le_of_ble_eq_true rfl) gZ dX8_takenCell_27 ?_
      refine g_aload_n hc dX8_takenCell_30 rfl 0 rfl ?_
      refine g_aload_n hc dX8_takenCell_31 rfl 0 rfl ?_
      refine g_get (v := .ref (ad (sb 4))) hc in_X8 (XW_at (k := 42) (Nat.lt_of_lt_of_le (by decide) hN)) rfl 1 (by decide) q377 rfl dX8_takenCell_32 ?_
      refine g_aload_n hc dX8_takenCell_35 rfl 0 rfl ?_
      refine g_get (v := .int (v9 42 6)) hc in_X8 (XW_at (k := 42) (Nat.lt_of_lt_of_le (by decide) hN)) rfl 6 (by decide) q383 rfl dX8_takenCell_36 ?_
      obtain ⟨r12, h11, hf⟩ := oB_some hf
      refine g_callVi hc [.int (v9 42 6)] [.ref (ad 42)] (c_X5_isFree (gN8 hN) (gS8 hN) h11) (XW_s0 (gS8 hN)) rfl (lw_V q489 q490 q491 q65 q492) rfl hd_X5_isFree rfl rfl (Nat.le_of_ble_eq_true rfl) gZ dX8_takenCell_39 ?_
      refine g_iconst (v := 4) hc dX8_takenCell_42 (by decide) ?_
      obtain ⟨r14, h13, hf⟩ := oB_some hf
      cases r14 with
      | inl t16 =>
        have hz0 := Option.some.inj hf; subst hz0
        obtain ⟨hRc, hTq⟩ := hT _ hK
        refine g_callTv hc hz [.int r12, .int 4] [] (ct_X8_need hN h13) (XW_at (k := 42) (Nat.lt_of_lt_of_le (by decide) hN)) rfl (lw_V q288 q290 qs2 q68 q291) rfl hd_X8_need rfl rfl (Nat.le_of_ble_eq_true rfl) hRc dX8_takenCell_43 (fun c pl Φ1 q hq => ?_) (fun _ h => h.elim)
        obtain ⟨rfl, rfl, rfl⟩ := hq
        exact hTq q _ _
      | inr v15 =>
        have hf := oM_r hf
        refine g_callVzv hc hz [.int r12, .int 4] [] (c_X8_need hN h13) (XW_at (k := 42) (Nat.lt_of_lt_of_le (by decide) hN)) rfl (lw_V q288 q290 qs2 q68 q291) rfl hd_X8_need rfl rfl (Nat.le_of_ble_eq_true rfl) gZ dX8_takenCell_43 ?_
        refine g_aload_n hc dX8_takenCell_46 rfl 0 rfl ?_
        refine g_get (v := .int (v15 42 6)) hc in_X8 (XW_at (k := 42) (Nat.lt_of_lt_of_le (by decide) hN)) rfl 6 (by decide) q383 rfl dX8_takenCell_47 ?_
        refine g_istore_n (lv' := [(1, .int (v15 42 6)), (0, .ref (ad 42))]) hc dX8_takenCell_50 rfl (by decide) rfl ?_
        refine g_aload_n hc dX8_takenCell_51 rfl 1 rfl ?_
        obtain ⟨r18, h17, hf⟩ := oB_some hf
        cases r18 with
        | inl t20 =>
          have hz0 := Option.some.inj hf; subst hz0
          obtain ⟨hRc, hTq⟩ := hT _ hK
          refine g_callTv hc hz [] [] (ct_X8_next hN h17) (XW_at (k := 42) (Nat.lt_of_lt_of_le (by decide) hN)) rfl (lw_V q280 q282 qs0 q68 q283) rfl hd_X8_next rfl rfl (Nat.le_of_ble_eq_true rfl) hRc dX8_takenCell_52 (fun c pl Φ1 q hq => ?_) (fun _ h => h.elim)
          obtain ⟨rfl, rfl, rfl⟩ := hq
          exact hTq q _ _
        | inr v19 =>
          have hf := oM_r hf
          refine g_callVzv hc hz [] [] (c_X8_next hN h17) (XW_at (k := 42) (Nat.lt_of_lt_of_le (by decide) hN)) rfl (lw_V q280 q282 qs0 q68 q283) rfl hd_X8_next rfl rfl (Nat.le_of_ble_eq_true rfl) gZ dX8_takenCell_52 ?_
          refine g_iload_n hc dX8_takenCell_55 rfl 0 rfl ?_
          have hz := Option.some.inj hf; subst hz
          exact g_iret hc (hR _ hK) dX8_takenCell_56
def f_X8_takenCell (σ : (Nat → Nat → Int32)) : Option ((Int32 × Int32 × (Nat → Nat → Int32)) ⊕ (Int32 × (Nat → Nat → Int32))) :=
  if (σ 42 5) = 2 then (f_X8_takenCell_b14 σ 1) else (f_X8_takenCell_b14 σ 0)
theorem w_X8_takenCell {x : gX} {N : Nat} {ad : Nat → Nat} {tl : va_W} {lam : (Nat → Int64)} (hc : gOk x RX8 cX8_takenCell 2 6 124) (hz : gZs kS x.A x.s x.s.heap)  (σ : (Nat → Nat → Int32)) (hN : 43 ≤ N) {K : (Int32 × Int32 × (Nat → Nat → Int32)) ⊕ (Int32 × (Nat → Nat → Int32)) → Prop} {o : (Int32 × Int32 × (Nat → Nat → Int32)) ⊕ (Int32 × (Nat → Nat → Int32))} (hf : f_X8_takenCell σ = some o) (hK : K o) (hR : ∀ o : Int32 × (Nat → Nat → Int32), K (.inr o) → gRi x 0 0 (XW x.dA N ad o.2 lam ++ tl) o.1) (hT : ∀ o : (Int32 × Int32 × (Nat → Nat → Int32)), K (.inl o) → (1 ≤ x.R.cells ∧ 8 ≤ x.R.slots) ∧ ∀ (q pc : Nat) (lv : List (Nat × Value)), gT x 2 1 8 ((XW x.dA N ad o.2.2 lam ++ tl) ++ fltC q o.1 o.2.1) pc lv q) : gG x 2 0 0 (XW x.dA N ad σ lam ++ tl) 0 [(0, .ref (ad 42))] [] := by
  unfold f_X8_takenCell at hf
  refine g_aload_n hc dX8_takenCell_0 rfl 0 rfl ?_
  refine g_aload_n hc dX8_takenCell_1 rfl 0 rfl ?_
  refine g_get (v := .int (σ 42 5)) hc in_X8 (XW_at (k := 42) (Nat.lt_of_lt_of_le (by decide) hN)) rfl 5 (by decide) q382 rfl dX8_takenCell_2 ?_
  refine g_iconst (v := 2) hc dX8_takenCell_5 (by decide) ?_
  refine g_icmp_ne (tgt := 13) hc dX8_takenCell_6 (by decide) (fun h1 => ?_) (fun h1 => ?_)
  · have hf := oF h1 hf
    refine g_iconst (v := 0) hc dX8_takenCell_13 (by decide) ?_
    exact g_lv [0] rfl (w_X8_takenCell_b14 hc hz σ 0 hN (K := K) hf hK hR hT)
  · have hf := oT h1 hf
    refine g_iconst (v := 1) hc dX8_takenCell_9 (by decide) ?_
    refine g_goto (tgt := 14) hc dX8_takenCell_10 (by decide) ?_
    exact g_lv [0] rfl (w_X8_takenCell_b14 hc hz σ 1 hN (K := K) hf hK hR hT)
theorem c_X8_takenCell {l : Launch} {D : va_G} {dA : Nat → ClassId} {N : Nat} {ad : Nat → Nat} {tl : va_W} {lam : (Nat → Int64)} {σ : (Nat → Nat → Int32)} (hN : 43 ≤ N) {o : Int32 × (Nat → Nat → Int32)} (hf : f_X8_takenCell σ = some (.inr o)) : gIz kS l D dA (XW dA N ad σ lam ++ tl) (XW dA N ad o.2 lam ++ tl) [.ref (ad 42)] o.1 yX8_takenCell (ws_ yX8_takenCell cX8_takenCell 2 (some .int)) ({ frames := 6, cells := 0, slots := 0, locals := 124 } : Room) :=
  g_startIz (own := RX8) ⟨rfl, rfl⟩ (by decide) rfl (Nat.le_of_ble_eq_true rfl) (fun x e hc hz hR => by
    subst e
    exact w_X8_takenCell hc hz σ hN (K := fun o1 => o1 = .inr o) hf rfl (fun o1 h1 => by cases h1; exact hR) (fun o1 h1 => by cases h1))
theorem ct_X8_takenCell {l : Launch} {D : va_G} {dA : Nat → ClassId} {N : Nat} {ad : Nat → Nat} {tl : va_W} {lam : (Nat → Int64)} {σ : (Nat → Nat → Int32)} (hN : 43 ≤ N) {o : (Int32 × Int32 × (Nat → Nat → Int32))} (hf : f_X8_takenCell σ = some (.inl o)) : gTi kS l D dA (XW dA N ad σ lam ++ tl) [.ref (ad 42)] (fun _ => False) (fun t => t.1 = o.1 ∧ t.2.1 = o.2.1 ∧ t.2.2 = XW dA N ad o.2.2 lam ++ tl) yX8_takenCell (ws_ yX8_takenCell cX8_takenCell 2 (some .int)) ({ frames := 6, cells := 1, slots := 8, locals := 124 } : Room) 1 8 :=
  g_startTi (mc := 1) (ms := 8) (own := RX8) (by decide) rfl (Nat.le_of_ble_eq_true rfl) (fun x e hc hz hRc hR hX => by
    subst e
    exact w_X8_takenCell hc hz σ hN (K := fun o1 => o1 = .inl o) hf rfl (fun o1 h1 => by cases h1) (fun o1 h1 => by
      cases h1
      exact ⟨hRc, fun q pc lv => hX _ _ _ q pc lv ⟨rfl, rfl, rfl⟩⟩))
theorem hd_X8_takenCell : yX8_takenCell.cls = RX8 ∧ yX8_takenCell.cls ≠ "java/lang/invoke/MethodHandle" ∧ yX8_takenCell.cls ≠ "java/lang/invoke/VarHandle" ∧ (parseMethodDescriptor yX8_takenCell.desc).map (fun d => d.parameters.length) = some 0 := by decide +kernel
/-! HedgehogLots$Reader.suit()V -/
def f_X8_suit (σ : (Nat → Nat → Int32)) : Option ((Int32 × Int32 × (Nat → Nat → Int32)) ⊕ ((Nat → Nat → Int32))) :=
  oB (f_X8_taken σ 0 3) fun r2 => oM r2 (fun t4 => some (.inl t4)) fun v3 => oB (f_X8_taken v3.2 0 7) fun r6 => oM r6 (fun t8 => some (.inl t8)) fun v7 => oL (upd2 v7.2 42 2 (if (v7.2 42 2) < v3.1 then v3.1 else (v7.2 42 2))) fun s9 => oC (inb (2 * (s9 (sb 4) 7)) 12) <| oL (upd2 s9 (sb 4 + 5) (2 * (s9 (sb 4) 7)).toNatClampNeg (nbt (Int8.toInt32 (Int32.toInt8 v3.1)))) fun s11 => oC (inb ((2 * (s11 (sb 4) 7)) + 1) 12) <| oL (upd2 s11 (sb 4 + 5) ((2 * (s11 (sb 4) 7)) + 1).toNatClampNeg (nbt (Int8.toInt32 (Int32.toInt8 v7.1)))) fun s14 => oL (upd2 s14 (sb 4) 7 ((s14 (sb 4) 7) + 1)) fun s17 => some (.inr s17)
theorem w_X8_suit {x : gX} {N : Nat} {ad : Nat → Nat} {tl : va_W} {lam : (Nat → Int64)} (hc : gOk x RX8 cX8_suit 3 7 147) (hz : gZs kS x.A x.s x.s.heap)  (σ : (Nat → Nat → Int32)) (hN : 43 ≤ N) {K : (Int32 × Int32 × (Nat → Nat → Int32)) ⊕ ((Nat → Nat → Int32)) → Prop} {o : (Int32 × Int32 × (Nat → Nat → Int32)) ⊕ ((Nat → Nat → Int32))} (hf : f_X8_suit σ = some o) (hK : K o) (hR : ∀ o : (Nat → Nat → Int32), K (.inr o) → gRv x 0 0 (XW x.dA N ad o lam ++ tl)) (hT : ∀ o : (Int32 × Int32 × (Nat → Nat → Int32)), K (.inl o) → (1 ≤ x.R.cells ∧ 8 ≤ x.R.slots) ∧ ∀ (q pc : Nat) (lv : List (Nat × Value)), gT x 3 1 8 ((XW x.dA N ad o.2.2 lam ++ tl) ++ fltC q o.1 o.2.1) pc lv q) : gG x 3 0 0 (XW x.dA N ad σ lam ++ tl) 0 [(0, .ref (ad 42))] [] := by
  unfold f_X8_suit at hf
  refine g_aload_n hc dX8_suit_0 rfl 0 rfl ?_
  refine g_iconst (v := 0) hc dX8_suit_1 (by decide) ?_
  refine g_iconst (v := 3) hc dX8_suit_2 (by decide) ?_
  obtain ⟨r2, h1, hf⟩ := oB_some hf
  cases r2 with
  | inl t4 =>
    have hz0 := Option.some.inj hf; subst hz0
    obtain ⟨hRc, hTq⟩ := hT _ hK
    refine g_callTi hc hz [.int 0, .int 3] [] (ct_X8_taken hN h1) (XW_at (k := 42) (Nat.lt_of_lt_of_le (by decide) hN)) rfl (lw_V q501 q503 qs11 q68 q504) rfl hd_X8_taken rfl rfl (Nat.le_of_ble_eq_true rfl) hRc dX8_suit_3 (fun c pl Φ1 q hq => ?_) (fun _ _ h => h.elim)
    obtain ⟨rfl, rfl, rfl⟩ := hq
    exact hTq q _ _
  | inr v3 =>
    have hf := oM_r hf
    refine g_callVzi hc hz [.int 0, .int 3] [] (c_X8_taken hN h1) (XW_at (k := 42) (Nat.lt_of_lt_of_le (by decide) hN)) rfl (lw_V q501 q503 qs11 q68 q504) rfl hd_X8_taken rfl rfl (Nat.le_of_ble_eq_true rfl) gZ dX8_suit_3 ?_
    refine g_istore_n (lv' := [(1, .int v3.1), (0, .ref (ad 42))]) hc dX8_suit_6 rfl (by decide) rfl ?_
    refine g_aload_n hc dX8_suit_7 rfl 1 rfl ?_
    refine g_iconst (v := 0) hc dX8_suit_8 (by decide) ?_
    refine g_bipush (v := 7) hc dX8_suit_9 (by decide) ?_
    obtain ⟨r6, h5, hf⟩ := oB_some hf
    cases r6 with
    | inl t8 =>
      have hz0 := Option.some.inj hf; subst hz0
      obtain ⟨hRc, hTq⟩ := hT _ hK
      refine g_callTi hc hz [.int 0, .int 7] [] (ct_X8_taken hN h5) (XW_at (k := 42) (Nat.lt_of_lt_of_le (by decide) hN)) rfl (lw_V q501 q503 qs11 q68 q504) rfl hd_X8_taken rfl rfl (Nat.le_of_ble_eq_true rfl) hRc dX8_suit_11 (fun c pl Φ1 q hq => ?_) (fun _ _ h => h.elim)
      obtain ⟨rfl, rfl, rfl⟩ := hq
      exact hTq q _ _
    | inr v7 =>
      have hf := oM_r hf
      refine g_callVzi hc hz [.int 0, .int 7] [] (c_X8_taken hN h5) (XW_at (k := 42) (Nat.lt_of_lt_of_le (by decide) hN)) rfl (lw_V q501 q503 qs11 q68 q504) rfl hd_X8_taken rfl rfl (Nat.le_of_ble_eq_true rfl) gZ dX8_suit_11 ?_
      refine g_istore_n (lv' := [(2, .int v7.1), (1, .int v3.1), (0, .ref (ad 42))]) hc dX8_suit_14 rfl (by decide) rfl ?_
      refine g_aload_n hc dX8_suit_15 rfl 2 rfl ?_
      refine g_aload_n hc dX8_suit_16 rfl 2 rfl ?_
      refine g_get (v := .int (v7.2 42 2)) hc in_X8 (XW_at (k := 42) (Nat.lt_of_lt_of_le (by decide) hN)) rfl 2 (by decide) q379 rfl dX8_suit_17 ?_
      refine g_iload_n hc dX8_suit_20 rfl 1 rfl ?_
      refine g_max hc q518 q519 q520 (by decide) (Nat.le_of_ble_eq_true rfl) gZ dX8_suit_21 ?_
      obtain ⟨s9, e10, hf⟩ := oL_some hf
      refine g_put (v := .int (if (v7.2 42 2) < v3.1 then v3.1 else (v7.2 42 2))) hc in_X8 tyX8_ok nmX8 (XW_at (k := 42) (Nat.lt_of_lt_of_le (by decide) hN)) rfl 2 (by decide) q379 rfl rfl rfl (Nat.le_of_ble_eq_true rfl) (XW_set (σ1 := s9) (k := 42) (Nat.lt_of_lt_of_le (by decide) hN) e10 rfl) dX8_suit_24 ?_
      refine g_aload_n hc dX8_suit_27 rfl 2 rfl ?_
      refine g_get (v := .ref (ad (sb 4))) hc in_X8 (XW_at (k := 42) (Nat.lt_of_lt_of_le (by decide) hN)) rfl 1 (by decide) q377 rfl dX8_suit_28 ?_
      refine g_getN (v := .ref (ad (sb 4 + 5))) hc in_X5 (XW_s0 (gS8 hN)) rfl 8 (by decide) 14 rfl rfl dX8_suit_31 ?_
      refine g_iconst (v := 2) hc dX8_suit_34 (by decide) ?_
      refine g_aload_n hc dX8_suit_35 rfl 2 rfl ?_
      refine g_get (v := .ref (ad (sb 4))) hc in_X8 (XW_at (k := 42) (Nat.lt_of_lt_of_le (by decide) hN)) rfl 1 (by decide) q377 rfl dX8_suit_36 ?_
      refine g_getN (v := .int (s9 (sb 4) 7)) hc in_X5 (XW_s0 (gS8 hN)) rfl 7 (by decide) 12 rfl rfl dX8_suit_39 ?_
      refine g_imul hc dX8_suit_42 ?_
      refine g_iload_n hc dX8_suit_43 rfl 1 rfl ?_
      refine g_i2b hc dX8_suit_44 ?_
      obtain ⟨h13, hf⟩ := oC_some hf
      obtain ⟨s11, e12, hf⟩ := oL_some hf
      refine g_bast (n := 12) (f := s9 (sb 4 + 5)) hc (XW_s5 (gS8 hN)) h13 (XW_pa (σ1 := s11) (gS8 hN) (k := 5) (by decide) e12 rfl) dX8_suit_45 ?_
      refine g_aload_n hc dX8_suit_46 rfl 2 rfl ?_
      refine g_get (v := .ref (ad (sb 4))) hc in_X8 (XW_at (k := 42) (Nat.lt_of_lt_of_le (by decide) hN)) rfl 1 (by decide) q377 rfl dX8_suit_47 ?_
      refine g_getN (v := .ref (ad (sb 4 + 5))) hc in_X5 (XW_s0 (gS8 hN)) rfl 8 (by decide) 14 rfl rfl dX8_suit_50 ?_
      refine g_iconst (v := 2) hc dX8_suit_53 (by decide) ?_
      refine g_aload_n hc dX8_suit_54 rfl 2 rfl ?_
      refine g_get (v := .ref (ad (sb 4))) hc in_X8 (XW_at (k := 42) (Nat.lt_of_lt_of_le (by decide) hN)) rfl 1 (by decide) q377 rfl dX8_suit_55 ?_
      refine g_getN (v := .int (s11 (sb 4) 7)) hc in_X5 (XW_s0 (gS8 hN)) rfl 7 (by decide) 12 rfl rfl dX8_suit_58 ?_
      refine g_imul hc dX8_suit_61 ?_
      refine g_iconst (v := 1) hc dX8_suit_62 (by decide) ?_
      refine g_iadd hc dX8_suit_63 ?_
      refine g_iload_n hc dX8_suit_64 rfl 0 rfl ?_
      refine g_i2b hc dX8_suit_65 ?_
      obtain ⟨h16, hf⟩ := oC_some hf
      obtain ⟨s14, e15, hf⟩ := oL_some hf
      refine g_bast (n := 12) (f := s11 (sb 4 + 5)) hc (XW_s5 (gS8 hN)) h16 (XW_pa (σ1 := s14) (gS8 hN) (k := 5) (by decide) e15 rfl) dX8_suit_66 ?_
      refine g_aload_n hc dX8_suit_67 rfl 2 rfl ?_
      refine g_get (v := .ref (ad (sb 4))) hc in_X8 (XW_at (k := 42) (Nat.lt_of_lt_of_le (by decide) hN)) rfl 1 (by decide) q377 rfl dX8_suit_68 ?_
      refine g_dup hc dX8_suit_71 rfl ?_
      refine g_getN (v := .int (s14 (sb 4) 7)) hc in_X5 (XW_s0 (gS8 hN)) rfl 7 (by decide) 12 rfl rfl dX8_suit_72 ?_
      refine g_iconst (v := 1) hc dX8_suit_75 (by decide) ?_
      refine g_iadd hc dX8_suit_76 ?_
      obtain ⟨s17, e18, hf⟩ := oL_some hf
      refine g_putN (v := .int ((s14 (sb 4) 7) + 1)) hc in_X5 tyX5_ok nmX5 (XW_s0 (gS8 hN)) rfl 7 (by decide) 12 rfl rfl rfl rfl (Nat.le_of_ble_eq_true rfl) (XW_p0 (σ1 := s17) (gS8 hN) e18 rfl) dX8_suit_77 ?_
      have hz := Option.some.inj hf; subst hz
      exact g_vret hc (hR _ hK) dX8_suit_80
theorem c_X8_suit {l : Launch} {D : va_G} {dA : Nat → ClassId} {N : Nat} {ad : Nat → Nat} {tl : va_W} {lam : (Nat → Int64)} {σ : (Nat → Nat → Int32)} (hN : 43 ≤ N) {o : (Nat → Nat → Int32)} (hf : f_X8_suit σ = some (.inr o)) : gVz kS l D dA (XW dA N ad σ lam ++ tl) (XW dA N ad o lam ++ tl) [.ref (ad 42)] yX8_suit (ws_ yX8_suit cX8_suit 3 none) ({ frames := 7, cells := 0, slots := 0, locals := 147 } : Room) :=
  g_startVz (own := RX8) ⟨rfl, rfl⟩ (by decide) rfl (Nat.le_of_ble_eq_true rfl) (fun x e hc hz hR => by
    subst e
    exact w_X8_suit hc hz σ hN (K := fun o1 => o1 = .inr o) hf rfl (fun o1 h1 => by cases h1; exact hR) (fun o1 h1 => by cases h1))
theorem ct_X8_suit {l : Launch} {D : va_G} {dA : Nat → ClassId} {N : Nat} {ad : Nat → Nat} {tl : va_W} {lam : (Nat → Int64)} {σ : (Nat → Nat → Int32)} (hN : 43 ≤ N) {o : (Int32 × Int32 × (Nat → Nat → Int32))} (hf : f_X8_suit σ = some (.inl o)) : gTv kS l D dA (XW dA N ad σ lam ++ tl) [.ref (ad 42)] (fun _ => False) (fun t => t.1 = o.1 ∧ t.2.1 = o.2.1 ∧ t.2.2 = XW dA N ad o.2.2 lam ++ tl) yX8_suit (ws_ yX8_suit cX8_suit 3 none) ({ frames := 7, cells := 1, slots := 8, locals := 147 } : Room) 1 8 :=
  g_startTv (mc := 1) (ms := 8) (own := RX8) (by decide) rfl (Nat.le_of_ble_eq_true rfl) (fun x e hc hz hnm hRc hR hX => by
    subst e
    exact w_X8_suit hc hz σ hN (K := fun o1 => o1 = .inl o) hf rfl (fun o1 h1 => by cases h1) (fun o1 h1 => by
      cases h1
      exact ⟨hRc, fun q pc lv => hX _ _ _ q pc lv ⟨rfl, rfl, rfl⟩⟩))
theorem hd_X8_suit : yX8_suit.cls = RX8 ∧ yX8_suit.cls ≠ "java/lang/invoke/MethodHandle" ∧ yX8_suit.cls ≠ "java/lang/invoke/VarHandle" ∧ (parseMethodDescriptor yX8_suit.desc).map (fun d => d.parameters.length) = some 0 := by decide +kernel
/-! HedgehogLots$Reader.told(I)V -/
def f_X8_told (σ : (Nat → Nat → Int32)) (l1 : Int32) : Option ((Int32 × Int32 × (Nat → Nat → Int32)) ⊕ ((Nat → Nat → Int32))) :=
  if l1 = 4 then (oB (f_X8_takenCell σ) fun r4 => oM r4 (fun t6 => some (.inl t6)) fun v5 => oB (f_X8_taken v5.2 0 3) fun r8 => oM r8 (fun t10 => some (.inl t10)) fun v9 => oB (f_X5_drives v9.2 4 v5.1 v9.1) fun r12 => some (.inr r12)) else (if l1 = 5 then (oB (f_X8_takenCell σ) fun r15 => oM r15 (fun t17 => some (.inl t17)) fun v16 => oB (f_X5_lays v16.2 4 v16.1) fun r19 => some (.inr r19)) else (if l1 = 6 then (oB (f_X8_suit σ) fun r22 => oM r22 (fun t24 => some (.inl t24)) fun v23 => some (.inr v23)) else (oC (inb ((2 * (σ (sb 4) 5)) + 0) 8) <| oL (upd2 σ (sb 4 + 4) ((2 * (σ (sb 4) 5)) + 0).toNatClampNeg (nbt (Int8.toInt32 (Int32.toInt8 l1)))) fun s25 => oB (f_X8_taken s25 1 9) fun r29 => oM r29 (fun t31 => some (.inl t31)) fun v30 => oC (inb ((2 * (s25 (sb 4) 5)) + 1) 8) <| oL (upd2 v30.2 (sb 4 + 4) ((2 * (s25 (sb 4) 5)) + 1).toNatClampNeg (nbt (Int8.toInt32 (Int32.toInt8 v30.1)))) fun s32 => oL (upd2 s32 (sb 4) 5 ((s32 (sb 4) 5) + 1)) fun s35 => some (.inr s35))))
theorem w_X8_told {x : gX} {N : Nat} {ad : Nat → Nat} {tl : va_W} {lam : (Nat → Int64)} (hc : gOk x RX8 cX8_told 3 8 169) (hz : gZs kS x.A x.s x.s.heap)  (σ : (Nat → Nat → Int32)) (l1 : Int32) (hN : 43 ≤ N) {K : (Int32 × Int32 × (Nat → Nat → Int32)) ⊕ ((Nat → Nat → Int32)) → Prop} {o : (Int32 × Int32 × (Nat → Nat → Int32)) ⊕ ((Nat → Nat → Int32))} (hf : f_X8_told σ l1 = some o) (hK : K o) (hR : ∀ o : (Nat → Nat → Int32), K (.inr o) → gRv x 0 0 (XW x.dA N ad o lam ++ tl)) (hT : ∀ o : (Int32 × Int32 × (Nat → Nat → Int32)), K (.inl o) → (1 ≤ x.R.cells ∧ 8 ≤ x.R.slots) ∧ ∀ (q pc : Nat) (lv : List (Nat × Value)), gT x 3 1 8 ((XW x.dA N ad o.2.2 lam ++ tl) ++ fltC q o.1 o.2.1) pc lv q) : gG x 3 0 0 (XW x.dA N ad σ lam ++ tl) 0 [(0, .ref (ad 42)), (1, .int l1)] [] := by
  unfold f_X8_told at hf
  refine g_iload_n hc dX8_told_0 rfl 1 rfl ?_
  by_cases h2 : l1 = 4
  · have hf := oT h2 hf
    refine g_tabIn (tgt := 28) hc dX8_told_1 (by rw [h2]; decide) (by rw [h2]; decide) (by rw [h2]; rfl) (by decide) ?_
    refine g_aload_n hc dX8_told_28 rfl 0 rfl ?_
    obtain ⟨r4, h3, hf⟩ := oB_some hf
    cases r4 with
    | inl t6 =>
      have hz0 := Option.some.inj hf; subst hz0
      obtain ⟨hRc, hTq⟩ := hT _ hK
      refine g_callTi hc hz [] [] (ct_X8_takenCell hN h3) (XW_at (k := 42) (Nat.lt_of_lt_of_le (by decide) hN)) rfl (lw_V q481 q483 qs10 q68 q484) rfl hd_X8_takenCell rfl rfl (Nat.le_of_ble_eq_true rfl) hRc dX8_told_29 (fun c pl Φ1 q hq => ?_) (fun _ _ h => h.elim)
      obtain ⟨rfl, rfl, rfl⟩ := hq
      exact hTq q _ _
    | inr v5 =>
      have hf := oM_r hf
      refine g_callVzi hc hz [] [] (c_X8_takenCell hN h3) (XW_at (k := 42) (Nat.lt_of_lt_of_le (by decide) hN)) rfl (lw_V q481 q483 qs10 q68 q484) rfl hd_X8_takenCell rfl rfl (Nat.le_of_ble_eq_true rfl) gZ dX8_told_29 ?_
      refine g_istore_n (lv' := [(2, .int v5.1), (0, .ref (ad 42)), (1, .int l1)]) hc dX8_told_32 rfl (by decide) rfl ?_
      refine g_aload_n hc dX8_told_33 rfl 1 rfl ?_
      refine g_get (v := .ref (ad (sb 4))) hc in_X8 (XW_at (k := 42) (Nat.lt_of_lt_of_le (by decide) hN)) rfl 1 (by decide) q377 rfl dX8_told_34 ?_
      refine g_iload_n hc dX8_told_37 rfl 0 rfl ?_
      refine g_aload_n hc dX8_told_38 rfl 1 rfl ?_
      refine g_iconst (v := 0) hc dX8_told_39 (by decide) ?_
      refine g_iconst (v := 3) hc dX8_told_40 (by decide) ?_
      obtain ⟨r8, h7, hf⟩ := oB_some hf
      cases r8 with
      | inl t10 =>
        have hz0 := Option.some.inj hf; subst hz0
        obtain ⟨hRc, hTq⟩ := hT _ hK
        refine g_callTi hc hz [.int 0, .int 3] [.int v5.1, .ref (ad (sb 4))] (ct_X8_taken hN h7) (XW_at (k := 42) (Nat.lt_of_lt_of_le (by decide) hN)) rfl (lw_V q501 q503 qs11 q68 q504) rfl hd_X8_taken rfl rfl (Nat.le_of_ble_eq_true rfl) hRc dX8_told_41 (fun c pl Φ1 q hq => ?_) (fun _ _ h => h.elim)
        obtain ⟨rfl, rfl, rfl⟩ := hq
        exact hTq q _ _
      | inr v9 =>
        have hf := oM_r hf
        refine g_callVzi hc hz [.int 0, .int 3] [.int v5.1, .ref (ad (sb 4))] (c_X8_taken hN h7) (XW_at (k := 42) (Nat.lt_of_lt_of_le (by decide) hN)) rfl (lw_V q501 q503 qs11 q68 q504) rfl hd_X8_taken rfl rfl (Nat.le_of_ble_eq_true rfl) gZ dX8_told_41 ?_
        obtain ⟨r12, h11, hf⟩ := oB_some hf
        refine g_callVv hc [.int v5.1, .int v9.1] [] (c_X5_drives (gN8 hN) (gS8 hN) h11) (XW_s0 (gS8 hN)) rfl (lw_V q506 q507 q508 q65 q509) rfl hd_X5_drives rfl rfl (Nat.le_of_ble_eq_true rfl) gZ dX8_told_44 ?_
        refine g_goto (tgt := 132) hc dX8_told_47 (by decide) ?_
        have hz := Option.some.inj hf; subst hz
        exact g_vret hc (hR _ hK) dX8_told_132
  have hf := oF h2 hf
  by_cases h13 : l1 = 5
  · have hf := oT h13 hf
    refine g_tabIn (tgt := 50) hc dX8_told_1 (by rw [h13]; decide) (by rw [h13]; decide) (by rw [h13]; rfl) (by decide) ?_
    refine g_aload_n hc dX8_told_50 rfl 0 rfl ?_
    refine g_get (v := .ref (ad (sb 4))) hc in_X8 (XW_at (k := 42) (Nat.lt_of_lt_of_le (by decide) hN)) rfl 1 (by decide) q377 rfl dX8_told_51 ?_
    refine g_aload_n hc dX8_told_54 rfl 0 rfl ?_
    obtain ⟨r15, h14, hf⟩ := oB_some hf
    cases r15 with
    | inl t17 =>
      have hz0 := Option.some.inj hf; subst hz0
      obtain ⟨hRc, hTq⟩ := hT _ hK
      refine g_callTi hc hz [] [.ref (ad (sb 4))] (ct_X8_takenCell hN h14) (XW_at (k := 42) (Nat.lt_of_lt_of_le (by decide) hN)) rfl (lw_V q481 q483 qs10 q68 q484) rfl hd_X8_takenCell rfl rfl (Nat.le_of_ble_eq_true rfl) hRc dX8_told_55 (fun c pl Φ1 q hq => ?_) (fun _ _ h => h.elim)
      obtain ⟨rfl, rfl, rfl⟩ := hq
      exact hTq q _ _
    | inr v16 =>
      have hf := oM_r hf
      refine g_callVzi hc hz [] [.ref (ad (sb 4))] (c_X8_takenCell hN h14) (XW_at (k := 42) (Nat.lt_of_lt_of_le (by decide) hN)) rfl (lw_V q481 q483 qs10 q68 q484) rfl hd_X8_takenCell rfl rfl (Nat.le_of_ble_eq_true rfl) gZ dX8_told_55 ?_
      obtain ⟨r19, h18, hf⟩ := oB_some hf
      refine g_callVv hc [.int v16.1] [] (c_X5_lays (gN8 hN) (gS8 hN) h18) (XW_s0 (gS8 hN)) rfl (lw_V q510 q511 q512 q65 q513) rfl hd_X5_lays rfl rfl (Nat.le_of_ble_eq_true rfl) gZ dX8_told_58 ?_
      refine g_goto (tgt := 132) hc dX8_told_61 (by decide) ?_
      have hz := Option.some.inj hf; subst hz
      exact g_vret hc (hR _ hK) dX8_told_132
  have hf := oF h13 hf
  by_cases h20 : l1 = 6
  · have hf := oT h20 hf
    refine g_tabIn (tgt := 64) hc dX8_told_1 (by rw [h20]; decide) (by rw [h20]; decide) (by rw [h20]; rfl) (by decide) ?_
    refine g_aload_n hc dX8_told_64 rfl 0 rfl ?_
    obtain ⟨r22, h21, hf⟩ := oB_some hf
    cases r22 with
    | inl t24 =>
      have hz0 := Option.some.inj hf; subst hz0
      obtain ⟨hRc, hTq⟩ := hT _ hK
      refine g_callTv hc hz [] [] (ct_X8_suit hN h21) (XW_at (k := 42) (Nat.lt_of_lt_of_le (by decide) hN)) rfl (lw_V q514 q516 qs12 q68 q517) rfl hd_X8_suit rfl rfl (Nat.le_of_ble_eq_true rfl) hRc dX8_told_65 (fun c pl Φ1 q hq => ?_) (fun _ h => h.elim)
      obtain ⟨rfl, rfl, rfl⟩ := hq
      exact hTq q _ _
    | inr v23 =>
      have hf := oM_r hf
      refine g_callVzv hc hz [] [] (c_X8_suit hN h21) (XW_at (k := 42) (Nat.lt_of_lt_of_le (by decide) hN)) rfl (lw_V q514 q516 qs12 q68 q517) rfl hd_X8_suit rfl rfl (Nat.le_of_ble_eq_true rfl) gZ dX8_told_65 ?_
      refine g_goto (tgt := 132) hc dX8_told_68 (by decide) ?_
      have hz := Option.some.inj hf; subst hz
      exact g_vret hc (hR _ hK) dX8_told_132
  have hf := oF h20 hf
  have h2 := lv_neT h2 (a := 4) (by decide)
  have h13 := lv_neT h13 (a := 5) (by decide)
  have h20 := lv_neT h20 (a := 6) (by decide)
  refine g_tabOut (tgt := 71) hc dX8_told_1 (by omega) (by decide) ?_
  refine g_aload_n hc dX8_told_71 rfl 0 rfl ?_
  refine g_get (v := .ref (ad (sb 4))) hc in_X8 (XW_at (k := 42) (Nat.lt_of_lt_of_le (by decide) hN)) rfl 1 (by decide) q377 rfl dX8_told_72 ?_
  refine g_getN (v := .ref (ad (sb 4 + 4))) hc in_X5 (XW_s0 (gS8 hN)) rfl 6 (by decide) 10 rfl rfl dX8_told_75 ?_
  refine g_iconst (v := 2) hc dX8_told_78 (by decide) ?_
  refine g_aload_n hc dX8_told_79 rfl 0 rfl ?_
  refine g_get (v := .ref (ad (sb 4))) hc in_X8 (XW_at (k := 42) (Nat.lt_of_lt_of_le (by decide) hN)) rfl 1 (by decide) q377 rfl dX8_told_80 ?_
  refine g_getN (v := .int (σ (sb 4) 5)) hc in_X5 (XW_s0 (gS8 hN)) rfl 5 (by decide) 7 rfl rfl dX8_told_83 ?_
  refine g_imul hc dX8_told_86 ?_
  refine g_iconst (v := 0) hc dX8_told_87 (by decide) ?_
  refine g_iadd hc dX8_told_88 ?_
  refine g_iload_n hc dX8_told_89 rfl 1 rfl ?_
  refine g_i2b hc dX8_told_90 ?_
  obtain ⟨h27, hf⟩ := oC_some hf
  obtain ⟨s25, e26, hf⟩ := oL_some hf
  refine g_bast (n := 8) (f := σ (sb 4 + 4)) hc (XW_s4 (gS8 hN)) h27 (XW_pa (σ1 := s25) (gS8 hN) (k := 4) (by decide) e26 rfl) dX8_told_91 ?_
  refine g_aload_n hc dX8_told_92 rfl 0 rfl ?_
  refine g_get (v := .ref (ad (sb 4))) hc in_X8 (XW_at (k := 42) (Nat.lt_of_lt_of_le (by decide) hN)) rfl 1 (by decide) q377 rfl dX8_told_93 ?_
  refine g_getN (v := .ref (ad (sb 4 + 4))) hc in_X5 (XW_s0 (gS8 hN)) rfl 6 (by decide) 10 rfl rfl dX8_told_96 ?_
  refine g_iconst (v := 2) hc dX8_told_99 (by decide) ?_
  refine g_aload_n hc dX8_told_100 rfl 0 rfl ?_
  refine g_get (v := .ref (ad (sb 4))) hc in_X8 (XW_at (k := 42) (Nat.lt_of_lt_of_le (by decide) hN)) rfl 1 (by decide) q377 rfl dX8_told_101 ?_
  refine g_getN (v := .int (s25 (sb 4) 5)) hc in_X5 (XW_s0 (gS8 hN)) rfl 5 (by decide) 7 rfl rfl dX8_told_104 ?_
  refine g_imul hc dX8_told_107 ?_
  refine g_iconst (v := 1) hc dX8_told_108 (by decide) ?_
  refine g_iadd hc dX8_told_109 ?_
  refine g_aload_n hc dX8_told_110 rfl 0 rfl ?_
  refine g_iconst (v := 1) hc dX8_told_111 (by decide) ?_
  refine g_bipush (v := 9) hc dX8_told_112 (by decide) ?_
  obtain ⟨r29, h28, hf⟩ := oB_some hf
  cases r29 with
  | inl t31 =>
    have hz0 := Option.some.inj hf; subst hz0
    obtain ⟨hRc, hTq⟩ := hT _ hK
    refine g_callTi hc hz [.int 1, .int 9] [.int ((2 * (s25 (sb 4) 5)) + 1), .ref (ad (sb 4 + 4))] (ct_X8_taken hN h28) (XW_at (k := 42) (Nat.lt_of_lt_of_le (by decide) hN)) rfl (lw_V q501 q503 qs11 q68 q504) rfl hd_X8_taken rfl rfl (Nat.le_of_ble_eq_true rfl) hRc dX8_told_114 (fun c pl Φ1 q hq => ?_) (fun _ _ h => h.elim)
    obtain ⟨rfl, rfl, rfl⟩ := hq
    exact hTq q _ _
  | inr v30 =>
    have hf := oM_r hf
    refine g_callVzi hc hz [.int 1, .int 9] [.int ((2 * (s25 (sb 4) 5)) + 1), .ref (ad (sb 4 + 4))] (c_X8_taken hN h28) (XW_at (k := 42) (Nat.lt_of_lt_of_le (by decide) hN)) rfl (lw_V q501 q503 qs11 q68 q504) rfl hd_X8_taken rfl rfl (Nat.le_of_ble_eq_true rfl) gZ dX8_told_114 ?_
    refine g_i2b hc dX8_told_117 ?_
    obtain ⟨h34, hf⟩ := oC_some hf
    obtain ⟨s32, e33, hf⟩ := oL_some hf
    refine g_bast (n := 8) (f := v30.2 (sb 4 + 4)) hc (XW_s4 (gS8 hN)) h34 (XW_pa (σ1 := s32) (gS8 hN) (k := 4) (by decide) e33 rfl) dX8_told_118 ?_
    refine g_aload_n hc dX8_told_119 rfl 0 rfl ?_
    refine g_get (v := .ref (ad (sb 4))) hc in_X8 (XW_at (k := 42) (Nat.lt_of_lt_of_le (by decide) hN)) rfl 1 (by decide) q377 rfl dX8_told_120 ?_
    refine g_dup hc dX8_told_123 rfl ?_
    refine g_getN (v := .int (s32 (sb 4) 5)) hc in_X5 (XW_s0 (gS8 hN)) rfl 5 (by decide) 7 rfl rfl dX8_told_124 ?_
    refine g_iconst (v := 1) hc dX8_told_127 (by decide) ?_
    refine g_iadd hc dX8_told_128 ?_
    obtain ⟨s35, e36, hf⟩ := oL_some hf
    refine g_putN (v := .int ((s32 (sb 4) 5) + 1)) hc in_X5 tyX5_ok nmX5 (XW_s0 (gS8 hN)) rfl 5 (by decide) 7 rfl rfl rfl rfl (Nat.le_of_ble_eq_true rfl) (XW_p0 (σ1 := s35) (gS8 hN) e36 rfl) dX8_told_129 ?_
    have hz := Option.some.inj hf; subst hz
    exact g_vret hc (hR _ hK) dX8_told_132
theorem c_X8_told {l : Launch} {D : va_G} {dA : Nat → ClassId} {N : Nat} {ad : Nat → Nat} {tl : va_W} {lam : (Nat → Int64)} {σ : (Nat → Nat → Int32)} {l1 : Int32} (hN : 43 ≤ N) {o : (Nat → Nat → Int32)} (hf : f_X8_told σ l1 = some (.inr o)) : gVz kS l D dA (XW dA N ad σ lam ++ tl) (XW dA N ad o lam ++ tl) [.ref (ad 42), .int l1] yX8_told (ws_ yX8_told cX8_told 3 none) ({ frames := 8, cells := 0, slots := 0, locals := 169 } : Room) :=
  g_startVz (own := RX8) ⟨rfl, rfl⟩ (by decide) rfl (Nat.le_of_ble_eq_true rfl) (fun x e hc hz hR => by
    subst e
    exact w_X8_told hc hz σ l1 hN (K := fun o1 => o1 = .inr o) hf rfl (fun o1 h1 => by cases h1; exact hR) (fun o1 h1 => by cases h1))
theorem ct_X8_told {l : Launch} {D : va_G} {dA : Nat → ClassId} {N : Nat} {ad : Nat → Nat} {tl : va_W} {lam : (Nat → Int64)} {σ : (Nat → Nat → Int32)} {l1 : Int32} (hN : 43 ≤ N) {o : (Int32 × Int32 × (Nat → Nat → Int32))} (hf : f_X8_told σ l1 = some (.inl o)) : gTv kS l D dA (XW dA N ad σ lam ++ tl) [.ref (ad 42), .int l1] (fun _ => False) (fun t => t.1 = o.1 ∧ t.2.1 = o.2.1 ∧ t.2.2 = XW dA N ad o.2.2 lam ++ tl) yX8_told (ws_ yX8_told cX8_told 3 none) ({ frames := 8, cells := 1, slots := 8, locals := 169 } : Room) 1 8 :=
  g_startTv (mc := 1) (ms := 8) (own := RX8) (by decide) rfl (Nat.le_of_ble_eq_true rfl) (fun x e hc hz hnm hRc hR hX => by
    subst e
    exact w_X8_told hc hz σ l1 hN (K := fun o1 => o1 = .inl o) hf rfl (fun o1 h1 => by cases h1) (fun o1 h1 => by
      cases h1
      exact ⟨hRc, fun q pc lv => hX _ _ _ q pc lv ⟨rfl, rfl, rfl⟩⟩))
theorem hd_X8_told : yX8_told.cls = RX8 ∧ yX8_told.cls ≠ "java/lang/invoke/MethodHandle" ∧ yX8_told.cls ≠ "java/lang/invoke/VarHandle" ∧ (parseMethodDescriptor yX8_told.desc).map (fun d => d.parameters.length) = some 1 := by decide +kernel
