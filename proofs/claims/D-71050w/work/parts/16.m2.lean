set_option maxRecDepth 100000
/-! HedgehogLotsModel.drives(II)I -/
def f_X7_drives (σ : (Nat → Nat → Int32)) (l1 : Int32) (l2 : Int32) : Option (Int32 × (Nat → Nat → Int32)) :=
  oB (f_X7_isCell l1) fun r2 => if r2 = 0 then (some ((-1), σ)) else (oB (f_X7_isRag l2) fun r5 => if r5 = 0 then (some ((-1), σ)) else (oB (f_X7_isFreeOn σ 0 l1) fun r8 => if r8 = 0 then (some ((-2), σ)) else (oC (inb 38 205) <| if (σ 1 (Int32.toNatClampNeg 38)) = 7 then (some ((-3), σ)) else (oB (f_X7_drivesOn σ 0 l1 l2) fun r13 => oC (inb 38 205) <| some ((r13 1 (Int32.toNatClampNeg 38)), r13)))))
theorem w_X7_drives {x : gX} {ad : Nat → Nat} {tl : va_W}  (hc : gOk x RX7 cX7_drives 3 2 45)  (σ : (Nat → Nat → Int32)) (l1 : Int32) (l2 : Int32)  {K : Int32 × (Nat → Nat → Int32) → Prop} {o : Int32 × (Nat → Nat → Int32)} (hf : f_X7_drives σ l1 l2 = some o) (hK : K o) (hR : ∀ o : Int32 × (Nat → Nat → Int32), K o → gRi x 0 0 (MW x.dA ad o.2 ++ tl) o.1) : gG x 3 0 0 (MW x.dA ad σ ++ tl) 0 [(0, .ref (ad 0)), (1, .int l1), (2, .int l2)] [] := by
  unfold f_X7_drives at hf
  refine g_iload_n hc dX7_drives_0 rfl 1 rfl ?_
  obtain ⟨r2, h1, hf⟩ := oB_some hf
  refine g_callSi hc [.int l1] [] (c_X7_isCell  h1) (lw_S q1179 q1180 q67 q1181) rfl hd_X7_isCell rfl rfl (Nat.le_of_ble_eq_true rfl) gZ dX7_drives_1 ?_
  refine g_if_eq (tgt := 14) hc dX7_drives_4 (by decide) (fun h3 => ?_) (fun h3 => ?_)
  · have hf := oT h3 hf
    refine g_iconst (v := (-1)) hc dX7_drives_14 (by decide) ?_
    have hz := Option.some.inj hf; subst hz
    exact g_iret hc (hR _ hK) dX7_drives_15
  · have hf := oF h3 hf
    refine g_iload_n hc dX7_drives_7 rfl 2 rfl ?_
    obtain ⟨r5, h4, hf⟩ := oB_some hf
    refine g_callSi hc [.int l2] [] (c_X7_isRag  h4) (lw_S q1194 q1195 q67 q1196) rfl hd_X7_isRag rfl rfl (Nat.le_of_ble_eq_true rfl) gZ dX7_drives_8 ?_
    refine g_if_ne (tgt := 16) hc dX7_drives_11 (by decide) (fun h6 => ?_) (fun h6 => ?_)
    · have hf := oF h6 hf
      refine g_aload_n hc dX7_drives_16 rfl 0 rfl ?_
      refine g_iconst (v := 0) hc dX7_drives_17 (by decide) ?_
      refine g_iload_n hc dX7_drives_18 rfl 1 rfl ?_
      obtain ⟨r8, h7, hf⟩ := oB_some hf
      refine g_callVi hc [.int 0, .int l1] [] (c_X7_isFreeOn  h7) (MW_at (k := 0) (by decide)) rfl (lw_V q1182 q1184 qs50 q67 q1185) rfl hd_X7_isFreeOn rfl rfl (Nat.le_of_ble_eq_true rfl) gZ dX7_drives_19 ?_
      refine g_if_ne (tgt := 28) hc dX7_drives_22 (by decide) (fun h9 => ?_) (fun h9 => ?_)
      · have hf := oF h9 hf
        refine g_aload_n hc dX7_drives_28 rfl 0 rfl ?_
        refine g_get (v := .ref (ad 1)) hc in_X7 (MW_at (k := 0) (by decide)) rfl 0 (by decide) q961 rfl dX7_drives_29 ?_
        refine g_bipush (v := 38) hc dX7_drives_32 (by decide) ?_
        obtain ⟨h10, hf⟩ := oC_some hf
        refine g_iald (n := 205) (f := σ 1) hc (MW_at (k := 1) (by decide)) h10 dX7_drives_34 ?_
        refine g_bipush (v := 7) hc dX7_drives_35 (by decide) ?_
        refine g_icmp_ne (tgt := 43) hc dX7_drives_37 (by decide) (fun h11 => ?_) (fun h11 => ?_)
        · have hf := oF h11 hf
          refine g_aload_n hc dX7_drives_43 rfl 0 rfl ?_
          refine g_iconst (v := 0) hc dX7_drives_44 (by decide) ?_
          refine g_iload_n hc dX7_drives_45 rfl 1 rfl ?_
          refine g_iload_n hc dX7_drives_46 rfl 2 rfl ?_
          obtain ⟨r13, h12, hf⟩ := oB_some hf
          refine g_callVv hc [.int 0, .int l1, .int l2] [] (c_X7_drivesOn  h12) (MW_at (k := 0) (by decide)) rfl (lw_V q1210 q1212 qs53 q67 q1213) rfl hd_X7_drivesOn rfl rfl (Nat.le_of_ble_eq_true rfl) gZ dX7_drives_47 ?_
          refine g_aload_n hc dX7_drives_50 rfl 0 rfl ?_
          refine g_get (v := .ref (ad 1)) hc in_X7 (MW_at (k := 0) (by decide)) rfl 0 (by decide) q961 rfl dX7_drives_51 ?_
          refine g_bipush (v := 38) hc dX7_drives_54 (by decide) ?_
          obtain ⟨h14, hf⟩ := oC_some hf
          refine g_iald (n := 205) (f := r13 1) hc (MW_at (k := 1) (by decide)) h14 dX7_drives_56 ?_
          have hz := Option.some.inj hf; subst hz
          exact g_iret hc (hR _ hK) dX7_drives_57
        · have hf := oT h11 hf
          refine g_bipush (v := (-3)) hc dX7_drives_40 (by decide) ?_
          have hz := Option.some.inj hf; subst hz
          exact g_iret hc (hR _ hK) dX7_drives_42
      · have hf := oT h9 hf
        refine g_bipush (v := (-2)) hc dX7_drives_25 (by decide) ?_
        have hz := Option.some.inj hf; subst hz
        exact g_iret hc (hR _ hK) dX7_drives_27
    · have hf := oT h6 hf
      refine g_iconst (v := (-1)) hc dX7_drives_14 (by decide) ?_
      have hz := Option.some.inj hf; subst hz
      exact g_iret hc (hR _ hK) dX7_drives_15
theorem c_X7_drives {l : Launch} {D : va_G} {dA : Nat → ClassId} {ad : Nat → Nat} {tl : va_W}  {σ : (Nat → Nat → Int32)} {l1 : Int32} {l2 : Int32}  {o : Int32 × (Nat → Nat → Int32)} (hf : f_X7_drives σ l1 l2 = some o) : gI l D dA (MW dA ad σ ++ tl) (MW dA ad o.2 ++ tl) [.ref (ad 0), .int l1, .int l2] o.1 yX7_drives (ws_ yX7_drives cX7_drives 3 (some .int)) ({ frames := 2, cells := 0, slots := 0, locals := 45 } : Room) :=
  g_startI (own := RX7) ⟨rfl, rfl⟩ (by decide) rfl (Nat.le_of_ble_eq_true rfl) (fun x e hc hR => by
    subst e
    exact w_X7_drives hc σ l1 l2  (K := fun o1 => o1 = o) hf rfl (by rintro _ rfl; exact hR))
theorem hd_X7_drives : yX7_drives.cls = RX7 ∧ yX7_drives.cls ≠ "java/lang/invoke/MethodHandle" ∧ yX7_drives.cls ≠ "java/lang/invoke/VarHandle" ∧ (parseMethodDescriptor yX7_drives.desc).map (fun d => d.parameters.length) = some 2 := by decide +kernel
/-! HedgehogLotsModel.drive(II)I -/
def f_X7_drive (σ : (Nat → Nat → Int32)) (l1 : Int32) (l2 : Int32) : Option (Int32 × (Nat → Nat → Int32)) :=
  oB (f_X7_drives σ l1 l2) fun r2 => some (r2.1, r2.2)
theorem w_X7_drive {x : gX} {ad : Nat → Nat} {tl : va_W}  (hc : gOk x RX7 cX7_drive 3 3 67)  (σ : (Nat → Nat → Int32)) (l1 : Int32) (l2 : Int32)  {K : Int32 × (Nat → Nat → Int32) → Prop} {o : Int32 × (Nat → Nat → Int32)} (hf : f_X7_drive σ l1 l2 = some o) (hK : K o) (hR : ∀ o : Int32 × (Nat → Nat → Int32), K o → gRi x 0 0 (MW x.dA ad o.2 ++ tl) o.1) : gG x 3 0 0 (MW x.dA ad σ ++ tl) 0 [(0, .ref (ad 0)), (1, .int l1), (2, .int l2)] [] := by
  unfold f_X7_drive at hf
  refine g_aload_n hc dX7_drive_0 rfl 0 rfl ?_
  refine g_iload_n hc dX7_drive_1 rfl 1 rfl ?_
  refine g_iload_n hc dX7_drive_2 rfl 2 rfl ?_
  obtain ⟨r2, h1, hf⟩ := oB_some hf
  refine g_callVi hc [.int l1, .int l2] [] (c_X7_drives  h1) (MW_at (k := 0) (by decide)) rfl (lw_V q1206 q1208 qs52 q67 q1209) rfl hd_X7_drives rfl rfl (Nat.le_of_ble_eq_true rfl) gZ dX7_drive_3 ?_
  have hz := Option.some.inj hf; subst hz
  exact g_iret hc (hR _ hK) dX7_drive_6
theorem c_X7_drive {l : Launch} {D : va_G} {dA : Nat → ClassId} {ad : Nat → Nat} {tl : va_W}  {σ : (Nat → Nat → Int32)} {l1 : Int32} {l2 : Int32}  {o : Int32 × (Nat → Nat → Int32)} (hf : f_X7_drive σ l1 l2 = some o) : gI l D dA (MW dA ad σ ++ tl) (MW dA ad o.2 ++ tl) [.ref (ad 0), .int l1, .int l2] o.1 yX7_drive (ws_ yX7_drive cX7_drive 3 (some .int)) ({ frames := 3, cells := 0, slots := 0, locals := 67 } : Room) :=
  g_startI (own := RX7) ⟨rfl, rfl⟩ (by decide) rfl (Nat.le_of_ble_eq_true rfl) (fun x e hc hR => by
    subst e
    exact w_X7_drive hc σ l1 l2  (K := fun o1 => o1 = o) hf rfl (by rintro _ rfl; exact hR))
theorem hd_X7_drive : yX7_drive.cls = RX7 ∧ yX7_drive.cls ≠ "java/lang/invoke/MethodHandle" ∧ yX7_drive.cls ≠ "java/lang/invoke/VarHandle" ∧ (parseMethodDescriptor yX7_drive.desc).map (fun d => d.parameters.length) = some 2 := by decide +kernel
/-! HedgehogLotsModel.laysOn(II)V -/
def f_X7_laysOn (σ : (Nat → Nat → Int32)) (l1 : Int32) (l2 : Int32) : Option ((Nat → Nat → Int32)) :=
  oC (inb (l1 + 39) 205) <| oC (inb ((l1 + 14) + (σ 1 (l1 + 39).toNatClampNeg)) 205) <| oL (upd2 σ 1 ((l1 + 14) + (σ 1 (l1 + 39).toNatClampNeg)).toNatClampNeg l2) fun s2 => oC (inb (l1 + 39) 205) <| oC (inb (l1 + 39) 205) <| oL (upd2 s2 1 (l1 + 39).toNatClampNeg ((s2 1 (l1 + 39).toNatClampNeg) + 1)) fun s6 => some s6
theorem w_X7_laysOn {x : gX} {ad : Nat → Nat} {tl : va_W}  (hc : gOk x RX7 cX7_laysOn 3 0 0)  (σ : (Nat → Nat → Int32)) (l1 : Int32) (l2 : Int32)  {K : (Nat → Nat → Int32) → Prop} {o : (Nat → Nat → Int32)} (hf : f_X7_laysOn σ l1 l2 = some o) (hK : K o) (hR : ∀ o : (Nat → Nat → Int32), K o → gRv x 0 0 (MW x.dA ad o ++ tl)) : gG x 3 0 0 (MW x.dA ad σ ++ tl) 0 [(0, .ref (ad 0)), (1, .int l1), (2, .int l2)] [] := by
  unfold f_X7_laysOn at hf
  refine g_aload_n hc dX7_laysOn_0 rfl 0 rfl ?_
  refine g_get (v := .ref (ad 1)) hc in_X7 (MW_at (k := 0) (by decide)) rfl 0 (by decide) q961 rfl dX7_laysOn_1 ?_
  refine g_iload_n hc dX7_laysOn_4 rfl 1 rfl ?_
  refine g_bipush (v := 14) hc dX7_laysOn_5 (by decide) ?_
  refine g_iadd hc dX7_laysOn_7 ?_
  refine g_aload_n hc dX7_laysOn_8 rfl 0 rfl ?_
  refine g_get (v := .ref (ad 1)) hc in_X7 (MW_at (k := 0) (by decide)) rfl 0 (by decide) q961 rfl dX7_laysOn_9 ?_
  refine g_iload_n hc dX7_laysOn_12 rfl 1 rfl ?_
  refine g_bipush (v := 39) hc dX7_laysOn_13 (by decide) ?_
  refine g_iadd hc dX7_laysOn_15 ?_
  obtain ⟨h1, hf⟩ := oC_some hf
  refine g_iald (n := 205) (f := σ 1) hc (MW_at (k := 1) (by decide)) h1 dX7_laysOn_16 ?_
  refine g_iadd hc dX7_laysOn_17 ?_
  refine g_iload_n hc dX7_laysOn_18 rfl 2 rfl ?_
  obtain ⟨h4, hf⟩ := oC_some hf
  obtain ⟨s2, e3, hf⟩ := oL_some hf
  refine g_iast (n := 205) (f := σ 1) hc (MW_at (k := 1) (by decide)) h4 (MW_set (μ1 := s2) (k := 1) (by decide) e3 rfl) dX7_laysOn_19 ?_
  refine g_aload_n hc dX7_laysOn_20 rfl 0 rfl ?_
  refine g_get (v := .ref (ad 1)) hc in_X7 (MW_at (k := 0) (by decide)) rfl 0 (by decide) q961 rfl dX7_laysOn_21 ?_
  refine g_iload_n hc dX7_laysOn_24 rfl 1 rfl ?_
  refine g_bipush (v := 39) hc dX7_laysOn_25 (by decide) ?_
  refine g_iadd hc dX7_laysOn_27 ?_
  refine g_dup2 hc dX7_laysOn_28 rfl rfl ?_
  obtain ⟨h5, hf⟩ := oC_some hf
  refine g_iald (n := 205) (f := s2 1) hc (MW_at (k := 1) (by decide)) h5 dX7_laysOn_29 ?_
  refine g_iconst (v := 1) hc dX7_laysOn_30 (by decide) ?_
  refine g_iadd hc dX7_laysOn_31 ?_
  obtain ⟨h8, hf⟩ := oC_some hf
  obtain ⟨s6, e7, hf⟩ := oL_some hf
  refine g_iast (n := 205) (f := s2 1) hc (MW_at (k := 1) (by decide)) h8 (MW_set (μ1 := s6) (k := 1) (by decide) e7 rfl) dX7_laysOn_32 ?_
  have hz := Option.some.inj hf; subst hz
  exact g_vret hc (hR _ hK) dX7_laysOn_33
theorem c_X7_laysOn {l : Launch} {D : va_G} {dA : Nat → ClassId} {ad : Nat → Nat} {tl : va_W}  {σ : (Nat → Nat → Int32)} {l1 : Int32} {l2 : Int32}  {o : (Nat → Nat → Int32)} (hf : f_X7_laysOn σ l1 l2 = some o) : gV l D dA (MW dA ad σ ++ tl) (MW dA ad o ++ tl) [.ref (ad 0), .int l1, .int l2] yX7_laysOn (ws_ yX7_laysOn cX7_laysOn 3 none) ({ frames := 0, cells := 0, slots := 0, locals := 0 } : Room) :=
  g_startV (own := RX7) ⟨rfl, rfl⟩ (by decide) rfl (Nat.le_of_ble_eq_true rfl) (fun x e hc hR => by
    subst e
    exact w_X7_laysOn hc σ l1 l2  (K := fun o1 => o1 = o) hf rfl (by rintro _ rfl; exact hR))
theorem hd_X7_laysOn : yX7_laysOn.cls = RX7 ∧ yX7_laysOn.cls ≠ "java/lang/invoke/MethodHandle" ∧ yX7_laysOn.cls ≠ "java/lang/invoke/VarHandle" ∧ (parseMethodDescriptor yX7_laysOn.desc).map (fun d => d.parameters.length) = some 2 := by decide +kernel
/-! HedgehogLotsModel.lay(I)I -/
def f_X7_lay (σ : (Nat → Nat → Int32)) (l1 : Int32) : Option (Int32 × (Nat → Nat → Int32)) :=
  oB (f_X7_isCell l1) fun r2 => if r2 = 0 then (some ((-1), σ)) else (oB (f_X7_isFreeOn σ 0 l1) fun r5 => if r5 = 0 then (some ((-2), σ)) else (oC (inb 39 205) <| if (σ 1 (Int32.toNatClampNeg 39)) = 4 then (some ((-3), σ)) else (oB (f_X7_laysOn σ 0 l1) fun r10 => oC (inb 39 205) <| some ((r10 1 (Int32.toNatClampNeg 39)), r10))))
theorem w_X7_lay {x : gX} {ad : Nat → Nat} {tl : va_W}  (hc : gOk x RX7 cX7_lay 2 2 45)  (σ : (Nat → Nat → Int32)) (l1 : Int32)  {K : Int32 × (Nat → Nat → Int32) → Prop} {o : Int32 × (Nat → Nat → Int32)} (hf : f_X7_lay σ l1 = some o) (hK : K o) (hR : ∀ o : Int32 × (Nat → Nat → Int32), K o → gRi x 0 0 (MW x.dA ad o.2 ++ tl) o.1) : gG x 2 0 0 (MW x.dA ad σ ++ tl) 0 [(0, .ref (ad 0)), (1, .int l1)] [] := by
  unfold f_X7_lay at hf
  refine g_iload_n hc dX7_lay_0 rfl 1 rfl ?_
  obtain ⟨r2, h1, hf⟩ := oB_some hf
  refine g_callSi hc [.int l1] [] (c_X7_isCell  h1) (lw_S q1179 q1180 q67 q1181) rfl hd_X7_isCell rfl rfl (Nat.le_of_ble_eq_true rfl) gZ dX7_lay_1 ?_
  refine g_if_ne (tgt := 9) hc dX7_lay_4 (by decide) (fun h3 => ?_) (fun h3 => ?_)
  · have hf := oF h3 hf
    refine g_aload_n hc dX7_lay_9 rfl 0 rfl ?_
    refine g_iconst (v := 0) hc dX7_lay_10 (by decide) ?_
    refine g_iload_n hc dX7_lay_11 rfl 1 rfl ?_
    obtain ⟨r5, h4, hf⟩ := oB_some hf
    refine g_callVi hc [.int 0, .int l1] [] (c_X7_isFreeOn  h4) (MW_at (k := 0) (by decide)) rfl (lw_V q1182 q1184 qs50 q67 q1185) rfl hd_X7_isFreeOn rfl rfl (Nat.le_of_ble_eq_true rfl) gZ dX7_lay_12 ?_
    refine g_if_ne (tgt := 21) hc dX7_lay_15 (by decide) (fun h6 => ?_) (fun h6 => ?_)
    · have hf := oF h6 hf
      refine g_aload_n hc dX7_lay_21 rfl 0 rfl ?_
      refine g_get (v := .ref (ad 1)) hc in_X7 (MW_at (k := 0) (by decide)) rfl 0 (by decide) q961 rfl dX7_lay_22 ?_
      refine g_bipush (v := 39) hc dX7_lay_25 (by decide) ?_
      obtain ⟨h7, hf⟩ := oC_some hf
      refine g_iald (n := 205) (f := σ 1) hc (MW_at (k := 1) (by decide)) h7 dX7_lay_27 ?_
      refine g_iconst (v := 4) hc dX7_lay_28 (by decide) ?_
      refine g_icmp_ne (tgt := 35) hc dX7_lay_29 (by decide) (fun h8 => ?_) (fun h8 => ?_)
      · have hf := oF h8 hf
        refine g_aload_n hc dX7_lay_35 rfl 0 rfl ?_
        refine g_iconst (v := 0) hc dX7_lay_36 (by decide) ?_
        refine g_iload_n hc dX7_lay_37 rfl 1 rfl ?_
        obtain ⟨r10, h9, hf⟩ := oB_some hf
        refine g_callVv hc [.int 0, .int l1] [] (c_X7_laysOn  h9) (MW_at (k := 0) (by decide)) rfl (lw_V q1218 q1220 qs54 q67 q1221) rfl hd_X7_laysOn rfl rfl (Nat.le_of_ble_eq_true rfl) gZ dX7_lay_38 ?_
        refine g_aload_n hc dX7_lay_41 rfl 0 rfl ?_
        refine g_get (v := .ref (ad 1)) hc in_X7 (MW_at (k := 0) (by decide)) rfl 0 (by decide) q961 rfl dX7_lay_42 ?_
        refine g_bipush (v := 39) hc dX7_lay_45 (by decide) ?_
        obtain ⟨h11, hf⟩ := oC_some hf
        refine g_iald (n := 205) (f := r10 1) hc (MW_at (k := 1) (by decide)) h11 dX7_lay_47 ?_
        have hz := Option.some.inj hf; subst hz
        exact g_iret hc (hR _ hK) dX7_lay_48
      · have hf := oT h8 hf
        refine g_bipush (v := (-3)) hc dX7_lay_32 (by decide) ?_
        have hz := Option.some.inj hf; subst hz
        exact g_iret hc (hR _ hK) dX7_lay_34
    · have hf := oT h6 hf
      refine g_bipush (v := (-2)) hc dX7_lay_18 (by decide) ?_
      have hz := Option.some.inj hf; subst hz
      exact g_iret hc (hR _ hK) dX7_lay_20
  · have hf := oT h3 hf
    refine g_iconst (v := (-1)) hc dX7_lay_7 (by decide) ?_
    have hz := Option.some.inj hf; subst hz
    exact g_iret hc (hR _ hK) dX7_lay_8
theorem c_X7_lay {l : Launch} {D : va_G} {dA : Nat → ClassId} {ad : Nat → Nat} {tl : va_W}  {σ : (Nat → Nat → Int32)} {l1 : Int32}  {o : Int32 × (Nat → Nat → Int32)} (hf : f_X7_lay σ l1 = some o) : gI l D dA (MW dA ad σ ++ tl) (MW dA ad o.2 ++ tl) [.ref (ad 0), .int l1] o.1 yX7_lay (ws_ yX7_lay cX7_lay 2 (some .int)) ({ frames := 2, cells := 0, slots := 0, locals := 45 } : Room) :=
  g_startI (own := RX7) ⟨rfl, rfl⟩ (by decide) rfl (Nat.le_of_ble_eq_true rfl) (fun x e hc hR => by
    subst e
    exact w_X7_lay hc σ l1  (K := fun o1 => o1 = o) hf rfl (by rintro _ rfl; exact hR))
theorem hd_X7_lay : yX7_lay.cls = RX7 ∧ yX7_lay.cls ≠ "java/lang/invoke/MethodHandle" ∧ yX7_lay.cls ≠ "java/lang/invoke/VarHandle" ∧ (parseMethodDescriptor yX7_lay.desc).map (fun d => d.parameters.length) = some 1 := by decide +kernel
/-! HedgehogLotsModel.clear(I)I -/
def f_X7_clear (σ : (Nat → Nat → Int32)) (l1 : Int32) : Option (Int32 × (Nat → Nat → Int32)) :=
  oC (inb 39 205) <| oB (f_X7_in (Int32.toInt64 l1) 0 (Int32.toInt64 (σ 1 (Int32.toNatClampNeg 39)))) fun r3 => oB (f_X7_puts σ r3 39 l1) fun r5 => some (r5.1, r5.2)
theorem w_X7_clear {x : gX} {ad : Nat → Nat} {tl : va_W}  (hc : gOk x RX7 cX7_clear 2 1 25)  (σ : (Nat → Nat → Int32)) (l1 : Int32)  {K : Int32 × (Nat → Nat → Int32) → Prop} {o : Int32 × (Nat → Nat → Int32)} (hf : f_X7_clear σ l1 = some o) (hK : K o) (hR : ∀ o : Int32 × (Nat → Nat → Int32), K o → gRi x 0 0 (MW x.dA ad o.2 ++ tl) o.1) : gG x 2 0 0 (MW x.dA ad σ ++ tl) 0 [(0, .ref (ad 0)), (1, .int l1)] [] := by
  unfold f_X7_clear at hf
  refine g_aload_n hc dX7_clear_0 rfl 0 rfl ?_
  refine g_iload_n hc dX7_clear_1 rfl 1 rfl ?_
  refine g_i2l hc dX7_clear_2 ?_
  refine g_lconst (v := 0) hc dX7_clear_3 (by decide) ?_
  refine g_aload_n hc dX7_clear_4 rfl 0 rfl ?_
  refine g_get (v := .ref (ad 1)) hc in_X7 (MW_at (k := 0) (by decide)) rfl 0 (by decide) q961 rfl dX7_clear_5 ?_
  refine g_bipush (v := 39) hc dX7_clear_8 (by decide) ?_
  obtain ⟨h1, hf⟩ := oC_some hf
  refine g_iald (n := 205) (f := σ 1) hc (MW_at (k := 1) (by decide)) h1 dX7_clear_10 ?_
  refine g_i2l hc dX7_clear_11 ?_
  obtain ⟨r3, h2, hf⟩ := oB_some hf
  refine g_callSi hc [.long (Int32.toInt64 l1), .long 0, .long (Int32.toInt64 (σ 1 (Int32.toNatClampNeg 39)))] [.ref (ad 0)] (c_X7_in  h2) (lw_S q1055 q1056 q67 q1057) rfl hd_X7_in rfl rfl (Nat.le_of_ble_eq_true rfl) gZ dX7_clear_12 ?_
  refine g_bipush (v := 39) hc dX7_clear_15 (by decide) ?_
  refine g_iload_n hc dX7_clear_17 rfl 1 rfl ?_
  obtain ⟨r5, h4, hf⟩ := oB_some hf
  refine g_callVi hc [.int r3, .int 39, .int l1] [] (c_X7_puts  h4) (MW_at (k := 0) (by decide)) rfl (lw_V q1186 q1188 qs51 q67 q1189) rfl hd_X7_puts rfl rfl (Nat.le_of_ble_eq_true rfl) gZ dX7_clear_18 ?_
  have hz := Option.some.inj hf; subst hz
  exact g_iret hc (hR _ hK) dX7_clear_21
theorem c_X7_clear {l : Launch} {D : va_G} {dA : Nat → ClassId} {ad : Nat → Nat} {tl : va_W}  {σ : (Nat → Nat → Int32)} {l1 : Int32}  {o : Int32 × (Nat → Nat → Int32)} (hf : f_X7_clear σ l1 = some o) : gI l D dA (MW dA ad σ ++ tl) (MW dA ad o.2 ++ tl) [.ref (ad 0), .int l1] o.1 yX7_clear (ws_ yX7_clear cX7_clear 2 (some .int)) ({ frames := 1, cells := 0, slots := 0, locals := 25 } : Room) :=
  g_startI (own := RX7) ⟨rfl, rfl⟩ (by decide) rfl (Nat.le_of_ble_eq_true rfl) (fun x e hc hR => by
    subst e
    exact w_X7_clear hc σ l1  (K := fun o1 => o1 = o) hf rfl (by rintro _ rfl; exact hR))
theorem hd_X7_clear : yX7_clear.cls = RX7 ∧ yX7_clear.cls ≠ "java/lang/invoke/MethodHandle" ∧ yX7_clear.cls ≠ "java/lang/invoke/VarHandle" ∧ (parseMethodDescriptor yX7_clear.desc).map (fun d => d.parameters.length) = some 1 := by decide +kernel
/-! HedgehogLotsModel.sue(II)I -/
def f_X7_sue (σ : (Nat → Nat → Int32)) (l1 : Int32) (l2 : Int32) : Option (Int32 × (Nat → Nat → Int32)) :=
  oB (f_X7_isHog σ l1) fun r2 => if r2 = 0 then (some ((-1), σ)) else (oB (f_X7_isColumn l2) fun r5 => if r5 = 0 then (some ((-1), σ)) else (oC (inb 40 205) <| if (σ 1 (Int32.toNatClampNeg 40)) = 6 then (some ((-3), σ)) else (oC (inb (26 + (σ 1 (Int32.toNatClampNeg 40))) 205) <| oL (upd2 σ 1 (26 + (σ 1 (Int32.toNatClampNeg 40))).toNatClampNeg l1) fun s9 => oC (inb (32 + (σ 1 (Int32.toNatClampNeg 40))) 205) <| oL (upd2 s9 1 (32 + (σ 1 (Int32.toNatClampNeg 40))).toNatClampNeg l2) fun s12 => oC (inb 40 205) <| oC (inb 40 205) <| oL (upd2 s12 1 (Int32.toNatClampNeg 40) ((s12 1 (Int32.toNatClampNeg 40)) + 1)) fun s16 => oC (inb 40 205) <| some ((s16 1 (Int32.toNatClampNeg 40)), s16))))
theorem w_X7_sue {x : gX} {ad : Nat → Nat} {tl : va_W}  (hc : gOk x RX7 cX7_sue 4 2 46)  (σ : (Nat → Nat → Int32)) (l1 : Int32) (l2 : Int32)  {K : Int32 × (Nat → Nat → Int32) → Prop} {o : Int32 × (Nat → Nat → Int32)} (hf : f_X7_sue σ l1 l2 = some o) (hK : K o) (hR : ∀ o : Int32 × (Nat → Nat → Int32), K o → gRi x 0 0 (MW x.dA ad o.2 ++ tl) o.1) : gG x 4 0 0 (MW x.dA ad σ ++ tl) 0 [(0, .ref (ad 0)), (1, .int l1), (2, .int l2)] [] := by
  unfold f_X7_sue at hf
  refine g_aload_n hc dX7_sue_0 rfl 0 rfl ?_
  refine g_iload_n hc dX7_sue_1 rfl 1 rfl ?_
  obtain ⟨r2, h1, hf⟩ := oB_some hf
  refine g_callVi hc [.int l1] [] (c_X7_isHog  h1) (MW_at (k := 0) (by decide)) rfl (lw_V q1162 q1164 qs48 q67 q1165) rfl hd_X7_isHog rfl rfl (Nat.le_of_ble_eq_true rfl) gZ dX7_sue_2 ?_
  refine g_if_eq (tgt := 15) hc dX7_sue_5 (by decide) (fun h3 => ?_) (fun h3 => ?_)
  · have hf := oT h3 hf
    refine g_iconst (v := (-1)) hc dX7_sue_15 (by decide) ?_
    have hz := Option.some.inj hf; subst hz
    exact g_iret hc (hR _ hK) dX7_sue_16
  · have hf := oF h3 hf
    refine g_iload_n hc dX7_sue_8 rfl 2 rfl ?_
    obtain ⟨r5, h4, hf⟩ := oB_some hf
    refine g_callSi hc [.int l2] [] (c_X7_isColumn  h4) (lw_S q1230 q1231 q67 q1232) rfl hd_X7_isColumn rfl rfl (Nat.le_of_ble_eq_true rfl) gZ dX7_sue_9 ?_
    refine g_if_ne (tgt := 17) hc dX7_sue_12 (by decide) (fun h6 => ?_) (fun h6 => ?_)
    · have hf := oF h6 hf
      refine g_aload_n hc dX7_sue_17 rfl 0 rfl ?_
      refine g_get (v := .ref (ad 1)) hc in_X7 (MW_at (k := 0) (by decide)) rfl 0 (by decide) q961 rfl dX7_sue_18 ?_
      refine g_bipush (v := 40) hc dX7_sue_21 (by decide) ?_
      obtain ⟨h7, hf⟩ := oC_some hf
      refine g_iald (n := 205) (f := σ 1) hc (MW_at (k := 1) (by decide)) h7 dX7_sue_23 ?_
      refine g_istore_n (lv' := [(3, .int (σ 1 (Int32.toNatClampNeg 40))), (0, .ref (ad 0)), (1, .int l1), (2, .int l2)]) hc dX7_sue_24 rfl (by decide) rfl ?_
      refine g_iload_n hc dX7_sue_25 rfl 0 rfl ?_
      refine g_bipush (v := 6) hc dX7_sue_26 (by decide) ?_
      refine g_icmp_ne (tgt := 34) hc dX7_sue_28 (by decide) (fun h8 => ?_) (fun h8 => ?_)
      · have hf := oF h8 hf
        refine g_aload_n hc dX7_sue_34 rfl 1 rfl ?_
        refine g_get (v := .ref (ad 1)) hc in_X7 (MW_at (k := 0) (by decide)) rfl 0 (by decide) q961 rfl dX7_sue_35 ?_
        refine g_bipush (v := 26) hc dX7_sue_38 (by decide) ?_
        refine g_iload_n hc dX7_sue_40 rfl 0 rfl ?_
        refine g_iadd hc dX7_sue_41 ?_
        refine g_iload_n hc dX7_sue_42 rfl 2 rfl ?_
        obtain ⟨h11, hf⟩ := oC_some hf
        obtain ⟨s9, e10, hf⟩ := oL_some hf
        refine g_iast (n := 205) (f := σ 1) hc (MW_at (k := 1) (by decide)) h11 (MW_set (μ1 := s9) (k := 1) (by decide) e10 rfl) dX7_sue_43 ?_
        refine g_aload_n hc dX7_sue_44 rfl 1 rfl ?_
        refine g_get (v := .ref (ad 1)) hc in_X7 (MW_at (k := 0) (by decide)) rfl 0 (by decide) q961 rfl dX7_sue_45 ?_
        refine g_bipush (v := 32) hc dX7_sue_48 (by decide) ?_
        refine g_iload_n hc dX7_sue_50 rfl 0 rfl ?_
        refine g_iadd hc dX7_sue_51 ?_
        refine g_iload_n hc dX7_sue_52 rfl 3 rfl ?_
        obtain ⟨h14, hf⟩ := oC_some hf
        obtain ⟨s12, e13, hf⟩ := oL_some hf
        refine g_iast (n := 205) (f := s9 1) hc (MW_at (k := 1) (by decide)) h14 (MW_set (μ1 := s12) (k := 1) (by decide) e13 rfl) dX7_sue_53 ?_
        refine g_aload_n hc dX7_sue_54 rfl 1 rfl ?_
        refine g_get (v := .ref (ad 1)) hc in_X7 (MW_at (k := 0) (by decide)) rfl 0 (by decide) q961 rfl dX7_sue_55 ?_
        refine g_bipush (v := 40) hc dX7_sue_58 (by decide) ?_
        refine g_dup2 hc dX7_sue_60 rfl rfl ?_
        obtain ⟨h15, hf⟩ := oC_some hf
        refine g_iald (n := 205) (f := s12 1) hc (MW_at (k := 1) (by decide)) h15 dX7_sue_61 ?_
        refine g_iconst (v := 1) hc dX7_sue_62 (by decide) ?_
        refine g_iadd hc dX7_sue_63 ?_
        obtain ⟨h18, hf⟩ := oC_some hf
        obtain ⟨s16, e17, hf⟩ := oL_some hf
        refine g_iast (n := 205) (f := s12 1) hc (MW_at (k := 1) (by decide)) h18 (MW_set (μ1 := s16) (k := 1) (by decide) e17 rfl) dX7_sue_64 ?_
        refine g_aload_n hc dX7_sue_65 rfl 1 rfl ?_
        refine g_get (v := .ref (ad 1)) hc in_X7 (MW_at (k := 0) (by decide)) rfl 0 (by decide) q961 rfl dX7_sue_66 ?_
        refine g_bipush (v := 40) hc dX7_sue_69 (by decide) ?_
        obtain ⟨h19, hf⟩ := oC_some hf
        refine g_iald (n := 205) (f := s16 1) hc (MW_at (k := 1) (by decide)) h19 dX7_sue_71 ?_
        have hz := Option.some.inj hf; subst hz
        exact g_iret hc (hR _ hK) dX7_sue_72
      · have hf := oT h8 hf
        refine g_bipush (v := (-3)) hc dX7_sue_31 (by decide) ?_
        have hz := Option.some.inj hf; subst hz
        exact g_iret hc (hR _ hK) dX7_sue_33
    · have hf := oT h6 hf
      refine g_iconst (v := (-1)) hc dX7_sue_15 (by decide) ?_
      have hz := Option.some.inj hf; subst hz
      exact g_iret hc (hR _ hK) dX7_sue_16
theorem c_X7_sue {l : Launch} {D : va_G} {dA : Nat → ClassId} {ad : Nat → Nat} {tl : va_W}  {σ : (Nat → Nat → Int32)} {l1 : Int32} {l2 : Int32}  {o : Int32 × (Nat → Nat → Int32)} (hf : f_X7_sue σ l1 l2 = some o) : gI l D dA (MW dA ad σ ++ tl) (MW dA ad o.2 ++ tl) [.ref (ad 0), .int l1, .int l2] o.1 yX7_sue (ws_ yX7_sue cX7_sue 4 (some .int)) ({ frames := 2, cells := 0, slots := 0, locals := 46 } : Room) :=
  g_startI (own := RX7) ⟨rfl, rfl⟩ (by decide) rfl (Nat.le_of_ble_eq_true rfl) (fun x e hc hR => by
    subst e
    exact w_X7_sue hc σ l1 l2  (K := fun o1 => o1 = o) hf rfl (by rintro _ rfl; exact hR))
theorem hd_X7_sue : yX7_sue.cls = RX7 ∧ yX7_sue.cls ≠ "java/lang/invoke/MethodHandle" ∧ yX7_sue.cls ≠ "java/lang/invoke/VarHandle" ∧ (parseMethodDescriptor yX7_sue.desc).map (fun d => d.parameters.length) = some 2 := by decide +kernel
/-! HedgehogLotsModel.drop(I)I -/
def f_X7_drop (σ : (Nat → Nat → Int32)) (l1 : Int32) : Option (Int32 × (Nat → Nat → Int32)) :=
  oC (inb 40 205) <| oB (f_X7_in (Int32.toInt64 l1) 0 (Int32.toInt64 (σ 1 (Int32.toNatClampNeg 40)))) fun r3 => oB (f_X7_puts σ r3 40 l1) fun r5 => some (r5.1, r5.2)
theorem w_X7_drop {x : gX} {ad : Nat → Nat} {tl : va_W}  (hc : gOk x RX7 cX7_drop 2 1 25)  (σ : (Nat → Nat → Int32)) (l1 : Int32)  {K : Int32 × (Nat → Nat → Int32) → Prop} {o : Int32 × (Nat → Nat → Int32)} (hf : f_X7_drop σ l1 = some o) (hK : K o) (hR : ∀ o : Int32 × (Nat → Nat → Int32), K o → gRi x 0 0 (MW x.dA ad o.2 ++ tl) o.1) : gG x 2 0 0 (MW x.dA ad σ ++ tl) 0 [(0, .ref (ad 0)), (1, .int l1)] [] := by
  unfold f_X7_drop at hf
  refine g_aload_n hc dX7_drop_0 rfl 0 rfl ?_
  refine g_iload_n hc dX7_drop_1 rfl 1 rfl ?_
  refine g_i2l hc dX7_drop_2 ?_
  refine g_lconst (v := 0) hc dX7_drop_3 (by decide) ?_
  refine g_aload_n hc dX7_drop_4 rfl 0 rfl ?_
  refine g_get (v := .ref (ad 1)) hc in_X7 (MW_at (k := 0) (by decide)) rfl 0 (by decide) q961 rfl dX7_drop_5 ?_
  refine g_bipush (v := 40) hc dX7_drop_8 (by decide) ?_
  obtain ⟨h1, hf⟩ := oC_some hf
  refine g_iald (n := 205) (f := σ 1) hc (MW_at (k := 1) (by decide)) h1 dX7_drop_10 ?_
  refine g_i2l hc dX7_drop_11 ?_
  obtain ⟨r3, h2, hf⟩ := oB_some hf
  refine g_callSi hc [.long (Int32.toInt64 l1), .long 0, .long (Int32.toInt64 (σ 1 (Int32.toNatClampNeg 40)))] [.ref (ad 0)] (c_X7_in  h2) (lw_S q1055 q1056 q67 q1057) rfl hd_X7_in rfl rfl (Nat.le_of_ble_eq_true rfl) gZ dX7_drop_12 ?_
  refine g_bipush (v := 40) hc dX7_drop_15 (by decide) ?_
  refine g_iload_n hc dX7_drop_17 rfl 1 rfl ?_
  obtain ⟨r5, h4, hf⟩ := oB_some hf
  refine g_callVi hc [.int r3, .int 40, .int l1] [] (c_X7_puts  h4) (MW_at (k := 0) (by decide)) rfl (lw_V q1186 q1188 qs51 q67 q1189) rfl hd_X7_puts rfl rfl (Nat.le_of_ble_eq_true rfl) gZ dX7_drop_18 ?_
  have hz := Option.some.inj hf; subst hz
  exact g_iret hc (hR _ hK) dX7_drop_21
theorem c_X7_drop {l : Launch} {D : va_G} {dA : Nat → ClassId} {ad : Nat → Nat} {tl : va_W}  {σ : (Nat → Nat → Int32)} {l1 : Int32}  {o : Int32 × (Nat → Nat → Int32)} (hf : f_X7_drop σ l1 = some o) : gI l D dA (MW dA ad σ ++ tl) (MW dA ad o.2 ++ tl) [.ref (ad 0), .int l1] o.1 yX7_drop (ws_ yX7_drop cX7_drop 2 (some .int)) ({ frames := 1, cells := 0, slots := 0, locals := 25 } : Room) :=
  g_startI (own := RX7) ⟨rfl, rfl⟩ (by decide) rfl (Nat.le_of_ble_eq_true rfl) (fun x e hc hR => by
    subst e
    exact w_X7_drop hc σ l1  (K := fun o1 => o1 = o) hf rfl (by rintro _ rfl; exact hR))
theorem hd_X7_drop : yX7_drop.cls = RX7 ∧ yX7_drop.cls ≠ "java/lang/invoke/MethodHandle" ∧ yX7_drop.cls ≠ "java/lang/invoke/VarHandle" ∧ (parseMethodDescriptor yX7_drop.desc).map (fun d => d.parameters.length) = some 1 := by decide +kernel
/-! HedgehogLotsModel.run(III)I -/
def f_X7_run (σ : (Nat → Nat → Int32)) (l1 : Int32) (l2 : Int32) (l3 : Int32) : Option (Int32 × (Nat → Nat → Int32)) :=
  oB (f_X7_isHog σ l1) fun r2 => if r2 = 0 then (some ((-1), σ)) else (oB (f_X7_isColumn l2) fun r5 => if r5 = 0 then (some ((-1), σ)) else (oB (f_X7_in (Int32.toInt64 l3) 0 4) fun r8 => if r8 = 0 then (some ((-1), σ)) else (oB (f_X7_winnerOn σ 0 l1 l2) fun r11 => if l3 = 0 then (some ((r11.2 0 16), r11.2)) else (if l3 = 1 then (some (r11.1, r11.2)) else (if l3 = 2 then (some ((r11.2 0 17), r11.2)) else (if l3 = 3 then (some ((r11.2 0 18), r11.2)) else (if (r11.2 0 19) = 0 then (some (0, r11.2)) else (some (1, r11.2)))))))))
theorem w_X7_run {x : gX} {ad : Nat → Nat} {tl : va_W}  (hc : gOk x RX7 cX7_run 5 3 77)  (σ : (Nat → Nat → Int32)) (l1 : Int32) (l2 : Int32) (l3 : Int32)  {K : Int32 × (Nat → Nat → Int32) → Prop} {o : Int32 × (Nat → Nat → Int32)} (hf : f_X7_run σ l1 l2 l3 = some o) (hK : K o) (hR : ∀ o : Int32 × (Nat → Nat → Int32), K o → gRi x 0 0 (MW x.dA ad o.2 ++ tl) o.1) : gG x 5 0 0 (MW x.dA ad σ ++ tl) 0 [(0, .ref (ad 0)), (1, .int l1), (2, .int l2), (3, .int l3)] [] := by
  unfold f_X7_run at hf
  refine g_aload_n hc dX7_run_0 rfl 0 rfl ?_
  refine g_iload_n hc dX7_run_1 rfl 1 rfl ?_
  obtain ⟨r2, h1, hf⟩ := oB_some hf
  refine g_callVi hc [.int l1] [] (c_X7_isHog  h1) (MW_at (k := 0) (by decide)) rfl (lw_V q1162 q1164 qs48 q67 q1165) rfl hd_X7_isHog rfl rfl (Nat.le_of_ble_eq_true rfl) gZ dX7_run_2 ?_
  refine g_if_eq (tgt := 27) hc dX7_run_5 (by decide) (fun h3 => ?_) (fun h3 => ?_)
  · have hf := oT h3 hf
    refine g_iconst (v := (-1)) hc dX7_run_27 (by decide) ?_
    have hz := Option.some.inj hf; subst hz
    exact g_iret hc (hR _ hK) dX7_run_28
  · have hf := oF h3 hf
    refine g_iload_n hc dX7_run_8 rfl 2 rfl ?_
    obtain ⟨r5, h4, hf⟩ := oB_some hf
    refine g_callSi hc [.int l2] [] (c_X7_isColumn  h4) (lw_S q1230 q1231 q67 q1232) rfl hd_X7_isColumn rfl rfl (Nat.le_of_ble_eq_true rfl) gZ dX7_run_9 ?_
    refine g_if_eq (tgt := 27) hc dX7_run_12 (by decide) (fun h6 => ?_) (fun h6 => ?_)
    · have hf := oT h6 hf
      refine g_iconst (v := (-1)) hc dX7_run_27 (by decide) ?_
      have hz := Option.some.inj hf; subst hz
      exact g_iret hc (hR _ hK) dX7_run_28
    · have hf := oF h6 hf
      refine g_iload_n hc dX7_run_15 rfl 3 rfl ?_
      refine g_i2l hc dX7_run_16 ?_
      refine g_lconst (v := 0) hc dX7_run_17 (by decide) ?_
      refine g_ldc2 (v := 4) hc q1242 dX7_run_18 ?_
      obtain ⟨r8, h7, hf⟩ := oB_some hf
      refine g_callSi hc [.long (Int32.toInt64 l3), .long 0, .long 4] [] (c_X7_in  h7) (lw_S q1055 q1056 q67 q1057) rfl hd_X7_in rfl rfl (Nat.le_of_ble_eq_true rfl) gZ dX7_run_21 ?_
      refine g_if_ne (tgt := 29) hc dX7_run_24 (by decide) (fun h9 => ?_) (fun h9 => ?_)
      · have hf := oF h9 hf
        refine g_aload_n hc dX7_run_29 rfl 0 rfl ?_
        refine g_iconst (v := 0) hc dX7_run_30 (by decide) ?_
        refine g_iload_n hc dX7_run_31 rfl 1 rfl ?_
        refine g_iload_n hc dX7_run_32 rfl 2 rfl ?_
        obtain ⟨r11, h10, hf⟩ := oB_some hf
        refine g_callVi hc [.int 0, .int l1, .int l2] [] (c_X7_winnerOn  h10) (MW_at (k := 0) (by decide)) rfl (lw_V q1141 q1143 qs46 q67 q1144) rfl hd_X7_winnerOn rfl rfl (Nat.le_of_ble_eq_true rfl) gZ dX7_run_33 ?_
        refine g_istore (lv' := [(4, .int r11.1), (0, .ref (ad 0)), (1, .int l1), (2, .int l2), (3, .int l3)]) hc dX7_run_36 (by decide) rfl ?_
        refine g_iload_n hc dX7_run_38 rfl 4 rfl ?_
        refine g_if_ne (tgt := 49) hc dX7_run_39 (by decide) (fun h12 => ?_) (fun h12 => ?_)
        · have hf := oF h12 hf
          refine g_iload_n hc dX7_run_49 rfl 4 rfl ?_
          refine g_iconst (v := 1) hc dX7_run_50 (by decide) ?_
          refine g_icmp_ne (tgt := 59) hc dX7_run_51 (by decide) (fun h13 => ?_) (fun h13 => ?_)
          · have hf := oF h13 hf
            refine g_iload_n hc dX7_run_59 rfl 4 rfl ?_
            refine g_iconst (v := 2) hc dX7_run_60 (by decide) ?_
            refine g_icmp_ne (tgt := 71) hc dX7_run_61 (by decide) (fun h14 => ?_) (fun h14 => ?_)
            · have hf := oF h14 hf
              refine g_iload_n hc dX7_run_71 rfl 4 rfl ?_
              refine g_iconst (v := 3) hc dX7_run_72 (by decide) ?_
              refine g_icmp_ne (tgt := 83) hc dX7_run_73 (by decide) (fun h15 => ?_) (fun h15 => ?_)
              · have hf := oF h15 hf
                refine g_aload_n hc dX7_run_83 rfl 1 rfl ?_
                refine g_get (v := .int (r11.2 0 19)) hc in_X7 (MW_at (k := 0) (by decide)) rfl 19 (by decide) q980 rfl dX7_run_84 ?_
                refine g_if_eq (tgt := 94) hc dX7_run_87 (by decide) (fun h16 => ?_) (fun h16 => ?_)
                · have hf := oT h16 hf
                  refine g_iconst (v := 0) hc dX7_run_94 (by decide) ?_
                  have hz := Option.some.inj hf; subst hz
                  exact g_iret hc (hR _ hK) dX7_run_95
                · have hf := oF h16 hf
                  refine g_iconst (v := 1) hc dX7_run_90 (by decide) ?_
                  refine g_goto (tgt := 95) hc dX7_run_91 (by decide) ?_
                  have hz := Option.some.inj hf; subst hz
                  exact g_iret hc (hR _ hK) dX7_run_95
              · have hf := oT h15 hf
                refine g_aload_n hc dX7_run_76 rfl 1 rfl ?_
                refine g_get (v := .int (r11.2 0 18)) hc in_X7 (MW_at (k := 0) (by decide)) rfl 18 (by decide) q979 rfl dX7_run_77 ?_
                refine g_goto (tgt := 95) hc dX7_run_80 (by decide) ?_
                have hz := Option.some.inj hf; subst hz
                exact g_iret hc (hR _ hK) dX7_run_95
            · have hf := oT h14 hf
              refine g_aload_n hc dX7_run_64 rfl 1 rfl ?_
              refine g_get (v := .int (r11.2 0 17)) hc in_X7 (MW_at (k := 0) (by decide)) rfl 17 (by decide) q978 rfl dX7_run_65 ?_
              refine g_goto (tgt := 95) hc dX7_run_68 (by decide) ?_
              have hz := Option.some.inj hf; subst hz
              exact g_iret hc (hR _ hK) dX7_run_95
          · have hf := oT h13 hf
            refine g_iload hc dX7_run_54 0 rfl ?_
            refine g_goto (tgt := 95) hc dX7_run_56 (by decide) ?_
            have hz := Option.some.inj hf; subst hz
            exact g_iret hc (hR _ hK) dX7_run_95
        · have hf := oT h12 hf
          refine g_aload_n hc dX7_run_42 rfl 1 rfl ?_
          refine g_get (v := .int (r11.2 0 16)) hc in_X7 (MW_at (k := 0) (by decide)) rfl 16 (by decide) q977 rfl dX7_run_43 ?_
          refine g_goto (tgt := 95) hc dX7_run_46 (by decide) ?_
          have hz := Option.some.inj hf; subst hz
          exact g_iret hc (hR _ hK) dX7_run_95
      · have hf := oT h9 hf
        refine g_iconst (v := (-1)) hc dX7_run_27 (by decide) ?_
        have hz := Option.some.inj hf; subst hz
        exact g_iret hc (hR _ hK) dX7_run_28
theorem c_X7_run {l : Launch} {D : va_G} {dA : Nat → ClassId} {ad : Nat → Nat} {tl : va_W}  {σ : (Nat → Nat → Int32)} {l1 : Int32} {l2 : Int32} {l3 : Int32}  {o : Int32 × (Nat → Nat → Int32)} (hf : f_X7_run σ l1 l2 l3 = some o) : gI l D dA (MW dA ad σ ++ tl) (MW dA ad o.2 ++ tl) [.ref (ad 0), .int l1, .int l2, .int l3] o.1 yX7_run (ws_ yX7_run cX7_run 5 (some .int)) ({ frames := 3, cells := 0, slots := 0, locals := 77 } : Room) :=
  g_startI (own := RX7) ⟨rfl, rfl⟩ (by decide) rfl (Nat.le_of_ble_eq_true rfl) (fun x e hc hR => by
    subst e
    exact w_X7_run hc σ l1 l2 l3  (K := fun o1 => o1 = o) hf rfl (by rintro _ rfl; exact hR))
theorem hd_X7_run : yX7_run.cls = RX7 ∧ yX7_run.cls ≠ "java/lang/invoke/MethodHandle" ∧ yX7_run.cls ≠ "java/lang/invoke/VarHandle" ∧ (parseMethodDescriptor yX7_run.desc).map (fun d => d.parameters.length) = some 3 := by decide +kernel
/-! HedgehogLotsModel.way(III)I -/
def f_X7_way (σ : (Nat → Nat → Int32)) (l1 : Int32) (l2 : Int32) (l3 : Int32) : Option (Int32 × (Nat → Nat → Int32)) :=
  oB (f_X7_isHog σ l1) fun r2 => if r2 = 0 then (some ((-1), σ)) else (oB (f_X7_isColumn l2) fun r5 => if r5 = 0 then (some ((-1), σ)) else (oB (f_X7_in (Int32.toInt64 l3) 0 9) fun r8 => if r8 = 0 then (some ((-1), σ)) else (oB (f_X7_runsOn σ 0 l1 l2 0) fun r11 => if (r11 0 17) < l3 then (some ((-4), r11)) else (oC (inb l3 10) <| some ((r11 6 l3.toNatClampNeg), r11)))))
theorem w_X7_way {x : gX} {ad : Nat → Nat} {tl : va_W}  (hc : gOk x RX7 cX7_way 4 2 54)  (σ : (Nat → Nat → Int32)) (l1 : Int32) (l2 : Int32) (l3 : Int32)  {K : Int32 × (Nat → Nat → Int32) → Prop} {o : Int32 × (Nat → Nat → Int32)} (hf : f_X7_way σ l1 l2 l3 = some o) (hK : K o) (hR : ∀ o : Int32 × (Nat → Nat → Int32), K o → gRi x 0 0 (MW x.dA ad o.2 ++ tl) o.1) : gG x 4 0 0 (MW x.dA ad σ ++ tl) 0 [(0, .ref (ad 0)), (1, .int l1), (2, .int l2), (3, .int l3)] [] := by
  unfold f_X7_way at hf
  refine g_aload_n hc dX7_way_0 rfl 0 rfl ?_
  refine g_iload_n hc dX7_way_1 rfl 1 rfl ?_
  obtain ⟨r2, h1, hf⟩ := oB_some hf
  refine g_callVi hc [.int l1] [] (c_X7_isHog  h1) (MW_at (k := 0) (by decide)) rfl (lw_V q1162 q1164 qs48 q67 q1165) rfl hd_X7_isHog rfl rfl (Nat.le_of_ble_eq_true rfl) gZ dX7_way_2 ?_
  refine g_if_eq (tgt := 27) hc dX7_way_5 (by decide) (fun h3 => ?_) (fun h3 => ?_)
  · have hf := oT h3 hf
    refine g_iconst (v := (-1)) hc dX7_way_27 (by decide) ?_
    have hz := Option.some.inj hf; subst hz
    exact g_iret hc (hR _ hK) dX7_way_28
  · have hf := oF h3 hf
    refine g_iload_n hc dX7_way_8 rfl 2 rfl ?_
    obtain ⟨r5, h4, hf⟩ := oB_some hf
    refine g_callSi hc [.int l2] [] (c_X7_isColumn  h4) (lw_S q1230 q1231 q67 q1232) rfl hd_X7_isColumn rfl rfl (Nat.le_of_ble_eq_true rfl) gZ dX7_way_9 ?_
    refine g_if_eq (tgt := 27) hc dX7_way_12 (by decide) (fun h6 => ?_) (fun h6 => ?_)
    · have hf := oT h6 hf
      refine g_iconst (v := (-1)) hc dX7_way_27 (by decide) ?_
      have hz := Option.some.inj hf; subst hz
      exact g_iret hc (hR _ hK) dX7_way_28
    · have hf := oF h6 hf
      refine g_iload_n hc dX7_way_15 rfl 3 rfl ?_
      refine g_i2l hc dX7_way_16 ?_
      refine g_lconst (v := 0) hc dX7_way_17 (by decide) ?_
      refine g_ldc2 (v := 9) hc q1201 dX7_way_18 ?_
      obtain ⟨r8, h7, hf⟩ := oB_some hf
      refine g_callSi hc [.long (Int32.toInt64 l3), .long 0, .long 9] [] (c_X7_in  h7) (lw_S q1055 q1056 q67 q1057) rfl hd_X7_in rfl rfl (Nat.le_of_ble_eq_true rfl) gZ dX7_way_21 ?_
      refine g_if_ne (tgt := 29) hc dX7_way_24 (by decide) (fun h9 => ?_) (fun h9 => ?_)
      · have hf := oF h9 hf
        refine g_aload_n hc dX7_way_29 rfl 0 rfl ?_
        refine g_iconst (v := 0) hc dX7_way_30 (by decide) ?_
        refine g_iload_n hc dX7_way_31 rfl 1 rfl ?_
        refine g_iload_n hc dX7_way_32 rfl 2 rfl ?_
        refine g_iconst (v := 0) hc dX7_way_33 (by decide) ?_
        obtain ⟨r11, h10, hf⟩ := oB_some hf
        refine g_callVv hc [.int 0, .int l1, .int l2, .int 0] [] (c_X7_runsOn  h10) (MW_at (k := 0) (by decide)) rfl (lw_V q1119 q1121 qs42 q67 q1122) rfl hd_X7_runsOn rfl rfl (Nat.le_of_ble_eq_true rfl) gZ dX7_way_34 ?_
        refine g_iload_n hc dX7_way_37 rfl 3 rfl ?_
        refine g_aload_n hc dX7_way_38 rfl 0 rfl ?_
        refine g_get (v := .int (r11 0 17)) hc in_X7 (MW_at (k := 0) (by decide)) rfl 17 (by decide) q978 rfl dX7_way_39 ?_
        refine g_icmp_gt (tgt := 54) hc dX7_way_42 (by decide) (fun h12 => ?_) (fun h12 => ?_)
        · have hf := oT h12 hf
          refine g_bipush (v := (-4)) hc dX7_way_54 (by decide) ?_
          have hz := Option.some.inj hf; subst hz
          exact g_iret hc (hR _ hK) dX7_way_56
        · have hf := oF h12 hf
          refine g_aload_n hc dX7_way_45 rfl 0 rfl ?_
          refine g_get (v := .ref (ad 6)) hc in_X7 (MW_at (k := 0) (by decide)) rfl 20 (by decide) q981 rfl dX7_way_46 ?_
          refine g_iload_n hc dX7_way_49 rfl 3 rfl ?_
          obtain ⟨h13, hf⟩ := oC_some hf
          refine g_iald (n := 10) (f := r11 6) hc (MW_at (k := 6) (by decide)) h13 dX7_way_50 ?_
          refine g_goto (tgt := 56) hc dX7_way_51 (by decide) ?_
          have hz := Option.some.inj hf; subst hz
          exact g_iret hc (hR _ hK) dX7_way_56
      · have hf := oT h9 hf
        refine g_iconst (v := (-1)) hc dX7_way_27 (by decide) ?_
        have hz := Option.some.inj hf; subst hz
        exact g_iret hc (hR _ hK) dX7_way_28
theorem c_X7_way {l : Launch} {D : va_G} {dA : Nat → ClassId} {ad : Nat → Nat} {tl : va_W}  {σ : (Nat → Nat → Int32)} {l1 : Int32} {l2 : Int32} {l3 : Int32}  {o : Int32 × (Nat → Nat → Int32)} (hf : f_X7_way σ l1 l2 l3 = some o) : gI l D dA (MW dA ad σ ++ tl) (MW dA ad o.2 ++ tl) [.ref (ad 0), .int l1, .int l2, .int l3] o.1 yX7_way (ws_ yX7_way cX7_way 4 (some .int)) ({ frames := 2, cells := 0, slots := 0, locals := 54 } : Room) :=
  g_startI (own := RX7) ⟨rfl, rfl⟩ (by decide) rfl (Nat.le_of_ble_eq_true rfl) (fun x e hc hR => by
    subst e
    exact w_X7_way hc σ l1 l2 l3  (K := fun o1 => o1 = o) hf rfl (by rintro _ rfl; exact hR))
theorem hd_X7_way : yX7_way.cls = RX7 ∧ yX7_way.cls ≠ "java/lang/invoke/MethodHandle" ∧ yX7_way.cls ≠ "java/lang/invoke/VarHandle" ∧ (parseMethodDescriptor yX7_way.desc).map (fun d => d.parameters.length) = some 3 := by decide +kernel
/-! HedgehogLotsModel.wins(I)I -/
def f_X7_wins (σ : (Nat → Nat → Int32)) (l1 : Int32) : Option (Int32 × (Nat → Nat → Int32)) :=
  oB (f_X7_isRag l1) fun r2 => if r2 = 0 then (some ((-1), σ)) else (oB (f_X7_winsOn σ 0 l1) fun r5 => some (r5.1, r5.2))
theorem w_X7_wins {x : gX} {ad : Nat → Nat} {tl : va_W}  (hc : gOk x RX7 cX7_wins 2 4 102)  (σ : (Nat → Nat → Int32)) (l1 : Int32)  {K : Int32 × (Nat → Nat → Int32) → Prop} {o : Int32 × (Nat → Nat → Int32)} (hf : f_X7_wins σ l1 = some o) (hK : K o) (hR : ∀ o : Int32 × (Nat → Nat → Int32), K o → gRi x 0 0 (MW x.dA ad o.2 ++ tl) o.1) : gG x 2 0 0 (MW x.dA ad σ ++ tl) 0 [(0, .ref (ad 0)), (1, .int l1)] [] := by
  unfold f_X7_wins at hf
  refine g_iload_n hc dX7_wins_0 rfl 1 rfl ?_
  obtain ⟨r2, h1, hf⟩ := oB_some hf
  refine g_callSi hc [.int l1] [] (c_X7_isRag  h1) (lw_S q1194 q1195 q67 q1196) rfl hd_X7_isRag rfl rfl (Nat.le_of_ble_eq_true rfl) gZ dX7_wins_1 ?_
  refine g_if_eq (tgt := 16) hc dX7_wins_4 (by decide) (fun h3 => ?_) (fun h3 => ?_)
  · have hf := oT h3 hf
    refine g_iconst (v := (-1)) hc dX7_wins_16 (by decide) ?_
    have hz := Option.some.inj hf; subst hz
    exact g_iret hc (hR _ hK) dX7_wins_17
  · have hf := oF h3 hf
    refine g_aload_n hc dX7_wins_7 rfl 0 rfl ?_
    refine g_iconst (v := 0) hc dX7_wins_8 (by decide) ?_
    refine g_iload_n hc dX7_wins_9 rfl 1 rfl ?_
    obtain ⟨r5, h4, hf⟩ := oB_some hf
    refine g_callVi hc [.int 0, .int l1] [] (c_X7_winsOn  h4) (MW_at (k := 0) (by decide)) rfl (lw_V q1137 q1139 qs45 q67 q1140) rfl hd_X7_winsOn rfl rfl (Nat.le_of_ble_eq_true rfl) gZ dX7_wins_10 ?_
    refine g_goto (tgt := 17) hc dX7_wins_13 (by decide) ?_
    have hz := Option.some.inj hf; subst hz
    exact g_iret hc (hR _ hK) dX7_wins_17
theorem c_X7_wins {l : Launch} {D : va_G} {dA : Nat → ClassId} {ad : Nat → Nat} {tl : va_W}  {σ : (Nat → Nat → Int32)} {l1 : Int32}  {o : Int32 × (Nat → Nat → Int32)} (hf : f_X7_wins σ l1 = some o) : gI l D dA (MW dA ad σ ++ tl) (MW dA ad o.2 ++ tl) [.ref (ad 0), .int l1] o.1 yX7_wins (ws_ yX7_wins cX7_wins 2 (some .int)) ({ frames := 4, cells := 0, slots := 0, locals := 102 } : Room) :=
  g_startI (own := RX7) ⟨rfl, rfl⟩ (by decide) rfl (Nat.le_of_ble_eq_true rfl) (fun x e hc hR => by
    subst e
    exact w_X7_wins hc σ l1  (K := fun o1 => o1 = o) hf rfl (by rintro _ rfl; exact hR))
theorem hd_X7_wins : yX7_wins.cls = RX7 ∧ yX7_wins.cls ≠ "java/lang/invoke/MethodHandle" ∧ yX7_wins.cls ≠ "java/lang/invoke/VarHandle" ∧ (parseMethodDescriptor yX7_wins.desc).map (fun d => d.parameters.length) = some 1 := by decide +kernel
/-! HedgehogLotsModel.share(II)I -/
def f_X7_share_b47 (σ : (Nat → Nat → Int32)) (l1 : Int32) (l2 : Int32) (l4 : Int32) (k2 : Int32) (k1 : Int32) : Option ((Int32 × Int32 × (Nat → Nat → Int32)) ⊕ (Int32 × (Nat → Nat → Int32))) :=
  some (.inl ((k1 + k2), (l4 + 1), σ))
theorem w_X7_share_b47 {x : gX} {ad : Nat → Nat} {tl : va_W}  (hc : gOk x RX7 cX7_share 5 3 77)  (σ : (Nat → Nat → Int32)) (l1 : Int32) (l2 : Int32) (l4 : Int32) (k2 : Int32) (k1 : Int32)  {K : (Int32 × Int32 × (Nat → Nat → Int32)) ⊕ (Int32 × (Nat → Nat → Int32)) → Prop} {o : (Int32 × Int32 × (Nat → Nat → Int32)) ⊕ (Int32 × (Nat → Nat → Int32))} (hf : f_X7_share_b47 σ l1 l2 l4 k2 k1 = some o) (hK : K o) (hI22 : ∀ v : Int32 × Int32 × (Nat → Nat → Int32), K (.inl v) → gG x 5 0 0 (MW x.dA ad v.2.2 ++ tl) 22 [(0, .ref (ad 0)), (1, .int l1), (2, .int l2), (3, .int v.1), (4, .int v.2.1)] []) (hR : ∀ o : Int32 × (Nat → Nat → Int32), K (.inr (o)) → gRi x 0 0 (MW x.dA ad o.2 ++ tl) o.1) : gG x 5 0 0 (MW x.dA ad σ ++ tl) 47 [(0, .ref (ad 0)), (1, .int l1), (2, .int l2), (4, .int l4)] [.int k2, .int k1] := by
  unfold f_X7_share_b47 at hf
  refine g_iadd hc dX7_share_47 ?_
  refine g_istore_n (lv' := [(3, .int (k1 + k2)), (0, .ref (ad 0)), (1, .int l1), (2, .int l2), (4, .int l4)]) hc dX7_share_48 rfl (by decide) rfl ?_
  refine g_iinc (v := l4 + 1) (lv' := [(4, .int (l4 + 1)), (3, .int (k1 + k2)), (0, .ref (ad 0)), (1, .int l1), (2, .int l2)]) hc dX7_share_49 (j := 4) rfl rfl (by decide) rfl ?_
  refine g_goto (tgt := 22) hc dX7_share_52 (by decide) ?_
  have hz := Option.some.inj hf; subst hz
  exact g_lv [2, 3, 4, 1, 0] rfl (hI22 _ hK)
def f_X7_share_L22 (σ : (Nat → Nat → Int32)) (l1 : Int32) (l2 : Int32) (l3 : Int32) (l4 : Int32) : Option ((Int32 × Int32 × (Nat → Nat → Int32)) ⊕ (Int32 × (Nat → Nat → Int32))) :=
  if 8 ≤ l4 then (oI (some (l3, σ))) else (oB (f_X7_winnerOn σ 0 l1 l4) fun r4 => if r4.1 = l2 then (f_X7_share_b47 r4.2 l1 l2 l4 1 l3) else (f_X7_share_b47 r4.2 l1 l2 l4 0 l3))
theorem w_X7_share_L22 {x : gX} {ad : Nat → Nat} {tl : va_W}  (hc : gOk x RX7 cX7_share 5 3 77)  (σ : (Nat → Nat → Int32)) (l1 : Int32) (l2 : Int32) (l3 : Int32) (l4 : Int32)  {K : (Int32 × Int32 × (Nat → Nat → Int32)) ⊕ (Int32 × (Nat → Nat → Int32)) → Prop} {o : (Int32 × Int32 × (Nat → Nat → Int32)) ⊕ (Int32 × (Nat → Nat → Int32))} (hf : f_X7_share_L22 σ l1 l2 l3 l4 = some o) (hK : K o) (hI22 : ∀ v : Int32 × Int32 × (Nat → Nat → Int32), K (.inl v) → gG x 5 0 0 (MW x.dA ad v.2.2 ++ tl) 22 [(0, .ref (ad 0)), (1, .int l1), (2, .int l2), (3, .int v.1), (4, .int v.2.1)] []) (hR : ∀ o : Int32 × (Nat → Nat → Int32), K (.inr (o)) → gRi x 0 0 (MW x.dA ad o.2 ++ tl) o.1) : gG x 5 0 0 (MW x.dA ad σ ++ tl) 22 [(0, .ref (ad 0)), (1, .int l1), (2, .int l2), (3, .int l3), (4, .int l4)] [] := by
  unfold f_X7_share_L22 at hf
  refine g_iload hc dX7_share_22 4 rfl ?_
  refine g_bipush (v := 8) hc dX7_share_24 (by decide) ?_
  refine g_icmp_ge (tgt := 55) hc dX7_share_26 (by decide) (fun h1 => ?_) (fun h1 => ?_)
  · have hf := oT h1 hf
    obtain ⟨o2, hgo2, eo2⟩ := oI_some hf
    clear hf; subst eo2; have hf := hgo2; clear hgo2
    refine g_iload_n hc dX7_share_55 rfl 3 rfl ?_
    have hz := Option.some.inj hf; subst hz
    exact g_iret hc (hR _ hK) dX7_share_56
  · have hf := oF h1 hf
    refine g_iload_n hc dX7_share_29 rfl 3 rfl ?_
    refine g_aload_n hc dX7_share_30 rfl 0 rfl ?_
    refine g_iconst (v := 0) hc dX7_share_31 (by decide) ?_
    refine g_iload_n hc dX7_share_32 rfl 1 rfl ?_
    refine g_iload hc dX7_share_33 4 rfl ?_
    obtain ⟨r4, h3, hf⟩ := oB_some hf
    refine g_callVi hc [.int 0, .int l1, .int l4] [.int l3] (c_X7_winnerOn  h3) (MW_at (k := 0) (by decide)) rfl (lw_V q1141 q1143 qs46 q67 q1144) rfl hd_X7_winnerOn rfl rfl (Nat.le_of_ble_eq_true rfl) gZ dX7_share_35 ?_
    refine g_iload_n hc dX7_share_38 rfl 2 rfl ?_
    refine g_icmp_ne (tgt := 46) hc dX7_share_39 (by decide) (fun h5 => ?_) (fun h5 => ?_)
    · have hf := oF h5 hf
      refine g_iconst (v := 0) hc dX7_share_46 (by decide) ?_
      exact g_lv [0, 1, 2, 4] rfl (w_X7_share_b47 hc r4.2 l1 l2 l4 0 l3  (K := K) hf hK hI22 hR)
    · have hf := oT h5 hf
      refine g_iconst (v := 1) hc dX7_share_42 (by decide) ?_
      refine g_goto (tgt := 47) hc dX7_share_43 (by decide) ?_
      exact g_lv [0, 1, 2, 4] rfl (w_X7_share_b47 hc r4.2 l1 l2 l4 1 l3  (K := K) hf hK hI22 hR)
def f_X7_share_b22 (σ : (Nat → Nat → Int32)) (l1 : Int32) (l2 : Int32) (l3 : Int32) (l4 : Int32) : Option (Int32 × (Nat → Nat → Int32)) :=
  oLoop gFU (fun v : Int32 × Int32 × (Nat → Nat → Int32) => f_X7_share_L22 v.2.2 l1 l2 v.1 v.2.1) (l3, l4, σ)
theorem w_X7_share_b22 {x : gX} {ad : Nat → Nat} {tl : va_W}  (hc : gOk x RX7 cX7_share 5 3 77)  (σ : (Nat → Nat → Int32)) (l1 : Int32) (l2 : Int32) (l3 : Int32) (l4 : Int32)  {K : Int32 × (Nat → Nat → Int32) → Prop} {o : Int32 × (Nat → Nat → Int32)} (hf : f_X7_share_b22 σ l1 l2 l3 l4 = some o) (hK : K o) (hR : ∀ o : Int32 × (Nat → Nat → Int32), K o → gRi x 0 0 (MW x.dA ad o.2 ++ tl) o.1) : gG x 5 0 0 (MW x.dA ad σ ++ tl) 22 [(0, .ref (ad 0)), (1, .int l1), (2, .int l2), (3, .int l3), (4, .int l4)] [] :=
  oLoop_ind (fun v : Int32 × Int32 × (Nat → Nat → Int32) => gG x 5 0 0 (MW x.dA ad v.2.2 ++ tl) 22 [(0, .ref (ad 0)), (1, .int l1), (2, .int l2), (3, .int v.1), (4, .int v.2.1)] []) K (fun v o1 hf1 hK1 => w_X7_share_L22 hc v.2.2 l1 l2 v.1 v.2.1  (K := Sum.elim (fun v : Int32 × Int32 × (Nat → Nat → Int32) => gG x 5 0 0 (MW x.dA ad v.2.2 ++ tl) 22 [(0, .ref (ad 0)), (1, .int l1), (2, .int l2), (3, .int v.1), (4, .int v.2.1)] []) K) hf1 hK1 (fun v hv => hv) hR) gFU _ o hf hK
def f_X7_share (σ : (Nat → Nat → Int32)) (l1 : Int32) (l2 : Int32) : Option (Int32 × (Nat → Nat → Int32)) :=
  oB (f_X7_isHog σ l1) fun r2 => if r2 = 0 then (some ((-1), σ)) else (oB (f_X7_isRag l2) fun r5 => if r5 = 0 then (some ((-1), σ)) else (f_X7_share_b22 σ l1 l2 0 0))
theorem w_X7_share {x : gX} {ad : Nat → Nat} {tl : va_W}  (hc : gOk x RX7 cX7_share 5 3 77)  (σ : (Nat → Nat → Int32)) (l1 : Int32) (l2 : Int32)  {K : Int32 × (Nat → Nat → Int32) → Prop} {o : Int32 × (Nat → Nat → Int32)} (hf : f_X7_share σ l1 l2 = some o) (hK : K o) (hR : ∀ o : Int32 × (Nat → Nat → Int32), K o → gRi x 0 0 (MW x.dA ad o.2 ++ tl) o.1) : gG x 5 0 0 (MW x.dA ad σ ++ tl) 0 [(0, .ref (ad 0)), (1, .int l1), (2, .int l2)] [] := by
  unfold f_X7_share at hf
  refine g_aload_n hc dX7_share_0 rfl 0 rfl ?_
  refine g_iload_n hc dX7_share_1 rfl 1 rfl ?_
  obtain ⟨r2, h1, hf⟩ := oB_some hf
  refine g_callVi hc [.int l1] [] (c_X7_isHog  h1) (MW_at (k := 0) (by decide)) rfl (lw_V q1162 q1164 qs48 q67 q1165) rfl hd_X7_isHog rfl rfl (Nat.le_of_ble_eq_true rfl) gZ dX7_share_2 ?_
  refine g_if_eq (tgt := 15) hc dX7_share_5 (by decide) (fun h3 => ?_) (fun h3 => ?_)
  · have hf := oT h3 hf
    refine g_iconst (v := (-1)) hc dX7_share_15 (by decide) ?_
    have hz := Option.some.inj hf; subst hz
    exact g_iret hc (hR _ hK) dX7_share_16
  · have hf := oF h3 hf
    refine g_iload_n hc dX7_share_8 rfl 2 rfl ?_
    obtain ⟨r5, h4, hf⟩ := oB_some hf
    refine g_callSi hc [.int l2] [] (c_X7_isRag  h4) (lw_S q1194 q1195 q67 q1196) rfl hd_X7_isRag rfl rfl (Nat.le_of_ble_eq_true rfl) gZ dX7_share_9 ?_
    refine g_if_ne (tgt := 17) hc dX7_share_12 (by decide) (fun h6 => ?_) (fun h6 => ?_)
    · have hf := oF h6 hf
      refine g_iconst (v := 0) hc dX7_share_17 (by decide) ?_
      refine g_istore_n (lv' := [(3, .int 0), (0, .ref (ad 0)), (1, .int l1), (2, .int l2)]) hc dX7_share_18 rfl (by decide) rfl ?_
      refine g_iconst (v := 0) hc dX7_share_19 (by decide) ?_
      refine g_istore (lv' := [(4, .int 0), (3, .int 0), (0, .ref (ad 0)), (1, .int l1), (2, .int l2)]) hc dX7_share_20 (by decide) rfl ?_
      exact g_lv [2, 3, 4, 1, 0] rfl (w_X7_share_b22 hc σ l1 l2 0 0  (K := K) hf hK hR)
    · have hf := oT h6 hf
      refine g_iconst (v := (-1)) hc dX7_share_15 (by decide) ?_
      have hz := Option.some.inj hf; subst hz
      exact g_iret hc (hR _ hK) dX7_share_16
theorem c_X7_share {l : Launch} {D : va_G} {dA : Nat → ClassId} {ad : Nat → Nat} {tl : va_W}  {σ : (Nat → Nat → Int32)} {l1 : Int32} {l2 : Int32}  {o : Int32 × (Nat → Nat → Int32)} (hf : f_X7_share σ l1 l2 = some o) : gI l D dA (MW dA ad σ ++ tl) (MW dA ad o.2 ++ tl) [.ref (ad 0), .int l1, .int l2] o.1 yX7_share (ws_ yX7_share cX7_share 5 (some .int)) ({ frames := 3, cells := 0, slots := 0, locals := 77 } : Room) :=
  g_startI (own := RX7) ⟨rfl, rfl⟩ (by decide) rfl (Nat.le_of_ble_eq_true rfl) (fun x e hc hR => by
    subst e
    exact w_X7_share hc σ l1 l2  (K := fun o1 => o1 = o) hf rfl (by rintro _ rfl; exact hR))
theorem hd_X7_share : yX7_share.cls = RX7 ∧ yX7_share.cls ≠ "java/lang/invoke/MethodHandle" ∧ yX7_share.cls ≠ "java/lang/invoke/VarHandle" ∧ (parseMethodDescriptor yX7_share.desc).map (fun d => d.parameters.length) = some 2 := by decide +kernel
/-! HedgehogLotsModel.first(II)I -/
def f_X7_first_L19 (σ : (Nat → Nat → Int32)) (l1 : Int32) (l2 : Int32) (l3 : Int32) : Option ((Int32 × (Nat → Nat → Int32)) ⊕ (Int32 × (Nat → Nat → Int32))) :=
  if 8 ≤ l3 then (oI (some ((-4), σ))) else (oB (f_X7_winnerOn σ 0 l1 l3) fun r4 => if r4.1 = l2 then (oI (some (l3, r4.2))) else (some (.inl ((l3 + 1), r4.2))))
theorem w_X7_first_L19 {x : gX} {ad : Nat → Nat} {tl : va_W}  (hc : gOk x RX7 cX7_first 4 3 77)  (σ : (Nat → Nat → Int32)) (l1 : Int32) (l2 : Int32) (l3 : Int32)  {K : (Int32 × (Nat → Nat → Int32)) ⊕ (Int32 × (Nat → Nat → Int32)) → Prop} {o : (Int32 × (Nat → Nat → Int32)) ⊕ (Int32 × (Nat → Nat → Int32))} (hf : f_X7_first_L19 σ l1 l2 l3 = some o) (hK : K o) (hI19 : ∀ v : Int32 × (Nat → Nat → Int32), K (.inl v) → gG x 4 0 0 (MW x.dA ad v.2 ++ tl) 19 [(0, .ref (ad 0)), (1, .int l1), (2, .int l2), (3, .int v.1)] []) (hR : ∀ o : Int32 × (Nat → Nat → Int32), K (.inr (o)) → gRi x 0 0 (MW x.dA ad o.2 ++ tl) o.1) : gG x 4 0 0 (MW x.dA ad σ ++ tl) 19 [(0, .ref (ad 0)), (1, .int l1), (2, .int l2), (3, .int l3)] [] := by
  unfold f_X7_first_L19 at hf
  refine g_iload_n hc dX7_first_19 rfl 3 rfl ?_
  refine g_bipush (v := 8) hc dX7_first_20 (by decide) ?_
  refine g_icmp_ge (tgt := 44) hc dX7_first_22 (by decide) (fun h1 => ?_) (fun h1 => ?_)
  · have hf := oT h1 hf
    obtain ⟨o2, hgo2, eo2⟩ := oI_some hf
    clear hf; subst eo2; have hf := hgo2; clear hgo2
    refine g_bipush (v := (-4)) hc dX7_first_44 (by decide) ?_
    have hz := Option.some.inj hf; subst hz
    exact g_iret hc (hR _ hK) dX7_first_46
  · have hf := oF h1 hf
    refine g_aload_n hc dX7_first_25 rfl 0 rfl ?_
    refine g_iconst (v := 0) hc dX7_first_26 (by decide) ?_
    refine g_iload_n hc dX7_first_27 rfl 1 rfl ?_
    refine g_iload_n hc dX7_first_28 rfl 3 rfl ?_
    obtain ⟨r4, h3, hf⟩ := oB_some hf
    refine g_callVi hc [.int 0, .int l1, .int l3] [] (c_X7_winnerOn  h3) (MW_at (k := 0) (by decide)) rfl (lw_V q1141 q1143 qs46 q67 q1144) rfl hd_X7_winnerOn rfl rfl (Nat.le_of_ble_eq_true rfl) gZ dX7_first_29 ?_
    refine g_iload_n hc dX7_first_32 rfl 2 rfl ?_
    refine g_icmp_ne (tgt := 38) hc dX7_first_33 (by decide) (fun h5 => ?_) (fun h5 => ?_)
    · have hf := oF h5 hf
      refine g_iinc (v := l3 + 1) (lv' := [(3, .int (l3 + 1)), (0, .ref (ad 0)), (1, .int l1), (2, .int l2)]) hc dX7_first_38 (j := 3) rfl rfl (by decide) rfl ?_
      refine g_goto (tgt := 19) hc dX7_first_41 (by decide) ?_
      have hz := Option.some.inj hf; subst hz
      exact g_lv [1, 2, 3, 0] rfl (hI19 _ hK)
    · have hf := oT h5 hf
      obtain ⟨o6, hgo6, eo6⟩ := oI_some hf
      clear hf; subst eo6; have hf := hgo6; clear hgo6
      refine g_iload_n hc dX7_first_36 rfl 3 rfl ?_
      have hz := Option.some.inj hf; subst hz
      exact g_iret hc (hR _ hK) dX7_first_37
def f_X7_first_b19 (σ : (Nat → Nat → Int32)) (l1 : Int32) (l2 : Int32) (l3 : Int32) : Option (Int32 × (Nat → Nat → Int32)) :=
  oLoop gFU (fun v : Int32 × (Nat → Nat → Int32) => f_X7_first_L19 v.2 l1 l2 v.1) (l3, σ)
theorem w_X7_first_b19 {x : gX} {ad : Nat → Nat} {tl : va_W}  (hc : gOk x RX7 cX7_first 4 3 77)  (σ : (Nat → Nat → Int32)) (l1 : Int32) (l2 : Int32) (l3 : Int32)  {K : Int32 × (Nat → Nat → Int32) → Prop} {o : Int32 × (Nat → Nat → Int32)} (hf : f_X7_first_b19 σ l1 l2 l3 = some o) (hK : K o) (hR : ∀ o : Int32 × (Nat → Nat → Int32), K o → gRi x 0 0 (MW x.dA ad o.2 ++ tl) o.1) : gG x 4 0 0 (MW x.dA ad σ ++ tl) 19 [(0, .ref (ad 0)), (1, .int l1), (2, .int l2), (3, .int l3)] [] :=
  oLoop_ind (fun v : Int32 × (Nat → Nat → Int32) => gG x 4 0 0 (MW x.dA ad v.2 ++ tl) 19 [(0, .ref (ad 0)), (1, .int l1), (2, .int l2), (3, .int v.1)] []) K (fun v o1 hf1 hK1 => w_X7_first_L19 hc v.2 l1 l2 v.1  (K := Sum.elim (fun v : Int32 × (Nat → Nat → Int32) => gG x 4 0 0 (MW x.dA ad v.2 ++ tl) 19 [(0, .ref (ad 0)), (1, .int l1), (2, .int l2), (3, .int v.1)] []) K) hf1 hK1 (fun v hv => hv) hR) gFU _ o hf hK
def f_X7_first (σ : (Nat → Nat → Int32)) (l1 : Int32) (l2 : Int32) : Option (Int32 × (Nat → Nat → Int32)) :=
  oB (f_X7_isHog σ l1) fun r2 => if r2 = 0 then (some ((-1), σ)) else (oB (f_X7_isRag l2) fun r5 => if r5 = 0 then (some ((-1), σ)) else (f_X7_first_b19 σ l1 l2 0))
theorem w_X7_first {x : gX} {ad : Nat → Nat} {tl : va_W}  (hc : gOk x RX7 cX7_first 4 3 77)  (σ : (Nat → Nat → Int32)) (l1 : Int32) (l2 : Int32)  {K : Int32 × (Nat → Nat → Int32) → Prop} {o : Int32 × (Nat → Nat → Int32)} (hf : f_X7_first σ l1 l2 = some o) (hK : K o) (hR : ∀ o : Int32 × (Nat → Nat → Int32), K o → gRi x 0 0 (MW x.dA ad o.2 ++ tl) o.1) : gG x 4 0 0 (MW x.dA ad σ ++ tl) 0 [(0, .ref (ad 0)), (1, .int l1), (2, .int l2)] [] := by
  unfold f_X7_first at hf
  refine g_aload_n hc dX7_first_0 rfl 0 rfl ?_
  refine g_iload_n hc dX7_first_1 rfl 1 rfl ?_
  obtain ⟨r2, h1, hf⟩ := oB_some hf
  refine g_callVi hc [.int l1] [] (c_X7_isHog  h1) (MW_at (k := 0) (by decide)) rfl (lw_V q1162 q1164 qs48 q67 q1165) rfl hd_X7_isHog rfl rfl (Nat.le_of_ble_eq_true rfl) gZ dX7_first_2 ?_
  refine g_if_eq (tgt := 15) hc dX7_first_5 (by decide) (fun h3 => ?_) (fun h3 => ?_)
  · have hf := oT h3 hf
    refine g_iconst (v := (-1)) hc dX7_first_15 (by decide) ?_
    have hz := Option.some.inj hf; subst hz
    exact g_iret hc (hR _ hK) dX7_first_16
  · have hf := oF h3 hf
    refine g_iload_n hc dX7_first_8 rfl 2 rfl ?_
    obtain ⟨r5, h4, hf⟩ := oB_some hf
    refine g_callSi hc [.int l2] [] (c_X7_isRag  h4) (lw_S q1194 q1195 q67 q1196) rfl hd_X7_isRag rfl rfl (Nat.le_of_ble_eq_true rfl) gZ dX7_first_9 ?_
    refine g_if_ne (tgt := 17) hc dX7_first_12 (by decide) (fun h6 => ?_) (fun h6 => ?_)
    · have hf := oF h6 hf
      refine g_iconst (v := 0) hc dX7_first_17 (by decide) ?_
      refine g_istore_n (lv' := [(3, .int 0), (0, .ref (ad 0)), (1, .int l1), (2, .int l2)]) hc dX7_first_18 rfl (by decide) rfl ?_
      exact g_lv [1, 2, 3, 0] rfl (w_X7_first_b19 hc σ l1 l2 0  (K := K) hf hK hR)
    · have hf := oT h6 hf
      refine g_iconst (v := (-1)) hc dX7_first_15 (by decide) ?_
      have hz := Option.some.inj hf; subst hz
      exact g_iret hc (hR _ hK) dX7_first_16
theorem c_X7_first {l : Launch} {D : va_G} {dA : Nat → ClassId} {ad : Nat → Nat} {tl : va_W}  {σ : (Nat → Nat → Int32)} {l1 : Int32} {l2 : Int32}  {o : Int32 × (Nat → Nat → Int32)} (hf : f_X7_first σ l1 l2 = some o) : gI l D dA (MW dA ad σ ++ tl) (MW dA ad o.2 ++ tl) [.ref (ad 0), .int l1, .int l2] o.1 yX7_first (ws_ yX7_first cX7_first 4 (some .int)) ({ frames := 3, cells := 0, slots := 0, locals := 77 } : Room) :=
  g_startI (own := RX7) ⟨rfl, rfl⟩ (by decide) rfl (Nat.le_of_ble_eq_true rfl) (fun x e hc hR => by
    subst e
    exact w_X7_first hc σ l1 l2  (K := fun o1 => o1 = o) hf rfl (by rintro _ rfl; exact hR))
theorem hd_X7_first : yX7_first.cls = RX7 ∧ yX7_first.cls ≠ "java/lang/invoke/MethodHandle" ∧ yX7_first.cls ≠ "java/lang/invoke/VarHandle" ∧ (parseMethodDescriptor yX7_first.desc).map (fun d => d.parameters.length) = some 2 := by decide +kernel
/-! HedgehogLotsModel.copies(II)V -/
def f_X7_copies_L2 (σ : (Nat → Nat → Int32)) (l1 : Int32) (l2 : Int32) (l3 : Int32) : Option ((Int32 × (Nat → Nat → Int32)) ⊕ ((Nat → Nat → Int32))) :=
  if 41 ≤ l3 then (oI (some σ)) else (oC (inb (l1 + l3) 205) <| oC (inb (l2 + l3) 205) <| oL (upd2 σ 1 (l2 + l3).toNatClampNeg (σ 1 (l1 + l3).toNatClampNeg)) fun s4 => some (.inl ((l3 + 1), s4)))
theorem w_X7_copies_L2 {x : gX} {ad : Nat → Nat} {tl : va_W}  (hc : gOk x RX7 cX7_copies 4 0 0)  (σ : (Nat → Nat → Int32)) (l1 : Int32) (l2 : Int32) (l3 : Int32)  {K : (Int32 × (Nat → Nat → Int32)) ⊕ ((Nat → Nat → Int32)) → Prop} {o : (Int32 × (Nat → Nat → Int32)) ⊕ ((Nat → Nat → Int32))} (hf : f_X7_copies_L2 σ l1 l2 l3 = some o) (hK : K o) (hI2 : ∀ v : Int32 × (Nat → Nat → Int32), K (.inl v) → gG x 4 0 0 (MW x.dA ad v.2 ++ tl) 2 [(0, .ref (ad 0)), (1, .int l1), (2, .int l2), (3, .int v.1)] []) (hR : ∀ o : (Nat → Nat → Int32), K (.inr (o)) → gRv x 0 0 (MW x.dA ad o ++ tl)) : gG x 4 0 0 (MW x.dA ad σ ++ tl) 2 [(0, .ref (ad 0)), (1, .int l1), (2, .int l2), (3, .int l3)] [] := by
  unfold f_X7_copies_L2 at hf
  refine g_iload_n hc dX7_copies_2 rfl 3 rfl ?_
  refine g_bipush (v := 41) hc dX7_copies_3 (by decide) ?_
  refine g_icmp_ge (tgt := 30) hc dX7_copies_5 (by decide) (fun h1 => ?_) (fun h1 => ?_)
  · have hf := oT h1 hf
    obtain ⟨o2, hgo2, eo2⟩ := oI_some hf
    clear hf; subst eo2; have hf := hgo2; clear hgo2
    have hz := Option.some.inj hf; subst hz
    exact g_vret hc (hR _ hK) dX7_copies_30
  · have hf := oF h1 hf
    refine g_aload_n hc dX7_copies_8 rfl 0 rfl ?_
    refine g_get (v := .ref (ad 1)) hc in_X7 (MW_at (k := 0) (by decide)) rfl 0 (by decide) q961 rfl dX7_copies_9 ?_
    refine g_iload_n hc dX7_copies_12 rfl 2 rfl ?_
    refine g_iload_n hc dX7_copies_13 rfl 3 rfl ?_
    refine g_iadd hc dX7_copies_14 ?_
    refine g_aload_n hc dX7_copies_15 rfl 0 rfl ?_
    refine g_get (v := .ref (ad 1)) hc in_X7 (MW_at (k := 0) (by decide)) rfl 0 (by decide) q961 rfl dX7_copies_16 ?_
    refine g_iload_n hc dX7_copies_19 rfl 1 rfl ?_
    refine g_iload_n hc dX7_copies_20 rfl 3 rfl ?_
    refine g_iadd hc dX7_copies_21 ?_
    obtain ⟨h3, hf⟩ := oC_some hf
    refine g_iald (n := 205) (f := σ 1) hc (MW_at (k := 1) (by decide)) h3 dX7_copies_22 ?_
    obtain ⟨h6, hf⟩ := oC_some hf
    obtain ⟨s4, e5, hf⟩ := oL_some hf
    refine g_iast (n := 205) (f := σ 1) hc (MW_at (k := 1) (by decide)) h6 (MW_set (μ1 := s4) (k := 1) (by decide) e5 rfl) dX7_copies_23 ?_
    refine g_iinc (v := l3 + 1) (lv' := [(3, .int (l3 + 1)), (0, .ref (ad 0)), (1, .int l1), (2, .int l2)]) hc dX7_copies_24 (j := 3) rfl rfl (by decide) rfl ?_
    refine g_goto (tgt := 2) hc dX7_copies_27 (by decide) ?_
    have hz := Option.some.inj hf; subst hz
    exact g_lv [1, 2, 3, 0] rfl (hI2 _ hK)
def f_X7_copies_b2 (σ : (Nat → Nat → Int32)) (l1 : Int32) (l2 : Int32) (l3 : Int32) : Option ((Nat → Nat → Int32)) :=
  oLoop gFU (fun v : Int32 × (Nat → Nat → Int32) => f_X7_copies_L2 v.2 l1 l2 v.1) (l3, σ)
theorem w_X7_copies_b2 {x : gX} {ad : Nat → Nat} {tl : va_W}  (hc : gOk x RX7 cX7_copies 4 0 0)  (σ : (Nat → Nat → Int32)) (l1 : Int32) (l2 : Int32) (l3 : Int32)  {K : (Nat → Nat → Int32) → Prop} {o : (Nat → Nat → Int32)} (hf : f_X7_copies_b2 σ l1 l2 l3 = some o) (hK : K o) (hR : ∀ o : (Nat → Nat → Int32), K o → gRv x 0 0 (MW x.dA ad o ++ tl)) : gG x 4 0 0 (MW x.dA ad σ ++ tl) 2 [(0, .ref (ad 0)), (1, .int l1), (2, .int l2), (3, .int l3)] [] :=
  oLoop_ind (fun v : Int32 × (Nat → Nat → Int32) => gG x 4 0 0 (MW x.dA ad v.2 ++ tl) 2 [(0, .ref (ad 0)), (1, .int l1), (2, .int l2), (3, .int v.1)] []) K (fun v o1 hf1 hK1 => w_X7_copies_L2 hc v.2 l1 l2 v.1  (K := Sum.elim (fun v : Int32 × (Nat → Nat → Int32) => gG x 4 0 0 (MW x.dA ad v.2 ++ tl) 2 [(0, .ref (ad 0)), (1, .int l1), (2, .int l2), (3, .int v.1)] []) K) hf1 hK1 (fun v hv => hv) hR) gFU _ o hf hK
def f_X7_copies (σ : (Nat → Nat → Int32)) (l1 : Int32) (l2 : Int32) : Option ((Nat → Nat → Int32)) :=
  f_X7_copies_b2 σ l1 l2 0
theorem w_X7_copies {x : gX} {ad : Nat → Nat} {tl : va_W}  (hc : gOk x RX7 cX7_copies 4 0 0)  (σ : (Nat → Nat → Int32)) (l1 : Int32) (l2 : Int32)  {K : (Nat → Nat → Int32) → Prop} {o : (Nat → Nat → Int32)} (hf : f_X7_copies σ l1 l2 = some o) (hK : K o) (hR : ∀ o : (Nat → Nat → Int32), K o → gRv x 0 0 (MW x.dA ad o ++ tl)) : gG x 4 0 0 (MW x.dA ad σ ++ tl) 0 [(0, .ref (ad 0)), (1, .int l1), (2, .int l2)] [] := by
  unfold f_X7_copies at hf
  refine g_iconst (v := 0) hc dX7_copies_0 (by decide) ?_
  refine g_istore_n (lv' := [(3, .int 0), (0, .ref (ad 0)), (1, .int l1), (2, .int l2)]) hc dX7_copies_1 rfl (by decide) rfl ?_
  exact g_lv [1, 2, 3, 0] rfl (w_X7_copies_b2 hc σ l1 l2 0  (K := K) hf hK hR)
theorem c_X7_copies {l : Launch} {D : va_G} {dA : Nat → ClassId} {ad : Nat → Nat} {tl : va_W}  {σ : (Nat → Nat → Int32)} {l1 : Int32} {l2 : Int32}  {o : (Nat → Nat → Int32)} (hf : f_X7_copies σ l1 l2 = some o) : gV l D dA (MW dA ad σ ++ tl) (MW dA ad o ++ tl) [.ref (ad 0), .int l1, .int l2] yX7_copies (ws_ yX7_copies cX7_copies 4 none) ({ frames := 0, cells := 0, slots := 0, locals := 0 } : Room) :=
  g_startV (own := RX7) ⟨rfl, rfl⟩ (by decide) rfl (Nat.le_of_ble_eq_true rfl) (fun x e hc hR => by
    subst e
    exact w_X7_copies hc σ l1 l2  (K := fun o1 => o1 = o) hf rfl (by rintro _ rfl; exact hR))
theorem hd_X7_copies : yX7_copies.cls = RX7 ∧ yX7_copies.cls ≠ "java/lang/invoke/MethodHandle" ∧ yX7_copies.cls ≠ "java/lang/invoke/VarHandle" ∧ (parseMethodDescriptor yX7_copies.desc).map (fun d => d.parameters.length) = some 2 := by decide +kernel
/-! HedgehogLotsModel.kindly(III)I -/
def f_X7_kindly_b79 (σ : (Nat → Nat → Int32)) (l1 : Int32) (l2 : Int32) (l3 : Int32) (l5 : Int32) (k2 : Int32) (k1 : Int32) : Option ((Int32 × Int32 × (Nat → Nat → Int32)) ⊕ (Int32 × (Nat → Nat → Int32))) :=
  some (.inl ((k1 ||| k2), (l5 + 1), σ))
theorem w_X7_kindly_b79 {x : gX} {ad : Nat → Nat} {tl : va_W}  (hc : gOk x RX7 cX7_kindly 6 3 77)  (σ : (Nat → Nat → Int32)) (l1 : Int32) (l2 : Int32) (l3 : Int32) (l5 : Int32) (k2 : Int32) (k1 : Int32)  {K : (Int32 × Int32 × (Nat → Nat → Int32)) ⊕ (Int32 × (Nat → Nat → Int32)) → Prop} {o : (Int32 × Int32 × (Nat → Nat → Int32)) ⊕ (Int32 × (Nat → Nat → Int32))} (hf : f_X7_kindly_b79 σ l1 l2 l3 l5 k2 k1 = some o) (hK : K o) (hI38 : ∀ v : Int32 × Int32 × (Nat → Nat → Int32), K (.inl v) → gG x 6 0 0 (MW x.dA ad v.2.2 ++ tl) 38 [(0, .ref (ad 0)), (1, .int l1), (2, .int l2), (3, .int l3), (4, .int v.1), (5, .int v.2.1)] []) (hR : ∀ o : Int32 × (Nat → Nat → Int32), K (.inr (o)) → gRi x 0 0 (MW x.dA ad o.2 ++ tl) o.1) : gG x 6 0 0 (MW x.dA ad σ ++ tl) 79 [(0, .ref (ad 0)), (1, .int l1), (2, .int l2), (3, .int l3), (5, .int l5)] [.int k2, .int k1] := by
  unfold f_X7_kindly_b79 at hf
  refine g_ior hc dX7_kindly_79 ?_
  refine g_istore (lv' := [(4, .int (k1 ||| k2)), (0, .ref (ad 0)), (1, .int l1), (2, .int l2), (3, .int l3), (5, .int l5)]) hc dX7_kindly_80 (by decide) rfl ?_
  refine g_iinc (v := l5 + 1) (lv' := [(5, .int (l5 + 1)), (4, .int (k1 ||| k2)), (0, .ref (ad 0)), (1, .int l1), (2, .int l2), (3, .int l3)]) hc dX7_kindly_82 (j := 5) rfl rfl (by decide) rfl ?_
  refine g_goto (tgt := 38) hc dX7_kindly_85 (by decide) ?_
  have hz := Option.some.inj hf; subst hz
  exact g_lv [2, 3, 4, 5, 1, 0] rfl (hI38 _ hK)
def f_X7_kindly_L38 (σ : (Nat → Nat → Int32)) (l1 : Int32) (l2 : Int32) (l3 : Int32) (l4 : Int32) (l5 : Int32) : Option ((Int32 × Int32 × (Nat → Nat → Int32)) ⊕ (Int32 × (Nat → Nat → Int32))) :=
  if 4 ≤ l5 then (oI (some (l4, σ))) else (oC (inb (182 + l1) 205) <| oL (upd2 σ 1 (182 + l1).toNatClampNeg l5) fun s3 => oB (f_X7_winnerOn s3 164 l1 l2) fun r7 => if r7.1 = l3 then (f_X7_kindly_b79 r7.2 l1 l2 l3 l5 ((1 : Int32) <<< (l5 &&& 31)) l4) else (f_X7_kindly_b79 r7.2 l1 l2 l3 l5 0 l4))
theorem w_X7_kindly_L38 {x : gX} {ad : Nat → Nat} {tl : va_W}  (hc : gOk x RX7 cX7_kindly 6 3 77)  (σ : (Nat → Nat → Int32)) (l1 : Int32) (l2 : Int32) (l3 : Int32) (l4 : Int32) (l5 : Int32)  {K : (Int32 × Int32 × (Nat → Nat → Int32)) ⊕ (Int32 × (Nat → Nat → Int32)) → Prop} {o : (Int32 × Int32 × (Nat → Nat → Int32)) ⊕ (Int32 × (Nat → Nat → Int32))} (hf : f_X7_kindly_L38 σ l1 l2 l3 l4 l5 = some o) (hK : K o) (hI38 : ∀ v : Int32 × Int32 × (Nat → Nat → Int32), K (.inl v) → gG x 6 0 0 (MW x.dA ad v.2.2 ++ tl) 38 [(0, .ref (ad 0)), (1, .int l1), (2, .int l2), (3, .int l3), (4, .int v.1), (5, .int v.2.1)] []) (hR : ∀ o : Int32 × (Nat → Nat → Int32), K (.inr (o)) → gRi x 0 0 (MW x.dA ad o.2 ++ tl) o.1) : gG x 6 0 0 (MW x.dA ad σ ++ tl) 38 [(0, .ref (ad 0)), (1, .int l1), (2, .int l2), (3, .int l3), (4, .int l4), (5, .int l5)] [] := by
  unfold f_X7_kindly_L38 at hf
  refine g_iload hc dX7_kindly_38 5 rfl ?_
  refine g_iconst (v := 4) hc dX7_kindly_40 (by decide) ?_
  refine g_icmp_ge (tgt := 88) hc dX7_kindly_41 (by decide) (fun h1 => ?_) (fun h1 => ?_)
  · have hf := oT h1 hf
    obtain ⟨o2, hgo2, eo2⟩ := oI_some hf
    clear hf; subst eo2; have hf := hgo2; clear hgo2
    refine g_iload hc dX7_kindly_88 4 rfl ?_
    have hz := Option.some.inj hf; subst hz
    exact g_iret hc (hR _ hK) dX7_kindly_90
  · have hf := oF h1 hf
    refine g_aload_n hc dX7_kindly_44 rfl 0 rfl ?_
    refine g_get (v := .ref (ad 1)) hc in_X7 (MW_at (k := 0) (by decide)) rfl 0 (by decide) q961 rfl dX7_kindly_45 ?_
    refine g_sipush (v := 182) hc dX7_kindly_48 (by decide) ?_
    refine g_iload_n hc dX7_kindly_51 rfl 1 rfl ?_
    refine g_iadd hc dX7_kindly_52 ?_
    refine g_iload hc dX7_kindly_53 5 rfl ?_
    obtain ⟨h5, hf⟩ := oC_some hf
    obtain ⟨s3, e4, hf⟩ := oL_some hf
    refine g_iast (n := 205) (f := σ 1) hc (MW_at (k := 1) (by decide)) h5 (MW_set (μ1 := s3) (k := 1) (by decide) e4 rfl) dX7_kindly_55 ?_
    refine g_iload hc dX7_kindly_56 4 rfl ?_
    refine g_aload_n hc dX7_kindly_58 rfl 0 rfl ?_
    refine g_sipush (v := 164) hc dX7_kindly_59 (by decide) ?_
    refine g_iload_n hc dX7_kindly_62 rfl 1 rfl ?_
    refine g_iload_n hc dX7_kindly_63 rfl 2 rfl ?_
    obtain ⟨r7, h6, hf⟩ := oB_some hf
    refine g_callVi hc [.int 164, .int l1, .int l2] [.int l4] (c_X7_winnerOn  h6) (MW_at (k := 0) (by decide)) rfl (lw_V q1141 q1143 qs46 q67 q1144) rfl hd_X7_winnerOn rfl rfl (Nat.le_of_ble_eq_true rfl) gZ dX7_kindly_64 ?_
    refine g_iload_n hc dX7_kindly_67 rfl 3 rfl ?_
    refine g_icmp_ne (tgt := 78) hc dX7_kindly_68 (by decide) (fun h8 => ?_) (fun h8 => ?_)
    · have hf := oF h8 hf
      refine g_iconst (v := 0) hc dX7_kindly_78 (by decide) ?_
      exact g_lv [0, 1, 2, 3, 5] rfl (w_X7_kindly_b79 hc r7.2 l1 l2 l3 l5 0 l4  (K := K) hf hK hI38 hR)
    · have hf := oT h8 hf
      refine g_iconst (v := 1) hc dX7_kindly_71 (by decide) ?_
      refine g_iload hc dX7_kindly_72 5 rfl ?_
      refine g_ishl hc dX7_kindly_74 ?_
      refine g_goto (tgt := 79) hc dX7_kindly_75 (by decide) ?_
      exact g_lv [0, 1, 2, 3, 5] rfl (w_X7_kindly_b79 hc r7.2 l1 l2 l3 l5 ((1 : Int32) <<< (l5 &&& 31)) l4  (K := K) hf hK hI38 hR)
def f_X7_kindly_b38 (σ : (Nat → Nat → Int32)) (l1 : Int32) (l2 : Int32) (l3 : Int32) (l4 : Int32) (l5 : Int32) : Option (Int32 × (Nat → Nat → Int32)) :=
  oLoop gFU (fun v : Int32 × Int32 × (Nat → Nat → Int32) => f_X7_kindly_L38 v.2.2 l1 l2 l3 v.1 v.2.1) (l4, l5, σ)
theorem w_X7_kindly_b38 {x : gX} {ad : Nat → Nat} {tl : va_W}  (hc : gOk x RX7 cX7_kindly 6 3 77)  (σ : (Nat → Nat → Int32)) (l1 : Int32) (l2 : Int32) (l3 : Int32) (l4 : Int32) (l5 : Int32)  {K : Int32 × (Nat → Nat → Int32) → Prop} {o : Int32 × (Nat → Nat → Int32)} (hf : f_X7_kindly_b38 σ l1 l2 l3 l4 l5 = some o) (hK : K o) (hR : ∀ o : Int32 × (Nat → Nat → Int32), K o → gRi x 0 0 (MW x.dA ad o.2 ++ tl) o.1) : gG x 6 0 0 (MW x.dA ad σ ++ tl) 38 [(0, .ref (ad 0)), (1, .int l1), (2, .int l2), (3, .int l3), (4, .int l4), (5, .int l5)] [] :=
  oLoop_ind (fun v : Int32 × Int32 × (Nat → Nat → Int32) => gG x 6 0 0 (MW x.dA ad v.2.2 ++ tl) 38 [(0, .ref (ad 0)), (1, .int l1), (2, .int l2), (3, .int l3), (4, .int v.1), (5, .int v.2.1)] []) K (fun v o1 hf1 hK1 => w_X7_kindly_L38 hc v.2.2 l1 l2 l3 v.1 v.2.1  (K := Sum.elim (fun v : Int32 × Int32 × (Nat → Nat → Int32) => gG x 6 0 0 (MW x.dA ad v.2.2 ++ tl) 38 [(0, .ref (ad 0)), (1, .int l1), (2, .int l2), (3, .int l3), (4, .int v.1), (5, .int v.2.1)] []) K) hf1 hK1 (fun v hv => hv) hR) gFU _ o hf hK
def f_X7_kindly (σ : (Nat → Nat → Int32)) (l1 : Int32) (l2 : Int32) (l3 : Int32) : Option (Int32 × (Nat → Nat → Int32)) :=
  oB (f_X7_isHog σ l1) fun r2 => if r2 = 0 then (some ((-1), σ)) else (oB (f_X7_isColumn l2) fun r5 => if r5 = 0 then (some ((-1), σ)) else (oB (f_X7_isRag l3) fun r8 => if r8 = 0 then (some ((-1), σ)) else (oB (f_X7_copies σ 0 164) fun r11 => f_X7_kindly_b38 r11 l1 l2 l3 0 0)))
theorem w_X7_kindly {x : gX} {ad : Nat → Nat} {tl : va_W}  (hc : gOk x RX7 cX7_kindly 6 3 77)  (σ : (Nat → Nat → Int32)) (l1 : Int32) (l2 : Int32) (l3 : Int32)  {K : Int32 × (Nat → Nat → Int32) → Prop} {o : Int32 × (Nat → Nat → Int32)} (hf : f_X7_kindly σ l1 l2 l3 = some o) (hK : K o) (hR : ∀ o : Int32 × (Nat → Nat → Int32), K o → gRi x 0 0 (MW x.dA ad o.2 ++ tl) o.1) : gG x 6 0 0 (MW x.dA ad σ ++ tl) 0 [(0, .ref (ad 0)), (1, .int l1), (2, .int l2), (3, .int l3)] [] := by
  unfold f_X7_kindly at hf
  refine g_aload_n hc dX7_kindly_0 rfl 0 rfl ?_
  refine g_iload_n hc dX7_kindly_1 rfl 1 rfl ?_
  obtain ⟨r2, h1, hf⟩ := oB_some hf
  refine g_callVi hc [.int l1] [] (c_X7_isHog  h1) (MW_at (k := 0) (by decide)) rfl (lw_V q1162 q1164 qs48 q67 q1165) rfl hd_X7_isHog rfl rfl (Nat.le_of_ble_eq_true rfl) gZ dX7_kindly_2 ?_
  refine g_if_eq (tgt := 22) hc dX7_kindly_5 (by decide) (fun h3 => ?_) (fun h3 => ?_)
  · have hf := oT h3 hf
    refine g_iconst (v := (-1)) hc dX7_kindly_22 (by decide) ?_
    have hz := Option.some.inj hf; subst hz
    exact g_iret hc (hR _ hK) dX7_kindly_23
  · have hf := oF h3 hf
    refine g_iload_n hc dX7_kindly_8 rfl 2 rfl ?_
    obtain ⟨r5, h4, hf⟩ := oB_some hf
    refine g_callSi hc [.int l2] [] (c_X7_isColumn  h4) (lw_S q1230 q1231 q67 q1232) rfl hd_X7_isColumn rfl rfl (Nat.le_of_ble_eq_true rfl) gZ dX7_kindly_9 ?_
    refine g_if_eq (tgt := 22) hc dX7_kindly_12 (by decide) (fun h6 => ?_) (fun h6 => ?_)
    · have hf := oT h6 hf
      refine g_iconst (v := (-1)) hc dX7_kindly_22 (by decide) ?_
      have hz := Option.some.inj hf; subst hz
      exact g_iret hc (hR _ hK) dX7_kindly_23
    · have hf := oF h6 hf
      refine g_iload_n hc dX7_kindly_15 rfl 3 rfl ?_
      obtain ⟨r8, h7, hf⟩ := oB_some hf
      refine g_callSi hc [.int l3] [] (c_X7_isRag  h7) (lw_S q1194 q1195 q67 q1196) rfl hd_X7_isRag rfl rfl (Nat.le_of_ble_eq_true rfl) gZ dX7_kindly_16 ?_
      refine g_if_ne (tgt := 24) hc dX7_kindly_19 (by decide) (fun h9 => ?_) (fun h9 => ?_)
      · have hf := oF h9 hf
        refine g_iconst (v := 0) hc dX7_kindly_24 (by decide) ?_
        refine g_istore (lv' := [(4, .int 0), (0, .ref (ad 0)), (1, .int l1), (2, .int l2), (3, .int l3)]) hc dX7_kindly_25 (by decide) rfl ?_
        refine g_aload_n hc dX7_kindly_27 rfl 1 rfl ?_
        refine g_iconst (v := 0) hc dX7_kindly_28 (by decide) ?_
        refine g_sipush (v := 164) hc dX7_kindly_29 (by decide) ?_
        obtain ⟨r11, h10, hf⟩ := oB_some hf
        refine g_callVv hc [.int 0, .int 164] [] (c_X7_copies  h10) (MW_at (k := 0) (by decide)) rfl (lw_V q1263 q1265 qs55 q67 q1266) rfl hd_X7_copies rfl rfl (Nat.le_of_ble_eq_true rfl) gZ dX7_kindly_32 ?_
        refine g_iconst (v := 0) hc dX7_kindly_35 (by decide) ?_
        refine g_istore (lv' := [(5, .int 0), (4, .int 0), (0, .ref (ad 0)), (1, .int l1), (2, .int l2), (3, .int l3)]) hc dX7_kindly_36 (by decide) rfl ?_
        exact g_lv [2, 3, 4, 5, 1, 0] rfl (w_X7_kindly_b38 hc r11 l1 l2 l3 0 0  (K := K) hf hK hR)
      · have hf := oT h9 hf
        refine g_iconst (v := (-1)) hc dX7_kindly_22 (by decide) ?_
        have hz := Option.some.inj hf; subst hz
        exact g_iret hc (hR _ hK) dX7_kindly_23
theorem c_X7_kindly {l : Launch} {D : va_G} {dA : Nat → ClassId} {ad : Nat → Nat} {tl : va_W}  {σ : (Nat → Nat → Int32)} {l1 : Int32} {l2 : Int32} {l3 : Int32}  {o : Int32 × (Nat → Nat → Int32)} (hf : f_X7_kindly σ l1 l2 l3 = some o) : gI l D dA (MW dA ad σ ++ tl) (MW dA ad o.2 ++ tl) [.ref (ad 0), .int l1, .int l2, .int l3] o.1 yX7_kindly (ws_ yX7_kindly cX7_kindly 6 (some .int)) ({ frames := 3, cells := 0, slots := 0, locals := 77 } : Room) :=
  g_startI (own := RX7) ⟨rfl, rfl⟩ (by decide) rfl (Nat.le_of_ble_eq_true rfl) (fun x e hc hR => by
    subst e
    exact w_X7_kindly hc σ l1 l2 l3  (K := fun o1 => o1 = o) hf rfl (by rintro _ rfl; exact hR))
theorem hd_X7_kindly : yX7_kindly.cls = RX7 ∧ yX7_kindly.cls ≠ "java/lang/invoke/MethodHandle" ∧ yX7_kindly.cls ≠ "java/lang/invoke/VarHandle" ∧ (parseMethodDescriptor yX7_kindly.desc).map (fun d => d.parameters.length) = some 3 := by decide +kernel
/-! HedgehogLotsModel.place(II)I -/
def f_X7_place_b126 (σ : (Nat → Nat → Int32)) (l1 : Int32) (l2 : Int32) (l3 : Int32) (l4 : Int32) (l5 : Int32) : Option ((Int32 × Int32 × Int32 × (Nat → Nat → Int32)) ⊕ (Int32 × (Nat → Nat → Int32))) :=
  some (.inl (l3, l4, (l5 + 1), σ))
theorem w_X7_place_b126 {x : gX} {ad : Nat → Nat} {tl : va_W}  (hc : gOk x RX7 cX7_place 7 4 102)  (σ : (Nat → Nat → Int32)) (l1 : Int32) (l2 : Int32) (l3 : Int32) (l4 : Int32) (l5 : Int32)  {K : (Int32 × Int32 × Int32 × (Nat → Nat → Int32)) ⊕ (Int32 × (Nat → Nat → Int32)) → Prop} {o : (Int32 × Int32 × Int32 × (Nat → Nat → Int32)) ⊕ (Int32 × (Nat → Nat → Int32))} (hf : f_X7_place_b126 σ l1 l2 l3 l4 l5 = some o) (hK : K o) (hI42 : ∀ v : Int32 × Int32 × Int32 × (Nat → Nat → Int32), K (.inl v) → gG x 7 0 0 (MW x.dA ad v.2.2.2 ++ tl) 42 [(0, .ref (ad 0)), (1, .int l1), (2, .int l2), (3, .int v.1), (4, .int v.2.1), (5, .int v.2.2.1)] []) (hR : ∀ o : Int32 × (Nat → Nat → Int32), K (.inr (o)) → gRi x 0 0 (MW x.dA ad o.2 ++ tl) o.1) : gG x 7 0 0 (MW x.dA ad σ ++ tl) 126 [(0, .ref (ad 0)), (1, .int l1), (2, .int l2), (3, .int l3), (4, .int l4), (5, .int l5)] [] := by
  unfold f_X7_place_b126 at hf
  refine g_iinc (v := l5 + 1) (lv' := [(5, .int (l5 + 1)), (0, .ref (ad 0)), (1, .int l1), (2, .int l2), (3, .int l3), (4, .int l4)]) hc dX7_place_126 (j := 5) rfl rfl (by decide) rfl ?_
  refine g_goto (tgt := 42) hc dX7_place_129 (by decide) ?_
  have hz := Option.some.inj hf; subst hz
  exact g_lv [1, 2, 3, 4, 5, 0] rfl (hI42 _ hK)
def f_X7_place_b125 (σ : (Nat → Nat → Int32)) (l1 : Int32) (l2 : Int32) (l4 : Int32) (l5 : Int32) (k1 : Int32) : Option ((Int32 × Int32 × Int32 × (Nat → Nat → Int32)) ⊕ (Int32 × (Nat → Nat → Int32))) :=
  f_X7_place_b126 σ l1 l2 k1 l4 l5
theorem w_X7_place_b125 {x : gX} {ad : Nat → Nat} {tl : va_W}  (hc : gOk x RX7 cX7_place 7 4 102)  (σ : (Nat → Nat → Int32)) (l1 : Int32) (l2 : Int32) (l4 : Int32) (l5 : Int32) (k1 : Int32)  {K : (Int32 × Int32 × Int32 × (Nat → Nat → Int32)) ⊕ (Int32 × (Nat → Nat → Int32)) → Prop} {o : (Int32 × Int32 × Int32 × (Nat → Nat → Int32)) ⊕ (Int32 × (Nat → Nat → Int32))} (hf : f_X7_place_b125 σ l1 l2 l4 l5 k1 = some o) (hK : K o) (hI42 : ∀ v : Int32 × Int32 × Int32 × (Nat → Nat → Int32), K (.inl v) → gG x 7 0 0 (MW x.dA ad v.2.2.2 ++ tl) 42 [(0, .ref (ad 0)), (1, .int l1), (2, .int l2), (3, .int v.1), (4, .int v.2.1), (5, .int v.2.2.1)] []) (hR : ∀ o : Int32 × (Nat → Nat → Int32), K (.inr (o)) → gRi x 0 0 (MW x.dA ad o.2 ++ tl) o.1) : gG x 7 0 0 (MW x.dA ad σ ++ tl) 125 [(0, .ref (ad 0)), (1, .int l1), (2, .int l2), (4, .int l4), (5, .int l5)] [.int k1] := by
  unfold f_X7_place_b125 at hf
  refine g_istore_n (lv' := [(3, .int k1), (0, .ref (ad 0)), (1, .int l1), (2, .int l2), (4, .int l4), (5, .int l5)]) hc dX7_place_125 rfl (by decide) rfl ?_
  exact g_lv [1, 2, 3, 0, 4, 5] rfl (w_X7_place_b126 hc σ l1 l2 k1 l4 l5  (K := K) hf hK hI42 hR)
def f_X7_place_b111 (σ : (Nat → Nat → Int32)) (l1 : Int32) (l2 : Int32) (l3 : Int32) (l5 : Int32) (l6 : Int32) (k1 : Int32) : Option ((Int32 × Int32 × Int32 × (Nat → Nat → Int32)) ⊕ (Int32 × (Nat → Nat → Int32))) :=
  if l6 ≤ l3 then (f_X7_place_b125 σ l1 l2 k1 l5 l3) else (f_X7_place_b125 σ l1 l2 k1 l5 l6)
theorem w_X7_place_b111 {x : gX} {ad : Nat → Nat} {tl : va_W}  (hc : gOk x RX7 cX7_place 7 4 102)  (σ : (Nat → Nat → Int32)) (l1 : Int32) (l2 : Int32) (l3 : Int32) (l5 : Int32) (l6 : Int32) (k1 : Int32)  {K : (Int32 × Int32 × Int32 × (Nat → Nat → Int32)) ⊕ (Int32 × (Nat → Nat → Int32)) → Prop} {o : (Int32 × Int32 × Int32 × (Nat → Nat → Int32)) ⊕ (Int32 × (Nat → Nat → Int32))} (hf : f_X7_place_b111 σ l1 l2 l3 l5 l6 k1 = some o) (hK : K o) (hI42 : ∀ v : Int32 × Int32 × Int32 × (Nat → Nat → Int32), K (.inl v) → gG x 7 0 0 (MW x.dA ad v.2.2.2 ++ tl) 42 [(0, .ref (ad 0)), (1, .int l1), (2, .int l2), (3, .int v.1), (4, .int v.2.1), (5, .int v.2.2.1)] []) (hR : ∀ o : Int32 × (Nat → Nat → Int32), K (.inr (o)) → gRi x 0 0 (MW x.dA ad o.2 ++ tl) o.1) : gG x 7 0 0 (MW x.dA ad σ ++ tl) 111 [(0, .ref (ad 0)), (1, .int l1), (2, .int l2), (3, .int l3), (5, .int l5), (6, .int l6)] [.int k1] := by
  unfold f_X7_place_b111 at hf
  refine g_istore (lv' := [(4, .int k1), (0, .ref (ad 0)), (1, .int l1), (2, .int l2), (3, .int l3), (5, .int l5), (6, .int l6)]) hc dX7_place_111 (by decide) rfl ?_
  refine g_iload hc dX7_place_113 6 rfl ?_
  refine g_iload_n hc dX7_place_115 rfl 4 rfl ?_
  refine g_icmp_le (tgt := 124) hc dX7_place_116 (by decide) (fun h1 => ?_) (fun h1 => ?_)
  · have hf := oT h1 hf
    refine g_iload_n hc dX7_place_124 rfl 4 rfl ?_
    exact g_lv [1, 2, 3, 0, 5] rfl (w_X7_place_b125 hc σ l1 l2 k1 l5 l3  (K := K) hf hK hI42 hR)
  · have hf := oF h1 hf
    refine g_iload hc dX7_place_119 6 rfl ?_
    refine g_goto (tgt := 125) hc dX7_place_121 (by decide) ?_
    exact g_lv [1, 2, 3, 0, 5] rfl (w_X7_place_b125 hc σ l1 l2 k1 l5 l6  (K := K) hf hK hI42 hR)
def f_X7_place_L42 (σ : (Nat → Nat → Int32)) (l1 : Int32) (l2 : Int32) (l3 : Int32) (l4 : Int32) (l5 : Int32) : Option ((Int32 × Int32 × Int32 × (Nat → Nat → Int32)) ⊕ (Int32 × (Nat → Nat → Int32))) :=
  if 98 ≤ l5 then (oI (if l2 = 0 then (some (l4, σ)) else (some (l3, σ)))) else (oB (f_X7_isCell l5) fun r5 => if r5 = 0 then (f_X7_place_b126 σ l1 l2 l3 l4 l5) else (oB (f_X7_isFreeOn σ 0 l5) fun r8 => if r8 = 0 then (f_X7_place_b126 σ l1 l2 l3 l4 l5) else (oB (f_X7_copies σ 0 164) fun r11 => oB (f_X7_drivesOn r11 164 l5 l1) fun r13 => oB (f_X7_winsOn r13 164 l1) fun r15 => oB (f_X7_bitsOf r15.1) fun r17 => if r17 ≤ l3 then (f_X7_place_b111 r15.2 l1 l2 l3 l5 r17 l4) else (f_X7_place_b111 r15.2 l1 l2 l3 l5 r17 l5))))
theorem w_X7_place_L42 {x : gX} {ad : Nat → Nat} {tl : va_W}  (hc : gOk x RX7 cX7_place 7 4 102)  (σ : (Nat → Nat → Int32)) (l1 : Int32) (l2 : Int32) (l3 : Int32) (l4 : Int32) (l5 : Int32)  {K : (Int32 × Int32 × Int32 × (Nat → Nat → Int32)) ⊕ (Int32 × (Nat → Nat → Int32)) → Prop} {o : (Int32 × Int32 × Int32 × (Nat → Nat → Int32)) ⊕ (Int32 × (Nat → Nat → Int32))} (hf : f_X7_place_L42 σ l1 l2 l3 l4 l5 = some o) (hK : K o) (hI42 : ∀ v : Int32 × Int32 × Int32 × (Nat → Nat → Int32), K (.inl v) → gG x 7 0 0 (MW x.dA ad v.2.2.2 ++ tl) 42 [(0, .ref (ad 0)), (1, .int l1), (2, .int l2), (3, .int v.1), (4, .int v.2.1), (5, .int v.2.2.1)] []) (hR : ∀ o : Int32 × (Nat → Nat → Int32), K (.inr (o)) → gRi x 0 0 (MW x.dA ad o.2 ++ tl) o.1) : gG x 7 0 0 (MW x.dA ad σ ++ tl) 42 [(0, .ref (ad 0)), (1, .int l1), (2, .int l2), (3, .int l3), (4, .int l4), (5, .int l5)] [] := by
  unfold f_X7_place_L42 at hf
  refine g_iload hc dX7_place_42 5 rfl ?_
  refine g_bipush (v := 98) hc dX7_place_44 (by decide) ?_
  refine g_icmp_ge (tgt := 132) hc dX7_place_46 (by decide) (fun h1 => ?_) (fun h1 => ?_)
  · have hf := oT h1 hf
    obtain ⟨o3, hgo3, eo3⟩ := oI_some hf
    clear hf; subst eo3; have hf := hgo3; clear hgo3
    refine g_iload_n hc dX7_place_132 rfl 2 rfl ?_
    refine g_if_ne (tgt := 141) hc dX7_place_133 (by decide) (fun h2 => ?_) (fun h2 => ?_)
    · have hf := oF h2 hf
      refine g_iload_n hc dX7_place_141 rfl 3 rfl ?_
      have hz := Option.some.inj hf; subst hz
      exact g_iret hc (hR _ hK) dX7_place_142
    · have hf := oT h2 hf
      refine g_iload hc dX7_place_136 4 rfl ?_
      refine g_goto (tgt := 142) hc dX7_place_138 (by decide) ?_
      have hz := Option.some.inj hf; subst hz
      exact g_iret hc (hR _ hK) dX7_place_142
  · have hf := oF h1 hf
    refine g_iload hc dX7_place_49 5 rfl ?_
    obtain ⟨r5, h4, hf⟩ := oB_some hf
    refine g_callSi hc [.int l5] [] (c_X7_isCell  h4) (lw_S q1179 q1180 q67 q1181) rfl hd_X7_isCell rfl rfl (Nat.le_of_ble_eq_true rfl) gZ dX7_place_51 ?_
    refine g_if_eq (tgt := 126) hc dX7_place_54 (by decide) (fun h6 => ?_) (fun h6 => ?_)
    · have hf := oT h6 hf
      exact g_lv [0, 1, 2, 3, 4, 5] rfl (w_X7_place_b126 hc σ l1 l2 l3 l4 l5  (K := K) hf hK hI42 hR)
    · have hf := oF h6 hf
      refine g_aload_n hc dX7_place_57 rfl 0 rfl ?_
      refine g_iconst (v := 0) hc dX7_place_58 (by decide) ?_
      refine g_iload hc dX7_place_59 5 rfl ?_
      obtain ⟨r8, h7, hf⟩ := oB_some hf
      refine g_callVi hc [.int 0, .int l5] [] (c_X7_isFreeOn  h7) (MW_at (k := 0) (by decide)) rfl (lw_V q1182 q1184 qs50 q67 q1185) rfl hd_X7_isFreeOn rfl rfl (Nat.le_of_ble_eq_true rfl) gZ dX7_place_61 ?_
      refine g_if_eq (tgt := 126) hc dX7_place_64 (by decide) (fun h9 => ?_) (fun h9 => ?_)
      · have hf := oT h9 hf
        exact g_lv [0, 1, 2, 3, 4, 5] rfl (w_X7_place_b126 hc σ l1 l2 l3 l4 l5  (K := K) hf hK hI42 hR)
      · have hf := oF h9 hf
        refine g_aload_n hc dX7_place_67 rfl 0 rfl ?_
        refine g_iconst (v := 0) hc dX7_place_68 (by decide) ?_
        refine g_sipush (v := 164) hc dX7_place_69 (by decide) ?_
        obtain ⟨r11, h10, hf⟩ := oB_some hf
        refine g_callVv hc [.int 0, .int 164] [] (c_X7_copies  h10) (MW_at (k := 0) (by decide)) rfl (lw_V q1263 q1265 qs55 q67 q1266) rfl hd_X7_copies rfl rfl (Nat.le_of_ble_eq_true rfl) gZ dX7_place_72 ?_
        refine g_aload_n hc dX7_place_75 rfl 0 rfl ?_
        refine g_sipush (v := 164) hc dX7_place_76 (by decide) ?_
        refine g_iload hc dX7_place_79 5 rfl ?_
        refine g_iload_n hc dX7_place_81 rfl 1 rfl ?_
        obtain ⟨r13, h12, hf⟩ := oB_some hf
        refine g_callVv hc [.int 164, .int l5, .int l1] [] (c_X7_drivesOn  h12) (MW_at (k := 0) (by decide)) rfl (lw_V q1210 q1212 qs53 q67 q1213) rfl hd_X7_drivesOn rfl rfl (Nat.le_of_ble_eq_true rfl) gZ dX7_place_82 ?_
        refine g_aload_n hc dX7_place_85 rfl 0 rfl ?_
        refine g_sipush (v := 164) hc dX7_place_86 (by decide) ?_
        refine g_iload_n hc dX7_place_89 rfl 1 rfl ?_
        obtain ⟨r15, h14, hf⟩ := oB_some hf
        refine g_callVi hc [.int 164, .int l1] [] (c_X7_winsOn  h14) (MW_at (k := 0) (by decide)) rfl (lw_V q1137 q1139 qs45 q67 q1140) rfl hd_X7_winsOn rfl rfl (Nat.le_of_ble_eq_true rfl) gZ dX7_place_90 ?_
        obtain ⟨r17, h16, hf⟩ := oB_some hf
        refine g_callSi hc [.int r15.1] [] (c_X7_bitsOf  h16) (lw_S q1271 q1272 q67 q1273) rfl hd_X7_bitsOf rfl rfl (Nat.le_of_ble_eq_true rfl) gZ dX7_place_93 ?_
        refine g_istore (lv' := [(6, .int r17), (0, .ref (ad 0)), (1, .int l1), (2, .int l2), (3, .int l3), (4, .int l4), (5, .int l5)]) hc dX7_place_96 (by decide) rfl ?_
        refine g_iload hc dX7_place_98 0 rfl ?_
        refine g_iload_n hc dX7_place_100 rfl 4 rfl ?_
        refine g_icmp_le (tgt := 109) hc dX7_place_101 (by decide) (fun h18 => ?_) (fun h18 => ?_)
        · have hf := oT h18 hf
          refine g_iload hc dX7_place_109 5 rfl ?_
          exact g_lv [1, 2, 3, 4, 6, 0] rfl (w_X7_place_b111 hc r15.2 l1 l2 l3 l5 r17 l4  (K := K) hf hK hI42 hR)
        · have hf := oF h18 hf
          refine g_iload hc dX7_place_104 6 rfl ?_
          refine g_goto (tgt := 111) hc dX7_place_106 (by decide) ?_
          exact g_lv [1, 2, 3, 4, 6, 0] rfl (w_X7_place_b111 hc r15.2 l1 l2 l3 l5 r17 l5  (K := K) hf hK hI42 hR)
def f_X7_place_b42 (σ : (Nat → Nat → Int32)) (l1 : Int32) (l2 : Int32) (l3 : Int32) (l4 : Int32) (l5 : Int32) : Option (Int32 × (Nat → Nat → Int32)) :=
  oLoop gFU (fun v : Int32 × Int32 × Int32 × (Nat → Nat → Int32) => f_X7_place_L42 v.2.2.2 l1 l2 v.1 v.2.1 v.2.2.1) (l3, l4, l5, σ)
theorem w_X7_place_b42 {x : gX} {ad : Nat → Nat} {tl : va_W}  (hc : gOk x RX7 cX7_place 7 4 102)  (σ : (Nat → Nat → Int32)) (l1 : Int32) (l2 : Int32) (l3 : Int32) (l4 : Int32) (l5 : Int32)  {K : Int32 × (Nat → Nat → Int32) → Prop} {o : Int32 × (Nat → Nat → Int32)} (hf : f_X7_place_b42 σ l1 l2 l3 l4 l5 = some o) (hK : K o) (hR : ∀ o : Int32 × (Nat → Nat → Int32), K o → gRi x 0 0 (MW x.dA ad o.2 ++ tl) o.1) : gG x 7 0 0 (MW x.dA ad σ ++ tl) 42 [(0, .ref (ad 0)), (1, .int l1), (2, .int l2), (3, .int l3), (4, .int l4), (5, .int l5)] [] :=
  oLoop_ind (fun v : Int32 × Int32 × Int32 × (Nat → Nat → Int32) => gG x 7 0 0 (MW x.dA ad v.2.2.2 ++ tl) 42 [(0, .ref (ad 0)), (1, .int l1), (2, .int l2), (3, .int v.1), (4, .int v.2.1), (5, .int v.2.2.1)] []) K (fun v o1 hf1 hK1 => w_X7_place_L42 hc v.2.2.2 l1 l2 v.1 v.2.1 v.2.2.1  (K := Sum.elim (fun v : Int32 × Int32 × Int32 × (Nat → Nat → Int32) => gG x 7 0 0 (MW x.dA ad v.2.2.2 ++ tl) 42 [(0, .ref (ad 0)), (1, .int l1), (2, .int l2), (3, .int v.1), (4, .int v.2.1), (5, .int v.2.2.1)] []) K) hf1 hK1 (fun v hv => hv) hR) gFU _ o hf hK
def f_X7_place (σ : (Nat → Nat → Int32)) (l1 : Int32) (l2 : Int32) : Option (Int32 × (Nat → Nat → Int32)) :=
  oB (f_X7_isRag l1) fun r2 => if r2 = 0 then (some ((-1), σ)) else (oB (f_X7_in (Int32.toInt64 l2) 0 1) fun r5 => if r5 = 0 then (some ((-1), σ)) else (oC (inb 38 205) <| if (σ 1 (Int32.toNatClampNeg 38)) = 7 then (some ((-3), σ)) else (f_X7_place_b42 σ l1 l2 (-1) 0 0)))
theorem w_X7_place {x : gX} {ad : Nat → Nat} {tl : va_W}  (hc : gOk x RX7 cX7_place 7 4 102)  (σ : (Nat → Nat → Int32)) (l1 : Int32) (l2 : Int32)  {K : Int32 × (Nat → Nat → Int32) → Prop} {o : Int32 × (Nat → Nat → Int32)} (hf : f_X7_place σ l1 l2 = some o) (hK : K o) (hR : ∀ o : Int32 × (Nat → Nat → Int32), K o → gRi x 0 0 (MW x.dA ad o.2 ++ tl) o.1) : gG x 7 0 0 (MW x.dA ad σ ++ tl) 0 [(0, .ref (ad 0)), (1, .int l1), (2, .int l2)] [] := by
  unfold f_X7_place at hf
  refine g_iload_n hc dX7_place_0 rfl 1 rfl ?_
  obtain ⟨r2, h1, hf⟩ := oB_some hf
  refine g_callSi hc [.int l1] [] (c_X7_isRag  h1) (lw_S q1194 q1195 q67 q1196) rfl hd_X7_isRag rfl rfl (Nat.le_of_ble_eq_true rfl) gZ dX7_place_1 ?_
  refine g_if_eq (tgt := 17) hc dX7_place_4 (by decide) (fun h3 => ?_) (fun h3 => ?_)
  · have hf := oT h3 hf
    refine g_iconst (v := (-1)) hc dX7_place_17 (by decide) ?_
    have hz := Option.some.inj hf; subst hz
    exact g_iret hc (hR _ hK) dX7_place_18
  · have hf := oF h3 hf
    refine g_iload_n hc dX7_place_7 rfl 2 rfl ?_
    refine g_i2l hc dX7_place_8 ?_
    refine g_lconst (v := 0) hc dX7_place_9 (by decide) ?_
    refine g_lconst (v := 1) hc dX7_place_10 (by decide) ?_
    obtain ⟨r5, h4, hf⟩ := oB_some hf
    refine g_callSi hc [.long (Int32.toInt64 l2), .long 0, .long 1] [] (c_X7_in  h4) (lw_S q1055 q1056 q67 q1057) rfl hd_X7_in rfl rfl (Nat.le_of_ble_eq_true rfl) gZ dX7_place_11 ?_
    refine g_if_ne (tgt := 19) hc dX7_place_14 (by decide) (fun h6 => ?_) (fun h6 => ?_)
    · have hf := oF h6 hf
      refine g_aload_n hc dX7_place_19 rfl 0 rfl ?_
      refine g_get (v := .ref (ad 1)) hc in_X7 (MW_at (k := 0) (by decide)) rfl 0 (by decide) q961 rfl dX7_place_20 ?_
      refine g_bipush (v := 38) hc dX7_place_23 (by decide) ?_
      obtain ⟨h7, hf⟩ := oC_some hf
      refine g_iald (n := 205) (f := σ 1) hc (MW_at (k := 1) (by decide)) h7 dX7_place_25 ?_
      refine g_bipush (v := 7) hc dX7_place_26 (by decide) ?_
      refine g_icmp_ne (tgt := 34) hc dX7_place_28 (by decide) (fun h8 => ?_) (fun h8 => ?_)
      · have hf := oF h8 hf
        refine g_iconst (v := (-1)) hc dX7_place_34 (by decide) ?_
        refine g_istore_n (lv' := [(3, .int (-1)), (0, .ref (ad 0)), (1, .int l1), (2, .int l2)]) hc dX7_place_35 rfl (by decide) rfl ?_
        refine g_iconst (v := 0) hc dX7_place_36 (by decide) ?_
        refine g_istore (lv' := [(4, .int 0), (3, .int (-1)), (0, .ref (ad 0)), (1, .int l1), (2, .int l2)]) hc dX7_place_37 (by decide) rfl ?_
        refine g_iconst (v := 0) hc dX7_place_39 (by decide) ?_
        refine g_istore (lv' := [(5, .int 0), (4, .int 0), (3, .int (-1)), (0, .ref (ad 0)), (1, .int l1), (2, .int l2)]) hc dX7_place_40 (by decide) rfl ?_
        exact g_lv [3, 4, 5, 2, 1, 0] rfl (w_X7_place_b42 hc σ l1 l2 (-1) 0 0  (K := K) hf hK hR)
      · have hf := oT h8 hf
        refine g_bipush (v := (-3)) hc dX7_place_31 (by decide) ?_
        have hz := Option.some.inj hf; subst hz
        exact g_iret hc (hR _ hK) dX7_place_33
    · have hf := oT h6 hf
      refine g_iconst (v := (-1)) hc dX7_place_17 (by decide) ?_
      have hz := Option.some.inj hf; subst hz
      exact g_iret hc (hR _ hK) dX7_place_18
theorem c_X7_place {l : Launch} {D : va_G} {dA : Nat → ClassId} {ad : Nat → Nat} {tl : va_W}  {σ : (Nat → Nat → Int32)} {l1 : Int32} {l2 : Int32}  {o : Int32 × (Nat → Nat → Int32)} (hf : f_X7_place σ l1 l2 = some o) : gI l D dA (MW dA ad σ ++ tl) (MW dA ad o.2 ++ tl) [.ref (ad 0), .int l1, .int l2] o.1 yX7_place (ws_ yX7_place cX7_place 7 (some .int)) ({ frames := 4, cells := 0, slots := 0, locals := 102 } : Room) :=
  g_startI (own := RX7) ⟨rfl, rfl⟩ (by decide) rfl (Nat.le_of_ble_eq_true rfl) (fun x e hc hR => by
    subst e
    exact w_X7_place hc σ l1 l2  (K := fun o1 => o1 = o) hf rfl (by rintro _ rfl; exact hR))
theorem hd_X7_place : yX7_place.cls = RX7 ∧ yX7_place.cls ≠ "java/lang/invoke/MethodHandle" ∧ yX7_place.cls ≠ "java/lang/invoke/VarHandle" ∧ (parseMethodDescriptor yX7_place.desc).map (fun d => d.parameters.length) = some 2 := by decide +kernel
/-! HedgehogLotsModel.move(II)I -/
def f_X7_move_b133 (σ : (Nat → Nat → Int32)) (l1 : Int32) (l2 : Int32) (l3 : Int32) (l4 : Int32) (l5 : Int32) : Option ((Int32 × Int32 × Int32 × (Nat → Nat → Int32)) ⊕ (Int32 × (Nat → Nat → Int32))) :=
  some (.inl (l3, l4, (l5 + 1), σ))
theorem w_X7_move_b133 {x : gX} {ad : Nat → Nat} {tl : va_W}  (hc : gOk x RX7 cX7_move 7 4 102)  (σ : (Nat → Nat → Int32)) (l1 : Int32) (l2 : Int32) (l3 : Int32) (l4 : Int32) (l5 : Int32)  {K : (Int32 × Int32 × Int32 × (Nat → Nat → Int32)) ⊕ (Int32 × (Nat → Nat → Int32)) → Prop} {o : (Int32 × Int32 × Int32 × (Nat → Nat → Int32)) ⊕ (Int32 × (Nat → Nat → Int32))} (hf : f_X7_move_b133 σ l1 l2 l3 l4 l5 = some o) (hK : K o) (hI36 : ∀ v : Int32 × Int32 × Int32 × (Nat → Nat → Int32), K (.inl v) → gG x 7 0 0 (MW x.dA ad v.2.2.2 ++ tl) 36 [(0, .ref (ad 0)), (1, .int l1), (2, .int l2), (3, .int v.1), (4, .int v.2.1), (5, .int v.2.2.1)] []) (hR : ∀ o : Int32 × (Nat → Nat → Int32), K (.inr (o)) → gRi x 0 0 (MW x.dA ad o.2 ++ tl) o.1) : gG x 7 0 0 (MW x.dA ad σ ++ tl) 133 [(0, .ref (ad 0)), (1, .int l1), (2, .int l2), (3, .int l3), (4, .int l4), (5, .int l5)] [] := by
  unfold f_X7_move_b133 at hf
  refine g_iinc (v := l5 + 1) (lv' := [(5, .int (l5 + 1)), (0, .ref (ad 0)), (1, .int l1), (2, .int l2), (3, .int l3), (4, .int l4)]) hc dX7_move_133 (j := 5) rfl rfl (by decide) rfl ?_
  refine g_goto (tgt := 36) hc dX7_move_136 (by decide) ?_
  have hz := Option.some.inj hf; subst hz
  exact g_lv [1, 2, 3, 4, 5, 0] rfl (hI36 _ hK)
def f_X7_move_b132 (σ : (Nat → Nat → Int32)) (l1 : Int32) (l2 : Int32) (l4 : Int32) (l5 : Int32) (k1 : Int32) : Option ((Int32 × Int32 × Int32 × (Nat → Nat → Int32)) ⊕ (Int32 × (Nat → Nat → Int32))) :=
  f_X7_move_b133 σ l1 l2 k1 l4 l5
theorem w_X7_move_b132 {x : gX} {ad : Nat → Nat} {tl : va_W}  (hc : gOk x RX7 cX7_move 7 4 102)  (σ : (Nat → Nat → Int32)) (l1 : Int32) (l2 : Int32) (l4 : Int32) (l5 : Int32) (k1 : Int32)  {K : (Int32 × Int32 × Int32 × (Nat → Nat → Int32)) ⊕ (Int32 × (Nat → Nat → Int32)) → Prop} {o : (Int32 × Int32 × Int32 × (Nat → Nat → Int32)) ⊕ (Int32 × (Nat → Nat → Int32))} (hf : f_X7_move_b132 σ l1 l2 l4 l5 k1 = some o) (hK : K o) (hI36 : ∀ v : Int32 × Int32 × Int32 × (Nat → Nat → Int32), K (.inl v) → gG x 7 0 0 (MW x.dA ad v.2.2.2 ++ tl) 36 [(0, .ref (ad 0)), (1, .int l1), (2, .int l2), (3, .int v.1), (4, .int v.2.1), (5, .int v.2.2.1)] []) (hR : ∀ o : Int32 × (Nat → Nat → Int32), K (.inr (o)) → gRi x 0 0 (MW x.dA ad o.2 ++ tl) o.1) : gG x 7 0 0 (MW x.dA ad σ ++ tl) 132 [(0, .ref (ad 0)), (1, .int l1), (2, .int l2), (4, .int l4), (5, .int l5)] [.int k1] := by
  unfold f_X7_move_b132 at hf
  refine g_istore_n (lv' := [(3, .int k1), (0, .ref (ad 0)), (1, .int l1), (2, .int l2), (4, .int l4), (5, .int l5)]) hc dX7_move_132 rfl (by decide) rfl ?_
  exact g_lv [1, 2, 3, 0, 4, 5] rfl (w_X7_move_b133 hc σ l1 l2 k1 l4 l5  (K := K) hf hK hI36 hR)
def f_X7_move_b118 (σ : (Nat → Nat → Int32)) (l1 : Int32) (l2 : Int32) (l3 : Int32) (l5 : Int32) (l6 : Int32) (k1 : Int32) : Option ((Int32 × Int32 × Int32 × (Nat → Nat → Int32)) ⊕ (Int32 × (Nat → Nat → Int32))) :=
  if l6 ≤ l3 then (f_X7_move_b132 σ l1 l2 k1 l5 l3) else (f_X7_move_b132 σ l1 l2 k1 l5 l6)
theorem w_X7_move_b118 {x : gX} {ad : Nat → Nat} {tl : va_W}  (hc : gOk x RX7 cX7_move 7 4 102)  (σ : (Nat → Nat → Int32)) (l1 : Int32) (l2 : Int32) (l3 : Int32) (l5 : Int32) (l6 : Int32) (k1 : Int32)  {K : (Int32 × Int32 × Int32 × (Nat → Nat → Int32)) ⊕ (Int32 × (Nat → Nat → Int32)) → Prop} {o : (Int32 × Int32 × Int32 × (Nat → Nat → Int32)) ⊕ (Int32 × (Nat → Nat → Int32))} (hf : f_X7_move_b118 σ l1 l2 l3 l5 l6 k1 = some o) (hK : K o) (hI36 : ∀ v : Int32 × Int32 × Int32 × (Nat → Nat → Int32), K (.inl v) → gG x 7 0 0 (MW x.dA ad v.2.2.2 ++ tl) 36 [(0, .ref (ad 0)), (1, .int l1), (2, .int l2), (3, .int v.1), (4, .int v.2.1), (5, .int v.2.2.1)] []) (hR : ∀ o : Int32 × (Nat → Nat → Int32), K (.inr (o)) → gRi x 0 0 (MW x.dA ad o.2 ++ tl) o.1) : gG x 7 0 0 (MW x.dA ad σ ++ tl) 118 [(0, .ref (ad 0)), (1, .int l1), (2, .int l2), (3, .int l3), (5, .int l5), (6, .int l6)] [.int k1] := by
  unfold f_X7_move_b118 at hf
  refine g_istore (lv' := [(4, .int k1), (0, .ref (ad 0)), (1, .int l1), (2, .int l2), (3, .int l3), (5, .int l5), (6, .int l6)]) hc dX7_move_118 (by decide) rfl ?_
  refine g_iload hc dX7_move_120 6 rfl ?_
  refine g_iload_n hc dX7_move_122 rfl 4 rfl ?_
  refine g_icmp_le (tgt := 131) hc dX7_move_123 (by decide) (fun h1 => ?_) (fun h1 => ?_)
  · have hf := oT h1 hf
    refine g_iload_n hc dX7_move_131 rfl 4 rfl ?_
    exact g_lv [1, 2, 3, 0, 5] rfl (w_X7_move_b132 hc σ l1 l2 k1 l5 l3  (K := K) hf hK hI36 hR)
  · have hf := oF h1 hf
    refine g_iload hc dX7_move_126 6 rfl ?_
    refine g_goto (tgt := 132) hc dX7_move_128 (by decide) ?_
    exact g_lv [1, 2, 3, 0, 5] rfl (w_X7_move_b132 hc σ l1 l2 k1 l5 l6  (K := K) hf hK hI36 hR)
def f_X7_move_b72 (σ : (Nat → Nat → Int32)) (l1 : Int32) (l2 : Int32) (l3 : Int32) (l4 : Int32) (l5 : Int32) : Option ((Int32 × Int32 × Int32 × (Nat → Nat → Int32)) ⊕ (Int32 × (Nat → Nat → Int32))) :=
  oC (inb (164 + l1) 205) <| oL (upd2 σ 1 (164 + l1).toNatClampNeg l5) fun s1 => oC (inb (7 + l1) 205) <| oB (f_X7_winsOn s1 164 (s1 1 (7 + l1).toNatClampNeg)) fun r6 => oB (f_X7_bitsOf r6.1) fun r8 => if r8 ≤ l3 then (f_X7_move_b118 r6.2 l1 l2 l3 l5 r8 l4) else (f_X7_move_b118 r6.2 l1 l2 l3 l5 r8 l5)
theorem w_X7_move_b72 {x : gX} {ad : Nat → Nat} {tl : va_W}  (hc : gOk x RX7 cX7_move 7 4 102)  (σ : (Nat → Nat → Int32)) (l1 : Int32) (l2 : Int32) (l3 : Int32) (l4 : Int32) (l5 : Int32)  {K : (Int32 × Int32 × Int32 × (Nat → Nat → Int32)) ⊕ (Int32 × (Nat → Nat → Int32)) → Prop} {o : (Int32 × Int32 × Int32 × (Nat → Nat → Int32)) ⊕ (Int32 × (Nat → Nat → Int32))} (hf : f_X7_move_b72 σ l1 l2 l3 l4 l5 = some o) (hK : K o) (hI36 : ∀ v : Int32 × Int32 × Int32 × (Nat → Nat → Int32), K (.inl v) → gG x 7 0 0 (MW x.dA ad v.2.2.2 ++ tl) 36 [(0, .ref (ad 0)), (1, .int l1), (2, .int l2), (3, .int v.1), (4, .int v.2.1), (5, .int v.2.2.1)] []) (hR : ∀ o : Int32 × (Nat → Nat → Int32), K (.inr (o)) → gRi x 0 0 (MW x.dA ad o.2 ++ tl) o.1) : gG x 7 0 0 (MW x.dA ad σ ++ tl) 72 [(0, .ref (ad 0)), (1, .int l1), (2, .int l2), (3, .int l3), (4, .int l4), (5, .int l5)] [] := by
  unfold f_X7_move_b72 at hf
  refine g_aload_n hc dX7_move_72 rfl 0 rfl ?_
  refine g_get (v := .ref (ad 1)) hc in_X7 (MW_at (k := 0) (by decide)) rfl 0 (by decide) q961 rfl dX7_move_73 ?_
  refine g_sipush (v := 164) hc dX7_move_76 (by decide) ?_
  refine g_iload_n hc dX7_move_79 rfl 1 rfl ?_
  refine g_iadd hc dX7_move_80 ?_
  refine g_iload hc dX7_move_81 5 rfl ?_
  obtain ⟨h3, hf⟩ := oC_some hf
  obtain ⟨s1, e2, hf⟩ := oL_some hf
  refine g_iast (n := 205) (f := σ 1) hc (MW_at (k := 1) (by decide)) h3 (MW_set (μ1 := s1) (k := 1) (by decide) e2 rfl) dX7_move_83 ?_
  refine g_aload_n hc dX7_move_84 rfl 0 rfl ?_
  refine g_sipush (v := 164) hc dX7_move_85 (by decide) ?_
  refine g_aload_n hc dX7_move_88 rfl 0 rfl ?_
  refine g_get (v := .ref (ad 1)) hc in_X7 (MW_at (k := 0) (by decide)) rfl 0 (by decide) q961 rfl dX7_move_89 ?_
  refine g_bipush (v := 7) hc dX7_move_92 (by decide) ?_
  refine g_iload_n hc dX7_move_94 rfl 1 rfl ?_
  refine g_iadd hc dX7_move_95 ?_
  obtain ⟨h4, hf⟩ := oC_some hf
  refine g_iald (n := 205) (f := s1 1) hc (MW_at (k := 1) (by decide)) h4 dX7_move_96 ?_
  obtain ⟨r6, h5, hf⟩ := oB_some hf
  refine g_callVi hc [.int 164, .int (s1 1 (7 + l1).toNatClampNeg)] [] (c_X7_winsOn  h5) (MW_at (k := 0) (by decide)) rfl (lw_V q1137 q1139 qs45 q67 q1140) rfl hd_X7_winsOn rfl rfl (Nat.le_of_ble_eq_true rfl) gZ dX7_move_97 ?_
  obtain ⟨r8, h7, hf⟩ := oB_some hf
  refine g_callSi hc [.int r6.1] [] (c_X7_bitsOf  h7) (lw_S q1271 q1272 q67 q1273) rfl hd_X7_bitsOf rfl rfl (Nat.le_of_ble_eq_true rfl) gZ dX7_move_100 ?_
  refine g_istore (lv' := [(6, .int r8), (0, .ref (ad 0)), (1, .int l1), (2, .int l2), (3, .int l3), (4, .int l4), (5, .int l5)]) hc dX7_move_103 (by decide) rfl ?_
  refine g_iload hc dX7_move_105 0 rfl ?_
  refine g_iload_n hc dX7_move_107 rfl 4 rfl ?_
  refine g_icmp_le (tgt := 116) hc dX7_move_108 (by decide) (fun h9 => ?_) (fun h9 => ?_)
  · have hf := oT h9 hf
    refine g_iload hc dX7_move_116 5 rfl ?_
    exact g_lv [1, 2, 3, 4, 6, 0] rfl (w_X7_move_b118 hc r6.2 l1 l2 l3 l5 r8 l4  (K := K) hf hK hI36 hR)
  · have hf := oF h9 hf
    refine g_iload hc dX7_move_111 6 rfl ?_
    refine g_goto (tgt := 118) hc dX7_move_113 (by decide) ?_
    exact g_lv [1, 2, 3, 4, 6, 0] rfl (w_X7_move_b118 hc r6.2 l1 l2 l3 l5 r8 l5  (K := K) hf hK hI36 hR)
def f_X7_move_L36 (σ : (Nat → Nat → Int32)) (l1 : Int32) (l2 : Int32) (l3 : Int32) (l4 : Int32) (l5 : Int32) : Option ((Int32 × Int32 × Int32 × (Nat → Nat → Int32)) ⊕ (Int32 × (Nat → Nat → Int32))) :=
  if 98 ≤ l5 then (oI (if l2 = 0 then (some (l4, σ)) else (some (l3, σ)))) else (oB (f_X7_isCell l5) fun r5 => if r5 = 0 then (f_X7_move_b133 σ l1 l2 l3 l4 l5) else (oB (f_X7_isFreeOn σ 0 l5) fun r8 => if r8 = 0 then (oC (inb l1 205) <| if (σ 1 l1.toNatClampNeg) = l5 then (f_X7_move_b72 σ l1 l2 l3 l4 l5) else (f_X7_move_b133 σ l1 l2 l3 l4 l5)) else (f_X7_move_b72 σ l1 l2 l3 l4 l5)))
theorem w_X7_move_L36 {x : gX} {ad : Nat → Nat} {tl : va_W}  (hc : gOk x RX7 cX7_move 7 4 102)  (σ : (Nat → Nat → Int32)) (l1 : Int32) (l2 : Int32) (l3 : Int32) (l4 : Int32) (l5 : Int32)  {K : (Int32 × Int32 × Int32 × (Nat → Nat → Int32)) ⊕ (Int32 × (Nat → Nat → Int32)) → Prop} {o : (Int32 × Int32 × Int32 × (Nat → Nat → Int32)) ⊕ (Int32 × (Nat → Nat → Int32))} (hf : f_X7_move_L36 σ l1 l2 l3 l4 l5 = some o) (hK : K o) (hI36 : ∀ v : Int32 × Int32 × Int32 × (Nat → Nat → Int32), K (.inl v) → gG x 7 0 0 (MW x.dA ad v.2.2.2 ++ tl) 36 [(0, .ref (ad 0)), (1, .int l1), (2, .int l2), (3, .int v.1), (4, .int v.2.1), (5, .int v.2.2.1)] []) (hR : ∀ o : Int32 × (Nat → Nat → Int32), K (.inr (o)) → gRi x 0 0 (MW x.dA ad o.2 ++ tl) o.1) : gG x 7 0 0 (MW x.dA ad σ ++ tl) 36 [(0, .ref (ad 0)), (1, .int l1), (2, .int l2), (3, .int l3), (4, .int l4), (5, .int l5)] [] := by
  unfold f_X7_move_L36 at hf
  refine g_iload hc dX7_move_36 5 rfl ?_
  refine g_bipush (v := 98) hc dX7_move_38 (by decide) ?_
  refine g_icmp_ge (tgt := 139) hc dX7_move_40 (by decide) (fun h1 => ?_) (fun h1 => ?_)
  · have hf := oT h1 hf
    obtain ⟨o3, hgo3, eo3⟩ := oI_some hf
    clear hf; subst eo3; have hf := hgo3; clear hgo3
    refine g_iload_n hc dX7_move_139 rfl 2 rfl ?_
    refine g_if_ne (tgt := 148) hc dX7_move_140 (by decide) (fun h2 => ?_) (fun h2 => ?_)
    · have hf := oF h2 hf
      refine g_iload_n hc dX7_move_148 rfl 3 rfl ?_
      have hz := Option.some.inj hf; subst hz
      exact g_iret hc (hR _ hK) dX7_move_149
    · have hf := oT h2 hf
      refine g_iload hc dX7_move_143 4 rfl ?_
      refine g_goto (tgt := 149) hc dX7_move_145 (by decide) ?_
      have hz := Option.some.inj hf; subst hz
      exact g_iret hc (hR _ hK) dX7_move_149
  · have hf := oF h1 hf
    refine g_iload hc dX7_move_43 5 rfl ?_
    obtain ⟨r5, h4, hf⟩ := oB_some hf
    refine g_callSi hc [.int l5] [] (c_X7_isCell  h4) (lw_S q1179 q1180 q67 q1181) rfl hd_X7_isCell rfl rfl (Nat.le_of_ble_eq_true rfl) gZ dX7_move_45 ?_
    refine g_if_eq (tgt := 133) hc dX7_move_48 (by decide) (fun h6 => ?_) (fun h6 => ?_)
    · have hf := oT h6 hf
      exact g_lv [0, 1, 2, 3, 4, 5] rfl (w_X7_move_b133 hc σ l1 l2 l3 l4 l5  (K := K) hf hK hI36 hR)
    · have hf := oF h6 hf
      refine g_aload_n hc dX7_move_51 rfl 0 rfl ?_
      refine g_iconst (v := 0) hc dX7_move_52 (by decide) ?_
      refine g_iload hc dX7_move_53 5 rfl ?_
      obtain ⟨r8, h7, hf⟩ := oB_some hf
      refine g_callVi hc [.int 0, .int l5] [] (c_X7_isFreeOn  h7) (MW_at (k := 0) (by decide)) rfl (lw_V q1182 q1184 qs50 q67 q1185) rfl hd_X7_isFreeOn rfl rfl (Nat.le_of_ble_eq_true rfl) gZ dX7_move_55 ?_
      refine g_if_ne (tgt := 72) hc dX7_move_58 (by decide) (fun h9 => ?_) (fun h9 => ?_)
      · have hf := oF h9 hf
        exact g_lv [0, 1, 2, 3, 4, 5] rfl (w_X7_move_b72 hc σ l1 l2 l3 l4 l5  (K := K) hf hK hI36 hR)
      · have hf := oT h9 hf
        refine g_aload_n hc dX7_move_61 rfl 0 rfl ?_
        refine g_get (v := .ref (ad 1)) hc in_X7 (MW_at (k := 0) (by decide)) rfl 0 (by decide) q961 rfl dX7_move_62 ?_
        refine g_iload_n hc dX7_move_65 rfl 1 rfl ?_
        obtain ⟨h10, hf⟩ := oC_some hf
        refine g_iald (n := 205) (f := σ 1) hc (MW_at (k := 1) (by decide)) h10 dX7_move_66 ?_
        refine g_iload hc dX7_move_67 5 rfl ?_
        refine g_icmp_ne (tgt := 133) hc dX7_move_69 (by decide) (fun h11 => ?_) (fun h11 => ?_)
        · have hf := oF h11 hf
          exact g_lv [0, 1, 2, 3, 4, 5] rfl (w_X7_move_b133 hc σ l1 l2 l3 l4 l5  (K := K) hf hK hI36 hR)
        · have hf := oT h11 hf
          exact g_lv [0, 1, 2, 3, 4, 5] rfl (w_X7_move_b72 hc σ l1 l2 l3 l4 l5  (K := K) hf hK hI36 hR)
def f_X7_move_b36 (σ : (Nat → Nat → Int32)) (l1 : Int32) (l2 : Int32) (l3 : Int32) (l4 : Int32) (l5 : Int32) : Option (Int32 × (Nat → Nat → Int32)) :=
  oLoop gFU (fun v : Int32 × Int32 × Int32 × (Nat → Nat → Int32) => f_X7_move_L36 v.2.2.2 l1 l2 v.1 v.2.1 v.2.2.1) (l3, l4, l5, σ)
theorem w_X7_move_b36 {x : gX} {ad : Nat → Nat} {tl : va_W}  (hc : gOk x RX7 cX7_move 7 4 102)  (σ : (Nat → Nat → Int32)) (l1 : Int32) (l2 : Int32) (l3 : Int32) (l4 : Int32) (l5 : Int32)  {K : Int32 × (Nat → Nat → Int32) → Prop} {o : Int32 × (Nat → Nat → Int32)} (hf : f_X7_move_b36 σ l1 l2 l3 l4 l5 = some o) (hK : K o) (hR : ∀ o : Int32 × (Nat → Nat → Int32), K o → gRi x 0 0 (MW x.dA ad o.2 ++ tl) o.1) : gG x 7 0 0 (MW x.dA ad σ ++ tl) 36 [(0, .ref (ad 0)), (1, .int l1), (2, .int l2), (3, .int l3), (4, .int l4), (5, .int l5)] [] :=
  oLoop_ind (fun v : Int32 × Int32 × Int32 × (Nat → Nat → Int32) => gG x 7 0 0 (MW x.dA ad v.2.2.2 ++ tl) 36 [(0, .ref (ad 0)), (1, .int l1), (2, .int l2), (3, .int v.1), (4, .int v.2.1), (5, .int v.2.2.1)] []) K (fun v o1 hf1 hK1 => w_X7_move_L36 hc v.2.2.2 l1 l2 v.1 v.2.1 v.2.2.1  (K := Sum.elim (fun v : Int32 × Int32 × Int32 × (Nat → Nat → Int32) => gG x 7 0 0 (MW x.dA ad v.2.2.2 ++ tl) 36 [(0, .ref (ad 0)), (1, .int l1), (2, .int l2), (3, .int v.1), (4, .int v.2.1), (5, .int v.2.2.1)] []) K) hf1 hK1 (fun v hv => hv) hR) gFU _ o hf hK
def f_X7_move (σ : (Nat → Nat → Int32)) (l1 : Int32) (l2 : Int32) : Option (Int32 × (Nat → Nat → Int32)) :=
  oB (f_X7_isPeg σ l1) fun r2 => if r2 = 0 then (some ((-1), σ)) else (oB (f_X7_in (Int32.toInt64 l2) 0 1) fun r5 => if r5 = 0 then (some ((-1), σ)) else (oB (f_X7_copies σ 0 164) fun r8 => f_X7_move_b36 r8 l1 l2 (-1) 0 0))
theorem w_X7_move {x : gX} {ad : Nat → Nat} {tl : va_W}  (hc : gOk x RX7 cX7_move 7 4 102)  (σ : (Nat → Nat → Int32)) (l1 : Int32) (l2 : Int32)  {K : Int32 × (Nat → Nat → Int32) → Prop} {o : Int32 × (Nat → Nat → Int32)} (hf : f_X7_move σ l1 l2 = some o) (hK : K o) (hR : ∀ o : Int32 × (Nat → Nat → Int32), K o → gRi x 0 0 (MW x.dA ad o.2 ++ tl) o.1) : gG x 7 0 0 (MW x.dA ad σ ++ tl) 0 [(0, .ref (ad 0)), (1, .int l1), (2, .int l2)] [] := by
  unfold f_X7_move at hf
  refine g_aload_n hc dX7_move_0 rfl 0 rfl ?_
  refine g_iload_n hc dX7_move_1 rfl 1 rfl ?_
  obtain ⟨r2, h1, hf⟩ := oB_some hf
  refine g_callVi hc [.int l1] [] (c_X7_isPeg  h1) (MW_at (k := 0) (by decide)) rfl (lw_V q1149 q1151 qs47 q67 q1152) rfl hd_X7_isPeg rfl rfl (Nat.le_of_ble_eq_true rfl) gZ dX7_move_2 ?_
  refine g_if_eq (tgt := 18) hc dX7_move_5 (by decide) (fun h3 => ?_) (fun h3 => ?_)
  · have hf := oT h3 hf
    refine g_iconst (v := (-1)) hc dX7_move_18 (by decide) ?_
    have hz := Option.some.inj hf; subst hz
    exact g_iret hc (hR _ hK) dX7_move_19
  · have hf := oF h3 hf
    refine g_iload_n hc dX7_move_8 rfl 2 rfl ?_
    refine g_i2l hc dX7_move_9 ?_
    refine g_lconst (v := 0) hc dX7_move_10 (by decide) ?_
    refine g_lconst (v := 1) hc dX7_move_11 (by decide) ?_
    obtain ⟨r5, h4, hf⟩ := oB_some hf
    refine g_callSi hc [.long (Int32.toInt64 l2), .long 0, .long 1] [] (c_X7_in  h4) (lw_S q1055 q1056 q67 q1057) rfl hd_X7_in rfl rfl (Nat.le_of_ble_eq_true rfl) gZ dX7_move_12 ?_
    refine g_if_ne (tgt := 20) hc dX7_move_15 (by decide) (fun h6 => ?_) (fun h6 => ?_)
    · have hf := oF h6 hf
      refine g_iconst (v := (-1)) hc dX7_move_20 (by decide) ?_
      refine g_istore_n (lv' := [(3, .int (-1)), (0, .ref (ad 0)), (1, .int l1), (2, .int l2)]) hc dX7_move_21 rfl (by decide) rfl ?_
      refine g_iconst (v := 0) hc dX7_move_22 (by decide) ?_
      refine g_istore (lv' := [(4, .int 0), (3, .int (-1)), (0, .ref (ad 0)), (1, .int l1), (2, .int l2)]) hc dX7_move_23 (by decide) rfl ?_
      refine g_aload_n hc dX7_move_25 rfl 2 rfl ?_
      refine g_iconst (v := 0) hc dX7_move_26 (by decide) ?_
      refine g_sipush (v := 164) hc dX7_move_27 (by decide) ?_
      obtain ⟨r8, h7, hf⟩ := oB_some hf
      refine g_callVv hc [.int 0, .int 164] [] (c_X7_copies  h7) (MW_at (k := 0) (by decide)) rfl (lw_V q1263 q1265 qs55 q67 q1266) rfl hd_X7_copies rfl rfl (Nat.le_of_ble_eq_true rfl) gZ dX7_move_30 ?_
      refine g_iconst (v := 0) hc dX7_move_33 (by decide) ?_
      refine g_istore (lv' := [(5, .int 0), (4, .int 0), (3, .int (-1)), (0, .ref (ad 0)), (1, .int l1), (2, .int l2)]) hc dX7_move_34 (by decide) rfl ?_
      exact g_lv [3, 4, 5, 2, 1, 0] rfl (w_X7_move_b36 hc r8 l1 l2 (-1) 0 0  (K := K) hf hK hR)
    · have hf := oT h6 hf
      refine g_iconst (v := (-1)) hc dX7_move_18 (by decide) ?_
      have hz := Option.some.inj hf; subst hz
      exact g_iret hc (hR _ hK) dX7_move_19
theorem c_X7_move {l : Launch} {D : va_G} {dA : Nat → ClassId} {ad : Nat → Nat} {tl : va_W}  {σ : (Nat → Nat → Int32)} {l1 : Int32} {l2 : Int32}  {o : Int32 × (Nat → Nat → Int32)} (hf : f_X7_move σ l1 l2 = some o) : gI l D dA (MW dA ad σ ++ tl) (MW dA ad o.2 ++ tl) [.ref (ad 0), .int l1, .int l2] o.1 yX7_move (ws_ yX7_move cX7_move 7 (some .int)) ({ frames := 4, cells := 0, slots := 0, locals := 102 } : Room) :=
  g_startI (own := RX7) ⟨rfl, rfl⟩ (by decide) rfl (Nat.le_of_ble_eq_true rfl) (fun x e hc hR => by
    subst e
    exact w_X7_move hc σ l1 l2  (K := fun o1 => o1 = o) hf rfl (by rintro _ rfl; exact hR))
theorem hd_X7_move : yX7_move.cls = RX7 ∧ yX7_move.cls ≠ "java/lang/invoke/MethodHandle" ∧ yX7_move.cls ≠ "java/lang/invoke/VarHandle" ∧ (parseMethodDescriptor yX7_move.desc).map (fun d => d.parameters.length) = some 2 := by decide +kernel
/-! HedgehogLotsModel.bribe(II)I -/
def f_X7_bribe_b137 (σ : (Nat → Nat → Int32)) (l1 : Int32) (l2 : Int32) (l3 : Int32) (l4 : Int32) (l5 : Int32) : Option ((Int32 × Int32 × Int32 × (Nat → Nat → Int32)) ⊕ (Int32 × (Nat → Nat → Int32))) :=
  some (.inl (l3, l4, (l5 + 1), σ))
theorem w_X7_bribe_b137 {x : gX} {ad : Nat → Nat} {tl : va_W}  (hc : gOk x RX7 cX7_bribe 7 4 102)  (σ : (Nat → Nat → Int32)) (l1 : Int32) (l2 : Int32) (l3 : Int32) (l4 : Int32) (l5 : Int32)  {K : (Int32 × Int32 × Int32 × (Nat → Nat → Int32)) ⊕ (Int32 × (Nat → Nat → Int32)) → Prop} {o : (Int32 × Int32 × Int32 × (Nat → Nat → Int32)) ⊕ (Int32 × (Nat → Nat → Int32))} (hf : f_X7_bribe_b137 σ l1 l2 l3 l4 l5 = some o) (hK : K o) (hI42 : ∀ v : Int32 × Int32 × Int32 × (Nat → Nat → Int32), K (.inl v) → gG x 7 0 0 (MW x.dA ad v.2.2.2 ++ tl) 42 [(0, .ref (ad 0)), (1, .int l1), (2, .int l2), (3, .int v.1), (4, .int v.2.1), (5, .int v.2.2.1)] []) (hR : ∀ o : Int32 × (Nat → Nat → Int32), K (.inr (o)) → gRi x 0 0 (MW x.dA ad o.2 ++ tl) o.1) : gG x 7 0 0 (MW x.dA ad σ ++ tl) 137 [(0, .ref (ad 0)), (1, .int l1), (2, .int l2), (3, .int l3), (4, .int l4), (5, .int l5)] [] := by
  unfold f_X7_bribe_b137 at hf
  refine g_iinc (v := l5 + 1) (lv' := [(5, .int (l5 + 1)), (0, .ref (ad 0)), (1, .int l1), (2, .int l2), (3, .int l3), (4, .int l4)]) hc dX7_bribe_137 (j := 5) rfl rfl (by decide) rfl ?_
  refine g_goto (tgt := 42) hc dX7_bribe_140 (by decide) ?_
  have hz := Option.some.inj hf; subst hz
  exact g_lv [1, 2, 3, 4, 5, 0] rfl (hI42 _ hK)
def f_X7_bribe_b136 (σ : (Nat → Nat → Int32)) (l1 : Int32) (l2 : Int32) (l4 : Int32) (l5 : Int32) (k1 : Int32) : Option ((Int32 × Int32 × Int32 × (Nat → Nat → Int32)) ⊕ (Int32 × (Nat → Nat → Int32))) :=
  f_X7_bribe_b137 σ l1 l2 k1 l4 l5
theorem w_X7_bribe_b136 {x : gX} {ad : Nat → Nat} {tl : va_W}  (hc : gOk x RX7 cX7_bribe 7 4 102)  (σ : (Nat → Nat → Int32)) (l1 : Int32) (l2 : Int32) (l4 : Int32) (l5 : Int32) (k1 : Int32)  {K : (Int32 × Int32 × Int32 × (Nat → Nat → Int32)) ⊕ (Int32 × (Nat → Nat → Int32)) → Prop} {o : (Int32 × Int32 × Int32 × (Nat → Nat → Int32)) ⊕ (Int32 × (Nat → Nat → Int32))} (hf : f_X7_bribe_b136 σ l1 l2 l4 l5 k1 = some o) (hK : K o) (hI42 : ∀ v : Int32 × Int32 × Int32 × (Nat → Nat → Int32), K (.inl v) → gG x 7 0 0 (MW x.dA ad v.2.2.2 ++ tl) 42 [(0, .ref (ad 0)), (1, .int l1), (2, .int l2), (3, .int v.1), (4, .int v.2.1), (5, .int v.2.2.1)] []) (hR : ∀ o : Int32 × (Nat → Nat → Int32), K (.inr (o)) → gRi x 0 0 (MW x.dA ad o.2 ++ tl) o.1) : gG x 7 0 0 (MW x.dA ad σ ++ tl) 136 [(0, .ref (ad 0)), (1, .int l1), (2, .int l2), (4, .int l4), (5, .int l5)] [.int k1] := by
  unfold f_X7_bribe_b136 at hf
  refine g_istore_n (lv' := [(3, .int k1), (0, .ref (ad 0)), (1, .int l1), (2, .int l2), (4, .int l4), (5, .int l5)]) hc dX7_bribe_136 rfl (by decide) rfl ?_
  exact g_lv [1, 2, 3, 0, 4, 5] rfl (w_X7_bribe_b137 hc σ l1 l2 k1 l4 l5  (K := K) hf hK hI42 hR)
def f_X7_bribe_b122 (σ : (Nat → Nat → Int32)) (l1 : Int32) (l2 : Int32) (l3 : Int32) (l5 : Int32) (l6 : Int32) (k1 : Int32) : Option ((Int32 × Int32 × Int32 × (Nat → Nat → Int32)) ⊕ (Int32 × (Nat → Nat → Int32))) :=
  if l3 ≤ l6 then (f_X7_bribe_b136 σ l1 l2 k1 l5 l3) else (f_X7_bribe_b136 σ l1 l2 k1 l5 l6)
theorem w_X7_bribe_b122 {x : gX} {ad : Nat → Nat} {tl : va_W}  (hc : gOk x RX7 cX7_bribe 7 4 102)  (σ : (Nat → Nat → Int32)) (l1 : Int32) (l2 : Int32) (l3 : Int32) (l5 : Int32) (l6 : Int32) (k1 : Int32)  {K : (Int32 × Int32 × Int32 × (Nat → Nat → Int32)) ⊕ (Int32 × (Nat → Nat → Int32)) → Prop} {o : (Int32 × Int32 × Int32 × (Nat → Nat → Int32)) ⊕ (Int32 × (Nat → Nat → Int32))} (hf : f_X7_bribe_b122 σ l1 l2 l3 l5 l6 k1 = some o) (hK : K o) (hI42 : ∀ v : Int32 × Int32 × Int32 × (Nat → Nat → Int32), K (.inl v) → gG x 7 0 0 (MW x.dA ad v.2.2.2 ++ tl) 42 [(0, .ref (ad 0)), (1, .int l1), (2, .int l2), (3, .int v.1), (4, .int v.2.1), (5, .int v.2.2.1)] []) (hR : ∀ o : Int32 × (Nat → Nat → Int32), K (.inr (o)) → gRi x 0 0 (MW x.dA ad o.2 ++ tl) o.1) : gG x 7 0 0 (MW x.dA ad σ ++ tl) 122 [(0, .ref (ad 0)), (1, .int l1), (2, .int l2), (3, .int l3), (5, .int l5), (6, .int l6)] [.int k1] := by
  unfold f_X7_bribe_b122 at hf
  refine g_istore (lv' := [(4, .int k1), (0, .ref (ad 0)), (1, .int l1), (2, .int l2), (3, .int l3), (5, .int l5), (6, .int l6)]) hc dX7_bribe_122 (by decide) rfl ?_
  refine g_iload hc dX7_bribe_124 6 rfl ?_
  refine g_iload_n hc dX7_bribe_126 rfl 4 rfl ?_
  refine g_icmp_ge (tgt := 135) hc dX7_bribe_127 (by decide) (fun h1 => ?_) (fun h1 => ?_)
  · have hf := oT h1 hf
    refine g_iload_n hc dX7_bribe_135 rfl 4 rfl ?_
    exact g_lv [1, 2, 3, 0, 5] rfl (w_X7_bribe_b136 hc σ l1 l2 k1 l5 l3  (K := K) hf hK hI42 hR)
  · have hf := oF h1 hf
    refine g_iload hc dX7_bribe_130 6 rfl ?_
    refine g_goto (tgt := 136) hc dX7_bribe_132 (by decide) ?_
    exact g_lv [1, 2, 3, 0, 5] rfl (w_X7_bribe_b136 hc σ l1 l2 k1 l5 l6  (K := K) hf hK hI42 hR)
def f_X7_bribe_L42 (σ : (Nat → Nat → Int32)) (l1 : Int32) (l2 : Int32) (l3 : Int32) (l4 : Int32) (l5 : Int32) : Option ((Int32 × Int32 × Int32 × (Nat → Nat → Int32)) ⊕ (Int32 × (Nat → Nat → Int32))) :=
  if 98 ≤ l5 then (oI (if l2 = 0 then (some (l4, σ)) else (some (l3, σ)))) else (oB (f_X7_isCell l5) fun r5 => if r5 = 0 then (f_X7_bribe_b137 σ l1 l2 l3 l4 l5) else (oB (f_X7_isFreeOn σ 0 l5) fun r8 => if r8 = 0 then (f_X7_bribe_b137 σ l1 l2 l3 l4 l5) else (oB (f_X7_copies σ 0 164) fun r11 => oB (f_X7_laysOn r11 164 l5) fun r13 => oB (f_X7_winsOn r13 164 (-4)) fun r15 => oB (f_X7_winsOn r15.2 164 l1) fun r17 => oB (f_X7_bitsOf (r15.1 &&& (r17.1 ^^^ (-1)))) fun r19 => if l3 ≤ r19 then (f_X7_bribe_b122 r17.2 l1 l2 l3 l5 r19 l4) else (f_X7_bribe_b122 r17.2 l1 l2 l3 l5 r19 l5))))
theorem w_X7_bribe_L42 {x : gX} {ad : Nat → Nat} {tl : va_W}  (hc : gOk x RX7 cX7_bribe 7 4 102)  (σ : (Nat → Nat → Int32)) (l1 : Int32) (l2 : Int32) (l3 : Int32) (l4 : Int32) (l5 : Int32)  {K : (Int32 × Int32 × Int32 × (Nat → Nat → Int32)) ⊕ (Int32 × (Nat → Nat → Int32)) → Prop} {o : (Int32 × Int32 × Int32 × (Nat → Nat → Int32)) ⊕ (Int32 × (Nat → Nat → Int32))} (hf : f_X7_bribe_L42 σ l1 l2 l3 l4 l5 = some o) (hK : K o) (hI42 : ∀ v : Int32 × Int32 × Int32 × (Nat → Nat → Int32), K (.inl v) → gG x 7 0 0 (MW x.dA ad v.2.2.2 ++ tl) 42 [(0, .ref (ad 0)), (1, .int l1), (2, .int l2), (3, .int v.1), (4, .int v.2.1), (5, .int v.2.2.1)] []) (hR : ∀ o : Int32 × (Nat → Nat → Int32), K (.inr (o)) → gRi x 0 0 (MW x.dA ad o.2 ++ tl) o.1) : gG x 7 0 0 (MW x.dA ad σ ++ tl) 42 [(0, .ref (ad 0)), (1, .int l1), (2, .int l2), (3, .int l3), (4, .int l4), (5, .int l5)] [] := by
  unfold f_X7_bribe_L42 at hf
  refine g_iload hc dX7_bribe_42 5 rfl ?_
  refine g_bipush (v := 98) hc dX7_bribe_44 (by decide) ?_
  refine g_icmp_ge (tgt := 143) hc dX7_bribe_46 (by decide) (fun h1 => ?_) (fun h1 => ?_)
  · have hf := oT h1 hf
    obtain ⟨o3, hgo3, eo3⟩ := oI_some hf
    clear hf; subst eo3; have hf := hgo3; clear hgo3
    refine g_iload_n hc dX7_bribe_143 rfl 2 rfl ?_
    refine g_if_ne (tgt := 152) hc dX7_bribe_144 (by decide) (fun h2 => ?_) (fun h2 => ?_)
    · have hf := oF h2 hf
      refine g_iload_n hc dX7_bribe_152 rfl 3 rfl ?_
      have hz := Option.some.inj hf; subst hz
      exact g_iret hc (hR _ hK) dX7_bribe_153
    · have hf := oT h2 hf
      refine g_iload hc dX7_bribe_147 4 rfl ?_
      refine g_goto (tgt := 153) hc dX7_bribe_149 (by decide) ?_
      have hz := Option.some.inj hf; subst hz
      exact g_iret hc (hR _ hK) dX7_bribe_153
  · have hf := oF h1 hf
    refine g_iload hc dX7_bribe_49 5 rfl ?_
    obtain ⟨r5, h4, hf⟩ := oB_some hf
    refine g_callSi hc [.int l5] [] (c_X7_isCell  h4) (lw_S q1179 q1180 q67 q1181) rfl hd_X7_isCell rfl rfl (Nat.le_of_ble_eq_true rfl) gZ dX7_bribe_51 ?_
    refine g_if_eq (tgt := 137) hc dX7_bribe_54 (by decide) (fun h6 => ?_) (fun h6 => ?_)
    · have hf := oT h6 hf
      exact g_lv [0, 1, 2, 3, 4, 5] rfl (w_X7_bribe_b137 hc σ l1 l2 l3 l4 l5  (K := K) hf hK hI42 hR)
    · have hf := oF h6 hf
      refine g_aload_n hc dX7_bribe_57 rfl 0 rfl ?_
      refine g_iconst (v := 0) hc dX7_bribe_58 (by decide) ?_
      refine g_iload hc dX7_bribe_59 5 rfl ?_
      obtain ⟨r8, h7, hf⟩ := oB_some hf
      refine g_callVi hc [.int 0, .int l5] [] (c_X7_isFreeOn  h7) (MW_at (k := 0) (by decide)) rfl (lw_V q1182 q1184 qs50 q67 q1185) rfl hd_X7_isFreeOn rfl rfl (Nat.le_of_ble_eq_true rfl) gZ dX7_bribe_61 ?_
      refine g_if_eq (tgt := 137) hc dX7_bribe_64 (by decide) (fun h9 => ?_) (fun h9 => ?_)
      · have hf := oT h9 hf
        exact g_lv [0, 1, 2, 3, 4, 5] rfl (w_X7_bribe_b137 hc σ l1 l2 l3 l4 l5  (K := K) hf hK hI42 hR)
      · have hf := oF h9 hf
        refine g_aload_n hc dX7_bribe_67 rfl 0 rfl ?_
        refine g_iconst (v := 0) hc dX7_bribe_68 (by decide) ?_
        refine g_sipush (v := 164) hc dX7_bribe_69 (by decide) ?_
        obtain ⟨r11, h10, hf⟩ := oB_some hf
        refine g_callVv hc [.int 0, .int 164] [] (c_X7_copies  h10) (MW_at (k := 0) (by decide)) rfl (lw_V q1263 q1265 qs55 q67 q1266) rfl hd_X7_copies rfl rfl (Nat.le_of_ble_eq_true rfl) gZ dX7_bribe_72 ?_
        refine g_aload_n hc dX7_bribe_75 rfl 0 rfl ?_
        refine g_sipush (v := 164) hc dX7_bribe_76 (by decide) ?_
        refine g_iload hc dX7_bribe_79 5 rfl ?_
        obtain ⟨r13, h12, hf⟩ := oB_some hf
        refine g_callVv hc [.int 164, .int l5] [] (c_X7_laysOn  h12) (MW_at (k := 0) (by decide)) rfl (lw_V q1218 q1220 qs54 q67 q1221) rfl hd_X7_laysOn rfl rfl (Nat.le_of_ble_eq_true rfl) gZ dX7_bribe_81 ?_
        refine g_aload_n hc dX7_bribe_84 rfl 0 rfl ?_
        refine g_sipush (v := 164) hc dX7_bribe_85 (by decide) ?_
        refine g_bipush (v := (-4)) hc dX7_bribe_88 (by decide) ?_
        obtain ⟨r15, h14, hf⟩ := oB_some hf
        refine g_callVi hc [.int 164, .int (-4)] [] (c_X7_winsOn  h14) (MW_at (k := 0) (by decide)) rfl (lw_V q1137 q1139 qs45 q67 q1140) rfl hd_X7_winsOn rfl rfl (Nat.le_of_ble_eq_true rfl) gZ dX7_bribe_90 ?_
        refine g_aload_n hc dX7_bribe_93 rfl 0 rfl ?_
        refine g_sipush (v := 164) hc dX7_bribe_94 (by decide) ?_
        refine g_iload_n hc dX7_bribe_97 rfl 1 rfl ?_
        obtain ⟨r17, h16, hf⟩ := oB_some hf
        refine g_callVi hc [.int 164, .int l1] [.int r15.1] (c_X7_winsOn  h16) (MW_at (k := 0) (by decide)) rfl (lw_V q1137 q1139 qs45 q67 q1140) rfl hd_X7_winsOn rfl rfl (Nat.le_of_ble_eq_true rfl) gZ dX7_bribe_98 ?_
        refine g_iconst (v := (-1)) hc dX7_bribe_101 (by decide) ?_
        refine g_ixor hc dX7_bribe_102 ?_
        refine g_iand hc dX7_bribe_103 ?_
        obtain ⟨r19, h18, hf⟩ := oB_some hf
        refine g_callSi hc [.int (r15.1 &&& (r17.1 ^^^ (-1)))] [] (c_X7_bitsOf  h18) (lw_S q1271 q1272 q67 q1273) rfl hd_X7_bitsOf rfl rfl (Nat.le_of_ble_eq_true rfl) gZ dX7_bribe_104 ?_
        refine g_istore (lv' := [(6, .int r19), (0, .ref (ad 0)), (1, .int l1), (2, .int l2), (3, .int l3), (4, .int l4), (5, .int l5)]) hc dX7_bribe_107 (by decide) rfl ?_
        refine g_iload hc dX7_bribe_109 0 rfl ?_
        refine g_iload_n hc dX7_bribe_111 rfl 4 rfl ?_
        refine g_icmp_ge (tgt := 120) hc dX7_bribe_112 (by decide) (fun h20 => ?_) (fun h20 => ?_)
        · have hf := oT h20 hf
          refine g_iload hc dX7_bribe_120 5 rfl ?_
          exact g_lv [1, 2, 3, 4, 6, 0] rfl (w_X7_bribe_b122 hc r17.2 l1 l2 l3 l5 r19 l4  (K := K) hf hK hI42 hR)
        · have hf := oF h20 hf
          refine g_iload hc dX7_bribe_115 6 rfl ?_
          refine g_goto (tgt := 122) hc dX7_bribe_117 (by decide) ?_
          exact g_lv [1, 2, 3, 4, 6, 0] rfl (w_X7_bribe_b122 hc r17.2 l1 l2 l3 l5 r19 l5  (K := K) hf hK hI42 hR)
def f_X7_bribe_b42 (σ : (Nat → Nat → Int32)) (l1 : Int32) (l2 : Int32) (l3 : Int32) (l4 : Int32) (l5 : Int32) : Option (Int32 × (Nat → Nat → Int32)) :=
  oLoop gFU (fun v : Int32 × Int32 × Int32 × (Nat → Nat → Int32) => f_X7_bribe_L42 v.2.2.2 l1 l2 v.1 v.2.1 v.2.2.1) (l3, l4, l5, σ)
theorem w_X7_bribe_b42 {x : gX} {ad : Nat → Nat} {tl : va_W}  (hc : gOk x RX7 cX7_bribe 7 4 102)  (σ : (Nat → Nat → Int32)) (l1 : Int32) (l2 : Int32) (l3 : Int32) (l4 : Int32) (l5 : Int32)  {K : Int32 × (Nat → Nat → Int32) → Prop} {o : Int32 × (Nat → Nat → Int32)} (hf : f_X7_bribe_b42 σ l1 l2 l3 l4 l5 = some o) (hK : K o) (hR : ∀ o : Int32 × (Nat → Nat → Int32), K o → gRi x 0 0 (MW x.dA ad o.2 ++ tl) o.1) : gG x 7 0 0 (MW x.dA ad σ ++ tl) 42 [(0, .ref (ad 0)), (1, .int l1), (2, .int l2), (3, .int l3), (4, .int l4), (5, .int l5)] [] :=
  oLoop_ind (fun v : Int32 × Int32 × Int32 × (Nat → Nat → Int32) => gG x 7 0 0 (MW x.dA ad v.2.2.2 ++ tl) 42 [(0, .ref (ad 0)), (1, .int l1), (2, .int l2), (3, .int v.1), (4, .int v.2.1), (5, .int v.2.2.1)] []) K (fun v o1 hf1 hK1 => w_X7_bribe_L42 hc v.2.2.2 l1 l2 v.1 v.2.1 v.2.2.1  (K := Sum.elim (fun v : Int32 × Int32 × Int32 × (Nat → Nat → Int32) => gG x 7 0 0 (MW x.dA ad v.2.2.2 ++ tl) 42 [(0, .ref (ad 0)), (1, .int l1), (2, .int l2), (3, .int v.1), (4, .int v.2.1), (5, .int v.2.2.1)] []) K) hf1 hK1 (fun v hv => hv) hR) gFU _ o hf hK
def f_X7_bribe (σ : (Nat → Nat → Int32)) (l1 : Int32) (l2 : Int32) : Option (Int32 × (Nat → Nat → Int32)) :=
  oB (f_X7_isRag l1) fun r2 => if r2 = 0 then (some ((-1), σ)) else (oB (f_X7_in (Int32.toInt64 l2) 0 1) fun r5 => if r5 = 0 then (some ((-1), σ)) else (oC (inb 39 205) <| if (σ 1 (Int32.toNatClampNeg 39)) = 4 then (some ((-3), σ)) else (f_X7_bribe_b42 σ l1 l2 100 0 0)))
theorem w_X7_bribe {x : gX} {ad : Nat → Nat} {tl : va_W}  (hc : gOk x RX7 cX7_bribe 7 4 102)  (σ : (Nat → Nat → Int32)) (l1 : Int32) (l2 : Int32)  {K : Int32 × (Nat → Nat → Int32) → Prop} {o : Int32 × (Nat → Nat → Int32)} (hf : f_X7_bribe σ l1 l2 = some o) (hK : K o) (hR : ∀ o : Int32 × (Nat → Nat → Int32), K o → gRi x 0 0 (MW x.dA ad o.2 ++ tl) o.1) : gG x 7 0 0 (MW x.dA ad σ ++ tl) 0 [(0, .ref (ad 0)), (1, .int l1), (2, .int l2)] [] := by
  unfold f_X7_bribe at hf
  refine g_iload_n hc dX7_bribe_0 rfl 1 rfl ?_
  obtain ⟨r2, h1, hf⟩ := oB_some hf
  refine g_callSi hc [.int l1] [] (c_X7_isRag  h1) (lw_S q1194 q1195 q67 q1196) rfl hd_X7_isRag rfl rfl (Nat.le_of_ble_eq_true rfl) gZ dX7_bribe_1 ?_
  refine g_if_eq (tgt := 17) hc dX7_bribe_4 (by decide) (fun h3 => ?_) (fun h3 => ?_)
  · have hf := oT h3 hf
    refine g_iconst (v := (-1)) hc dX7_bribe_17 (by decide) ?_
    have hz := Option.some.inj hf; subst hz
    exact g_iret hc (hR _ hK) dX7_bribe_18
  · have hf := oF h3 hf
    refine g_iload_n hc dX7_bribe_7 rfl 2 rfl ?_
    refine g_i2l hc dX7_bribe_8 ?_
    refine g_lconst (v := 0) hc dX7_bribe_9 (by decide) ?_
    refine g_lconst (v := 1) hc dX7_bribe_10 (by decide) ?_
    obtain ⟨r5, h4, hf⟩ := oB_some hf
    refine g_callSi hc [.long (Int32.toInt64 l2), .long 0, .long 1] [] (c_X7_in  h4) (lw_S q1055 q1056 q67 q1057) rfl hd_X7_in rfl rfl (Nat.le_of_ble_eq_true rfl) gZ dX7_bribe_11 ?_
    refine g_if_ne (tgt := 19) hc dX7_bribe_14 (by decide) (fun h6 => ?_) (fun h6 => ?_)
    · have hf := oF h6 hf
      refine g_aload_n hc dX7_bribe_19 rfl 0 rfl ?_
      refine g_get (v := .ref (ad 1)) hc in_X7 (MW_at (k := 0) (by decide)) rfl 0 (by decide) q961 rfl dX7_bribe_20 ?_
      refine g_bipush (v := 39) hc dX7_bribe_23 (by decide) ?_
      obtain ⟨h7, hf⟩ := oC_some hf
      refine g_iald (n := 205) (f := σ 1) hc (MW_at (k := 1) (by decide)) h7 dX7_bribe_25 ?_
      refine g_iconst (v := 4) hc dX7_bribe_26 (by decide) ?_
      refine g_icmp_ne (tgt := 33) hc dX7_bribe_27 (by decide) (fun h8 => ?_) (fun h8 => ?_)
      · have hf := oF h8 hf
        refine g_bipush (v := 100) hc dX7_bribe_33 (by decide) ?_
        refine g_istore_n (lv' := [(3, .int 100), (0, .ref (ad 0)), (1, .int l1), (2, .int l2)]) hc dX7_bribe_35 rfl (by decide) rfl ?_
        refine g_iconst (v := 0) hc dX7_bribe_36 (by decide) ?_
        refine g_istore (lv' := [(4, .int 0), (3, .int 100), (0, .ref (ad 0)), (1, .int l1), (2, .int l2)]) hc dX7_bribe_37 (by decide) rfl ?_
        refine g_iconst (v := 0) hc dX7_bribe_39 (by decide) ?_
        refine g_istore (lv' := [(5, .int 0), (4, .int 0), (3, .int 100), (0, .ref (ad 0)), (1, .int l1), (2, .int l2)]) hc dX7_bribe_40 (by decide) rfl ?_
        exact g_lv [3, 4, 5, 2, 1, 0] rfl (w_X7_bribe_b42 hc σ l1 l2 100 0 0  (K := K) hf hK hR)
      · have hf := oT h8 hf
        refine g_bipush (v := (-3)) hc dX7_bribe_30 (by decide) ?_
        have hz := Option.some.inj hf; subst hz
        exact g_iret hc (hR _ hK) dX7_bribe_32
    · have hf := oT h6 hf
      refine g_iconst (v := (-1)) hc dX7_bribe_17 (by decide) ?_
      have hz := Option.some.inj hf; subst hz
      exact g_iret hc (hR _ hK) dX7_bribe_18
theorem c_X7_bribe {l : Launch} {D : va_G} {dA : Nat → ClassId} {ad : Nat → Nat} {tl : va_W}  {σ : (Nat → Nat → Int32)} {l1 : Int32} {l2 : Int32}  {o : Int32 × (Nat → Nat → Int32)} (hf : f_X7_bribe σ l1 l2 = some o) : gI l D dA (MW dA ad σ ++ tl) (MW dA ad o.2 ++ tl) [.ref (ad 0), .int l1, .int l2] o.1 yX7_bribe (ws_ yX7_bribe cX7_bribe 7 (some .int)) ({ frames := 4, cells := 0, slots := 0, locals := 102 } : Room) :=
  g_startI (own := RX7) ⟨rfl, rfl⟩ (by decide) rfl (Nat.le_of_ble_eq_true rfl) (fun x e hc hR => by
    subst e
    exact w_X7_bribe hc σ l1 l2  (K := fun o1 => o1 = o) hf rfl (by rintro _ rfl; exact hR))
theorem hd_X7_bribe : yX7_bribe.cls = RX7 ∧ yX7_bribe.cls ≠ "java/lang/invoke/MethodHandle" ∧ yX7_bribe.cls ≠ "java/lang/invoke/VarHandle" ∧ (parseMethodDescriptor yX7_bribe.desc).map (fun d => d.parameters.length) = some 2 := by decide +kernel
/-! HedgehogLotsModel.need(II)I -/
def f_X7_need_L27 (σ : (Nat → Nat → Int32)) (l1 : Int32) (l2 : Int32) (l3 : Int32) : Option ((Int32 × (Nat → Nat → Int32)) ⊕ (Int32 × (Nat → Nat → Int32))) :=
  if 9 < l3 then (oI (some ((-4), σ))) else (oC (inb (186 + l1) 205) <| oL (upd2 σ 1 (186 + l1).toNatClampNeg l3) fun s3 => oB (f_X7_runsOn s3 164 l1 l2 0) fun r7 => if (r7 0 17) = 10 then (oI (some (l3, r7))) else (some (.inl ((l3 + 1), r7))))
theorem w_X7_need_L27 {x : gX} {ad : Nat → Nat} {tl : va_W}  (hc : gOk x RX7 cX7_need 4 2 54)  (σ : (Nat → Nat → Int32)) (l1 : Int32) (l2 : Int32) (l3 : Int32)  {K : (Int32 × (Nat → Nat → Int32)) ⊕ (Int32 × (Nat → Nat → Int32)) → Prop} {o : (Int32 × (Nat → Nat → Int32)) ⊕ (Int32 × (Nat → Nat → Int32))} (hf : f_X7_need_L27 σ l1 l2 l3 = some o) (hK : K o) (hI27 : ∀ v : Int32 × (Nat → Nat → Int32), K (.inl v) → gG x 4 0 0 (MW x.dA ad v.2 ++ tl) 27 [(0, .ref (ad 0)), (1, .int l1), (2, .int l2), (3, .int v.1)] []) (hR : ∀ o : Int32 × (Nat → Nat → Int32), K (.inr (o)) → gRi x 0 0 (MW x.dA ad o.2 ++ tl) o.1) : gG x 4 0 0 (MW x.dA ad σ ++ tl) 27 [(0, .ref (ad 0)), (1, .int l1), (2, .int l2), (3, .int l3)] [] := by
  unfold f_X7_need_L27 at hf
  refine g_iload_n hc dX7_need_27 rfl 3 rfl ?_
  refine g_bipush (v := 9) hc dX7_need_28 (by decide) ?_
  refine g_icmp_gt (tgt := 71) hc dX7_need_30 (by decide) (fun h1 => ?_) (fun h1 => ?_)
  · have hf := oT h1 hf
    obtain ⟨o2, hgo2, eo2⟩ := oI_some hf
    clear hf; subst eo2; have hf := hgo2; clear hgo2
    refine g_bipush (v := (-4)) hc dX7_need_71 (by decide) ?_
    have hz := Option.some.inj hf; subst hz
    exact g_iret hc (hR _ hK) dX7_need_73
  · have hf := oF h1 hf
    refine g_aload_n hc dX7_need_33 rfl 0 rfl ?_
    refine g_get (v := .ref (ad 1)) hc in_X7 (MW_at (k := 0) (by decide)) rfl 0 (by decide) q961 rfl dX7_need_34 ?_
    refine g_sipush (v := 186) hc dX7_need_37 (by decide) ?_
    refine g_iload_n hc dX7_need_40 rfl 1 rfl ?_
    refine g_iadd hc dX7_need_41 ?_
    refine g_iload_n hc dX7_need_42 rfl 3 rfl ?_
    obtain ⟨h5, hf⟩ := oC_some hf
    obtain ⟨s3, e4, hf⟩ := oL_some hf
    refine g_iast (n := 205) (f := σ 1) hc (MW_at (k := 1) (by decide)) h5 (MW_set (μ1 := s3) (k := 1) (by decide) e4 rfl) dX7_need_43 ?_
    refine g_aload_n hc dX7_need_44 rfl 0 rfl ?_
    refine g_sipush (v := 164) hc dX7_need_45 (by decide) ?_
    refine g_iload_n hc dX7_need_48 rfl 1 rfl ?_
    refine g_iload_n hc dX7_need_49 rfl 2 rfl ?_
    refine g_iconst (v := 0) hc dX7_need_50 (by decide) ?_
    obtain ⟨r7, h6, hf⟩ := oB_some hf
    refine g_callVv hc [.int 164, .int l1, .int l2, .int 0] [] (c_X7_runsOn  h6) (MW_at (k := 0) (by decide)) rfl (lw_V q1119 q1121 qs42 q67 q1122) rfl hd_X7_runsOn rfl rfl (Nat.le_of_ble_eq_true rfl) gZ dX7_need_51 ?_
    refine g_aload_n hc dX7_need_54 rfl 0 rfl ?_
    refine g_get (v := .int (r7 0 17)) hc in_X7 (MW_at (k := 0) (by decide)) rfl 17 (by decide) q978 rfl dX7_need_55 ?_
    refine g_bipush (v := 10) hc dX7_need_58 (by decide) ?_
    refine g_icmp_ne (tgt := 65) hc dX7_need_60 (by decide) (fun h8 => ?_) (fun h8 => ?_)
    · have hf := oF h8 hf
      refine g_iinc (v := l3 + 1) (lv' := [(3, .int (l3 + 1)), (0, .ref (ad 0)), (1, .int l1), (2, .int l2)]) hc dX7_need_65 (j := 3) rfl rfl (by decide) rfl ?_
      refine g_goto (tgt := 27) hc dX7_need_68 (by decide) ?_
      have hz := Option.some.inj hf; subst hz
      exact g_lv [1, 2, 3, 0] rfl (hI27 _ hK)
    · have hf := oT h8 hf
      obtain ⟨o9, hgo9, eo9⟩ := oI_some hf
      clear hf; subst eo9; have hf := hgo9; clear hgo9
      refine g_iload_n hc dX7_need_63 rfl 3 rfl ?_
      have hz := Option.some.inj hf; subst hz
      exact g_iret hc (hR _ hK) dX7_need_64
def f_X7_need_b27 (σ : (Nat → Nat → Int32)) (l1 : Int32) (l2 : Int32) (l3 : Int32) : Option (Int32 × (Nat → Nat → Int32)) :=
  oLoop gFU (fun v : Int32 × (Nat → Nat → Int32) => f_X7_need_L27 v.2 l1 l2 v.1) (l3, σ)
theorem w_X7_need_b27 {x : gX} {ad : Nat → Nat} {tl : va_W}  (hc : gOk x RX7 cX7_need 4 2 54)  (σ : (Nat → Nat → Int32)) (l1 : Int32) (l2 : Int32) (l3 : Int32)  {K : Int32 × (Nat → Nat → Int32) → Prop} {o : Int32 × (Nat → Nat → Int32)} (hf : f_X7_need_b27 σ l1 l2 l3 = some o) (hK : K o) (hR : ∀ o : Int32 × (Nat → Nat → Int32), K o → gRi x 0 0 (MW x.dA ad o.2 ++ tl) o.1) : gG x 4 0 0 (MW x.dA ad σ ++ tl) 27 [(0, .ref (ad 0)), (1, .int l1), (2, .int l2), (3, .int l3)] [] :=
  oLoop_ind (fun v : Int32 × (Nat → Nat → Int32) => gG x 4 0 0 (MW x.dA ad v.2 ++ tl) 27 [(0, .ref (ad 0)), (1, .int l1), (2, .int l2), (3, .int v.1)] []) K (fun v o1 hf1 hK1 => w_X7_need_L27 hc v.2 l1 l2 v.1  (K := Sum.elim (fun v : Int32 × (Nat → Nat → Int32) => gG x 4 0 0 (MW x.dA ad v.2 ++ tl) 27 [(0, .ref (ad 0)), (1, .int l1), (2, .int l2), (3, .int v.1)] []) K) hf1 hK1 (fun v hv => hv) hR) gFU _ o hf hK
def f_X7_need (σ : (Nat → Nat → Int32)) (l1 : Int32) (l2 : Int32) : Option (Int32 × (Nat → Nat → Int32)) :=
  oB (f_X7_isHog σ l1) fun r2 => if r2 = 0 then (some ((-1), σ)) else (oB (f_X7_isColumn l2) fun r5 => if r5 = 0 then (some ((-1), σ)) else (oB (f_X7_copies σ 0 164) fun r8 => f_X7_need_b27 r8 l1 l2 1))
theorem w_X7_need {x : gX} {ad : Nat → Nat} {tl : va_W}  (hc : gOk x RX7 cX7_need 4 2 54)  (σ : (Nat → Nat → Int32)) (l1 : Int32) (l2 : Int32)  {K : Int32 × (Nat → Nat → Int32) → Prop} {o : Int32 × (Nat → Nat → Int32)} (hf : f_X7_need σ l1 l2 = some o) (hK : K o) (hR : ∀ o : Int32 × (Nat → Nat → Int32), K o → gRi x 0 0 (MW x.dA ad o.2 ++ tl) o.1) : gG x 4 0 0 (MW x.dA ad σ ++ tl) 0 [(0, .ref (ad 0)), (1, .int l1), (2, .int l2)] [] := by
  unfold f_X7_need at hf
  refine g_aload_n hc dX7_need_0 rfl 0 rfl ?_
  refine g_iload_n hc dX7_need_1 rfl 1 rfl ?_
  obtain ⟨r2, h1, hf⟩ := oB_some hf
  refine g_callVi hc [.int l1] [] (c_X7_isHog  h1) (MW_at (k := 0) (by decide)) rfl (lw_V q1162 q1164 qs48 q67 q1165) rfl hd_X7_isHog rfl rfl (Nat.le_of_ble_eq_true rfl) gZ dX7_need_2 ?_
  refine g_if_eq (tgt := 15) hc dX7_need_5 (by decide) (fun h3 => ?_) (fun h3 => ?_)
  · have hf := oT h3 hf
    refine g_iconst (v := (-1)) hc dX7_need_15 (by decide) ?_
    have hz := Option.some.inj hf; subst hz
    exact g_iret hc (hR _ hK) dX7_need_16
  · have hf := oF h3 hf
    refine g_iload_n hc dX7_need_8 rfl 2 rfl ?_
    obtain ⟨r5, h4, hf⟩ := oB_some hf
    refine g_callSi hc [.int l2] [] (c_X7_isColumn  h4) (lw_S q1230 q1231 q67 q1232) rfl hd_X7_isColumn rfl rfl (Nat.le_of_ble_eq_true rfl) gZ dX7_need_9 ?_
    refine g_if_ne (tgt := 17) hc dX7_need_12 (by decide) (fun h6 => ?_) (fun h6 => ?_)
    · have hf := oF h6 hf
      refine g_aload_n hc dX7_need_17 rfl 0 rfl ?_
      refine g_iconst (v := 0) hc dX7_need_18 (by decide) ?_
      refine g_sipush (v := 164) hc dX7_need_19 (by decide) ?_
      obtain ⟨r8, h7, hf⟩ := oB_some hf
      refine g_callVv hc [.int 0, .int 164] [] (c_X7_copies  h7) (MW_at (k := 0) (by decide)) rfl (lw_V q1263 q1265 qs55 q67 q1266) rfl hd_X7_copies rfl rfl (Nat.le_of_ble_eq_true rfl) gZ dX7_need_22 ?_
      refine g_iconst (v := 1) hc dX7_need_25 (by decide) ?_
      refine g_istore_n (lv' := [(3, .int 1), (0, .ref (ad 0)), (1, .int l1), (2, .int l2)]) hc dX7_need_26 rfl (by decide) rfl ?_
      exact g_lv [1, 2, 3, 0] rfl (w_X7_need_b27 hc r8 l1 l2 1  (K := K) hf hK hR)
    · have hf := oT h6 hf
      refine g_iconst (v := (-1)) hc dX7_need_15 (by decide) ?_
      have hz := Option.some.inj hf; subst hz
      exact g_iret hc (hR _ hK) dX7_need_16
theorem c_X7_need {l : Launch} {D : va_G} {dA : Nat → ClassId} {ad : Nat → Nat} {tl : va_W}  {σ : (Nat → Nat → Int32)} {l1 : Int32} {l2 : Int32}  {o : Int32 × (Nat → Nat → Int32)} (hf : f_X7_need σ l1 l2 = some o) : gI l D dA (MW dA ad σ ++ tl) (MW dA ad o.2 ++ tl) [.ref (ad 0), .int l1, .int l2] o.1 yX7_need (ws_ yX7_need cX7_need 4 (some .int)) ({ frames := 2, cells := 0, slots := 0, locals := 54 } : Room) :=
  g_startI (own := RX7) ⟨rfl, rfl⟩ (by decide) rfl (Nat.le_of_ble_eq_true rfl) (fun x e hc hR => by
    subst e
    exact w_X7_need hc σ l1 l2  (K := fun o1 => o1 = o) hf rfl (by rintro _ rfl; exact hR))
theorem hd_X7_need : yX7_need.cls = RX7 ∧ yX7_need.cls ≠ "java/lang/invoke/MethodHandle" ∧ yX7_need.cls ≠ "java/lang/invoke/VarHandle" ∧ (parseMethodDescriptor yX7_need.desc).map (fun d => d.parameters.length) = some 2 := by decide +kernel
/-! HedgehogLotsModel.swap(II)I -/
def f_X7_swap_b184 (σ : (Nat → Nat → Int32)) (l1 : Int32) (l2 : Int32) (l4 : Int32) (l5 : Int32) (l6 : Int32) (k1 : Int32) : Option ((Int32 × Int32 × Int32 × (Nat → Nat → Int32)) ⊕ ((Int32 × Int32 × Int32 × (Nat → Nat → Int32)) ⊕ (Int32 × (Nat → Nat → Int32)))) :=
  some (.inl (k1, l4, (l6 + 1), σ))
theorem w_X7_swap_b184 {x : gX} {ad : Nat → Nat} {tl : va_W}  (hc : gOk x RX7 cX7_swap 9 4 102)  (σ : (Nat → Nat → Int32)) (l1 : Int32) (l2 : Int32) (l4 : Int32) (l5 : Int32) (l6 : Int32) (k1 : Int32)  {K : (Int32 × Int32 × Int32 × (Nat → Nat → Int32)) ⊕ ((Int32 × Int32 × Int32 × (Nat → Nat → Int32)) ⊕ (Int32 × (Nat → Nat → Int32))) → Prop} {o : (Int32 × Int32 × Int32 × (Nat → Nat → Int32)) ⊕ ((Int32 × Int32 × Int32 × (Nat → Nat → Int32)) ⊕ (Int32 × (Nat → Nat → Int32)))} (hf : f_X7_swap_b184 σ l1 l2 l4 l5 l6 k1 = some o) (hK : K o) (hI51 : ∀ v : Int32 × Int32 × Int32 × (Nat → Nat → Int32), K (.inl v) → gG x 9 0 0 (MW x.dA ad v.2.2.2 ++ tl) 51 [(0, .ref (ad 0)), (1, .int l1), (2, .int l2), (3, .int v.1), (4, .int v.2.1), (5, .int l5), (6, .int v.2.2.1)] []) (hI36 : ∀ v : Int32 × Int32 × Int32 × (Nat → Nat → Int32), K (.inr (.inl v)) → gG x 9 0 0 (MW x.dA ad v.2.2.2 ++ tl) 36 [(0, .ref (ad 0)), (1, .int l1), (2, .int l2), (3, .int v.1), (4, .int v.2.1), (5, .int v.2.2.1)] []) (hR : ∀ o : Int32 × (Nat → Nat → Int32), K (.inr (.inr (o))) → gRi x 0 0 (MW x.dA ad o.2 ++ tl) o.1) : gG x 9 0 0 (MW x.dA ad σ ++ tl) 184 [(0, .ref (ad 0)), (1, .int l1), (2, .int l2), (4, .int l4), (5, .int l5), (6, .int l6)] [.int k1] := by
  unfold f_X7_swap_b184 at hf
  refine g_istore_n (lv' := [(3, .int k1), (0, .ref (ad 0)), (1, .int l1), (2, .int l2), (4, .int l4), (5, .int l5), (6, .int l6)]) hc dX7_swap_184 rfl (by decide) rfl ?_
  refine g_iinc (v := l6 + 1) (lv' := [(6, .int (l6 + 1)), (3, .int k1), (0, .ref (ad 0)), (1, .int l1), (2, .int l2), (4, .int l4), (5, .int l5)]) hc dX7_swap_185 (j := 6) rfl rfl (by decide) rfl ?_
  refine g_goto (tgt := 51) hc dX7_swap_188 (by decide) ?_
  have hz := Option.some.inj hf; subst hz
  exact g_lv [2, 3, 4, 1, 5, 6, 0] rfl (hI51 _ hK)
def f_X7_swap_b170 (σ : (Nat → Nat → Int32)) (l1 : Int32) (l2 : Int32) (l3 : Int32) (l5 : Int32) (l6 : Int32) (l7 : Int32) (k1 : Int32) : Option ((Int32 × Int32 × Int32 × (Nat → Nat → Int32)) ⊕ ((Int32 × Int32 × Int32 × (Nat → Nat → Int32)) ⊕ (Int32 × (Nat → Nat → Int32)))) :=
  if l7 ≤ l3 then (f_X7_swap_b184 σ l1 l2 k1 l5 l6 l3) else (f_X7_swap_b184 σ l1 l2 k1 l5 l6 l7)
theorem w_X7_swap_b170 {x : gX} {ad : Nat → Nat} {tl : va_W}  (hc : gOk x RX7 cX7_swap 9 4 102)  (σ : (Nat → Nat → Int32)) (l1 : Int32) (l2 : Int32) (l3 : Int32) (l5 : Int32) (l6 : Int32) (l7 : Int32) (k1 : Int32)  {K : (Int32 × Int32 × Int32 × (Nat → Nat → Int32)) ⊕ ((Int32 × Int32 × Int32 × (Nat → Nat → Int32)) ⊕ (Int32 × (Nat → Nat → Int32))) → Prop} {o : (Int32 × Int32 × Int32 × (Nat → Nat → Int32)) ⊕ ((Int32 × Int32 × Int32 × (Nat → Nat → Int32)) ⊕ (Int32 × (Nat → Nat → Int32)))} (hf : f_X7_swap_b170 σ l1 l2 l3 l5 l6 l7 k1 = some o) (hK : K o) (hI51 : ∀ v : Int32 × Int32 × Int32 × (Nat → Nat → Int32), K (.inl v) → gG x 9 0 0 (MW x.dA ad v.2.2.2 ++ tl) 51 [(0, .ref (ad 0)), (1, .int l1), (2, .int l2), (3, .int v.1), (4, .int v.2.1), (5, .int l5), (6, .int v.2.2.1)] []) (hI36 : ∀ v : Int32 × Int32 × Int32 × (Nat → Nat → Int32), K (.inr (.inl v)) → gG x 9 0 0 (MW x.dA ad v.2.2.2 ++ tl) 36 [(0, .ref (ad 0)), (1, .int l1), (2, .int l2), (3, .int v.1), (4, .int v.2.1), (5, .int v.2.2.1)] []) (hR : ∀ o : Int32 × (Nat → Nat → Int32), K (.inr (.inr (o))) → gRi x 0 0 (MW x.dA ad o.2 ++ tl) o.1) : gG x 9 0 0 (MW x.dA ad σ ++ tl) 170 [(0, .ref (ad 0)), (1, .int l1), (2, .int l2), (3, .int l3), (5, .int l5), (6, .int l6), (7, .int l7)] [.int k1] := by
  unfold f_X7_swap_b170 at hf
  refine g_istore (lv' := [(4, .int k1), (0, .ref (ad 0)), (1, .int l1), (2, .int l2), (3, .int l3), (5, .int l5), (6, .int l6), (7, .int l7)]) hc dX7_swap_170 (by decide) rfl ?_
  refine g_iload hc dX7_swap_172 7 rfl ?_
  refine g_iload_n hc dX7_swap_174 rfl 4 rfl ?_
  refine g_icmp_le (tgt := 183) hc dX7_swap_175 (by decide) (fun h1 => ?_) (fun h1 => ?_)
  · have hf := oT h1 hf
    refine g_iload_n hc dX7_swap_183 rfl 4 rfl ?_
    exact g_lv [1, 2, 3, 0, 5, 6] rfl (w_X7_swap_b184 hc σ l1 l2 k1 l5 l6 l3  (K := K) hf hK hI51 hI36 hR)
  · have hf := oF h1 hf
    refine g_iload hc dX7_swap_178 7 rfl ?_
    refine g_goto (tgt := 184) hc dX7_swap_180 (by decide) ?_
    exact g_lv [1, 2, 3, 0, 5, 6] rfl (w_X7_swap_b184 hc σ l1 l2 k1 l5 l6 l7  (K := K) hf hK hI51 hI36 hR)
def f_X7_swap_b131 (σ : (Nat → Nat → Int32)) (l1 : Int32) (l2 : Int32) (l3 : Int32) (l4 : Int32) (l5 : Int32) (l6 : Int32) (l7 : Int32) (k3 : Int32) (k2 : Int32) : Option ((Int32 × (Nat → Nat → Int32)) ⊕ ((Int32 × Int32 × Int32 × (Nat → Nat → Int32)) ⊕ ((Int32 × Int32 × Int32 × (Nat → Nat → Int32)) ⊕ (Int32 × (Nat → Nat → Int32))))) :=
  oC (inb k2 205) <| oL (upd2 σ 1 k2.toNatClampNeg k3) fun s1 => some (.inl ((l7 + 1), s1))
theorem w_X7_swap_b131 {x : gX} {ad : Nat → Nat} {tl : va_W}  (hc : gOk x RX7 cX7_swap 9 4 102)  (σ : (Nat → Nat → Int32)) (l1 : Int32) (l2 : Int32) (l3 : Int32) (l4 : Int32) (l5 : Int32) (l6 : Int32) (l7 : Int32) (k3 : Int32) (k2 : Int32)  {K : (Int32 × (Nat → Nat → Int32)) ⊕ ((Int32 × Int32 × Int32 × (Nat → Nat → Int32)) ⊕ ((Int32 × Int32 × Int32 × (Nat → Nat → Int32)) ⊕ (Int32 × (Nat → Nat → Int32)))) → Prop} {o : (Int32 × (Nat → Nat → Int32)) ⊕ ((Int32 × Int32 × Int32 × (Nat → Nat → Int32)) ⊕ ((Int32 × Int32 × Int32 × (Nat → Nat → Int32)) ⊕ (Int32 × (Nat → Nat → Int32))))} (hf : f_X7_swap_b131 σ l1 l2 l3 l4 l5 l6 l7 k3 k2 = some o) (hK : K o) (hI71 : ∀ v : Int32 × (Nat → Nat → Int32), K (.inl v) → gG x 9 0 0 (MW x.dA ad v.2 ++ tl) 71 [(0, .ref (ad 0)), (1, .int l1), (2, .int l2), (3, .int l3), (4, .int l4), (5, .int l5), (6, .int l6), (7, .int v.1)] []) (hI51 : ∀ v : Int32 × Int32 × Int32 × (Nat → Nat → Int32), K (.inr (.inl v)) → gG x 9 0 0 (MW x.dA ad v.2.2.2 ++ tl) 51 [(0, .ref (ad 0)), (1, .int l1), (2, .int l2), (3, .int v.1), (4, .int v.2.1), (5, .int l5), (6, .int v.2.2.1)] []) (hI36 : ∀ v : Int32 × Int32 × Int32 × (Nat → Nat → Int32), K (.inr (.inr (.inl v))) → gG x 9 0 0 (MW x.dA ad v.2.2.2 ++ tl) 36 [(0, .ref (ad 0)), (1, .int l1), (2, .int l2), (3, .int v.1), (4, .int v.2.1), (5, .int v.2.2.1)] []) (hR : ∀ o : Int32 × (Nat → Nat → Int32), K (.inr (.inr (.inr (o)))) → gRi x 0 0 (MW x.dA ad o.2 ++ tl) o.1) : gG x 9 0 0 (MW x.dA ad σ ++ tl) 131 [(0, .ref (ad 0)), (1, .int l1), (2, .int l2), (3, .int l3), (4, .int l4), (5, .int l5), (6, .int l6), (7, .int l7)] [.int k3, .int k2, .ref (ad 1)] := by
  unfold f_X7_swap_b131 at hf
  obtain ⟨h3, hf⟩ := oC_some hf
  obtain ⟨s1, e2, hf⟩ := oL_some hf
  refine g_iast (n := 205) (f := σ 1) hc (MW_at (k := 1) (by decide)) h3 (MW_set (μ1 := s1) (k := 1) (by decide) e2 rfl) dX7_swap_131 ?_
  refine g_iinc (v := l7 + 1) (lv' := [(7, .int (l7 + 1)), (0, .ref (ad 0)), (1, .int l1), (2, .int l2), (3, .int l3), (4, .int l4), (5, .int l5), (6, .int l6)]) hc dX7_swap_132 (j := 7) rfl rfl (by decide) rfl ?_
  refine g_goto (tgt := 71) hc dX7_swap_135 (by decide) ?_
  have hz := Option.some.inj hf; subst hz
  exact g_lv [1, 2, 3, 4, 5, 6, 7, 0] rfl (hI71 _ hK)
def f_X7_swap_L71 (σ : (Nat → Nat → Int32)) (l1 : Int32) (l2 : Int32) (l3 : Int32) (l4 : Int32) (l5 : Int32) (l6 : Int32) (l7 : Int32) : Option ((Int32 × (Nat → Nat → Int32)) ⊕ ((Int32 × Int32 × Int32 × (Nat → Nat → Int32)) ⊕ ((Int32 × Int32 × Int32 × (Nat → Nat → Int32)) ⊕ (Int32 × (Nat → Nat → Int32))))) :=
  oC (inb 40 205) <| if (σ 1 (Int32.toNatClampNeg 40)) ≤ l7 then (oI (oB (f_X7_winsOn σ 164 l1) fun r4 => oB (f_X7_bitsOf r4.1) fun r6 => if r6 ≤ l3 then (f_X7_swap_b170 r4.2 l1 l2 l3 l5 l6 r6 l4) else (f_X7_swap_b170 r4.2 l1 l2 l3 l5 l6 r6 ((10 * l5) + l6)))) else (oC (inb (26 + l7) 205) <| if (σ 1 (26 + l7).toNatClampNeg) = l5 then (f_X7_swap_b131 σ l1 l2 l3 l4 l5 l6 l7 l6 (190 + l7)) else (if (σ 1 (26 + l7).toNatClampNeg) = l6 then (f_X7_swap_b131 σ l1 l2 l3 l4 l5 l6 l7 l5 (190 + l7)) else (f_X7_swap_b131 σ l1 l2 l3 l4 l5 l6 l7 (σ 1 (26 + l7).toNatClampNeg) (190 + l7))))
theorem w_X7_swap_L71 {x : gX} {ad : Nat → Nat} {tl : va_W}  (hc : gOk x RX7 cX7_swap 9 4 102)  (σ : (Nat → Nat → Int32)) (l1 : Int32) (l2 : Int32) (l3 : Int32) (l4 : Int32) (l5 : Int32) (l6 : Int32) (l7 : Int32)  {K : (Int32 × (Nat → Nat → Int32)) ⊕ ((Int32 × Int32 × Int32 × (Nat → Nat → Int32)) ⊕ ((Int32 × Int32 × Int32 × (Nat → Nat → Int32)) ⊕ (Int32 × (Nat → Nat → Int32)))) → Prop} {o : (Int32 × (Nat → Nat → Int32)) ⊕ ((Int32 × Int32 × Int32 × (Nat → Nat → Int32)) ⊕ ((Int32 × Int32 × Int32 × (Nat → Nat → Int32)) ⊕ (Int32 × (Nat → Nat → Int32))))} (hf : f_X7_swap_L71 σ l1 l2 l3 l4 l5 l6 l7 = some o) (hK : K o) (hI71 : ∀ v : Int32 × (Nat → Nat → Int32), K (.inl v) → gG x 9 0 0 (MW x.dA ad v.2 ++ tl) 71 [(0, .ref (ad 0)), (1, .int l1), (2, .int l2), (3, .int l3), (4, .int l4), (5, .int l5), (6, .int l6), (7, .int v.1)] []) (hI51 : ∀ v : Int32 × Int32 × Int32 × (Nat → Nat → Int32), K (.inr (.inl v)) → gG x 9 0 0 (MW x.dA ad v.2.2.2 ++ tl) 51 [(0, .ref (ad 0)), (1, .int l1), (2, .int l2), (3, .int v.1), (4, .int v.2.1), (5, .int l5), (6, .int v.2.2.1)] []) (hI36 : ∀ v : Int32 × Int32 × Int32 × (Nat → Nat → Int32), K (.inr (.inr (.inl v))) → gG x 9 0 0 (MW x.dA ad v.2.2.2 ++ tl) 36 [(0, .ref (ad 0)), (1, .int l1), (2, .int l2), (3, .int v.1), (4, .int v.2.1), (5, .int v.2.2.1)] []) (hR : ∀ o : Int32 × (Nat → Nat → Int32), K (.inr (.inr (.inr (o)))) → gRi x 0 0 (MW x.dA ad o.2 ++ tl) o.1) : gG x 9 0 0 (MW x.dA ad σ ++ tl) 71 [(0, .ref (ad 0)), (1, .int l1), (2, .int l2), (3, .int l3), (4, .int l4), (5, .int l5), (6, .int l6), (7, .int l7)] [] := by
  unfold f_X7_swap_L71 at hf
  refine g_iload hc dX7_swap_71 7 rfl ?_
  refine g_aload_n hc dX7_swap_73 rfl 0 rfl ?_
  refine g_get (v := .ref (ad 1)) hc in_X7 (MW_at (k := 0) (by decide)) rfl 0 (by decide) q961 rfl dX7_swap_74 ?_
  refine g_bipush (v := 40) hc dX7_swap_77 (by decide) ?_
  obtain ⟨h1, hf⟩ := oC_some hf
  refine g_iald (n := 205) (f := σ 1) hc (MW_at (k := 1) (by decide)) h1 dX7_swap_79 ?_
  refine g_icmp_ge (tgt := 138) hc dX7_swap_80 (by decide) (fun h2 => ?_) (fun h2 => ?_)
  · have hf := oT h2 hf
    obtain ⟨o8, hgo8, eo8⟩ := oI_some hf
    clear hf; subst eo8; have hf := hgo8; clear hgo8
    refine g_aload_n hc dX7_swap_138 rfl 0 rfl ?_
    refine g_sipush (v := 164) hc dX7_swap_139 (by decide) ?_
    refine g_iload_n hc dX7_swap_142 rfl 1 rfl ?_
    obtain ⟨r4, h3, hf⟩ := oB_some hf
    refine g_callVi hc [.int 164, .int l1] [] (c_X7_winsOn  h3) (MW_at (k := 0) (by decide)) rfl (lw_V q1137 q1139 qs45 q67 q1140) rfl hd_X7_winsOn rfl rfl (Nat.le_of_ble_eq_true rfl) gZ dX7_swap_143 ?_
    obtain ⟨r6, h5, hf⟩ := oB_some hf
    refine g_callSi hc [.int r4.1] [] (c_X7_bitsOf  h5) (lw_S q1271 q1272 q67 q1273) rfl hd_X7_bitsOf rfl rfl (Nat.le_of_ble_eq_true rfl) gZ dX7_swap_146 ?_
    refine g_istore (lv' := [(7, .int r6), (0, .ref (ad 0)), (1, .int l1), (2, .int l2), (3, .int l3), (4, .int l4), (5, .int l5), (6, .int l6)]) hc dX7_swap_149 (by decide) rfl ?_
    refine g_iload hc dX7_swap_151 0 rfl ?_
    refine g_iload_n hc dX7_swap_153 rfl 4 rfl ?_
    refine g_icmp_le (tgt := 168) hc dX7_swap_154 (by decide) (fun h7 => ?_) (fun h7 => ?_)
    · have hf := oT h7 hf
      refine g_iload hc dX7_swap_168 5 rfl ?_
      exact g_lv [1, 2, 3, 4, 6, 7, 0] rfl (w_X7_swap_b170 hc r4.2 l1 l2 l3 l5 l6 r6 l4  (K := (fun o1 => K (.inr o1))) hf hK hI51 hI36 hR)
    · have hf := oF h7 hf
      refine g_bipush (v := 10) hc dX7_swap_157 (by decide) ?_
      refine g_iload hc dX7_swap_159 6 rfl ?_
      refine g_imul hc dX7_swap_161 ?_
      refine g_iload hc dX7_swap_162 7 rfl ?_
      refine g_iadd hc dX7_swap_164 ?_
      refine g_goto (tgt := 170) hc dX7_swap_165 (by decide) ?_
      exact g_lv [1, 2, 3, 4, 6, 7, 0] rfl (w_X7_swap_b170 hc r4.2 l1 l2 l3 l5 l6 r6 ((10 * l5) + l6)  (K := (fun o1 => K (.inr o1))) hf hK hI51 hI36 hR)
  · have hf := oF h2 hf
    refine g_aload_n hc dX7_swap_83 rfl 0 rfl ?_
    refine g_get (v := .ref (ad 1)) hc in_X7 (MW_at (k := 0) (by decide)) rfl 0 (by decide) q961 rfl dX7_swap_84 ?_
    refine g_bipush (v := 26) hc dX7_swap_87 (by decide) ?_
    refine g_iload hc dX7_swap_89 7 rfl ?_
    refine g_iadd hc dX7_swap_91 ?_
    obtain ⟨h9, hf⟩ := oC_some hf
    refine g_iald (n := 205) (f := σ 1) hc (MW_at (k := 1) (by decide)) h9 dX7_swap_92 ?_
    refine g_istore (lv' := [(8, .int (σ 1 (26 + l7).toNatClampNeg)), (0, .ref (ad 0)), (1, .int l1), (2, .int l2), (3, .int l3), (4, .int l4), (5, .int l5), (6, .int l6), (7, .int l7)]) hc dX7_swap_93 (by decide) rfl ?_
    refine g_aload_n hc dX7_swap_95 rfl 1 rfl ?_
    refine g_get (v := .ref (ad 1)) hc in_X7 (MW_at (k := 0) (by decide)) rfl 0 (by decide) q961 rfl dX7_swap_96 ?_
    refine g_sipush (v := 190) hc dX7_swap_99 (by decide) ?_
    refine g_iload hc dX7_swap_102 8 rfl ?_
    refine g_iadd hc dX7_swap_104 ?_
    refine g_iload hc dX7_swap_105 0 rfl ?_
    refine g_iload hc dX7_swap_107 6 rfl ?_
    refine g_icmp_ne (tgt := 117) hc dX7_swap_109 (by decide) (fun h10 => ?_) (fun h10 => ?_)
    · have hf := oF h10 hf
      refine g_iload hc dX7_swap_117 0 rfl ?_
      refine g_iload hc dX7_swap_119 7 rfl ?_
      refine g_icmp_ne (tgt := 129) hc dX7_swap_121 (by decide) (fun h11 => ?_) (fun h11 => ?_)
      · have hf := oF h11 hf
        refine g_iload hc dX7_swap_129 0 rfl ?_
        exact g_lv [1, 2, 3, 4, 5, 6, 7, 8] rfl (w_X7_swap_b131 hc σ l1 l2 l3 l4 l5 l6 l7 (σ 1 (26 + l7).toNatClampNeg) (190 + l7)  (K := K) hf hK hI71 hI51 hI36 hR)
      · have hf := oT h11 hf
        refine g_iload hc dX7_swap_124 6 rfl ?_
        refine g_goto (tgt := 131) hc dX7_swap_126 (by decide) ?_
        exact g_lv [1, 2, 3, 4, 5, 6, 7, 8] rfl (w_X7_swap_b131 hc σ l1 l2 l3 l4 l5 l6 l7 l5 (190 + l7)  (K := K) hf hK hI71 hI51 hI36 hR)
    · have hf := oT h10 hf
      refine g_iload hc dX7_swap_112 7 rfl ?_
      refine g_goto (tgt := 131) hc dX7_swap_114 (by decide) ?_
      exact g_lv [1, 2, 3, 4, 5, 6, 7, 8] rfl (w_X7_swap_b131 hc σ l1 l2 l3 l4 l5 l6 l7 l6 (190 + l7)  (K := K) hf hK hI71 hI51 hI36 hR)
def f_X7_swap_b71 (σ : (Nat → Nat → Int32)) (l1 : Int32) (l2 : Int32) (l3 : Int32) (l4 : Int32) (l5 : Int32) (l6 : Int32) (l7 : Int32) : Option ((Int32 × Int32 × Int32 × (Nat → Nat → Int32)) ⊕ ((Int32 × Int32 × Int32 × (Nat → Nat → Int32)) ⊕ (Int32 × (Nat → Nat → Int32)))) :=
  oLoop gFU (fun v : Int32 × (Nat → Nat → Int32) => f_X7_swap_L71 v.2 l1 l2 l3 l4 l5 l6 v.1) (l7, σ)
theorem w_X7_swap_b71 {x : gX} {ad : Nat → Nat} {tl : va_W}  (hc : gOk x RX7 cX7_swap 9 4 102)  (σ : (Nat → Nat → Int32)) (l1 : Int32) (l2 : Int32) (l3 : Int32) (l4 : Int32) (l5 : Int32) (l6 : Int32) (l7 : Int32)  {K : (Int32 × Int32 × Int32 × (Nat → Nat → Int32)) ⊕ ((Int32 × Int32 × Int32 × (Nat → Nat → Int32)) ⊕ (Int32 × (Nat → Nat → Int32))) → Prop} {o : (Int32 × Int32 × Int32 × (Nat → Nat → Int32)) ⊕ ((Int32 × Int32 × Int32 × (Nat → Nat → Int32)) ⊕ (Int32 × (Nat → Nat → Int32)))} (hf : f_X7_swap_b71 σ l1 l2 l3 l4 l5 l6 l7 = some o) (hK : K o) (hI51 : ∀ v : Int32 × Int32 × Int32 × (Nat → Nat → Int32), K (.inl v) → gG x 9 0 0 (MW x.dA ad v.2.2.2 ++ tl) 51 [(0, .ref (ad 0)), (1, .int l1), (2, .int l2), (3, .int v.1), (4, .int v.2.1), (5, .int l5), (6, .int v.2.2.1)] []) (hI36 : ∀ v : Int32 × Int32 × Int32 × (Nat → Nat → Int32), K (.inr (.inl v)) → gG x 9 0 0 (MW x.dA ad v.2.2.2 ++ tl) 36 [(0, .ref (ad 0)), (1, .int l1), (2, .int l2), (3, .int v.1), (4, .int v.2.1), (5, .int v.2.2.1)] []) (hR : ∀ o : Int32 × (Nat → Nat → Int32), K (.inr (.inr (o))) → gRi x 0 0 (MW x.dA ad o.2 ++ tl) o.1) : gG x 9 0 0 (MW x.dA ad σ ++ tl) 71 [(0, .ref (ad 0)), (1, .int l1), (2, .int l2), (3, .int l3), (4, .int l4), (5, .int l5), (6, .int l6), (7, .int l7)] [] :=
  oLoop_ind (fun v : Int32 × (Nat → Nat → Int32) => gG x 9 0 0 (MW x.dA ad v.2 ++ tl) 71 [(0, .ref (ad 0)), (1, .int l1), (2, .int l2), (3, .int l3), (4, .int l4), (5, .int l5), (6, .int l6), (7, .int v.1)] []) K (fun v o1 hf1 hK1 => w_X7_swap_L71 hc v.2 l1 l2 l3 l4 l5 l6 v.1  (K := Sum.elim (fun v : Int32 × (Nat → Nat → Int32) => gG x 9 0 0 (MW x.dA ad v.2 ++ tl) 71 [(0, .ref (ad 0)), (1, .int l1), (2, .int l2), (3, .int l3), (4, .int l4), (5, .int l5), (6, .int l6), (7, .int v.1)] []) K) hf1 hK1 (fun v hv => hv) hI51 hI36 hR) gFU _ o hf hK
def f_X7_swap_L51 (σ : (Nat → Nat → Int32)) (l1 : Int32) (l2 : Int32) (l3 : Int32) (l4 : Int32) (l5 : Int32) (l6 : Int32) : Option ((Int32 × Int32 × Int32 × (Nat → Nat → Int32)) ⊕ ((Int32 × Int32 × Int32 × (Nat → Nat → Int32)) ⊕ (Int32 × (Nat → Nat → Int32)))) :=
  if (σ 0 1) ≤ l6 then (oI (some (.inl (l3, l4, (l5 + 1), σ)))) else (oB (f_X7_copies σ 0 164) fun r4 => f_X7_swap_b71 r4 l1 l2 l3 l4 l5 l6 0)
theorem w_X7_swap_L51 {x : gX} {ad : Nat → Nat} {tl : va_W}  (hc : gOk x RX7 cX7_swap 9 4 102)  (σ : (Nat → Nat → Int32)) (l1 : Int32) (l2 : Int32) (l3 : Int32) (l4 : Int32) (l5 : Int32) (l6 : Int32)  {K : (Int32 × Int32 × Int32 × (Nat → Nat → Int32)) ⊕ ((Int32 × Int32 × Int32 × (Nat → Nat → Int32)) ⊕ (Int32 × (Nat → Nat → Int32))) → Prop} {o : (Int32 × Int32 × Int32 × (Nat → Nat → Int32)) ⊕ ((Int32 × Int32 × Int32 × (Nat → Nat → Int32)) ⊕ (Int32 × (Nat → Nat → Int32)))} (hf : f_X7_swap_L51 σ l1 l2 l3 l4 l5 l6 = some o) (hK : K o) (hI51 : ∀ v : Int32 × Int32 × Int32 × (Nat → Nat → Int32), K (.inl v) → gG x 9 0 0 (MW x.dA ad v.2.2.2 ++ tl) 51 [(0, .ref (ad 0)), (1, .int l1), (2, .int l2), (3, .int v.1), (4, .int v.2.1), (5, .int l5), (6, .int v.2.2.1)] []) (hI36 : ∀ v : Int32 × Int32 × Int32 × (Nat → Nat → Int32), K (.inr (.inl v)) → gG x 9 0 0 (MW x.dA ad v.2.2.2 ++ tl) 36 [(0, .ref (ad 0)), (1, .int l1), (2, .int l2), (3, .int v.1), (4, .int v.2.1), (5, .int v.2.2.1)] []) (hR : ∀ o : Int32 × (Nat → Nat → Int32), K (.inr (.inr (o))) → gRi x 0 0 (MW x.dA ad o.2 ++ tl) o.1) : gG x 9 0 0 (MW x.dA ad σ ++ tl) 51 [(0, .ref (ad 0)), (1, .int l1), (2, .int l2), (3, .int l3), (4, .int l4), (5, .int l5), (6, .int l6)] [] := by
  unfold f_X7_swap_L51 at hf
  refine g_iload hc dX7_swap_51 6 rfl ?_
  refine g_aload_n hc dX7_swap_53 rfl 0 rfl ?_
  refine g_get (v := .int (σ 0 1)) hc in_X7 (MW_at (k := 0) (by decide)) rfl 1 (by decide) q962 rfl dX7_swap_54 ?_
  refine g_icmp_ge (tgt := 191) hc dX7_swap_57 (by decide) (fun h1 => ?_) (fun h1 => ?_)
  · have hf := oT h1 hf
    obtain ⟨o2, hgo2, eo2⟩ := oI_some hf
    clear hf; subst eo2; have hf := hgo2; clear hgo2
    refine g_iinc (v := l5 + 1) (lv' := [(5, .int (l5 + 1)), (0, .ref (ad 0)), (1, .int l1), (2, .int l2), (3, .int l3), (4, .int l4), (6, .int l6)]) hc dX7_swap_191 (j := 5) rfl rfl (by decide) rfl ?_
    refine g_goto (tgt := 36) hc dX7_swap_194 (by decide) ?_
    have hz := Option.some.inj hf; subst hz
    exact g_lv [1, 2, 3, 4, 5, 0] rfl (hI36 _ hK)
  · have hf := oF h1 hf
    refine g_aload_n hc dX7_swap_60 rfl 0 rfl ?_
    refine g_iconst (v := 0) hc dX7_swap_61 (by decide) ?_
    refine g_sipush (v := 164) hc dX7_swap_62 (by decide) ?_
    obtain ⟨r4, h3, hf⟩ := oB_some hf
    refine g_callVv hc [.int 0, .int 164] [] (c_X7_copies  h3) (MW_at (k := 0) (by decide)) rfl (lw_V q1263 q1265 qs55 q67 q1266) rfl hd_X7_copies rfl rfl (Nat.le_of_ble_eq_true rfl) gZ dX7_swap_65 ?_
    refine g_iconst (v := 0) hc dX7_swap_68 (by decide) ?_
    refine g_istore (lv' := [(7, .int 0), (0, .ref (ad 0)), (1, .int l1), (2, .int l2), (3, .int l3), (4, .int l4), (5, .int l5), (6, .int l6)]) hc dX7_swap_69 (by decide) rfl ?_
    exact g_lv [1, 2, 3, 4, 5, 6, 7, 0] rfl (w_X7_swap_b71 hc r4 l1 l2 l3 l4 l5 l6 0  (K := K) hf hK hI51 hI36 hR)
def f_X7_swap_b51 (σ : (Nat → Nat → Int32)) (l1 : Int32) (l2 : Int32) (l3 : Int32) (l4 : Int32) (l5 : Int32) (l6 : Int32) : Option ((Int32 × Int32 × Int32 × (Nat → Nat → Int32)) ⊕ (Int32 × (Nat → Nat → Int32))) :=
  oLoop gFU (fun v : Int32 × Int32 × Int32 × (Nat → Nat → Int32) => f_X7_swap_L51 v.2.2.2 l1 l2 v.1 v.2.1 l5 v.2.2.1) (l3, l4, l6, σ)
theorem w_X7_swap_b51 {x : gX} {ad : Nat → Nat} {tl : va_W}  (hc : gOk x RX7 cX7_swap 9 4 102)  (σ : (Nat → Nat → Int32)) (l1 : Int32) (l2 : Int32) (l3 : Int32) (l4 : Int32) (l5 : Int32) (l6 : Int32)  {K : (Int32 × Int32 × Int32 × (Nat → Nat → Int32)) ⊕ (Int32 × (Nat → Nat → Int32)) → Prop} {o : (Int32 × Int32 × Int32 × (Nat → Nat → Int32)) ⊕ (Int32 × (Nat → Nat → Int32))} (hf : f_X7_swap_b51 σ l1 l2 l3 l4 l5 l6 = some o) (hK : K o) (hI36 : ∀ v : Int32 × Int32 × Int32 × (Nat → Nat → Int32), K (.inl v) → gG x 9 0 0 (MW x.dA ad v.2.2.2 ++ tl) 36 [(0, .ref (ad 0)), (1, .int l1), (2, .int l2), (3, .int v.1), (4, .int v.2.1), (5, .int v.2.2.1)] []) (hR : ∀ o : Int32 × (Nat → Nat → Int32), K (.inr (o)) → gRi x 0 0 (MW x.dA ad o.2 ++ tl) o.1) : gG x 9 0 0 (MW x.dA ad σ ++ tl) 51 [(0, .ref (ad 0)), (1, .int l1), (2, .int l2), (3, .int l3), (4, .int l4), (5, .int l5), (6, .int l6)] [] :=
  oLoop_ind (fun v : Int32 × Int32 × Int32 × (Nat → Nat → Int32) => gG x 9 0 0 (MW x.dA ad v.2.2.2 ++ tl) 51 [(0, .ref (ad 0)), (1, .int l1), (2, .int l2), (3, .int v.1), (4, .int v.2.1), (5, .int l5), (6, .int v.2.2.1)] []) K (fun v o1 hf1 hK1 => w_X7_swap_L51 hc v.2.2.2 l1 l2 v.1 v.2.1 l5 v.2.2.1  (K := Sum.elim (fun v : Int32 × Int32 × Int32 × (Nat → Nat → Int32) => gG x 9 0 0 (MW x.dA ad v.2.2.2 ++ tl) 51 [(0, .ref (ad 0)), (1, .int l1), (2, .int l2), (3, .int v.1), (4, .int v.2.1), (5, .int l5), (6, .int v.2.2.1)] []) K) hf1 hK1 (fun v hv => hv) hI36 hR) gFU _ o hf hK
def f_X7_swap_L36 (σ : (Nat → Nat → Int32)) (l1 : Int32) (l2 : Int32) (l3 : Int32) (l4 : Int32) (l5 : Int32) : Option ((Int32 × Int32 × Int32 × (Nat → Nat → Int32)) ⊕ (Int32 × (Nat → Nat → Int32))) :=
  if (σ 0 1) ≤ l5 then (oI (if l4 = (-4) then (some (l4, σ)) else (if l2 = 0 then (some (l4, σ)) else (some (l3, σ))))) else (f_X7_swap_b51 σ l1 l2 l3 l4 l5 (l5 + 1))
theorem w_X7_swap_L36 {x : gX} {ad : Nat → Nat} {tl : va_W}  (hc : gOk x RX7 cX7_swap 9 4 102)  (σ : (Nat → Nat → Int32)) (l1 : Int32) (l2 : Int32) (l3 : Int32) (l4 : Int32) (l5 : Int32)  {K : (Int32 × Int32 × Int32 × (Nat → Nat → Int32)) ⊕ (Int32 × (Nat → Nat → Int32)) → Prop} {o : (Int32 × Int32 × Int32 × (Nat → Nat → Int32)) ⊕ (Int32 × (Nat → Nat → Int32))} (hf : f_X7_swap_L36 σ l1 l2 l3 l4 l5 = some o) (hK : K o) (hI36 : ∀ v : Int32 × Int32 × Int32 × (Nat → Nat → Int32), K (.inl v) → gG x 9 0 0 (MW x.dA ad v.2.2.2 ++ tl) 36 [(0, .ref (ad 0)), (1, .int l1), (2, .int l2), (3, .int v.1), (4, .int v.2.1), (5, .int v.2.2.1)] []) (hR : ∀ o : Int32 × (Nat → Nat → Int32), K (.inr (o)) → gRi x 0 0 (MW x.dA ad o.2 ++ tl) o.1) : gG x 9 0 0 (MW x.dA ad σ ++ tl) 36 [(0, .ref (ad 0)), (1, .int l1), (2, .int l2), (3, .int l3), (4, .int l4), (5, .int l5)] [] := by
  unfold f_X7_swap_L36 at hf
  refine g_iload hc dX7_swap_36 5 rfl ?_
  refine g_aload_n hc dX7_swap_38 rfl 0 rfl ?_
  refine g_get (v := .int (σ 0 1)) hc in_X7 (MW_at (k := 0) (by decide)) rfl 1 (by decide) q962 rfl dX7_swap_39 ?_
  refine g_icmp_ge (tgt := 197) hc dX7_swap_42 (by decide) (fun h1 => ?_) (fun h1 => ?_)
  · have hf := oT h1 hf
    obtain ⟨o4, hgo4, eo4⟩ := oI_some hf
    clear hf; subst eo4; have hf := hgo4; clear hgo4
    refine g_iload hc dX7_swap_197 4 rfl ?_
    refine g_bipush (v := (-4)) hc dX7_swap_199 (by decide) ?_
    refine g_icmp_eq (tgt := 208) hc dX7_swap_201 (by decide) (fun h2 => ?_) (fun h2 => ?_)
    · have hf := oT h2 hf
      refine g_iload hc dX7_swap_208 4 rfl ?_
      refine g_goto (tgt := 214) hc dX7_swap_210 (by decide) ?_
      have hz := Option.some.inj hf; subst hz
      exact g_iret hc (hR _ hK) dX7_swap_214
    · have hf := oF h2 hf
      refine g_iload_n hc dX7_swap_204 rfl 2 rfl ?_
      refine g_if_ne (tgt := 213) hc dX7_swap_205 (by decide) (fun h3 => ?_) (fun h3 => ?_)
      · have hf := oF h3 hf
        refine g_iload_n hc dX7_swap_213 rfl 3 rfl ?_
        have hz := Option.some.inj hf; subst hz
        exact g_iret hc (hR _ hK) dX7_swap_214
      · have hf := oT h3 hf
        refine g_iload hc dX7_swap_208 4 rfl ?_
        refine g_goto (tgt := 214) hc dX7_swap_210 (by decide) ?_
        have hz := Option.some.inj hf; subst hz
        exact g_iret hc (hR _ hK) dX7_swap_214
  · have hf := oF h1 hf
    refine g_iload hc dX7_swap_45 5 rfl ?_
    refine g_iconst (v := 1) hc dX7_swap_47 (by decide) ?_
    refine g_iadd hc dX7_swap_48 ?_
    refine g_istore (lv' := [(6, .int (l5 + 1)), (0, .ref (ad 0)), (1, .int l1), (2, .int l2), (3, .int l3), (4, .int l4), (5, .int l5)]) hc dX7_swap_49 (by decide) rfl ?_
    exact g_lv [1, 2, 3, 4, 5, 6, 0] rfl (w_X7_swap_b51 hc σ l1 l2 l3 l4 l5 (l5 + 1)  (K := K) hf hK hI36 hR)
def f_X7_swap_b36 (σ : (Nat → Nat → Int32)) (l1 : Int32) (l2 : Int32) (l3 : Int32) (l4 : Int32) (l5 : Int32) : Option (Int32 × (Nat → Nat → Int32)) :=
  oLoop gFU (fun v : Int32 × Int32 × Int32 × (Nat → Nat → Int32) => f_X7_swap_L36 v.2.2.2 l1 l2 v.1 v.2.1 v.2.2.1) (l3, l4, l5, σ)
theorem w_X7_swap_b36 {x : gX} {ad : Nat → Nat} {tl : va_W}  (hc : gOk x RX7 cX7_swap 9 4 102)  (σ : (Nat → Nat → Int32)) (l1 : Int32) (l2 : Int32) (l3 : Int32) (l4 : Int32) (l5 : Int32)  {K : Int32 × (Nat → Nat → Int32) → Prop} {o : Int32 × (Nat → Nat → Int32)} (hf : f_X7_swap_b36 σ l1 l2 l3 l4 l5 = some o) (hK : K o) (hR : ∀ o : Int32 × (Nat → Nat → Int32), K o → gRi x 0 0 (MW x.dA ad o.2 ++ tl) o.1) : gG x 9 0 0 (MW x.dA ad σ ++ tl) 36 [(0, .ref (ad 0)), (1, .int l1), (2, .int l2), (3, .int l3), (4, .int l4), (5, .int l5)] [] :=
  oLoop_ind (fun v : Int32 × Int32 × Int32 × (Nat → Nat → Int32) => gG x 9 0 0 (MW x.dA ad v.2.2.2 ++ tl) 36 [(0, .ref (ad 0)), (1, .int l1), (2, .int l2), (3, .int v.1), (4, .int v.2.1), (5, .int v.2.2.1)] []) K (fun v o1 hf1 hK1 => w_X7_swap_L36 hc v.2.2.2 l1 l2 v.1 v.2.1 v.2.2.1  (K := Sum.elim (fun v : Int32 × Int32 × Int32 × (Nat → Nat → Int32) => gG x 9 0 0 (MW x.dA ad v.2.2.2 ++ tl) 36 [(0, .ref (ad 0)), (1, .int l1), (2, .int l2), (3, .int v.1), (4, .int v.2.1), (5, .int v.2.2.1)] []) K) hf1 hK1 (fun v hv => hv) hR) gFU _ o hf hK
def f_X7_swap (σ : (Nat → Nat → Int32)) (l1 : Int32) (l2 : Int32) : Option (Int32 × (Nat → Nat → Int32)) :=
  oB (f_X7_isRag l1) fun r2 => if r2 = 0 then (some ((-1), σ)) else (oB (f_X7_in (Int32.toInt64 l2) 0 1) fun r5 => if r5 = 0 then (some ((-1), σ)) else (oB (f_X7_winsOn σ 0 l1) fun r8 => oB (f_X7_bitsOf r8.1) fun r10 => f_X7_swap_b36 r8.2 l1 l2 r10 (-4) 0))
theorem w_X7_swap {x : gX} {ad : Nat → Nat} {tl : va_W}  (hc : gOk x RX7 cX7_swap 9 4 102)  (σ : (Nat → Nat → Int32)) (l1 : Int32) (l2 : Int32)  {K : Int32 × (Nat → Nat → Int32) → Prop} {o : Int32 × (Nat → Nat → Int32)} (hf : f_X7_swap σ l1 l2 = some o) (hK : K o) (hR : ∀ o : Int32 × (Nat → Nat → Int32), K o → gRi x 0 0 (MW x.dA ad o.2 ++ tl) o.1) : gG x 9 0 0 (MW x.dA ad σ ++ tl) 0 [(0, .ref (ad 0)), (1, .int l1), (2, .int l2)] [] := by
  unfold f_X7_swap at hf
  refine g_iload_n hc dX7_swap_0 rfl 1 rfl ?_
  obtain ⟨r2, h1, hf⟩ := oB_some hf
  refine g_callSi hc [.int l1] [] (c_X7_isRag  h1) (lw_S q1194 q1195 q67 q1196) rfl hd_X7_isRag rfl rfl (Nat.le_of_ble_eq_true rfl) gZ dX7_swap_1 ?_
  refine g_if_eq (tgt := 17) hc dX7_swap_4 (by decide) (fun h3 => ?_) (fun h3 => ?_)
  · have hf := oT h3 hf
    refine g_iconst (v := (-1)) hc dX7_swap_17 (by decide) ?_
    have hz := Option.some.inj hf; subst hz
    exact g_iret hc (hR _ hK) dX7_swap_18
  · have hf := oF h3 hf
    refine g_iload_n hc dX7_swap_7 rfl 2 rfl ?_
    refine g_i2l hc dX7_swap_8 ?_
    refine g_lconst (v := 0) hc dX7_swap_9 (by decide) ?_
    refine g_lconst (v := 1) hc dX7_swap_10 (by decide) ?_
    obtain ⟨r5, h4, hf⟩ := oB_some hf
    refine g_callSi hc [.long (Int32.toInt64 l2), .long 0, .long 1] [] (c_X7_in  h4) (lw_S q1055 q1056 q67 q1057) rfl hd_X7_in rfl rfl (Nat.le_of_ble_eq_true rfl) gZ dX7_swap_11 ?_
    refine g_if_ne (tgt := 19) hc dX7_swap_14 (by decide) (fun h6 => ?_) (fun h6 => ?_)
    · have hf := oF h6 hf
      refine g_aload_n hc dX7_swap_19 rfl 0 rfl ?_
      refine g_iconst (v := 0) hc dX7_swap_20 (by decide) ?_
      refine g_iload_n hc dX7_swap_21 rfl 1 rfl ?_
      obtain ⟨r8, h7, hf⟩ := oB_some hf
      refine g_callVi hc [.int 0, .int l1] [] (c_X7_winsOn  h7) (MW_at (k := 0) (by decide)) rfl (lw_V q1137 q1139 qs45 q67 q1140) rfl hd_X7_winsOn rfl rfl (Nat.le_of_ble_eq_true rfl) gZ dX7_swap_22 ?_
      obtain ⟨r10, h9, hf⟩ := oB_some hf
      refine g_callSi hc [.int r8.1] [] (c_X7_bitsOf  h9) (lw_S q1271 q1272 q67 q1273) rfl hd_X7_bitsOf rfl rfl (Nat.le_of_ble_eq_true rfl) gZ dX7_swap_25 ?_
      refine g_istore_n (lv' := [(3, .int r10), (0, .ref (ad 0)), (1, .int l1), (2, .int l2)]) hc dX7_swap_28 rfl (by decide) rfl ?_
      refine g_bipush (v := (-4)) hc dX7_swap_29 (by decide) ?_
      refine g_istore (lv' := [(4, .int (-4)), (3, .int r10), (0, .ref (ad 0)), (1, .int l1), (2, .int l2)]) hc dX7_swap_31 (by decide) rfl ?_
      refine g_iconst (v := 0) hc dX7_swap_33 (by decide) ?_
      refine g_istore (lv' := [(5, .int 0), (4, .int (-4)), (3, .int r10), (0, .ref (ad 0)), (1, .int l1), (2, .int l2)]) hc dX7_swap_34 (by decide) rfl ?_
      exact g_lv [3, 4, 5, 2, 1, 0] rfl (w_X7_swap_b36 hc r8.2 l1 l2 r10 (-4) 0  (K := K) hf hK hR)
    · have hf := oT h6 hf
      refine g_iconst (v := (-1)) hc dX7_swap_17 (by decide) ?_
      have hz := Option.some.inj hf; subst hz
      exact g_iret hc (hR _ hK) dX7_swap_18
theorem c_X7_swap {l : Launch} {D : va_G} {dA : Nat → ClassId} {ad : Nat → Nat} {tl : va_W}  {σ : (Nat → Nat → Int32)} {l1 : Int32} {l2 : Int32}  {o : Int32 × (Nat → Nat → Int32)} (hf : f_X7_swap σ l1 l2 = some o) : gI l D dA (MW dA ad σ ++ tl) (MW dA ad o.2 ++ tl) [.ref (ad 0), .int l1, .int l2] o.1 yX7_swap (ws_ yX7_swap cX7_swap 9 (some .int)) ({ frames := 4, cells := 0, slots := 0, locals := 102 } : Room) :=
  g_startI (own := RX7) ⟨rfl, rfl⟩ (by decide) rfl (Nat.le_of_ble_eq_true rfl) (fun x e hc hR => by
    subst e
    exact w_X7_swap hc σ l1 l2  (K := fun o1 => o1 = o) hf rfl (by rintro _ rfl; exact hR))
theorem hd_X7_swap : yX7_swap.cls = RX7 ∧ yX7_swap.cls ≠ "java/lang/invoke/MethodHandle" ∧ yX7_swap.cls ≠ "java/lang/invoke/VarHandle" ∧ (parseMethodDescriptor yX7_swap.desc).map (fun d => d.parameters.length) = some 2 := by decide +kernel
/-! HedgehogLotsModel.pull(II)I -/
def f_X7_pull_b175 (σ : (Nat → Nat → Int32)) (l1 : Int32) (l2 : Int32) (l4 : Int32) (l5 : Int32) (k1 : Int32) : Option ((Int32 × Int32 × Int32 × (Nat → Nat → Int32)) ⊕ (Int32 × (Nat → Nat → Int32))) :=
  some (.inl (k1, l4, (l5 + 1), σ))
theorem w_X7_pull_b175 {x : gX} {ad : Nat → Nat} {tl : va_W}  (hc : gOk x RX7 cX7_pull 7 4 102)  (σ : (Nat → Nat → Int32)) (l1 : Int32) (l2 : Int32) (l4 : Int32) (l5 : Int32) (k1 : Int32)  {K : (Int32 × Int32 × Int32 × (Nat → Nat → Int32)) ⊕ (Int32 × (Nat → Nat → Int32)) → Prop} {o : (Int32 × Int32 × Int32 × (Nat → Nat → Int32)) ⊕ (Int32 × (Nat → Nat → Int32))} (hf : f_X7_pull_b175 σ l1 l2 l4 l5 k1 = some o) (hK : K o) (hI36 : ∀ v : Int32 × Int32 × Int32 × (Nat → Nat → Int32), K (.inl v) → gG x 7 0 0 (MW x.dA ad v.2.2.2 ++ tl) 36 [(0, .ref (ad 0)), (1, .int l1), (2, .int l2), (3, .int v.1), (4, .int v.2.1), (5, .int v.2.2.1)] []) (hR : ∀ o : Int32 × (Nat → Nat → Int32), K (.inr (o)) → gRi x 0 0 (MW x.dA ad o.2 ++ tl) o.1) : gG x 7 0 0 (MW x.dA ad σ ++ tl) 175 [(0, .ref (ad 0)), (1, .int l1), (2, .int l2), (4, .int l4), (5, .int l5)] [.int k1] := by
  unfold f_X7_pull_b175 at hf
  refine g_istore_n (lv' := [(3, .int k1), (0, .ref (ad 0)), (1, .int l1), (2, .int l2), (4, .int l4), (5, .int l5)]) hc dX7_pull_175 rfl (by decide) rfl ?_
  refine g_iinc (v := l5 + 1) (lv' := [(5, .int (l5 + 1)), (3, .int k1), (0, .ref (ad 0)), (1, .int l1), (2, .int l2), (4, .int l4)]) hc dX7_pull_176 (j := 5) rfl rfl (by decide) rfl ?_
  refine g_goto (tgt := 36) hc dX7_pull_179 (by decide) ?_
  have hz := Option.some.inj hf; subst hz
  exact g_lv [2, 3, 4, 1, 5, 0] rfl (hI36 _ hK)
def f_X7_pull_b161 (σ : (Nat → Nat → Int32)) (l1 : Int32) (l2 : Int32) (l3 : Int32) (l5 : Int32) (l6 : Int32) (k1 : Int32) : Option ((Int32 × Int32 × Int32 × (Nat → Nat → Int32)) ⊕ (Int32 × (Nat → Nat → Int32))) :=
  if l6 ≤ l3 then (f_X7_pull_b175 σ l1 l2 k1 l5 l3) else (f_X7_pull_b175 σ l1 l2 k1 l5 l6)
theorem w_X7_pull_b161 {x : gX} {ad : Nat → Nat} {tl : va_W}  (hc : gOk x RX7 cX7_pull 7 4 102)  (σ : (Nat → Nat → Int32)) (l1 : Int32) (l2 : Int32) (l3 : Int32) (l5 : Int32) (l6 : Int32) (k1 : Int32)  {K : (Int32 × Int32 × Int32 × (Nat → Nat → Int32)) ⊕ (Int32 × (Nat → Nat → Int32)) → Prop} {o : (Int32 × Int32 × Int32 × (Nat → Nat → Int32)) ⊕ (Int32 × (Nat → Nat → Int32))} (hf : f_X7_pull_b161 σ l1 l2 l3 l5 l6 k1 = some o) (hK : K o) (hI36 : ∀ v : Int32 × Int32 × Int32 × (Nat → Nat → Int32), K (.inl v) → gG x 7 0 0 (MW x.dA ad v.2.2.2 ++ tl) 36 [(0, .ref (ad 0)), (1, .int l1), (2, .int l2), (3, .int v.1), (4, .int v.2.1), (5, .int v.2.2.1)] []) (hR : ∀ o : Int32 × (Nat → Nat → Int32), K (.inr (o)) → gRi x 0 0 (MW x.dA ad o.2 ++ tl) o.1) : gG x 7 0 0 (MW x.dA ad σ ++ tl) 161 [(0, .ref (ad 0)), (1, .int l1), (2, .int l2), (3, .int l3), (5, .int l5), (6, .int l6)] [.int k1] := by
  unfold f_X7_pull_b161 at hf
  refine g_istore (lv' := [(4, .int k1), (0, .ref (ad 0)), (1, .int l1), (2, .int l2), (3, .int l3), (5, .int l5), (6, .int l6)]) hc dX7_pull_161 (by decide) rfl ?_
  refine g_iload hc dX7_pull_163 6 rfl ?_
  refine g_iload_n hc dX7_pull_165 rfl 4 rfl ?_
  refine g_icmp_le (tgt := 174) hc dX7_pull_166 (by decide) (fun h1 => ?_) (fun h1 => ?_)
  · have hf := oT h1 hf
    refine g_iload_n hc dX7_pull_174 rfl 4 rfl ?_
    exact g_lv [1, 2, 3, 0, 5] rfl (w_X7_pull_b175 hc σ l1 l2 k1 l5 l3  (K := K) hf hK hI36 hR)
  · have hf := oF h1 hf
    refine g_iload hc dX7_pull_169 6 rfl ?_
    refine g_goto (tgt := 175) hc dX7_pull_171 (by decide) ?_
    exact g_lv [1, 2, 3, 0, 5] rfl (w_X7_pull_b175 hc σ l1 l2 k1 l5 l6  (K := K) hf hK hI36 hR)
def f_X7_pull_L62 (σ : (Nat → Nat → Int32)) (l1 : Int32) (l2 : Int32) (l3 : Int32) (l4 : Int32) (l5 : Int32) (l6 : Int32) : Option ((Int32 × (Nat → Nat → Int32)) ⊕ ((Int32 × Int32 × Int32 × (Nat → Nat → Int32)) ⊕ (Int32 × (Nat → Nat → Int32)))) :=
  oC (inb 38 205) <| if (σ 1 (Int32.toNatClampNeg 38)) ≤ l6 then (oI (oC (inb 202 205) <| oC (inb 202 205) <| oL (upd2 σ 1 (Int32.toNatClampNeg 202) ((σ 1 (Int32.toNatClampNeg 202)) - 1)) fun s4 => oB (f_X7_winsOn s4 164 l1) fun r8 => oB (f_X7_bitsOf r8.1) fun r10 => if r10 ≤ l3 then (f_X7_pull_b161 r8.2 l1 l2 l3 l5 r10 l4) else (f_X7_pull_b161 r8.2 l1 l2 l3 l5 r10 l5))) else (oC (inb l6 205) <| oC (inb ((164 + l6) - 1) 205) <| oL (upd2 σ 1 ((164 + l6) - 1).toNatClampNeg (σ 1 l6.toNatClampNeg)) fun s14 => oC (inb (7 + l6) 205) <| oC (inb ((171 + l6) - 1) 205) <| oL (upd2 s14 1 ((171 + l6) - 1).toNatClampNeg (s14 1 (7 + l6).toNatClampNeg)) fun s18 => some (.inl ((l6 + 1), s18)))
theorem w_X7_pull_L62 {x : gX} {ad : Nat → Nat} {tl : va_W}  (hc : gOk x RX7 cX7_pull 7 4 102)  (σ : (Nat → Nat → Int32)) (l1 : Int32) (l2 : Int32) (l3 : Int32) (l4 : Int32) (l5 : Int32) (l6 : Int32)  {K : (Int32 × (Nat → Nat → Int32)) ⊕ ((Int32 × Int32 × Int32 × (Nat → Nat → Int32)) ⊕ (Int32 × (Nat → Nat → Int32))) → Prop} {o : (Int32 × (Nat → Nat → Int32)) ⊕ ((Int32 × Int32 × Int32 × (Nat → Nat → Int32)) ⊕ (Int32 × (Nat → Nat → Int32)))} (hf : f_X7_pull_L62 σ l1 l2 l3 l4 l5 l6 = some o) (hK : K o) (hI62 : ∀ v : Int32 × (Nat → Nat → Int32), K (.inl v) → gG x 7 0 0 (MW x.dA ad v.2 ++ tl) 62 [(0, .ref (ad 0)), (1, .int l1), (2, .int l2), (3, .int l3), (4, .int l4), (5, .int l5), (6, .int v.1)] []) (hI36 : ∀ v : Int32 × Int32 × Int32 × (Nat → Nat → Int32), K (.inr (.inl v)) → gG x 7 0 0 (MW x.dA ad v.2.2.2 ++ tl) 36 [(0, .ref (ad 0)), (1, .int l1), (2, .int l2), (3, .int v.1), (4, .int v.2.1), (5, .int v.2.2.1)] []) (hR : ∀ o : Int32 × (Nat → Nat → Int32), K (.inr (.inr (o))) → gRi x 0 0 (MW x.dA ad o.2 ++ tl) o.1) : gG x 7 0 0 (MW x.dA ad σ ++ tl) 62 [(0, .ref (ad 0)), (1, .int l1), (2, .int l2), (3, .int l3), (4, .int l4), (5, .int l5), (6, .int l6)] [] := by
  unfold f_X7_pull_L62 at hf
  refine g_iload hc dX7_pull_62 6 rfl ?_
  refine g_aload_n hc dX7_pull_64 rfl 0 rfl ?_
  refine g_get (v := .ref (ad 1)) hc in_X7 (MW_at (k := 0) (by decide)) rfl 0 (by decide) q961 rfl dX7_pull_65 ?_
  refine g_bipush (v := 38) hc dX7_pull_68 (by decide) ?_
  obtain ⟨h1, hf⟩ := oC_some hf
  refine g_iald (n := 205) (f := σ 1) hc (MW_at (k := 1) (by decide)) h1 dX7_pull_70 ?_
  refine g_icmp_ge (tgt := 123) hc dX7_pull_71 (by decide) (fun h2 => ?_) (fun h2 => ?_)
  · have hf := oT h2 hf
    obtain ⟨o12, hgo12, eo12⟩ := oI_some hf
    clear hf; subst eo12; have hf := hgo12; clear hgo12
    refine g_aload_n hc dX7_pull_123 rfl 0 rfl ?_
    refine g_get (v := .ref (ad 1)) hc in_X7 (MW_at (k := 0) (by decide)) rfl 0 (by decide) q961 rfl dX7_pull_124 ?_
    refine g_sipush (v := 202) hc dX7_pull_127 (by decide) ?_
    refine g_dup2 hc dX7_pull_130 rfl rfl ?_
    obtain ⟨h3, hf⟩ := oC_some hf
    refine g_iald (n := 205) (f := σ 1) hc (MW_at (k := 1) (by decide)) h3 dX7_pull_131 ?_
    refine g_iconst (v := 1) hc dX7_pull_132 (by decide) ?_
    refine g_isub hc dX7_pull_133 ?_
    obtain ⟨h6, hf⟩ := oC_some hf
    obtain ⟨s4, e5, hf⟩ := oL_some hf
    refine g_iast (n := 205) (f := σ 1) hc (MW_at (k := 1) (by decide)) h6 (MW_set (μ1 := s4) (k := 1) (by decide) e5 rfl) dX7_pull_134 ?_
    refine g_aload_n hc dX7_pull_135 rfl 0 rfl ?_
    refine g_sipush (v := 164) hc dX7_pull_136 (by decide) ?_
    refine g_iload_n hc dX7_pull_139 rfl 1 rfl ?_
    obtain ⟨r8, h7, hf⟩ := oB_some hf
    refine g_callVi hc [.int 164, .int l1] [] (c_X7_winsOn  h7) (MW_at (k := 0) (by decide)) rfl (lw_V q1137 q1139 qs45 q67 q1140) rfl hd_X7_winsOn rfl rfl (Nat.le_of_ble_eq_true rfl) gZ dX7_pull_140 ?_
    obtain ⟨r10, h9, hf⟩ := oB_some hf
    refine g_callSi hc [.int r8.1] [] (c_X7_bitsOf  h9) (lw_S q1271 q1272 q67 q1273) rfl hd_X7_bitsOf rfl rfl (Nat.le_of_ble_eq_true rfl) gZ dX7_pull_143 ?_
    refine g_istore (lv' := [(6, .int r10), (0, .ref (ad 0)), (1, .int l1), (2, .int l2), (3, .int l3), (4, .int l4), (5, .int l5)]) hc dX7_pull_146 (by decide) rfl ?_
    refine g_iload hc dX7_pull_148 0 rfl ?_
    refine g_iload_n hc dX7_pull_150 rfl 4 rfl ?_
    refine g_icmp_le (tgt := 159) hc dX7_pull_151 (by decide) (fun h11 => ?_) (fun h11 => ?_)
    · have hf := oT h11 hf
      refine g_iload hc dX7_pull_159 5 rfl ?_
      exact g_lv [1, 2, 3, 4, 6, 0] rfl (w_X7_pull_b161 hc r8.2 l1 l2 l3 l5 r10 l4  (K := (fun o1 => K (.inr o1))) hf hK hI36 hR)
    · have hf := oF h11 hf
      refine g_iload hc dX7_pull_154 6 rfl ?_
      refine g_goto (tgt := 161) hc dX7_pull_156 (by decide) ?_
      exact g_lv [1, 2, 3, 4, 6, 0] rfl (w_X7_pull_b161 hc r8.2 l1 l2 l3 l5 r10 l5  (K := (fun o1 => K (.inr o1))) hf hK hI36 hR)
  · have hf := oF h2 hf
    refine g_aload_n hc dX7_pull_74 rfl 0 rfl ?_
    refine g_get (v := .ref (ad 1)) hc in_X7 (MW_at (k := 0) (by decide)) rfl 0 (by decide) q961 rfl dX7_pull_75 ?_
    refine g_sipush (v := 164) hc dX7_pull_78 (by decide) ?_
    refine g_iload hc dX7_pull_81 6 rfl ?_
    refine g_iadd hc dX7_pull_83 ?_
    refine g_iconst (v := 1) hc dX7_pull_84 (by decide) ?_
    refine g_isub hc dX7_pull_85 ?_
    refine g_aload_n hc dX7_pull_86 rfl 0 rfl ?_
    refine g_get (v := .ref (ad 1)) hc in_X7 (MW_at (k := 0) (by decide)) rfl 0 (by decide) q961 rfl dX7_pull_87 ?_
    refine g_iload hc dX7_pull_90 6 rfl ?_
    obtain ⟨h13, hf⟩ := oC_some hf
    refine g_iald (n := 205) (f := σ 1) hc (MW_at (k := 1) (by decide)) h13 dX7_pull_92 ?_
    obtain ⟨h16, hf⟩ := oC_some hf
    obtain ⟨s14, e15, hf⟩ := oL_some hf
    refine g_iast (n := 205) (f := σ 1) hc (MW_at (k := 1) (by decide)) h16 (MW_set (μ1 := s14) (k := 1) (by decide) e15 rfl) dX7_pull_93 ?_
    refine g_aload_n hc dX7_pull_94 rfl 0 rfl ?_
    refine g_get (v := .ref (ad 1)) hc in_X7 (MW_at (k := 0) (by decide)) rfl 0 (by decide) q961 rfl dX7_pull_95 ?_
    refine g_sipush (v := 171) hc dX7_pull_98 (by decide) ?_
    refine g_iload hc dX7_pull_101 6 rfl ?_
    refine g_iadd hc dX7_pull_103 ?_
    refine g_iconst (v := 1) hc dX7_pull_104 (by decide) ?_
    refine g_isub hc dX7_pull_105 ?_
    refine g_aload_n hc dX7_pull_106 rfl 0 rfl ?_
    refine g_get (v := .ref (ad 1)) hc in_X7 (MW_at (k := 0) (by decide)) rfl 0 (by decide) q961 rfl dX7_pull_107 ?_
    refine g_bipush (v := 7) hc dX7_pull_110 (by decide) ?_
    refine g_iload hc dX7_pull_112 6 rfl ?_
    refine g_iadd hc dX7_pull_114 ?_
    obtain ⟨h17, hf⟩ := oC_some hf
    refine g_iald (n := 205) (f := s14 1) hc (MW_at (k := 1) (by decide)) h17 dX7_pull_115 ?_
    obtain ⟨h20, hf⟩ := oC_some hf
    obtain ⟨s18, e19, hf⟩ := oL_some hf
    refine g_iast (n := 205) (f := s14 1) hc (MW_at (k := 1) (by decide)) h20 (MW_set (μ1 := s18) (k := 1) (by decide) e19 rfl) dX7_pull_116 ?_
    refine g_iinc (v := l6 + 1) (lv' := [(6, .int (l6 + 1)), (0, .ref (ad 0)), (1, .int l1), (2, .int l2), (3, .int l3), (4, .int l4), (5, .int l5)]) hc dX7_pull_117 (j := 6) rfl rfl (by decide) rfl ?_
    refine g_goto (tgt := 62) hc dX7_pull_120 (by decide) ?_
    have hz := Option.some.inj hf; subst hz
    exact g_lv [1, 2, 3, 4, 5, 6, 0] rfl (hI62 _ hK)
def f_X7_pull_b62 (σ : (Nat → Nat → Int32)) (l1 : Int32) (l2 : Int32) (l3 : Int32) (l4 : Int32) (l5 : Int32) (l6 : Int32) : Option ((Int32 × Int32 × Int32 × (Nat → Nat → Int32)) ⊕ (Int32 × (Nat → Nat → Int32))) :=
  oLoop gFU (fun v : Int32 × (Nat → Nat → Int32) => f_X7_pull_L62 v.2 l1 l2 l3 l4 l5 v.1) (l6, σ)
theorem w_X7_pull_b62 {x : gX} {ad : Nat → Nat} {tl : va_W}  (hc : gOk x RX7 cX7_pull 7 4 102)  (σ : (Nat → Nat → Int32)) (l1 : Int32) (l2 : Int32) (l3 : Int32) (l4 : Int32) (l5 : Int32) (l6 : Int32)  {K : (Int32 × Int32 × Int32 × (Nat → Nat → Int32)) ⊕ (Int32 × (Nat → Nat → Int32)) → Prop} {o : (Int32 × Int32 × Int32 × (Nat → Nat → Int32)) ⊕ (Int32 × (Nat → Nat → Int32))} (hf : f_X7_pull_b62 σ l1 l2 l3 l4 l5 l6 = some o) (hK : K o) (hI36 : ∀ v : Int32 × Int32 × Int32 × (Nat → Nat → Int32), K (.inl v) → gG x 7 0 0 (MW x.dA ad v.2.2.2 ++ tl) 36 [(0, .ref (ad 0)), (1, .int l1), (2, .int l2), (3, .int v.1), (4, .int v.2.1), (5, .int v.2.2.1)] []) (hR : ∀ o : Int32 × (Nat → Nat → Int32), K (.inr (o)) → gRi x 0 0 (MW x.dA ad o.2 ++ tl) o.1) : gG x 7 0 0 (MW x.dA ad σ ++ tl) 62 [(0, .ref (ad 0)), (1, .int l1), (2, .int l2), (3, .int l3), (4, .int l4), (5, .int l5), (6, .int l6)] [] :=
  oLoop_ind (fun v : Int32 × (Nat → Nat → Int32) => gG x 7 0 0 (MW x.dA ad v.2 ++ tl) 62 [(0, .ref (ad 0)), (1, .int l1), (2, .int l2), (3, .int l3), (4, .int l4), (5, .int l5), (6, .int v.1)] []) K (fun v o1 hf1 hK1 => w_X7_pull_L62 hc v.2 l1 l2 l3 l4 l5 v.1  (K := Sum.elim (fun v : Int32 × (Nat → Nat → Int32) => gG x 7 0 0 (MW x.dA ad v.2 ++ tl) 62 [(0, .ref (ad 0)), (1, .int l1), (2, .int l2), (3, .int l3), (4, .int l4), (5, .int l5), (6, .int v.1)] []) K) hf1 hK1 (fun v hv => hv) hI36 hR) gFU _ o hf hK
def f_X7_pull_L36 (σ : (Nat → Nat → Int32)) (l1 : Int32) (l2 : Int32) (l3 : Int32) (l4 : Int32) (l5 : Int32) : Option ((Int32 × Int32 × Int32 × (Nat → Nat → Int32)) ⊕ (Int32 × (Nat → Nat → Int32))) :=
  oC (inb 38 205) <| if (σ 1 (Int32.toNatClampNeg 38)) ≤ l5 then (oI (if l4 = (-4) then (some (l4, σ)) else (if l2 = 0 then (some (l4, σ)) else (some (l3, σ))))) else (oB (f_X7_copies σ 0 164) fun r7 => f_X7_pull_b62 r7 l1 l2 l3 l4 l5 (l5 + 1))
theorem w_X7_pull_L36 {x : gX} {ad : Nat → Nat} {tl : va_W}  (hc : gOk x RX7 cX7_pull 7 4 102)  (σ : (Nat → Nat → Int32)) (l1 : Int32) (l2 : Int32) (l3 : Int32) (l4 : Int32) (l5 : Int32)  {K : (Int32 × Int32 × Int32 × (Nat → Nat → Int32)) ⊕ (Int32 × (Nat → Nat → Int32)) → Prop} {o : (Int32 × Int32 × Int32 × (Nat → Nat → Int32)) ⊕ (Int32 × (Nat → Nat → Int32))} (hf : f_X7_pull_L36 σ l1 l2 l3 l4 l5 = some o) (hK : K o) (hI36 : ∀ v : Int32 × Int32 × Int32 × (Nat → Nat → Int32), K (.inl v) → gG x 7 0 0 (MW x.dA ad v.2.2.2 ++ tl) 36 [(0, .ref (ad 0)), (1, .int l1), (2, .int l2), (3, .int v.1), (4, .int v.2.1), (5, .int v.2.2.1)] []) (hR : ∀ o : Int32 × (Nat → Nat → Int32), K (.inr (o)) → gRi x 0 0 (MW x.dA ad o.2 ++ tl) o.1) : gG x 7 0 0 (MW x.dA ad σ ++ tl) 36 [(0, .ref (ad 0)), (1, .int l1), (2, .int l2), (3, .int l3), (4, .int l4), (5, .int l5)] [] := by
  unfold f_X7_pull_L36 at hf
  refine g_iload hc dX7_pull_36 5 rfl ?_
  refine g_aload_n hc dX7_pull_38 rfl 0 rfl ?_
  refine g_get (v := .ref (ad 1)) hc in_X7 (MW_at (k := 0) (by decide)) rfl 0 (by decide) q961 rfl dX7_pull_39 ?_
  refine g_bipush (v := 38) hc dX7_pull_42 (by decide) ?_
  obtain ⟨h1, hf⟩ := oC_some hf
  refine g_iald (n := 205) (f := σ 1) hc (MW_at (k := 1) (by decide)) h1 dX7_pull_44 ?_
  refine g_icmp_ge (tgt := 182) hc dX7_pull_45 (by decide) (fun h2 => ?_) (fun h2 => ?_)
  · have hf := oT h2 hf
    obtain ⟨o5, hgo5, eo5⟩ := oI_some hf
    clear hf; subst eo5; have hf := hgo5; clear hgo5
    refine g_iload hc dX7_pull_182 4 rfl ?_
    refine g_bipush (v := (-4)) hc dX7_pull_184 (by decide) ?_
    refine g_icmp_eq (tgt := 193) hc dX7_pull_186 (by decide) (fun h3 => ?_) (fun h3 => ?_)
    · have hf := oT h3 hf
      refine g_iload hc dX7_pull_193 4 rfl ?_
      refine g_goto (tgt := 199) hc dX7_pull_195 (by decide) ?_
      have hz := Option.some.inj hf; subst hz
      exact g_iret hc (hR _ hK) dX7_pull_199
    · have hf := oF h3 hf
      refine g_iload_n hc dX7_pull_189 rfl 2 rfl ?_
      refine g_if_ne (tgt := 198) hc dX7_pull_190 (by decide) (fun h4 => ?_) (fun h4 => ?_)
      · have hf := oF h4 hf
        refine g_iload_n hc dX7_pull_198 rfl 3 rfl ?_
        have hz := Option.some.inj hf; subst hz
        exact g_iret hc (hR _ hK) dX7_pull_199
      · have hf := oT h4 hf
        refine g_iload hc dX7_pull_193 4 rfl ?_
        refine g_goto (tgt := 199) hc dX7_pull_195 (by decide) ?_
        have hz := Option.some.inj hf; subst hz
        exact g_iret hc (hR _ hK) dX7_pull_199
  · have hf := oF h2 hf
    refine g_aload_n hc dX7_pull_48 rfl 0 rfl ?_
    refine g_iconst (v := 0) hc dX7_pull_49 (by decide) ?_
    refine g_sipush (v := 164) hc dX7_pull_50 (by decide) ?_
    obtain ⟨r7, h6, hf⟩ := oB_some hf
    refine g_callVv hc [.int 0, .int 164] [] (c_X7_copies  h6) (MW_at (k := 0) (by decide)) rfl (lw_V q1263 q1265 qs55 q67 q1266) rfl hd_X7_copies rfl rfl (Nat.le_of_ble_eq_true rfl) gZ dX7_pull_53 ?_
    refine g_iload hc dX7_pull_56 5 rfl ?_
    refine g_iconst (v := 1) hc dX7_pull_58 (by decide) ?_
    refine g_iadd hc dX7_pull_59 ?_
    refine g_istore (lv' := [(6, .int (l5 + 1)), (0, .ref (ad 0)), (1, .int l1), (2, .int l2), (3, .int l3), (4, .int l4), (5, .int l5)]) hc dX7_pull_60 (by decide) rfl ?_
    exact g_lv [1, 2, 3, 4, 5, 6, 0] rfl (w_X7_pull_b62 hc r7 l1 l2 l3 l4 l5 (l5 + 1)  (K := K) hf hK hI36 hR)
def f_X7_pull_b36 (σ : (Nat → Nat → Int32)) (l1 : Int32) (l2 : Int32) (l3 : Int32) (l4 : Int32) (l5 : Int32) : Option (Int32 × (Nat → Nat → Int32)) :=
  oLoop gFU (fun v : Int32 × Int32 × Int32 × (Nat → Nat → Int32) => f_X7_pull_L36 v.2.2.2 l1 l2 v.1 v.2.1 v.2.2.1) (l3, l4, l5, σ)
theorem w_X7_pull_b36 {x : gX} {ad : Nat → Nat} {tl : va_W}  (hc : gOk x RX7 cX7_pull 7 4 102)  (σ : (Nat → Nat → Int32)) (l1 : Int32) (l2 : Int32) (l3 : Int32) (l4 : Int32) (l5 : Int32)  {K : Int32 × (Nat → Nat → Int32) → Prop} {o : Int32 × (Nat → Nat → Int32)} (hf : f_X7_pull_b36 σ l1 l2 l3 l4 l5 = some o) (hK : K o) (hR : ∀ o : Int32 × (Nat → Nat → Int32), K o → gRi x 0 0 (MW x.dA ad o.2 ++ tl) o.1) : gG x 7 0 0 (MW x.dA ad σ ++ tl) 36 [(0, .ref (ad 0)), (1, .int l1), (2, .int l2), (3, .int l3), (4, .int l4), (5, .int l5)] [] :=
  oLoop_ind (fun v : Int32 × Int32 × Int32 × (Nat → Nat → Int32) => gG x 7 0 0 (MW x.dA ad v.2.2.2 ++ tl) 36 [(0, .ref (ad 0)), (1, .int l1), (2, .int l2), (3, .int v.1), (4, .int v.2.1), (5, .int v.2.2.1)] []) K (fun v o1 hf1 hK1 => w_X7_pull_L36 hc v.2.2.2 l1 l2 v.1 v.2.1 v.2.2.1  (K := Sum.elim (fun v : Int32 × Int32 × Int32 × (Nat → Nat → Int32) => gG x 7 0 0 (MW x.dA ad v.2.2.2 ++ tl) 36 [(0, .ref (ad 0)), (1, .int l1), (2, .int l2), (3, .int v.1), (4, .int v.2.1), (5, .int v.2.2.1)] []) K) hf1 hK1 (fun v hv => hv) hR) gFU _ o hf hK
def f_X7_pull (σ : (Nat → Nat → Int32)) (l1 : Int32) (l2 : Int32) : Option (Int32 × (Nat → Nat → Int32)) :=
  oB (f_X7_isRag l1) fun r2 => if r2 = 0 then (some ((-1), σ)) else (oB (f_X7_in (Int32.toInt64 l2) 0 1) fun r5 => if r5 = 0 then (some ((-1), σ)) else (oB (f_X7_winsOn σ 0 l1) fun r8 => oB (f_X7_bitsOf r8.1) fun r10 => f_X7_pull_b36 r8.2 l1 l2 r10 (-4) 0))
theorem w_X7_pull {x : gX} {ad : Nat → Nat} {tl : va_W}  (hc : gOk x RX7 cX7_pull 7 4 102)  (σ : (Nat → Nat → Int32)) (l1 : Int32) (l2 : Int32)  {K : Int32 × (Nat → Nat → Int32) → Prop} {o : Int32 × (Nat → Nat → Int32)} (hf : f_X7_pull σ l1 l2 = some o) (hK : K o) (hR : ∀ o : Int32 × (Nat → Nat → Int32), K o → gRi x 0 0 (MW x.dA ad o.2 ++ tl) o.1) : gG x 7 0 0 (MW x.dA ad σ ++ tl) 0 [(0, .ref (ad 0)), (1, .int l1), (2, .int l2)] [] := by
  unfold f_X7_pull at hf
  refine g_iload_n hc dX7_pull_0 rfl 1 rfl ?_
  obtain ⟨r2, h1, hf⟩ := oB_some hf
  refine g_callSi hc [.int l1] [] (c_X7_isRag  h1) (lw_S q1194 q1195 q67 q1196) rfl hd_X7_isRag rfl rfl (Nat.le_of_ble_eq_true rfl) gZ dX7_pull_1 ?_
  refine g_if_eq (tgt := 17) hc dX7_pull_4 (by decide) (fun h3 => ?_) (fun h3 => ?_)
  · have hf := oT h3 hf
    refine g_iconst (v := (-1)) hc dX7_pull_17 (by decide) ?_
    have hz := Option.some.inj hf; subst hz
    exact g_iret hc (hR _ hK) dX7_pull_18
  · have hf := oF h3 hf
    refine g_iload_n hc dX7_pull_7 rfl 2 rfl ?_
    refine g_i2l hc dX7_pull_8 ?_
    refine g_lconst (v := 0) hc dX7_pull_9 (by decide) ?_
    refine g_lconst (v := 1) hc dX7_pull_10 (by decide) ?_
    obtain ⟨r5, h4, hf⟩ := oB_some hf
    refine g_callSi hc [.long (Int32.toInt64 l2), .long 0, .long 1] [] (c_X7_in  h4) (lw_S q1055 q1056 q67 q1057) rfl hd_X7_in rfl rfl (Nat.le_of_ble_eq_true rfl) gZ dX7_pull_11 ?_
    refine g_if_ne (tgt := 19) hc dX7_pull_14 (by decide) (fun h6 => ?_) (fun h6 => ?_)
    · have hf := oF h6 hf
      refine g_aload_n hc dX7_pull_19 rfl 0 rfl ?_
      refine g_iconst (v := 0) hc dX7_pull_20 (by decide) ?_
      refine g_iload_n hc dX7_pull_21 rfl 1 rfl ?_
      obtain ⟨r8, h7, hf⟩ := oB_some hf
      refine g_callVi hc [.int 0, .int l1] [] (c_X7_winsOn  h7) (MW_at (k := 0) (by decide)) rfl (lw_V q1137 q1139 qs45 q67 q1140) rfl hd_X7_winsOn rfl rfl (Nat.le_of_ble_eq_true rfl) gZ dX7_pull_22 ?_
      obtain ⟨r10, h9, hf⟩ := oB_some hf
      refine g_callSi hc [.int r8.1] [] (c_X7_bitsOf  h9) (lw_S q1271 q1272 q67 q1273) rfl hd_X7_bitsOf rfl rfl (Nat.le_of_ble_eq_true rfl) gZ dX7_pull_25 ?_
      refine g_istore_n (lv' := [(3, .int r10), (0, .ref (ad 0)), (1, .int l1), (2, .int l2)]) hc dX7_pull_28 rfl (by decide) rfl ?_
      refine g_bipush (v := (-4)) hc dX7_pull_29 (by decide) ?_
      refine g_istore (lv' := [(4, .int (-4)), (3, .int r10), (0, .ref (ad 0)), (1, .int l1), (2, .int l2)]) hc dX7_pull_31 (by decide) rfl ?_
      refine g_iconst (v := 0) hc dX7_pull_33 (by decide) ?_
      refine g_istore (lv' := [(5, .int 0), (4, .int (-4)), (3, .int r10), (0, .ref (ad 0)), (1, .int l1), (2, .int l2)]) hc dX7_pull_34 (by decide) rfl ?_
      exact g_lv [3, 4, 5, 2, 1, 0] rfl (w_X7_pull_b36 hc r8.2 l1 l2 r10 (-4) 0  (K := K) hf hK hR)
    · have hf := oT h6 hf
      refine g_iconst (v := (-1)) hc dX7_pull_17 (by decide) ?_
      have hz := Option.some.inj hf; subst hz
      exact g_iret hc (hR _ hK) dX7_pull_18
theorem c_X7_pull {l : Launch} {D : va_G} {dA : Nat → ClassId} {ad : Nat → Nat} {tl : va_W}  {σ : (Nat → Nat → Int32)} {l1 : Int32} {l2 : Int32}  {o : Int32 × (Nat → Nat → Int32)} (hf : f_X7_pull σ l1 l2 = some o) : gI l D dA (MW dA ad σ ++ tl) (MW dA ad o.2 ++ tl) [.ref (ad 0), .int l1, .int l2] o.1 yX7_pull (ws_ yX7_pull cX7_pull 7 (some .int)) ({ frames := 4, cells := 0, slots := 0, locals := 102 } : Room) :=
  g_startI (own := RX7) ⟨rfl, rfl⟩ (by decide) rfl (Nat.le_of_ble_eq_true rfl) (fun x e hc hR => by
    subst e
    exact w_X7_pull hc σ l1 l2  (K := fun o1 => o1 = o) hf rfl (by rintro _ rfl; exact hR))
theorem hd_X7_pull : yX7_pull.cls = RX7 ∧ yX7_pull.cls ≠ "java/lang/invoke/MethodHandle" ∧ yX7_pull.cls ≠ "java/lang/invoke/VarHandle" ∧ (parseMethodDescriptor yX7_pull.desc).map (fun d => d.parameters.length) = some 2 := by decide +kernel
/-! HedgehogLotsModel.lowest(JJI)J -/
def f_X7_lowest_L6 (l0 : Int64) (l2 : Int64) (l4 : Int32) (l5 : Int64) (l7 : Int64) : Option ((Int64 × Int64) ⊕ (Int64)) :=
  if (lg_cmp l7 0) = 0 then (oI (if l4 = 0 then (oC (nzl l5) <| some (l0 / l5)) else (oC (nzl l5) <| some (l2 / l5)))) else (oC (nzl l7) <| some (.inl (l7, (l5 - l5 / l7 * l7))))
theorem w_X7_lowest_L6 {x : gX} {Φ : va_W}  (hc : gOk x RX7 cX7_lowest 11 0 0)  (l0 : Int64) (l2 : Int64) (l4 : Int32) (l5 : Int64) (l7 : Int64)  {K : (Int64 × Int64) ⊕ (Int64) → Prop} {o : (Int64 × Int64) ⊕ (Int64)} (hf : f_X7_lowest_L6 l0 l2 l4 l5 l7 = some o) (hK : K o) (hI6 : ∀ v : Int64 × Int64, K (.inl v) → gG x 11 0 0 (Φ) 6 [(0, .long l0), (2, .long l2), (4, .int l4), (5, .long v.1), (7, .long v.2)] []) (hR : ∀ o : Int64, K (.inr (o)) → gRl x 0 0 (Φ) o) : gG x 11 0 0 (Φ) 6 [(0, .long l0), (2, .long l2), (4, .int l4), (5, .long l5), (7, .long l7)] [] := by
  unfold f_X7_lowest_L6 at hf
  refine g_lload hc dX7_lowest_6 4 rfl ?_
  refine g_lconst (v := 0) hc dX7_lowest_8 (by decide) ?_
  refine g_lcmp hc dX7_lowest_9 ?_
  refine g_if_eq (tgt := 31) hc dX7_lowest_10 (by decide) (fun h1 => ?_) (fun h1 => ?_)
  · have hf := oT h1 hf
    obtain ⟨o5, hgo5, eo5⟩ := oI_some hf
    clear hf; subst eo5; have hf := hgo5; clear hgo5
    refine g_iload hc dX7_lowest_31 2 rfl ?_
    refine g_if_ne (tgt := 40) hc dX7_lowest_33 (by decide) (fun h2 => ?_) (fun h2 => ?_)
    · have hf := oF h2 hf
      refine g_lload_n hc dX7_lowest_40 rfl 1 rfl ?_
      refine g_lload hc dX7_lowest_41 3 rfl ?_
      obtain ⟨h3, hf⟩ := oC_some hf
      refine g_ldiv hc dX7_lowest_43 (nzl_ne h3) ?_
      have hz := Option.some.inj hf; subst hz
      exact g_lret hc (hR _ hK) dX7_lowest_44
    · have hf := oT h2 hf
      refine g_lload_n hc dX7_lowest_36 rfl 0 rfl ?_
      refine g_goto (tgt := 41) hc dX7_lowest_37 (by decide) ?_
      refine g_lload hc dX7_lowest_41 3 rfl ?_
      obtain ⟨h4, hf⟩ := oC_some hf
      refine g_ldiv hc dX7_lowest_43 (nzl_ne h4) ?_
      have hz := Option.some.inj hf; subst hz
      exact g_lret hc (hR _ hK) dX7_lowest_44
  · have hf := oF h1 hf
    refine g_lload hc dX7_lowest_13 3 rfl ?_
    refine g_lload hc dX7_lowest_15 4 rfl ?_
    obtain ⟨h6, hf⟩ := oC_some hf
    refine g_lrem hc dX7_lowest_17 (nzl_ne h6) ?_
    refine g_lstore (lv' := [(9, .long (l5 - l5 / l7 * l7)), (0, .long l0), (2, .long l2), (4, .int l4), (5, .long l5), (7, .long l7)]) hc dX7_lowest_18 (by decide) rfl ?_
    refine g_lload hc dX7_lowest_20 5 rfl ?_
    refine g_lstore (lv' := [(5, .long l7), (9, .long (l5 - l5 / l7 * l7)), (0, .long l0), (2, .long l2), (4, .int l4), (7, .long l7)]) hc dX7_lowest_22 (by decide) rfl ?_
    refine g_lload hc dX7_lowest_24 1 rfl ?_
    refine g_lstore (lv' := [(7, .long (l5 - l5 / l7 * l7)), (5, .long l7), (9, .long (l5 - l5 / l7 * l7)), (0, .long l0), (2, .long l2), (4, .int l4)]) hc dX7_lowest_26 (by decide) rfl ?_
    refine g_goto (tgt := 6) hc dX7_lowest_28 (by decide) ?_
    have hz := Option.some.inj hf; subst hz
    exact g_lv [3, 4, 5, 1, 0] rfl (hI6 _ hK)
def f_X7_lowest_b6 (l0 : Int64) (l2 : Int64) (l4 : Int32) (l5 : Int64) (l7 : Int64) : Option (Int64) :=
  oLoop gFU (fun v : Int64 × Int64 => f_X7_lowest_L6 l0 l2 l4 v.1 v.2) (l5, l7)
theorem w_X7_lowest_b6 {x : gX} {Φ : va_W}  (hc : gOk x RX7 cX7_lowest 11 0 0)  (l0 : Int64) (l2 : Int64) (l4 : Int32) (l5 : Int64) (l7 : Int64)  {K : Int64 → Prop} {o : Int64} (hf : f_X7_lowest_b6 l0 l2 l4 l5 l7 = some o) (hK : K o) (hR : ∀ o : Int64, K o → gRl x 0 0 (Φ) o) : gG x 11 0 0 (Φ) 6 [(0, .long l0), (2, .long l2), (4, .int l4), (5, .long l5), (7, .long l7)] [] :=
  oLoop_ind (fun v : Int64 × Int64 => gG x 11 0 0 (Φ) 6 [(0, .long l0), (2, .long l2), (4, .int l4), (5, .long v.1), (7, .long v.2)] []) K (fun v o1 hf1 hK1 => w_X7_lowest_L6 hc l0 l2 l4 v.1 v.2  (K := Sum.elim (fun v : Int64 × Int64 => gG x 11 0 0 (Φ) 6 [(0, .long l0), (2, .long l2), (4, .int l4), (5, .long v.1), (7, .long v.2)] []) K) hf1 hK1 (fun v hv => hv) hR) gFU _ o hf hK
def f_X7_lowest (l0 : Int64) (l2 : Int64) (l4 : Int32) : Option (Int64) :=
  f_X7_lowest_b6 l0 l2 l4 l0 l2
theorem w_X7_lowest {x : gX} {Φ : va_W}  (hc : gOk x RX7 cX7_lowest 11 0 0)  (l0 : Int64) (l2 : Int64) (l4 : Int32)  {K : Int64 → Prop} {o : Int64} (hf : f_X7_lowest l0 l2 l4 = some o) (hK : K o) (hR : ∀ o : Int64, K o → gRl x 0 0 (Φ) o) : gG x 11 0 0 (Φ) 0 [(0, .long l0), (2, .long l2), (4, .int l4)] [] := by
  unfold f_X7_lowest at hf
  refine g_lload_n hc dX7_lowest_0 rfl 0 rfl ?_
  refine g_lstore (lv' := [(5, .long l0), (0, .long l0), (2, .long l2), (4, .int l4)]) hc dX7_lowest_1 (by decide) rfl ?_
  refine g_lload_n hc dX7_lowest_3 rfl 2 rfl ?_
  refine g_lstore (lv' := [(7, .long l2), (5, .long l0), (0, .long l0), (2, .long l2), (4, .int l4)]) hc dX7_lowest_4 (by decide) rfl ?_
  exact g_lv [2, 3, 4, 1, 0] rfl (w_X7_lowest_b6 hc l0 l2 l4 l0 l2  (K := K) hf hK hR)
theorem c_X7_lowest {l : Launch} {D : va_G} {dA : Nat → ClassId} {Φ : va_W}  {l0 : Int64} {l2 : Int64} {l4 : Int32}  {o : Int64} (hf : f_X7_lowest l0 l2 l4 = some o) : gLo l D dA (Φ) (Φ) [.long l0, .long l2, .int l4] o yX7_lowest (ws_ yX7_lowest cX7_lowest 11 (some .long)) ({ frames := 0, cells := 0, slots := 0, locals := 0 } : Room) :=
  g_startL (own := RX7) ⟨rfl, rfl⟩ (by decide) rfl (Nat.le_of_ble_eq_true rfl) (fun x e hc hR => by
    subst e
    exact w_X7_lowest hc l0 l2 l4  (K := fun o1 => o1 = o) hf rfl (by rintro _ rfl; exact hR))
theorem hd_X7_lowest : yX7_lowest.cls ≠ "java/lang/invoke/MethodHandle" ∧ yX7_lowest.cls ≠ "java/lang/invoke/VarHandle" ∧ (parseMethodDescriptor yX7_lowest.desc).map (fun d => d.parameters.length) = some 3 := by decide +kernel
/-! HedgehogLotsModel.byTurns(IIIII)J -/
def f_X7_byTurns_b134 (σ : (Nat → Nat → Int32)) (l1 : Int32) (l2 : Int32) (l3 : Int32) (l4 : Int32) (l5 : Int32) (l6 : Int64) (l8 : Int64) (l10 : Int32) : Option ((Int64 × Int32 × (Nat → Nat → Int32)) ⊕ (Int64 × (Nat → Nat → Int32))) :=
  some (.inl (l6, (l10 + 1), σ))
theorem w_X7_byTurns_b134 {x : gX} {ad : Nat → Nat} {tl : va_W}  (hc : gOk x RX7 cX7_byTurns 14 2 54)  (σ : (Nat → Nat → Int32)) (l1 : Int32) (l2 : Int32) (l3 : Int32) (l4 : Int32) (l5 : Int32) (l6 : Int64) (l8 : Int64) (l10 : Int32)  {K : (Int64 × Int32 × (Nat → Nat → Int32)) ⊕ (Int64 × (Nat → Nat → Int32)) → Prop} {o : (Int64 × Int32 × (Nat → Nat → Int32)) ⊕ (Int64 × (Nat → Nat → Int32))} (hf : f_X7_byTurns_b134 σ l1 l2 l3 l4 l5 l6 l8 l10 = some o) (hK : K o) (hI11 : ∀ v : Int64 × Int32 × (Nat → Nat → Int32), K (.inl v) → gG x 14 0 0 (MW x.dA ad v.2.2 ++ tl) 11 [(0, .ref (ad 0)), (1, .int l1), (2, .int l2), (3, .int l3), (4, .int l4), (5, .int l5), (6, .long v.1), (8, .long l8), (10, .int v.2.1)] []) (hR : ∀ o : Int64 × (Nat → Nat → Int32), K (.inr (o)) → gRl x 0 0 (MW x.dA ad o.2 ++ tl) o.1) : gG x 14 0 0 (MW x.dA ad σ ++ tl) 134 [(0, .ref (ad 0)), (1, .int l1), (2, .int l2), (3, .int l3), (4, .int l4), (5, .int l5), (6, .long l6), (8, .long l8), (10, .int l10)] [] := by
  unfold f_X7_byTurns_b134 at hf
  refine g_iinc (v := l10 + 1) (lv' := [(10, .int (l10 + 1)), (0, .ref (ad 0)), (1, .int l1), (2, .int l2), (3, .int l3), (4, .int l4), (5, .int l5), (6, .long l6), (8, .long l8)]) hc dX7_byTurns_134 (j := 8) rfl rfl (by decide) rfl ?_
  refine g_goto (tgt := 11) hc dX7_byTurns_137 (by decide) ?_
  have hz := Option.some.inj hf; subst hz
  exact g_lv [1, 2, 3, 4, 5, 6, 7, 8, 0] rfl (hI11 _ hK)
def f_X7_byTurns_b129 (σ : (Nat → Nat → Int32)) (l1 : Int32) (l2 : Int32) (l3 : Int32) (l4 : Int32) (l5 : Int32) (l8 : Int64) (l10 : Int32) (k3 : Int32) (k2 : Int64) (k1 : Int64) : Option ((Int64 × Int32 × (Nat → Nat → Int32)) ⊕ (Int64 × (Nat → Nat → Int32))) :=
  f_X7_byTurns_b134 σ l1 l2 l3 l4 l5 (k1 + (k2 * (Int32.toInt64 k3))) l8 l10
theorem w_X7_byTurns_b129 {x : gX} {ad : Nat → Nat} {tl : va_W}  (hc : gOk x RX7 cX7_byTurns 14 2 54)  (σ : (Nat → Nat → Int32)) (l1 : Int32) (l2 : Int32) (l3 : Int32) (l4 : Int32) (l5 : Int32) (l8 : Int64) (l10 : Int32) (k3 : Int32) (k2 : Int64) (k1 : Int64)  {K : (Int64 × Int32 × (Nat → Nat → Int32)) ⊕ (Int64 × (Nat → Nat → Int32)) → Prop} {o : (Int64 × Int32 × (Nat → Nat → Int32)) ⊕ (Int64 × (Nat → Nat → Int32))} (hf : f_X7_byTurns_b129 σ l1 l2 l3 l4 l5 l8 l10 k3 k2 k1 = some o) (hK : K o) (hI11 : ∀ v : Int64 × Int32 × (Nat → Nat → Int32), K (.inl v) → gG x 14 0 0 (MW x.dA ad v.2.2 ++ tl) 11 [(0, .ref (ad 0)), (1, .int l1), (2, .int l2), (3, .int l3), (4, .int l4), (5, .int l5), (6, .long v.1), (8, .long l8), (10, .int v.2.1)] []) (hR : ∀ o : Int64 × (Nat → Nat → Int32), K (.inr (o)) → gRl x 0 0 (MW x.dA ad o.2 ++ tl) o.1) : gG x 14 0 0 (MW x.dA ad σ ++ tl) 129 [(0, .ref (ad 0)), (1, .int l1), (2, .int l2), (3, .int l3), (4, .int l4), (5, .int l5), (8, .long l8), (10, .int l10)] [.int k3, .long k2, .long k1] := by
  unfold f_X7_byTurns_b129 at hf
  refine g_i2l hc dX7_byTurns_129 ?_
  refine g_lmul hc dX7_byTurns_130 ?_
  refine g_ladd hc dX7_byTurns_131 ?_
  refine g_lstore (lv' := [(6, .long (k1 + (k2 * (Int32.toInt64 k3)))), (0, .ref (ad 0)), (1, .int l1), (2, .int l2), (3, .int l3), (4, .int l4), (5, .int l5), (8, .long l8), (10, .int l10)]) hc dX7_byTurns_132 (by decide) rfl ?_
  exact g_lv [1, 2, 3, 4, 5, 6, 0, 7, 8] rfl (w_X7_byTurns_b134 hc σ l1 l2 l3 l4 l5 (k1 + (k2 * (Int32.toInt64 k3))) l8 l10  (K := K) hf hK hI11 hR)
def f_X7_byTurns_b128 (σ : (Nat → Nat → Int32)) (l1 : Int32) (l2 : Int32) (l3 : Int32) (l4 : Int32) (l5 : Int32) (l8 : Int64) (l10 : Int32) (k2 : Int64) (k1 : Int64) : Option ((Int64 × Int32 × (Nat → Nat → Int32)) ⊕ (Int64 × (Nat → Nat → Int32))) :=
  f_X7_byTurns_b129 σ l1 l2 l3 l4 l5 l8 l10 0 k2 k1
theorem w_X7_byTurns_b128 {x : gX} {ad : Nat → Nat} {tl : va_W}  (hc : gOk x RX7 cX7_byTurns 14 2 54)  (σ : (Nat → Nat → Int32)) (l1 : Int32) (l2 : Int32) (l3 : Int32) (l4 : Int32) (l5 : Int32) (l8 : Int64) (l10 : Int32) (k2 : Int64) (k1 : Int64)  {K : (Int64 × Int32 × (Nat → Nat → Int32)) ⊕ (Int64 × (Nat → Nat → Int32)) → Prop} {o : (Int64 × Int32 × (Nat → Nat → Int32)) ⊕ (Int64 × (Nat → Nat → Int32))} (hf : f_X7_byTurns_b128 σ l1 l2 l3 l4 l5 l8 l10 k2 k1 = some o) (hK : K o) (hI11 : ∀ v : Int64 × Int32 × (Nat → Nat → Int32), K (.inl v) → gG x 14 0 0 (MW x.dA ad v.2.2 ++ tl) 11 [(0, .ref (ad 0)), (1, .int l1), (2, .int l2), (3, .int l3), (4, .int l4), (5, .int l5), (6, .long v.1), (8, .long l8), (10, .int v.2.1)] []) (hR : ∀ o : Int64 × (Nat → Nat → Int32), K (.inr (o)) → gRl x 0 0 (MW x.dA ad o.2 ++ tl) o.1) : gG x 14 0 0 (MW x.dA ad σ ++ tl) 128 [(0, .ref (ad 0)), (1, .int l1), (2, .int l2), (3, .int l3), (4, .int l4), (5, .int l5), (8, .long l8), (10, .int l10)] [.long k2, .long k1] := by
  unfold f_X7_byTurns_b128 at hf
  refine g_iconst (v := 0) hc dX7_byTurns_128 (by decide) ?_
  exact g_lv [0, 1, 2, 3, 4, 5, 6, 7] rfl (w_X7_byTurns_b129 hc σ l1 l2 l3 l4 l5 l8 l10 0 k2 k1  (K := K) hf hK hI11 hR)
def f_X7_byTurns_b55 (σ : (Nat → Nat → Int32)) (l1 : Int32) (l2 : Int32) (l3 : Int32) (l4 : Int32) (l5 : Int32) (l6 : Int64) (l8 : Int64) (l10 : Int32) (l13 : Int32) (k2 : Int64) (k1 : Int64) : Option ((Int64 × Int32) ⊕ ((Int64 × Int32 × (Nat → Nat → Int32)) ⊕ (Int64 × (Nat → Nat → Int32)))) :=
  some (.inl ((k1 * k2), (l13 + 1)))
theorem w_X7_byTurns_b55 {x : gX} {ad : Nat → Nat} {tl : va_W}  (hc : gOk x RX7 cX7_byTurns 14 2 54)  (σ : (Nat → Nat → Int32)) (l1 : Int32) (l2 : Int32) (l3 : Int32) (l4 : Int32) (l5 : Int32) (l6 : Int64) (l8 : Int64) (l10 : Int32) (l13 : Int32) (k2 : Int64) (k1 : Int64)  {K : (Int64 × Int32) ⊕ ((Int64 × Int32 × (Nat → Nat → Int32)) ⊕ (Int64 × (Nat → Nat → Int32))) → Prop} {o : (Int64 × Int32) ⊕ ((Int64 × Int32 × (Nat → Nat → Int32)) ⊕ (Int64 × (Nat → Nat → Int32)))} (hf : f_X7_byTurns_b55 σ l1 l2 l3 l4 l5 l6 l8 l10 l13 k2 k1 = some o) (hK : K o) (hI25 : ∀ v : Int64 × Int32, K (.inl v) → gG x 14 0 0 (MW x.dA ad σ ++ tl) 25 [(0, .ref (ad 0)), (1, .int l1), (2, .int l2), (3, .int l3), (4, .int l4), (5, .int l5), (6, .long l6), (8, .long l8), (10, .int l10), (11, .long v.1), (13, .int v.2)] []) (hI11 : ∀ v : Int64 × Int32 × (Nat → Nat → Int32), K (.inr (.inl v)) → gG x 14 0 0 (MW x.dA ad v.2.2 ++ tl) 11 [(0, .ref (ad 0)), (1, .int l1), (2, .int l2), (3, .int l3), (4, .int l4), (5, .int l5), (6, .long v.1), (8, .long l8), (10, .int v.2.1)] []) (hR : ∀ o : Int64 × (Nat → Nat → Int32), K (.inr (.inr (o))) → gRl x 0 0 (MW x.dA ad o.2 ++ tl) o.1) : gG x 14 0 0 (MW x.dA ad σ ++ tl) 55 [(0, .ref (ad 0)), (1, .int l1), (2, .int l2), (3, .int l3), (4, .int l4), (5, .int l5), (6, .long l6), (8, .long l8), (10, .int l10), (13, .int l13)] [.long k2, .long k1] := by
  unfold f_X7_byTurns_b55 at hf
  refine g_lmul hc dX7_byTurns_55 ?_
  refine g_lstore (lv' := [(11, .long (k1 * k2)), (0, .ref (ad 0)), (1, .int l1), (2, .int l2), (3, .int l3), (4, .int l4), (5, .int l5), (6, .long l6), (8, .long l8), (10, .int l10), (13, .int l13)]) hc dX7_byTurns_56 (by decide) rfl ?_
  refine g_iinc (v := l13 + 1) (lv' := [(13, .int (l13 + 1)), (11, .long (k1 * k2)), (0, .ref (ad 0)), (1, .int l1), (2, .int l2), (3, .int l3), (4, .int l4), (5, .int l5), (6, .long l6), (8, .long l8), (10, .int l10)]) hc dX7_byTurns_58 (j := 10) rfl rfl (by decide) rfl ?_
  refine g_goto (tgt := 25) hc dX7_byTurns_61 (by decide) ?_
  have hz := Option.some.inj hf; subst hz
  exact g_lv [2, 3, 4, 5, 6, 7, 8, 9, 10, 1, 0] rfl (hI25 _ hK)
def f_X7_byTurns_L25 (σ : (Nat → Nat → Int32)) (l1 : Int32) (l2 : Int32) (l3 : Int32) (l4 : Int32) (l5 : Int32) (l6 : Int64) (l8 : Int64) (l10 : Int32) (l11 : Int64) (l13 : Int32) : Option ((Int64 × Int32) ⊕ ((Int64 × Int32 × (Nat → Nat → Int32)) ⊕ (Int64 × (Nat → Nat → Int32)))) :=
  if 10 ≤ l13 then (oI (if (lg_cmp l11 0) ≤ 0 then (f_X7_byTurns_b134 σ l1 l2 l3 l4 l5 l6 l8 l10) else (oB (f_X7_runsOn σ 0 l2 l3 l10) fun r4 => if l4 = (-4) then (f_X7_byTurns_b129 r4 l1 l2 l3 l4 l5 l8 l10 (r4 0 18) l11 l6) else (if (r4 0 16) = (-4) then (f_X7_byTurns_b128 r4 l1 l2 l3 l4 l5 l8 l10 l11 l6) else (oC (inb (7 + (r4 0 16)) 205) <| if (r4 1 (7 + (r4 0 16)).toNatClampNeg) = l4 then (f_X7_byTurns_b129 r4 l1 l2 l3 l4 l5 l8 l10 1 l11 l6) else (f_X7_byTurns_b128 r4 l1 l2 l3 l4 l5 l8 l10 l11 l6)))))) else (if ((l10 >>> (l13 &&& 31)) &&& 1) = 1 then (f_X7_byTurns_b55 σ l1 l2 l3 l4 l5 l6 l8 l10 l13 (Int32.toInt64 l1) l11) else (f_X7_byTurns_b55 σ l1 l2 l3 l4 l5 l6 l8 l10 l13 (Int32.toInt64 (10 - l1)) l11))
theorem w_X7_byTurns_L25 {x : gX} {ad : Nat → Nat} {tl : va_W}  (hc : gOk x RX7 cX7_byTurns 14 2 54)  (σ : (Nat → Nat → Int32)) (l1 : Int32) (l2 : Int32) (l3 : Int32) (l4 : Int32) (l5 : Int32) (l6 : Int64) (l8 : Int64) (l10 : Int32) (l11 : Int64) (l13 : Int32)  {K : (Int64 × Int32) ⊕ ((Int64 × Int32 × (Nat → Nat → Int32)) ⊕ (Int64 × (Nat → Nat → Int32))) → Prop} {o : (Int64 × Int32) ⊕ ((Int64 × Int32 × (Nat → Nat → Int32)) ⊕ (Int64 × (Nat → Nat → Int32)))} (hf : f_X7_byTurns_L25 σ l1 l2 l3 l4 l5 l6 l8 l10 l11 l13 = some o) (hK : K o) (hI25 : ∀ v : Int64 × Int32, K (.inl v) → gG x 14 0 0 (MW x.dA ad σ ++ tl) 25 [(0, .ref (ad 0)), (1, .int l1), (2, .int l2), (3, .int l3), (4, .int l4), (5, .int l5), (6, .long l6), (8, .long l8), (10, .int l10), (11, .long v.1), (13, .int v.2)] []) (hI11 : ∀ v : Int64 × Int32 × (Nat → Nat → Int32), K (.inr (.inl v)) → gG x 14 0 0 (MW x.dA ad v.2.2 ++ tl) 11 [(0, .ref (ad 0)), (1, .int l1), (2, .int l2), (3, .int l3), (4, .int l4), (5, .int l5), (6, .long v.1), (8, .long l8), (10, .int v.2.1)] []) (hR : ∀ o : Int64 × (Nat → Nat → Int32), K (.inr (.inr (o))) → gRl x 0 0 (MW x.dA ad o.2 ++ tl) o.1) : gG x 14 0 0 (MW x.dA ad σ ++ tl) 25 [(0, .ref (ad 0)), (1, .int l1), (2, .int l2), (3, .int l3), (4, .int l4), (5, .int l5), (6, .long l6), (8, .long l8), (10, .int l10), (11, .long l11), (13, .int l13)] [] := by
  unfold f_X7_byTurns_L25 at hf
  refine g_iload hc dX7_byTurns_25 10 rfl ?_
  refine g_bipush (v := 10) hc dX7_byTurns_27 (by decide) ?_
  refine g_icmp_ge (tgt := 64) hc dX7_byTurns_29 (by decide) (fun h1 => ?_) (fun h1 => ?_)
  · have hf := oT h1 hf
    obtain ⟨o9, hgo9, eo9⟩ := oI_some hf
    clear hf; subst eo9; have hf := hgo9; clear hgo9
    refine g_lload hc dX7_byTurns_64 9 rfl ?_
    refine g_lconst (v := 0) hc dX7_byTurns_66 (by decide) ?_
    refine g_lcmp hc dX7_byTurns_67 ?_
    refine g_if_le (tgt := 134) hc dX7_byTurns_68 (by decide) (fun h2 => ?_) (fun h2 => ?_)
    · have hf := oT h2 hf
      exact g_lv [0, 1, 2, 3, 4, 5, 6, 7, 8] rfl (w_X7_byTurns_b134 hc σ l1 l2 l3 l4 l5 l6 l8 l10  (K := (fun o1 => K (.inr o1))) hf hK hI11 hR)
    · have hf := oF h2 hf
      refine g_aload_n hc dX7_byTurns_71 rfl 0 rfl ?_
      refine g_iconst (v := 0) hc dX7_byTurns_72 (by decide) ?_
      refine g_iload_n hc dX7_byTurns_73 rfl 2 rfl ?_
      refine g_iload_n hc dX7_byTurns_74 rfl 3 rfl ?_
      refine g_iload hc dX7_byTurns_75 8 rfl ?_
      obtain ⟨r4, h3, hf⟩ := oB_some hf
      refine g_callVv hc [.int 0, .int l2, .int l3, .int l10] [] (c_X7_runsOn  h3) (MW_at (k := 0) (by decide)) rfl (lw_V q1119 q1121 qs42 q67 q1122) rfl hd_X7_runsOn rfl rfl (Nat.le_of_ble_eq_true rfl) gZ dX7_byTurns_77 ?_
      refine g_lload hc dX7_byTurns_80 6 rfl ?_
      refine g_lload hc dX7_byTurns_82 9 rfl ?_
      refine g_iload hc dX7_byTurns_84 4 rfl ?_
      refine g_bipush (v := (-4)) hc dX7_byTurns_86 (by decide) ?_
      refine g_icmp_ne (tgt := 98) hc dX7_byTurns_88 (by decide) (fun h5 => ?_) (fun h5 => ?_)
      · have hf := oF h5 hf
        refine g_aload_n hc dX7_byTurns_98 rfl 0 rfl ?_
        refine g_get (v := .int (r4 0 16)) hc in_X7 (MW_at (k := 0) (by decide)) rfl 16 (by decide) q977 rfl dX7_byTurns_99 ?_
        refine g_bipush (v := (-4)) hc dX7_byTurns_102 (by decide) ?_
        refine g_icmp_eq (tgt := 128) hc dX7_byTurns_104 (by decide) (fun h6 => ?_) (fun h6 => ?_)
        · have hf := oT h6 hf
          exact g_lv [0, 1, 2, 3, 4, 5, 7, 8] rfl (w_X7_byTurns_b128 hc r4 l1 l2 l3 l4 l5 l8 l10 l11 l6  (K := (fun o1 => K (.inr o1))) hf hK hI11 hR)
        · have hf := oF h6 hf
          refine g_aload_n hc dX7_byTurns_107 rfl 0 rfl ?_
          refine g_get (v := .ref (ad 1)) hc in_X7 (MW_at (k := 0) (by decide)) rfl 0 (by decide) q961 rfl dX7_byTurns_108 ?_
          refine g_bipush (v := 7) hc dX7_byTurns_111 (by decide) ?_
          refine g_aload_n hc dX7_byTurns_113 rfl 0 rfl ?_
          refine g_get (v := .int (r4 0 16)) hc in_X7 (MW_at (k := 0) (by decide)) rfl 16 (by decide) q977 rfl dX7_byTurns_114 ?_
          refine g_iadd hc dX7_byTurns_117 ?_
          obtain ⟨h7, hf⟩ := oC_some hf
          refine g_iald (n := 205) (f := r4 1) hc (MW_at (k := 1) (by decide)) h7 dX7_byTurns_118 ?_
          refine g_iload hc dX7_byTurns_119 4 rfl ?_
          refine g_icmp_ne (tgt := 128) hc dX7_byTurns_121 (by decide) (fun h8 => ?_) (fun h8 => ?_)
          · have hf := oF h8 hf
            exact g_lv [0, 1, 2, 3, 4, 5, 7, 8] rfl (w_X7_byTurns_b128 hc r4 l1 l2 l3 l4 l5 l8 l10 l11 l6  (K := (fun o1 => K (.inr o1))) hf hK hI11 hR)
          · have hf := oT h8 hf
            refine g_iconst (v := 1) hc dX7_byTurns_124 (by decide) ?_
            refine g_goto (tgt := 129) hc dX7_byTurns_125 (by decide) ?_
            exact g_lv [0, 1, 2, 3, 4, 5, 7, 8] rfl (w_X7_byTurns_b129 hc r4 l1 l2 l3 l4 l5 l8 l10 1 l11 l6  (K := (fun o1 => K (.inr o1))) hf hK hI11 hR)
      · have hf := oT h5 hf
        refine g_aload_n hc dX7_byTurns_91 rfl 0 rfl ?_
        refine g_get (v := .int (r4 0 18)) hc in_X7 (MW_at (k := 0) (by decide)) rfl 18 (by decide) q979 rfl dX7_byTurns_92 ?_
        refine g_goto (tgt := 129) hc dX7_byTurns_95 (by decide) ?_
        exact g_lv [0, 1, 2, 3, 4, 5, 7, 8] rfl (w_X7_byTurns_b129 hc r4 l1 l2 l3 l4 l5 l8 l10 (r4 0 18) l11 l6  (K := (fun o1 => K (.inr o1))) hf hK hI11 hR)
  · have hf := oF h1 hf
    refine g_lload hc dX7_byTurns_32 9 rfl ?_
    refine g_iload hc dX7_byTurns_34 8 rfl ?_
    refine g_iload hc dX7_byTurns_36 10 rfl ?_
    refine g_ishr hc dX7_byTurns_38 ?_
    refine g_iconst (v := 1) hc dX7_byTurns_39 (by decide) ?_
    refine g_iand hc dX7_byTurns_40 ?_
    refine g_iconst (v := 1) hc dX7_byTurns_41 (by decide) ?_
    refine g_icmp_ne (tgt := 50) hc dX7_byTurns_42 (by decide) (fun h10 => ?_) (fun h10 => ?_)
    · have hf := oF h10 hf
      refine g_bipush (v := 10) hc dX7_byTurns_50 (by decide) ?_
      refine g_iload_n hc dX7_byTurns_52 rfl 1 rfl ?_
      refine g_isub hc dX7_byTurns_53 ?_
      refine g_i2l hc dX7_byTurns_54 ?_
      exact g_lv [0, 1, 2, 3, 4, 5, 6, 7, 8, 10] rfl (w_X7_byTurns_b55 hc σ l1 l2 l3 l4 l5 l6 l8 l10 l13 (Int32.toInt64 (10 - l1)) l11  (K := K) hf hK hI25 hI11 hR)
    · have hf := oT h10 hf
      refine g_iload_n hc dX7_byTurns_45 rfl 1 rfl ?_
      refine g_i2l hc dX7_byTurns_46 ?_
      refine g_goto (tgt := 55) hc dX7_byTurns_47 (by decide) ?_
      exact g_lv [0, 1, 2, 3, 4, 5, 6, 7, 8, 10] rfl (w_X7_byTurns_b55 hc σ l1 l2 l3 l4 l5 l6 l8 l10 l13 (Int32.toInt64 l1) l11  (K := K) hf hK hI25 hI11 hR)
def f_X7_byTurns_b25 (σ : (Nat → Nat → Int32)) (l1 : Int32) (l2 : Int32) (l3 : Int32) (l4 : Int32) (l5 : Int32) (l6 : Int64) (l8 : Int64) (l10 : Int32) (l11 : Int64) (l13 : Int32) : Option ((Int64 × Int32 × (Nat → Nat → Int32)) ⊕ (Int64 × (Nat → Nat → Int32))) :=
  oLoop gFU (fun v : Int64 × Int32 => f_X7_byTurns_L25 σ l1 l2 l3 l4 l5 l6 l8 l10 v.1 v.2) (l11, l13)
theorem w_X7_byTurns_b25 {x : gX} {ad : Nat → Nat} {tl : va_W}  (hc : gOk x RX7 cX7_byTurns 14 2 54)  (σ : (Nat → Nat → Int32)) (l1 : Int32) (l2 : Int32) (l3 : Int32) (l4 : Int32) (l5 : Int32) (l6 : Int64) (l8 : Int64) (l10 : Int32) (l11 : Int64) (l13 : Int32)  {K : (Int64 × Int32 × (Nat → Nat → Int32)) ⊕ (Int64 × (Nat → Nat → Int32)) → Prop} {o : (Int64 × Int32 × (Nat → Nat → Int32)) ⊕ (Int64 × (Nat → Nat → Int32))} (hf : f_X7_byTurns_b25 σ l1 l2 l3 l4 l5 l6 l8 l10 l11 l13 = some o) (hK : K o) (hI11 : ∀ v : Int64 × Int32 × (Nat → Nat → Int32), K (.inl v) → gG x 14 0 0 (MW x.dA ad v.2.2 ++ tl) 11 [(0, .ref (ad 0)), (1, .int l1), (2, .int l2), (3, .int l3), (4, .int l4), (5, .int l5), (6, .long v.1), (8, .long l8), (10, .int v.2.1)] []) (hR : ∀ o : Int64 × (Nat → Nat → Int32), K (.inr (o)) → gRl x 0 0 (MW x.dA ad o.2 ++ tl) o.1) : gG x 14 0 0 (MW x.dA ad σ ++ tl) 25 [(0, .ref (ad 0)), (1, .int l1), (2, .int l2), (3, .int l3), (4, .int l4), (5, .int l5), (6, .long l6), (8, .long l8), (10, .int l10), (11, .long l11), (13, .int l13)] [] :=
  oLoop_ind (fun v : Int64 × Int32 => gG x 14 0 0 (MW x.dA ad σ ++ tl) 25 [(0, .ref (ad 0)), (1, .int l1), (2, .int l2), (3, .int l3), (4, .int l4), (5, .int l5), (6, .long l6), (8, .long l8), (10, .int l10), (11, .long v.1), (13, .int v.2)] []) K (fun v o1 hf1 hK1 => w_X7_byTurns_L25 hc σ l1 l2 l3 l4 l5 l6 l8 l10 v.1 v.2  (K := Sum.elim (fun v : Int64 × Int32 => gG x 14 0 0 (MW x.dA ad σ ++ tl) 25 [(0, .ref (ad 0)), (1, .int l1), (2, .int l2), (3, .int l3), (4, .int l4), (5, .int l5), (6, .long l6), (8, .long l8), (10, .int l10), (11, .long v.1), (13, .int v.2)] []) K) hf1 hK1 (fun v hv => hv) hI11 hR) gFU _ o hf hK
def f_X7_byTurns_L11 (σ : (Nat → Nat → Int32)) (l1 : Int32) (l2 : Int32) (l3 : Int32) (l4 : Int32) (l5 : Int32) (l6 : Int64) (l8 : Int64) (l10 : Int32) : Option ((Int64 × Int32 × (Nat → Nat → Int32)) ⊕ (Int64 × (Nat → Nat → Int32))) :=
  if 1024 ≤ l10 then (oI (oB (f_X7_lowest l6 l8 l5) fun r3 => some (r3, σ))) else (f_X7_byTurns_b25 σ l1 l2 l3 l4 l5 l6 l8 l10 1 0)
theorem w_X7_byTurns_L11 {x : gX} {ad : Nat → Nat} {tl : va_W}  (hc : gOk x RX7 cX7_byTurns 14 2 54)  (σ : (Nat → Nat → Int32)) (l1 : Int32) (l2 : Int32) (l3 : Int32) (l4 : Int32) (l5 : Int32) (l6 : Int64) (l8 : Int64) (l10 : Int32)  {K : (Int64 × Int32 × (Nat → Nat → Int32)) ⊕ (Int64 × (Nat → Nat → Int32)) → Prop} {o : (Int64 × Int32 × (Nat → Nat → Int32)) ⊕ (Int64 × (Nat → Nat → Int32))} (hf : f_X7_byTurns_L11 σ l1 l2 l3 l4 l5 l6 l8 l10 = some o) (hK : K o) (hI11 : ∀ v : Int64 × Int32 × (Nat → Nat → Int32), K (.inl v) → gG x 14 0 0 (MW x.dA ad v.2.2 ++ tl) 11 [(0, .ref (ad 0)), (1, .int l1), (2, .int l2), (3, .int l3), (4, .int l4), (5, .int l5), (6, .long v.1), (8, .long l8), (10, .int v.2.1)] []) (hR : ∀ o : Int64 × (Nat → Nat → Int32), K (.inr (o)) → gRl x 0 0 (MW x.dA ad o.2 ++ tl) o.1) : gG x 14 0 0 (MW x.dA ad σ ++ tl) 11 [(0, .ref (ad 0)), (1, .int l1), (2, .int l2), (3, .int l3), (4, .int l4), (5, .int l5), (6, .long l6), (8, .long l8), (10, .int l10)] [] := by
  unfold f_X7_byTurns_L11 at hf
  refine g_iload hc dX7_byTurns_11 8 rfl ?_
  refine g_sipush (v := 1024) hc dX7_byTurns_13 (by decide) ?_
  refine g_icmp_ge (tgt := 140) hc dX7_byTurns_16 (by decide) (fun h1 => ?_) (fun h1 => ?_)
  · have hf := oT h1 hf
    obtain ⟨o4, hgo4, eo4⟩ := oI_some hf
    clear hf; subst eo4; have hf := hgo4; clear hgo4
    refine g_lload hc dX7_byTurns_140 6 rfl ?_
    refine g_lload hc dX7_byTurns_142 7 rfl ?_
    refine g_iload hc dX7_byTurns_144 5 rfl ?_
    obtain ⟨r3, h2, hf⟩ := oB_some hf
    refine g_callSl hc [.long l6, .long l8, .int l5] [] (c_X7_lowest  h2) (lw_S q1304 q1305 q67 q1306) rfl hd_X7_lowest rfl rfl (Nat.le_of_ble_eq_true rfl) gZ dX7_byTurns_146 ?_
    have hz := Option.some.inj hf; subst hz
    exact g_lret hc (hR _ hK) dX7_byTurns_149
  · have hf := oF h1 hf
    refine g_lconst (v := 1) hc dX7_byTurns_19 (by decide) ?_
    refine g_lstore (lv' := [(11, .long 1), (0, .ref (ad 0)), (1, .int l1), (2, .int l2), (3, .int l3), (4, .int l4), (5, .int l5), (6, .long l6), (8, .long l8), (10, .int l10)]) hc dX7_byTurns_20 (by decide) rfl ?_
    refine g_iconst (v := 0) hc dX7_byTurns_22 (by decide) ?_
    refine g_istore (lv' := [(13, .int 0), (11, .long 1), (0, .ref (ad 0)), (1, .int l1), (2, .int l2), (3, .int l3), (4, .int l4), (5, .int l5), (6, .long l6), (8, .long l8), (10, .int l10)]) hc dX7_byTurns_23 (by decide) rfl ?_
    exact g_lv [2, 3, 4, 5, 6, 7, 8, 9, 10, 1, 0] rfl (w_X7_byTurns_b25 hc σ l1 l2 l3 l4 l5 l6 l8 l10 1 0  (K := K) hf hK hI11 hR)
def f_X7_byTurns_b11 (σ : (Nat → Nat → Int32)) (l1 : Int32) (l2 : Int32) (l3 : Int32) (l4 : Int32) (l5 : Int32) (l6 : Int64) (l8 : Int64) (l10 : Int32) : Option (Int64 × (Nat → Nat → Int32)) :=
  oLoop gFU (fun v : Int64 × Int32 × (Nat → Nat → Int32) => f_X7_byTurns_L11 v.2.2 l1 l2 l3 l4 l5 v.1 l8 v.2.1) (l6, l10, σ)
theorem w_X7_byTurns_b11 {x : gX} {ad : Nat → Nat} {tl : va_W}  (hc : gOk x RX7 cX7_byTurns 14 2 54)  (σ : (Nat → Nat → Int32)) (l1 : Int32) (l2 : Int32) (l3 : Int32) (l4 : Int32) (l5 : Int32) (l6 : Int64) (l8 : Int64) (l10 : Int32)  {K : Int64 × (Nat → Nat → Int32) → Prop} {o : Int64 × (Nat → Nat → Int32)} (hf : f_X7_byTurns_b11 σ l1 l2 l3 l4 l5 l6 l8 l10 = some o) (hK : K o) (hR : ∀ o : Int64 × (Nat → Nat → Int32), K o → gRl x 0 0 (MW x.dA ad o.2 ++ tl) o.1) : gG x 14 0 0 (MW x.dA ad σ ++ tl) 11 [(0, .ref (ad 0)), (1, .int l1), (2, .int l2), (3, .int l3), (4, .int l4), (5, .int l5), (6, .long l6), (8, .long l8), (10, .int l10)] [] :=
  oLoop_ind (fun v : Int64 × Int32 × (Nat → Nat → Int32) => gG x 14 0 0 (MW x.dA ad v.2.2 ++ tl) 11 [(0, .ref (ad 0)), (1, .int l1), (2, .int l2), (3, .int l3), (4, .int l4), (5, .int l5), (6, .long v.1), (8, .long l8), (10, .int v.2.1)] []) K (fun v o1 hf1 hK1 => w_X7_byTurns_L11 hc v.2.2 l1 l2 l3 l4 l5 v.1 l8 v.2.1  (K := Sum.elim (fun v : Int64 × Int32 × (Nat → Nat → Int32) => gG x 14 0 0 (MW x.dA ad v.2.2 ++ tl) 11 [(0, .ref (ad 0)), (1, .int l1), (2, .int l2), (3, .int l3), (4, .int l4), (5, .int l5), (6, .long v.1), (8, .long l8), (10, .int v.2.1)] []) K) hf1 hK1 (fun v hv => hv) hR) gFU _ o hf hK
def f_X7_byTurns (σ : (Nat → Nat → Int32)) (l1 : Int32) (l2 : Int32) (l3 : Int32) (l4 : Int32) (l5 : Int32) : Option (Int64 × (Nat → Nat → Int32)) :=
  f_X7_byTurns_b11 σ l1 l2 l3 l4 l5 0 10000000000 0
theorem w_X7_byTurns {x : gX} {ad : Nat → Nat} {tl : va_W}  (hc : gOk x RX7 cX7_byTurns 14 2 54)  (σ : (Nat → Nat → Int32)) (l1 : Int32) (l2 : Int32) (l3 : Int32) (l4 : Int32) (l5 : Int32)  {K : Int64 × (Nat → Nat → Int32) → Prop} {o : Int64 × (Nat → Nat → Int32)} (hf : f_X7_byTurns σ l1 l2 l3 l4 l5 = some o) (hK : K o) (hR : ∀ o : Int64 × (Nat → Nat → Int32), K o → gRl x 0 0 (MW x.dA ad o.2 ++ tl) o.1) : gG x 14 0 0 (MW x.dA ad σ ++ tl) 0 [(0, .ref (ad 0)), (1, .int l1), (2, .int l2), (3, .int l3), (4, .int l4), (5, .int l5)] [] := by
  unfold f_X7_byTurns at hf
  refine g_lconst (v := 0) hc dX7_byTurns_0 (by decide) ?_
  refine g_lstore (lv' := [(6, .long 0), (0, .ref (ad 0)), (1, .int l1), (2, .int l2), (3, .int l3), (4, .int l4), (5, .int l5)]) hc dX7_byTurns_1 (by decide) rfl ?_
  refine g_ldc2 (v := 10000000000) hc q1303 dX7_byTurns_3 ?_
  refine g_lstore (lv' := [(8, .long 10000000000), (6, .long 0), (0, .ref (ad 0)), (1, .int l1), (2, .int l2), (3, .int l3), (4, .int l4), (5, .int l5)]) hc dX7_byTurns_6 (by decide) rfl ?_
  refine g_iconst (v := 0) hc dX7_byTurns_8 (by decide) ?_
  refine g_istore (lv' := [(10, .int 0), (8, .long 10000000000), (6, .long 0), (0, .ref (ad 0)), (1, .int l1), (2, .int l2), (3, .int l3), (4, .int l4), (5, .int l5)]) hc dX7_byTurns_9 (by decide) rfl ?_
  exact g_lv [3, 4, 5, 6, 7, 8, 2, 1, 0] rfl (w_X7_byTurns_b11 hc σ l1 l2 l3 l4 l5 0 10000000000 0  (K := K) hf hK hR)
theorem c_X7_byTurns {l : Launch} {D : va_G} {dA : Nat → ClassId} {ad : Nat → Nat} {tl : va_W}  {σ : (Nat → Nat → Int32)} {l1 : Int32} {l2 : Int32} {l3 : Int32} {l4 : Int32} {l5 : Int32}  {o : Int64 × (Nat → Nat → Int32)} (hf : f_X7_byTurns σ l1 l2 l3 l4 l5 = some o) : gLo l D dA (MW dA ad σ ++ tl) (MW dA ad o.2 ++ tl) [.ref (ad 0), .int l1, .int l2, .int l3, .int l4, .int l5] o.1 yX7_byTurns (ws_ yX7_byTurns cX7_byTurns 14 (some .long)) ({ frames := 2, cells := 0, slots := 0, locals := 54 } : Room) :=
  g_startL (own := RX7) ⟨rfl, rfl⟩ (by decide) rfl (Nat.le_of_ble_eq_true rfl) (fun x e hc hR => by
    subst e
    exact w_X7_byTurns hc σ l1 l2 l3 l4 l5  (K := fun o1 => o1 = o) hf rfl (by rintro _ rfl; exact hR))
theorem hd_X7_byTurns : yX7_byTurns.cls = RX7 ∧ yX7_byTurns.cls ≠ "java/lang/invoke/MethodHandle" ∧ yX7_byTurns.cls ≠ "java/lang/invoke/VarHandle" ∧ (parseMethodDescriptor yX7_byTurns.desc).map (fun d => d.parameters.length) = some 5 := by decide +kernel
/-! HedgehogLotsModel.luck(IIIII)J -/
def f_X7_luck (σ : (Nat → Nat → Int32)) (l1 : Int32) (l2 : Int32) (l3 : Int32) (l4 : Int32) (l5 : Int32) : Option (Int64 × (Nat → Nat → Int32)) :=
  oB (f_X7_in (Int32.toInt64 l1) 0 10) fun r2 => if r2 = 0 then (some ((-1), σ)) else (oB (f_X7_isHog σ l2) fun r5 => if r5 = 0 then (some ((-1), σ)) else (oB (f_X7_isColumn l3) fun r8 => if r8 = 0 then (some ((-1), σ)) else (oB (f_X7_isRag l4) fun r11 => if r11 = 0 then (some ((-1), σ)) else (oB (f_X7_in (Int32.toInt64 l5) 0 1) fun r14 => if r14 = 0 then (some ((-1), σ)) else (oB (f_X7_byTurns σ l1 l2 l3 l4 l5) fun r17 => some (r17.1, r17.2))))))
theorem w_X7_luck {x : gX} {ad : Nat → Nat} {tl : va_W}  (hc : gOk x RX7 cX7_luck 6 3 87)  (σ : (Nat → Nat → Int32)) (l1 : Int32) (l2 : Int32) (l3 : Int32) (l4 : Int32) (l5 : Int32)  {K : Int64 × (Nat → Nat → Int32) → Prop} {o : Int64 × (Nat → Nat → Int32)} (hf : f_X7_luck σ l1 l2 l3 l4 l5 = some o) (hK : K o) (hR : ∀ o : Int64 × (Nat → Nat → Int32), K o → gRl x 0 0 (MW x.dA ad o.2 ++ tl) o.1) : gG x 6 0 0 (MW x.dA ad σ ++ tl) 0 [(0, .ref (ad 0)), (1, .int l1), (2, .int l2), (3, .int l3), (4, .int l4), (5, .int l5)] [] := by
  unfold f_X7_luck at hf
  refine g_iload_n hc dX7_luck_0 rfl 1 rfl ?_
  refine g_i2l hc dX7_luck_1 ?_
  refine g_lconst (v := 0) hc dX7_luck_2 (by decide) ?_
  refine g_ldc2 (v := 10) hc q1298 dX7_luck_3 ?_
  obtain ⟨r2, h1, hf⟩ := oB_some hf
  refine g_callSi hc [.long (Int32.toInt64 l1), .long 0, .long 10] [] (c_X7_in  h1) (lw_S q1055 q1056 q67 q1057) rfl hd_X7_in rfl rfl (Nat.le_of_ble_eq_true rfl) gZ dX7_luck_6 ?_
  refine g_if_eq (tgt := 60) hc dX7_luck_9 (by decide) (fun h3 => ?_) (fun h3 => ?_)
  · have hf := oT h3 hf
    refine g_ldc2 (v := (-1)) hc q1307 dX7_luck_60 ?_
    have hz := Option.some.inj hf; subst hz
    exact g_lret hc (hR _ hK) dX7_luck_63
  · have hf := oF h3 hf
    refine g_aload_n hc dX7_luck_12 rfl 0 rfl ?_
    refine g_iload_n hc dX7_luck_13 rfl 2 rfl ?_
    obtain ⟨r5, h4, hf⟩ := oB_some hf
    refine g_callVi hc [.int l2] [] (c_X7_isHog  h4) (MW_at (k := 0) (by decide)) rfl (lw_V q1162 q1164 qs48 q67 q1165) rfl hd_X7_isHog rfl rfl (Nat.le_of_ble_eq_true rfl) gZ dX7_luck_14 ?_
    refine g_if_eq (tgt := 60) hc dX7_luck_17 (by decide) (fun h6 => ?_) (fun h6 => ?_)
    · have hf := oT h6 hf
      refine g_ldc2 (v := (-1)) hc q1307 dX7_luck_60 ?_
      have hz := Option.some.inj hf; subst hz
      exact g_lret hc (hR _ hK) dX7_luck_63
    · have hf := oF h6 hf
      refine g_iload_n hc dX7_luck_20 rfl 3 rfl ?_
      obtain ⟨r8, h7, hf⟩ := oB_some hf
      refine g_callSi hc [.int l3] [] (c_X7_isColumn  h7) (lw_S q1230 q1231 q67 q1232) rfl hd_X7_isColumn rfl rfl (Nat.le_of_ble_eq_true rfl) gZ dX7_luck_21 ?_
      refine g_if_eq (tgt := 60) hc dX7_luck_24 (by decide) (fun h9 => ?_) (fun h9 => ?_)
      · have hf := oT h9 hf
        refine g_ldc2 (v := (-1)) hc q1307 dX7_luck_60 ?_
        have hz := Option.some.inj hf; subst hz
        exact g_lret hc (hR _ hK) dX7_luck_63
      · have hf := oF h9 hf
        refine g_iload hc dX7_luck_27 4 rfl ?_
        obtain ⟨r11, h10, hf⟩ := oB_some hf
        refine g_callSi hc [.int l4] [] (c_X7_isRag  h10) (lw_S q1194 q1195 q67 q1196) rfl hd_X7_isRag rfl rfl (Nat.le_of_ble_eq_true rfl) gZ dX7_luck_29 ?_
        refine g_if_eq (tgt := 60) hc dX7_luck_32 (by decide) (fun h12 => ?_) (fun h12 => ?_)
        · have hf := oT h12 hf
          refine g_ldc2 (v := (-1)) hc q1307 dX7_luck_60 ?_
          have hz := Option.some.inj hf; subst hz
          exact g_lret hc (hR _ hK) dX7_luck_63
        · have hf := oF h12 hf
          refine g_iload hc dX7_luck_35 5 rfl ?_
          refine g_i2l hc dX7_luck_37 ?_
          refine g_lconst (v := 0) hc dX7_luck_38 (by decide) ?_
          refine g_lconst (v := 1) hc dX7_luck_39 (by decide) ?_
          obtain ⟨r14, h13, hf⟩ := oB_some hf
          refine g_callSi hc [.long (Int32.toInt64 l5), .long 0, .long 1] [] (c_X7_in  h13) (lw_S q1055 q1056 q67 q1057) rfl hd_X7_in rfl rfl (Nat.le_of_ble_eq_true rfl) gZ dX7_luck_40 ?_
          refine g_if_eq (tgt := 60) hc dX7_luck_43 (by decide) (fun h15 => ?_) (fun h15 => ?_)
          · have hf := oT h15 hf
            refine g_ldc2 (v := (-1)) hc q1307 dX7_luck_60 ?_
            have hz := Option.some.inj hf; subst hz
            exact g_lret hc (hR _ hK) dX7_luck_63
          · have hf := oF h15 hf
            refine g_aload_n hc dX7_luck_46 rfl 0 rfl ?_
            refine g_iload_n hc dX7_luck_47 rfl 1 rfl ?_
            refine g_iload_n hc dX7_luck_48 rfl 2 rfl ?_
            refine g_iload_n hc dX7_luck_49 rfl 3 rfl ?_
            refine g_iload hc dX7_luck_50 4 rfl ?_
            refine g_iload hc dX7_luck_52 5 rfl ?_
            obtain ⟨r17, h16, hf⟩ := oB_some hf
            refine g_callVl hc [.int l1, .int l2, .int l3, .int l4, .int l5] [] (c_X7_byTurns  h16) (MW_at (k := 0) (by decide)) rfl (lw_V q1299 q1301 qs56 q67 q1302) rfl hd_X7_byTurns rfl rfl (Nat.le_of_ble_eq_true rfl) gZ dX7_luck_54 ?_
            refine g_goto (tgt := 63) hc dX7_luck_57 (by decide) ?_
            have hz := Option.some.inj hf; subst hz
            exact g_lret hc (hR _ hK) dX7_luck_63
theorem c_X7_luck {l : Launch} {D : va_G} {dA : Nat → ClassId} {ad : Nat → Nat} {tl : va_W}  {σ : (Nat → Nat → Int32)} {l1 : Int32} {l2 : Int32} {l3 : Int32} {l4 : Int32} {l5 : Int32}  {o : Int64 × (Nat → Nat → Int32)} (hf : f_X7_luck σ l1 l2 l3 l4 l5 = some o) : gLo l D dA (MW dA ad σ ++ tl) (MW dA ad o.2 ++ tl) [.ref (ad 0), .int l1, .int l2, .int l3, .int l4, .int l5] o.1 yX7_luck (ws_ yX7_luck cX7_luck 6 (some .long)) ({ frames := 3, cells := 0, slots := 0, locals := 87 } : Room) :=
  g_startL (own := RX7) ⟨rfl, rfl⟩ (by decide) rfl (Nat.le_of_ble_eq_true rfl) (fun x e hc hR => by
    subst e
    exact w_X7_luck hc σ l1 l2 l3 l4 l5  (K := fun o1 => o1 = o) hf rfl (by rintro _ rfl; exact hR))
theorem hd_X7_luck : yX7_luck.cls = RX7 ∧ yX7_luck.cls ≠ "java/lang/invoke/MethodHandle" ∧ yX7_luck.cls ≠ "java/lang/invoke/VarHandle" ∧ (parseMethodDescriptor yX7_luck.desc).map (fun d => d.parameters.length) = some 5 := by decide +kernel
/-! HedgehogLotsModel.mean(IIII)J -/
def f_X7_mean (σ : (Nat → Nat → Int32)) (l1 : Int32) (l2 : Int32) (l3 : Int32) (l4 : Int32) : Option (Int64 × (Nat → Nat → Int32)) :=
  oB (f_X7_in (Int32.toInt64 l1) 0 10) fun r2 => if r2 = 0 then (some ((-1), σ)) else (oB (f_X7_isHog σ l2) fun r5 => if r5 = 0 then (some ((-1), σ)) else (oB (f_X7_isColumn l3) fun r8 => if r8 = 0 then (some ((-1), σ)) else (oB (f_X7_in (Int32.toInt64 l4) 0 1) fun r11 => if r11 = 0 then (some ((-1), σ)) else (oB (f_X7_byTurns σ l1 l2 l3 (-4) l4) fun r14 => some (r14.1, r14.2)))))
theorem w_X7_mean {x : gX} {ad : Nat → Nat} {tl : va_W}  (hc : gOk x RX7 cX7_mean 5 3 87)  (σ : (Nat → Nat → Int32)) (l1 : Int32) (l2 : Int32) (l3 : Int32) (l4 : Int32)  {K : Int64 × (Nat → Nat → Int32) → Prop} {o : Int64 × (Nat → Nat → Int32)} (hf : f_X7_mean σ l1 l2 l3 l4 = some o) (hK : K o) (hR : ∀ o : Int64 × (Nat → Nat → Int32), K o → gRl x 0 0 (MW x.dA ad o.2 ++ tl) o.1) : gG x 5 0 0 (MW x.dA ad σ ++ tl) 0 [(0, .ref (ad 0)), (1, .int l1), (2, .int l2), (3, .int l3), (4, .int l4)] [] := by
  unfold f_X7_mean at hf
  refine g_iload_n hc dX7_mean_0 rfl 1 rfl ?_
  refine g_i2l hc dX7_mean_1 ?_
  refine g_lconst (v := 0) hc dX7_mean_2 (by decide) ?_
  refine g_ldc2 (v := 10) hc q1298 dX7_mean_3 ?_
  obtain ⟨r2, h1, hf⟩ := oB_some hf
  refine g_callSi hc [.long (Int32.toInt64 l1), .long 0, .long 10] [] (c_X7_in  h1) (lw_S q1055 q1056 q67 q1057) rfl hd_X7_in rfl rfl (Nat.le_of_ble_eq_true rfl) gZ dX7_mean_6 ?_
  refine g_if_eq (tgt := 52) hc dX7_mean_9 (by decide) (fun h3 => ?_) (fun h3 => ?_)
  · have hf := oT h3 hf
    refine g_ldc2 (v := (-1)) hc q1307 dX7_mean_52 ?_
    have hz := Option.some.inj hf; subst hz
    exact g_lret hc (hR _ hK) dX7_mean_55
  · have hf := oF h3 hf
    refine g_aload_n hc dX7_mean_12 rfl 0 rfl ?_
    refine g_iload_n hc dX7_mean_13 rfl 2 rfl ?_
    obtain ⟨r5, h4, hf⟩ := oB_some hf
    refine g_callVi hc [.int l2] [] (c_X7_isHog  h4) (MW_at (k := 0) (by decide)) rfl (lw_V q1162 q1164 qs48 q67 q1165) rfl hd_X7_isHog rfl rfl (Nat.le_of_ble_eq_true rfl) gZ dX7_mean_14 ?_
    refine g_if_eq (tgt := 52) hc dX7_mean_17 (by decide) (fun h6 => ?_) (fun h6 => ?_)
    · have hf := oT h6 hf
      refine g_ldc2 (v := (-1)) hc q1307 dX7_mean_52 ?_
      have hz := Option.some.inj hf; subst hz
      exact g_lret hc (hR _ hK) dX7_mean_55
    · have hf := oF h6 hf
      refine g_iload_n hc dX7_mean_20 rfl 3 rfl ?_
      obtain ⟨r8, h7, hf⟩ := oB_some hf
      refine g_callSi hc [.int l3] [] (c_X7_isColumn  h7) (lw_S q1230 q1231 q67 q1232) rfl hd_X7_isColumn rfl rfl (Nat.le_of_ble_eq_true rfl) gZ dX7_mean_21 ?_
      refine g_if_eq (tgt := 52) hc dX7_mean_24 (by decide) (fun h9 => ?_) (fun h9 => ?_)
      · have hf := oT h9 hf
        refine g_ldc2 (v := (-1)) hc q1307 dX7_mean_52 ?_
        have hz := Option.some.inj hf; subst hz
        exact g_lret hc (hR _ hK) dX7_mean_55
      · have hf := oF h9 hf
        refine g_iload hc dX7_mean_27 4 rfl ?_
        refine g_i2l hc dX7_mean_29 ?_
        refine g_lconst (v := 0) hc dX7_mean_30 (by decide) ?_
        refine g_lconst (v := 1) hc dX7_mean_31 (by decide) ?_
        obtain ⟨r11, h10, hf⟩ := oB_some hf
        refine g_callSi hc [.long (Int32.toInt64 l4), .long 0, .long 1] [] (c_X7_in  h10) (lw_S q1055 q1056 q67 q1057) rfl hd_X7_in rfl rfl (Nat.le_of_ble_eq_true rfl) gZ dX7_mean_32 ?_
        refine g_if_eq (tgt := 52) hc dX7_mean_35 (by decide) (fun h12 => ?_) (fun h12 => ?_)
        · have hf := oT h12 hf
          refine g_ldc2 (v := (-1)) hc q1307 dX7_mean_52 ?_
          have hz := Option.some.inj hf; subst hz
          exact g_lret hc (hR _ hK) dX7_mean_55
        · have hf := oF h12 hf
          refine g_aload_n hc dX7_mean_38 rfl 0 rfl ?_
          refine g_iload_n hc dX7_mean_39 rfl 1 rfl ?_
          refine g_iload_n hc dX7_mean_40 rfl 2 rfl ?_
          refine g_iload_n hc dX7_mean_41 rfl 3 rfl ?_
          refine g_bipush (v := (-4)) hc dX7_mean_42 (by decide) ?_
          refine g_iload hc dX7_mean_44 4 rfl ?_
          obtain ⟨r14, h13, hf⟩ := oB_some hf
          refine g_callVl hc [.int l1, .int l2, .int l3, .int (-4), .int l4] [] (c_X7_byTurns  h13) (MW_at (k := 0) (by decide)) rfl (lw_V q1299 q1301 qs56 q67 q1302) rfl hd_X7_byTurns rfl rfl (Nat.le_of_ble_eq_true rfl) gZ dX7_mean_46 ?_
          refine g_goto (tgt := 55) hc dX7_mean_49 (by decide) ?_
          have hz := Option.some.inj hf; subst hz
          exact g_lret hc (hR _ hK) dX7_mean_55
theorem c_X7_mean {l : Launch} {D : va_G} {dA : Nat → ClassId} {ad : Nat → Nat} {tl : va_W}  {σ : (Nat → Nat → Int32)} {l1 : Int32} {l2 : Int32} {l3 : Int32} {l4 : Int32}  {o : Int64 × (Nat → Nat → Int32)} (hf : f_X7_mean σ l1 l2 l3 l4 = some o) : gLo l D dA (MW dA ad σ ++ tl) (MW dA ad o.2 ++ tl) [.ref (ad 0), .int l1, .int l2, .int l3, .int l4] o.1 yX7_mean (ws_ yX7_mean cX7_mean 5 (some .long)) ({ frames := 3, cells := 0, slots := 0, locals := 87 } : Room) :=
  g_startL (own := RX7) ⟨rfl, rfl⟩ (by decide) rfl (Nat.le_of_ble_eq_true rfl) (fun x e hc hR => by
    subst e
    exact w_X7_mean hc σ l1 l2 l3 l4  (K := fun o1 => o1 = o) hf rfl (by rintro _ rfl; exact hR))
theorem hd_X7_mean : yX7_mean.cls = RX7 ∧ yX7_mean.cls ≠ "java/lang/invoke/MethodHandle" ∧ yX7_mean.cls ≠ "java/lang/invoke/VarHandle" ∧ (parseMethodDescriptor yX7_mean.desc).map (fun d => d.parameters.length) = some 4 := by decide +kernel
/-! HedgehogLotsModel.see(III)I -/
def f_X7_see_b97 (σ : (Nat → Nat → Int32)) (k3 : Int32) (k2 : Int32) : Option (Int32 × (Nat → Nat → Int32)) :=
  oC (inb k2 18) <| oL (upd2 σ 7 k2.toNatClampNeg k3) fun s1 => oL (upd2 s1 0 22 ((s1 0 22) + 1)) fun s4 => some ((s4 0 22), s4)
theorem w_X7_see_b97 {x : gX} {ad : Nat → Nat} {tl : va_W}  (hc : gOk x RX7 cX7_see 4 2 46)  (σ : (Nat → Nat → Int32)) (k3 : Int32) (k2 : Int32)  {K : Int32 × (Nat → Nat → Int32) → Prop} {o : Int32 × (Nat → Nat → Int32)} (hf : f_X7_see_b97 σ k3 k2 = some o) (hK : K o) (hR : ∀ o : Int32 × (Nat → Nat → Int32), K o → gRi x 0 0 (MW x.dA ad o.2 ++ tl) o.1) : gG x 4 0 0 (MW x.dA ad σ ++ tl) 97 [(0, .ref (ad 0))] [.int k3, .int k2, .ref (ad 7)] := by
  unfold f_X7_see_b97 at hf
  obtain ⟨h3, hf⟩ := oC_some hf
  obtain ⟨s1, e2, hf⟩ := oL_some hf
  refine g_iast (n := 18) (f := σ 7) hc (MW_at (k := 7) (by decide)) h3 (MW_set (μ1 := s1) (k := 7) (by decide) e2 rfl) dX7_see_97 ?_
  refine g_aload_n hc dX7_see_98 rfl 0 rfl ?_
  refine g_dup hc dX7_see_99 rfl ?_
  refine g_get (v := .int (s1 0 22)) hc in_X7 (MW_at (k := 0) (by decide)) rfl 22 (by decide) q983 rfl dX7_see_100 ?_
  refine g_iconst (v := 1) hc dX7_see_103 (by decide) ?_
  refine g_iadd hc dX7_see_104 ?_
  obtain ⟨s4, e5, hf⟩ := oL_some hf
  refine g_put (v := .int ((s1 0 22) + 1)) hc in_X7 tyX7_ok nmX7 (MW_at (k := 0) (by decide)) rfl 22 (by decide) q983 rfl rfl rfl (Nat.le_of_ble_eq_true rfl) (MW_set (μ1 := s4) (k := 0) (by decide) e5 rfl) dX7_see_105 ?_
  refine g_aload_n hc dX7_see_108 rfl 0 rfl ?_
  refine g_get (v := .int (s4 0 22)) hc in_X7 (MW_at (k := 0) (by decide)) rfl 22 (by decide) q983 rfl dX7_see_109 ?_
  have hz := Option.some.inj hf; subst hz
  exact g_iret hc (hR _ hK) dX7_see_112
def f_X7_see_b35 (σ : (Nat → Nat → Int32)) (l1 : Int32) (l2 : Int32) (l3 : Int32) : Option (Int32 × (Nat → Nat → Int32)) :=
  if (σ 0 22) = 6 then (some ((-3), σ)) else (oC (inb (3 * (σ 0 22)) 18) <| oL (upd2 σ 7 (3 * (σ 0 22)).toNatClampNeg l1) fun s2 => oC (inb ((3 * (s2 0 22)) + 1) 18) <| oL (upd2 s2 7 ((3 * (s2 0 22)) + 1).toNatClampNeg l2) fun s5 => if l3 = 9 then (f_X7_see_b97 s5 (-4) ((3 * (s5 0 22)) + 2)) else (f_X7_see_b97 s5 l3 ((3 * (s5 0 22)) + 2)))
theorem w_X7_see_b35 {x : gX} {ad : Nat → Nat} {tl : va_W}  (hc : gOk x RX7 cX7_see 4 2 46)  (σ : (Nat → Nat → Int32)) (l1 : Int32) (l2 : Int32) (l3 : Int32)  {K : Int32 × (Nat → Nat → Int32) → Prop} {o : Int32 × (Nat → Nat → Int32)} (hf : f_X7_see_b35 σ l1 l2 l3 = some o) (hK : K o) (hR : ∀ o : Int32 × (Nat → Nat → Int32), K o → gRi x 0 0 (MW x.dA ad o.2 ++ tl) o.1) : gG x 4 0 0 (MW x.dA ad σ ++ tl) 35 [(0, .ref (ad 0)), (1, .int l1), (2, .int l2), (3, .int l3)] [] := by
  unfold f_X7_see_b35 at hf
  refine g_aload_n hc dX7_see_35 rfl 0 rfl ?_
  refine g_get (v := .int (σ 0 22)) hc in_X7 (MW_at (k := 0) (by decide)) rfl 22 (by decide) q983 rfl dX7_see_36 ?_
  refine g_bipush (v := 6) hc dX7_see_39 (by decide) ?_
  refine g_icmp_ne (tgt := 47) hc dX7_see_41 (by decide) (fun h1 => ?_) (fun h1 => ?_)
  · have hf := oF h1 hf
    refine g_aload_n hc dX7_see_47 rfl 0 rfl ?_
    refine g_get (v := .ref (ad 7)) hc in_X7 (MW_at (k := 0) (by decide)) rfl 21 (by decide) q982 rfl dX7_see_48 ?_
    refine g_iconst (v := 3) hc dX7_see_51 (by decide) ?_
    refine g_aload_n hc dX7_see_52 rfl 0 rfl ?_
    refine g_get (v := .int (σ 0 22)) hc in_X7 (MW_at (k := 0) (by decide)) rfl 22 (by decide) q983 rfl dX7_see_53 ?_
    refine g_imul hc dX7_see_56 ?_
    refine g_iload_n hc dX7_see_57 rfl 1 rfl ?_
    obtain ⟨h4, hf⟩ := oC_some hf
    obtain ⟨s2, e3, hf⟩ := oL_some hf
    refine g_iast (n := 18) (f := σ 7) hc (MW_at (k := 7) (by decide)) h4 (MW_set (μ1 := s2) (k := 7) (by decide) e3 rfl) dX7_see_58 ?_
    refine g_aload_n hc dX7_see_59 rfl 0 rfl ?_
    refine g_get (v := .ref (ad 7)) hc in_X7 (MW_at (k := 0) (by decide)) rfl 21 (by decide) q982 rfl dX7_see_60 ?_
    refine g_iconst (v := 3) hc dX7_see_63 (by decide) ?_
    refine g_aload_n hc dX7_see_64 rfl 0 rfl ?_
    refine g_get (v := .int (s2 0 22)) hc in_X7 (MW_at (k := 0) (by decide)) rfl 22 (by decide) q983 rfl dX7_see_65 ?_
    refine g_imul hc dX7_see_68 ?_
    refine g_iconst (v := 1) hc dX7_see_69 (by decide) ?_
    refine g_iadd hc dX7_see_70 ?_
    refine g_iload_n hc dX7_see_71 rfl 2 rfl ?_
    obtain ⟨h7, hf⟩ := oC_some hf
    obtain ⟨s5, e6, hf⟩ := oL_some hf
    refine g_iast (n := 18) (f := s2 7) hc (MW_at (k := 7) (by decide)) h7 (MW_set (μ1 := s5) (k := 7) (by decide) e6 rfl) dX7_see_72 ?_
    refine g_aload_n hc dX7_see_73 rfl 0 rfl ?_
    refine g_get (v := .ref (ad 7)) hc in_X7 (MW_at (k := 0) (by decide)) rfl 21 (by decide) q982 rfl dX7_see_74 ?_
    refine g_iconst (v := 3) hc dX7_see_77 (by decide) ?_
    refine g_aload_n hc dX7_see_78 rfl 0 rfl ?_
    refine g_get (v := .int (s5 0 22)) hc in_X7 (MW_at (k := 0) (by decide)) rfl 22 (by decide) q983 rfl dX7_see_79 ?_
    refine g_imul hc dX7_see_82 ?_
    refine g_iconst (v := 2) hc dX7_see_83 (by decide) ?_
    refine g_iadd hc dX7_see_84 ?_
    refine g_iload_n hc dX7_see_85 rfl 3 rfl ?_
    refine g_bipush (v := 9) hc dX7_see_86 (by decide) ?_
    refine g_icmp_ne (tgt := 96) hc dX7_see_88 (by decide) (fun h8 => ?_) (fun h8 => ?_)
    · have hf := oF h8 hf
      refine g_iload_n hc dX7_see_96 rfl 3 rfl ?_
      exact g_lv [0] rfl (w_X7_see_b97 hc s5 l3 ((3 * (s5 0 22)) + 2)  (K := K) hf hK hR)
    · have hf := oT h8 hf
      refine g_bipush (v := (-4)) hc dX7_see_91 (by decide) ?_
      refine g_goto (tgt := 97) hc dX7_see_93 (by decide) ?_
      exact g_lv [0] rfl (w_X7_see_b97 hc s5 (-4) ((3 * (s5 0 22)) + 2)  (K := K) hf hK hR)
  · have hf := oT h1 hf
    refine g_bipush (v := (-3)) hc dX7_see_44 (by decide) ?_
    have hz := Option.some.inj hf; subst hz
    exact g_iret hc (hR _ hK) dX7_see_46
def f_X7_see (σ : (Nat → Nat → Int32)) (l1 : Int32) (l2 : Int32) (l3 : Int32) : Option (Int32 × (Nat → Nat → Int32)) :=
  oB (f_X7_isHog σ l1) fun r2 => if r2 = 0 then (some ((-1), σ)) else (oB (f_X7_isColumn l2) fun r5 => if r5 = 0 then (some ((-1), σ)) else (oB (f_X7_in (Int32.toInt64 l3) 0 6) fun r8 => if r8 = 0 then (if l3 = 9 then (f_X7_see_b35 σ l1 l2 l3) else (some ((-1), σ))) else (f_X7_see_b35 σ l1 l2 l3)))
theorem w_X7_see {x : gX} {ad : Nat → Nat} {tl : va_W}  (hc : gOk x RX7 cX7_see 4 2 46)  (σ : (Nat → Nat → Int32)) (l1 : Int32) (l2 : Int32) (l3 : Int32)  {K : Int32 × (Nat → Nat → Int32) → Prop} {o : Int32 × (Nat → Nat → Int32)} (hf : f_X7_see σ l1 l2 l3 = some o) (hK : K o) (hR : ∀ o : Int32 × (Nat → Nat → Int32), K o → gRi x 0 0 (MW x.dA ad o.2 ++ tl) o.1) : gG x 4 0 0 (MW x.dA ad σ ++ tl) 0 [(0, .ref (ad 0)), (1, .int l1), (2, .int l2), (3, .int l3)] [] := by
  unfold f_X7_see at hf
  refine g_aload_n hc dX7_see_0 rfl 0 rfl ?_
  refine g_iload_n hc dX7_see_1 rfl 1 rfl ?_
  obtain ⟨r2, h1, hf⟩ := oB_some hf
  refine g_callVi hc [.int l1] [] (c_X7_isHog  h1) (MW_at (k := 0) (by decide)) rfl (lw_V q1162 q1164 qs48 q67 q1165) rfl hd_X7_isHog rfl rfl (Nat.le_of_ble_eq_true rfl) gZ dX7_see_2 ?_
  refine g_if_eq (tgt := 33) hc dX7_see_5 (by decide) (fun h3 => ?_) (fun h3 => ?_)
  · have hf := oT h3 hf
    refine g_iconst (v := (-1)) hc dX7_see_33 (by decide) ?_
    have hz := Option.some.inj hf; subst hz
    exact g_iret hc (hR _ hK) dX7_see_34
  · have hf := oF h3 hf
    refine g_iload_n hc dX7_see_8 rfl 2 rfl ?_
    obtain ⟨r5, h4, hf⟩ := oB_some hf
    refine g_callSi hc [.int l2] [] (c_X7_isColumn  h4) (lw_S q1230 q1231 q67 q1232) rfl hd_X7_isColumn rfl rfl (Nat.le_of_ble_eq_true rfl) gZ dX7_see_9 ?_
    refine g_if_eq (tgt := 33) hc dX7_see_12 (by decide) (fun h6 => ?_) (fun h6 => ?_)
    · have hf := oT h6 hf
      refine g_iconst (v := (-1)) hc dX7_see_33 (by decide) ?_
      have hz := Option.some.inj hf; subst hz
      exact g_iret hc (hR _ hK) dX7_see_34
    · have hf := oF h6 hf
      refine g_iload_n hc dX7_see_15 rfl 3 rfl ?_
      refine g_i2l hc dX7_see_16 ?_
      refine g_lconst (v := 0) hc dX7_see_17 (by decide) ?_
      refine g_ldc2 (v := 6) hc q1090 dX7_see_18 ?_
      obtain ⟨r8, h7, hf⟩ := oB_some hf
      refine g_callSi hc [.long (Int32.toInt64 l3), .long 0, .long 6] [] (c_X7_in  h7) (lw_S q1055 q1056 q67 q1057) rfl hd_X7_in rfl rfl (Nat.le_of_ble_eq_true rfl) gZ dX7_see_21 ?_
      refine g_if_ne (tgt := 35) hc dX7_see_24 (by decide) (fun h9 => ?_) (fun h9 => ?_)
      · have hf := oF h9 hf
        exact g_lv [0, 1, 2, 3] rfl (w_X7_see_b35 hc σ l1 l2 l3  (K := K) hf hK hR)
      · have hf := oT h9 hf
        refine g_iload_n hc dX7_see_27 rfl 3 rfl ?_
        refine g_bipush (v := 9) hc dX7_see_28 (by decide) ?_
        refine g_icmp_eq (tgt := 35) hc dX7_see_30 (by decide) (fun h10 => ?_) (fun h10 => ?_)
        · have hf := oT h10 hf
          exact g_lv [0, 1, 2, 3] rfl (w_X7_see_b35 hc σ l1 l2 l3  (K := K) hf hK hR)
        · have hf := oF h10 hf
          refine g_iconst (v := (-1)) hc dX7_see_33 (by decide) ?_
          have hz := Option.some.inj hf; subst hz
          exact g_iret hc (hR _ hK) dX7_see_34
theorem c_X7_see {l : Launch} {D : va_G} {dA : Nat → ClassId} {ad : Nat → Nat} {tl : va_W}  {σ : (Nat → Nat → Int32)} {l1 : Int32} {l2 : Int32} {l3 : Int32}  {o : Int32 × (Nat → Nat → Int32)} (hf : f_X7_see σ l1 l2 l3 = some o) : gI l D dA (MW dA ad σ ++ tl) (MW dA ad o.2 ++ tl) [.ref (ad 0), .int l1, .int l2, .int l3] o.1 yX7_see (ws_ yX7_see cX7_see 4 (some .int)) ({ frames := 2, cells := 0, slots := 0, locals := 46 } : Room) :=
  g_startI (own := RX7) ⟨rfl, rfl⟩ (by decide) rfl (Nat.le_of_ble_eq_true rfl) (fun x e hc hR => by
    subst e
    exact w_X7_see hc σ l1 l2 l3  (K := fun o1 => o1 = o) hf rfl (by rintro _ rfl; exact hR))
theorem hd_X7_see : yX7_see.cls = RX7 ∧ yX7_see.cls ≠ "java/lang/invoke/MethodHandle" ∧ yX7_see.cls ≠ "java/lang/invoke/VarHandle" ∧ (parseMethodDescriptor yX7_see.desc).map (fun d => d.parameters.length) = some 3 := by decide +kernel
/-! HedgehogLotsModel.forget(I)I -/
def f_X7_forget (σ : (Nat → Nat → Int32)) (l1 : Int32) : Option (Int32 × (Nat → Nat → Int32)) :=
  oB (f_X7_in (Int32.toInt64 l1) 0 (Int32.toInt64 (σ 0 22))) fun r2 => if r2 = 0 then (some ((-1), σ)) else (oL (upd2 σ 0 22 l1) fun s4 => some ((σ 0 22), s4))
theorem w_X7_forget {x : gX} {ad : Nat → Nat} {tl : va_W}  (hc : gOk x RX7 cX7_forget 3 1 25)  (σ : (Nat → Nat → Int32)) (l1 : Int32)  {K : Int32 × (Nat → Nat → Int32) → Prop} {o : Int32 × (Nat → Nat → Int32)} (hf : f_X7_forget σ l1 = some o) (hK : K o) (hR : ∀ o : Int32 × (Nat → Nat → Int32), K o → gRi x 0 0 (MW x.dA ad o.2 ++ tl) o.1) : gG x 3 0 0 (MW x.dA ad σ ++ tl) 0 [(0, .ref (ad 0)), (1, .int l1)] [] := by
  unfold f_X7_forget at hf
  refine g_iload_n hc dX7_forget_0 rfl 1 rfl ?_
  refine g_i2l hc dX7_forget_1 ?_
  refine g_lconst (v := 0) hc dX7_forget_2 (by decide) ?_
  refine g_aload_n hc dX7_forget_3 rfl 0 rfl ?_
  refine g_get (v := .int (σ 0 22)) hc in_X7 (MW_at (k := 0) (by decide)) rfl 22 (by decide) q983 rfl dX7_forget_4 ?_
  refine g_i2l hc dX7_forget_7 ?_
  obtain ⟨r2, h1, hf⟩ := oB_some hf
  refine g_callSi hc [.long (Int32.toInt64 l1), .long 0, .long (Int32.toInt64 (σ 0 22))] [] (c_X7_in  h1) (lw_S q1055 q1056 q67 q1057) rfl hd_X7_in rfl rfl (Nat.le_of_ble_eq_true rfl) gZ dX7_forget_8 ?_
  refine g_if_ne (tgt := 16) hc dX7_forget_11 (by decide) (fun h3 => ?_) (fun h3 => ?_)
  · have hf := oF h3 hf
    refine g_aload_n hc dX7_forget_16 rfl 0 rfl ?_
    refine g_get (v := .int (σ 0 22)) hc in_X7 (MW_at (k := 0) (by decide)) rfl 22 (by decide) q983 rfl dX7_forget_17 ?_
    refine g_istore_n (lv' := [(2, .int (σ 0 22)), (0, .ref (ad 0)), (1, .int l1)]) hc dX7_forget_20 rfl (by decide) rfl ?_
    refine g_aload_n hc dX7_forget_21 rfl 1 rfl ?_
    refine g_iload_n hc dX7_forget_22 rfl 2 rfl ?_
    obtain ⟨s4, e5, hf⟩ := oL_some hf
    refine g_put (v := .int l1) hc in_X7 tyX7_ok nmX7 (MW_at (k := 0) (by decide)) rfl 22 (by decide) q983 rfl rfl rfl (Nat.le_of_ble_eq_true rfl) (MW_set (μ1 := s4) (k := 0) (by decide) e5 rfl) dX7_forget_23 ?_
    refine g_iload_n hc dX7_forget_26 rfl 0 rfl ?_
    have hz := Option.some.inj hf; subst hz
    exact g_iret hc (hR _ hK) dX7_forget_27
  · have hf := oT h3 hf
    refine g_iconst (v := (-1)) hc dX7_forget_14 (by decide) ?_
    have hz := Option.some.inj hf; subst hz
    exact g_iret hc (hR _ hK) dX7_forget_15
theorem c_X7_forget {l : Launch} {D : va_G} {dA : Nat → ClassId} {ad : Nat → Nat} {tl : va_W}  {σ : (Nat → Nat → Int32)} {l1 : Int32}  {o : Int32 × (Nat → Nat → Int32)} (hf : f_X7_forget σ l1 = some o) : gI l D dA (MW dA ad σ ++ tl) (MW dA ad o.2 ++ tl) [.ref (ad 0), .int l1] o.1 yX7_forget (ws_ yX7_forget cX7_forget 3 (some .int)) ({ frames := 1, cells := 0, slots := 0, locals := 25 } : Room) :=
  g_startI (own := RX7) ⟨rfl, rfl⟩ (by decide) rfl (Nat.le_of_ble_eq_true rfl) (fun x e hc hR => by
    subst e
    exact w_X7_forget hc σ l1  (K := fun o1 => o1 = o) hf rfl (by rintro _ rfl; exact hR))
theorem hd_X7_forget : yX7_forget.cls = RX7 ∧ yX7_forget.cls ≠ "java/lang/invoke/MethodHandle" ∧ yX7_forget.cls ≠ "java/lang/invoke/VarHandle" ∧ (parseMethodDescriptor yX7_forget.desc).map (fun d => d.parameters.length) = some 1 := by decide +kernel
/-! HedgehogLotsModel.isAsSeen(I)Z -/
def f_X7_isAsSeen_b86 (σ : (Nat → Nat → Int32)) (l1 : Int32) (l3 : Int32) (k1 : Int32) : Option ((Int32 × Int32 × (Nat → Nat → Int32)) ⊕ (Int32 × (Nat → Nat → Int32))) :=
  some (.inl (k1, (l3 + 1), σ))
theorem w_X7_isAsSeen_b86 {x : gX} {ad : Nat → Nat} {tl : va_W}  (hc : gOk x RX7 cX7_isAsSeen 5 2 54)  (σ : (Nat → Nat → Int32)) (l1 : Int32) (l3 : Int32) (k1 : Int32)  {K : (Int32 × Int32 × (Nat → Nat → Int32)) ⊕ (Int32 × (Nat → Nat → Int32)) → Prop} {o : (Int32 × Int32 × (Nat → Nat → Int32)) ⊕ (Int32 × (Nat → Nat → Int32))} (hf : f_X7_isAsSeen_b86 σ l1 l3 k1 = some o) (hK : K o) (hI4 : ∀ v : Int32 × Int32 × (Nat → Nat → Int32), K (.inl v) → gG x 5 0 0 (MW x.dA ad v.2.2 ++ tl) 4 [(0, .ref (ad 0)), (1, .int l1), (2, .int v.1), (3, .int v.2.1)] []) (hR : ∀ o : Int32 × (Nat → Nat → Int32), K (.inr (o)) → gRz x 0 0 (MW x.dA ad o.2 ++ tl) o.1) : gG x 5 0 0 (MW x.dA ad σ ++ tl) 86 [(0, .ref (ad 0)), (1, .int l1), (3, .int l3)] [.int k1] := by
  unfold f_X7_isAsSeen_b86 at hf
  refine g_istore_n (lv' := [(2, .int k1), (0, .ref (ad 0)), (1, .int l1), (3, .int l3)]) hc dX7_isAsSeen_86 rfl (by decide) rfl ?_
  refine g_iinc (v := l3 + 1) (lv' := [(3, .int (l3 + 1)), (2, .int k1), (0, .ref (ad 0)), (1, .int l1)]) hc dX7_isAsSeen_87 (j := 3) rfl rfl (by decide) rfl ?_
  refine g_goto (tgt := 4) hc dX7_isAsSeen_90 (by decide) ?_
  have hz := Option.some.inj hf; subst hz
  exact g_lv [2, 3, 1, 0] rfl (hI4 _ hK)
def f_X7_isAsSeen_b85 (σ : (Nat → Nat → Int32)) (l1 : Int32) (l3 : Int32) : Option ((Int32 × Int32 × (Nat → Nat → Int32)) ⊕ (Int32 × (Nat → Nat → Int32))) :=
  f_X7_isAsSeen_b86 σ l1 l3 0
theorem w_X7_isAsSeen_b85 {x : gX} {ad : Nat → Nat} {tl : va_W}  (hc : gOk x RX7 cX7_isAsSeen 5 2 54)  (σ : (Nat → Nat → Int32)) (l1 : Int32) (l3 : Int32)  {K : (Int32 × Int32 × (Nat → Nat → Int32)) ⊕ (Int32 × (Nat → Nat → Int32)) → Prop} {o : (Int32 × Int32 × (Nat → Nat → Int32)) ⊕ (Int32 × (Nat → Nat → Int32))} (hf : f_X7_isAsSeen_b85 σ l1 l3 = some o) (hK : K o) (hI4 : ∀ v : Int32 × Int32 × (Nat → Nat → Int32), K (.inl v) → gG x 5 0 0 (MW x.dA ad v.2.2 ++ tl) 4 [(0, .ref (ad 0)), (1, .int l1), (2, .int v.1), (3, .int v.2.1)] []) (hR : ∀ o : Int32 × (Nat → Nat → Int32), K (.inr (o)) → gRz x 0 0 (MW x.dA ad o.2 ++ tl) o.1) : gG x 5 0 0 (MW x.dA ad σ ++ tl) 85 [(0, .ref (ad 0)), (1, .int l1), (3, .int l3)] [] := by
  unfold f_X7_isAsSeen_b85 at hf
  refine g_iconst (v := 0) hc dX7_isAsSeen_85 (by decide) ?_
  exact g_lv [0, 1, 2] rfl (w_X7_isAsSeen_b86 hc σ l1 l3 0  (K := K) hf hK hI4 hR)
def f_X7_isAsSeen_b55 (σ : (Nat → Nat → Int32)) (l1 : Int32) (l2 : Int32) (l3 : Int32) (l4 : Int32) : Option ((Int32 × Int32 × (Nat → Nat → Int32)) ⊕ (Int32 × (Nat → Nat → Int32))) :=
  if l2 = 0 then (f_X7_isAsSeen_b85 σ l1 l3) else (if l4 = 0 then (f_X7_isAsSeen_b85 σ l1 l3) else (oC (inb ((3 * l3) + 2) 18) <| if (σ 0 16) = (σ 7 ((3 * l3) + 2).toNatClampNeg) then (f_X7_isAsSeen_b86 σ l1 l3 1) else (f_X7_isAsSeen_b85 σ l1 l3)))
theorem w_X7_isAsSeen_b55 {x : gX} {ad : Nat → Nat} {tl : va_W}  (hc : gOk x RX7 cX7_isAsSeen 5 2 54)  (σ : (Nat → Nat → Int32)) (l1 : Int32) (l2 : Int32) (l3 : Int32) (l4 : Int32)  {K : (Int32 × Int32 × (Nat → Nat → Int32)) ⊕ (Int32 × (Nat → Nat → Int32)) → Prop} {o : (Int32 × Int32 × (Nat → Nat → Int32)) ⊕ (Int32 × (Nat → Nat → Int32))} (hf : f_X7_isAsSeen_b55 σ l1 l2 l3 l4 = some o) (hK : K o) (hI4 : ∀ v : Int32 × Int32 × (Nat → Nat → Int32), K (.inl v) → gG x 5 0 0 (MW x.dA ad v.2.2 ++ tl) 4 [(0, .ref (ad 0)), (1, .int l1), (2, .int v.1), (3, .int v.2.1)] []) (hR : ∀ o : Int32 × (Nat → Nat → Int32), K (.inr (o)) → gRz x 0 0 (MW x.dA ad o.2 ++ tl) o.1) : gG x 5 0 0 (MW x.dA ad σ ++ tl) 55 [(0, .ref (ad 0)), (1, .int l1), (2, .int l2), (3, .int l3), (4, .int l4)] [] := by
  unfold f_X7_isAsSeen_b55 at hf
  refine g_iload_n hc dX7_isAsSeen_55 rfl 2 rfl ?_
  refine g_if_eq (tgt := 85) hc dX7_isAsSeen_56 (by decide) (fun h1 => ?_) (fun h1 => ?_)
  · have hf := oT h1 hf
    exact g_lv [0, 1, 3] rfl (w_X7_isAsSeen_b85 hc σ l1 l3  (K := K) hf hK hI4 hR)
  · have hf := oF h1 hf
    refine g_iload hc dX7_isAsSeen_59 4 rfl ?_
    refine g_if_eq (tgt := 85) hc dX7_isAsSeen_61 (by decide) (fun h2 => ?_) (fun h2 => ?_)
    · have hf := oT h2 hf
      exact g_lv [0, 1, 3] rfl (w_X7_isAsSeen_b85 hc σ l1 l3  (K := K) hf hK hI4 hR)
    · have hf := oF h2 hf
      refine g_aload_n hc dX7_isAsSeen_64 rfl 0 rfl ?_
      refine g_get (v := .int (σ 0 16)) hc in_X7 (MW_at (k := 0) (by decide)) rfl 16 (by decide) q977 rfl dX7_isAsSeen_65 ?_
      refine g_aload_n hc dX7_isAsSeen_68 rfl 0 rfl ?_
      refine g_get (v := .ref (ad 7)) hc in_X7 (MW_at (k := 0) (by decide)) rfl 21 (by decide) q982 rfl dX7_isAsSeen_69 ?_
      refine g_iconst (v := 3) hc dX7_isAsSeen_72 (by decide) ?_
      refine g_iload_n hc dX7_isAsSeen_73 rfl 3 rfl ?_
      refine g_imul hc dX7_isAsSeen_74 ?_
      refine g_iconst (v := 2) hc dX7_isAsSeen_75 (by decide) ?_
      refine g_iadd hc dX7_isAsSeen_76 ?_
      obtain ⟨h3, hf⟩ := oC_some hf
      refine g_iald (n := 18) (f := σ 7) hc (MW_at (k := 7) (by decide)) h3 dX7_isAsSeen_77 ?_
      refine g_icmp_ne (tgt := 85) hc dX7_isAsSeen_78 (by decide) (fun h4 => ?_) (fun h4 => ?_)
      · have hf := oF h4 hf
        exact g_lv [0, 1, 3] rfl (w_X7_isAsSeen_b85 hc σ l1 l3  (K := K) hf hK hI4 hR)
      · have hf := oT h4 hf
        refine g_iconst (v := 1) hc dX7_isAsSeen_81 (by decide) ?_
        refine g_goto (tgt := 86) hc dX7_isAsSeen_82 (by decide) ?_
        exact g_lv [0, 1, 3] rfl (w_X7_isAsSeen_b86 hc σ l1 l3 1  (K := K) hf hK hI4 hR)
def f_X7_isAsSeen_L4 (σ : (Nat → Nat → Int32)) (l1 : Int32) (l2 : Int32) (l3 : Int32) : Option ((Int32 × Int32 × (Nat → Nat → Int32)) ⊕ (Int32 × (Nat → Nat → Int32))) :=
  if (σ 0 22) ≤ l3 then (oI (oC (isB l2) <| some (l2, σ))) else (oC (inb (3 * l3) 18) <| oB (f_X7_isHog σ (σ 7 (3 * l3).toNatClampNeg)) fun r6 => if r6 = 0 then (f_X7_isAsSeen_b55 σ l1 l2 l3 r6) else (oC (inb (3 * l3) 18) <| oC (inb ((3 * l3) + 1) 18) <| oB (f_X7_runsOn σ l1 (σ 7 (3 * l3).toNatClampNeg) (σ 7 ((3 * l3) + 1).toNatClampNeg) 0) fun r11 => f_X7_isAsSeen_b55 r11 l1 l2 l3 r6))
theorem w_X7_isAsSeen_L4 {x : gX} {ad : Nat → Nat} {tl : va_W}  (hc : gOk x RX7 cX7_isAsSeen 5 2 54)  (σ : (Nat → Nat → Int32)) (l1 : Int32) (l2 : Int32) (l3 : Int32)  {K : (Int32 × Int32 × (Nat → Nat → Int32)) ⊕ (Int32 × (Nat → Nat → Int32)) → Prop} {o : (Int32 × Int32 × (Nat → Nat → Int32)) ⊕ (Int32 × (Nat → Nat → Int32))} (hf : f_X7_isAsSeen_L4 σ l1 l2 l3 = some o) (hK : K o) (hI4 : ∀ v : Int32 × Int32 × (Nat → Nat → Int32), K (.inl v) → gG x 5 0 0 (MW x.dA ad v.2.2 ++ tl) 4 [(0, .ref (ad 0)), (1, .int l1), (2, .int v.1), (3, .int v.2.1)] []) (hR : ∀ o : Int32 × (Nat → Nat → Int32), K (.inr (o)) → gRz x 0 0 (MW x.dA ad o.2 ++ tl) o.1) : gG x 5 0 0 (MW x.dA ad σ ++ tl) 4 [(0, .ref (ad 0)), (1, .int l1), (2, .int l2), (3, .int l3)] [] := by
  unfold f_X7_isAsSeen_L4 at hf
  refine g_iload_n hc dX7_isAsSeen_4 rfl 3 rfl ?_
  refine g_aload_n hc dX7_isAsSeen_5 rfl 0 rfl ?_
  refine g_get (v := .int (σ 0 22)) hc in_X7 (MW_at (k := 0) (by decide)) rfl 22 (by decide) q983 rfl dX7_isAsSeen_6 ?_
  refine g_icmp_ge (tgt := 93) hc dX7_isAsSeen_9 (by decide) (fun h1 => ?_) (fun h1 => ?_)
  · have hf := oT h1 hf
    obtain ⟨o3, hgo3, eo3⟩ := oI_some hf
    clear hf; subst eo3; have hf := hgo3; clear hgo3
    refine g_iload_n hc dX7_isAsSeen_93 rfl 2 rfl ?_
    obtain ⟨h2, hf⟩ := oC_some hf
    have hz := Option.some.inj hf; subst hz
    exact g_zret hc (hR _ hK) (isB_nar h2) dX7_isAsSeen_94
  · have hf := oF h1 hf
    refine g_aload_n hc dX7_isAsSeen_12 rfl 0 rfl ?_
    refine g_aload_n hc dX7_isAsSeen_13 rfl 0 rfl ?_
    refine g_get (v := .ref (ad 7)) hc in_X7 (MW_at (k := 0) (by decide)) rfl 21 (by decide) q982 rfl dX7_isAsSeen_14 ?_
    refine g_iconst (v := 3) hc dX7_isAsSeen_17 (by decide) ?_
    refine g_iload_n hc dX7_isAsSeen_18 rfl 3 rfl ?_
    refine g_imul hc dX7_isAsSeen_19 ?_
    obtain ⟨h4, hf⟩ := oC_some hf
    refine g_iald (n := 18) (f := σ 7) hc (MW_at (k := 7) (by decide)) h4 dX7_isAsSeen_20 ?_
    obtain ⟨r6, h5, hf⟩ := oB_some hf
    refine g_callVi hc [.int (σ 7 (3 * l3).toNatClampNeg)] [] (c_X7_isHog  h5) (MW_at (k := 0) (by decide)) rfl (lw_V q1162 q1164 qs48 q67 q1165) rfl hd_X7_isHog rfl rfl (Nat.le_of_ble_eq_true rfl) gZ dX7_isAsSeen_21 ?_
    refine g_istore (lv' := [(4, .int r6), (0, .ref (ad 0)), (1, .int l1), (2, .int l2), (3, .int l3)]) hc dX7_isAsSeen_24 (by decide) rfl ?_
    refine g_iload hc dX7_isAsSeen_26 0 rfl ?_
    refine g_if_eq (tgt := 55) hc dX7_isAsSeen_28 (by decide) (fun h7 => ?_) (fun h7 => ?_)
    · have hf := oT h7 hf
      exact g_lv [1, 2, 3, 4, 0] rfl (w_X7_isAsSeen_b55 hc σ l1 l2 l3 r6  (K := K) hf hK hI4 hR)
    · have hf := oF h7 hf
      refine g_aload_n hc dX7_isAsSeen_31 rfl 1 rfl ?_
      refine g_iload_n hc dX7_isAsSeen_32 rfl 2 rfl ?_
      refine g_aload_n hc dX7_isAsSeen_33 rfl 1 rfl ?_
      refine g_get (v := .ref (ad 7)) hc in_X7 (MW_at (k := 0) (by decide)) rfl 21 (by decide) q982 rfl dX7_isAsSeen_34 ?_
      refine g_iconst (v := 3) hc dX7_isAsSeen_37 (by decide) ?_
      refine g_iload_n hc dX7_isAsSeen_38 rfl 4 rfl ?_
      refine g_imul hc dX7_isAsSeen_39 ?_
      obtain ⟨h8, hf⟩ := oC_some hf
      refine g_iald (n := 18) (f := σ 7) hc (MW_at (k := 7) (by decide)) h8 dX7_isAsSeen_40 ?_
      refine g_aload_n hc dX7_isAsSeen_41 rfl 1 rfl ?_
      refine g_get (v := .ref (ad 7)) hc in_X7 (MW_at (k := 0) (by decide)) rfl 21 (by decide) q982 rfl dX7_isAsSeen_42 ?_
      refine g_iconst (v := 3) hc dX7_isAsSeen_45 (by decide) ?_
      refine g_iload_n hc dX7_isAsSeen_46 rfl 4 rfl ?_
      refine g_imul hc dX7_isAsSeen_47 ?_
      refine g_iconst (v := 1) hc dX7_isAsSeen_48 (by decide) ?_
      refine g_iadd hc dX7_isAsSeen_49 ?_
      obtain ⟨h9, hf⟩ := oC_some hf
      refine g_iald (n := 18) (f := σ 7) hc (MW_at (k := 7) (by decide)) h9 dX7_isAsSeen_50 ?_
      refine g_iconst (v := 0) hc dX7_isAsSeen_51 (by decide) ?_
      obtain ⟨r11, h10, hf⟩ := oB_some hf
      refine g_callVv hc [.int l1, .int (σ 7 (3 * l3).toNatClampNeg), .int (σ 7 ((3 * l3) + 1).toNatClampNeg), .int 0] [] (c_X7_runsOn  h10) (MW_at (k := 0) (by decide)) rfl (lw_V q1119 q1121 qs42 q67 q1122) rfl hd_X7_runsOn rfl rfl (Nat.le_of_ble_eq_true rfl) gZ dX7_isAsSeen_52 ?_
      exact g_lv [1, 2, 3, 4, 0] rfl (w_X7_isAsSeen_b55 hc r11 l1 l2 l3 r6  (K := K) hf hK hI4 hR)
def f_X7_isAsSeen_b4 (σ : (Nat → Nat → Int32)) (l1 : Int32) (l2 : Int32) (l3 : Int32) : Option (Int32 × (Nat → Nat → Int32)) :=
  oLoop gFU (fun v : Int32 × Int32 × (Nat → Nat → Int32) => f_X7_isAsSeen_L4 v.2.2 l1 v.1 v.2.1) (l2, l3, σ)
theorem w_X7_isAsSeen_b4 {x : gX} {ad : Nat → Nat} {tl : va_W}  (hc : gOk x RX7 cX7_isAsSeen 5 2 54)  (σ : (Nat → Nat → Int32)) (l1 : Int32) (l2 : Int32) (l3 : Int32)  {K : Int32 × (Nat → Nat → Int32) → Prop} {o : Int32 × (Nat → Nat → Int32)} (hf : f_X7_isAsSeen_b4 σ l1 l2 l3 = some o) (hK : K o) (hR : ∀ o : Int32 × (Nat → Nat → Int32), K o → gRz x 0 0 (MW x.dA ad o.2 ++ tl) o.1) : gG x 5 0 0 (MW x.dA ad σ ++ tl) 4 [(0, .ref (ad 0)), (1, .int l1), (2, .int l2), (3, .int l3)] [] :=
  oLoop_ind (fun v : Int32 × Int32 × (Nat → Nat → Int32) => gG x 5 0 0 (MW x.dA ad v.2.2 ++ tl) 4 [(0, .ref (ad 0)), (1, .int l1), (2, .int v.1), (3, .int v.2.1)] []) K (fun v o1 hf1 hK1 => w_X7_isAsSeen_L4 hc v.2.2 l1 v.1 v.2.1  (K := Sum.elim (fun v : Int32 × Int32 × (Nat → Nat → Int32) => gG x 5 0 0 (MW x.dA ad v.2.2 ++ tl) 4 [(0, .ref (ad 0)), (1, .int l1), (2, .int v.1), (3, .int v.2.1)] []) K) hf1 hK1 (fun v hv => hv) hR) gFU _ o hf hK
def f_X7_isAsSeen (σ : (Nat → Nat → Int32)) (l1 : Int32) : Option (Int32 × (Nat → Nat → Int32)) :=
  f_X7_isAsSeen_b4 σ l1 1 0
theorem w_X7_isAsSeen {x : gX} {ad : Nat → Nat} {tl : va_W}  (hc : gOk x RX7 cX7_isAsSeen 5 2 54)  (σ : (Nat → Nat → Int32)) (l1 : Int32)  {K : Int32 × (Nat → Nat → Int32) → Prop} {o : Int32 × (Nat → Nat → Int32)} (hf : f_X7_isAsSeen σ l1 = some o) (hK : K o) (hR : ∀ o : Int32 × (Nat → Nat → Int32), K o → gRz x 0 0 (MW x.dA ad o.2 ++ tl) o.1) : gG x 5 0 0 (MW x.dA ad σ ++ tl) 0 [(0, .ref (ad 0)), (1, .int l1)] [] := by
  unfold f_X7_isAsSeen at hf
  refine g_iconst (v := 1) hc dX7_isAsSeen_0 (by decide) ?_
  refine g_istore_n (lv' := [(2, .int 1), (0, .ref (ad 0)), (1, .int l1)]) hc dX7_isAsSeen_1 rfl (by decide) rfl ?_
  refine g_iconst (v := 0) hc dX7_isAsSeen_2 (by decide) ?_
  refine g_istore_n (lv' := [(3, .int 0), (2, .int 1), (0, .ref (ad 0)), (1, .int l1)]) hc dX7_isAsSeen_3 rfl (by decide) rfl ?_
  exact g_lv [2, 3, 1, 0] rfl (w_X7_isAsSeen_b4 hc σ l1 1 0  (K := K) hf hK hR)
theorem c_X7_isAsSeen {l : Launch} {D : va_G} {dA : Nat → ClassId} {ad : Nat → Nat} {tl : va_W}  {σ : (Nat → Nat → Int32)} {l1 : Int32}  {o : Int32 × (Nat → Nat → Int32)} (hf : f_X7_isAsSeen σ l1 = some o) : gI l D dA (MW dA ad σ ++ tl) (MW dA ad o.2 ++ tl) [.ref (ad 0), .int l1] o.1 yX7_isAsSeen (ws_ yX7_isAsSeen cX7_isAsSeen 5 (some .boolean)) ({ frames := 2, cells := 0, slots := 0, locals := 54 } : Room) :=
  g_startZ (own := RX7) ⟨rfl, rfl⟩ (by decide) rfl (Nat.le_of_ble_eq_true rfl) (fun x e hc hR => by
    subst e
    exact w_X7_isAsSeen hc σ l1  (K := fun o1 => o1 = o) hf rfl (by rintro _ rfl; exact hR))
theorem hd_X7_isAsSeen : yX7_isAsSeen.cls = RX7 ∧ yX7_isAsSeen.cls ≠ "java/lang/invoke/MethodHandle" ∧ yX7_isAsSeen.cls ≠ "java/lang/invoke/VarHandle" ∧ (parseMethodDescriptor yX7_isAsSeen.desc).map (fun d => d.parameters.length) = some 1 := by decide +kernel
/-! HedgehogLotsModel.kinds(I)I -/
def f_X7_kinds_b56 (σ : (Nat → Nat → Int32)) (l1 : Int32) (l3 : Int32) (k2 : Int32) (k1 : Int32) : Option ((Int32 × Int32 × (Nat → Nat → Int32)) ⊕ (Int32 × (Nat → Nat → Int32))) :=
  some (.inl ((k1 ||| k2), (l3 + 1), σ))
theorem w_X7_kinds_b56 {x : gX} {ad : Nat → Nat} {tl : va_W}  (hc : gOk x RX7 cX7_kinds 4 3 78)  (σ : (Nat → Nat → Int32)) (l1 : Int32) (l3 : Int32) (k2 : Int32) (k1 : Int32)  {K : (Int32 × Int32 × (Nat → Nat → Int32)) ⊕ (Int32 × (Nat → Nat → Int32)) → Prop} {o : (Int32 × Int32 × (Nat → Nat → Int32)) ⊕ (Int32 × (Nat → Nat → Int32))} (hf : f_X7_kinds_b56 σ l1 l3 k2 k1 = some o) (hK : K o) (hI22 : ∀ v : Int32 × Int32 × (Nat → Nat → Int32), K (.inl v) → gG x 4 0 0 (MW x.dA ad v.2.2 ++ tl) 22 [(0, .ref (ad 0)), (1, .int l1), (2, .int v.1), (3, .int v.2.1)] []) (hR : ∀ o : Int32 × (Nat → Nat → Int32), K (.inr (o)) → gRi x 0 0 (MW x.dA ad o.2 ++ tl) o.1) : gG x 4 0 0 (MW x.dA ad σ ++ tl) 56 [(0, .ref (ad 0)), (1, .int l1), (3, .int l3)] [.int k2, .int k1] := by
  unfold f_X7_kinds_b56 at hf
  refine g_ior hc dX7_kinds_56 ?_
  refine g_istore_n (lv' := [(2, .int (k1 ||| k2)), (0, .ref (ad 0)), (1, .int l1), (3, .int l3)]) hc dX7_kinds_57 rfl (by decide) rfl ?_
  refine g_iinc (v := l3 + 1) (lv' := [(3, .int (l3 + 1)), (2, .int (k1 ||| k2)), (0, .ref (ad 0)), (1, .int l1)]) hc dX7_kinds_58 (j := 3) rfl rfl (by decide) rfl ?_
  refine g_goto (tgt := 22) hc dX7_kinds_61 (by decide) ?_
  have hz := Option.some.inj hf; subst hz
  exact g_lv [2, 3, 1, 0] rfl (hI22 _ hK)
def f_X7_kinds_L22 (σ : (Nat → Nat → Int32)) (l1 : Int32) (l2 : Int32) (l3 : Int32) : Option ((Int32 × Int32 × (Nat → Nat → Int32)) ⊕ (Int32 × (Nat → Nat → Int32))) :=
  if 4 ≤ l3 then (oI (some (l2, σ))) else (oC (inb (182 + l1) 205) <| oL (upd2 σ 1 (182 + l1).toNatClampNeg l3) fun s3 => oB (f_X7_isAsSeen s3 164) fun r7 => if r7.1 = 0 then (f_X7_kinds_b56 r7.2 l1 l3 0 l2) else (f_X7_kinds_b56 r7.2 l1 l3 ((1 : Int32) <<< (l3 &&& 31)) l2))
theorem w_X7_kinds_L22 {x : gX} {ad : Nat → Nat} {tl : va_W}  (hc : gOk x RX7 cX7_kinds 4 3 78)  (σ : (Nat → Nat → Int32)) (l1 : Int32) (l2 : Int32) (l3 : Int32)  {K : (Int32 × Int32 × (Nat → Nat → Int32)) ⊕ (Int32 × (Nat → Nat → Int32)) → Prop} {o : (Int32 × Int32 × (Nat → Nat → Int32)) ⊕ (Int32 × (Nat → Nat → Int32))} (hf : f_X7_kinds_L22 σ l1 l2 l3 = some o) (hK : K o) (hI22 : ∀ v : Int32 × Int32 × (Nat → Nat → Int32), K (.inl v) → gG x 4 0 0 (MW x.dA ad v.2.2 ++ tl) 22 [(0, .ref (ad 0)), (1, .int l1), (2, .int v.1), (3, .int v.2.1)] []) (hR : ∀ o : Int32 × (Nat → Nat → Int32), K (.inr (o)) → gRi x 0 0 (MW x.dA ad o.2 ++ tl) o.1) : gG x 4 0 0 (MW x.dA ad σ ++ tl) 22 [(0, .ref (ad 0)), (1, .int l1), (2, .int l2), (3, .int l3)] [] := by
  unfold f_X7_kinds_L22 at hf
  refine g_iload_n hc dX7_kinds_22 rfl 3 rfl ?_
  refine g_iconst (v := 4) hc dX7_kinds_23 (by decide) ?_
  refine g_icmp_ge (tgt := 64) hc dX7_kinds_24 (by decide) (fun h1 => ?_) (fun h1 => ?_)
  · have hf := oT h1 hf
    obtain ⟨o2, hgo2, eo2⟩ := oI_some hf
    clear hf; subst eo2; have hf := hgo2; clear hgo2
    refine g_iload_n hc dX7_kinds_64 rfl 2 rfl ?_
    have hz := Option.some.inj hf; subst hz
    exact g_iret hc (hR _ hK) dX7_kinds_65
  · have hf := oF h1 hf
    refine g_aload_n hc dX7_kinds_27 rfl 0 rfl ?_
    refine g_get (v := .ref (ad 1)) hc in_X7 (MW_at (k := 0) (by decide)) rfl 0 (by decide) q961 rfl dX7_kinds_28 ?_
    refine g_sipush (v := 182) hc dX7_kinds_31 (by decide) ?_
    refine g_iload_n hc dX7_kinds_34 rfl 1 rfl ?_
    refine g_iadd hc dX7_kinds_35 ?_
    refine g_iload_n hc dX7_kinds_36 rfl 3 rfl ?_
    obtain ⟨h5, hf⟩ := oC_some hf
    obtain ⟨s3, e4, hf⟩ := oL_some hf
    refine g_iast (n := 205) (f := σ 1) hc (MW_at (k := 1) (by decide)) h5 (MW_set (μ1 := s3) (k := 1) (by decide) e4 rfl) dX7_kinds_37 ?_
    refine g_iload_n hc dX7_kinds_38 rfl 2 rfl ?_
    refine g_aload_n hc dX7_kinds_39 rfl 0 rfl ?_
    refine g_sipush (v := 164) hc dX7_kinds_40 (by decide) ?_
    obtain ⟨r7, h6, hf⟩ := oB_some hf
    refine g_callVi hc [.int 164] [.int l2] (c_X7_isAsSeen  h6) (MW_at (k := 0) (by decide)) rfl (lw_V q1324 q1326 qs57 q67 q1327) rfl hd_X7_isAsSeen rfl rfl (Nat.le_of_ble_eq_true rfl) gZ dX7_kinds_43 ?_
    refine g_if_eq (tgt := 55) hc dX7_kinds_46 (by decide) (fun h8 => ?_) (fun h8 => ?_)
    · have hf := oT h8 hf
      refine g_iconst (v := 0) hc dX7_kinds_55 (by decide) ?_
      exact g_lv [0, 1, 3] rfl (w_X7_kinds_b56 hc r7.2 l1 l3 0 l2  (K := K) hf hK hI22 hR)
    · have hf := oF h8 hf
      refine g_iconst (v := 1) hc dX7_kinds_49 (by decide) ?_
      refine g_iload_n hc dX7_kinds_50 rfl 3 rfl ?_
      refine g_ishl hc dX7_kinds_51 ?_
      refine g_goto (tgt := 56) hc dX7_kinds_52 (by decide) ?_
      exact g_lv [0, 1, 3] rfl (w_X7_kinds_b56 hc r7.2 l1 l3 ((1 : Int32) <<< (l3 &&& 31)) l2  (K := K) hf hK hI22 hR)
def f_X7_kinds_b22 (σ : (Nat → Nat → Int32)) (l1 : Int32) (l2 : Int32) (l3 : Int32) : Option (Int32 × (Nat → Nat → Int32)) :=
  oLoop gFU (fun v : Int32 × Int32 × (Nat → Nat → Int32) => f_X7_kinds_L22 v.2.2 l1 v.1 v.2.1) (l2, l3, σ)
theorem w_X7_kinds_b22 {x : gX} {ad : Nat → Nat} {tl : va_W}  (hc : gOk x RX7 cX7_kinds 4 3 78)  (σ : (Nat → Nat → Int32)) (l1 : Int32) (l2 : Int32) (l3 : Int32)  {K : Int32 × (Nat → Nat → Int32) → Prop} {o : Int32 × (Nat → Nat → Int32)} (hf : f_X7_kinds_b22 σ l1 l2 l3 = some o) (hK : K o) (hR : ∀ o : Int32 × (Nat → Nat → Int32), K o → gRi x 0 0 (MW x.dA ad o.2 ++ tl) o.1) : gG x 4 0 0 (MW x.dA ad σ ++ tl) 22 [(0, .ref (ad 0)), (1, .int l1), (2, .int l2), (3, .int l3)] [] :=
  oLoop_ind (fun v : Int32 × Int32 × (Nat → Nat → Int32) => gG x 4 0 0 (MW x.dA ad v.2.2 ++ tl) 22 [(0, .ref (ad 0)), (1, .int l1), (2, .int v.1), (3, .int v.2.1)] []) K (fun v o1 hf1 hK1 => w_X7_kinds_L22 hc v.2.2 l1 v.1 v.2.1  (K := Sum.elim (fun v : Int32 × Int32 × (Nat → Nat → Int32) => gG x 4 0 0 (MW x.dA ad v.2.2 ++ tl) 22 [(0, .ref (ad 0)), (1, .int l1), (2, .int v.1), (3, .int v.2.1)] []) K) hf1 hK1 (fun v hv => hv) hR) gFU _ o hf hK
def f_X7_kinds (σ : (Nat → Nat → Int32)) (l1 : Int32) : Option (Int32 × (Nat → Nat → Int32)) :=
  oB (f_X7_isHog σ l1) fun r2 => if r2 = 0 then (some ((-1), σ)) else (oB (f_X7_copies σ 0 164) fun r5 => f_X7_kinds_b22 r5 l1 0 0)
theorem w_X7_kinds {x : gX} {ad : Nat → Nat} {tl : va_W}  (hc : gOk x RX7 cX7_kinds 4 3 78)  (σ : (Nat → Nat → Int32)) (l1 : Int32)  {K : Int32 × (Nat → Nat → Int32) → Prop} {o : Int32 × (Nat → Nat → Int32)} (hf : f_X7_kinds σ l1 = some o) (hK : K o) (hR : ∀ o : Int32 × (Nat → Nat → Int32), K o → gRi x 0 0 (MW x.dA ad o.2 ++ tl) o.1) : gG x 4 0 0 (MW x.dA ad σ ++ tl) 0 [(0, .ref (ad 0)), (1, .int l1)] [] := by
  unfold f_X7_kinds at hf
  refine g_aload_n hc dX7_kinds_0 rfl 0 rfl ?_
  refine g_iload_n hc dX7_kinds_1 rfl 1 rfl ?_
  obtain ⟨r2, h1, hf⟩ := oB_some hf
  refine g_callVi hc [.int l1] [] (c_X7_isHog  h1) (MW_at (k := 0) (by decide)) rfl (lw_V q1162 q1164 qs48 q67 q1165) rfl hd_X7_isHog rfl rfl (Nat.le_of_ble_eq_true rfl) gZ dX7_kinds_2 ?_
  refine g_if_ne (tgt := 10) hc dX7_kinds_5 (by decide) (fun h3 => ?_) (fun h3 => ?_)
  · have hf := oF h3 hf
    refine g_iconst (v := 0) hc dX7_kinds_10 (by decide) ?_
    refine g_istore_n (lv' := [(2, .int 0), (0, .ref (ad 0)), (1, .int l1)]) hc dX7_kinds_11 rfl (by decide) rfl ?_
    refine g_aload_n hc dX7_kinds_12 rfl 1 rfl ?_
    refine g_iconst (v := 0) hc dX7_kinds_13 (by decide) ?_
    refine g_sipush (v := 164) hc dX7_kinds_14 (by decide) ?_
    obtain ⟨r5, h4, hf⟩ := oB_some hf
    refine g_callVv hc [.int 0, .int 164] [] (c_X7_copies  h4) (MW_at (k := 0) (by decide)) rfl (lw_V q1263 q1265 qs55 q67 q1266) rfl hd_X7_copies rfl rfl (Nat.le_of_ble_eq_true rfl) gZ dX7_kinds_17 ?_
    refine g_iconst (v := 0) hc dX7_kinds_20 (by decide) ?_
    refine g_istore_n (lv' := [(3, .int 0), (2, .int 0), (0, .ref (ad 0)), (1, .int l1)]) hc dX7_kinds_21 rfl (by decide) rfl ?_
    exact g_lv [2, 3, 1, 0] rfl (w_X7_kinds_b22 hc r5 l1 0 0  (K := K) hf hK hR)
  · have hf := oT h3 hf
    refine g_iconst (v := (-1)) hc dX7_kinds_8 (by decide) ?_
    have hz := Option.some.inj hf; subst hz
    exact g_iret hc (hR _ hK) dX7_kinds_9
theorem c_X7_kinds {l : Launch} {D : va_G} {dA : Nat → ClassId} {ad : Nat → Nat} {tl : va_W}  {σ : (Nat → Nat → Int32)} {l1 : Int32}  {o : Int32 × (Nat → Nat → Int32)} (hf : f_X7_kinds σ l1 = some o) : gI l D dA (MW dA ad σ ++ tl) (MW dA ad o.2 ++ tl) [.ref (ad 0), .int l1] o.1 yX7_kinds (ws_ yX7_kinds cX7_kinds 4 (some .int)) ({ frames := 3, cells := 0, slots := 0, locals := 78 } : Room) :=
  g_startI (own := RX7) ⟨rfl, rfl⟩ (by decide) rfl (Nat.le_of_ble_eq_true rfl) (fun x e hc hR => by
    subst e
    exact w_X7_kinds hc σ l1  (K := fun o1 => o1 = o) hf rfl (by rintro _ rfl; exact hR))
theorem hd_X7_kinds : yX7_kinds.cls = RX7 ∧ yX7_kinds.cls ≠ "java/lang/invoke/MethodHandle" ∧ yX7_kinds.cls ≠ "java/lang/invoke/VarHandle" ∧ (parseMethodDescriptor yX7_kinds.desc).map (fun d => d.parameters.length) = some 1 := by decide +kernel
/-! HedgehogLotsModel.speedsOf(I)I -/
def f_X7_speedsOf_L52 (σ : (Nat → Nat → Int32)) (l1 : Int32) (l2 : Int32) (l3 : Int32) (l4 : Int32) : Option ((Int32 × (Nat → Nat → Int32)) ⊕ ((Int32 × Int32 × (Nat → Nat → Int32)) ⊕ (Int32 × (Nat → Nat → Int32)))) :=
  if 8 ≤ l4 then (oI (some (.inl (l2, (l3 + 1), σ)))) else (oB (f_X7_runsOn σ 164 l1 l4 0) fun r4 => oC (inb ((8 * l3) + l4) 80) <| oL (upd2 r4 8 ((8 * l3) + l4).toNatClampNeg (r4 0 16)) fun s5 => some (.inl ((l4 + 1), s5)))
theorem w_X7_speedsOf_L52 {x : gX} {ad : Nat → Nat} {tl : va_W}  (hc : gOk x RX7 cX7_speedsOf 5 3 78)  (σ : (Nat → Nat → Int32)) (l1 : Int32) (l2 : Int32) (l3 : Int32) (l4 : Int32)  {K : (Int32 × (Nat → Nat → Int32)) ⊕ ((Int32 × Int32 × (Nat → Nat → Int32)) ⊕ (Int32 × (Nat → Nat → Int32))) → Prop} {o : (Int32 × (Nat → Nat → Int32)) ⊕ ((Int32 × Int32 × (Nat → Nat → Int32)) ⊕ (Int32 × (Nat → Nat → Int32)))} (hf : f_X7_speedsOf_L52 σ l1 l2 l3 l4 = some o) (hK : K o) (hI52 : ∀ v : Int32 × (Nat → Nat → Int32), K (.inl v) → gG x 5 0 0 (MW x.dA ad v.2 ++ tl) 52 [(0, .ref (ad 0)), (1, .int l1), (2, .int l2), (3, .int l3), (4, .int v.1)] []) (hI12 : ∀ v : Int32 × Int32 × (Nat → Nat → Int32), K (.inr (.inl v)) → gG x 5 0 0 (MW x.dA ad v.2.2 ++ tl) 12 [(0, .ref (ad 0)), (1, .int l1), (2, .int v.1), (3, .int v.2.1)] []) (hR : ∀ o : Int32 × (Nat → Nat → Int32), K (.inr (.inr (o))) → gRi x 0 0 (MW x.dA ad o.2 ++ tl) o.1) : gG x 5 0 0 (MW x.dA ad σ ++ tl) 52 [(0, .ref (ad 0)), (1, .int l1), (2, .int l2), (3, .int l3), (4, .int l4)] [] := by
  unfold f_X7_speedsOf_L52 at hf
  refine g_iload hc dX7_speedsOf_52 4 rfl ?_
  refine g_bipush (v := 8) hc dX7_speedsOf_54 (by decide) ?_
  refine g_icmp_ge (tgt := 92) hc dX7_speedsOf_56 (by decide) (fun h1 => ?_) (fun h1 => ?_)
  · have hf := oT h1 hf
    obtain ⟨o2, hgo2, eo2⟩ := oI_some hf
    clear hf; subst eo2; have hf := hgo2; clear hgo2
    refine g_iinc (v := l3 + 1) (lv' := [(3, .int (l3 + 1)), (0, .ref (ad 0)), (1, .int l1), (2, .int l2), (4, .int l4)]) hc dX7_speedsOf_92 (j := 3) rfl rfl (by decide) rfl ?_
    refine g_goto (tgt := 12) hc dX7_speedsOf_95 (by decide) ?_
    have hz := Option.some.inj hf; subst hz
    exact g_lv [1, 2, 3, 0] rfl (hI12 _ hK)
  · have hf := oF h1 hf
    refine g_aload_n hc dX7_speedsOf_59 rfl 0 rfl ?_
    refine g_sipush (v := 164) hc dX7_speedsOf_60 (by decide) ?_
    refine g_iload_n hc dX7_speedsOf_63 rfl 1 rfl ?_
    refine g_iload hc dX7_speedsOf_64 4 rfl ?_
    refine g_iconst (v := 0) hc dX7_speedsOf_66 (by decide) ?_
    obtain ⟨r4, h3, hf⟩ := oB_some hf
    refine g_callVv hc [.int 164, .int l1, .int l4, .int 0] [] (c_X7_runsOn  h3) (MW_at (k := 0) (by decide)) rfl (lw_V q1119 q1121 qs42 q67 q1122) rfl hd_X7_runsOn rfl rfl (Nat.le_of_ble_eq_true rfl) gZ dX7_speedsOf_67 ?_
    refine g_aload_n hc dX7_speedsOf_70 rfl 0 rfl ?_
    refine g_get (v := .ref (ad 8)) hc in_X7 (MW_at (k := 0) (by decide)) rfl 23 (by decide) q984 rfl dX7_speedsOf_71 ?_
    refine g_bipush (v := 8) hc dX7_speedsOf_74 (by decide) ?_
    refine g_iload_n hc dX7_speedsOf_76 rfl 3 rfl ?_
    refine g_imul hc dX7_speedsOf_77 ?_
    refine g_iload hc dX7_speedsOf_78 4 rfl ?_
    refine g_iadd hc dX7_speedsOf_80 ?_
    refine g_aload_n hc dX7_speedsOf_81 rfl 0 rfl ?_
    refine g_get (v := .int (r4 0 16)) hc in_X7 (MW_at (k := 0) (by decide)) rfl 16 (by decide) q977 rfl dX7_speedsOf_82 ?_
    obtain ⟨h7, hf⟩ := oC_some hf
    obtain ⟨s5, e6, hf⟩ := oL_some hf
    refine g_iast (n := 80) (f := r4 8) hc (MW_at (k := 8) (by decide)) h7 (MW_set (μ1 := s5) (k := 8) (by decide) e6 rfl) dX7_speedsOf_85 ?_
    refine g_iinc (v := l4 + 1) (lv' := [(4, .int (l4 + 1)), (0, .ref (ad 0)), (1, .int l1), (2, .int l2), (3, .int l3)]) hc dX7_speedsOf_86 (j := 4) rfl rfl (by decide) rfl ?_
    refine g_goto (tgt := 52) hc dX7_speedsOf_89 (by decide) ?_
    have hz := Option.some.inj hf; subst hz
    exact g_lv [1, 2, 3, 4, 0] rfl (hI52 _ hK)
def f_X7_speedsOf_b52 (σ : (Nat → Nat → Int32)) (l1 : Int32) (l2 : Int32) (l3 : Int32) (l4 : Int32) : Option ((Int32 × Int32 × (Nat → Nat → Int32)) ⊕ (Int32 × (Nat → Nat → Int32))) :=
  oLoop gFU (fun v : Int32 × (Nat → Nat → Int32) => f_X7_speedsOf_L52 v.2 l1 l2 l3 v.1) (l4, σ)
theorem w_X7_speedsOf_b52 {x : gX} {ad : Nat → Nat} {tl : va_W}  (hc : gOk x RX7 cX7_speedsOf 5 3 78)  (σ : (Nat → Nat → Int32)) (l1 : Int32) (l2 : Int32) (l3 : Int32) (l4 : Int32)  {K : (Int32 × Int32 × (Nat → Nat → Int32)) ⊕ (Int32 × (Nat → Nat → Int32)) → Prop} {o : (Int32 × Int32 × (Nat → Nat → Int32)) ⊕ (Int32 × (Nat → Nat → Int32))} (hf : f_X7_speedsOf_b52 σ l1 l2 l3 l4 = some o) (hK : K o) (hI12 : ∀ v : Int32 × Int32 × (Nat → Nat → Int32), K (.inl v) → gG x 5 0 0 (MW x.dA ad v.2.2 ++ tl) 12 [(0, .ref (ad 0)), (1, .int l1), (2, .int v.1), (3, .int v.2.1)] []) (hR : ∀ o : Int32 × (Nat → Nat → Int32), K (.inr (o)) → gRi x 0 0 (MW x.dA ad o.2 ++ tl) o.1) : gG x 5 0 0 (MW x.dA ad σ ++ tl) 52 [(0, .ref (ad 0)), (1, .int l1), (2, .int l2), (3, .int l3), (4, .int l4)] [] :=
  oLoop_ind (fun v : Int32 × (Nat → Nat → Int32) => gG x 5 0 0 (MW x.dA ad v.2 ++ tl) 52 [(0, .ref (ad 0)), (1, .int l1), (2, .int l2), (3, .int l3), (4, .int v.1)] []) K (fun v o1 hf1 hK1 => w_X7_speedsOf_L52 hc v.2 l1 l2 l3 v.1  (K := Sum.elim (fun v : Int32 × (Nat → Nat → Int32) => gG x 5 0 0 (MW x.dA ad v.2 ++ tl) 52 [(0, .ref (ad 0)), (1, .int l1), (2, .int l2), (3, .int l3), (4, .int v.1)] []) K) hf1 hK1 (fun v hv => hv) hI12 hR) gFU _ o hf hK
def f_X7_speedsOf_b47 (σ : (Nat → Nat → Int32)) (l1 : Int32) (l3 : Int32) (k2 : Int32) (k1 : Int32) : Option ((Int32 × Int32 × (Nat → Nat → Int32)) ⊕ (Int32 × (Nat → Nat → Int32))) :=
  f_X7_speedsOf_b52 σ l1 (k1 ||| k2) l3 0
theorem w_X7_speedsOf_b47 {x : gX} {ad : Nat → Nat} {tl : va_W}  (hc : gOk x RX7 cX7_speedsOf 5 3 78)  (σ : (Nat → Nat → Int32)) (l1 : Int32) (l3 : Int32) (k2 : Int32) (k1 : Int32)  {K : (Int32 × Int32 × (Nat → Nat → Int32)) ⊕ (Int32 × (Nat → Nat → Int32)) → Prop} {o : (Int32 × Int32 × (Nat → Nat → Int32)) ⊕ (Int32 × (Nat → Nat → Int32))} (hf : f_X7_speedsOf_b47 σ l1 l3 k2 k1 = some o) (hK : K o) (hI12 : ∀ v : Int32 × Int32 × (Nat → Nat → Int32), K (.inl v) → gG x 5 0 0 (MW x.dA ad v.2.2 ++ tl) 12 [(0, .ref (ad 0)), (1, .int l1), (2, .int v.1), (3, .int v.2.1)] []) (hR : ∀ o : Int32 × (Nat → Nat → Int32), K (.inr (o)) → gRi x 0 0 (MW x.dA ad o.2 ++ tl) o.1) : gG x 5 0 0 (MW x.dA ad σ ++ tl) 47 [(0, .ref (ad 0)), (1, .int l1), (3, .int l3)] [.int k2, .int k1] := by
  unfold f_X7_speedsOf_b47 at hf
  refine g_ior hc dX7_speedsOf_47 ?_
  refine g_istore_n (lv' := [(2, .int (k1 ||| k2)), (0, .ref (ad 0)), (1, .int l1), (3, .int l3)]) hc dX7_speedsOf_48 rfl (by decide) rfl ?_
  refine g_iconst (v := 0) hc dX7_speedsOf_49 (by decide) ?_
  refine g_istore (lv' := [(4, .int 0), (2, .int (k1 ||| k2)), (0, .ref (ad 0)), (1, .int l1), (3, .int l3)]) hc dX7_speedsOf_50 (by decide) rfl ?_
  exact g_lv [2, 3, 1, 4, 0] rfl (w_X7_speedsOf_b52 hc σ l1 (k1 ||| k2) l3 0  (K := K) hf hK hI12 hR)
def f_X7_speedsOf_L12 (σ : (Nat → Nat → Int32)) (l1 : Int32) (l2 : Int32) (l3 : Int32) : Option ((Int32 × Int32 × (Nat → Nat → Int32)) ⊕ (Int32 × (Nat → Nat → Int32))) :=
  if 9 < l3 then (oI (some (l2, σ))) else (oC (inb (186 + l1) 205) <| oL (upd2 σ 1 (186 + l1).toNatClampNeg l3) fun s3 => oB (f_X7_isAsSeen s3 164) fun r7 => if r7.1 = 0 then (f_X7_speedsOf_b47 r7.2 l1 l3 0 l2) else (f_X7_speedsOf_b47 r7.2 l1 l3 ((1 : Int32) <<< (l3 &&& 31)) l2))
theorem w_X7_speedsOf_L12 {x : gX} {ad : Nat → Nat} {tl : va_W}  (hc : gOk x RX7 cX7_speedsOf 5 3 78)  (σ : (Nat → Nat → Int32)) (l1 : Int32) (l2 : Int32) (l3 : Int32)  {K : (Int32 × Int32 × (Nat → Nat → Int32)) ⊕ (Int32 × (Nat → Nat → Int32)) → Prop} {o : (Int32 × Int32 × (Nat → Nat → Int32)) ⊕ (Int32 × (Nat → Nat → Int32))} (hf : f_X7_speedsOf_L12 σ l1 l2 l3 = some o) (hK : K o) (hI12 : ∀ v : Int32 × Int32 × (Nat → Nat → Int32), K (.inl v) → gG x 5 0 0 (MW x.dA ad v.2.2 ++ tl) 12 [(0, .ref (ad 0)), (1, .int l1), (2, .int v.1), (3, .int v.2.1)] []) (hR : ∀ o : Int32 × (Nat → Nat → Int32), K (.inr (o)) → gRi x 0 0 (MW x.dA ad o.2 ++ tl) o.1) : gG x 5 0 0 (MW x.dA ad σ ++ tl) 12 [(0, .ref (ad 0)), (1, .int l1), (2, .int l2), (3, .int l3)] [] := by
  unfold f_X7_speedsOf_L12 at hf
  refine g_iload_n hc dX7_speedsOf_12 rfl 3 rfl ?_
  refine g_bipush (v := 9) hc dX7_speedsOf_13 (by decide) ?_
  refine g_icmp_gt (tgt := 98) hc dX7_speedsOf_15 (by decide) (fun h1 => ?_) (fun h1 => ?_)
  · have hf := oT h1 hf
    obtain ⟨o2, hgo2, eo2⟩ := oI_some hf
    clear hf; subst eo2; have hf := hgo2; clear hgo2
    refine g_iload_n hc dX7_speedsOf_98 rfl 2 rfl ?_
    have hz := Option.some.inj hf; subst hz
    exact g_iret hc (hR _ hK) dX7_speedsOf_99
  · have hf := oF h1 hf
    refine g_aload_n hc dX7_speedsOf_18 rfl 0 rfl ?_
    refine g_get (v := .ref (ad 1)) hc in_X7 (MW_at (k := 0) (by decide)) rfl 0 (by decide) q961 rfl dX7_speedsOf_19 ?_
    refine g_sipush (v := 186) hc dX7_speedsOf_22 (by decide) ?_
    refine g_iload_n hc dX7_speedsOf_25 rfl 1 rfl ?_
    refine g_iadd hc dX7_speedsOf_26 ?_
    refine g_iload_n hc dX7_speedsOf_27 rfl 3 rfl ?_
    obtain ⟨h5, hf⟩ := oC_some hf
    obtain ⟨s3, e4, hf⟩ := oL_some hf
    refine g_iast (n := 205) (f := σ 1) hc (MW_at (k := 1) (by decide)) h5 (MW_set (μ1 := s3) (k := 1) (by decide) e4 rfl) dX7_speedsOf_28 ?_
    refine g_iload_n hc dX7_speedsOf_29 rfl 2 rfl ?_
    refine g_aload_n hc dX7_speedsOf_30 rfl 0 rfl ?_
    refine g_sipush (v := 164) hc dX7_speedsOf_31 (by decide) ?_
    obtain ⟨r7, h6, hf⟩ := oB_some hf
    refine g_callVi hc [.int 164] [.int l2] (c_X7_isAsSeen  h6) (MW_at (k := 0) (by decide)) rfl (lw_V q1324 q1326 qs57 q67 q1327) rfl hd_X7_isAsSeen rfl rfl (Nat.le_of_ble_eq_true rfl) gZ dX7_speedsOf_34 ?_
    refine g_if_eq (tgt := 46) hc dX7_speedsOf_37 (by decide) (fun h8 => ?_) (fun h8 => ?_)
    · have hf := oT h8 hf
      refine g_iconst (v := 0) hc dX7_speedsOf_46 (by decide) ?_
      exact g_lv [0, 1, 3] rfl (w_X7_speedsOf_b47 hc r7.2 l1 l3 0 l2  (K := K) hf hK hI12 hR)
    · have hf := oF h8 hf
      refine g_iconst (v := 1) hc dX7_speedsOf_40 (by decide) ?_
      refine g_iload_n hc dX7_speedsOf_41 rfl 3 rfl ?_
      refine g_ishl hc dX7_speedsOf_42 ?_
      refine g_goto (tgt := 47) hc dX7_speedsOf_43 (by decide) ?_
      exact g_lv [0, 1, 3] rfl (w_X7_speedsOf_b47 hc r7.2 l1 l3 ((1 : Int32) <<< (l3 &&& 31)) l2  (K := K) hf hK hI12 hR)
def f_X7_speedsOf_b12 (σ : (Nat → Nat → Int32)) (l1 : Int32) (l2 : Int32) (l3 : Int32) : Option (Int32 × (Nat → Nat → Int32)) :=
  oLoop gFU (fun v : Int32 × Int32 × (Nat → Nat → Int32) => f_X7_speedsOf_L12 v.2.2 l1 v.1 v.2.1) (l2, l3, σ)
theorem w_X7_speedsOf_b12 {x : gX} {ad : Nat → Nat} {tl : va_W}  (hc : gOk x RX7 cX7_speedsOf 5 3 78)  (σ : (Nat → Nat → Int32)) (l1 : Int32) (l2 : Int32) (l3 : Int32)  {K : Int32 × (Nat → Nat → Int32) → Prop} {o : Int32 × (Nat → Nat → Int32)} (hf : f_X7_speedsOf_b12 σ l1 l2 l3 = some o) (hK : K o) (hR : ∀ o : Int32 × (Nat → Nat → Int32), K o → gRi x 0 0 (MW x.dA ad o.2 ++ tl) o.1) : gG x 5 0 0 (MW x.dA ad σ ++ tl) 12 [(0, .ref (ad 0)), (1, .int l1), (2, .int l2), (3, .int l3)] [] :=
  oLoop_ind (fun v : Int32 × Int32 × (Nat → Nat → Int32) => gG x 5 0 0 (MW x.dA ad v.2.2 ++ tl) 12 [(0, .ref (ad 0)), (1, .int l1), (2, .int v.1), (3, .int v.2.1)] []) K (fun v o1 hf1 hK1 => w_X7_speedsOf_L12 hc v.2.2 l1 v.1 v.2.1  (K := Sum.elim (fun v : Int32 × Int32 × (Nat → Nat → Int32) => gG x 5 0 0 (MW x.dA ad v.2.2 ++ tl) 12 [(0, .ref (ad 0)), (1, .int l1), (2, .int v.1), (3, .int v.2.1)] []) K) hf1 hK1 (fun v hv => hv) hR) gFU _ o hf hK
def f_X7_speedsOf (σ : (Nat → Nat → Int32)) (l1 : Int32) : Option (Int32 × (Nat → Nat → Int32)) :=
  oB (f_X7_copies σ 0 164) fun r2 => f_X7_speedsOf_b12 r2 l1 0 1
theorem w_X7_speedsOf {x : gX} {ad : Nat → Nat} {tl : va_W}  (hc : gOk x RX7 cX7_speedsOf 5 3 78)  (σ : (Nat → Nat → Int32)) (l1 : Int32)  {K : Int32 × (Nat → Nat → Int32) → Prop} {o : Int32 × (Nat → Nat → Int32)} (hf : f_X7_speedsOf σ l1 = some o) (hK : K o) (hR : ∀ o : Int32 × (Nat → Nat → Int32), K o → gRi x 0 0 (MW x.dA ad o.2 ++ tl) o.1) : gG x 5 0 0 (MW x.dA ad σ ++ tl) 0 [(0, .ref (ad 0)), (1, .int l1)] [] := by
  unfold f_X7_speedsOf at hf
  refine g_iconst (v := 0) hc dX7_speedsOf_0 (by decide) ?_
  refine g_istore_n (lv' := [(2, .int 0), (0, .ref (ad 0)), (1, .int l1)]) hc dX7_speedsOf_1 rfl (by decide) rfl ?_
  refine g_aload_n hc dX7_speedsOf_2 rfl 1 rfl ?_
  refine g_iconst (v := 0) hc dX7_speedsOf_3 (by decide) ?_
  refine g_sipush (v := 164) hc dX7_speedsOf_4 (by decide) ?_
  obtain ⟨r2, h1, hf⟩ := oB_some hf
  refine g_callVv hc [.int 0, .int 164] [] (c_X7_copies  h1) (MW_at (k := 0) (by decide)) rfl (lw_V q1263 q1265 qs55 q67 q1266) rfl hd_X7_copies rfl rfl (Nat.le_of_ble_eq_true rfl) gZ dX7_speedsOf_7 ?_
  refine g_iconst (v := 1) hc dX7_speedsOf_10 (by decide) ?_
  refine g_istore_n (lv' := [(3, .int 1), (2, .int 0), (0, .ref (ad 0)), (1, .int l1)]) hc dX7_speedsOf_11 rfl (by decide) rfl ?_
  exact g_lv [2, 3, 1, 0] rfl (w_X7_speedsOf_b12 hc r2 l1 0 1  (K := K) hf hK hR)
theorem c_X7_speedsOf {l : Launch} {D : va_G} {dA : Nat → ClassId} {ad : Nat → Nat} {tl : va_W}  {σ : (Nat → Nat → Int32)} {l1 : Int32}  {o : Int32 × (Nat → Nat → Int32)} (hf : f_X7_speedsOf σ l1 = some o) : gI l D dA (MW dA ad σ ++ tl) (MW dA ad o.2 ++ tl) [.ref (ad 0), .int l1] o.1 yX7_speedsOf (ws_ yX7_speedsOf cX7_speedsOf 5 (some .int)) ({ frames := 3, cells := 0, slots := 0, locals := 78 } : Room) :=
  g_startI (own := RX7) ⟨rfl, rfl⟩ (by decide) rfl (Nat.le_of_ble_eq_true rfl) (fun x e hc hR => by
    subst e
    exact w_X7_speedsOf hc σ l1  (K := fun o1 => o1 = o) hf rfl (by rintro _ rfl; exact hR))
theorem hd_X7_speedsOf : yX7_speedsOf.cls = RX7 ∧ yX7_speedsOf.cls ≠ "java/lang/invoke/MethodHandle" ∧ yX7_speedsOf.cls ≠ "java/lang/invoke/VarHandle" ∧ (parseMethodDescriptor yX7_speedsOf.desc).map (fun d => d.parameters.length) = some 1 := by decide +kernel
/-! HedgehogLotsModel.speeds(I)I -/
def f_X7_speeds (σ : (Nat → Nat → Int32)) (l1 : Int32) : Option (Int32 × (Nat → Nat → Int32)) :=
  oB (f_X7_isHog σ l1) fun r2 => if r2 = 0 then (some ((-1), σ)) else (oB (f_X7_speedsOf σ l1) fun r5 => some (r5.1, r5.2))
theorem w_X7_speeds {x : gX} {ad : Nat → Nat} {tl : va_W}  (hc : gOk x RX7 cX7_speeds 2 4 102)  (σ : (Nat → Nat → Int32)) (l1 : Int32)  {K : Int32 × (Nat → Nat → Int32) → Prop} {o : Int32 × (Nat → Nat → Int32)} (hf : f_X7_speeds σ l1 = some o) (hK : K o) (hR : ∀ o : Int32 × (Nat → Nat → Int32), K o → gRi x 0 0 (MW x.dA ad o.2 ++ tl) o.1) : gG x 2 0 0 (MW x.dA ad σ ++ tl) 0 [(0, .ref (ad 0)), (1, .int l1)] [] := by
  unfold f_X7_speeds at hf
  refine g_aload_n hc dX7_speeds_0 rfl 0 rfl ?_
  refine g_iload_n hc dX7_speeds_1 rfl 1 rfl ?_
  obtain ⟨r2, h1, hf⟩ := oB_some hf
  refine g_callVi hc [.int l1] [] (c_X7_isHog  h1) (MW_at (k := 0) (by decide)) rfl (lw_V q1162 q1164 qs48 q67 q1165) rfl hd_X7_isHog rfl rfl (Nat.le_of_ble_eq_true rfl) gZ dX7_speeds_2 ?_
  refine g_if_eq (tgt := 16) hc dX7_speeds_5 (by decide) (fun h3 => ?_) (fun h3 => ?_)
  · have hf := oT h3 hf
    refine g_iconst (v := (-1)) hc dX7_speeds_16 (by decide) ?_
    have hz := Option.some.inj hf; subst hz
    exact g_iret hc (hR _ hK) dX7_speeds_17
  · have hf := oF h3 hf
    refine g_aload_n hc dX7_speeds_8 rfl 0 rfl ?_
    refine g_iload_n hc dX7_speeds_9 rfl 1 rfl ?_
    obtain ⟨r5, h4, hf⟩ := oB_some hf
    refine g_callVi hc [.int l1] [] (c_X7_speedsOf  h4) (MW_at (k := 0) (by decide)) rfl (lw_V q1332 q1334 qs58 q67 q1335) rfl hd_X7_speedsOf rfl rfl (Nat.le_of_ble_eq_true rfl) gZ dX7_speeds_10 ?_
    refine g_goto (tgt := 17) hc dX7_speeds_13 (by decide) ?_
    have hz := Option.some.inj hf; subst hz
    exact g_iret hc (hR _ hK) dX7_speeds_17
theorem c_X7_speeds {l : Launch} {D : va_G} {dA : Nat → ClassId} {ad : Nat → Nat} {tl : va_W}  {σ : (Nat → Nat → Int32)} {l1 : Int32}  {o : Int32 × (Nat → Nat → Int32)} (hf : f_X7_speeds σ l1 = some o) : gI l D dA (MW dA ad σ ++ tl) (MW dA ad o.2 ++ tl) [.ref (ad 0), .int l1] o.1 yX7_speeds (ws_ yX7_speeds cX7_speeds 2 (some .int)) ({ frames := 4, cells := 0, slots := 0, locals := 102 } : Room) :=
  g_startI (own := RX7) ⟨rfl, rfl⟩ (by decide) rfl (Nat.le_of_ble_eq_true rfl) (fun x e hc hR => by
    subst e
    exact w_X7_speeds hc σ l1  (K := fun o1 => o1 = o) hf rfl (by rintro _ rfl; exact hR))
theorem hd_X7_speeds : yX7_speeds.cls = RX7 ∧ yX7_speeds.cls ≠ "java/lang/invoke/MethodHandle" ∧ yX7_speeds.cls ≠ "java/lang/invoke/VarHandle" ∧ (parseMethodDescriptor yX7_speeds.desc).map (fun d => d.parameters.length) = some 1 := by decide +kernel
/-! HedgehogLotsModel.ask(II)I -/
def f_X7_ask_b189 (σ : (Nat → Nat → Int32)) (l2 : Int32) (l3 : Int32) (l5 : Int32) (l6 : Int32) (k1 : Int32) : Option ((Int32 × Int32 × Int32) ⊕ (Int32 × (Nat → Nat → Int32))) :=
  some (.inl (k1, l5, (l6 + 1)))
theorem w_X7_ask_b189 {x : gX} {ad : Nat → Nat} {tl : va_W}  (hc : gOk x RX7 cX7_ask 11 4 102)  (σ : (Nat → Nat → Int32)) (l2 : Int32) (l3 : Int32) (l5 : Int32) (l6 : Int32) (k1 : Int32)  {K : (Int32 × Int32 × Int32) ⊕ (Int32 × (Nat → Nat → Int32)) → Prop} {o : (Int32 × Int32 × Int32) ⊕ (Int32 × (Nat → Nat → Int32))} (hf : f_X7_ask_b189 σ l2 l3 l5 l6 k1 = some o) (hK : K o) (hI39 : ∀ v : Int32 × Int32 × Int32, K (.inl v) → gG x 11 0 0 (MW x.dA ad σ ++ tl) 39 [(0, .ref (ad 0)), (2, .int l2), (3, .int l3), (4, .int v.1), (5, .int v.2.1), (6, .int v.2.2)] []) (hR : ∀ o : Int32 × (Nat → Nat → Int32), K (.inr (o)) → gRi x 0 0 (MW x.dA ad o.2 ++ tl) o.1) : gG x 11 0 0 (MW x.dA ad σ ++ tl) 189 [(0, .ref (ad 0)), (2, .int l2), (3, .int l3), (5, .int l5), (6, .int l6)] [.int k1] := by
  unfold f_X7_ask_b189 at hf
  refine g_istore (lv' := [(4, .int k1), (0, .ref (ad 0)), (2, .int l2), (3, .int l3), (5, .int l5), (6, .int l6)]) hc dX7_ask_189 (by decide) rfl ?_
  refine g_iinc (v := l6 + 1) (lv' := [(6, .int (l6 + 1)), (4, .int k1), (0, .ref (ad 0)), (2, .int l2), (3, .int l3), (5, .int l5)]) hc dX7_ask_191 (j := 5) rfl rfl (by decide) rfl ?_
  refine g_goto (tgt := 39) hc dX7_ask_194 (by decide) ?_
  have hz := Option.some.inj hf; subst hz
  exact g_lv [2, 3, 4, 1, 5, 0] rfl (hI39 _ hK)
def f_X7_ask_b173 (σ : (Nat → Nat → Int32)) (l2 : Int32) (l3 : Int32) (l4 : Int32) (l6 : Int32) (l7 : Int32) (k1 : Int32) : Option ((Int32 × Int32 × Int32) ⊕ (Int32 × (Nat → Nat → Int32))) :=
  if l4 ≤ l7 then (f_X7_ask_b189 σ l2 l3 k1 l6 l4) else (f_X7_ask_b189 σ l2 l3 k1 l6 l7)
theorem w_X7_ask_b173 {x : gX} {ad : Nat → Nat} {tl : va_W}  (hc : gOk x RX7 cX7_ask 11 4 102)  (σ : (Nat → Nat → Int32)) (l2 : Int32) (l3 : Int32) (l4 : Int32) (l6 : Int32) (l7 : Int32) (k1 : Int32)  {K : (Int32 × Int32 × Int32) ⊕ (Int32 × (Nat → Nat → Int32)) → Prop} {o : (Int32 × Int32 × Int32) ⊕ (Int32 × (Nat → Nat → Int32))} (hf : f_X7_ask_b173 σ l2 l3 l4 l6 l7 k1 = some o) (hK : K o) (hI39 : ∀ v : Int32 × Int32 × Int32, K (.inl v) → gG x 11 0 0 (MW x.dA ad σ ++ tl) 39 [(0, .ref (ad 0)), (2, .int l2), (3, .int l3), (4, .int v.1), (5, .int v.2.1), (6, .int v.2.2)] []) (hR : ∀ o : Int32 × (Nat → Nat → Int32), K (.inr (o)) → gRi x 0 0 (MW x.dA ad o.2 ++ tl) o.1) : gG x 11 0 0 (MW x.dA ad σ ++ tl) 173 [(0, .ref (ad 0)), (2, .int l2), (3, .int l3), (4, .int l4), (6, .int l6), (7, .int l7)] [.int k1] := by
  unfold f_X7_ask_b173 at hf
  refine g_istore (lv' := [(5, .int k1), (0, .ref (ad 0)), (2, .int l2), (3, .int l3), (4, .int l4), (6, .int l6), (7, .int l7)]) hc dX7_ask_173 (by decide) rfl ?_
  refine g_iload hc dX7_ask_175 6 rfl ?_
  refine g_iload hc dX7_ask_177 4 rfl ?_
  refine g_icmp_ge (tgt := 187) hc dX7_ask_179 (by decide) (fun h1 => ?_) (fun h1 => ?_)
  · have hf := oT h1 hf
    refine g_iload hc dX7_ask_187 4 rfl ?_
    exact g_lv [1, 2, 3, 0, 5] rfl (w_X7_ask_b189 hc σ l2 l3 k1 l6 l4  (K := K) hf hK hI39 hR)
  · have hf := oF h1 hf
    refine g_iload hc dX7_ask_182 6 rfl ?_
    refine g_goto (tgt := 189) hc dX7_ask_184 (by decide) ?_
    exact g_lv [1, 2, 3, 0, 5] rfl (w_X7_ask_b189 hc σ l2 l3 k1 l6 l7  (K := K) hf hK hI39 hR)
def f_X7_ask_b151 (σ : (Nat → Nat → Int32)) (l2 : Int32) (l3 : Int32) (l4 : Int32) (l5 : Int32) (l6 : Int32) (l8 : Int32) (k1 : Int32) : Option ((Int32 × Int32) ⊕ ((Int32 × Int32 × Int32) ⊕ (Int32 × (Nat → Nat → Int32)))) :=
  some (.inl (k1, (l8 + 1)))
theorem w_X7_ask_b151 {x : gX} {ad : Nat → Nat} {tl : va_W}  (hc : gOk x RX7 cX7_ask 11 4 102)  (σ : (Nat → Nat → Int32)) (l2 : Int32) (l3 : Int32) (l4 : Int32) (l5 : Int32) (l6 : Int32) (l8 : Int32) (k1 : Int32)  {K : (Int32 × Int32) ⊕ ((Int32 × Int32 × Int32) ⊕ (Int32 × (Nat → Nat → Int32))) → Prop} {o : (Int32 × Int32) ⊕ ((Int32 × Int32 × Int32) ⊕ (Int32 × (Nat → Nat → Int32)))} (hf : f_X7_ask_b151 σ l2 l3 l4 l5 l6 l8 k1 = some o) (hK : K o) (hI52 : ∀ v : Int32 × Int32, K (.inl v) → gG x 11 0 0 (MW x.dA ad σ ++ tl) 52 [(0, .ref (ad 0)), (2, .int l2), (3, .int l3), (4, .int l4), (5, .int l5), (6, .int l6), (7, .int v.1), (8, .int v.2)] []) (hI39 : ∀ v : Int32 × Int32 × Int32, K (.inr (.inl v)) → gG x 11 0 0 (MW x.dA ad σ ++ tl) 39 [(0, .ref (ad 0)), (2, .int l2), (3, .int l3), (4, .int v.1), (5, .int v.2.1), (6, .int v.2.2)] []) (hR : ∀ o : Int32 × (Nat → Nat → Int32), K (.inr (.inr (o))) → gRi x 0 0 (MW x.dA ad o.2 ++ tl) o.1) : gG x 11 0 0 (MW x.dA ad σ ++ tl) 151 [(0, .ref (ad 0)), (2, .int l2), (3, .int l3), (4, .int l4), (5, .int l5), (6, .int l6), (8, .int l8)] [.int k1] := by
  unfold f_X7_ask_b151 at hf
  refine g_istore (lv' := [(7, .int k1), (0, .ref (ad 0)), (2, .int l2), (3, .int l3), (4, .int l4), (5, .int l5), (6, .int l6), (8, .int l8)]) hc dX7_ask_151 (by decide) rfl ?_
  refine g_iinc (v := l8 + 1) (lv' := [(8, .int (l8 + 1)), (7, .int k1), (0, .ref (ad 0)), (2, .int l2), (3, .int l3), (4, .int l4), (5, .int l5), (6, .int l6)]) hc dX7_ask_153 (j := 7) rfl rfl (by decide) rfl ?_
  refine g_goto (tgt := 52) hc dX7_ask_156 (by decide) ?_
  have hz := Option.some.inj hf; subst hz
  exact g_lv [2, 3, 4, 5, 6, 7, 1, 0] rfl (hI52 _ hK)
def f_X7_ask_b137 (σ : (Nat → Nat → Int32)) (l2 : Int32) (l3 : Int32) (l4 : Int32) (l5 : Int32) (l6 : Int32) (l7 : Int32) (l8 : Int32) (l9 : Int32) : Option ((Int32 × Int32) ⊕ ((Int32 × Int32 × Int32) ⊕ (Int32 × (Nat → Nat → Int32)))) :=
  if l9 ≤ l7 then (f_X7_ask_b151 σ l2 l3 l4 l5 l6 l8 l7) else (f_X7_ask_b151 σ l2 l3 l4 l5 l6 l8 l9)
theorem w_X7_ask_b137 {x : gX} {ad : Nat → Nat} {tl : va_W}  (hc : gOk x RX7 cX7_ask 11 4 102)  (σ : (Nat → Nat → Int32)) (l2 : Int32) (l3 : Int32) (l4 : Int32) (l5 : Int32) (l6 : Int32) (l7 : Int32) (l8 : Int32) (l9 : Int32)  {K : (Int32 × Int32) ⊕ ((Int32 × Int32 × Int32) ⊕ (Int32 × (Nat → Nat → Int32))) → Prop} {o : (Int32 × Int32) ⊕ ((Int32 × Int32 × Int32) ⊕ (Int32 × (Nat → Nat → Int32)))} (hf : f_X7_ask_b137 σ l2 l3 l4 l5 l6 l7 l8 l9 = some o) (hK : K o) (hI52 : ∀ v : Int32 × Int32, K (.inl v) → gG x 11 0 0 (MW x.dA ad σ ++ tl) 52 [(0, .ref (ad 0)), (2, .int l2), (3, .int l3), (4, .int l4), (5, .int l5), (6, .int l6), (7, .int v.1), (8, .int v.2)] []) (hI39 : ∀ v : Int32 × Int32 × Int32, K (.inr (.inl v)) → gG x 11 0 0 (MW x.dA ad σ ++ tl) 39 [(0, .ref (ad 0)), (2, .int l2), (3, .int l3), (4, .int v.1), (5, .int v.2.1), (6, .int v.2.2)] []) (hR : ∀ o : Int32 × (Nat → Nat → Int32), K (.inr (.inr (o))) → gRi x 0 0 (MW x.dA ad o.2 ++ tl) o.1) : gG x 11 0 0 (MW x.dA ad σ ++ tl) 137 [(0, .ref (ad 0)), (2, .int l2), (3, .int l3), (4, .int l4), (5, .int l5), (6, .int l6), (7, .int l7), (8, .int l8), (9, .int l9)] [] := by
  unfold f_X7_ask_b137 at hf
  refine g_iload hc dX7_ask_137 8 rfl ?_
  refine g_iload hc dX7_ask_139 6 rfl ?_
  refine g_icmp_le (tgt := 149) hc dX7_ask_141 (by decide) (fun h1 => ?_) (fun h1 => ?_)
  · have hf := oT h1 hf
    refine g_iload hc dX7_ask_149 6 rfl ?_
    exact g_lv [0, 1, 2, 3, 4, 5, 7] rfl (w_X7_ask_b151 hc σ l2 l3 l4 l5 l6 l8 l7  (K := K) hf hK hI52 hI39 hR)
  · have hf := oF h1 hf
    refine g_iload hc dX7_ask_144 8 rfl ?_
    refine g_goto (tgt := 151) hc dX7_ask_146 (by decide) ?_
    exact g_lv [0, 1, 2, 3, 4, 5, 7] rfl (w_X7_ask_b151 hc σ l2 l3 l4 l5 l6 l8 l9  (K := K) hf hK hI52 hI39 hR)
def f_X7_ask_b128 (σ : (Nat → Nat → Int32)) (l2 : Int32) (l3 : Int32) (l4 : Int32) (l5 : Int32) (l6 : Int32) (l7 : Int32) (l8 : Int32) (l10 : Int32) (k2 : Int32) (k1 : Int32) : Option ((Int32 × Int32) ⊕ ((Int32 × Int32) ⊕ ((Int32 × Int32 × Int32) ⊕ (Int32 × (Nat → Nat → Int32))))) :=
  some (.inl ((k1 + k2), (l10 + 1)))
theorem w_X7_ask_b128 {x : gX} {ad : Nat → Nat} {tl : va_W}  (hc : gOk x RX7 cX7_ask 11 4 102)  (σ : (Nat → Nat → Int32)) (l2 : Int32) (l3 : Int32) (l4 : Int32) (l5 : Int32) (l6 : Int32) (l7 : Int32) (l8 : Int32) (l10 : Int32) (k2 : Int32) (k1 : Int32)  {K : (Int32 × Int32) ⊕ ((Int32 × Int32) ⊕ ((Int32 × Int32 × Int32) ⊕ (Int32 × (Nat → Nat → Int32)))) → Prop} {o : (Int32 × Int32) ⊕ ((Int32 × Int32) ⊕ ((Int32 × Int32 × Int32) ⊕ (Int32 × (Nat → Nat → Int32))))} (hf : f_X7_ask_b128 σ l2 l3 l4 l5 l6 l7 l8 l10 k2 k1 = some o) (hK : K o) (hI65 : ∀ v : Int32 × Int32, K (.inl v) → gG x 11 0 0 (MW x.dA ad σ ++ tl) 65 [(0, .ref (ad 0)), (2, .int l2), (3, .int l3), (4, .int l4), (5, .int l5), (6, .int l6), (7, .int l7), (8, .int l8), (9, .int v.1), (10, .int v.2)] []) (hI52 : ∀ v : Int32 × Int32, K (.inr (.inl v)) → gG x 11 0 0 (MW x.dA ad σ ++ tl) 52 [(0, .ref (ad 0)), (2, .int l2), (3, .int l3), (4, .int l4), (5, .int l5), (6, .int l6), (7, .int v.1), (8, .int v.2)] []) (hI39 : ∀ v : Int32 × Int32 × Int32, K (.inr (.inr (.inl v))) → gG x 11 0 0 (MW x.dA ad σ ++ tl) 39 [(0, .ref (ad 0)), (2, .int l2), (3, .int l3), (4, .int v.1), (5, .int v.2.1), (6, .int v.2.2)] []) (hR : ∀ o : Int32 × (Nat → Nat → Int32), K (.inr (.inr (.inr (o)))) → gRi x 0 0 (MW x.dA ad o.2 ++ tl) o.1) : gG x 11 0 0 (MW x.dA ad σ ++ tl) 128 [(0, .ref (ad 0)), (2, .int l2), (3, .int l3), (4, .int l4), (5, .int l5), (6, .int l6), (7, .int l7), (8, .int l8), (10, .int l10)] [.int k2, .int k1] := by
  unfold f_X7_ask_b128 at hf
  refine g_iadd hc dX7_ask_128 ?_
  refine g_istore (lv' := [(9, .int (k1 + k2)), (0, .ref (ad 0)), (2, .int l2), (3, .int l3), (4, .int l4), (5, .int l5), (6, .int l6), (7, .int l7), (8, .int l8), (10, .int l10)]) hc dX7_ask_129 (by decide) rfl ?_
  refine g_iinc (v := l10 + 1) (lv' := [(10, .int (l10 + 1)), (9, .int (k1 + k2)), (0, .ref (ad 0)), (2, .int l2), (3, .int l3), (4, .int l4), (5, .int l5), (6, .int l6), (7, .int l7), (8, .int l8)]) hc dX7_ask_131 (j := 9) rfl rfl (by decide) rfl ?_
  refine g_goto (tgt := 65) hc dX7_ask_134 (by decide) ?_
  have hz := Option.some.inj hf; subst hz
  exact g_lv [2, 3, 4, 5, 6, 7, 8, 9, 1, 0] rfl (hI65 _ hK)
def f_X7_ask_b127 (σ : (Nat → Nat → Int32)) (l2 : Int32) (l3 : Int32) (l4 : Int32) (l5 : Int32) (l6 : Int32) (l7 : Int32) (l8 : Int32) (l10 : Int32) (k1 : Int32) : Option ((Int32 × Int32) ⊕ ((Int32 × Int32) ⊕ ((Int32 × Int32 × Int32) ⊕ (Int32 × (Nat → Nat → Int32))))) :=
  f_X7_ask_b128 σ l2 l3 l4 l5 l6 l7 l8 l10 0 k1
theorem w_X7_ask_b127 {x : gX} {ad : Nat → Nat} {tl : va_W}  (hc : gOk x RX7 cX7_ask 11 4 102)  (σ : (Nat → Nat → Int32)) (l2 : Int32) (l3 : Int32) (l4 : Int32) (l5 : Int32) (l6 : Int32) (l7 : Int32) (l8 : Int32) (l10 : Int32) (k1 : Int32)  {K : (Int32 × Int32) ⊕ ((Int32 × Int32) ⊕ ((Int32 × Int32 × Int32) ⊕ (Int32 × (Nat → Nat → Int32)))) → Prop} {o : (Int32 × Int32) ⊕ ((Int32 × Int32) ⊕ ((Int32 × Int32 × Int32) ⊕ (Int32 × (Nat → Nat → Int32))))} (hf : f_X7_ask_b127 σ l2 l3 l4 l5 l6 l7 l8 l10 k1 = some o) (hK : K o) (hI65 : ∀ v : Int32 × Int32, K (.inl v) → gG x 11 0 0 (MW x.dA ad σ ++ tl) 65 [(0, .ref (ad 0)), (2, .int l2), (3, .int l3), (4, .int l4), (5, .int l5), (6, .int l6), (7, .int l7), (8, .int l8), (9, .int v.1), (10, .int v.2)] []) (hI52 : ∀ v : Int32 × Int32, K (.inr (.inl v)) → gG x 11 0 0 (MW x.dA ad σ ++ tl) 52 [(0, .ref (ad 0)), (2, .int l2), (3, .int l3), (4, .int l4), (5, .int l5), (6, .int l6), (7, .int v.1), (8, .int v.2)] []) (hI39 : ∀ v : Int32 × Int32 × Int32, K (.inr (.inr (.inl v))) → gG x 11 0 0 (MW x.dA ad σ ++ tl) 39 [(0, .ref (ad 0)), (2, .int l2), (3, .int l3), (4, .int v.1), (5, .int v.2.1), (6, .int v.2.2)] []) (hR : ∀ o : Int32 × (Nat → Nat → Int32), K (.inr (.inr (.inr (o)))) → gRi x 0 0 (MW x.dA ad o.2 ++ tl) o.1) : gG x 11 0 0 (MW x.dA ad σ ++ tl) 127 [(0, .ref (ad 0)), (2, .int l2), (3, .int l3), (4, .int l4), (5, .int l5), (6, .int l6), (7, .int l7), (8, .int l8), (10, .int l10)] [.int k1] := by
  unfold f_X7_ask_b127 at hf
  refine g_iconst (v := 0) hc dX7_ask_127 (by decide) ?_
  exact g_lv [0, 1, 2, 3, 4, 5, 6, 7, 8] rfl (w_X7_ask_b128 hc σ l2 l3 l4 l5 l6 l7 l8 l10 0 k1  (K := K) hf hK hI65 hI52 hI39 hR)
def f_X7_ask_L65 (σ : (Nat → Nat → Int32)) (l2 : Int32) (l3 : Int32) (l4 : Int32) (l5 : Int32) (l6 : Int32) (l7 : Int32) (l8 : Int32) (l9 : Int32) (l10 : Int32) : Option ((Int32 × Int32) ⊕ ((Int32 × Int32) ⊕ ((Int32 × Int32 × Int32) ⊕ (Int32 × (Nat → Nat → Int32))))) :=
  if 9 < l10 then (oI (f_X7_ask_b137 σ l2 l3 l4 l5 l6 l7 l8 l9)) else (if ((l3 >>> (l8 &&& 31)) &&& 1) = 1 then (if ((l3 >>> (l10 &&& 31)) &&& 1) = 1 then (oC (inb ((8 * l8) + l6) 80) <| oC (inb ((8 * l10) + l6) 80) <| if (σ 8 ((8 * l8) + l6).toNatClampNeg) = (σ 8 ((8 * l10) + l6).toNatClampNeg) then (f_X7_ask_b128 σ l2 l3 l4 l5 l6 l7 l8 l10 1 l9) else (f_X7_ask_b127 σ l2 l3 l4 l5 l6 l7 l8 l10 l9)) else (f_X7_ask_b127 σ l2 l3 l4 l5 l6 l7 l8 l10 l9)) else (oI (f_X7_ask_b137 σ l2 l3 l4 l5 l6 l7 l8 l9)))
theorem w_X7_ask_L65 {x : gX} {ad : Nat → Nat} {tl : va_W}  (hc : gOk x RX7 cX7_ask 11 4 102)  (σ : (Nat → Nat → Int32)) (l2 : Int32) (l3 : Int32) (l4 : Int32) (l5 : Int32) (l6 : Int32) (l7 : Int32) (l8 : Int32) (l9 : Int32) (l10 : Int32)  {K : (Int32 × Int32) ⊕ ((Int32 × Int32) ⊕ ((Int32 × Int32 × Int32) ⊕ (Int32 × (Nat → Nat → Int32)))) → Prop} {o : (Int32 × Int32) ⊕ ((Int32 × Int32) ⊕ ((Int32 × Int32 × Int32) ⊕ (Int32 × (Nat → Nat → Int32))))} (hf : f_X7_ask_L65 σ l2 l3 l4 l5 l6 l7 l8 l9 l10 = some o) (hK : K o) (hI65 : ∀ v : Int32 × Int32, K (.inl v) → gG x 11 0 0 (MW x.dA ad σ ++ tl) 65 [(0, .ref (ad 0)), (2, .int l2), (3, .int l3), (4, .int l4), (5, .int l5), (6, .int l6), (7, .int l7), (8, .int l8), (9, .int v.1), (10, .int v.2)] []) (hI52 : ∀ v : Int32 × Int32, K (.inr (.inl v)) → gG x 11 0 0 (MW x.dA ad σ ++ tl) 52 [(0, .ref (ad 0)), (2, .int l2), (3, .int l3), (4, .int l4), (5, .int l5), (6, .int l6), (7, .int v.1), (8, .int v.2)] []) (hI39 : ∀ v : Int32 × Int32 × Int32, K (.inr (.inr (.inl v))) → gG x 11 0 0 (MW x.dA ad σ ++ tl) 39 [(0, .ref (ad 0)), (2, .int l2), (3, .int l3), (4, .int v.1), (5, .int v.2.1), (6, .int v.2.2)] []) (hR : ∀ o : Int32 × (Nat → Nat → Int32), K (.inr (.inr (.inr (o)))) → gRi x 0 0 (MW x.dA ad o.2 ++ tl) o.1) : gG x 11 0 0 (MW x.dA ad σ ++ tl) 65 [(0, .ref (ad 0)), (2, .int l2), (3, .int l3), (4, .int l4), (5, .int l5), (6, .int l6), (7, .int l7), (8, .int l8), (9, .int l9), (10, .int l10)] [] := by
  unfold f_X7_ask_L65 at hf
  refine g_iload hc dX7_ask_65 9 rfl ?_
  refine g_bipush (v := 9) hc dX7_ask_67 (by decide) ?_
  refine g_icmp_gt (tgt := 137) hc dX7_ask_69 (by decide) (fun h1 => ?_) (fun h1 => ?_)
  · have hf := oT h1 hf
    obtain ⟨o2, hgo2, eo2⟩ := oI_some hf
    clear hf; subst eo2; have hf := hgo2; clear hgo2
    exact g_lv [0, 1, 2, 3, 4, 5, 6, 7, 8] rfl (w_X7_ask_b137 hc σ l2 l3 l4 l5 l6 l7 l8 l9  (K := (fun o1 => K (.inr o1))) hf hK hI52 hI39 hR)
  · have hf := oF h1 hf
    refine g_iload_n hc dX7_ask_72 rfl 2 rfl ?_
    refine g_iload hc dX7_ask_73 7 rfl ?_
    refine g_ishr hc dX7_ask_75 ?_
    refine g_iconst (v := 1) hc dX7_ask_76 (by decide) ?_
    refine g_iand hc dX7_ask_77 ?_
    refine g_iconst (v := 1) hc dX7_ask_78 (by decide) ?_
    refine g_icmp_ne (tgt := 137) hc dX7_ask_79 (by decide) (fun h3 => ?_) (fun h3 => ?_)
    · have hf := oF h3 hf
      obtain ⟨o4, hgo4, eo4⟩ := oI_some hf
      clear hf; subst eo4; have hf := hgo4; clear hgo4
      exact g_lv [0, 1, 2, 3, 4, 5, 6, 7, 8] rfl (w_X7_ask_b137 hc σ l2 l3 l4 l5 l6 l7 l8 l9  (K := (fun o1 => K (.inr o1))) hf hK hI52 hI39 hR)
    · have hf := oT h3 hf
      refine g_iload hc dX7_ask_82 8 rfl ?_
      refine g_iload_n hc dX7_ask_84 rfl 2 rfl ?_
      refine g_iload hc dX7_ask_85 9 rfl ?_
      refine g_ishr hc dX7_ask_87 ?_
      refine g_iconst (v := 1) hc dX7_ask_88 (by decide) ?_
      refine g_iand hc dX7_ask_89 ?_
      refine g_iconst (v := 1) hc dX7_ask_90 (by decide) ?_
      refine g_icmp_ne (tgt := 127) hc dX7_ask_91 (by decide) (fun h5 => ?_) (fun h5 => ?_)
      · have hf := oF h5 hf
        exact g_lv [0, 1, 2, 3, 4, 5, 6, 7, 9] rfl (w_X7_ask_b127 hc σ l2 l3 l4 l5 l6 l7 l8 l10 l9  (K := K) hf hK hI65 hI52 hI39 hR)
      · have hf := oT h5 hf
        refine g_aload_n hc dX7_ask_94 rfl 0 rfl ?_
        refine g_get (v := .ref (ad 8)) hc in_X7 (MW_at (k := 0) (by decide)) rfl 23 (by decide) q984 rfl dX7_ask_95 ?_
        refine g_bipush (v := 8) hc dX7_ask_98 (by decide) ?_
        refine g_iload hc dX7_ask_100 7 rfl ?_
        refine g_imul hc dX7_ask_102 ?_
        refine g_iload hc dX7_ask_103 5 rfl ?_
        refine g_iadd hc dX7_ask_105 ?_
        obtain ⟨h6, hf⟩ := oC_some hf
        refine g_iald (n := 80) (f := σ 8) hc (MW_at (k := 8) (by decide)) h6 dX7_ask_106 ?_
        refine g_aload_n hc dX7_ask_107 rfl 0 rfl ?_
        refine g_get (v := .ref (ad 8)) hc in_X7 (MW_at (k := 0) (by decide)) rfl 23 (by decide) q984 rfl dX7_ask_108 ?_
        refine g_bipush (v := 8) hc dX7_ask_111 (by decide) ?_
        refine g_iload hc dX7_ask_113 9 rfl ?_
        refine g_imul hc dX7_ask_115 ?_
        refine g_iload hc dX7_ask_116 5 rfl ?_
        refine g_iadd hc dX7_ask_118 ?_
        obtain ⟨h7, hf⟩ := oC_some hf
        refine g_iald (n := 80) (f := σ 8) hc (MW_at (k := 8) (by decide)) h7 dX7_ask_119 ?_
        refine g_icmp_ne (tgt := 127) hc dX7_ask_120 (by decide) (fun h8 => ?_) (fun h8 => ?_)
        · have hf := oF h8 hf
          exact g_lv [0, 1, 2, 3, 4, 5, 6, 7, 9] rfl (w_X7_ask_b127 hc σ l2 l3 l4 l5 l6 l7 l8 l10 l9  (K := K) hf hK hI65 hI52 hI39 hR)
        · have hf := oT h8 hf
          refine g_iconst (v := 1) hc dX7_ask_123 (by decide) ?_
          refine g_goto (tgt := 128) hc dX7_ask_124 (by decide) ?_
          exact g_lv [0, 1, 2, 3, 4, 5, 6, 7, 9] rfl (w_X7_ask_b128 hc σ l2 l3 l4 l5 l6 l7 l8 l10 1 l9  (K := K) hf hK hI65 hI52 hI39 hR)
def f_X7_ask_b65 (σ : (Nat → Nat → Int32)) (l2 : Int32) (l3 : Int32) (l4 : Int32) (l5 : Int32) (l6 : Int32) (l7 : Int32) (l8 : Int32) (l9 : Int32) (l10 : Int32) : Option ((Int32 × Int32) ⊕ ((Int32 × Int32 × Int32) ⊕ (Int32 × (Nat → Nat → Int32)))) :=
  oLoop gFU (fun v : Int32 × Int32 => f_X7_ask_L65 σ l2 l3 l4 l5 l6 l7 l8 v.1 v.2) (l9, l10)
theorem w_X7_ask_b65 {x : gX} {ad : Nat → Nat} {tl : va_W}  (hc : gOk x RX7 cX7_ask 11 4 102)  (σ : (Nat → Nat → Int32)) (l2 : Int32) (l3 : Int32) (l4 : Int32) (l5 : Int32) (l6 : Int32) (l7 : Int32) (l8 : Int32) (l9 : Int32) (l10 : Int32)  {K : (Int32 × Int32) ⊕ ((Int32 × Int32 × Int32) ⊕ (Int32 × (Nat → Nat → Int32))) → Prop} {o : (Int32 × Int32) ⊕ ((Int32 × Int32 × Int32) ⊕ (Int32 × (Nat → Nat → Int32)))} (hf : f_X7_ask_b65 σ l2 l3 l4 l5 l6 l7 l8 l9 l10 = some o) (hK : K o) (hI52 : ∀ v : Int32 × Int32, K (.inl v) → gG x 11 0 0 (MW x.dA ad σ ++ tl) 52 [(0, .ref (ad 0)), (2, .int l2), (3, .int l3), (4, .int l4), (5, .int l5), (6, .int l6), (7, .int v.1), (8, .int v.2)] []) (hI39 : ∀ v : Int32 × Int32 × Int32, K (.inr (.inl v)) → gG x 11 0 0 (MW x.dA ad σ ++ tl) 39 [(0, .ref (ad 0)), (2, .int l2), (3, .int l3), (4, .int v.1), (5, .int v.2.1), (6, .int v.2.2)] []) (hR : ∀ o : Int32 × (Nat → Nat → Int32), K (.inr (.inr (o))) → gRi x 0 0 (MW x.dA ad o.2 ++ tl) o.1) : gG x 11 0 0 (MW x.dA ad σ ++ tl) 65 [(0, .ref (ad 0)), (2, .int l2), (3, .int l3), (4, .int l4), (5, .int l5), (6, .int l6), (7, .int l7), (8, .int l8), (9, .int l9), (10, .int l10)] [] :=
  oLoop_ind (fun v : Int32 × Int32 => gG x 11 0 0 (MW x.dA ad σ ++ tl) 65 [(0, .ref (ad 0)), (2, .int l2), (3, .int l3), (4, .int l4), (5, .int l5), (6, .int l6), (7, .int l7), (8, .int l8), (9, .int v.1), (10, .int v.2)] []) K (fun v o1 hf1 hK1 => w_X7_ask_L65 hc σ l2 l3 l4 l5 l6 l7 l8 v.1 v.2  (K := Sum.elim (fun v : Int32 × Int32 => gG x 11 0 0 (MW x.dA ad σ ++ tl) 65 [(0, .ref (ad 0)), (2, .int l2), (3, .int l3), (4, .int l4), (5, .int l5), (6, .int l6), (7, .int l7), (8, .int l8), (9, .int v.1), (10, .int v.2)] []) K) hf1 hK1 (fun v hv => hv) hI52 hI39 hR) gFU _ o hf hK
def f_X7_ask_L52 (σ : (Nat → Nat → Int32)) (l2 : Int32) (l3 : Int32) (l4 : Int32) (l5 : Int32) (l6 : Int32) (l7 : Int32) (l8 : Int32) : Option ((Int32 × Int32) ⊕ ((Int32 × Int32 × Int32) ⊕ (Int32 × (Nat → Nat → Int32)))) :=
  if 9 < l8 then (oI (if l4 ≤ l7 then (f_X7_ask_b173 σ l2 l3 l4 l6 l7 l5) else (f_X7_ask_b173 σ l2 l3 l4 l6 l7 l6))) else (f_X7_ask_b65 σ l2 l3 l4 l5 l6 l7 l8 0 1)
theorem w_X7_ask_L52 {x : gX} {ad : Nat → Nat} {tl : va_W}  (hc : gOk x RX7 cX7_ask 11 4 102)  (σ : (Nat → Nat → Int32)) (l2 : Int32) (l3 : Int32) (l4 : Int32) (l5 : Int32) (l6 : Int32) (l7 : Int32) (l8 : Int32)  {K : (Int32 × Int32) ⊕ ((Int32 × Int32 × Int32) ⊕ (Int32 × (Nat → Nat → Int32))) → Prop} {o : (Int32 × Int32) ⊕ ((Int32 × Int32 × Int32) ⊕ (Int32 × (Nat → Nat → Int32)))} (hf : f_X7_ask_L52 σ l2 l3 l4 l5 l6 l7 l8 = some o) (hK : K o) (hI52 : ∀ v : Int32 × Int32, K (.inl v) → gG x 11 0 0 (MW x.dA ad σ ++ tl) 52 [(0, .ref (ad 0)), (2, .int l2), (3, .int l3), (4, .int l4), (5, .int l5), (6, .int l6), (7, .int v.1), (8, .int v.2)] []) (hI39 : ∀ v : Int32 × Int32 × Int32, K (.inr (.inl v)) → gG x 11 0 0 (MW x.dA ad σ ++ tl) 39 [(0, .ref (ad 0)), (2, .int l2), (3, .int l3), (4, .int v.1), (5, .int v.2.1), (6, .int v.2.2)] []) (hR : ∀ o : Int32 × (Nat → Nat → Int32), K (.inr (.inr (o))) → gRi x 0 0 (MW x.dA ad o.2 ++ tl) o.1) : gG x 11 0 0 (MW x.dA ad σ ++ tl) 52 [(0, .ref (ad 0)), (2, .int l2), (3, .int l3), (4, .int l4), (5, .int l5), (6, .int l6), (7, .int l7), (8, .int l8)] [] := by
  unfold f_X7_ask_L52 at hf
  refine g_iload hc dX7_ask_52 7 rfl ?_
  refine g_bipush (v := 9) hc dX7_ask_54 (by decide) ?_
  refine g_icmp_gt (tgt := 159) hc dX7_ask_56 (by decide) (fun h1 => ?_) (fun h1 => ?_)
  · have hf := oT h1 hf
    obtain ⟨o3, hgo3, eo3⟩ := oI_some hf
    clear hf; subst eo3; have hf := hgo3; clear hgo3
    refine g_iload hc dX7_ask_159 6 rfl ?_
    refine g_iload hc dX7_ask_161 3 rfl ?_
    refine g_icmp_ge (tgt := 171) hc dX7_ask_163 (by decide) (fun h2 => ?_) (fun h2 => ?_)
    · have hf := oT h2 hf
      refine g_iload hc dX7_ask_171 4 rfl ?_
      exact g_lv [0, 1, 2, 3, 5, 6] rfl (w_X7_ask_b173 hc σ l2 l3 l4 l6 l7 l5  (K := (fun o1 => K (.inr o1))) hf hK hI39 hR)
    · have hf := oF h2 hf
      refine g_iload hc dX7_ask_166 5 rfl ?_
      refine g_goto (tgt := 173) hc dX7_ask_168 (by decide) ?_
      exact g_lv [0, 1, 2, 3, 5, 6] rfl (w_X7_ask_b173 hc σ l2 l3 l4 l6 l7 l6  (K := (fun o1 => K (.inr o1))) hf hK hI39 hR)
  · have hf := oF h1 hf
    refine g_iconst (v := 0) hc dX7_ask_59 (by decide) ?_
    refine g_istore (lv' := [(9, .int 0), (0, .ref (ad 0)), (2, .int l2), (3, .int l3), (4, .int l4), (5, .int l5), (6, .int l6), (7, .int l7), (8, .int l8)]) hc dX7_ask_60 (by decide) rfl ?_
    refine g_iconst (v := 1) hc dX7_ask_62 (by decide) ?_
    refine g_istore (lv' := [(10, .int 1), (9, .int 0), (0, .ref (ad 0)), (2, .int l2), (3, .int l3), (4, .int l4), (5, .int l5), (6, .int l6), (7, .int l7), (8, .int l8)]) hc dX7_ask_63 (by decide) rfl ?_
    exact g_lv [2, 3, 4, 5, 6, 7, 8, 9, 1, 0] rfl (w_X7_ask_b65 hc σ l2 l3 l4 l5 l6 l7 l8 0 1  (K := K) hf hK hI52 hI39 hR)
def f_X7_ask_b52 (σ : (Nat → Nat → Int32)) (l2 : Int32) (l3 : Int32) (l4 : Int32) (l5 : Int32) (l6 : Int32) (l7 : Int32) (l8 : Int32) : Option ((Int32 × Int32 × Int32) ⊕ (Int32 × (Nat → Nat → Int32))) :=
  oLoop gFU (fun v : Int32 × Int32 => f_X7_ask_L52 σ l2 l3 l4 l5 l6 v.1 v.2) (l7, l8)
theorem w_X7_ask_b52 {x : gX} {ad : Nat → Nat} {tl : va_W}  (hc : gOk x RX7 cX7_ask 11 4 102)  (σ : (Nat → Nat → Int32)) (l2 : Int32) (l3 : Int32) (l4 : Int32) (l5 : Int32) (l6 : Int32) (l7 : Int32) (l8 : Int32)  {K : (Int32 × Int32 × Int32) ⊕ (Int32 × (Nat → Nat → Int32)) → Prop} {o : (Int32 × Int32 × Int32) ⊕ (Int32 × (Nat → Nat → Int32))} (hf : f_X7_ask_b52 σ l2 l3 l4 l5 l6 l7 l8 = some o) (hK : K o) (hI39 : ∀ v : Int32 × Int32 × Int32, K (.inl v) → gG x 11 0 0 (MW x.dA ad σ ++ tl) 39 [(0, .ref (ad 0)), (2, .int l2), (3, .int l3), (4, .int v.1), (5, .int v.2.1), (6, .int v.2.2)] []) (hR : ∀ o : Int32 × (Nat → Nat → Int32), K (.inr (o)) → gRi x 0 0 (MW x.dA ad o.2 ++ tl) o.1) : gG x 11 0 0 (MW x.dA ad σ ++ tl) 52 [(0, .ref (ad 0)), (2, .int l2), (3, .int l3), (4, .int l4), (5, .int l5), (6, .int l6), (7, .int l7), (8, .int l8)] [] :=
  oLoop_ind (fun v : Int32 × Int32 => gG x 11 0 0 (MW x.dA ad σ ++ tl) 52 [(0, .ref (ad 0)), (2, .int l2), (3, .int l3), (4, .int l4), (5, .int l5), (6, .int l6), (7, .int v.1), (8, .int v.2)] []) K (fun v o1 hf1 hK1 => w_X7_ask_L52 hc σ l2 l3 l4 l5 l6 v.1 v.2  (K := Sum.elim (fun v : Int32 × Int32 => gG x 11 0 0 (MW x.dA ad σ ++ tl) 52 [(0, .ref (ad 0)), (2, .int l2), (3, .int l3), (4, .int l4), (5, .int l5), (6, .int l6), (7, .int v.1), (8, .int v.2)] []) K) hf1 hK1 (fun v hv => hv) hI39 hR) gFU _ o hf hK
def f_X7_ask_L39 (σ : (Nat → Nat → Int32)) (l2 : Int32) (l3 : Int32) (l4 : Int32) (l5 : Int32) (l6 : Int32) : Option ((Int32 × Int32 × Int32) ⊕ (Int32 × (Nat → Nat → Int32))) :=
  if 8 ≤ l6 then (oI (if l5 = (-4) then (some (l5, σ)) else (if l2 = 0 then (some (l5, σ)) else (some (l4, σ))))) else (f_X7_ask_b52 σ l2 l3 l4 l5 l6 0 1)
theorem w_X7_ask_L39 {x : gX} {ad : Nat → Nat} {tl : va_W}  (hc : gOk x RX7 cX7_ask 11 4 102)  (σ : (Nat → Nat → Int32)) (l2 : Int32) (l3 : Int32) (l4 : Int32) (l5 : Int32) (l6 : Int32)  {K : (Int32 × Int32 × Int32) ⊕ (Int32 × (Nat → Nat → Int32)) → Prop} {o : (Int32 × Int32 × Int32) ⊕ (Int32 × (Nat → Nat → Int32))} (hf : f_X7_ask_L39 σ l2 l3 l4 l5 l6 = some o) (hK : K o) (hI39 : ∀ v : Int32 × Int32 × Int32, K (.inl v) → gG x 11 0 0 (MW x.dA ad σ ++ tl) 39 [(0, .ref (ad 0)), (2, .int l2), (3, .int l3), (4, .int v.1), (5, .int v.2.1), (6, .int v.2.2)] []) (hR : ∀ o : Int32 × (Nat → Nat → Int32), K (.inr (o)) → gRi x 0 0 (MW x.dA ad o.2 ++ tl) o.1) : gG x 11 0 0 (MW x.dA ad σ ++ tl) 39 [(0, .ref (ad 0)), (2, .int l2), (3, .int l3), (4, .int l4), (5, .int l5), (6, .int l6)] [] := by
  unfold f_X7_ask_L39 at hf
  refine g_iload hc dX7_ask_39 5 rfl ?_
  refine g_bipush (v := 8) hc dX7_ask_41 (by decide) ?_
  refine g_icmp_ge (tgt := 197) hc dX7_ask_43 (by decide) (fun h1 => ?_) (fun h1 => ?_)
  · have hf := oT h1 hf
    obtain ⟨o4, hgo4, eo4⟩ := oI_some hf
    clear hf; subst eo4; have hf := hgo4; clear hgo4
    refine g_iload hc dX7_ask_197 4 rfl ?_
    refine g_bipush (v := (-4)) hc dX7_ask_199 (by decide) ?_
    refine g_icmp_eq (tgt := 208) hc dX7_ask_201 (by decide) (fun h2 => ?_) (fun h2 => ?_)
    · have hf := oT h2 hf
      refine g_iload hc dX7_ask_208 4 rfl ?_
      refine g_goto (tgt := 215) hc dX7_ask_210 (by decide) ?_
      have hz := Option.some.inj hf; subst hz
      exact g_iret hc (hR _ hK) dX7_ask_215
    · have hf := oF h2 hf
      refine g_iload_n hc dX7_ask_204 rfl 1 rfl ?_
      refine g_if_ne (tgt := 213) hc dX7_ask_205 (by decide) (fun h3 => ?_) (fun h3 => ?_)
      · have hf := oF h3 hf
        refine g_iload hc dX7_ask_213 3 rfl ?_
        have hz := Option.some.inj hf; subst hz
        exact g_iret hc (hR _ hK) dX7_ask_215
      · have hf := oT h3 hf
        refine g_iload hc dX7_ask_208 4 rfl ?_
        refine g_goto (tgt := 215) hc dX7_ask_210 (by decide) ?_
        have hz := Option.some.inj hf; subst hz
        exact g_iret hc (hR _ hK) dX7_ask_215
  · have hf := oF h1 hf
    refine g_iconst (v := 0) hc dX7_ask_46 (by decide) ?_
    refine g_istore (lv' := [(7, .int 0), (0, .ref (ad 0)), (2, .int l2), (3, .int l3), (4, .int l4), (5, .int l5), (6, .int l6)]) hc dX7_ask_47 (by decide) rfl ?_
    refine g_iconst (v := 1) hc dX7_ask_49 (by decide) ?_
    refine g_istore (lv' := [(8, .int 1), (7, .int 0), (0, .ref (ad 0)), (2, .int l2), (3, .int l3), (4, .int l4), (5, .int l5), (6, .int l6)]) hc dX7_ask_50 (by decide) rfl ?_
    exact g_lv [2, 3, 4, 5, 6, 7, 1, 0] rfl (w_X7_ask_b52 hc σ l2 l3 l4 l5 l6 0 1  (K := K) hf hK hI39 hR)
def f_X7_ask_b39 (σ : (Nat → Nat → Int32)) (l2 : Int32) (l3 : Int32) (l4 : Int32) (l5 : Int32) (l6 : Int32) : Option (Int32 × (Nat → Nat → Int32)) :=
  oLoop gFU (fun v : Int32 × Int32 × Int32 => f_X7_ask_L39 σ l2 l3 v.1 v.2.1 v.2.2) (l4, l5, l6)
theorem w_X7_ask_b39 {x : gX} {ad : Nat → Nat} {tl : va_W}  (hc : gOk x RX7 cX7_ask 11 4 102)  (σ : (Nat → Nat → Int32)) (l2 : Int32) (l3 : Int32) (l4 : Int32) (l5 : Int32) (l6 : Int32)  {K : Int32 × (Nat → Nat → Int32) → Prop} {o : Int32 × (Nat → Nat → Int32)} (hf : f_X7_ask_b39 σ l2 l3 l4 l5 l6 = some o) (hK : K o) (hR : ∀ o : Int32 × (Nat → Nat → Int32), K o → gRi x 0 0 (MW x.dA ad o.2 ++ tl) o.1) : gG x 11 0 0 (MW x.dA ad σ ++ tl) 39 [(0, .ref (ad 0)), (2, .int l2), (3, .int l3), (4, .int l4), (5, .int l5), (6, .int l6)] [] :=
  oLoop_ind (fun v : Int32 × Int32 × Int32 => gG x 11 0 0 (MW x.dA ad σ ++ tl) 39 [(0, .ref (ad 0)), (2, .int l2), (3, .int l3), (4, .int v.1), (5, .int v.2.1), (6, .int v.2.2)] []) K (fun v o1 hf1 hK1 => w_X7_ask_L39 hc σ l2 l3 v.1 v.2.1 v.2.2  (K := Sum.elim (fun v : Int32 × Int32 × Int32 => gG x 11 0 0 (MW x.dA ad σ ++ tl) 39 [(0, .ref (ad 0)), (2, .int l2), (3, .int l3), (4, .int v.1), (5, .int v.2.1), (6, .int v.2.2)] []) K) hf1 hK1 (fun v hv => hv) hR) gFU _ o hf hK
def f_X7_ask (σ : (Nat → Nat → Int32)) (l1 : Int32) (l2 : Int32) : Option (Int32 × (Nat → Nat → Int32)) :=
  oB (f_X7_isHog σ l1) fun r2 => if r2 = 0 then (some ((-1), σ)) else (oB (f_X7_in (Int32.toInt64 l2) 0 1) fun r5 => if r5 = 0 then (some ((-1), σ)) else (oB (f_X7_speedsOf σ l1) fun r8 => oB (f_X7_bitsOf r8.1) fun r10 => f_X7_ask_b39 r8.2 l2 r8.1 r10 (-4) 0))
theorem w_X7_ask {x : gX} {ad : Nat → Nat} {tl : va_W}  (hc : gOk x RX7 cX7_ask 11 4 102)  (σ : (Nat → Nat → Int32)) (l1 : Int32) (l2 : Int32)  {K : Int32 × (Nat → Nat → Int32) → Prop} {o : Int32 × (Nat → Nat → Int32)} (hf : f_X7_ask σ l1 l2 = some o) (hK : K o) (hR : ∀ o : Int32 × (Nat → Nat → Int32), K o → gRi x 0 0 (MW x.dA ad o.2 ++ tl) o.1) : gG x 11 0 0 (MW x.dA ad σ ++ tl) 0 [(0, .ref (ad 0)), (1, .int l1), (2, .int l2)] [] := by
  unfold f_X7_ask at hf
  refine g_aload_n hc dX7_ask_0 rfl 0 rfl ?_
  refine g_iload_n hc dX7_ask_1 rfl 1 rfl ?_
  obtain ⟨r2, h1, hf⟩ := oB_some hf
  refine g_callVi hc [.int l1] [] (c_X7_isHog  h1) (MW_at (k := 0) (by decide)) rfl (lw_V q1162 q1164 qs48 q67 q1165) rfl hd_X7_isHog rfl rfl (Nat.le_of_ble_eq_true rfl) gZ dX7_ask_2 ?_
  refine g_if_eq (tgt := 18) hc dX7_ask_5 (by decide) (fun h3 => ?_) (fun h3 => ?_)
  · have hf := oT h3 hf
    refine g_iconst (v := (-1)) hc dX7_ask_18 (by decide) ?_
    have hz := Option.some.inj hf; subst hz
    exact g_iret hc (hR _ hK) dX7_ask_19
  · have hf := oF h3 hf
    refine g_iload_n hc dX7_ask_8 rfl 2 rfl ?_
    refine g_i2l hc dX7_ask_9 ?_
    refine g_lconst (v := 0) hc dX7_ask_10 (by decide) ?_
    refine g_lconst (v := 1) hc dX7_ask_11 (by decide) ?_
    obtain ⟨r5, h4, hf⟩ := oB_some hf
    refine g_callSi hc [.long (Int32.toInt64 l2), .long 0, .long 1] [] (c_X7_in  h4) (lw_S q1055 q1056 q67 q1057) rfl hd_X7_in rfl rfl (Nat.le_of_ble_eq_true rfl) gZ dX7_ask_12 ?_
    refine g_if_ne (tgt := 20) hc dX7_ask_15 (by decide) (fun h6 => ?_) (fun h6 => ?_)
    · have hf := oF h6 hf
      refine g_aload_n hc dX7_ask_20 rfl 0 rfl ?_
      refine g_iload_n hc dX7_ask_21 rfl 1 rfl ?_
      obtain ⟨r8, h7, hf⟩ := oB_some hf
      refine g_callVi hc [.int l1] [] (c_X7_speedsOf  h7) (MW_at (k := 0) (by decide)) rfl (lw_V q1332 q1334 qs58 q67 q1335) rfl hd_X7_speedsOf rfl rfl (Nat.le_of_ble_eq_true rfl) gZ dX7_ask_22 ?_
      refine g_istore_n (lv' := [(3, .int r8.1), (0, .ref (ad 0)), (1, .int l1), (2, .int l2)]) hc dX7_ask_25 rfl (by decide) rfl ?_
      refine g_iload_n hc dX7_ask_26 rfl 0 rfl ?_
      obtain ⟨r10, h9, hf⟩ := oB_some hf
      refine g_callSi hc [.int r8.1] [] (c_X7_bitsOf  h9) (lw_S q1271 q1272 q67 q1273) rfl hd_X7_bitsOf rfl rfl (Nat.le_of_ble_eq_true rfl) gZ dX7_ask_27 ?_
      refine g_istore (lv' := [(4, .int r10), (3, .int r8.1), (0, .ref (ad 0)), (1, .int l1), (2, .int l2)]) hc dX7_ask_30 (by decide) rfl ?_
      refine g_bipush (v := (-4)) hc dX7_ask_32 (by decide) ?_
      refine g_istore (lv' := [(5, .int (-4)), (4, .int r10), (3, .int r8.1), (0, .ref (ad 0)), (1, .int l1), (2, .int l2)]) hc dX7_ask_34 (by decide) rfl ?_
      refine g_iconst (v := 0) hc dX7_ask_36 (by decide) ?_
      refine g_istore (lv' := [(6, .int 0), (5, .int (-4)), (4, .int r10), (3, .int r8.1), (0, .ref (ad 0)), (1, .int l1), (2, .int l2)]) hc dX7_ask_37 (by decide) rfl ?_
      exact g_lv [4, 6, 3, 2, 1, 0] rfl (w_X7_ask_b39 hc r8.2 l2 r8.1 r10 (-4) 0  (K := K) hf hK hR)
    · have hf := oT h6 hf
      refine g_iconst (v := (-1)) hc dX7_ask_18 (by decide) ?_
      have hz := Option.some.inj hf; subst hz
      exact g_iret hc (hR _ hK) dX7_ask_19
theorem c_X7_ask {l : Launch} {D : va_G} {dA : Nat → ClassId} {ad : Nat → Nat} {tl : va_W}  {σ : (Nat → Nat → Int32)} {l1 : Int32} {l2 : Int32}  {o : Int32 × (Nat → Nat → Int32)} (hf : f_X7_ask σ l1 l2 = some o) : gI l D dA (MW dA ad σ ++ tl) (MW dA ad o.2 ++ tl) [.ref (ad 0), .int l1, .int l2] o.1 yX7_ask (ws_ yX7_ask cX7_ask 11 (some .int)) ({ frames := 4, cells := 0, slots := 0, locals := 102 } : Room) :=
  g_startI (own := RX7) ⟨rfl, rfl⟩ (by decide) rfl (Nat.le_of_ble_eq_true rfl) (fun x e hc hR => by
    subst e
    exact w_X7_ask hc σ l1 l2  (K := fun o1 => o1 = o) hf rfl (by rintro _ rfl; exact hR))
theorem hd_X7_ask : yX7_ask.cls = RX7 ∧ yX7_ask.cls ≠ "java/lang/invoke/MethodHandle" ∧ yX7_ask.cls ≠ "java/lang/invoke/VarHandle" ∧ (parseMethodDescriptor yX7_ask.desc).map (fun d => d.parameters.length) = some 2 := by decide +kernel
/-! HedgehogLotsModel.drift(III)I -/
def f_X7_drift_b208 (σ : (Nat → Nat → Int32)) (l2 : Int32) (l3 : Int32) (l4 : Int32) (l5 : Int32) (l6 : Int32) (l7 : Int32) : Option ((Int32 × Int32 × Int32 × Int32 × (Nat → Nat → Int32)) ⊕ (Int32 × (Nat → Nat → Int32))) :=
  some (.inl (l4, l5, l6, (l7 + 1), σ))
theorem w_X7_drift_b208 {x : gX} {ad : Nat → Nat} {tl : va_W}  (hc : gOk x RX7 cX7_drift 10 2 54)  (σ : (Nat → Nat → Int32)) (l2 : Int32) (l3 : Int32) (l4 : Int32) (l5 : Int32) (l6 : Int32) (l7 : Int32)  {K : (Int32 × Int32 × Int32 × Int32 × (Nat → Nat → Int32)) ⊕ (Int32 × (Nat → Nat → Int32)) → Prop} {o : (Int32 × Int32 × Int32 × Int32 × (Nat → Nat → Int32)) ⊕ (Int32 × (Nat → Nat → Int32))} (hf : f_X7_drift_b208 σ l2 l3 l4 l5 l6 l7 = some o) (hK : K o) (hI54 : ∀ v : Int32 × Int32 × Int32 × Int32 × (Nat → Nat → Int32), K (.inl v) → gG x 10 0 0 (MW x.dA ad v.2.2.2.2 ++ tl) 54 [(0, .ref (ad 0)), (2, .int l2), (3, .int l3), (4, .int v.1), (5, .int v.2.1), (6, .int v.2.2.1), (7, .int v.2.2.2.1)] []) (hR : ∀ o : Int32 × (Nat → Nat → Int32), K (.inr (o)) → gRi x 0 0 (MW x.dA ad o.2 ++ tl) o.1) : gG x 10 0 0 (MW x.dA ad σ ++ tl) 208 [(0, .ref (ad 0)), (2, .int l2), (3, .int l3), (4, .int l4), (5, .int l5), (6, .int l6), (7, .int l7)] [] := by
  unfold f_X7_drift_b208 at hf
  refine g_iinc (v := l7 + 1) (lv' := [(7, .int (l7 + 1)), (0, .ref (ad 0)), (2, .int l2), (3, .int l3), (4, .int l4), (5, .int l5), (6, .int l6)]) hc dX7_drift_208 (j := 6) rfl rfl (by decide) rfl ?_
  refine g_goto (tgt := 54) hc dX7_drift_211 (by decide) ?_
  have hz := Option.some.inj hf; subst hz
  exact g_lv [1, 2, 3, 4, 5, 6, 0] rfl (hI54 _ hK)
def f_X7_drift_b207 (σ : (Nat → Nat → Int32)) (l2 : Int32) (l3 : Int32) (l4 : Int32) (l5 : Int32) (l6 : Int32) (l7 : Int32) (k3 : Int32) (k2 : Int32) : Option ((Int32 × Int32 × Int32 × Int32 × (Nat → Nat → Int32)) ⊕ (Int32 × (Nat → Nat → Int32))) :=
  oC (inb k2 205) <| oL (upd2 σ 1 k2.toNatClampNeg k3) fun s1 => f_X7_drift_b208 s1 l2 l3 l4 l5 l6 l7
theorem w_X7_drift_b207 {x : gX} {ad : Nat → Nat} {tl : va_W}  (hc : gOk x RX7 cX7_drift 10 2 54)  (σ : (Nat → Nat → Int32)) (l2 : Int32) (l3 : Int32) (l4 : Int32) (l5 : Int32) (l6 : Int32) (l7 : Int32) (k3 : Int32) (k2 : Int32)  {K : (Int32 × Int32 × Int32 × Int32 × (Nat → Nat → Int32)) ⊕ (Int32 × (Nat → Nat → Int32)) → Prop} {o : (Int32 × Int32 × Int32 × Int32 × (Nat → Nat → Int32)) ⊕ (Int32 × (Nat → Nat → Int32))} (hf : f_X7_drift_b207 σ l2 l3 l4 l5 l6 l7 k3 k2 = some o) (hK : K o) (hI54 : ∀ v : Int32 × Int32 × Int32 × Int32 × (Nat → Nat → Int32), K (.inl v) → gG x 10 0 0 (MW x.dA ad v.2.2.2.2 ++ tl) 54 [(0, .ref (ad 0)), (2, .int l2), (3, .int l3), (4, .int v.1), (5, .int v.2.1), (6, .int v.2.2.1), (7, .int v.2.2.2.1)] []) (hR : ∀ o : Int32 × (Nat → Nat → Int32), K (.inr (o)) → gRi x 0 0 (MW x.dA ad o.2 ++ tl) o.1) : gG x 10 0 0 (MW x.dA ad σ ++ tl) 207 [(0, .ref (ad 0)), (2, .int l2), (3, .int l3), (4, .int l4), (5, .int l5), (6, .int l6), (7, .int l7)] [.int k3, .int k2, .ref (ad 1)] := by
  unfold f_X7_drift_b207 at hf
  obtain ⟨h3, hf⟩ := oC_some hf
  obtain ⟨s1, e2, hf⟩ := oL_some hf
  refine g_iast (n := 205) (f := σ 1) hc (MW_at (k := 1) (by decide)) h3 (MW_set (μ1 := s1) (k := 1) (by decide) e2 rfl) dX7_drift_207 ?_
  exact g_lv [0, 1, 2, 3, 4, 5, 6] rfl (w_X7_drift_b208 hc s1 l2 l3 l4 l5 l6 l7  (K := K) hf hK hI54 hR)
def f_X7_drift_b162 (σ : (Nat → Nat → Int32)) (l2 : Int32) (l3 : Int32) (l4 : Int32) (l5 : Int32) (l7 : Int32) (l9 : Int32) (k2 : Int32) (k1 : Int32) : Option ((Int32 × Int32 × Int32 × Int32 × (Nat → Nat → Int32)) ⊕ (Int32 × (Nat → Nat → Int32))) :=
  oB (f_X7_isFreeOn σ 164 l9) fun r2 => if r2 = 0 then (oC (inb (164 + (σ 0 16)) 205) <| f_X7_drift_b207 σ l2 l3 l4 l5 (k1 + k2) l7 (σ 1 (164 + (σ 0 16)).toNatClampNeg) (164 + (σ 0 16))) else (f_X7_drift_b207 σ l2 l3 l4 l5 (k1 + k2) l7 l9 (164 + (σ 0 16)))
theorem w_X7_drift_b162 {x : gX} {ad : Nat → Nat} {tl : va_W}  (hc : gOk x RX7 cX7_drift 10 2 54)  (σ : (Nat → Nat → Int32)) (l2 : Int32) (l3 : Int32) (l4 : Int32) (l5 : Int32) (l7 : Int32) (l9 : Int32) (k2 : Int32) (k1 : Int32)  {K : (Int32 × Int32 × Int32 × Int32 × (Nat → Nat → Int32)) ⊕ (Int32 × (Nat → Nat → Int32)) → Prop} {o : (Int32 × Int32 × Int32 × Int32 × (Nat → Nat → Int32)) ⊕ (Int32 × (Nat → Nat → Int32))} (hf : f_X7_drift_b162 σ l2 l3 l4 l5 l7 l9 k2 k1 = some o) (hK : K o) (hI54 : ∀ v : Int32 × Int32 × Int32 × Int32 × (Nat → Nat → Int32), K (.inl v) → gG x 10 0 0 (MW x.dA ad v.2.2.2.2 ++ tl) 54 [(0, .ref (ad 0)), (2, .int l2), (3, .int l3), (4, .int v.1), (5, .int v.2.1), (6, .int v.2.2.1), (7, .int v.2.2.2.1)] []) (hR : ∀ o : Int32 × (Nat → Nat → Int32), K (.inr (o)) → gRi x 0 0 (MW x.dA ad o.2 ++ tl) o.1) : gG x 10 0 0 (MW x.dA ad σ ++ tl) 162 [(0, .ref (ad 0)), (2, .int l2), (3, .int l3), (4, .int l4), (5, .int l5), (7, .int l7), (9, .int l9)] [.int k2, .int k1] := by
  unfold f_X7_drift_b162 at hf
  refine g_iadd hc dX7_drift_162 ?_
  refine g_istore (lv' := [(6, .int (k1 + k2)), (0, .ref (ad 0)), (2, .int l2), (3, .int l3), (4, .int l4), (5, .int l5), (7, .int l7), (9, .int l9)]) hc dX7_drift_163 (by decide) rfl ?_
  refine g_aload_n hc dX7_drift_165 rfl 1 rfl ?_
  refine g_get (v := .ref (ad 1)) hc in_X7 (MW_at (k := 0) (by decide)) rfl 0 (by decide) q961 rfl dX7_drift_166 ?_
  refine g_sipush (v := 164) hc dX7_drift_169 (by decide) ?_
  refine g_aload_n hc dX7_drift_172 rfl 1 rfl ?_
  refine g_get (v := .int (σ 0 16)) hc in_X7 (MW_at (k := 0) (by decide)) rfl 16 (by decide) q977 rfl dX7_drift_173 ?_
  refine g_iadd hc dX7_drift_176 ?_
  refine g_aload_n hc dX7_drift_177 rfl 1 rfl ?_
  refine g_sipush (v := 164) hc dX7_drift_178 (by decide) ?_
  refine g_iload hc dX7_drift_181 7 rfl ?_
  obtain ⟨r2, h1, hf⟩ := oB_some hf
  refine g_callVi hc [.int 164, .int l9] [.int (164 + (σ 0 16)), .ref (ad 1)] (c_X7_isFreeOn  h1) (MW_at (k := 0) (by decide)) rfl (lw_V q1182 q1184 qs50 q67 q1185) rfl hd_X7_isFreeOn rfl rfl (Nat.le_of_ble_eq_true rfl) gZ dX7_drift_183 ?_
  refine g_if_eq (tgt := 194) hc dX7_drift_186 (by decide) (fun h3 => ?_) (fun h3 => ?_)
  · have hf := oT h3 hf
    refine g_aload_n hc dX7_drift_194 rfl 1 rfl ?_
    refine g_get (v := .ref (ad 1)) hc in_X7 (MW_at (k := 0) (by decide)) rfl 0 (by decide) q961 rfl dX7_drift_195 ?_
    refine g_sipush (v := 164) hc dX7_drift_198 (by decide) ?_
    refine g_aload_n hc dX7_drift_201 rfl 1 rfl ?_
    refine g_get (v := .int (σ 0 16)) hc in_X7 (MW_at (k := 0) (by decide)) rfl 16 (by decide) q977 rfl dX7_drift_202 ?_
    refine g_iadd hc dX7_drift_205 ?_
    obtain ⟨h4, hf⟩ := oC_some hf
    refine g_iald (n := 205) (f := σ 1) hc (MW_at (k := 1) (by decide)) h4 dX7_drift_206 ?_
    exact g_lv [1, 2, 3, 4, 5, 0, 6] rfl (w_X7_drift_b207 hc σ l2 l3 l4 l5 (k1 + k2) l7 (σ 1 (164 + (σ 0 16)).toNatClampNeg) (164 + (σ 0 16))  (K := K) hf hK hI54 hR)
  · have hf := oF h3 hf
    refine g_iload hc dX7_drift_189 7 rfl ?_
    refine g_goto (tgt := 207) hc dX7_drift_191 (by decide) ?_
    exact g_lv [1, 2, 3, 4, 5, 0, 6] rfl (w_X7_drift_b207 hc σ l2 l3 l4 l5 (k1 + k2) l7 l9 (164 + (σ 0 16))  (K := K) hf hK hI54 hR)
def f_X7_drift_L54 (σ : (Nat → Nat → Int32)) (l2 : Int32) (l3 : Int32) (l4 : Int32) (l5 : Int32) (l6 : Int32) (l7 : Int32) : Option ((Int32 × Int32 × Int32 × Int32 × (Nat → Nat → Int32)) ⊕ (Int32 × (Nat → Nat → Int32))) :=
  if l2 ≤ l7 then (oI (if l3 = 0 then (some (l5, σ)) else (some (l6, σ)))) else (oC (nz (σ 0 1)) <| oB (f_X7_runsOn σ 164 (((((l4 * 1103515245) + 12345) >>> ((16 : Int32) &&& 31)) &&& 32767) - ((((l4 * 1103515245) + 12345) >>> ((16 : Int32) &&& 31)) &&& 32767) / (σ 0 1) * (σ 0 1)) ((((((l4 * 1103515245) + 12345) >>> ((16 : Int32) &&& 31)) &&& 32767) / 4) - (((((l4 * 1103515245) + 12345) >>> ((16 : Int32) &&& 31)) &&& 32767) / 4) / 8 * 8) 0) fun r6 => if (r6 0 16) = (-4) then (f_X7_drift_b208 r6 l2 l3 ((l4 * 1103515245) + 12345) l5 l6 l7) else (oC (inb (171 + (r6 0 16)) 205) <| if (r6 1 (171 + (r6 0 16)).toNatClampNeg) = 0 then (f_X7_drift_b162 r6 l2 l3 ((l4 * 1103515245) + 12345) (l5 + 1) l7 ((10 * ((((((l4 * 1103515245) + 12345) >>> ((16 : Int32) &&& 31)) &&& 32767) / 32) - (((((l4 * 1103515245) + 12345) >>> ((16 : Int32) &&& 31)) &&& 32767) / 32) / 10 * 10)) + ((((((l4 * 1103515245) + 12345) >>> ((16 : Int32) &&& 31)) &&& 32767) / 320) - (((((l4 * 1103515245) + 12345) >>> ((16 : Int32) &&& 31)) &&& 32767) / 320) / 8 * 8)) 1 l6) else (f_X7_drift_b162 r6 l2 l3 ((l4 * 1103515245) + 12345) (l5 + 1) l7 ((10 * ((((((l4 * 1103515245) + 12345) >>> ((16 : Int32) &&& 31)) &&& 32767) / 32) - (((((l4 * 1103515245) + 12345) >>> ((16 : Int32) &&& 31)) &&& 32767) / 32) / 10 * 10)) + ((((((l4 * 1103515245) + 12345) >>> ((16 : Int32) &&& 31)) &&& 32767) / 320) - (((((l4 * 1103515245) + 12345) >>> ((16 : Int32) &&& 31)) &&& 32767) / 320) / 8 * 8)) 0 l6)))
theorem w_X7_drift_L54 {x : gX} {ad : Nat → Nat} {tl : va_W}  (hc : gOk x RX7 cX7_drift 10 2 54)  (σ : (Nat → Nat → Int32)) (l2 : Int32) (l3 : Int32) (l4 : Int32) (l5 : Int32) (l6 : Int32) (l7 : Int32)  {K : (Int32 × Int32 × Int32 × Int32 × (Nat → Nat → Int32)) ⊕ (Int32 × (Nat → Nat → Int32)) → Prop} {o : (Int32 × Int32 × Int32 × Int32 × (Nat → Nat → Int32)) ⊕ (Int32 × (Nat → Nat → Int32))} (hf : f_X7_drift_L54 σ l2 l3 l4 l5 l6 l7 = some o) (hK : K o) (hI54 : ∀ v : Int32 × Int32 × Int32 × Int32 × (Nat → Nat → Int32), K (.inl v) → gG x 10 0 0 (MW x.dA ad v.2.2.2.2 ++ tl) 54 [(0, .ref (ad 0)), (2, .int l2), (3, .int l3), (4, .int v.1), (5, .int v.2.1), (6, .int v.2.2.1), (7, .int v.2.2.2.1)] []) (hR : ∀ o : Int32 × (Nat → Nat → Int32), K (.inr (o)) → gRi x 0 0 (MW x.dA ad o.2 ++ tl) o.1) : gG x 10 0 0 (MW x.dA ad σ ++ tl) 54 [(0, .ref (ad 0)), (2, .int l2), (3, .int l3), (4, .int l4), (5, .int l5), (6, .int l6), (7, .int l7)] [] := by
  unfold f_X7_drift_L54 at hf
  refine g_iload hc dX7_drift_54 6 rfl ?_
  refine g_iload_n hc dX7_drift_56 rfl 1 rfl ?_
  refine g_icmp_ge (tgt := 214) hc dX7_drift_57 (by decide) (fun h1 => ?_) (fun h1 => ?_)
  · have hf := oT h1 hf
    obtain ⟨o3, hgo3, eo3⟩ := oI_some hf
    clear hf; subst eo3; have hf := hgo3; clear hgo3
    refine g_iload_n hc dX7_drift_214 rfl 2 rfl ?_
    refine g_if_ne (tgt := 223) hc dX7_drift_215 (by decide) (fun h2 => ?_) (fun h2 => ?_)
    · have hf := oF h2 hf
      refine g_iload hc dX7_drift_223 5 rfl ?_
      have hz := Option.some.inj hf; subst hz
      exact g_iret hc (hR _ hK) dX7_drift_225
    · have hf := oT h2 hf
      refine g_iload hc dX7_drift_218 4 rfl ?_
      refine g_goto (tgt := 225) hc dX7_drift_220 (by decide) ?_
      have hz := Option.some.inj hf; subst hz
      exact g_iret hc (hR _ hK) dX7_drift_225
  · have hf := oF h1 hf
    refine g_iload hc dX7_drift_60 3 rfl ?_
    refine g_ldc (v := 1103515245) hc q1345 dX7_drift_62 ?_
    refine g_imul hc dX7_drift_64 ?_
    refine g_sipush (v := 12345) hc dX7_drift_65 (by decide) ?_
    refine g_iadd hc dX7_drift_68 ?_
    refine g_istore (lv' := [(4, .int ((l4 * 1103515245) + 12345)), (0, .ref (ad 0)), (2, .int l2), (3, .int l3), (5, .int l5), (6, .int l6), (7, .int l7)]) hc dX7_drift_69 (by decide) rfl ?_
    refine g_iload hc dX7_drift_71 0 rfl ?_
    refine g_bipush (v := 16) hc dX7_drift_73 (by decide) ?_
    refine g_ishr hc dX7_drift_75 ?_
    refine g_sipush (v := 32767) hc dX7_drift_76 (by decide) ?_
    refine g_iand hc dX7_drift_79 ?_
    refine g_istore (lv' := [(8, .int ((((l4 * 1103515245) + 12345) >>> ((16 : Int32) &&& 31)) &&& 32767)), (4, .int ((l4 * 1103515245) + 12345)), (0, .ref (ad 0)), (2, .int l2), (3, .int l3), (5, .int l5), (6, .int l6), (7, .int l7)]) hc dX7_drift_80 (by decide) rfl ?_
    refine g_aload_n hc dX7_drift_82 rfl 2 rfl ?_
    refine g_sipush (v := 164) hc dX7_drift_83 (by decide) ?_
    refine g_iload hc dX7_drift_86 0 rfl ?_
    refine g_aload_n hc dX7_drift_88 rfl 2 rfl ?_
    refine g_get (v := .int (σ 0 1)) hc in_X7 (MW_at (k := 0) (by decide)) rfl 1 (by decide) q962 rfl dX7_drift_89 ?_
    obtain ⟨h4, hf⟩ := oC_some hf
    refine g_irem hc dX7_drift_92 (nz_ne h4) ?_
    refine g_iload hc dX7_drift_93 0 rfl ?_
    refine g_iconst (v := 4) hc dX7_drift_95 (by decide) ?_
    refine g_idiv hc dX7_drift_96 (by decide) ?_
    refine g_bipush (v := 8) hc dX7_drift_97 (by decide) ?_
    refine g_irem hc dX7_drift_99 (by decide) ?_
    refine g_iconst (v := 0) hc dX7_drift_100 (by decide) ?_
    obtain ⟨r6, h5, hf⟩ := oB_some hf
    refine g_callVv hc [.int 164, .int (((((l4 * 1103515245) + 12345) >>> ((16 : Int32) &&& 31)) &&& 32767) - ((((l4 * 1103515245) + 12345) >>> ((16 : Int32) &&& 31)) &&& 32767) / (σ 0 1) * (σ 0 1)), .int ((((((l4 * 1103515245) + 12345) >>> ((16 : Int32) &&& 31)) &&& 32767) / 4) - (((((l4 * 1103515245) + 12345) >>> ((16 : Int32) &&& 31)) &&& 32767) / 4) / 8 * 8), .int 0] [] (c_X7_runsOn  h5) (MW_at (k := 0) (by decide)) rfl (lw_V q1119 q1121 qs42 q67 q1122) rfl hd_X7_runsOn rfl rfl (Nat.le_of_ble_eq_true rfl) gZ dX7_drift_101 ?_
    refine g_bipush (v := 10) hc dX7_drift_104 (by decide) ?_
    refine g_iload hc dX7_drift_106 0 rfl ?_
    refine g_bipush (v := 32) hc dX7_drift_108 (by decide) ?_
    refine g_idiv hc dX7_drift_110 (by decide) ?_
    refine g_bipush (v := 10) hc dX7_drift_111 (by decide) ?_
    refine g_irem hc dX7_drift_113 (by decide) ?_
    refine g_imul hc dX7_drift_114 ?_
    refine g_iload hc dX7_drift_115 0 rfl ?_
    refine g_sipush (v := 320) hc dX7_drift_117 (by decide) ?_
    refine g_idiv hc dX7_drift_120 (by decide) ?_
    refine g_bipush (v := 8) hc dX7_drift_121 (by decide) ?_
    refine g_irem hc dX7_drift_123 (by decide) ?_
    refine g_iadd hc dX7_drift_124 ?_
    refine g_istore (lv' := [(9, .int ((10 * ((((((l4 * 1103515245) + 12345) >>> ((16 : Int32) &&& 31)) &&& 32767) / 32) - (((((l4 * 1103515245) + 12345) >>> ((16 : Int32) &&& 31)) &&& 32767) / 32) / 10 * 10)) + ((((((l4 * 1103515245) + 12345) >>> ((16 : Int32) &&& 31)) &&& 32767) / 320) - (((((l4 * 1103515245) + 12345) >>> ((16 : Int32) &&& 31)) &&& 32767) / 320) / 8 * 8))), (8, .int ((((l4 * 1103515245) + 12345) >>> ((16 : Int32) &&& 31)) &&& 32767)), (4, .int ((l4 * 1103515245) + 12345)), (0, .ref (ad 0)), (2, .int l2), (3, .int l3), (5, .int l5), (6, .int l6), (7, .int l7)]) hc dX7_drift_125 (by decide) rfl ?_
    refine g_aload_n hc dX7_drift_127 rfl 3 rfl ?_
    refine g_get (v := .int (r6 0 16)) hc in_X7 (MW_at (k := 0) (by decide)) rfl 16 (by decide) q977 rfl dX7_drift_128 ?_
    refine g_bipush (v := (-4)) hc dX7_drift_131 (by decide) ?_
    refine g_icmp_eq (tgt := 208) hc dX7_drift_133 (by decide) (fun h7 => ?_) (fun h7 => ?_)
    · have hf := oT h7 hf
      exact g_lv [3, 4, 5, 2, 6, 7, 8] rfl (w_X7_drift_b208 hc r6 l2 l3 ((l4 * 1103515245) + 12345) l5 l6 l7  (K := K) hf hK hI54 hR)
    · have hf := oF h7 hf
      refine g_iinc (v := l5 + 1) (lv' := [(5, .int (l5 + 1)), (9, .int ((10 * ((((((l4 * 1103515245) + 12345) >>> ((16 : Int32) &&& 31)) &&& 32767) / 32) - (((((l4 * 1103515245) + 12345) >>> ((16 : Int32) &&& 31)) &&& 32767) / 32) / 10 * 10)) + ((((((l4 * 1103515245) + 12345) >>> ((16 : Int32) &&& 31)) &&& 32767) / 320) - (((((l4 * 1103515245) + 12345) >>> ((16 : Int32) &&& 31)) &&& 32767) / 320) / 8 * 8))), (8, .int ((((l4 * 1103515245) + 12345) >>> ((16 : Int32) &&& 31)) &&& 32767)), (4, .int ((l4 * 1103515245) + 12345)), (0, .ref (ad 0)), (2, .int l2), (3, .int l3), (6, .int l6), (7, .int l7)]) hc dX7_drift_136 (j := 6) rfl rfl (by decide) rfl ?_
      refine g_iload hc dX7_drift_139 7 rfl ?_
      refine g_aload_n hc dX7_drift_141 rfl 4 rfl ?_
      refine g_get (v := .ref (ad 1)) hc in_X7 (MW_at (k := 0) (by decide)) rfl 0 (by decide) q961 rfl dX7_drift_142 ?_
      refine g_sipush (v := 171) hc dX7_drift_145 (by decide) ?_
      refine g_aload_n hc dX7_drift_148 rfl 4 rfl ?_
      refine g_get (v := .int (r6 0 16)) hc in_X7 (MW_at (k := 0) (by decide)) rfl 16 (by decide) q977 rfl dX7_drift_149 ?_
      refine g_iadd hc dX7_drift_152 ?_
      obtain ⟨h8, hf⟩ := oC_some hf
      refine g_iald (n := 205) (f := r6 1) hc (MW_at (k := 1) (by decide)) h8 dX7_drift_153 ?_
      refine g_if_ne (tgt := 161) hc dX7_drift_154 (by decide) (fun h9 => ?_) (fun h9 => ?_)
      · have hf := oF h9 hf
        refine g_iconst (v := 0) hc dX7_drift_161 (by decide) ?_
        exact g_lv [4, 5, 6, 3, 0, 8, 1] rfl (w_X7_drift_b162 hc r6 l2 l3 ((l4 * 1103515245) + 12345) (l5 + 1) l7 ((10 * ((((((l4 * 1103515245) + 12345) >>> ((16 : Int32) &&& 31)) &&& 32767) / 32) - (((((l4 * 1103515245) + 12345) >>> ((16 : Int32) &&& 31)) &&& 32767) / 32) / 10 * 10)) + ((((((l4 * 1103515245) + 12345) >>> ((16 : Int32) &&& 31)) &&& 32767) / 320) - (((((l4 * 1103515245) + 12345) >>> ((16 : Int32) &&& 31)) &&& 32767) / 320) / 8 * 8)) 0 l6  (K := K) hf hK hI54 hR)
      · have hf := oT h9 hf
        refine g_iconst (v := 1) hc dX7_drift_157 (by decide) ?_
        refine g_goto (tgt := 162) hc dX7_drift_158 (by decide) ?_
        exact g_lv [4, 5, 6, 3, 0, 8, 1] rfl (w_X7_drift_b162 hc r6 l2 l3 ((l4 * 1103515245) + 12345) (l5 + 1) l7 ((10 * ((((((l4 * 1103515245) + 12345) >>> ((16 : Int32) &&& 31)) &&& 32767) / 32) - (((((l4 * 1103515245) + 12345) >>> ((16 : Int32) &&& 31)) &&& 32767) / 32) / 10 * 10)) + ((((((l4 * 1103515245) + 12345) >>> ((16 : Int32) &&& 31)) &&& 32767) / 320) - (((((l4 * 1103515245) + 12345) >>> ((16 : Int32) &&& 31)) &&& 32767) / 320) / 8 * 8)) 1 l6  (K := K) hf hK hI54 hR)
def f_X7_drift_b54 (σ : (Nat → Nat → Int32)) (l2 : Int32) (l3 : Int32) (l4 : Int32) (l5 : Int32) (l6 : Int32) (l7 : Int32) : Option (Int32 × (Nat → Nat → Int32)) :=
  oLoop gFU (fun v : Int32 × Int32 × Int32 × Int32 × (Nat → Nat → Int32) => f_X7_drift_L54 v.2.2.2.2 l2 l3 v.1 v.2.1 v.2.2.1 v.2.2.2.1) (l4, l5, l6, l7, σ)
theorem w_X7_drift_b54 {x : gX} {ad : Nat → Nat} {tl : va_W}  (hc : gOk x RX7 cX7_drift 10 2 54)  (σ : (Nat → Nat → Int32)) (l2 : Int32) (l3 : Int32) (l4 : Int32) (l5 : Int32) (l6 : Int32) (l7 : Int32)  {K : Int32 × (Nat → Nat → Int32) → Prop} {o : Int32 × (Nat → Nat → Int32)} (hf : f_X7_drift_b54 σ l2 l3 l4 l5 l6 l7 = some o) (hK : K o) (hR : ∀ o : Int32 × (Nat → Nat → Int32), K o → gRi x 0 0 (MW x.dA ad o.2 ++ tl) o.1) : gG x 10 0 0 (MW x.dA ad σ ++ tl) 54 [(0, .ref (ad 0)), (2, .int l2), (3, .int l3), (4, .int l4), (5, .int l5), (6, .int l6), (7, .int l7)] [] :=
  oLoop_ind (fun v : Int32 × Int32 × Int32 × Int32 × (Nat → Nat → Int32) => gG x 10 0 0 (MW x.dA ad v.2.2.2.2 ++ tl) 54 [(0, .ref (ad 0)), (2, .int l2), (3, .int l3), (4, .int v.1), (5, .int v.2.1), (6, .int v.2.2.1), (7, .int v.2.2.2.1)] []) K (fun v o1 hf1 hK1 => w_X7_drift_L54 hc v.2.2.2.2 l2 l3 v.1 v.2.1 v.2.2.1 v.2.2.2.1  (K := Sum.elim (fun v : Int32 × Int32 × Int32 × Int32 × (Nat → Nat → Int32) => gG x 10 0 0 (MW x.dA ad v.2.2.2.2 ++ tl) 54 [(0, .ref (ad 0)), (2, .int l2), (3, .int l3), (4, .int v.1), (5, .int v.2.1), (6, .int v.2.2.1), (7, .int v.2.2.2.1)] []) K) hf1 hK1 (fun v hv => hv) hR) gFU _ o hf hK
def f_X7_drift (σ : (Nat → Nat → Int32)) (l1 : Int32) (l2 : Int32) (l3 : Int32) : Option (Int32 × (Nat → Nat → Int32)) :=
  oB (f_X7_in (Int32.toInt64 l2) 1 60) fun r2 => if r2 = 0 then (some ((-1), σ)) else (oB (f_X7_in (Int32.toInt64 l3) 0 1) fun r5 => if r5 = 0 then (some ((-1), σ)) else (if (σ 0 1) = 0 then (some ((-2), σ)) else (oB (f_X7_copies σ 0 164) fun r9 => f_X7_drift_b54 r9 l2 l3 l1 0 0 0)))
theorem w_X7_drift {x : gX} {ad : Nat → Nat} {tl : va_W}  (hc : gOk x RX7 cX7_drift 10 2 54)  (σ : (Nat → Nat → Int32)) (l1 : Int32) (l2 : Int32) (l3 : Int32)  {K : Int32 × (Nat → Nat → Int32) → Prop} {o : Int32 × (Nat → Nat → Int32)} (hf : f_X7_drift σ l1 l2 l3 = some o) (hK : K o) (hR : ∀ o : Int32 × (Nat → Nat → Int32), K o → gRi x 0 0 (MW x.dA ad o.2 ++ tl) o.1) : gG x 10 0 0 (MW x.dA ad σ ++ tl) 0 [(0, .ref (ad 0)), (1, .int l1), (2, .int l2), (3, .int l3)] [] := by
  unfold f_X7_drift at hf
  refine g_iload_n hc dX7_drift_0 rfl 2 rfl ?_
  refine g_i2l hc dX7_drift_1 ?_
  refine g_lconst (v := 1) hc dX7_drift_2 (by decide) ?_
  refine g_ldc2 (v := 60) hc q1344 dX7_drift_3 ?_
  obtain ⟨r2, h1, hf⟩ := oB_some hf
  refine g_callSi hc [.long (Int32.toInt64 l2), .long 1, .long 60] [] (c_X7_in  h1) (lw_S q1055 q1056 q67 q1057) rfl hd_X7_in rfl rfl (Nat.le_of_ble_eq_true rfl) gZ dX7_drift_6 ?_
  refine g_if_eq (tgt := 22) hc dX7_drift_9 (by decide) (fun h3 => ?_) (fun h3 => ?_)
  · have hf := oT h3 hf
    refine g_iconst (v := (-1)) hc dX7_drift_22 (by decide) ?_
    have hz := Option.some.inj hf; subst hz
    exact g_iret hc (hR _ hK) dX7_drift_23
  · have hf := oF h3 hf
    refine g_iload_n hc dX7_drift_12 rfl 3 rfl ?_
    refine g_i2l hc dX7_drift_13 ?_
    refine g_lconst (v := 0) hc dX7_drift_14 (by decide) ?_
    refine g_lconst (v := 1) hc dX7_drift_15 (by decide) ?_
    obtain ⟨r5, h4, hf⟩ := oB_some hf
    refine g_callSi hc [.long (Int32.toInt64 l3), .long 0, .long 1] [] (c_X7_in  h4) (lw_S q1055 q1056 q67 q1057) rfl hd_X7_in rfl rfl (Nat.le_of_ble_eq_true rfl) gZ dX7_drift_16 ?_
    refine g_if_ne (tgt := 24) hc dX7_drift_19 (by decide) (fun h6 => ?_) (fun h6 => ?_)
    · have hf := oF h6 hf
      refine g_aload_n hc dX7_drift_24 rfl 0 rfl ?_
      refine g_get (v := .int (σ 0 1)) hc in_X7 (MW_at (k := 0) (by decide)) rfl 1 (by decide) q962 rfl dX7_drift_25 ?_
      refine g_if_ne (tgt := 34) hc dX7_drift_28 (by decide) (fun h7 => ?_) (fun h7 => ?_)
      · have hf := oF h7 hf
        refine g_aload_n hc dX7_drift_34 rfl 0 rfl ?_
        refine g_iconst (v := 0) hc dX7_drift_35 (by decide) ?_
        refine g_sipush (v := 164) hc dX7_drift_36 (by decide) ?_
        obtain ⟨r9, h8, hf⟩ := oB_some hf
        refine g_callVv hc [.int 0, .int 164] [] (c_X7_copies  h8) (MW_at (k := 0) (by decide)) rfl (lw_V q1263 q1265 qs55 q67 q1266) rfl hd_X7_copies rfl rfl (Nat.le_of_ble_eq_true rfl) gZ dX7_drift_39 ?_
        refine g_iload_n hc dX7_drift_42 rfl 1 rfl ?_
        refine g_istore (lv' := [(4, .int l1), (0, .ref (ad 0)), (1, .int l1), (2, .int l2), (3, .int l3)]) hc dX7_drift_43 (by decide) rfl ?_
        refine g_iconst (v := 0) hc dX7_drift_45 (by decide) ?_
        refine g_istore (lv' := [(5, .int 0), (4, .int l1), (0, .ref (ad 0)), (1, .int l1), (2, .int l2), (3, .int l3)]) hc dX7_drift_46 (by decide) rfl ?_
        refine g_iconst (v := 0) hc dX7_drift_48 (by decide) ?_
        refine g_istore (lv' := [(6, .int 0), (5, .int 0), (4, .int l1), (0, .ref (ad 0)), (1, .int l1), (2, .int l2), (3, .int l3)]) hc dX7_drift_49 (by decide) rfl ?_
        refine g_iconst (v := 0) hc dX7_drift_51 (by decide) ?_
        refine g_istore (lv' := [(7, .int 0), (6, .int 0), (5, .int 0), (4, .int l1), (0, .ref (ad 0)), (1, .int l1), (2, .int l2), (3, .int l3)]) hc dX7_drift_52 (by decide) rfl ?_
        exact g_lv [4, 6, 7, 3, 2, 1, 0] rfl (w_X7_drift_b54 hc r9 l2 l3 l1 0 0 0  (K := K) hf hK hR)
      · have hf := oT h7 hf
        refine g_bipush (v := (-2)) hc dX7_drift_31 (by decide) ?_
        have hz := Option.some.inj hf; subst hz
        exact g_iret hc (hR _ hK) dX7_drift_33
    · have hf := oT h6 hf
      refine g_iconst (v := (-1)) hc dX7_drift_22 (by decide) ?_
      have hz := Option.some.inj hf; subst hz
      exact g_iret hc (hR _ hK) dX7_drift_23
theorem c_X7_drift {l : Launch} {D : va_G} {dA : Nat → ClassId} {ad : Nat → Nat} {tl : va_W}  {σ : (Nat → Nat → Int32)} {l1 : Int32} {l2 : Int32} {l3 : Int32}  {o : Int32 × (Nat → Nat → Int32)} (hf : f_X7_drift σ l1 l2 l3 = some o) : gI l D dA (MW dA ad σ ++ tl) (MW dA ad o.2 ++ tl) [.ref (ad 0), .int l1, .int l2, .int l3] o.1 yX7_drift (ws_ yX7_drift cX7_drift 10 (some .int)) ({ frames := 2, cells := 0, slots := 0, locals := 54 } : Room) :=
  g_startI (own := RX7) ⟨rfl, rfl⟩ (by decide) rfl (Nat.le_of_ble_eq_true rfl) (fun x e hc hR => by
    subst e
    exact w_X7_drift hc σ l1 l2 l3  (K := fun o1 => o1 = o) hf rfl (by rintro _ rfl; exact hR))
theorem hd_X7_drift : yX7_drift.cls = RX7 ∧ yX7_drift.cls ≠ "java/lang/invoke/MethodHandle" ∧ yX7_drift.cls ≠ "java/lang/invoke/VarHandle" ∧ (parseMethodDescriptor yX7_drift.desc).map (fun d => d.parameters.length) = some 3 := by decide +kernel
/-! HedgehogLotsModel.keep(I)I -/
def f_X7_keep_b37 (σ : (Nat → Nat → Int32)) (l1 : Int32) (k1 : Int32) : Option (Int32 × (Nat → Nat → Int32)) :=
  oC (inb l1 2) <| oL (upd2 σ 9 l1.toNatClampNeg (vp_nar .boolean 1)) fun s1 => some (k1, s1)
theorem w_X7_keep_b37 {x : gX} {ad : Nat → Nat} {tl : va_W}  (hc : gOk x RX7 cX7_keep 3 1 25)  (σ : (Nat → Nat → Int32)) (l1 : Int32) (k1 : Int32)  {K : Int32 × (Nat → Nat → Int32) → Prop} {o : Int32 × (Nat → Nat → Int32)} (hf : f_X7_keep_b37 σ l1 k1 = some o) (hK : K o) (hR : ∀ o : Int32 × (Nat → Nat → Int32), K o → gRi x 0 0 (MW x.dA ad o.2 ++ tl) o.1) : gG x 3 0 0 (MW x.dA ad σ ++ tl) 37 [(0, .ref (ad 0)), (1, .int l1)] [.int k1] := by
  unfold f_X7_keep_b37 at hf
  refine g_istore_n (lv' := [(2, .int k1), (0, .ref (ad 0)), (1, .int l1)]) hc dX7_keep_37 rfl (by decide) rfl ?_
  refine g_aload_n hc dX7_keep_38 rfl 1 rfl ?_
  refine g_get (v := .ref (ad 9)) hc in_X7 (MW_at (k := 0) (by decide)) rfl 24 (by decide) q985 rfl dX7_keep_39 ?_
  refine g_iload_n hc dX7_keep_42 rfl 2 rfl ?_
  refine g_iconst (v := 1) hc dX7_keep_43 (by decide) ?_
  obtain ⟨h3, hf⟩ := oC_some hf
  obtain ⟨s1, e2, hf⟩ := oL_some hf
  refine g_zast (n := 2) (f := σ 9) hc (MW_at (k := 9) (by decide)) h3 (MW_set (μ1 := s1) (k := 9) (by decide) e2 rfl) dX7_keep_44 ?_
  refine g_iload_n hc dX7_keep_45 rfl 0 rfl ?_
  have hz := Option.some.inj hf; subst hz
  exact g_iret hc (hR _ hK) dX7_keep_46
def f_X7_keep (σ : (Nat → Nat → Int32)) (l1 : Int32) : Option (Int32 × (Nat → Nat → Int32)) :=
  oB (f_X7_in (Int32.toInt64 l1) 0 1) fun r2 => if r2 = 0 then (some ((-1), σ)) else (oB (f_X7_copies σ 0 (41 * (l1 + 1))) fun r5 => oC (inb l1 2) <| if (r5 9 l1.toNatClampNeg) = 0 then (f_X7_keep_b37 r5 l1 0) else (f_X7_keep_b37 r5 l1 1))
theorem w_X7_keep {x : gX} {ad : Nat → Nat} {tl : va_W}  (hc : gOk x RX7 cX7_keep 3 1 25)  (σ : (Nat → Nat → Int32)) (l1 : Int32)  {K : Int32 × (Nat → Nat → Int32) → Prop} {o : Int32 × (Nat → Nat → Int32)} (hf : f_X7_keep σ l1 = some o) (hK : K o) (hR : ∀ o : Int32 × (Nat → Nat → Int32), K o → gRi x 0 0 (MW x.dA ad o.2 ++ tl) o.1) : gG x 3 0 0 (MW x.dA ad σ ++ tl) 0 [(0, .ref (ad 0)), (1, .int l1)] [] := by
  unfold f_X7_keep at hf
  refine g_iload_n hc dX7_keep_0 rfl 1 rfl ?_
  refine g_i2l hc dX7_keep_1 ?_
  refine g_lconst (v := 0) hc dX7_keep_2 (by decide) ?_
  refine g_lconst (v := 1) hc dX7_keep_3 (by decide) ?_
  obtain ⟨r2, h1, hf⟩ := oB_some hf
  refine g_callSi hc [.long (Int32.toInt64 l1), .long 0, .long 1] [] (c_X7_in  h1) (lw_S q1055 q1056 q67 q1057) rfl hd_X7_in rfl rfl (Nat.le_of_ble_eq_true rfl) gZ dX7_keep_4 ?_
  refine g_if_ne (tgt := 12) hc dX7_keep_7 (by decide) (fun h3 => ?_) (fun h3 => ?_)
  · have hf := oF h3 hf
    refine g_aload_n hc dX7_keep_12 rfl 0 rfl ?_
    refine g_iconst (v := 0) hc dX7_keep_13 (by decide) ?_
    refine g_bipush (v := 41) hc dX7_keep_14 (by decide) ?_
    refine g_iload_n hc dX7_keep_16 rfl 1 rfl ?_
    refine g_iconst (v := 1) hc dX7_keep_17 (by decide) ?_
    refine g_iadd hc dX7_keep_18 ?_
    refine g_imul hc dX7_keep_19 ?_
    obtain ⟨r5, h4, hf⟩ := oB_some hf
    refine g_callVv hc [.int 0, .int (41 * (l1 + 1))] [] (c_X7_copies  h4) (MW_at (k := 0) (by decide)) rfl (lw_V q1263 q1265 qs55 q67 q1266) rfl hd_X7_copies rfl rfl (Nat.le_of_ble_eq_true rfl) gZ dX7_keep_20 ?_
    refine g_aload_n hc dX7_keep_23 rfl 0 rfl ?_
    refine g_get (v := .ref (ad 9)) hc in_X7 (MW_at (k := 0) (by decide)) rfl 24 (by decide) q985 rfl dX7_keep_24 ?_
    refine g_iload_n hc dX7_keep_27 rfl 1 rfl ?_
    obtain ⟨h6, hf⟩ := oC_some hf
    refine g_zald (n := 2) (f := r5 9) hc (MW_at (k := 9) (by decide)) h6 dX7_keep_28 ?_
    refine g_if_eq (tgt := 36) hc dX7_keep_29 (by decide) (fun h7 => ?_) (fun h7 => ?_)
    · have hf := oT h7 hf
      refine g_iconst (v := 0) hc dX7_keep_36 (by decide) ?_
      exact g_lv [0, 1] rfl (w_X7_keep_b37 hc r5 l1 0  (K := K) hf hK hR)
    · have hf := oF h7 hf
      refine g_iconst (v := 1) hc dX7_keep_32 (by decide) ?_
      refine g_goto (tgt := 37) hc dX7_keep_33 (by decide) ?_
      exact g_lv [0, 1] rfl (w_X7_keep_b37 hc r5 l1 1  (K := K) hf hK hR)
  · have hf := oT h3 hf
    refine g_iconst (v := (-1)) hc dX7_keep_10 (by decide) ?_
    have hz := Option.some.inj hf; subst hz
    exact g_iret hc (hR _ hK) dX7_keep_11
theorem c_X7_keep {l : Launch} {D : va_G} {dA : Nat → ClassId} {ad : Nat → Nat} {tl : va_W}  {σ : (Nat → Nat → Int32)} {l1 : Int32}  {o : Int32 × (Nat → Nat → Int32)} (hf : f_X7_keep σ l1 = some o) : gI l D dA (MW dA ad σ ++ tl) (MW dA ad o.2 ++ tl) [.ref (ad 0), .int l1] o.1 yX7_keep (ws_ yX7_keep cX7_keep 3 (some .int)) ({ frames := 1, cells := 0, slots := 0, locals := 25 } : Room) :=
  g_startI (own := RX7) ⟨rfl, rfl⟩ (by decide) rfl (Nat.le_of_ble_eq_true rfl) (fun x e hc hR => by
    subst e
    exact w_X7_keep hc σ l1  (K := fun o1 => o1 = o) hf rfl (by rintro _ rfl; exact hR))
theorem hd_X7_keep : yX7_keep.cls = RX7 ∧ yX7_keep.cls ≠ "java/lang/invoke/MethodHandle" ∧ yX7_keep.cls ≠ "java/lang/invoke/VarHandle" ∧ (parseMethodDescriptor yX7_keep.desc).map (fun d => d.parameters.length) = some 1 := by decide +kernel
/-! HedgehogLotsModel.back(I)I -/
def f_X7_back (σ : (Nat → Nat → Int32)) (l1 : Int32) : Option (Int32 × (Nat → Nat → Int32)) :=
  oB (f_X7_in (Int32.toInt64 l1) 0 1) fun r2 => if r2 = 0 then (some ((-1), σ)) else (oC (inb l1 2) <| if (σ 9 l1.toNatClampNeg) = 0 then (some ((-2), σ)) else (oB (f_X7_copies σ (41 * (l1 + 1)) 0) fun r7 => oB (f_X7_winsOn r7 0 (-4)) fun r9 => oB (f_X7_bitsOf r9.1) fun r11 => some (r11, r9.2)))
theorem w_X7_back {x : gX} {ad : Nat → Nat} {tl : va_W}  (hc : gOk x RX7 cX7_back 2 4 102)  (σ : (Nat → Nat → Int32)) (l1 : Int32)  {K : Int32 × (Nat → Nat → Int32) → Prop} {o : Int32 × (Nat → Nat → Int32)} (hf : f_X7_back σ l1 = some o) (hK : K o) (hR : ∀ o : Int32 × (Nat → Nat → Int32), K o → gRi x 0 0 (MW x.dA ad o.2 ++ tl) o.1) : gG x 2 0 0 (MW x.dA ad σ ++ tl) 0 [(0, .ref (ad 0)), (1, .int l1)] [] := by
  unfold f_X7_back at hf
  refine g_iload_n hc dX7_back_0 rfl 1 rfl ?_
  refine g_i2l hc dX7_back_1 ?_
  refine g_lconst (v := 0) hc dX7_back_2 (by decide) ?_
  refine g_lconst (v := 1) hc dX7_back_3 (by decide) ?_
  obtain ⟨r2, h1, hf⟩ := oB_some hf
  refine g_callSi hc [.long (Int32.toInt64 l1), .long 0, .long 1] [] (c_X7_in  h1) (lw_S q1055 q1056 q67 q1057) rfl hd_X7_in rfl rfl (Nat.le_of_ble_eq_true rfl) gZ dX7_back_4 ?_
  refine g_if_ne (tgt := 12) hc dX7_back_7 (by decide) (fun h3 => ?_) (fun h3 => ?_)
  · have hf := oF h3 hf
    refine g_aload_n hc dX7_back_12 rfl 0 rfl ?_
    refine g_get (v := .ref (ad 9)) hc in_X7 (MW_at (k := 0) (by decide)) rfl 24 (by decide) q985 rfl dX7_back_13 ?_
    refine g_iload_n hc dX7_back_16 rfl 1 rfl ?_
    obtain ⟨h4, hf⟩ := oC_some hf
    refine g_zald (n := 2) (f := σ 9) hc (MW_at (k := 9) (by decide)) h4 dX7_back_17 ?_
    refine g_if_ne (tgt := 24) hc dX7_back_18 (by decide) (fun h5 => ?_) (fun h5 => ?_)
    · have hf := oF h5 hf
      refine g_aload_n hc dX7_back_24 rfl 0 rfl ?_
      refine g_bipush (v := 41) hc dX7_back_25 (by decide) ?_
      refine g_iload_n hc dX7_back_27 rfl 1 rfl ?_
      refine g_iconst (v := 1) hc dX7_back_28 (by decide) ?_
      refine g_iadd hc dX7_back_29 ?_
      refine g_imul hc dX7_back_30 ?_
      refine g_iconst (v := 0) hc dX7_back_31 (by decide) ?_
      obtain ⟨r7, h6, hf⟩ := oB_some hf
      refine g_callVv hc [.int (41 * (l1 + 1)), .int 0] [] (c_X7_copies  h6) (MW_at (k := 0) (by decide)) rfl (lw_V q1263 q1265 qs55 q67 q1266) rfl hd_X7_copies rfl rfl (Nat.le_of_ble_eq_true rfl) gZ dX7_back_32 ?_
      refine g_aload_n hc dX7_back_35 rfl 0 rfl ?_
      refine g_iconst (v := 0) hc dX7_back_36 (by decide) ?_
      refine g_bipush (v := (-4)) hc dX7_back_37 (by decide) ?_
      obtain ⟨r9, h8, hf⟩ := oB_some hf
      refine g_callVi hc [.int 0, .int (-4)] [] (c_X7_winsOn  h8) (MW_at (k := 0) (by decide)) rfl (lw_V q1137 q1139 qs45 q67 q1140) rfl hd_X7_winsOn rfl rfl (Nat.le_of_ble_eq_true rfl) gZ dX7_back_39 ?_
      obtain ⟨r11, h10, hf⟩ := oB_some hf
      refine g_callSi hc [.int r9.1] [] (c_X7_bitsOf  h10) (lw_S q1271 q1272 q67 q1273) rfl hd_X7_bitsOf rfl rfl (Nat.le_of_ble_eq_true rfl) gZ dX7_back_42 ?_
      have hz := Option.some.inj hf; subst hz
      exact g_iret hc (hR _ hK) dX7_back_45
    · have hf := oT h5 hf
      refine g_bipush (v := (-2)) hc dX7_back_21 (by decide) ?_
      have hz := Option.some.inj hf; subst hz
      exact g_iret hc (hR _ hK) dX7_back_23
  · have hf := oT h3 hf
    refine g_iconst (v := (-1)) hc dX7_back_10 (by decide) ?_
    have hz := Option.some.inj hf; subst hz
    exact g_iret hc (hR _ hK) dX7_back_11
theorem c_X7_back {l : Launch} {D : va_G} {dA : Nat → ClassId} {ad : Nat → Nat} {tl : va_W}  {σ : (Nat → Nat → Int32)} {l1 : Int32}  {o : Int32 × (Nat → Nat → Int32)} (hf : f_X7_back σ l1 = some o) : gI l D dA (MW dA ad σ ++ tl) (MW dA ad o.2 ++ tl) [.ref (ad 0), .int l1] o.1 yX7_back (ws_ yX7_back cX7_back 2 (some .int)) ({ frames := 4, cells := 0, slots := 0, locals := 102 } : Room) :=
  g_startI (own := RX7) ⟨rfl, rfl⟩ (by decide) rfl (Nat.le_of_ble_eq_true rfl) (fun x e hc hR => by
    subst e
    exact w_X7_back hc σ l1  (K := fun o1 => o1 = o) hf rfl (by rintro _ rfl; exact hR))
theorem hd_X7_back : yX7_back.cls = RX7 ∧ yX7_back.cls ≠ "java/lang/invoke/MethodHandle" ∧ yX7_back.cls ≠ "java/lang/invoke/VarHandle" ∧ (parseMethodDescriptor yX7_back.desc).map (fun d => d.parameters.length) = some 1 := by decide +kernel
/-! HedgehogLotsModel.sheet(III)I -/
def f_X7_sheet_L56 (σ : (Nat → Nat → Int32)) (l1 : Int32) (l4 : Int32) : Option ((Int32 × (Nat → Nat → Int32)) ⊕ (Int32 × (Nat → Nat → Int32))) :=
  if 40 ≤ l4 then (oI (some (1, σ))) else (oC (inb ((40 * l1) + l4) 160) <| oL (upd2 σ 12 ((40 * l1) + l4).toNatClampNeg 0) fun s3 => some (.inl ((l4 + 1), s3)))
theorem w_X7_sheet_L56 {x : gX} {ad : Nat → Nat} {tl : va_W}  (hc : gOk x RX7 cX7_sheet 5 1 25)  (σ : (Nat → Nat → Int32)) (l1 : Int32) (l4 : Int32)  {K : (Int32 × (Nat → Nat → Int32)) ⊕ (Int32 × (Nat → Nat → Int32)) → Prop} {o : (Int32 × (Nat → Nat → Int32)) ⊕ (Int32 × (Nat → Nat → Int32))} (hf : f_X7_sheet_L56 σ l1 l4 = some o) (hK : K o) (hI56 : ∀ v : Int32 × (Nat → Nat → Int32), K (.inl v) → gG x 5 0 0 (MW x.dA ad v.2 ++ tl) 56 [(0, .ref (ad 0)), (1, .int l1), (4, .int v.1)] []) (hR : ∀ o : Int32 × (Nat → Nat → Int32), K (.inr (o)) → gRi x 0 0 (MW x.dA ad o.2 ++ tl) o.1) : gG x 5 0 0 (MW x.dA ad σ ++ tl) 56 [(0, .ref (ad 0)), (1, .int l1), (4, .int l4)] [] := by
  unfold f_X7_sheet_L56 at hf
  refine g_iload hc dX7_sheet_56 2 rfl ?_
  refine g_bipush (v := 40) hc dX7_sheet_58 (by decide) ?_
  refine g_icmp_ge (tgt := 82) hc dX7_sheet_60 (by decide) (fun h1 => ?_) (fun h1 => ?_)
  · have hf := oT h1 hf
    obtain ⟨o2, hgo2, eo2⟩ := oI_some hf
    clear hf; subst eo2; have hf := hgo2; clear hgo2
    refine g_iconst (v := 1) hc dX7_sheet_82 (by decide) ?_
    have hz := Option.some.inj hf; subst hz
    exact g_iret hc (hR _ hK) dX7_sheet_83
  · have hf := oF h1 hf
    refine g_aload_n hc dX7_sheet_63 rfl 0 rfl ?_
    refine g_get (v := .ref (ad 12)) hc in_X7 (MW_at (k := 0) (by decide)) rfl 27 (by decide) q988 rfl dX7_sheet_64 ?_
    refine g_bipush (v := 40) hc dX7_sheet_67 (by decide) ?_
    refine g_iload_n hc dX7_sheet_69 rfl 1 rfl ?_
    refine g_imul hc dX7_sheet_70 ?_
    refine g_iload hc dX7_sheet_71 2 rfl ?_
    refine g_iadd hc dX7_sheet_73 ?_
    refine g_iconst (v := 0) hc dX7_sheet_74 (by decide) ?_
    obtain ⟨h5, hf⟩ := oC_some hf
    obtain ⟨s3, e4, hf⟩ := oL_some hf
    refine g_iast (n := 160) (f := σ 12) hc (MW_at (k := 12) (by decide)) h5 (MW_set (μ1 := s3) (k := 12) (by decide) e4 rfl) dX7_sheet_75 ?_
    refine g_iinc (v := l4 + 1) (lv' := [(4, .int (l4 + 1)), (0, .ref (ad 0)), (1, .int l1)]) hc dX7_sheet_76 (j := 2) rfl rfl (by decide) rfl ?_
    refine g_goto (tgt := 56) hc dX7_sheet_79 (by decide) ?_
    have hz := Option.some.inj hf; subst hz
    exact g_lv [1, 2, 0] rfl (hI56 _ hK)
def f_X7_sheet_b56 (σ : (Nat → Nat → Int32)) (l1 : Int32) (l4 : Int32) : Option (Int32 × (Nat → Nat → Int32)) :=
  oLoop gFU (fun v : Int32 × (Nat → Nat → Int32) => f_X7_sheet_L56 v.2 l1 v.1) (l4, σ)
theorem w_X7_sheet_b56 {x : gX} {ad : Nat → Nat} {tl : va_W}  (hc : gOk x RX7 cX7_sheet 5 1 25)  (σ : (Nat → Nat → Int32)) (l1 : Int32) (l4 : Int32)  {K : Int32 × (Nat → Nat → Int32) → Prop} {o : Int32 × (Nat → Nat → Int32)} (hf : f_X7_sheet_b56 σ l1 l4 = some o) (hK : K o) (hR : ∀ o : Int32 × (Nat → Nat → Int32), K o → gRi x 0 0 (MW x.dA ad o.2 ++ tl) o.1) : gG x 5 0 0 (MW x.dA ad σ ++ tl) 56 [(0, .ref (ad 0)), (1, .int l1), (4, .int l4)] [] :=
  oLoop_ind (fun v : Int32 × (Nat → Nat → Int32) => gG x 5 0 0 (MW x.dA ad v.2 ++ tl) 56 [(0, .ref (ad 0)), (1, .int l1), (4, .int v.1)] []) K (fun v o1 hf1 hK1 => w_X7_sheet_L56 hc v.2 l1 v.1  (K := Sum.elim (fun v : Int32 × (Nat → Nat → Int32) => gG x 5 0 0 (MW x.dA ad v.2 ++ tl) 56 [(0, .ref (ad 0)), (1, .int l1), (4, .int v.1)] []) K) hf1 hK1 (fun v hv => hv) hR) gFU _ o hf hK
def f_X7_sheet (σ : (Nat → Nat → Int32)) (l1 : Int32) (l2 : Int32) (l3 : Int32) : Option (Int32 × (Nat → Nat → Int32)) :=
  oB (f_X7_in (Int32.toInt64 l1) 0 3) fun r2 => if r2 = 0 then (some ((-1), σ)) else (oB (f_X7_in (Int32.toInt64 l2) 0 2) fun r5 => if r5 = 0 then (some ((-1), σ)) else (if l3 ≤ 40 then (if 0 ≤ l3 then (oC (inb l1 4) <| oL (upd2 σ 10 l1.toNatClampNeg l2) fun s9 => oC (inb l1 4) <| oL (upd2 s9 11 l1.toNatClampNeg l3) fun s12 => f_X7_sheet_b56 s12 l1 0) else (some ((-14), σ))) else (some ((-1), σ))))
theorem w_X7_sheet {x : gX} {ad : Nat → Nat} {tl : va_W}  (hc : gOk x RX7 cX7_sheet 5 1 25)  (σ : (Nat → Nat → Int32)) (l1 : Int32) (l2 : Int32) (l3 : Int32)  {K : Int32 × (Nat → Nat → Int32) → Prop} {o : Int32 × (Nat → Nat → Int32)} (hf : f_X7_sheet σ l1 l2 l3 = some o) (hK : K o) (hR : ∀ o : Int32 × (Nat → Nat → Int32), K o → gRi x 0 0 (MW x.dA ad o.2 ++ tl) o.1) : gG x 5 0 0 (MW x.dA ad σ ++ tl) 0 [(0, .ref (ad 0)), (1, .int l1), (2, .int l2), (3, .int l3)] [] := by
  unfold f_X7_sheet at hf
  refine g_iload_n hc dX7_sheet_0 rfl 1 rfl ?_
  refine g_i2l hc dX7_sheet_1 ?_
  refine g_lconst (v := 0) hc dX7_sheet_2 (by decide) ?_
  refine g_ldc2 (v := 3) hc q1166 dX7_sheet_3 ?_
  obtain ⟨r2, h1, hf⟩ := oB_some hf
  refine g_callSi hc [.long (Int32.toInt64 l1), .long 0, .long 3] [] (c_X7_in  h1) (lw_S q1055 q1056 q67 q1057) rfl hd_X7_in rfl rfl (Nat.le_of_ble_eq_true rfl) gZ dX7_sheet_6 ?_
  refine g_if_eq (tgt := 30) hc dX7_sheet_9 (by decide) (fun h3 => ?_) (fun h3 => ?_)
  · have hf := oT h3 hf
    refine g_iconst (v := (-1)) hc dX7_sheet_30 (by decide) ?_
    have hz := Option.some.inj hf; subst hz
    exact g_iret hc (hR _ hK) dX7_sheet_31
  · have hf := oF h3 hf
    refine g_iload_n hc dX7_sheet_12 rfl 2 rfl ?_
    refine g_i2l hc dX7_sheet_13 ?_
    refine g_lconst (v := 0) hc dX7_sheet_14 (by decide) ?_
    refine g_ldc2 (v := 2) hc q1153 dX7_sheet_15 ?_
    obtain ⟨r5, h4, hf⟩ := oB_some hf
    refine g_callSi hc [.long (Int32.toInt64 l2), .long 0, .long 2] [] (c_X7_in  h4) (lw_S q1055 q1056 q67 q1057) rfl hd_X7_in rfl rfl (Nat.le_of_ble_eq_true rfl) gZ dX7_sheet_18 ?_
    refine g_if_eq (tgt := 30) hc dX7_sheet_21 (by decide) (fun h6 => ?_) (fun h6 => ?_)
    · have hf := oT h6 hf
      refine g_iconst (v := (-1)) hc dX7_sheet_30 (by decide) ?_
      have hz := Option.some.inj hf; subst hz
      exact g_iret hc (hR _ hK) dX7_sheet_31
    · have hf := oF h6 hf
      refine g_iload_n hc dX7_sheet_24 rfl 3 rfl ?_
      refine g_bipush (v := 40) hc dX7_sheet_25 (by decide) ?_
      refine g_icmp_le (tgt := 32) hc dX7_sheet_27 (by decide) (fun h7 => ?_) (fun h7 => ?_)
      · have hf := oT h7 hf
        refine g_iload_n hc dX7_sheet_32 rfl 3 rfl ?_
        refine g_if_ge (tgt := 39) hc dX7_sheet_33 (by decide) (fun h8 => ?_) (fun h8 => ?_)
        · have hf := oT h8 hf
          refine g_aload_n hc dX7_sheet_39 rfl 0 rfl ?_
          refine g_get (v := .ref (ad 10)) hc in_X7 (MW_at (k := 0) (by decide)) rfl 25 (by decide) q986 rfl dX7_sheet_40 ?_
          refine g_iload_n hc dX7_sheet_43 rfl 1 rfl ?_
          refine g_iload_n hc dX7_sheet_44 rfl 2 rfl ?_
          obtain ⟨h11, hf⟩ := oC_some hf
          obtain ⟨s9, e10, hf⟩ := oL_some hf
          refine g_iast (n := 4) (f := σ 10) hc (MW_at (k := 10) (by decide)) h11 (MW_set (μ1 := s9) (k := 10) (by decide) e10 rfl) dX7_sheet_45 ?_
          refine g_aload_n hc dX7_sheet_46 rfl 0 rfl ?_
          refine g_get (v := .ref (ad 11)) hc in_X7 (MW_at (k := 0) (by decide)) rfl 26 (by decide) q987 rfl dX7_sheet_47 ?_
          refine g_iload_n hc dX7_sheet_50 rfl 1 rfl ?_
          refine g_iload_n hc dX7_sheet_51 rfl 3 rfl ?_
          obtain ⟨h14, hf⟩ := oC_some hf
          obtain ⟨s12, e13, hf⟩ := oL_some hf
          refine g_iast (n := 4) (f := s9 11) hc (MW_at (k := 11) (by decide)) h14 (MW_set (μ1 := s12) (k := 11) (by decide) e13 rfl) dX7_sheet_52 ?_
          refine g_iconst (v := 0) hc dX7_sheet_53 (by decide) ?_
          refine g_istore (lv' := [(4, .int 0), (0, .ref (ad 0)), (1, .int l1), (2, .int l2), (3, .int l3)]) hc dX7_sheet_54 (by decide) rfl ?_
          exact g_lv [1, 2, 0] rfl (w_X7_sheet_b56 hc s12 l1 0  (K := K) hf hK hR)
        · have hf := oF h8 hf
          refine g_bipush (v := (-14)) hc dX7_sheet_36 (by decide) ?_
          have hz := Option.some.inj hf; subst hz
          exact g_iret hc (hR _ hK) dX7_sheet_38
      · have hf := oF h7 hf
        refine g_iconst (v := (-1)) hc dX7_sheet_30 (by decide) ?_
        have hz := Option.some.inj hf; subst hz
        exact g_iret hc (hR _ hK) dX7_sheet_31
theorem c_X7_sheet {l : Launch} {D : va_G} {dA : Nat → ClassId} {ad : Nat → Nat} {tl : va_W}  {σ : (Nat → Nat → Int32)} {l1 : Int32} {l2 : Int32} {l3 : Int32}  {o : Int32 × (Nat → Nat → Int32)} (hf : f_X7_sheet σ l1 l2 l3 = some o) : gI l D dA (MW dA ad σ ++ tl) (MW dA ad o.2 ++ tl) [.ref (ad 0), .int l1, .int l2, .int l3] o.1 yX7_sheet (ws_ yX7_sheet cX7_sheet 5 (some .int)) ({ frames := 1, cells := 0, slots := 0, locals := 25 } : Room) :=
  g_startI (own := RX7) ⟨rfl, rfl⟩ (by decide) rfl (Nat.le_of_ble_eq_true rfl) (fun x e hc hR => by
    subst e
    exact w_X7_sheet hc σ l1 l2 l3  (K := fun o1 => o1 = o) hf rfl (by rintro _ rfl; exact hR))
theorem hd_X7_sheet : yX7_sheet.cls = RX7 ∧ yX7_sheet.cls ≠ "java/lang/invoke/MethodHandle" ∧ yX7_sheet.cls ≠ "java/lang/invoke/VarHandle" ∧ (parseMethodDescriptor yX7_sheet.desc).map (fun d => d.parameters.length) = some 3 := by decide +kernel
/-! HedgehogLotsModel.write(III)I -/
def f_X7_write_b99 (σ : (Nat → Nat → Int32)) (k3 : Int32) (k2 : Int32) : Option (Int32 × (Nat → Nat → Int32)) :=
  oC (inb k2 160) <| oL (upd2 σ 12 k2.toNatClampNeg k3) fun s1 => some (1, s1)
theorem w_X7_write_b99 {x : gX} {ad : Nat → Nat} {tl : va_W}  (hc : gOk x RX7 cX7_write 4 1 25)  (σ : (Nat → Nat → Int32)) (k3 : Int32) (k2 : Int32)  {K : Int32 × (Nat → Nat → Int32) → Prop} {o : Int32 × (Nat → Nat → Int32)} (hf : f_X7_write_b99 σ k3 k2 = some o) (hK : K o) (hR : ∀ o : Int32 × (Nat → Nat → Int32), K o → gRi x 0 0 (MW x.dA ad o.2 ++ tl) o.1) : gG x 4 0 0 (MW x.dA ad σ ++ tl) 99 [] [.int k3, .int k2, .ref (ad 12)] := by
  unfold f_X7_write_b99 at hf
  obtain ⟨h3, hf⟩ := oC_some hf
  obtain ⟨s1, e2, hf⟩ := oL_some hf
  refine g_iast (n := 160) (f := σ 12) hc (MW_at (k := 12) (by decide)) h3 (MW_set (μ1 := s1) (k := 12) (by decide) e2 rfl) dX7_write_99 ?_
  refine g_iconst (v := 1) hc dX7_write_100 (by decide) ?_
  have hz := Option.some.inj hf; subst hz
  exact g_iret hc (hR _ hK) dX7_write_101
def f_X7_write (σ : (Nat → Nat → Int32)) (l1 : Int32) (l2 : Int32) (l3 : Int32) : Option (Int32 × (Nat → Nat → Int32)) :=
  oB (f_X7_in (Int32.toInt64 l1) 0 3) fun r2 => if r2 = 0 then (some ((-1), σ)) else (oC (inb l1 4) <| if (σ 10 l1.toNatClampNeg) = (-4) then (some ((-11), σ)) else (oC (inb l1 4) <| oB (f_X7_in (Int32.toInt64 l2) 0 (Int32.toInt64 ((σ 11 l1.toNatClampNeg) - 1))) fun r8 => if r8 = 0 then (some ((-12), σ)) else (oC (inb l1 4) <| if (σ 10 l1.toNatClampNeg) = 0 then (f_X7_write_b99 σ ((l3 <<< ((24 : Int32) &&& 31)) >>> ((24 : Int32) &&& 31)) ((40 * l1) + l2)) else (oC (inb l1 4) <| if (σ 10 l1.toNatClampNeg) = 1 then (f_X7_write_b99 σ ((l3 <<< ((16 : Int32) &&& 31)) >>> ((16 : Int32) &&& 31)) ((40 * l1) + l2)) else (f_X7_write_b99 σ l3 ((40 * l1) + l2))))))
theorem w_X7_write {x : gX} {ad : Nat → Nat} {tl : va_W}  (hc : gOk x RX7 cX7_write 4 1 25)  (σ : (Nat → Nat → Int32)) (l1 : Int32) (l2 : Int32) (l3 : Int32)  {K : Int32 × (Nat → Nat → Int32) → Prop} {o : Int32 × (Nat → Nat → Int32)} (hf : f_X7_write σ l1 l2 l3 = some o) (hK : K o) (hR : ∀ o : Int32 × (Nat → Nat → Int32), K o → gRi x 0 0 (MW x.dA ad o.2 ++ tl) o.1) : gG x 4 0 0 (MW x.dA ad σ ++ tl) 0 [(0, .ref (ad 0)), (1, .int l1), (2, .int l2), (3, .int l3)] [] := by
  unfold f_X7_write at hf
  refine g_iload_n hc dX7_write_0 rfl 1 rfl ?_
  refine g_i2l hc dX7_write_1 ?_
  refine g_lconst (v := 0) hc dX7_write_2 (by decide) ?_
  refine g_ldc2 (v := 3) hc q1166 dX7_write_3 ?_
  obtain ⟨r2, h1, hf⟩ := oB_some hf
  refine g_callSi hc [.long (Int32.toInt64 l1), .long 0, .long 3] [] (c_X7_in  h1) (lw_S q1055 q1056 q67 q1057) rfl hd_X7_in rfl rfl (Nat.le_of_ble_eq_true rfl) gZ dX7_write_6 ?_
  refine g_if_ne (tgt := 14) hc dX7_write_9 (by decide) (fun h3 => ?_) (fun h3 => ?_)
  · have hf := oF h3 hf
    refine g_aload_n hc dX7_write_14 rfl 0 rfl ?_
    refine g_get (v := .ref (ad 10)) hc in_X7 (MW_at (k := 0) (by decide)) rfl 25 (by decide) q986 rfl dX7_write_15 ?_
    refine g_iload_n hc dX7_write_18 rfl 1 rfl ?_
    obtain ⟨h4, hf⟩ := oC_some hf
    refine g_iald (n := 4) (f := σ 10) hc (MW_at (k := 10) (by decide)) h4 dX7_write_19 ?_
    refine g_bipush (v := (-4)) hc dX7_write_20 (by decide) ?_
    refine g_icmp_ne (tgt := 28) hc dX7_write_22 (by decide) (fun h5 => ?_) (fun h5 => ?_)
    · have hf := oF h5 hf
      refine g_iload_n hc dX7_write_28 rfl 2 rfl ?_
      refine g_i2l hc dX7_write_29 ?_
      refine g_lconst (v := 0) hc dX7_write_30 (by decide) ?_
      refine g_aload_n hc dX7_write_31 rfl 0 rfl ?_
      refine g_get (v := .ref (ad 11)) hc in_X7 (MW_at (k := 0) (by decide)) rfl 26 (by decide) q987 rfl dX7_write_32 ?_
      refine g_iload_n hc dX7_write_35 rfl 1 rfl ?_
      obtain ⟨h6, hf⟩ := oC_some hf
      refine g_iald (n := 4) (f := σ 11) hc (MW_at (k := 11) (by decide)) h6 dX7_write_36 ?_
      refine g_iconst (v := 1) hc dX7_write_37 (by decide) ?_
      refine g_isub hc dX7_write_38 ?_
      refine g_i2l hc dX7_write_39 ?_
      obtain ⟨r8, h7, hf⟩ := oB_some hf
      refine g_callSi hc [.long (Int32.toInt64 l2), .long 0, .long (Int32.toInt64 ((σ 11 l1.toNatClampNeg) - 1))] [] (c_X7_in  h7) (lw_S q1055 q1056 q67 q1057) rfl hd_X7_in rfl rfl (Nat.le_of_ble_eq_true rfl) gZ dX7_write_40 ?_
      refine g_if_ne (tgt := 49) hc dX7_write_43 (by decide) (fun h9 => ?_) (fun h9 => ?_)
      · have hf := oF h9 hf
        refine g_aload_n hc dX7_write_49 rfl 0 rfl ?_
        refine g_get (v := .ref (ad 12)) hc in_X7 (MW_at (k := 0) (by decide)) rfl 27 (by decide) q988 rfl dX7_write_50 ?_
        refine g_bipush (v := 40) hc dX7_write_53 (by decide) ?_
        refine g_iload_n hc dX7_write_55 rfl 1 rfl ?_
        refine g_imul hc dX7_write_56 ?_
        refine g_iload_n hc dX7_write_57 rfl 2 rfl ?_
        refine g_iadd hc dX7_write_58 ?_
        refine g_aload_n hc dX7_write_59 rfl 0 rfl ?_
        refine g_get (v := .ref (ad 10)) hc in_X7 (MW_at (k := 0) (by decide)) rfl 25 (by decide) q986 rfl dX7_write_60 ?_
        refine g_iload_n hc dX7_write_63 rfl 1 rfl ?_
        obtain ⟨h10, hf⟩ := oC_some hf
        refine g_iald (n := 4) (f := σ 10) hc (MW_at (k := 10) (by decide)) h10 dX7_write_64 ?_
        refine g_if_ne (tgt := 78) hc dX7_write_65 (by decide) (fun h11 => ?_) (fun h11 => ?_)
        · have hf := oF h11 hf
          refine g_aload_n hc dX7_write_78 rfl 0 rfl ?_
          refine g_get (v := .ref (ad 10)) hc in_X7 (MW_at (k := 0) (by decide)) rfl 25 (by decide) q986 rfl dX7_write_79 ?_
          refine g_iload_n hc dX7_write_82 rfl 1 rfl ?_
          obtain ⟨h12, hf⟩ := oC_some hf
          refine g_iald (n := 4) (f := σ 10) hc (MW_at (k := 10) (by decide)) h12 dX7_write_83 ?_
          refine g_iconst (v := 1) hc dX7_write_84 (by decide) ?_
          refine g_icmp_ne (tgt := 98) hc dX7_write_85 (by decide) (fun h13 => ?_) (fun h13 => ?_)
          · have hf := oF h13 hf
            refine g_iload_n hc dX7_write_98 rfl 3 rfl ?_
            exact g_lv [] rfl (w_X7_write_b99 hc σ l3 ((40 * l1) + l2)  (K := K) hf hK hR)
          · have hf := oT h13 hf
            refine g_iload_n hc dX7_write_88 rfl 3 rfl ?_
            refine g_bipush (v := 16) hc dX7_write_89 (by decide) ?_
            refine g_ishl hc dX7_write_91 ?_
            refine g_bipush (v := 16) hc dX7_write_92 (by decide) ?_
            refine g_ishr hc dX7_write_94 ?_
            refine g_goto (tgt := 99) hc dX7_write_95 (by decide) ?_
            exact g_lv [] rfl (w_X7_write_b99 hc σ ((l3 <<< ((16 : Int32) &&& 31)) >>> ((16 : Int32) &&& 31)) ((40 * l1) + l2)  (K := K) hf hK hR)
        · have hf := oT h11 hf
          refine g_iload_n hc dX7_write_68 rfl 3 rfl ?_
          refine g_bipush (v := 24) hc dX7_write_69 (by decide) ?_
          refine g_ishl hc dX7_write_71 ?_
          refine g_bipush (v := 24) hc dX7_write_72 (by decide) ?_
          refine g_ishr hc dX7_write_74 ?_
          refine g_goto (tgt := 99) hc dX7_write_75 (by decide) ?_
          exact g_lv [] rfl (w_X7_write_b99 hc σ ((l3 <<< ((24 : Int32) &&& 31)) >>> ((24 : Int32) &&& 31)) ((40 * l1) + l2)  (K := K) hf hK hR)
      · have hf := oT h9 hf
        refine g_bipush (v := (-12)) hc dX7_write_46 (by decide) ?_
        have hz := Option.some.inj hf; subst hz
        exact g_iret hc (hR _ hK) dX7_write_48
    · have hf := oT h5 hf
      refine g_bipush (v := (-11)) hc dX7_write_25 (by decide) ?_
      have hz := Option.some.inj hf; subst hz
      exact g_iret hc (hR _ hK) dX7_write_27
  · have hf := oT h3 hf
    refine g_iconst (v := (-1)) hc dX7_write_12 (by decide) ?_
    have hz := Option.some.inj hf; subst hz
    exact g_iret hc (hR _ hK) dX7_write_13
theorem c_X7_write {l : Launch} {D : va_G} {dA : Nat → ClassId} {ad : Nat → Nat} {tl : va_W}  {σ : (Nat → Nat → Int32)} {l1 : Int32} {l2 : Int32} {l3 : Int32}  {o : Int32 × (Nat → Nat → Int32)} (hf : f_X7_write σ l1 l2 l3 = some o) : gI l D dA (MW dA ad σ ++ tl) (MW dA ad o.2 ++ tl) [.ref (ad 0), .int l1, .int l2, .int l3] o.1 yX7_write (ws_ yX7_write cX7_write 4 (some .int)) ({ frames := 1, cells := 0, slots := 0, locals := 25 } : Room) :=
  g_startI (own := RX7) ⟨rfl, rfl⟩ (by decide) rfl (Nat.le_of_ble_eq_true rfl) (fun x e hc hR => by
    subst e
    exact w_X7_write hc σ l1 l2 l3  (K := fun o1 => o1 = o) hf rfl (by rintro _ rfl; exact hR))
theorem hd_X7_write : yX7_write.cls = RX7 ∧ yX7_write.cls ≠ "java/lang/invoke/MethodHandle" ∧ yX7_write.cls ≠ "java/lang/invoke/VarHandle" ∧ (parseMethodDescriptor yX7_write.desc).map (fun d => d.parameters.length) = some 3 := by decide +kernel
/-! HedgehogLotsModel.read(IIII)I -/
def f_X7_read_b196 (σ : (Nat → Nat → Int32)) (l5 : Int32) (l6 : Int32) : Option (Int32 × (Nat → Nat → Int32)) :=
  oL (upd2 σ 0 28 l5) fun s1 => some (l6, s1)
theorem w_X7_read_b196 {x : gX} {ad : Nat → Nat} {tl : va_W}  (hc : gOk x RX7 cX7_read 9 3 67)  (σ : (Nat → Nat → Int32)) (l5 : Int32) (l6 : Int32)  {K : Int32 × (Nat → Nat → Int32) → Prop} {o : Int32 × (Nat → Nat → Int32)} (hf : f_X7_read_b196 σ l5 l6 = some o) (hK : K o) (hR : ∀ o : Int32 × (Nat → Nat → Int32), K o → gRi x 0 0 (MW x.dA ad o.2 ++ tl) o.1) : gG x 9 0 0 (MW x.dA ad σ ++ tl) 196 [(0, .ref (ad 0)), (5, .int l5), (6, .int l6)] [] := by
  unfold f_X7_read_b196 at hf
  refine g_aload_n hc dX7_read_196 rfl 0 rfl ?_
  refine g_iload hc dX7_read_197 1 rfl ?_
  obtain ⟨s1, e2, hf⟩ := oL_some hf
  refine g_put (v := .int l5) hc in_X7 tyX7_ok nmX7 (MW_at (k := 0) (by decide)) rfl 28 (by decide) q989 rfl rfl rfl (Nat.le_of_ble_eq_true rfl) (MW_set (μ1 := s1) (k := 0) (by decide) e2 rfl) dX7_read_199 ?_
  refine g_iload hc dX7_read_202 2 rfl ?_
  have hz := Option.some.inj hf; subst hz
  exact g_iret hc (hR _ hK) dX7_read_204
def f_X7_read_b190 (σ : (Nat → Nat → Int32)) (l1 : Int32) (l2 : Int32) (l3 : Int32) (l4 : Int32) (l5 : Int32) (l6 : Int32) (l7 : Int32) : Option ((Int32 × Int32 × Int32 × (Nat → Nat → Int32)) ⊕ (Int32 × (Nat → Nat → Int32))) :=
  some (.inl (l5, l6, (l7 + 1), σ))
theorem w_X7_read_b190 {x : gX} {ad : Nat → Nat} {tl : va_W}  (hc : gOk x RX7 cX7_read 9 3 67)  (σ : (Nat → Nat → Int32)) (l1 : Int32) (l2 : Int32) (l3 : Int32) (l4 : Int32) (l5 : Int32) (l6 : Int32) (l7 : Int32)  {K : (Int32 × Int32 × Int32 × (Nat → Nat → Int32)) ⊕ (Int32 × (Nat → Nat → Int32)) → Prop} {o : (Int32 × Int32 × Int32 × (Nat → Nat → Int32)) ⊕ (Int32 × (Nat → Nat → Int32))} (hf : f_X7_read_b190 σ l1 l2 l3 l4 l5 l6 l7 = some o) (hK : K o) (hI55 : ∀ v : Int32 × Int32 × Int32 × (Nat → Nat → Int32), K (.inl v) → gG x 9 0 0 (MW x.dA ad v.2.2.2 ++ tl) 55 [(0, .ref (ad 0)), (1, .int l1), (2, .int l2), (3, .int l3), (4, .int l4), (5, .int v.1), (6, .int v.2.1), (7, .int v.2.2.1)] []) (hR : ∀ o : Int32 × (Nat → Nat → Int32), K (.inr (o)) → gRi x 0 0 (MW x.dA ad o.2 ++ tl) o.1) : gG x 9 0 0 (MW x.dA ad σ ++ tl) 190 [(0, .ref (ad 0)), (1, .int l1), (2, .int l2), (3, .int l3), (4, .int l4), (5, .int l5), (6, .int l6), (7, .int l7)] [] := by
  unfold f_X7_read_b190 at hf
  refine g_iinc (v := l7 + 1) (lv' := [(7, .int (l7 + 1)), (0, .ref (ad 0)), (1, .int l1), (2, .int l2), (3, .int l3), (4, .int l4), (5, .int l5), (6, .int l6)]) hc dX7_read_190 (j := 7) rfl rfl (by decide) rfl ?_
  refine g_goto (tgt := 55) hc dX7_read_193 (by decide) ?_
  have hz := Option.some.inj hf; subst hz
  exact g_lv [1, 2, 3, 4, 5, 6, 7, 0] rfl (hI55 _ hK)
def f_X7_read_b125 (σ : (Nat → Nat → Int32)) (l1 : Int32) (l2 : Int32) (l3 : Int32) (l4 : Int32) (l6 : Int32) (l7 : Int32) (k1 : Int32) : Option ((Int32 × Int32 × Int32 × (Nat → Nat → Int32)) ⊕ (Int32 × (Nat → Nat → Int32))) :=
  if k1 = 0 then (if (l7 - l7 / 2 * 2) = 1 then (oC (inb ((((40 * l1) + l3) + l7) - 1) 160) <| oC (inb (((40 * l1) + l3) + l7) 160) <| oB (f_X7_drives σ (σ 12 ((((40 * l1) + l3) + l7) - 1).toNatClampNeg) (σ 12 (((40 * l1) + l3) + l7).toNatClampNeg)) fun r6 => if 0 ≤ r6.1 then (f_X7_read_b190 r6.2 l1 l2 l3 l4 k1 (l6 + 1) l7) else (oI (oB (f_X7_copies r6.2 123 0) fun r9 => some (((-20) - l6), r9)))) else (f_X7_read_b190 σ l1 l2 l3 l4 k1 l6 l7)) else (f_X7_read_b190 σ l1 l2 l3 l4 k1 l6 l7)
theorem w_X7_read_b125 {x : gX} {ad : Nat → Nat} {tl : va_W}  (hc : gOk x RX7 cX7_read 9 3 67)  (σ : (Nat → Nat → Int32)) (l1 : Int32) (l2 : Int32) (l3 : Int32) (l4 : Int32) (l6 : Int32) (l7 : Int32) (k1 : Int32)  {K : (Int32 × Int32 × Int32 × (Nat → Nat → Int32)) ⊕ (Int32 × (Nat → Nat → Int32)) → Prop} {o : (Int32 × Int32 × Int32 × (Nat → Nat → Int32)) ⊕ (Int32 × (Nat → Nat → Int32))} (hf : f_X7_read_b125 σ l1 l2 l3 l4 l6 l7 k1 = some o) (hK : K o) (hI55 : ∀ v : Int32 × Int32 × Int32 × (Nat → Nat → Int32), K (.inl v) → gG x 9 0 0 (MW x.dA ad v.2.2.2 ++ tl) 55 [(0, .ref (ad 0)), (1, .int l1), (2, .int l2), (3, .int l3), (4, .int l4), (5, .int v.1), (6, .int v.2.1), (7, .int v.2.2.1)] []) (hR : ∀ o : Int32 × (Nat → Nat → Int32), K (.inr (o)) → gRi x 0 0 (MW x.dA ad o.2 ++ tl) o.1) : gG x 9 0 0 (MW x.dA ad σ ++ tl) 125 [(0, .ref (ad 0)), (1, .int l1), (2, .int l2), (3, .int l3), (4, .int l4), (6, .int l6), (7, .int l7)] [.int k1] := by
  unfold f_X7_read_b125 at hf
  refine g_istore (lv' := [(5, .int k1), (0, .ref (ad 0)), (1, .int l1), (2, .int l2), (3, .int l3), (4, .int l4), (6, .int l6), (7, .int l7)]) hc dX7_read_125 (by decide) rfl ?_
  refine g_iload hc dX7_read_127 0 rfl ?_
  refine g_if_ne (tgt := 190) hc dX7_read_129 (by decide) (fun h1 => ?_) (fun h1 => ?_)
  · have hf := oF h1 hf
    exact g_lv [1, 2, 3, 4, 5, 0, 6, 7] rfl (w_X7_read_b190 hc σ l1 l2 l3 l4 k1 l6 l7  (K := K) hf hK hI55 hR)
  · have hf := oT h1 hf
    refine g_iload hc dX7_read_132 7 rfl ?_
    refine g_iconst (v := 2) hc dX7_read_134 (by decide) ?_
    refine g_irem hc dX7_read_135 (by decide) ?_
    refine g_iconst (v := 1) hc dX7_read_136 (by decide) ?_
    refine g_icmp_ne (tgt := 190) hc dX7_read_137 (by decide) (fun h2 => ?_) (fun h2 => ?_)
    · have hf := oF h2 hf
      exact g_lv [1, 2, 3, 4, 5, 0, 6, 7] rfl (w_X7_read_b190 hc σ l1 l2 l3 l4 k1 l6 l7  (K := K) hf hK hI55 hR)
    · have hf := oT h2 hf
      refine g_bipush (v := 40) hc dX7_read_140 (by decide) ?_
      refine g_iload_n hc dX7_read_142 rfl 2 rfl ?_
      refine g_imul hc dX7_read_143 ?_
      refine g_iload_n hc dX7_read_144 rfl 4 rfl ?_
      refine g_iadd hc dX7_read_145 ?_
      refine g_iload hc dX7_read_146 7 rfl ?_
      refine g_iadd hc dX7_read_148 ?_
      refine g_istore (lv' := [(8, .int (((40 * l1) + l3) + l7)), (5, .int k1), (0, .ref (ad 0)), (1, .int l1), (2, .int l2), (3, .int l3), (4, .int l4), (6, .int l6), (7, .int l7)]) hc dX7_read_149 (by decide) rfl ?_
      refine g_aload_n hc dX7_read_151 rfl 2 rfl ?_
      refine g_aload_n hc dX7_read_152 rfl 2 rfl ?_
      refine g_get (v := .ref (ad 12)) hc in_X7 (MW_at (k := 0) (by decide)) rfl 27 (by decide) q988 rfl dX7_read_153 ?_
      refine g_iload hc dX7_read_156 0 rfl ?_
      refine g_iconst (v := 1) hc dX7_read_158 (by decide) ?_
      refine g_isub hc dX7_read_159 ?_
      obtain ⟨h3, hf⟩ := oC_some hf
      refine g_iald (n := 160) (f := σ 12) hc (MW_at (k := 12) (by decide)) h3 dX7_read_160 ?_
      refine g_aload_n hc dX7_read_161 rfl 2 rfl ?_
      refine g_get (v := .ref (ad 12)) hc in_X7 (MW_at (k := 0) (by decide)) rfl 27 (by decide) q988 rfl dX7_read_162 ?_
      refine g_iload hc dX7_read_165 0 rfl ?_
      obtain ⟨h4, hf⟩ := oC_some hf
      refine g_iald (n := 160) (f := σ 12) hc (MW_at (k := 12) (by decide)) h4 dX7_read_167 ?_
      obtain ⟨r6, h5, hf⟩ := oB_some hf
      refine g_callVi hc [.int (σ 12 ((((40 * l1) + l3) + l7) - 1).toNatClampNeg), .int (σ 12 (((40 * l1) + l3) + l7).toNatClampNeg)] [] (c_X7_drives  h5) (MW_at (k := 0) (by decide)) rfl (lw_V q1206 q1208 qs52 q67 q1209) rfl hd_X7_drives rfl rfl (Nat.le_of_ble_eq_true rfl) gZ dX7_read_168 ?_
      refine g_if_ge (tgt := 187) hc dX7_read_171 (by decide) (fun h7 => ?_) (fun h7 => ?_)
      · have hf := oT h7 hf
        refine g_iinc (v := l6 + 1) (lv' := [(6, .int (l6 + 1)), (8, .int (((40 * l1) + l3) + l7)), (5, .int k1), (0, .ref (ad 0)), (1, .int l1), (2, .int l2), (3, .int l3), (4, .int l4), (7, .int l7)]) hc dX7_read_187 (j := 7) rfl rfl (by decide) rfl ?_
        exact g_lv [3, 4, 5, 6, 7, 2, 0, 8] rfl (w_X7_read_b190 hc r6.2 l1 l2 l3 l4 k1 (l6 + 1) l7  (K := K) hf hK hI55 hR)
      · have hf := oF h7 hf
        obtain ⟨o10, hgo10, eo10⟩ := oI_some hf
        clear hf; subst eo10; have hf := hgo10; clear hgo10
        refine g_aload_n hc dX7_read_174 rfl 2 rfl ?_
        refine g_bipush (v := 123) hc dX7_read_175 (by decide) ?_
        refine g_iconst (v := 0) hc dX7_read_177 (by decide) ?_
        obtain ⟨r9, h8, hf⟩ := oB_some hf
        refine g_callVv hc [.int 123, .int 0] [] (c_X7_copies  h8) (MW_at (k := 0) (by decide)) rfl (lw_V q1263 q1265 qs55 q67 q1266) rfl hd_X7_copies rfl rfl (Nat.le_of_ble_eq_true rfl) gZ dX7_read_178 ?_
        refine g_bipush (v := (-20)) hc dX7_read_181 (by decide) ?_
        refine g_iload hc dX7_read_183 7 rfl ?_
        refine g_isub hc dX7_read_185 ?_
        have hz := Option.some.inj hf; subst hz
        exact g_iret hc (hR _ hK) dX7_read_186
def f_X7_read_L55 (σ : (Nat → Nat → Int32)) (l1 : Int32) (l2 : Int32) (l3 : Int32) (l4 : Int32) (l5 : Int32) (l6 : Int32) (l7 : Int32) : Option ((Int32 × Int32 × Int32 × (Nat → Nat → Int32)) ⊕ (Int32 × (Nat → Nat → Int32))) :=
  if (2 * l4) ≤ l7 then (oI (f_X7_read_b196 σ l5 l6)) else (if l5 = 0 then (oC (inb l1 4) <| if (σ 10 l1.toNatClampNeg) = (-4) then (f_X7_read_b125 σ l1 l2 l3 l4 l6 l7 1) else (oC (inb l1 4) <| if (σ 10 l1.toNatClampNeg) = l2 then (oC (inb l1 4) <| oB (f_X7_in ((Int32.toInt64 l3) + (Int32.toInt64 l7)) 0 (Int32.toInt64 ((σ 11 l1.toNatClampNeg) - 1))) fun r11 => if r11 = 0 then (f_X7_read_b125 σ l1 l2 l3 l4 l6 l7 2) else (f_X7_read_b125 σ l1 l2 l3 l4 l6 l7 0)) else (f_X7_read_b125 σ l1 l2 l3 l4 l6 l7 3))) else (oI (f_X7_read_b196 σ l5 l6)))
theorem w_X7_read_L55 {x : gX} {ad : Nat → Nat} {tl : va_W}  (hc : gOk x RX7 cX7_read 9 3 67)  (σ : (Nat → Nat → Int32)) (l1 : Int32) (l2 : Int32) (l3 : Int32) (l4 : Int32) (l5 : Int32) (l6 : Int32) (l7 : Int32)  {K : (Int32 × Int32 × Int32 × (Nat → Nat → Int32)) ⊕ (Int32 × (Nat → Nat → Int32)) → Prop} {o : (Int32 × Int32 × Int32 × (Nat → Nat → Int32)) ⊕ (Int32 × (Nat → Nat → Int32))} (hf : f_X7_read_L55 σ l1 l2 l3 l4 l5 l6 l7 = some o) (hK : K o) (hI55 : ∀ v : Int32 × Int32 × Int32 × (Nat → Nat → Int32), K (.inl v) → gG x 9 0 0 (MW x.dA ad v.2.2.2 ++ tl) 55 [(0, .ref (ad 0)), (1, .int l1), (2, .int l2), (3, .int l3), (4, .int l4), (5, .int v.1), (6, .int v.2.1), (7, .int v.2.2.1)] []) (hR : ∀ o : Int32 × (Nat → Nat → Int32), K (.inr (o)) → gRi x 0 0 (MW x.dA ad o.2 ++ tl) o.1) : gG x 9 0 0 (MW x.dA ad σ ++ tl) 55 [(0, .ref (ad 0)), (1, .int l1), (2, .int l2), (3, .int l3), (4, .int l4), (5, .int l5), (6, .int l6), (7, .int l7)] [] := by
  unfold f_X7_read_L55 at hf
  refine g_iload hc dX7_read_55 7 rfl ?_
  refine g_iconst (v := 2) hc dX7_read_57 (by decide) ?_
  refine g_iload hc dX7_read_58 4 rfl ?_
  refine g_imul hc dX7_read_60 ?_
  refine g_icmp_ge (tgt := 196) hc dX7_read_61 (by decide) (fun h1 => ?_) (fun h1 => ?_)
  · have hf := oT h1 hf
    obtain ⟨o2, hgo2, eo2⟩ := oI_some hf
    clear hf; subst eo2; have hf := hgo2; clear hgo2
    exact g_lv [0, 5, 6] rfl (w_X7_read_b196 hc σ l5 l6  (K := (fun o1 => K (.inr o1))) hf hK hR)
  · have hf := oF h1 hf
    refine g_iload hc dX7_read_64 5 rfl ?_
    refine g_if_ne (tgt := 196) hc dX7_read_66 (by decide) (fun h3 => ?_) (fun h3 => ?_)
    · have hf := oF h3 hf
      obtain ⟨o4, hgo4, eo4⟩ := oI_some hf
      clear hf; subst eo4; have hf := hgo4; clear hgo4
      exact g_lv [0, 5, 6] rfl (w_X7_read_b196 hc σ l5 l6  (K := (fun o1 => K (.inr o1))) hf hK hR)
    · have hf := oT h3 hf
      refine g_aload_n hc dX7_read_69 rfl 0 rfl ?_
      refine g_get (v := .ref (ad 10)) hc in_X7 (MW_at (k := 0) (by decide)) rfl 25 (by decide) q986 rfl dX7_read_70 ?_
      refine g_iload_n hc dX7_read_73 rfl 1 rfl ?_
      obtain ⟨h5, hf⟩ := oC_some hf
      refine g_iald (n := 4) (f := σ 10) hc (MW_at (k := 10) (by decide)) h5 dX7_read_74 ?_
      refine g_bipush (v := (-4)) hc dX7_read_75 (by decide) ?_
      refine g_icmp_ne (tgt := 84) hc dX7_read_77 (by decide) (fun h6 => ?_) (fun h6 => ?_)
      · have hf := oF h6 hf
        refine g_aload_n hc dX7_read_84 rfl 0 rfl ?_
        refine g_get (v := .ref (ad 10)) hc in_X7 (MW_at (k := 0) (by decide)) rfl 25 (by decide) q986 rfl dX7_read_85 ?_
        refine g_iload_n hc dX7_read_88 rfl 1 rfl ?_
        obtain ⟨h7, hf⟩ := oC_some hf
        refine g_iald (n := 4) (f := σ 10) hc (MW_at (k := 10) (by decide)) h7 dX7_read_89 ?_
        refine g_iload_n hc dX7_read_90 rfl 2 rfl ?_
        refine g_icmp_eq (tgt := 98) hc dX7_read_91 (by decide) (fun h8 => ?_) (fun h8 => ?_)
        · have hf := oT h8 hf
          refine g_iload_n hc dX7_read_98 rfl 3 rfl ?_
          refine g_i2l hc dX7_read_99 ?_
          refine g_iload hc dX7_read_100 7 rfl ?_
          refine g_i2l hc dX7_read_102 ?_
          refine g_ladd hc dX7_read_103 ?_
          refine g_lconst (v := 0) hc dX7_read_104 (by decide) ?_
          refine g_aload_n hc dX7_read_105 rfl 0 rfl ?_
          refine g_get (v := .ref (ad 11)) hc in_X7 (MW_at (k := 0) (by decide)) rfl 26 (by decide) q987 rfl dX7_read_106 ?_
          refine g_iload_n hc dX7_read_109 rfl 1 rfl ?_
          obtain ⟨h9, hf⟩ := oC_some hf
          refine g_iald (n := 4) (f := σ 11) hc (MW_at (k := 11) (by decide)) h9 dX7_read_110 ?_
          refine g_iconst (v := 1) hc dX7_read_111 (by decide) ?_
          refine g_isub hc dX7_read_112 ?_
          refine g_i2l hc dX7_read_113 ?_
          obtain ⟨r11, h10, hf⟩ := oB_some hf
          refine g_callSi hc [.long ((Int32.toInt64 l3) + (Int32.toInt64 l7)), .long 0, .long (Int32.toInt64 ((σ 11 l1.toNatClampNeg) - 1))] [] (c_X7_in  h10) (lw_S q1055 q1056 q67 q1057) rfl hd_X7_in rfl rfl (Nat.le_of_ble_eq_true rfl) gZ dX7_read_114 ?_
          refine g_if_ne (tgt := 124) hc dX7_read_117 (by decide) (fun h12 => ?_) (fun h12 => ?_)
          · have hf := oF h12 hf
            refine g_iconst (v := 0) hc dX7_read_124 (by decide) ?_
            exact g_lv [0, 1, 2, 3, 4, 6, 7] rfl (w_X7_read_b125 hc σ l1 l2 l3 l4 l6 l7 0  (K := K) hf hK hI55 hR)
          · have hf := oT h12 hf
            refine g_iconst (v := 2) hc dX7_read_120 (by decide) ?_
            refine g_goto (tgt := 125) hc dX7_read_121 (by decide) ?_
            exact g_lv [0, 1, 2, 3, 4, 6, 7] rfl (w_X7_read_b125 hc σ l1 l2 l3 l4 l6 l7 2  (K := K) hf hK hI55 hR)
        · have hf := oF h8 hf
          refine g_iconst (v := 3) hc dX7_read_94 (by decide) ?_
          refine g_goto (tgt := 125) hc dX7_read_95 (by decide) ?_
          exact g_lv [0, 1, 2, 3, 4, 6, 7] rfl (w_X7_read_b125 hc σ l1 l2 l3 l4 l6 l7 3  (K := K) hf hK hI55 hR)
      · have hf := oT h6 hf
        refine g_iconst (v := 1) hc dX7_read_80 (by decide) ?_
        refine g_goto (tgt := 125) hc dX7_read_81 (by decide) ?_
        exact g_lv [0, 1, 2, 3, 4, 6, 7] rfl (w_X7_read_b125 hc σ l1 l2 l3 l4 l6 l7 1  (K := K) hf hK hI55 hR)
def f_X7_read_b55 (σ : (Nat → Nat → Int32)) (l1 : Int32) (l2 : Int32) (l3 : Int32) (l4 : Int32) (l5 : Int32) (l6 : Int32) (l7 : Int32) : Option (Int32 × (Nat → Nat → Int32)) :=
  oLoop gFU (fun v : Int32 × Int32 × Int32 × (Nat → Nat → Int32) => f_X7_read_L55 v.2.2.2 l1 l2 l3 l4 v.1 v.2.1 v.2.2.1) (l5, l6, l7, σ)
theorem w_X7_read_b55 {x : gX} {ad : Nat → Nat} {tl : va_W}  (hc : gOk x RX7 cX7_read 9 3 67)  (σ : (Nat → Nat → Int32)) (l1 : Int32) (l2 : Int32) (l3 : Int32) (l4 : Int32) (l5 : Int32) (l6 : Int32) (l7 : Int32)  {K : Int32 × (Nat → Nat → Int32) → Prop} {o : Int32 × (Nat → Nat → Int32)} (hf : f_X7_read_b55 σ l1 l2 l3 l4 l5 l6 l7 = some o) (hK : K o) (hR : ∀ o : Int32 × (Nat → Nat → Int32), K o → gRi x 0 0 (MW x.dA ad o.2 ++ tl) o.1) : gG x 9 0 0 (MW x.dA ad σ ++ tl) 55 [(0, .ref (ad 0)), (1, .int l1), (2, .int l2), (3, .int l3), (4, .int l4), (5, .int l5), (6, .int l6), (7, .int l7)] [] :=
  oLoop_ind (fun v : Int32 × Int32 × Int32 × (Nat → Nat → Int32) => gG x 9 0 0 (MW x.dA ad v.2.2.2 ++ tl) 55 [(0, .ref (ad 0)), (1, .int l1), (2, .int l2), (3, .int l3), (4, .int l4), (5, .int v.1), (6, .int v.2.1), (7, .int v.2.2.1)] []) K (fun v o1 hf1 hK1 => w_X7_read_L55 hc v.2.2.2 l1 l2 l3 l4 v.1 v.2.1 v.2.2.1  (K := Sum.elim (fun v : Int32 × Int32 × Int32 × (Nat → Nat → Int32) => gG x 9 0 0 (MW x.dA ad v.2.2.2 ++ tl) 55 [(0, .ref (ad 0)), (1, .int l1), (2, .int l2), (3, .int l3), (4, .int l4), (5, .int v.1), (6, .int v.2.1), (7, .int v.2.2.1)] []) K) hf1 hK1 (fun v hv => hv) hR) gFU _ o hf hK
def f_X7_read (σ : (Nat → Nat → Int32)) (l1 : Int32) (l2 : Int32) (l3 : Int32) (l4 : Int32) : Option (Int32 × (Nat → Nat → Int32)) :=
  oB (f_X7_in (Int32.toInt64 l1) 0 3) fun r2 => if r2 = 0 then (some ((-1), σ)) else (oB (f_X7_in (Int32.toInt64 l2) 0 2) fun r5 => if r5 = 0 then (some ((-1), σ)) else (oB (f_X7_in (Int32.toInt64 l4) 0 20) fun r8 => if r8 = 0 then (some ((-1), σ)) else (oB (f_X7_copies σ 0 123) fun r11 => f_X7_read_b55 r11 l1 l2 l3 l4 0 0 0)))
theorem w_X7_read {x : gX} {ad : Nat → Nat} {tl : va_W}  (hc : gOk x RX7 cX7_read 9 3 67)  (σ : (Nat → Nat → Int32)) (l1 : Int32) (l2 : Int32) (l3 : Int32) (l4 : Int32)  {K : Int32 × (Nat → Nat → Int32) → Prop} {o : Int32 × (Nat → Nat → Int32)} (hf : f_X7_read σ l1 l2 l3 l4 = some o) (hK : K o) (hR : ∀ o : Int32 × (Nat → Nat → Int32), K o → gRi x 0 0 (MW x.dA ad o.2 ++ tl) o.1) : gG x 9 0 0 (MW x.dA ad σ ++ tl) 0 [(0, .ref (ad 0)), (1, .int l1), (2, .int l2), (3, .int l3), (4, .int l4)] [] := by
  unfold f_X7_read at hf
  refine g_iload_n hc dX7_read_0 rfl 1 rfl ?_
  refine g_i2l hc dX7_read_1 ?_
  refine g_lconst (v := 0) hc dX7_read_2 (by decide) ?_
  refine g_ldc2 (v := 3) hc q1166 dX7_read_3 ?_
  obtain ⟨r2, h1, hf⟩ := oB_some hf
  refine g_callSi hc [.long (Int32.toInt64 l1), .long 0, .long 3] [] (c_X7_in  h1) (lw_S q1055 q1056 q67 q1057) rfl hd_X7_in rfl rfl (Nat.le_of_ble_eq_true rfl) gZ dX7_read_6 ?_
  refine g_if_eq (tgt := 37) hc dX7_read_9 (by decide) (fun h3 => ?_) (fun h3 => ?_)
  · have hf := oT h3 hf
    refine g_iconst (v := (-1)) hc dX7_read_37 (by decide) ?_
    have hz := Option.some.inj hf; subst hz
    exact g_iret hc (hR _ hK) dX7_read_38
  · have hf := oF h3 hf
    refine g_iload_n hc dX7_read_12 rfl 2 rfl ?_
    refine g_i2l hc dX7_read_13 ?_
    refine g_lconst (v := 0) hc dX7_read_14 (by decide) ?_
    refine g_ldc2 (v := 2) hc q1153 dX7_read_15 ?_
    obtain ⟨r5, h4, hf⟩ := oB_some hf
    refine g_callSi hc [.long (Int32.toInt64 l2), .long 0, .long 2] [] (c_X7_in  h4) (lw_S q1055 q1056 q67 q1057) rfl hd_X7_in rfl rfl (Nat.le_of_ble_eq_true rfl) gZ dX7_read_18 ?_
    refine g_if_eq (tgt := 37) hc dX7_read_21 (by decide) (fun h6 => ?_) (fun h6 => ?_)
    · have hf := oT h6 hf
      refine g_iconst (v := (-1)) hc dX7_read_37 (by decide) ?_
      have hz := Option.some.inj hf; subst hz
      exact g_iret hc (hR _ hK) dX7_read_38
    · have hf := oF h6 hf
      refine g_iload hc dX7_read_24 4 rfl ?_
      refine g_i2l hc dX7_read_26 ?_
      refine g_lconst (v := 0) hc dX7_read_27 (by decide) ?_
      refine g_ldc2 (v := 20) hc q1366 dX7_read_28 ?_
      obtain ⟨r8, h7, hf⟩ := oB_some hf
      refine g_callSi hc [.long (Int32.toInt64 l4), .long 0, .long 20] [] (c_X7_in  h7) (lw_S q1055 q1056 q67 q1057) rfl hd_X7_in rfl rfl (Nat.le_of_ble_eq_true rfl) gZ dX7_read_31 ?_
      refine g_if_ne (tgt := 39) hc dX7_read_34 (by decide) (fun h9 => ?_) (fun h9 => ?_)
      · have hf := oF h9 hf
        refine g_aload_n hc dX7_read_39 rfl 0 rfl ?_
        refine g_iconst (v := 0) hc dX7_read_40 (by decide) ?_
        refine g_bipush (v := 123) hc dX7_read_41 (by decide) ?_
        obtain ⟨r11, h10, hf⟩ := oB_some hf
        refine g_callVv hc [.int 0, .int 123] [] (c_X7_copies  h10) (MW_at (k := 0) (by decide)) rfl (lw_V q1263 q1265 qs55 q67 q1266) rfl hd_X7_copies rfl rfl (Nat.le_of_ble_eq_true rfl) gZ dX7_read_43 ?_
        refine g_iconst (v := 0) hc dX7_read_46 (by decide) ?_
        refine g_istore (lv' := [(5, .int 0), (0, .ref (ad 0)), (1, .int l1), (2, .int l2), (3, .int l3), (4, .int l4)]) hc dX7_read_47 (by decide) rfl ?_
        refine g_iconst (v := 0) hc dX7_read_49 (by decide) ?_
        refine g_istore (lv' := [(6, .int 0), (5, .int 0), (0, .ref (ad 0)), (1, .int l1), (2, .int l2), (3, .int l3), (4, .int l4)]) hc dX7_read_50 (by decide) rfl ?_
        refine g_iconst (v := 0) hc dX7_read_52 (by decide) ?_
        refine g_istore (lv' := [(7, .int 0), (6, .int 0), (5, .int 0), (0, .ref (ad 0)), (1, .int l1), (2, .int l2), (3, .int l3), (4, .int l4)]) hc dX7_read_53 (by decide) rfl ?_
        exact g_lv [3, 4, 5, 6, 7, 2, 1, 0] rfl (w_X7_read_b55 hc r11 l1 l2 l3 l4 0 0 0  (K := K) hf hK hR)
      · have hf := oT h9 hf
        refine g_iconst (v := (-1)) hc dX7_read_37 (by decide) ?_
        have hz := Option.some.inj hf; subst hz
        exact g_iret hc (hR _ hK) dX7_read_38
theorem c_X7_read {l : Launch} {D : va_G} {dA : Nat → ClassId} {ad : Nat → Nat} {tl : va_W}  {σ : (Nat → Nat → Int32)} {l1 : Int32} {l2 : Int32} {l3 : Int32} {l4 : Int32}  {o : Int32 × (Nat → Nat → Int32)} (hf : f_X7_read σ l1 l2 l3 l4 = some o) : gI l D dA (MW dA ad σ ++ tl) (MW dA ad o.2 ++ tl) [.ref (ad 0), .int l1, .int l2, .int l3, .int l4] o.1 yX7_read (ws_ yX7_read cX7_read 9 (some .int)) ({ frames := 3, cells := 0, slots := 0, locals := 67 } : Room) :=
  g_startI (own := RX7) ⟨rfl, rfl⟩ (by decide) rfl (Nat.le_of_ble_eq_true rfl) (fun x e hc hR => by
    subst e
    exact w_X7_read hc σ l1 l2 l3 l4  (K := fun o1 => o1 = o) hf rfl (by rintro _ rfl; exact hR))
theorem hd_X7_read : yX7_read.cls = RX7 ∧ yX7_read.cls ≠ "java/lang/invoke/MethodHandle" ∧ yX7_read.cls ≠ "java/lang/invoke/VarHandle" ∧ (parseMethodDescriptor yX7_read.desc).map (fun d => d.parameters.length) = some 4 := by decide +kernel
/-! HedgehogLotsModel.torn()I -/
def f_X7_torn (σ : (Nat → Nat → Int32)) : Option (Int32) :=
  some (σ 0 28)
theorem w_X7_torn {x : gX} {ad : Nat → Nat} {tl : va_W}  (hc : gOk x RX7 cX7_torn 1 0 0)  (σ : (Nat → Nat → Int32))  {K : Int32 → Prop} {o : Int32} (hf : f_X7_torn σ = some o) (hK : K o) (hR : ∀ o : Int32, K o → gRi x 0 0 (MW x.dA ad σ ++ tl) o) : gG x 1 0 0 (MW x.dA ad σ ++ tl) 0 [(0, .ref (ad 0))] [] := by
  unfold f_X7_torn at hf
  refine g_aload_n hc dX7_torn_0 rfl 0 rfl ?_
  refine g_get (v := .int (σ 0 28)) hc in_X7 (MW_at (k := 0) (by decide)) rfl 28 (by decide) q989 rfl dX7_torn_1 ?_
  have hz := Option.some.inj hf; subst hz
  exact g_iret hc (hR _ hK) dX7_torn_4
theorem c_X7_torn {l : Launch} {D : va_G} {dA : Nat → ClassId} {ad : Nat → Nat} {tl : va_W}  {σ : (Nat → Nat → Int32)}  {o : Int32} (hf : f_X7_torn σ = some o) : gI l D dA (MW dA ad σ ++ tl) (MW dA ad σ ++ tl) [.ref (ad 0)] o yX7_torn (ws_ yX7_torn cX7_torn 1 (some .int)) ({ frames := 0, cells := 0, slots := 0, locals := 0 } : Room) :=
  g_startI (own := RX7) ⟨rfl, rfl⟩ (by decide) rfl (Nat.le_of_ble_eq_true rfl) (fun x e hc hR => by
    subst e
    exact w_X7_torn hc σ  (K := fun o1 => o1 = o) hf rfl (by rintro _ rfl; exact hR))
theorem hd_X7_torn : yX7_torn.cls = RX7 ∧ yX7_torn.cls ≠ "java/lang/invoke/MethodHandle" ∧ yX7_torn.cls ≠ "java/lang/invoke/VarHandle" ∧ (parseMethodDescriptor yX7_torn.desc).map (fun d => d.parameters.length) = some 0 := by decide +kernel
/-! HedgehogLotsModel.count(I)I -/
def f_X7_count_b135 (σ : (Nat → Nat → Int32)) (k1 : Int32) : Option (Int32) :=
  oC (inb 1 2) <| if (σ 9 (Int32.toNatClampNeg 1)) = 0 then (some (k1 + 0)) else (some (k1 + 1))
theorem w_X7_count_b135 {x : gX} {ad : Nat → Nat} {tl : va_W}  (hc : gOk x RX7 cX7_count 5 0 0)  (σ : (Nat → Nat → Int32)) (k1 : Int32)  {K : Int32 → Prop} {o : Int32} (hf : f_X7_count_b135 σ k1 = some o) (hK : K o) (hR : ∀ o : Int32, K o → gRi x 0 0 (MW x.dA ad σ ++ tl) o) : gG x 5 0 0 (MW x.dA ad σ ++ tl) 135 [(0, .ref (ad 0))] [.int k1] := by
  unfold f_X7_count_b135 at hf
  refine g_aload_n hc dX7_count_135 rfl 0 rfl ?_
  refine g_get (v := .ref (ad 9)) hc in_X7 (MW_at (k := 0) (by decide)) rfl 24 (by decide) q985 rfl dX7_count_136 ?_
  refine g_iconst (v := 1) hc dX7_count_139 (by decide) ?_
  obtain ⟨h1, hf⟩ := oC_some hf
  refine g_zald (n := 2) (f := σ 9) hc (MW_at (k := 9) (by decide)) h1 dX7_count_140 ?_
  refine g_if_eq (tgt := 148) hc dX7_count_141 (by decide) (fun h2 => ?_) (fun h2 => ?_)
  · have hf := oT h2 hf
    refine g_iconst (v := 0) hc dX7_count_148 (by decide) ?_
    refine g_iadd hc dX7_count_149 ?_
    have hz := Option.some.inj hf; subst hz
    exact g_iret hc (hR _ hK) dX7_count_150
  · have hf := oF h2 hf
    refine g_iconst (v := 1) hc dX7_count_144 (by decide) ?_
    refine g_goto (tgt := 149) hc dX7_count_145 (by decide) ?_
    refine g_iadd hc dX7_count_149 ?_
    have hz := Option.some.inj hf; subst hz
    exact g_iret hc (hR _ hK) dX7_count_150
def f_X7_count_L49 (σ : (Nat → Nat → Int32)) (l1 : Int32) (l2 : Int32) (l3 : Int32) (l4 : Int32) : Option ((Int32 × Int32) ⊕ (Int32)) :=
  if (σ 0 1) ≤ l4 then (oI (if l1 = 0 then (some (σ 0 22)) else (if l1 = 1 then (oC (inb 0 2) <| if (σ 9 (Int32.toNatClampNeg 0)) = 0 then (f_X7_count_b135 σ 0) else (f_X7_count_b135 σ 1)) else (if l1 = 2 then (some (σ 0 6)) else (if l1 = 3 then (oC (inb 0 4) <| if (σ 10 (Int32.toNatClampNeg 0)) = (-4) then (some (-4)) else (oC (inb 0 4) <| some (σ 11 (Int32.toNatClampNeg 0)))) else (if l1 = 4 then (some l2) else (if l1 = 5 then (some l3) else (some (-1))))))))) else (oC (inb (22 + l4) 205) <| some (.inl ((l3 + (σ 1 (22 + l4).toNatClampNeg)), (l4 + 1))))
theorem w_X7_count_L49 {x : gX} {ad : Nat → Nat} {tl : va_W}  (hc : gOk x RX7 cX7_count 5 0 0)  (σ : (Nat → Nat → Int32)) (l1 : Int32) (l2 : Int32) (l3 : Int32) (l4 : Int32)  {K : (Int32 × Int32) ⊕ (Int32) → Prop} {o : (Int32 × Int32) ⊕ (Int32)} (hf : f_X7_count_L49 σ l1 l2 l3 l4 = some o) (hK : K o) (hI49 : ∀ v : Int32 × Int32, K (.inl v) → gG x 5 0 0 (MW x.dA ad σ ++ tl) 49 [(0, .ref (ad 0)), (1, .int l1), (2, .int l2), (3, .int v.1), (4, .int v.2)] []) (hR : ∀ o : Int32, K (.inr (o)) → gRi x 0 0 (MW x.dA ad σ ++ tl) o) : gG x 5 0 0 (MW x.dA ad σ ++ tl) 49 [(0, .ref (ad 0)), (1, .int l1), (2, .int l2), (3, .int l3), (4, .int l4)] [] := by
  unfold f_X7_count_L49 at hf
  refine g_iload hc dX7_count_49 4 rfl ?_
  refine g_aload_n hc dX7_count_51 rfl 0 rfl ?_
  refine g_get (v := .int (σ 0 1)) hc in_X7 (MW_at (k := 0) (by decide)) rfl 1 (by decide) q962 rfl dX7_count_52 ?_
  refine g_icmp_ge (tgt := 77) hc dX7_count_55 (by decide) (fun h1 => ?_) (fun h1 => ?_)
  · have hf := oT h1 hf
    obtain ⟨o14, hgo14, eo14⟩ := oI_some hf
    clear hf; subst eo14; have hf := hgo14; clear hgo14
    refine g_iload_n hc dX7_count_77 rfl 1 rfl ?_
    by_cases h3 : l1 = 0
    · have hf := oT h3 hf
      refine g_tabIn (tgt := 116) hc dX7_count_78 (by rw [h3]; decide) (by rw [h3]; decide) (by rw [h3]; rfl) (by decide) ?_
      refine g_aload_n hc dX7_count_116 rfl 0 rfl ?_
      refine g_get (v := .int (σ 0 22)) hc in_X7 (MW_at (k := 0) (by decide)) rfl 22 (by decide) q983 rfl dX7_count_117 ?_
      have hz := Option.some.inj hf; subst hz
      exact g_iret hc (hR _ hK) dX7_count_120
    have hf := oF h3 hf
    by_cases h4 : l1 = 1
    · have hf := oT h4 hf
      refine g_tabIn (tgt := 121) hc dX7_count_78 (by rw [h4]; decide) (by rw [h4]; decide) (by rw [h4]; rfl) (by decide) ?_
      refine g_aload_n hc dX7_count_121 rfl 0 rfl ?_
      refine g_get (v := .ref (ad 9)) hc in_X7 (MW_at (k := 0) (by decide)) rfl 24 (by decide) q985 rfl dX7_count_122 ?_
      refine g_iconst (v := 0) hc dX7_count_125 (by decide) ?_
      obtain ⟨h5, hf⟩ := oC_some hf
      refine g_zald (n := 2) (f := σ 9) hc (MW_at (k := 9) (by decide)) h5 dX7_count_126 ?_
      refine g_if_eq (tgt := 134) hc dX7_count_127 (by decide) (fun h6 => ?_) (fun h6 => ?_)
      · have hf := oT h6 hf
        refine g_iconst (v := 0) hc dX7_count_134 (by decide) ?_
        exact g_lv [0] rfl (w_X7_count_b135 hc σ 0  (K := (fun o1 => K (.inr o1))) hf hK hR)
      · have hf := oF h6 hf
        refine g_iconst (v := 1) hc dX7_count_130 (by decide) ?_
        refine g_goto (tgt := 135) hc dX7_count_131 (by decide) ?_
        exact g_lv [0] rfl (w_X7_count_b135 hc σ 1  (K := (fun o1 => K (.inr o1))) hf hK hR)
    have hf := oF h4 hf
    by_cases h7 : l1 = 2
    · have hf := oT h7 hf
      refine g_tabIn (tgt := 151) hc dX7_count_78 (by rw [h7]; decide) (by rw [h7]; decide) (by rw [h7]; rfl) (by decide) ?_
      refine g_aload_n hc dX7_count_151 rfl 0 rfl ?_
      refine g_get (v := .int (σ 0 6)) hc in_X7 (MW_at (k := 0) (by decide)) rfl 6 (by decide) q967 rfl dX7_count_152 ?_
      have hz := Option.some.inj hf; subst hz
      exact g_iret hc (hR _ hK) dX7_count_155
    have hf := oF h7 hf
    by_cases h8 : l1 = 3
    · have hf := oT h8 hf
      refine g_tabIn (tgt := 156) hc dX7_count_78 (by rw [h8]; decide) (by rw [h8]; decide) (by rw [h8]; rfl) (by decide) ?_
      refine g_aload_n hc dX7_count_156 rfl 0 rfl ?_
      refine g_get (v := .ref (ad 10)) hc in_X7 (MW_at (k := 0) (by decide)) rfl 25 (by decide) q986 rfl dX7_count_157 ?_
      refine g_iconst (v := 0) hc dX7_count_160 (by decide) ?_
      obtain ⟨h9, hf⟩ := oC_some hf
      refine g_iald (n := 4) (f := σ 10) hc (MW_at (k := 10) (by decide)) h9 dX7_count_161 ?_
      refine g_bipush (v := (-4)) hc dX7_count_162 (by decide) ?_
      refine g_icmp_ne (tgt := 172) hc dX7_count_164 (by decide) (fun h10 => ?_) (fun h10 => ?_)
      · have hf := oF h10 hf
        refine g_aload_n hc dX7_count_172 rfl 0 rfl ?_
        refine g_get (v := .ref (ad 11)) hc in_X7 (MW_at (k := 0) (by decide)) rfl 26 (by decide) q987 rfl dX7_count_173 ?_
        refine g_iconst (v := 0) hc dX7_count_176 (by decide) ?_
        obtain ⟨h11, hf⟩ := oC_some hf
        refine g_iald (n := 4) (f := σ 11) hc (MW_at (k := 11) (by decide)) h11 dX7_count_177 ?_
        have hz := Option.some.inj hf; subst hz
        exact g_iret hc (hR _ hK) dX7_count_178
      · have hf := oT h10 hf
        refine g_bipush (v := (-4)) hc dX7_count_167 (by decide) ?_
        refine g_goto (tgt := 178) hc dX7_count_169 (by decide) ?_
        have hz := Option.some.inj hf; subst hz
        exact g_iret hc (hR _ hK) dX7_count_178
    have hf := oF h8 hf
    by_cases h12 : l1 = 4
    · have hf := oT h12 hf
      refine g_tabIn (tgt := 179) hc dX7_count_78 (by rw [h12]; decide) (by rw [h12]; decide) (by rw [h12]; rfl) (by decide) ?_
      refine g_iload_n hc dX7_count_179 rfl 2 rfl ?_
      have hz := Option.some.inj hf; subst hz
      exact g_iret hc (hR _ hK) dX7_count_180
    have hf := oF h12 hf
    by_cases h13 : l1 = 5
    · have hf := oT h13 hf
      refine g_tabIn (tgt := 181) hc dX7_count_78 (by rw [h13]; decide) (by rw [h13]; decide) (by rw [h13]; rfl) (by decide) ?_
      refine g_iload_n hc dX7_count_181 rfl 3 rfl ?_
      have hz := Option.some.inj hf; subst hz
      exact g_iret hc (hR _ hK) dX7_count_182
    have hf := oF h13 hf
    have h3 := lv_neT h3 (a := 0) (by decide)
    have h4 := lv_neT h4 (a := 1) (by decide)
    have h7 := lv_neT h7 (a := 2) (by decide)
    have h8 := lv_neT h8 (a := 3) (by decide)
    have h12 := lv_neT h12 (a := 4) (by decide)
    have h13 := lv_neT h13 (a := 5) (by decide)
    refine g_tabOut (tgt := 183) hc dX7_count_78 (by omega) (by decide) ?_
    refine g_iconst (v := (-1)) hc dX7_count_183 (by decide) ?_
    have hz := Option.some.inj hf; subst hz
    exact g_iret hc (hR _ hK) dX7_count_184
  · have hf := oF h1 hf
    refine g_iload_n hc dX7_count_58 rfl 3 rfl ?_
    refine g_aload_n hc dX7_count_59 rfl 0 rfl ?_
    refine g_get (v := .ref (ad 1)) hc in_X7 (MW_at (k := 0) (by decide)) rfl 0 (by decide) q961 rfl dX7_count_60 ?_
    refine g_bipush (v := 22) hc dX7_count_63 (by decide) ?_
    refine g_iload hc dX7_count_65 4 rfl ?_
    refine g_iadd hc dX7_count_67 ?_
    obtain ⟨h15, hf⟩ := oC_some hf
    refine g_iald (n := 205) (f := σ 1) hc (MW_at (k := 1) (by decide)) h15 dX7_count_68 ?_
    refine g_iadd hc dX7_count_69 ?_
    refine g_istore_n (lv' := [(3, .int (l3 + (σ 1 (22 + l4).toNatClampNeg))), (0, .ref (ad 0)), (1, .int l1), (2, .int l2), (4, .int l4)]) hc dX7_count_70 rfl (by decide) rfl ?_
    refine g_iinc (v := l4 + 1) (lv' := [(4, .int (l4 + 1)), (3, .int (l3 + (σ 1 (22 + l4).toNatClampNeg))), (0, .ref (ad 0)), (1, .int l1), (2, .int l2)]) hc dX7_count_71 (j := 4) rfl rfl (by decide) rfl ?_
    refine g_goto (tgt := 49) hc dX7_count_74 (by decide) ?_
    have hz := Option.some.inj hf; subst hz
    exact g_lv [2, 3, 4, 1, 0] rfl (hI49 _ hK)
def f_X7_count_b49 (σ : (Nat → Nat → Int32)) (l1 : Int32) (l2 : Int32) (l3 : Int32) (l4 : Int32) : Option (Int32) :=
  oLoop gFU (fun v : Int32 × Int32 => f_X7_count_L49 σ l1 l2 v.1 v.2) (l3, l4)
theorem w_X7_count_b49 {x : gX} {ad : Nat → Nat} {tl : va_W}  (hc : gOk x RX7 cX7_count 5 0 0)  (σ : (Nat → Nat → Int32)) (l1 : Int32) (l2 : Int32) (l3 : Int32) (l4 : Int32)  {K : Int32 → Prop} {o : Int32} (hf : f_X7_count_b49 σ l1 l2 l3 l4 = some o) (hK : K o) (hR : ∀ o : Int32, K o → gRi x 0 0 (MW x.dA ad σ ++ tl) o) : gG x 5 0 0 (MW x.dA ad σ ++ tl) 49 [(0, .ref (ad 0)), (1, .int l1), (2, .int l2), (3, .int l3), (4, .int l4)] [] :=
  oLoop_ind (fun v : Int32 × Int32 => gG x 5 0 0 (MW x.dA ad σ ++ tl) 49 [(0, .ref (ad 0)), (1, .int l1), (2, .int l2), (3, .int v.1), (4, .int v.2)] []) K (fun v o1 hf1 hK1 => w_X7_count_L49 hc σ l1 l2 v.1 v.2  (K := Sum.elim (fun v : Int32 × Int32 => gG x 5 0 0 (MW x.dA ad σ ++ tl) 49 [(0, .ref (ad 0)), (1, .int l1), (2, .int l2), (3, .int v.1), (4, .int v.2)] []) K) hf1 hK1 (fun v hv => hv) hR) gFU _ o hf hK
def f_X7_count_b38 (σ : (Nat → Nat → Int32)) (l1 : Int32) (l3 : Int32) (l4 : Int32) (k2 : Int32) (k1 : Int32) : Option ((Int32 × Int32) ⊕ (Int32)) :=
  some (.inl ((k1 + k2), (l4 + 1)))
theorem w_X7_count_b38 {x : gX} {ad : Nat → Nat} {tl : va_W}  (hc : gOk x RX7 cX7_count 5 0 0)  (σ : (Nat → Nat → Int32)) (l1 : Int32) (l3 : Int32) (l4 : Int32) (k2 : Int32) (k1 : Int32)  {K : (Int32 × Int32) ⊕ (Int32) → Prop} {o : (Int32 × Int32) ⊕ (Int32)} (hf : f_X7_count_b38 σ l1 l3 l4 k2 k1 = some o) (hK : K o) (hI7 : ∀ v : Int32 × Int32, K (.inl v) → gG x 5 0 0 (MW x.dA ad σ ++ tl) 7 [(0, .ref (ad 0)), (1, .int l1), (2, .int v.1), (3, .int l3), (4, .int v.2)] []) (hR : ∀ o : Int32, K (.inr (o)) → gRi x 0 0 (MW x.dA ad σ ++ tl) o) : gG x 5 0 0 (MW x.dA ad σ ++ tl) 38 [(0, .ref (ad 0)), (1, .int l1), (3, .int l3), (4, .int l4)] [.int k2, .int k1] := by
  unfold f_X7_count_b38 at hf
  refine g_iadd hc dX7_count_38 ?_
  refine g_istore_n (lv' := [(2, .int (k1 + k2)), (0, .ref (ad 0)), (1, .int l1), (3, .int l3), (4, .int l4)]) hc dX7_count_39 rfl (by decide) rfl ?_
  refine g_iinc (v := l4 + 1) (lv' := [(4, .int (l4 + 1)), (2, .int (k1 + k2)), (0, .ref (ad 0)), (1, .int l1), (3, .int l3)]) hc dX7_count_40 (j := 4) rfl rfl (by decide) rfl ?_
  refine g_goto (tgt := 7) hc dX7_count_43 (by decide) ?_
  have hz := Option.some.inj hf; subst hz
  exact g_lv [2, 3, 1, 4, 0] rfl (hI7 _ hK)
def f_X7_count_L7 (σ : (Nat → Nat → Int32)) (l1 : Int32) (l2 : Int32) (l3 : Int32) (l4 : Int32) : Option ((Int32 × Int32) ⊕ (Int32)) :=
  oC (inb 38 205) <| if (σ 1 (Int32.toNatClampNeg 38)) ≤ l4 then (oI (f_X7_count_b49 σ l1 l2 l3 0)) else (oC (inb (7 + l4) 205) <| if (σ 1 (7 + l4).toNatClampNeg) = 0 then (f_X7_count_b38 σ l1 l3 l4 1 l2) else (f_X7_count_b38 σ l1 l3 l4 0 l2))
theorem w_X7_count_L7 {x : gX} {ad : Nat → Nat} {tl : va_W}  (hc : gOk x RX7 cX7_count 5 0 0)  (σ : (Nat → Nat → Int32)) (l1 : Int32) (l2 : Int32) (l3 : Int32) (l4 : Int32)  {K : (Int32 × Int32) ⊕ (Int32) → Prop} {o : (Int32 × Int32) ⊕ (Int32)} (hf : f_X7_count_L7 σ l1 l2 l3 l4 = some o) (hK : K o) (hI7 : ∀ v : Int32 × Int32, K (.inl v) → gG x 5 0 0 (MW x.dA ad σ ++ tl) 7 [(0, .ref (ad 0)), (1, .int l1), (2, .int v.1), (3, .int l3), (4, .int v.2)] []) (hR : ∀ o : Int32, K (.inr (o)) → gRi x 0 0 (MW x.dA ad σ ++ tl) o) : gG x 5 0 0 (MW x.dA ad σ ++ tl) 7 [(0, .ref (ad 0)), (1, .int l1), (2, .int l2), (3, .int l3), (4, .int l4)] [] := by
  unfold f_X7_count_L7 at hf
  refine g_iload hc dX7_count_7 4 rfl ?_
  refine g_aload_n hc dX7_count_9 rfl 0 rfl ?_
  refine g_get (v := .ref (ad 1)) hc in_X7 (MW_at (k := 0) (by decide)) rfl 0 (by decide) q961 rfl dX7_count_10 ?_
  refine g_bipush (v := 38) hc dX7_count_13 (by decide) ?_
  obtain ⟨h1, hf⟩ := oC_some hf
  refine g_iald (n := 205) (f := σ 1) hc (MW_at (k := 1) (by decide)) h1 dX7_count_15 ?_
  refine g_icmp_ge (tgt := 46) hc dX7_count_16 (by decide) (fun h2 => ?_) (fun h2 => ?_)
  · have hf := oT h2 hf
    obtain ⟨o3, hgo3, eo3⟩ := oI_some hf
    clear hf; subst eo3; have hf := hgo3; clear hgo3
    refine g_iconst (v := 0) hc dX7_count_46 (by decide) ?_
    refine g_istore (lv' := [(4, .int 0), (0, .ref (ad 0)), (1, .int l1), (2, .int l2), (3, .int l3)]) hc dX7_count_47 (by decide) rfl ?_
    exact g_lv [1, 2, 3, 4, 0] rfl (w_X7_count_b49 hc σ l1 l2 l3 0  (K := (fun o1 => K (.inr o1))) hf hK hR)
  · have hf := oF h2 hf
    refine g_iload_n hc dX7_count_19 rfl 2 rfl ?_
    refine g_aload_n hc dX7_count_20 rfl 0 rfl ?_
    refine g_get (v := .ref (ad 1)) hc in_X7 (MW_at (k := 0) (by decide)) rfl 0 (by decide) q961 rfl dX7_count_21 ?_
    refine g_bipush (v := 7) hc dX7_count_24 (by decide) ?_
    refine g_iload hc dX7_count_26 4 rfl ?_
    refine g_iadd hc dX7_count_28 ?_
    obtain ⟨h4, hf⟩ := oC_some hf
    refine g_iald (n := 205) (f := σ 1) hc (MW_at (k := 1) (by decide)) h4 dX7_count_29 ?_
    refine g_if_ne (tgt := 37) hc dX7_count_30 (by decide) (fun h5 => ?_) (fun h5 => ?_)
    · have hf := oF h5 hf
      refine g_iconst (v := 0) hc dX7_count_37 (by decide) ?_
      exact g_lv [0, 1, 3, 4] rfl (w_X7_count_b38 hc σ l1 l3 l4 0 l2  (K := K) hf hK hI7 hR)
    · have hf := oT h5 hf
      refine g_iconst (v := 1) hc dX7_count_33 (by decide) ?_
      refine g_goto (tgt := 38) hc dX7_count_34 (by decide) ?_
      exact g_lv [0, 1, 3, 4] rfl (w_X7_count_b38 hc σ l1 l3 l4 1 l2  (K := K) hf hK hI7 hR)
def f_X7_count_b7 (σ : (Nat → Nat → Int32)) (l1 : Int32) (l2 : Int32) (l3 : Int32) (l4 : Int32) : Option (Int32) :=
  oLoop gFU (fun v : Int32 × Int32 => f_X7_count_L7 σ l1 v.1 l3 v.2) (l2, l4)
theorem w_X7_count_b7 {x : gX} {ad : Nat → Nat} {tl : va_W}  (hc : gOk x RX7 cX7_count 5 0 0)  (σ : (Nat → Nat → Int32)) (l1 : Int32) (l2 : Int32) (l3 : Int32) (l4 : Int32)  {K : Int32 → Prop} {o : Int32} (hf : f_X7_count_b7 σ l1 l2 l3 l4 = some o) (hK : K o) (hR : ∀ o : Int32, K o → gRi x 0 0 (MW x.dA ad σ ++ tl) o) : gG x 5 0 0 (MW x.dA ad σ ++ tl) 7 [(0, .ref (ad 0)), (1, .int l1), (2, .int l2), (3, .int l3), (4, .int l4)] [] :=
  oLoop_ind (fun v : Int32 × Int32 => gG x 5 0 0 (MW x.dA ad σ ++ tl) 7 [(0, .ref (ad 0)), (1, .int l1), (2, .int v.1), (3, .int l3), (4, .int v.2)] []) K (fun v o1 hf1 hK1 => w_X7_count_L7 hc σ l1 v.1 l3 v.2  (K := Sum.elim (fun v : Int32 × Int32 => gG x 5 0 0 (MW x.dA ad σ ++ tl) 7 [(0, .ref (ad 0)), (1, .int l1), (2, .int v.1), (3, .int l3), (4, .int v.2)] []) K) hf1 hK1 (fun v hv => hv) hR) gFU _ o hf hK
def f_X7_count (σ : (Nat → Nat → Int32)) (l1 : Int32) : Option (Int32) :=
  f_X7_count_b7 σ l1 0 0 0
theorem w_X7_count {x : gX} {ad : Nat → Nat} {tl : va_W}  (hc : gOk x RX7 cX7_count 5 0 0)  (σ : (Nat → Nat → Int32)) (l1 : Int32)  {K : Int32 → Prop} {o : Int32} (hf : f_X7_count σ l1 = some o) (hK : K o) (hR : ∀ o : Int32, K o → gRi x 0 0 (MW x.dA ad σ ++ tl) o) : gG x 5 0 0 (MW x.dA ad σ ++ tl) 0 [(0, .ref (ad 0)), (1, .int l1)] [] := by
  unfold f_X7_count at hf
  refine g_iconst (v := 0) hc dX7_count_0 (by decide) ?_
  refine g_istore_n (lv' := [(2, .int 0), (0, .ref (ad 0)), (1, .int l1)]) hc dX7_count_1 rfl (by decide) rfl ?_
  refine g_iconst (v := 0) hc dX7_count_2 (by decide) ?_
  refine g_istore_n (lv' := [(3, .int 0), (2, .int 0), (0, .ref (ad 0)), (1, .int l1)]) hc dX7_count_3 rfl (by decide) rfl ?_
  refine g_iconst (v := 0) hc dX7_count_4 (by decide) ?_
  refine g_istore (lv' := [(4, .int 0), (3, .int 0), (2, .int 0), (0, .ref (ad 0)), (1, .int l1)]) hc dX7_count_5 (by decide) rfl ?_
  exact g_lv [3, 4, 2, 1, 0] rfl (w_X7_count_b7 hc σ l1 0 0 0  (K := K) hf hK hR)
theorem c_X7_count {l : Launch} {D : va_G} {dA : Nat → ClassId} {ad : Nat → Nat} {tl : va_W}  {σ : (Nat → Nat → Int32)} {l1 : Int32}  {o : Int32} (hf : f_X7_count σ l1 = some o) : gI l D dA (MW dA ad σ ++ tl) (MW dA ad σ ++ tl) [.ref (ad 0), .int l1] o yX7_count (ws_ yX7_count cX7_count 5 (some .int)) ({ frames := 0, cells := 0, slots := 0, locals := 0 } : Room) :=
  g_startI (own := RX7) ⟨rfl, rfl⟩ (by decide) rfl (Nat.le_of_ble_eq_true rfl) (fun x e hc hR => by
    subst e
    exact w_X7_count hc σ l1  (K := fun o1 => o1 = o) hf rfl (by rintro _ rfl; exact hR))
theorem hd_X7_count : yX7_count.cls = RX7 ∧ yX7_count.cls ≠ "java/lang/invoke/MethodHandle" ∧ yX7_count.cls ≠ "java/lang/invoke/VarHandle" ∧ (parseMethodDescriptor yX7_count.desc).map (fun d => d.parameters.length) = some 1 := by decide +kernel
