/-! ===== what the premises give: the tables (gKW), the strings and statics (gZs) ===== -/
set_option maxRecDepth 100000
section STK
variable {args : Array Value} {s : State}
theorem st_arr {c : ClassId} {k : Class} {comp : ClassId} {ty : FieldType} (h2 : s.vm.classes[c]? = some k) (h3 : k.kind = .array comp ty) : ArrOfT s c ty := fun _ _ => ⟨fun _ h => (by cases h), k, h2, comp, h3⟩
theorem st_prim {ty : FieldType} (h : (Cond.arrayClass ty).before args s = true) : ∃ c : ClassId, ArrOfT s c ty ∧ s.vm.findClass ("[" ++ ty.toString) = some c := by
  obtain ⟨c, k, comp, h1, h2, h3⟩ := Cond.arrayClass_spec h
  exact ⟨c, st_arr h2 h3, h1⟩
theorem st_obj {C : String} (h : (Cond.arrayOver (.object C)).before args s = true) : ∃ c : ClassId, ArrOfT s c (.object C) ∧ va_RA s c (.object C) := by
  obtain ⟨comp, c, k, h1, h2, h3, h4, h5⟩ := Cond.arrayOver_spec h
  exact ⟨c, st_arr h3 h4, k, comp, h3, h4, h1, h5⟩
theorem st_none {C : String} : ∀ w ∈ u_ws C TX1 0, w ∈ lw_all := fun w h => absurd h (by unfold u_ws; simp)
theorem st_fn : ∀ q ∈ gFN, gFNc q ∈ lw_tbl := by
  have h : (gFN.all fun q => decide (gFNc q ∈ lw_tbl)) = true := by decide +kernel
  exact fun q hq => of_decide_eq_true (List.all_eq_true.mp h q hq)
theorem st_mn : ∀ q ∈ gMN, gMNc q ∈ lw_tbl := by
  have h : (gMN.all fun q => decide (gMNc q ∈ lw_tbl)) = true := by decide +kernel
  exact fun q hq => of_decide_eq_true (List.all_eq_true.mp h q hq)
theorem st_ca : ∀ q ∈ gCA, Cond.castable q.1 q.2 ∈ lw_tbl := by
  have h : (gCA.all fun q => decide (Cond.castable q.1 q.2 ∈ lw_tbl)) = true := by decide +kernel
  exact fun q hq => of_decide_eq_true (List.all_eq_true.mp h q hq)
theorem st_de : ∀ q ∈ gDE, Cond.declares q ∈ lw_tbl := by
  have h : (gDE.all fun q => decide (Cond.declares q ∈ lw_tbl)) = true := by decide +kernel
  exact fun q hq => of_decide_eq_true (List.all_eq_true.mp h q hq)
theorem st_K (hts : ∀ w ∈ lw_tbl, w.before args s = true) : ∃ (D : va_G) (dA : Nat → ClassId), gKW D dA s := by
  have ha : ∀ w ∈ lw_all, w.before args s = true := fun w h => hts w (lw_all_tbl h)
  obtain ⟨c0, i0, k0⟩ := u_known ha in_X0 (ha _ q86)
  obtain ⟨c1, i1, k1⟩ := u_known (T := TX1) (N := 0) ha st_none (ha _ q95)
  obtain ⟨c2, i2, k2⟩ := u_known (T := TX1) (N := 0) ha st_none (ha _ q102)
  obtain ⟨c3, i3, k3⟩ := u_known (T := TX1) (N := 0) ha st_none (ha _ q109)
  obtain ⟨c4, i4, k4⟩ := u_known (T := TX1) (N := 0) ha st_none (ha _ q116)
  obtain ⟨c5, i5, k5⟩ := u_known ha in_X5 (ha _ q123)
  obtain ⟨c6, i6, k6⟩ := u_known ha in_X6 (ha _ q175)
  obtain ⟨c7, i7, k7⟩ := u_known ha in_X7 (ha _ q956)
  obtain ⟨c8, i8, k8⟩ := u_known ha in_X8 (ha _ q273)
  obtain ⟨c9, i9, k9⟩ := u_known ha in_X9 (ha _ q293)
  obtain ⟨a0, m0, n0⟩ := st_prim (ha _ q171)
  obtain ⟨a1, m1, n1⟩ := st_prim (ha _ q871)
  obtain ⟨a2, m2, n2⟩ := st_prim (ha _ q1049)
  obtain ⟨a3, m3, n3⟩ := st_prim (ha _ q870)
  obtain ⟨a4, m4, n4⟩ := st_obj (hts _ q94)
  obtain ⟨a5, m5, n5⟩ := st_obj (hts _ q172)
  obtain ⟨a6, m6, n6⟩ := st_obj (hts _ q174)
  refine ⟨(fun k => [c0, c1, c2, c3, c4, c5, c6, c7, c8, c9].getD k c0, fun k => [i0, i1, i2, i3, i4, i5, i6, i7, i8, i9].getD k i0), fun k => [a0, a1, a2, a3, a4, a5, a6].getD k a0, ⟨?_, ?_⟩, fun q hq => va_Nw.of rfl (hts _ (st_fn q hq)), fun q hq => va_Nw.of rfl (hts _ (st_mn q hq)), fun q hq => va_Nw.of rfl (hts _ (st_ca q hq)), fun q hq => va_Nw.of rfl (hts _ (st_de q hq)), ?_⟩
  · intro k q hq
    match k, hq with
    | 0, hq => cases hq; exact k0
    | 1, hq => cases hq; exact k1
    | 2, hq => cases hq; exact k2
    | 3, hq => cases hq; exact k3
    | 4, hq => cases hq; exact k4
    | 5, hq => cases hq; exact k5
    | 6, hq => cases hq; exact k6
    | 7, hq => cases hq; exact k7
    | 8, hq => cases hq; exact k8
    | 9, hq => cases hq; exact k9
    | k + 10, hq => simp [gCL] at hq
  · intro k q hq
    match k, hq with
    | 0, hq => cases hq; exact ⟨m0, n0⟩
    | 1, hq => cases hq; exact ⟨m1, n1⟩
    | 2, hq => cases hq; exact ⟨m2, n2⟩
    | 3, hq => cases hq; exact ⟨m3, n3⟩
    | 4, hq => cases hq; exact ⟨m4, n4⟩
    | 5, hq => cases hq; exact ⟨m5, n5⟩
    | 6, hq => cases hq; exact ⟨m6, n6⟩
    | k + 7, hq => simp [gTY] at hq
  · intro C hC
    simp only [gAO, List.mem_cons, List.not_mem_nil, or_false] at hC
    rcases hC with rfl | rfl | rfl
    · exact va_AO.of (hts _ q94)
    · exact va_AO.of (hts _ q172)
    · exact va_AO.of (hts _ q174)
def stT (i : Nat) : Term := .string "HedgehogLots$Reader" (47 + 2 * i)
theorem st_ex : ∀ i : Fin 7, (Cond.exactly (stT i.val) "java/lang/String") ∈ flatC (Jvm.Cond.and given_1 narrow_1) := by decide +kernel
theorem st_co : ∀ i : Fin 7, (Cond.eq (.field (stT i.val) "java/lang/String" "coder" "B") (.int 0)) ∈ flatC (Jvm.Cond.and given_1 narrow_1) := by decide +kernel
theorem st_ar : ∀ i : Fin 7, (Cond.arrayOf (.field (stT i.val) "java/lang/String" "value" "[B") .byte) ∈ flatC (Jvm.Cond.and given_1 narrow_1) := by decide +kernel
theorem st_le : ∀ i : Fin 7, (Cond.eq (.length (.field (stT i.val) "java/lang/String" "value" "[B")) (.int (Int32.ofNat (gLen.getD i.val 0)))) ∈ flatC (Jvm.Cond.and given_1 narrow_1) := by decide +kernel
theorem st_el : ∀ i : Fin 7, ∀ j : Fin 5, j.val < gLen.getD i.val 0 → (Cond.eq (.elem (.field (stT i.val) "java/lang/String" "value" "[B") (.int (Int32.ofNat j.val))) (.int ((gByt.getD i.val []).getD j.val 0))) ∈ flatC (Jvm.Cond.and given_1 narrow_1) := by decide +kernel
theorem st_ne : ∀ i j : Fin 7, i ≠ j → (Cond.not (Cond.eq (stT i.val) (stT j.val))) ∈ flatC (Jvm.Cond.and given_1 narrow_1) ∨ (Cond.not (Cond.eq (stT j.val) (stT i.val))) ∈ flatC (Jvm.Cond.and given_1 narrow_1) := by decide +kernel
theorem st_gl : ∀ i : Fin 7, gLen.getD i.val 0 ≤ 5 := by decide
theorem st_nc : ∀ q ∈ gNC, Cond.not (.castable q.1 q.2) ∈ flatC (Jvm.Cond.and given_1 narrow_1) := by
  have h : (gNC.all fun q => decide (Cond.not (.castable q.1 q.2) ∈ flatC (Jvm.Cond.and given_1 narrow_1))) = true := by decide +kernel
  exact fun q hq => of_decide_eq_true (List.all_eq_true.mp h q hq)
theorem st_Z (hts : ∀ w ∈ lw_tbl, w.before args s = true) (hgv : (Jvm.Cond.and given_1 narrow_1).before args s = true) (hm : modulesRight_1 s = true) {A : Nat → Prop} (hA : ∀ a : Nat, a < s.heap.size → ¬ A a) : ∃ kS : gKS, gZs kS A s s.heap := by
  have ha : ∀ w ∈ lw_all, w.before args s = true := fun w h => hts w (lw_all_tbl h)
  have hn := flat_of_before _ hgv
  obtain ⟨adK, adV, h1, h2⟩ := vk_Sof (args := args) (s := s) (N := 7) (tm := stT) (len := gLen) (byt := gByt) (A := A) (fun i hi => Nat.lt_of_le_of_lt (st_gl ⟨i, hi⟩) (by decide)) (fun i hi => hn _ (st_ex ⟨i, hi⟩)) (fun i hi => hn _ (st_co ⟨i, hi⟩)) (fun i hi => hn _ (st_ar ⟨i, hi⟩)) (fun i hi => hn _ (st_le ⟨i, hi⟩)) (fun i hi j hj => hn _ (st_el ⟨i, hi⟩ ⟨j, Nat.lt_of_lt_of_le hj (st_gl ⟨i, hi⟩)⟩ hj)) (fun i j hi hj hij => (st_ne ⟨i, hi⟩ ⟨j, hj⟩ (fun e => hij (congrArg Fin.val e))).elim (fun h => Or.inl (hn _ h)) (fun h => Or.inr (hn _ h))) hA
  refine ⟨(adK, adV), ⟨vx_Zqof (hts _ q317) (ha _ q69) (hn _ (by decide +kernel)) hA, vx_Zqof (hts _ q319) (ha _ q69) (hn _ (by decide +kernel)) hA⟩, h1, ?_, ?_, va_Zqof (hts _ q450) (ha _ q74) (hn _ (by decide +kernel)) hA, fun q hq => va_Nc.of (hn _ (st_nc q hq)), hm⟩
  · intro i hi
    have hr : (Cond.stringRef RX8 (47 + 2 * i) (gTx i)).before args s = true := by
      have hc : i = 0 ∨ i = 1 ∨ i = 2 ∨ i = 3 ∨ i = 4 ∨ i = 5 ∨ i = 6 := by omega
      rcases hc with rfl | rfl | rfl | rfl | rfl | rfl | rfl
      · exact hts _ q418
      · exact hts _ q419
      · exact hts _ q420
      · exact hts _ q421
      · exact hts _ q422
      · exact hts _ q423
      · exact hts _ q424
    exact vk_R.of hr (h2 i hi)
  · have he : (Cond.eq (.static "java/lang/String" "COMPACT_STRINGS" "Z") (.int 1)).before args s = true := hn _ (by decide +kernel)
    refine va_Zof (hts _ q434) (ha _ q72) ?_ hA
    cases hv : (Term.static "java/lang/String" "COMPACT_STRINGS" "Z").eval args s none [] s with
    | none => simp [Cond.before, Cond.holds, Cond.value, hv] at he
    | some v =>
      have e1 : (Term.int 1).eval args s none [] s = some (.int 1) := rfl
      simp only [Cond.before, Cond.holds, Cond.value, hv, e1] at he
      cases v with
      | int y =>
        simp at he
        rw [he]
      | _ => simp at he
end STK
