/-! ===== the Reader's lines ===== -/
set_option maxRecDepth 100000
variable {kS : gKS}
/-! HedgehogLots$Reader.line()V -/
def f_X8_line_b71 (σ : (Nat → Nat → Int32)) (k2 : Int32) : Option ((Int32 × Int32 × (Nat → Nat → Int32)) ⊕ ((Nat → Nat → Int32))) :=
  oB (f_X8_need σ k2 2) fun r2 => oM r2 (fun t4 => some (.inl t4)) fun v3 => oB (f_X8_next_b0 v3) fun r6 => oM r6 (fun t8 => some (.inl t8)) fun v7 => some (.inr v7)
theorem w_X8_line_b71 {x : gX} {N : Nat} {ad : Nat → Nat} {tl : va_W} {lam : (Nat → Int64)} (hc : gOk x RX8 cX8_line 2 9 191) (hz : gZs kS x.A x.s x.s.heap)  (σ : (Nat → Nat → Int32)) (k2 : Int32) (hN : 43 ≤ N) {K : (Int32 × Int32 × (Nat → Nat → Int32)) ⊕ ((Nat → Nat → Int32)) → Prop} {o : (Int32 × Int32 × (Nat → Nat → Int32)) ⊕ ((Nat → Nat → Int32))} (hf : f_X8_line_b71 σ k2 = some o) (hK : K o) (hR : ∀ o : (Nat → Nat → Int32), K (.inr o) → gRv x 0 0 (XW x.dA N ad o lam ++ tl)) (hT : ∀ o : (Int32 × Int32 × (Nat → Nat → Int32)), K (.inl o) → (1 ≤ x.R.cells ∧ 8 ≤ x.R.slots) ∧ ∀ (q pc : Nat) (lv : List (Nat × Value)), gT x 2 1 8 ((XW x.dA N ad o.2.2 lam ++ tl) ++ fltC q o.1 o.2.1) pc lv q) : gG x 2 0 0 (XW x.dA N ad σ lam ++ tl) 71 [(0, .ref (ad 42))] [.int k2, .ref (ad 42)] := by
  unfold f_X8_line_b71 at hf
  refine g_iconst (v := 2) hc dX8_line_71 (by decide) ?_
  obtain ⟨r2, h1, hf⟩ := oB_some hf
  cases r2 with
  | inl t4 =>
    have hz0 := Option.some.inj hf; subst hz0
    obtain ⟨hRc, hTq⟩ := hT _ hK
    refine g_callTv hc hz [.int k2, .int 2] [] (ct_X8_need hN h1) (XW_at (k := 42) (Nat.lt_of_lt_of_le (by decide) hN)) rfl (lw_V q288 q290 qs2 q68 q291) rfl hd_X8_need rfl rfl (Nat.le_of_ble_eq_true rfl) hRc dX8_line_72 (fun c pl Φ1 q hq => ?_) (fun _ h => h.elim)
    obtain ⟨rfl, rfl, rfl⟩ := hq
    exact hTq q _ _
  | inr v3 =>
    have hf := oM_r hf
    refine g_callVzv hc hz [.int k2, .int 2] [] (c_X8_need hN h1) (XW_at (k := 42) (Nat.lt_of_lt_of_le (by decide) hN)) rfl (lw_V q288 q290 qs2 q68 q291) rfl hd_X8_need rfl rfl (Nat.le_of_ble_eq_true rfl) gZ dX8_line_72 ?_
    refine g_aload_n hc dX8_line_75 rfl 0 rfl ?_
    obtain ⟨r6, h5, hf⟩ := oB_some hf
    cases r6 with
    | inl t8 =>
      have hz0 := Option.some.inj hf; subst hz0
      obtain ⟨hRc, hTq⟩ := hT _ hK
      refine g_callTv hc hz [] [] (ct_X8_next hN h5) (XW_at (k := 42) (Nat.lt_of_lt_of_le (by decide) hN)) rfl (lw_V q280 q282 qs0 q68 q283) rfl hd_X8_next rfl rfl (Nat.le_of_ble_eq_true rfl) hRc dX8_line_76 (fun c pl Φ1 q hq => ?_) (fun _ h => h.elim)
      obtain ⟨rfl, rfl, rfl⟩ := hq
      exact hTq q _ _
    | inr v7 =>
      have hf := oM_r hf
      refine g_callVzv hc hz [] [] (c_X8_next hN h5) (XW_at (k := 42) (Nat.lt_of_lt_of_le (by decide) hN)) rfl (lw_V q280 q282 qs0 q68 q283) rfl hd_X8_next rfl rfl (Nat.le_of_ble_eq_true rfl) gZ dX8_line_76 ?_
      have hz := Option.some.inj hf; subst hz
      exact g_vret hc (hR _ hK) dX8_line_79
def f_X8_line_b34 (σ : (Nat → Nat → Int32)) (l1 : Int32) (k2 : Int32) : Option ((Int32 × Int32 × (Nat → Nat → Int32)) ⊕ ((Nat → Nat → Int32))) :=
  oB (f_X8_need σ k2 2) fun r2 => oM r2 (fun t4 => some (.inl t4)) fun v3 => oB (f_X8_hasRoom v3 l1) fun r6 => oB (f_X8_need v3 r6 5) fun r8 => oM r8 (fun t10 => some (.inl t10)) fun v9 => oB (f_X8_next_b0 v9) fun r12 => oM r12 (fun t14 => some (.inl t14)) fun v13 => oB (f_X8_told v13 l1) fun r16 => oM r16 (fun t18 => some (.inl t18)) fun v17 => if (v17 42 5) = 3 then (f_X8_line_b71 v17 1) else (f_X8_line_b71 v17 0)
theorem w_X8_line_b34 {x : gX} {N : Nat} {ad : Nat → Nat} {tl : va_W} {lam : (Nat → Int64)} (hc : gOk x RX8 cX8_line 2 9 191) (hz : gZs kS x.A x.s x.s.heap)  (σ : (Nat → Nat → Int32)) (l1 : Int32) (k2 : Int32) (hN : 43 ≤ N) {K : (Int32 × Int32 × (Nat → Nat → Int32)) ⊕ ((Nat → Nat → Int32)) → Prop} {o : (Int32 × Int32 × (Nat → Nat → Int32)) ⊕ ((Nat → Nat → Int32))} (hf : f_X8_line_b34 σ l1 k2 = some o) (hK : K o) (hR : ∀ o : (Nat → Nat → Int32), K (.inr o) → gRv x 0 0 (XW x.dA N ad o lam ++ tl)) (hT : ∀ o : (Int32 × Int32 × (Nat → Nat → Int32)), K (.inl o) → (1 ≤ x.R.cells ∧ 8 ≤ x.R.slots) ∧ ∀ (q pc : Nat) (lv : List (Nat × Value)), gT x 2 1 8 ((XW x.dA N ad o.2.2 lam ++ tl) ++ fltC q o.1 o.2.1) pc lv q) : gG x 2 0 0 (XW x.dA N ad σ lam ++ tl) 34 [(0, .ref (ad 42)), (1, .int l1)] [.int k2, .ref (ad 42)] := by
  unfold f_X8_line_b34 at hf
  refine g_iconst (v := 2) hc dX8_line_34 (by decide) ?_
  obtain ⟨r2, h1, hf⟩ := oB_some hf
  cases r2 with
  | inl t4 =>
    have hz0 := Option.some.inj hf; subst hz0
    obtain ⟨hRc, hTq⟩ := hT _ hK
    refine g_callTv hc hz [.int k2, .int 2] [] (ct_X8_need hN h1) (XW_at (k := 42) (Nat.lt_of_lt_of_le (by decide) hN)) rfl (lw_V q288 q290 qs2 q68 q291) rfl hd_X8_need rfl rfl (Nat.le_of_ble_eq_true rfl) hRc dX8_line_35 (fun c pl Φ1 q hq => ?_) (fun _ h => h.elim)
    obtain ⟨rfl, rfl, rfl⟩ := hq
    exact hTq q _ _
  | inr v3 =>
    have hf := oM_r hf
    refine g_callVzv hc hz [.int k2, .int 2] [] (c_X8_need hN h1) (XW_at (k := 42) (Nat.lt_of_lt_of_le (by decide) hN)) rfl (lw_V q288 q290 qs2 q68 q291) rfl hd_X8_need rfl rfl (Nat.le_of_ble_eq_true rfl) gZ dX8_line_35 ?_
    refine g_aload_n hc dX8_line_38 rfl 0 rfl ?_
    refine g_aload_n hc dX8_line_39 rfl 0 rfl ?_
    refine g_iload_n hc dX8_line_40 rfl 1 rfl ?_
    obtain ⟨r6, h5, hf⟩ := oB_some hf
    refine g_callVi hc [.int l1] [.ref (ad 42)] (c_X8_hasRoom hN h5) (XW_at (k := 42) (Nat.lt_of_lt_of_le (by decide) hN)) rfl (lw_V q473 q475 qs8 q68 q476) rfl hd_X8_hasRoom rfl rfl (Nat.le_of_ble_eq_true rfl) gZ dX8_line_41 ?_
    refine g_iconst (v := 5) hc dX8_line_44 (by decide) ?_
    obtain ⟨r8, h7, hf⟩ := oB_some hf
    cases r8 with
    | inl t10 =>
      have hz0 := Option.some.inj hf; subst hz0
      obtain ⟨hRc, hTq⟩ := hT _ hK
      refine g_callTv hc hz [.int r6, .int 5] [] (ct_X8_need hN h7) (XW_at (k := 42) (Nat.lt_of_lt_of_le (by decide) hN)) rfl (lw_V q288 q290 qs2 q68 q291) rfl hd_X8_need rfl rfl (Nat.le_of_ble_eq_true rfl) hRc dX8_line_45 (fun c pl Φ1 q hq => ?_) (fun _ h => h.elim)
      obtain ⟨rfl, rfl, rfl⟩ := hq
      exact hTq q _ _
    | inr v9 =>
      have hf := oM_r hf
      refine g_callVzv hc hz [.int r6, .int 5] [] (c_X8_need hN h7) (XW_at (k := 42) (Nat.lt_of_lt_of_le (by decide) hN)) rfl (lw_V q288 q290 qs2 q68 q291) rfl hd_X8_need rfl rfl (Nat.le_of_ble_eq_true rfl) gZ dX8_line_45 ?_
      refine g_aload_n hc dX8_line_48 rfl 0 rfl ?_
      obtain ⟨r12, h11, hf⟩ := oB_some hf
      cases r12 with
      | inl t14 =>
        have hz0 := Option.some.inj hf; subst hz0
        obtain ⟨hRc, hTq⟩ := hT _ hK
        refine g_callTv hc hz [] [] (ct_X8_next hN h11) (XW_at (k := 42) (Nat.lt_of_lt_of_le (by decide) hN)) rfl (lw_V q280 q282 qs0 q68 q283) rfl hd_X8_next rfl rfl (Nat.le_of_ble_eq_true rfl) hRc dX8_line_49 (fun c pl Φ1 q hq => ?_) (fun _ h => h.elim)
        obtain ⟨rfl, rfl, rfl⟩ := hq
        exact hTq q _ _
      | inr v13 =>
        have hf := oM_r hf
        refine g_callVzv hc hz [] [] (c_X8_next hN h11) (XW_at (k := 42) (Nat.lt_of_lt_of_le (by decide) hN)) rfl (lw_V q280 q282 qs0 q68 q283) rfl hd_X8_next rfl rfl (Nat.le_of_ble_eq_true rfl) gZ dX8_line_49 ?_
        refine g_aload_n hc dX8_line_52 rfl 0 rfl ?_
        refine g_iload_n hc dX8_line_53 rfl 1 rfl ?_
        obtain ⟨r16, h15, hf⟩ := oB_some hf
        cases r16 with
        | inl t18 =>
          have hz0 := Option.some.inj hf; subst hz0
          obtain ⟨hRc, hTq⟩ := hT _ hK
          refine g_callTv hc hz [.int l1] [] (ct_X8_told hN h15) (XW_at (k := 42) (Nat.lt_of_lt_of_le (by decide) hN)) rfl (lw_V q477 q479 qs9 q68 q480) rfl hd_X8_told rfl rfl (Nat.le_of_ble_eq_true rfl) hRc dX8_line_54 (fun c pl Φ1 q hq => ?_) (fun _ h => h.elim)
          obtain ⟨rfl, rfl, rfl⟩ := hq
          exact hTq q _ _
        | inr v17 =>
          have hf := oM_r hf
          refine g_callVzv hc hz [.int l1] [] (c_X8_told hN h15) (XW_at (k := 42) (Nat.lt_of_lt_of_le (by decide) hN)) rfl (lw_V q477 q479 qs9 q68 q480) rfl hd_X8_told rfl rfl (Nat.le_of_ble_eq_true rfl) gZ dX8_line_54 ?_
          refine g_aload_n hc dX8_line_57 rfl 0 rfl ?_
          refine g_aload_n hc dX8_line_58 rfl 0 rfl ?_
          refine g_get (v := .int (v17 42 5)) hc in_X8 (XW_at (k := 42) (Nat.lt_of_lt_of_le (by decide) hN)) rfl 5 (by decide) q382 rfl dX8_line_59 ?_
          refine g_iconst (v := 3) hc dX8_line_62 (by decide) ?_
          refine g_icmp_ne (tgt := 70) hc dX8_line_63 (by decide) (fun h19 => ?_) (fun h19 => ?_)
          · have hf := oF h19 hf
            refine g_iconst (v := 0) hc dX8_line_70 (by decide) ?_
            exact g_lv [0] rfl (w_X8_line_b71 hc hz v17 0 hN (K := K) hf hK hR hT)
          · have hf := oT h19 hf
            refine g_iconst (v := 1) hc dX8_line_66 (by decide) ?_
            refine g_goto (tgt := 71) hc dX8_line_67 (by decide) ?_
            exact g_lv [0] rfl (w_X8_line_b71 hc hz v17 1 hN (K := K) hf hK hR hT)
def f_X8_line_b22 (σ : (Nat → Nat → Int32)) (l1 : Int32) : Option ((Int32 × Int32 × (Nat → Nat → Int32)) ⊕ ((Nat → Nat → Int32))) :=
  if 6 < l1 then (f_X8_line_b34 σ l1 0) else (f_X8_line_b34 σ l1 1)
theorem w_X8_line_b22 {x : gX} {N : Nat} {ad : Nat → Nat} {tl : va_W} {lam : (Nat → Int64)} (hc : gOk x RX8 cX8_line 2 9 191) (hz : gZs kS x.A x.s x.s.heap)  (σ : (Nat → Nat → Int32)) (l1 : Int32) (hN : 43 ≤ N) {K : (Int32 × Int32 × (Nat → Nat → Int32)) ⊕ ((Nat → Nat → Int32)) → Prop} {o : (Int32 × Int32 × (Nat → Nat → Int32)) ⊕ ((Nat → Nat → Int32))} (hf : f_X8_line_b22 σ l1 = some o) (hK : K o) (hR : ∀ o : (Nat → Nat → Int32), K (.inr o) → gRv x 0 0 (XW x.dA N ad o lam ++ tl)) (hT : ∀ o : (Int32 × Int32 × (Nat → Nat → Int32)), K (.inl o) → (1 ≤ x.R.cells ∧ 8 ≤ x.R.slots) ∧ ∀ (q pc : Nat) (lv : List (Nat × Value)), gT x 2 1 8 ((XW x.dA N ad o.2.2 lam ++ tl) ++ fltC q o.1 o.2.1) pc lv q) : gG x 2 0 0 (XW x.dA N ad σ lam ++ tl) 22 [(0, .ref (ad 42)), (1, .int l1)] [] := by
  unfold f_X8_line_b22 at hf
  refine g_aload_n hc dX8_line_22 rfl 0 rfl ?_
  refine g_iload_n hc dX8_line_23 rfl 1 rfl ?_
  refine g_bipush (v := 6) hc dX8_line_24 (by decide) ?_
  refine g_icmp_gt (tgt := 33) hc dX8_line_26 (by decide) (fun h1 => ?_) (fun h1 => ?_)
  · have hf := oT h1 hf
    refine g_iconst (v := 0) hc dX8_line_33 (by decide) ?_
    exact g_lv [0, 1] rfl (w_X8_line_b34 hc hz σ l1 0 hN (K := K) hf hK hR hT)
  · have hf := oF h1 hf
    refine g_iconst (v := 1) hc dX8_line_29 (by decide) ?_
    refine g_goto (tgt := 34) hc dX8_line_30 (by decide) ?_
    exact g_lv [0, 1] rfl (w_X8_line_b34 hc hz σ l1 1 hN (K := K) hf hK hR hT)
def f_X8_line_L2 (σ : (Nat → Nat → Int32)) (l1 : Int32) : Option ((Int32) ⊕ ((Int32 × Int32 × (Nat → Nat → Int32)) ⊕ ((Nat → Nat → Int32)))) :=
  if 6 < l1 then (oI (f_X8_line_b22 σ l1)) else (oB (f_X8_is σ l1) fun r4 => if r4 = 0 then (some (.inl (l1 + 1))) else (oI (f_X8_line_b22 σ l1)))
theorem w_X8_line_L2 {x : gX} {N : Nat} {ad : Nat → Nat} {tl : va_W} {lam : (Nat → Int64)} (hc : gOk x RX8 cX8_line 2 9 191) (hz : gZs kS x.A x.s x.s.heap)  (σ : (Nat → Nat → Int32)) (l1 : Int32) (hN : 43 ≤ N) {K : (Int32) ⊕ ((Int32 × Int32 × (Nat → Nat → Int32)) ⊕ ((Nat → Nat → Int32))) → Prop} {o : (Int32) ⊕ ((Int32 × Int32 × (Nat → Nat → Int32)) ⊕ ((Nat → Nat → Int32)))} (hf : f_X8_line_L2 σ l1 = some o) (hK : K o) (hI2 : ∀ v : Int32, K (.inl v) → gG x 2 0 0 (XW x.dA N ad σ lam ++ tl) 2 [(0, .ref (ad 42)), (1, .int v)] []) (hR : ∀ o : (Nat → Nat → Int32), K (.inr (.inr o)) → gRv x 0 0 (XW x.dA N ad o lam ++ tl)) (hT : ∀ o : (Int32 × Int32 × (Nat → Nat → Int32)), K (.inr (.inl o)) → (1 ≤ x.R.cells ∧ 8 ≤ x.R.slots) ∧ ∀ (q pc : Nat) (lv : List (Nat × Value)), gT x 2 1 8 ((XW x.dA N ad o.2.2 lam ++ tl) ++ fltC q o.1 o.2.1) pc lv q) : gG x 2 0 0 (XW x.dA N ad σ lam ++ tl) 2 [(0, .ref (ad 42)), (1, .int l1)] [] := by
  unfold f_X8_line_L2 at hf
  refine g_iload_n hc dX8_line_2 rfl 1 rfl ?_
  refine g_bipush (v := 6) hc dX8_line_3 (by decide) ?_
  refine g_icmp_gt (tgt := 22) hc dX8_line_5 (by decide) (fun h1 => ?_) (fun h1 => ?_)
  · have hf := oT h1 hf
    obtain ⟨o2, hgo2, eo2⟩ := oI_some hf
    clear hf; subst eo2; have hf := hgo2; clear hgo2
    exact g_lv [0, 1] rfl (w_X8_line_b22 hc hz σ l1 hN (K := (fun o1 => K (.inr o1))) hf hK hR hT)
  · have hf := oF h1 hf
    refine g_aload_n hc dX8_line_8 rfl 0 rfl ?_
    refine g_iload_n hc dX8_line_9 rfl 1 rfl ?_
    obtain ⟨r4, h3, hf⟩ := oB_some hf
    refine g_callVzi hc hz [.int l1] [] (c_X8_is hN h3) (XW_at (k := 42) (Nat.lt_of_lt_of_le (by decide) hN)) rfl (lw_V q410 q412 qs6 q68 q413) rfl hd_X8_is rfl rfl (Nat.le_of_ble_eq_true rfl) gZ dX8_line_10 ?_
    refine g_if_ne (tgt := 22) hc dX8_line_13 (by decide) (fun h5 => ?_) (fun h5 => ?_)
    · have hf := oF h5 hf
      obtain ⟨o6, hgo6, eo6⟩ := oI_some hf
      clear hf; subst eo6; have hf := hgo6; clear hgo6
      exact g_lv [0, 1] rfl (w_X8_line_b22 hc hz σ l1 hN (K := (fun o1 => K (.inr o1))) hf hK hR hT)
    · have hf := oT h5 hf
      refine g_iinc (v := l1 + 1) (lv' := [(1, .int (l1 + 1)), (0, .ref (ad 42))]) hc dX8_line_16 (j := 1) rfl rfl (by decide) rfl ?_
      refine g_goto (tgt := 2) hc dX8_line_19 (by decide) ?_
      have hz := Option.some.inj hf; subst hz
      exact g_lv [1, 0] rfl (hI2 _ hK)
def f_X8_line_b2 (σ : (Nat → Nat → Int32)) (l1 : Int32) : Option ((Int32 × Int32 × (Nat → Nat → Int32)) ⊕ ((Nat → Nat → Int32))) :=
  oLoop gFU (fun v : Int32 => f_X8_line_L2 σ v) l1
theorem w_X8_line_b2 {x : gX} {N : Nat} {ad : Nat → Nat} {tl : va_W} {lam : (Nat → Int64)} (hc : gOk x RX8 cX8_line 2 9 191) (hz : gZs kS x.A x.s x.s.heap)  (σ : (Nat → Nat → Int32)) (l1 : Int32) (hN : 43 ≤ N) {K : (Int32 × Int32 × (Nat → Nat → Int32)) ⊕ ((Nat → Nat → Int32)) → Prop} {o : (Int32 × Int32 × (Nat → Nat → Int32)) ⊕ ((Nat → Nat → Int32))} (hf : f_X8_line_b2 σ l1 = some o) (hK : K o) (hR : ∀ o : (Nat → Nat → Int32), K (.inr o) → gRv x 0 0 (XW x.dA N ad o lam ++ tl)) (hT : ∀ o : (Int32 × Int32 × (Nat → Nat → Int32)), K (.inl o) → (1 ≤ x.R.cells ∧ 8 ≤ x.R.slots) ∧ ∀ (q pc : Nat) (lv : List (Nat × Value)), gT x 2 1 8 ((XW x.dA N ad o.2.2 lam ++ tl) ++ fltC q o.1 o.2.1) pc lv q) : gG x 2 0 0 (XW x.dA N ad σ lam ++ tl) 2 [(0, .ref (ad 42)), (1, .int l1)] [] :=
  oLoop_ind (fun v : Int32 => gG x 2 0 0 (XW x.dA N ad σ lam ++ tl) 2 [(0, .ref (ad 42)), (1, .int v)] []) K (fun v o1 hf1 hK1 => w_X8_line_L2 hc hz σ v hN (K := Sum.elim (fun v : Int32 => gG x 2 0 0 (XW x.dA N ad σ lam ++ tl) 2 [(0, .ref (ad 42)), (1, .int v)] []) K) hf1 hK1 (fun v hv => hv) hR hT) gFU _ o hf hK
def f_X8_line (σ : (Nat → Nat → Int32)) : Option ((Int32 × Int32 × (Nat → Nat → Int32)) ⊕ ((Nat → Nat → Int32))) :=
  f_X8_line_b2 σ 0
theorem w_X8_line {x : gX} {N : Nat} {ad : Nat → Nat} {tl : va_W} {lam : (Nat → Int64)} (hc : gOk x RX8 cX8_line 2 9 191) (hz : gZs kS x.A x.s x.s.heap)  (σ : (Nat → Nat → Int32)) (hN : 43 ≤ N) {K : (Int32 × Int32 × (Nat → Nat → Int32)) ⊕ ((Nat → Nat → Int32)) → Prop} {o : (Int32 × Int32 × (Nat → Nat → Int32)) ⊕ ((Nat → Nat → Int32))} (hf : f_X8_line σ = some o) (hK : K o) (hR : ∀ o : (Nat → Nat → Int32), K (.inr o) → gRv x 0 0 (XW x.dA N ad o lam ++ tl)) (hT : ∀ o : (Int32 × Int32 × (Nat → Nat → Int32)), K (.inl o) → (1 ≤ x.R.cells ∧ 8 ≤ x.R.slots) ∧ ∀ (q pc : Nat) (lv : List (Nat × Value)), gT x 2 1 8 ((XW x.dA N ad o.2.2 lam ++ tl) ++ fltC q o.1 o.2.1) pc lv q) : gG x 2 0 0 (XW x.dA N ad σ lam ++ tl) 0 [(0, .ref (ad 42))] [] := by
  unfold f_X8_line at hf
  refine g_iconst (v := 0) hc dX8_line_0 (by decide) ?_
  refine g_istore_n (lv' := [(1, .int 0), (0, .ref (ad 42))]) hc dX8_line_1 rfl (by decide) rfl ?_
  exact g_lv [1, 0] rfl (w_X8_line_b2 hc hz σ 0 hN (K := K) hf hK hR hT)
theorem c_X8_line {l : Launch} {D : va_G} {dA : Nat → ClassId} {N : Nat} {ad : Nat → Nat} {tl : va_W} {lam : (Nat → Int64)} {σ : (Nat → Nat → Int32)} (hN : 43 ≤ N) {o : (Nat → Nat → Int32)} (hf : f_X8_line σ = some (.inr o)) : gVz kS l D dA (XW dA N ad σ lam ++ tl) (XW dA N ad o lam ++ tl) [.ref (ad 42)] yX8_line (ws_ yX8_line cX8_line 2 none) ({ frames := 9, cells := 0, slots := 0, locals := 191 } : Room) :=
  g_startVz (own := RX8) ⟨rfl, rfl⟩ (by decide) rfl (Nat.le_of_ble_eq_true rfl) (fun x e hc hz hR => by
    subst e
    exact w_X8_line hc hz σ hN (K := fun o1 => o1 = .inr o) hf rfl (fun o1 h1 => by cases h1; exact hR) (fun o1 h1 => by cases h1))
theorem ct_X8_line {l : Launch} {D : va_G} {dA : Nat → ClassId} {N : Nat} {ad : Nat → Nat} {tl : va_W} {lam : (Nat → Int64)} {σ : (Nat → Nat → Int32)} (hN : 43 ≤ N) {o : (Int32 × Int32 × (Nat → Nat → Int32))} (hf : f_X8_line σ = some (.inl o)) : gTv kS l D dA (XW dA N ad σ lam ++ tl) [.ref (ad 42)] (fun _ => False) (fun t => t.1 = o.1 ∧ t.2.1 = o.2.1 ∧ t.2.2 = XW dA N ad o.2.2 lam ++ tl) yX8_line (ws_ yX8_line cX8_line 2 none) ({ frames := 9, cells := 1, slots := 8, locals := 191 } : Room) 1 8 :=
  g_startTv (mc := 1) (ms := 8) (own := RX8) (by decide) rfl (Nat.le_of_ble_eq_true rfl) (fun x e hc hz hnm hRc hR hX => by
    subst e
    exact w_X8_line hc hz σ hN (K := fun o1 => o1 = .inl o) hf rfl (fun o1 h1 => by cases h1) (fun o1 h1 => by
      cases h1
      exact ⟨hRc, fun q pc lv => hX _ _ _ q pc lv ⟨rfl, rfl, rfl⟩⟩))
theorem hd_X8_line : yX8_line.cls = RX8 ∧ yX8_line.cls ≠ "java/lang/invoke/MethodHandle" ∧ yX8_line.cls ≠ "java/lang/invoke/VarHandle" ∧ (parseMethodDescriptor yX8_line.desc).map (fun d => d.parameters.length) = some 0 := by decide +kernel
/-! HedgehogLots$Reader.lines()I -/
def f_X8_lines_b39 (σ : (Nat → Nat → Int32)) (l1 : Int32) (k2 : Int32) : Option ((Int32 × Int32 × (Nat → Nat → Int32)) ⊕ (Int32 × (Nat → Nat → Int32))) :=
  oB (f_X8_need σ k2 6) fun r2 => oM r2 (fun t4 => some (.inl t4)) fun v3 => some (.inr (l1, v3))
theorem w_X8_lines_b39 {x : gX} {N : Nat} {ad : Nat → Nat} {tl : va_W} {lam : (Nat → Int64)} (hc : gOk x RX8 cX8_lines 2 10 212) (hz : gZs kS x.A x.s x.s.heap)  (σ : (Nat → Nat → Int32)) (l1 : Int32) (k2 : Int32) (hN : 43 ≤ N) {K : (Int32 × Int32 × (Nat → Nat → Int32)) ⊕ (Int32 × (Nat → Nat → Int32)) → Prop} {o : (Int32 × Int32 × (Nat → Nat → Int32)) ⊕ (Int32 × (Nat → Nat → Int32))} (hf : f_X8_lines_b39 σ l1 k2 = some o) (hK : K o) (hR : ∀ o : Int32 × (Nat → Nat → Int32), K (.inr o) → gRi x 0 0 (XW x.dA N ad o.2 lam ++ tl) o.1) (hT : ∀ o : (Int32 × Int32 × (Nat → Nat → Int32)), K (.inl o) → (1 ≤ x.R.cells ∧ 8 ≤ x.R.slots) ∧ ∀ (q pc : Nat) (lv : List (Nat × Value)), gT x 2 1 8 ((XW x.dA N ad o.2.2 lam ++ tl) ++ fltC q o.1 o.2.1) pc lv q) : gG x 2 0 0 (XW x.dA N ad σ lam ++ tl) 39 [(1, .int l1)] [.int k2, .ref (ad 42)] := by
  unfold f_X8_lines_b39 at hf
  refine g_bipush (v := 6) hc dX8_lines_39 (by decide) ?_
  obtain ⟨r2, h1, hf⟩ := oB_some hf
  cases r2 with
  | inl t4 =>
    have hz0 := Option.some.inj hf; subst hz0
    obtain ⟨hRc, hTq⟩ := hT _ hK
    refine g_callTv hc hz [.int k2, .int 6] [] (ct_X8_need hN h1) (XW_at (k := 42) (Nat.lt_of_lt_of_le (by decide) hN)) rfl (lw_V q288 q290 qs2 q68 q291) rfl hd_X8_need rfl rfl (Nat.le_of_ble_eq_true rfl) hRc dX8_lines_41 (fun c pl Φ1 q hq => ?_) (fun _ h => h.elim)
    obtain ⟨rfl, rfl, rfl⟩ := hq
    exact hTq q _ _
  | inr v3 =>
    have hf := oM_r hf
    refine g_callVzv hc hz [.int k2, .int 6] [] (c_X8_need hN h1) (XW_at (k := 42) (Nat.lt_of_lt_of_le (by decide) hN)) rfl (lw_V q288 q290 qs2 q68 q291) rfl hd_X8_need rfl rfl (Nat.le_of_ble_eq_true rfl) gZ dX8_lines_41 ?_
    refine g_iload_n hc dX8_lines_44 rfl 0 rfl ?_
    have hz := Option.some.inj hf; subst hz
    exact g_iret hc (hR _ hK) dX8_lines_45
def f_X8_lines_L2 (σ : (Nat → Nat → Int32)) (l1 : Int32) : Option ((Int32 × (Nat → Nat → Int32)) ⊕ ((Int32 × Int32 × (Nat → Nat → Int32)) ⊕ (Int32 × (Nat → Nat → Int32)))) :=
  if (σ 42 5) = 0 then (oI (if (σ (sb 4) 5) ≤ (σ 42 2) then (f_X8_lines_b39 σ l1 0) else (f_X8_lines_b39 σ l1 1))) else (oB (f_X8_line σ) fun r5 => oM r5 (fun t7 => some (.inr (.inl t7))) fun v6 => some (.inl ((l1 + 1), v6)))
theorem w_X8_lines_L2 {x : gX} {N : Nat} {ad : Nat → Nat} {tl : va_W} {lam : (Nat → Int64)} (hc : gOk x RX8 cX8_lines 2 10 212) (hz : gZs kS x.A x.s x.s.heap)  (σ : (Nat → Nat → Int32)) (l1 : Int32) (hN : 43 ≤ N) {K : (Int32 × (Nat → Nat → Int32)) ⊕ ((Int32 × Int32 × (Nat → Nat → Int32)) ⊕ (Int32 × (Nat → Nat → Int32))) → Prop} {o : (Int32 × (Nat → Nat → Int32)) ⊕ ((Int32 × Int32 × (Nat → Nat → Int32)) ⊕ (Int32 × (Nat → Nat → Int32)))} (hf : f_X8_lines_L2 σ l1 = some o) (hK : K o) (hI2 : ∀ v : Int32 × (Nat → Nat → Int32), K (.inl v) → gG x 2 0 0 (XW x.dA N ad v.2 lam ++ tl) 2 [(0, .ref (ad 42)), (1, .int v.1)] []) (hR : ∀ o : Int32 × (Nat → Nat → Int32), K (.inr (.inr o)) → gRi x 0 0 (XW x.dA N ad o.2 lam ++ tl) o.1) (hT : ∀ o : (Int32 × Int32 × (Nat → Nat → Int32)), K (.inr (.inl o)) → (1 ≤ x.R.cells ∧ 8 ≤ x.R.slots) ∧ ∀ (q pc : Nat) (lv : List (Nat × Value)), gT x 2 1 8 ((XW x.dA N ad o.2.2 lam ++ tl) ++ fltC q o.1 o.2.1) pc lv q) : gG x 2 0 0 (XW x.dA N ad σ lam ++ tl) 2 [(0, .ref (ad 42)), (1, .int l1)] [] := by
  unfold f_X8_lines_L2 at hf
  refine g_aload_n hc dX8_lines_2 rfl 0 rfl ?_
  refine g_get (v := .int (σ 42 5)) hc in_X8 (XW_at (k := 42) (Nat.lt_of_lt_of_le (by decide) hN)) rfl 5 (by decide) q382 rfl dX8_lines_3 ?_
  refine g_if_eq (tgt := 19) hc dX8_lines_6 (by decide) (fun h1 => ?_) (fun h1 => ?_)
  · have hf := oT h1 hf
    obtain ⟨o3, hgo3, eo3⟩ := oI_some hf
    clear hf; subst eo3; have hf := hgo3; clear hgo3
    refine g_aload_n hc dX8_lines_19 rfl 0 rfl ?_
    refine g_aload_n hc dX8_lines_20 rfl 0 rfl ?_
    refine g_get (v := .int (σ 42 2)) hc in_X8 (XW_at (k := 42) (Nat.lt_of_lt_of_le (by decide) hN)) rfl 2 (by decide) q379 rfl dX8_lines_21 ?_
    refine g_aload_n hc dX8_lines_24 rfl 0 rfl ?_
    refine g_get (v := .ref (ad (sb 4))) hc in_X8 (XW_at (k := 42) (Nat.lt_of_lt_of_le (by decide) hN)) rfl 1 (by decide) q377 rfl dX8_lines_25 ?_
    refine g_getN (v := .int (σ (sb 4) 5)) hc in_X5 (XW_s0 (gS8 hN)) rfl 5 (by decide) 7 rfl rfl dX8_lines_28 ?_
    refine g_icmp_ge (tgt := 38) hc dX8_lines_31 (by decide) (fun h2 => ?_) (fun h2 => ?_)
    · have hf := oT h2 hf
      refine g_iconst (v := 0) hc dX8_lines_38 (by decide) ?_
      exact g_lv [1] rfl (w_X8_lines_b39 hc hz σ l1 0 hN (K := (fun o1 => K (.inr o1))) hf hK hR hT)
    · have hf := oF h2 hf
      refine g_iconst (v := 1) hc dX8_lines_34 (by decide) ?_
      refine g_goto (tgt := 39) hc dX8_lines_35 (by decide) ?_
      exact g_lv [1] rfl (w_X8_lines_b39 hc hz σ l1 1 hN (K := (fun o1 => K (.inr o1))) hf hK hR hT)
  · have hf := oF h1 hf
    refine g_aload_n hc dX8_lines_9 rfl 0 rfl ?_
    obtain ⟨r5, h4, hf⟩ := oB_some hf
    cases r5 with
    | inl t7 =>
      have hz0 := Option.some.inj hf; subst hz0
      obtain ⟨hRc, hTq⟩ := hT _ hK
      refine g_callTv hc hz [] [] (ct_X8_line hN h4) (XW_at (k := 42) (Nat.lt_of_lt_of_le (by decide) hN)) rfl (lw_V q406 q408 qs5 q68 q409) rfl hd_X8_line rfl rfl (Nat.le_of_ble_eq_true rfl) hRc dX8_lines_10 (fun c pl Φ1 q hq => ?_) (fun _ h => h.elim)
      obtain ⟨rfl, rfl, rfl⟩ := hq
      exact hTq q _ _
    | inr v6 =>
      have hf := oM_r hf
      refine g_callVzv hc hz [] [] (c_X8_line hN h4) (XW_at (k := 42) (Nat.lt_of_lt_of_le (by decide) hN)) rfl (lw_V q406 q408 qs5 q68 q409) rfl hd_X8_line rfl rfl (Nat.le_of_ble_eq_true rfl) gZ dX8_lines_10 ?_
      refine g_iinc (v := l1 + 1) (lv' := [(1, .int (l1 + 1)), (0, .ref (ad 42))]) hc dX8_lines_13 (j := 1) rfl rfl (by decide) rfl ?_
      refine g_goto (tgt := 2) hc dX8_lines_16 (by decide) ?_
      have hz := Option.some.inj hf; subst hz
      exact g_lv [1, 0] rfl (hI2 _ hK)
def f_X8_lines_b2 (σ : (Nat → Nat → Int32)) (l1 : Int32) : Option ((Int32 × Int32 × (Nat → Nat → Int32)) ⊕ (Int32 × (Nat → Nat → Int32))) :=
  oLoop gFU (fun v : Int32 × (Nat → Nat → Int32) => f_X8_lines_L2 v.2 v.1) (l1, σ)
theorem w_X8_lines_b2 {x : gX} {N : Nat} {ad : Nat → Nat} {tl : va_W} {lam : (Nat → Int64)} (hc : gOk x RX8 cX8_lines 2 10 212) (hz : gZs kS x.A x.s x.s.heap)  (σ : (Nat → Nat → Int32)) (l1 : Int32) (hN : 43 ≤ N) {K : (Int32 × Int32 × (Nat → Nat → Int32)) ⊕ (Int32 × (Nat → Nat → Int32)) → Prop} {o : (Int32 × Int32 × (Nat → Nat → Int32)) ⊕ (Int32 × (Nat → Nat → Int32))} (hf : f_X8_lines_b2 σ l1 = some o) (hK : K o) (hR : ∀ o : Int32 × (Nat → Nat → Int32), K (.inr o) → gRi x 0 0 (XW x.dA N ad o.2 lam ++ tl) o.1) (hT : ∀ o : (Int32 × Int32 × (Nat → Nat → Int32)), K (.inl o) → (1 ≤ x.R.cells ∧ 8 ≤ x.R.slots) ∧ ∀ (q pc : Nat) (lv : List (Nat × Value)), gT x 2 1 8 ((XW x.dA N ad o.2.2 lam ++ tl) ++ fltC q o.1 o.2.1) pc lv q) : gG x 2 0 0 (XW x.dA N ad σ lam ++ tl) 2 [(0, .ref (ad 42)), (1, .int l1)] [] :=
  oLoop_ind (fun v : Int32 × (Nat → Nat → Int32) => gG x 2 0 0 (XW x.dA N ad v.2 lam ++ tl) 2 [(0, .ref (ad 42)), (1, .int v.1)] []) K (fun v o1 hf1 hK1 => w_X8_lines_L2 hc hz v.2 v.1 hN (K := Sum.elim (fun v : Int32 × (Nat → Nat → Int32) => gG x 2 0 0 (XW x.dA N ad v.2 lam ++ tl) 2 [(0, .ref (ad 42)), (1, .int v.1)] []) K) hf1 hK1 (fun v hv => hv) hR hT) gFU _ o hf hK
def f_X8_lines (σ : (Nat → Nat → Int32)) : Option ((Int32 × Int32 × (Nat → Nat → Int32)) ⊕ (Int32 × (Nat → Nat → Int32))) :=
  f_X8_lines_b2 σ 0
theorem w_X8_lines {x : gX} {N : Nat} {ad : Nat → Nat} {tl : va_W} {lam : (Nat → Int64)} (hc : gOk x RX8 cX8_lines 2 10 212) (hz : gZs kS x.A x.s x.s.heap)  (σ : (Nat → Nat → Int32)) (hN : 43 ≤ N) {K : (Int32 × Int32 × (Nat → Nat → Int32)) ⊕ (Int32 × (Nat → Nat → Int32)) → Prop} {o : (Int32 × Int32 × (Nat → Nat → Int32)) ⊕ (Int32 × (Nat → Nat → Int32))} (hf : f_X8_lines σ = some o) (hK : K o) (hR : ∀ o : Int32 × (Nat → Nat → Int32), K (.inr o) → gRi x 0 0 (XW x.dA N ad o.2 lam ++ tl) o.1) (hT : ∀ o : (Int32 × Int32 × (Nat → Nat → Int32)), K (.inl o) → (1 ≤ x.R.cells ∧ 8 ≤ x.R.slots) ∧ ∀ (q pc : Nat) (lv : List (Nat × Value)), gT x 2 1 8 ((XW x.dA N ad o.2.2 lam ++ tl) ++ fltC q o.1 o.2.1) pc lv q) : gG x 2 0 0 (XW x.dA N ad σ lam ++ tl) 0 [(0, .ref (ad 42))] [] := by
  unfold f_X8_lines at hf
  refine g_iconst (v := 0) hc dX8_lines_0 (by decide) ?_
  refine g_istore_n (lv' := [(1, .int 0), (0, .ref (ad 42))]) hc dX8_lines_1 rfl (by decide) rfl ?_
  exact g_lv [1, 0] rfl (w_X8_lines_b2 hc hz σ 0 hN (K := K) hf hK hR hT)
theorem c_X8_lines {l : Launch} {D : va_G} {dA : Nat → ClassId} {N : Nat} {ad : Nat → Nat} {tl : va_W} {lam : (Nat → Int64)} {σ : (Nat → Nat → Int32)} (hN : 43 ≤ N) {o : Int32 × (Nat → Nat → Int32)} (hf : f_X8_lines σ = some (.inr o)) : gIz kS l D dA (XW dA N ad σ lam ++ tl) (XW dA N ad o.2 lam ++ tl) [.ref (ad 42)] o.1 yX8_lines (ws_ yX8_lines cX8_lines 2 (some .int)) ({ frames := 10, cells := 0, slots := 0, locals := 212 } : Room) :=
  g_startIz (own := RX8) ⟨rfl, rfl⟩ (by decide) rfl (Nat.le_of_ble_eq_true rfl) (fun x e hc hz hR => by
    subst e
    exact w_X8_lines hc hz σ hN (K := fun o1 => o1 = .inr o) hf rfl (fun o1 h1 => by cases h1; exact hR) (fun o1 h1 => by cases h1))
theorem ct_X8_lines {l : Launch} {D : va_G} {dA : Nat → ClassId} {N : Nat} {ad : Nat → Nat} {tl : va_W} {lam : (Nat → Int64)} {σ : (Nat → Nat → Int32)} (hN : 43 ≤ N) {o : (Int32 × Int32 × (Nat → Nat → Int32))} (hf : f_X8_lines σ = some (.inl o)) : gTi kS l D dA (XW dA N ad σ lam ++ tl) [.ref (ad 42)] (fun _ => False) (fun t => t.1 = o.1 ∧ t.2.1 = o.2.1 ∧ t.2.2 = XW dA N ad o.2.2 lam ++ tl) yX8_lines (ws_ yX8_lines cX8_lines 2 (some .int)) ({ frames := 10, cells := 1, slots := 8, locals := 212 } : Room) 1 8 :=
  g_startTi (mc := 1) (ms := 8) (own := RX8) (by decide) rfl (Nat.le_of_ble_eq_true rfl) (fun x e hc hz hRc hR hX => by
    subst e
    exact w_X8_lines hc hz σ hN (K := fun o1 => o1 = .inl o) hf rfl (fun o1 h1 => by cases h1) (fun o1 h1 => by
      cases h1
      exact ⟨hRc, fun q pc lv => hX _ _ _ q pc lv ⟨rfl, rfl, rfl⟩⟩))
theorem hd_X8_lines : yX8_lines.cls = RX8 ∧ yX8_lines.cls ≠ "java/lang/invoke/MethodHandle" ∧ yX8_lines.cls ≠ "java/lang/invoke/VarHandle" ∧ (parseMethodDescriptor yX8_lines.desc).map (fun d => d.parameters.length) = some 0 := by decide +kernel
