/-! ===== count() ===== -/
set_option maxRecDepth 100000
/-! HedgehogLots.count(I)I, behind pc 58 -/
def f_X0_count_L111 (σ : (Nat → Nat → Int32)) (l1 : Int32) (l3 : Int32) (l4 : Int32) (l5 : Int32) (l6 : Int32) : Option ((Int32 × Int32) ⊕ (Int32)) :=
  if (σ (sb 0) 5) ≤ l6 then (oI (if l1 = 0 then (some (σ 0 6)) else (if l1 = 1 then (oB (f_J7_bitCount (σ 0 4)) fun r6 => some r6) else (if l1 = 2 then (some (σ 0 13)) else (if l1 = 3 then (some l3) else (if l1 = 4 then (some l4) else (if l1 = 5 then (some l5) else (some (-1))))))))) else (oC (inb ((2 * l6) + 1) 8) <| some (.inl ((l5 + (σ (sb 0 + 4) ((2 * l6) + 1).toNatClampNeg)), (l6 + 1))))
theorem w_X0_count_L111 {x : gX} {N : Nat} {ad : Nat → Nat} {tl : va_W} {lam : (Nat → Int64)} (hc : gOk x RX0 cX0_count 7 1 20)  (σ : (Nat → Nat → Int32)) (l1 : Int32) (l3 : Int32) (l4 : Int32) (l5 : Int32) (l6 : Int32) (hN : 36 ≤ N) {K : (Int32 × Int32) ⊕ (Int32) → Prop} {o : (Int32 × Int32) ⊕ (Int32)} (hf : f_X0_count_L111 σ l1 l3 l4 l5 l6 = some o) (hK : K o) (hI111 : ∀ v : Int32 × Int32, K (.inl v) → gG x 7 0 0 (XW x.dA N ad σ lam ++ tl) 111 [(0, .ref (ad 0)), (1, .int l1), (3, .int l3), (4, .int l4), (5, .int v.1), (6, .int v.2)] []) (hR : ∀ o : Int32, K (.inr (o)) → gRi x 0 0 (XW x.dA N ad σ lam ++ tl) o) : gG x 7 0 0 (XW x.dA N ad σ lam ++ tl) 111 [(0, .ref (ad 0)), (1, .int l1), (3, .int l3), (4, .int l4), (5, .int l5), (6, .int l6)] [] := by
  unfold f_X0_count_L111 at hf
  refine g_iload hc dX0_count_111 5 rfl ?_
  refine g_aload_n hc dX0_count_113 rfl 0 rfl ?_
  refine g_get (v := .ref (ad (sb 0))) hc in_X0 (XW_at (k := 0) (Nat.lt_of_lt_of_le (by decide) hN)) rfl 1 (by decide) q185 rfl dX0_count_114 ?_
  refine g_getN (v := .int (σ (sb 0) 5)) hc in_X5 (XW_s0 (gSl 0 hN (by decide))) rfl 5 (by decide) 8 rfl rfl dX0_count_117 ?_
  refine g_icmp_ge (tgt := 148) hc dX0_count_120 (by decide) (fun h1 => ?_) (fun h1 => ?_)
  · have hf := oT h1 hf
    obtain ⟨o11, hgo11, eo11⟩ := oI_some hf
    clear hf; subst eo11; have hf := hgo11; clear hgo11
    refine g_iload_n hc dX0_count_148 rfl 1 rfl ?_
    by_cases h3 : l1 = 0
    · have hf := oT h3 hf
      refine g_tabIn (tgt := 188) hc dX0_count_149 (by rw [h3]; decide) (by rw [h3]; decide) (by rw [h3]; rfl) (by decide) ?_
      refine g_aload_n hc dX0_count_188 rfl 0 rfl ?_
      refine g_get (v := .int (σ 0 6)) hc in_X0 (XW_at (k := 0) (Nat.lt_of_lt_of_le (by decide) hN)) rfl 6 (by decide) q190 rfl dX0_count_189 ?_
      have hz := Option.some.inj hf; subst hz
      exact g_iret hc (hR _ hK) dX0_count_192
    have hf := oF h3 hf
    by_cases h4 : l1 = 1
    · have hf := oT h4 hf
      refine g_tabIn (tgt := 193) hc dX0_count_149 (by rw [h4]; decide) (by rw [h4]; decide) (by rw [h4]; rfl) (by decide) ?_
      refine g_aload_n hc dX0_count_193 rfl 0 rfl ?_
      refine g_get (v := .int (σ 0 4)) hc in_X0 (XW_at (k := 0) (Nat.lt_of_lt_of_le (by decide) hN)) rfl 4 (by decide) q188 rfl dX0_count_194 ?_
      obtain ⟨r6, h5, hf⟩ := oB_some hf
      refine g_callSi hc [.int (σ 0 4)] [] (c_J7_bitCount  h5) (lw_S q700 q701 q78 q702) rfl hd_J7_bitCount rfl rfl (Nat.le_of_ble_eq_true rfl) gZ dX0_count_197 ?_
      have hz := Option.some.inj hf; subst hz
      exact g_iret hc (hR _ hK) dX0_count_200
    have hf := oF h4 hf
    by_cases h7 : l1 = 2
    · have hf := oT h7 hf
      refine g_tabIn (tgt := 201) hc dX0_count_149 (by rw [h7]; decide) (by rw [h7]; decide) (by rw [h7]; rfl) (by decide) ?_
      refine g_aload_n hc dX0_count_201 rfl 0 rfl ?_
      refine g_get (v := .int (σ 0 13)) hc in_X0 (XW_at (k := 0) (Nat.lt_of_lt_of_le (by decide) hN)) rfl 13 (by decide) q198 rfl dX0_count_202 ?_
      have hz := Option.some.inj hf; subst hz
      exact g_iret hc (hR _ hK) dX0_count_205
    have hf := oF h7 hf
    by_cases h8 : l1 = 3
    · have hf := oT h8 hf
      refine g_tabIn (tgt := 206) hc dX0_count_149 (by rw [h8]; decide) (by rw [h8]; decide) (by rw [h8]; rfl) (by decide) ?_
      refine g_iload_n hc dX0_count_206 rfl 2 rfl ?_
      have hz := Option.some.inj hf; subst hz
      exact g_iret hc (hR _ hK) dX0_count_207
    have hf := oF h8 hf
    by_cases h9 : l1 = 4
    · have hf := oT h9 hf
      refine g_tabIn (tgt := 208) hc dX0_count_149 (by rw [h9]; decide) (by rw [h9]; decide) (by rw [h9]; rfl) (by decide) ?_
      refine g_iload hc dX0_count_208 3 rfl ?_
      have hz := Option.some.inj hf; subst hz
      exact g_iret hc (hR _ hK) dX0_count_210
    have hf := oF h9 hf
    by_cases h10 : l1 = 5
    · have hf := oT h10 hf
      refine g_tabIn (tgt := 211) hc dX0_count_149 (by rw [h10]; decide) (by rw [h10]; decide) (by rw [h10]; rfl) (by decide) ?_
      refine g_iload hc dX0_count_211 4 rfl ?_
      have hz := Option.some.inj hf; subst hz
      exact g_iret hc (hR _ hK) dX0_count_213
    have hf := oF h10 hf
    have h3 := lv_neT h3 (a := 0) (by decide)
    have h4 := lv_neT h4 (a := 1) (by decide)
    have h7 := lv_neT h7 (a := 2) (by decide)
    have h8 := lv_neT h8 (a := 3) (by decide)
    have h9 := lv_neT h9 (a := 4) (by decide)
    have h10 := lv_neT h10 (a := 5) (by decide)
    refine g_tabOut (tgt := 214) hc dX0_count_149 (by omega) (by decide) ?_
    refine g_iconst (v := (-1)) hc dX0_count_214 (by decide) ?_
    have hz := Option.some.inj hf; subst hz
    exact g_iret hc (hR _ hK) dX0_count_215
  · have hf := oF h1 hf
    refine g_iload hc dX0_count_123 4 rfl ?_
    refine g_aload_n hc dX0_count_125 rfl 0 rfl ?_
    refine g_get (v := .ref (ad (sb 0))) hc in_X0 (XW_at (k := 0) (Nat.lt_of_lt_of_le (by decide) hN)) rfl 1 (by decide) q185 rfl dX0_count_126 ?_
    refine g_getN (v := .ref (ad (sb 0 + 4))) hc in_X5 (XW_s0 (gSl 0 hN (by decide))) rfl 6 (by decide) 9 rfl rfl dX0_count_129 ?_
    refine g_iconst (v := 2) hc dX0_count_132 (by decide) ?_
    refine g_iload hc dX0_count_133 5 rfl ?_
    refine g_imul hc dX0_count_135 ?_
    refine g_iconst (v := 1) hc dX0_count_136 (by decide) ?_
    refine g_iadd hc dX0_count_137 ?_
    obtain ⟨h12, hf⟩ := oC_some hf
    refine g_bald (n := 8) (f := σ (sb 0 + 4)) hc (XW_s4 (gSl 0 hN (by decide))) h12 dX0_count_138 ?_
    refine g_iadd hc dX0_count_139 ?_
    refine g_istore (lv' := [(5, .int (l5 + (σ (sb 0 + 4) ((2 * l6) + 1).toNatClampNeg))), (0, .ref (ad 0)), (1, .int l1), (3, .int l3), (4, .int l4), (6, .int l6)]) hc dX0_count_140 (by decide) rfl ?_
    refine g_iinc (v := l6 + 1) (lv' := [(6, .int (l6 + 1)), (5, .int (l5 + (σ (sb 0 + 4) ((2 * l6) + 1).toNatClampNeg))), (0, .ref (ad 0)), (1, .int l1), (3, .int l3), (4, .int l4)]) hc dX0_count_142 (j := 5) rfl rfl (by decide) rfl ?_
    refine g_goto (tgt := 111) hc dX0_count_145 (by decide) ?_
    have hz := Option.some.inj hf; subst hz
    exact g_lv [2, 3, 4, 5, 1, 0] rfl (hI111 _ hK)
def f_X0_count_b111 (σ : (Nat → Nat → Int32)) (l1 : Int32) (l3 : Int32) (l4 : Int32) (l5 : Int32) (l6 : Int32) : Option (Int32) :=
  oLoop gFU (fun v : Int32 × Int32 => f_X0_count_L111 σ l1 l3 l4 v.1 v.2) (l5, l6)
theorem w_X0_count_b111 {x : gX} {N : Nat} {ad : Nat → Nat} {tl : va_W} {lam : (Nat → Int64)} (hc : gOk x RX0 cX0_count 7 1 20)  (σ : (Nat → Nat → Int32)) (l1 : Int32) (l3 : Int32) (l4 : Int32) (l5 : Int32) (l6 : Int32) (hN : 36 ≤ N) {K : Int32 → Prop} {o : Int32} (hf : f_X0_count_b111 σ l1 l3 l4 l5 l6 = some o) (hK : K o) (hR : ∀ o : Int32, K o → gRi x 0 0 (XW x.dA N ad σ lam ++ tl) o) : gG x 7 0 0 (XW x.dA N ad σ lam ++ tl) 111 [(0, .ref (ad 0)), (1, .int l1), (3, .int l3), (4, .int l4), (5, .int l5), (6, .int l6)] [] :=
  oLoop_ind (fun v : Int32 × Int32 => gG x 7 0 0 (XW x.dA N ad σ lam ++ tl) 111 [(0, .ref (ad 0)), (1, .int l1), (3, .int l3), (4, .int l4), (5, .int v.1), (6, .int v.2)] []) K (fun v o1 hf1 hK1 => w_X0_count_L111 hc σ l1 l3 l4 v.1 v.2 hN (K := Sum.elim (fun v : Int32 × Int32 => gG x 7 0 0 (XW x.dA N ad σ lam ++ tl) 111 [(0, .ref (ad 0)), (1, .int l1), (3, .int l3), (4, .int l4), (5, .int v.1), (6, .int v.2)] []) K) hf1 hK1 (fun v hv => hv) hR) gFU _ o hf hK
def f_X0_count_b99 (σ : (Nat → Nat → Int32)) (l1 : Int32) (l3 : Int32) (l5 : Int32) (l6 : Int32) (k2 : Int32) (k1 : Int32) : Option ((Int32 × Int32) ⊕ (Int32)) :=
  some (.inl ((k1 + k2), (l6 + 1)))
theorem w_X0_count_b99 {x : gX} {N : Nat} {ad : Nat → Nat} {tl : va_W} {lam : (Nat → Int64)} (hc : gOk x RX0 cX0_count 7 1 20)  (σ : (Nat → Nat → Int32)) (l1 : Int32) (l3 : Int32) (l5 : Int32) (l6 : Int32) (k2 : Int32) (k1 : Int32) (hN : 36 ≤ N) {K : (Int32 × Int32) ⊕ (Int32) → Prop} {o : (Int32 × Int32) ⊕ (Int32)} (hf : f_X0_count_b99 σ l1 l3 l5 l6 k2 k1 = some o) (hK : K o) (hI67 : ∀ v : Int32 × Int32, K (.inl v) → gG x 7 0 0 (XW x.dA N ad σ lam ++ tl) 67 [(0, .ref (ad 0)), (1, .int l1), (3, .int l3), (4, .int v.1), (5, .int l5), (6, .int v.2)] []) (hR : ∀ o : Int32, K (.inr (o)) → gRi x 0 0 (XW x.dA N ad σ lam ++ tl) o) : gG x 7 0 0 (XW x.dA N ad σ lam ++ tl) 99 [(0, .ref (ad 0)), (1, .int l1), (3, .int l3), (5, .int l5), (6, .int l6)] [.int k2, .int k1] := by
  unfold f_X0_count_b99 at hf
  refine g_iadd hc dX0_count_99 ?_
  refine g_istore (lv' := [(4, .int (k1 + k2)), (0, .ref (ad 0)), (1, .int l1), (3, .int l3), (5, .int l5), (6, .int l6)]) hc dX0_count_100 (by decide) rfl ?_
  refine g_iinc (v := l6 + 1) (lv' := [(6, .int (l6 + 1)), (4, .int (k1 + k2)), (0, .ref (ad 0)), (1, .int l1), (3, .int l3), (5, .int l5)]) hc dX0_count_102 (j := 5) rfl rfl (by decide) rfl ?_
  refine g_goto (tgt := 67) hc dX0_count_105 (by decide) ?_
  have hz := Option.some.inj hf; subst hz
  exact g_lv [2, 3, 4, 1, 5, 0] rfl (hI67 _ hK)
def f_X0_count_L67 (σ : (Nat → Nat → Int32)) (l1 : Int32) (l3 : Int32) (l4 : Int32) (l5 : Int32) (l6 : Int32) : Option ((Int32 × Int32) ⊕ (Int32)) :=
  if (σ (sb 0) 0) ≤ l6 then (oI (f_X0_count_b111 σ l1 l3 l4 l5 0)) else (oC (inb l6 7) <| if (σ (sb 0 + 2) l6.toNatClampNeg) = 0 then (f_X0_count_b99 σ l1 l3 l5 l6 1 l4) else (f_X0_count_b99 σ l1 l3 l5 l6 0 l4))
theorem w_X0_count_L67 {x : gX} {N : Nat} {ad : Nat → Nat} {tl : va_W} {lam : (Nat → Int64)} (hc : gOk x RX0 cX0_count 7 1 20)  (σ : (Nat → Nat → Int32)) (l1 : Int32) (l3 : Int32) (l4 : Int32) (l5 : Int32) (l6 : Int32) (hN : 36 ≤ N) {K : (Int32 × Int32) ⊕ (Int32) → Prop} {o : (Int32 × Int32) ⊕ (Int32)} (hf : f_X0_count_L67 σ l1 l3 l4 l5 l6 = some o) (hK : K o) (hI67 : ∀ v : Int32 × Int32, K (.inl v) → gG x 7 0 0 (XW x.dA N ad σ lam ++ tl) 67 [(0, .ref (ad 0)), (1, .int l1), (3, .int l3), (4, .int v.1), (5, .int l5), (6, .int v.2)] []) (hR : ∀ o : Int32, K (.inr (o)) → gRi x 0 0 (XW x.dA N ad σ lam ++ tl) o) : gG x 7 0 0 (XW x.dA N ad σ lam ++ tl) 67 [(0, .ref (ad 0)), (1, .int l1), (3, .int l3), (4, .int l4), (5, .int l5), (6, .int l6)] [] := by
  unfold f_X0_count_L67 at hf
  refine g_iload hc dX0_count_67 5 rfl ?_
  refine g_aload_n hc dX0_count_69 rfl 0 rfl ?_
  refine g_get (v := .ref (ad (sb 0))) hc in_X0 (XW_at (k := 0) (Nat.lt_of_lt_of_le (by decide) hN)) rfl 1 (by decide) q185 rfl dX0_count_70 ?_
  refine g_getN (v := .int (σ (sb 0) 0)) hc in_X5 (XW_s0 (gSl 0 hN (by decide))) rfl 0 (by decide) 1 rfl rfl dX0_count_73 ?_
  refine g_icmp_ge (tgt := 108) hc dX0_count_76 (by decide) (fun h1 => ?_) (fun h1 => ?_)
  · have hf := oT h1 hf
    obtain ⟨o2, hgo2, eo2⟩ := oI_some hf
    clear hf; subst eo2; have hf := hgo2; clear hgo2
    refine g_iconst (v := 0) hc dX0_count_108 (by decide) ?_
    refine g_istore (lv' := [(6, .int 0), (0, .ref (ad 0)), (1, .int l1), (3, .int l3), (4, .int l4), (5, .int l5)]) hc dX0_count_109 (by decide) rfl ?_
    exact g_lv [1, 2, 3, 4, 5, 0] rfl (w_X0_count_b111 hc σ l1 l3 l4 l5 0 hN (K := (fun o1 => K (.inr o1))) hf hK hR)
  · have hf := oF h1 hf
    refine g_iload hc dX0_count_79 3 rfl ?_
    refine g_aload_n hc dX0_count_81 rfl 0 rfl ?_
    refine g_get (v := .ref (ad (sb 0))) hc in_X0 (XW_at (k := 0) (Nat.lt_of_lt_of_le (by decide) hN)) rfl 1 (by decide) q185 rfl dX0_count_82 ?_
    refine g_getN (v := .ref (ad (sb 0 + 2))) hc in_X5 (XW_s0 (gSl 0 hN (by decide))) rfl 2 (by decide) 3 rfl rfl dX0_count_85 ?_
    refine g_iload hc dX0_count_88 5 rfl ?_
    obtain ⟨h3, hf⟩ := oC_some hf
    refine g_bald (n := 7) (f := σ (sb 0 + 2)) hc (XW_s2 (gSl 0 hN (by decide))) h3 dX0_count_90 ?_
    refine g_if_ne (tgt := 98) hc dX0_count_91 (by decide) (fun h4 => ?_) (fun h4 => ?_)
    · have hf := oF h4 hf
      refine g_iconst (v := 0) hc dX0_count_98 (by decide) ?_
      exact g_lv [0, 1, 2, 4, 5] rfl (w_X0_count_b99 hc σ l1 l3 l5 l6 0 l4 hN (K := K) hf hK hI67 hR)
    · have hf := oT h4 hf
      refine g_iconst (v := 1) hc dX0_count_94 (by decide) ?_
      refine g_goto (tgt := 99) hc dX0_count_95 (by decide) ?_
      exact g_lv [0, 1, 2, 4, 5] rfl (w_X0_count_b99 hc σ l1 l3 l5 l6 1 l4 hN (K := K) hf hK hI67 hR)
def f_X0_count_b67 (σ : (Nat → Nat → Int32)) (l1 : Int32) (l3 : Int32) (l4 : Int32) (l5 : Int32) (l6 : Int32) : Option (Int32) :=
  oLoop gFU (fun v : Int32 × Int32 => f_X0_count_L67 σ l1 l3 v.1 l5 v.2) (l4, l6)
theorem w_X0_count_b67 {x : gX} {N : Nat} {ad : Nat → Nat} {tl : va_W} {lam : (Nat → Int64)} (hc : gOk x RX0 cX0_count 7 1 20)  (σ : (Nat → Nat → Int32)) (l1 : Int32) (l3 : Int32) (l4 : Int32) (l5 : Int32) (l6 : Int32) (hN : 36 ≤ N) {K : Int32 → Prop} {o : Int32} (hf : f_X0_count_b67 σ l1 l3 l4 l5 l6 = some o) (hK : K o) (hR : ∀ o : Int32, K o → gRi x 0 0 (XW x.dA N ad σ lam ++ tl) o) : gG x 7 0 0 (XW x.dA N ad σ lam ++ tl) 67 [(0, .ref (ad 0)), (1, .int l1), (3, .int l3), (4, .int l4), (5, .int l5), (6, .int l6)] [] :=
  oLoop_ind (fun v : Int32 × Int32 => gG x 7 0 0 (XW x.dA N ad σ lam ++ tl) 67 [(0, .ref (ad 0)), (1, .int l1), (3, .int l3), (4, .int v.1), (5, .int l5), (6, .int v.2)] []) K (fun v o1 hf1 hK1 => w_X0_count_L67 hc σ l1 l3 v.1 l5 v.2 hN (K := Sum.elim (fun v : Int32 × Int32 => gG x 7 0 0 (XW x.dA N ad σ lam ++ tl) 67 [(0, .ref (ad 0)), (1, .int l1), (3, .int l3), (4, .int v.1), (5, .int l5), (6, .int v.2)] []) K) hf1 hK1 (fun v hv => hv) hR) gFU _ o hf hK
def f_X0_count_b58 (σ : (Nat → Nat → Int32)) (l1 : Int32) (l3 : Int32) : Option (Int32) :=
  f_X0_count_b67 σ l1 l3 0 0 0
theorem w_X0_count_b58 {x : gX} {N : Nat} {ad : Nat → Nat} {tl : va_W} {lam : (Nat → Int64)} (hc : gOk x RX0 cX0_count 7 1 20)  (σ : (Nat → Nat → Int32)) (l1 : Int32) (l3 : Int32) (hN : 36 ≤ N) {K : Int32 → Prop} {o : Int32} (hf : f_X0_count_b58 σ l1 l3 = some o) (hK : K o) (hR : ∀ o : Int32, K o → gRi x 0 0 (XW x.dA N ad σ lam ++ tl) o) : gG x 7 0 0 (XW x.dA N ad σ lam ++ tl) 58 [(0, .ref (ad 0)), (1, .int l1), (3, .int l3)] [] := by
  unfold f_X0_count_b58 at hf
  refine g_iconst (v := 0) hc dX0_count_58 (by decide) ?_
  refine g_istore (lv' := [(4, .int 0), (0, .ref (ad 0)), (1, .int l1), (3, .int l3)]) hc dX0_count_59 (by decide) rfl ?_
  refine g_iconst (v := 0) hc dX0_count_61 (by decide) ?_
  refine g_istore (lv' := [(5, .int 0), (4, .int 0), (0, .ref (ad 0)), (1, .int l1), (3, .int l3)]) hc dX0_count_62 (by decide) rfl ?_
  refine g_iconst (v := 0) hc dX0_count_64 (by decide) ?_
  refine g_istore (lv' := [(6, .int 0), (5, .int 0), (4, .int 0), (0, .ref (ad 0)), (1, .int l1), (3, .int l3)]) hc dX0_count_65 (by decide) rfl ?_
  exact g_lv [3, 4, 5, 2, 1, 0] rfl (w_X0_count_b67 hc σ l1 l3 0 0 0 hN (K := K) hf hK hR)
def szF (b : Option (Nat × Nat × (Nat → Int32))) : Int32 := match b with
  | none => -4
  | some (_, n, _) => Int32.ofNat n
section CNT
variable {kS : gKS}
theorem c_X0_count {l : Launch} {D : va_G} {dA : Nat → ClassId} {ad : Nat → Nat} {tl : va_W} {lam : Nat → Int64} {σ : Nat → Nat → Int32} {r : Nat → Option Nat} {J : Nat → Nat} {sh : gSh} {what o : Int32} (hf : f_X0_count_b58 σ what (szF (sh 0)) = some o) (hW : RwAt dA r tl J sh) : gIz kS l D dA (XW dA 36 ad σ lam ++ (SHc ad r ++ tl)) (XW dA 36 ad σ lam ++ (SHc ad r ++ tl)) [.ref (ad 0), .int what] o yX0_count (ws_ yX0_count cX0_count 7 (some .int)) ({ frames := 1, cells := 0, slots := 0, locals := 20 } : Room) :=
  g_startIz (own := RX0) ⟨rfl, rfl⟩ (by decide) rfl (Nat.le_of_ble_eq_true rfl) (fun x e hc hz hR => by
    subst e
    refine g_aload_n hc dX0_count_0 rfl 0 rfl ?_
    refine g_get (v := .ref (ad 11)) hc in_X0 (XW_at (k := 0) (by decide)) rfl 21 (by decide) q206 rfl dX0_count_1 ?_
    refine g_iconst (v := 0) hc dX0_count_4 (by decide) ?_
    refine g_aald (v := ad 43) hc 6 (XW_at (k := 11) (by decide)) rfl (by decide) rfl dX0_count_5 ?_
    refine g_getN (v := va_rf (r 0)) hc in_X6 (SH_at (k := 0) (by decide)) rfl 0 (by decide) 15 rfl rfl dX0_count_6 ?_
    rcases hW.1 0 (by decide) with ⟨hs, hr⟩ | ⟨q, c, n, f, hs, hr, ht, hty, hn⟩
    · rw [hr]
      rw [hs] at hf
      refine g_astore_nN (lv' := [(2, .null), (0, .ref (ad 0)), (1, .int what)]) hc dX0_count_9 rfl (by decide) rfl ?_
      refine g_aload_nN hc dX0_count_10 rfl 0 rfl ?_
      refine g_instN hc dX0_count_11 ?_
      refine g_if_eq (tgt := 25) hc dX0_count_14 (by decide) (fun _ => ?_) (fun h => absurd rfl h)
      refine g_aload_nN hc dX0_count_25 rfl 0 rfl ?_
      refine g_instN hc dX0_count_26 ?_
      refine g_if_eq (tgt := 40) hc dX0_count_29 (by decide) (fun _ => ?_) (fun h => absurd rfl h)
      refine g_aload_nN hc dX0_count_40 rfl 0 rfl ?_
      refine g_instN hc dX0_count_41 ?_
      refine g_if_eq (tgt := 55) hc dX0_count_44 (by decide) (fun _ => ?_) (fun h => absurd rfl h)
      refine g_bipush (v := -4) hc dX0_count_55 (by decide) ?_
      refine g_istore_n (lv' := [(3, .int (-4)), (2, .null), (0, .ref (ad 0)), (1, .int what)]) hc dX0_count_57 rfl (by decide) rfl ?_
      exact g_lv [2, 3, 0] rfl (w_X0_count_b58 hc σ what (-4) (Nat.le_refl 36) (K := fun o1 => o1 = o) hf rfl (by rintro _ rfl; exact hR))
    · rw [hr]
      rw [hs] at hf
      have he : (XW x.dA 36 ad σ lam ++ (SHc ad r ++ tl))[40 + J 0]? = some (q, .inl (x.dA c, n, .inl f)) := (SH_tl _).trans ht
      have fin : gG x 7 0 0 (XW x.dA 36 ad σ lam ++ (SHc ad r ++ tl)) 57 [(2, .ref q), (0, .ref (ad 0)), (1, .int what)] [.int (Int32.ofNat n)] := by
        refine g_istore_n (lv' := [(3, .int (Int32.ofNat n)), (2, .ref q), (0, .ref (ad 0)), (1, .int what)]) hc dX0_count_57 rfl (by decide) rfl ?_
        exact g_lv [2, 3, 0] rfl (w_X0_count_b58 hc σ what (Int32.ofNat n) (Nat.le_refl 36) (K := fun o1 => o1 = o) hf rfl (by rintro _ rfl; exact hR))
      refine g_astore_n (lv' := [(2, .ref q), (0, .ref (ad 0)), (1, .int what)]) hc dX0_count_9 rfl (by decide) rfl ?_
      refine g_aload_n hc dX0_count_10 rfl 0 rfl ?_
      rcases hty with rfl | rfl | rfl
      · refine g_instY hc he (Or.inl rfl) q920 dX0_count_11 ?_
        refine g_if_eq (tgt := 25) hc dX0_count_14 (by decide) (fun h => absurd h (by decide)) (fun _ => ?_)
        refine g_aload_n hc dX0_count_17 rfl 0 rfl ?_
        refine g_castY hc he (Or.inl rfl) q920 dX0_count_18 ?_
        refine g_alenY hc he (Or.inl rfl) dX0_count_21 ?_
        refine g_goto (tgt := 57) hc dX0_count_22 (by decide) ?_
        exact fin
      · refine g_instNo (c := 3) (c' := 0) hc hz he (Or.inr (Or.inl rfl)) (Or.inl rfl) (by decide) q920 dX0_count_11 ?_
        refine g_if_eq (tgt := 25) hc dX0_count_14 (by decide) (fun _ => ?_) (fun h => absurd rfl h)
        refine g_aload_n hc dX0_count_25 rfl 0 rfl ?_
        refine g_instY hc he (Or.inr (Or.inl rfl)) q921 dX0_count_26 ?_
        refine g_if_eq (tgt := 40) hc dX0_count_29 (by decide) (fun h => absurd h (by decide)) (fun _ => ?_)
        refine g_aload_n hc dX0_count_32 rfl 0 rfl ?_
        refine g_castY hc he (Or.inr (Or.inl rfl)) q921 dX0_count_33 ?_
        refine g_alenY hc he (Or.inr (Or.inl rfl)) dX0_count_36 ?_
        refine g_goto (tgt := 57) hc dX0_count_37 (by decide) ?_
        exact fin
      · refine g_instNo (c := 1) (c' := 0) hc hz he (Or.inr (Or.inr rfl)) (Or.inl rfl) (by decide) q920 dX0_count_11 ?_
        refine g_if_eq (tgt := 25) hc dX0_count_14 (by decide) (fun _ => ?_) (fun h => absurd rfl h)
        refine g_aload_n hc dX0_count_25 rfl 0 rfl ?_
        refine g_instNo (c := 1) (c' := 3) hc hz he (Or.inr (Or.inr rfl)) (Or.inr (Or.inl rfl)) (by decide) q921 dX0_count_26 ?_
        refine g_if_eq (tgt := 40) hc dX0_count_29 (by decide) (fun _ => ?_) (fun h => absurd rfl h)
        refine g_aload_n hc dX0_count_40 rfl 0 rfl ?_
        refine g_instY hc he (Or.inr (Or.inr rfl)) q922 dX0_count_41 ?_
        refine g_if_eq (tgt := 55) hc dX0_count_44 (by decide) (fun h => absurd h (by decide)) (fun _ => ?_)
        refine g_aload_n hc dX0_count_47 rfl 0 rfl ?_
        refine g_castY hc he (Or.inr (Or.inr rfl)) q922 dX0_count_48 ?_
        refine g_alenY hc he (Or.inr (Or.inr rfl)) dX0_count_51 ?_
        refine g_goto (tgt := 57) hc dX0_count_52 (by decide) ?_
        exact fin)
end CNT
