/-! ===== the law's 44 cases (printed by gen/law.py) ===== -/
set_option maxRecDepth 100000
theorem lg_cmp_self (v : Int64) : lg_cmp v v = 0 := by
  unfold lg_cmp
  simp
theorem hd_X0_text : yX0_text.cls = RX0 ∧ yX0_text.cls ≠ "java/lang/invoke/MethodHandle" ∧ yX0_text.cls ≠ "java/lang/invoke/VarHandle" ∧ (parseMethodDescriptor yX0_text.desc).map (fun d => d.parameters.length) = some 0 := by decide +kernel
theorem hd_X0_sheet : yX0_sheet.cls = RX0 ∧ yX0_sheet.cls ≠ "java/lang/invoke/MethodHandle" ∧ yX0_sheet.cls ≠ "java/lang/invoke/VarHandle" ∧ (parseMethodDescriptor yX0_sheet.desc).map (fun d => d.parameters.length) = some 3 := by decide +kernel
theorem hd_X0_write : yX0_write.cls = RX0 ∧ yX0_write.cls ≠ "java/lang/invoke/MethodHandle" ∧ yX0_write.cls ≠ "java/lang/invoke/VarHandle" ∧ (parseMethodDescriptor yX0_write.desc).map (fun d => d.parameters.length) = some 3 := by decide +kernel
theorem hd_X0_read : yX0_read.cls = RX0 ∧ yX0_read.cls ≠ "java/lang/invoke/MethodHandle" ∧ yX0_read.cls ≠ "java/lang/invoke/VarHandle" ∧ (parseMethodDescriptor yX0_read.desc).map (fun d => d.parameters.length) = some 4 := by decide +kernel
theorem hd_X0_count : yX0_count.cls = RX0 ∧ yX0_count.cls ≠ "java/lang/invoke/MethodHandle" ∧ yX0_count.cls ≠ "java/lang/invoke/VarHandle" ∧ (parseMethodDescriptor yX0_count.desc).map (fun d => d.parameters.length) = some 1 := by decide +kernel
theorem lw_case0 {kS : gKS} {x : gX} {b L : Nat} {xs : Nat → Int32} {ad am : Nat → Nat} (hc : gOk x "HedgehogLotsLaw" cL_law 4 24 11014) (hz : gZs kS x.A x.s x.s.heap) (hl0 : x.l.stackTraces = false) (hX : va_X b L xs x.s x.s.heap) (hbl : b < x.s.heap.size) (hbA : ¬ x.A b) (hL : L ≤ 384) (hRc : 603072 ≤ x.R.cells ∧ 7262314 ≤ x.R.slots) {t ca sl : Nat} (ht : t < 64) (h6 : 6 * t + 6 ≤ L) (hca : ca ≤ 53 + 9 * t) (hsl : sl ≤ 1170 + 610 * t) {σ : Nat → Nat → Int32} {lam : Nat → Int64} {r : Nat → Option Nat} {μ : Nat → Nat → Int32} {rows : va_W} {J : Nat → Nat} {sh : gSh} (hR : RX σ μ) (hS : ShR sh μ) (hW : RwAt x.dA r rows J sh) (hN : LwN x b ad am t) : gG x 4 ca sl (WA x.dA ad am σ lam r μ rows) 224 [(0, .ref b), (1, .ref (ad 0)), (2, .ref (am 0)), (3, .int (nI (6 * t)))] [] := by
  obtain ⟨p, hr⟩ := hR
  obtain ⟨hR1, hR2⟩ := hRc
  unfold WA
  obtain ⟨v, s, s', e1, e2, hq⟩ := op_feed hr (xs (nI (6 * t) + 1).toNatClampNeg)
  refine g_aload_n hc dL_law_224 rfl 1 rfl ?_
  refine g_aload_n hc dL_law_225 rfl 0 rfl ?_
  refine g_iload_n hc dL_law_226 rfl 3 rfl ?_
  refine g_iconst (v := 1) hc dL_law_227 (by decide) ?_
  refine g_iadd hc dL_law_228 ?_
  refine g_sld hc hX hbl hbA (sl_in (j := 1) h6 hL (by decide)) dL_law_229 ?_
  refine g_callVi hc [.int (xs (nI (6 * t) + 1).toNatClampNeg)] [] (c_X0_feed (Nat.le_refl 36) e1) (XW_at (k := 0) (by decide)) rfl (lw_V q255 q256 q257 q60 q258) rfl hd_X0_feed rfl rfl (Nat.le_of_ble_eq_true rfl) ⟨by omega, by omega⟩ dL_law_230 ?_
  refine g_aload_n hc dL_law_233 rfl 2 rfl ?_
  refine g_aload_n hc dL_law_234 rfl 0 rfl ?_
  refine g_iload_n hc dL_law_235 rfl 3 rfl ?_
  refine g_iconst (v := 1) hc dL_law_236 (by decide) ?_
  refine g_iadd hc dL_law_237 ?_
  refine g_sld hc hX hbl hbA (sl_in (j := 1) h6 hL (by decide)) dL_law_238 ?_
  refine g_permG (WAB (dA := x.dA) (ad := ad) (am := am) (σ := s) (lam := lam) (r := r) (μ := μ) (rows := rows)) ?_
  unfold WB
  refine g_callVi hc [.int (xs (nI (6 * t) + 1).toNatClampNeg)] [.int v] (c_X7_feed e2) (MW_at (k := 0) (by decide)) rfl (lw_V q1050 q1051 q1052 q67 q1053) rfl hd_X7_feed rfl rfl (Nat.le_of_ble_eq_true rfl) ⟨by omega, by omega⟩ dL_law_239 ?_
  refine g_icmp_eq (tgt := 1628) hc dL_law_242 (by decide) (fun _ => ?_) (fun hne => absurd rfl hne)
  refine g_permG (WAB (dA := x.dA) (ad := ad) (am := am) (σ := s) (lam := lam) (r := r) (μ := s') (rows := rows)).symm ?_
  exact hN ca sl s lam r s' rows J sh (by omega) (by omega) hq (hS.sl (k_X7_feed SL.rf (v, s') e2)) hW
theorem lw_case1 {kS : gKS} {x : gX} {b L : Nat} {xs : Nat → Int32} {ad am : Nat → Nat} (hc : gOk x "HedgehogLotsLaw" cL_law 4 24 11014) (hz : gZs kS x.A x.s x.s.heap) (hl0 : x.l.stackTraces = false) (hX : va_X b L xs x.s x.s.heap) (hbl : b < x.s.heap.size) (hbA : ¬ x.A b) (hL : L ≤ 384) (hRc : 603072 ≤ x.R.cells ∧ 7262314 ≤ x.R.slots) {t ca sl : Nat} (ht : t < 64) (h6 : 6 * t + 6 ≤ L) (hca : ca ≤ 53 + 9 * t) (hsl : sl ≤ 1170 + 610 * t) {σ : Nat → Nat → Int32} {lam : Nat → Int64} {r : Nat → Option Nat} {μ : Nat → Nat → Int32} {rows : va_W} {J : Nat → Nat} {sh : gSh} (hR : RX σ μ) (hS : ShR sh μ) (hW : RwAt x.dA r rows J sh) (hN : LwN x b ad am t) : gG x 4 ca sl (WA x.dA ad am σ lam r μ rows) 247 [(0, .ref b), (1, .ref (ad 0)), (2, .ref (am 0)), (3, .int (nI (6 * t)))] [] := by
  obtain ⟨p, hr⟩ := hR
  obtain ⟨hR1, hR2⟩ := hRc
  unfold WA
  obtain ⟨v, s, s', e1, e2, hq⟩ := op_end hr (xs (nI (6 * t) + 1).toNatClampNeg)
  refine g_aload_n hc dL_law_247 rfl 1 rfl ?_
  refine g_aload_n hc dL_law_248 rfl 0 rfl ?_
  refine g_iload_n hc dL_law_249 rfl 3 rfl ?_
  refine g_iconst (v := 1) hc dL_law_250 (by decide) ?_
  refine g_iadd hc dL_law_251 ?_
  refine g_sld hc hX hbl hbA (sl_in (j := 1) h6 hL (by decide)) dL_law_252 ?_
  refine g_callVi hc [.int (xs (nI (6 * t) + 1).toNatClampNeg)] [] (c_X0_end (Nat.le_refl 36) e1) (XW_at (k := 0) (by decide)) rfl (lw_V q263 q264 q265 q60 q266) rfl hd_X0_end rfl rfl (Nat.le_of_ble_eq_true rfl) ⟨by omega, by omega⟩ dL_law_253 ?_
  refine g_aload_n hc dL_law_256 rfl 2 rfl ?_
  refine g_aload_n hc dL_law_257 rfl 0 rfl ?_
  refine g_iload_n hc dL_law_258 rfl 3 rfl ?_
  refine g_iconst (v := 1) hc dL_law_259 (by decide) ?_
  refine g_iadd hc dL_law_260 ?_
  refine g_sld hc hX hbl hbA (sl_in (j := 1) h6 hL (by decide)) dL_law_261 ?_
  refine g_permG (WAB (dA := x.dA) (ad := ad) (am := am) (σ := s) (lam := lam) (r := r) (μ := μ) (rows := rows)) ?_
  unfold WB
  refine g_callVi hc [.int (xs (nI (6 * t) + 1).toNatClampNeg)] [.int v] (c_X7_end e2) (MW_at (k := 0) (by decide)) rfl (lw_V q1058 q1059 q1060 q67 q1061) rfl hd_X7_end rfl rfl (Nat.le_of_ble_eq_true rfl) ⟨by omega, by omega⟩ dL_law_262 ?_
  refine g_icmp_eq (tgt := 1628) hc dL_law_265 (by decide) (fun _ => ?_) (fun hne => absurd rfl hne)
  refine g_permG (WAB (dA := x.dA) (ad := ad) (am := am) (σ := s) (lam := lam) (r := r) (μ := s') (rows := rows)).symm ?_
  exact hN ca sl s lam r s' rows J sh (by omega) (by omega) hq (hS.sl (k_X7_end SL.rf (v, s') e2)) hW
theorem lw_case2 {kS : gKS} {x : gX} {b L : Nat} {xs : Nat → Int32} {ad am : Nat → Nat} (hc : gOk x "HedgehogLotsLaw" cL_law 4 24 11014) (hz : gZs kS x.A x.s x.s.heap) (hl0 : x.l.stackTraces = false) (hX : va_X b L xs x.s x.s.heap) (hbl : b < x.s.heap.size) (hbA : ¬ x.A b) (hL : L ≤ 384) (hRc : 603072 ≤ x.R.cells ∧ 7262314 ≤ x.R.slots) {t ca sl : Nat} (ht : t < 64) (h6 : 6 * t + 6 ≤ L) (hca : ca ≤ 53 + 9 * t) (hsl : sl ≤ 1170 + 610 * t) {σ : Nat → Nat → Int32} {lam : Nat → Int64} {r : Nat → Option Nat} {μ : Nat → Nat → Int32} {rows : va_W} {J : Nat → Nat} {sh : gSh} (hR : RX σ μ) (hS : ShR sh μ) (hW : RwAt x.dA r rows J sh) (hN : LwN x b ad am t) : gG x 4 ca sl (WA x.dA ad am σ lam r μ rows) 270 [(0, .ref b), (1, .ref (ad 0)), (2, .ref (am 0)), (3, .int (nI (6 * t)))] [] := by
  obtain ⟨p, hr⟩ := hR
  obtain ⟨hR1, hR2⟩ := hRc
  unfold WA
  obtain ⟨v, s, s', e1, e2, hq⟩ := op_text hr
  refine g_aload_n hc dL_law_270 rfl 1 rfl ?_
  refine g_callTiW hc hz [] [] (c_X0_text e1) (XW_at (k := 0) (by decide)) rfl (lw_VW q267 q268 q269 q60 q270) rfl hd_X0_text rfl rfl (Nat.le_of_ble_eq_true rfl) ⟨by omega, by omega⟩ dL_law_271 (fun v1 Φ1 h1 => ?_)
  have g1 : v1 = v := congrArg Prod.fst h1
  have g2 : Φ1 = XW x.dA 36 ad s lam ++ (SHc ad r ++ (MW x.dA am μ ++ rows)) := congrArg Prod.snd h1
  subst g1
  subst g2
  refine g_aload_n hc dL_law_274 rfl 2 rfl ?_
  refine g_permG (WAB (dA := x.dA) (ad := ad) (am := am) (σ := s) (lam := lam) (r := r) (μ := μ) (rows := rows)) ?_
  unfold WB
  refine g_callVi hc [] [.int v1] (c_X7_text e2) (MW_at (k := 0) (by decide)) rfl (lw_V q1062 q1063 q1064 q67 q1065) rfl hd_X7_text rfl rfl (Nat.le_of_ble_eq_true rfl) ⟨by omega, by omega⟩ dL_law_275 ?_
  refine g_icmp_eq (tgt := 1628) hc dL_law_278 (by decide) (fun _ => ?_) (fun hne => absurd rfl hne)
  refine g_permG (WAB (dA := x.dA) (ad := ad) (am := am) (σ := s) (lam := lam) (r := r) (μ := s') (rows := rows)).symm ?_
  exact hN _ _ s lam r s' rows J sh (by omega) (by omega) hq (hS.sl (k_X7_text SL.rf (v1, s') e2)) hW
theorem lw_case3 {kS : gKS} {x : gX} {b L : Nat} {xs : Nat → Int32} {ad am : Nat → Nat} (hc : gOk x "HedgehogLotsLaw" cL_law 4 24 11014) (hz : gZs kS x.A x.s x.s.heap) (hl0 : x.l.stackTraces = false) (hX : va_X b L xs x.s x.s.heap) (hbl : b < x.s.heap.size) (hbA : ¬ x.A b) (hL : L ≤ 384) (hRc : 603072 ≤ x.R.cells ∧ 7262314 ≤ x.R.slots) {t ca sl : Nat} (ht : t < 64) (h6 : 6 * t + 6 ≤ L) (hca : ca ≤ 53 + 9 * t) (hsl : sl ≤ 1170 + 610 * t) {σ : Nat → Nat → Int32} {lam : Nat → Int64} {r : Nat → Option Nat} {μ : Nat → Nat → Int32} {rows : va_W} {J : Nat → Nat} {sh : gSh} (hR : RX σ μ) (hS : ShR sh μ) (hW : RwAt x.dA r rows J sh) (hN : LwN x b ad am t) : gG x 4 ca sl (WA x.dA ad am σ lam r μ rows) 283 [(0, .ref b), (1, .ref (ad 0)), (2, .ref (am 0)), (3, .int (nI (6 * t)))] [] := by
  obtain ⟨p, hr⟩ := hR
  obtain ⟨hR1, hR2⟩ := hRc
  unfold WA
  obtain ⟨v, e1, e2⟩ := op_fault hr
  refine g_aload_n hc dL_law_283 rfl 1 rfl ?_
  refine g_callVi hc [] [] (c_X0_fault (Nat.le_refl 36) e1) (XW_at (k := 0) (by decide)) rfl (lw_V q528 q529 q530 q60 q531) rfl hd_X0_fault rfl rfl (Nat.le_of_ble_eq_true rfl) ⟨by omega, by omega⟩ dL_law_284 ?_
  refine g_aload_n hc dL_law_287 rfl 2 rfl ?_
  refine g_permG (WAB (dA := x.dA) (ad := ad) (am := am) (σ := σ) (lam := lam) (r := r) (μ := μ) (rows := rows)) ?_
  unfold WB
  refine g_callVi hc [] [.int v] (c_X7_fault e2) (MW_at (k := 0) (by decide)) rfl (lw_V q1111 q1112 q1113 q67 q1114) rfl hd_X7_fault rfl rfl (Nat.le_of_ble_eq_true rfl) ⟨by omega, by omega⟩ dL_law_288 ?_
  refine g_icmp_eq (tgt := 1628) hc dL_law_291 (by decide) (fun _ => ?_) (fun hne => absurd rfl hne)
  refine g_permG (WAB (dA := x.dA) (ad := ad) (am := am) (σ := σ) (lam := lam) (r := r) (μ := μ) (rows := rows)).symm ?_
  exact hN ca sl σ lam r μ rows J sh (by omega) (by omega) ⟨p, hr⟩ hS hW
theorem lw_case4 {kS : gKS} {x : gX} {b L : Nat} {xs : Nat → Int32} {ad am : Nat → Nat} (hc : gOk x "HedgehogLotsLaw" cL_law 4 24 11014) (hz : gZs kS x.A x.s x.s.heap) (hl0 : x.l.stackTraces = false) (hX : va_X b L xs x.s x.s.heap) (hbl : b < x.s.heap.size) (hbA : ¬ x.A b) (hL : L ≤ 384) (hRc : 603072 ≤ x.R.cells ∧ 7262314 ≤ x.R.slots) {t ca sl : Nat} (ht : t < 64) (h6 : 6 * t + 6 ≤ L) (hca : ca ≤ 53 + 9 * t) (hsl : sl ≤ 1170 + 610 * t) {σ : Nat → Nat → Int32} {lam : Nat → Int64} {r : Nat → Option Nat} {μ : Nat → Nat → Int32} {rows : va_W} {J : Nat → Nat} {sh : gSh} (hR : RX σ μ) (hS : ShR sh μ) (hW : RwAt x.dA r rows J sh) (hN : LwN x b ad am t) : gG x 4 ca sl (WA x.dA ad am σ lam r μ rows) 296 [(0, .ref b), (1, .ref (ad 0)), (2, .ref (am 0)), (3, .int (nI (6 * t)))] [] := by
  obtain ⟨p, hr⟩ := hR
  obtain ⟨hR1, hR2⟩ := hRc
  unfold WA
  obtain ⟨v, s, s', e1, e2, hq⟩ := op_rule hr (xs (nI (6 * t) + 1).toNatClampNeg)
  refine g_aload_n hc dL_law_296 rfl 1 rfl ?_
  refine g_aload_n hc dL_law_297 rfl 0 rfl ?_
  refine g_iload_n hc dL_law_298 rfl 3 rfl ?_
  refine g_iconst (v := 1) hc dL_law_299 (by decide) ?_
  refine g_iadd hc dL_law_300 ?_
  refine g_sld hc hX hbl hbA (sl_in (j := 1) h6 hL (by decide)) dL_law_301 ?_
  refine g_callVi hc [.int (xs (nI (6 * t) + 1).toNatClampNeg)] [] (c_X0_rule (Nat.le_refl 36) e1) (XW_at (k := 0) (by decide)) rfl (lw_V q532 q533 q534 q60 q535) rfl hd_X0_rule rfl rfl (Nat.le_of_ble_eq_true rfl) ⟨by omega, by omega⟩ dL_law_302 ?_
  refine g_aload_n hc dL_law_305 rfl 2 rfl ?_
  refine g_aload_n hc dL_law_306 rfl 0 rfl ?_
  refine g_iload_n hc dL_law_307 rfl 3 rfl ?_
  refine g_iconst (v := 1) hc dL_law_308 (by decide) ?_
  refine g_iadd hc dL_law_309 ?_
  refine g_sld hc hX hbl hbA (sl_in (j := 1) h6 hL (by decide)) dL_law_310 ?_
  refine g_permG (WAB (dA := x.dA) (ad := ad) (am := am) (σ := s) (lam := lam) (r := r) (μ := μ) (rows := rows)) ?_
  unfold WB
  refine g_callVi hc [.int (xs (nI (6 * t) + 1).toNatClampNeg)] [.int v] (c_X7_rule e2) (MW_at (k := 0) (by decide)) rfl (lw_V q1115 q1116 q1117 q67 q1118) rfl hd_X7_rule rfl rfl (Nat.le_of_ble_eq_true rfl) ⟨by omega, by omega⟩ dL_law_311 ?_
  refine g_icmp_eq (tgt := 1628) hc dL_law_314 (by decide) (fun _ => ?_) (fun hne => absurd rfl hne)
  refine g_permG (WAB (dA := x.dA) (ad := ad) (am := am) (σ := s) (lam := lam) (r := r) (μ := s') (rows := rows)).symm ?_
  exact hN ca sl s lam r s' rows J sh (by omega) (by omega) ⟨p, hq⟩ (hS.sl (k_X7_rule SL.rf (v, s') e2)) hW
theorem lw_case5 {kS : gKS} {x : gX} {b L : Nat} {xs : Nat → Int32} {ad am : Nat → Nat} (hc : gOk x "HedgehogLotsLaw" cL_law 4 24 11014) (hz : gZs kS x.A x.s x.s.heap) (hl0 : x.l.stackTraces = false) (hX : va_X b L xs x.s x.s.heap) (hbl : b < x.s.heap.size) (hbA : ¬ x.A b) (hL : L ≤ 384) (hRc : 603072 ≤ x.R.cells ∧ 7262314 ≤ x.R.slots) {t ca sl : Nat} (ht : t < 64) (h6 : 6 * t + 6 ≤ L) (hca : ca ≤ 53 + 9 * t) (hsl : sl ≤ 1170 + 610 * t) {σ : Nat → Nat → Int32} {lam : Nat → Int64} {r : Nat → Option Nat} {μ : Nat → Nat → Int32} {rows : va_W} {J : Nat → Nat} {sh : gSh} (hR : RX σ μ) (hS : ShR sh μ) (hW : RwAt x.dA r rows J sh) (hN : LwN x b ad am t) : gG x 4 ca sl (WA x.dA ad am σ lam r μ rows) 319 [(0, .ref b), (1, .ref (ad 0)), (2, .ref (am 0)), (3, .int (nI (6 * t)))] [] := by
  obtain ⟨p, hr⟩ := hR
  obtain ⟨hR1, hR2⟩ := hRc
  unfold WA
  obtain ⟨v, s, s', e1, e2, hq⟩ := op_peg hr (xs (nI (6 * t) + 1).toNatClampNeg) (xs (nI (6 * t) + 2).toNatClampNeg)
  refine g_aload_n hc dL_law_319 rfl 1 rfl ?_
  refine g_aload_n hc dL_law_320 rfl 0 rfl ?_
  refine g_iload_n hc dL_law_321 rfl 3 rfl ?_
  refine g_iconst (v := 1) hc dL_law_322 (by decide) ?_
  refine g_iadd hc dL_law_323 ?_
  refine g_sld hc hX hbl hbA (sl_in (j := 1) h6 hL (by decide)) dL_law_324 ?_
  refine g_aload_n hc dL_law_325 rfl 0 rfl ?_
  refine g_iload_n hc dL_law_326 rfl 3 rfl ?_
  refine g_iconst (v := 2) hc dL_law_327 (by decide) ?_
  refine g_iadd hc dL_law_328 ?_
  refine g_sld hc hX hbl hbA (sl_in (j := 2) h6 hL (by decide)) dL_law_329 ?_
  refine g_callVi hc [.int (xs (nI (6 * t) + 1).toNatClampNeg), .int (xs (nI (6 * t) + 2).toNatClampNeg)] [] (c_X0_peg (Nat.le_refl 36) e1) (XW_at (k := 0) (by decide)) rfl (lw_V q605 q606 q607 q60 q608) rfl hd_X0_peg rfl rfl (Nat.le_of_ble_eq_true rfl) ⟨by omega, by omega⟩ dL_law_330 ?_
  refine g_aload_n hc dL_law_333 rfl 2 rfl ?_
  refine g_aload_n hc dL_law_334 rfl 0 rfl ?_
  refine g_iload_n hc dL_law_335 rfl 3 rfl ?_
  refine g_iconst (v := 1) hc dL_law_336 (by decide) ?_
  refine g_iadd hc dL_law_337 ?_
  refine g_sld hc hX hbl hbA (sl_in (j := 1) h6 hL (by decide)) dL_law_338 ?_
  refine g_aload_n hc dL_law_339 rfl 0 rfl ?_
  refine g_iload_n hc dL_law_340 rfl 3 rfl ?_
  refine g_iconst (v := 2) hc dL_law_341 (by decide) ?_
  refine g_iadd hc dL_law_342 ?_
  refine g_sld hc hX hbl hbA (sl_in (j := 2) h6 hL (by decide)) dL_law_343 ?_
  refine g_permG (WAB (dA := x.dA) (ad := ad) (am := am) (σ := s) (lam := lam) (r := r) (μ := μ) (rows := rows)) ?_
  unfold WB
  refine g_callVi hc [.int (xs (nI (6 * t) + 1).toNatClampNeg), .int (xs (nI (6 * t) + 2).toNatClampNeg)] [.int v] (c_X7_peg e2) (MW_at (k := 0) (by decide)) rfl (lw_V q1145 q1146 q1147 q67 q1148) rfl hd_X7_peg rfl rfl (Nat.le_of_ble_eq_true rfl) ⟨by omega, by omega⟩ dL_law_344 ?_
  refine g_icmp_eq (tgt := 1628) hc dL_law_347 (by decide) (fun _ => ?_) (fun hne => absurd rfl hne)
  refine g_permG (WAB (dA := x.dA) (ad := ad) (am := am) (σ := s) (lam := lam) (r := r) (μ := s') (rows := rows)).symm ?_
  exact hN ca sl s lam r s' rows J sh (by omega) (by omega) ⟨p, hq⟩ (hS.sl (k_X7_peg SL.rf (v, s') e2)) hW
theorem lw_case6 {kS : gKS} {x : gX} {b L : Nat} {xs : Nat → Int32} {ad am : Nat → Nat} (hc : gOk x "HedgehogLotsLaw" cL_law 4 24 11014) (hz : gZs kS x.A x.s x.s.heap) (hl0 : x.l.stackTraces = false) (hX : va_X b L xs x.s x.s.heap) (hbl : b < x.s.heap.size) (hbA : ¬ x.A b) (hL : L ≤ 384) (hRc : 603072 ≤ x.R.cells ∧ 7262314 ≤ x.R.slots) {t ca sl : Nat} (ht : t < 64) (h6 : 6 * t + 6 ≤ L) (hca : ca ≤ 53 + 9 * t) (hsl : sl ≤ 1170 + 610 * t) {σ : Nat → Nat → Int32} {lam : Nat → Int64} {r : Nat → Option Nat} {μ : Nat → Nat → Int32} {rows : va_W} {J : Nat → Nat} {sh : gSh} (hR : RX σ μ) (hS : ShR sh μ) (hW : RwAt x.dA r rows J sh) (hN : LwN x b ad am t) : gG x 4 ca sl (WA x.dA ad am σ lam r μ rows) 352 [(0, .ref b), (1, .ref (ad 0)), (2, .ref (am 0)), (3, .int (nI (6 * t)))] [] := by
  obtain ⟨p, hr⟩ := hR
  obtain ⟨hR1, hR2⟩ := hRc
  unfold WA
  obtain ⟨v, e1, e2⟩ := op_slug hr (xs (nI (6 * t) + 1).toNatClampNeg)
  refine g_aload_n hc dL_law_352 rfl 1 rfl ?_
  refine g_aload_n hc dL_law_353 rfl 0 rfl ?_
  refine g_iload_n hc dL_law_354 rfl 3 rfl ?_
  refine g_iconst (v := 1) hc dL_law_355 (by decide) ?_
  refine g_iadd hc dL_law_356 ?_
  refine g_sld hc hX hbl hbA (sl_in (j := 1) h6 hL (by decide)) dL_law_357 ?_
  refine g_callVi hc [.int (xs (nI (6 * t) + 1).toNatClampNeg)] [] (c_X0_slug (Nat.le_refl 36) e1) (XW_at (k := 0) (by decide)) rfl (lw_V q614 q615 q616 q60 q617) rfl hd_X0_slug rfl rfl (Nat.le_of_ble_eq_true rfl) ⟨by omega, by omega⟩ dL_law_358 ?_
  refine g_aload_n hc dL_law_361 rfl 2 rfl ?_
  refine g_aload_n hc dL_law_362 rfl 0 rfl ?_
  refine g_iload_n hc dL_law_363 rfl 3 rfl ?_
  refine g_iconst (v := 1) hc dL_law_364 (by decide) ?_
  refine g_iadd hc dL_law_365 ?_
  refine g_sld hc hX hbl hbA (sl_in (j := 1) h6 hL (by decide)) dL_law_366 ?_
  refine g_permG (WAB (dA := x.dA) (ad := ad) (am := am) (σ := σ) (lam := lam) (r := r) (μ := μ) (rows := rows)) ?_
  unfold WB
  refine g_callVi hc [.int (xs (nI (6 * t) + 1).toNatClampNeg)] [.int v] (c_X7_slug e2) (MW_at (k := 0) (by decide)) rfl (lw_V q1154 q1155 q1156 q67 q1157) rfl hd_X7_slug rfl rfl (Nat.le_of_ble_eq_true rfl) ⟨by omega, by omega⟩ dL_law_367 ?_
  refine g_icmp_eq (tgt := 1628) hc dL_law_370 (by decide) (fun _ => ?_) (fun hne => absurd rfl hne)
  refine g_permG (WAB (dA := x.dA) (ad := ad) (am := am) (σ := σ) (lam := lam) (r := r) (μ := μ) (rows := rows)).symm ?_
  exact hN ca sl σ lam r μ rows J sh (by omega) (by omega) ⟨p, hr⟩ hS hW
theorem lw_case7 {kS : gKS} {x : gX} {b L : Nat} {xs : Nat → Int32} {ad am : Nat → Nat} (hc : gOk x "HedgehogLotsLaw" cL_law 4 24 11014) (hz : gZs kS x.A x.s x.s.heap) (hl0 : x.l.stackTraces = false) (hX : va_X b L xs x.s x.s.heap) (hbl : b < x.s.heap.size) (hbA : ¬ x.A b) (hL : L ≤ 384) (hRc : 603072 ≤ x.R.cells ∧ 7262314 ≤ x.R.slots) {t ca sl : Nat} (ht : t < 64) (h6 : 6 * t + 6 ≤ L) (hca : ca ≤ 53 + 9 * t) (hsl : sl ≤ 1170 + 610 * t) {σ : Nat → Nat → Int32} {lam : Nat → Int64} {r : Nat → Option Nat} {μ : Nat → Nat → Int32} {rows : va_W} {J : Nat → Nat} {sh : gSh} (hR : RX σ μ) (hS : ShR sh μ) (hW : RwAt x.dA r rows J sh) (hN : LwN x b ad am t) : gG x 4 ca sl (WA x.dA ad am σ lam r μ rows) 375 [(0, .ref b), (1, .ref (ad 0)), (2, .ref (am 0)), (3, .int (nI (6 * t)))] [] := by
  obtain ⟨p, hr⟩ := hR
  obtain ⟨hR1, hR2⟩ := hRc
  unfold WA
  obtain ⟨v, s, s', e1, e2, hq⟩ := op_hedgehog hr (xs (nI (6 * t) + 1).toNatClampNeg) (xs (nI (6 * t) + 2).toNatClampNeg)
  refine g_aload_n hc dL_law_375 rfl 1 rfl ?_
  refine g_aload_n hc dL_law_376 rfl 0 rfl ?_
  refine g_iload_n hc dL_law_377 rfl 3 rfl ?_
  refine g_iconst (v := 1) hc dL_law_378 (by decide) ?_
  refine g_iadd hc dL_law_379 ?_
  refine g_sld hc hX hbl hbA (sl_in (j := 1) h6 hL (by decide)) dL_law_380 ?_
  refine g_aload_n hc dL_law_381 rfl 0 rfl ?_
  refine g_iload_n hc dL_law_382 rfl 3 rfl ?_
  refine g_iconst (v := 2) hc dL_law_383 (by decide) ?_
  refine g_iadd hc dL_law_384 ?_
  refine g_sld hc hX hbl hbA (sl_in (j := 2) h6 hL (by decide)) dL_law_385 ?_
  refine g_callVi hc [.int (xs (nI (6 * t) + 1).toNatClampNeg), .int (xs (nI (6 * t) + 2).toNatClampNeg)] [] (c_X0_hedgehog (Nat.le_refl 36) e1) (XW_at (k := 0) (by decide)) rfl (lw_V q618 q619 q620 q60 q621) rfl hd_X0_hedgehog rfl rfl (Nat.le_of_ble_eq_true rfl) ⟨by omega, by omega⟩ dL_law_386 ?_
  refine g_aload_n hc dL_law_389 rfl 2 rfl ?_
  refine g_aload_n hc dL_law_390 rfl 0 rfl ?_
  refine g_iload_n hc dL_law_391 rfl 3 rfl ?_
  refine g_iconst (v := 1) hc dL_law_392 (by decide) ?_
  refine g_iadd hc dL_law_393 ?_
  refine g_sld hc hX hbl hbA (sl_in (j := 1) h6 hL (by decide)) dL_law_394 ?_
  refine g_aload_n hc dL_law_395 rfl 0 rfl ?_
  refine g_iload_n hc dL_law_396 rfl 3 rfl ?_
  refine g_iconst (v := 2) hc dL_law_397 (by decide) ?_
  refine g_iadd hc dL_law_398 ?_
  refine g_sld hc hX hbl hbA (sl_in (j := 2) h6 hL (by decide)) dL_law_399 ?_
  refine g_permG (WAB (dA := x.dA) (ad := ad) (am := am) (σ := s) (lam := lam) (r := r) (μ := μ) (rows := rows)) ?_
  unfold WB
  refine g_callVi hc [.int (xs (nI (6 * t) + 1).toNatClampNeg), .int (xs (nI (6 * t) + 2).toNatClampNeg)] [.int v] (c_X7_hedgehog e2) (MW_at (k := 0) (by decide)) rfl (lw_V q1158 q1159 q1160 q67 q1161) rfl hd_X7_hedgehog rfl rfl (Nat.le_of_ble_eq_true rfl) ⟨by omega, by omega⟩ dL_law_400 ?_
  refine g_icmp_eq (tgt := 1628) hc dL_law_403 (by decide) (fun _ => ?_) (fun hne => absurd rfl hne)
  refine g_permG (WAB (dA := x.dA) (ad := ad) (am := am) (σ := s) (lam := lam) (r := r) (μ := s') (rows := rows)).symm ?_
  exact hN ca sl s lam r s' rows J sh (by omega) (by omega) ⟨p, hq⟩ (hS.sl (k_X7_hedgehog SL.rf (v, s') e2)) hW
theorem lw_case8 {kS : gKS} {x : gX} {b L : Nat} {xs : Nat → Int32} {ad am : Nat → Nat} (hc : gOk x "HedgehogLotsLaw" cL_law 4 24 11014) (hz : gZs kS x.A x.s x.s.heap) (hl0 : x.l.stackTraces = false) (hX : va_X b L xs x.s x.s.heap) (hbl : b < x.s.heap.size) (hbA : ¬ x.A b) (hL : L ≤ 384) (hRc : 603072 ≤ x.R.cells ∧ 7262314 ≤ x.R.slots) {t ca sl : Nat} (ht : t < 64) (h6 : 6 * t + 6 ≤ L) (hca : ca ≤ 53 + 9 * t) (hsl : sl ≤ 1170 + 610 * t) {σ : Nat → Nat → Int32} {lam : Nat → Int64} {r : Nat → Option Nat} {μ : Nat → Nat → Int32} {rows : va_W} {J : Nat → Nat} {sh : gSh} (hR : RX σ μ) (hS : ShR sh μ) (hW : RwAt x.dA r rows J sh) (hN : LwN x b ad am t) : gG x 4 ca sl (WA x.dA ad am σ lam r μ rows) 408 [(0, .ref b), (1, .ref (ad 0)), (2, .ref (am 0)), (3, .int (nI (6 * t)))] [] := by
  obtain ⟨p, hr⟩ := hR
  obtain ⟨hR1, hR2⟩ := hRc
  unfold WA
  obtain ⟨v, s, s', e1, e2, hq⟩ := op_suit hr (xs (nI (6 * t) + 1).toNatClampNeg) (xs (nI (6 * t) + 2).toNatClampNeg)
  refine g_aload_n hc dL_law_408 rfl 1 rfl ?_
  refine g_aload_n hc dL_law_409 rfl 0 rfl ?_
  refine g_iload_n hc dL_law_410 rfl 3 rfl ?_
  refine g_iconst (v := 1) hc dL_law_411 (by decide) ?_
  refine g_iadd hc dL_law_412 ?_
  refine g_sld hc hX hbl hbA (sl_in (j := 1) h6 hL (by decide)) dL_law_413 ?_
  refine g_aload_n hc dL_law_414 rfl 0 rfl ?_
  refine g_iload_n hc dL_law_415 rfl 3 rfl ?_
  refine g_iconst (v := 2) hc dL_law_416 (by decide) ?_
  refine g_iadd hc dL_law_417 ?_
  refine g_sld hc hX hbl hbA (sl_in (j := 2) h6 hL (by decide)) dL_law_418 ?_
  refine g_callVi hc [.int (xs (nI (6 * t) + 1).toNatClampNeg), .int (xs (nI (6 * t) + 2).toNatClampNeg)] [] (c_X0_suit (Nat.le_refl 36) e1) (XW_at (k := 0) (by decide)) rfl (lw_V q627 q628 q629 q60 q630) rfl hd_X0_suit rfl rfl (Nat.le_of_ble_eq_true rfl) ⟨by omega, by omega⟩ dL_law_419 ?_
  refine g_aload_n hc dL_law_422 rfl 2 rfl ?_
  refine g_aload_n hc dL_law_423 rfl 0 rfl ?_
  refine g_iload_n hc dL_law_424 rfl 3 rfl ?_
  refine g_iconst (v := 1) hc dL_law_425 (by decide) ?_
  refine g_iadd hc dL_law_426 ?_
  refine g_sld hc hX hbl hbA (sl_in (j := 1) h6 hL (by decide)) dL_law_427 ?_
  refine g_aload_n hc dL_law_428 rfl 0 rfl ?_
  refine g_iload_n hc dL_law_429 rfl 3 rfl ?_
  refine g_iconst (v := 2) hc dL_law_430 (by decide) ?_
  refine g_iadd hc dL_law_431 ?_
  refine g_sld hc hX hbl hbA (sl_in (j := 2) h6 hL (by decide)) dL_law_432 ?_
  refine g_permG (WAB (dA := x.dA) (ad := ad) (am := am) (σ := s) (lam := lam) (r := r) (μ := μ) (rows := rows)) ?_
  unfold WB
  refine g_callVi hc [.int (xs (nI (6 * t) + 1).toNatClampNeg), .int (xs (nI (6 * t) + 2).toNatClampNeg)] [.int v] (c_X7_suit e2) (MW_at (k := 0) (by decide)) rfl (lw_V q1167 q1168 q1169 q67 q1170) rfl hd_X7_suit rfl rfl (Nat.le_of_ble_eq_true rfl) ⟨by omega, by omega⟩ dL_law_433 ?_
  refine g_icmp_eq (tgt := 1628) hc dL_law_436 (by decide) (fun _ => ?_) (fun hne => absurd rfl hne)
  refine g_permG (WAB (dA := x.dA) (ad := ad) (am := am) (σ := s) (lam := lam) (r := r) (μ := s') (rows := rows)).symm ?_
  exact hN ca sl s lam r s' rows J sh (by omega) (by omega) ⟨p, hq⟩ (hS.sl (k_X7_suit SL.rf (v, s') e2)) hW
theorem lw_case9 {kS : gKS} {x : gX} {b L : Nat} {xs : Nat → Int32} {ad am : Nat → Nat} (hc : gOk x "HedgehogLotsLaw" cL_law 4 24 11014) (hz : gZs kS x.A x.s x.s.heap) (hl0 : x.l.stackTraces = false) (hX : va_X b L xs x.s x.s.heap) (hbl : b < x.s.heap.size) (hbA : ¬ x.A b) (hL : L ≤ 384) (hRc : 603072 ≤ x.R.cells ∧ 7262314 ≤ x.R.slots) {t ca sl : Nat} (ht : t < 64) (h6 : 6 * t + 6 ≤ L) (hca : ca ≤ 53 + 9 * t) (hsl : sl ≤ 1170 + 610 * t) {σ : Nat → Nat → Int32} {lam : Nat → Int64} {r : Nat → Option Nat} {μ : Nat → Nat → Int32} {rows : va_W} {J : Nat → Nat} {sh : gSh} (hR : RX σ μ) (hS : ShR sh μ) (hW : RwAt x.dA r rows J sh) (hN : LwN x b ad am t) : gG x 4 ca sl (WA x.dA ad am σ lam r μ rows) 441 [(0, .ref b), (1, .ref (ad 0)), (2, .ref (am 0)), (3, .int (nI (6 * t)))] [] := by
  obtain ⟨p, hr⟩ := hR
  obtain ⟨hR1, hR2⟩ := hRc
  unfold WA
  obtain ⟨v, s, s', e1, e2, hq⟩ := op_shift hr (xs (nI (6 * t) + 1).toNatClampNeg) (xs (nI (6 * t) + 2).toNatClampNeg)
  refine g_aload_n hc dL_law_441 rfl 1 rfl ?_
  refine g_aload_n hc dL_law_442 rfl 0 rfl ?_
  refine g_iload_n hc dL_law_443 rfl 3 rfl ?_
  refine g_iconst (v := 1) hc dL_law_444 (by decide) ?_
  refine g_iadd hc dL_law_445 ?_
  refine g_sld hc hX hbl hbA (sl_in (j := 1) h6 hL (by decide)) dL_law_446 ?_
  refine g_aload_n hc dL_law_447 rfl 0 rfl ?_
  refine g_iload_n hc dL_law_448 rfl 3 rfl ?_
  refine g_iconst (v := 2) hc dL_law_449 (by decide) ?_
  refine g_iadd hc dL_law_450 ?_
  refine g_sld hc hX hbl hbA (sl_in (j := 2) h6 hL (by decide)) dL_law_451 ?_
  refine g_callVi hc [.int (xs (nI (6 * t) + 1).toNatClampNeg), .int (xs (nI (6 * t) + 2).toNatClampNeg)] [] (c_X0_shift (Nat.le_refl 36) e1) (XW_at (k := 0) (by decide)) rfl (lw_V q631 q632 q633 q60 q634) rfl hd_X0_shift rfl rfl (Nat.le_of_ble_eq_true rfl) ⟨by omega, by omega⟩ dL_law_452 ?_
  refine g_aload_n hc dL_law_455 rfl 2 rfl ?_
  refine g_aload_n hc dL_law_456 rfl 0 rfl ?_
  refine g_iload_n hc dL_law_457 rfl 3 rfl ?_
  refine g_iconst (v := 1) hc dL_law_458 (by decide) ?_
  refine g_iadd hc dL_law_459 ?_
  refine g_sld hc hX hbl hbA (sl_in (j := 1) h6 hL (by decide)) dL_law_460 ?_
  refine g_aload_n hc dL_law_461 rfl 0 rfl ?_
  refine g_iload_n hc dL_law_462 rfl 3 rfl ?_
  refine g_iconst (v := 2) hc dL_law_463 (by decide) ?_
  refine g_iadd hc dL_law_464 ?_
  refine g_sld hc hX hbl hbA (sl_in (j := 2) h6 hL (by decide)) dL_law_465 ?_
  refine g_permG (WAB (dA := x.dA) (ad := ad) (am := am) (σ := s) (lam := lam) (r := r) (μ := μ) (rows := rows)) ?_
  unfold WB
  refine g_callVi hc [.int (xs (nI (6 * t) + 1).toNatClampNeg), .int (xs (nI (6 * t) + 2).toNatClampNeg)] [.int v] (c_X7_shift e2) (MW_at (k := 0) (by decide)) rfl (lw_V q1175 q1176 q1177 q67 q1178) rfl hd_X7_shift rfl rfl (Nat.le_of_ble_eq_true rfl) ⟨by omega, by omega⟩ dL_law_466 ?_
  refine g_icmp_eq (tgt := 1628) hc dL_law_469 (by decide) (fun _ => ?_) (fun hne => absurd rfl hne)
  refine g_permG (WAB (dA := x.dA) (ad := ad) (am := am) (σ := s) (lam := lam) (r := r) (μ := s') (rows := rows)).symm ?_
  exact hN ca sl s lam r s' rows J sh (by omega) (by omega) hq (hS.sl (k_X7_shift SL.rf (v, s') e2)) hW
theorem lw_case10 {kS : gKS} {x : gX} {b L : Nat} {xs : Nat → Int32} {ad am : Nat → Nat} (hc : gOk x "HedgehogLotsLaw" cL_law 4 24 11014) (hz : gZs kS x.A x.s x.s.heap) (hl0 : x.l.stackTraces = false) (hX : va_X b L xs x.s x.s.heap) (hbl : b < x.s.heap.size) (hbA : ¬ x.A b) (hL : L ≤ 384) (hRc : 603072 ≤ x.R.cells ∧ 7262314 ≤ x.R.slots) {t ca sl : Nat} (ht : t < 64) (h6 : 6 * t + 6 ≤ L) (hca : ca ≤ 53 + 9 * t) (hsl : sl ≤ 1170 + 610 * t) {σ : Nat → Nat → Int32} {lam : Nat → Int64} {r : Nat → Option Nat} {μ : Nat → Nat → Int32} {rows : va_W} {J : Nat → Nat} {sh : gSh} (hR : RX σ μ) (hS : ShR sh μ) (hW : RwAt x.dA r rows J sh) (hN : LwN x b ad am t) : gG x 4 ca sl (WA x.dA ad am σ lam r μ rows) 474 [(0, .ref b), (1, .ref (ad 0)), (2, .ref (am 0)), (3, .int (nI (6 * t)))] [] := by
  obtain ⟨p, hr⟩ := hR
  obtain ⟨hR1, hR2⟩ := hRc
  unfold WA
  obtain ⟨v, s, s', e1, e2, hq⟩ := op_rag hr (xs (nI (6 * t) + 1).toNatClampNeg) (xs (nI (6 * t) + 2).toNatClampNeg)
  refine g_aload_n hc dL_law_474 rfl 1 rfl ?_
  refine g_aload_n hc dL_law_475 rfl 0 rfl ?_
  refine g_iload_n hc dL_law_476 rfl 3 rfl ?_
  refine g_iconst (v := 1) hc dL_law_477 (by decide) ?_
  refine g_iadd hc dL_law_478 ?_
  refine g_sld hc hX hbl hbA (sl_in (j := 1) h6 hL (by decide)) dL_law_479 ?_
  refine g_aload_n hc dL_law_480 rfl 0 rfl ?_
  refine g_iload_n hc dL_law_481 rfl 3 rfl ?_
  refine g_iconst (v := 2) hc dL_law_482 (by decide) ?_
  refine g_iadd hc dL_law_483 ?_
  refine g_sld hc hX hbl hbA (sl_in (j := 2) h6 hL (by decide)) dL_law_484 ?_
  refine g_callVi hc [.int (xs (nI (6 * t) + 1).toNatClampNeg), .int (xs (nI (6 * t) + 2).toNatClampNeg)] [] (c_X0_rag (Nat.le_refl 36) e1) (XW_at (k := 0) (by decide)) rfl (lw_V q637 q638 q639 q60 q640) rfl hd_X0_rag rfl rfl (Nat.le_of_ble_eq_true rfl) ⟨by omega, by omega⟩ dL_law_485 ?_
  refine g_aload_n hc dL_law_488 rfl 2 rfl ?_
  refine g_aload_n hc dL_law_489 rfl 0 rfl ?_
  refine g_iload_n hc dL_law_490 rfl 3 rfl ?_
  refine g_iconst (v := 1) hc dL_law_491 (by decide) ?_
  refine g_iadd hc dL_law_492 ?_
  refine g_sld hc hX hbl hbA (sl_in (j := 1) h6 hL (by decide)) dL_law_493 ?_
  refine g_aload_n hc dL_law_494 rfl 0 rfl ?_
  refine g_iload_n hc dL_law_495 rfl 3 rfl ?_
  refine g_iconst (v := 2) hc dL_law_496 (by decide) ?_
  refine g_iadd hc dL_law_497 ?_
  refine g_sld hc hX hbl hbA (sl_in (j := 2) h6 hL (by decide)) dL_law_498 ?_
  refine g_permG (WAB (dA := x.dA) (ad := ad) (am := am) (σ := s) (lam := lam) (r := r) (μ := μ) (rows := rows)) ?_
  unfold WB
  refine g_callVi hc [.int (xs (nI (6 * t) + 1).toNatClampNeg), .int (xs (nI (6 * t) + 2).toNatClampNeg)] [.int v] (c_X7_rag e2) (MW_at (k := 0) (by decide)) rfl (lw_V q1190 q1191 q1192 q67 q1193) rfl hd_X7_rag rfl rfl (Nat.le_of_ble_eq_true rfl) ⟨by omega, by omega⟩ dL_law_499 ?_
  refine g_icmp_eq (tgt := 1628) hc dL_law_502 (by decide) (fun _ => ?_) (fun hne => absurd rfl hne)
  refine g_permG (WAB (dA := x.dA) (ad := ad) (am := am) (σ := s) (lam := lam) (r := r) (μ := s') (rows := rows)).symm ?_
  exact hN ca sl s lam r s' rows J sh (by omega) (by omega) hq (hS.sl (k_X7_rag SL.rf (v, s') e2)) hW
theorem lw_case11 {kS : gKS} {x : gX} {b L : Nat} {xs : Nat → Int32} {ad am : Nat → Nat} (hc : gOk x "HedgehogLotsLaw" cL_law 4 24 11014) (hz : gZs kS x.A x.s x.s.heap) (hl0 : x.l.stackTraces = false) (hX : va_X b L xs x.s x.s.heap) (hbl : b < x.s.heap.size) (hbA : ¬ x.A b) (hL : L ≤ 384) (hRc : 603072 ≤ x.R.cells ∧ 7262314 ≤ x.R.slots) {t ca sl : Nat} (ht : t < 64) (h6 : 6 * t + 6 ≤ L) (hca : ca ≤ 53 + 9 * t) (hsl : sl ≤ 1170 + 610 * t) {σ : Nat → Nat → Int32} {lam : Nat → Int64} {r : Nat → Option Nat} {μ : Nat → Nat → Int32} {rows : va_W} {J : Nat → Nat} {sh : gSh} (hR : RX σ μ) (hS : ShR sh μ) (hW : RwAt x.dA r rows J sh) (hN : LwN x b ad am t) : gG x 4 ca sl (WA x.dA ad am σ lam r μ rows) 507 [(0, .ref b), (1, .ref (ad 0)), (2, .ref (am 0)), (3, .int (nI (6 * t)))] [] := by
  obtain ⟨p, hr⟩ := hR
  obtain ⟨hR1, hR2⟩ := hRc
  unfold WA
  obtain ⟨v, s, s', e1, e2, hq⟩ := op_alter hr (xs (nI (6 * t) + 1).toNatClampNeg) (xs (nI (6 * t) + 2).toNatClampNeg) (xs (nI (6 * t) + 3).toNatClampNeg)
  refine g_aload_n hc dL_law_507 rfl 1 rfl ?_
  refine g_aload_n hc dL_law_508 rfl 0 rfl ?_
  refine g_iload_n hc dL_law_509 rfl 3 rfl ?_
  refine g_iconst (v := 1) hc dL_law_510 (by decide) ?_
  refine g_iadd hc dL_law_511 ?_
  refine g_sld hc hX hbl hbA (sl_in (j := 1) h6 hL (by decide)) dL_law_512 ?_
  refine g_aload_n hc dL_law_513 rfl 0 rfl ?_
  refine g_iload_n hc dL_law_514 rfl 3 rfl ?_
  refine g_iconst (v := 2) hc dL_law_515 (by decide) ?_
  refine g_iadd hc dL_law_516 ?_
  refine g_sld hc hX hbl hbA (sl_in (j := 2) h6 hL (by decide)) dL_law_517 ?_
  refine g_aload_n hc dL_law_518 rfl 0 rfl ?_
  refine g_iload_n hc dL_law_519 rfl 3 rfl ?_
  refine g_iconst (v := 3) hc dL_law_520 (by decide) ?_
  refine g_iadd hc dL_law_521 ?_
  refine g_sld hc hX hbl hbA (sl_in (j := 3) h6 hL (by decide)) dL_law_522 ?_
  refine g_callVi hc [.int (xs (nI (6 * t) + 1).toNatClampNeg), .int (xs (nI (6 * t) + 2).toNatClampNeg), .int (xs (nI (6 * t) + 3).toNatClampNeg)] [] (c_X0_alter (Nat.le_refl 36) e1) (XW_at (k := 0) (by decide)) rfl (lw_V q644 q645 q646 q60 q647) rfl hd_X0_alter rfl rfl (Nat.le_of_ble_eq_true rfl) ⟨by omega, by omega⟩ dL_law_523 ?_
  refine g_aload_n hc dL_law_526 rfl 2 rfl ?_
  refine g_aload_n hc dL_law_527 rfl 0 rfl ?_
  refine g_iload_n hc dL_law_528 rfl 3 rfl ?_
  refine g_iconst (v := 1) hc dL_law_529 (by decide) ?_
  refine g_iadd hc dL_law_530 ?_
  refine g_sld hc hX hbl hbA (sl_in (j := 1) h6 hL (by decide)) dL_law_531 ?_
  refine g_aload_n hc dL_law_532 rfl 0 rfl ?_
  refine g_iload_n hc dL_law_533 rfl 3 rfl ?_
  refine g_iconst (v := 2) hc dL_law_534 (by decide) ?_
  refine g_iadd hc dL_law_535 ?_
  refine g_sld hc hX hbl hbA (sl_in (j := 2) h6 hL (by decide)) dL_law_536 ?_
  refine g_aload_n hc dL_law_537 rfl 0 rfl ?_
  refine g_iload_n hc dL_law_538 rfl 3 rfl ?_
  refine g_iconst (v := 3) hc dL_law_539 (by decide) ?_
  refine g_iadd hc dL_law_540 ?_
  refine g_sld hc hX hbl hbA (sl_in (j := 3) h6 hL (by decide)) dL_law_541 ?_
  refine g_permG (WAB (dA := x.dA) (ad := ad) (am := am) (σ := s) (lam := lam) (r := r) (μ := μ) (rows := rows)) ?_
  unfold WB
  refine g_callVi hc [.int (xs (nI (6 * t) + 1).toNatClampNeg), .int (xs (nI (6 * t) + 2).toNatClampNeg), .int (xs (nI (6 * t) + 3).toNatClampNeg)] [.int v] (c_X7_alter e2) (MW_at (k := 0) (by decide)) rfl (lw_V q1197 q1198 q1199 q67 q1200) rfl hd_X7_alter rfl rfl (Nat.le_of_ble_eq_true rfl) ⟨by omega, by omega⟩ dL_law_542 ?_
  refine g_icmp_eq (tgt := 1628) hc dL_law_545 (by decide) (fun _ => ?_) (fun hne => absurd rfl hne)
  refine g_permG (WAB (dA := x.dA) (ad := ad) (am := am) (σ := s) (lam := lam) (r := r) (μ := s') (rows := rows)).symm ?_
  exact hN ca sl s lam r s' rows J sh (by omega) (by omega) hq (hS.sl (k_X7_alter SL.rf (v, s') e2)) hW
theorem lw_case12 {kS : gKS} {x : gX} {b L : Nat} {xs : Nat → Int32} {ad am : Nat → Nat} (hc : gOk x "HedgehogLotsLaw" cL_law 4 24 11014) (hz : gZs kS x.A x.s x.s.heap) (hl0 : x.l.stackTraces = false) (hX : va_X b L xs x.s x.s.heap) (hbl : b < x.s.heap.size) (hbA : ¬ x.A b) (hL : L ≤ 384) (hRc : 603072 ≤ x.R.cells ∧ 7262314 ≤ x.R.slots) {t ca sl : Nat} (ht : t < 64) (h6 : 6 * t + 6 ≤ L) (hca : ca ≤ 53 + 9 * t) (hsl : sl ≤ 1170 + 610 * t) {σ : Nat → Nat → Int32} {lam : Nat → Int64} {r : Nat → Option Nat} {μ : Nat → Nat → Int32} {rows : va_W} {J : Nat → Nat} {sh : gSh} (hR : RX σ μ) (hS : ShR sh μ) (hW : RwAt x.dA r rows J sh) (hN : LwN x b ad am t) : gG x 4 ca sl (WA x.dA ad am σ lam r μ rows) 550 [(0, .ref b), (1, .ref (ad 0)), (2, .ref (am 0)), (3, .int (nI (6 * t)))] [] := by
  obtain ⟨p, hr⟩ := hR
  obtain ⟨hR1, hR2⟩ := hRc
  unfold WA
  obtain ⟨v, s, s', e1, e2, hq⟩ := op_drive hr (xs (nI (6 * t) + 1).toNatClampNeg) (xs (nI (6 * t) + 2).toNatClampNeg)
  have e2 : f_X7_drive μ (xs (nI (6 * t) + 1).toNatClampNeg) (xs (nI (6 * t) + 2).toNatClampNeg) = some (v, s') := by
    unfold f_X7_drive
    rw [e2]
    rfl
  refine g_aload_n hc dL_law_550 rfl 1 rfl ?_
  refine g_aload_n hc dL_law_551 rfl 0 rfl ?_
  refine g_iload_n hc dL_law_552 rfl 3 rfl ?_
  refine g_iconst (v := 1) hc dL_law_553 (by decide) ?_
  refine g_iadd hc dL_law_554 ?_
  refine g_sld hc hX hbl hbA (sl_in (j := 1) h6 hL (by decide)) dL_law_555 ?_
  refine g_aload_n hc dL_law_556 rfl 0 rfl ?_
  refine g_iload_n hc dL_law_557 rfl 3 rfl ?_
  refine g_iconst (v := 2) hc dL_law_558 (by decide) ?_
  refine g_iadd hc dL_law_559 ?_
  refine g_sld hc hX hbl hbA (sl_in (j := 2) h6 hL (by decide)) dL_law_560 ?_
  refine g_callVi hc [.int (xs (nI (6 * t) + 1).toNatClampNeg), .int (xs (nI (6 * t) + 2).toNatClampNeg)] [] (c_X0_drive (Nat.le_refl 36) e1) (XW_at (k := 0) (by decide)) rfl (lw_V q649 q650 q651 q60 q652) rfl hd_X0_drive rfl rfl (Nat.le_of_ble_eq_true rfl) ⟨by omega, by omega⟩ dL_law_561 ?_
  refine g_aload_n hc dL_law_564 rfl 2 rfl ?_
  refine g_aload_n hc dL_law_565 rfl 0 rfl ?_
  refine g_iload_n hc dL_law_566 rfl 3 rfl ?_
  refine g_iconst (v := 1) hc dL_law_567 (by decide) ?_
  refine g_iadd hc dL_law_568 ?_
  refine g_sld hc hX hbl hbA (sl_in (j := 1) h6 hL (by decide)) dL_law_569 ?_
  refine g_aload_n hc dL_law_570 rfl 0 rfl ?_
  refine g_iload_n hc dL_law_571 rfl 3 rfl ?_
  refine g_iconst (v := 2) hc dL_law_572 (by decide) ?_
  refine g_iadd hc dL_law_573 ?_
  refine g_sld hc hX hbl hbA (sl_in (j := 2) h6 hL (by decide)) dL_law_574 ?_
  refine g_permG (WAB (dA := x.dA) (ad := ad) (am := am) (σ := s) (lam := lam) (r := r) (μ := μ) (rows := rows)) ?_
  unfold WB
  refine g_callVi hc [.int (xs (nI (6 * t) + 1).toNatClampNeg), .int (xs (nI (6 * t) + 2).toNatClampNeg)] [.int v] (c_X7_drive e2) (MW_at (k := 0) (by decide)) rfl (lw_V q1202 q1203 q1204 q67 q1205) rfl hd_X7_drive rfl rfl (Nat.le_of_ble_eq_true rfl) ⟨by omega, by omega⟩ dL_law_575 ?_
  refine g_icmp_eq (tgt := 1628) hc dL_law_578 (by decide) (fun _ => ?_) (fun hne => absurd rfl hne)
  refine g_permG (WAB (dA := x.dA) (ad := ad) (am := am) (σ := s) (lam := lam) (r := r) (μ := s') (rows := rows)).symm ?_
  exact hN ca sl s lam r s' rows J sh (by omega) (by omega) hq (hS.sl (k_X7_drive SL.rf (v, s') e2)) hW
theorem lw_case13 {kS : gKS} {x : gX} {b L : Nat} {xs : Nat → Int32} {ad am : Nat → Nat} (hc : gOk x "HedgehogLotsLaw" cL_law 4 24 11014) (hz : gZs kS x.A x.s x.s.heap) (hl0 : x.l.stackTraces = false) (hX : va_X b L xs x.s x.s.heap) (hbl : b < x.s.heap.size) (hbA : ¬ x.A b) (hL : L ≤ 384) (hRc : 603072 ≤ x.R.cells ∧ 7262314 ≤ x.R.slots) {t ca sl : Nat} (ht : t < 64) (h6 : 6 * t + 6 ≤ L) (hca : ca ≤ 53 + 9 * t) (hsl : sl ≤ 1170 + 610 * t) {σ : Nat → Nat → Int32} {lam : Nat → Int64} {r : Nat → Option Nat} {μ : Nat → Nat → Int32} {rows : va_W} {J : Nat → Nat} {sh : gSh} (hR : RX σ μ) (hS : ShR sh μ) (hW : RwAt x.dA r rows J sh) (hN : LwN x b ad am t) : gG x 4 ca sl (WA x.dA ad am σ lam r μ rows) 583 [(0, .ref b), (1, .ref (ad 0)), (2, .ref (am 0)), (3, .int (nI (6 * t)))] [] := by
  obtain ⟨p, hr⟩ := hR
  obtain ⟨hR1, hR2⟩ := hRc
  unfold WA
  obtain ⟨v, s, s', e1, e2, hq⟩ := op_lay hr (xs (nI (6 * t) + 1).toNatClampNeg)
  refine g_aload_n hc dL_law_583 rfl 1 rfl ?_
  refine g_aload_n hc dL_law_584 rfl 0 rfl ?_
  refine g_iload_n hc dL_law_585 rfl 3 rfl ?_
  refine g_iconst (v := 1) hc dL_law_586 (by decide) ?_
  refine g_iadd hc dL_law_587 ?_
  refine g_sld hc hX hbl hbA (sl_in (j := 1) h6 hL (by decide)) dL_law_588 ?_
  refine g_callVi hc [.int (xs (nI (6 * t) + 1).toNatClampNeg)] [] (c_X0_lay (Nat.le_refl 36) e1) (XW_at (k := 0) (by decide)) rfl (lw_V q654 q655 q656 q60 q657) rfl hd_X0_lay rfl rfl (Nat.le_of_ble_eq_true rfl) ⟨by omega, by omega⟩ dL_law_589 ?_
  refine g_aload_n hc dL_law_592 rfl 2 rfl ?_
  refine g_aload_n hc dL_law_593 rfl 0 rfl ?_
  refine g_iload_n hc dL_law_594 rfl 3 rfl ?_
  refine g_iconst (v := 1) hc dL_law_595 (by decide) ?_
  refine g_iadd hc dL_law_596 ?_
  refine g_sld hc hX hbl hbA (sl_in (j := 1) h6 hL (by decide)) dL_law_597 ?_
  refine g_permG (WAB (dA := x.dA) (ad := ad) (am := am) (σ := s) (lam := lam) (r := r) (μ := μ) (rows := rows)) ?_
  unfold WB
  refine g_callVi hc [.int (xs (nI (6 * t) + 1).toNatClampNeg)] [.int v] (c_X7_lay e2) (MW_at (k := 0) (by decide)) rfl (lw_V q1214 q1215 q1216 q67 q1217) rfl hd_X7_lay rfl rfl (Nat.le_of_ble_eq_true rfl) ⟨by omega, by omega⟩ dL_law_598 ?_
  refine g_icmp_eq (tgt := 1628) hc dL_law_601 (by decide) (fun _ => ?_) (fun hne => absurd rfl hne)
  refine g_permG (WAB (dA := x.dA) (ad := ad) (am := am) (σ := s) (lam := lam) (r := r) (μ := s') (rows := rows)).symm ?_
  exact hN ca sl s lam r s' rows J sh (by omega) (by omega) hq (hS.sl (k_X7_lay SL.rf (v, s') e2)) hW
theorem lw_case14 {kS : gKS} {x : gX} {b L : Nat} {xs : Nat → Int32} {ad am : Nat → Nat} (hc : gOk x "HedgehogLotsLaw" cL_law 4 24 11014) (hz : gZs kS x.A x.s x.s.heap) (hl0 : x.l.stackTraces = false) (hX : va_X b L xs x.s x.s.heap) (hbl : b < x.s.heap.size) (hbA : ¬ x.A b) (hL : L ≤ 384) (hRc : 603072 ≤ x.R.cells ∧ 7262314 ≤ x.R.slots) {t ca sl : Nat} (ht : t < 64) (h6 : 6 * t + 6 ≤ L) (hca : ca ≤ 53 + 9 * t) (hsl : sl ≤ 1170 + 610 * t) {σ : Nat → Nat → Int32} {lam : Nat → Int64} {r : Nat → Option Nat} {μ : Nat → Nat → Int32} {rows : va_W} {J : Nat → Nat} {sh : gSh} (hR : RX σ μ) (hS : ShR sh μ) (hW : RwAt x.dA r rows J sh) (hN : LwN x b ad am t) : gG x 4 ca sl (WA x.dA ad am σ lam r μ rows) 606 [(0, .ref b), (1, .ref (ad 0)), (2, .ref (am 0)), (3, .int (nI (6 * t)))] [] := by
  obtain ⟨p, hr⟩ := hR
  obtain ⟨hR1, hR2⟩ := hRc
  unfold WA
  obtain ⟨v, s, s', e1, e2, hq⟩ := op_clear hr (xs (nI (6 * t) + 1).toNatClampNeg)
  refine g_aload_n hc dL_law_606 rfl 1 rfl ?_
  refine g_aload_n hc dL_law_607 rfl 0 rfl ?_
  refine g_iload_n hc dL_law_608 rfl 3 rfl ?_
  refine g_iconst (v := 1) hc dL_law_609 (by decide) ?_
  refine g_iadd hc dL_law_610 ?_
  refine g_sld hc hX hbl hbA (sl_in (j := 1) h6 hL (by decide)) dL_law_611 ?_
  refine g_callVi hc [.int (xs (nI (6 * t) + 1).toNatClampNeg)] [] (c_X0_clear (Nat.le_refl 36) e1) (XW_at (k := 0) (by decide)) rfl (lw_V q659 q660 q661 q60 q662) rfl hd_X0_clear rfl rfl (Nat.le_of_ble_eq_true rfl) ⟨by omega, by omega⟩ dL_law_612 ?_
  refine g_aload_n hc dL_law_615 rfl 2 rfl ?_
  refine g_aload_n hc dL_law_616 rfl 0 rfl ?_
  refine g_iload_n hc dL_law_617 rfl 3 rfl ?_
  refine g_iconst (v := 1) hc dL_law_618 (by decide) ?_
  refine g_iadd hc dL_law_619 ?_
  refine g_sld hc hX hbl hbA (sl_in (j := 1) h6 hL (by decide)) dL_law_620 ?_
  refine g_permG (WAB (dA := x.dA) (ad := ad) (am := am) (σ := s) (lam := lam) (r := r) (μ := μ) (rows := rows)) ?_
  unfold WB
  refine g_callVi hc [.int (xs (nI (6 * t) + 1).toNatClampNeg)] [.int v] (c_X7_clear e2) (MW_at (k := 0) (by decide)) rfl (lw_V q1222 q1223 q1224 q67 q1225) rfl hd_X7_clear rfl rfl (Nat.le_of_ble_eq_true rfl) ⟨by omega, by omega⟩ dL_law_621 ?_
  refine g_icmp_eq (tgt := 1628) hc dL_law_624 (by decide) (fun _ => ?_) (fun hne => absurd rfl hne)
  refine g_permG (WAB (dA := x.dA) (ad := ad) (am := am) (σ := s) (lam := lam) (r := r) (μ := s') (rows := rows)).symm ?_
  exact hN ca sl s lam r s' rows J sh (by omega) (by omega) hq (hS.sl (k_X7_clear SL.rf (v, s') e2)) hW
theorem lw_case15 {kS : gKS} {x : gX} {b L : Nat} {xs : Nat → Int32} {ad am : Nat → Nat} (hc : gOk x "HedgehogLotsLaw" cL_law 4 24 11014) (hz : gZs kS x.A x.s x.s.heap) (hl0 : x.l.stackTraces = false) (hX : va_X b L xs x.s x.s.heap) (hbl : b < x.s.heap.size) (hbA : ¬ x.A b) (hL : L ≤ 384) (hRc : 603072 ≤ x.R.cells ∧ 7262314 ≤ x.R.slots) {t ca sl : Nat} (ht : t < 64) (h6 : 6 * t + 6 ≤ L) (hca : ca ≤ 53 + 9 * t) (hsl : sl ≤ 1170 + 610 * t) {σ : Nat → Nat → Int32} {lam : Nat → Int64} {r : Nat → Option Nat} {μ : Nat → Nat → Int32} {rows : va_W} {J : Nat → Nat} {sh : gSh} (hR : RX σ μ) (hS : ShR sh μ) (hW : RwAt x.dA r rows J sh) (hN : LwN x b ad am t) : gG x 4 ca sl (WA x.dA ad am σ lam r μ rows) 629 [(0, .ref b), (1, .ref (ad 0)), (2, .ref (am 0)), (3, .int (nI (6 * t)))] [] := by
  obtain ⟨p, hr⟩ := hR
  obtain ⟨hR1, hR2⟩ := hRc
  unfold WA
  obtain ⟨v, s, s', e1, e2, hq⟩ := op_sue hr (xs (nI (6 * t) + 1).toNatClampNeg) (xs (nI (6 * t) + 2).toNatClampNeg)
  refine g_aload_n hc dL_law_629 rfl 1 rfl ?_
  refine g_aload_n hc dL_law_630 rfl 0 rfl ?_
  refine g_iload_n hc dL_law_631 rfl 3 rfl ?_
  refine g_iconst (v := 1) hc dL_law_632 (by decide) ?_
  refine g_iadd hc dL_law_633 ?_
  refine g_sld hc hX hbl hbA (sl_in (j := 1) h6 hL (by decide)) dL_law_634 ?_
  refine g_aload_n hc dL_law_635 rfl 0 rfl ?_
  refine g_iload_n hc dL_law_636 rfl 3 rfl ?_
  refine g_iconst (v := 2) hc dL_law_637 (by decide) ?_
  refine g_iadd hc dL_law_638 ?_
  refine g_sld hc hX hbl hbA (sl_in (j := 2) h6 hL (by decide)) dL_law_639 ?_
  refine g_callVi hc [.int (xs (nI (6 * t) + 1).toNatClampNeg), .int (xs (nI (6 * t) + 2).toNatClampNeg)] [] (c_X0_sue (Nat.le_refl 36) e1) (XW_at (k := 0) (by decide)) rfl (lw_V q663 q664 q665 q60 q666) rfl hd_X0_sue rfl rfl (Nat.le_of_ble_eq_true rfl) ⟨by omega, by omega⟩ dL_law_640 ?_
  refine g_aload_n hc dL_law_643 rfl 2 rfl ?_
  refine g_aload_n hc dL_law_644 rfl 0 rfl ?_
  refine g_iload_n hc dL_law_645 rfl 3 rfl ?_
  refine g_iconst (v := 1) hc dL_law_646 (by decide) ?_
  refine g_iadd hc dL_law_647 ?_
  refine g_sld hc hX hbl hbA (sl_in (j := 1) h6 hL (by decide)) dL_law_648 ?_
  refine g_aload_n hc dL_law_649 rfl 0 rfl ?_
  refine g_iload_n hc dL_law_650 rfl 3 rfl ?_
  refine g_iconst (v := 2) hc dL_law_651 (by decide) ?_
  refine g_iadd hc dL_law_652 ?_
  refine g_sld hc hX hbl hbA (sl_in (j := 2) h6 hL (by decide)) dL_law_653 ?_
  refine g_permG (WAB (dA := x.dA) (ad := ad) (am := am) (σ := s) (lam := lam) (r := r) (μ := μ) (rows := rows)) ?_
  unfold WB
  refine g_callVi hc [.int (xs (nI (6 * t) + 1).toNatClampNeg), .int (xs (nI (6 * t) + 2).toNatClampNeg)] [.int v] (c_X7_sue e2) (MW_at (k := 0) (by decide)) rfl (lw_V q1226 q1227 q1228 q67 q1229) rfl hd_X7_sue rfl rfl (Nat.le_of_ble_eq_true rfl) ⟨by omega, by omega⟩ dL_law_654 ?_
  refine g_icmp_eq (tgt := 1628) hc dL_law_657 (by decide) (fun _ => ?_) (fun hne => absurd rfl hne)
  refine g_permG (WAB (dA := x.dA) (ad := ad) (am := am) (σ := s) (lam := lam) (r := r) (μ := s') (rows := rows)).symm ?_
  exact hN ca sl s lam r s' rows J sh (by omega) (by omega) hq (hS.sl (k_X7_sue SL.rf (v, s') e2)) hW
theorem lw_case16 {kS : gKS} {x : gX} {b L : Nat} {xs : Nat → Int32} {ad am : Nat → Nat} (hc : gOk x "HedgehogLotsLaw" cL_law 4 24 11014) (hz : gZs kS x.A x.s x.s.heap) (hl0 : x.l.stackTraces = false) (hX : va_X b L xs x.s x.s.heap) (hbl : b < x.s.heap.size) (hbA : ¬ x.A b) (hL : L ≤ 384) (hRc : 603072 ≤ x.R.cells ∧ 7262314 ≤ x.R.slots) {t ca sl : Nat} (ht : t < 64) (h6 : 6 * t + 6 ≤ L) (hca : ca ≤ 53 + 9 * t) (hsl : sl ≤ 1170 + 610 * t) {σ : Nat → Nat → Int32} {lam : Nat → Int64} {r : Nat → Option Nat} {μ : Nat → Nat → Int32} {rows : va_W} {J : Nat → Nat} {sh : gSh} (hR : RX σ μ) (hS : ShR sh μ) (hW : RwAt x.dA r rows J sh) (hN : LwN x b ad am t) : gG x 4 ca sl (WA x.dA ad am σ lam r μ rows) 662 [(0, .ref b), (1, .ref (ad 0)), (2, .ref (am 0)), (3, .int (nI (6 * t)))] [] := by
  obtain ⟨p, hr⟩ := hR
  obtain ⟨hR1, hR2⟩ := hRc
  unfold WA
  obtain ⟨v, s, s', e1, e2, hq⟩ := op_drop hr (xs (nI (6 * t) + 1).toNatClampNeg)
  refine g_aload_n hc dL_law_662 rfl 1 rfl ?_
  refine g_aload_n hc dL_law_663 rfl 0 rfl ?_
  refine g_iload_n hc dL_law_664 rfl 3 rfl ?_
  refine g_iconst (v := 1) hc dL_law_665 (by decide) ?_
  refine g_iadd hc dL_law_666 ?_
  refine g_sld hc hX hbl hbA (sl_in (j := 1) h6 hL (by decide)) dL_law_667 ?_
  refine g_callVi hc [.int (xs (nI (6 * t) + 1).toNatClampNeg)] [] (c_X0_drop (Nat.le_refl 36) e1) (XW_at (k := 0) (by decide)) rfl (lw_V q675 q676 q677 q60 q678) rfl hd_X0_drop rfl rfl (Nat.le_of_ble_eq_true rfl) ⟨by omega, by omega⟩ dL_law_668 ?_
  refine g_aload_n hc dL_law_671 rfl 2 rfl ?_
  refine g_aload_n hc dL_law_672 rfl 0 rfl ?_
  refine g_iload_n hc dL_law_673 rfl 3 rfl ?_
  refine g_iconst (v := 1) hc dL_law_674 (by decide) ?_
  refine g_iadd hc dL_law_675 ?_
  refine g_sld hc hX hbl hbA (sl_in (j := 1) h6 hL (by decide)) dL_law_676 ?_
  refine g_permG (WAB (dA := x.dA) (ad := ad) (am := am) (σ := s) (lam := lam) (r := r) (μ := μ) (rows := rows)) ?_
  unfold WB
  refine g_callVi hc [.int (xs (nI (6 * t) + 1).toNatClampNeg)] [.int v] (c_X7_drop e2) (MW_at (k := 0) (by decide)) rfl (lw_V q1234 q1235 q1236 q67 q1237) rfl hd_X7_drop rfl rfl (Nat.le_of_ble_eq_true rfl) ⟨by omega, by omega⟩ dL_law_677 ?_
  refine g_icmp_eq (tgt := 1628) hc dL_law_680 (by decide) (fun _ => ?_) (fun hne => absurd rfl hne)
  refine g_permG (WAB (dA := x.dA) (ad := ad) (am := am) (σ := s) (lam := lam) (r := r) (μ := s') (rows := rows)).symm ?_
  exact hN ca sl s lam r s' rows J sh (by omega) (by omega) hq (hS.sl (k_X7_drop SL.rf (v, s') e2)) hW
theorem lw_case17 {kS : gKS} {x : gX} {b L : Nat} {xs : Nat → Int32} {ad am : Nat → Nat} (hc : gOk x "HedgehogLotsLaw" cL_law 4 24 11014) (hz : gZs kS x.A x.s x.s.heap) (hl0 : x.l.stackTraces = false) (hX : va_X b L xs x.s x.s.heap) (hbl : b < x.s.heap.size) (hbA : ¬ x.A b) (hL : L ≤ 384) (hRc : 603072 ≤ x.R.cells ∧ 7262314 ≤ x.R.slots) {t ca sl : Nat} (ht : t < 64) (h6 : 6 * t + 6 ≤ L) (hca : ca ≤ 53 + 9 * t) (hsl : sl ≤ 1170 + 610 * t) {σ : Nat → Nat → Int32} {lam : Nat → Int64} {r : Nat → Option Nat} {μ : Nat → Nat → Int32} {rows : va_W} {J : Nat → Nat} {sh : gSh} (hR : RX σ μ) (hS : ShR sh μ) (hW : RwAt x.dA r rows J sh) (hN : LwN x b ad am t) : gG x 4 ca sl (WA x.dA ad am σ lam r μ rows) 685 [(0, .ref b), (1, .ref (ad 0)), (2, .ref (am 0)), (3, .int (nI (6 * t)))] [] := by
  obtain ⟨p, hr⟩ := hR
  obtain ⟨hR1, hR2⟩ := hRc
  unfold WA
  obtain ⟨v, s, s', e1, e2, hq⟩ := op_run hr (xs (nI (6 * t) + 1).toNatClampNeg) (xs (nI (6 * t) + 2).toNatClampNeg) (xs (nI (6 * t) + 3).toNatClampNeg)
  refine g_aload_n hc dL_law_685 rfl 1 rfl ?_
  refine g_aload_n hc dL_law_686 rfl 0 rfl ?_
  refine g_iload_n hc dL_law_687 rfl 3 rfl ?_
  refine g_iconst (v := 1) hc dL_law_688 (by decide) ?_
  refine g_iadd hc dL_law_689 ?_
  refine g_sld hc hX hbl hbA (sl_in (j := 1) h6 hL (by decide)) dL_law_690 ?_
  refine g_aload_n hc dL_law_691 rfl 0 rfl ?_
  refine g_iload_n hc dL_law_692 rfl 3 rfl ?_
  refine g_iconst (v := 2) hc dL_law_693 (by decide) ?_
  refine g_iadd hc dL_law_694 ?_
  refine g_sld hc hX hbl hbA (sl_in (j := 2) h6 hL (by decide)) dL_law_695 ?_
  refine g_aload_n hc dL_law_696 rfl 0 rfl ?_
  refine g_iload_n hc dL_law_697 rfl 3 rfl ?_
  refine g_iconst (v := 3) hc dL_law_698 (by decide) ?_
  refine g_iadd hc dL_law_699 ?_
  refine g_sld hc hX hbl hbA (sl_in (j := 3) h6 hL (by decide)) dL_law_700 ?_
  refine g_callVi hc [.int (xs (nI (6 * t) + 1).toNatClampNeg), .int (xs (nI (6 * t) + 2).toNatClampNeg), .int (xs (nI (6 * t) + 3).toNatClampNeg)] [] (c_X0_run (Nat.le_refl 36) e1) (XW_at (k := 0) (by decide)) rfl (lw_V q679 q680 q681 q60 q682) rfl hd_X0_run rfl rfl (Nat.le_of_ble_eq_true rfl) ⟨by omega, by omega⟩ dL_law_701 ?_
  refine g_aload_n hc dL_law_704 rfl 2 rfl ?_
  refine g_aload_n hc dL_law_705 rfl 0 rfl ?_
  refine g_iload_n hc dL_law_706 rfl 3 rfl ?_
  refine g_iconst (v := 1) hc dL_law_707 (by decide) ?_
  refine g_iadd hc dL_law_708 ?_
  refine g_sld hc hX hbl hbA (sl_in (j := 1) h6 hL (by decide)) dL_law_709 ?_
  refine g_aload_n hc dL_law_710 rfl 0 rfl ?_
  refine g_iload_n hc dL_law_711 rfl 3 rfl ?_
  refine g_iconst (v := 2) hc dL_law_712 (by decide) ?_
  refine g_iadd hc dL_law_713 ?_
  refine g_sld hc hX hbl hbA (sl_in (j := 2) h6 hL (by decide)) dL_law_714 ?_
  refine g_aload_n hc dL_law_715 rfl 0 rfl ?_
  refine g_iload_n hc dL_law_716 rfl 3 rfl ?_
  refine g_iconst (v := 3) hc dL_law_717 (by decide) ?_
  refine g_iadd hc dL_law_718 ?_
  refine g_sld hc hX hbl hbA (sl_in (j := 3) h6 hL (by decide)) dL_law_719 ?_
  refine g_permG (WAB (dA := x.dA) (ad := ad) (am := am) (σ := s) (lam := lam) (r := r) (μ := μ) (rows := rows)) ?_
  unfold WB
  refine g_callVi hc [.int (xs (nI (6 * t) + 1).toNatClampNeg), .int (xs (nI (6 * t) + 2).toNatClampNeg), .int (xs (nI (6 * t) + 3).toNatClampNeg)] [.int v] (c_X7_run e2) (MW_at (k := 0) (by decide)) rfl (lw_V q1238 q1239 q1240 q67 q1241) rfl hd_X7_run rfl rfl (Nat.le_of_ble_eq_true rfl) ⟨by omega, by omega⟩ dL_law_720 ?_
  refine g_icmp_eq (tgt := 1628) hc dL_law_723 (by decide) (fun _ => ?_) (fun hne => absurd rfl hne)
  refine g_permG (WAB (dA := x.dA) (ad := ad) (am := am) (σ := s) (lam := lam) (r := r) (μ := s') (rows := rows)).symm ?_
  exact hN ca sl s lam r s' rows J sh (by omega) (by omega) ⟨p, hq⟩ (hS.sl (k_X7_run SL.rf (v, s') e2)) hW
theorem lw_case18 {kS : gKS} {x : gX} {b L : Nat} {xs : Nat → Int32} {ad am : Nat → Nat} (hc : gOk x "HedgehogLotsLaw" cL_law 4 24 11014) (hz : gZs kS x.A x.s x.s.heap) (hl0 : x.l.stackTraces = false) (hX : va_X b L xs x.s x.s.heap) (hbl : b < x.s.heap.size) (hbA : ¬ x.A b) (hL : L ≤ 384) (hRc : 603072 ≤ x.R.cells ∧ 7262314 ≤ x.R.slots) {t ca sl : Nat} (ht : t < 64) (h6 : 6 * t + 6 ≤ L) (hca : ca ≤ 53 + 9 * t) (hsl : sl ≤ 1170 + 610 * t) {σ : Nat → Nat → Int32} {lam : Nat → Int64} {r : Nat → Option Nat} {μ : Nat → Nat → Int32} {rows : va_W} {J : Nat → Nat} {sh : gSh} (hR : RX σ μ) (hS : ShR sh μ) (hW : RwAt x.dA r rows J sh) (hN : LwN x b ad am t) : gG x 4 ca sl (WA x.dA ad am σ lam r μ rows) 728 [(0, .ref b), (1, .ref (ad 0)), (2, .ref (am 0)), (3, .int (nI (6 * t)))] [] := by
  obtain ⟨p, hr⟩ := hR
  obtain ⟨hR1, hR2⟩ := hRc
  unfold WA
  obtain ⟨v, s, s', e1, e2, hq⟩ := op_way hr (xs (nI (6 * t) + 1).toNatClampNeg) (xs (nI (6 * t) + 2).toNatClampNeg) (xs (nI (6 * t) + 3).toNatClampNeg)
  refine g_aload_n hc dL_law_728 rfl 1 rfl ?_
  refine g_aload_n hc dL_law_729 rfl 0 rfl ?_
  refine g_iload_n hc dL_law_730 rfl 3 rfl ?_
  refine g_iconst (v := 1) hc dL_law_731 (by decide) ?_
  refine g_iadd hc dL_law_732 ?_
  refine g_sld hc hX hbl hbA (sl_in (j := 1) h6 hL (by decide)) dL_law_733 ?_
  refine g_aload_n hc dL_law_734 rfl 0 rfl ?_
  refine g_iload_n hc dL_law_735 rfl 3 rfl ?_
  refine g_iconst (v := 2) hc dL_law_736 (by decide) ?_
  refine g_iadd hc dL_law_737 ?_
  refine g_sld hc hX hbl hbA (sl_in (j := 2) h6 hL (by decide)) dL_law_738 ?_
  refine g_aload_n hc dL_law_739 rfl 0 rfl ?_
  refine g_iload_n hc dL_law_740 rfl 3 rfl ?_
  refine g_iconst (v := 3) hc dL_law_741 (by decide) ?_
  refine g_iadd hc dL_law_742 ?_
  refine g_sld hc hX hbl hbA (sl_in (j := 3) h6 hL (by decide)) dL_law_743 ?_
  refine g_callVi hc [.int (xs (nI (6 * t) + 1).toNatClampNeg), .int (xs (nI (6 * t) + 2).toNatClampNeg), .int (xs (nI (6 * t) + 3).toNatClampNeg)] [] (c_X0_way (Nat.le_refl 36) e1) (XW_at (k := 0) (by decide)) rfl (lw_V q684 q685 q686 q60 q687) rfl hd_X0_way rfl rfl (Nat.le_of_ble_eq_true rfl) ⟨by omega, by omega⟩ dL_law_744 ?_
  refine g_aload_n hc dL_law_747 rfl 2 rfl ?_
  refine g_aload_n hc dL_law_748 rfl 0 rfl ?_
  refine g_iload_n hc dL_law_749 rfl 3 rfl ?_
  refine g_iconst (v := 1) hc dL_law_750 (by decide) ?_
  refine g_iadd hc dL_law_751 ?_
  refine g_sld hc hX hbl hbA (sl_in (j := 1) h6 hL (by decide)) dL_law_752 ?_
  refine g_aload_n hc dL_law_753 rfl 0 rfl ?_
  refine g_iload_n hc dL_law_754 rfl 3 rfl ?_
  refine g_iconst (v := 2) hc dL_law_755 (by decide) ?_
  refine g_iadd hc dL_law_756 ?_
  refine g_sld hc hX hbl hbA (sl_in (j := 2) h6 hL (by decide)) dL_law_757 ?_
  refine g_aload_n hc dL_law_758 rfl 0 rfl ?_
  refine g_iload_n hc dL_law_759 rfl 3 rfl ?_
  refine g_iconst (v := 3) hc dL_law_760 (by decide) ?_
  refine g_iadd hc dL_law_761 ?_
  refine g_sld hc hX hbl hbA (sl_in (j := 3) h6 hL (by decide)) dL_law_762 ?_
  refine g_permG (WAB (dA := x.dA) (ad := ad) (am := am) (σ := s) (lam := lam) (r := r) (μ := μ) (rows := rows)) ?_
  unfold WB
  refine g_callVi hc [.int (xs (nI (6 * t) + 1).toNatClampNeg), .int (xs (nI (6 * t) + 2).toNatClampNeg), .int (xs (nI (6 * t) + 3).toNatClampNeg)] [.int v] (c_X7_way e2) (MW_at (k := 0) (by decide)) rfl (lw_V q1243 q1244 q1245 q67 q1246) rfl hd_X7_way rfl rfl (Nat.le_of_ble_eq_true rfl) ⟨by omega, by omega⟩ dL_law_763 ?_
  refine g_icmp_eq (tgt := 1628) hc dL_law_766 (by decide) (fun _ => ?_) (fun hne => absurd rfl hne)
  refine g_permG (WAB (dA := x.dA) (ad := ad) (am := am) (σ := s) (lam := lam) (r := r) (μ := s') (rows := rows)).symm ?_
  exact hN ca sl s lam r s' rows J sh (by omega) (by omega) ⟨p, hq⟩ (hS.sl (k_X7_way SL.rf (v, s') e2)) hW
theorem lw_case19 {kS : gKS} {x : gX} {b L : Nat} {xs : Nat → Int32} {ad am : Nat → Nat} (hc : gOk x "HedgehogLotsLaw" cL_law 4 24 11014) (hz : gZs kS x.A x.s x.s.heap) (hl0 : x.l.stackTraces = false) (hX : va_X b L xs x.s x.s.heap) (hbl : b < x.s.heap.size) (hbA : ¬ x.A b) (hL : L ≤ 384) (hRc : 603072 ≤ x.R.cells ∧ 7262314 ≤ x.R.slots) {t ca sl : Nat} (ht : t < 64) (h6 : 6 * t + 6 ≤ L) (hca : ca ≤ 53 + 9 * t) (hsl : sl ≤ 1170 + 610 * t) {σ : Nat → Nat → Int32} {lam : Nat → Int64} {r : Nat → Option Nat} {μ : Nat → Nat → Int32} {rows : va_W} {J : Nat → Nat} {sh : gSh} (hR : RX σ μ) (hS : ShR sh μ) (hW : RwAt x.dA r rows J sh) (hN : LwN x b ad am t) : gG x 4 ca sl (WA x.dA ad am σ lam r μ rows) 771 [(0, .ref b), (1, .ref (ad 0)), (2, .ref (am 0)), (3, .int (nI (6 * t)))] [] := by
  obtain ⟨p, hr⟩ := hR
  obtain ⟨hR1, hR2⟩ := hRc
  unfold WA
  obtain ⟨v, s, s', e1, e2, hq⟩ := op_wins hr (xs (nI (6 * t) + 1).toNatClampNeg)
  refine g_aload_n hc dL_law_771 rfl 1 rfl ?_
  refine g_aload_n hc dL_law_772 rfl 0 rfl ?_
  refine g_iload_n hc dL_law_773 rfl 3 rfl ?_
  refine g_iconst (v := 1) hc dL_law_774 (by decide) ?_
  refine g_iadd hc dL_law_775 ?_
  refine g_sld hc hX hbl hbA (sl_in (j := 1) h6 hL (by decide)) dL_law_776 ?_
  refine g_callVi hc [.int (xs (nI (6 * t) + 1).toNatClampNeg)] [] (c_X0_wins (Nat.le_refl 36) e1) (XW_at (k := 0) (by decide)) rfl (lw_V q688 q689 q690 q60 q691) rfl hd_X0_wins rfl rfl (Nat.le_of_ble_eq_true rfl) ⟨by omega, by omega⟩ dL_law_777 ?_
  refine g_aload_n hc dL_law_780 rfl 2 rfl ?_
  refine g_aload_n hc dL_law_781 rfl 0 rfl ?_
  refine g_iload_n hc dL_law_782 rfl 3 rfl ?_
  refine g_iconst (v := 1) hc dL_law_783 (by decide) ?_
  refine g_iadd hc dL_law_784 ?_
  refine g_sld hc hX hbl hbA (sl_in (j := 1) h6 hL (by decide)) dL_law_785 ?_
  refine g_permG (WAB (dA := x.dA) (ad := ad) (am := am) (σ := s) (lam := lam) (r := r) (μ := μ) (rows := rows)) ?_
  unfold WB
  refine g_callVi hc [.int (xs (nI (6 * t) + 1).toNatClampNeg)] [.int v] (c_X7_wins e2) (MW_at (k := 0) (by decide)) rfl (lw_V q1247 q1248 q1249 q67 q1250) rfl hd_X7_wins rfl rfl (Nat.le_of_ble_eq_true rfl) ⟨by omega, by omega⟩ dL_law_786 ?_
  refine g_icmp_eq (tgt := 1628) hc dL_law_789 (by decide) (fun _ => ?_) (fun hne => absurd rfl hne)
  refine g_permG (WAB (dA := x.dA) (ad := ad) (am := am) (σ := s) (lam := lam) (r := r) (μ := s') (rows := rows)).symm ?_
  exact hN ca sl s lam r s' rows J sh (by omega) (by omega) ⟨p, hq⟩ (hS.sl (k_X7_wins SL.rf (v, s') e2)) hW
theorem lw_case20 {kS : gKS} {x : gX} {b L : Nat} {xs : Nat → Int32} {ad am : Nat → Nat} (hc : gOk x "HedgehogLotsLaw" cL_law 4 24 11014) (hz : gZs kS x.A x.s x.s.heap) (hl0 : x.l.stackTraces = false) (hX : va_X b L xs x.s x.s.heap) (hbl : b < x.s.heap.size) (hbA : ¬ x.A b) (hL : L ≤ 384) (hRc : 603072 ≤ x.R.cells ∧ 7262314 ≤ x.R.slots) {t ca sl : Nat} (ht : t < 64) (h6 : 6 * t + 6 ≤ L) (hca : ca ≤ 53 + 9 * t) (hsl : sl ≤ 1170 + 610 * t) {σ : Nat → Nat → Int32} {lam : Nat → Int64} {r : Nat → Option Nat} {μ : Nat → Nat → Int32} {rows : va_W} {J : Nat → Nat} {sh : gSh} (hR : RX σ μ) (hS : ShR sh μ) (hW : RwAt x.dA r rows J sh) (hN : LwN x b ad am t) : gG x 4 ca sl (WA x.dA ad am σ lam r μ rows) 794 [(0, .ref b), (1, .ref (ad 0)), (2, .ref (am 0)), (3, .int (nI (6 * t)))] [] := by
  obtain ⟨p, hr⟩ := hR
  obtain ⟨hR1, hR2⟩ := hRc
  unfold WA
  obtain ⟨v, s, s', e1, e2, hq⟩ := op_share hr (xs (nI (6 * t) + 1).toNatClampNeg) (xs (nI (6 * t) + 2).toNatClampNeg)
  refine g_aload_n hc dL_law_794 rfl 1 rfl ?_
  refine g_aload_n hc dL_law_795 rfl 0 rfl ?_
  refine g_iload_n hc dL_law_796 rfl 3 rfl ?_
  refine g_iconst (v := 1) hc dL_law_797 (by decide) ?_
  refine g_iadd hc dL_law_798 ?_
  refine g_sld hc hX hbl hbA (sl_in (j := 1) h6 hL (by decide)) dL_law_799 ?_
  refine g_aload_n hc dL_law_800 rfl 0 rfl ?_
  refine g_iload_n hc dL_law_801 rfl 3 rfl ?_
  refine g_iconst (v := 2) hc dL_law_802 (by decide) ?_
  refine g_iadd hc dL_law_803 ?_
  refine g_sld hc hX hbl hbA (sl_in (j := 2) h6 hL (by decide)) dL_law_804 ?_
  refine g_callVi hc [.int (xs (nI (6 * t) + 1).toNatClampNeg), .int (xs (nI (6 * t) + 2).toNatClampNeg)] [] (c_X0_share (Nat.le_refl 36) e1) (XW_at (k := 0) (by decide)) rfl (lw_V q692 q693 q694 q60 q695) rfl hd_X0_share rfl rfl (Nat.le_of_ble_eq_true rfl) ⟨by omega, by omega⟩ dL_law_805 ?_
  refine g_aload_n hc dL_law_808 rfl 2 rfl ?_
  refine g_aload_n hc dL_law_809 rfl 0 rfl ?_
  refine g_iload_n hc dL_law_810 rfl 3 rfl ?_
  refine g_iconst (v := 1) hc dL_law_811 (by decide) ?_
  refine g_iadd hc dL_law_812 ?_
  refine g_sld hc hX hbl hbA (sl_in (j := 1) h6 hL (by decide)) dL_law_813 ?_
  refine g_aload_n hc dL_law_814 rfl 0 rfl ?_
  refine g_iload_n hc dL_law_815 rfl 3 rfl ?_
  refine g_iconst (v := 2) hc dL_law_816 (by decide) ?_
  refine g_iadd hc dL_law_817 ?_
  refine g_sld hc hX hbl hbA (sl_in (j := 2) h6 hL (by decide)) dL_law_818 ?_
  refine g_permG (WAB (dA := x.dA) (ad := ad) (am := am) (σ := s) (lam := lam) (r := r) (μ := μ) (rows := rows)) ?_
  unfold WB
  refine g_callVi hc [.int (xs (nI (6 * t) + 1).toNatClampNeg), .int (xs (nI (6 * t) + 2).toNatClampNeg)] [.int v] (c_X7_share e2) (MW_at (k := 0) (by decide)) rfl (lw_V q1251 q1252 q1253 q67 q1254) rfl hd_X7_share rfl rfl (Nat.le_of_ble_eq_true rfl) ⟨by omega, by omega⟩ dL_law_819 ?_
  refine g_icmp_eq (tgt := 1628) hc dL_law_822 (by decide) (fun _ => ?_) (fun hne => absurd rfl hne)
  refine g_permG (WAB (dA := x.dA) (ad := ad) (am := am) (σ := s) (lam := lam) (r := r) (μ := s') (rows := rows)).symm ?_
  exact hN ca sl s lam r s' rows J sh (by omega) (by omega) ⟨p, hq⟩ (hS.sl (k_X7_share SL.rf (v, s') e2)) hW
theorem lw_case21 {kS : gKS} {x : gX} {b L : Nat} {xs : Nat → Int32} {ad am : Nat → Nat} (hc : gOk x "HedgehogLotsLaw" cL_law 4 24 11014) (hz : gZs kS x.A x.s x.s.heap) (hl0 : x.l.stackTraces = false) (hX : va_X b L xs x.s x.s.heap) (hbl : b < x.s.heap.size) (hbA : ¬ x.A b) (hL : L ≤ 384) (hRc : 603072 ≤ x.R.cells ∧ 7262314 ≤ x.R.slots) {t ca sl : Nat} (ht : t < 64) (h6 : 6 * t + 6 ≤ L) (hca : ca ≤ 53 + 9 * t) (hsl : sl ≤ 1170 + 610 * t) {σ : Nat → Nat → Int32} {lam : Nat → Int64} {r : Nat → Option Nat} {μ : Nat → Nat → Int32} {rows : va_W} {J : Nat → Nat} {sh : gSh} (hR : RX σ μ) (hS : ShR sh μ) (hW : RwAt x.dA r rows J sh) (hN : LwN x b ad am t) : gG x 4 ca sl (WA x.dA ad am σ lam r μ rows) 827 [(0, .ref b), (1, .ref (ad 0)), (2, .ref (am 0)), (3, .int (nI (6 * t)))] [] := by
  obtain ⟨p, hr⟩ := hR
  obtain ⟨hR1, hR2⟩ := hRc
  unfold WA
  obtain ⟨v, s, s', e1, e2, hq⟩ := op_first hr (xs (nI (6 * t) + 1).toNatClampNeg) (xs (nI (6 * t) + 2).toNatClampNeg)
  refine g_aload_n hc dL_law_827 rfl 1 rfl ?_
  refine g_aload_n hc dL_law_828 rfl 0 rfl ?_
  refine g_iload_n hc dL_law_829 rfl 3 rfl ?_
  refine g_iconst (v := 1) hc dL_law_830 (by decide) ?_
  refine g_iadd hc dL_law_831 ?_
  refine g_sld hc hX hbl hbA (sl_in (j := 1) h6 hL (by decide)) dL_law_832 ?_
  refine g_aload_n hc dL_law_833 rfl 0 rfl ?_
  refine g_iload_n hc dL_law_834 rfl 3 rfl ?_
  refine g_iconst (v := 2) hc dL_law_835 (by decide) ?_
  refine g_iadd hc dL_law_836 ?_
  refine g_sld hc hX hbl hbA (sl_in (j := 2) h6 hL (by decide)) dL_law_837 ?_
  refine g_callVi hc [.int (xs (nI (6 * t) + 1).toNatClampNeg), .int (xs (nI (6 * t) + 2).toNatClampNeg)] [] (c_X0_first (Nat.le_refl 36) e1) (XW_at (k := 0) (by decide)) rfl (lw_V q706 q707 q708 q60 q709) rfl hd_X0_first rfl rfl (Nat.le_of_ble_eq_true rfl) ⟨by omega, by omega⟩ dL_law_838 ?_
  refine g_aload_n hc dL_law_841 rfl 2 rfl ?_
  refine g_aload_n hc dL_law_842 rfl 0 rfl ?_
  refine g_iload_n hc dL_law_843 rfl 3 rfl ?_
  refine g_iconst (v := 1) hc dL_law_844 (by decide) ?_
  refine g_iadd hc dL_law_845 ?_
  refine g_sld hc hX hbl hbA (sl_in (j := 1) h6 hL (by decide)) dL_law_846 ?_
  refine g_aload_n hc dL_law_847 rfl 0 rfl ?_
  refine g_iload_n hc dL_law_848 rfl 3 rfl ?_
  refine g_iconst (v := 2) hc dL_law_849 (by decide) ?_
  refine g_iadd hc dL_law_850 ?_
  refine g_sld hc hX hbl hbA (sl_in (j := 2) h6 hL (by decide)) dL_law_851 ?_
  refine g_permG (WAB (dA := x.dA) (ad := ad) (am := am) (σ := s) (lam := lam) (r := r) (μ := μ) (rows := rows)) ?_
  unfold WB
  refine g_callVi hc [.int (xs (nI (6 * t) + 1).toNatClampNeg), .int (xs (nI (6 * t) + 2).toNatClampNeg)] [.int v] (c_X7_first e2) (MW_at (k := 0) (by decide)) rfl (lw_V q1255 q1256 q1257 q67 q1258) rfl hd_X7_first rfl rfl (Nat.le_of_ble_eq_true rfl) ⟨by omega, by omega⟩ dL_law_852 ?_
  refine g_icmp_eq (tgt := 1628) hc dL_law_855 (by decide) (fun _ => ?_) (fun hne => absurd rfl hne)
  refine g_permG (WAB (dA := x.dA) (ad := ad) (am := am) (σ := s) (lam := lam) (r := r) (μ := s') (rows := rows)).symm ?_
  exact hN ca sl s lam r s' rows J sh (by omega) (by omega) ⟨p, hq⟩ (hS.sl (k_X7_first SL.rf (v, s') e2)) hW
theorem lw_case22 {kS : gKS} {x : gX} {b L : Nat} {xs : Nat → Int32} {ad am : Nat → Nat} (hc : gOk x "HedgehogLotsLaw" cL_law 4 24 11014) (hz : gZs kS x.A x.s x.s.heap) (hl0 : x.l.stackTraces = false) (hX : va_X b L xs x.s x.s.heap) (hbl : b < x.s.heap.size) (hbA : ¬ x.A b) (hL : L ≤ 384) (hRc : 603072 ≤ x.R.cells ∧ 7262314 ≤ x.R.slots) {t ca sl : Nat} (ht : t < 64) (h6 : 6 * t + 6 ≤ L) (hca : ca ≤ 53 + 9 * t) (hsl : sl ≤ 1170 + 610 * t) {σ : Nat → Nat → Int32} {lam : Nat → Int64} {r : Nat → Option Nat} {μ : Nat → Nat → Int32} {rows : va_W} {J : Nat → Nat} {sh : gSh} (hR : RX σ μ) (hS : ShR sh μ) (hW : RwAt x.dA r rows J sh) (hN : LwN x b ad am t) : gG x 4 ca sl (WA x.dA ad am σ lam r μ rows) 860 [(0, .ref b), (1, .ref (ad 0)), (2, .ref (am 0)), (3, .int (nI (6 * t)))] [] := by
  obtain ⟨p, hr⟩ := hR
  obtain ⟨hR1, hR2⟩ := hRc
  unfold WA
  obtain ⟨v, s, s', e1, e2, hq⟩ := op_kindly hr (xs (nI (6 * t) + 1).toNatClampNeg) (xs (nI (6 * t) + 2).toNatClampNeg) (xs (nI (6 * t) + 3).toNatClampNeg)
  refine g_aload_n hc dL_law_860 rfl 1 rfl ?_
  refine g_aload_n hc dL_law_861 rfl 0 rfl ?_
  refine g_iload_n hc dL_law_862 rfl 3 rfl ?_
  refine g_iconst (v := 1) hc dL_law_863 (by decide) ?_
  refine g_iadd hc dL_law_864 ?_
  refine g_sld hc hX hbl hbA (sl_in (j := 1) h6 hL (by decide)) dL_law_865 ?_
  refine g_aload_n hc dL_law_866 rfl 0 rfl ?_
  refine g_iload_n hc dL_law_867 rfl 3 rfl ?_
  refine g_iconst (v := 2) hc dL_law_868 (by decide) ?_
  refine g_iadd hc dL_law_869 ?_
  refine g_sld hc hX hbl hbA (sl_in (j := 2) h6 hL (by decide)) dL_law_870 ?_
  refine g_aload_n hc dL_law_871 rfl 0 rfl ?_
  refine g_iload_n hc dL_law_872 rfl 3 rfl ?_
  refine g_iconst (v := 3) hc dL_law_873 (by decide) ?_
  refine g_iadd hc dL_law_874 ?_
  refine g_sld hc hX hbl hbA (sl_in (j := 3) h6 hL (by decide)) dL_law_875 ?_
  refine g_callVi hc [.int (xs (nI (6 * t) + 1).toNatClampNeg), .int (xs (nI (6 * t) + 2).toNatClampNeg), .int (xs (nI (6 * t) + 3).toNatClampNeg)] [] (c_X0_kindly (Nat.le_refl 36) e1) (XW_at (k := 0) (by decide)) rfl (lw_V q714 q715 q716 q60 q717) rfl hd_X0_kindly rfl rfl (Nat.le_of_ble_eq_true rfl) ⟨by omega, by omega⟩ dL_law_876 ?_
  refine g_aload_n hc dL_law_879 rfl 2 rfl ?_
  refine g_aload_n hc dL_law_880 rfl 0 rfl ?_
  refine g_iload_n hc dL_law_881 rfl 3 rfl ?_
  refine g_iconst (v := 1) hc dL_law_882 (by decide) ?_
  refine g_iadd hc dL_law_883 ?_
  refine g_sld hc hX hbl hbA (sl_in (j := 1) h6 hL (by decide)) dL_law_884 ?_
  refine g_aload_n hc dL_law_885 rfl 0 rfl ?_
  refine g_iload_n hc dL_law_886 rfl 3 rfl ?_
  refine g_iconst (v := 2) hc dL_law_887 (by decide) ?_
  refine g_iadd hc dL_law_888 ?_
  refine g_sld hc hX hbl hbA (sl_in (j := 2) h6 hL (by decide)) dL_law_889 ?_
  refine g_aload_n hc dL_law_890 rfl 0 rfl ?_
  refine g_iload_n hc dL_law_891 rfl 3 rfl ?_
  refine g_iconst (v := 3) hc dL_law_892 (by decide) ?_
  refine g_iadd hc dL_law_893 ?_
  refine g_sld hc hX hbl hbA (sl_in (j := 3) h6 hL (by decide)) dL_law_894 ?_
  refine g_permG (WAB (dA := x.dA) (ad := ad) (am := am) (σ := s) (lam := lam) (r := r) (μ := μ) (rows := rows)) ?_
  unfold WB
  refine g_callVi hc [.int (xs (nI (6 * t) + 1).toNatClampNeg), .int (xs (nI (6 * t) + 2).toNatClampNeg), .int (xs (nI (6 * t) + 3).toNatClampNeg)] [.int v] (c_X7_kindly e2) (MW_at (k := 0) (by decide)) rfl (lw_V q1259 q1260 q1261 q67 q1262) rfl hd_X7_kindly rfl rfl (Nat.le_of_ble_eq_true rfl) ⟨by omega, by omega⟩ dL_law_895 ?_
  refine g_icmp_eq (tgt := 1628) hc dL_law_898 (by decide) (fun _ => ?_) (fun hne => absurd rfl hne)
  refine g_permG (WAB (dA := x.dA) (ad := ad) (am := am) (σ := s) (lam := lam) (r := r) (μ := s') (rows := rows)).symm ?_
  exact hN ca sl s lam r s' rows J sh (by omega) (by omega) ⟨p, hq⟩ (hS.sl (k_X7_kindly SL.rf (v, s') e2)) hW
theorem lw_case23 {kS : gKS} {x : gX} {b L : Nat} {xs : Nat → Int32} {ad am : Nat → Nat} (hc : gOk x "HedgehogLotsLaw" cL_law 4 24 11014) (hz : gZs kS x.A x.s x.s.heap) (hl0 : x.l.stackTraces = false) (hX : va_X b L xs x.s x.s.heap) (hbl : b < x.s.heap.size) (hbA : ¬ x.A b) (hL : L ≤ 384) (hRc : 603072 ≤ x.R.cells ∧ 7262314 ≤ x.R.slots) {t ca sl : Nat} (ht : t < 64) (h6 : 6 * t + 6 ≤ L) (hca : ca ≤ 53 + 9 * t) (hsl : sl ≤ 1170 + 610 * t) {σ : Nat → Nat → Int32} {lam : Nat → Int64} {r : Nat → Option Nat} {μ : Nat → Nat → Int32} {rows : va_W} {J : Nat → Nat} {sh : gSh} (hR : RX σ μ) (hS : ShR sh μ) (hW : RwAt x.dA r rows J sh) (hN : LwN x b ad am t) : gG x 4 ca sl (WA x.dA ad am σ lam r μ rows) 903 [(0, .ref b), (1, .ref (ad 0)), (2, .ref (am 0)), (3, .int (nI (6 * t)))] [] := by
  obtain ⟨p, hr⟩ := hR
  obtain ⟨hR1, hR2⟩ := hRc
  unfold WA
  obtain ⟨v, s, s', e1, e2, hq⟩ := op_place hr (xs (nI (6 * t) + 1).toNatClampNeg) (xs (nI (6 * t) + 2).toNatClampNeg)
  refine g_aload_n hc dL_law_903 rfl 1 rfl ?_
  refine g_aload_n hc dL_law_904 rfl 0 rfl ?_
  refine g_iload_n hc dL_law_905 rfl 3 rfl ?_
  refine g_iconst (v := 1) hc dL_law_906 (by decide) ?_
  refine g_iadd hc dL_law_907 ?_
  refine g_sld hc hX hbl hbA (sl_in (j := 1) h6 hL (by decide)) dL_law_908 ?_
  refine g_aload_n hc dL_law_909 rfl 0 rfl ?_
  refine g_iload_n hc dL_law_910 rfl 3 rfl ?_
  refine g_iconst (v := 2) hc dL_law_911 (by decide) ?_
  refine g_iadd hc dL_law_912 ?_
  refine g_sld hc hX hbl hbA (sl_in (j := 2) h6 hL (by decide)) dL_law_913 ?_
  refine g_callVi hc [.int (xs (nI (6 * t) + 1).toNatClampNeg), .int (xs (nI (6 * t) + 2).toNatClampNeg)] [] (c_X0_place (Nat.le_refl 36) e1) (XW_at (k := 0) (by decide)) rfl (lw_V q718 q719 q720 q60 q721) rfl hd_X0_place rfl rfl (Nat.le_of_ble_eq_true rfl) ⟨by omega, by omega⟩ dL_law_914 ?_
  refine g_aload_n hc dL_law_917 rfl 2 rfl ?_
  refine g_aload_n hc dL_law_918 rfl 0 rfl ?_
  refine g_iload_n hc dL_law_919 rfl 3 rfl ?_
  refine g_iconst (v := 1) hc dL_law_920 (by decide) ?_
  refine g_iadd hc dL_law_921 ?_
  refine g_sld hc hX hbl hbA (sl_in (j := 1) h6 hL (by decide)) dL_law_922 ?_
  refine g_aload_n hc dL_law_923 rfl 0 rfl ?_
  refine g_iload_n hc dL_law_924 rfl 3 rfl ?_
  refine g_iconst (v := 2) hc dL_law_925 (by decide) ?_
  refine g_iadd hc dL_law_926 ?_
  refine g_sld hc hX hbl hbA (sl_in (j := 2) h6 hL (by decide)) dL_law_927 ?_
  refine g_permG (WAB (dA := x.dA) (ad := ad) (am := am) (σ := s) (lam := lam) (r := r) (μ := μ) (rows := rows)) ?_
  unfold WB
  refine g_callVi hc [.int (xs (nI (6 * t) + 1).toNatClampNeg), .int (xs (nI (6 * t) + 2).toNatClampNeg)] [.int v] (c_X7_place e2) (MW_at (k := 0) (by decide)) rfl (lw_V q1267 q1268 q1269 q67 q1270) rfl hd_X7_place rfl rfl (Nat.le_of_ble_eq_true rfl) ⟨by omega, by omega⟩ dL_law_928 ?_
  refine g_icmp_eq (tgt := 1628) hc dL_law_931 (by decide) (fun _ => ?_) (fun hne => absurd rfl hne)
  refine g_permG (WAB (dA := x.dA) (ad := ad) (am := am) (σ := s) (lam := lam) (r := r) (μ := s') (rows := rows)).symm ?_
  exact hN ca sl s lam r s' rows J sh (by omega) (by omega) hq (hS.sl (k_X7_place SL.rf (v, s') e2)) hW
theorem lw_case24 {kS : gKS} {x : gX} {b L : Nat} {xs : Nat → Int32} {ad am : Nat → Nat} (hc : gOk x "HedgehogLotsLaw" cL_law 4 24 11014) (hz : gZs kS x.A x.s x.s.heap) (hl0 : x.l.stackTraces = false) (hX : va_X b L xs x.s x.s.heap) (hbl : b < x.s.heap.size) (hbA : ¬ x.A b) (hL : L ≤ 384) (hRc : 603072 ≤ x.R.cells ∧ 7262314 ≤ x.R.slots) {t ca sl : Nat} (ht : t < 64) (h6 : 6 * t + 6 ≤ L) (hca : ca ≤ 53 + 9 * t) (hsl : sl ≤ 1170 + 610 * t) {σ : Nat → Nat → Int32} {lam : Nat → Int64} {r : Nat → Option Nat} {μ : Nat → Nat → Int32} {rows : va_W} {J : Nat → Nat} {sh : gSh} (hR : RX σ μ) (hS : ShR sh μ) (hW : RwAt x.dA r rows J sh) (hN : LwN x b ad am t) : gG x 4 ca sl (WA x.dA ad am σ lam r μ rows) 936 [(0, .ref b), (1, .ref (ad 0)), (2, .ref (am 0)), (3, .int (nI (6 * t)))] [] := by
  obtain ⟨p, hr⟩ := hR
  obtain ⟨hR1, hR2⟩ := hRc
  unfold WA
  obtain ⟨v, s, s', e1, e2, hq⟩ := op_move hr (xs (nI (6 * t) + 1).toNatClampNeg) (xs (nI (6 * t) + 2).toNatClampNeg)
  refine g_aload_n hc dL_law_936 rfl 1 rfl ?_
  refine g_aload_n hc dL_law_937 rfl 0 rfl ?_
  refine g_iload_n hc dL_law_938 rfl 3 rfl ?_
  refine g_iconst (v := 1) hc dL_law_939 (by decide) ?_
  refine g_iadd hc dL_law_940 ?_
  refine g_sld hc hX hbl hbA (sl_in (j := 1) h6 hL (by decide)) dL_law_941 ?_
  refine g_aload_n hc dL_law_942 rfl 0 rfl ?_
  refine g_iload_n hc dL_law_943 rfl 3 rfl ?_
  refine g_iconst (v := 2) hc dL_law_944 (by decide) ?_
  refine g_iadd hc dL_law_945 ?_
  refine g_sld hc hX hbl hbA (sl_in (j := 2) h6 hL (by decide)) dL_law_946 ?_
  refine g_callVi hc [.int (xs (nI (6 * t) + 1).toNatClampNeg), .int (xs (nI (6 * t) + 2).toNatClampNeg)] [] (c_X0_move (Nat.le_refl 36) e1) (XW_at (k := 0) (by decide)) rfl (lw_V q741 q742 q743 q60 q744) rfl hd_X0_move rfl rfl (Nat.le_of_ble_eq_true rfl) ⟨by omega, by omega⟩ dL_law_947 ?_
  refine g_aload_n hc dL_law_950 rfl 2 rfl ?_
  refine g_aload_n hc dL_law_951 rfl 0 rfl ?_
  refine g_iload_n hc dL_law_952 rfl 3 rfl ?_
  refine g_iconst (v := 1) hc dL_law_953 (by decide) ?_
  refine g_iadd hc dL_law_954 ?_
  refine g_sld hc hX hbl hbA (sl_in (j := 1) h6 hL (by decide)) dL_law_955 ?_
  refine g_aload_n hc dL_law_956 rfl 0 rfl ?_
  refine g_iload_n hc dL_law_957 rfl 3 rfl ?_
  refine g_iconst (v := 2) hc dL_law_958 (by decide) ?_
  refine g_iadd hc dL_law_959 ?_
  refine g_sld hc hX hbl hbA (sl_in (j := 2) h6 hL (by decide)) dL_law_960 ?_
  refine g_permG (WAB (dA := x.dA) (ad := ad) (am := am) (σ := s) (lam := lam) (r := r) (μ := μ) (rows := rows)) ?_
  unfold WB
  refine g_callVi hc [.int (xs (nI (6 * t) + 1).toNatClampNeg), .int (xs (nI (6 * t) + 2).toNatClampNeg)] [.int v] (c_X7_move e2) (MW_at (k := 0) (by decide)) rfl (lw_V q1274 q1275 q1276 q67 q1277) rfl hd_X7_move rfl rfl (Nat.le_of_ble_eq_true rfl) ⟨by omega, by omega⟩ dL_law_961 ?_
  refine g_icmp_eq (tgt := 1628) hc dL_law_964 (by decide) (fun _ => ?_) (fun hne => absurd rfl hne)
  refine g_permG (WAB (dA := x.dA) (ad := ad) (am := am) (σ := s) (lam := lam) (r := r) (μ := s') (rows := rows)).symm ?_
  exact hN ca sl s lam r s' rows J sh (by omega) (by omega) hq (hS.sl (k_X7_move SL.rf (v, s') e2)) hW
theorem lw_case25 {kS : gKS} {x : gX} {b L : Nat} {xs : Nat → Int32} {ad am : Nat → Nat} (hc : gOk x "HedgehogLotsLaw" cL_law 4 24 11014) (hz : gZs kS x.A x.s x.s.heap) (hl0 : x.l.stackTraces = false) (hX : va_X b L xs x.s x.s.heap) (hbl : b < x.s.heap.size) (hbA : ¬ x.A b) (hL : L ≤ 384) (hRc : 603072 ≤ x.R.cells ∧ 7262314 ≤ x.R.slots) {t ca sl : Nat} (ht : t < 64) (h6 : 6 * t + 6 ≤ L) (hca : ca ≤ 53 + 9 * t) (hsl : sl ≤ 1170 + 610 * t) {σ : Nat → Nat → Int32} {lam : Nat → Int64} {r : Nat → Option Nat} {μ : Nat → Nat → Int32} {rows : va_W} {J : Nat → Nat} {sh : gSh} (hR : RX σ μ) (hS : ShR sh μ) (hW : RwAt x.dA r rows J sh) (hN : LwN x b ad am t) : gG x 4 ca sl (WA x.dA ad am σ lam r μ rows) 969 [(0, .ref b), (1, .ref (ad 0)), (2, .ref (am 0)), (3, .int (nI (6 * t)))] [] := by
  obtain ⟨p, hr⟩ := hR
  obtain ⟨hR1, hR2⟩ := hRc
  unfold WA
  obtain ⟨v, s, s', e1, e2, hq⟩ := op_bribe hr (xs (nI (6 * t) + 1).toNatClampNeg) (xs (nI (6 * t) + 2).toNatClampNeg)
  refine g_aload_n hc dL_law_969 rfl 1 rfl ?_
  refine g_aload_n hc dL_law_970 rfl 0 rfl ?_
  refine g_iload_n hc dL_law_971 rfl 3 rfl ?_
  refine g_iconst (v := 1) hc dL_law_972 (by decide) ?_
  refine g_iadd hc dL_law_973 ?_
  refine g_sld hc hX hbl hbA (sl_in (j := 1) h6 hL (by decide)) dL_law_974 ?_
  refine g_aload_n hc dL_law_975 rfl 0 rfl ?_
  refine g_iload_n hc dL_law_976 rfl 3 rfl ?_
  refine g_iconst (v := 2) hc dL_law_977 (by decide) ?_
  refine g_iadd hc dL_law_978 ?_
  refine g_sld hc hX hbl hbA (sl_in (j := 2) h6 hL (by decide)) dL_law_979 ?_
  refine g_callVi hc [.int (xs (nI (6 * t) + 1).toNatClampNeg), .int (xs (nI (6 * t) + 2).toNatClampNeg)] [] (c_X0_bribe (Nat.le_refl 36) e1) (XW_at (k := 0) (by decide)) rfl (lw_V q745 q746 q747 q60 q748) rfl hd_X0_bribe rfl rfl (Nat.le_of_ble_eq_true rfl) ⟨by omega, by omega⟩ dL_law_980 ?_
  refine g_aload_n hc dL_law_983 rfl 2 rfl ?_
  refine g_aload_n hc dL_law_984 rfl 0 rfl ?_
  refine g_iload_n hc dL_law_985 rfl 3 rfl ?_
  refine g_iconst (v := 1) hc dL_law_986 (by decide) ?_
  refine g_iadd hc dL_law_987 ?_
  refine g_sld hc hX hbl hbA (sl_in (j := 1) h6 hL (by decide)) dL_law_988 ?_
  refine g_aload_n hc dL_law_989 rfl 0 rfl ?_
  refine g_iload_n hc dL_law_990 rfl 3 rfl ?_
  refine g_iconst (v := 2) hc dL_law_991 (by decide) ?_
  refine g_iadd hc dL_law_992 ?_
  refine g_sld hc hX hbl hbA (sl_in (j := 2) h6 hL (by decide)) dL_law_993 ?_
  refine g_permG (WAB (dA := x.dA) (ad := ad) (am := am) (σ := s) (lam := lam) (r := r) (μ := μ) (rows := rows)) ?_
  unfold WB
  refine g_callVi hc [.int (xs (nI (6 * t) + 1).toNatClampNeg), .int (xs (nI (6 * t) + 2).toNatClampNeg)] [.int v] (c_X7_bribe e2) (MW_at (k := 0) (by decide)) rfl (lw_V q1278 q1279 q1280 q67 q1281) rfl hd_X7_bribe rfl rfl (Nat.le_of_ble_eq_true rfl) ⟨by omega, by omega⟩ dL_law_994 ?_
  refine g_icmp_eq (tgt := 1628) hc dL_law_997 (by decide) (fun _ => ?_) (fun hne => absurd rfl hne)
  refine g_permG (WAB (dA := x.dA) (ad := ad) (am := am) (σ := s) (lam := lam) (r := r) (μ := s') (rows := rows)).symm ?_
  exact hN ca sl s lam r s' rows J sh (by omega) (by omega) hq (hS.sl (k_X7_bribe SL.rf (v, s') e2)) hW
theorem lw_case26 {kS : gKS} {x : gX} {b L : Nat} {xs : Nat → Int32} {ad am : Nat → Nat} (hc : gOk x "HedgehogLotsLaw" cL_law 4 24 11014) (hz : gZs kS x.A x.s x.s.heap) (hl0 : x.l.stackTraces = false) (hX : va_X b L xs x.s x.s.heap) (hbl : b < x.s.heap.size) (hbA : ¬ x.A b) (hL : L ≤ 384) (hRc : 603072 ≤ x.R.cells ∧ 7262314 ≤ x.R.slots) {t ca sl : Nat} (ht : t < 64) (h6 : 6 * t + 6 ≤ L) (hca : ca ≤ 53 + 9 * t) (hsl : sl ≤ 1170 + 610 * t) {σ : Nat → Nat → Int32} {lam : Nat → Int64} {r : Nat → Option Nat} {μ : Nat → Nat → Int32} {rows : va_W} {J : Nat → Nat} {sh : gSh} (hR : RX σ μ) (hS : ShR sh μ) (hW : RwAt x.dA r rows J sh) (hN : LwN x b ad am t) : gG x 4 ca sl (WA x.dA ad am σ lam r μ rows) 1002 [(0, .ref b), (1, .ref (ad 0)), (2, .ref (am 0)), (3, .int (nI (6 * t)))] [] := by
  obtain ⟨p, hr⟩ := hR
  obtain ⟨hR1, hR2⟩ := hRc
  unfold WA
  obtain ⟨v, s, s', e1, e2, hq⟩ := op_need hr (xs (nI (6 * t) + 1).toNatClampNeg) (xs (nI (6 * t) + 2).toNatClampNeg)
  refine g_aload_n hc dL_law_1002 rfl 1 rfl ?_
  refine g_aload_n hc dL_law_1003 rfl 0 rfl ?_
  refine g_iload_n hc dL_law_1004 rfl 3 rfl ?_
  refine g_iconst (v := 1) hc dL_law_1005 (by decide) ?_
  refine g_iadd hc dL_law_1006 ?_
  refine g_sld hc hX hbl hbA (sl_in (j := 1) h6 hL (by decide)) dL_law_1007 ?_
  refine g_aload_n hc dL_law_1008 rfl 0 rfl ?_
  refine g_iload_n hc dL_law_1009 rfl 3 rfl ?_
  refine g_iconst (v := 2) hc dL_law_1010 (by decide) ?_
  refine g_iadd hc dL_law_1011 ?_
  refine g_sld hc hX hbl hbA (sl_in (j := 2) h6 hL (by decide)) dL_law_1012 ?_
  refine g_callVi hc [.int (xs (nI (6 * t) + 1).toNatClampNeg), .int (xs (nI (6 * t) + 2).toNatClampNeg)] [] (c_X0_need (Nat.le_refl 36) e1) (XW_at (k := 0) (by decide)) rfl (lw_V q754 q755 q756 q60 q757) rfl hd_X0_need rfl rfl (Nat.le_of_ble_eq_true rfl) ⟨by omega, by omega⟩ dL_law_1013 ?_
  refine g_aload_n hc dL_law_1016 rfl 2 rfl ?_
  refine g_aload_n hc dL_law_1017 rfl 0 rfl ?_
  refine g_iload_n hc dL_law_1018 rfl 3 rfl ?_
  refine g_iconst (v := 1) hc dL_law_1019 (by decide) ?_
  refine g_iadd hc dL_law_1020 ?_
  refine g_sld hc hX hbl hbA (sl_in (j := 1) h6 hL (by decide)) dL_law_1021 ?_
  refine g_aload_n hc dL_law_1022 rfl 0 rfl ?_
  refine g_iload_n hc dL_law_1023 rfl 3 rfl ?_
  refine g_iconst (v := 2) hc dL_law_1024 (by decide) ?_
  refine g_iadd hc dL_law_1025 ?_
  refine g_sld hc hX hbl hbA (sl_in (j := 2) h6 hL (by decide)) dL_law_1026 ?_
  refine g_permG (WAB (dA := x.dA) (ad := ad) (am := am) (σ := s) (lam := lam) (r := r) (μ := μ) (rows := rows)) ?_
  unfold WB
  refine g_callVi hc [.int (xs (nI (6 * t) + 1).toNatClampNeg), .int (xs (nI (6 * t) + 2).toNatClampNeg)] [.int v] (c_X7_need e2) (MW_at (k := 0) (by decide)) rfl (lw_V q1282 q1283 q1284 q67 q1285) rfl hd_X7_need rfl rfl (Nat.le_of_ble_eq_true rfl) ⟨by omega, by omega⟩ dL_law_1027 ?_
  refine g_icmp_eq (tgt := 1628) hc dL_law_1030 (by decide) (fun _ => ?_) (fun hne => absurd rfl hne)
  refine g_permG (WAB (dA := x.dA) (ad := ad) (am := am) (σ := s) (lam := lam) (r := r) (μ := s') (rows := rows)).symm ?_
  exact hN ca sl s lam r s' rows J sh (by omega) (by omega) ⟨p, hq⟩ (hS.sl (k_X7_need SL.rf (v, s') e2)) hW
theorem lw_case27 {kS : gKS} {x : gX} {b L : Nat} {xs : Nat → Int32} {ad am : Nat → Nat} (hc : gOk x "HedgehogLotsLaw" cL_law 4 24 11014) (hz : gZs kS x.A x.s x.s.heap) (hl0 : x.l.stackTraces = false) (hX : va_X b L xs x.s x.s.heap) (hbl : b < x.s.heap.size) (hbA : ¬ x.A b) (hL : L ≤ 384) (hRc : 603072 ≤ x.R.cells ∧ 7262314 ≤ x.R.slots) {t ca sl : Nat} (ht : t < 64) (h6 : 6 * t + 6 ≤ L) (hca : ca ≤ 53 + 9 * t) (hsl : sl ≤ 1170 + 610 * t) {σ : Nat → Nat → Int32} {lam : Nat → Int64} {r : Nat → Option Nat} {μ : Nat → Nat → Int32} {rows : va_W} {J : Nat → Nat} {sh : gSh} (hR : RX σ μ) (hS : ShR sh μ) (hW : RwAt x.dA r rows J sh) (hN : LwN x b ad am t) : gG x 4 ca sl (WA x.dA ad am σ lam r μ rows) 1035 [(0, .ref b), (1, .ref (ad 0)), (2, .ref (am 0)), (3, .int (nI (6 * t)))] [] := by
  obtain ⟨p, hr⟩ := hR
  obtain ⟨hR1, hR2⟩ := hRc
  unfold WA
  obtain ⟨v, s, s', e1, e2, hq⟩ := op_swap hr (xs (nI (6 * t) + 1).toNatClampNeg) (xs (nI (6 * t) + 2).toNatClampNeg)
  refine g_aload_n hc dL_law_1035 rfl 1 rfl ?_
  refine g_aload_n hc dL_law_1036 rfl 0 rfl ?_
  refine g_iload_n hc dL_law_1037 rfl 3 rfl ?_
  refine g_iconst (v := 1) hc dL_law_1038 (by decide) ?_
  refine g_iadd hc dL_law_1039 ?_
  refine g_sld hc hX hbl hbA (sl_in (j := 1) h6 hL (by decide)) dL_law_1040 ?_
  refine g_aload_n hc dL_law_1041 rfl 0 rfl ?_
  refine g_iload_n hc dL_law_1042 rfl 3 rfl ?_
  refine g_iconst (v := 2) hc dL_law_1043 (by decide) ?_
  refine g_iadd hc dL_law_1044 ?_
  refine g_sld hc hX hbl hbA (sl_in (j := 2) h6 hL (by decide)) dL_law_1045 ?_
  refine g_callVi hc [.int (xs (nI (6 * t) + 1).toNatClampNeg), .int (xs (nI (6 * t) + 2).toNatClampNeg)] [] (c_X0_swap (Nat.le_refl 36) e1) (XW_at (k := 0) (by decide)) rfl (lw_V q758 q759 q760 q60 q761) rfl hd_X0_swap rfl rfl (Nat.le_of_ble_eq_true rfl) ⟨by omega, by omega⟩ dL_law_1046 ?_
  refine g_aload_n hc dL_law_1049 rfl 2 rfl ?_
  refine g_aload_n hc dL_law_1050 rfl 0 rfl ?_
  refine g_iload_n hc dL_law_1051 rfl 3 rfl ?_
  refine g_iconst (v := 1) hc dL_law_1052 (by decide) ?_
  refine g_iadd hc dL_law_1053 ?_
  refine g_sld hc hX hbl hbA (sl_in (j := 1) h6 hL (by decide)) dL_law_1054 ?_
  refine g_aload_n hc dL_law_1055 rfl 0 rfl ?_
  refine g_iload_n hc dL_law_1056 rfl 3 rfl ?_
  refine g_iconst (v := 2) hc dL_law_1057 (by decide) ?_
  refine g_iadd hc dL_law_1058 ?_
  refine g_sld hc hX hbl hbA (sl_in (j := 2) h6 hL (by decide)) dL_law_1059 ?_
  refine g_permG (WAB (dA := x.dA) (ad := ad) (am := am) (σ := s) (lam := lam) (r := r) (μ := μ) (rows := rows)) ?_
  unfold WB
  refine g_callVi hc [.int (xs (nI (6 * t) + 1).toNatClampNeg), .int (xs (nI (6 * t) + 2).toNatClampNeg)] [.int v] (c_X7_swap e2) (MW_at (k := 0) (by decide)) rfl (lw_V q1286 q1287 q1288 q67 q1289) rfl hd_X7_swap rfl rfl (Nat.le_of_ble_eq_true rfl) ⟨by omega, by omega⟩ dL_law_1060 ?_
  refine g_icmp_eq (tgt := 1628) hc dL_law_1063 (by decide) (fun _ => ?_) (fun hne => absurd rfl hne)
  refine g_permG (WAB (dA := x.dA) (ad := ad) (am := am) (σ := s) (lam := lam) (r := r) (μ := s') (rows := rows)).symm ?_
  exact hN ca sl s lam r s' rows J sh (by omega) (by omega) hq (hS.sl (k_X7_swap SL.rf (v, s') e2)) hW
theorem lw_case28 {kS : gKS} {x : gX} {b L : Nat} {xs : Nat → Int32} {ad am : Nat → Nat} (hc : gOk x "HedgehogLotsLaw" cL_law 4 24 11014) (hz : gZs kS x.A x.s x.s.heap) (hl0 : x.l.stackTraces = false) (hX : va_X b L xs x.s x.s.heap) (hbl : b < x.s.heap.size) (hbA : ¬ x.A b) (hL : L ≤ 384) (hRc : 603072 ≤ x.R.cells ∧ 7262314 ≤ x.R.slots) {t ca sl : Nat} (ht : t < 64) (h6 : 6 * t + 6 ≤ L) (hca : ca ≤ 53 + 9 * t) (hsl : sl ≤ 1170 + 610 * t) {σ : Nat → Nat → Int32} {lam : Nat → Int64} {r : Nat → Option Nat} {μ : Nat → Nat → Int32} {rows : va_W} {J : Nat → Nat} {sh : gSh} (hR : RX σ μ) (hS : ShR sh μ) (hW : RwAt x.dA r rows J sh) (hN : LwN x b ad am t) : gG x 4 ca sl (WA x.dA ad am σ lam r μ rows) 1068 [(0, .ref b), (1, .ref (ad 0)), (2, .ref (am 0)), (3, .int (nI (6 * t)))] [] := by
  obtain ⟨p, hr⟩ := hR
  obtain ⟨hR1, hR2⟩ := hRc
  unfold WA
  obtain ⟨v, s, s', e1, e2, hq⟩ := op_pull hr (xs (nI (6 * t) + 1).toNatClampNeg) (xs (nI (6 * t) + 2).toNatClampNeg)
  refine g_aload_n hc dL_law_1068 rfl 1 rfl ?_
  refine g_aload_n hc dL_law_1069 rfl 0 rfl ?_
  refine g_iload_n hc dL_law_1070 rfl 3 rfl ?_
  refine g_iconst (v := 1) hc dL_law_1071 (by decide) ?_
  refine g_iadd hc dL_law_1072 ?_
  refine g_sld hc hX hbl hbA (sl_in (j := 1) h6 hL (by decide)) dL_law_1073 ?_
  refine g_aload_n hc dL_law_1074 rfl 0 rfl ?_
  refine g_iload_n hc dL_law_1075 rfl 3 rfl ?_
  refine g_iconst (v := 2) hc dL_law_1076 (by decide) ?_
  refine g_iadd hc dL_law_1077 ?_
  refine g_sld hc hX hbl hbA (sl_in (j := 2) h6 hL (by decide)) dL_law_1078 ?_
  refine g_callVi hc [.int (xs (nI (6 * t) + 1).toNatClampNeg), .int (xs (nI (6 * t) + 2).toNatClampNeg)] [] (c_X0_pull (Nat.le_refl 36) e1) (XW_at (k := 0) (by decide)) rfl (lw_V q762 q763 q764 q60 q765) rfl hd_X0_pull rfl rfl (Nat.le_of_ble_eq_true rfl) ⟨by omega, by omega⟩ dL_law_1079 ?_
  refine g_aload_n hc dL_law_1082 rfl 2 rfl ?_
  refine g_aload_n hc dL_law_1083 rfl 0 rfl ?_
  refine g_iload_n hc dL_law_1084 rfl 3 rfl ?_
  refine g_iconst (v := 1) hc dL_law_1085 (by decide) ?_
  refine g_iadd hc dL_law_1086 ?_
  refine g_sld hc hX hbl hbA (sl_in (j := 1) h6 hL (by decide)) dL_law_1087 ?_
  refine g_aload_n hc dL_law_1088 rfl 0 rfl ?_
  refine g_iload_n hc dL_law_1089 rfl 3 rfl ?_
  refine g_iconst (v := 2) hc dL_law_1090 (by decide) ?_
  refine g_iadd hc dL_law_1091 ?_
  refine g_sld hc hX hbl hbA (sl_in (j := 2) h6 hL (by decide)) dL_law_1092 ?_
  refine g_permG (WAB (dA := x.dA) (ad := ad) (am := am) (σ := s) (lam := lam) (r := r) (μ := μ) (rows := rows)) ?_
  unfold WB
  refine g_callVi hc [.int (xs (nI (6 * t) + 1).toNatClampNeg), .int (xs (nI (6 * t) + 2).toNatClampNeg)] [.int v] (c_X7_pull e2) (MW_at (k := 0) (by decide)) rfl (lw_V q1290 q1291 q1292 q67 q1293) rfl hd_X7_pull rfl rfl (Nat.le_of_ble_eq_true rfl) ⟨by omega, by omega⟩ dL_law_1093 ?_
  refine g_icmp_eq (tgt := 1628) hc dL_law_1096 (by decide) (fun _ => ?_) (fun hne => absurd rfl hne)
  refine g_permG (WAB (dA := x.dA) (ad := ad) (am := am) (σ := s) (lam := lam) (r := r) (μ := s') (rows := rows)).symm ?_
  exact hN ca sl s lam r s' rows J sh (by omega) (by omega) hq (hS.sl (k_X7_pull SL.rf (v, s') e2)) hW
theorem lw_case29 {kS : gKS} {x : gX} {b L : Nat} {xs : Nat → Int32} {ad am : Nat → Nat} (hc : gOk x "HedgehogLotsLaw" cL_law 4 24 11014) (hz : gZs kS x.A x.s x.s.heap) (hl0 : x.l.stackTraces = false) (hX : va_X b L xs x.s x.s.heap) (hbl : b < x.s.heap.size) (hbA : ¬ x.A b) (hL : L ≤ 384) (hRc : 603072 ≤ x.R.cells ∧ 7262314 ≤ x.R.slots) {t ca sl : Nat} (ht : t < 64) (h6 : 6 * t + 6 ≤ L) (hca : ca ≤ 53 + 9 * t) (hsl : sl ≤ 1170 + 610 * t) {σ : Nat → Nat → Int32} {lam : Nat → Int64} {r : Nat → Option Nat} {μ : Nat → Nat → Int32} {rows : va_W} {J : Nat → Nat} {sh : gSh} (hR : RX σ μ) (hS : ShR sh μ) (hW : RwAt x.dA r rows J sh) (hN : LwN x b ad am t) : gG x 4 ca sl (WA x.dA ad am σ lam r μ rows) 1101 [(0, .ref b), (1, .ref (ad 0)), (2, .ref (am 0)), (3, .int (nI (6 * t)))] [] := by
  obtain ⟨p, hr⟩ := hR
  obtain ⟨hR1, hR2⟩ := hRc
  unfold WA
  obtain ⟨v, s, la, s', e1, e2, hq⟩ := op_luck hr lam (xs (nI (6 * t) + 1).toNatClampNeg) (xs (nI (6 * t) + 2).toNatClampNeg) (xs (nI (6 * t) + 3).toNatClampNeg) (xs (nI (6 * t) + 4).toNatClampNeg) (xs (nI (6 * t) + 5).toNatClampNeg)
  refine g_aload_n hc dL_law_1101 rfl 1 rfl ?_
  refine g_aload_n hc dL_law_1102 rfl 0 rfl ?_
  refine g_iload_n hc dL_law_1103 rfl 3 rfl ?_
  refine g_iconst (v := 1) hc dL_law_1104 (by decide) ?_
  refine g_iadd hc dL_law_1105 ?_
  refine g_sld hc hX hbl hbA (sl_in (j := 1) h6 hL (by decide)) dL_law_1106 ?_
  refine g_aload_n hc dL_law_1107 rfl 0 rfl ?_
  refine g_iload_n hc dL_law_1108 rfl 3 rfl ?_
  refine g_iconst (v := 2) hc dL_law_1109 (by decide) ?_
  refine g_iadd hc dL_law_1110 ?_
  refine g_sld hc hX hbl hbA (sl_in (j := 2) h6 hL (by decide)) dL_law_1111 ?_
  refine g_aload_n hc dL_law_1112 rfl 0 rfl ?_
  refine g_iload_n hc dL_law_1113 rfl 3 rfl ?_
  refine g_iconst (v := 3) hc dL_law_1114 (by decide) ?_
  refine g_iadd hc dL_law_1115 ?_
  refine g_sld hc hX hbl hbA (sl_in (j := 3) h6 hL (by decide)) dL_law_1116 ?_
  refine g_aload_n hc dL_law_1117 rfl 0 rfl ?_
  refine g_iload_n hc dL_law_1118 rfl 3 rfl ?_
  refine g_iconst (v := 4) hc dL_law_1119 (by decide) ?_
  refine g_iadd hc dL_law_1120 ?_
  refine g_sld hc hX hbl hbA (sl_in (j := 4) h6 hL (by decide)) dL_law_1121 ?_
  refine g_aload_n hc dL_law_1122 rfl 0 rfl ?_
  refine g_iload_n hc dL_law_1123 rfl 3 rfl ?_
  refine g_iconst (v := 5) hc dL_law_1124 (by decide) ?_
  refine g_iadd hc dL_law_1125 ?_
  refine g_sld hc hX hbl hbA (sl_in (j := 5) h6 hL (by decide)) dL_law_1126 ?_
  refine g_callVl hc [.int (xs (nI (6 * t) + 1).toNatClampNeg), .int (xs (nI (6 * t) + 2).toNatClampNeg), .int (xs (nI (6 * t) + 3).toNatClampNeg), .int (xs (nI (6 * t) + 4).toNatClampNeg), .int (xs (nI (6 * t) + 5).toNatClampNeg)] [] (c_X0_luck (Nat.le_refl 36) e1) (XW_at (k := 0) (by decide)) rfl (lw_V q770 q771 q772 q60 q773) rfl hd_X0_luck rfl rfl (Nat.le_of_ble_eq_true rfl) ⟨by omega, by omega⟩ dL_law_1127 ?_
  refine g_aload_n hc dL_law_1130 rfl 2 rfl ?_
  refine g_aload_n hc dL_law_1131 rfl 0 rfl ?_
  refine g_iload_n hc dL_law_1132 rfl 3 rfl ?_
  refine g_iconst (v := 1) hc dL_law_1133 (by decide) ?_
  refine g_iadd hc dL_law_1134 ?_
  refine g_sld hc hX hbl hbA (sl_in (j := 1) h6 hL (by decide)) dL_law_1135 ?_
  refine g_aload_n hc dL_law_1136 rfl 0 rfl ?_
  refine g_iload_n hc dL_law_1137 rfl 3 rfl ?_
  refine g_iconst (v := 2) hc dL_law_1138 (by decide) ?_
  refine g_iadd hc dL_law_1139 ?_
  refine g_sld hc hX hbl hbA (sl_in (j := 2) h6 hL (by decide)) dL_law_1140 ?_
  refine g_aload_n hc dL_law_1141 rfl 0 rfl ?_
  refine g_iload_n hc dL_law_1142 rfl 3 rfl ?_
  refine g_iconst (v := 3) hc dL_law_1143 (by decide) ?_
  refine g_iadd hc dL_law_1144 ?_
  refine g_sld hc hX hbl hbA (sl_in (j := 3) h6 hL (by decide)) dL_law_1145 ?_
  refine g_aload_n hc dL_law_1146 rfl 0 rfl ?_
  refine g_iload_n hc dL_law_1147 rfl 3 rfl ?_
  refine g_iconst (v := 4) hc dL_law_1148 (by decide) ?_
  refine g_iadd hc dL_law_1149 ?_
  refine g_sld hc hX hbl hbA (sl_in (j := 4) h6 hL (by decide)) dL_law_1150 ?_
  refine g_aload_n hc dL_law_1151 rfl 0 rfl ?_
  refine g_iload_n hc dL_law_1152 rfl 3 rfl ?_
  refine g_iconst (v := 5) hc dL_law_1153 (by decide) ?_
  refine g_iadd hc dL_law_1154 ?_
  refine g_sld hc hX hbl hbA (sl_in (j := 5) h6 hL (by decide)) dL_law_1155 ?_
  refine g_permG (WAB (dA := x.dA) (ad := ad) (am := am) (σ := s) (lam := la) (r := r) (μ := μ) (rows := rows)) ?_
  unfold WB
  refine g_callVl hc [.int (xs (nI (6 * t) + 1).toNatClampNeg), .int (xs (nI (6 * t) + 2).toNatClampNeg), .int (xs (nI (6 * t) + 3).toNatClampNeg), .int (xs (nI (6 * t) + 4).toNatClampNeg), .int (xs (nI (6 * t) + 5).toNatClampNeg)] [.long v] (c_X7_luck e2) (MW_at (k := 0) (by decide)) rfl (lw_V q1294 q1295 q1296 q67 q1297) rfl hd_X7_luck rfl rfl (Nat.le_of_ble_eq_true rfl) ⟨by omega, by omega⟩ dL_law_1156 ?_
  refine g_lcmp hc dL_law_1159 ?_
  refine g_if_eq (tgt := 1628) hc dL_law_1160 (by decide) (fun _ => ?_) (fun hne => absurd (lg_cmp_self _) hne)
  refine g_permG (WAB (dA := x.dA) (ad := ad) (am := am) (σ := s) (lam := la) (r := r) (μ := s') (rows := rows)).symm ?_
  exact hN ca sl s la r s' rows J sh (by omega) (by omega) ⟨p, hq⟩ (hS.sl (k_X7_luck SL.rf (v, s') e2)) hW
theorem lw_case30 {kS : gKS} {x : gX} {b L : Nat} {xs : Nat → Int32} {ad am : Nat → Nat} (hc : gOk x "HedgehogLotsLaw" cL_law 4 24 11014) (hz : gZs kS x.A x.s x.s.heap) (hl0 : x.l.stackTraces = false) (hX : va_X b L xs x.s x.s.heap) (hbl : b < x.s.heap.size) (hbA : ¬ x.A b) (hL : L ≤ 384) (hRc : 603072 ≤ x.R.cells ∧ 7262314 ≤ x.R.slots) {t ca sl : Nat} (ht : t < 64) (h6 : 6 * t + 6 ≤ L) (hca : ca ≤ 53 + 9 * t) (hsl : sl ≤ 1170 + 610 * t) {σ : Nat → Nat → Int32} {lam : Nat → Int64} {r : Nat → Option Nat} {μ : Nat → Nat → Int32} {rows : va_W} {J : Nat → Nat} {sh : gSh} (hR : RX σ μ) (hS : ShR sh μ) (hW : RwAt x.dA r rows J sh) (hN : LwN x b ad am t) : gG x 4 ca sl (WA x.dA ad am σ lam r μ rows) 1165 [(0, .ref b), (1, .ref (ad 0)), (2, .ref (am 0)), (3, .int (nI (6 * t)))] [] := by
  obtain ⟨p, hr⟩ := hR
  obtain ⟨hR1, hR2⟩ := hRc
  unfold WA
  obtain ⟨v, s, la, s', e1, e2, hq⟩ := op_mean hr lam (xs (nI (6 * t) + 1).toNatClampNeg) (xs (nI (6 * t) + 2).toNatClampNeg) (xs (nI (6 * t) + 3).toNatClampNeg) (xs (nI (6 * t) + 4).toNatClampNeg)
  refine g_aload_n hc dL_law_1165 rfl 1 rfl ?_
  refine g_aload_n hc dL_law_1166 rfl 0 rfl ?_
  refine g_iload_n hc dL_law_1167 rfl 3 rfl ?_
  refine g_iconst (v := 1) hc dL_law_1168 (by decide) ?_
  refine g_iadd hc dL_law_1169 ?_
  refine g_sld hc hX hbl hbA (sl_in (j := 1) h6 hL (by decide)) dL_law_1170 ?_
  refine g_aload_n hc dL_law_1171 rfl 0 rfl ?_
  refine g_iload_n hc dL_law_1172 rfl 3 rfl ?_
  refine g_iconst (v := 2) hc dL_law_1173 (by decide) ?_
  refine g_iadd hc dL_law_1174 ?_
  refine g_sld hc hX hbl hbA (sl_in (j := 2) h6 hL (by decide)) dL_law_1175 ?_
  refine g_aload_n hc dL_law_1176 rfl 0 rfl ?_
  refine g_iload_n hc dL_law_1177 rfl 3 rfl ?_
  refine g_iconst (v := 3) hc dL_law_1178 (by decide) ?_
  refine g_iadd hc dL_law_1179 ?_
  refine g_sld hc hX hbl hbA (sl_in (j := 3) h6 hL (by decide)) dL_law_1180 ?_
  refine g_aload_n hc dL_law_1181 rfl 0 rfl ?_
  refine g_iload_n hc dL_law_1182 rfl 3 rfl ?_
  refine g_iconst (v := 4) hc dL_law_1183 (by decide) ?_
  refine g_iadd hc dL_law_1184 ?_
  refine g_sld hc hX hbl hbA (sl_in (j := 4) h6 hL (by decide)) dL_law_1185 ?_
  refine g_callVl hc [.int (xs (nI (6 * t) + 1).toNatClampNeg), .int (xs (nI (6 * t) + 2).toNatClampNeg), .int (xs (nI (6 * t) + 3).toNatClampNeg), .int (xs (nI (6 * t) + 4).toNatClampNeg)] [] (c_X0_mean (Nat.le_refl 36) e1) (XW_at (k := 0) (by decide)) rfl (lw_V q783 q784 q785 q60 q786) rfl hd_X0_mean rfl rfl (Nat.le_of_ble_eq_true rfl) ⟨by omega, by omega⟩ dL_law_1186 ?_
  refine g_aload_n hc dL_law_1189 rfl 2 rfl ?_
  refine g_aload_n hc dL_law_1190 rfl 0 rfl ?_
  refine g_iload_n hc dL_law_1191 rfl 3 rfl ?_
  refine g_iconst (v := 1) hc dL_law_1192 (by decide) ?_
  refine g_iadd hc dL_law_1193 ?_
  refine g_sld hc hX hbl hbA (sl_in (j := 1) h6 hL (by decide)) dL_law_1194 ?_
  refine g_aload_n hc dL_law_1195 rfl 0 rfl ?_
  refine g_iload_n hc dL_law_1196 rfl 3 rfl ?_
  refine g_iconst (v := 2) hc dL_law_1197 (by decide) ?_
  refine g_iadd hc dL_law_1198 ?_
  refine g_sld hc hX hbl hbA (sl_in (j := 2) h6 hL (by decide)) dL_law_1199 ?_
  refine g_aload_n hc dL_law_1200 rfl 0 rfl ?_
  refine g_iload_n hc dL_law_1201 rfl 3 rfl ?_
  refine g_iconst (v := 3) hc dL_law_1202 (by decide) ?_
  refine g_iadd hc dL_law_1203 ?_
  refine g_sld hc hX hbl hbA (sl_in (j := 3) h6 hL (by decide)) dL_law_1204 ?_
  refine g_aload_n hc dL_law_1205 rfl 0 rfl ?_
  refine g_iload_n hc dL_law_1206 rfl 3 rfl ?_
  refine g_iconst (v := 4) hc dL_law_1207 (by decide) ?_
  refine g_iadd hc dL_law_1208 ?_
  refine g_sld hc hX hbl hbA (sl_in (j := 4) h6 hL (by decide)) dL_law_1209 ?_
  refine g_permG (WAB (dA := x.dA) (ad := ad) (am := am) (σ := s) (lam := la) (r := r) (μ := μ) (rows := rows)) ?_
  unfold WB
  refine g_callVl hc [.int (xs (nI (6 * t) + 1).toNatClampNeg), .int (xs (nI (6 * t) + 2).toNatClampNeg), .int (xs (nI (6 * t) + 3).toNatClampNeg), .int (xs (nI (6 * t) + 4).toNatClampNeg)] [.long v] (c_X7_mean e2) (MW_at (k := 0) (by decide)) rfl (lw_V q1308 q1309 q1310 q67 q1311) rfl hd_X7_mean rfl rfl (Nat.le_of_ble_eq_true rfl) ⟨by omega, by omega⟩ dL_law_1210 ?_
  refine g_lcmp hc dL_law_1213 ?_
  refine g_if_eq (tgt := 1628) hc dL_law_1214 (by decide) (fun _ => ?_) (fun hne => absurd (lg_cmp_self _) hne)
  refine g_permG (WAB (dA := x.dA) (ad := ad) (am := am) (σ := s) (lam := la) (r := r) (μ := s') (rows := rows)).symm ?_
  exact hN ca sl s la r s' rows J sh (by omega) (by omega) ⟨p, hq⟩ (hS.sl (k_X7_mean SL.rf (v, s') e2)) hW
theorem lw_case31 {kS : gKS} {x : gX} {b L : Nat} {xs : Nat → Int32} {ad am : Nat → Nat} (hc : gOk x "HedgehogLotsLaw" cL_law 4 24 11014) (hz : gZs kS x.A x.s x.s.heap) (hl0 : x.l.stackTraces = false) (hX : va_X b L xs x.s x.s.heap) (hbl : b < x.s.heap.size) (hbA : ¬ x.A b) (hL : L ≤ 384) (hRc : 603072 ≤ x.R.cells ∧ 7262314 ≤ x.R.slots) {t ca sl : Nat} (ht : t < 64) (h6 : 6 * t + 6 ≤ L) (hca : ca ≤ 53 + 9 * t) (hsl : sl ≤ 1170 + 610 * t) {σ : Nat → Nat → Int32} {lam : Nat → Int64} {r : Nat → Option Nat} {μ : Nat → Nat → Int32} {rows : va_W} {J : Nat → Nat} {sh : gSh} (hR : RX σ μ) (hS : ShR sh μ) (hW : RwAt x.dA r rows J sh) (hN : LwN x b ad am t) : gG x 4 ca sl (WA x.dA ad am σ lam r μ rows) 1219 [(0, .ref b), (1, .ref (ad 0)), (2, .ref (am 0)), (3, .int (nI (6 * t)))] [] := by
  obtain ⟨p, hr⟩ := hR
  obtain ⟨hR1, hR2⟩ := hRc
  unfold WA
  obtain ⟨v, s, s', e1, e2, hq⟩ := op_see hr (xs (nI (6 * t) + 1).toNatClampNeg) (xs (nI (6 * t) + 2).toNatClampNeg) (xs (nI (6 * t) + 3).toNatClampNeg)
  refine g_aload_n hc dL_law_1219 rfl 1 rfl ?_
  refine g_aload_n hc dL_law_1220 rfl 0 rfl ?_
  refine g_iload_n hc dL_law_1221 rfl 3 rfl ?_
  refine g_iconst (v := 1) hc dL_law_1222 (by decide) ?_
  refine g_iadd hc dL_law_1223 ?_
  refine g_sld hc hX hbl hbA (sl_in (j := 1) h6 hL (by decide)) dL_law_1224 ?_
  refine g_aload_n hc dL_law_1225 rfl 0 rfl ?_
  refine g_iload_n hc dL_law_1226 rfl 3 rfl ?_
  refine g_iconst (v := 2) hc dL_law_1227 (by decide) ?_
  refine g_iadd hc dL_law_1228 ?_
  refine g_sld hc hX hbl hbA (sl_in (j := 2) h6 hL (by decide)) dL_law_1229 ?_
  refine g_aload_n hc dL_law_1230 rfl 0 rfl ?_
  refine g_iload_n hc dL_law_1231 rfl 3 rfl ?_
  refine g_iconst (v := 3) hc dL_law_1232 (by decide) ?_
  refine g_iadd hc dL_law_1233 ?_
  refine g_sld hc hX hbl hbA (sl_in (j := 3) h6 hL (by decide)) dL_law_1234 ?_
  refine g_callVi hc [.int (xs (nI (6 * t) + 1).toNatClampNeg), .int (xs (nI (6 * t) + 2).toNatClampNeg), .int (xs (nI (6 * t) + 3).toNatClampNeg)] [] (c_X0_see (Nat.le_refl 36) e1) (XW_at (k := 0) (by decide)) rfl (lw_V q787 q788 q789 q60 q790) rfl hd_X0_see rfl rfl (Nat.le_of_ble_eq_true rfl) ⟨by omega, by omega⟩ dL_law_1235 ?_
  refine g_aload_n hc dL_law_1238 rfl 2 rfl ?_
  refine g_aload_n hc dL_law_1239 rfl 0 rfl ?_
  refine g_iload_n hc dL_law_1240 rfl 3 rfl ?_
  refine g_iconst (v := 1) hc dL_law_1241 (by decide) ?_
  refine g_iadd hc dL_law_1242 ?_
  refine g_sld hc hX hbl hbA (sl_in (j := 1) h6 hL (by decide)) dL_law_1243 ?_
  refine g_aload_n hc dL_law_1244 rfl 0 rfl ?_
  refine g_iload_n hc dL_law_1245 rfl 3 rfl ?_
  refine g_iconst (v := 2) hc dL_law_1246 (by decide) ?_
  refine g_iadd hc dL_law_1247 ?_
  refine g_sld hc hX hbl hbA (sl_in (j := 2) h6 hL (by decide)) dL_law_1248 ?_
  refine g_aload_n hc dL_law_1249 rfl 0 rfl ?_
  refine g_iload_n hc dL_law_1250 rfl 3 rfl ?_
  refine g_iconst (v := 3) hc dL_law_1251 (by decide) ?_
  refine g_iadd hc dL_law_1252 ?_
  refine g_sld hc hX hbl hbA (sl_in (j := 3) h6 hL (by decide)) dL_law_1253 ?_
  refine g_permG (WAB (dA := x.dA) (ad := ad) (am := am) (σ := s) (lam := lam) (r := r) (μ := μ) (rows := rows)) ?_
  unfold WB
  refine g_callVi hc [.int (xs (nI (6 * t) + 1).toNatClampNeg), .int (xs (nI (6 * t) + 2).toNatClampNeg), .int (xs (nI (6 * t) + 3).toNatClampNeg)] [.int v] (c_X7_see e2) (MW_at (k := 0) (by decide)) rfl (lw_V q1312 q1313 q1314 q67 q1315) rfl hd_X7_see rfl rfl (Nat.le_of_ble_eq_true rfl) ⟨by omega, by omega⟩ dL_law_1254 ?_
  refine g_icmp_eq (tgt := 1628) hc dL_law_1257 (by decide) (fun _ => ?_) (fun hne => absurd rfl hne)
  refine g_permG (WAB (dA := x.dA) (ad := ad) (am := am) (σ := s) (lam := lam) (r := r) (μ := s') (rows := rows)).symm ?_
  exact hN ca sl s lam r s' rows J sh (by omega) (by omega) hq (hS.sl (k_X7_see SL.rf (v, s') e2)) hW
theorem lw_case32 {kS : gKS} {x : gX} {b L : Nat} {xs : Nat → Int32} {ad am : Nat → Nat} (hc : gOk x "HedgehogLotsLaw" cL_law 4 24 11014) (hz : gZs kS x.A x.s x.s.heap) (hl0 : x.l.stackTraces = false) (hX : va_X b L xs x.s x.s.heap) (hbl : b < x.s.heap.size) (hbA : ¬ x.A b) (hL : L ≤ 384) (hRc : 603072 ≤ x.R.cells ∧ 7262314 ≤ x.R.slots) {t ca sl : Nat} (ht : t < 64) (h6 : 6 * t + 6 ≤ L) (hca : ca ≤ 53 + 9 * t) (hsl : sl ≤ 1170 + 610 * t) {σ : Nat → Nat → Int32} {lam : Nat → Int64} {r : Nat → Option Nat} {μ : Nat → Nat → Int32} {rows : va_W} {J : Nat → Nat} {sh : gSh} (hR : RX σ μ) (hS : ShR sh μ) (hW : RwAt x.dA r rows J sh) (hN : LwN x b ad am t) : gG x 4 ca sl (WA x.dA ad am σ lam r μ rows) 1262 [(0, .ref b), (1, .ref (ad 0)), (2, .ref (am 0)), (3, .int (nI (6 * t)))] [] := by
  obtain ⟨p, hr⟩ := hR
  obtain ⟨hR1, hR2⟩ := hRc
  unfold WA
  obtain ⟨v, s, s', e1, e2, hq⟩ := op_forget hr (xs (nI (6 * t) + 1).toNatClampNeg)
  refine g_aload_n hc dL_law_1262 rfl 1 rfl ?_
  refine g_aload_n hc dL_law_1263 rfl 0 rfl ?_
  refine g_iload_n hc dL_law_1264 rfl 3 rfl ?_
  refine g_iconst (v := 1) hc dL_law_1265 (by decide) ?_
  refine g_iadd hc dL_law_1266 ?_
  refine g_sld hc hX hbl hbA (sl_in (j := 1) h6 hL (by decide)) dL_law_1267 ?_
  refine g_callVi hc [.int (xs (nI (6 * t) + 1).toNatClampNeg)] [] (c_X0_forget (Nat.le_refl 36) e1) (XW_at (k := 0) (by decide)) rfl (lw_V q792 q793 q794 q60 q795) rfl hd_X0_forget rfl rfl (Nat.le_of_ble_eq_true rfl) ⟨by omega, by omega⟩ dL_law_1268 ?_
  refine g_aload_n hc dL_law_1271 rfl 2 rfl ?_
  refine g_aload_n hc dL_law_1272 rfl 0 rfl ?_
  refine g_iload_n hc dL_law_1273 rfl 3 rfl ?_
  refine g_iconst (v := 1) hc dL_law_1274 (by decide) ?_
  refine g_iadd hc dL_law_1275 ?_
  refine g_sld hc hX hbl hbA (sl_in (j := 1) h6 hL (by decide)) dL_law_1276 ?_
  refine g_permG (WAB (dA := x.dA) (ad := ad) (am := am) (σ := s) (lam := lam) (r := r) (μ := μ) (rows := rows)) ?_
  unfold WB
  refine g_callVi hc [.int (xs (nI (6 * t) + 1).toNatClampNeg)] [.int v] (c_X7_forget e2) (MW_at (k := 0) (by decide)) rfl (lw_V q1316 q1317 q1318 q67 q1319) rfl hd_X7_forget rfl rfl (Nat.le_of_ble_eq_true rfl) ⟨by omega, by omega⟩ dL_law_1277 ?_
  refine g_icmp_eq (tgt := 1628) hc dL_law_1280 (by decide) (fun _ => ?_) (fun hne => absurd rfl hne)
  refine g_permG (WAB (dA := x.dA) (ad := ad) (am := am) (σ := s) (lam := lam) (r := r) (μ := s') (rows := rows)).symm ?_
  exact hN ca sl s lam r s' rows J sh (by omega) (by omega) hq (hS.sl (k_X7_forget SL.rf (v, s') e2)) hW
theorem lw_case33 {kS : gKS} {x : gX} {b L : Nat} {xs : Nat → Int32} {ad am : Nat → Nat} (hc : gOk x "HedgehogLotsLaw" cL_law 4 24 11014) (hz : gZs kS x.A x.s x.s.heap) (hl0 : x.l.stackTraces = false) (hX : va_X b L xs x.s x.s.heap) (hbl : b < x.s.heap.size) (hbA : ¬ x.A b) (hL : L ≤ 384) (hRc : 603072 ≤ x.R.cells ∧ 7262314 ≤ x.R.slots) {t ca sl : Nat} (ht : t < 64) (h6 : 6 * t + 6 ≤ L) (hca : ca ≤ 53 + 9 * t) (hsl : sl ≤ 1170 + 610 * t) {σ : Nat → Nat → Int32} {lam : Nat → Int64} {r : Nat → Option Nat} {μ : Nat → Nat → Int32} {rows : va_W} {J : Nat → Nat} {sh : gSh} (hR : RX σ μ) (hS : ShR sh μ) (hW : RwAt x.dA r rows J sh) (hN : LwN x b ad am t) : gG x 4 ca sl (WA x.dA ad am σ lam r μ rows) 1285 [(0, .ref b), (1, .ref (ad 0)), (2, .ref (am 0)), (3, .int (nI (6 * t)))] [] := by
  obtain ⟨p, hr⟩ := hR
  obtain ⟨hR1, hR2⟩ := hRc
  unfold WA
  obtain ⟨v, s, s', e1, e2, hq⟩ := op_kinds hr (xs (nI (6 * t) + 1).toNatClampNeg)
  refine g_aload_n hc dL_law_1285 rfl 1 rfl ?_
  refine g_aload_n hc dL_law_1286 rfl 0 rfl ?_
  refine g_iload_n hc dL_law_1287 rfl 3 rfl ?_
  refine g_iconst (v := 1) hc dL_law_1288 (by decide) ?_
  refine g_iadd hc dL_law_1289 ?_
  refine g_sld hc hX hbl hbA (sl_in (j := 1) h6 hL (by decide)) dL_law_1290 ?_
  refine g_callVi hc [.int (xs (nI (6 * t) + 1).toNatClampNeg)] [] (c_X0_kinds (Nat.le_refl 36) e1) (XW_at (k := 0) (by decide)) rfl (lw_V q796 q797 q798 q60 q799) rfl hd_X0_kinds rfl rfl (Nat.le_of_ble_eq_true rfl) ⟨by omega, by omega⟩ dL_law_1291 ?_
  refine g_aload_n hc dL_law_1294 rfl 2 rfl ?_
  refine g_aload_n hc dL_law_1295 rfl 0 rfl ?_
  refine g_iload_n hc dL_law_1296 rfl 3 rfl ?_
  refine g_iconst (v := 1) hc dL_law_1297 (by decide) ?_
  refine g_iadd hc dL_law_1298 ?_
  refine g_sld hc hX hbl hbA (sl_in (j := 1) h6 hL (by decide)) dL_law_1299 ?_
  refine g_permG (WAB (dA := x.dA) (ad := ad) (am := am) (σ := s) (lam := lam) (r := r) (μ := μ) (rows := rows)) ?_
  unfold WB
  refine g_callVi hc [.int (xs (nI (6 * t) + 1).toNatClampNeg)] [.int v] (c_X7_kinds e2) (MW_at (k := 0) (by decide)) rfl (lw_V q1320 q1321 q1322 q67 q1323) rfl hd_X7_kinds rfl rfl (Nat.le_of_ble_eq_true rfl) ⟨by omega, by omega⟩ dL_law_1300 ?_
  refine g_icmp_eq (tgt := 1628) hc dL_law_1303 (by decide) (fun _ => ?_) (fun hne => absurd rfl hne)
  refine g_permG (WAB (dA := x.dA) (ad := ad) (am := am) (σ := s) (lam := lam) (r := r) (μ := s') (rows := rows)).symm ?_
  exact hN ca sl s lam r s' rows J sh (by omega) (by omega) ⟨p, hq⟩ (hS.sl (k_X7_kinds SL.rf (v, s') e2)) hW
theorem lw_case34 {kS : gKS} {x : gX} {b L : Nat} {xs : Nat → Int32} {ad am : Nat → Nat} (hc : gOk x "HedgehogLotsLaw" cL_law 4 24 11014) (hz : gZs kS x.A x.s x.s.heap) (hl0 : x.l.stackTraces = false) (hX : va_X b L xs x.s x.s.heap) (hbl : b < x.s.heap.size) (hbA : ¬ x.A b) (hL : L ≤ 384) (hRc : 603072 ≤ x.R.cells ∧ 7262314 ≤ x.R.slots) {t ca sl : Nat} (ht : t < 64) (h6 : 6 * t + 6 ≤ L) (hca : ca ≤ 53 + 9 * t) (hsl : sl ≤ 1170 + 610 * t) {σ : Nat → Nat → Int32} {lam : Nat → Int64} {r : Nat → Option Nat} {μ : Nat → Nat → Int32} {rows : va_W} {J : Nat → Nat} {sh : gSh} (hR : RX σ μ) (hS : ShR sh μ) (hW : RwAt x.dA r rows J sh) (hN : LwN x b ad am t) : gG x 4 ca sl (WA x.dA ad am σ lam r μ rows) 1308 [(0, .ref b), (1, .ref (ad 0)), (2, .ref (am 0)), (3, .int (nI (6 * t)))] [] := by
  obtain ⟨p, hr⟩ := hR
  obtain ⟨hR1, hR2⟩ := hRc
  unfold WA
  obtain ⟨v, s, s', e1, e2, hq⟩ := op_speeds hr (xs (nI (6 * t) + 1).toNatClampNeg)
  refine g_aload_n hc dL_law_1308 rfl 1 rfl ?_
  refine g_aload_n hc dL_law_1309 rfl 0 rfl ?_
  refine g_iload_n hc dL_law_1310 rfl 3 rfl ?_
  refine g_iconst (v := 1) hc dL_law_1311 (by decide) ?_
  refine g_iadd hc dL_law_1312 ?_
  refine g_sld hc hX hbl hbA (sl_in (j := 1) h6 hL (by decide)) dL_law_1313 ?_
  refine g_callVi hc [.int (xs (nI (6 * t) + 1).toNatClampNeg)] [] (c_X0_speeds (Nat.le_refl 36) e1) (XW_at (k := 0) (by decide)) rfl (lw_V q804 q805 q806 q60 q807) rfl hd_X0_speeds rfl rfl (Nat.le_of_ble_eq_true rfl) ⟨by omega, by omega⟩ dL_law_1314 ?_
  refine g_aload_n hc dL_law_1317 rfl 2 rfl ?_
  refine g_aload_n hc dL_law_1318 rfl 0 rfl ?_
  refine g_iload_n hc dL_law_1319 rfl 3 rfl ?_
  refine g_iconst (v := 1) hc dL_law_1320 (by decide) ?_
  refine g_iadd hc dL_law_1321 ?_
  refine g_sld hc hX hbl hbA (sl_in (j := 1) h6 hL (by decide)) dL_law_1322 ?_
  refine g_permG (WAB (dA := x.dA) (ad := ad) (am := am) (σ := s) (lam := lam) (r := r) (μ := μ) (rows := rows)) ?_
  unfold WB
  refine g_callVi hc [.int (xs (nI (6 * t) + 1).toNatClampNeg)] [.int v] (c_X7_speeds e2) (MW_at (k := 0) (by decide)) rfl (lw_V q1328 q1329 q1330 q67 q1331) rfl hd_X7_speeds rfl rfl (Nat.le_of_ble_eq_true rfl) ⟨by omega, by omega⟩ dL_law_1323 ?_
  refine g_icmp_eq (tgt := 1628) hc dL_law_1326 (by decide) (fun _ => ?_) (fun hne => absurd rfl hne)
  refine g_permG (WAB (dA := x.dA) (ad := ad) (am := am) (σ := s) (lam := lam) (r := r) (μ := s') (rows := rows)).symm ?_
  exact hN ca sl s lam r s' rows J sh (by omega) (by omega) ⟨p, hq⟩ (hS.sl (k_X7_speeds SL.rf (v, s') e2)) hW
theorem lw_case35 {kS : gKS} {x : gX} {b L : Nat} {xs : Nat → Int32} {ad am : Nat → Nat} (hc : gOk x "HedgehogLotsLaw" cL_law 4 24 11014) (hz : gZs kS x.A x.s x.s.heap) (hl0 : x.l.stackTraces = false) (hX : va_X b L xs x.s x.s.heap) (hbl : b < x.s.heap.size) (hbA : ¬ x.A b) (hL : L ≤ 384) (hRc : 603072 ≤ x.R.cells ∧ 7262314 ≤ x.R.slots) {t ca sl : Nat} (ht : t < 64) (h6 : 6 * t + 6 ≤ L) (hca : ca ≤ 53 + 9 * t) (hsl : sl ≤ 1170 + 610 * t) {σ : Nat → Nat → Int32} {lam : Nat → Int64} {r : Nat → Option Nat} {μ : Nat → Nat → Int32} {rows : va_W} {J : Nat → Nat} {sh : gSh} (hR : RX σ μ) (hS : ShR sh μ) (hW : RwAt x.dA r rows J sh) (hN : LwN x b ad am t) : gG x 4 ca sl (WA x.dA ad am σ lam r μ rows) 1331 [(0, .ref b), (1, .ref (ad 0)), (2, .ref (am 0)), (3, .int (nI (6 * t)))] [] := by
  obtain ⟨p, hr⟩ := hR
  obtain ⟨hR1, hR2⟩ := hRc
  unfold WA
  obtain ⟨v, s, s', e1, e2, hq⟩ := op_ask hr (xs (nI (6 * t) + 1).toNatClampNeg) (xs (nI (6 * t) + 2).toNatClampNeg)
  refine g_aload_n hc dL_law_1331 rfl 1 rfl ?_
  refine g_aload_n hc dL_law_1332 rfl 0 rfl ?_
  refine g_iload_n hc dL_law_1333 rfl 3 rfl ?_
  refine g_iconst (v := 1) hc dL_law_1334 (by decide) ?_
  refine g_iadd hc dL_law_1335 ?_
  refine g_sld hc hX hbl hbA (sl_in (j := 1) h6 hL (by decide)) dL_law_1336 ?_
  refine g_aload_n hc dL_law_1337 rfl 0 rfl ?_
  refine g_iload_n hc dL_law_1338 rfl 3 rfl ?_
  refine g_iconst (v := 2) hc dL_law_1339 (by decide) ?_
  refine g_iadd hc dL_law_1340 ?_
  refine g_sld hc hX hbl hbA (sl_in (j := 2) h6 hL (by decide)) dL_law_1341 ?_
  refine g_callVi hc [.int (xs (nI (6 * t) + 1).toNatClampNeg), .int (xs (nI (6 * t) + 2).toNatClampNeg)] [] (c_X0_ask (Nat.le_refl 36) e1) (XW_at (k := 0) (by decide)) rfl (lw_V q812 q813 q814 q60 q815) rfl hd_X0_ask rfl rfl (Nat.le_of_ble_eq_true rfl) ⟨by omega, by omega⟩ dL_law_1342 ?_
  refine g_aload_n hc dL_law_1345 rfl 2 rfl ?_
  refine g_aload_n hc dL_law_1346 rfl 0 rfl ?_
  refine g_iload_n hc dL_law_1347 rfl 3 rfl ?_
  refine g_iconst (v := 1) hc dL_law_1348 (by decide) ?_
  refine g_iadd hc dL_law_1349 ?_
  refine g_sld hc hX hbl hbA (sl_in (j := 1) h6 hL (by decide)) dL_law_1350 ?_
  refine g_aload_n hc dL_law_1351 rfl 0 rfl ?_
  refine g_iload_n hc dL_law_1352 rfl 3 rfl ?_
  refine g_iconst (v := 2) hc dL_law_1353 (by decide) ?_
  refine g_iadd hc dL_law_1354 ?_
  refine g_sld hc hX hbl hbA (sl_in (j := 2) h6 hL (by decide)) dL_law_1355 ?_
  refine g_permG (WAB (dA := x.dA) (ad := ad) (am := am) (σ := s) (lam := lam) (r := r) (μ := μ) (rows := rows)) ?_
  unfold WB
  refine g_callVi hc [.int (xs (nI (6 * t) + 1).toNatClampNeg), .int (xs (nI (6 * t) + 2).toNatClampNeg)] [.int v] (c_X7_ask e2) (MW_at (k := 0) (by decide)) rfl (lw_V q1336 q1337 q1338 q67 q1339) rfl hd_X7_ask rfl rfl (Nat.le_of_ble_eq_true rfl) ⟨by omega, by omega⟩ dL_law_1356 ?_
  refine g_icmp_eq (tgt := 1628) hc dL_law_1359 (by decide) (fun _ => ?_) (fun hne => absurd rfl hne)
  refine g_permG (WAB (dA := x.dA) (ad := ad) (am := am) (σ := s) (lam := lam) (r := r) (μ := s') (rows := rows)).symm ?_
  exact hN ca sl s lam r s' rows J sh (by omega) (by omega) ⟨p, hq⟩ (hS.sl (k_X7_ask SL.rf (v, s') e2)) hW
theorem lw_case36 {kS : gKS} {x : gX} {b L : Nat} {xs : Nat → Int32} {ad am : Nat → Nat} (hc : gOk x "HedgehogLotsLaw" cL_law 4 24 11014) (hz : gZs kS x.A x.s x.s.heap) (hl0 : x.l.stackTraces = false) (hX : va_X b L xs x.s x.s.heap) (hbl : b < x.s.heap.size) (hbA : ¬ x.A b) (hL : L ≤ 384) (hRc : 603072 ≤ x.R.cells ∧ 7262314 ≤ x.R.slots) {t ca sl : Nat} (ht : t < 64) (h6 : 6 * t + 6 ≤ L) (hca : ca ≤ 53 + 9 * t) (hsl : sl ≤ 1170 + 610 * t) {σ : Nat → Nat → Int32} {lam : Nat → Int64} {r : Nat → Option Nat} {μ : Nat → Nat → Int32} {rows : va_W} {J : Nat → Nat} {sh : gSh} (hR : RX σ μ) (hS : ShR sh μ) (hW : RwAt x.dA r rows J sh) (hN : LwN x b ad am t) : gG x 4 ca sl (WA x.dA ad am σ lam r μ rows) 1364 [(0, .ref b), (1, .ref (ad 0)), (2, .ref (am 0)), (3, .int (nI (6 * t)))] [] := by
  obtain ⟨p, hr⟩ := hR
  obtain ⟨hR1, hR2⟩ := hRc
  unfold WA
  obtain ⟨v, s, s', e1, e2, hq⟩ := op_drift hr (xs (nI (6 * t) + 1).toNatClampNeg) (xs (nI (6 * t) + 2).toNatClampNeg) (xs (nI (6 * t) + 3).toNatClampNeg)
  refine g_aload_n hc dL_law_1364 rfl 1 rfl ?_
  refine g_aload_n hc dL_law_1365 rfl 0 rfl ?_
  refine g_iload_n hc dL_law_1366 rfl 3 rfl ?_
  refine g_iconst (v := 1) hc dL_law_1367 (by decide) ?_
  refine g_iadd hc dL_law_1368 ?_
  refine g_sld hc hX hbl hbA (sl_in (j := 1) h6 hL (by decide)) dL_law_1369 ?_
  refine g_aload_n hc dL_law_1370 rfl 0 rfl ?_
  refine g_iload_n hc dL_law_1371 rfl 3 rfl ?_
  refine g_iconst (v := 2) hc dL_law_1372 (by decide) ?_
  refine g_iadd hc dL_law_1373 ?_
  refine g_sld hc hX hbl hbA (sl_in (j := 2) h6 hL (by decide)) dL_law_1374 ?_
  refine g_aload_n hc dL_law_1375 rfl 0 rfl ?_
  refine g_iload_n hc dL_law_1376 rfl 3 rfl ?_
  refine g_iconst (v := 3) hc dL_law_1377 (by decide) ?_
  refine g_iadd hc dL_law_1378 ?_
  refine g_sld hc hX hbl hbA (sl_in (j := 3) h6 hL (by decide)) dL_law_1379 ?_
  refine g_callVi hc [.int (xs (nI (6 * t) + 1).toNatClampNeg), .int (xs (nI (6 * t) + 2).toNatClampNeg), .int (xs (nI (6 * t) + 3).toNatClampNeg)] [] (c_X0_drift (Nat.le_refl 36) e1) (XW_at (k := 0) (by decide)) rfl (lw_V q820 q821 q822 q60 q823) rfl hd_X0_drift rfl rfl (Nat.le_of_ble_eq_true rfl) ⟨by omega, by omega⟩ dL_law_1380 ?_
  refine g_aload_n hc dL_law_1383 rfl 2 rfl ?_
  refine g_aload_n hc dL_law_1384 rfl 0 rfl ?_
  refine g_iload_n hc dL_law_1385 rfl 3 rfl ?_
  refine g_iconst (v := 1) hc dL_law_1386 (by decide) ?_
  refine g_iadd hc dL_law_1387 ?_
  refine g_sld hc hX hbl hbA (sl_in (j := 1) h6 hL (by decide)) dL_law_1388 ?_
  refine g_aload_n hc dL_law_1389 rfl 0 rfl ?_
  refine g_iload_n hc dL_law_1390 rfl 3 rfl ?_
  refine g_iconst (v := 2) hc dL_law_1391 (by decide) ?_
  refine g_iadd hc dL_law_1392 ?_
  refine g_sld hc hX hbl hbA (sl_in (j := 2) h6 hL (by decide)) dL_law_1393 ?_
  refine g_aload_n hc dL_law_1394 rfl 0 rfl ?_
  refine g_iload_n hc dL_law_1395 rfl 3 rfl ?_
  refine g_iconst (v := 3) hc dL_law_1396 (by decide) ?_
  refine g_iadd hc dL_law_1397 ?_
  refine g_sld hc hX hbl hbA (sl_in (j := 3) h6 hL (by decide)) dL_law_1398 ?_
  refine g_permG (WAB (dA := x.dA) (ad := ad) (am := am) (σ := s) (lam := lam) (r := r) (μ := μ) (rows := rows)) ?_
  unfold WB
  refine g_callVi hc [.int (xs (nI (6 * t) + 1).toNatClampNeg), .int (xs (nI (6 * t) + 2).toNatClampNeg), .int (xs (nI (6 * t) + 3).toNatClampNeg)] [.int v] (c_X7_drift e2) (MW_at (k := 0) (by decide)) rfl (lw_V q1340 q1341 q1342 q67 q1343) rfl hd_X7_drift rfl rfl (Nat.le_of_ble_eq_true rfl) ⟨by omega, by omega⟩ dL_law_1399 ?_
  refine g_icmp_eq (tgt := 1628) hc dL_law_1402 (by decide) (fun _ => ?_) (fun hne => absurd rfl hne)
  refine g_permG (WAB (dA := x.dA) (ad := ad) (am := am) (σ := s) (lam := lam) (r := r) (μ := s') (rows := rows)).symm ?_
  exact hN ca sl s lam r s' rows J sh (by omega) (by omega) ⟨p, hq⟩ (hS.sl (k_X7_drift SL.rf (v, s') e2)) hW
theorem lw_case37 {kS : gKS} {x : gX} {b L : Nat} {xs : Nat → Int32} {ad am : Nat → Nat} (hc : gOk x "HedgehogLotsLaw" cL_law 4 24 11014) (hz : gZs kS x.A x.s x.s.heap) (hl0 : x.l.stackTraces = false) (hX : va_X b L xs x.s x.s.heap) (hbl : b < x.s.heap.size) (hbA : ¬ x.A b) (hL : L ≤ 384) (hRc : 603072 ≤ x.R.cells ∧ 7262314 ≤ x.R.slots) {t ca sl : Nat} (ht : t < 64) (h6 : 6 * t + 6 ≤ L) (hca : ca ≤ 53 + 9 * t) (hsl : sl ≤ 1170 + 610 * t) {σ : Nat → Nat → Int32} {lam : Nat → Int64} {r : Nat → Option Nat} {μ : Nat → Nat → Int32} {rows : va_W} {J : Nat → Nat} {sh : gSh} (hR : RX σ μ) (hS : ShR sh μ) (hW : RwAt x.dA r rows J sh) (hN : LwN x b ad am t) : gG x 4 ca sl (WA x.dA ad am σ lam r μ rows) 1407 [(0, .ref b), (1, .ref (ad 0)), (2, .ref (am 0)), (3, .int (nI (6 * t)))] [] := by
  obtain ⟨p, hr⟩ := hR
  obtain ⟨hR1, hR2⟩ := hRc
  unfold WA
  obtain ⟨v, s, s', e1, e2, hq⟩ := op_keep hr (xs (nI (6 * t) + 1).toNatClampNeg)
  refine g_aload_n hc dL_law_1407 rfl 1 rfl ?_
  refine g_aload_n hc dL_law_1408 rfl 0 rfl ?_
  refine g_iload_n hc dL_law_1409 rfl 3 rfl ?_
  refine g_iconst (v := 1) hc dL_law_1410 (by decide) ?_
  refine g_iadd hc dL_law_1411 ?_
  refine g_sld hc hX hbl hbA (sl_in (j := 1) h6 hL (by decide)) dL_law_1412 ?_
  refine g_callVi hc [.int (xs (nI (6 * t) + 1).toNatClampNeg)] [] (c_X0_keep (Nat.le_refl 36) e1) (XW_at (k := 0) (by decide)) rfl (lw_V q826 q827 q828 q60 q829) rfl hd_X0_keep rfl rfl (Nat.le_of_ble_eq_true rfl) ⟨by omega, by omega⟩ dL_law_1413 ?_
  refine g_aload_n hc dL_law_1416 rfl 2 rfl ?_
  refine g_aload_n hc dL_law_1417 rfl 0 rfl ?_
  refine g_iload_n hc dL_law_1418 rfl 3 rfl ?_
  refine g_iconst (v := 1) hc dL_law_1419 (by decide) ?_
  refine g_iadd hc dL_law_1420 ?_
  refine g_sld hc hX hbl hbA (sl_in (j := 1) h6 hL (by decide)) dL_law_1421 ?_
  refine g_permG (WAB (dA := x.dA) (ad := ad) (am := am) (σ := s) (lam := lam) (r := r) (μ := μ) (rows := rows)) ?_
  unfold WB
  refine g_callVi hc [.int (xs (nI (6 * t) + 1).toNatClampNeg)] [.int v] (c_X7_keep e2) (MW_at (k := 0) (by decide)) rfl (lw_V q1346 q1347 q1348 q67 q1349) rfl hd_X7_keep rfl rfl (Nat.le_of_ble_eq_true rfl) ⟨by omega, by omega⟩ dL_law_1422 ?_
  refine g_icmp_eq (tgt := 1628) hc dL_law_1425 (by decide) (fun _ => ?_) (fun hne => absurd rfl hne)
  refine g_permG (WAB (dA := x.dA) (ad := ad) (am := am) (σ := s) (lam := lam) (r := r) (μ := s') (rows := rows)).symm ?_
  exact hN ca sl s lam r s' rows J sh (by omega) (by omega) hq (hS.sl (k_X7_keep SL.rf (v, s') e2)) hW
theorem lw_case38 {kS : gKS} {x : gX} {b L : Nat} {xs : Nat → Int32} {ad am : Nat → Nat} (hc : gOk x "HedgehogLotsLaw" cL_law 4 24 11014) (hz : gZs kS x.A x.s x.s.heap) (hl0 : x.l.stackTraces = false) (hX : va_X b L xs x.s x.s.heap) (hbl : b < x.s.heap.size) (hbA : ¬ x.A b) (hL : L ≤ 384) (hRc : 603072 ≤ x.R.cells ∧ 7262314 ≤ x.R.slots) {t ca sl : Nat} (ht : t < 64) (h6 : 6 * t + 6 ≤ L) (hca : ca ≤ 53 + 9 * t) (hsl : sl ≤ 1170 + 610 * t) {σ : Nat → Nat → Int32} {lam : Nat → Int64} {r : Nat → Option Nat} {μ : Nat → Nat → Int32} {rows : va_W} {J : Nat → Nat} {sh : gSh} (hR : RX σ μ) (hS : ShR sh μ) (hW : RwAt x.dA r rows J sh) (hN : LwN x b ad am t) : gG x 4 ca sl (WA x.dA ad am σ lam r μ rows) 1430 [(0, .ref b), (1, .ref (ad 0)), (2, .ref (am 0)), (3, .int (nI (6 * t)))] [] := by
  obtain ⟨p, hr⟩ := hR
  obtain ⟨hR1, hR2⟩ := hRc
  unfold WA
  obtain ⟨v, s, s', e1, e2, hq⟩ := op_back hr (xs (nI (6 * t) + 1).toNatClampNeg)
  refine g_aload_n hc dL_law_1430 rfl 1 rfl ?_
  refine g_aload_n hc dL_law_1431 rfl 0 rfl ?_
  refine g_iload_n hc dL_law_1432 rfl 3 rfl ?_
  refine g_iconst (v := 1) hc dL_law_1433 (by decide) ?_
  refine g_iadd hc dL_law_1434 ?_
  refine g_sld hc hX hbl hbA (sl_in (j := 1) h6 hL (by decide)) dL_law_1435 ?_
  refine g_callVi hc [.int (xs (nI (6 * t) + 1).toNatClampNeg)] [] (c_X0_back (Nat.le_refl 36) e1) (XW_at (k := 0) (by decide)) rfl (lw_V q830 q831 q832 q60 q833) rfl hd_X0_back rfl rfl (Nat.le_of_ble_eq_true rfl) ⟨by omega, by omega⟩ dL_law_1436 ?_
  refine g_aload_n hc dL_law_1439 rfl 2 rfl ?_
  refine g_aload_n hc dL_law_1440 rfl 0 rfl ?_
  refine g_iload_n hc dL_law_1441 rfl 3 rfl ?_
  refine g_iconst (v := 1) hc dL_law_1442 (by decide) ?_
  refine g_iadd hc dL_law_1443 ?_
  refine g_sld hc hX hbl hbA (sl_in (j := 1) h6 hL (by decide)) dL_law_1444 ?_
  refine g_permG (WAB (dA := x.dA) (ad := ad) (am := am) (σ := s) (lam := lam) (r := r) (μ := μ) (rows := rows)) ?_
  unfold WB
  refine g_callVi hc [.int (xs (nI (6 * t) + 1).toNatClampNeg)] [.int v] (c_X7_back e2) (MW_at (k := 0) (by decide)) rfl (lw_V q1350 q1351 q1352 q67 q1353) rfl hd_X7_back rfl rfl (Nat.le_of_ble_eq_true rfl) ⟨by omega, by omega⟩ dL_law_1445 ?_
  refine g_icmp_eq (tgt := 1628) hc dL_law_1448 (by decide) (fun _ => ?_) (fun hne => absurd rfl hne)
  refine g_permG (WAB (dA := x.dA) (ad := ad) (am := am) (σ := s) (lam := lam) (r := r) (μ := s') (rows := rows)).symm ?_
  exact hN ca sl s lam r s' rows J sh (by omega) (by omega) hq (hS.sl (k_X7_back SL.rf (v, s') e2)) hW
theorem lw_case39 {kS : gKS} {x : gX} {b L : Nat} {xs : Nat → Int32} {ad am : Nat → Nat} (hc : gOk x "HedgehogLotsLaw" cL_law 4 24 11014) (hz : gZs kS x.A x.s x.s.heap) (hl0 : x.l.stackTraces = false) (hX : va_X b L xs x.s x.s.heap) (hbl : b < x.s.heap.size) (hbA : ¬ x.A b) (hL : L ≤ 384) (hRc : 603072 ≤ x.R.cells ∧ 7262314 ≤ x.R.slots) {t ca sl : Nat} (ht : t < 64) (h6 : 6 * t + 6 ≤ L) (hca : ca ≤ 53 + 9 * t) (hsl : sl ≤ 1170 + 610 * t) {σ : Nat → Nat → Int32} {lam : Nat → Int64} {r : Nat → Option Nat} {μ : Nat → Nat → Int32} {rows : va_W} {J : Nat → Nat} {sh : gSh} (hR : RX σ μ) (hS : ShR sh μ) (hW : RwAt x.dA r rows J sh) (hN : LwN x b ad am t) : gG x 4 ca sl (WA x.dA ad am σ lam r μ rows) 1453 [(0, .ref b), (1, .ref (ad 0)), (2, .ref (am 0)), (3, .int (nI (6 * t)))] [] := by
  obtain ⟨p, hr⟩ := hR
  obtain ⟨hR1, hR2⟩ := hRc
  unfold WA
  obtain ⟨b0, v, μ', e1, hk, e2, hr', hif⟩ := op_sheet hr hS (xs (nI (6 * t) + 1).toNatClampNeg) (xs (nI (6 * t) + 2).toNatClampNeg) (xs (nI (6 * t) + 3).toNatClampNeg)
  have go : ∀ (r2 : Nat → Option Nat) (rows2 : va_W) (J2 : Nat → Nat) (sh2 : gSh), ShR sh2 μ' → RwAt x.dA r2 rows2 J2 sh2 → gG x 4 (ca + 3) (sl + 54) (XW x.dA 36 ad σ lam ++ (SHc ad r2 ++ (MW x.dA am μ ++ rows2))) 1472 [(0, .ref b), (1, .ref (ad 0)), (2, .ref (am 0)), (3, .int (nI (6 * t)))] [.int v] := by
    intro r2 rows2 J2 sh2 hS2 hW2
    refine g_aload_n hc dL_law_1472 rfl 2 rfl ?_
    refine g_aload_n hc dL_law_1473 rfl 0 rfl ?_
    refine g_iload_n hc dL_law_1474 rfl 3 rfl ?_
    refine g_iconst (v := 1) hc dL_law_1475 (by decide) ?_
    refine g_iadd hc dL_law_1476 ?_
    refine g_sld hc hX hbl hbA (sl_in (j := 1) h6 hL (by decide)) dL_law_1477 ?_
    refine g_aload_n hc dL_law_1478 rfl 0 rfl ?_
    refine g_iload_n hc dL_law_1479 rfl 3 rfl ?_
    refine g_iconst (v := 2) hc dL_law_1480 (by decide) ?_
    refine g_iadd hc dL_law_1481 ?_
    refine g_sld hc hX hbl hbA (sl_in (j := 2) h6 hL (by decide)) dL_law_1482 ?_
    refine g_aload_n hc dL_law_1483 rfl 0 rfl ?_
    refine g_iload_n hc dL_law_1484 rfl 3 rfl ?_
    refine g_iconst (v := 3) hc dL_law_1485 (by decide) ?_
    refine g_iadd hc dL_law_1486 ?_
    refine g_sld hc hX hbl hbA (sl_in (j := 3) h6 hL (by decide)) dL_law_1487 ?_
    refine g_permG (WAB (dA := x.dA) (ad := ad) (am := am) (σ := σ) (lam := lam) (r := r2) (μ := μ) (rows := rows2)) ?_
    unfold WB
    refine g_callVi hc [.int (xs (nI (6 * t) + 1).toNatClampNeg), .int (xs (nI (6 * t) + 2).toNatClampNeg), .int (xs (nI (6 * t) + 3).toNatClampNeg)] [.int v] (c_X7_sheet e2) (MW_at (k := 0) (by decide)) rfl (lw_V q1354 q1355 q1356 q67 q1357) rfl hd_X7_sheet rfl rfl (Nat.le_of_ble_eq_true rfl) ⟨by omega, by omega⟩ dL_law_1488 ?_
    refine g_icmp_eq (tgt := 1628) hc dL_law_1491 (by decide) (fun _ => ?_) (fun hne => absurd rfl hne)
    refine g_permG (WAB (dA := x.dA) (ad := ad) (am := am) (σ := σ) (lam := lam) (r := r2) (μ := μ') (rows := rows2)).symm ?_
    exact hN _ _ σ lam r2 μ' rows2 J2 sh2 (by omega) (by omega) ⟨p, hr'⟩ hS2 hW2
  refine g_aload_n hc dL_law_1453 rfl 1 rfl ?_
  refine g_aload_n hc dL_law_1454 rfl 0 rfl ?_
  refine g_iload_n hc dL_law_1455 rfl 3 rfl ?_
  refine g_iconst (v := 1) hc dL_law_1456 (by decide) ?_
  refine g_iadd hc dL_law_1457 ?_
  refine g_sld hc hX hbl hbA (sl_in (j := 1) h6 hL (by decide)) dL_law_1458 ?_
  refine g_aload_n hc dL_law_1459 rfl 0 rfl ?_
  refine g_iload_n hc dL_law_1460 rfl 3 rfl ?_
  refine g_iconst (v := 2) hc dL_law_1461 (by decide) ?_
  refine g_iadd hc dL_law_1462 ?_
  refine g_sld hc hX hbl hbA (sl_in (j := 2) h6 hL (by decide)) dL_law_1463 ?_
  refine g_aload_n hc dL_law_1464 rfl 0 rfl ?_
  refine g_iload_n hc dL_law_1465 rfl 3 rfl ?_
  refine g_iconst (v := 3) hc dL_law_1466 (by decide) ?_
  refine g_iadd hc dL_law_1467 ?_
  refine g_sld hc hX hbl hbA (sl_in (j := 3) h6 hL (by decide)) dL_law_1468 ?_
  refine g_callTiW hc hz [.int (xs (nI (6 * t) + 1).toNatClampNeg), .int (xs (nI (6 * t) + 2).toNatClampNeg), .int (xs (nI (6 * t) + 3).toNatClampNeg)] [] (c_X0_sheet hl0 e1 hk) (XW_at (k := 0) (by decide)) rfl (lw_VW q834 q835 q836 q60 q837) rfl hd_X0_sheet rfl rfl (Nat.le_of_ble_eq_true rfl) ⟨by omega, by omega⟩ dL_law_1469 (fun v1 Φ1 h1 => ?_)
  unfold shOut at h1
  by_cases q1 : b0 = 0 ∨ 40 < (xs (nI (6 * t) + 3).toNatClampNeg)
  · rw [if_pos q1] at h1 hif
    have g1 : v1 = -1 := congrArg Prod.fst h1
    have g2 := congrArg Prod.snd h1
    dsimp only at g2
    rw [g1, ← hif.1, g2]
    exact go r rows J sh hif.2 hW
  · rw [if_neg q1] at h1 hif
    by_cases q2 : (xs (nI (6 * t) + 3).toNatClampNeg) < 0
    · rw [if_pos q2] at h1 hif
      have g1 : v1 = -14 := congrArg Prod.fst h1
      have g2 := congrArg Prod.snd h1
      dsimp only at g2
      rw [g1, ← hif.1, g2]
      exact go r rows J sh hif.2 hW
    · rw [if_neg q2] at h1 hif
      obtain ⟨q, h1⟩ := h1
      obtain ⟨i1, i2, i3, i4⟩ := hif
      have g1 : v1 = 1 := congrArg Prod.fst h1
      have g2 := congrArg Prod.snd h1
      dsimp only at g2
      rw [g1, ← i1, g2, List.append_assoc (MW x.dA am μ) rows]
      exact go _ _ _ _ i4 (hW.new i3 (laC_ty _) i2)
theorem lw_case40 {kS : gKS} {x : gX} {b L : Nat} {xs : Nat → Int32} {ad am : Nat → Nat} (hc : gOk x "HedgehogLotsLaw" cL_law 4 24 11014) (hz : gZs kS x.A x.s x.s.heap) (hl0 : x.l.stackTraces = false) (hX : va_X b L xs x.s x.s.heap) (hbl : b < x.s.heap.size) (hbA : ¬ x.A b) (hL : L ≤ 384) (hRc : 603072 ≤ x.R.cells ∧ 7262314 ≤ x.R.slots) {t ca sl : Nat} (ht : t < 64) (h6 : 6 * t + 6 ≤ L) (hca : ca ≤ 53 + 9 * t) (hsl : sl ≤ 1170 + 610 * t) {σ : Nat → Nat → Int32} {lam : Nat → Int64} {r : Nat → Option Nat} {μ : Nat → Nat → Int32} {rows : va_W} {J : Nat → Nat} {sh : gSh} (hR : RX σ μ) (hS : ShR sh μ) (hW : RwAt x.dA r rows J sh) (hN : LwN x b ad am t) : gG x 4 ca sl (WA x.dA ad am σ lam r μ rows) 1496 [(0, .ref b), (1, .ref (ad 0)), (2, .ref (am 0)), (3, .int (nI (6 * t)))] [] := by
  obtain ⟨p, hr⟩ := hR
  obtain ⟨hR1, hR2⟩ := hRc
  unfold WA
  obtain ⟨b0, v, μ', e1, hk, e2, hr', hif⟩ := op_write hr hS (xs (nI (6 * t) + 1).toNatClampNeg) (xs (nI (6 * t) + 2).toNatClampNeg) (xs (nI (6 * t) + 3).toNatClampNeg)
  have go : ∀ (r2 : Nat → Option Nat) (rows2 : va_W) (J2 : Nat → Nat) (sh2 : gSh), ShR sh2 μ' → RwAt x.dA r2 rows2 J2 sh2 → gG x 4 (ca + 3) (sl + 222) (XW x.dA 36 ad σ lam ++ (SHc ad r2 ++ (MW x.dA am μ ++ rows2))) 1515 [(0, .ref b), (1, .ref (ad 0)), (2, .ref (am 0)), (3, .int (nI (6 * t)))] [.int v] := by
    intro r2 rows2 J2 sh2 hS2 hW2
    refine g_aload_n hc dL_law_1515 rfl 2 rfl ?_
    refine g_aload_n hc dL_law_1516 rfl 0 rfl ?_
    refine g_iload_n hc dL_law_1517 rfl 3 rfl ?_
    refine g_iconst (v := 1) hc dL_law_1518 (by decide) ?_
    refine g_iadd hc dL_law_1519 ?_
    refine g_sld hc hX hbl hbA (sl_in (j := 1) h6 hL (by decide)) dL_law_1520 ?_
    refine g_aload_n hc dL_law_1521 rfl 0 rfl ?_
    refine g_iload_n hc dL_law_1522 rfl 3 rfl ?_
    refine g_iconst (v := 2) hc dL_law_1523 (by decide) ?_
    refine g_iadd hc dL_law_1524 ?_
    refine g_sld hc hX hbl hbA (sl_in (j := 2) h6 hL (by decide)) dL_law_1525 ?_
    refine g_aload_n hc dL_law_1526 rfl 0 rfl ?_
    refine g_iload_n hc dL_law_1527 rfl 3 rfl ?_
    refine g_iconst (v := 3) hc dL_law_1528 (by decide) ?_
    refine g_iadd hc dL_law_1529 ?_
    refine g_sld hc hX hbl hbA (sl_in (j := 3) h6 hL (by decide)) dL_law_1530 ?_
    refine g_permG (WAB (dA := x.dA) (ad := ad) (am := am) (σ := σ) (lam := lam) (r := r2) (μ := μ) (rows := rows2)) ?_
    unfold WB
    refine g_callVi hc [.int (xs (nI (6 * t) + 1).toNatClampNeg), .int (xs (nI (6 * t) + 2).toNatClampNeg), .int (xs (nI (6 * t) + 3).toNatClampNeg)] [.int v] (c_X7_write e2) (MW_at (k := 0) (by decide)) rfl (lw_V q1358 q1359 q1360 q67 q1361) rfl hd_X7_write rfl rfl (Nat.le_of_ble_eq_true rfl) ⟨by omega, by omega⟩ dL_law_1531 ?_
    refine g_icmp_eq (tgt := 1628) hc dL_law_1534 (by decide) (fun _ => ?_) (fun hne => absurd rfl hne)
    refine g_permG (WAB (dA := x.dA) (ad := ad) (am := am) (σ := σ) (lam := lam) (r := r2) (μ := μ') (rows := rows2)).symm ?_
    exact hN _ _ σ lam r2 μ' rows2 J2 sh2 (by omega) (by omega) ⟨p, hr'⟩ hS2 hW2
  refine g_aload_n hc dL_law_1496 rfl 1 rfl ?_
  refine g_aload_n hc dL_law_1497 rfl 0 rfl ?_
  refine g_iload_n hc dL_law_1498 rfl 3 rfl ?_
  refine g_iconst (v := 1) hc dL_law_1499 (by decide) ?_
  refine g_iadd hc dL_law_1500 ?_
  refine g_sld hc hX hbl hbA (sl_in (j := 1) h6 hL (by decide)) dL_law_1501 ?_
  refine g_aload_n hc dL_law_1502 rfl 0 rfl ?_
  refine g_iload_n hc dL_law_1503 rfl 3 rfl ?_
  refine g_iconst (v := 2) hc dL_law_1504 (by decide) ?_
  refine g_iadd hc dL_law_1505 ?_
  refine g_sld hc hX hbl hbA (sl_in (j := 2) h6 hL (by decide)) dL_law_1506 ?_
  refine g_aload_n hc dL_law_1507 rfl 0 rfl ?_
  refine g_iload_n hc dL_law_1508 rfl 3 rfl ?_
  refine g_iconst (v := 3) hc dL_law_1509 (by decide) ?_
  refine g_iadd hc dL_law_1510 ?_
  refine g_sld hc hX hbl hbA (sl_in (j := 3) h6 hL (by decide)) dL_law_1511 ?_
  refine g_callTiW hc hz [.int (xs (nI (6 * t) + 1).toNatClampNeg), .int (xs (nI (6 * t) + 2).toNatClampNeg), .int (xs (nI (6 * t) + 3).toNatClampNeg)] [] (c_X0_write hl0 e1 hk (hW.app (pre := MW x.dA am μ))) (XW_at (k := 0) (by decide)) rfl (lw_VW q872 q873 q874 q60 q875) rfl hd_X0_write rfl rfl (Nat.le_of_ble_eq_true rfl) ⟨by omega, by omega⟩ dL_law_1512 (fun v1 Φ1 h1 => ?_)
  by_cases q1 : b0 = 0
  · rw [if_pos q1] at h1 hif
    have g1 : v1 = -1 := congrArg Prod.fst h1
    have g2 := congrArg Prod.snd h1
    dsimp only at g2
    rw [g1, ← hif.1, g2]
    exact go r rows J sh hif.2 hW
  · rw [if_neg q1] at h1 hif
    obtain ⟨tl', hset, hW', h1⟩ := h1
    have g1 := congrArg Prod.fst h1
    have g2 := congrArg Prod.snd h1
    dsimp only at g1 g2
    rw [g1, ← hif.1, g2]
    rcases hset with e | ⟨e, _, hset⟩
    · subst e
      exact go _ rows J _ hif.2 hW'.unapp
    · rw [set_app] at hset
      subst hset
      exact go _ _ J _ hif.2 hW'.unapp
theorem lw_case41 {kS : gKS} {x : gX} {b L : Nat} {xs : Nat → Int32} {ad am : Nat → Nat} (hc : gOk x "HedgehogLotsLaw" cL_law 4 24 11014) (hz : gZs kS x.A x.s x.s.heap) (hl0 : x.l.stackTraces = false) (hX : va_X b L xs x.s x.s.heap) (hbl : b < x.s.heap.size) (hbA : ¬ x.A b) (hL : L ≤ 384) (hRc : 603072 ≤ x.R.cells ∧ 7262314 ≤ x.R.slots) {t ca sl : Nat} (ht : t < 64) (h6 : 6 * t + 6 ≤ L) (hca : ca ≤ 53 + 9 * t) (hsl : sl ≤ 1170 + 610 * t) {σ : Nat → Nat → Int32} {lam : Nat → Int64} {r : Nat → Option Nat} {μ : Nat → Nat → Int32} {rows : va_W} {J : Nat → Nat} {sh : gSh} (hR : RX σ μ) (hS : ShR sh μ) (hW : RwAt x.dA r rows J sh) (hN : LwN x b ad am t) : gG x 4 ca sl (WA x.dA ad am σ lam r μ rows) 1539 [(0, .ref b), (1, .ref (ad 0)), (2, .ref (am 0)), (3, .int (nI (6 * t)))] [] := by
  obtain ⟨p, hr⟩ := hR
  obtain ⟨hR1, hR2⟩ := hRc
  unfold WA
  obtain ⟨v, s, s', e1, e2, hq⟩ := op_read hr hS (xs (nI (6 * t) + 1).toNatClampNeg) (xs (nI (6 * t) + 2).toNatClampNeg) (xs (nI (6 * t) + 3).toNatClampNeg) (xs (nI (6 * t) + 4).toNatClampNeg)
  refine g_aload_n hc dL_law_1539 rfl 1 rfl ?_
  refine g_aload_n hc dL_law_1540 rfl 0 rfl ?_
  refine g_iload_n hc dL_law_1541 rfl 3 rfl ?_
  refine g_iconst (v := 1) hc dL_law_1542 (by decide) ?_
  refine g_iadd hc dL_law_1543 ?_
  refine g_sld hc hX hbl hbA (sl_in (j := 1) h6 hL (by decide)) dL_law_1544 ?_
  refine g_aload_n hc dL_law_1545 rfl 0 rfl ?_
  refine g_iload_n hc dL_law_1546 rfl 3 rfl ?_
  refine g_iconst (v := 2) hc dL_law_1547 (by decide) ?_
  refine g_iadd hc dL_law_1548 ?_
  refine g_sld hc hX hbl hbA (sl_in (j := 2) h6 hL (by decide)) dL_law_1549 ?_
  refine g_aload_n hc dL_law_1550 rfl 0 rfl ?_
  refine g_iload_n hc dL_law_1551 rfl 3 rfl ?_
  refine g_iconst (v := 3) hc dL_law_1552 (by decide) ?_
  refine g_iadd hc dL_law_1553 ?_
  refine g_sld hc hX hbl hbA (sl_in (j := 3) h6 hL (by decide)) dL_law_1554 ?_
  refine g_aload_n hc dL_law_1555 rfl 0 rfl ?_
  refine g_iload_n hc dL_law_1556 rfl 3 rfl ?_
  refine g_iconst (v := 4) hc dL_law_1557 (by decide) ?_
  refine g_iadd hc dL_law_1558 ?_
  refine g_sld hc hX hbl hbA (sl_in (j := 4) h6 hL (by decide)) dL_law_1559 ?_
  refine g_callTiW hc hz [.int (xs (nI (6 * t) + 1).toNatClampNeg), .int (xs (nI (6 * t) + 2).toNatClampNeg), .int (xs (nI (6 * t) + 3).toNatClampNeg), .int (xs (nI (6 * t) + 4).toNatClampNeg)] [] (c_X0_read hl0 e1 isSheet_k (hW.app (pre := MW x.dA am μ))) (XW_at (k := 0) (by decide)) rfl (lw_VW q923 q924 q925 q60 q926) rfl hd_X0_read rfl rfl (Nat.le_of_ble_eq_true rfl) ⟨by omega, by omega⟩ dL_law_1560 (fun v1 Φ1 h1 => ?_)
  have g1 : v1 = v := congrArg Prod.fst h1
  have g2 : Φ1 = XW x.dA 36 ad s lam ++ (SHc ad r ++ (MW x.dA am μ ++ rows)) := congrArg Prod.snd h1
  subst g1
  subst g2
  refine g_aload_n hc dL_law_1563 rfl 2 rfl ?_
  refine g_aload_n hc dL_law_1564 rfl 0 rfl ?_
  refine g_iload_n hc dL_law_1565 rfl 3 rfl ?_
  refine g_iconst (v := 1) hc dL_law_1566 (by decide) ?_
  refine g_iadd hc dL_law_1567 ?_
  refine g_sld hc hX hbl hbA (sl_in (j := 1) h6 hL (by decide)) dL_law_1568 ?_
  refine g_aload_n hc dL_law_1569 rfl 0 rfl ?_
  refine g_iload_n hc dL_law_1570 rfl 3 rfl ?_
  refine g_iconst (v := 2) hc dL_law_1571 (by decide) ?_
  refine g_iadd hc dL_law_1572 ?_
  refine g_sld hc hX hbl hbA (sl_in (j := 2) h6 hL (by decide)) dL_law_1573 ?_
  refine g_aload_n hc dL_law_1574 rfl 0 rfl ?_
  refine g_iload_n hc dL_law_1575 rfl 3 rfl ?_
  refine g_iconst (v := 3) hc dL_law_1576 (by decide) ?_
  refine g_iadd hc dL_law_1577 ?_
  refine g_sld hc hX hbl hbA (sl_in (j := 3) h6 hL (by decide)) dL_law_1578 ?_
  refine g_aload_n hc dL_law_1579 rfl 0 rfl ?_
  refine g_iload_n hc dL_law_1580 rfl 3 rfl ?_
  refine g_iconst (v := 4) hc dL_law_1581 (by decide) ?_
  refine g_iadd hc dL_law_1582 ?_
  refine g_sld hc hX hbl hbA (sl_in (j := 4) h6 hL (by decide)) dL_law_1583 ?_
  refine g_permG (WAB (dA := x.dA) (ad := ad) (am := am) (σ := s) (lam := lam) (r := r) (μ := μ) (rows := rows)) ?_
  unfold WB
  refine g_callVi hc [.int (xs (nI (6 * t) + 1).toNatClampNeg), .int (xs (nI (6 * t) + 2).toNatClampNeg), .int (xs (nI (6 * t) + 3).toNatClampNeg), .int (xs (nI (6 * t) + 4).toNatClampNeg)] [.int v1] (c_X7_read e2) (MW_at (k := 0) (by decide)) rfl (lw_V q1362 q1363 q1364 q67 q1365) rfl hd_X7_read rfl rfl (Nat.le_of_ble_eq_true rfl) ⟨by omega, by omega⟩ dL_law_1584 ?_
  refine g_icmp_eq (tgt := 1628) hc dL_law_1587 (by decide) (fun _ => ?_) (fun hne => absurd rfl hne)
  refine g_permG (WAB (dA := x.dA) (ad := ad) (am := am) (σ := s) (lam := lam) (r := r) (μ := s') (rows := rows)).symm ?_
  exact hN _ _ s lam r s' rows J sh (by omega) (by omega) hq (hS.sl (k_X7_read SL.rf (v1, s') e2)) hW
theorem lw_case42 {kS : gKS} {x : gX} {b L : Nat} {xs : Nat → Int32} {ad am : Nat → Nat} (hc : gOk x "HedgehogLotsLaw" cL_law 4 24 11014) (hz : gZs kS x.A x.s x.s.heap) (hl0 : x.l.stackTraces = false) (hX : va_X b L xs x.s x.s.heap) (hbl : b < x.s.heap.size) (hbA : ¬ x.A b) (hL : L ≤ 384) (hRc : 603072 ≤ x.R.cells ∧ 7262314 ≤ x.R.slots) {t ca sl : Nat} (ht : t < 64) (h6 : 6 * t + 6 ≤ L) (hca : ca ≤ 53 + 9 * t) (hsl : sl ≤ 1170 + 610 * t) {σ : Nat → Nat → Int32} {lam : Nat → Int64} {r : Nat → Option Nat} {μ : Nat → Nat → Int32} {rows : va_W} {J : Nat → Nat} {sh : gSh} (hR : RX σ μ) (hS : ShR sh μ) (hW : RwAt x.dA r rows J sh) (hN : LwN x b ad am t) : gG x 4 ca sl (WA x.dA ad am σ lam r μ rows) 1592 [(0, .ref b), (1, .ref (ad 0)), (2, .ref (am 0)), (3, .int (nI (6 * t)))] [] := by
  obtain ⟨p, hr⟩ := hR
  obtain ⟨hR1, hR2⟩ := hRc
  unfold WA
  obtain ⟨v, e1, e2⟩ := op_torn hr
  refine g_aload_n hc dL_law_1592 rfl 1 rfl ?_
  refine g_callVi hc [] [] (c_X0_torn (Nat.le_refl 36) e1) (XW_at (k := 0) (by decide)) rfl (lw_V q947 q948 q949 q60 q950) rfl hd_X0_torn rfl rfl (Nat.le_of_ble_eq_true rfl) ⟨by omega, by omega⟩ dL_law_1593 ?_
  refine g_aload_n hc dL_law_1596 rfl 2 rfl ?_
  refine g_permG (WAB (dA := x.dA) (ad := ad) (am := am) (σ := σ) (lam := lam) (r := r) (μ := μ) (rows := rows)) ?_
  unfold WB
  refine g_callVi hc [] [.int v] (c_X7_torn e2) (MW_at (k := 0) (by decide)) rfl (lw_V q1367 q1368 q1369 q67 q1370) rfl hd_X7_torn rfl rfl (Nat.le_of_ble_eq_true rfl) ⟨by omega, by omega⟩ dL_law_1597 ?_
  refine g_icmp_eq (tgt := 1628) hc dL_law_1600 (by decide) (fun _ => ?_) (fun hne => absurd rfl hne)
  refine g_permG (WAB (dA := x.dA) (ad := ad) (am := am) (σ := σ) (lam := lam) (r := r) (μ := μ) (rows := rows)).symm ?_
  exact hN ca sl σ lam r μ rows J sh (by omega) (by omega) ⟨p, hr⟩ hS hW
theorem lw_case43 {kS : gKS} {x : gX} {b L : Nat} {xs : Nat → Int32} {ad am : Nat → Nat} (hc : gOk x "HedgehogLotsLaw" cL_law 4 24 11014) (hz : gZs kS x.A x.s x.s.heap) (hl0 : x.l.stackTraces = false) (hX : va_X b L xs x.s x.s.heap) (hbl : b < x.s.heap.size) (hbA : ¬ x.A b) (hL : L ≤ 384) (hRc : 603072 ≤ x.R.cells ∧ 7262314 ≤ x.R.slots) {t ca sl : Nat} (ht : t < 64) (h6 : 6 * t + 6 ≤ L) (hca : ca ≤ 53 + 9 * t) (hsl : sl ≤ 1170 + 610 * t) {σ : Nat → Nat → Int32} {lam : Nat → Int64} {r : Nat → Option Nat} {μ : Nat → Nat → Int32} {rows : va_W} {J : Nat → Nat} {sh : gSh} (hR : RX σ μ) (hS : ShR sh μ) (hW : RwAt x.dA r rows J sh) (hN : LwN x b ad am t) : gG x 4 ca sl (WA x.dA ad am σ lam r μ rows) 1605 [(0, .ref b), (1, .ref (ad 0)), (2, .ref (am 0)), (3, .int (nI (6 * t)))] [] := by
  obtain ⟨p, hr⟩ := hR
  obtain ⟨hR1, hR2⟩ := hRc
  unfold WA
  obtain ⟨v, e1, e2⟩ := op_count hr hS (xs (nI (6 * t) + 1).toNatClampNeg)
  refine g_aload_n hc dL_law_1605 rfl 1 rfl ?_
  refine g_aload_n hc dL_law_1606 rfl 0 rfl ?_
  refine g_iload_n hc dL_law_1607 rfl 3 rfl ?_
  refine g_iconst (v := 1) hc dL_law_1608 (by decide) ?_
  refine g_iadd hc dL_law_1609 ?_
  refine g_sld hc hX hbl hbA (sl_in (j := 1) h6 hL (by decide)) dL_law_1610 ?_
  refine g_callVzi hc hz [.int (xs (nI (6 * t) + 1).toNatClampNeg)] [] (c_X0_count e1 (hW.app (pre := MW x.dA am μ))) (XW_at (k := 0) (by decide)) rfl (lw_V q951 q952 q953 q60 q954) rfl hd_X0_count rfl rfl (Nat.le_of_ble_eq_true rfl) ⟨by omega, by omega⟩ dL_law_1611 ?_
  refine g_aload_n hc dL_law_1614 rfl 2 rfl ?_
  refine g_aload_n hc dL_law_1615 rfl 0 rfl ?_
  refine g_iload_n hc dL_law_1616 rfl 3 rfl ?_
  refine g_iconst (v := 1) hc dL_law_1617 (by decide) ?_
  refine g_iadd hc dL_law_1618 ?_
  refine g_sld hc hX hbl hbA (sl_in (j := 1) h6 hL (by decide)) dL_law_1619 ?_
  refine g_permG (WAB (dA := x.dA) (ad := ad) (am := am) (σ := σ) (lam := lam) (r := r) (μ := μ) (rows := rows)) ?_
  unfold WB
  refine g_callVi hc [.int (xs (nI (6 * t) + 1).toNatClampNeg)] [.int v] (c_X7_count e2) (MW_at (k := 0) (by decide)) rfl (lw_V q1371 q1372 q1373 q67 q1374) rfl hd_X7_count rfl rfl (Nat.le_of_ble_eq_true rfl) ⟨by omega, by omega⟩ dL_law_1620 ?_
  refine g_icmp_eq (tgt := 1628) hc dL_law_1623 (by decide) (fun _ => ?_) (fun hne => absurd rfl hne)
  refine g_permG (WAB (dA := x.dA) (ad := ad) (am := am) (σ := σ) (lam := lam) (r := r) (μ := μ) (rows := rows)).symm ?_
  exact hN ca sl σ lam r μ rows J sh (by omega) (by omega) ⟨p, hr⟩ hS hW
