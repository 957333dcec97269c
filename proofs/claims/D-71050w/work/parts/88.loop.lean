/-! ===== the law's switch and loop (printed by gen/loop.py) ===== -/
set_option maxRecDepth 100000
theorem lw_switch {kS : gKS} {x : gX} {b L : Nat} {xs : Nat → Int32} {ad am : Nat → Nat} (hc : gOk x "HedgehogLotsLaw" cL_law 4 24 11014) (hz : gZs kS x.A x.s x.s.heap) (hl0 : x.l.stackTraces = false) (hX : va_X b L xs x.s x.s.heap) (hbl : b < x.s.heap.size) (hbA : ¬ x.A b) (hL : L ≤ 384) (hRc : 603072 ≤ x.R.cells ∧ 7262314 ≤ x.R.slots) {t ca sl : Nat} (ht : t < 64) (h6 : 6 * t + 6 ≤ L) (hca : ca ≤ 53 + 9 * t) (hsl : sl ≤ 1170 + 610 * t) {σ : Nat → Nat → Int32} {lam : Nat → Int64} {r : Nat → Option Nat} {μ : Nat → Nat → Int32} {rows : va_W} {J : Nat → Nat} {sh : gSh} (hR : RX σ μ) (hS : ShR sh μ) (hW : RwAt x.dA r rows J sh) (hN : LwN x b ad am t) (w : Int32) : gG x 4 ca sl (WA x.dA ad am σ lam r μ rows) 33 [(0, .ref b), (1, .ref (ad 0)), (2, .ref (am 0)), (3, .int (nI (6 * t)))] [.int w] := by
  by_cases y0 : w = 0
  · exact g_tabIn (tgt := 224) hc dL_law_33 (by rw [y0]; decide) (by rw [y0]; decide) (by rw [y0]; rfl) (by decide) (lw_case0 hc hz hl0 hX hbl hbA hL hRc ht h6 hca hsl hR hS hW hN)
  by_cases y1 : w = 1
  · exact g_tabIn (tgt := 247) hc dL_law_33 (by rw [y1]; decide) (by rw [y1]; decide) (by rw [y1]; rfl) (by decide) (lw_case1 hc hz hl0 hX hbl hbA hL hRc ht h6 hca hsl hR hS hW hN)
  by_cases y2 : w = 2
  · exact g_tabIn (tgt := 270) hc dL_law_33 (by rw [y2]; decide) (by rw [y2]; decide) (by rw [y2]; rfl) (by decide) (lw_case2 hc hz hl0 hX hbl hbA hL hRc ht h6 hca hsl hR hS hW hN)
  by_cases y3 : w = 3
  · exact g_tabIn (tgt := 283) hc dL_law_33 (by rw [y3]; decide) (by rw [y3]; decide) (by rw [y3]; rfl) (by decide) (lw_case3 hc hz hl0 hX hbl hbA hL hRc ht h6 hca hsl hR hS hW hN)
  by_cases y4 : w = 4
  · exact g_tabIn (tgt := 296) hc dL_law_33 (by rw [y4]; decide) (by rw [y4]; decide) (by rw [y4]; rfl) (by decide) (lw_case4 hc hz hl0 hX hbl hbA hL hRc ht h6 hca hsl hR hS hW hN)
  by_cases y5 : w = 5
  · exact g_tabIn (tgt := 319) hc dL_law_33 (by rw [y5]; decide) (by rw [y5]; decide) (by rw [y5]; rfl) (by decide) (lw_case5 hc hz hl0 hX hbl hbA hL hRc ht h6 hca hsl hR hS hW hN)
  by_cases y6 : w = 6
  · exact g_tabIn (tgt := 352) hc dL_law_33 (by rw [y6]; decide) (by rw [y6]; decide) (by rw [y6]; rfl) (by decide) (lw_case6 hc hz hl0 hX hbl hbA hL hRc ht h6 hca hsl hR hS hW hN)
  by_cases y7 : w = 7
  · exact g_tabIn (tgt := 375) hc dL_law_33 (by rw [y7]; decide) (by rw [y7]; decide) (by rw [y7]; rfl) (by decide) (lw_case7 hc hz hl0 hX hbl hbA hL hRc ht h6 hca hsl hR hS hW hN)
  by_cases y8 : w = 8
  · exact g_tabIn (tgt := 408) hc dL_law_33 (by rw [y8]; decide) (by rw [y8]; decide) (by rw [y8]; rfl) (by decide) (lw_case8 hc hz hl0 hX hbl hbA hL hRc ht h6 hca hsl hR hS hW hN)
  by_cases y9 : w = 9
  · exact g_tabIn (tgt := 441) hc dL_law_33 (by rw [y9]; decide) (by rw [y9]; decide) (by rw [y9]; rfl) (by decide) (lw_case9 hc hz hl0 hX hbl hbA hL hRc ht h6 hca hsl hR hS hW hN)
  by_cases y10 : w = 10
  · exact g_tabIn (tgt := 474) hc dL_law_33 (by rw [y10]; decide) (by rw [y10]; decide) (by rw [y10]; rfl) (by decide) (lw_case10 hc hz hl0 hX hbl hbA hL hRc ht h6 hca hsl hR hS hW hN)
  by_cases y11 : w = 11
  · exact g_tabIn (tgt := 507) hc dL_law_33 (by rw [y11]; decide) (by rw [y11]; decide) (by rw [y11]; rfl) (by decide) (lw_case11 hc hz hl0 hX hbl hbA hL hRc ht h6 hca hsl hR hS hW hN)
  by_cases y12 : w = 12
  · exact g_tabIn (tgt := 550) hc dL_law_33 (by rw [y12]; decide) (by rw [y12]; decide) (by rw [y12]; rfl) (by decide) (lw_case12 hc hz hl0 hX hbl hbA hL hRc ht h6 hca hsl hR hS hW hN)
  by_cases y13 : w = 13
  · exact g_tabIn (tgt := 583) hc dL_law_33 (by rw [y13]; decide) (by rw [y13]; decide) (by rw [y13]; rfl) (by decide) (lw_case13 hc hz hl0 hX hbl hbA hL hRc ht h6 hca hsl hR hS hW hN)
  by_cases y14 : w = 14
  · exact g_tabIn (tgt := 606) hc dL_law_33 (by rw [y14]; decide) (by rw [y14]; decide) (by rw [y14]; rfl) (by decide) (lw_case14 hc hz hl0 hX hbl hbA hL hRc ht h6 hca hsl hR hS hW hN)
  by_cases y15 : w = 15
  · exact g_tabIn (tgt := 629) hc dL_law_33 (by rw [y15]; decide) (by rw [y15]; decide) (by rw [y15]; rfl) (by decide) (lw_case15 hc hz hl0 hX hbl hbA hL hRc ht h6 hca hsl hR hS hW hN)
  by_cases y16 : w = 16
  · exact g_tabIn (tgt := 662) hc dL_law_33 (by rw [y16]; decide) (by rw [y16]; decide) (by rw [y16]; rfl) (by decide) (lw_case16 hc hz hl0 hX hbl hbA hL hRc ht h6 hca hsl hR hS hW hN)
  by_cases y17 : w = 17
  · exact g_tabIn (tgt := 685) hc dL_law_33 (by rw [y17]; decide) (by rw [y17]; decide) (by rw [y17]; rfl) (by decide) (lw_case17 hc hz hl0 hX hbl hbA hL hRc ht h6 hca hsl hR hS hW hN)
  by_cases y18 : w = 18
  · exact g_tabIn (tgt := 728) hc dL_law_33 (by rw [y18]; decide) (by rw [y18]; decide) (by rw [y18]; rfl) (by decide) (lw_case18 hc hz hl0 hX hbl hbA hL hRc ht h6 hca hsl hR hS hW hN)
  by_cases y19 : w = 19
  · exact g_tabIn (tgt := 771) hc dL_law_33 (by rw [y19]; decide) (by rw [y19]; decide) (by rw [y19]; rfl) (by decide) (lw_case19 hc hz hl0 hX hbl hbA hL hRc ht h6 hca hsl hR hS hW hN)
  by_cases y20 : w = 20
  · exact g_tabIn (tgt := 794) hc dL_law_33 (by rw [y20]; decide) (by rw [y20]; decide) (by rw [y20]; rfl) (by decide) (lw_case20 hc hz hl0 hX hbl hbA hL hRc ht h6 hca hsl hR hS hW hN)
  by_cases y21 : w = 21
  · exact g_tabIn (tgt := 827) hc dL_law_33 (by rw [y21]; decide) (by rw [y21]; decide) (by rw [y21]; rfl) (by decide) (lw_case21 hc hz hl0 hX hbl hbA hL hRc ht h6 hca hsl hR hS hW hN)
  by_cases y22 : w = 22
  · exact g_tabIn (tgt := 860) hc dL_law_33 (by rw [y22]; decide) (by rw [y22]; decide) (by rw [y22]; rfl) (by decide) (lw_case22 hc hz hl0 hX hbl hbA hL hRc ht h6 hca hsl hR hS hW hN)
  by_cases y23 : w = 23
  · exact g_tabIn (tgt := 903) hc dL_law_33 (by rw [y23]; decide) (by rw [y23]; decide) (by rw [y23]; rfl) (by decide) (lw_case23 hc hz hl0 hX hbl hbA hL hRc ht h6 hca hsl hR hS hW hN)
  by_cases y24 : w = 24
  · exact g_tabIn (tgt := 936) hc dL_law_33 (by rw [y24]; decide) (by rw [y24]; decide) (by rw [y24]; rfl) (by decide) (lw_case24 hc hz hl0 hX hbl hbA hL hRc ht h6 hca hsl hR hS hW hN)
  by_cases y25 : w = 25
  · exact g_tabIn (tgt := 969) hc dL_law_33 (by rw [y25]; decide) (by rw [y25]; decide) (by rw [y25]; rfl) (by decide) (lw_case25 hc hz hl0 hX hbl hbA hL hRc ht h6 hca hsl hR hS hW hN)
  by_cases y26 : w = 26
  · exact g_tabIn (tgt := 1002) hc dL_law_33 (by rw [y26]; decide) (by rw [y26]; decide) (by rw [y26]; rfl) (by decide) (lw_case26 hc hz hl0 hX hbl hbA hL hRc ht h6 hca hsl hR hS hW hN)
  by_cases y27 : w = 27
  · exact g_tabIn (tgt := 1035) hc dL_law_33 (by rw [y27]; decide) (by rw [y27]; decide) (by rw [y27]; rfl) (by decide) (lw_case27 hc hz hl0 hX hbl hbA hL hRc ht h6 hca hsl hR hS hW hN)
  by_cases y28 : w = 28
  · exact g_tabIn (tgt := 1068) hc dL_law_33 (by rw [y28]; decide) (by rw [y28]; decide) (by rw [y28]; rfl) (by decide) (lw_case28 hc hz hl0 hX hbl hbA hL hRc ht h6 hca hsl hR hS hW hN)
  by_cases y29 : w = 29
  · exact g_tabIn (tgt := 1101) hc dL_law_33 (by rw [y29]; decide) (by rw [y29]; decide) (by rw [y29]; rfl) (by decide) (lw_case29 hc hz hl0 hX hbl hbA hL hRc ht h6 hca hsl hR hS hW hN)
  by_cases y30 : w = 30
  · exact g_tabIn (tgt := 1165) hc dL_law_33 (by rw [y30]; decide) (by rw [y30]; decide) (by rw [y30]; rfl) (by decide) (lw_case30 hc hz hl0 hX hbl hbA hL hRc ht h6 hca hsl hR hS hW hN)
  by_cases y31 : w = 31
  · exact g_tabIn (tgt := 1219) hc dL_law_33 (by rw [y31]; decide) (by rw [y31]; decide) (by rw [y31]; rfl) (by decide) (lw_case31 hc hz hl0 hX hbl hbA hL hRc ht h6 hca hsl hR hS hW hN)
  by_cases y32 : w = 32
  · exact g_tabIn (tgt := 1262) hc dL_law_33 (by rw [y32]; decide) (by rw [y32]; decide) (by rw [y32]; rfl) (by decide) (lw_case32 hc hz hl0 hX hbl hbA hL hRc ht h6 hca hsl hR hS hW hN)
  by_cases y33 : w = 33
  · exact g_tabIn (tgt := 1285) hc dL_law_33 (by rw [y33]; decide) (by rw [y33]; decide) (by rw [y33]; rfl) (by decide) (lw_case33 hc hz hl0 hX hbl hbA hL hRc ht h6 hca hsl hR hS hW hN)
  by_cases y34 : w = 34
  · exact g_tabIn (tgt := 1308) hc dL_law_33 (by rw [y34]; decide) (by rw [y34]; decide) (by rw [y34]; rfl) (by decide) (lw_case34 hc hz hl0 hX hbl hbA hL hRc ht h6 hca hsl hR hS hW hN)
  by_cases y35 : w = 35
  · exact g_tabIn (tgt := 1331) hc dL_law_33 (by rw [y35]; decide) (by rw [y35]; decide) (by rw [y35]; rfl) (by decide) (lw_case35 hc hz hl0 hX hbl hbA hL hRc ht h6 hca hsl hR hS hW hN)
  by_cases y36 : w = 36
  · exact g_tabIn (tgt := 1364) hc dL_law_33 (by rw [y36]; decide) (by rw [y36]; decide) (by rw [y36]; rfl) (by decide) (lw_case36 hc hz hl0 hX hbl hbA hL hRc ht h6 hca hsl hR hS hW hN)
  by_cases y37 : w = 37
  · exact g_tabIn (tgt := 1407) hc dL_law_33 (by rw [y37]; decide) (by rw [y37]; decide) (by rw [y37]; rfl) (by decide) (lw_case37 hc hz hl0 hX hbl hbA hL hRc ht h6 hca hsl hR hS hW hN)
  by_cases y38 : w = 38
  · exact g_tabIn (tgt := 1430) hc dL_law_33 (by rw [y38]; decide) (by rw [y38]; decide) (by rw [y38]; rfl) (by decide) (lw_case38 hc hz hl0 hX hbl hbA hL hRc ht h6 hca hsl hR hS hW hN)
  by_cases y39 : w = 39
  · exact g_tabIn (tgt := 1453) hc dL_law_33 (by rw [y39]; decide) (by rw [y39]; decide) (by rw [y39]; rfl) (by decide) (lw_case39 hc hz hl0 hX hbl hbA hL hRc ht h6 hca hsl hR hS hW hN)
  by_cases y40 : w = 40
  · exact g_tabIn (tgt := 1496) hc dL_law_33 (by rw [y40]; decide) (by rw [y40]; decide) (by rw [y40]; rfl) (by decide) (lw_case40 hc hz hl0 hX hbl hbA hL hRc ht h6 hca hsl hR hS hW hN)
  by_cases y41 : w = 41
  · exact g_tabIn (tgt := 1539) hc dL_law_33 (by rw [y41]; decide) (by rw [y41]; decide) (by rw [y41]; rfl) (by decide) (lw_case41 hc hz hl0 hX hbl hbA hL hRc ht h6 hca hsl hR hS hW hN)
  by_cases y42 : w = 42
  · exact g_tabIn (tgt := 1592) hc dL_law_33 (by rw [y42]; decide) (by rw [y42]; decide) (by rw [y42]; rfl) (by decide) (lw_case42 hc hz hl0 hX hbl hbA hL hRc ht h6 hca hsl hR hS hW hN)
  by_cases y43 : w = 43
  · exact g_tabIn (tgt := 1605) hc dL_law_33 (by rw [y43]; decide) (by rw [y43]; decide) (by rw [y43]; rfl) (by decide) (lw_case43 hc hz hl0 hX hbl hbA hL hRc ht h6 hca hsl hR hS hW hN)
  have y0 := lv_neT y0 (a := 0) (by decide)
  have y1 := lv_neT y1 (a := 1) (by decide)
  have y2 := lv_neT y2 (a := 2) (by decide)
  have y3 := lv_neT y3 (a := 3) (by decide)
  have y4 := lv_neT y4 (a := 4) (by decide)
  have y5 := lv_neT y5 (a := 5) (by decide)
  have y6 := lv_neT y6 (a := 6) (by decide)
  have y7 := lv_neT y7 (a := 7) (by decide)
  have y8 := lv_neT y8 (a := 8) (by decide)
  have y9 := lv_neT y9 (a := 9) (by decide)
  have y10 := lv_neT y10 (a := 10) (by decide)
  have y11 := lv_neT y11 (a := 11) (by decide)
  have y12 := lv_neT y12 (a := 12) (by decide)
  have y13 := lv_neT y13 (a := 13) (by decide)
  have y14 := lv_neT y14 (a := 14) (by decide)
  have y15 := lv_neT y15 (a := 15) (by decide)
  have y16 := lv_neT y16 (a := 16) (by decide)
  have y17 := lv_neT y17 (a := 17) (by decide)
  have y18 := lv_neT y18 (a := 18) (by decide)
  have y19 := lv_neT y19 (a := 19) (by decide)
  have y20 := lv_neT y20 (a := 20) (by decide)
  have y21 := lv_neT y21 (a := 21) (by decide)
  have y22 := lv_neT y22 (a := 22) (by decide)
  have y23 := lv_neT y23 (a := 23) (by decide)
  have y24 := lv_neT y24 (a := 24) (by decide)
  have y25 := lv_neT y25 (a := 25) (by decide)
  have y26 := lv_neT y26 (a := 26) (by decide)
  have y27 := lv_neT y27 (a := 27) (by decide)
  have y28 := lv_neT y28 (a := 28) (by decide)
  have y29 := lv_neT y29 (a := 29) (by decide)
  have y30 := lv_neT y30 (a := 30) (by decide)
  have y31 := lv_neT y31 (a := 31) (by decide)
  have y32 := lv_neT y32 (a := 32) (by decide)
  have y33 := lv_neT y33 (a := 33) (by decide)
  have y34 := lv_neT y34 (a := 34) (by decide)
  have y35 := lv_neT y35 (a := 35) (by decide)
  have y36 := lv_neT y36 (a := 36) (by decide)
  have y37 := lv_neT y37 (a := 37) (by decide)
  have y38 := lv_neT y38 (a := 38) (by decide)
  have y39 := lv_neT y39 (a := 39) (by decide)
  have y40 := lv_neT y40 (a := 40) (by decide)
  have y41 := lv_neT y41 (a := 41) (by decide)
  have y42 := lv_neT y42 (a := 42) (by decide)
  have y43 := lv_neT y43 (a := 43) (by decide)
  exact g_tabOut (tgt := 1628) hc dL_law_33 (by omega) (by decide) (hN ca sl σ lam r μ rows J sh (by omega) (by omega) hR hS hW)
theorem l6_lt {L t : Nat} (hL : L ≤ 384) (ht : t ≤ 64) : (nI L - 6 < nI (6 * t)) ↔ L < 6 * t + 6 := by
  have e6 : (6 : Int32).toInt = 6 := by decide
  rw [Int32.lt_iff_toInt_lt, Int32.toInt_sub, nI_toInt (by omega), nI_toInt (by omega), e6, Int.bmod_eq_of_le (by omega) (by omega)]
  omega
theorem lw_loop {kS : gKS} {x : gX} {b L : Nat} {xs : Nat → Int32} {ad am : Nat → Nat} (hc : gOk x "HedgehogLotsLaw" cL_law 4 24 11014) (hz : gZs kS x.A x.s x.s.heap) (hl0 : x.l.stackTraces = false) (hX : va_X b L xs x.s x.s.heap) (hbl : b < x.s.heap.size) (hbA : ¬ x.A b) (hL : L ≤ 384) (hRc : 603072 ≤ x.R.cells ∧ 7262314 ≤ x.R.slots) (hend : ∀ (Φ : va_W) (lv : List (Nat × Value)), gG x 4 603072 7262314 Φ 1635 lv [.int 1]) : ∀ (u t ca sl : Nat) (σ : Nat → Nat → Int32) (lam : Nat → Int64) (r : Nat → Option Nat) (μ : Nat → Nat → Int32) (rows : va_W) (J : Nat → Nat) (sh : gSh), t ≤ 64 → 65 ≤ u + t → ca ≤ 53 + 9 * t → sl ≤ 1170 + 610 * t → RX σ μ → ShR sh μ → RwAt x.dA r rows J sh → gG x 4 ca sl (WA x.dA ad am σ lam r μ rows) 18 [(0, .ref b), (1, .ref (ad 0)), (2, .ref (am 0)), (3, .int (nI (6 * t)))] [] := by
  intro u
  induction u with
  | zero => intro t ca sl σ lam r μ rows J sh h1 h2; omega
  | succ u ih =>
    intro t ca sl σ lam r μ rows J sh h1 h2 hca hsl hR hS hW
    refine g_iload_n hc dL_law_18 rfl 3 rfl ?_
    refine g_aload_n hc dL_law_19 rfl 0 rfl ?_
    refine g_slen hc hX hbl hbA dL_law_20 ?_
    refine g_bipush (v := 6) hc dL_law_21 (by decide) ?_
    refine g_isub hc dL_law_23 ?_
    refine g_icmp_gt (tgt := 1634) hc dL_law_24 (by decide) (fun h => ?_) (fun h => ?_)
    · refine g_iconst (v := 1) hc dL_law_1634 (by decide) ?_
      exact g_widen (ca' := 603072) (sl' := 7262314) (Nat.le_trans hca (Nat.le_trans (Nat.add_le_add_left (Nat.mul_le_mul_left 9 h1) 53) (Nat.le_of_ble_eq_true rfl))) (Nat.le_trans hsl (Nat.le_trans (Nat.add_le_add_left (Nat.mul_le_mul_left 610 h1) 1170) (Nat.le_of_ble_eq_true rfl))) (hend _ _)
    · have h6 : 6 * t + 6 ≤ L := Nat.not_lt.mp (fun q => h ((l6_lt hL h1).mpr q))
      refine g_aload_n hc dL_law_27 rfl 0 rfl ?_
      refine g_iload_n hc dL_law_28 rfl 3 rfl ?_
      refine g_sld hc hX hbl hbA (nI_in (by omega) (by omega)) dL_law_29 ?_
      refine g_bipush (v := 63) hc dL_law_30 (by decide) ?_
      refine g_iand hc dL_law_32 ?_
      refine lw_switch hc hz hl0 hX hbl hbA hL hRc (by omega) h6 hca hsl hR hS hW (fun ca' sl' σ' lam' r' μ' rows' J' sh' g1 g2 g3 g4 g5 => ?_) _
      refine g_iinc (v := nI (6 * (t + 1))) (lv' := [(3, .int (nI (6 * (t + 1)))), (0, .ref b), (1, .ref (ad 0)), (2, .ref (am 0))]) hc dL_law_1628 (j := 3) rfl (by show nI (6 * t) + nI 6 = _; rw [nI_add]; rfl) (by decide) rfl ?_
      refine g_goto (tgt := 18) hc dL_law_1631 (by decide) ?_
      exact g_lv [1, 2, 3, 0] rfl (ih (t + 1) ca' sl' σ' lam' r' μ' rows' J' sh' (by omega) (by omega) g1 g2 g3 g4 g5)
theorem Rel_zero : Rel (fun _ => 0) x00 m00 := by
  refine ⟨?_, ?_, ?_, rfl, rfl, rfl, ⟨false, false, rfl, rfl, rfl, fun e => absurd e (by decide), fun e => absurd e (by decide)⟩, ⟨0, Nat.zero_le _, rfl, rfl, fun i hi => absurd hi (Nat.not_lt_zero i)⟩, ⟨0, Nat.zero_le _, rfl, rfl, fun i hi => absurd hi (Nat.not_lt_zero i)⟩, ⟨?_, ?_⟩, ?_, ?_, ?_⟩
  · exact WC_zero.wf (fun i hi => absurd hi (Nat.not_lt_zero i))
  · refine ⟨?_, ?_, ?_, ?_, ?_, ?_, ?_, rfl, rfl, rfl, rfl⟩ <;> intro i hi <;> exact absurd hi (Nat.not_lt_zero i)
  · refine ⟨?_, ?_, ?_, ?_, ?_, ?_, ?_, rfl, rfl, rfl⟩ <;> intro i hi <;> exact absurd hi (Nat.not_lt_zero i)
  · have : ∀ i : Fin 8, m00 4 i.val = nI (cutN i.val) := by decide
    exact fun i hi => this ⟨i, hi⟩
  · have : ∀ i : Fin 28, m00 5 i.val = nI (letN i.val) := by decide
    exact fun i hi => this ⟨i, hi⟩
  · exact fun _ _ _ _ _ => rfl
  · exact fun _ _ _ _ _ => rfl
  · exact fun _ _ _ _ _ => rfl
theorem ShR_zero : ShR (fun _ => none) m00 := by
  have : ∀ i : Fin 4, m00 10 i.val = -4 := by decide
  exact fun k hk => Or.inl ⟨rfl, this ⟨k, hk⟩⟩
