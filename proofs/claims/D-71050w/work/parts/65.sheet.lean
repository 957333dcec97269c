/-! ===== sheet() ===== -/
set_option maxRecDepth 100000
variable {kS : gKS}
/-- a lane's number in gTY -/
def laC (lane : Int32) : Nat := if lane = 0 then 0 else if lane = 1 then 3 else 1
def shOut (dA : Nat → ClassId) (ad : Nat → Nat) (lam : Nat → Int64) (σ : Nat → Nat → Int32) (r : Nat → Option Nat) (tl : va_W) (b k lane n : Int32) (t : Int32 × va_W) : Prop :=
  if b = 0 ∨ 40 < n then t = (-1, XW dA 36 ad σ lam ++ (SHc ad r ++ tl)) else if n < 0 then t = (-14, XW dA 36 ad σ lam ++ (SHc ad r ++ tl)) else ∃ q : Nat, t = (1, XW dA 36 ad σ lam ++ (SHc ad (va_up r k.toNatClampNeg (some q)) ++ (tl ++ [(q, .inl (dA (laC lane), n.toNatClampNeg, .inl (fun _ => 0)))])))
theorem c_X0_sheet {l : Launch} {D : va_G} {dA : Nat → ClassId} {ad : Nat → Nat} {tl : va_W} {lam : Nat → Int64} {σ : Nat → Nat → Int32} {r : Nat → Option Nat} {k lane n b : Int32} (hl0 : l.stackTraces = false) (hb : f_X0_isSheet k lane = some b) (hk : b ≠ 0 → inb k 4 = true) : gTi kS l D dA (XW dA 36 ad σ lam ++ (SHc ad r ++ tl)) [.ref (ad 0), .int k, .int lane, .int n] (shOut dA ad lam σ r tl b k lane n) (fun _ => False) yX0_sheet (wsW_ yX0_sheet cX0_sheet 5 (some .int) [(16, 50, 51, 316)]) ({ frames := 7, cells := 3, slots := 54, locals := 10250 } : Room) 3 54 :=
  g_startIh (mc := 3) (ms := 54) (own := RX0) (by decide) rfl (Nat.le_of_ble_eq_true rfl) (fun x e el hc hz htb hRc hR => by
    subst e
    have hl1 : x.l.stackTraces = false := by rw [el]; exact hl0
    refine g_iload_n hc dX0_sheet_0 rfl 1 rfl ?_
    refine g_iload_n hc dX0_sheet_1 rfl 2 rfl ?_
    refine g_callSi hc [.int k, .int lane] [] (c_X0_isSheet hb) (lw_S q867 q868 q60 q869) rfl hd_X0_isSheet rfl rfl (Nat.le_of_ble_eq_true rfl) gZ dX0_sheet_2 ?_
    have bad : (b = 0 ∨ 40 < n) → gG x 5 0 0 (XW x.dA 36 ad σ lam ++ (SHc ad r ++ tl)) 14 (lv_args 0 [.ref (ad 0), .int k, .int lane, .int n]) [] := by
      intro h
      refine g_iconst (v := -1) hc dX0_sheet_14 (by decide) ?_
      refine g_widen (ca' := 3) (sl' := 54) (Nat.le_of_ble_eq_true rfl) (Nat.le_of_ble_eq_true rfl) ?_
      exact g_iret hc (hR _ _ (by unfold shOut; rw [if_pos h])) dX0_sheet_15
    refine g_if_eq (tgt := 14) hc dX0_sheet_5 (by decide) (fun h0 => bad (Or.inl h0)) (fun h0 => ?_)
    refine g_iload_n hc dX0_sheet_8 rfl 3 rfl ?_
    refine g_bipush (v := 40) hc dX0_sheet_9 (by decide) ?_
    refine g_icmp_le (tgt := 16) hc dX0_sheet_11 (by decide) (fun h1 => ?_) (fun h1 => bad (Or.inr (Int32.not_le.mp h1)))
    have h01 : ¬ (b = 0 ∨ 40 < n) := fun h => h.elim h0 (fun h2 => Int32.not_le.mpr h2 h1)
    have hn40 : n.toNatClampNeg ≤ 40 := by
      have h2 := Int32.le_iff_toInt_le.mp h1
      have h3 : (40 : Int32).toInt = 40 := by decide
      rw [h3] at h2
      show n.toInt.toNat ≤ 40
      omega
    have hk4 := hk h0
    have hkk : k.toNatClampNeg < 4 := by
      have := inb_in hk4
      unfold vp_in at this
      omega
    refine g_aload_n hc dX0_sheet_16 rfl 0 rfl ?_
    refine g_get (v := .ref (ad 11)) hc in_X0 (XW_at (k := 0) (by decide)) rfl 21 (by decide) q206 rfl dX0_sheet_17 ?_
    refine g_iload_n hc dX0_sheet_20 rfl 1 rfl ?_
    refine g_aald (v := ad (43 + k.toNatClampNeg)) hc 6 (XW_at (k := 11) (by decide)) rfl hk4 rfl dX0_sheet_21 ?_
    by_cases hneg : n < 0
    · have caught : ∀ pc : Nat, covers ⟨16, 50, 51, 316⟩ pc = true → gU x 5 3 54 (XW x.dA 36 ad σ lam ++ (SHc ad r ++ tl)) pc (lv_args 0 [.ref (ad 0), .int k, .int lane, .int n]) "java/lang/NegativeArraySizeException" := by
        intro pc hcov
        refine gU_catch (nm := "java/lang/NegativeArraySizeException") hc [] ⟨16, 50, 51, 316⟩ [] htb (fun z hz => by cases hz) hcov (by decide) q838 (by decide) (fun q => ?_)
        refine g_astore (lv' := [(4, .ref q), (0, .ref (ad 0)), (1, .int k), (2, .int lane), (3, .int n)]) hc dX0_sheet_51 (by decide) rfl ?_
        refine g_bipush (v := -14) hc dX0_sheet_53 (by decide) ?_
        exact g_iret hc (hR _ _ (by unfold shOut; rw [if_neg h01, if_pos hneg])) dX0_sheet_55
      refine g_iload_n hc dX0_sheet_22 rfl 2 rfl ?_
      refine g_if_ne (tgt := 32) hc dX0_sheet_23 (by decide) (fun g1 => ?_) (fun g1 => ?_)
      · refine g_iload_n hc dX0_sheet_32 rfl 2 rfl ?_
        refine g_iconst (v := 1) hc dX0_sheet_33 (by decide) ?_
        refine g_icmp_ne (tgt := 43) hc dX0_sheet_34 (by decide) (fun g2 => ?_) (fun g2 => ?_)
        · refine g_iload_n hc dX0_sheet_43 rfl 3 rfl ?_
          exact g_newarrayZ hc hl1 hz hneg (by decide) (Nat.le_of_ble_eq_true rfl) ⟨Nat.le_trans (Nat.le_of_ble_eq_true rfl) hRc.1, Nat.le_trans (Nat.le_of_ble_eq_true rfl) hRc.2⟩ dX0_sheet_44 (caught _ (by decide))
        · refine g_iload_n hc dX0_sheet_37 rfl 3 rfl ?_
          exact g_newarrayZ hc hl1 hz hneg (by decide) (Nat.le_of_ble_eq_true rfl) ⟨Nat.le_trans (Nat.le_of_ble_eq_true rfl) hRc.1, Nat.le_trans (Nat.le_of_ble_eq_true rfl) hRc.2⟩ dX0_sheet_38 (caught _ (by decide))
      · refine g_iload_n hc dX0_sheet_26 rfl 3 rfl ?_
        exact g_newarrayZ hc hl1 hz hneg (by decide) (Nat.le_of_ble_eq_true rfl) ⟨Nat.le_trans (Nat.le_of_ble_eq_true rfl) hRc.1, Nat.le_trans (Nat.le_of_ble_eq_true rfl) hRc.2⟩ dX0_sheet_27 (caught _ (by decide))
    · have fin : ∀ (c q : Nat), laC lane = c → gG x 5 1 (0 + n.toNatClampNeg) ((XW x.dA 36 ad σ lam ++ (SHc ad r ++ tl)) ++ [(q, .inl (x.dA c, n.toNatClampNeg, .inl (fun _ => 0)))]) 46 (lv_args 0 [.ref (ad 0), .int k, .int lane, .int n]) [.ref q, .ref (ad (43 + k.toNatClampNeg))] := by
        intro c q hla
        refine g_eq (Φ' := XW x.dA 36 ad σ lam ++ (SHc ad r ++ (tl ++ [(q, .inl (x.dA c, n.toNatClampNeg, .inl (fun _ => 0)))]))) (by rw [List.append_assoc, List.append_assoc]) ?_
        refine g_putN (v := .ref q) hc in_X6 tyX6_ok nmX6 (SH_at hkk) rfl 0 (by decide) 15 rfl rfl rfl rfl (Nat.le_of_ble_eq_true rfl) (SH_set hkk (some q)) dX0_sheet_46 ?_
        refine g_iconst (v := 1) hc dX0_sheet_49 (by decide) ?_
        refine g_widen (ca' := 3) (sl' := 54) (Nat.le_of_ble_eq_true rfl) (by omega) ?_
        exact g_iret hc (hR _ _ (by unfold shOut; rw [if_neg h01, if_neg hneg]; exact ⟨q, by rw [hla]⟩)) dX0_sheet_50
      refine g_iload_n hc dX0_sheet_22 rfl 2 rfl ?_
      refine g_if_ne (tgt := 32) hc dX0_sheet_23 (by decide) (fun g1 => ?_) (fun g1 => ?_)
      · refine g_iload_n hc dX0_sheet_32 rfl 2 rfl ?_
        refine g_iconst (v := 1) hc dX0_sheet_33 (by decide) ?_
        refine g_icmp_ne (tgt := 43) hc dX0_sheet_34 (by decide) (fun g2 => ?_) (fun g2 => ?_)
        · refine g_iload_n hc dX0_sheet_43 rfl 3 rfl ?_
          refine g_newarr (atype := .int) (ty := .int) hc 1 q871 rfl rfl (fun _ h => h) rfl (N' := n.toNatClampNeg) hneg rfl (by show n.toNatClampNeg * _ ≤ _; simp only [componentBytes]; omega) (Nat.le_trans (Nat.le_of_ble_eq_true rfl) hRc.1) (Nat.le_trans (by show 0 + n.toNatClampNeg ≤ 54; omega) hRc.2) dX0_sheet_44 (fun q => ?_)
          exact fin 1 q (by unfold laC; rw [if_neg g1, if_neg g2])
        · refine g_iload_n hc dX0_sheet_37 rfl 3 rfl ?_
          refine g_newarr (atype := .short) (ty := .short) hc 3 q870 rfl rfl (fun _ h => h) rfl (N' := n.toNatClampNeg) hneg rfl (by show n.toNatClampNeg * _ ≤ _; simp only [componentBytes]; omega) (Nat.le_trans (Nat.le_of_ble_eq_true rfl) hRc.1) (Nat.le_trans (by show 0 + n.toNatClampNeg ≤ 54; omega) hRc.2) dX0_sheet_38 (fun q => ?_)
          refine g_goto (tgt := 46) hc dX0_sheet_40 (by decide) ?_
          exact fin 3 q (by unfold laC; rw [if_neg g1, if_pos g2])
      · refine g_iload_n hc dX0_sheet_26 rfl 3 rfl ?_
        refine g_newarr (atype := .byte) (ty := .byte) hc 0 q171 rfl rfl (fun _ h => h) rfl (N' := n.toNatClampNeg) hneg rfl (by show n.toNatClampNeg * _ ≤ _; simp only [componentBytes]; omega) (Nat.le_trans (Nat.le_of_ble_eq_true rfl) hRc.1) (Nat.le_trans (by show 0 + n.toNatClampNeg ≤ 54; omega) hRc.2) dX0_sheet_27 (fun q => ?_)
        refine g_goto (tgt := 46) hc dX0_sheet_29 (by decide) ?_
        exact fin 0 q (by unfold laC; rw [if_pos g1]))
