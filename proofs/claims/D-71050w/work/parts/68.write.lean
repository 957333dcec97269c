/-! ===== write() ===== -/
set_option maxRecDepth 100000
variable {kS : gKS}
theorem c_X0_write {l : Launch} {D : va_G} {dA : Nat → ClassId} {ad : Nat → Nat} {tl : va_W} {lam : Nat → Int64} {σ : Nat → Nat → Int32} {r : Nat → Option Nat} {J : Nat → Nat} {sh : gSh} {k i v b : Int32} (hl0 : l.stackTraces = false) (hb : f_X0_in (Int32.toInt64 k) 0 3 = some b) (hk : b ≠ 0 → inb k 4 = true) (hW : RwAt dA r tl J sh) : gTi kS l D dA (XW dA 36 ad σ lam ++ (SHc ad r ++ tl)) [.ref (ad 0), .int k, .int i, .int v] (fun t => if b = 0 then t = (-1, XW dA 36 ad σ lam ++ (SHc ad r ++ tl)) else ∃ tl', (tl' = tl ∨ ∃ e, sh k.toNatClampNeg ≠ none ∧ tl' = tl.set (J k.toNatClampNeg) e) ∧ RwAt dA r tl' J (va_up sh k.toNatClampNeg (wrF (sh k.toNatClampNeg) i v).2) ∧ t = ((wrF (sh k.toNatClampNeg) i v).1, XW dA 36 ad σ lam ++ (SHc ad r ++ tl'))) (fun _ => False) yX0_write (wsW_ yX0_write cX0_write 6 (some .int) [(25, 74, 75, 323), (25, 74, 80, 325)]) ({ frames := 8, cells := 3, slots := 222, locals := 10300 } : Room) 3 222 :=
  g_startIh (mc := 3) (ms := 222) (own := RX0) (by decide) rfl (Nat.le_of_ble_eq_true rfl) (fun x e el hc hz htb hRc hR => by
    subst e
    have hl1 : x.l.stackTraces = false := by rw [el]; exact hl0
    refine g_iload_n hc dX0_write_0 rfl 1 rfl ?_
    refine g_i2l hc dX0_write_1 ?_
    refine g_lconst (v := 0) hc dX0_write_2 (by decide) ?_
    refine g_ldc2 (v := 3) hc q626 dX0_write_3 ?_
    refine g_callSi hc [.long (Int32.toInt64 k), .long 0, .long 3] [] (c_X0_in hb) (lw_S q260 q261 q60 q262) rfl hd_X0_in rfl rfl (Nat.le_of_ble_eq_true rfl) gZ dX0_write_6 ?_
    refine g_if_ne (tgt := 14) hc dX0_write_9 (by decide) (fun h0 => ?_) (fun h0 => ?_)
    rotate_left
    · have h0' : b = 0 := h0
      refine g_iconst (v := -1) hc dX0_write_12 (by decide) ?_
      refine g_widen (ca' := 3) (sl' := 222) (Nat.le_of_ble_eq_true rfl) (Nat.le_of_ble_eq_true rfl) ?_
      exact g_iret hc (hR _ _ (by rw [if_pos h0'])) dX0_write_13
    have hk4 := hk h0
    have hkk : k.toNatClampNeg < 4 := by
      have := inb_in hk4
      unfold vp_in at this
      omega
    refine g_aload_n hc dX0_write_14 rfl 0 rfl ?_
    refine g_get (v := .ref (ad 11)) hc in_X0 (XW_at (k := 0) (by decide)) rfl 21 (by decide) q206 rfl dX0_write_15 ?_
    refine g_iload_n hc dX0_write_18 rfl 1 rfl ?_
    refine g_aald (v := ad (43 + k.toNatClampNeg)) hc 6 (XW_at (k := 11) (by decide)) rfl hk4 rfl dX0_write_19 ?_
    refine g_getN (v := va_rf (r k.toNatClampNeg)) hc in_X6 (SH_at hkk) rfl 0 (by decide) 15 rfl rfl dX0_write_20 ?_
    have same : ∀ rv, (wrF (sh k.toNatClampNeg) i v) = (rv, sh k.toNatClampNeg) → gRi x 3 222 (XW x.dA 36 ad σ lam ++ (SHc ad r ++ tl)) rv := by
      intro rv h
      refine hR _ _ ?_
      rw [if_neg h0]
      refine ⟨tl, Or.inl rfl, ?_, by rw [h]⟩
      rw [h]
      have e : va_up sh k.toNatClampNeg (sh k.toNatClampNeg) = sh := by
        funext j
        by_cases ej : j = k.toNatClampNeg
        · subst ej; exact va_up_self _ _ _
        · exact va_up_ne _ _ ej
      show RwAt x.dA r tl J (va_up sh k.toNatClampNeg (sh k.toNatClampNeg))
      rw [e]
      exact hW
    rcases hW.1 _ hkk with ⟨hs, hr⟩ | ⟨q, c, n, f, hs, hr, ht, hty, hn⟩
    · rw [hr]
      refine g_astoreN (lv' := [(4, .null), (0, .ref (ad 0)), (1, .int k), (2, .int i), (3, .int v)]) hc dX0_write_23 (by decide) rfl ?_
      refine g_aloadN hc dX0_write_25 0 rfl ?_
      refine g_instN hc dX0_write_27 ?_
      refine g_if_eq (tgt := 45) hc dX0_write_30 (by decide) (fun _ => ?_) (fun h => absurd rfl h)
      refine g_aloadN hc dX0_write_45 0 rfl ?_
      refine g_instN hc dX0_write_47 ?_
      refine g_if_eq (tgt := 65) hc dX0_write_50 (by decide) (fun _ => ?_) (fun h => absurd rfl h)
      refine g_aloadN hc dX0_write_65 0 rfl ?_
      refine g_castN hc dX0_write_67 ?_
      refine g_iload_n hc dX0_write_70 rfl 3 rfl ?_
      refine g_iload_n hc dX0_write_71 rfl 4 rfl ?_
      refine g_iastoreN hc hl1 hz (Nat.le_of_ble_eq_true rfl) (Nat.le_of_ble_eq_true rfl) ⟨Nat.le_trans (Nat.le_of_ble_eq_true rfl) hRc.1, Nat.le_trans (Nat.le_of_ble_eq_true rfl) hRc.2⟩ dX0_write_72 ?_
      refine gU_catch (nm := "java/lang/NullPointerException") hc [] ⟨25, 74, 75, 323⟩ [⟨25, 74, 80, 325⟩] htb (fun z hz => by cases hz) (by decide) (by decide) q876 (by decide) (fun q9 => ?_)
      refine g_astore (lv' := [(5, .ref q9), (4, .null), (0, .ref (ad 0)), (1, .int k), (2, .int i), (3, .int v)]) hc dX0_write_75 (by decide) rfl ?_
      refine g_bipush (v := -11) hc dX0_write_77 (by decide) ?_
      refine g_widen (ca' := 3) (sl' := 222) (Nat.le_of_ble_eq_true rfl) (Nat.le_of_ble_eq_true rfl) ?_
      exact g_iret hc (same _ (by rw [hs]; rfl)) dX0_write_79
    · rw [hr]
      have he : (XW x.dA 36 ad σ lam ++ (SHc ad r ++ tl))[40 + J k.toNatClampNeg]? = some (q, .inl (x.dA c, n, .inl f)) := (SH_tl _).trans ht
      refine g_astore (lv' := [(4, .ref q), (0, .ref (ad 0)), (1, .int k), (2, .int i), (3, .int v)]) hc dX0_write_23 (by decide) rfl ?_
      have out : ∀ (pc : Nat), covers ⟨25, 74, 75, 323⟩ pc = true → inb i n = false → gU x 6 3 222 (XW x.dA 36 ad σ lam ++ (SHc ad r ++ tl)) pc [(4, .ref q), (0, .ref (ad 0)), (1, .int k), (2, .int i), (3, .int v)] "java/lang/ArrayIndexOutOfBoundsException" := by
        intro pc hcov hib
        refine gU_catch (nm := "java/lang/IndexOutOfBoundsException") hc [⟨25, 74, 75, 323⟩] ⟨25, 74, 80, 325⟩ [] htb (fun z hz1 => ?_) hcov (by decide) q901 (by decide) (fun q9 => ?_)
        · rw [List.mem_singleton] at hz1
          subst hz1
          exact Or.inr ⟨by decide, "java/lang/NullPointerException", hc.ts _ q876, hz.2.2.2.2.2.1 ("java/lang/ArrayIndexOutOfBoundsException", "java/lang/NullPointerException") (by decide)⟩
        refine g_astore (lv' := [(5, .ref q9), (4, .ref q), (0, .ref (ad 0)), (1, .int k), (2, .int i), (3, .int v)]) hc dX0_write_80 (by decide) rfl ?_
        refine g_bipush (v := -12) hc dX0_write_82 (by decide) ?_
        exact g_iret hc (same _ (by rw [hs]; unfold wrF; dsimp only; rw [hib]; rfl)) dX0_write_84
      have fin : ∀ f' : Nat → Int32, inb i n = true → f' = upd f i.toNatClampNeg (trC c v) → gG x 6 0 0 (XW x.dA 36 ad σ lam ++ (SHc ad r ++ tl.set (J k.toNatClampNeg) (q, .inl (x.dA c, n, .inl f')))) 73 [(4, .ref q), (0, .ref (ad 0)), (1, .int k), (2, .int i), (3, .int v)] [] := by
        intro f' hib hf'
        refine g_iconst (v := 1) hc dX0_write_73 (by decide) ?_
        refine g_widen (ca' := 3) (sl' := 222) (Nat.le_of_ble_eq_true rfl) (Nat.le_of_ble_eq_true rfl) ?_
        refine g_iret hc (hR _ _ ?_) dX0_write_74
        rw [if_neg h0]
        have e : wrF (sh k.toNatClampNeg) i v = (1, some (c, n, f')) := by
          rw [hs]
          unfold wrF
          dsimp only
          rw [if_pos hib, hf']
        rw [e]
        exact ⟨_, Or.inr ⟨_, by rw [hs]; exact (fun e => nomatch e), rfl⟩, hW.put hkk hs hr hty hn, rfl⟩
      refine g_aload hc dX0_write_25 0 rfl ?_
      rcases hty with rfl | rfl | rfl
      · refine g_instY hc he (Or.inl rfl) q920 dX0_write_27 ?_
        refine g_if_eq (tgt := 45) hc dX0_write_30 (by decide) (fun h => absurd h (by decide)) (fun _ => ?_)
        refine g_aload hc dX0_write_33 0 rfl ?_
        refine g_castY hc he (Or.inl rfl) q920 dX0_write_35 ?_
        refine g_iload_n hc dX0_write_38 rfl 3 rfl ?_
        refine g_iload_n hc dX0_write_39 rfl 4 rfl ?_
        refine g_i2b hc dX0_write_40 ?_
        by_cases hib : inb i n = true
        · refine g_bast hc he hib (SH_tlset _ _) dX0_write_41 ?_
          refine g_goto (tgt := 73) hc dX0_write_42 (by decide) ?_
          exact fin _ hib rfl
        · have hib := inb_f hib
          exact g_bastZ hc hl1 hz _ 0 he rfl (by omega) hib (Nat.le_of_ble_eq_true rfl) (Nat.le_of_ble_eq_true rfl) ⟨Nat.le_trans (Nat.le_of_ble_eq_true rfl) hRc.1, Nat.le_trans (Nat.le_of_ble_eq_true rfl) hRc.2⟩ dX0_write_41 (out _ (by decide) hib)
      · refine g_instNo (c := 3) (c' := 0) hc hz he (Or.inr (Or.inl rfl)) (Or.inl rfl) (by decide) q920 dX0_write_27 ?_
        refine g_if_eq (tgt := 45) hc dX0_write_30 (by decide) (fun _ => ?_) (fun h => absurd rfl h)
        refine g_aload hc dX0_write_45 0 rfl ?_
        refine g_instY hc he (Or.inr (Or.inl rfl)) q921 dX0_write_47 ?_
        refine g_if_eq (tgt := 65) hc dX0_write_50 (by decide) (fun h => absurd h (by decide)) (fun _ => ?_)
        refine g_aload hc dX0_write_53 0 rfl ?_
        refine g_castY hc he (Or.inr (Or.inl rfl)) q921 dX0_write_55 ?_
        refine g_iload_n hc dX0_write_58 rfl 3 rfl ?_
        refine g_iload_n hc dX0_write_59 rfl 4 rfl ?_
        refine g_i2s hc dX0_write_60 ?_
        by_cases hib : inb i n = true
        · refine g_sastY hc he hib (SH_tlset _ _) dX0_write_61 ?_
          refine g_goto (tgt := 73) hc dX0_write_62 (by decide) ?_
          exact fin _ hib rfl
        · have hib := inb_f hib
          exact g_sastZ hc hl1 hz _ 3 he rfl (by omega) hib (Nat.le_of_ble_eq_true rfl) (Nat.le_of_ble_eq_true rfl) ⟨Nat.le_trans (Nat.le_of_ble_eq_true rfl) hRc.1, Nat.le_trans (Nat.le_of_ble_eq_true rfl) hRc.2⟩ dX0_write_61 (out _ (by decide) hib)
      · refine g_instNo (c := 1) (c' := 0) hc hz he (Or.inr (Or.inr rfl)) (Or.inl rfl) (by decide) q920 dX0_write_27 ?_
        refine g_if_eq (tgt := 45) hc dX0_write_30 (by decide) (fun _ => ?_) (fun h => absurd rfl h)
        refine g_aload hc dX0_write_45 0 rfl ?_
        refine g_instNo (c := 1) (c' := 3) hc hz he (Or.inr (Or.inr rfl)) (Or.inr (Or.inl rfl)) (by decide) q921 dX0_write_47 ?_
        refine g_if_eq (tgt := 65) hc dX0_write_50 (by decide) (fun _ => ?_) (fun h => absurd rfl h)
        refine g_aload hc dX0_write_65 0 rfl ?_
        refine g_castY hc he (Or.inr (Or.inr rfl)) q922 dX0_write_67 ?_
        refine g_iload_n hc dX0_write_70 rfl 3 rfl ?_
        refine g_iload_n hc dX0_write_71 rfl 4 rfl ?_
        by_cases hib : inb i n = true
        · refine g_iast hc he hib (SH_tlset _ _) dX0_write_72 ?_
          exact fin _ hib rfl
        · have hib := inb_f hib
          exact g_iastZ hc hl1 hz _ 1 he rfl (by omega) hib (Nat.le_of_ble_eq_true rfl) (Nat.le_of_ble_eq_true rfl) ⟨Nat.le_trans (Nat.le_of_ble_eq_true rfl) hRc.1, Nat.le_trans (Nat.le_of_ble_eq_true rfl) hRc.2⟩ dX0_write_72 (out _ (by decide) hib))
