/-! ===== the reader's constructor ===== -/
set_option maxRecDepth 100000
variable {kS : gKS}
theorem bl_X8 : ∀ j, j < 8 → defaultValue (tyX8 j) = vp_V [.int 0, .null, .int 0, .int 0, .int 0, .int 0, .int 0, .null] j := fun j hj => match j, hj with
  | 0, _ => rfl
  | 1, _ => rfl
  | 2, _ => rfl
  | 3, _ => rfl
  | 4, _ => rfl
  | 5, _ => rfl
  | 6, _ => rfl
  | 7, _ => rfl
  | k + 8, h => absurd h (by omega)
def rd0 (q : Nat) : va_W := [(q, .inr (8, [.int 0, .null, .int 0, .int 0, .int 0, .int 0, .int 0, .null]))]
def rdA (q : Nat) (sz : Int32) (m : Value) (hi : Int32) (h0 : Nat) : va_W := [(q, .inr (8, [.int sz, m, .int hi, .int 0, .int 0, .int 0, .int 0, .ref h0]))]
theorem c_X8_init {l : Launch} {D : va_G} {dA : Nat → ClassId} {ad : Nat → Nat} {q : Nat} {tl : va_W} {lam : Nat → Int64} {σ : Nat → Nat → Int32} {sz : Int32} {o : (Int32 × Int32 × (Nat → Nat → Int32)) ⊕ (Nat → Nat → Int32)} (hf : f_X8_next_b0 (rdS σ sz) = some o) : gTv kS l D dA ((XW dA 36 ad σ lam ++ tl) ++ rd0 q) [.ref q, .ref (ad 0), .int sz] (fun Φ1 => ∃ (a : Nat → Nat) (o1 : Nat → Nat → Int32), o = .inr o1 ∧ Φ1 = XW dA 43 (adR ad a q) o1 lam ++ tl) (fun t => ∃ (a : Nat → Nat) (o1 : Int32 × Int32 × (Nat → Nat → Int32)), o = .inl o1 ∧ t.1 = o1.1 ∧ t.2.1 = o1.2.1 ∧ t.2.2 = XW dA 43 (adR ad a q) o1.2.2 lam ++ tl) yX8_init (ws_ yX8_init cX8_init 3 none) ({ frames := 6, cells := 7, slots := 55, locals := 124 } : Room) 7 55 :=
  g_startTv (mc := 7) (ms := 55) (own := RX8) (by decide) rfl (Nat.le_of_ble_eq_true rfl) (fun x e hc hz hnm hRc hR hX => by
    subst e
    refine g_aload_n hc dX8_init_0 rfl 0 rfl ?_
    refine g_aload_n hc dX8_init_1 rfl 1 rfl ?_
    refine g_putF (Φ1 := (XW x.dA 36 ad σ lam ++ tl) ++ rdA q 0 .null 0 (ad 0)) hc hnm in_X8 tyX8_ok nmX8 (gAt 0 rfl) rfl 7 (by decide) q384 rfl rfl rfl rfl (Nat.le_of_ble_eq_true rfl) (gSet 0 rfl) dX8_init_2 ?_
    refine g_aload_n hc dX8_init_5 rfl 0 rfl ?_
    refine g_objInit hc q277 (by decide) (Nat.le_of_ble_eq_true rfl) dX8_init_6 ?_
    refine g_aload_n hc dX8_init_9 rfl 0 rfl ?_
    refine g_new hc in_X5 tyX5_ok q278 q123 q65 (ci := 5) rfl bl_X5 (Nat.le_trans (Nat.le_of_ble_eq_true rfl) hRc.1) (Nat.le_trans (Nat.le_of_ble_eq_true rfl) hRc.2) dX8_init_10 (fun s => ?_)
    refine g_dup hc dX8_init_13 rfl ?_
    refine g_callIN (n := 0) (U := Nat → Nat) hc [] [.ref s, .ref q] c_X5_init 9 rfl q126 q65 q125 ⟨rfl, rfl, by decide, by decide⟩ (by decide +kernel) rfl rfl (Nat.le_of_ble_eq_true rfl) ⟨Nat.le_trans (Nat.le_of_ble_eq_true rfl) hRc.1, Nat.le_trans (Nat.le_of_ble_eq_true rfl) hRc.2⟩ dX8_init_14 (fun u => ?_)
    refine g_eq (Φ' := (XW x.dA 36 ad σ lam ++ tl) ++ (rdA q 0 .null 0 (ad 0) ++ slW x.dA (consA s u))) (List.append_assoc _ _ _) ?_
    refine g_putF (Φ1 := (XW x.dA 36 ad σ lam ++ tl) ++ (rdA q 0 (.ref s) 0 (ad 0) ++ slW x.dA (consA s u))) hc hnm in_X8 tyX8_ok nmX8 (gAt 0 rfl) rfl 1 (by decide) q377 rfl rfl rfl rfl (Nat.le_of_ble_eq_true rfl) (gSet 0 rfl) dX8_init_17 ?_
    refine g_aload_n hc dX8_init_20 rfl 0 rfl ?_
    refine g_bipush (v := -4) hc dX8_init_21 (by decide) ?_
    refine g_put (Φ' := (XW x.dA 36 ad σ lam ++ tl) ++ (rdA q 0 (.ref s) (-4) (ad 0) ++ slW x.dA (consA s u))) hc in_X8 tyX8_ok nmX8 (gAt 0 rfl) rfl 2 (by decide) q379 rfl rfl rfl (Nat.le_of_ble_eq_true rfl) (gSet 0 rfl) dX8_init_23 ?_
    refine g_aload_n hc dX8_init_26 rfl 0 rfl ?_
    refine g_iload_n hc dX8_init_27 rfl 2 rfl ?_
    refine g_putF (Φ1 := (XW x.dA 36 ad σ lam ++ tl) ++ (rd1 q sz (consA s u 0) (ad 0) ++ slW x.dA (consA s u))) hc hnm in_X8 tyX8_ok nmX8 (gAt 0 rfl) rfl 0 (by decide) q376 rfl rfl rfl rfl (Nat.le_of_ble_eq_true rfl) (gSet 0 rfl) dX8_init_28 ?_
    refine g_aload_n hc dX8_init_31 rfl 0 rfl ?_
    refine g_made ?_
    cases o with
    | inl o1 =>
      refine g_callTv hc hz [] [] (ct_X8_next (Nat.le_refl 43) hf) (XW_at (k := 42) (by decide)) rfl (lw_V q280 q282 qs0 q68 q283) rfl hd_X8_next rfl rfl (Nat.le_of_ble_eq_true rfl) hRc dX8_init_32 (fun c pl Φ1 q9 hq => ?_) (fun _ h => h.elim)
      exact hX c pl Φ1 q9 _ _ ⟨consA s u, o1, rfl, hq.1, hq.2.1, hq.2.2⟩
    | inr o1 =>
      refine g_widen (ca' := 7) (sl' := 55) (Nat.le_of_ble_eq_true rfl) (Nat.le_of_ble_eq_true rfl) ?_
      refine g_callVzv hc hz [] [] (c_X8_next (Nat.le_refl 43) hf) (XW_at (k := 42) (by decide)) rfl (lw_V q280 q282 qs0 q68 q283) rfl hd_X8_next rfl rfl (Nat.le_of_ble_eq_true rfl) hRc dX8_init_32 ?_
      exact g_vret hc (hR _ ⟨consA s u, o1, rfl, rfl⟩) dX8_init_35)
