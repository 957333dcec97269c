/-! ===== the class's text(): a method with a handler ===== -/
set_option maxRecDepth 100000
variable {kS : gKS}
/-- caught by the one row of the table -/
theorem g_catch {x : gX} {own : String} {cc : ByteArray} {nL F L ca sl : Nat} {Φ : va_W} {pc : Nat} {lv : List (Nat × Value)} {q : Addr} {c pl : Int32} {hh : Nat × Nat × Nat × Nat} (hc : gOk x own cc nL F L) (ht : x.c.exceptionTable.toList = tableOf [hh]) (hcov : covers ⟨hh.1, hh.2.1, hh.2.2.1, hh.2.2.2⟩ pc = true) (h0 : hh.2.2.2 ≠ 0) (hlink : Cond.classLink own hh.2.2.2 RX9 ∈ lw_all) (kk : gG x nL ca sl (Φ ++ fltC q c pl) hh.2.2.1 lv [.ref q]) : gT x nL ca sl (Φ ++ fltC q c pl) pc lv q := by
  intro H locs ls rest hP hD hS hl
  obtain ⟨ce, g1, g2, g3⟩ := va_recvN (ci := 9) (q := (RX9, TX9, 8)) hc.kw.1 hP rfl (flt_at Φ q c pl)
  exact vx_catch hc.ow [] ⟨hh.1, hh.2.1, hh.2.2.1, hh.2.2.2⟩ [] ht (fun z hz => by cases hz) hcov h0 (hc.ts _ hlink) (va_Nw.use rfl (hc.kw.2.2.2.1 (RX9, RX9) (by decide))) g1 g2 g3 (kk H locs ls hP hD hS hl)
section GSh
variable {l : Launch} {D : va_G} {dA : Nat → ClassId} {Φ : va_W} {As : List Value} {y : MethodName} {cc : ByteArray} {maxL : Nat} {rm : Room} {own : String} {mc ms : Nat} {hh : List (Nat × Nat × Nat × Nat)}
theorem g_startIh {ret : Int32 × va_W → Prop} {thr : Int32 × Int32 × va_W → Prop} (hy : plainName y.cls = true) (hown : y.cls = own) (hlen : (lg_sl As).length ≤ maxL) (body : ∀ x : gX, x.dA = dA → x.l = l → gOk x own cc maxL rm.frames rm.locals → gZs kS x.A x.s x.s.heap → x.c.exceptionTable.toList = tableOf hh → rm.cells ≤ x.R.cells ∧ rm.slots ≤ x.R.slots → (∀ r Φ1, ret (r, Φ1) → gRi x mc ms Φ1 r) → gG x maxL 0 0 Φ 0 (lv_args 0 As) []) : gTi kS l D dA Φ As ret thr y (wsW_ y cc maxL (some .int) hh) rm mc ms := by
  intro sz
  refine vx_ofWH (cc := cc) (maxL := maxL) (ret := some .int) (hh := hh) hy rfl ?_
  intro p e s m args below meth c s₁ B hml hv
  obtain ⟨rfl, ⟨hsz, hP, hK, hD0⟩, hz⟩ := hv
  subst hsz
  have hts := atoms_spec (ws := wsW_ y cc maxL (some .int) hh) B.pre
  have htb := vx_table (x := y) B (hts _ List.mem_cons_self)
  have hts : ∀ w ∈ lw_all, w.before As.toArray s = true := fun w h => hts w (List.mem_cons_of_mem _ h)
  have ho : s.vm.findClass own = some m.cls := by rw [← hown]; exact findClass_of_methodNamed B.named
  rw [lg_entry_eq]
  exact body (p, l, e, (headSpec (wsW_ y cc maxL (some .int) hh) rm).room, s, m, As.toArray, below, meth, c, vx_MQ below (va_Qi (fun (r : Int32) (Φ' : va_W) => ret (r, Φ')) (fun Φ' t => va_P D gCL Φ' t.heap ∧ va_D (va_A Φ s.heap.size) Φ') (va_A Φ s.heap.size)) (gTX D (va_A Φ s.heap.size) thr) As.toArray s mc ms (va_A Φ s.heap.size), va_A Φ s.heap.size, D, dA) rfl rfl
    ⟨B.exec, B.bytes, hml, ho, hts, hK, Nat.le_refl _, Nat.le_refl _, fun q h => Or.inr h, B.notSynchronized⟩ hz htb
    ⟨Nat.le_refl _, Nat.le_refl _⟩
    (fun r Φ1 h1 H locs ls pc hP hD hS hd => vx_ret (W.iret (v := r) B.exec rfl B.returns (fun t ht hW => ⟨⟨r, Φ1, rfl, h1, by rw [ht]; exact hP, hD⟩, hS.F ht⟩) hS.2.2 hd B.notSynchronized))
    s.heap [] _ hP hD0.self va_S.rf (lv_entry As hlen)
end GSh
def tx0 (σ : Nat → Nat → Int32) : Nat → Nat → Int32 := upd2 (upd2 σ 0 13 0) 0 14 0
def txF (t : Int32 × Int32 × (Nat → Nat → Int32)) : Int32 × (Nat → Nat → Int32) := (-10 - t.2.1, upd2 t.2.2 0 14 t.1)
def f_X0_text (σ : Nat → Nat → Int32) : Option (Int32 × (Nat → Nat → Int32)) :=
  oB (f_X8_next_b0 (rdS (tx0 σ) (σ 0 13))) (fun r => oM r (fun t => some (txF t))
    (fun o1 => oB (f_X8_lines o1) (fun r2 => oM r2 (fun t => some (txF t))
      (fun v => oB (f_X5_as v.2 0 4) (fun s4 => some (v.1, upd2 (upd2 s4 0 6 0) 0 4 0))))))
theorem c_X0_text {l : Launch} {D : va_G} {dA : Nat → ClassId} {ad : Nat → Nat} {tl : va_W} {lam : Nat → Int64} {σ : Nat → Nat → Int32} {o : Int32 × (Nat → Nat → Int32)} (hf : f_X0_text σ = some o) : gTi kS l D dA (XW dA 36 ad σ lam ++ tl) [.ref (ad 0)] (fun r => r = (o.1, XW dA 36 ad o.2 lam ++ tl)) (fun _ => False) yX0_text (wsW_ yX0_text cX0_text 4 (some .int) [(15, 52, 53, 170)]) ({ frames := 11, cells := 9, slots := 71, locals := 233 } : Room) 9 71 :=
  g_startIh (mc := 9) (ms := 71) (own := RX0) (by decide) rfl (Nat.le_of_ble_eq_true rfl) (fun x e _ hc hz htb hRc hR => by
    subst e
    have hand : ∀ (a : Nat → Nat) (q q9 : Nat) (t : Int32 × Int32 × (Nat → Nat → Int32)) (pc : Nat) (lv : List (Nat × Value)), txF t = o → covers ⟨15, 52, 53, 170⟩ pc = true → ((2, Value.ref q9) :: lv.filter (fun z => !(z.1 == 2) && !(z.1 + 1 == 2 && z.2.category == 2)) = [(2, .ref q9), (1, .int (σ 0 13)), (0, .ref (ad 0))]) → gT x 4 9 71 ((XW x.dA 43 (adR ad a q) t.2.2 lam ++ tl) ++ fltC q9 t.1 t.2.1) pc lv q9 := by
      intro a q q9 t pc lv ht hcov hlv
      refine g_catch (hh := (15, 52, 53, 170)) hc htb hcov (by decide) q271 ?_
      refine g_astore_n hc dX0_text_53 rfl (by decide) hlv ?_
      refine g_aload_n hc dX0_text_54 rfl 2 rfl ?_
      refine g_aload_n hc dX0_text_55 rfl 0 rfl ?_
      refine g_getN (v := .int t.1) hc in_X9 (flt_at _ q9 t.1 t.2.1) rfl 6 (by decide) 17 rfl rfl dX0_text_56 ?_
      refine g_eq (List.append_assoc _ _ _) ?_
      refine g_put (v := .int t.1) hc in_X0 tyX0_ok nmX0 (XW_at (k := 0) (by decide)) rfl 14 (by decide) q199 rfl rfl rfl (Nat.le_of_ble_eq_true rfl) (XW_set (σ1 := upd2 t.2.2 0 14 t.1) (k := 0) (by decide) rfl rfl) dX0_text_59 ?_
      refine g_bipush (v := -10) hc dX0_text_62 (by decide) ?_
      refine g_aload_n hc dX0_text_64 rfl 0 rfl ?_
      refine g_eq (List.append_assoc _ _ _).symm ?_
      refine g_getN (v := .int t.2.1) hc in_X9 (flt_at _ q9 t.1 t.2.1) rfl 7 (by decide) 18 rfl rfl dX0_text_65 ?_
      refine g_isub hc dX0_text_68 ?_
      refine g_left (fun k hk => adR_o hk) ?_
      exact g_iret hc (hR _ _ (by rw [← ht]; rfl)) dX0_text_69
    unfold f_X0_text at hf
    obtain ⟨r1, h1, hf⟩ := oB_some hf
    refine g_aload_n hc dX0_text_0 rfl 0 rfl ?_
    refine g_get (v := .int (σ 0 13)) hc in_X0 (XW_at (k := 0) (by decide)) rfl 13 (by decide) q198 rfl dX0_text_1 ?_
    refine g_istore_n (lv' := [(1, .int (σ 0 13)), (0, .ref (ad 0))]) hc dX0_text_4 rfl (by decide) rfl ?_
    refine g_aload_n hc dX0_text_5 rfl 1 rfl ?_
    refine g_iconst (v := 0) hc dX0_text_6 (by decide) ?_
    refine g_put (v := .int 0) hc in_X0 tyX0_ok nmX0 (XW_at (k := 0) (by decide)) rfl 13 (by decide) q198 rfl rfl rfl (Nat.le_of_ble_eq_true rfl) (XW_set (σ1 := upd2 σ 0 13 0) (k := 0) (by decide) rfl rfl) dX0_text_7 ?_
    refine g_aload_n hc dX0_text_10 rfl 1 rfl ?_
    refine g_iconst (v := 0) hc dX0_text_11 (by decide) ?_
    refine g_put (v := .int 0) hc in_X0 tyX0_ok nmX0 (XW_at (k := 0) (by decide)) rfl 14 (by decide) q199 rfl rfl rfl (Nat.le_of_ble_eq_true rfl) (XW_set (σ1 := tx0 σ) (k := 0) (by decide) rfl rfl) dX0_text_12 ?_
    refine g_new hc in_X8 tyX8_ok q272 q273 q68 (ci := 8) rfl bl_X8 (Nat.le_trans (Nat.le_of_ble_eq_true rfl) hRc.1) (Nat.le_trans (Nat.le_of_ble_eq_true rfl) hRc.2) dX0_text_15 (fun q => ?_)
    refine g_dup hc dX0_text_18 rfl ?_
    refine g_aload_n hc dX0_text_19 rfl 1 rfl ?_
    refine g_iload_n hc dX0_text_20 rfl 0 rfl ?_
    refine g_callTI (n := 2) hc hz [.ref (ad 0), .int (σ 0 13)] [.ref q] (c_X8_init h1) q274 q276 q68 q275 rfl (by decide +kernel) rfl rfl (Nat.le_of_ble_eq_true rfl) ⟨Nat.le_trans (Nat.le_of_ble_eq_true rfl) hRc.1, Nat.le_trans (Nat.le_of_ble_eq_true rfl) hRc.2⟩ dX0_text_21 ?_ ?_
    · rintro c pl Φ1 q9 ⟨a, t, rfl, e1, e2, e3⟩
      dsimp only at e1 e2 e3
      subst e1; subst e2; subst e3
      exact gT_widen (Nat.le_of_ble_eq_true rfl) (Nat.le_of_ble_eq_true rfl) (hand a q q9 t _ _ (Option.some.inj hf) (by decide) rfl)
    · rintro Φ1 ⟨a, o1, rfl, rfl⟩
      obtain ⟨r2, h2, hf⟩ := oB_some (x := f_X8_lines o1) (f := fun r2 => oM r2 (fun t => some (txF t)) (fun v => oB (f_X5_as v.2 0 4) (fun s4 => some (v.1, upd2 (upd2 s4 0 6 0) 0 4 0)))) hf
      refine g_astore_n (lv' := [(2, .ref q), (1, .int (σ 0 13)), (0, .ref (ad 0))]) hc dX0_text_24 rfl (by decide) rfl ?_
      refine g_aload_n hc dX0_text_25 rfl 0 rfl ?_
      cases r2 with
      | inl t =>
        refine g_callTi hc hz [] [] (ct_X8_lines (Nat.le_refl 43) h2) (XW_at (k := 42) (by decide)) rfl (lw_V q402 q403 q404 q68 q405) rfl hd_X8_lines rfl rfl (Nat.le_of_ble_eq_true rfl) ⟨Nat.le_trans (Nat.le_of_ble_eq_true rfl) hRc.1, Nat.le_trans (Nat.le_of_ble_eq_true rfl) hRc.2⟩ dX0_text_26 (fun c pl Φ1 q9 hq => ?_) (fun _ _ h => h.elim)
        obtain ⟨e1, e2, e3⟩ := hq
        dsimp only at e1 e2 e3
        subst e1; subst e2; subst e3
        exact gT_widen (Nat.le_of_ble_eq_true rfl) (Nat.le_of_ble_eq_true rfl) (hand a q q9 t _ _ (Option.some.inj hf) (by decide) rfl)
      | inr v =>
        obtain ⟨s4, h3, hf⟩ := oB_some (x := f_X5_as v.2 0 4) (f := fun s4 => some (v.1, upd2 (upd2 s4 0 6 0) 0 4 0)) hf
        have hf := Option.some.inj hf
        refine g_callVzi hc hz [] [] (c_X8_lines (Nat.le_refl 43) h2) (XW_at (k := 42) (by decide)) rfl (lw_V q402 q403 q404 q68 q405) rfl hd_X8_lines rfl rfl (Nat.le_of_ble_eq_true rfl) ⟨Nat.le_trans (Nat.le_of_ble_eq_true rfl) hRc.1, Nat.le_trans (Nat.le_of_ble_eq_true rfl) hRc.2⟩ dX0_text_26 ?_
        refine g_istore_n (lv' := [(3, .int v.1), (2, .ref q), (1, .int (σ 0 13)), (0, .ref (ad 0))]) hc dX0_text_29 rfl (by decide) rfl ?_
        refine g_aload_n hc dX0_text_30 rfl 3 rfl ?_
        refine g_get (v := .ref (adR ad a q (sb 0))) hc in_X0 (XW_at (k := 0) (by decide)) rfl 1 (by decide) q185 rfl dX0_text_31 ?_
        refine g_aload_n hc dX0_text_34 rfl 1 rfl ?_
        refine g_getN (v := .ref (adR ad a q (sb 4))) hc in_X8 (XW_at (k := 42) (by decide)) rfl 1 (by decide) 19 rfl rfl dX0_text_35 ?_
        refine g_callVv hc [.ref (adR ad a q (sb 4))] [] (c_X5_as (by decide) (gSl 0 (by decide) (by decide)) (gS8 (Nat.le_refl 43)) h3) (XW_s0 (gSl 0 (by decide) (by decide))) rfl (lw_V q521 q522 q523 q65 q524) rfl hd_X5_as rfl rfl (Nat.le_of_ble_eq_true rfl) ⟨Nat.le_trans (Nat.le_of_ble_eq_true rfl) hRc.1, Nat.le_trans (Nat.le_of_ble_eq_true rfl) hRc.2⟩ dX0_text_38 ?_
        refine g_aload_n hc dX0_text_41 rfl 3 rfl ?_
        refine g_iconst (v := 0) hc dX0_text_42 (by decide) ?_
        refine g_put (v := .int 0) hc in_X0 tyX0_ok nmX0 (XW_at (k := 0) (by decide)) rfl 6 (by decide) q190 rfl rfl rfl (Nat.le_of_ble_eq_true rfl) (XW_set (σ1 := upd2 s4 0 6 0) (k := 0) (by decide) rfl rfl) dX0_text_43 ?_
        refine g_aload_n hc dX0_text_46 rfl 3 rfl ?_
        refine g_iconst (v := 0) hc dX0_text_47 (by decide) ?_
        refine g_put (v := .int 0) hc in_X0 tyX0_ok nmX0 (XW_at (k := 0) (by decide)) rfl 4 (by decide) q188 rfl rfl rfl (Nat.le_of_ble_eq_true rfl) (XW_set (σ1 := upd2 (upd2 s4 0 6 0) 0 4 0) (k := 0) (by decide) rfl rfl) dX0_text_48 ?_
        refine g_iload_n hc dX0_text_51 rfl 0 rfl ?_
        refine g_eq (List.append_nil _).symm ?_
        refine g_left (fun k hk => adR_o hk) ?_
        refine g_widen (ca' := 9) (sl' := 71) (Nat.le_of_ble_eq_true rfl) (Nat.le_of_ble_eq_true rfl) ?_
        exact g_iret hc (hR _ _ (by rw [← hf])) dX0_text_52)
