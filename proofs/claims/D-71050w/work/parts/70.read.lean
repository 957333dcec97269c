/-! ===== read() ===== -/
set_option maxRecDepth 100000
variable {kS : gKS}
def tornOf (E : String) : Int32 := if E = "java/lang/NullPointerException" then 1 else if E = "java/lang/ClassCastException" then 3 else 2
def rdL (b : Option (Nat × Nat × (Nat → Int32))) (lane f n : Int32) : Nat → Int32 → (Nat → Nat → Int32) → Option (Int32 × (Nat → Nat → Int32))
  | 0, _, _ => none
  | u + 1, i, σ => if n ≤ i then some (i, upd2 σ 0 22 0) else match tkF b lane (f + 2 * i) with
    | .inl E => some (i, upd2 σ 0 22 (tornOf E))
    | .inr c => match tkF b lane (f + 2 * i + 1) with
      | .inl E => some (i, upd2 σ 0 22 (tornOf E))
      | .inr c2 => oB (f_X0_drive σ c c2) (fun o => if 0 ≤ o.1 then rdL b lane f n u (i + 1) o.2 else oB (f_X5_as o.2 0 1) (fun s => some (-20 - i, s)))
def f_X0_read (sh : gSh) (σ : Nat → Nat → Int32) (k lane f n : Int32) : Option (Int32 × (Nat → Nat → Int32)) :=
  oB (f_X0_isSheet k lane) fun b => if b = 0 then some (-1, σ) else oB (f_X0_in (Int32.toInt64 n) 0 20) fun b2 => if b2 = 0 then some (-1, σ) else oB (f_X5_as σ 1 0) fun s => rdL (sh k.toNatClampNeg) lane f n 21 0 s
theorem tkF_E {b : Option (Nat × Nat × (Nat → Int32))} {lane i : Int32} {E : String} (h : tkF b lane i = .inl E) : E = "java/lang/NullPointerException" ∨ E = "java/lang/ClassCastException" ∨ E = "java/lang/ArrayIndexOutOfBoundsException" := by
  cases b with
  | none => exact Or.inl (Sum.inl.inj h).symm
  | some t =>
    obtain ⟨c, n, f⟩ := t
    unfold tkF at h
    dsimp only at h
    by_cases h1 : laC lane = c
    · rw [if_pos h1] at h
      by_cases h2 : inb i n = true
      · rw [if_pos h2] at h; cases h
      · rw [if_neg h2] at h; exact Or.inr (Or.inr (Sum.inl.inj h).symm)
    · rw [if_neg h1] at h; exact Or.inr (Or.inl (Sum.inl.inj h).symm)
theorem gU_lv {x : gX} {nL ca sl : Nat} {Φ : va_W} {pc : Nat} {lv lv' : List (Nat × Value)} {E : String} (ks : List Nat) (hl : lv_pick lv ks = lv') (kk : gU x nL ca sl Φ pc lv' E) : gU x nL ca sl Φ pc lv E :=
  fun H locs ls rest q ce hP hD hS h g1 g2 g3 => kk H locs ls rest q ce hP hD hS (lv_sub h ks hl) g1 g2 g3
theorem c_X0_read {l : Launch} {D : va_G} {dA : Nat → ClassId} {ad : Nat → Nat} {tl : va_W} {lam : Nat → Int64} {σ : Nat → Nat → Int32} {r : Nat → Option Nat} {J : Nat → Nat} {sh : gSh} {k lane f n : Int32} {o : Int32 × (Nat → Nat → Int32)} (hl0 : l.stackTraces = false) (hf : f_X0_read sh σ k lane f n = some o) (hk : f_X0_isSheet k lane ≠ some 0 → inb k 4 = true) (hW : RwAt dA r tl J sh) : gTi kS l D dA (XW dA 36 ad σ lam ++ (SHc ad r ++ tl)) [.ref (ad 0), .int k, .int lane, .int f, .int n] (fun t => t = (o.1, XW dA 36 ad o.2 lam ++ (SHc ad r ++ tl))) (fun _ => False) yX0_read (wsW_ yX0_read cX0_read 8 (some .int) [(40, 100, 110, 323), (101, 107, 110, 323), (40, 100, 118, 335), (101, 107, 118, 335), (40, 100, 126, 325), (101, 107, 126, 325)]) ({ frames := 9, cells := 3, slots := 610, locals := 10400 } : Room) 3 610 :=
  g_startIh (mc := 3) (ms := 610) (own := RX0) (by decide) rfl (Nat.le_of_ble_eq_true rfl) (fun x e el hc hz htb hRc hR => by
    subst e
    have hl1 : x.l.stackTraces = false := by rw [el]; exact hl0
    unfold f_X0_read at hf
    obtain ⟨b, hb, hf⟩ := oB_some hf
    have fin : ∀ σ : Nat → Nat → Int32, (rv : Int32) → (rv, σ) = o → gRi x 3 610 (XW x.dA 36 ad σ lam ++ (SHc ad r ++ tl)) rv := fun σ rv h => hR _ _ (by rw [← h])
    refine g_iload_n hc dX0_read_0 rfl 1 rfl ?_
    refine g_iload_n hc dX0_read_1 rfl 2 rfl ?_
    refine g_callSi hc [.int k, .int lane] [] (c_X0_isSheet hb) (lw_S q867 q868 q60 q869) rfl hd_X0_isSheet rfl rfl (Nat.le_of_ble_eq_true rfl) gZ dX0_read_2 ?_
    have bad : (-1, σ) = o → gG x 8 0 0 (XW x.dA 36 ad σ lam ++ (SHc ad r ++ tl)) 21 (lv_args 0 [.ref (ad 0), .int k, .int lane, .int f, .int n]) [] := by
      intro h
      refine g_iconst (v := -1) hc dX0_read_21 (by decide) ?_
      refine g_widen (ca' := 3) (sl' := 610) (Nat.le_of_ble_eq_true rfl) (Nat.le_of_ble_eq_true rfl) ?_
      exact g_iret hc (fin _ _ h) dX0_read_22
    refine g_if_eq (tgt := 21) hc dX0_read_5 (by decide) (fun h0 => bad (by rw [if_pos h0] at hf; exact Option.some.inj hf)) (fun h0 => ?_)
    rw [if_neg h0] at hf
    have hk4 := hk (by rw [hb]; exact fun e => h0 (Option.some.inj e))
    obtain ⟨b2, hb2, hf⟩ := oB_some hf
    refine g_iload hc dX0_read_8 4 rfl ?_
    refine g_i2l hc dX0_read_10 ?_
    refine g_lconst (v := 0) hc dX0_read_11 (by decide) ?_
    refine g_ldc2 (v := 20) hc q941 dX0_read_12 ?_
    refine g_callSi hc [.long (Int32.toInt64 n), .long 0, .long 20] [] (c_X0_in hb2) (lw_S q260 q261 q60 q262) rfl hd_X0_in rfl rfl (Nat.le_of_ble_eq_true rfl) gZ dX0_read_15 ?_
    refine g_if_ne (tgt := 23) hc dX0_read_18 (by decide) (fun h2 => ?_) (fun h2 => bad (by rw [if_pos h2] at hf; exact Option.some.inj hf))
    rw [if_neg h2] at hf
    obtain ⟨s1, hs1, hf⟩ := oB_some hf
    refine g_aload_n hc dX0_read_23 rfl 0 rfl ?_
    refine g_get (v := .ref (ad (sb 1))) hc in_X0 (XW_at (k := 0) (by decide)) rfl 2 (by decide) q186 rfl dX0_read_24 ?_
    refine g_aload_n hc dX0_read_27 rfl 0 rfl ?_
    refine g_get (v := .ref (ad (sb 0))) hc in_X0 (XW_at (k := 0) (by decide)) rfl 1 (by decide) q185 rfl dX0_read_28 ?_
    refine g_callVv hc [.ref (ad (sb 0))] [] (c_X5_as (Nat.le_refl 36) (gSl 1 (Nat.le_refl 36) (by decide)) (gSl 0 (Nat.le_refl 36) (by decide)) hs1) (XW_s0 (gSl 1 (Nat.le_refl 36) (by decide))) rfl (lw_V q521 q522 q523 q65 q524) rfl hd_X5_as rfl rfl (Nat.le_of_ble_eq_true rfl) gZ dX0_read_31 ?_
    refine g_iconst (v := 0) hc dX0_read_34 (by decide) ?_
    refine g_istore (lv' := [(5, .int 0), (0, .ref (ad 0)), (1, .int k), (2, .int lane), (3, .int f), (4, .int n)]) hc dX0_read_35 (by decide) rfl ?_
    refine g_iconst (v := 0) hc dX0_read_37 (by decide) ?_
    refine g_istore (lv' := [(6, .int 0), (5, .int 0), (0, .ref (ad 0)), (1, .int k), (2, .int lane), (3, .int f), (4, .int n)]) hc dX0_read_38 (by decide) rfl ?_
    have tail : ∀ (σ : Nat → Nat → Int32) (i w : Int32) (ca sl : Nat), ca ≤ 3 → sl ≤ 610 → (i, upd2 σ 0 22 w) = o → gG x 8 ca sl (XW x.dA 36 ad σ lam ++ (SHc ad r ++ tl)) 131 [(0, .ref (ad 0)), (5, .int w), (6, .int i)] [] := by
      intro σ i w ca sl h3 h4 ho
      refine g_aload_n hc dX0_read_131 rfl 0 rfl ?_
      refine g_iload hc dX0_read_132 1 rfl ?_
      refine g_put (v := .int w) hc in_X0 tyX0_ok nmX0 (XW_at (k := 0) (by decide)) rfl 22 (by decide) q207 rfl rfl rfl (Nat.le_of_ble_eq_true rfl) (XW_set (σ1 := upd2 σ 0 22 w) (k := 0) (by decide) rfl rfl) dX0_read_134 ?_
      refine g_iload hc dX0_read_137 2 rfl ?_
      refine g_widen (ca' := 3) (sl' := 610) h3 h4 ?_
      exact g_iret hc (fin _ _ ho) dX0_read_139
    have caught : ∀ (σ : Nat → Nat → Int32) (i : Int32) (E : String) (pc : Nat) (j : Int32), tkF (sh k.toNatClampNeg) lane j = .inl E → (i, upd2 σ 0 22 (tornOf E)) = o → covers ⟨40, 100, 110, 323⟩ pc = true → gU x 8 3 610 (XW x.dA 36 ad σ lam ++ (SHc ad r ++ tl)) pc [(0, .ref (ad 0)), (6, .int i)] E := by
      intro σ i E pc j hE ho hcov
      have nn : ∀ z : ExceptionTableEntry, z.catchType = 323 → va_Nc E "java/lang/NullPointerException" x.s → covers z pc = false ∨ (z.catchType ≠ 0 ∧ ∃ n : String, (Cond.classLink RX0 z.catchType n).before x.ar x.s = true ∧ va_Nc E n x.s) := by
        intro z hz1 hnc
        refine Or.inr ⟨by rw [hz1]; decide, _, ?_, hnc⟩
        rw [hz1]
        exact hc.ts _ q876
      have nq : ∀ z : ExceptionTableEntry, z.catchType = 335 → va_Nc E "java/lang/ClassCastException" x.s → covers z pc = false ∨ (z.catchType ≠ 0 ∧ ∃ n : String, (Cond.classLink RX0 z.catchType n).before x.ar x.s = true ∧ va_Nc E n x.s) := by
        intro z hz1 hnc
        refine Or.inr ⟨by rw [hz1]; decide, _, ?_, hnc⟩
        rw [hz1]
        exact hc.ts _ q927
      rcases tkF_E hE with rfl | rfl | rfl
      · refine gU_catch (nm := "java/lang/NullPointerException") hc [] ⟨40, 100, 110, 323⟩ [⟨101, 107, 110, 323⟩, ⟨40, 100, 118, 335⟩, ⟨101, 107, 118, 335⟩, ⟨40, 100, 126, 325⟩, ⟨101, 107, 126, 325⟩] htb (fun z hz => by cases hz) hcov (by decide) q876 (by decide) (fun q9 => ?_)
        refine g_astore (lv' := [(7, .ref q9), (0, .ref (ad 0)), (6, .int i)]) hc dX0_read_110 (by decide) rfl ?_
        refine g_iconst (v := 1) hc dX0_read_112 (by decide) ?_
        refine g_istore (lv' := [(5, .int 1), (7, .ref q9), (0, .ref (ad 0)), (6, .int i)]) hc dX0_read_113 (by decide) rfl ?_
        refine g_goto (tgt := 131) hc dX0_read_115 (by decide) ?_
        exact g_lv [2, 0, 3] rfl (tail σ i 1 3 610 (Nat.le_refl _) (Nat.le_refl _) ho)
      · refine gU_catch (nm := "java/lang/ClassCastException") hc [⟨40, 100, 110, 323⟩, ⟨101, 107, 110, 323⟩] ⟨40, 100, 118, 335⟩ [⟨101, 107, 118, 335⟩, ⟨40, 100, 126, 325⟩, ⟨101, 107, 126, 325⟩] htb (fun z hz1 => ?_) hcov (by decide) q927 (by decide) (fun q9 => ?_)
        · have hnc := hz.2.2.2.2.2.1 ("java/lang/ClassCastException", "java/lang/NullPointerException") (by decide)
          rcases List.mem_cons.mp hz1 with rfl | hz1
          · exact nn _ rfl hnc
          · rw [List.mem_singleton] at hz1
            subst hz1
            exact nn _ rfl hnc
        refine g_astore (lv' := [(7, .ref q9), (0, .ref (ad 0)), (6, .int i)]) hc dX0_read_118 (by decide) rfl ?_
        refine g_iconst (v := 3) hc dX0_read_120 (by decide) ?_
        refine g_istore (lv' := [(5, .int 3), (7, .ref q9), (0, .ref (ad 0)), (6, .int i)]) hc dX0_read_121 (by decide) rfl ?_
        refine g_goto (tgt := 131) hc dX0_read_123 (by decide) ?_
        exact g_lv [2, 0, 3] rfl (tail σ i 3 3 610 (Nat.le_refl _) (Nat.le_refl _) ho)
      · refine gU_catch (nm := "java/lang/IndexOutOfBoundsException") hc [⟨40, 100, 110, 323⟩, ⟨101, 107, 110, 323⟩, ⟨40, 100, 118, 335⟩, ⟨101, 107, 118, 335⟩] ⟨40, 100, 126, 325⟩ [⟨101, 107, 126, 325⟩] htb (fun z hz1 => ?_) hcov (by decide) q901 (by decide) (fun q9 => ?_)
        · have hnc := hz.2.2.2.2.2.1 ("java/lang/ArrayIndexOutOfBoundsException", "java/lang/NullPointerException") (by decide)
          have hnq := hz.2.2.2.2.2.1 ("java/lang/ArrayIndexOutOfBoundsException", "java/lang/ClassCastException") (by decide)
          rcases List.mem_cons.mp hz1 with rfl | hz1
          · exact nn _ rfl hnc
          rcases List.mem_cons.mp hz1 with rfl | hz1
          · exact nn _ rfl hnc
          rcases List.mem_cons.mp hz1 with rfl | hz1
          · exact nq _ rfl hnq
          · rw [List.mem_singleton] at hz1
            subst hz1
            exact nq _ rfl hnq
        refine g_astore (lv' := [(7, .ref q9), (0, .ref (ad 0)), (6, .int i)]) hc dX0_read_126 (by decide) rfl ?_
        refine g_iconst (v := 2) hc dX0_read_128 (by decide) ?_
        refine g_istore (lv' := [(5, .int 2), (7, .ref q9), (0, .ref (ad 0)), (6, .int i)]) hc dX0_read_129 (by decide) rfl ?_
        exact g_lv [2, 0, 3] rfl (tail σ i 2 3 610 (Nat.le_refl _) (Nat.le_refl _) ho)
    have loop : ∀ (u : Nat) (i : Int32) (σ : Nat → Nat → Int32), rdL (sh k.toNatClampNeg) lane f n u i σ = some o → gG x 8 0 0 (XW x.dA 36 ad σ lam ++ (SHc ad r ++ tl)) 40 [(6, .int i), (5, .int 0), (0, .ref (ad 0)), (1, .int k), (2, .int lane), (3, .int f), (4, .int n)] [] := by
      intro u
      induction u with
      | zero => intro i σ h; cases h
      | succ u ih =>
        intro i σ h
        unfold rdL at h
        refine g_iload hc dX0_read_40 0 rfl ?_
        refine g_iload hc dX0_read_42 6 rfl ?_
        refine g_icmp_ge (tgt := 107) hc dX0_read_44 (by decide) (fun h1 => ?_) (fun h1 => ?_)
        · rw [if_pos h1] at h
          refine g_goto (tgt := 131) hc dX0_read_107 (by decide) ?_
          exact g_lv [2, 1, 0] rfl (tail σ i 0 0 0 (Nat.zero_le _) (Nat.zero_le _) (Option.some.inj h))
        · rw [if_neg h1] at h
          refine g_aload_n hc dX0_read_47 rfl 2 rfl ?_
          refine g_iload_n hc dX0_read_48 rfl 3 rfl ?_
          refine g_iload_n hc dX0_read_49 rfl 4 rfl ?_
          refine g_iload_n hc dX0_read_50 rfl 5 rfl ?_
          refine g_iconst (v := 2) hc dX0_read_51 (by decide) ?_
          refine g_iload hc dX0_read_52 0 rfl ?_
          refine g_imul hc dX0_read_54 ?_
          refine g_iadd hc dX0_read_55 ?_
          cases ht : tkF (sh k.toNatClampNeg) lane (f + 2 * i) with
          | inl E =>
            rw [ht] at h
            refine g_callMi hc hz [.int k, .int lane, .int (f + 2 * i)] [] (c_X0_takenOf hl1 hk4 hW) (XW_at (k := 0) (by decide)) rfl (lw_V q942 q944 qs31 q60 q945) rfl hd_X0_takenOf rfl rfl (Nat.le_of_ble_eq_true rfl) ⟨Nat.le_trans (Nat.le_of_ble_eq_true rfl) hRc.1, Nat.le_trans (Nat.le_of_ble_eq_true rfl) hRc.2⟩ dX0_read_56 (fun E1 Φ1 h2 => ?_) (fun r1 Φ1 h2 => ?_)
            · obtain ⟨e1, e2⟩ := h2
              dsimp only at e1 e2
              subst e2
              rw [ht] at e1
              cases e1
              exact gU_lv [2, 0] rfl (caught σ i E 56 _ ht (Option.some.inj h) (by decide))
            · have e1 := h2.1
              rw [ht] at e1
              cases e1
          | inr c =>
            rw [ht] at h
            dsimp only at h
            refine g_callVi hc [.int k, .int lane, .int (f + 2 * i)] [] (c_X0_takenOfV hk4 hW ht) (XW_at (k := 0) (by decide)) rfl (lw_V q942 q944 qs31 q60 q945) rfl hd_X0_takenOf rfl rfl (Nat.le_of_ble_eq_true rfl) gZ dX0_read_56 ?_
            refine g_istore (lv' := [(7, .int c), (6, .int i), (5, .int 0), (0, .ref (ad 0)), (1, .int k), (2, .int lane), (3, .int f), (4, .int n)]) hc dX0_read_59 (by decide) rfl ?_
            refine g_aload_n hc dX0_read_61 rfl 3 rfl ?_
            refine g_iload hc dX0_read_62 0 rfl ?_
            refine g_aload_n hc dX0_read_64 rfl 3 rfl ?_
            refine g_iload_n hc dX0_read_65 rfl 4 rfl ?_
            refine g_iload_n hc dX0_read_66 rfl 5 rfl ?_
            refine g_iload_n hc dX0_read_67 rfl 6 rfl ?_
            refine g_iconst (v := 2) hc dX0_read_68 (by decide) ?_
            refine g_iload hc dX0_read_69 1 rfl ?_
            refine g_imul hc dX0_read_71 ?_
            refine g_iadd hc dX0_read_72 ?_
            refine g_iconst (v := 1) hc dX0_read_73 (by decide) ?_
            refine g_iadd hc dX0_read_74 ?_
            cases ht2 : tkF (sh k.toNatClampNeg) lane (f + 2 * i + 1) with
            | inl E =>
              rw [ht2] at h
              refine g_callMi hc hz [.int k, .int lane, .int (f + 2 * i + 1)] [.int c, .ref (ad 0)] (c_X0_takenOf hl1 hk4 hW) (XW_at (k := 0) (by decide)) rfl (lw_V q942 q944 qs31 q60 q945) rfl hd_X0_takenOf rfl rfl (Nat.le_of_ble_eq_true rfl) ⟨Nat.le_trans (Nat.le_of_ble_eq_true rfl) hRc.1, Nat.le_trans (Nat.le_of_ble_eq_true rfl) hRc.2⟩ dX0_read_75 (fun E1 Φ1 h2 => ?_) (fun r1 Φ1 h2 => ?_)
              · obtain ⟨e1, e2⟩ := h2
                dsimp only at e1 e2
                subst e2
                rw [ht2] at e1
                cases e1
                exact gU_lv [3, 1] rfl (caught σ i E 75 _ ht2 (Option.some.inj h) (by decide))
              · have e1 := h2.1
                rw [ht2] at e1
                cases e1
            | inr c2 =>
              rw [ht2] at h
              dsimp only at h
              obtain ⟨o2, ho2, h⟩ := oB_some h
              refine g_callVi hc [.int k, .int lane, .int (f + 2 * i + 1)] [.int c, .ref (ad 0)] (c_X0_takenOfV hk4 hW ht2) (XW_at (k := 0) (by decide)) rfl (lw_V q942 q944 qs31 q60 q945) rfl hd_X0_takenOf rfl rfl (Nat.le_of_ble_eq_true rfl) gZ dX0_read_75 ?_
              refine g_callVi hc [.int c, .int c2] [] (c_X0_drive (Nat.le_refl 36) ho2) (XW_at (k := 0) (by decide)) rfl (lw_V q946 q650 q651 q60 q652) rfl hd_X0_drive rfl rfl (Nat.le_of_ble_eq_true rfl) gZ dX0_read_78 ?_
              refine g_if_ge (tgt := 101) hc dX0_read_81 (by decide) (fun h3 => ?_) (fun h3 => ?_)
              · rw [if_pos h3] at h
                refine g_iinc (v := i + 1) (lv' := [(6, .int (i + 1)), (7, .int c), (5, .int 0), (0, .ref (ad 0)), (1, .int k), (2, .int lane), (3, .int f), (4, .int n)]) hc dX0_read_101 (j := 1) rfl rfl (by decide) rfl ?_
                refine g_goto (tgt := 40) hc dX0_read_104 (by decide) ?_
                exact g_lv [0, 2, 3, 4, 5, 6, 7] rfl (ih (i + 1) o2.2 h)
              · rw [if_neg h3] at h
                obtain ⟨s3, hs3, h⟩ := oB_some h
                refine g_aload_n hc dX0_read_84 rfl 3 rfl ?_
                refine g_get (v := .ref (ad (sb 0))) hc in_X0 (XW_at (k := 0) (by decide)) rfl 1 (by decide) q185 rfl dX0_read_85 ?_
                refine g_aload_n hc dX0_read_88 rfl 3 rfl ?_
                refine g_get (v := .ref (ad (sb 1))) hc in_X0 (XW_at (k := 0) (by decide)) rfl 2 (by decide) q186 rfl dX0_read_89 ?_
                refine g_callVv hc [.ref (ad (sb 1))] [] (c_X5_as (Nat.le_refl 36) (gSl 0 (Nat.le_refl 36) (by decide)) (gSl 1 (Nat.le_refl 36) (by decide)) hs3) (XW_s0 (gSl 0 (Nat.le_refl 36) (by decide))) rfl (lw_V q521 q522 q523 q65 q524) rfl hd_X5_as rfl rfl (Nat.le_of_ble_eq_true rfl) gZ dX0_read_92 ?_
                refine g_bipush (v := -20) hc dX0_read_95 (by decide) ?_
                refine g_iload hc dX0_read_97 1 rfl ?_
                refine g_isub hc dX0_read_99 ?_
                refine g_widen (ca' := 3) (sl' := 610) (Nat.le_of_ble_eq_true rfl) (Nat.le_of_ble_eq_true rfl) ?_
                exact g_iret hc (fin _ _ (Option.some.inj h)) dX0_read_100
    exact loop 21 0 s1 hf)
