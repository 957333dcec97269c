/-! ===== what the machine throws by itself ===== -/
set_option maxRecDepth 100000
variable {kS : gKS}
/-- an object of class E is thrown at pc -/
def gU (x : gX) (nL ca sl : Nat) (Φ : va_W) (pc : Nat) (lv : List (Nat × Value)) (E : String) : Prop :=
  ∀ (H : Heap) (locs : List Loc) (ls : Array Slot) (rest : List Value) (q : Addr) (ce : Cell), va_P x.D gCL Φ H → va_D x.A Φ → va_S x.A x.s.heap H locs → lv_has ls nL lv → H[q]? = some ce → ce.vm = .none → x.s.vm.findClass E = some ce.cls → vx_W x.p x.l x.e x.R x.s x.m x.ar x.be x.me x.c H locs ca sl x.Q (F0 x.m pc ls rest) q
theorem arm_goodR : (vx_atM "java/lang/NegativeArraySizeException" upR).all vx_ot = true := by decide +kernel
theorem arm_goodI : (vx_atM "java/lang/ArrayIndexOutOfBoundsException" upI).all vx_ot = true := by decide +kernel
theorem arm_goodC : (vx_atM "java/lang/ClassCastException" upR).all vx_ot = true := by decide +kernel
theorem arm_goodN : (vx_atN 8).all vx_ot = true := by decide +kernel
theorem int_modelled (n : Int32) : (toString n == notModelled) = false := by
  rw [beq_eq_false_iff_ne]
  intro h
  have h1 := int32_print n
  rw [h] at h1
  exact absurd h1 (by decide)
section VM
variable {x : gX} {own : String} {cc : ByteArray} {nL F L ca sl : Nat} {Φ : va_W} {pc : Nat} {lv : List (Nat × Value)} {st : List Value}
theorem g_noteM (hc : gOk x own cc nL F L) (hl0 : x.l.stackTraces = false) (hz : gZs kS x.A x.s x.s.heap) {E text : String} {names : List String} {nb : Nat} (hcls : Bundle.fit E = true) (hnames : ∀ n ∈ names, Bundle.fit n = true) (hsoe : (E == "java/lang/StackOverflowError") = false) (hoom : (E == "java/lang/OutOfMemoryError") = false) (harm : (vx_atM E names).all armOk = true) (hgood : (vx_atM E names).all vx_ot = true) (htext : (text == notModelled) = false) (hnb : (stringBytes (stringToUtf16 text)).size ≤ nb) (hnb1 : nb ≤ 1000) (hF : names.length + 4 < F) (hL : (st.map fun v => v.category).sum + 10240 ≤ L) (hshort : 13 * names.length + 55 ≤ 10240) (hcs : ca + 3 ≤ x.R.cells ∧ sl + (nb + 10) ≤ x.R.slots) {H : Heap} {locs : List Loc} {ls : Array Slot} (hP : va_P x.D gCL Φ H) (hD : va_D x.A Φ) (hS : va_S x.A x.s.heap H locs) (hl : lv_has ls nL lv) (kk : gU x nL (ca + 3) (sl + (nb + 10)) Φ pc lv E) : vx_Note x.p x.l x.e x.R x.s x.m x.ar x.be x.me x.c H locs ca sl x.Q (F0 x.m pc ls st) E text :=
  vx_vm (names := names) (nb := nb) (A := x.A) hc.ex hl0 hcls hnames hsoe hoom (armOk_at hc harm) (fun w hw => List.all_eq_true.mp hgood w hw) hz.1.1 hz.1.2 hS (by rw [hc.ml]; exact hl.1) htext hnb hnb1 (Nat.lt_of_lt_of_le hF hc.fr) (Nat.le_trans hL hc.lo) hshort hcs.1 hcs.2 hc.2.2.2.2.2.2.2.2.2
    (fun H1 q9 ce _ h2 h3 h4 h5 h6 => kk H1 locs ls st q9 ce (hP.kept (fun k q hk => h2 q.1 (vx_lt hP hk))) hD h3 hl h4 h5 h6)
theorem g_noteN (hc : gOk x own cc nL F L) (hl0 : x.l.stackTraces = false) (hz : gZs kS x.A x.s x.s.heap) (hF : 7 < F) (hL : (st.map fun v => v.category).sum + 10240 ≤ L) (hcs : ca + 1 ≤ x.R.cells ∧ sl + 8 ≤ x.R.slots) {H : Heap} {locs : List Loc} {ls : Array Slot} (hP : va_P x.D gCL Φ H) (hD : va_D x.A Φ) (hS : va_S x.A x.s.heap H locs) (hl : lv_has ls nL lv) (kk : gU x nL (ca + 1) (sl + 8) Φ pc lv "java/lang/NullPointerException") : vx_NoteN x.p x.l x.e x.R x.s x.m x.ar x.be x.me x.c H locs ca sl x.Q (F0 x.m pc ls st) :=
  vx_npe (nb := 8) (A := x.A) hc.ex hl0 (armOk_at hc arm_npe) (fun w hw => List.all_eq_true.mp arm_goodN w hw) hz.1.1 hz.1.2 hS (by rw [hc.ml]; exact hl.1) (Nat.lt_of_lt_of_le hF hc.fr) (Nat.le_trans hL hc.lo) hcs.1 hcs.2 hc.2.2.2.2.2.2.2.2.2
    (fun H1 q9 ce _ h2 h3 h4 h5 h6 => kk H1 locs ls st q9 ce (hP.kept (fun k q hk => h2 q.1 (vx_lt hP hk))) hD h3 hl h4 h5 h6)
/-- caught by a row of the table; the rows ahead don't take it -/
theorem gU_catch (hc : gOk x own cc nL F L) {E nm : String} (pre : List ExceptionTableEntry) (r : ExceptionTableEntry) (suf : List ExceptionTableEntry) (ht : x.c.exceptionTable.toList = pre ++ r :: suf) (hpass : ∀ z ∈ pre, covers z pc = false ∨ (z.catchType ≠ 0 ∧ ∃ n : String, (Cond.classLink own z.catchType n).before x.ar x.s = true ∧ va_Nc E n x.s)) (hcov : covers r pc = true) (h0 : r.catchType ≠ 0) (hlink : Cond.classLink own r.catchType nm ∈ lw_all) (hca : (E, nm) ∈ gCA) (kk : ∀ q : Addr, gG x nL ca sl Φ r.handlerPc lv [.ref q]) : gU x nL ca sl Φ pc lv E :=
  fun H locs ls _ q _ hP hD hS hl h1 h2 h3 => vx_catch hc.ow pre r suf ht hpass hcov h0 (hc.ts _ hlink) (va_Nw.use rfl (hc.kw.2.2.2.1 (E, nm) hca)) h1 h2 h3 (kk q H locs ls hP hD hS hl)
theorem g_newarrayZ (hc : gOk x own cc nL F L) (hl0 : x.l.stackTraces = false) (hz : gZs kS x.A x.s x.s.heap) {atype : ArrayType} {n : Int32} (h0 : n < 0) (hF : 6 < F) (hL : (st.map fun v => v.category).sum + 10240 ≤ L) (hcs : ca + 3 ≤ x.R.cells ∧ sl + 54 ≤ x.R.slots) (hdg : decode cc pc = .ok (.newarray atype, 2)) (kk : gU x nL (ca + 3) (sl + 54) Φ pc lv "java/lang/NegativeArraySizeException") : gG x nL ca sl Φ pc lv (.int n :: st) :=
  fun H locs ls hP hD hS hl => vx_newarrayZ hc.ex hc.b h0 hdg (fun tx e => by
    subst e
    have h1 := int32_print n
    have h2 := utf16_size_le (toString n)
    have h3 := stringBytes_size_le (stringToUtf16 (toString n))
    exact g_noteM (names := upR) (nb := 44) hc hl0 hz (by decide) (by decide) (by decide) (by decide) arm_nas arm_goodR (int_modelled n) (by omega) (by decide) hF hL (by decide) hcs hP hD hS hl kk)
end VM
