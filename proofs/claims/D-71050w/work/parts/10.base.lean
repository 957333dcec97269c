/-! ===== THE BASE: option programs; rows over a world that is one list of cells ===== -/
def TX1 : u_T := fun _ => ("", "", "", false)
def gCL : List vw_C := [(RX0, TX0, 23), (RX1, TX1, 0), (RX2, TX1, 0), (RX3, TX1, 0), (RX4, TX1, 0), (RX5, TX5, 9), (RX6, TX6, 1), (RX7, TX7, 29), (RX8, TX8, 8), (RX9, TX9, 8)]
def gTY (dA : Nat → ClassId) : List (ClassId × FieldType) := [(dA 0, .byte), (dA 1, .int), (dA 2, .boolean), (dA 3, .short), (dA 4, .object "HedgehogLots$Plain"), (dA 5, .object "HedgehogLots$Slope"), (dA 6, .object "HedgehogLots$Sheet")]
/-! option programs -/
def oC {α : Type} (b : Bool) (x : Option α) : Option α := match b with
  | true => x
  | false => none
def oL {σ α : Type} (s : σ) (f : σ → Option α) : Option α := f s
def oB {α β : Type} (x : Option α) (f : α → Option β) : Option β := match x with
  | none => none
  | some a => f a
def oI {α β : Type} (x : Option α) : Option (β ⊕ α) := match x with
  | none => none
  | some a => some (.inr a)
def oLoop {σ ρ : Type} : Nat → (σ → Option (σ ⊕ ρ)) → σ → Option ρ
  | 0, _, _ => none
  | n + 1, f, s => match f s with
    | none => none
    | some (.inl s') => oLoop n f s'
    | some (.inr r) => some r
theorem oC_some {α : Type} {b : Bool} {x : Option α} {o : α} (h : oC b x = some o) : b = true ∧ x = some o := by
  cases b
  · cases h
  · exact ⟨rfl, h⟩
theorem oL_some {σ α : Type} {s : σ} {f : σ → Option α} {o : α} (h : oL s f = some o) : ∃ s', s' = s ∧ f s' = some o := ⟨s, rfl, h⟩
theorem oB_some {α β : Type} {x : Option α} {f : α → Option β} {o : β} (h : oB x f = some o) : ∃ a, x = some a ∧ f a = some o := by
  cases x with
  | none => cases h
  | some a => exact ⟨a, rfl, h⟩
theorem oI_some {α β : Type} {x : Option α} {o : β ⊕ α} (h : oI x = some o) : ∃ a, x = some a ∧ o = .inr a := by
  cases x with
  | none => cases h
  | some a => exact ⟨a, rfl, (Option.some.inj h).symm⟩
theorem oT {α : Type} {c : Prop} [Decidable c] {a b : Option α} {o : α} (hc : c) (h : (if c then a else b) = some o) : a = some o := by
  rw [if_pos hc] at h
  exact h
theorem oF {α : Type} {c : Prop} [Decidable c] {a b : Option α} {o : α} (hc : ¬ c) (h : (if c then a else b) = some o) : b = some o := by
  rw [if_neg hc] at h
  exact h
/-- a loop, by its fuel: P holds at the head, K of what it ends with -/
theorem oLoop_ind {σ ρ : Type} {f : σ → Option (σ ⊕ ρ)} (P : σ → Prop) (K : ρ → Prop) (h : ∀ (s : σ) (o : σ ⊕ ρ), f s = some o → Sum.elim P K o → P s) : ∀ (n : Nat) (s : σ) (r : ρ), oLoop n f s = some r → K r → P s := by
  intro n
  induction n with
  | zero => intro s r hr; cases hr
  | succ n ih =>
    intro s r hr hK
    unfold oLoop at hr
    cases hf : f s with
    | none => rw [hf] at hr; cases hr
    | some o =>
      rw [hf] at hr
      cases o with
      | inl s' => exact h s _ hf (ih s' r hr hK)
      | inr r' =>
        cases hr
        exact h s _ hf hK
def inb (i : Int32) (n : Nat) : Bool := decide (¬ (i < 0 ∨ n ≤ i.toNatClampNeg))
theorem inb_in {i : Int32} {n : Nat} (h : inb i n = true) : vp_in i n := (of_decide_eq_true h : ¬ (i < 0 ∨ n ≤ i.toNatClampNeg))
def nz (x : Int32) : Bool := decide (¬ x = 0)
def nzl (x : Int64) : Bool := decide (¬ x = 0)
theorem nz_ne {x : Int32} (h : nz x = true) : ¬ x = 0 := of_decide_eq_true h
theorem nzl_ne {x : Int64} (h : nzl x = true) : ¬ x = 0 := of_decide_eq_true h
def isB (x : Int32) : Bool := decide (x = 0 ∨ x = 1)
theorem isB_nar {x : Int32} (h : isB x = true) : narrow .boolean (.int x) = .int x := by
  rcases (of_decide_eq_true h : x = 0 ∨ x = 1) with e | e <;> subst e <;> rfl
theorem isB_fit {x : Int32} (h : isB x = true) : fits .boolean (.int x) = true := by
  rcases (of_decide_eq_true h : x = 0 ∨ x = 1) with e | e <;> subst e <;> rfl
def nbt (x : Int32) : Int32 := vp_nar .byte x
def cpOk (f : Nat → Int32) (sp dp n : Int32) (n0 n1 : Nat) : Bool := decide (¬ sp < 0) && (decide (¬ dp < 0) && (decide (¬ n < 0) && (decide (sp.toNatClampNeg + n.toNatClampNeg ≤ n0) && (decide (dp.toNatClampNeg + n.toNatClampNeg ≤ n1) && (List.range n.toNatClampNeg).all (fun i => fits .byte (.int (f (sp.toNatClampNeg + i))))))))
/-! memory as a function of cell and place -/
def updc (σ : Nat → Nat → Int32) (k : Nat) (f : Nat → Int32) : Nat → Nat → Int32 := fun k' => if k' = k then f else σ k'
def upd2 (σ : Nat → Nat → Int32) (k j : Nat) (v : Int32) : Nat → Nat → Int32 := updc σ k (upd (σ k) j v)
/-! tables that a contract takes along: the classes, the arrays, the nest mates' links -/
def gFN : List (String × Nat × String × String × String) := [("HedgehogLots$Reader", 132, "HedgehogLots$Slope", "pegs", "I"), ("HedgehogLots", 184, "HedgehogLots$Slope", "pegs", "I"), ("HedgehogLots", 207, "HedgehogLots$Slope", "peg", "[B"), ("HedgehogLots", 70, "HedgehogLots$Slope", "rag", "[B"), ("HedgehogLots$Reader", 135, "HedgehogLots$Slope", "slugs", "I"), ("HedgehogLots", 196, "HedgehogLots$Slope", "slugs", "I"), ("HedgehogLots", 210, "HedgehogLots$Slope", "slug", "[B"), ("HedgehogLots$Reader", 129, "HedgehogLots$Slope", "hedgehogs", "I"), ("HedgehogLots", 187, "HedgehogLots$Slope", "hedgehogs", "I"), ("HedgehogLots", 16, "HedgehogLots$Slope", "hedgehog", "[B"), ("HedgehogLots$Reader", 126, "HedgehogLots$Slope", "hedgehog", "[B"), ("HedgehogLots", 73, "HedgehogLots$Slope", "suits", "I"), ("HedgehogLots$Reader", 111, "HedgehogLots$Slope", "suits", "I"), ("HedgehogLots", 63, "HedgehogLots$Slope", "suit", "[B"), ("HedgehogLots$Reader", 109, "HedgehogLots$Slope", "suit", "[B"), ("HedgehogLots", 312, "HedgehogLots$Sheet", "row", "Ljava/lang/Object;"), ("HedgehogLots$Reader", 35, "HedgehogLots", "tape", "[B"), ("HedgehogLots", 172, "HedgehogLots$Fault", "code", "I"), ("HedgehogLots", 175, "HedgehogLots$Fault", "place", "I"), ("HedgehogLots", 157, "HedgehogLots$Reader", "made", "LHedgehogLots$Slope;")]
def gFNc (q : String × Nat × String × String × String) : Cond := .fieldLinkNest q.1 q.2.1 q.2.2.1 q.2.2.2.1 q.2.2.2.2 "HedgehogLots"
def gMN : List (String × Nat × MethodName) := [("HedgehogLots", 99, yX1_init), ("HedgehogLots", 102, yX2_init), ("HedgehogLots$Fat", 1, yX1_init), ("HedgehogLots", 105, yX3_init), ("HedgehogLots$Young", 1, yX1_init), ("HedgehogLots", 108, yX4_init), ("HedgehogLots$Boar", 1, yX2_init), ("HedgehogLots", 109, yX5_init), ("HedgehogLots", 136, yX6_init), ("HedgehogLots$Reader", 17, yX5_init), ("HedgehogLots$Reader", 93, yX0_isCell), ("HedgehogLots$Reader", 89, yX0_in)]
def gMNc (q : String × Nat × MethodName) : Cond := .methodLinkNest q.1 q.2.1 q.2.2 "HedgehogLots"
def gCA : List (String × String) := [("HedgehogLots$Fault", "HedgehogLots$Fault"), ("java/lang/NegativeArraySizeException", "java/lang/NegativeArraySizeException"), ("java/lang/NullPointerException", "java/lang/NullPointerException"), ("java/lang/RuntimeException", "java/lang/Throwable"), ("java/lang/ArrayIndexOutOfBoundsException", "java/lang/ArrayIndexOutOfBoundsException"), ("java/lang/ClassCastException", "java/lang/ClassCastException"), ("java/lang/ArrayIndexOutOfBoundsException", "java/lang/IndexOutOfBoundsException"), ("HedgehogLots$Fat", "HedgehogLots$Plain"), ("HedgehogLots$Young", "HedgehogLots$Plain"), ("HedgehogLots$Boar", "HedgehogLots$Plain")]
def gDE : List MethodName := [⟨"java/lang/Exception", "<init>", "()V"⟩, ⟨"java/lang/Exception", "<init>", "(Ljava/lang/String;)V"⟩, ⟨"java/lang/Throwable", "<init>", "()V"⟩, ⟨"java/lang/Throwable", "<init>", "(Ljava/lang/String;)V"⟩, ⟨"java/lang/Throwable", "fillInStackTrace", "()Ljava/lang/Throwable;"⟩, ⟨"java/lang/RuntimeException", "<init>", "()V"⟩, ⟨"java/lang/RuntimeException", "<init>", "(Ljava/lang/String;)V"⟩, ⟨"java/lang/IndexOutOfBoundsException", "<init>", "()V"⟩, ⟨"java/lang/IndexOutOfBoundsException", "<init>", "(Ljava/lang/String;)V"⟩]
def gAO : List String := ["HedgehogLots$Plain", "HedgehogLots$Slope", "HedgehogLots$Sheet"]
def gKW (D : va_G) (dA : Nat → ClassId) (U : State) : Prop := va_K D gCL (gTY dA) U ∧ (∀ q ∈ gFN, va_Nw (gFNc q) U) ∧ (∀ q ∈ gMN, va_Nw (gMNc q) U) ∧ (∀ q ∈ gCA, va_Nw (.castable q.1 q.2) U) ∧ (∀ q ∈ gDE, va_Nw (.declares q) U) ∧ (∀ C ∈ gAO, va_AO C U)
theorem gKW.warm {D : va_G} {dA : Nat → ClassId} {s U : State} (hW : s.WarmedH U.vm) (h : gKW D dA s) : gKW D dA U :=
  ⟨va_K.moved hW.alike h.1, fun q hq => va_Nw.warmF hW (h.2.1 q hq), fun q hq => va_Nw.warmM hW (h.2.2.1 q hq), fun q hq => va_Nw.warmC hW (h.2.2.2.1 q hq), fun q hq => va_Nw.warmD hW (h.2.2.2.2.1 q hq), fun C hC => va_AO.moved hW.alike (h.2.2.2.2.2 C hC)⟩
theorem gKW.same {D : va_G} {dA : Nat → ClassId} {s U : State} (e : s.vm = U.vm) (h : gKW D dA s) : gKW D dA U :=
  ⟨va_K.moved (by rw [e]; exact Vm.Alike.refl U.vm) h.1, fun q hq => va_Nw.same rfl e (h.2.1 q hq), fun q hq => va_Nw.same rfl e (h.2.2.1 q hq), fun q hq => va_Nw.same rfl e (h.2.2.2.1 q hq), fun q hq => va_Nw.same rfl e (h.2.2.2.2.1 q hq), fun C hC => va_AO.moved (by rw [e]; exact Vm.Alike.refl U.vm) (h.2.2.2.2.2 C hC)⟩
/-! a method's standing: its machine, state, end, cells that it may write, classes -/
abbrev gX : Type := Program × Launch × Env × Room × State × MethodId × Array Value × List Frame × Method × Code × (State → Prop) × (Nat → Prop) × va_G × (Nat → ClassId)
abbrev gX.p (x : gX) : Program := x.1
abbrev gX.l (x : gX) : Launch := x.2.1
abbrev gX.e (x : gX) : Env := x.2.2.1
abbrev gX.R (x : gX) : Room := x.2.2.2.1
abbrev gX.s (x : gX) : State := x.2.2.2.2.1
abbrev gX.m (x : gX) : MethodId := x.2.2.2.2.2.1
abbrev gX.ar (x : gX) : Array Value := x.2.2.2.2.2.2.1
abbrev gX.be (x : gX) : List Frame := x.2.2.2.2.2.2.2.1
abbrev gX.me (x : gX) : Method := x.2.2.2.2.2.2.2.2.1
abbrev gX.c (x : gX) : Code := x.2.2.2.2.2.2.2.2.2.1
abbrev gX.Q (x : gX) : State → Prop := x.2.2.2.2.2.2.2.2.2.2.1
abbrev gX.A (x : gX) : Nat → Prop := x.2.2.2.2.2.2.2.2.2.2.2.1
abbrev gX.D (x : gX) : va_G := x.2.2.2.2.2.2.2.2.2.2.2.2.1
abbrev gX.dA (x : gX) : Nat → ClassId := x.2.2.2.2.2.2.2.2.2.2.2.2.2
/-- the machine, at pc with these locals and this stack and a heap that holds the world, comes to the method's end -/
def gG (x : gX) (nL ca sl : Nat) (Φ : va_W) (pc : Nat) (lv : List (Nat × Value)) (st : List Value) : Prop :=
  ∀ (H : Heap) (locs : List Loc) (ls : Array Slot), va_P x.D gCL Φ H → va_D x.A Φ → va_S x.A x.s.heap H locs → lv_has ls nL lv → W x.p x.l x.e x.R x.s x.m x.ar x.be x.me x.c H locs ca sl x.Q (F0 x.m pc ls st)
/-- what holds all through the method -/
def gOk (x : gX) (own : String) (cc : ByteArray) (nL F L : Nat) : Prop :=
  x.p.tables.exec = Jvm.exec ∧ x.c.code = cc ∧ x.c.maxLocals = nL ∧ x.s.vm.findClass own = some x.m.cls ∧ (∀ w ∈ lw_all, w.before x.ar x.s = true) ∧ gKW x.D x.dA x.s ∧ F ≤ x.R.frames ∧ L ≤ x.R.locals ∧ (∀ q : Nat, x.s.heap.size ≤ q → x.A q) ∧ x.me.locks = false
section GR
variable {x : gX} {own : String} {cc : ByteArray} {nL F L ca sl : Nat} {Φ : va_W} {pc : Nat} {lv : List (Nat × Value)} {st : List Value}
theorem gOk.ex (h : gOk x own cc nL F L) : x.p.tables.exec = Jvm.exec := h.1
theorem gOk.b (h : gOk x own cc nL F L) : x.c.code = cc := h.2.1
theorem gOk.ml (h : gOk x own cc nL F L) : x.c.maxLocals = nL := h.2.2.1
theorem gOk.ow (h : gOk x own cc nL F L) : x.s.vm.findClass own = some x.m.cls := h.2.2.2.1
theorem gOk.ts (h : gOk x own cc nL F L) : ∀ w ∈ lw_all, w.before x.ar x.s = true := h.2.2.2.2.1
theorem gOk.kw (h : gOk x own cc nL F L) : gKW x.D x.dA x.s := h.2.2.2.2.2.1
theorem gOk.fr (h : gOk x own cc nL F L) : F ≤ x.R.frames := h.2.2.2.2.2.2.1
theorem gOk.lo (h : gOk x own cc nL F L) : L ≤ x.R.locals := h.2.2.2.2.2.2.2.1
theorem gOk.hA (h : gOk x own cc nL F L) : ∀ q : Nat, x.s.heap.size ≤ q → x.A q := h.2.2.2.2.2.2.2.2.1
theorem gOk.lk (h : gOk x own cc nL F L) : x.me.locks = false := h.2.2.2.2.2.2.2.2.2
theorem gOk.fn (h : gOk x own cc nL F L) (i : Nat) {q : String × Nat × String × String × String} (hq : gFN[i]? = some q) : (gFNc q).before x.ar x.s = true := va_Nw.use rfl (h.kw.2.1 q (List.mem_of_getElem? hq))
theorem gOk.mn (h : gOk x own cc nL F L) (i : Nat) {q : String × Nat × MethodName} (hq : gMN[i]? = some q) : va_Nw (gMNc q) x.s := h.kw.2.2.1 q (List.mem_of_getElem? hq)
/-- fewer locals, or in another order -/
theorem g_lv {lv' : List (Nat × Value)} (ks : List Nat) (hl : lv_pick lv ks = lv') (kk : gG x nL ca sl Φ pc lv' st) : gG x nL ca sl Φ pc lv st :=
  fun H locs ls hP hD hS h => kk H locs ls hP hD hS (lv_sub h ks hl)
theorem g_eq {Φ' : va_W} (e : Φ = Φ') (kk : gG x nL ca sl Φ' pc lv st) : gG x nL ca sl Φ pc lv st := e ▸ kk
theorem g_goto (hc : gOk x own cc nL F L) {off : Int} {tgt : Nat} (hdg : decode cc pc = .ok (.goto off, 3)) (ht : (pc : Int) + off = (tgt : Int)) (kk : gG x nL ca sl Φ tgt lv st) : gG x nL ca sl Φ pc lv st :=
  fun H locs ls hP hD hS hl => lv_goto hc.ex hc.b hdg ht (kk H locs ls hP hD hS hl)
end GR
/-! the plain instructions -/
section GS
variable {x : gX} {own : String} {cc : ByteArray} {nL F L ca sl : Nat} {Φ : va_W} {pc : Nat} {lv : List (Nat × Value)} {st : List Value}
theorem g_iconst (hc : gOk x own cc nL F L) {n : Int} {v : Int32} (hdg : decode cc pc = .ok (.iconst n, 1)) (hv : Int32.ofInt n = v) (kk : gG x nL ca sl Φ (pc + 1) lv (.int v :: st)) : gG x nL ca sl Φ pc lv (st) :=
  fun H locs ls hP hD hS hl => lv_iconst hc.ex hc.b hdg hv (kk H locs ls hP hD hS hl)
theorem g_bipush (hc : gOk x own cc nL F L) {n : Int} {v : Int32} (hdg : decode cc pc = .ok (.bipush n, 2)) (hv : (Int8.ofInt n).toInt32 = v) (kk : gG x nL ca sl Φ (pc + 2) lv (.int v :: st)) : gG x nL ca sl Φ pc lv (st) :=
  fun H locs ls hP hD hS hl => lv_bipush hc.ex hc.b hdg hv (kk H locs ls hP hD hS hl)
theorem g_sipush (hc : gOk x own cc nL F L) {n : Int} {v : Int32} (hdg : decode cc pc = .ok (.sipush n, 3)) (hv : (Int16.ofInt n).toInt32 = v) (kk : gG x nL ca sl Φ (pc + 3) lv (.int v :: st)) : gG x nL ca sl Φ pc lv (st) :=
  fun H locs ls hP hD hS hl => lv_sipush hc.ex hc.b hdg hv (kk H locs ls hP hD hS hl)
theorem g_lconst (hc : gOk x own cc nL F L) {n : Fin 2} {v : Int64} (hdg : decode cc pc = .ok (.lconst n, 1)) (hv : Int64.ofNat (n : Nat) = v) (kk : gG x nL ca sl Φ (pc + 1) lv (.long v :: st)) : gG x nL ca sl Φ pc lv (st) :=
  fun H locs ls hP hD hS hl => lv_lconst hc.ex hc.b hdg hv (kk H locs ls hP hD hS hl)
theorem g_iadd (hc : gOk x own cc nL F L) {x1 y1 : Int32} (hdg : decode cc pc = .ok (.iadd, 1))  (kk : gG x nL ca sl Φ (pc + 1) lv (.int (x1 + y1) :: st)) : gG x nL ca sl Φ pc lv (.int y1 :: .int x1 :: st) :=
  fun H locs ls hP hD hS hl => lv_iadd hc.ex hc.b hdg  (kk H locs ls hP hD hS hl)
theorem g_isub (hc : gOk x own cc nL F L) {x1 y1 : Int32} (hdg : decode cc pc = .ok (.isub, 1))  (kk : gG x nL ca sl Φ (pc + 1) lv (.int (x1 - y1) :: st)) : gG x nL ca sl Φ pc lv (.int y1 :: .int x1 :: st) :=
  fun H locs ls hP hD hS hl => lv_isub hc.ex hc.b hdg  (kk H locs ls hP hD hS hl)
theorem g_imul (hc : gOk x own cc nL F L) {x1 y1 : Int32} (hdg : decode cc pc = .ok (.imul, 1))  (kk : gG x nL ca sl Φ (pc + 1) lv (.int (x1 * y1) :: st)) : gG x nL ca sl Φ pc lv (.int y1 :: .int x1 :: st) :=
  fun H locs ls hP hD hS hl => lv_imul hc.ex hc.b hdg  (kk H locs ls hP hD hS hl)
theorem g_iand (hc : gOk x own cc nL F L) {x1 y1 : Int32} (hdg : decode cc pc = .ok (.iand, 1))  (kk : gG x nL ca sl Φ (pc + 1) lv (.int (x1 &&& y1) :: st)) : gG x nL ca sl Φ pc lv (.int y1 :: .int x1 :: st) :=
  fun H locs ls hP hD hS hl => lv_iand hc.ex hc.b hdg  (kk H locs ls hP hD hS hl)
theorem g_ior (hc : gOk x own cc nL F L) {x1 y1 : Int32} (hdg : decode cc pc = .ok (.ior, 1))  (kk : gG x nL ca sl Φ (pc + 1) lv (.int (x1 ||| y1) :: st)) : gG x nL ca sl Φ pc lv (.int y1 :: .int x1 :: st) :=
  fun H locs ls hP hD hS hl => lv_ior hc.ex hc.b hdg  (kk H locs ls hP hD hS hl)
theorem g_ixor (hc : gOk x own cc nL F L) {x1 y1 : Int32} (hdg : decode cc pc = .ok (.ixor, 1))  (kk : gG x nL ca sl Φ (pc + 1) lv (.int (x1 ^^^ y1) :: st)) : gG x nL ca sl Φ pc lv (.int y1 :: .int x1 :: st) :=
  fun H locs ls hP hD hS hl => lv_ixor hc.ex hc.b hdg  (kk H locs ls hP hD hS hl)
theorem g_ishl (hc : gOk x own cc nL F L) {x1 y1 : Int32} (hdg : decode cc pc = .ok (.ishl, 1))  (kk : gG x nL ca sl Φ (pc + 1) lv (.int (x1 <<< (y1 &&& 31)) :: st)) : gG x nL ca sl Φ pc lv (.int y1 :: .int x1 :: st) :=
  fun H locs ls hP hD hS hl => lv_ishl hc.ex hc.b hdg  (kk H locs ls hP hD hS hl)
theorem g_ishr (hc : gOk x own cc nL F L) {x1 y1 : Int32} (hdg : decode cc pc = .ok (.ishr, 1))  (kk : gG x nL ca sl Φ (pc + 1) lv (.int (x1 >>> (y1 &&& 31)) :: st)) : gG x nL ca sl Φ pc lv (.int y1 :: .int x1 :: st) :=
  fun H locs ls hP hD hS hl => lv_ishr hc.ex hc.b hdg  (kk H locs ls hP hD hS hl)
theorem g_idiv (hc : gOk x own cc nL F L) {x1 y1 : Int32} (hdg : decode cc pc = .ok (.idiv, 1)) (hne : ¬ y1 = 0) (kk : gG x nL ca sl Φ (pc + 1) lv (.int (x1 / y1) :: st)) : gG x nL ca sl Φ pc lv (.int y1 :: .int x1 :: st) :=
  fun H locs ls hP hD hS hl => lv_idiv hc.ex hc.b hdg hne (kk H locs ls hP hD hS hl)
theorem g_irem (hc : gOk x own cc nL F L) {x1 y1 : Int32} (hdg : decode cc pc = .ok (.irem, 1)) (hne : ¬ y1 = 0) (kk : gG x nL ca sl Φ (pc + 1) lv (.int (x1 - x1 / y1 * y1) :: st)) : gG x nL ca sl Φ pc lv (.int y1 :: .int x1 :: st) :=
  fun H locs ls hP hD hS hl => lv_irem hc.ex hc.b hdg hne (kk H locs ls hP hD hS hl)
theorem g_ladd (hc : gOk x own cc nL F L) {x1 y1 : Int64} (hdg : decode cc pc = .ok (.ladd, 1))  (kk : gG x nL ca sl Φ (pc + 1) lv (.long (x1 + y1) :: st)) : gG x nL ca sl Φ pc lv (.long y1 :: .long x1 :: st) :=
  fun H locs ls hP hD hS hl => lv_ladd hc.ex hc.b hdg  (kk H locs ls hP hD hS hl)
theorem g_lsub (hc : gOk x own cc nL F L) {x1 y1 : Int64} (hdg : decode cc pc = .ok (.lsub, 1))  (kk : gG x nL ca sl Φ (pc + 1) lv (.long (x1 - y1) :: st)) : gG x nL ca sl Φ pc lv (.long y1 :: .long x1 :: st) :=
  fun H locs ls hP hD hS hl => lv_lsub hc.ex hc.b hdg  (kk H locs ls hP hD hS hl)
theorem g_lmul (hc : gOk x own cc nL F L) {x1 y1 : Int64} (hdg : decode cc pc = .ok (.lmul, 1))  (kk : gG x nL ca sl Φ (pc + 1) lv (.long (x1 * y1) :: st)) : gG x nL ca sl Φ pc lv (.long y1 :: .long x1 :: st) :=
  fun H locs ls hP hD hS hl => lv_lmul hc.ex hc.b hdg  (kk H locs ls hP hD hS hl)
theorem g_ldiv (hc : gOk x own cc nL F L) {x1 y1 : Int64} (hdg : decode cc pc = .ok (.ldiv, 1)) (hne : ¬ y1 = 0) (kk : gG x nL ca sl Φ (pc + 1) lv (.long (x1 / y1) :: st)) : gG x nL ca sl Φ pc lv (.long y1 :: .long x1 :: st) :=
  fun H locs ls hP hD hS hl => lv_ldiv hc.ex hc.b hdg hne (kk H locs ls hP hD hS hl)
theorem g_lrem (hc : gOk x own cc nL F L) {x1 y1 : Int64} (hdg : decode cc pc = .ok (.lrem, 1)) (hne : ¬ y1 = 0) (kk : gG x nL ca sl Φ (pc + 1) lv (.long (x1 - x1 / y1 * y1) :: st)) : gG x nL ca sl Φ pc lv (.long y1 :: .long x1 :: st) :=
  fun H locs ls hP hD hS hl => lv_lrem hc.ex hc.b hdg hne (kk H locs ls hP hD hS hl)
theorem g_ineg (hc : gOk x own cc nL F L) {x1 : Int32} (hdg : decode cc pc = .ok (.ineg, 1))  (kk : gG x nL ca sl Φ (pc + 1) lv (.int (-x1) :: st)) : gG x nL ca sl Φ pc lv (.int x1 :: st) :=
  fun H locs ls hP hD hS hl => lv_ineg hc.ex hc.b hdg  (kk H locs ls hP hD hS hl)
theorem g_i2l (hc : gOk x own cc nL F L) {x1 : Int32} (hdg : decode cc pc = .ok (.i2l, 1))  (kk : gG x nL ca sl Φ (pc + 1) lv (.long x1.toInt64 :: st)) : gG x nL ca sl Φ pc lv (.int x1 :: st) :=
  fun H locs ls hP hD hS hl => lv_i2l hc.ex hc.b hdg rfl (kk H locs ls hP hD hS hl)
theorem g_l2i (hc : gOk x own cc nL F L) {x1 : Int64} (hdg : decode cc pc = .ok (.l2i, 1))  (kk : gG x nL ca sl Φ (pc + 1) lv (.int x1.toInt32 :: st)) : gG x nL ca sl Φ pc lv (.long x1 :: st) :=
  fun H locs ls hP hD hS hl => lv_l2i hc.ex hc.b hdg rfl (kk H locs ls hP hD hS hl)
theorem g_i2b (hc : gOk x own cc nL F L) {x1 : Int32} (hdg : decode cc pc = .ok (.i2b, 1))  (kk : gG x nL ca sl Φ (pc + 1) lv (.int x1.toInt8.toInt32 :: st)) : gG x nL ca sl Φ pc lv (.int x1 :: st) :=
  fun H locs ls hP hD hS hl => lv_i2b hc.ex hc.b hdg rfl (kk H locs ls hP hD hS hl)
theorem g_i2s (hc : gOk x own cc nL F L) {x1 : Int32} (hdg : decode cc pc = .ok (.i2s, 1))  (kk : gG x nL ca sl Φ (pc + 1) lv (.int x1.toInt16.toInt32 :: st)) : gG x nL ca sl Φ pc lv (.int x1 :: st) :=
  fun H locs ls hP hD hS hl => lv_i2s hc.ex hc.b hdg rfl (kk H locs ls hP hD hS hl)
theorem g_iushr (hc : gOk x own cc nL F L) {x1 y1 : Int32} (hdg : decode cc pc = .ok (.iushr, 1))  (kk : gG x nL ca sl Φ (pc + 1) lv (.int (x1.toUInt32 >>> (y1.toUInt32 &&& Int32.toUInt32 31)).toInt32 :: st)) : gG x nL ca sl Φ pc lv (.int y1 :: .int x1 :: st) :=
  fun H locs ls hP hD hS hl => lv_iushr hc.ex hc.b hdg rfl (kk H locs ls hP hD hS hl)
theorem g_lcmp (hc : gOk x own cc nL F L) {x1 y1 : Int64} (hdg : decode cc pc = .ok (.lcmp, 1))  (kk : gG x nL ca sl Φ (pc + 1) lv (.int (lg_cmp x1 y1) :: st)) : gG x nL ca sl Φ pc lv (.long y1 :: .long x1 :: st) :=
  fun H locs ls hP hD hS hl => W.lcmp hc.ex hc.b hdg  (kk H locs ls hP hD hS hl)
theorem g_dup (hc : gOk x own cc nL F L) {va : Value} (hdg : decode cc pc = .ok (.dup, 1)) (h1 : va.category = 1) (kk : gG x nL ca sl Φ (pc + 1) lv (va :: va :: st)) : gG x nL ca sl Φ pc lv (va :: st) :=
  fun H locs ls hP hD hS hl => lv_dup hc.ex hc.b hdg h1 (kk H locs ls hP hD hS hl)
theorem g_pop (hc : gOk x own cc nL F L) {va : Value} (hdg : decode cc pc = .ok (.pop, 1)) (h1 : va.category = 1) (kk : gG x nL ca sl Φ (pc + 1) lv (st)) : gG x nL ca sl Φ pc lv (va :: st) :=
  fun H locs ls hP hD hS hl => lv_pop hc.ex hc.b hdg h1 (kk H locs ls hP hD hS hl)
theorem g_dup_x1 (hc : gOk x own cc nL F L) {va vb : Value} (hdg : decode cc pc = .ok (.dup_x1, 1)) (h1 : va.category = 1) (h2 : vb.category = 1) (kk : gG x nL ca sl Φ (pc + 1) lv (va :: vb :: va :: st)) : gG x nL ca sl Φ pc lv (va :: vb :: st) :=
  fun H locs ls hP hD hS hl => lv_dup_x1 hc.ex hc.b hdg h1 h2 (kk H locs ls hP hD hS hl)
theorem g_dup_x2 (hc : gOk x own cc nL F L) {va vb vd : Value} (hdg : decode cc pc = .ok (.dup_x2, 1)) (h1 : va.category = 1) (h2 : vb.category = 1) (h3 : vd.category = 1) (kk : gG x nL ca sl Φ (pc + 1) lv (va :: vb :: vd :: va :: st)) : gG x nL ca sl Φ pc lv (va :: vb :: vd :: st) :=
  fun H locs ls hP hD hS hl => lv_dup_x2 hc.ex hc.b hdg h1 h2 h3 (kk H locs ls hP hD hS hl)
theorem g_dup2 (hc : gOk x own cc nL F L) {va vb : Value} (hdg : decode cc pc = .ok (.dup2, 1)) (h1 : va.category = 1) (h2 : vb.category = 1) (kk : gG x nL ca sl Φ (pc + 1) lv (va :: vb :: va :: vb :: st)) : gG x nL ca sl Φ pc lv (va :: vb :: st) :=
  fun H locs ls hP hD hS hl => lv_dup2_11 hc.ex hc.b hdg h1 h2 (kk H locs ls hP hD hS hl)
theorem g_iload_n (hc : gOk x own cc nL F L) {i : Nat} {x1 : Int32} {k : Fin 4} (hdg : decode cc pc = .ok (.iload_n k, 1)) (hi : (k : Nat) = i) (j : Nat) (hj : lv[j]? = some (i, .int x1)) (kk : gG x nL ca sl Φ (pc + 1) lv (.int x1 :: st)) : gG x nL ca sl Φ pc lv (st) :=
  fun H locs ls hP hD hS hl => lv_iload_n hc.ex hc.b hdg hi (lv_at hl j hj) (kk H locs ls hP hD hS hl)
theorem g_istore_n (hc : gOk x own cc nL F L) {i : Nat} {x1 : Int32} {k : Fin 4} (hdg : decode cc pc = .ok (.istore_n k, 1)) (hi : (k : Nat) = i) (hn : i < nL) {lv' : List (Nat × Value)} (hv : (i, Value.int x1) :: lv.filter (fun q => !(q.1 == i) && !(q.1 + 1 == i && q.2.category == 2)) = lv') (kk : gG x nL ca sl Φ (pc + 1) lv' st) : gG x nL ca sl Φ pc lv (.int x1 :: st) :=
  fun H locs ls hP hD hS hl => lv_istore_n hc.ex hc.b hdg hi hl hn hv (fun ls' hl' => kk H locs ls' hP hD hS hl')
theorem g_iload (hc : gOk x own cc nL F L) {i : Nat} {x1 : Int32} (hdg : decode cc pc = .ok (.iload i, 2)) (j : Nat) (hj : lv[j]? = some (i, .int x1)) (kk : gG x nL ca sl Φ (pc + 2) lv (.int x1 :: st)) : gG x nL ca sl Φ pc lv (st) :=
  fun H locs ls hP hD hS hl => lv_iload hc.ex hc.b hdg (lv_at hl j hj) (kk H locs ls hP hD hS hl)
theorem g_istore (hc : gOk x own cc nL F L) {i : Nat} {x1 : Int32} (hdg : decode cc pc = .ok (.istore i, 2)) (hn : i < nL) {lv' : List (Nat × Value)} (hv : (i, Value.int x1) :: lv.filter (fun q => !(q.1 == i) && !(q.1 + 1 == i && q.2.category == 2)) = lv') (kk : gG x nL ca sl Φ (pc + 2) lv' st) : gG x nL ca sl Φ pc lv (.int x1 :: st) :=
  fun H locs ls hP hD hS hl => lv_istore hc.ex hc.b hdg hl hn hv (fun ls' hl' => kk H locs ls' hP hD hS hl')
theorem g_lload_n (hc : gOk x own cc nL F L) {i : Nat} {x1 : Int64} {k : Fin 4} (hdg : decode cc pc = .ok (.lload_n k, 1)) (hi : (k : Nat) = i) (j : Nat) (hj : lv[j]? = some (i, .long x1)) (kk : gG x nL ca sl Φ (pc + 1) lv (.long x1 :: st)) : gG x nL ca sl Φ pc lv (st) :=
  fun H locs ls hP hD hS hl => lv_lload_n hc.ex hc.b hdg hi (lv_at hl j hj) (kk H locs ls hP hD hS hl)
theorem g_lstore_n (hc : gOk x own cc nL F L) {i : Nat} {x1 : Int64} {k : Fin 4} (hdg : decode cc pc = .ok (.lstore_n k, 1)) (hi : (k : Nat) = i) (hn : i + 1 < nL) {lv' : List (Nat × Value)} (hv : (i, Value.long x1) :: lv.filter (fun q => !(q.1 == i) && (!(q.1 == i + 1) && !(q.1 + 1 == i && q.2.category == 2))) = lv') (kk : gG x nL ca sl Φ (pc + 1) lv' st) : gG x nL ca sl Φ pc lv (.long x1 :: st) :=
  fun H locs ls hP hD hS hl => lv_lstore_n hc.ex hc.b hdg hi hl hn hv (fun ls' hl' => kk H locs ls' hP hD hS hl')
theorem g_lload (hc : gOk x own cc nL F L) {i : Nat} {x1 : Int64} (hdg : decode cc pc = .ok (.lload i, 2)) (j : Nat) (hj : lv[j]? = some (i, .long x1)) (kk : gG x nL ca sl Φ (pc + 2) lv (.long x1 :: st)) : gG x nL ca sl Φ pc lv (st) :=
  fun H locs ls hP hD hS hl => lv_lload hc.ex hc.b hdg (lv_at hl j hj) (kk H locs ls hP hD hS hl)
theorem g_lstore (hc : gOk x own cc nL F L) {i : Nat} {x1 : Int64} (hdg : decode cc pc = .ok (.lstore i, 2)) (hn : i + 1 < nL) {lv' : List (Nat × Value)} (hv : (i, Value.long x1) :: lv.filter (fun q => !(q.1 == i) && (!(q.1 == i + 1) && !(q.1 + 1 == i && q.2.category == 2))) = lv') (kk : gG x nL ca sl Φ (pc + 2) lv' st) : gG x nL ca sl Φ pc lv (.long x1 :: st) :=
  fun H locs ls hP hD hS hl => lv_lstore hc.ex hc.b hdg hl hn hv (fun ls' hl' => kk H locs ls' hP hD hS hl')
theorem g_aload_n (hc : gOk x own cc nL F L) {i : Nat} {x1 : Nat} {k : Fin 4} (hdg : decode cc pc = .ok (.aload_n k, 1)) (hi : (k : Nat) = i) (j : Nat) (hj : lv[j]? = some (i, .ref x1)) (kk : gG x nL ca sl Φ (pc + 1) lv (.ref x1 :: st)) : gG x nL ca sl Φ pc lv (st) :=
  fun H locs ls hP hD hS hl => lv_aload_n hc.ex hc.b hdg hi (lv_at hl j hj) (kk H locs ls hP hD hS hl)
theorem g_astore_n (hc : gOk x own cc nL F L) {i : Nat} {x1 : Nat} {k : Fin 4} (hdg : decode cc pc = .ok (.astore_n k, 1)) (hi : (k : Nat) = i) (hn : i < nL) {lv' : List (Nat × Value)} (hv : (i, Value.ref x1) :: lv.filter (fun q => !(q.1 == i) && !(q.1 + 1 == i && q.2.category == 2)) = lv') (kk : gG x nL ca sl Φ (pc + 1) lv' st) : gG x nL ca sl Φ pc lv (.ref x1 :: st) :=
  fun H locs ls hP hD hS hl => lv_astore_n hc.ex hc.b hdg hi hl hn hv (fun ls' hl' => kk H locs ls' hP hD hS hl')
theorem g_aload (hc : gOk x own cc nL F L) {i : Nat} {x1 : Nat} (hdg : decode cc pc = .ok (.aload i, 2)) (j : Nat) (hj : lv[j]? = some (i, .ref x1)) (kk : gG x nL ca sl Φ (pc + 2) lv (.ref x1 :: st)) : gG x nL ca sl Φ pc lv (st) :=
  fun H locs ls hP hD hS hl => lv_aload hc.ex hc.b hdg (lv_at hl j hj) (kk H locs ls hP hD hS hl)
theorem g_astore (hc : gOk x own cc nL F L) {i : Nat} {x1 : Nat} (hdg : decode cc pc = .ok (.astore i, 2)) (hn : i < nL) {lv' : List (Nat × Value)} (hv : (i, Value.ref x1) :: lv.filter (fun q => !(q.1 == i) && !(q.1 + 1 == i && q.2.category == 2)) = lv') (kk : gG x nL ca sl Φ (pc + 2) lv' st) : gG x nL ca sl Φ pc lv (.ref x1 :: st) :=
  fun H locs ls hP hD hS hl => lv_astore hc.ex hc.b hdg hl hn hv (fun ls' hl' => kk H locs ls' hP hD hS hl')
theorem g_iinc (hc : gOk x own cc nL F L) {i j : Nat} {n : Int} {x1 v : Int32} {lv' : List (Nat × Value)} (hdg : decode cc pc = .ok (.iinc i n, 3)) (hj : lv[j]? = some (i, .int x1)) (hw : x1 + Int32.ofInt n = v) (hn : i < nL) (hv : (i, Value.int v) :: lv.filter (fun q => !(q.1 == i) && !(q.1 + 1 == i && q.2.category == 2)) = lv') (kk : gG x nL ca sl Φ (pc + 3) lv' st) : gG x nL ca sl Φ pc lv st :=
  fun H locs ls hP hD hS hl => lv_iinc hc.ex hc.b hdg hl hj hw hn hv (fun ls' hl' => kk H locs ls' hP hD hS hl')
theorem g_if_eq (hc : gOk x own cc nL F L) {x1 : Int32} {off : Int} {tgt : Nat} (hdg : decode cc pc = .ok (.ifCond .eq off, 3)) (ht : (pc : Int) + off = (tgt : Int)) (kt : x1 = 0 → gG x nL ca sl Φ tgt lv st) (kf : ¬ x1 = 0 → gG x nL ca sl Φ (pc + 3) lv st) : gG x nL ca sl Φ pc lv (.int x1 :: st) :=
  fun H locs ls hP hD hS hl => lv_if_eq hc.ex hc.b hdg ht (fun h => kt h H locs ls hP hD hS hl) (fun h => kf h H locs ls hP hD hS hl)
theorem g_icmp_eq (hc : gOk x own cc nL F L) {x1 y1 : Int32} {off : Int} {tgt : Nat} (hdg : decode cc pc = .ok (.if_icmp .eq off, 3)) (ht : (pc : Int) + off = (tgt : Int)) (kt : x1 = y1 → gG x nL ca sl Φ tgt lv st) (kf : ¬ x1 = y1 → gG x nL ca sl Φ (pc + 3) lv st) : gG x nL ca sl Φ pc lv (.int y1 :: .int x1 :: st) :=
  fun H locs ls hP hD hS hl => lv_icmp_eq hc.ex hc.b hdg ht (fun h => kt h H locs ls hP hD hS hl) (fun h => kf h H locs ls hP hD hS hl)
theorem g_if_ne (hc : gOk x own cc nL F L) {x1 : Int32} {off : Int} {tgt : Nat} (hdg : decode cc pc = .ok (.ifCond .ne off, 3)) (ht : (pc : Int) + off = (tgt : Int)) (kt : ¬ x1 = 0 → gG x nL ca sl Φ tgt lv st) (kf : x1 = 0 → gG x nL ca sl Φ (pc + 3) lv st) : gG x nL ca sl Φ pc lv (.int x1 :: st) :=
  fun H locs ls hP hD hS hl => lv_if_ne hc.ex hc.b hdg ht (fun h => kt h H locs ls hP hD hS hl) (fun h => kf h H locs ls hP hD hS hl)
theorem g_icmp_ne (hc : gOk x own cc nL F L) {x1 y1 : Int32} {off : Int} {tgt : Nat} (hdg : decode cc pc = .ok (.if_icmp .ne off, 3)) (ht : (pc : Int) + off = (tgt : Int)) (kt : ¬ x1 = y1 → gG x nL ca sl Φ tgt lv st) (kf : x1 = y1 → gG x nL ca sl Φ (pc + 3) lv st) : gG x nL ca sl Φ pc lv (.int y1 :: .int x1 :: st) :=
  fun H locs ls hP hD hS hl => lv_icmp_ne hc.ex hc.b hdg ht (fun h => kt h H locs ls hP hD hS hl) (fun h => kf h H locs ls hP hD hS hl)
theorem g_if_lt (hc : gOk x own cc nL F L) {x1 : Int32} {off : Int} {tgt : Nat} (hdg : decode cc pc = .ok (.ifCond .lt off, 3)) (ht : (pc : Int) + off = (tgt : Int)) (kt : x1 < 0 → gG x nL ca sl Φ tgt lv st) (kf : ¬ x1 < 0 → gG x nL ca sl Φ (pc + 3) lv st) : gG x nL ca sl Φ pc lv (.int x1 :: st) :=
  fun H locs ls hP hD hS hl => lv_if_lt hc.ex hc.b hdg ht (fun h => kt h H locs ls hP hD hS hl) (fun h => kf h H locs ls hP hD hS hl)
theorem g_icmp_lt (hc : gOk x own cc nL F L) {x1 y1 : Int32} {off : Int} {tgt : Nat} (hdg : decode cc pc = .ok (.if_icmp .lt off, 3)) (ht : (pc : Int) + off = (tgt : Int)) (kt : x1 < y1 → gG x nL ca sl Φ tgt lv st) (kf : ¬ x1 < y1 → gG x nL ca sl Φ (pc + 3) lv st) : gG x nL ca sl Φ pc lv (.int y1 :: .int x1 :: st) :=
  fun H locs ls hP hD hS hl => lv_icmp_lt hc.ex hc.b hdg ht (fun h => kt h H locs ls hP hD hS hl) (fun h => kf h H locs ls hP hD hS hl)
theorem g_if_ge (hc : gOk x own cc nL F L) {x1 : Int32} {off : Int} {tgt : Nat} (hdg : decode cc pc = .ok (.ifCond .ge off, 3)) (ht : (pc : Int) + off = (tgt : Int)) (kt : 0 ≤ x1 → gG x nL ca sl Φ tgt lv st) (kf : ¬ 0 ≤ x1 → gG x nL ca sl Φ (pc + 3) lv st) : gG x nL ca sl Φ pc lv (.int x1 :: st) :=
  fun H locs ls hP hD hS hl => lv_if_ge hc.ex hc.b hdg ht (fun h => kt h H locs ls hP hD hS hl) (fun h => kf h H locs ls hP hD hS hl)
theorem g_icmp_ge (hc : gOk x own cc nL F L) {x1 y1 : Int32} {off : Int} {tgt : Nat} (hdg : decode cc pc = .ok (.if_icmp .ge off, 3)) (ht : (pc : Int) + off = (tgt : Int)) (kt : y1 ≤ x1 → gG x nL ca sl Φ tgt lv st) (kf : ¬ y1 ≤ x1 → gG x nL ca sl Φ (pc + 3) lv st) : gG x nL ca sl Φ pc lv (.int y1 :: .int x1 :: st) :=
  fun H locs ls hP hD hS hl => lv_icmp_ge hc.ex hc.b hdg ht (fun h => kt h H locs ls hP hD hS hl) (fun h => kf h H locs ls hP hD hS hl)
theorem g_if_gt (hc : gOk x own cc nL F L) {x1 : Int32} {off : Int} {tgt : Nat} (hdg : decode cc pc = .ok (.ifCond .gt off, 3)) (ht : (pc : Int) + off = (tgt : Int)) (kt : 0 < x1 → gG x nL ca sl Φ tgt lv st) (kf : ¬ 0 < x1 → gG x nL ca sl Φ (pc + 3) lv st) : gG x nL ca sl Φ pc lv (.int x1 :: st) :=
  fun H locs ls hP hD hS hl => lv_if_gt hc.ex hc.b hdg ht (fun h => kt h H locs ls hP hD hS hl) (fun h => kf h H locs ls hP hD hS hl)
theorem g_icmp_gt (hc : gOk x own cc nL F L) {x1 y1 : Int32} {off : Int} {tgt : Nat} (hdg : decode cc pc = .ok (.if_icmp .gt off, 3)) (ht : (pc : Int) + off = (tgt : Int)) (kt : y1 < x1 → gG x nL ca sl Φ tgt lv st) (kf : ¬ y1 < x1 → gG x nL ca sl Φ (pc + 3) lv st) : gG x nL ca sl Φ pc lv (.int y1 :: .int x1 :: st) :=
  fun H locs ls hP hD hS hl => lv_icmp_gt hc.ex hc.b hdg ht (fun h => kt h H locs ls hP hD hS hl) (fun h => kf h H locs ls hP hD hS hl)
theorem g_if_le (hc : gOk x own cc nL F L) {x1 : Int32} {off : Int} {tgt : Nat} (hdg : decode cc pc = .ok (.ifCond .le off, 3)) (ht : (pc : Int) + off = (tgt : Int)) (kt : x1 ≤ 0 → gG x nL ca sl Φ tgt lv st) (kf : ¬ x1 ≤ 0 → gG x nL ca sl Φ (pc + 3) lv st) : gG x nL ca sl Φ pc lv (.int x1 :: st) :=
  fun H locs ls hP hD hS hl => lv_if_le hc.ex hc.b hdg ht (fun h => kt h H locs ls hP hD hS hl) (fun h => kf h H locs ls hP hD hS hl)
theorem g_icmp_le (hc : gOk x own cc nL F L) {x1 y1 : Int32} {off : Int} {tgt : Nat} (hdg : decode cc pc = .ok (.if_icmp .le off, 3)) (ht : (pc : Int) + off = (tgt : Int)) (kt : x1 ≤ y1 → gG x nL ca sl Φ tgt lv st) (kf : ¬ x1 ≤ y1 → gG x nL ca sl Φ (pc + 3) lv st) : gG x nL ca sl Φ pc lv (.int y1 :: .int x1 :: st) :=
  fun H locs ls hP hD hS hl => lv_icmp_le hc.ex hc.b hdg ht (fun h => kt h H locs ls hP hD hS hl) (fun h => kf h H locs ls hP hD hS hl)
end GS
/-! fields and arrays -/
section GM
variable {x : gX} {own : String} {cc : ByteArray} {nL F L ca sl : Nat} {Φ Φ' : va_W} {pc : Nat} {lv : List (Nat × Value)} {st : List Value}
theorem g_get (hc : gOk x own cc nL F L) {C : String} {T : u_T} {N ci idx : Nat} (hin : ∀ w ∈ u_ws C T N, w ∈ lw_all) {q0 a : Nat} {fs : List Value} (he : Φ[q0]? = some (a, .inr (ci, fs))) (hcl : gCL[ci]? = some (C, T, N)) (k : Nat) (hk : k < N) (hlink : Cond.fieldLink own idx (T k).1 (T k).2.1 (T k).2.2.1 ∈ lw_all) {v : Value} (hv : fs[k]? = some v) (hdg : decode cc pc = .ok (.getfield idx, 3)) (kk : gG x nL ca sl Φ (pc + 3) lv (v :: st)) : gG x nL ca sl Φ pc lv (.ref a :: st) :=
  fun H locs ls hP hD hS hl => va_get (D := x.D) hc.ex hc.b hc.ts hin hc.ow hc.kw.1 hP q0 he hcl k hk (hc.ts _ hlink) (fun _ h9 => h9) hv hdg (kk H locs ls hP hD hS hl)
theorem g_getN (hc : gOk x own cc nL F L) {C : String} {T : u_T} {N ci idx : Nat} (hin : ∀ w ∈ u_ws C T N, w ∈ lw_all) {q0 a : Nat} {fs : List Value} (he : Φ[q0]? = some (a, .inr (ci, fs))) (hcl : gCL[ci]? = some (C, T, N)) (k : Nat) (hk : k < N) (i : Nat) (hq : gFN[i]? = some (own, idx, (T k).1, (T k).2.1, (T k).2.2.1)) {v : Value} (hv : fs[k]? = some v) (hdg : decode cc pc = .ok (.getfield idx, 3)) (kk : gG x nL ca sl Φ (pc + 3) lv (v :: st)) : gG x nL ca sl Φ pc lv (.ref a :: st) :=
  fun H locs ls hP hD hS hl => va_getN (D := x.D) hc.ex hc.b hc.ts hin hc.ow hc.kw.1 hP q0 he hcl k hk (hc.fn i hq) (fun _ h9 => h9) hv hdg (kk H locs ls hP hD hS hl)
theorem g_put (hc : gOk x own cc nL F L) {C : String} {T : u_T} {N ci idx : Nat} {ty0 : Nat → FieldType} (hin : ∀ w ∈ u_ws C T N, w ∈ lw_all) (hty : ∀ k, k < N → parseFieldDescriptor (T k).2.2.1 = some (ty0 k)) (hnm : ∀ a, a < N → ∀ b, b < N → a ≠ b → (T a).2.1 ≠ (T b).2.1) {q0 a : Nat} {fs : List Value} (he : Φ[q0]? = some (a, .inr (ci, fs))) (hcl : gCL[ci]? = some (C, T, N)) (k : Nat) (hk : k < N) (hlink : Cond.fieldLink own idx (T k).1 (T k).2.1 (T k).2.2.1 ∈ lw_all) (hfin : (T k).2.2.2 = false) {v : Value} (hn : narrow (ty0 k) v = v) (hfit : fits (ty0 k) v = true) (hlen : k < fs.length) (hset : Φ.set q0 (a, .inr (ci, fs.set k v)) = Φ') (hdg : decode cc pc = .ok (.putfield idx, 3)) (kk : gG x nL ca sl Φ' (pc + 3) lv st) : gG x nL ca sl Φ pc lv (v :: .ref a :: st) :=
  fun H locs ls hP hD hS hl => va_put (D := x.D) hc.ex hc.b hc.ts hin ty0 hty hnm hc.ow hc.kw.1 hP hD hS q0 he hcl k hk (hc.ts _ hlink) (fun _ h9 => h9) hfin (hty k hk) hn hfit hlen hdg (fun H1 locs1 hP1 hD1 hS1 => kk H1 locs1 ls (hset ▸ hP1) (hset ▸ hD1) hS1 hl)
theorem g_putN (hc : gOk x own cc nL F L) {C : String} {T : u_T} {N ci idx : Nat} {ty0 : Nat → FieldType} (hin : ∀ w ∈ u_ws C T N, w ∈ lw_all) (hty : ∀ k, k < N → parseFieldDescriptor (T k).2.2.1 = some (ty0 k)) (hnm : ∀ a, a < N → ∀ b, b < N → a ≠ b → (T a).2.1 ≠ (T b).2.1) {q0 a : Nat} {fs : List Value} (he : Φ[q0]? = some (a, .inr (ci, fs))) (hcl : gCL[ci]? = some (C, T, N)) (k : Nat) (hk : k < N) (i : Nat) (hq : gFN[i]? = some (own, idx, (T k).1, (T k).2.1, (T k).2.2.1)) (hfin : (T k).2.2.2 = false) {v : Value} (hn : narrow (ty0 k) v = v) (hfit : fits (ty0 k) v = true) (hlen : k < fs.length) (hset : Φ.set q0 (a, .inr (ci, fs.set k v)) = Φ') (hdg : decode cc pc = .ok (.putfield idx, 3)) (kk : gG x nL ca sl Φ' (pc + 3) lv st) : gG x nL ca sl Φ pc lv (v :: .ref a :: st) :=
  fun H locs ls hP hD hS hl => va_putN (D := x.D) hc.ex hc.b hc.ts hin ty0 hty hnm hc.ow hc.kw.1 hP hD hS q0 he hcl k hk (hc.fn i hq) (fun _ h9 => h9) hfin (hty k hk) hn hfit hlen hdg (fun H1 locs1 hP1 hD1 hS1 => kk H1 locs1 ls (hset ▸ hP1) (hset ▸ hD1) hS1 hl)
theorem g_iald (hc : gOk x own cc nL F L) {q0 a n : Nat} {f : Nat → Int32} {i : Int32} (he : Φ[q0]? = some (a, .inl (x.dA 1, n, .inl f))) (hb : inb i n = true) (hdg : decode cc pc = .ok (.iaload, 1)) (kk : gG x nL ca sl Φ (pc + 1) lv (.int (f i.toNatClampNeg) :: st)) : gG x nL ca sl Φ pc lv (.int i :: .ref a :: st) :=
  fun H locs ls hP hD hS hl => va_iald (D := x.D) hc.ex hc.b hc.kw.1 hP q0 1 he rfl (inb_in hb) hdg (kk H locs ls hP hD hS hl)
theorem g_bald (hc : gOk x own cc nL F L) {q0 a n : Nat} {f : Nat → Int32} {i : Int32} (he : Φ[q0]? = some (a, .inl (x.dA 0, n, .inl f))) (hb : inb i n = true) (hdg : decode cc pc = .ok (.baload, 1)) (kk : gG x nL ca sl Φ (pc + 1) lv (.int (f i.toNatClampNeg) :: st)) : gG x nL ca sl Φ pc lv (.int i :: .ref a :: st) :=
  fun H locs ls hP hD hS hl => va_bald (D := x.D) hc.ex hc.b hc.kw.1 hP q0 0 he rfl (inb_in hb) hdg (kk H locs ls hP hD hS hl)
theorem g_zald (hc : gOk x own cc nL F L) {q0 a n : Nat} {f : Nat → Int32} {i : Int32} (he : Φ[q0]? = some (a, .inl (x.dA 2, n, .inl f))) (hb : inb i n = true) (hdg : decode cc pc = .ok (.baload, 1)) (kk : gG x nL ca sl Φ (pc + 1) lv (.int (f i.toNatClampNeg) :: st)) : gG x nL ca sl Φ pc lv (.int i :: .ref a :: st) :=
  fun H locs ls hP hD hS hl => va_zald (D := x.D) hc.ex hc.b hc.kw.1 hP q0 2 he rfl (inb_in hb) hdg (kk H locs ls hP hD hS hl)
theorem g_aald (hc : gOk x own cc nL F L) (t0 : Nat) {q0 a n v : Nat} {C : String} {f : Nat → Option Nat} {cA : ClassId} {i : Int32} (he : Φ[q0]? = some (a, .inl (cA, n, .inr (.inr (.inr (.inr f)))))) (ht : (gTY x.dA)[t0]? = some (cA, .object C)) (hb : inb i n = true) (hv : f i.toNatClampNeg = some v) (hdg : decode cc pc = .ok (.aaload, 1)) (kk : gG x nL ca sl Φ (pc + 1) lv (.ref v :: st)) : gG x nL ca sl Φ pc lv (.int i :: .ref a :: st) :=
  fun H locs ls hP hD hS hl => va_aldq (D := x.D) hc.ex hc.b hc.kw.1 hP q0 t0 he ht (inb_in hb) hdg (by rw [hv]; exact kk H locs ls hP hD hS hl)
theorem g_iast (hc : gOk x own cc nL F L) {q0 a n : Nat} {f : Nat → Int32} {i v : Int32} (he : Φ[q0]? = some (a, .inl (x.dA 1, n, .inl f))) (hb : inb i n = true) (hset : Φ.set q0 (a, .inl (x.dA 1, n, .inl (upd f i.toNatClampNeg v))) = Φ') (hdg : decode cc pc = .ok (.iastore, 1)) (kk : gG x nL ca sl Φ' (pc + 1) lv st) : gG x nL ca sl Φ pc lv (.int v :: .int i :: .ref a :: st) :=
  fun H locs ls hP hD hS hl => va_iast (D := x.D) hc.ex hc.b hc.kw.1 hP hD hS q0 1 he rfl (inb_in hb) hdg (fun H1 locs1 hP1 hD1 hS1 => kk H1 locs1 ls (hset ▸ hP1) (hset ▸ hD1) hS1 hl)
theorem g_bast (hc : gOk x own cc nL F L) {q0 a n : Nat} {f : Nat → Int32} {i v : Int32} (he : Φ[q0]? = some (a, .inl (x.dA 0, n, .inl f))) (hb : inb i n = true) (hset : Φ.set q0 (a, .inl (x.dA 0, n, .inl (upd f i.toNatClampNeg (nbt v)))) = Φ') (hdg : decode cc pc = .ok (.bastore, 1)) (kk : gG x nL ca sl Φ' (pc + 1) lv st) : gG x nL ca sl Φ pc lv (.int v :: .int i :: .ref a :: st) :=
  fun H locs ls hP hD hS hl => va_bast (D := x.D) hc.ex hc.b hc.kw.1 hP hD hS q0 0 he rfl (inb_in hb) hdg (fun H1 locs1 hP1 hD1 hS1 => kk H1 locs1 ls (hset ▸ hP1) (hset ▸ hD1) hS1 hl)
theorem g_zast (hc : gOk x own cc nL F L) {q0 a n : Nat} {f : Nat → Int32} {i v : Int32} (he : Φ[q0]? = some (a, .inl (x.dA 2, n, .inl f))) (hb : inb i n = true) (hset : Φ.set q0 (a, .inl (x.dA 2, n, .inl (upd f i.toNatClampNeg (vp_nar .boolean v)))) = Φ') (hdg : decode cc pc = .ok (.bastore, 1)) (kk : gG x nL ca sl Φ' (pc + 1) lv st) : gG x nL ca sl Φ pc lv (.int v :: .int i :: .ref a :: st) :=
  fun H locs ls hP hD hS hl => va_zast (D := x.D) hc.ex hc.b hc.kw.1 hP hD hS q0 2 he rfl (inb_in hb) hdg (fun H1 locs1 hP1 hD1 hS1 => kk H1 locs1 ls (hset ▸ hP1) (hset ▸ hD1) hS1 hl)
theorem g_copyb (hc : gOk x own cc nL F L) {q0 q1 a0 a n0 n1 idx : Nat} {f g : Nat → Int32} {sp dp n : Int32} (h0 : Φ[q0]? = some (a0, .inl (x.dA 0, n0, .inl f))) (h1 : Φ[q1]? = some (a, .inl (x.dA 0, n1, .inl g))) (hok : cpOk f sp dp n n0 n1 = true) (hlink : Cond.methodLink own idx arraycopyName ∈ lw_all) (hf1 : 1 ≤ F) (hl1 : (st.map fun v => v.category).sum + (nativeFrameWords "java/lang/System" "arraycopy" 5 + 11) ≤ L) (hset : Φ.set q1 (a, .inl (x.dA 0, n1, .inl (va_cpy f g sp.toNatClampNeg dp.toNatClampNeg n.toNatClampNeg))) = Φ') (hdg : decode cc pc = .ok (.invokestatic idx, 3)) (kk : gG x nL ca sl Φ' (pc + 3) lv st) : gG x nL ca sl Φ pc lv (.int n :: .int dp :: .ref a :: .int sp :: .ref a0 :: st) := by
  intro H locs ls hP hD hS hl
  simp only [cpOk, Bool.and_eq_true, decide_eq_true_eq, List.all_eq_true, List.mem_range] at hok
  obtain ⟨e1, e2, e3, e4, e5, e6⟩ := hok
  exact va_copyi (D := x.D) hc.ex hc.b (hc.ml.trans hl.1.symm) hc.ow (hc.ts _ hlink) (hc.ts _ q527) (hc.ts _ q526) (hc.ts _ q77) hc.kw.1 hP hD hS q0 q1 0 0 h0 h1 rfl rfl rfl e1 e2 e3 e4 e5 e6 (Nat.le_trans hf1 hc.fr) (Nat.le_trans hl1 hc.lo) hdg (fun H1 locs1 hP1 hD1 hS1 => kk H1 locs1 ls (hset ▸ hP1) (hset ▸ hD1) hS1 hl)
theorem g_max (hc : gOk x own cc nL F L) {idx : Nat} {x1 y1 : Int32} (hlink : Cond.methodLink own idx Lib.Math.max.name ∈ lw_all) (hs : Cond.static Lib.Math.max.name ∈ lw_all) (hcode : Cond.code Lib.Math.max.name Lib.Math.max.code 2 (some .int) ∈ lw_all) (hf1 : 1 ≤ F) (hl1 : (st.map fun v => v.category).sum + 13 ≤ L) (hcs : ca ≤ x.R.cells ∧ sl ≤ x.R.slots) (hdg : decode cc pc = .ok (.invokestatic idx, 3)) (kk : gG x nL ca sl Φ (pc + 3) lv (.int (if x1 < y1 then y1 else x1) :: st)) : gG x nL ca sl Φ pc lv (.int y1 :: .int x1 :: st) :=
  fun H locs ls hP hD hS hl => va_mmax hc.ex hc.b (hc.ml.trans hl.1.symm) hc.ow (hc.ts _ hlink) (hc.ts _ hs) (hc.ts _ q76) (hc.ts _ hcode) (Nat.le_trans hf1 hc.fr) (Nat.le_trans hl1 hc.lo) hcs.1 hcs.2 hdg (kk H locs ls hP hD hS hl)
theorem g_min (hc : gOk x own cc nL F L) {idx : Nat} {x1 y1 : Int32} (hlink : Cond.methodLink own idx Lib.Math.min.name ∈ lw_all) (hs : Cond.static Lib.Math.min.name ∈ lw_all) (hcode : Cond.code Lib.Math.min.name Lib.Math.min.code 2 (some .int) ∈ lw_all) (hf1 : 1 ≤ F) (hl1 : (st.map fun v => v.category).sum + 13 ≤ L) (hcs : ca ≤ x.R.cells ∧ sl ≤ x.R.slots) (hdg : decode cc pc = .ok (.invokestatic idx, 3)) (kk : gG x nL ca sl Φ (pc + 3) lv (.int (if y1 < x1 then y1 else x1) :: st)) : gG x nL ca sl Φ pc lv (.int y1 :: .int x1 :: st) :=
  fun H locs ls hP hD hS hl => va_mmin hc.ex hc.b (hc.ml.trans hl.1.symm) hc.ow (hc.ts _ hlink) (hc.ts _ hs) (hc.ts _ q76) (hc.ts _ hcode) (Nat.le_trans hf1 hc.fr) (Nat.le_trans hl1 hc.lo) hcs.1 hcs.2 hdg (kk H locs ls hP hD hS hl)
theorem g_abs (hc : gOk x own cc nL F L) {idx : Nat} {x1 : Int32} (hlink : Cond.methodLink own idx Lib.Math.abs.name ∈ lw_all) (hs : Cond.static Lib.Math.abs.name ∈ lw_all) (hcode : Cond.code Lib.Math.abs.name Lib.Math.abs.code 1 (some .int) ∈ lw_all) (hf1 : 1 ≤ F) (hl1 : (st.map fun v => v.category).sum + 13 ≤ L) (hcs : ca ≤ x.R.cells ∧ sl ≤ x.R.slots) (hdg : decode cc pc = .ok (.invokestatic idx, 3)) (kk : gG x nL ca sl Φ (pc + 3) lv (.int (if 0 ≤ x1 then x1 else 0 - x1) :: st)) : gG x nL ca sl Φ pc lv (.int x1 :: st) :=
  fun H locs ls hP hD hS hl => va_mabs hc.ex hc.b (hc.ml.trans hl.1.symm) hc.ow (hc.ts _ hlink) (hc.ts _ hs) (hc.ts _ q76) (hc.ts _ hcode) (Nat.le_trans hf1 hc.fr) (Nat.le_trans hl1 hc.lo) hcs.1 hcs.2 hdg (kk H locs ls hP hD hS hl)
theorem g_ldc (hc : gOk x own cc nL F L) {idx : Nat} {v : Int32} (hq : Cond.constant own idx v ∈ lw_all) (hdg : decode cc pc = .ok (.ldc idx, 2)) (kk : gG x nL ca sl Φ (pc + 2) lv (.int v :: st)) : gG x nL ca sl Φ pc lv st :=
  fun H locs ls hP hD hS hl => lv_ldc hc.ex hc.b hc.ow (hc.ts _ hq) hdg (kk H locs ls hP hD hS hl)
theorem g_ldcw (hc : gOk x own cc nL F L) {idx : Nat} {v : Int32} (hq : Cond.constant own idx v ∈ lw_all) (hdg : decode cc pc = .ok (.ldc_w idx, 3)) (kk : gG x nL ca sl Φ (pc + 3) lv (.int v :: st)) : gG x nL ca sl Φ pc lv st :=
  fun H locs ls hP hD hS hl => lv_ldcw hc.ex hc.b hc.ow (hc.ts _ hq) hdg (kk H locs ls hP hD hS hl)
theorem g_ldc2 (hc : gOk x own cc nL F L) {idx : Nat} {v : Int64} (hq : Cond.constantLong own idx v ∈ lw_all) (hdg : decode cc pc = .ok (.ldc2_w idx, 3)) (kk : gG x nL ca sl Φ (pc + 3) lv (.long v :: st)) : gG x nL ca sl Φ pc lv st :=
  fun H locs ls hP hD hS hl => lv_ldc2 hc.ex hc.b hc.ow (hc.ts _ hq) hdg (kk H locs ls hP hD hS hl)
/-! switches: one value after the other -/
theorem g_tabIn (hc : gOk x own cc nL F L) {dflt lo hi : Int} {offs : Array Int} {len : Nat} {x1 : Int32} {off : Int} {tgt : Nat} (hdg : decode cc pc = .ok (.tableswitch dflt lo hi offs, len)) (h1 : ¬ x1.toInt < lo) (h2 : ¬ hi < x1.toInt) (ho : offs[(x1.toInt - lo).toNat]? = some off) (ht : (pc : Int) + off = (tgt : Int)) (kk : gG x nL ca sl Φ tgt lv st) : gG x nL ca sl Φ pc lv (.int x1 :: st) :=
  fun H locs ls hP hD hS hl => lv_tableIn hc.ex hc.b hdg h1 h2 ho ht (kk H locs ls hP hD hS hl)
theorem g_tabOut (hc : gOk x own cc nL F L) {dflt lo hi : Int} {offs : Array Int} {len : Nat} {x1 : Int32} {tgt : Nat} (hdg : decode cc pc = .ok (.tableswitch dflt lo hi offs, len)) (h : x1.toInt < lo ∨ hi < x1.toInt) (ht : (pc : Int) + dflt = (tgt : Int)) (kk : gG x nL ca sl Φ tgt lv st) : gG x nL ca sl Φ pc lv (.int x1 :: st) :=
  fun H locs ls hP hD hS hl => lv_tableOut hc.ex hc.b hdg h ht (kk H locs ls hP hD hS hl)
end GM
/-! returns: what the method's end asks of the last world and the answer -/
def gRi (x : gX) (ca sl : Nat) (Φ : va_W) (r : Int32) : Prop := ∀ (H : Heap) (locs : List Loc) (ls : Array Slot) (pc : Nat), va_P x.D gCL Φ H → va_D x.A Φ → va_S x.A x.s.heap H locs → decode x.c.code pc = .ok (.ireturn, 1) → W x.p x.l x.e x.R x.s x.m x.ar x.be x.me x.c H locs ca sl x.Q (F0 x.m pc ls [.int r])
def gRz (x : gX) (ca sl : Nat) (Φ : va_W) (r : Int32) : Prop := narrow .boolean (.int r) = .int r → gRi x ca sl Φ r
def gRl (x : gX) (ca sl : Nat) (Φ : va_W) (r : Int64) : Prop := ∀ (H : Heap) (locs : List Loc) (ls : Array Slot) (pc : Nat), va_P x.D gCL Φ H → va_D x.A Φ → va_S x.A x.s.heap H locs → decode x.c.code pc = .ok (.lreturn, 1) → W x.p x.l x.e x.R x.s x.m x.ar x.be x.me x.c H locs ca sl x.Q (F0 x.m pc ls [.long r])
def gRv (x : gX) (ca sl : Nat) (Φ : va_W) : Prop := ∀ (H : Heap) (locs : List Loc) (ls : Array Slot) (pc : Nat), va_P x.D gCL Φ H → va_D x.A Φ → va_S x.A x.s.heap H locs → decode x.c.code pc = .ok (.return_, 1) → W x.p x.l x.e x.R x.s x.m x.ar x.be x.me x.c H locs ca sl x.Q (F0 x.m pc ls [])
section GE
variable {x : gX} {own : String} {cc : ByteArray} {nL F L ca sl : Nat} {Φ Φ' : va_W} {pc : Nat} {lv : List (Nat × Value)} {st : List Value}
theorem g_iret (hc : gOk x own cc nL F L) {r : Int32} (h : gRi x ca sl Φ r) (hdg : decode cc pc = .ok (.ireturn, 1)) : gG x nL ca sl Φ pc lv [.int r] :=
  fun H locs ls hP hD hS _ => h H locs ls pc hP hD hS (by rw [hc.b]; exact hdg)
theorem g_zret (hc : gOk x own cc nL F L) {r : Int32} (h : gRz x ca sl Φ r) (hn : narrow .boolean (.int r) = .int r) (hdg : decode cc pc = .ok (.ireturn, 1)) : gG x nL ca sl Φ pc lv [.int r] := g_iret hc (h hn) hdg
theorem g_lret (hc : gOk x own cc nL F L) {r : Int64} (h : gRl x ca sl Φ r) (hdg : decode cc pc = .ok (.lreturn, 1)) : gG x nL ca sl Φ pc lv [.long r] :=
  fun H locs ls hP hD hS _ => h H locs ls pc hP hD hS (by rw [hc.b]; exact hdg)
theorem g_vret (hc : gOk x own cc nL F L) (h : gRv x ca sl Φ) (hdg : decode cc pc = .ok (.return_, 1)) : gG x nL ca sl Φ pc lv [] :=
  fun H locs ls hP hD hS _ => h H locs ls pc hP hD hS (by rw [hc.b]; exact hdg)
end GE
/-! contracts: the world Φ, these arguments; behind it the world Φ', this answer; no cell is made -/
def gPre (D : va_G) (dA : Nat → ClassId) (Φ : va_W) (sz : Nat) : State → Prop := fun U => U.heap.size = sz ∧ va_P D gCL Φ U.heap ∧ gKW D dA U ∧ va_D (fun _ => True) Φ
def gB (D : va_G) (Φ' : va_W) (A : Nat → Prop) : Unit → State → Prop := fun _ t => va_P D gCL Φ' t.heap ∧ va_D A Φ'
def gI (l : Launch) (D : va_G) (dA : Nat → ClassId) (Φ Φ' : va_W) (As : List Value) (r : Int32) (y : MethodName) (ws : List Cond) (rm : Room) : Prop := ∀ sz : Nat, Met l y ws rm (va_Pc As (gPre D dA Φ sz)) (va_Qi (fun (r1 : Int32) (_ : Unit) => r1 = r) (gB D Φ' (va_A Φ sz)) (va_A Φ sz)) 0 0 (va_A Φ sz)
def gLo (l : Launch) (D : va_G) (dA : Nat → ClassId) (Φ Φ' : va_W) (As : List Value) (r : Int64) (y : MethodName) (ws : List Cond) (rm : Room) : Prop := ∀ sz : Nat, Met l y ws rm (va_Pc As (gPre D dA Φ sz)) (va_Ql (fun (r1 : Int64) (_ : Unit) => r1 = r) (gB D Φ' (va_A Φ sz)) (va_A Φ sz)) 0 0 (va_A Φ sz)
def gV (l : Launch) (D : va_G) (dA : Nat → ClassId) (Φ Φ' : va_W) (As : List Value) (y : MethodName) (ws : List Cond) (rm : Room) : Prop := ∀ sz : Nat, Met l y ws rm (va_Pc As (gPre D dA Φ sz)) (va_Qv (fun (_ : Unit) => True) (gB D Φ' (va_A Φ sz)) (va_A Φ sz)) 0 0 (va_A Φ sz)
theorem gPre_blind {D : va_G} {dA : Nat → ClassId} {Φ : va_W} {sz : Nat} {As : List Value} : FrameBlind (va_Pc As (gPre D dA Φ sz)) := fun a U g mk q => ⟨q.1, q.2.1, q.2.2.1, gKW.same (s := U) (U := U.calling g mk a) rfl q.2.2.2.1, q.2.2.2.2⟩
theorem gFree {x : gX} {own : String} {cc : ByteArray} {nL F L : Nat} (hc : gOk x own cc nL F L) {Φ : va_W} {H : Heap} {locs : List Loc} (hD : va_D x.A Φ) (hS : va_S x.A x.s.heap H locs) : ∀ q : Nat, va_A Φ H.size q → x.A q := by
  intro q h
  rcases h with ⟨k, e, h⟩ | h
  · exact hD.2 k (q, e) h
  · exact hc.hA q (Nat.le_trans hS.1 h)
section GC
variable {x : gX} {own : String} {cc : ByteArray} {nL F L ca sl : Nat} {Φ Φ' : va_W} {pc : Nat} {lv : List (Nat × Value)} {st : List Value}
theorem gPreV (hc : gOk x own cc nL F L) {C : String} {T : u_T} {N ci q0 b : Nat} {fs As : List Value} {H : Heap} (hP : va_P x.D gCL Φ H) (hD : va_D x.A Φ) (he : Φ[q0]? = some (b, .inr (ci, fs))) (hcl : gCL[ci]? = some (C, T, N)) : PreV x.s H C b (va_Pc (.ref b :: As) (gPre x.D x.dA Φ H.size)) As :=
  ⟨gPre_blind, va_recv hc.kw.1 hP hcl he, fun U hU hW => ⟨rfl, by rw [hU], by rw [hU]; exact hP, gKW.warm hW hc.kw, hD.weaken (fun _ _ _ _ => trivial)⟩⟩
theorem gPreS (hc : gOk x own cc nL F L) {As : List Value} {H : Heap} (hP : va_P x.D gCL Φ H) (hD : va_D x.A Φ) : PreS x.s H (va_Pc As (gPre x.D x.dA Φ H.size)) As :=
  ⟨gPre_blind, fun U hU hW => ⟨rfl, by rw [hU], by rw [hU]; exact hP, gKW.warm hW hc.kw, hD.weaken (fun _ _ _ _ => trivial)⟩⟩
/-- what a call's room asks -/
def gRm (rm : Room) (maxL F L : Nat) : Bool := decide (rm.cells = 0) && (decide (rm.slots = 0) && (decide (rm.frames + 1 ≤ F) && decide (8 + (maxL + 11) + rm.locals ≤ L)))
theorem gRm_spec {rm : Room} {maxL F L : Nat} (h : gRm rm maxL F L = true) : rm.cells = 0 ∧ rm.slots = 0 ∧ rm.frames + 1 ≤ F ∧ 8 + (maxL + 11) + rm.locals ≤ L := by
  simpa [gRm, Bool.and_eq_true, decide_eq_true_eq] using h
theorem g_callVi (hc : gOk x own cc nL F L) {y : MethodName} {bytes : ByteArray} {maxL idx n : Nat} {ret : Option FieldType} {rm : Room} {r : Int32} {C : String} {T : u_T} {N ci q0 b : Nat} {fs : List Value} (As rest : List Value) (hM : gI x.l x.D x.dA Φ Φ' (.ref b :: As) r y (ws_ y bytes maxL ret) rm) (he : Φ[q0]? = some (b, .inr (ci, fs))) (hcl : gCL[ci]? = some (C, T, N)) (hG : GoodIn lw_all (wsV own idx C y (ws_ y bytes maxL ret))) (hrm : gRm rm maxL F L = true) (hd : y.cls = C ∧ y.cls ≠ "java/lang/invoke/MethodHandle" ∧ y.cls ≠ "java/lang/invoke/VarHandle" ∧ (parseMethodDescriptor y.desc).map (fun d => d.parameters.length) = some n) (hn : As.length = n) (hst : st = As.reverse ++ .ref b :: rest) (hrest : (rest.map fun v => v.category).sum ≤ 8) (hcs : ca ≤ x.R.cells ∧ sl ≤ x.R.slots) (hdg : decode cc pc = .ok (.invokevirtual idx, 3)) (kk : gG x nL ca sl Φ' (pc + 3) lv (.int r :: rest)) : gG x nL ca sl Φ pc lv st := by
  intro H locs ls hP hD hS hl
  subst hst
  obtain ⟨e1, e2, e3, e4⟩ := gRm_spec hrm
  have hf := gFree hc hD hS
  refine va_calli (va_runV (As := As) (rest := rest) ⟨hc.ex, hc.b, hc.ml, hc.ow, hc.ts⟩ (hM H.size) (cwV n hc.ts hG rfl e1 e2 hd ⟨Nat.le_trans e3 hc.fr, Nat.le_trans e4 hc.lo⟩) (gPreV hc hP hD he hcl) rfl hn hl.1 rfl (lv_room (m := x.m) (pc := pc) (ls := ls) (rest := rest) hrest) hdg hcs) hS (fun q _ h => hf q h) hf (fun r1 u t H1 locs1 ht hvm hp hB hz hk hS1 => ?_)
  subst hp
  exact kk H1 locs1 ls (ht ▸ hB.1) (hB.2.weaken (fun _ q _ h => hf q.1 h)) hS1 hl
theorem g_callVl (hc : gOk x own cc nL F L) {y : MethodName} {bytes : ByteArray} {maxL idx n : Nat} {ret : Option FieldType} {rm : Room} {r : Int64} {C : String} {T : u_T} {N ci q0 b : Nat} {fs : List Value} (As rest : List Value) (hM : gLo x.l x.D x.dA Φ Φ' (.ref b :: As) r y (ws_ y bytes maxL ret) rm) (he : Φ[q0]? = some (b, .inr (ci, fs))) (hcl : gCL[ci]? = some (C, T, N)) (hG : GoodIn lw_all (wsV own idx C y (ws_ y bytes maxL ret))) (hrm : gRm rm maxL F L = true) (hd : y.cls = C ∧ y.cls ≠ "java/lang/invoke/MethodHandle" ∧ y.cls ≠ "java/lang/invoke/VarHandle" ∧ (parseMethodDescriptor y.desc).map (fun d => d.parameters.length) = some n) (hn : As.length = n) (hst : st = As.reverse ++ .ref b :: rest) (hrest : (rest.map fun v => v.category).sum ≤ 8) (hcs : ca ≤ x.R.cells ∧ sl ≤ x.R.slots) (hdg : decode cc pc = .ok (.invokevirtual idx, 3)) (kk : gG x nL ca sl Φ' (pc + 3) lv (.long r :: rest)) : gG x nL ca sl Φ pc lv st := by
  intro H locs ls hP hD hS hl
  subst hst
  obtain ⟨e1, e2, e3, e4⟩ := gRm_spec hrm
  have hf := gFree hc hD hS
  refine va_calll (va_runV (As := As) (rest := rest) ⟨hc.ex, hc.b, hc.ml, hc.ow, hc.ts⟩ (hM H.size) (cwV n hc.ts hG rfl e1 e2 hd ⟨Nat.le_trans e3 hc.fr, Nat.le_trans e4 hc.lo⟩) (gPreV hc hP hD he hcl) rfl hn hl.1 rfl (lv_room (m := x.m) (pc := pc) (ls := ls) (rest := rest) hrest) hdg hcs) hS (fun q _ h => hf q h) hf (fun r1 u t H1 locs1 ht hvm hp hB hz hk hS1 => ?_)
  subst hp
  exact kk H1 locs1 ls (ht ▸ hB.1) (hB.2.weaken (fun _ q _ h => hf q.1 h)) hS1 hl
theorem g_callVv (hc : gOk x own cc nL F L) {y : MethodName} {bytes : ByteArray} {maxL idx n : Nat} {ret : Option FieldType} {rm : Room} {C : String} {T : u_T} {N ci q0 b : Nat} {fs : List Value} (As rest : List Value) (hM : gV x.l x.D x.dA Φ Φ' (.ref b :: As) y (ws_ y bytes maxL ret) rm) (he : Φ[q0]? = some (b, .inr (ci, fs))) (hcl : gCL[ci]? = some (C, T, N)) (hG : GoodIn lw_all (wsV own idx C y (ws_ y bytes maxL ret))) (hrm : gRm rm maxL F L = true) (hd : y.cls = C ∧ y.cls ≠ "java/lang/invoke/MethodHandle" ∧ y.cls ≠ "java/lang/invoke/VarHandle" ∧ (parseMethodDescriptor y.desc).map (fun d => d.parameters.length) = some n) (hn : As.length = n) (hst : st = As.reverse ++ .ref b :: rest) (hrest : (rest.map fun v => v.category).sum ≤ 8) (hcs : ca ≤ x.R.cells ∧ sl ≤ x.R.slots) (hdg : decode cc pc = .ok (.invokevirtual idx, 3)) (kk : gG x nL ca sl Φ' (pc + 3) lv rest) : gG x nL ca sl Φ pc lv st := by
  intro H locs ls hP hD hS hl
  subst hst
  obtain ⟨e1, e2, e3, e4⟩ := gRm_spec hrm
  have hf := gFree hc hD hS
  refine va_callv (va_runV (As := As) (rest := rest) ⟨hc.ex, hc.b, hc.ml, hc.ow, hc.ts⟩ (hM H.size) (cwV n hc.ts hG rfl e1 e2 hd ⟨Nat.le_trans e3 hc.fr, Nat.le_trans e4 hc.lo⟩) (gPreV hc hP hD he hcl) rfl hn hl.1 rfl (lv_room (m := x.m) (pc := pc) (ls := ls) (rest := rest) hrest) hdg hcs) hS (fun q _ h => hf q h) hf (fun u t H1 locs1 ht hvm hp hB hz hk hS1 => ?_)
  exact kk H1 locs1 ls (ht ▸ hB.1) (hB.2.weaken (fun _ q _ h => hf q.1 h)) hS1 hl
theorem g_callSi (hc : gOk x own cc nL F L) {y : MethodName} {bytes : ByteArray} {maxL idx n : Nat} {ret : Option FieldType} {rm : Room} {r : Int32} (As rest : List Value) (hM : gI x.l x.D x.dA Φ Φ' As r y (ws_ y bytes maxL ret) rm) (hG : GoodIn lw_all (va_wsS own idx y (ws_ y bytes maxL ret))) (hrm : gRm rm maxL F L = true) (hd : y.cls ≠ "java/lang/invoke/MethodHandle" ∧ y.cls ≠ "java/lang/invoke/VarHandle" ∧ (parseMethodDescriptor y.desc).map (fun d => d.parameters.length) = some n) (hn : As.length = n) (hst : st = As.reverse ++ rest) (hrest : (rest.map fun v => v.category).sum ≤ 8) (hcs : ca ≤ x.R.cells ∧ sl ≤ x.R.slots) (hdg : decode cc pc = .ok (.invokestatic idx, 3)) (kk : gG x nL ca sl Φ' (pc + 3) lv (.int r :: rest)) : gG x nL ca sl Φ pc lv st := by
  intro H locs ls hP hD hS hl
  subst hst
  obtain ⟨e1, e2, e3, e4⟩ := gRm_spec hrm
  have hf := gFree hc hD hS
  refine va_calli (va_runS (As := As) (rest := rest) ⟨hc.ex, hc.b, hc.ml, hc.ow, hc.ts⟩ (hM H.size) (va_cwS n hc.ts hG rfl e1 e2 hd ⟨Nat.le_trans e3 hc.fr, Nat.le_trans e4 hc.lo⟩) (gPreS hc hP hD) rfl hn hl.1 rfl (lv_room (m := x.m) (pc := pc) (ls := ls) (rest := rest) hrest) hdg hcs) hS (fun q _ h => hf q h) hf (fun r1 u t H1 locs1 ht hvm hp hB hz hk hS1 => ?_)
  subst hp
  exact kk H1 locs1 ls (ht ▸ hB.1) (hB.2.weaken (fun _ q _ h => hf q.1 h)) hS1 hl
theorem g_callSl (hc : gOk x own cc nL F L) {y : MethodName} {bytes : ByteArray} {maxL idx n : Nat} {ret : Option FieldType} {rm : Room} {r : Int64} (As rest : List Value) (hM : gLo x.l x.D x.dA Φ Φ' As r y (ws_ y bytes maxL ret) rm) (hG : GoodIn lw_all (va_wsS own idx y (ws_ y bytes maxL ret))) (hrm : gRm rm maxL F L = true) (hd : y.cls ≠ "java/lang/invoke/MethodHandle" ∧ y.cls ≠ "java/lang/invoke/VarHandle" ∧ (parseMethodDescriptor y.desc).map (fun d => d.parameters.length) = some n) (hn : As.length = n) (hst : st = As.reverse ++ rest) (hrest : (rest.map fun v => v.category).sum ≤ 8) (hcs : ca ≤ x.R.cells ∧ sl ≤ x.R.slots) (hdg : decode cc pc = .ok (.invokestatic idx, 3)) (kk : gG x nL ca sl Φ' (pc + 3) lv (.long r :: rest)) : gG x nL ca sl Φ pc lv st := by
  intro H locs ls hP hD hS hl
  subst hst
  obtain ⟨e1, e2, e3, e4⟩ := gRm_spec hrm
  have hf := gFree hc hD hS
  refine va_calll (va_runS (As := As) (rest := rest) ⟨hc.ex, hc.b, hc.ml, hc.ow, hc.ts⟩ (hM H.size) (va_cwS n hc.ts hG rfl e1 e2 hd ⟨Nat.le_trans e3 hc.fr, Nat.le_trans e4 hc.lo⟩) (gPreS hc hP hD) rfl hn hl.1 rfl (lv_room (m := x.m) (pc := pc) (ls := ls) (rest := rest) hrest) hdg hcs) hS (fun q _ h => hf q h) hf (fun r1 u t H1 locs1 ht hvm hp hB hz hk hS1 => ?_)
  subst hp
  exact kk H1 locs1 ls (ht ▸ hB.1) (hB.2.weaken (fun _ q _ h => hf q.1 h)) hS1 hl
end GC
/-! from a method's start -/
section GSt
variable {l : Launch} {D : va_G} {dA : Nat → ClassId} {Φ Φ' : va_W} {As : List Value} {y : MethodName} {cc : ByteArray} {maxL : Nat} {rm : Room} {own : String}
theorem g_startI {r : Int32} (hrc : rm.cells = 0 ∧ rm.slots = 0) (hy : plainName y.cls = true) (hown : y.cls = own) (hlen : (lg_sl As).length ≤ maxL) (body : ∀ x : gX, x.dA = dA → gOk x own cc maxL rm.frames rm.locals → gRi x 0 0 Φ' r → gG x maxL 0 0 Φ 0 (lv_args 0 As) []) : gI l D dA Φ Φ' As r y (ws_ y cc maxL (some .int)) rm := by
  intro sz
  refine Met.ofW (cc := cc) (maxL := maxL) (ret := some .int) hy rfl ?_
  intro p e s m args below meth c s₁ B hml hv
  obtain ⟨rfl, hsz, hP, hK, hD0⟩ := hv
  subst hsz
  have hts := atoms_spec (ws := ws_ y cc maxL (some .int)) B.pre
  have hts : ∀ w ∈ lw_all, w.before As.toArray s = true := fun w h => hts w (List.mem_cons_of_mem _ h)
  have ho : s.vm.findClass own = some m.cls := by rw [← hown]; exact findClass_of_methodNamed B.named
  rw [lg_entry_eq]
  exact body (p, l, e, (headSpec (ws_ y cc maxL (some .int)) rm).room, s, m, As.toArray, below, meth, c, MQ below (va_Qi (fun (r1 : Int32) (_ : Unit) => r1 = r) (gB D Φ' (va_A Φ s.heap.size)) (va_A Φ s.heap.size)) As.toArray s 0 0 (va_A Φ s.heap.size), va_A Φ s.heap.size, D, dA) rfl
    ⟨B.exec, B.bytes, hml, ho, hts, hK, Nat.le_refl _, Nat.le_refl _, fun q h => Or.inr h, B.notSynchronized⟩
    (fun H locs ls pc hP hD hS hd => W.iret (v := r) B.exec rfl B.returns (fun t ht hW => ⟨⟨r, (), rfl, rfl, by rw [ht]; exact hP, hD⟩, hS.F ht⟩) hS.2.2 hd B.notSynchronized)
    s.heap [] _ hP hD0.self va_S.rf (lv_entry As hlen)
theorem g_startZ {r : Int32} (hrc : rm.cells = 0 ∧ rm.slots = 0) (hy : plainName y.cls = true) (hown : y.cls = own) (hlen : (lg_sl As).length ≤ maxL) (body : ∀ x : gX, x.dA = dA → gOk x own cc maxL rm.frames rm.locals → gRz x 0 0 Φ' r → gG x maxL 0 0 Φ 0 (lv_args 0 As) []) : gI l D dA Φ Φ' As r y (ws_ y cc maxL (some .boolean)) rm := by
  intro sz
  refine Met.ofW (cc := cc) (maxL := maxL) (ret := some .boolean) hy rfl ?_
  intro p e s m args below meth c s₁ B hml hv
  obtain ⟨rfl, hsz, hP, hK, hD0⟩ := hv
  subst hsz
  have hts := atoms_spec (ws := ws_ y cc maxL (some .boolean)) B.pre
  have hts : ∀ w ∈ lw_all, w.before As.toArray s = true := fun w h => hts w (List.mem_cons_of_mem _ h)
  have ho : s.vm.findClass own = some m.cls := by rw [← hown]; exact findClass_of_methodNamed B.named
  rw [lg_entry_eq]
  exact body (p, l, e, (headSpec (ws_ y cc maxL (some .boolean)) rm).room, s, m, As.toArray, below, meth, c, MQ below (va_Qi (fun (r1 : Int32) (_ : Unit) => r1 = r) (gB D Φ' (va_A Φ s.heap.size)) (va_A Φ s.heap.size)) As.toArray s 0 0 (va_A Φ s.heap.size), va_A Φ s.heap.size, D, dA) rfl
    ⟨B.exec, B.bytes, hml, ho, hts, hK, Nat.le_refl _, Nat.le_refl _, fun q h => Or.inr h, B.notSynchronized⟩
    (fun hn H locs ls pc hP hD hS hd => W.zret (v := r) B.exec rfl B.returns hn (fun t ht hW => ⟨⟨r, (), rfl, rfl, by rw [ht]; exact hP, hD⟩, hS.F ht⟩) hS.2.2 hd B.notSynchronized)
    s.heap [] _ hP hD0.self va_S.rf (lv_entry As hlen)
theorem g_startL {r : Int64} (hrc : rm.cells = 0 ∧ rm.slots = 0) (hy : plainName y.cls = true) (hown : y.cls = own) (hlen : (lg_sl As).length ≤ maxL) (body : ∀ x : gX, x.dA = dA → gOk x own cc maxL rm.frames rm.locals → gRl x 0 0 Φ' r → gG x maxL 0 0 Φ 0 (lv_args 0 As) []) : gLo l D dA Φ Φ' As r y (ws_ y cc maxL (some .long)) rm := by
  intro sz
  refine Met.ofW (cc := cc) (maxL := maxL) (ret := some .long) hy rfl ?_
  intro p e s m args below meth c s₁ B hml hv
  obtain ⟨rfl, hsz, hP, hK, hD0⟩ := hv
  subst hsz
  have hts := atoms_spec (ws := ws_ y cc maxL (some .long)) B.pre
  have hts : ∀ w ∈ lw_all, w.before As.toArray s = true := fun w h => hts w (List.mem_cons_of_mem _ h)
  have ho : s.vm.findClass own = some m.cls := by rw [← hown]; exact findClass_of_methodNamed B.named
  rw [lg_entry_eq]
  exact body (p, l, e, (headSpec (ws_ y cc maxL (some .long)) rm).room, s, m, As.toArray, below, meth, c, MQ below (va_Ql (fun (r1 : Int64) (_ : Unit) => r1 = r) (gB D Φ' (va_A Φ s.heap.size)) (va_A Φ s.heap.size)) As.toArray s 0 0 (va_A Φ s.heap.size), va_A Φ s.heap.size, D, dA) rfl
    ⟨B.exec, B.bytes, hml, ho, hts, hK, Nat.le_refl _, Nat.le_refl _, fun q h => Or.inr h, B.notSynchronized⟩
    (fun H locs ls pc hP hD hS hd => W.lret (v := r) B.exec rfl B.returns (fun t ht hW => ⟨⟨r, (), rfl, rfl, by rw [ht]; exact hP, hD⟩, hS.F ht⟩) hS.2.2 hd B.notSynchronized)
    s.heap [] _ hP hD0.self va_S.rf (lv_entry As hlen)
theorem g_startV (hrc : rm.cells = 0 ∧ rm.slots = 0) (hy : plainName y.cls = true) (hown : y.cls = own) (hlen : (lg_sl As).length ≤ maxL) (body : ∀ x : gX, x.dA = dA → gOk x own cc maxL rm.frames rm.locals → gRv x 0 0 Φ' → gG x maxL 0 0 Φ 0 (lv_args 0 As) []) : gV l D dA Φ Φ' As y (ws_ y cc maxL none) rm := by
  intro sz
  refine Met.ofW (cc := cc) (maxL := maxL) (ret := none) hy rfl ?_
  intro p e s m args below meth c s₁ B hml hv
  obtain ⟨rfl, hsz, hP, hK, hD0⟩ := hv
  subst hsz
  have hts := atoms_spec (ws := ws_ y cc maxL none) B.pre
  have hts : ∀ w ∈ lw_all, w.before As.toArray s = true := fun w h => hts w (List.mem_cons_of_mem _ h)
  have ho : s.vm.findClass own = some m.cls := by rw [← hown]; exact findClass_of_methodNamed B.named
  rw [lg_entry_eq]
  exact body (p, l, e, (headSpec (ws_ y cc maxL none) rm).room, s, m, As.toArray, below, meth, c, MQ below (va_Qv (fun (_ : Unit) => True) (gB D Φ' (va_A Φ s.heap.size)) (va_A Φ s.heap.size)) As.toArray s 0 0 (va_A Φ s.heap.size), va_A Φ s.heap.size, D, dA) rfl
    ⟨B.exec, B.bytes, hml, ho, hts, hK, Nat.le_refl _, Nat.le_refl _, fun q h => Or.inr h, B.notSynchronized⟩
    (fun H locs ls pc hP hD hS hd => W.vret B.exec rfl B.returns (fun t ht hW => ⟨⟨(), rfl, trivial, by rw [ht]; exact hP, hD⟩, hS.F ht⟩) hS.2.2 hd B.notSynchronized)
    s.heap [] _ hP hD0.self va_S.rf (lv_entry As hlen)
end GSt
theorem gZ {x : gX} : 0 ≤ x.R.cells ∧ 0 ≤ x.R.slots := ⟨Nat.zero_le _, Nat.zero_le _⟩
def gFU : Nat := 5000
/-! ===== the worlds: the class's cells (x: 0..11 the object and its arrays, 12 + 6 t .. the slopes, 42 the reader), the reference's (m: 0..12) ===== -/
def sb (t : Nat) : Nat := 12 + 6 * t
def slF (ad : Nat → Nat) (b : Nat) (f : Nat → Int32) : List Value := [.int (f 0), .ref (ad (b + 1)), .ref (ad (b + 2)), .int (f 3), .ref (ad (b + 3)), .int (f 5), .ref (ad (b + 4)), .int (f 7), .ref (ad (b + 5))]
def xoF (ad : Nat → Nat) (f : Nat → Int32) (lam : Nat → Int64) : List Value := [.ref (ad 1), .ref (ad (sb 0)), .ref (ad (sb 1)), .ref (ad 10), .int (f 4), .ref (ad 6), .int (f 6), .ref (ad 7), .int (f 8), .int (f 9), .int (f 10), .int (f 11), .ref (ad 8), .int (f 13), .int (f 14), .int (f 15), .int (f 16), .long (lam 17), .long (lam 18), .long (lam 19), .ref (ad 9), .ref (ad 11), .int (f 22)]
def rdF (ad : Nat → Nat) (f : Nat → Int32) : List Value := [.int (f 0), .ref (ad (sb 4)), .int (f 2), .int (f 3), .int (f 4), .int (f 5), .int (f 6), .ref (ad 0)]
def slC (dA : Nat → ClassId) (ad : Nat → Nat) (k : Nat) (f : Nat → Int32) : Nat → va_E
  | 0 => .inr (5, slF ad k f)
  | 1 => .inl (dA 0, 7, .inl f)
  | 2 => .inl (dA 0, 7, .inl f)
  | 3 => .inl (dA 0, 4, .inl f)
  | 4 => .inl (dA 0, 8, .inl f)
  | _ => .inl (dA 0, 12, .inl f)
def cellX (dA : Nat → ClassId) (ad : Nat → Nat) (lam : Nat → Int64) (k : Nat) (f : Nat → Int32) : va_E := match k with
  | 0 => .inr (0, xoF ad f lam)
  | 1 => .inl (dA 4, 4, .inr (.inr (.inr (.inr (fun j => some (ad (2 + j)))))))
  | 2 => .inr (1, [])
  | 3 => .inr (2, [])
  | 4 => .inr (3, [])
  | 5 => .inr (4, [])
  | 6 => .inl (dA 0, 18, .inl f)
  | 7 => .inl (dA 0, 10, .inl f)
  | 8 => .inl (dA 0, 160, .inl f)
  | 9 => .inl (dA 0, 8, .inl f)
  | 10 => .inl (dA 5, 2, .inr (.inr (.inr (.inr (fun j => some (ad (sb (2 + j))))))))
  | 11 => .inl (dA 6, 4, .inr (.inr (.inr (.inr (fun j => some (ad (43 + j)))))))
  | k + 12 => if k = 30 then .inr (8, rdF ad f) else slC dA ad (k + 12) f (k % 6)
def XW (dA : Nat → ClassId) (N : Nat) (ad : Nat → Nat) (σ : Nat → Nat → Int32) (lam : Nat → Int64) : va_W := (List.range N).map (fun k => (ad k, cellX dA ad lam k (σ k)))
def moF (ad : Nat → Nat) (f : Nat → Int32) : List Value := [.ref (ad 1), .int (f 1), .ref (ad 2), .int (f 3), .int (f 4), .ref (ad 3), .int (f 6), .int (f 7), .int (f 8), .int (f 9), .int (f 10), .int (f 11), .int (f 12), .int (f 13), .ref (ad 4), .ref (ad 5), .int (f 16), .int (f 17), .int (f 18), .int (f 19), .ref (ad 6), .ref (ad 7), .int (f 22), .ref (ad 8), .ref (ad 9), .ref (ad 10), .ref (ad 11), .ref (ad 12), .int (f 28)]
def cellM (dA : Nat → ClassId) (ad : Nat → Nat) (k : Nat) (f : Nat → Int32) : va_E := match k with
  | 0 => .inr (7, moF ad f)
  | 1 => .inl (dA 1, 205, .inl f)
  | 2 => .inl (dA 1, 41, .inl f)
  | 3 => .inl (dA 1, 160, .inl f)
  | 4 => .inl (dA 1, 8, .inl f)
  | 5 => .inl (dA 1, 28, .inl f)
  | 6 => .inl (dA 1, 10, .inl f)
  | 7 => .inl (dA 1, 18, .inl f)
  | 8 => .inl (dA 1, 80, .inl f)
  | 9 => .inl (dA 2, 2, .inl f)
  | 10 => .inl (dA 1, 4, .inl f)
  | 11 => .inl (dA 1, 4, .inl f)
  | _ => .inl (dA 1, 160, .inl f)
def MW (dA : Nat → ClassId) (ad : Nat → Nat) (μ : Nat → Nat → Int32) : va_W := (List.range 13).map (fun k => (ad k, cellM dA ad k (μ k)))
theorem rg_at {α : Type} {N k : Nat} {g : Nat → α} {tl : List α} (hk : k < N) : ((List.range N).map g ++ tl)[k]? = some (g k) := by
  rw [List.getElem?_append_left (by simpa using hk), List.getElem?_map, List.getElem?_range hk]
  rfl
theorem rg_set {α : Type} {N k : Nat} {g g' : Nat → α} {tl : List α} {v : α} (hv : v = g' k) (ho : ∀ j, j ≠ k → g' j = g j) : ((List.range N).map g ++ tl).set k v = (if k < N then (List.range N).map g' ++ tl else ((List.range N).map g ++ tl).set k v) := by
  by_cases hk : k < N
  · rw [if_pos hk, List.set_append_left _ _ (by simpa using hk)]
    congr 1
    apply List.ext_getElem?
    intro i
    rw [List.getElem?_set]
    by_cases hi : k = i
    · subst hi
      rw [if_pos rfl, if_pos (by simpa using hk), List.getElem?_map, List.getElem?_range hk, hv]
      rfl
    · rw [if_neg hi, List.getElem?_map, List.getElem?_map]
      cases h : (List.range N)[i]? with
      | none => rfl
      | some z =>
        have hz : z = i := by
          have h1 := (List.getElem?_eq_some_iff.mp h).2
          simpa using h1.symm
        subst hz
        simp [ho z (Ne.symm hi)]
  · rw [if_neg hk]
theorem updc_s (σ : Nat → Nat → Int32) (k : Nat) (f : Nat → Int32) : updc σ k f k = f := if_pos rfl
theorem updc_n (σ : Nat → Nat → Int32) {k j : Nat} (f : Nat → Int32) (h : j ≠ k) : updc σ k f j = σ j := if_neg h
section WX
variable {dA : Nat → ClassId} {N : Nat} {ad : Nat → Nat} {σ σ1 μ μ1 : Nat → Nat → Int32} {lam lam1 : Nat → Int64} {tl : va_W}
theorem XW_at {k : Nat} (hk : k < N) : (XW dA N ad σ lam ++ tl)[k]? = some (ad k, cellX dA ad lam k (σ k)) := rg_at hk
theorem XW_set {k : Nat} (hk : k < N) {f : Nat → Int32} (e1 : σ1 = updc σ k f) {v : va_E} (hv : v = cellX dA ad lam k f) : (XW dA N ad σ lam ++ tl).set k (ad k, v) = XW dA N ad σ1 lam ++ tl := by
  subst e1
  refine (rg_set (g' := fun j => (ad j, cellX dA ad lam j (updc σ k f j))) ?_ ?_).trans (if_pos hk)
  · show (ad k, v) = (ad k, cellX dA ad lam k (updc σ k f k))
    rw [updc_s, hv]
  · intro j hj
    show (ad j, cellX dA ad lam j (updc σ k f j)) = _
    rw [updc_n _ _ hj]
theorem cellX_lam {k : Nat} (hk : k ≠ 0) (f : Nat → Int32) : cellX dA ad lam1 k f = cellX dA ad lam k f := by
  unfold cellX
  split <;> first | rfl | exact absurd rfl hk
theorem XW_setL (hk : 0 < N) {v : va_E} (hv : v = cellX dA ad lam1 0 (σ 0)) : (XW dA N ad σ lam ++ tl).set 0 (ad 0, v) = XW dA N ad σ lam1 ++ tl := by
  refine (rg_set (g' := fun j => (ad j, cellX dA ad lam1 j (σ j))) ?_ ?_).trans (if_pos hk)
  · rw [hv]
  · intro j hj
    show (ad j, cellX dA ad lam1 j (σ j)) = _
    rw [cellX_lam (lam := lam) hj]
/-- the slope t stands in the world -/
def gS (t N : Nat) : Prop := t ≤ 4 ∧ sb t + 6 ≤ N
theorem gSl (t : Nat) (hN : 36 ≤ N) (ht : t < 4) : gS t N := ⟨by omega, by unfold sb; omega⟩
theorem gSi (hN : 36 ≤ N) {i : Int32} (h : inb i 2 = true) : gS (2 + i.toNatClampNeg) N := gSl _ hN (by
  have h1 := inb_in h
  unfold vp_in at h1
  omega)
theorem cellX_sl {t j : Nat} (ht : t ≤ 4) (hj : j < 6) (f : Nat → Int32) : cellX dA ad lam (sb t + j) f = slC dA ad (sb t + j) f j := by
  have e : sb t + j = (6 * t + j) + 12 := by unfold sb; omega
  rw [e]
  show (if 6 * t + j = 30 then (.inr (8, rdF ad f) : va_E) else slC dA ad (6 * t + j + 12) f ((6 * t + j) % 6)) = _
  rw [if_neg (by omega), show (6 * t + j) % 6 = j by omega]
theorem XW_s0 {t : Nat} (h : gS t N) : (XW dA N ad σ lam ++ tl)[sb t]? = some (ad (sb t), .inr (5, slF ad (sb t) (σ (sb t)))) := by
  have e := XW_at (dA := dA) (ad := ad) (σ := σ) (lam := lam) (tl := tl) (show sb t + 0 < N from Nat.lt_of_lt_of_le (by omega) h.2)
  rw [cellX_sl h.1 (by decide)] at e
  exact e
theorem XW_s1 {t : Nat} (h : gS t N) : (XW dA N ad σ lam ++ tl)[sb t + 1]? = some (ad (sb t + 1), .inl (dA 0, 7, .inl (σ (sb t + 1)))) := by
  have e := XW_at (dA := dA) (ad := ad) (σ := σ) (lam := lam) (tl := tl) (show sb t + 1 < N from Nat.lt_of_lt_of_le (by omega) h.2)
  rw [cellX_sl h.1 (by decide)] at e
  exact e
theorem XW_s2 {t : Nat} (h : gS t N) : (XW dA N ad σ lam ++ tl)[sb t + 2]? = some (ad (sb t + 2), .inl (dA 0, 7, .inl (σ (sb t + 2)))) := by
  have e := XW_at (dA := dA) (ad := ad) (σ := σ) (lam := lam) (tl := tl) (show sb t + 2 < N from Nat.lt_of_lt_of_le (by omega) h.2)
  rw [cellX_sl h.1 (by decide)] at e
  exact e
theorem XW_s3 {t : Nat} (h : gS t N) : (XW dA N ad σ lam ++ tl)[sb t + 3]? = some (ad (sb t + 3), .inl (dA 0, 4, .inl (σ (sb t + 3)))) := by
  have e := XW_at (dA := dA) (ad := ad) (σ := σ) (lam := lam) (tl := tl) (show sb t + 3 < N from Nat.lt_of_lt_of_le (by omega) h.2)
  rw [cellX_sl h.1 (by decide)] at e
  exact e
theorem XW_s4 {t : Nat} (h : gS t N) : (XW dA N ad σ lam ++ tl)[sb t + 4]? = some (ad (sb t + 4), .inl (dA 0, 8, .inl (σ (sb t + 4)))) := by
  have e := XW_at (dA := dA) (ad := ad) (σ := σ) (lam := lam) (tl := tl) (show sb t + 4 < N from Nat.lt_of_lt_of_le (by omega) h.2)
  rw [cellX_sl h.1 (by decide)] at e
  exact e
theorem XW_s5 {t : Nat} (h : gS t N) : (XW dA N ad σ lam ++ tl)[sb t + 5]? = some (ad (sb t + 5), .inl (dA 0, 12, .inl (σ (sb t + 5)))) := by
  have e := XW_at (dA := dA) (ad := ad) (σ := σ) (lam := lam) (tl := tl) (show sb t + 5 < N from Nat.lt_of_lt_of_le (by omega) h.2)
  rw [cellX_sl h.1 (by decide)] at e
  exact e
/-- a number of the slope t is written -/
theorem XW_p0 {t j : Nat} {v : Int32} (h : gS t N) (e1 : σ1 = upd2 σ (sb t) j v) (hF : (slF ad (sb t) (σ (sb t))).set j (.int v) = slF ad (sb t) (upd (σ (sb t)) j v)) : (XW dA N ad σ lam ++ tl).set (sb t) (ad (sb t), .inr (5, (slF ad (sb t) (σ (sb t))).set j (.int v))) = XW dA N ad σ1 lam ++ tl := by
  refine XW_set (Nat.lt_of_lt_of_le (by omega) h.2) e1 ?_
  rw [hF]
  exact (cellX_sl (j := 0) h.1 (by decide) _).symm
theorem XW_pa {t k n : Nat} {f : Nat → Int32} (h : gS t N) (hk : k < 6) (e1 : σ1 = updc σ (sb t + k) f) (hC : slC dA ad (sb t + k) f k = .inl (dA 0, n, .inl f)) : (XW dA N ad σ lam ++ tl).set (sb t + k) (ad (sb t + k), .inl (dA 0, n, .inl f)) = XW dA N ad σ1 lam ++ tl := by
  refine XW_set (Nat.lt_of_lt_of_le (by omega) h.2) e1 ?_
  rw [cellX_sl h.1 hk, hC]
theorem MW_at {k : Nat} (hk : k < 13) : (MW dA ad μ ++ tl)[k]? = some (ad k, cellM dA ad k (μ k)) := rg_at hk
theorem MW_set {k : Nat} (hk : k < 13) {f : Nat → Int32} (e1 : μ1 = updc μ k f) {v : va_E} (hv : v = cellM dA ad k f) : (MW dA ad μ ++ tl).set k (ad k, v) = MW dA ad μ1 ++ tl := by
  subst e1
  refine (rg_set (g' := fun j => (ad j, cellM dA ad j (updc μ k f j))) ?_ ?_).trans (if_pos hk)
  · show (ad k, v) = (ad k, cellM dA ad k (updc μ k f k))
    rw [updc_s, hv]
  · intro j hj
    show (ad j, cellM dA ad j (updc μ k f j)) = _
    rw [updc_n _ _ hj]
end WX
