/-! ===== what the machine throws by itself: the words ===== -/
set_option maxRecDepth 100000
def upR : List String := ["java/lang/RuntimeException", "java/lang/Exception"]
def upI : List String := ["java/lang/IndexOutOfBoundsException", "java/lang/RuntimeException", "java/lang/Exception"]
def armOk (w : Cond) : Bool := (decide (w ∈ lw_all) || decide (w ∈ gDE.map Cond.declares)) || decide (w ∈ gCA.map (fun q => Cond.castable q.1 q.2))
theorem armOk_at {x : gX} {own : String} {cc : ByteArray} {nL F L : Nat} (hc : gOk x own cc nL F L) {ws : List Cond} (h : ws.all armOk = true) : ∀ w ∈ ws, w.before x.ar x.s = true := by
  intro w hw
  have h1 := List.all_eq_true.mp h w hw
  unfold armOk at h1
  rw [Bool.or_eq_true, Bool.or_eq_true, decide_eq_true_eq, decide_eq_true_eq, decide_eq_true_eq] at h1
  rcases h1 with (h1 | h1) | h1
  · exact hc.ts w h1
  · obtain ⟨q, hq, rfl⟩ := List.mem_map.mp h1
    exact va_Nw.use rfl (hc.kw.2.2.2.2.1 q hq)
  · obtain ⟨q, hq, rfl⟩ := List.mem_map.mp h1
    exact va_Nw.use rfl (hc.kw.2.2.2.1 q hq)
theorem arm_nas : (vx_atM "java/lang/NegativeArraySizeException" upR).all armOk = true := by decide +kernel
theorem arm_aio : (vx_atM "java/lang/ArrayIndexOutOfBoundsException" upI).all armOk = true := by decide +kernel
theorem arm_cce : (vx_atM "java/lang/ClassCastException" upR).all armOk = true := by decide +kernel
theorem arm_npe : (vx_atN 8).all armOk = true := by decide +kernel
