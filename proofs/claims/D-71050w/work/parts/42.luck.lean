/-! ===== luck, mean ===== -/
set_option maxRecDepth 100000
def sm (f : Nat → Nat) : Nat → Nat
  | 0 => 0
  | n + 1 => sm f n + f n
def wt (T o : Nat) : Nat → Nat
  | 0 => 1
  | n + 1 => wt T o n * (if o.testBit n then T else 10 - T)
theorem sm_congr {f g : Nat → Nat} : ∀ {n : Nat}, (∀ i, i < n → f i = g i) → sm f n = sm g n
  | 0, _ => rfl
  | n + 1, h => by unfold sm; rw [sm_congr (fun i hi => h i (by omega)), h n (by omega)]
theorem sm_add (f : Nat → Nat) (a : Nat) : ∀ b, sm f (a + b) = sm f a + sm (fun i => f (a + i)) b
  | 0 => rfl
  | b + 1 => by
    show sm f (a + b) + f (a + b) = sm f a + (sm (fun i => f (a + i)) b + f (a + b))
    rw [sm_add f a b]; omega
theorem sm_mul (f : Nat → Nat) (c : Nat) : ∀ n, sm (fun i => f i * c) n = sm f n * c
  | 0 => by unfold sm; omega
  | n + 1 => by unfold sm; rw [sm_mul f c n, Nat.add_mul]
theorem sm_le {f g : Nat → Nat} : ∀ {n : Nat}, (∀ i, i < n → f i ≤ g i) → sm f n ≤ sm g n
  | 0, _ => Nat.le_refl _
  | n + 1, h => by
    have := sm_le (n := n) (f := f) (g := g) (fun i hi => h i (by omega))
    have := h n (by omega)
    unfold sm; omega
theorem sm_mono (f : Nat → Nat) (n : Nat) : ∀ m, sm f n ≤ sm f (n + m)
  | 0 => Nat.le_refl _
  | m + 1 => by have := sm_mono f n m; show _ ≤ sm f (n + m) + _; omega
theorem wt_congr {T o o' : Nat} : ∀ {n : Nat}, (∀ i, i < n → o.testBit i = o'.testBit i) → wt T o n = wt T o' n
  | 0, _ => rfl
  | n + 1, h => by unfold wt; rw [wt_congr (fun i hi => h i (by omega)), h n (by omega)]
theorem wt_sum {T : Nat} (hT : T ≤ 10) : ∀ k, sm (fun o => wt T o k) (2 ^ k) = 10 ^ k
  | 0 => rfl
  | k + 1 => by
    rw [show 2 ^ (k + 1) = 2 ^ k + 2 ^ k from by rw [Nat.pow_succ]; omega, sm_add]
    have e1 : sm (fun o => wt T o (k + 1)) (2 ^ k) = sm (fun o => wt T o k * (10 - T)) (2 ^ k) := sm_congr (fun o ho => by
      show wt T o k * (if o.testBit k then T else 10 - T) = _
      rw [Nat.testBit_lt_two_pow ho]; rfl)
    have e2 : sm (fun o => wt T (2 ^ k + o) (k + 1)) (2 ^ k) = sm (fun o => wt T o k * T) (2 ^ k) := sm_congr (fun o ho => by
      show wt T (2 ^ k + o) k * (if (2 ^ k + o).testBit k then T else 10 - T) = _
      rw [Nat.testBit_two_pow_add_eq, Nat.testBit_lt_two_pow ho, wt_congr (fun i hi => Nat.testBit_two_pow_add_gt hi o)]; rfl)
    rw [e1, e2, sm_mul, sm_mul, wt_sum hT k, ← Nat.mul_add, Nat.pow_succ]
    congr 1
    omega
theorem wt_le {T : Nat} (hT : T ≤ 10) (o : Nat) : ∀ n, wt T o n ≤ 10 ^ n
  | 0 => Nat.le_refl _
  | n + 1 => by
    unfold wt
    rw [Nat.pow_succ]
    exact Nat.mul_le_mul (wt_le hT o n) (by split <;> omega)
theorem lN_div {a b : Nat} (ha : a < 2 ^ 63) (hb : b < 2 ^ 63) : lN a / lN b = lN (a / b) := (Int64.ofNat_div ha hb).symm
theorem lN_tI {a : Nat} (h : a < 2 ^ 63) : (lN a).toInt = a := Int64.toInt_ofNat_of_lt h
theorem lN_rem {a b : Nat} (ha : a < 2 ^ 63) (hb : b < 2 ^ 63) : lN a - lN a / lN b * lN b = lN (a % b) := by
  rw [lN_div ha hb, lN_mul]
  have h := Nat.div_add_mod a b
  have hle : a / b * b ≤ a := Nat.div_mul_le_self a b
  show Int64.ofNat a - Int64.ofNat (a / b * b) = _
  rw [← Int64.ofNat_sub _ _ hle]
  show lN (a - a / b * b) = lN (a % b)
  congr 1
  rw [Nat.mul_comm] at h
  omega
theorem lN_z {a : Nat} (h : a < 2 ^ 63) : lN a = 0 ↔ a = 0 := by
  rw [← Int64.toInt_inj, lN_tI h]
  have : (0 : Int64).toInt = 0 := rfl
  omega
theorem lg0 {a : Nat} (h : a < 2 ^ 63) : lg_cmp (lN a) 0 = 0 ↔ a = 0 := by
  rw [← lN_z h]
  unfold lg_cmp
  by_cases h1 : lN a > 0
  · rw [if_pos h1]
    exact ⟨fun q => absurd q (by decide), fun q => by rw [q] at h1; exact absurd h1 (by decide)⟩
  · rw [if_neg h1]
    by_cases h2 : lN a = 0
    · rw [if_pos h2]; exact ⟨fun _ => h2, fun _ => rfl⟩
    · rw [if_neg h2]; exact ⟨fun q => absurd q (by decide), fun q => absurd q h2⟩
theorem lgle {a : Nat} (h : a < 2 ^ 63) : lg_cmp (lN a) 0 ≤ 0 ↔ a = 0 := by
  have e := lg_cmp_gt0 (lN a) 0
  rw [Int64.lt_iff_toInt_lt, lN_tI h] at e
  have z : (0 : Int64).toInt = 0 := rfl
  rw [z] at e
  constructor
  · intro q
    have hn : ¬ 0 < lg_cmp (lN a) 0 := fun q2 => Int32.lt_irrefl (Int32.lt_of_lt_of_le q2 q)
    have hn2 : ¬ ((0 : Int) < (a : Int)) := fun z => hn (e.mpr z)
    omega
  · intro q
    refine Int32.not_lt.mp (fun q2 => ?_)
    have := e.mp q2
    omega
def lowR (A B : Nat) (l4 : Int32) (g : Nat) : Int64 := if l4 = 0 then lN (A / g) else lN (B / g)
theorem low_loop {A B : Nat} (hA : A < 2 ^ 63) (hB : B < 2 ^ 63) (l4 : Int32) : ∀ k x y n, y < 2 ^ k → x < 2 ^ 63 → y < 2 ^ 63 → 0 < x → 2 * k + 1 ≤ n → oLoop n (fun v : Int64 × Int64 => f_X0_lowest_L6 (lN A) (lN B) l4 v.1 v.2) (lN x, lN y) = some (lowR A B l4 (Nat.gcd x y)) := by
  have fin : ∀ x n, x < 2 ^ 63 → 0 < x → 1 ≤ n → oLoop n (fun v : Int64 × Int64 => f_X0_lowest_L6 (lN A) (lN B) l4 v.1 v.2) (lN x, lN 0) = some (lowR A B l4 x) := by
    intro x n hx h0 hn
    obtain ⟨n, rfl⟩ : ∃ m, n = m + 1 := ⟨n - 1, by omega⟩
    refine oLoop_inr ?_
    dsimp only
    unfold f_X0_lowest_L6 lowR
    have nz : nzl (lN x) = true := decide_eq_true (fun q => by have := (lN_z hx).mp q; omega)
    rw [if_pos ((lg0 (by decide)).mpr rfl), nz, oC_t, oC_t, lN_div hA hx, lN_div hB hx]
    by_cases e : l4 = 0
    · rw [if_pos e, if_pos e]; rfl
    · rw [if_neg e, if_neg e]; rfl
  have stp : ∀ x y n, x < 2 ^ 63 → y < 2 ^ 63 → 0 < y → oLoop (n + 1) (fun v : Int64 × Int64 => f_X0_lowest_L6 (lN A) (lN B) l4 v.1 v.2) (lN x, lN y) = oLoop n (fun v : Int64 × Int64 => f_X0_lowest_L6 (lN A) (lN B) l4 v.1 v.2) (lN y, lN (x % y)) := by
    intro x y n hx hy h0
    refine oLoop_inl ?_
    dsimp only
    unfold f_X0_lowest_L6
    have nz : nzl (lN y) = true := decide_eq_true (fun q => by have := (lN_z hy).mp q; omega)
    rw [if_neg (fun q => by have := (lg0 hy).mp q; omega), nz, oC_t, lN_rem hx hy]
  intro k
  induction k with
  | zero =>
    intro x y n hk hx hy h0 hn
    have : y = 0 := by omega
    subst this
    rw [fin x n hx h0 (by omega), Nat.gcd_zero_right]
  | succ k ih =>
    intro x y n hk hx hy h0 hn
    by_cases e : y = 0
    · subst e
      rw [fin x n hx h0 (by omega), Nat.gcd_zero_right]
    · obtain ⟨n, rfl⟩ : ∃ m, n = m + 2 := ⟨n - 2, by omega⟩
      have hr : x % y < y := Nat.mod_lt _ (by omega)
      have g1 : Nat.gcd x y = Nat.gcd y (x % y) := by rw [Nat.gcd_comm, Nat.gcd_rec, Nat.gcd_comm]
      rw [stp x y _ hx hy (by omega), g1]
      by_cases e2 : x % y = 0
      · rw [e2, fin y _ hy (by omega) (by omega), Nat.gcd_zero_right]
      · have g2 : Nat.gcd y (x % y) = Nat.gcd (x % y) (y % (x % y)) := by rw [Nat.gcd_comm, Nat.gcd_rec, Nat.gcd_comm]
        rw [stp y (x % y) _ hy (by omega) (by omega), g2]
        generalize x % y = r at *
        have hm : y % r < r := Nat.mod_lt _ (by omega)
        refine ih r (y % r) n ?_ (by omega) (by omega) (by omega) (by omega)
        rw [Nat.pow_succ] at hk
        by_cases h2 : 2 * r ≤ y
        · omega
        · have : y % r = y - r := by
            rw [Nat.mod_eq_sub_mod (by omega), Nat.mod_eq_of_lt (by omega)]
          omega
theorem x_low {A B : Nat} (hA : A < 2 ^ 63) (hB : B < 2 ^ 63) (h0 : 0 < B) (l4 : Int32) : f_X0_lowest (lN A) (lN B) l4 = some (lowR A B l4 (Nat.gcd A B)) := by
  unfold f_X0_lowest f_X0_lowest_b6
  rw [low_loop hA hB l4 63 B A gFU (by omega) hB hA h0 (by rw [gFU_eq]; decide), Nat.gcd_comm]
theorem m_low {A B : Nat} (hA : A < 2 ^ 63) (hB : B < 2 ^ 63) (h0 : 0 < B) (l4 : Int32) : f_X7_lowest (lN A) (lN B) l4 = some (lowR A B l4 (Nat.gcd A B)) := by
  unfold f_X7_lowest f_X7_lowest_b6
  show oLoop gFU (fun v : Int64 × Int64 => f_X0_lowest_L6 (lN A) (lN B) l4 v.1 v.2) (lN A, lN B) = _
  by_cases e : A = 0
  · subst e
    have : gFU = 4999 + 1 := rfl
    rw [this, oLoop_inl (s' := (lN B, lN (0 % B)))]
    · rw [Nat.zero_mod, low_loop hA hB l4 63 B 0 4999 (by decide) hB (by decide) h0 (by decide), Nat.gcd_zero_right, Nat.gcd_zero_left]
    · unfold f_X0_lowest_L6
      have nz : nzl (lN B) = true := decide_eq_true (fun q => by have := (lN_z hB).mp q; omega)
      dsimp only
      rw [if_neg (fun q => by have := (lg0 hB).mp q; omega), nz, oC_t, lN_rem (by decide) hB]
  · exact low_loop hA hB l4 63 A B gFU (by omega) hA hB (by omega) (by rw [gFU_eq]; decide)

def oE6 (x : Option (Int64 × (Nat → Nat → Int32) × (Nat → Int64))) (y : Option (Int64 × (Nat → Nat → Int32))) (Q : (Nat → Nat → Int32) → (Nat → Nat → Int32) → Prop) : Prop := ∃ v s la s', x = some (v, s, la) ∧ y = some (v, s') ∧ Q s s'
def sW (p : Nat → Nat) (T a c k : Nat) (n : Nat) : Nat := sm (fun o => wt T o 10 * (if winr p (run p a c o) = some k then 1 else 0)) n
def sM (p : Nat → Nat) (T a c : Nat) (n : Nat) : Nat := sm (fun o => wt T o 10 * (run p a c o).2.2.1) n
theorem wt10 {T : Nat} (hT : T ≤ 10) (o : Nat) : wt T o 10 ≤ 10 ^ 10 := wt_le hT o 10
theorem sT_all {T : Nat} (hT : T ≤ 10) : sm (fun o => wt T o 10) 1024 = 10000000000 := wt_sum hT 10
theorem sW_le {T : Nat} (hT : T ≤ 10) (p : Nat → Nat) (a c k : Nat) {n : Nat} (hn : n ≤ 1024) : sW p T a c k n ≤ 10000000000 := by
  have h1 : sW p T a c k n ≤ sm (fun o => wt T o 10) n := sm_le (fun o _ => by
    show wt T o 10 * _ ≤ wt T o 10
    split
    · omega
    · omega)
  have h2 := sm_mono (fun o => wt T o 10) n (1024 - n)
  rw [show n + (1024 - n) = 1024 from by omega, sT_all hT] at h2
  omega
theorem sM_le {T : Nat} (hT : T ≤ 10) (p : Nat → Nat) (a c : Nat) {n : Nat} (hn : n ≤ 1024) : sM p T a c n ≤ 100000000000 := by
  have h1 : sM p T a c n ≤ sm (fun o => wt T o 10 * 10) n := sm_le (fun o _ => Nat.mul_le_mul_left _ (run_met p a c o))
  have h2 := sm_mono (fun o => wt T o 10) n (1024 - n)
  rw [show n + (1024 - n) = 1024 from by omega, sT_all hT] at h2
  rw [sm_mul] at h1
  omega
section LU
variable {σ s μ : Nat → Nat → Int32} {p : Nat → Nat}
theorem n1024 {i : Nat} (h : i < 1024) : ¬ (1024 : Int32) ≤ nI i := fun q => by
  have := (nle (a := 1024) (by decide) (by omega)).mp q
  omega
theorem n10le {i : Nat} (h : i < 10) : ¬ (10 : Int32) ≤ nI i := fun q => by
  have := (nle (a := 10) (by decide) (by omega)).mp q
  omega
theorem x_odds (h : Rel p σ μ) {T a c k : Nat} (hT : T ≤ 10) (ha : a < p 41) (hc : c < 8) (hk : k < 4) (lam : Nat → Int64) : oW (f_X0_findOdds σ lam (nI T) (nI a) (nI c) (nI k)) (fun r => FrR σ r.1 ∧ r.2 17 = lN (sW p T a c k 1024) ∧ r.2 18 = lN (sM p T a c 1024) ∧ r.2 19 = lN 10000000000) := by
  have w := h.wf
  have hnh := w.nh
  unfold f_X0_findOdds
  refine oW_L (oW_L (oW_L ?_))
  unfold f_X0_findOdds_b18
  refine oW_lp (fun o x => x.1 = nI o ∧ FrR σ x.2.1 ∧ x.2.2 17 = lN (sW p T a c k o) ∧ x.2.2 18 = lN (sM p T a c o) ∧ x.2.2 19 = lN (sm (fun o => wt T o 10) o)) 1024 (by rw [gFU_eq]; decide) ⟨rfl, FrR.rf, ?_, ?_, ?_⟩ ?_
  · show vp_updL (vp_updL (vp_updL lam 17 0) 18 0) 19 0 17 = _
    rw [pk_uLn (by decide), pk_uLn (by decide), pk_uLs]; rfl
  · show vp_updL (vp_updL (vp_updL lam 17 0) 18 0) 19 0 18 = _
    rw [pk_uLn (by decide), pk_uLs]; rfl
  · show vp_updL (vp_updL (vp_updL lam 17 0) 18 0) 19 0 19 = _
    rw [pk_uLs]; rfl
  rintro o ⟨_, s, la⟩ ho ⟨rfl, fr, g1, g2, g3⟩
  dsimp only at fr g1 g2 g3 ⊢
  unfold f_X0_findOdds_L18
  by_cases h1024 : o = 1024
  · subst h1024
    rw [sT_all hT] at g3
    exact oW_t (Int32.le_refl _) (oS_r ⟨fr, g1, g2, g3⟩)
  have ho' : o < 1024 := by omega
  refine oW_f (n1024 ho') ?_
  unfold f_X0_findOdds_b32
  refine oW_lp (fun i x => x.1 = lN (wt T o i) ∧ x.2 = nI i) 10 (by rw [gFU_eq]; decide) ⟨rfl, rfl⟩ ?_
  rintro i ⟨_, _⟩ hi ⟨rfl, rfl⟩
  dsimp only
  unfold f_X0_findOdds_L32
  by_cases h10 : i = 10
  · subst h10
    refine oW_t (Int32.le_refl _) (oS_I (oW_B (x_runs (fr.pg h.px) w ha hc (show o < 2 ^ 31 by omega)) (fun s1 hr => oW_L ?_)))
    refine oW_Be (x_winner (hr.1.pg (fr.pg h.px)) w (fun _ e => run_rest e) hr.2.1) ?_
    have el : ∀ j, winr p (run p a c o) = some j → j < 2 ^ 31 := fun j e => by have := winr_lt w (fun _ e => run_rest e) j e; omega
    have fin : ∀ k3 : Int64, k3 = lN (wt T o 10 * (if winr p (run p a c o) = some k then 1 else 0)) → oW (f_X0_findOdds_b117 s1 (vp_updL la 19 (la 19 + lN (wt T o 10))) (nI T) (nI a) (nI c) (nI k) (nI o) (lN (wt T o 10)) k3 (vp_updL la 19 (la 19 + lN (wt T o 10)) 17)) (oS (fun s' => o < 1024 ∧ s'.1 = nI (o + 1) ∧ FrR σ s'.2.1 ∧ s'.2.2 17 = lN (sW p T a c k (o + 1)) ∧ s'.2.2 18 = lN (sM p T a c (o + 1)) ∧ s'.2.2 19 = lN (sm (fun o => wt T o 10) (o + 1))) (fun r => FrR σ r.1 ∧ r.2 17 = lN (sW p T a c k 1024) ∧ r.2 18 = lN (sM p T a c 1024) ∧ r.2 19 = lN 10000000000)) := by
      rintro k3 rfl
      have hmet := run_met p a c o
      unfold f_X0_findOdds_b117
      refine oW_L (oW_L (oS_l ⟨ho', nI_1 o, fr.tr hr.1, ?_, ?_, ?_⟩))
      · dsimp only
        rw [pk_uLn (by decide), pk_uLs, pk_uLn (by decide), g1, lN_add]; rfl
      · dsimp only
        rw [pk_uLs, pk_uLn (by decide), pk_uLn (by decide), g2, hr.2.2.2.1, nI_l (by omega), lN_mul, lN_add]; rfl
      · dsimp only
        rw [pk_uLn (by decide), pk_uLn (by decide), pk_uLs, g3, lN_add]; rfl
    by_cases e : winr p (run p a c o) = some k
    · exact oW_t ((eN_eq el (by omega)).mpr e) (fin _ (by rw [if_pos e, Nat.mul_one]))
    · exact oW_f (fun q => e ((eN_eq el (by omega)).mp q)) (fin _ (by rw [if_neg e, Nat.mul_zero]; rfl))
  · refine oW_f (n10le (by omega)) (oW_Be (has_nI (by omega) (by omega)) ?_)
    rw [show (10 : Int32) - nI T = nI (10 - T) from nI_sub (a := 10) hT, nI_l (by omega), nI_l (by omega)]
    unfold f_X0_findOdds_b61
    cases eb : o.testBit i with
    | false =>
      refine oW_t rfl (oS_l ⟨by omega, ?_, nI_1 i⟩)
      show lN (wt T o i) * lN (10 - T) = lN (wt T o i * (if o.testBit i = true then T else 10 - T))
      rw [lN_mul, eb]; rfl
    | true =>
      refine oW_f (by decide) (oS_l ⟨by omega, ?_, nI_1 i⟩)
      show lN (wt T o i) * lN T = lN (wt T o i * (if o.testBit i = true then T else 10 - T))
      rw [lN_mul, eb]; rfl
theorem m_turns (h : Rel p σ μ) {T a c : Nat} (hT : T ≤ 10) (ha : a < p 41) (hc : c < 8) (l4 l5 : Int32) (S : Nat → Nat) (hS : (l4 = -4 ∧ S = sM p T a c) ∨ ∃ k, k < 4 ∧ l4 = nI k ∧ S = sW p T a c k) : oW (f_X7_byTurns μ (nI T) (nI a) (nI c) l4 l5) (fun r => r.1 = lowR (S 1024) 10000000000 l5 (Nat.gcd (S 1024) 10000000000) ∧ FrM μ r.2) := by
  have w := h.wf
  have hnh := w.nh
  have hnp := w.np
  have hSl : S 1024 ≤ 100000000000 := by
    rcases hS with ⟨_, rfl⟩ | ⟨k, _, _, rfl⟩
    · exact sM_le hT p a c (Nat.le_refl _)
    · have := sW_le hT p a c k (Nat.le_refl 1024); omega
  have hS0 : S 0 = 0 := by
    rcases hS with ⟨_, rfl⟩ | ⟨k, _, _, rfl⟩ <;> rfl
  unfold f_X7_byTurns f_X7_byTurns_b11
  refine oW_lp (fun o x => x.1 = lN (S o) ∧ x.2.1 = nI o ∧ FrM μ x.2.2) 1024 (by rw [gFU_eq]; decide) ⟨by rw [hS0]; rfl, rfl, FrM.rf⟩ ?_
  rintro o ⟨_, _, s⟩ ho ⟨rfl, rfl, fr⟩
  dsimp only at fr ⊢
  unfold f_X7_byTurns_L11
  by_cases h1024 : o = 1024
  · subst h1024
    refine oW_t (Int32.le_refl _) (oS_I (oW_Be (m_low (A := S 1024) (B := 10000000000) (by omega) (by decide) (by decide) l5) (oW_some ⟨rfl, fr⟩)))
  have ho' : o < 1024 := by omega
  refine oW_f (n1024 ho') ?_
  unfold f_X7_byTurns_b25
  refine oW_lp (fun i x => x.1 = lN (wt T o i) ∧ x.2 = nI i) 10 (by rw [gFU_eq]; decide) ⟨rfl, rfl⟩ ?_
  rintro i ⟨_, _⟩ hi ⟨rfl, rfl⟩
  dsimp only
  unfold f_X7_byTurns_L25
  by_cases h10 : i = 10
  · subst h10
    have hwt := wt10 hT o
    have hmet := run_met p a c o
    refine oW_t (Int32.le_refl _) (oS_I ?_)
    unfold f_X7_byTurns_b129 f_X7_byTurns_b128
    have fin : ∀ (v : Int64) (s' : Nat → Nat → Int32), v = lN (S (o + 1)) → FrM μ s' → oW (f_X7_byTurns_b134 s' (nI T) (nI a) (nI c) l4 l5 v 10000000000 (nI o)) (oS (fun s' => o < 1024 ∧ s'.1 = lN (S (o + 1)) ∧ s'.2.1 = nI (o + 1) ∧ FrM μ s'.2.2) (fun r => r.1 = lowR (S 1024) 10000000000 l5 (Nat.gcd (S 1024) 10000000000) ∧ FrM μ r.2)) := by
      rintro v s' rfl f
      unfold f_X7_byTurns_b134
      exact oS_l ⟨ho', rfl, nI_1 o, f⟩
    by_cases hz : wt T o 10 = 0
    · refine oW_t ((lgle (by omega)).mpr hz) (fin _ _ ?_ fr)
      rcases hS with ⟨_, rfl⟩ | ⟨k, _, _, rfl⟩
      · show _ = lN (sM p T a c o + wt T o 10 * _)
        rw [hz, Nat.zero_mul]; rfl
      · show _ = lN (sW p T a c k o + wt T o 10 * _)
        rw [hz, Nat.zero_mul]; rfl
    · refine oW_f (fun q => hz ((lgle (by omega)).mp q)) (oW_B (m_runsOn (o := 0) (fr.pg h.pm) w (by decide) ha hc (show o < 2 ^ 31 by omega)) (fun s1 hr => ?_))
      have fr1 := fr.tr hr.1
      rcases hS with ⟨rfl, rfl⟩ | ⟨k, hk, rfl, rfl⟩
      · refine oW_t rfl (fin _ _ ?_ fr1)
        rw [hr.2.2.2.1, nI_l (by omega), lN_mul, lN_add]; rfl
      · refine oW_f (nI_nm4 (by omega)) ?_
        rw [hr.2.1]
        have eS : sW p T a c k (o + 1) = sW p T a c k o + wt T o 10 * (if winr p (run p a c o) = some k then 1 else 0) := rfl
        cases er : (run p a c o).1 with
        | none =>
          refine oW_t rfl (fin _ _ ?_ fr1)
          rw [eS, if_neg (by unfold winr; rw [er]; exact fun q => nomatch q), show (0 : Int32).toInt64 = lN 0 from rfl, lN_mul, lN_add]
        | some j =>
          have hj := run_rest er
          have hrag := w.rag hj
          have ew : winr p (run p a c o) = some (p (7 + j)) := by unfold winr; rw [er]; rfl
          refine oW_f (show ¬ nI j = -4 from nI_nm4 (by omega)) ?_
          rw [show eN (some j) = nI j from rfl, n_7, nI_add, nI_clamp (by omega), (hr.1.pg (fr.pg h.pm)).rag0 hj]
          refine oW_C (inb_t (by omega) (by decide)) ?_
          rw [ew] at eS
          by_cases e : p (7 + j) = k
          · refine oW_t (by rw [e]) (fin _ _ ?_ fr1)
            rw [eS, if_pos (by rw [e]), show (1 : Int32).toInt64 = lN 1 from rfl, lN_mul, lN_add]
          · refine oW_f (fun q => e ((nI_eq (by omega) (by omega)).mp q)) (fin _ _ ?_ fr1)
            rw [eS, if_neg (fun q => e (Option.some.inj q)), show (0 : Int32).toInt64 = lN 0 from rfl, lN_mul, lN_add]
  · refine oW_f (n10le (by omega)) ?_
    rw [show (10 : Int32) - nI T = nI (10 - T) from nI_sub (a := 10) hT, nI_l (by omega), nI_l (by omega), bit_nI (by omega) (by omega)]
    unfold f_X7_byTurns_b55
    have tb := tb_div o i
    by_cases e : o / 2 ^ i % 2 = 1
    · rw [decide_eq_true e] at tb
      refine oW_t (by rw [e]; rfl) (oS_l ⟨by omega, ?_, nI_1 i⟩)
      show lN (wt T o i) * lN T = lN (wt T o i * (if o.testBit i = true then T else 10 - T))
      rw [lN_mul, tb]; rfl
    · rw [decide_eq_false e] at tb
      refine oW_f (fun q => e ((nI_eq (by omega) (by decide)).mp (q.trans n_1))) (oS_l ⟨by omega, ?_, nI_1 i⟩)
      show lN (wt T o i) * lN (10 - T) = lN (wt T o i * (if o.testBit i = true then T else 10 - T))
      rw [lN_mul, tb]; rfl
/-- a guard on both sides -/
theorem oE6_n {σ μ : Nat → Nat → Int32} {lam : Nat → Int64} {a b : Option Int32} {v : Int64} {X : Int32 → Option (Int64 × (Nat → Nat → Int32) × (Nat → Int64))} {Y : Int32 → Option (Int64 × (Nat → Nat → Int32))} {Q : (Nat → Nat → Int32) → (Nat → Nat → Int32) → Prop} (ha : a = some 0) (hb : b = some 0) (q : Q σ μ) : oE6 (oB a fun r => if r = 0 then some (v, σ, lam) else X r) (oB b fun r => if r = 0 then some (v, μ) else Y r) Q := by
  subst ha hb
  exact ⟨v, σ, lam, μ, by rw [oB_s, if_pos rfl], by rw [oB_s, if_pos rfl], q⟩
theorem oE6_l {a : Option Int32} {A : Option (Int64 × (Nat → Nat → Int32) × (Nat → Int64))} {X : Int32 → Option (Int64 × (Nat → Nat → Int32) × (Nat → Int64))} {y : Option (Int64 × (Nat → Nat → Int32))} {Q : (Nat → Nat → Int32) → (Nat → Nat → Int32) → Prop} (ha : a = some 1) (q : oE6 (X 1) y Q) : oE6 (oB a fun r => if r = 0 then A else X r) y Q := by
  subst ha
  rw [oB_s, if_neg (by decide)]
  exact q
theorem oE6_r {b : Option Int32} {x : Option (Int64 × (Nat → Nat → Int32) × (Nat → Int64))} {B : Option (Int64 × (Nat → Nat → Int32))} {Y : Int32 → Option (Int64 × (Nat → Nat → Int32))} {Q : (Nat → Nat → Int32) → (Nat → Nat → Int32) → Prop} (hb : b = some 1) (q : oE6 x (Y 1) Q) : oE6 x (oB b fun r => if r = 0 then B else Y r) Q := by
  subst hb
  rw [oB_s, if_neg (by decide)]
  exact q
theorem op_luck (h : Rel p σ μ) (lam : Nat → Int64) (l1 l2 l3 l4 l5 : Int32) : oE6 (f_X0_luck σ lam l1 l2 l3 l4 l5) (f_X7_luck μ l1 l2 l3 l4 l5) (Rel p) := by
  unfold f_X0_luck f_X7_luck
  rw [inM_eq]
  rcases arg_c (a := 0) (b := 10) l1 (lo := 0) (hi := 10) rfl rfl (by decide) with e | ⟨T, _, hT, rfl, e⟩
  · exact oE6_n e e h
  refine oE6_l e (oE6_r e ?_)
  rcases isRun_c l2 l3 h.px h.hg h.wf with ⟨g, g'⟩ | ⟨a, c, ha, hc, rfl, rfl, g, g1, g2⟩
  · rcases g' with g' | ⟨g1, g2⟩
    · exact oE6_n g g' h
    · exact oE6_r g1 (oE6_n g g2 h)
  refine oE6_l g (oE6_r g1 (oE6_r g2 ?_))
  rcases isRag_c l4 with ⟨g, g'⟩ | ⟨k, hk, rfl, g, g'⟩
  · exact oE6_n g g' h
  refine oE6_l g (oE6_r g' ?_)
  rcases isPart_c l5 with ⟨g, g'⟩ | ⟨wh, hw, rfl, g, g'⟩
  · exact oE6_n g g' h
  refine oE6_l g (oE6_r g' ?_)
  obtain ⟨⟨s, la⟩, e1, f1, f2, f3, f4⟩ := x_odds h hT ha hc hk lam
  obtain ⟨⟨v, s'⟩, e2, q1, q2⟩ := m_turns h hT ha hc (nI k) (nI wh) (sW p T a c k) (Or.inr ⟨k, hk, rfl, rfl⟩)
  dsimp only at f1 f2 f3 f4 q1 q2
  have hl := sW_le hT p a c k (Nat.le_refl 1024)
  refine ⟨v, s, la, s', ?_, ?_, h.fr f1.fx q2.fm⟩
  · rw [e1, oB_s]
    dsimp only
    rw [f2, f4, x_low (by omega) (by decide) (by decide), oB_s, q1]
  · rw [e2, oB_s]
theorem op_mean (h : Rel p σ μ) (lam : Nat → Int64) (l1 l2 l3 l4 : Int32) : oE6 (f_X0_mean σ lam l1 l2 l3 l4) (f_X7_mean μ l1 l2 l3 l4) (Rel p) := by
  unfold f_X0_mean f_X7_mean
  rw [inM_eq]
  rcases arg_c (a := 0) (b := 10) l1 (lo := 0) (hi := 10) rfl rfl (by decide) with e | ⟨T, _, hT, rfl, e⟩
  · exact oE6_n e e h
  refine oE6_l e (oE6_r e ?_)
  rcases isRun_c l2 l3 h.px h.hg h.wf with ⟨g, g'⟩ | ⟨a, c, ha, hc, rfl, rfl, g, g1, g2⟩
  · rcases g' with g' | ⟨g1, g2⟩
    · exact oE6_n g g' h
    · exact oE6_r g1 (oE6_n g g2 h)
  refine oE6_l g (oE6_r g1 (oE6_r g2 ?_))
  rcases isPart_c l4 with ⟨g, g'⟩ | ⟨wh, hw, rfl, g, g'⟩
  · exact oE6_n g g' h
  refine oE6_l g (oE6_r g' ?_)
  obtain ⟨⟨s, la⟩, e1, f1, f2, f3, f4⟩ := x_odds h hT ha hc (k := 0) (by decide) lam
  obtain ⟨⟨v, s'⟩, e2, q1, q2⟩ := m_turns h hT ha hc (-4) (nI wh) (sM p T a c) (Or.inl ⟨rfl, rfl⟩)
  dsimp only at f1 f2 f3 f4 q1 q2
  have hl := sM_le hT p a c (Nat.le_refl 1024)
  have e1 : f_X0_findOdds σ lam (nI T) (nI a) (nI c) 0 = some (s, la) := e1
  refine ⟨v, s, la, s', ?_, ?_, h.fr f1.fx q2.fm⟩
  · rw [e1, oB_s]
    dsimp only
    rw [f3, f4, x_low (by omega) (by decide) (by decide), oB_s, q1]
  · rw [e2, oB_s]
end LU
