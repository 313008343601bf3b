/-! PLAIN LAW: the model's sums, lots -/
def shW (w : Int → Int) (b k : Int) : Int := w (139 + 61 * b + 1 + k)
def stW (w : Int → Int) (b k : Int) : Int := if k = 0 then 1 else bI (¬ w (139 + 61 * b + 1 + k) = w (139 + 61 * b + 1 + (k - 1)))
def lotsW (w : Int → Int) (b : Int) : Int := sF (stW w b) 0 (w (139 + 61 * b)).toNat
def oF (g : Int → Int32) : Int → Nat → Int32 → Int32
  | _, 0, a => a
  | k, n + 1, a => oF g (k + 1) n (a ||| g k)
def setW (w : Int → Int) (b : Int) : Int32 := oF (fun k => Int32.ofInt 1 <<< (Int32.ofInt (w (139 + 61 * b + 1 + k)) &&& Int32.ofInt 31)) 0 (w (139 + 61 * b)).toNat (Int32.ofInt 0)
def flrW (w : Int → Int) (f : Int) : Int := w (383 + 4 * f + 0) * pt (w (383 + 4 * f + 1))
def sumW (w : Int → Int) (what : Int) : Int := if what = 1 then sF (pinW w) 0 4 else if what = 2 then sF (flrW w) 0 2 else if what = 3 then sF (fun k => w (391 + 5 * k + 0)) 0 3 else 0
section MODEL
variable {G0 G : aH} {M : Nat} {μ : Nat → Int → Int} {N : Int}
theorem pm_sum3 {Q : Int32 → aH → Prop} (hM : MM G0 G M μ) : ∀ (n : Nat) (a k : Int), 0 ≤ k → k + n = 3 → Q (Int32.ofInt (a + sF (fun k => μ 1 (391 + 5 * k + 0)) k n)) G → tw_X8_sum_b67 Q (n + 1) G M (Int32.ofInt 3) (Int32.ofInt a) (Int32.ofInt k)
  | 0, a, k, hk, hn, h => by
    rw [tws_X8_sum_b67]
    simp (disch := omega) only [n_nat, n_add, n_sub, n_mul, n_neg, n_le, n_lt, n_eq, n_div, n_tn, n_if, Int.cast_ofNat_Int]
    refine ⟨fun _ => ?_, fun c => by omega⟩
    rw [sF_0, Int.add_zero] at h; exact h
  | n + 1, a, k, hk, hn, h => by
    rw [tws_X8_sum_b67]
    simp (disch := omega) only [n_nat, n_add, n_sub, n_mul, n_neg, n_le, n_lt, n_eq, n_div, n_tn, n_if, Int.cast_ofNat_Int]
    rw [sF_s, ← Int.add_assoc] at h
    refine ⟨fun c => by omega, fun _ => ⟨fun c => absurd trivial c, fun _ => ⟨hM.o, pm_store hM (by omega) (by omega) ?_⟩⟩⟩
    intro x hx y hy
    try simp (disch := omega) only [n_nat, n_add, n_sub, n_mul, n_neg, n_le, n_lt, n_eq, n_div, n_tn, n_if, Int.cast_ofNat_Int] at hx hy
    subst hx hy
    exact pm_sum3 hM n _ _ (by omega) (by omega) h
theorem pm_sum65 {Q : Int32 → aH → Prop} (hM : MM G0 G M μ) {what : Int} (hw : 1 ≤ what ∧ what ≤ 3) {a : Int} (h : Q (Int32.ofInt (a + if what = 3 then sF (fun k => μ 1 (391 + 5 * k + 0)) 0 3 else 0)) G) : tw_X8_sum_b65 Q G M (Int32.ofInt what) (Int32.ofInt a) := by
  unfold tw_X8_sum_b65
  by_cases c : what = 3
  · subst c
    rw [if_pos rfl] at h
    exact ⟨_, pm_sum3 hM 3 a 0 (by omega) (by omega) h⟩
  · rw [if_neg c, Int.add_zero] at h
    refine ⟨1, ?_⟩
    rw [tws_X8_sum_b67]
    simp (disch := omega) only [n_nat, n_add, n_sub, n_mul, n_neg, n_le, n_lt, n_eq, n_div, n_tn, n_if, Int.cast_ofNat_Int]
    exact ⟨fun _ => h, fun _ => ⟨fun _ => h, fun d => absurd d c⟩⟩
theorem pm_sum2 {Q : Int32 → aH → Prop} (hM : MM G0 G M μ) (hW : WI N (μ 1)) : ∀ (n : Nat) (a k : Int), 0 ≤ k → k + n = 2 → Q (Int32.ofInt (a + sF (flrW (μ 1)) k n)) G → tw_X8_sum_b30 Q (n + 1) G M (Int32.ofInt 2) (Int32.ofInt a) (Int32.ofInt k)
  | 0, a, k, hk, hn, h => by
    rw [tws_X8_sum_b30]
    simp (disch := omega) only [n_nat, n_add, n_sub, n_mul, n_neg, n_le, n_lt, n_eq, n_div, n_tn, n_if, Int.cast_ofNat_Int]
    refine ⟨fun _ => pm_sum65 hM (by omega) ?_, fun c => by omega⟩
    rw [sF_0] at h; exact h
  | n + 1, a, k, hk, hn, h => by
    have hf := (hW.2.2.2.2.1 k hk (by omega)).2.1
    rw [tws_X8_sum_b30]
    simp (disch := omega) only [n_nat, n_add, n_sub, n_mul, n_neg, n_le, n_lt, n_eq, n_div, n_tn, n_if, Int.cast_ofNat_Int]
    rw [sF_s, ← Int.add_assoc] at h
    refine ⟨fun c => by omega, fun _ => ⟨fun c => absurd trivial c, fun _ => ⟨hM.o, pm_floor hM (by omega) (by omega) ⟨hM.o, pm_floor hM (by omega) (by omega) (pm_pints (by omega) ?_)⟩⟩⟩⟩
    intro x hx y hy
    try simp (disch := omega) only [n_nat, n_add, n_sub, n_mul, n_neg, n_le, n_lt, n_eq, n_div, n_tn, n_if, Int.cast_ofNat_Int] at hx hy
    subst hx hy
    exact pm_sum2 hM hW n _ _ (by omega) (by omega) h
theorem pm_sum28 {Q : Int32 → aH → Prop} (hM : MM G0 G M μ) (hW : WI N (μ 1)) {what : Int} (hw : 1 ≤ what ∧ what ≤ 3) {a : Int} (h : Q (Int32.ofInt (a + if what = 2 then sF (flrW (μ 1)) 0 2 else if what = 3 then sF (fun k => μ 1 (391 + 5 * k + 0)) 0 3 else 0)) G) : tw_X8_sum_b28 Q G M (Int32.ofInt what) (Int32.ofInt a) := by
  unfold tw_X8_sum_b28
  by_cases c : what = 2
  · subst c
    rw [if_pos rfl] at h
    exact ⟨_, pm_sum2 hM hW 2 a 0 (by omega) (by omega) h⟩
  · rw [if_neg c] at h
    refine ⟨1, ?_⟩
    rw [tws_X8_sum_b30]
    simp (disch := omega) only [n_nat, n_add, n_sub, n_mul, n_neg, n_le, n_lt, n_eq, n_div, n_tn, n_if, Int.cast_ofNat_Int]
    exact ⟨fun _ => pm_sum65 hM hw h, fun _ => ⟨fun _ => pm_sum65 hM hw h, fun d => absurd d c⟩⟩
theorem pm_sum1 {Q : Int32 → aH → Prop} (hM : MM G0 G M μ) (hW : WI N (μ 1)) : ∀ (n : Nat) (a k : Int), 0 ≤ k → k + n = 4 → Q (Int32.ofInt (a + sF (pinW (μ 1)) k n)) G → tw_X8_sum_b4 Q (n + 1) G M (Int32.ofInt 1) (Int32.ofInt a) (Int32.ofInt k)
  | 0, a, k, hk, hn, h => by
    rw [tws_X8_sum_b4]
    simp (disch := omega) only [n_nat, n_add, n_sub, n_mul, n_neg, n_le, n_lt, n_eq, n_div, n_tn, n_if, Int.cast_ofNat_Int]
    refine ⟨fun _ => pm_sum28 hM hW (by omega) ?_, fun c => by omega⟩
    rw [sF_0] at h; exact h
  | n + 1, a, k, hk, hn, h => by
    rw [tws_X8_sum_b4]
    simp (disch := omega) only [n_nat, n_add, n_sub, n_mul, n_neg, n_le, n_lt, n_eq, n_div, n_tn, n_if, Int.cast_ofNat_Int]
    rw [sF_s, ← Int.add_assoc] at h
    refine ⟨fun c => by omega, fun _ => ⟨fun c => absurd trivial c, fun _ => ⟨hM.o, pm_pintsIn hM hW (by omega) (by omega) ?_⟩⟩⟩
    intro x hx y hy
    try simp (disch := omega) only [n_nat, n_add, n_sub, n_mul, n_neg, n_le, n_lt, n_eq, n_div, n_tn, n_if, Int.cast_ofNat_Int] at hx hy
    subst hx hy
    exact pm_sum1 hM hW n _ _ (by omega) (by omega) h
theorem pm_sum {Q : Int32 → aH → Prop} (hM : MM G0 G M μ) (hW : WI N (μ 1)) {what : Int} (hw : 1 ≤ what ∧ what ≤ 3) (h : Q (Int32.ofInt (sumW (μ 1) what)) G) : tw_X8_sum Q G M (Int32.ofInt what) := by
  unfold tw_X8_sum
  unfold sumW at h
  by_cases c : what = 1
  · subst c
    rw [if_pos rfl] at h
    exact ⟨_, pm_sum1 hM hW 4 0 0 (by omega) (by omega) (by rw [Int.zero_add]; exact h)⟩
  · rw [if_neg c, ← Int.zero_add (ite _ _ _)] at h
    refine ⟨1, ?_⟩
    rw [tws_X8_sum_b4]
    simp (disch := omega) only [n_nat, n_add, n_sub, n_mul, n_neg, n_le, n_lt, n_eq, n_div, n_tn, n_if, Int.cast_ofNat_Int]
    exact ⟨fun _ => pm_sum28 hM hW hw h, fun _ => ⟨fun _ => pm_sum28 hM hW hw h, fun d => absurd d c⟩⟩
theorem pm_lotsOf_l {Q : Int32 → aH → Prop} (hM : MM G0 G M μ) (hW : WI N (μ 1)) {b : Int} (h1 : 0 ≤ b) (h2 : b ≤ 3) : ∀ (n : Nat) (a k : Int), 0 ≤ k → k + n = μ 1 (139 + 61 * b) → Q (Int32.ofInt (a + sF (stW (μ 1) b) k n)) G → tw_X8_lotsOf_b4 Q (n + 1) G M (Int32.ofInt b) (Int32.ofInt a) (Int32.ofInt k)
  | 0, a, k, hk, hn, h => by
    have hb := (hW.2.2.2.1 b h1 h2).1
    rw [tws_X8_lotsOf_b4]
    simp (disch := omega) only [n_nat, n_add, n_sub, n_mul, n_neg, n_le, n_lt, n_eq, n_div, n_tn, n_if, Int.cast_ofNat_Int, MM.o hM, MM.r0 hM, MM.r1 hM, MM.r2 hM, MM.r3 hM, MM.r4 hM, MM.r8 hM, MM.r9 hM, MM.r10 hM, MM.r13 hM, MM.r16 hM, MM.r21 hM, MM.r22 hM, MM.a1 hM, MM.a2 hM, MM.a3 hM, MM.a4 hM, MM.a5 hM, MM.a6 hM, MM.a7 hM, MM.a8 hM, MM.a9 hM, MM.a10 hM, MM.a11 hM, MM.a12 hM, MM.d1 hM, MM.d2 hM, MM.d3 hM, MM.d4 hM, MM.d5 hM, MM.d6 hM, MM.d7 hM, MM.d8 hM, MM.d9 hM, MM.d10 hM, MM.d11 hM, MM.d12 hM, MM.fl hM, true_and]
    refine pm_inBay hM h1 h2 ⟨fun _ => ?_, fun c => ?_⟩
    · rw [sF_0, Int.add_zero] at h; exact h
    · rw [n_le (by omega) (by omega)] at c; omega
  | n + 1, a, k, hk, hn, h => by
    have hb := (hW.2.2.2.1 b h1 h2).1
    have hs := (hW.2.2.2.1 b h1 h2).2 k hk (by omega)
    have h0 := hW.2.1
    rw [tws_X8_lotsOf_b4]
    simp (disch := omega) only [n_nat, n_add, n_sub, n_mul, n_neg, n_le, n_lt, n_eq, n_div, n_tn, n_if, Int.cast_ofNat_Int, MM.o hM, MM.r0 hM, MM.r1 hM, MM.r2 hM, MM.r3 hM, MM.r4 hM, MM.r8 hM, MM.r9 hM, MM.r10 hM, MM.r13 hM, MM.r16 hM, MM.r21 hM, MM.r22 hM, MM.a1 hM, MM.a2 hM, MM.a3 hM, MM.a4 hM, MM.a5 hM, MM.a6 hM, MM.a7 hM, MM.a8 hM, MM.a9 hM, MM.a10 hM, MM.a11 hM, MM.a12 hM, MM.d1 hM, MM.d2 hM, MM.d3 hM, MM.d4 hM, MM.d5 hM, MM.d6 hM, MM.d7 hM, MM.d8 hM, MM.d9 hM, MM.d10 hM, MM.d11 hM, MM.d12 hM, MM.fl hM, true_and]
    rw [sF_s, ← Int.add_assoc] at h
    refine pm_inBay hM h1 h2 ⟨fun c => ?_, fun c => ⟨fun d => ?_, fun d => ⟨hM.o, ?_⟩⟩⟩
    · rw [n_le (by omega) (by omega)] at c; omega
    · unfold tw_X8_lotsOf_b35 tw_X8_lotsOf_b40
      intro x hx y hy
      try simp (disch := omega) only [n_nat, n_add, n_sub, n_mul, n_neg, n_le, n_lt, n_eq, n_div, n_tn, n_if, Int.cast_ofNat_Int] at hx hy
      subst hx hy
      unfold stW at h
      rw [if_pos d] at h
      exact pm_lotsOf_l hM hW h1 h2 n _ _ (by omega) (by omega) h
    · have hs1 := (hW.2.2.2.1 b h1 h2).2 (k - 1) (by omega) (by omega)
      unfold stW at h
      rw [if_neg d] at h
      refine pm_sheaf hM h1 h2 hk (by omega) ⟨hM.o, pm_sheaf hM h1 h2 (by omega) (by omega) ⟨fun e => ?_, fun e => ?_⟩⟩ <;> rw [n_eq (by omega) (by omega)] at e
      · unfold tw_X8_lotsOf_b40
        intro x hx y hy
        try simp (disch := omega) only [n_nat, n_add, n_sub, n_mul, n_neg, n_le, n_lt, n_eq, n_div, n_tn, n_if, Int.cast_ofNat_Int] at hx hy
        subst hx hy
        rw [bI_f (by omega)] at h
        exact pm_lotsOf_l hM hW h1 h2 n _ _ (by omega) (by omega) h
      · unfold tw_X8_lotsOf_b35 tw_X8_lotsOf_b40
        intro x hx y hy
        try simp (disch := omega) only [n_nat, n_add, n_sub, n_mul, n_neg, n_le, n_lt, n_eq, n_div, n_tn, n_if, Int.cast_ofNat_Int] at hx hy
        subst hx hy
        rw [bI_t e] at h
        exact pm_lotsOf_l hM hW h1 h2 n _ _ (by omega) (by omega) h
theorem pm_lotsOf {Q : Int32 → aH → Prop} (hM : MM G0 G M μ) (hW : WI N (μ 1)) {b : Int} (h1 : 0 ≤ b) (h2 : b ≤ 3) (h : Q (Int32.ofInt (lotsW (μ 1) b)) G) : tw_X8_lotsOf Q G M (Int32.ofInt b) := by
  have hb := (hW.2.2.2.1 b h1 h2).1
  unfold tw_X8_lotsOf
  exact ⟨_, pm_lotsOf_l hM hW h1 h2 (μ 1 (139 + 61 * b)).toNat 0 0 (by omega) (by omega) (by rw [Int.zero_add]; exact h)⟩
theorem pm_parishesIn_l {Q : Int32 → aH → Prop} (hM : MM G0 G M μ) (hW : WI N (μ 1)) {b : Int} (h1 : 0 ≤ b) (h2 : b ≤ 3) : ∀ (n : Nat) (a : Int32) (k : Int), 0 ≤ k → k + n = μ 1 (139 + 61 * b) → Q (oF (fun k => Int32.ofInt 1 <<< (Int32.ofInt (μ 1 (139 + 61 * b + 1 + k)) &&& Int32.ofInt 31)) k n a) G → tw_X8_parishesIn_b4 Q (n + 1) G M (Int32.ofInt b) a (Int32.ofInt k)
  | 0, a, k, hk, hn, h => by
    have hb := (hW.2.2.2.1 b h1 h2).1
    rw [tws_X8_parishesIn_b4]
    simp (disch := omega) only [n_nat, n_add, n_sub, n_mul, n_neg, n_le, n_lt, n_eq, n_div, n_tn, n_if, Int.cast_ofNat_Int, MM.o hM, MM.r0 hM, MM.r1 hM, MM.r2 hM, MM.r3 hM, MM.r4 hM, MM.r8 hM, MM.r9 hM, MM.r10 hM, MM.r13 hM, MM.r16 hM, MM.r21 hM, MM.r22 hM, MM.a1 hM, MM.a2 hM, MM.a3 hM, MM.a4 hM, MM.a5 hM, MM.a6 hM, MM.a7 hM, MM.a8 hM, MM.a9 hM, MM.a10 hM, MM.a11 hM, MM.a12 hM, MM.d1 hM, MM.d2 hM, MM.d3 hM, MM.d4 hM, MM.d5 hM, MM.d6 hM, MM.d7 hM, MM.d8 hM, MM.d9 hM, MM.d10 hM, MM.d11 hM, MM.d12 hM, MM.fl hM, true_and]
    refine pm_inBay hM h1 h2 ⟨fun _ => ?_, fun c => ?_⟩
    · exact h
    · rw [n_le (by omega) (by omega)] at c; omega
  | n + 1, a, k, hk, hn, h => by
    have hb := (hW.2.2.2.1 b h1 h2).1
    rw [tws_X8_parishesIn_b4]
    simp (disch := omega) only [n_nat, n_add, n_sub, n_mul, n_neg, n_le, n_lt, n_eq, n_div, n_tn, n_if, Int.cast_ofNat_Int, MM.o hM, MM.r0 hM, MM.r1 hM, MM.r2 hM, MM.r3 hM, MM.r4 hM, MM.r8 hM, MM.r9 hM, MM.r10 hM, MM.r13 hM, MM.r16 hM, MM.r21 hM, MM.r22 hM, MM.a1 hM, MM.a2 hM, MM.a3 hM, MM.a4 hM, MM.a5 hM, MM.a6 hM, MM.a7 hM, MM.a8 hM, MM.a9 hM, MM.a10 hM, MM.a11 hM, MM.a12 hM, MM.d1 hM, MM.d2 hM, MM.d3 hM, MM.d4 hM, MM.d5 hM, MM.d6 hM, MM.d7 hM, MM.d8 hM, MM.d9 hM, MM.d10 hM, MM.d11 hM, MM.d12 hM, MM.fl hM, true_and]
    refine pm_inBay hM h1 h2 ⟨fun c => ?_, fun c => ?_⟩
    · rw [n_le (by omega) (by omega)] at c; omega
    · refine ⟨hM.o, pm_sheaf hM h1 h2 hk (by omega) ?_⟩
      intro x hx y hy
      try simp (disch := omega) only [n_nat, n_add, n_sub, n_mul, n_neg, n_le, n_lt, n_eq, n_div, n_tn, n_if, Int.cast_ofNat_Int] at hx hy
      subst hx hy
      exact pm_parishesIn_l hM hW h1 h2 n _ _ (by omega) (by omega) h
theorem pm_parishesIn {Q : Int32 → aH → Prop} (hM : MM G0 G M μ) (hW : WI N (μ 1)) {b : Int} (h1 : 0 ≤ b) (h2 : b ≤ 3) (h : Q (setW (μ 1) b) G) : tw_X8_parishesIn Q G M (Int32.ofInt b) := by
  have hb := (hW.2.2.2.1 b h1 h2).1
  unfold tw_X8_parishesIn
  simp (disch := omega) only [n_nat, n_add, n_sub, n_mul, n_neg, n_le, n_lt, n_eq, n_div, n_tn, n_if, Int.cast_ofNat_Int]
  exact ⟨_, pm_parishesIn_l hM hW h1 h2 (μ 1 (139 + 61 * b)).toNat _ 0 (by omega) (by omega) h⟩
/-- the size of the lot that begins at `fr`: m -/
theorem pm_lotSize_l {Q : Int32 → aH → Prop} (hM : MM G0 G M μ) (hW : WI N (μ 1)) {b fr m : Int} (h1 : 0 ≤ b) (h2 : b ≤ 3) (hf : 0 ≤ fr) (hf2 : fr < μ 1 (139 + 61 * b)) (hm : fr + m ≤ μ 1 (139 + 61 * b)) (he : ∀ j, fr ≤ j → j < fr + m → μ 1 (139 + 61 * b + 1 + j) = μ 1 (139 + 61 * b + 1 + fr)) (hend : fr + m = μ 1 (139 + 61 * b) ∨ ¬ μ 1 (139 + 61 * b + 1 + (fr + m)) = μ 1 (139 + 61 * b + 1 + fr)) (h : Q (Int32.ofInt m) G) : ∀ (n : Nat) (k : Int), fr ≤ k → k + n = fr + m → tw_X8_lotSize_b2 Q (n + 1) G M (Int32.ofInt b) (Int32.ofInt fr) (Int32.ofInt k)
  | 0, k, hk, hn => by
    have hb := (hW.2.2.2.1 b h1 h2).1
    have h0 := hW.2.1
    have hs := (hW.2.2.2.1 b h1 h2).2 fr hf hf2
    have ek : k = fr + m := by omega
    subst ek
    rw [tws_X8_lotSize_b2]
    simp (disch := omega) only [n_nat, n_add, n_sub, n_mul, n_neg, n_le, n_lt, n_eq, n_div, n_tn, n_if, Int.cast_ofNat_Int, MM.o hM, MM.r0 hM, MM.r1 hM, MM.r2 hM, MM.r3 hM, MM.r4 hM, MM.r8 hM, MM.r9 hM, MM.r10 hM, MM.r13 hM, MM.r16 hM, MM.r21 hM, MM.r22 hM, MM.a1 hM, MM.a2 hM, MM.a3 hM, MM.a4 hM, MM.a5 hM, MM.a6 hM, MM.a7 hM, MM.a8 hM, MM.a9 hM, MM.a10 hM, MM.a11 hM, MM.a12 hM, MM.d1 hM, MM.d2 hM, MM.d3 hM, MM.d4 hM, MM.d5 hM, MM.d6 hM, MM.d7 hM, MM.d8 hM, MM.d9 hM, MM.d10 hM, MM.d11 hM, MM.d12 hM, MM.fl hM, true_and]
    refine pm_inBay hM h1 h2 ⟨fun _ => ?_, fun c => ?_⟩
    · rw [show fr + m - fr = m by omega]; exact h
    · rw [n_le (by omega) (by omega)] at c
      have hs2 := (hW.2.2.2.1 b h1 h2).2 (fr + m) (by omega) (by omega)
      refine ⟨hM.o, pm_sheaf hM h1 h2 (by omega) (by omega) ⟨hM.o, pm_sheaf hM h1 h2 (by omega) (by omega) ⟨fun _ => ?_, fun e => ?_⟩⟩⟩
      · rw [show fr + m - fr = m by omega]; exact h
      · rw [n_eq (by omega) (by omega)] at e
        rcases hend with z | z
        · omega
        · exact absurd e z
  | n + 1, k, hk, hn => by
    have hb := (hW.2.2.2.1 b h1 h2).1
    have h0 := hW.2.1
    have hs := (hW.2.2.2.1 b h1 h2).2 fr hf hf2
    have hs2 := (hW.2.2.2.1 b h1 h2).2 k (by omega) (by omega)
    have he2 := he k hk (by omega)
    rw [tws_X8_lotSize_b2]
    simp (disch := omega) only [n_nat, n_add, n_sub, n_mul, n_neg, n_le, n_lt, n_eq, n_div, n_tn, n_if, Int.cast_ofNat_Int, MM.o hM, MM.r0 hM, MM.r1 hM, MM.r2 hM, MM.r3 hM, MM.r4 hM, MM.r8 hM, MM.r9 hM, MM.r10 hM, MM.r13 hM, MM.r16 hM, MM.r21 hM, MM.r22 hM, MM.a1 hM, MM.a2 hM, MM.a3 hM, MM.a4 hM, MM.a5 hM, MM.a6 hM, MM.a7 hM, MM.a8 hM, MM.a9 hM, MM.a10 hM, MM.a11 hM, MM.a12 hM, MM.d1 hM, MM.d2 hM, MM.d3 hM, MM.d4 hM, MM.d5 hM, MM.d6 hM, MM.d7 hM, MM.d8 hM, MM.d9 hM, MM.d10 hM, MM.d11 hM, MM.d12 hM, MM.fl hM, true_and]
    refine pm_inBay hM h1 h2 ⟨fun c => ?_, fun c => ?_⟩
    · rw [n_le (by omega) (by omega)] at c; omega
    · refine ⟨hM.o, pm_sheaf hM h1 h2 (by omega) (by omega) ⟨hM.o, pm_sheaf hM h1 h2 (by omega) (by omega) ⟨fun e => ?_, fun e => ?_⟩⟩⟩
      · rw [n_eq (by omega) (by omega)] at e
        omega
      · intro x hx
        try simp (disch := omega) only [n_nat, n_add, n_sub, n_mul, n_neg, n_le, n_lt, n_eq, n_div, n_tn, n_if, Int.cast_ofNat_Int] at hx
        subst hx
        exact pm_lotSize_l hM hW h1 h2 hf hf2 hm he hend h n _ (by omega) (by omega)
theorem pm_lotSize {Q : Int32 → aH → Prop} (hM : MM G0 G M μ) (hW : WI N (μ 1)) {b fr m : Int} (h1 : 0 ≤ b) (h2 : b ≤ 3) (hf : 0 ≤ fr) (hf2 : fr < μ 1 (139 + 61 * b)) (hm0 : 0 ≤ m) (hm : fr + m ≤ μ 1 (139 + 61 * b)) (he : ∀ j, fr ≤ j → j < fr + m → μ 1 (139 + 61 * b + 1 + j) = μ 1 (139 + 61 * b + 1 + fr)) (hend : fr + m = μ 1 (139 + 61 * b) ∨ ¬ μ 1 (139 + 61 * b + 1 + (fr + m)) = μ 1 (139 + 61 * b + 1 + fr)) (h : Q (Int32.ofInt m) G) : tw_X8_lotSize Q G M (Int32.ofInt b) (Int32.ofInt fr) := by
  unfold tw_X8_lotSize
  exact ⟨_, pm_lotSize_l hM hW h1 h2 hf hf2 hm he hend h m.toNat fr (by omega) (by omega)⟩
end MODEL
