/-! PLAIN LAW: the model's methods that ask -/
section MODEL
variable {G0 G : aH} {M : Nat} {μ : Nat → Int → Int}
theorem pm_of {Q : Int32 → aH → Prop} (hM : MM G0 G M μ) {p what : Int} (h1 : 0 ≤ 1 + 23 * p + what) (h2 : 1 + 23 * p + what < 433) (h : Q (Int32.ofInt (μ 1 (1 + 23 * p + what))) G) : tw_X8_of Q G M (Int32.ofInt p) (Int32.ofInt what) := by
  unfold tw_X8_of
  simp (disch := omega) only [n_nat, n_add, n_sub, n_mul, n_neg, n_le, n_lt, n_eq, n_div, n_tn, n_if, Int.cast_ofNat_Int, MM.o hM, MM.r0 hM, MM.r1 hM, MM.r2 hM, MM.r3 hM, MM.r4 hM, MM.r8 hM, MM.r9 hM, MM.r10 hM, MM.r13 hM, MM.r16 hM, MM.r21 hM, MM.r22 hM, MM.a1 hM, MM.a2 hM, MM.a3 hM, MM.a4 hM, MM.a5 hM, MM.a6 hM, MM.a7 hM, MM.a8 hM, MM.a9 hM, MM.a10 hM, MM.a11 hM, MM.a12 hM, MM.d1 hM, MM.d2 hM, MM.d3 hM, MM.d4 hM, MM.d5 hM, MM.d6 hM, MM.d7 hM, MM.d8 hM, MM.d9 hM, MM.d10 hM, MM.d11 hM, MM.d12 hM, MM.fl hM, true_and]
  exact h
theorem pm_pints {Q : Int32 → aH → Prop} {k : Int} (h1 : -2147483648 ≤ k ∧ k < 2147483648) (h : Q (Int32.ofInt (pt k)) G) : tw_X8_pints Q G (Int32.ofInt k) := by
  unfold tw_X8_pints
  unfold pt at h
  simp (disch := omega) only [n_nat, n_add, n_sub, n_mul, n_neg, n_le, n_lt, n_eq, n_div, n_tn, n_if, Int.cast_ofNat_Int]
  refine ⟨fun h0 => ⟨fun h2 => ?_, fun h2 => ?_⟩, fun h0 => ?_⟩
  · rw [if_neg h0, if_neg h2] at h; exact h
  · rw [if_neg h0, if_pos h2] at h; exact h
  · rw [if_pos h0] at h; exact h
theorem pm_isIn {Q : Int32 → aH → Prop} {v lo hi : Int} (h1 : -2147483648 ≤ v ∧ v < 2147483648) (h2 : -2147483648 ≤ lo ∧ lo < 2147483648) (h3 : -2147483648 ≤ hi ∧ hi < 2147483648) (h : Q (Int32.ofInt (bI (lo ≤ v ∧ v ≤ hi))) G) : tw_X8_isIn Q G (Int32.ofInt v) (Int32.ofInt lo) (Int32.ofInt hi) := by
  unfold tw_X8_isIn
  simp (disch := omega) only [n_nat, n_add, n_sub, n_mul, n_neg, n_le, n_lt, n_eq, n_div, n_tn, n_if, Int.cast_ofNat_Int]
  refine ⟨fun a => ?_, fun a => ⟨fun b => ?_, fun b => ?_⟩⟩
  · rw [bI_f (by omega)] at h; exact h
  · rw [bI_f (by omega)] at h; exact h
  · rw [bI_t (by omega)] at h; exact h
theorem pm_isParish {Q : Int32 → aH → Prop} (hM : MM G0 G M μ) {p : Int} (h1 : -2147483648 ≤ p ∧ p < 2147483648) (h2 : 0 ≤ μ 1 0 ∧ μ 1 0 ≤ 6) (h : Q (Int32.ofInt (bI (0 ≤ p ∧ p < μ 1 0))) G) : tw_X8_isParish Q G M (Int32.ofInt p) := by
  unfold tw_X8_isParish
  simp (disch := omega) only [n_nat, n_add, n_sub, n_mul, n_neg, n_le, n_lt, n_eq, n_div, n_tn, n_if, Int.cast_ofNat_Int, MM.o hM, MM.r0 hM, MM.r1 hM, MM.r2 hM, MM.r3 hM, MM.r4 hM, MM.r8 hM, MM.r9 hM, MM.r10 hM, MM.r13 hM, MM.r16 hM, MM.r21 hM, MM.r22 hM, MM.a1 hM, MM.a2 hM, MM.a3 hM, MM.a4 hM, MM.a5 hM, MM.a6 hM, MM.a7 hM, MM.a8 hM, MM.a9 hM, MM.a10 hM, MM.a11 hM, MM.a12 hM, MM.d1 hM, MM.d2 hM, MM.d3 hM, MM.d4 hM, MM.d5 hM, MM.d6 hM, MM.d7 hM, MM.d8 hM, MM.d9 hM, MM.d10 hM, MM.d11 hM, MM.d12 hM, MM.fl hM, true_and]
  refine pm_isIn h1 (by omega) (by omega) ?_
  simp (disch := omega) only [n_bn, true_and]
  rw [bI_cg (d := 0 ≤ p ∧ p < μ 1 0) (by omega)]
  exact h
theorem pm_isKind {Q : Int32 → aH → Prop} {p : Int} (h1 : -2147483648 ≤ p ∧ p < 2147483648) (h : Q (Int32.ofInt (bI (0 ≤ p ∧ p ≤ 2))) G) : tw_X8_isKind Q G (Int32.ofInt p) := by
  unfold tw_X8_isKind
  simp (disch := omega) only [n_nat, n_add, n_sub, n_mul, n_neg, n_le, n_lt, n_eq, n_div, n_tn, n_if, Int.cast_ofNat_Int]
  refine pm_isIn h1 (by omega) (by omega) ?_
  simp (disch := omega) only [n_bn, true_and]
  exact h
theorem pm_isBay {Q : Int32 → aH → Prop} {p : Int} (h1 : -2147483648 ≤ p ∧ p < 2147483648) (h : Q (Int32.ofInt (bI (0 ≤ p ∧ p ≤ 3))) G) : tw_X8_isBay Q G (Int32.ofInt p) := by
  unfold tw_X8_isBay
  simp (disch := omega) only [n_nat, n_add, n_sub, n_mul, n_neg, n_le, n_lt, n_eq, n_div, n_tn, n_if, Int.cast_ofNat_Int]
  refine pm_isIn h1 (by omega) (by omega) ?_
  simp (disch := omega) only [n_bn, true_and]
  exact h
theorem pm_isFloor {Q : Int32 → aH → Prop} {p : Int} (h1 : -2147483648 ≤ p ∧ p < 2147483648) (h : Q (Int32.ofInt (bI (0 ≤ p ∧ p ≤ 1))) G) : tw_X8_isFloor Q G (Int32.ofInt p) := by
  unfold tw_X8_isFloor
  simp (disch := omega) only [n_nat, n_add, n_sub, n_mul, n_neg, n_le, n_lt, n_eq, n_div, n_tn, n_if, Int.cast_ofNat_Int]
  refine pm_isIn h1 (by omega) (by omega) ?_
  simp (disch := omega) only [n_bn, true_and]
  exact h
theorem pm_isPlace {Q : Int32 → aH → Prop} {p : Int} (h1 : -2147483648 ≤ p ∧ p < 2147483648) (h : Q (Int32.ofInt (bI (0 ≤ p ∧ p ≤ 6))) G) : tw_X8_isPlace Q G (Int32.ofInt p) := by
  unfold tw_X8_isPlace
  simp (disch := omega) only [n_nat, n_add, n_sub, n_mul, n_neg, n_le, n_lt, n_eq, n_div, n_tn, n_if, Int.cast_ofNat_Int]
  refine pm_isIn h1 (by omega) (by omega) ?_
  simp (disch := omega) only [n_bn, true_and]
  exact h
theorem pm_floor {Q : Int32 → aH → Prop} (hM : MM G0 G M μ) {f what : Int} (h1 : 0 ≤ 383 + 4 * f + what) (h2 : 383 + 4 * f + what < 433) (h : Q (Int32.ofInt (μ 1 (383 + 4 * f + what))) G) : tw_X8_floor Q G M (Int32.ofInt f) (Int32.ofInt what) := by
  unfold tw_X8_floor
  simp (disch := omega) only [n_nat, n_add, n_sub, n_mul, n_neg, n_le, n_lt, n_eq, n_div, n_tn, n_if, Int.cast_ofNat_Int, MM.o hM, MM.r0 hM, MM.r1 hM, MM.r2 hM, MM.r3 hM, MM.r4 hM, MM.r8 hM, MM.r9 hM, MM.r10 hM, MM.r13 hM, MM.r16 hM, MM.r21 hM, MM.r22 hM, MM.a1 hM, MM.a2 hM, MM.a3 hM, MM.a4 hM, MM.a5 hM, MM.a6 hM, MM.a7 hM, MM.a8 hM, MM.a9 hM, MM.a10 hM, MM.a11 hM, MM.a12 hM, MM.d1 hM, MM.d2 hM, MM.d3 hM, MM.d4 hM, MM.d5 hM, MM.d6 hM, MM.d7 hM, MM.d8 hM, MM.d9 hM, MM.d10 hM, MM.d11 hM, MM.d12 hM, MM.fl hM, true_and]
  exact h
theorem pm_store {Q : Int32 → aH → Prop} (hM : MM G0 G M μ) {f what : Int} (h1 : 0 ≤ 391 + 5 * f + what) (h2 : 391 + 5 * f + what < 433) (h : Q (Int32.ofInt (μ 1 (391 + 5 * f + what))) G) : tw_X8_store Q G M (Int32.ofInt f) (Int32.ofInt what) := by
  unfold tw_X8_store
  simp (disch := omega) only [n_nat, n_add, n_sub, n_mul, n_neg, n_le, n_lt, n_eq, n_div, n_tn, n_if, Int.cast_ofNat_Int, MM.o hM, MM.r0 hM, MM.r1 hM, MM.r2 hM, MM.r3 hM, MM.r4 hM, MM.r8 hM, MM.r9 hM, MM.r10 hM, MM.r13 hM, MM.r16 hM, MM.r21 hM, MM.r22 hM, MM.a1 hM, MM.a2 hM, MM.a3 hM, MM.a4 hM, MM.a5 hM, MM.a6 hM, MM.a7 hM, MM.a8 hM, MM.a9 hM, MM.a10 hM, MM.a11 hM, MM.a12 hM, MM.d1 hM, MM.d2 hM, MM.d3 hM, MM.d4 hM, MM.d5 hM, MM.d6 hM, MM.d7 hM, MM.d8 hM, MM.d9 hM, MM.d10 hM, MM.d11 hM, MM.d12 hM, MM.fl hM, true_and]
  exact h
theorem pm_rats {Q : Int32 → aH → Prop} (hM : MM G0 G M μ) {p : Int} (h1 : 0 ≤ p) (h2 : p ≤ 6) (h : Q (Int32.ofInt (μ 1 (406 + 3 * p + 1))) G) : tw_X8_rats Q G M (Int32.ofInt p) := by
  unfold tw_X8_rats
  simp (disch := omega) only [n_nat, n_add, n_sub, n_mul, n_neg, n_le, n_lt, n_eq, n_div, n_tn, n_if, Int.cast_ofNat_Int, MM.o hM, MM.r0 hM, MM.r1 hM, MM.r2 hM, MM.r3 hM, MM.r4 hM, MM.r8 hM, MM.r9 hM, MM.r10 hM, MM.r13 hM, MM.r16 hM, MM.r21 hM, MM.r22 hM, MM.a1 hM, MM.a2 hM, MM.a3 hM, MM.a4 hM, MM.a5 hM, MM.a6 hM, MM.a7 hM, MM.a8 hM, MM.a9 hM, MM.a10 hM, MM.a11 hM, MM.a12 hM, MM.d1 hM, MM.d2 hM, MM.d3 hM, MM.d4 hM, MM.d5 hM, MM.d6 hM, MM.d7 hM, MM.d8 hM, MM.d9 hM, MM.d10 hM, MM.d11 hM, MM.d12 hM, MM.fl hM, true_and]
  exact h
theorem pm_inBay {Q : Int32 → aH → Prop} (hM : MM G0 G M μ) {b : Int} (h1 : 0 ≤ b) (h2 : b ≤ 3) (h : Q (Int32.ofInt (μ 1 (139 + 61 * b))) G) : tw_X8_inBay Q G M (Int32.ofInt b) := by
  unfold tw_X8_inBay
  simp (disch := omega) only [n_nat, n_add, n_sub, n_mul, n_neg, n_le, n_lt, n_eq, n_div, n_tn, n_if, Int.cast_ofNat_Int, MM.o hM, MM.r0 hM, MM.r1 hM, MM.r2 hM, MM.r3 hM, MM.r4 hM, MM.r8 hM, MM.r9 hM, MM.r10 hM, MM.r13 hM, MM.r16 hM, MM.r21 hM, MM.r22 hM, MM.a1 hM, MM.a2 hM, MM.a3 hM, MM.a4 hM, MM.a5 hM, MM.a6 hM, MM.a7 hM, MM.a8 hM, MM.a9 hM, MM.a10 hM, MM.a11 hM, MM.a12 hM, MM.d1 hM, MM.d2 hM, MM.d3 hM, MM.d4 hM, MM.d5 hM, MM.d6 hM, MM.d7 hM, MM.d8 hM, MM.d9 hM, MM.d10 hM, MM.d11 hM, MM.d12 hM, MM.fl hM, true_and]
  exact h
theorem pm_sheaf {Q : Int32 → aH → Prop} (hM : MM G0 G M μ) {b k : Int} (h1 : 0 ≤ b) (h2 : b ≤ 3) (h3 : 0 ≤ k) (h4 : k < 60) (h : Q (Int32.ofInt (μ 1 (139 + 61 * b + 1 + k))) G) : tw_X8_sheaf Q G M (Int32.ofInt b) (Int32.ofInt k) := by
  unfold tw_X8_sheaf
  simp (disch := omega) only [n_nat, n_add, n_sub, n_mul, n_neg, n_le, n_lt, n_eq, n_div, n_tn, n_if, Int.cast_ofNat_Int, MM.o hM, MM.r0 hM, MM.r1 hM, MM.r2 hM, MM.r3 hM, MM.r4 hM, MM.r8 hM, MM.r9 hM, MM.r10 hM, MM.r13 hM, MM.r16 hM, MM.r21 hM, MM.r22 hM, MM.a1 hM, MM.a2 hM, MM.a3 hM, MM.a4 hM, MM.a5 hM, MM.a6 hM, MM.a7 hM, MM.a8 hM, MM.a9 hM, MM.a10 hM, MM.a11 hM, MM.a12 hM, MM.d1 hM, MM.d2 hM, MM.d3 hM, MM.d4 hM, MM.d5 hM, MM.d6 hM, MM.d7 hM, MM.d8 hM, MM.d9 hM, MM.d10 hM, MM.d11 hM, MM.d12 hM, MM.fl hM, true_and]
  exact h
theorem pm_kindOf {Q : Int32 → aH → Prop} (hM : MM G0 G M μ) {b k : Int} (h1 : 0 ≤ b) (h2 : b ≤ 3) (h3 : 0 ≤ k) (h4 : k < 60) (h5 : 0 ≤ μ 1 (139 + 61 * b + 1 + k)) (h6 : μ 1 (139 + 61 * b + 1 + k) < 6) (h : Q (Int32.ofInt (μ 1 (1 + 23 * μ 1 (139 + 61 * b + 1 + k) + 0))) G) : tw_X8_kindOf Q G M (Int32.ofInt b) (Int32.ofInt k) := by
  unfold tw_X8_kindOf
  simp (disch := omega) only [n_nat, n_add, n_sub, n_mul, n_neg, n_le, n_lt, n_eq, n_div, n_tn, n_if, Int.cast_ofNat_Int, MM.o hM, MM.r0 hM, MM.r1 hM, MM.r2 hM, MM.r3 hM, MM.r4 hM, MM.r8 hM, MM.r9 hM, MM.r10 hM, MM.r13 hM, MM.r16 hM, MM.r21 hM, MM.r22 hM, MM.a1 hM, MM.a2 hM, MM.a3 hM, MM.a4 hM, MM.a5 hM, MM.a6 hM, MM.a7 hM, MM.a8 hM, MM.a9 hM, MM.a10 hM, MM.a11 hM, MM.a12 hM, MM.d1 hM, MM.d2 hM, MM.d3 hM, MM.d4 hM, MM.d5 hM, MM.d6 hM, MM.d7 hM, MM.d8 hM, MM.d9 hM, MM.d10 hM, MM.d11 hM, MM.d12 hM, MM.fl hM, true_and]
  refine pm_sheaf hM h1 h2 h3 h4 ⟨hM.o, ?_⟩
  exact pm_of hM (by omega) (by omega) h
theorem pm_dueOf_l {Q : Int32 → aH → Prop} (hM : MM G0 G M μ) {p : Int} (h1 : 0 ≤ p) (h2 : p < 6) (h3 : 0 ≤ μ 1 (1 + 23 * p + 4)) (h4 : μ 1 (1 + 23 * p + 4) ≤ 8) : ∀ (n : Nat) (a k : Int), 0 ≤ k → k + n = μ 1 (1 + 23 * p + 4) → Q (Int32.ofInt (a + sF (fun k => μ 1 (1 + 23 * p + (5 + 2 * k + 1))) k n)) G → tw_X8_dueOf_b4 Q (n + 1) G M (Int32.ofInt p) (Int32.ofInt a) (Int32.ofInt k)
  | 0, a, k, hk, hn, h => by
    rw [tws_X8_dueOf_b4]
    simp (disch := omega) only [n_nat, n_add, n_sub, n_mul, n_neg, n_le, n_lt, n_eq, n_div, n_tn, n_if, Int.cast_ofNat_Int, MM.o hM, MM.r0 hM, MM.r1 hM, MM.r2 hM, MM.r3 hM, MM.r4 hM, MM.r8 hM, MM.r9 hM, MM.r10 hM, MM.r13 hM, MM.r16 hM, MM.r21 hM, MM.r22 hM, MM.a1 hM, MM.a2 hM, MM.a3 hM, MM.a4 hM, MM.a5 hM, MM.a6 hM, MM.a7 hM, MM.a8 hM, MM.a9 hM, MM.a10 hM, MM.a11 hM, MM.a12 hM, MM.d1 hM, MM.d2 hM, MM.d3 hM, MM.d4 hM, MM.d5 hM, MM.d6 hM, MM.d7 hM, MM.d8 hM, MM.d9 hM, MM.d10 hM, MM.d11 hM, MM.d12 hM, MM.fl hM, true_and]
    refine pm_of hM (by omega) (by omega) ⟨fun _ => ?_, fun c => ?_⟩
    · rw [sF_0, Int.add_zero] at h; exact h
    · rw [n_le (by omega) (by omega)] at c; omega
  | n + 1, a, k, hk, hn, h => by
    rw [tws_X8_dueOf_b4]
    simp (disch := omega) only [n_nat, n_add, n_sub, n_mul, n_neg, n_le, n_lt, n_eq, n_div, n_tn, n_if, Int.cast_ofNat_Int, MM.o hM, MM.r0 hM, MM.r1 hM, MM.r2 hM, MM.r3 hM, MM.r4 hM, MM.r8 hM, MM.r9 hM, MM.r10 hM, MM.r13 hM, MM.r16 hM, MM.r21 hM, MM.r22 hM, MM.a1 hM, MM.a2 hM, MM.a3 hM, MM.a4 hM, MM.a5 hM, MM.a6 hM, MM.a7 hM, MM.a8 hM, MM.a9 hM, MM.a10 hM, MM.a11 hM, MM.a12 hM, MM.d1 hM, MM.d2 hM, MM.d3 hM, MM.d4 hM, MM.d5 hM, MM.d6 hM, MM.d7 hM, MM.d8 hM, MM.d9 hM, MM.d10 hM, MM.d11 hM, MM.d12 hM, MM.fl hM, true_and]
    refine pm_of hM (by omega) (by omega) ⟨fun c => ?_, fun c => ?_⟩
    · rw [n_le (by omega) (by omega)] at c; omega
    · refine ⟨hM.o, pm_of hM (by omega) (by omega) ?_⟩
      intro x hx y hy
      subst hx hy
      rw [n_add]
      refine pm_dueOf_l hM h1 h2 h3 h4 n _ _ (by omega) (by omega) ?_
      rw [sF_s, ← Int.add_assoc] at h
      exact h
theorem pm_dueOf {Q : Int32 → aH → Prop} (hM : MM G0 G M μ) {p : Int} (h1 : 0 ≤ p) (h2 : p < 6) (h3 : 0 ≤ μ 1 (1 + 23 * p + 4)) (h4 : μ 1 (1 + 23 * p + 4) ≤ 8) (h : Q (Int32.ofInt (sF (fun k => μ 1 (1 + 23 * p + (5 + 2 * k + 1))) 0 (μ 1 (1 + 23 * p + 4)).toNat)) G) : tw_X8_dueOf Q G M (Int32.ofInt p) := by
  unfold tw_X8_dueOf
  exact ⟨_, pm_dueOf_l hM h1 h2 h3 h4 (μ 1 (1 + 23 * p + 4)).toNat 0 0 (by omega) (by omega) (by rw [Int.zero_add]; exact h)⟩
theorem pm_total_l {Q : Int32 → aH → Prop} (hM : MM G0 G M μ) (h0 : 0 ≤ μ 1 0 ∧ μ 1 0 ≤ 6) {what : Int} (h1 : 0 ≤ what) (h2 : what ≤ 4) (hm : ∀ p, 0 ≤ p → p < 6 → 0 ≤ μ 1 (1 + 23 * p + 4) ∧ μ 1 (1 + 23 * p + 4) ≤ 8) (f : Int → Int) (hf : ∀ p, f p = if what = 4 then sF (fun k => μ 1 (1 + 23 * p + (5 + 2 * k + 1))) 0 (μ 1 (1 + 23 * p + 4)).toNat else μ 1 (1 + 23 * p + what)) : ∀ (n : Nat) (a k : Int), 0 ≤ k → k + n = μ 1 0 → Q (Int32.ofInt (a + sF f k n)) G → tw_X8_total_b4 Q (n + 1) G M (Int32.ofInt what) (Int32.ofInt a) (Int32.ofInt k)
  | 0, a, k, hk, hn, h => by
    rw [tws_X8_total_b4]
    simp (disch := omega) only [n_nat, n_add, n_sub, n_mul, n_neg, n_le, n_lt, n_eq, n_div, n_tn, n_if, Int.cast_ofNat_Int, MM.o hM, MM.r0 hM, MM.r1 hM, MM.r2 hM, MM.r3 hM, MM.r4 hM, MM.r8 hM, MM.r9 hM, MM.r10 hM, MM.r13 hM, MM.r16 hM, MM.r21 hM, MM.r22 hM, MM.a1 hM, MM.a2 hM, MM.a3 hM, MM.a4 hM, MM.a5 hM, MM.a6 hM, MM.a7 hM, MM.a8 hM, MM.a9 hM, MM.a10 hM, MM.a11 hM, MM.a12 hM, MM.d1 hM, MM.d2 hM, MM.d3 hM, MM.d4 hM, MM.d5 hM, MM.d6 hM, MM.d7 hM, MM.d8 hM, MM.d9 hM, MM.d10 hM, MM.d11 hM, MM.d12 hM, MM.fl hM, true_and]
    refine ⟨fun _ => ?_, fun c => by omega⟩
    rw [sF_0, Int.add_zero] at h; exact h
  | n + 1, a, k, hk, hn, h => by
    rw [tws_X8_total_b4]
    simp (disch := omega) only [n_nat, n_add, n_sub, n_mul, n_neg, n_le, n_lt, n_eq, n_div, n_tn, n_if, Int.cast_ofNat_Int, MM.o hM, MM.r0 hM, MM.r1 hM, MM.r2 hM, MM.r3 hM, MM.r4 hM, MM.r8 hM, MM.r9 hM, MM.r10 hM, MM.r13 hM, MM.r16 hM, MM.r21 hM, MM.r22 hM, MM.a1 hM, MM.a2 hM, MM.a3 hM, MM.a4 hM, MM.a5 hM, MM.a6 hM, MM.a7 hM, MM.a8 hM, MM.a9 hM, MM.a10 hM, MM.a11 hM, MM.a12 hM, MM.d1 hM, MM.d2 hM, MM.d3 hM, MM.d4 hM, MM.d5 hM, MM.d6 hM, MM.d7 hM, MM.d8 hM, MM.d9 hM, MM.d10 hM, MM.d11 hM, MM.d12 hM, MM.fl hM, true_and]
    rw [sF_s, ← Int.add_assoc] at h
    refine ⟨fun c => by omega, fun _ => ⟨fun c => ?_, fun c => ?_⟩⟩
    · refine pm_of hM (by omega) (by omega) ?_
      unfold tw_X8_total_b34
      intro x hx y hy
      try simp (disch := omega) only [n_nat, n_add, n_sub, n_mul, n_neg, n_le, n_lt, n_eq, n_div, n_tn, n_if, Int.cast_ofNat_Int] at hx hy
      subst hx hy
      refine pm_total_l hM h0 h1 h2 hm f hf n _ _ (by omega) (by omega) ?_
      rw [hf, if_neg c] at h
      exact h
    · have hq := hm k (by omega) (by omega)
      refine pm_dueOf hM (by omega) (by omega) hq.1 hq.2 ?_
      unfold tw_X8_total_b34
      intro x hx y hy
      try simp (disch := omega) only [n_nat, n_add, n_sub, n_mul, n_neg, n_le, n_lt, n_eq, n_div, n_tn, n_if, Int.cast_ofNat_Int] at hx hy
      subst hx hy
      refine pm_total_l hM h0 h1 h2 hm f hf n _ _ (by omega) (by omega) ?_
      rw [hf, if_pos c] at h
      exact h
theorem pm_total {Q : Int32 → aH → Prop} (hM : MM G0 G M μ) (h0 : 0 ≤ μ 1 0 ∧ μ 1 0 ≤ 6) {what : Int} (h1 : 0 ≤ what) (h2 : what ≤ 4) (hm : ∀ p, 0 ≤ p → p < 6 → 0 ≤ μ 1 (1 + 23 * p + 4) ∧ μ 1 (1 + 23 * p + 4) ≤ 8) (h : Q (Int32.ofInt (sF (fun p => if what = 4 then sF (fun k => μ 1 (1 + 23 * p + (5 + 2 * k + 1))) 0 (μ 1 (1 + 23 * p + 4)).toNat else μ 1 (1 + 23 * p + what)) 0 (μ 1 0).toNat)) G) : tw_X8_total Q G M (Int32.ofInt what) := by
  unfold tw_X8_total
  exact ⟨_, pm_total_l hM h0 h1 h2 hm _ (fun _ => rfl) (μ 1 0).toNat 0 0 (by omega) (by omega) (by rw [Int.zero_add]; exact h)⟩
theorem pm_allInBays_l {Q : Int32 → aH → Prop} (hM : MM G0 G M μ) : ∀ (n : Nat) (a k : Int), 0 ≤ k → k + n = 4 → Q (Int32.ofInt (a + sF (fun b => μ 1 (139 + 61 * b)) k n)) G → tw_X8_allInBays_b4 Q (n + 1) G M (Int32.ofInt a) (Int32.ofInt k)
  | 0, a, k, hk, hn, h => by
    rw [tws_X8_allInBays_b4]
    simp (disch := omega) only [n_nat, n_add, n_sub, n_mul, n_neg, n_le, n_lt, n_eq, n_div, n_tn, n_if, Int.cast_ofNat_Int, MM.o hM, MM.r0 hM, MM.r1 hM, MM.r2 hM, MM.r3 hM, MM.r4 hM, MM.r8 hM, MM.r9 hM, MM.r10 hM, MM.r13 hM, MM.r16 hM, MM.r21 hM, MM.r22 hM, MM.a1 hM, MM.a2 hM, MM.a3 hM, MM.a4 hM, MM.a5 hM, MM.a6 hM, MM.a7 hM, MM.a8 hM, MM.a9 hM, MM.a10 hM, MM.a11 hM, MM.a12 hM, MM.d1 hM, MM.d2 hM, MM.d3 hM, MM.d4 hM, MM.d5 hM, MM.d6 hM, MM.d7 hM, MM.d8 hM, MM.d9 hM, MM.d10 hM, MM.d11 hM, MM.d12 hM, MM.fl hM, true_and]
    refine ⟨fun _ => ?_, fun c => by omega⟩
    rw [sF_0, Int.add_zero] at h; exact h
  | n + 1, a, k, hk, hn, h => by
    rw [tws_X8_allInBays_b4]
    simp (disch := omega) only [n_nat, n_add, n_sub, n_mul, n_neg, n_le, n_lt, n_eq, n_div, n_tn, n_if, Int.cast_ofNat_Int, MM.o hM, MM.r0 hM, MM.r1 hM, MM.r2 hM, MM.r3 hM, MM.r4 hM, MM.r8 hM, MM.r9 hM, MM.r10 hM, MM.r13 hM, MM.r16 hM, MM.r21 hM, MM.r22 hM, MM.a1 hM, MM.a2 hM, MM.a3 hM, MM.a4 hM, MM.a5 hM, MM.a6 hM, MM.a7 hM, MM.a8 hM, MM.a9 hM, MM.a10 hM, MM.a11 hM, MM.a12 hM, MM.d1 hM, MM.d2 hM, MM.d3 hM, MM.d4 hM, MM.d5 hM, MM.d6 hM, MM.d7 hM, MM.d8 hM, MM.d9 hM, MM.d10 hM, MM.d11 hM, MM.d12 hM, MM.fl hM, true_and]
    rw [sF_s, ← Int.add_assoc] at h
    refine ⟨fun c => by omega, fun _ => ?_⟩
    refine pm_inBay hM (by omega) (by omega) ?_
    intro x hx y hy
    rw [n_add] at hx
    subst hx hy
    exact pm_allInBays_l hM n _ _ (by omega) (by omega) h
theorem pm_allInBays {Q : Int32 → aH → Prop} (hM : MM G0 G M μ) (h : Q (Int32.ofInt (sF (fun b => μ 1 (139 + 61 * b)) 0 4)) G) : tw_X8_allInBays Q G M := by
  unfold tw_X8_allInBays
  exact ⟨_, pm_allInBays_l hM 4 0 0 (by omega) (by omega) (by rw [Int.zero_add]; exact h)⟩
end MODEL
