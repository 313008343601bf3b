/-! PLAIN LAW: what the model's numbers keep to; more of its methods that ask -/
/-- how it is at all times: w is the row `now`, N bounds what is counted -/
def WI (N : Int) (w : Int → Int) : Prop :=
  (0 ≤ N ∧ N ≤ 720) ∧ (0 ≤ w 0 ∧ w 0 ≤ 6) ∧
  (∀ p, 0 ≤ p → p < 6 → (0 ≤ w (1 + 23 * p + 0) ∧ w (1 + 23 * p + 0) ≤ 2) ∧ (0 ≤ w (1 + 23 * p + 1) ∧ w (1 + 23 * p + 1) ≤ 1000 * N) ∧ 0 ≤ w (1 + 23 * p + 2) ∧ 0 ≤ w (1 + 23 * p + 3) ∧ (0 ≤ w (1 + 23 * p + 4) ∧ w (1 + 23 * p + 4) ≤ 8) ∧
    w (1 + 23 * p + 2) + w (1 + 23 * p + 3) + sF (fun k => w (1 + 23 * p + (5 + 2 * k + 1))) 0 (w (1 + 23 * p + 4)).toNat ≤ w (1 + 23 * p + 1) ∧
    (∀ k, 0 ≤ k → k < w (1 + 23 * p + 4) → 0 < w (1 + 23 * p + (5 + 2 * k + 1)) ∧ 0 ≤ w (1 + 23 * p + (5 + 2 * k)) ∧ w (1 + 23 * p + (5 + 2 * k)) ≤ w 428 ∧ w 428 ≤ w (1 + 23 * p + (5 + 2 * k)) + 7) ∧
    (∀ k, 0 ≤ k → k + 1 < w (1 + 23 * p + 4) → w (1 + 23 * p + (5 + 2 * k)) < w (1 + 23 * p + (5 + 2 * (k + 1)))) ∧
    (w 0 ≤ p → w (1 + 23 * p + 1) = 0 ∧ w (1 + 23 * p + 4) = 0)) ∧
  (∀ b, 0 ≤ b → b ≤ 3 → (0 ≤ w (139 + 61 * b) ∧ w (139 + 61 * b) ≤ 60) ∧ ∀ k, 0 ≤ k → k < w (139 + 61 * b) → 0 ≤ w (139 + 61 * b + 1 + k) ∧ w (139 + 61 * b + 1 + k) < w 0) ∧
  (∀ f, 0 ≤ f → f ≤ 1 → (0 ≤ w (383 + 4 * f + 0) ∧ w (383 + 4 * f + 0) ≤ 20) ∧ (0 ≤ w (383 + 4 * f + 1) ∧ w (383 + 4 * f + 1) ≤ 2) ∧ (1 ≤ w (383 + 4 * f + 2) ∧ w (383 + 4 * f + 2) ≤ 6)) ∧
  (∀ k, 0 ≤ k → k ≤ 2 → (0 ≤ w (391 + 5 * k + 0) ∧ w (391 + 5 * k + 0) ≤ 2000) ∧ (1 ≤ w (391 + 5 * k + 1) ∧ w (391 + 5 * k + 1) ≤ 50)) ∧
  (∀ p, 0 ≤ p → p ≤ 6 → (0 ≤ w (406 + 3 * p + 0) ∧ w (406 + 3 * p + 0) ≤ 2) ∧ (0 ≤ w (406 + 3 * p + 1) ∧ w (406 + 3 * p + 1) ≤ 50)) ∧
  (-1 ≤ w 427 ∧ w 427 ≤ 6) ∧ (0 ≤ w 428 ∧ w 428 ≤ 100000) ∧
  w 430 = sF (fun p => w (1 + 23 * p + 3) * pt (w (1 + 23 * p + 0))) 0 (w 0).toNat ∧
  w 431 = w (391 + 5 * 0 + 3) + w (391 + 5 * 1 + 3) + w (391 + 5 * 2 + 3)
/-- dues of a parish -/
def dueW (w : Int → Int) (p : Int) : Int := sF (fun k => w (1 + 23 * p + (5 + 2 * k + 1))) 0 (w (1 + 23 * p + 4)).toNat
/-- sheaves of a bay: pints, of a parish -/
def pinW (w : Int → Int) (b : Int) : Int := sF (fun k => pt (w (1 + 23 * w (139 + 61 * b + 1 + k) + 0))) 0 (w (139 + 61 * b)).toNat
def inbW (w : Int → Int) (p b : Int) : Int := sF (fun k => bI (w (139 + 61 * b + 1 + k) = p)) 0 (w (139 + 61 * b)).toNat
def ahd (w : Int → Int) (p q : Int) : Int := if w (1 + 23 * p + 2) = w (1 + 23 * q + 2) then (if dueW w p = dueW w q then bI (p < q) else bI (dueW w q < dueW w p)) else bI (w (1 + 23 * q + 2) < w (1 + 23 * p + 2))
def rnk (w : Int → Int) (p : Int) : Int := sF (fun q => if q = p then 0 else ahd w q p) 0 (w 0).toNat
/-- the last place from k on where f is v -/
def lst (f : Int → Int) (v : Int) : Int → Nat → Int → Int
  | _, 0, a => a
  | k, n + 1, a => lst f v (k + 1) n (if f k = v then k else a)
theorem WI.par {N : Int} {w : Int → Int} (h : WI N w) {p : Int} (h1 : 0 ≤ p) (h2 : p < 6) : (0 ≤ w (1 + 23 * p + 4) ∧ w (1 + 23 * p + 4) ≤ 8) ∧ (0 ≤ dueW w p ∧ dueW w p ≤ 720000) ∧ (0 ≤ w (1 + 23 * p + 2) ∧ w (1 + 23 * p + 2) ≤ 720000) ∧ (0 ≤ w (1 + 23 * p + 3) ∧ w (1 + 23 * p + 3) ≤ 720000) ∧ (0 ≤ w (1 + 23 * p + 1) ∧ w (1 + 23 * p + 1) ≤ 720000) ∧ (0 ≤ w (1 + 23 * p + 0) ∧ w (1 + 23 * p + 0) ≤ 2) := by
  have hN := h.1
  obtain ⟨a1, a2, a3, a4, a5, a6, a7, a8, -⟩ := h.2.2.1 p h1 h2
  have hd : 0 ≤ dueW w p := sF_nn _ _ (fun i g1 g2 => by have := (a7 i g1 (by omega)).1; omega)
  have hd2 : dueW w p = sF (fun k => w (1 + 23 * p + (5 + 2 * k + 1))) 0 (w (1 + 23 * p + 4)).toNat := rfl
  omega
section MODEL
variable {G0 G : aH} {M : Nat} {μ : Nat → Int → Int} {N : Int}
theorem pm_allAt_l {Q : Int32 → aH → Prop} (hM : MM G0 G M μ) {what : Int} (h1 : 0 ≤ what) (h2 : what ≤ 2) : ∀ (n : Nat) (a k : Int), 0 ≤ k → k + n = 7 → Q (Int32.ofInt (a + sF (fun p => μ 1 (406 + 3 * p + what)) k n)) G → tw_X8_allAt_b4 Q (n + 1) G M (Int32.ofInt what) (Int32.ofInt a) (Int32.ofInt k)
  | 0, a, k, hk, hn, h => by
    rw [tws_X8_allAt_b4]
    simp (disch := omega) only [n_nat, n_add, n_sub, n_mul, n_neg, n_le, n_lt, n_eq, n_div, n_tn, n_if, Int.cast_ofNat_Int, MM.o hM, MM.r0 hM, MM.r1 hM, MM.r2 hM, MM.r3 hM, MM.r4 hM, MM.r8 hM, MM.r9 hM, MM.r10 hM, MM.r13 hM, MM.r16 hM, MM.r21 hM, MM.r22 hM, MM.a1 hM, MM.a2 hM, MM.a3 hM, MM.a4 hM, MM.a5 hM, MM.a6 hM, MM.a7 hM, MM.a8 hM, MM.a9 hM, MM.a10 hM, MM.a11 hM, MM.a12 hM, MM.d1 hM, MM.d2 hM, MM.d3 hM, MM.d4 hM, MM.d5 hM, MM.d6 hM, MM.d7 hM, MM.d8 hM, MM.d9 hM, MM.d10 hM, MM.d11 hM, MM.d12 hM, MM.fl hM, true_and]
    refine ⟨fun _ => ?_, fun c => by omega⟩
    rw [sF_0, Int.add_zero] at h; exact h
  | n + 1, a, k, hk, hn, h => by
    rw [tws_X8_allAt_b4]
    simp (disch := omega) only [n_nat, n_add, n_sub, n_mul, n_neg, n_le, n_lt, n_eq, n_div, n_tn, n_if, Int.cast_ofNat_Int, MM.o hM, MM.r0 hM, MM.r1 hM, MM.r2 hM, MM.r3 hM, MM.r4 hM, MM.r8 hM, MM.r9 hM, MM.r10 hM, MM.r13 hM, MM.r16 hM, MM.r21 hM, MM.r22 hM, MM.a1 hM, MM.a2 hM, MM.a3 hM, MM.a4 hM, MM.a5 hM, MM.a6 hM, MM.a7 hM, MM.a8 hM, MM.a9 hM, MM.a10 hM, MM.a11 hM, MM.a12 hM, MM.d1 hM, MM.d2 hM, MM.d3 hM, MM.d4 hM, MM.d5 hM, MM.d6 hM, MM.d7 hM, MM.d8 hM, MM.d9 hM, MM.d10 hM, MM.d11 hM, MM.d12 hM, MM.fl hM, true_and]
    rw [sF_s, ← Int.add_assoc] at h
    refine ⟨fun c => by omega, fun _ => ?_⟩
    intro x hx y hy
    subst hx hy
    exact pm_allAt_l hM h1 h2 n _ _ (by omega) (by omega) h
theorem pm_allAt {Q : Int32 → aH → Prop} (hM : MM G0 G M μ) {what : Int} (h1 : 0 ≤ what) (h2 : what ≤ 2) (h : Q (Int32.ofInt (sF (fun p => μ 1 (406 + 3 * p + what)) 0 7)) G) : tw_X8_allAt Q G M (Int32.ofInt what) := by
  unfold tw_X8_allAt
  exact ⟨_, pm_allAt_l hM h1 h2 7 0 0 (by omega) (by omega) (by rw [Int.zero_add]; exact h)⟩
theorem pm_pintsIn_l {Q : Int32 → aH → Prop} (hM : MM G0 G M μ) (hW : WI N (μ 1)) {b : Int} (h1 : 0 ≤ b) (h2 : b ≤ 3) : ∀ (n : Nat) (a k : Int), 0 ≤ k → k + n = μ 1 (139 + 61 * b) → Q (Int32.ofInt (a + sF (fun k => pt (μ 1 (1 + 23 * μ 1 (139 + 61 * b + 1 + k) + 0))) k n)) G → tw_X8_pintsIn_b4 Q (n + 1) G M (Int32.ofInt b) (Int32.ofInt a) (Int32.ofInt k)
  | 0, a, k, hk, hn, h => by
    have hb := (hW.2.2.2.1 b h1 h2).1
    rw [tws_X8_pintsIn_b4]
    simp (disch := omega) only [n_nat, n_add, n_sub, n_mul, n_neg, n_le, n_lt, n_eq, n_div, n_tn, n_if, Int.cast_ofNat_Int, MM.o hM, MM.r0 hM, MM.r1 hM, MM.r2 hM, MM.r3 hM, MM.r4 hM, MM.r8 hM, MM.r9 hM, MM.r10 hM, MM.r13 hM, MM.r16 hM, MM.r21 hM, MM.r22 hM, MM.a1 hM, MM.a2 hM, MM.a3 hM, MM.a4 hM, MM.a5 hM, MM.a6 hM, MM.a7 hM, MM.a8 hM, MM.a9 hM, MM.a10 hM, MM.a11 hM, MM.a12 hM, MM.d1 hM, MM.d2 hM, MM.d3 hM, MM.d4 hM, MM.d5 hM, MM.d6 hM, MM.d7 hM, MM.d8 hM, MM.d9 hM, MM.d10 hM, MM.d11 hM, MM.d12 hM, MM.fl hM, true_and]
    refine pm_inBay hM h1 h2 ⟨fun _ => ?_, fun c => ?_⟩
    · rw [sF_0, Int.add_zero] at h; exact h
    · rw [n_le (by omega) (by omega)] at c; omega
  | n + 1, a, k, hk, hn, h => by
    have hb := (hW.2.2.2.1 b h1 h2).1
    have hs := (hW.2.2.2.1 b h1 h2).2 k hk (by omega)
    have h0 := hW.2.1
    have hp := (hW.2.2.1 (μ 1 (139 + 61 * b + 1 + k)) hs.1 (by omega)).1
    rw [tws_X8_pintsIn_b4]
    simp (disch := omega) only [n_nat, n_add, n_sub, n_mul, n_neg, n_le, n_lt, n_eq, n_div, n_tn, n_if, Int.cast_ofNat_Int, MM.o hM, MM.r0 hM, MM.r1 hM, MM.r2 hM, MM.r3 hM, MM.r4 hM, MM.r8 hM, MM.r9 hM, MM.r10 hM, MM.r13 hM, MM.r16 hM, MM.r21 hM, MM.r22 hM, MM.a1 hM, MM.a2 hM, MM.a3 hM, MM.a4 hM, MM.a5 hM, MM.a6 hM, MM.a7 hM, MM.a8 hM, MM.a9 hM, MM.a10 hM, MM.a11 hM, MM.a12 hM, MM.d1 hM, MM.d2 hM, MM.d3 hM, MM.d4 hM, MM.d5 hM, MM.d6 hM, MM.d7 hM, MM.d8 hM, MM.d9 hM, MM.d10 hM, MM.d11 hM, MM.d12 hM, MM.fl hM, true_and]
    rw [sF_s, ← Int.add_assoc] at h
    refine pm_inBay hM h1 h2 ⟨fun c => ?_, fun c => ?_⟩
    · rw [n_le (by omega) (by omega)] at c; omega
    · refine ⟨hM.o, pm_kindOf hM h1 h2 hk (by omega) hs.1 (by omega) (pm_pints (by omega) ?_)⟩
      intro x hx y hy
      try simp (disch := omega) only [n_nat, n_add, n_sub, n_mul, n_neg, n_le, n_lt, n_eq, n_div, n_tn, n_if, Int.cast_ofNat_Int] at hx hy
      subst hx hy
      exact pm_pintsIn_l hM hW h1 h2 n _ _ (by omega) (by omega) h
theorem pm_pintsIn {Q : Int32 → aH → Prop} (hM : MM G0 G M μ) (hW : WI N (μ 1)) {b : Int} (h1 : 0 ≤ b) (h2 : b ≤ 3) (h : Q (Int32.ofInt (pinW (μ 1) b)) G) : tw_X8_pintsIn Q G M (Int32.ofInt b) := by
  have hb := (hW.2.2.2.1 b h1 h2).1
  unfold tw_X8_pintsIn
  exact ⟨_, pm_pintsIn_l hM hW h1 h2 (μ 1 (139 + 61 * b)).toNat 0 0 (by omega) (by omega) (by rw [Int.zero_add]; exact h)⟩
theorem pm_bushels {Q : Int32 → aH → Prop} (hM : MM G0 G M μ) (h : Q (Int32.ofInt (μ 1 (391 + 5 * 0 + 2) + μ 1 (391 + 5 * 1 + 2) + μ 1 (391 + 5 * 2 + 2))) G) : tw_X8_bushels Q G M := by
  unfold tw_X8_bushels
  simp (disch := omega) only [n_nat, n_add, n_sub, n_mul, n_neg, n_le, n_lt, n_eq, n_div, n_tn, n_if, Int.cast_ofNat_Int, MM.o hM, MM.r0 hM, MM.r1 hM, MM.r2 hM, MM.r3 hM, MM.r4 hM, MM.r8 hM, MM.r9 hM, MM.r10 hM, MM.r13 hM, MM.r16 hM, MM.r21 hM, MM.r22 hM, MM.a1 hM, MM.a2 hM, MM.a3 hM, MM.a4 hM, MM.a5 hM, MM.a6 hM, MM.a7 hM, MM.a8 hM, MM.a9 hM, MM.a10 hM, MM.a11 hM, MM.a12 hM, MM.d1 hM, MM.d2 hM, MM.d3 hM, MM.d4 hM, MM.d5 hM, MM.d6 hM, MM.d7 hM, MM.d8 hM, MM.d9 hM, MM.d10 hM, MM.d11 hM, MM.d12 hM, MM.fl hM, true_and]
  refine pm_store hM (by omega) (by omega) ⟨hM.o, ?_⟩
  refine pm_store hM (by omega) (by omega) ⟨hM.o, ?_⟩
  refine pm_store hM (by omega) (by omega) ?_
  simp (disch := omega) only [n_nat, n_add, n_sub, n_mul, n_neg, n_le, n_lt, n_eq, n_div, n_tn, n_if, Int.cast_ofNat_Int]
  exact h
theorem pm_onFloors {Q : Int32 → aH → Prop} (hM : MM G0 G M μ) (h : Q (Int32.ofInt (μ 1 (383 + 4 * 0 + 0) + μ 1 (383 + 4 * 1 + 0))) G) : tw_X8_onFloors Q G M := by
  unfold tw_X8_onFloors
  simp (disch := omega) only [n_nat, n_add, n_sub, n_mul, n_neg, n_le, n_lt, n_eq, n_div, n_tn, n_if, Int.cast_ofNat_Int, MM.o hM, MM.r0 hM, MM.r1 hM, MM.r2 hM, MM.r3 hM, MM.r4 hM, MM.r8 hM, MM.r9 hM, MM.r10 hM, MM.r13 hM, MM.r16 hM, MM.r21 hM, MM.r22 hM, MM.a1 hM, MM.a2 hM, MM.a3 hM, MM.a4 hM, MM.a5 hM, MM.a6 hM, MM.a7 hM, MM.a8 hM, MM.a9 hM, MM.a10 hM, MM.a11 hM, MM.a12 hM, MM.d1 hM, MM.d2 hM, MM.d3 hM, MM.d4 hM, MM.d5 hM, MM.d6 hM, MM.d7 hM, MM.d8 hM, MM.d9 hM, MM.d10 hM, MM.d11 hM, MM.d12 hM, MM.fl hM, true_and]
  refine pm_floor hM (by omega) (by omega) ⟨hM.o, ?_⟩
  refine pm_floor hM (by omega) (by omega) ?_
  simp (disch := omega) only [n_nat, n_add, n_sub, n_mul, n_neg, n_le, n_lt, n_eq, n_div, n_tn, n_if, Int.cast_ofNat_Int]
  exact h
theorem pm_inBays_l2 {Q : Int32 → aH → Prop} (hM : MM G0 G M μ) (hW : WI N (μ 1)) {p b : Int} (hp : 0 ≤ p ∧ p < 6) (h1 : 0 ≤ b) (h2 : b ≤ 3) {kk : aH → Nat → Int32 → Int32 → Int32 → Prop} : ∀ (n : Nat) (a k : Int), 0 ≤ k → k + n = μ 1 (139 + 61 * b) → kk G M (Int32.ofInt p) (Int32.ofInt (a + sF (fun k => bI (μ 1 (139 + 61 * b + 1 + k) = p)) k n)) (Int32.ofInt (b + 1)) → tw_X8_inBays_b12 Q kk (n + 1) G M (Int32.ofInt p) (Int32.ofInt a) (Int32.ofInt b) (Int32.ofInt k)
  | 0, a, k, hk, hn, h => by
    have hb := (hW.2.2.2.1 b h1 h2).1
    rw [tws_X8_inBays_b12]
    simp (disch := omega) only [n_nat, n_add, n_sub, n_mul, n_neg, n_le, n_lt, n_eq, n_div, n_tn, n_if, Int.cast_ofNat_Int, MM.o hM, MM.r0 hM, MM.r1 hM, MM.r2 hM, MM.r3 hM, MM.r4 hM, MM.r8 hM, MM.r9 hM, MM.r10 hM, MM.r13 hM, MM.r16 hM, MM.r21 hM, MM.r22 hM, MM.a1 hM, MM.a2 hM, MM.a3 hM, MM.a4 hM, MM.a5 hM, MM.a6 hM, MM.a7 hM, MM.a8 hM, MM.a9 hM, MM.a10 hM, MM.a11 hM, MM.a12 hM, MM.d1 hM, MM.d2 hM, MM.d3 hM, MM.d4 hM, MM.d5 hM, MM.d6 hM, MM.d7 hM, MM.d8 hM, MM.d9 hM, MM.d10 hM, MM.d11 hM, MM.d12 hM, MM.fl hM, true_and]
    refine pm_inBay hM h1 h2 ⟨fun _ => ?_, fun c => ?_⟩
    · rw [sF_0, Int.add_zero] at h
      unfold tw_X8_inBays_b47
      intro x hx
      try simp (disch := omega) only [n_nat, n_add, n_sub, n_mul, n_neg, n_le, n_lt, n_eq, n_div, n_tn, n_if, Int.cast_ofNat_Int] at hx
      subst hx
      exact h
    · rw [n_le (by omega) (by omega)] at c; omega
  | n + 1, a, k, hk, hn, h => by
    have hb := (hW.2.2.2.1 b h1 h2).1
    have hs := (hW.2.2.2.1 b h1 h2).2 k hk (by omega)
    have h0 := hW.2.1
    rw [tws_X8_inBays_b12]
    simp (disch := omega) only [n_nat, n_add, n_sub, n_mul, n_neg, n_le, n_lt, n_eq, n_div, n_tn, n_if, Int.cast_ofNat_Int, MM.o hM, MM.r0 hM, MM.r1 hM, MM.r2 hM, MM.r3 hM, MM.r4 hM, MM.r8 hM, MM.r9 hM, MM.r10 hM, MM.r13 hM, MM.r16 hM, MM.r21 hM, MM.r22 hM, MM.a1 hM, MM.a2 hM, MM.a3 hM, MM.a4 hM, MM.a5 hM, MM.a6 hM, MM.a7 hM, MM.a8 hM, MM.a9 hM, MM.a10 hM, MM.a11 hM, MM.a12 hM, MM.d1 hM, MM.d2 hM, MM.d3 hM, MM.d4 hM, MM.d5 hM, MM.d6 hM, MM.d7 hM, MM.d8 hM, MM.d9 hM, MM.d10 hM, MM.d11 hM, MM.d12 hM, MM.fl hM, true_and]
    rw [sF_s, ← Int.add_assoc] at h
    refine pm_inBay hM h1 h2 ⟨fun c => ?_, fun c => ?_⟩
    · rw [n_le (by omega) (by omega)] at c; omega
    · refine ⟨hM.o, pm_sheaf hM h1 h2 hk (by omega) ⟨fun d => ?_, fun d => ?_⟩⟩ <;> rw [n_eq (by omega) (by omega)] at d <;> unfold tw_X8_inBays_b39 <;> intro x hx y hy <;> try simp (disch := omega) only [n_nat, n_add, n_sub, n_mul, n_neg, n_le, n_lt, n_eq, n_div, n_tn, n_if, Int.cast_ofNat_Int] at hx hy <;> subst hx hy
      · rw [bI_f d] at h
        exact pm_inBays_l2 hM hW hp h1 h2 n _ _ (by omega) (by omega) h
      · rw [bI_t d] at h
        exact pm_inBays_l2 hM hW hp h1 h2 n _ _ (by omega) (by omega) h
theorem pm_inBays_l {Q : Int32 → aH → Prop} (hM : MM G0 G M μ) (hW : WI N (μ 1)) {p : Int} (hp : 0 ≤ p ∧ p < 6) : ∀ (n : Nat) (a k : Int), 0 ≤ k → k + n = 4 → Q (Int32.ofInt (a + sF (inbW (μ 1) p) k n)) G → tw_X8_inBays_b4 Q (n + 1) G M (Int32.ofInt p) (Int32.ofInt a) (Int32.ofInt k)
  | 0, a, k, hk, hn, h => by
    rw [tws_X8_inBays_b4]
    simp (disch := omega) only [n_nat, n_add, n_sub, n_mul, n_neg, n_le, n_lt, n_eq, n_div, n_tn, n_if, Int.cast_ofNat_Int]
    refine ⟨fun _ => ?_, fun c => by omega⟩
    rw [sF_0, Int.add_zero] at h; exact h
  | n + 1, a, k, hk, hn, h => by
    have hb := (hW.2.2.2.1 k hk (by omega)).1
    rw [tws_X8_inBays_b4]
    simp (disch := omega) only [n_nat, n_add, n_sub, n_mul, n_neg, n_le, n_lt, n_eq, n_div, n_tn, n_if, Int.cast_ofNat_Int]
    rw [sF_s, ← Int.add_assoc] at h
    refine ⟨fun c => by omega, fun _ => ⟨_, pm_inBays_l2 hM hW hp hk (by omega) (μ 1 (139 + 61 * k)).toNat a 0 (by omega) (by omega) ?_⟩⟩
    exact pm_inBays_l hM hW hp n _ _ (by omega) (by omega) h
theorem pm_inBays {Q : Int32 → aH → Prop} (hM : MM G0 G M μ) (hW : WI N (μ 1)) {p : Int} (hp : 0 ≤ p ∧ p < 6) (h : Q (Int32.ofInt (sF (inbW (μ 1) p) 0 4)) G) : tw_X8_inBays Q G M (Int32.ofInt p) := by
  unfold tw_X8_inBays
  exact ⟨_, pm_inBays_l hM hW hp 4 0 0 (by omega) (by omega) (by rw [Int.zero_add]; exact h)⟩
theorem pm_dueW {Q : Int32 → aH → Prop} (hM : MM G0 G M μ) (hW : WI N (μ 1)) {p : Int} (hp : 0 ≤ p ∧ p < 6) (h : Q (Int32.ofInt (dueW (μ 1) p)) G) : tw_X8_dueOf Q G M (Int32.ofInt p) := by
  have hm := (hW.par hp.1 hp.2).1
  exact pm_dueOf hM hp.1 hp.2 hm.1 hm.2 h
theorem pm_isAhead {Q : Int32 → aH → Prop} (hM : MM G0 G M μ) (hW : WI N (μ 1)) {p q : Int} (hp : 0 ≤ p ∧ p < 6) (hq : 0 ≤ q ∧ q < 6) (h : Q (Int32.ofInt (ahd (μ 1) p q)) G) : tw_X8_isAhead Q G M (Int32.ofInt p) (Int32.ofInt q) := by
  obtain ⟨a1, a2, a3, -⟩ := hW.par hp.1 hp.2
  obtain ⟨b1, b2, b3, -⟩ := hW.par hq.1 hq.2
  unfold tw_X8_isAhead
  simp (disch := omega) only [n_nat, n_add, n_sub, n_mul, n_neg, n_le, n_lt, n_eq, n_div, n_tn, n_if, Int.cast_ofNat_Int, MM.o hM, MM.r0 hM, MM.r1 hM, MM.r2 hM, MM.r3 hM, MM.r4 hM, MM.r8 hM, MM.r9 hM, MM.r10 hM, MM.r13 hM, MM.r16 hM, MM.r21 hM, MM.r22 hM, MM.a1 hM, MM.a2 hM, MM.a3 hM, MM.a4 hM, MM.a5 hM, MM.a6 hM, MM.a7 hM, MM.a8 hM, MM.a9 hM, MM.a10 hM, MM.a11 hM, MM.a12 hM, MM.d1 hM, MM.d2 hM, MM.d3 hM, MM.d4 hM, MM.d5 hM, MM.d6 hM, MM.d7 hM, MM.d8 hM, MM.d9 hM, MM.d10 hM, MM.d11 hM, MM.d12 hM, MM.fl hM, true_and]
  unfold ahd at h
  refine pm_of hM (by omega) (by omega) ⟨hM.o, pm_of hM (by omega) (by omega) ⟨fun c => ?_, fun c => ?_⟩⟩ <;> rw [n_eq (by omega) (by omega)] at c
  · rw [if_pos c] at h
    refine ⟨hM.o, pm_dueW hM hW hp ⟨hM.o, pm_dueW hM hW hq ⟨fun d => ?_, fun d => ?_⟩⟩⟩ <;> rw [n_eq (by omega) (by omega)] at d
    · rw [if_pos d] at h
      refine ⟨fun e => ?_, fun e => ?_⟩
      · rw [bI_f (by omega)] at h; exact h
      · rw [bI_t (by omega)] at h; exact h
    · rw [if_neg d] at h
      refine ⟨hM.o, pm_dueW hM hW hp ⟨hM.o, pm_dueW hM hW hq ⟨fun e => ?_, fun e => ?_⟩⟩⟩ <;> rw [n_le (by omega) (by omega)] at e
      · rw [bI_f (by omega)] at h; exact h
      · rw [bI_t (by omega)] at h; exact h
  · rw [if_neg c] at h
    refine ⟨hM.o, pm_of hM (by omega) (by omega) ⟨hM.o, pm_of hM (by omega) (by omega) ⟨fun e => ?_, fun e => ?_⟩⟩⟩ <;> rw [n_le (by omega) (by omega)] at e
    · rw [bI_f (by omega)] at h; exact h
    · rw [bI_t (by omega)] at h; exact h
theorem ahd_b (w : Int → Int) (p q : Int) : ahd w p q = 0 ∨ ahd w p q = 1 := by
  unfold ahd bI
  repeat (first | split | omega)
theorem pm_rankOf_l {Q : Int32 → aH → Prop} (hM : MM G0 G M μ) (hW : WI N (μ 1)) {p : Int} (hp : 0 ≤ p ∧ p < 6) : ∀ (n : Nat) (a k : Int), 0 ≤ k → k + n = μ 1 0 → Q (Int32.ofInt (a + sF (fun q => if q = p then 0 else ahd (μ 1) q p) k n)) G → tw_X8_rankOf_b4 Q (n + 1) G M (Int32.ofInt p) (Int32.ofInt a) (Int32.ofInt k)
  | 0, a, k, hk, hn, h => by
    have h0 := hW.2.1
    rw [tws_X8_rankOf_b4]
    simp (disch := omega) only [n_nat, n_add, n_sub, n_mul, n_neg, n_le, n_lt, n_eq, n_div, n_tn, n_if, Int.cast_ofNat_Int, MM.o hM, MM.r0 hM, MM.r1 hM, MM.r2 hM, MM.r3 hM, MM.r4 hM, MM.r8 hM, MM.r9 hM, MM.r10 hM, MM.r13 hM, MM.r16 hM, MM.r21 hM, MM.r22 hM, MM.a1 hM, MM.a2 hM, MM.a3 hM, MM.a4 hM, MM.a5 hM, MM.a6 hM, MM.a7 hM, MM.a8 hM, MM.a9 hM, MM.a10 hM, MM.a11 hM, MM.a12 hM, MM.d1 hM, MM.d2 hM, MM.d3 hM, MM.d4 hM, MM.d5 hM, MM.d6 hM, MM.d7 hM, MM.d8 hM, MM.d9 hM, MM.d10 hM, MM.d11 hM, MM.d12 hM, MM.fl hM, true_and]
    refine ⟨fun _ => ?_, fun c => by omega⟩
    rw [sF_0, Int.add_zero] at h; exact h
  | n + 1, a, k, hk, hn, h => by
    have h0 := hW.2.1
    rw [tws_X8_rankOf_b4]
    simp (disch := omega) only [n_nat, n_add, n_sub, n_mul, n_neg, n_le, n_lt, n_eq, n_div, n_tn, n_if, Int.cast_ofNat_Int, MM.o hM, MM.r0 hM, MM.r1 hM, MM.r2 hM, MM.r3 hM, MM.r4 hM, MM.r8 hM, MM.r9 hM, MM.r10 hM, MM.r13 hM, MM.r16 hM, MM.r21 hM, MM.r22 hM, MM.a1 hM, MM.a2 hM, MM.a3 hM, MM.a4 hM, MM.a5 hM, MM.a6 hM, MM.a7 hM, MM.a8 hM, MM.a9 hM, MM.a10 hM, MM.a11 hM, MM.a12 hM, MM.d1 hM, MM.d2 hM, MM.d3 hM, MM.d4 hM, MM.d5 hM, MM.d6 hM, MM.d7 hM, MM.d8 hM, MM.d9 hM, MM.d10 hM, MM.d11 hM, MM.d12 hM, MM.fl hM, true_and]
    rw [sF_s, ← Int.add_assoc] at h
    refine ⟨fun c => by omega, fun _ => ⟨fun c => ?_, fun c => ?_⟩⟩
    · unfold tw_X8_rankOf_b33 tw_X8_rankOf_b34
      intro x hx y hy
      try simp (disch := omega) only [n_nat, n_add, n_sub, n_mul, n_neg, n_le, n_lt, n_eq, n_div, n_tn, n_if, Int.cast_ofNat_Int] at hx hy
      subst hx hy
      rw [if_pos c] at h
      exact pm_rankOf_l hM hW hp n _ _ (by omega) (by omega) h
    · rw [if_neg c] at h
      refine pm_isAhead hM hW ⟨hk, by omega⟩ hp ?_
      rcases ahd_b (μ 1) k p with e | e
      · rw [e] at h ⊢
        refine ⟨fun _ => ?_, fun c => absurd rfl c⟩
        unfold tw_X8_rankOf_b33 tw_X8_rankOf_b34
        intro x hx y hy
        try simp (disch := omega) only [n_nat, n_add, n_sub, n_mul, n_neg, n_le, n_lt, n_eq, n_div, n_tn, n_if, Int.cast_ofNat_Int] at hx hy
        subst hx hy
        exact pm_rankOf_l hM hW hp n _ _ (by omega) (by omega) h
      · rw [e] at h ⊢
        refine ⟨fun c => absurd c (by decide), fun _ => ?_⟩
        unfold tw_X8_rankOf_b34
        intro x hx y hy
        try simp (disch := omega) only [n_nat, n_add, n_sub, n_mul, n_neg, n_le, n_lt, n_eq, n_div, n_tn, n_if, Int.cast_ofNat_Int] at hx hy
        subst hx hy
        exact pm_rankOf_l hM hW hp n _ _ (by omega) (by omega) h
theorem pm_rankOf {Q : Int32 → aH → Prop} (hM : MM G0 G M μ) (hW : WI N (μ 1)) {p : Int} (hp : 0 ≤ p ∧ p < 6) (h : Q (Int32.ofInt (rnk (μ 1) p)) G) : tw_X8_rankOf Q G M (Int32.ofInt p) := by
  have h0 := hW.2.1
  unfold tw_X8_rankOf
  exact ⟨_, pm_rankOf_l hM hW hp (μ 1 0).toNat 0 0 (by omega) (by omega) (by rw [Int.zero_add]; exact h)⟩
theorem rnk_b {w : Int → Int} (h0 : 0 ≤ w 0 ∧ w 0 ≤ 6) (p : Int) : 0 ≤ rnk w p ∧ rnk w p ≤ 6 := by
  have h1 : 0 ≤ rnk w p := sF_nn _ _ (fun i _ _ => by
    show 0 ≤ if i = p then 0 else ahd w i p
    have := ahd_b w i p
    split <;> omega)
  have h2 : ∀ (n : Nat) (k : Int), sF (fun q => if q = p then 0 else ahd w q p) k n ≤ n := fun n => by
    induction n with
    | zero => intro k; exact Int.le_refl 0
    | succ n ih =>
      intro k
      rw [sF_s]
      have := ih (k + 1)
      have h3 := ahd_b w k p
      have h4 : (if k = p then 0 else ahd w k p) ≤ 1 := by split <;> omega
      omega
  have h3 := h2 (w 0).toNat 0
  unfold rnk at h1 ⊢
  omega
theorem pm_ranked_l {Q : Int32 → aH → Prop} (hM : MM G0 G M μ) (hW : WI N (μ 1)) {v : Int} (hv : -2147483648 ≤ v ∧ v < 2147483648) : ∀ (n : Nat) (a k : Int), 0 ≤ k → k + n = μ 1 0 → Q (Int32.ofInt (lst (rnk (μ 1)) v k n a)) G → tw_X8_ranked_b4 Q (n + 1) G M (Int32.ofInt v) (Int32.ofInt a) (Int32.ofInt k)
  | 0, a, k, hk, hn, h => by
    have h0 := hW.2.1
    rw [tws_X8_ranked_b4]
    simp (disch := omega) only [n_nat, n_add, n_sub, n_mul, n_neg, n_le, n_lt, n_eq, n_div, n_tn, n_if, Int.cast_ofNat_Int, MM.o hM, MM.r0 hM, MM.r1 hM, MM.r2 hM, MM.r3 hM, MM.r4 hM, MM.r8 hM, MM.r9 hM, MM.r10 hM, MM.r13 hM, MM.r16 hM, MM.r21 hM, MM.r22 hM, MM.a1 hM, MM.a2 hM, MM.a3 hM, MM.a4 hM, MM.a5 hM, MM.a6 hM, MM.a7 hM, MM.a8 hM, MM.a9 hM, MM.a10 hM, MM.a11 hM, MM.a12 hM, MM.d1 hM, MM.d2 hM, MM.d3 hM, MM.d4 hM, MM.d5 hM, MM.d6 hM, MM.d7 hM, MM.d8 hM, MM.d9 hM, MM.d10 hM, MM.d11 hM, MM.d12 hM, MM.fl hM, true_and]
    exact ⟨fun _ => h, fun c => by omega⟩
  | n + 1, a, k, hk, hn, h => by
    have h0 := hW.2.1
    have hr := rnk_b h0 k
    rw [tws_X8_ranked_b4]
    simp (disch := omega) only [n_nat, n_add, n_sub, n_mul, n_neg, n_le, n_lt, n_eq, n_div, n_tn, n_if, Int.cast_ofNat_Int, MM.o hM, MM.r0 hM, MM.r1 hM, MM.r2 hM, MM.r3 hM, MM.r4 hM, MM.r8 hM, MM.r9 hM, MM.r10 hM, MM.r13 hM, MM.r16 hM, MM.r21 hM, MM.r22 hM, MM.a1 hM, MM.a2 hM, MM.a3 hM, MM.a4 hM, MM.a5 hM, MM.a6 hM, MM.a7 hM, MM.a8 hM, MM.a9 hM, MM.a10 hM, MM.a11 hM, MM.a12 hM, MM.d1 hM, MM.d2 hM, MM.d3 hM, MM.d4 hM, MM.d5 hM, MM.d6 hM, MM.d7 hM, MM.d8 hM, MM.d9 hM, MM.d10 hM, MM.d11 hM, MM.d12 hM, MM.fl hM, true_and]
    rw [lst] at h
    refine ⟨fun c => by omega, fun _ => pm_rankOf hM hW ⟨hk, by omega⟩ ⟨fun c => ?_, fun c => ?_⟩⟩ <;> rw [n_eq (by omega) (by omega)] at c <;> unfold tw_X8_ranked_b28 <;> intro x hx <;> try simp (disch := omega) only [n_nat, n_add, n_sub, n_mul, n_neg, n_le, n_lt, n_eq, n_div, n_tn, n_if, Int.cast_ofNat_Int] at hx <;> subst hx
    · rw [if_neg c] at h
      exact pm_ranked_l hM hW hv n _ _ (by omega) (by omega) h
    · rw [if_pos c] at h
      exact pm_ranked_l hM hW hv n _ _ (by omega) (by omega) h
theorem pm_ranked {Q : Int32 → aH → Prop} (hM : MM G0 G M μ) (hW : WI N (μ 1)) {v : Int} (hv : -2147483648 ≤ v ∧ v < 2147483648) (h : Q (Int32.ofInt (lst (rnk (μ 1)) v 0 (μ 1 0).toNat (-1))) G) : tw_X8_ranked Q G M (Int32.ofInt v) := by
  have h0 := hW.2.1
  unfold tw_X8_ranked
  simp (disch := omega) only [n_nat, n_add, n_sub, n_mul, n_neg, n_le, n_lt, n_eq, n_div, n_tn, n_if, Int.cast_ofNat_Int]
  exact ⟨_, pm_ranked_l hM hW hv (μ 1 0).toNat _ 0 (by omega) (by omega) h⟩
end MODEL
