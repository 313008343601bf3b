/-! PLAIN LAW: the model's days -/
def mnI (x y : Int) : Int := if y < x then y else x
def thrW (w : Int → Int) (f : Int) : Int := mnI ((2000 - w (391 + 5 * w (383 + 4 * f + 1) + 0)) / pt (w (383 + 4 * f + 1))) (mnI (w (383 + 4 * f + 2)) (w (383 + 4 * f + 0)))
def thrR (w : Int → Int) (f : Int) : Int → Int :=
  ud (ud (ud (ud w (383 + 4 * f) (w (383 + 4 * f) - thrW w f)) (383 + 4 * f + 3) (w (383 + 4 * f + 3) + thrW w f)) (391 + 5 * w (383 + 4 * f + 1)) (w (391 + 5 * w (383 + 4 * f + 1)) + thrW w f * pt (w (383 + 4 * f + 1)))) (391 + 5 * w (383 + 4 * f + 1) + 4) (w (391 + 5 * w (383 + 4 * f + 1) + 4) + thrW w f * pt (w (383 + 4 * f + 1)))
def binR (w : Int → Int) (k : Int) : Int → Int := ud (ud w (391 + 5 * k) (w (391 + 5 * k) - mnI (w (391 + 5 * k)) (w (406 + 3 * (4 + k) + 1)))) 432 (w 432 + mnI (w (391 + 5 * k)) (w (406 + 3 * (4 + k) + 1)))
theorem n_mn {x y : Int} (h1 : -2147483648 ≤ x ∧ x < 2147483648) (h2 : -2147483648 ≤ y ∧ y < 2147483648) : (if Int32.ofInt y < Int32.ofInt x then Int32.ofInt y else Int32.ofInt x) = Int32.ofInt (mnI x y) := by
  unfold mnI
  have e := n_lt h2 h1
  by_cases c : y < x
  · rw [if_pos c, if_pos (by rw [e]; exact c)]
  · rw [if_neg c, if_neg (by rw [e]; exact c)]
theorem mnI_b {x y a b : Int} (h1 : a ≤ x ∧ x ≤ b) (h2 : a ≤ y ∧ y ≤ b) : a ≤ mnI x y ∧ mnI x y ≤ b := by
  unfold mnI
  split <;> omega
section MODEL
variable {G0 G : aH} {M : Nat} {μ : Nat → Int → Int} {N : Int}
theorem pm_threshedOn {Q : Int32 → aH → Prop} (hM : MM G0 G M μ) {f : Int} (hf : 0 ≤ f ∧ f ≤ 1) (hk : 0 ≤ μ 1 (383 + 4 * f + 1) ∧ μ 1 (383 + 4 * f + 1) ≤ 2) (hs : 0 ≤ μ 1 (383 + 4 * f + 0) ∧ μ 1 (383 + 4 * f + 0) ≤ 20) (hl : 1 ≤ μ 1 (383 + 4 * f + 2) ∧ μ 1 (383 + 4 * f + 2) ≤ 6) (hp : 0 ≤ μ 1 (391 + 5 * μ 1 (383 + 4 * f + 1) + 0) ∧ μ 1 (391 + 5 * μ 1 (383 + 4 * f + 1) + 0) ≤ 2000) (h : ∀ G1, MM G0 G1 M (rep μ 1 (thrR (μ 1) f)) → Q (Int32.ofInt (thrW (μ 1) f)) G1) : tw_X8_threshedOn Q G M (Int32.ofInt f) := by
  have hpt := pt_b (μ 1 (383 + 4 * f + 1))
  have hroom : 0 ≤ (2000 - μ 1 (391 + 5 * μ 1 (383 + 4 * f + 1) + 0)) / pt (μ 1 (383 + 4 * f + 1)) ∧ (2000 - μ 1 (391 + 5 * μ 1 (383 + 4 * f + 1) + 0)) / pt (μ 1 (383 + 4 * f + 1)) ≤ 2000 :=
    ⟨Int.ediv_nonneg (by omega) (by omega), Int.le_trans (Int.ediv_le_self _ (by omega)) (by omega)⟩
  have hin := mnI_b (a := 0) (b := 2000) (x := μ 1 (383 + 4 * f + 2)) (y := μ 1 (383 + 4 * f + 0)) (by omega) (by omega)
  unfold tw_X8_threshedOn
  simp (disch := omega) only [n_nat, n_add, n_sub, n_mul, n_neg, n_le, n_lt, n_eq, n_div, n_tn, n_if, Int.cast_ofNat_Int, MM.o hM, MM.r0 hM, MM.r1 hM, MM.r2 hM, MM.r3 hM, MM.r4 hM, MM.r8 hM, MM.r9 hM, MM.r10 hM, MM.r13 hM, MM.r16 hM, MM.r21 hM, MM.r22 hM, MM.a1 hM, MM.a2 hM, MM.a3 hM, MM.a4 hM, MM.a5 hM, MM.a6 hM, MM.a7 hM, MM.a8 hM, MM.a9 hM, MM.a10 hM, MM.a11 hM, MM.a12 hM, MM.d1 hM, MM.d2 hM, MM.d3 hM, MM.d4 hM, MM.d5 hM, MM.d6 hM, MM.d7 hM, MM.d8 hM, MM.d9 hM, MM.d10 hM, MM.d11 hM, MM.d12 hM, MM.fl hM, true_and]
  refine pm_floor hM (by omega) (by omega) ⟨hM.o, pm_store hM (by omega) (by omega) (pm_pints (by omega) ⟨?_, ?_⟩)⟩
  · rw [n_eq (by omega) (by omega)]; omega
  · simp (disch := omega) only [n_nat, n_add, n_sub, n_mul, n_neg, n_le, n_lt, n_eq, n_div, n_tn, n_if, Int.cast_ofNat_Int]
    intro x hx
    refine ⟨hM.o, pm_floor hM (by omega) (by omega) ⟨hM.o, pm_floor hM (by omega) (by omega) ?_⟩⟩
    intro y hy
    subst hx
    rw [n_mn (by omega) (by omega), n_mn (by omega) (by omega)] at hy
    have hy : y = Int32.ofInt (thrW (μ 1) f) := hy
    subst hy
    simp (disch := omega) only [n_nat, n_add, n_sub, n_mul, n_neg, n_le, n_lt, n_eq, n_div, n_tn, n_if, Int.cast_ofNat_Int, MM.o hM, MM.r0 hM, MM.r1 hM, MM.r2 hM, MM.r3 hM, MM.r4 hM, MM.r8 hM, MM.r9 hM, MM.r10 hM, MM.r13 hM, MM.r16 hM, MM.r21 hM, MM.r22 hM, MM.a1 hM, MM.a2 hM, MM.a3 hM, MM.a4 hM, MM.a5 hM, MM.a6 hM, MM.a7 hM, MM.a8 hM, MM.a9 hM, MM.a10 hM, MM.a11 hM, MM.a12 hM, MM.d1 hM, MM.d2 hM, MM.d3 hM, MM.d4 hM, MM.d5 hM, MM.d6 hM, MM.d7 hM, MM.d8 hM, MM.d9 hM, MM.d10 hM, MM.d11 hM, MM.d12 hM, MM.fl hM, true_and]
    refine hM.wr (by omega) (by omega) (fun G1 hM1 => ?_)
    simp (disch := omega) only [n_nat, n_add, n_sub, n_mul, n_neg, n_le, n_lt, n_eq, n_div, n_tn, n_if, Int.cast_ofNat_Int, MM.o hM1, MM.r0 hM1, MM.r1 hM1, MM.r2 hM1, MM.r3 hM1, MM.r4 hM1, MM.r8 hM1, MM.r9 hM1, MM.r10 hM1, MM.r13 hM1, MM.r16 hM1, MM.r21 hM1, MM.r22 hM1, MM.a1 hM1, MM.a2 hM1, MM.a3 hM1, MM.a4 hM1, MM.a5 hM1, MM.a6 hM1, MM.a7 hM1, MM.a8 hM1, MM.a9 hM1, MM.a10 hM1, MM.a11 hM1, MM.a12 hM1, MM.d1 hM1, MM.d2 hM1, MM.d3 hM1, MM.d4 hM1, MM.d5 hM1, MM.d6 hM1, MM.d7 hM1, MM.d8 hM1, MM.d9 hM1, MM.d10 hM1, MM.d11 hM1, MM.d12 hM1, MM.fl hM1, true_and, rep_at, ud_ne]
    refine hM1.wr (by omega) (by omega) (fun G2 hM2 => ?_)
    simp (disch := omega) only [n_nat, n_add, n_sub, n_mul, n_neg, n_le, n_lt, n_eq, n_div, n_tn, n_if, Int.cast_ofNat_Int, MM.o hM2, MM.r0 hM2, MM.r1 hM2, MM.r2 hM2, MM.r3 hM2, MM.r4 hM2, MM.r8 hM2, MM.r9 hM2, MM.r10 hM2, MM.r13 hM2, MM.r16 hM2, MM.r21 hM2, MM.r22 hM2, MM.a1 hM2, MM.a2 hM2, MM.a3 hM2, MM.a4 hM2, MM.a5 hM2, MM.a6 hM2, MM.a7 hM2, MM.a8 hM2, MM.a9 hM2, MM.a10 hM2, MM.a11 hM2, MM.a12 hM2, MM.d1 hM2, MM.d2 hM2, MM.d3 hM2, MM.d4 hM2, MM.d5 hM2, MM.d6 hM2, MM.d7 hM2, MM.d8 hM2, MM.d9 hM2, MM.d10 hM2, MM.d11 hM2, MM.d12 hM2, MM.fl hM2, true_and, rep_at, ud_ne]
    refine pm_pints (by omega) ?_
    simp (disch := omega) only [n_nat, n_add, n_sub, n_mul, n_neg, n_le, n_lt, n_eq, n_div, n_tn, n_if, Int.cast_ofNat_Int, MM.o hM2, MM.r0 hM2, MM.r1 hM2, MM.r2 hM2, MM.r3 hM2, MM.r4 hM2, MM.r8 hM2, MM.r9 hM2, MM.r10 hM2, MM.r13 hM2, MM.r16 hM2, MM.r21 hM2, MM.r22 hM2, MM.a1 hM2, MM.a2 hM2, MM.a3 hM2, MM.a4 hM2, MM.a5 hM2, MM.a6 hM2, MM.a7 hM2, MM.a8 hM2, MM.a9 hM2, MM.a10 hM2, MM.a11 hM2, MM.a12 hM2, MM.d1 hM2, MM.d2 hM2, MM.d3 hM2, MM.d4 hM2, MM.d5 hM2, MM.d6 hM2, MM.d7 hM2, MM.d8 hM2, MM.d9 hM2, MM.d10 hM2, MM.d11 hM2, MM.d12 hM2, MM.fl hM2, true_and, rep_at, ud_ne]
    refine hM2.wr (by omega) (by omega) (fun G3 hM3 => ?_)
    simp (disch := omega) only [n_nat, n_add, n_sub, n_mul, n_neg, n_le, n_lt, n_eq, n_div, n_tn, n_if, Int.cast_ofNat_Int, MM.o hM3, MM.r0 hM3, MM.r1 hM3, MM.r2 hM3, MM.r3 hM3, MM.r4 hM3, MM.r8 hM3, MM.r9 hM3, MM.r10 hM3, MM.r13 hM3, MM.r16 hM3, MM.r21 hM3, MM.r22 hM3, MM.a1 hM3, MM.a2 hM3, MM.a3 hM3, MM.a4 hM3, MM.a5 hM3, MM.a6 hM3, MM.a7 hM3, MM.a8 hM3, MM.a9 hM3, MM.a10 hM3, MM.a11 hM3, MM.a12 hM3, MM.d1 hM3, MM.d2 hM3, MM.d3 hM3, MM.d4 hM3, MM.d5 hM3, MM.d6 hM3, MM.d7 hM3, MM.d8 hM3, MM.d9 hM3, MM.d10 hM3, MM.d11 hM3, MM.d12 hM3, MM.fl hM3, true_and, rep_at, ud_ne]
    refine pm_pints (by omega) ?_
    simp (disch := omega) only [n_nat, n_add, n_sub, n_mul, n_neg, n_le, n_lt, n_eq, n_div, n_tn, n_if, Int.cast_ofNat_Int, MM.o hM3, MM.r0 hM3, MM.r1 hM3, MM.r2 hM3, MM.r3 hM3, MM.r4 hM3, MM.r8 hM3, MM.r9 hM3, MM.r10 hM3, MM.r13 hM3, MM.r16 hM3, MM.r21 hM3, MM.r22 hM3, MM.a1 hM3, MM.a2 hM3, MM.a3 hM3, MM.a4 hM3, MM.a5 hM3, MM.a6 hM3, MM.a7 hM3, MM.a8 hM3, MM.a9 hM3, MM.a10 hM3, MM.a11 hM3, MM.a12 hM3, MM.d1 hM3, MM.d2 hM3, MM.d3 hM3, MM.d4 hM3, MM.d5 hM3, MM.d6 hM3, MM.d7 hM3, MM.d8 hM3, MM.d9 hM3, MM.d10 hM3, MM.d11 hM3, MM.d12 hM3, MM.fl hM3, true_and, rep_at, ud_ne]
    refine hM3.wr (by omega) (by omega) (fun G4 hM4 => ?_)
    simp (disch := omega) only [rep_rep, rep_at, ud_ne] at hM4
    exact h G4 hM4
theorem pm_eatInBin {Q : Int32 → aH → Prop} (hM : MM G0 G M μ) {k : Int} (hk : 0 ≤ k ∧ k ≤ 2) (hp : 0 ≤ μ 1 (391 + 5 * k) ∧ μ 1 (391 + 5 * k) ≤ 3000) (hr : 0 ≤ μ 1 (406 + 3 * (4 + k) + 1) ∧ μ 1 (406 + 3 * (4 + k) + 1) ≤ 50) (h : ∀ G1, MM G0 G1 M (rep μ 1 (binR (μ 1) k)) → Q (Int32.ofInt (mnI (μ 1 (391 + 5 * k)) (μ 1 (406 + 3 * (4 + k) + 1)))) G1) : tw_X8_eatInBin Q G M (Int32.ofInt k) := by
  unfold tw_X8_eatInBin
  have e0 : μ 1 (391 + 5 * k + 0) = μ 1 (391 + 5 * k) := by rw [Int.add_zero]
  simp (disch := omega) only [n_nat, n_add, n_sub, n_mul, n_neg, n_le, n_lt, n_eq, n_div, n_tn, n_if, Int.cast_ofNat_Int, MM.o hM, MM.r0 hM, MM.r1 hM, MM.r2 hM, MM.r3 hM, MM.r4 hM, MM.r8 hM, MM.r9 hM, MM.r10 hM, MM.r13 hM, MM.r16 hM, MM.r21 hM, MM.r22 hM, MM.a1 hM, MM.a2 hM, MM.a3 hM, MM.a4 hM, MM.a5 hM, MM.a6 hM, MM.a7 hM, MM.a8 hM, MM.a9 hM, MM.a10 hM, MM.a11 hM, MM.a12 hM, MM.d1 hM, MM.d2 hM, MM.d3 hM, MM.d4 hM, MM.d5 hM, MM.d6 hM, MM.d7 hM, MM.d8 hM, MM.d9 hM, MM.d10 hM, MM.d11 hM, MM.d12 hM, MM.fl hM, true_and]
  refine pm_store hM (by omega) (by omega) ⟨hM.o, pm_rats hM (by omega) (by omega) ?_⟩
  intro x hx
  rw [n_mn (by omega) (by omega), e0] at hx
  subst hx
  simp (disch := omega) only [n_nat, n_add, n_sub, n_mul, n_neg, n_le, n_lt, n_eq, n_div, n_tn, n_if, Int.cast_ofNat_Int, MM.o hM, MM.r0 hM, MM.r1 hM, MM.r2 hM, MM.r3 hM, MM.r4 hM, MM.r8 hM, MM.r9 hM, MM.r10 hM, MM.r13 hM, MM.r16 hM, MM.r21 hM, MM.r22 hM, MM.a1 hM, MM.a2 hM, MM.a3 hM, MM.a4 hM, MM.a5 hM, MM.a6 hM, MM.a7 hM, MM.a8 hM, MM.a9 hM, MM.a10 hM, MM.a11 hM, MM.a12 hM, MM.d1 hM, MM.d2 hM, MM.d3 hM, MM.d4 hM, MM.d5 hM, MM.d6 hM, MM.d7 hM, MM.d8 hM, MM.d9 hM, MM.d10 hM, MM.d11 hM, MM.d12 hM, MM.fl hM, true_and]
  refine hM.wr (by omega) (by omega) (fun G1 hM1 => ?_)
  simp (disch := omega) only [n_nat, n_add, n_sub, n_mul, n_neg, n_le, n_lt, n_eq, n_div, n_tn, n_if, Int.cast_ofNat_Int, MM.o hM1, MM.r0 hM1, MM.r1 hM1, MM.r2 hM1, MM.r3 hM1, MM.r4 hM1, MM.r8 hM1, MM.r9 hM1, MM.r10 hM1, MM.r13 hM1, MM.r16 hM1, MM.r21 hM1, MM.r22 hM1, MM.a1 hM1, MM.a2 hM1, MM.a3 hM1, MM.a4 hM1, MM.a5 hM1, MM.a6 hM1, MM.a7 hM1, MM.a8 hM1, MM.a9 hM1, MM.a10 hM1, MM.a11 hM1, MM.a12 hM1, MM.d1 hM1, MM.d2 hM1, MM.d3 hM1, MM.d4 hM1, MM.d5 hM1, MM.d6 hM1, MM.d7 hM1, MM.d8 hM1, MM.d9 hM1, MM.d10 hM1, MM.d11 hM1, MM.d12 hM1, MM.fl hM1, true_and, rep_at, ud_ne]
  refine hM1.wr (by omega) (by omega) (fun G2 hM2 => ?_)
  simp (disch := omega) only [rep_rep, rep_at, ud_ne] at hM2
  exact h G2 hM2
end MODEL
