/-! PLAIN LAW: the model's days: the rats -/
def eatB (b : Int) : Nat → (Int → Int) → Int → Int
  | 0, w => w
  | n + 1, w => eatB b n (popW (ud w 432 (w 432 + pt (kdW w b (w (139 + 61 * b) - 1)))) b)
/-- what a bay's kinds hang on -/
def BK (w : Int → Int) (b : Int) : Prop := (0 ≤ w (139 + 61 * b) ∧ w (139 + 61 * b) ≤ 60) ∧ (∀ k, 0 ≤ k → k < w (139 + 61 * b) → 0 ≤ w (139 + 61 * b + 1 + k) ∧ w (139 + 61 * b + 1 + k) < 6) ∧ ∀ p, 0 ≤ p → p < 6 → 0 ≤ w (1 + 23 * p + 0) ∧ w (1 + 23 * p + 0) ≤ 2
def rt1 (w : Int → Int) (p left : Int) : Int := w (406 + 3 * p + 1) + (if 0 < left then w (406 + 3 * p) else -((w (406 + 3 * p + 1) + 1) / 2))
def rt2 (w : Int → Int) (p left : Int) : Int := rt1 w p left - (if w 427 = p then (rt1 w p left + 1) / 2 else 0)
/-- the night behind the meal: e was eaten -/
def nigR (w : Int → Int) (p e left : Int) : Int → Int := ud (ud w (406 + 3 * p + 2) (w (406 + 3 * p + 2) + e)) (406 + 3 * p + 1) (mnI 50 (rt2 w p left))
theorem BK.step {w : Int → Int} {b v : Int} (hb : 0 ≤ b ∧ b ≤ 3) (h : BK w b) (h1 : 1 ≤ w (139 + 61 * b)) : BK (popW (ud w 432 v) b) b ∧ popW (ud w 432 v) b (139 + 61 * b) = w (139 + 61 * b) - 1 := by
  have e0 : ud w 432 v (139 + 61 * b) = w (139 + 61 * b) := ud_ne (by omega)
  have e1 : popW (ud w 432 v) b (139 + 61 * b) = w (139 + 61 * b) - 1 := by rw [popW_n _ (by omega), e0]
  obtain ⟨g1, g2, g3⟩ := h
  refine ⟨⟨by omega, fun k k1 k2 => ?_, fun p p1 p2 => ?_⟩, e1⟩
  · have : popW (ud w 432 v) b (139 + 61 * b + 1 + k) = w (139 + 61 * b + 1 + k) := by
      unfold popW
      rw [ud_ne (by omega), ud_ne (by omega), ud_ne (by omega)]
    rw [this]
    exact g2 k k1 (by omega)
  · rw [popW_ne _ (by omega) (by omega), ud_ne (by omega)]
    exact g3 p p1 p2
section MODEL
variable {G0 G : aH} {M : Nat} {μ : Nat → Int → Int} {N : Int}
theorem pm_eatInBay_l {Q : Int32 → aH → Prop} {b s : Int} (hb : 0 ≤ b ∧ b ≤ 3) (hs : 0 ≤ s ∧ s ≤ 60) : ∀ (n : Nat) (k : Int) (G : aH) (μ : Nat → Int → Int), MM G0 G M μ → BK (μ 1) b → 0 ≤ k → k + n = s → n ≤ μ 1 (139 + 61 * b) → (∀ G1, MM G0 G1 M (rep μ 1 (eatB b n (μ 1))) → Q (Int32.ofInt s) G1) → tw_X8_eatInBay_b19 Q (n + 1) G M (Int32.ofInt b) (Int32.ofInt s) (Int32.ofInt k)
  | 0, k, G, μ, hM, hB, hk, hn, h1, h => by
    rw [tws_X8_eatInBay_b19]
    simp (disch := omega) only [n_nat, n_add, n_sub, n_mul, n_neg, n_le, n_lt, n_eq, n_div, n_tn, n_if, Int.cast_ofNat_Int]
    refine ⟨fun _ => h G ?_, fun c => by omega⟩
    show MM G0 G M (rep μ 1 (μ 1))
    rw [rep_self]
    exact hM
  | n + 1, k, G, μ, hM, hB, hk, hn, h1, h => by
    have hsh := hB.2.1 (μ 1 (139 + 61 * b) - 1) (by omega) (by omega)
    have hkd := hB.2.2 _ hsh.1 hsh.2
    have hn60 := hB.1
    have hst := hB.step (v := μ 1 432 + pt (kdW (μ 1) b (μ 1 (139 + 61 * b) - 1))) hb (by omega)
    rw [tws_X8_eatInBay_b19]
    simp (disch := omega) only [n_nat, n_add, n_sub, n_mul, n_neg, n_le, n_lt, n_eq, n_div, n_tn, n_if, Int.cast_ofNat_Int, MM.o hM, MM.r0 hM, MM.r1 hM, MM.r2 hM, MM.r3 hM, MM.r4 hM, MM.r8 hM, MM.r9 hM, MM.r10 hM, MM.r13 hM, MM.r16 hM, MM.r21 hM, MM.r22 hM, MM.a1 hM, MM.a2 hM, MM.a3 hM, MM.a4 hM, MM.a5 hM, MM.a6 hM, MM.a7 hM, MM.a8 hM, MM.a9 hM, MM.a10 hM, MM.a11 hM, MM.a12 hM, MM.d1 hM, MM.d2 hM, MM.d3 hM, MM.d4 hM, MM.d5 hM, MM.d6 hM, MM.d7 hM, MM.d8 hM, MM.d9 hM, MM.d10 hM, MM.d11 hM, MM.d12 hM, MM.fl hM, true_and]
    refine ⟨fun c => by omega, fun _ => pm_inBay hM hb.1 hb.2 ⟨hM.o, ?_⟩⟩
    simp (disch := omega) only [n_nat, n_add, n_sub, n_mul, n_neg, n_le, n_lt, n_eq, n_div, n_tn, n_if, Int.cast_ofNat_Int]
    refine pm_kindOf hM hb.1 hb.2 (by omega) (by omega) hsh.1 hsh.2 (pm_pints (by omega) ?_)
    simp (disch := omega) only [n_nat, n_add, n_sub, n_mul, n_neg, n_le, n_lt, n_eq, n_div, n_tn, n_if, Int.cast_ofNat_Int, MM.o hM, MM.r0 hM, MM.r1 hM, MM.r2 hM, MM.r3 hM, MM.r4 hM, MM.r8 hM, MM.r9 hM, MM.r10 hM, MM.r13 hM, MM.r16 hM, MM.r21 hM, MM.r22 hM, MM.a1 hM, MM.a2 hM, MM.a3 hM, MM.a4 hM, MM.a5 hM, MM.a6 hM, MM.a7 hM, MM.a8 hM, MM.a9 hM, MM.a10 hM, MM.a11 hM, MM.a12 hM, MM.d1 hM, MM.d2 hM, MM.d3 hM, MM.d4 hM, MM.d5 hM, MM.d6 hM, MM.d7 hM, MM.d8 hM, MM.d9 hM, MM.d10 hM, MM.d11 hM, MM.d12 hM, MM.fl hM, true_and]
    refine hM.wr (by omega) (by omega) (fun G1 hM1 => ⟨hM1.o, ?_⟩)
    have e7 : rep μ 1 (ud (μ 1) 432 (μ 1 432 + pt (μ 1 (1 + 23 * μ 1 (139 + 61 * b + 1 + (μ 1 (139 + 61 * b) - 1)) + 0)))) 1 (139 + 61 * b) = μ 1 (139 + 61 * b) := by rw [rep_at, ud_ne (by omega)]
    refine pm_takes hM1 hb (by rw [e7]; omega) (by rw [e7]; omega) (fun G2 hM2 => ?_)
    intro x hx
    subst hx
    rw [rep_rep, rep_at] at hM2
    have hM2 : MM G0 G2 M (rep μ 1 (popW (ud (μ 1) 432 (μ 1 432 + pt (kdW (μ 1) b (μ 1 (139 + 61 * b) - 1)))) b)) := hM2
    refine pm_eatInBay_l hb hs n _ G2 _ hM2 (by rw [rep_at]; exact hst.1) (by omega) (by omega) (by rw [rep_at, hst.2]; omega) ?_
    rw [rep_rep, rep_at]
    exact h
theorem pm_eatInBay {Q : Int32 → aH → Prop} (hM : MM G0 G M μ) {b : Int} (hb : 0 ≤ b ∧ b ≤ 3) (hB : BK (μ 1) b) (hr : 0 ≤ μ 1 (406 + 3 * b + 1) ∧ μ 1 (406 + 3 * b + 1) ≤ 50) (h : ∀ G1, MM G0 G1 M (rep μ 1 (eatB b (mnI (μ 1 (139 + 61 * b)) (μ 1 (406 + 3 * b + 1) / 10)).toNat (μ 1))) → Q (Int32.ofInt (mnI (μ 1 (139 + 61 * b)) (μ 1 (406 + 3 * b + 1) / 10))) G1) : tw_X8_eatInBay Q G M (Int32.ofInt b) := by
  have hn := hB.1
  have hm := mnI_b (a := 0) (b := 60) (x := μ 1 (139 + 61 * b)) (y := μ 1 (406 + 3 * b + 1) / 10) (by omega) (by omega)
  have hm2 : mnI (μ 1 (139 + 61 * b)) (μ 1 (406 + 3 * b + 1) / 10) ≤ μ 1 (139 + 61 * b) := by unfold mnI; split <;> omega
  unfold tw_X8_eatInBay
  simp (disch := omega) only [n_nat, n_add, n_sub, n_mul, n_neg, n_le, n_lt, n_eq, n_div, n_tn, n_if, Int.cast_ofNat_Int, MM.o hM, MM.r0 hM, MM.r1 hM, MM.r2 hM, MM.r3 hM, MM.r4 hM, MM.r8 hM, MM.r9 hM, MM.r10 hM, MM.r13 hM, MM.r16 hM, MM.r21 hM, MM.r22 hM, MM.a1 hM, MM.a2 hM, MM.a3 hM, MM.a4 hM, MM.a5 hM, MM.a6 hM, MM.a7 hM, MM.a8 hM, MM.a9 hM, MM.a10 hM, MM.a11 hM, MM.a12 hM, MM.d1 hM, MM.d2 hM, MM.d3 hM, MM.d4 hM, MM.d5 hM, MM.d6 hM, MM.d7 hM, MM.d8 hM, MM.d9 hM, MM.d10 hM, MM.d11 hM, MM.d12 hM, MM.fl hM, true_and]
  refine pm_inBay hM hb.1 hb.2 ⟨hM.o, pm_rats hM (by omega) (by omega) ?_⟩
  simp (disch := omega) only [n_nat, n_add, n_sub, n_mul, n_neg, n_le, n_lt, n_eq, n_div, n_tn, n_if, Int.cast_ofNat_Int]
  intro x hx
  have hx : x = Int32.ofInt (mnI (μ 1 (139 + 61 * b)) (μ 1 (406 + 3 * b + 1) / 10)) := hx
  subst hx
  exact ⟨_, pm_eatInBay_l hb hm (mnI (μ 1 (139 + 61 * b)) (μ 1 (406 + 3 * b + 1) / 10)).toNat 0 G μ hM hB (by omega) (by omega) (by omega) h⟩
end MODEL
