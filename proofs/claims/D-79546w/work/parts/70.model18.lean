/-! PLAIN LAW: a day of the model -/
def thrN : Int → Nat → (Int → Int) → Int → Int
  | _, 0, w => w
  | f, n + 1, w => thrN (f + 1) n (thrR w f)
def thrS : Int → Nat → (Int → Int) → Int → Int
  | _, 0, _, a => a
  | f, n + 1, w, a => thrS (f + 1) n (thrR w f) (a + thrW w f)
def eaN : Int → Nat → (Int → Int) → Int → Int
  | _, 0, w => w
  | p, n + 1, w => eaN (p + 1) n (eatsR w p)
def faN : Int → Nat → (Int → Int) → Int → Int
  | _, 0, w => w
  | p, n + 1, w => faN (p + 1) n (fallN p 8 w)
def fasR (w : Int → Int) : Int → Int := ud (faN 0 (w 0).toNat w) 428 (faN 0 (w 0).toNat w 428 + 1)
def dayR (w : Int → Int) : Int → Int := fasR (eaN 0 7 (thrN 0 2 w))
def dayS (w : Int → Int) : Int := thrS 0 2 w 0
section MODEL
variable {G0 G : aH} {M : Nat} {μ : Nat → Int → Int} {N : Int}
theorem pm_day65 {Q : Int32 → aH → Prop} (hM : MM G0 G M μ) {a : Int32} (h : ∀ G1, MM G0 G1 M (rep μ 1 (ud (μ 1) 428 (μ 1 428 + 1))) → Q a G1) : tw_X8_day_b65 Q G M a := by
  unfold tw_X8_day_b65
  simp (disch := omega) only [n_nat, n_add, n_sub, n_mul, n_neg, n_le, n_lt, n_eq, n_div, n_tn, n_if, Int.cast_ofNat_Int, MM.o hM, MM.r0 hM, MM.r1 hM, MM.r2 hM, MM.r3 hM, MM.r4 hM, MM.r8 hM, MM.r9 hM, MM.r10 hM, MM.r13 hM, MM.r16 hM, MM.r21 hM, MM.r22 hM, MM.a1 hM, MM.a2 hM, MM.a3 hM, MM.a4 hM, MM.a5 hM, MM.a6 hM, MM.a7 hM, MM.a8 hM, MM.a9 hM, MM.a10 hM, MM.a11 hM, MM.a12 hM, MM.d1 hM, MM.d2 hM, MM.d3 hM, MM.d4 hM, MM.d5 hM, MM.d6 hM, MM.d7 hM, MM.d8 hM, MM.d9 hM, MM.d10 hM, MM.d11 hM, MM.d12 hM, MM.fl hM, true_and]
  exact hM.wr (by omega) (by omega) h
theorem pm_day44 {Q : Int32 → aH → Prop} {a : Int32} {m : Int} (hm : 0 ≤ m ∧ m ≤ 6) : ∀ (n : Nat) (k : Int) (G : aH) (μ : Nat → Int → Int), MM G0 G M μ → μ 1 0 = m → 0 ≤ k → k + n = m → (∀ p, k ≤ p → p < 6 → FB (μ 1) p) → (∀ G1, MM G0 G1 M (rep μ 1 (ud (faN k n (μ 1)) 428 (faN k n (μ 1) 428 + 1))) → Q a G1) → tw_X8_day_b44 Q (n + 1) G M a (Int32.ofInt k)
  | 0, k, G, μ, hM, h0, hk, hn, hF, h => by
    rw [tws_X8_day_b44]
    simp (disch := omega) only [n_nat, n_add, n_sub, n_mul, n_neg, n_le, n_lt, n_eq, n_div, n_tn, n_if, Int.cast_ofNat_Int, MM.o hM, MM.r0 hM, MM.r1 hM, MM.r2 hM, MM.r3 hM, MM.r4 hM, MM.r8 hM, MM.r9 hM, MM.r10 hM, MM.r13 hM, MM.r16 hM, MM.r21 hM, MM.r22 hM, MM.a1 hM, MM.a2 hM, MM.a3 hM, MM.a4 hM, MM.a5 hM, MM.a6 hM, MM.a7 hM, MM.a8 hM, MM.a9 hM, MM.a10 hM, MM.a11 hM, MM.a12 hM, MM.d1 hM, MM.d2 hM, MM.d3 hM, MM.d4 hM, MM.d5 hM, MM.d6 hM, MM.d7 hM, MM.d8 hM, MM.d9 hM, MM.d10 hM, MM.d11 hM, MM.d12 hM, MM.fl hM, true_and]
    exact ⟨fun _ => pm_day65 hM h, fun c => by omega⟩
  | n + 1, k, G, μ, hM, h0, hk, hn, hF, h => by
    rw [tws_X8_day_b44]
    simp (disch := omega) only [n_nat, n_add, n_sub, n_mul, n_neg, n_le, n_lt, n_eq, n_div, n_tn, n_if, Int.cast_ofNat_Int, MM.o hM, MM.r0 hM, MM.r1 hM, MM.r2 hM, MM.r3 hM, MM.r4 hM, MM.r8 hM, MM.r9 hM, MM.r10 hM, MM.r13 hM, MM.r16 hM, MM.r21 hM, MM.r22 hM, MM.a1 hM, MM.a2 hM, MM.a3 hM, MM.a4 hM, MM.a5 hM, MM.a6 hM, MM.a7 hM, MM.a8 hM, MM.a9 hM, MM.a10 hM, MM.a11 hM, MM.a12 hM, MM.d1 hM, MM.d2 hM, MM.d3 hM, MM.d4 hM, MM.d5 hM, MM.d6 hM, MM.d7 hM, MM.d8 hM, MM.d9 hM, MM.d10 hM, MM.d11 hM, MM.d12 hM, MM.fl hM, true_and]
    refine ⟨fun c => by omega, fun _ => pm_falls hM (by omega) (hF k (by omega) (by omega)) (fun G1 hM1 => ?_)⟩
    intro x hx
    subst hx
    have ne : ∀ (n : Nat) (w : Int → Int), w (1 + 23 * k + 4) ≤ 8 → ∀ j, ¬ j = 1 + 23 * k + 2 → ¬ (1 + 23 * k + 4 ≤ j ∧ j < 1 + 23 * k + 23) → fallN k n w j = w j := fun n => by
      induction n with
      | zero => intro w _ j _ _; rfl
      | succ n ih =>
        intro w hw j g1 g2
        rw [fallN]
        split
        · rfl
        · split
          · rfl
          · rw [ih _ (by rw [fall1_4]; omega) j g1 g2, fall1_ne w g1 g2 (by omega)]
    have hk8 := (hF k (by omega) (by omega)).1.2
    refine pm_day44 hm n _ G1 _ hM1 (by rw [rep_at, ne 8 _ hk8 _ (by omega) (by omega)]; exact h0) (by omega) (by omega) (fun p p1 p2 => ?_) ?_
    · obtain ⟨f1, f2, f3⟩ := hF p (by omega) p2
      rw [rep_at]
      refine ⟨?_, ?_, fun j j1 j2 => ?_⟩
      · rw [ne 8 _ hk8 _ (by omega) (by omega)]; exact f1
      · rw [ne 8 _ hk8 _ (by omega) (by omega)]; exact f2
      · rw [ne 8 _ hk8 _ (by omega) (by omega)] at j2
        rw [ne 8 _ hk8 _ (by omega) (by omega)]
        exact f3 j j1 j2
    · rw [rep_at, rep_rep]
      exact h
theorem pm_day42 {Q : Int32 → aH → Prop} (hM : MM G0 G M μ) {a : Int32} (h0 : 0 ≤ μ 1 0 ∧ μ 1 0 ≤ 6) (hF : ∀ p, 0 ≤ p → p < 6 → FB (μ 1) p) (h : ∀ G1, MM G0 G1 M (rep μ 1 (fasR (μ 1))) → Q a G1) : tw_X8_day_b42 Q G M a := by
  unfold tw_X8_day_b42
  exact ⟨_, pm_day44 h0 (μ 1 0).toNat 0 G μ hM rfl (by omega) (by omega) hF h⟩
end MODEL
