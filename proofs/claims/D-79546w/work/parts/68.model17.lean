/-! PLAIN LAW: the model's days: what falls into arrears -/
/-- a due that is too old falls -/
def fall1 (w : Int → Int) (p : Int) : Int → Int := drW (ud w (1 + 23 * p + 2) (w (1 + 23 * p + 2) + w (1 + 23 * p + 6))) p
def fallN (p : Int) : Nat → (Int → Int) → Int → Int
  | 0, w => w
  | n + 1, w => if w (1 + 23 * p + 4) ≤ 0 then w else if w 428 - 7 < w (1 + 23 * p + 5) then w else fallN p n (fall1 w p)
theorem fall1_ne (w : Int → Int) {p j : Int} (h1 : ¬ j = 1 + 23 * p + 2) (h2 : ¬ (1 + 23 * p + 4 ≤ j ∧ j < 1 + 23 * p + 23)) (h3 : w (1 + 23 * p + 4) ≤ 9) : fall1 w p j = w j := by
  unfold fall1
  rw [drW_ne _ h2 (by rw [ud_ne (by omega)]; exact h3), ud_ne h1]
theorem fall1_4 (w : Int → Int) (p : Int) : fall1 w p (1 + 23 * p + 4) = w (1 + 23 * p + 4) - 1 := by
  unfold fall1
  rw [drW_4, ud_ne (by omega)]
theorem fall1_d (w : Int → Int) {p j : Int} (h1 : 1 + 23 * p + 5 ≤ j) (h2 : j < 1 + 23 * p + 3 + 2 * w (1 + 23 * p + 4)) : fall1 w p j = w (j + 2) := by
  unfold fall1
  rw [drW_d _ h1 (by rw [ud_ne (by omega)]; exact h2), ud_ne (by omega)]
/-- bounds of a parish's days -/
def FB (w : Int → Int) (p : Int) : Prop := (0 ≤ w (1 + 23 * p + 4) ∧ w (1 + 23 * p + 4) ≤ 8) ∧ (0 ≤ w 428 ∧ w 428 ≤ 100000) ∧ ∀ k, 0 ≤ k → k < w (1 + 23 * p + 4) → 0 ≤ w (1 + 23 * p + (5 + 2 * k)) ∧ w (1 + 23 * p + (5 + 2 * k)) ≤ 100000
theorem FB.step {w : Int → Int} {p : Int} (hp : 0 ≤ p ∧ p < 6) (h : FB w p) (h1 : 1 ≤ w (1 + 23 * p + 4)) : FB (fall1 w p) p := by
  obtain ⟨g1, g2, g3⟩ := h
  refine ⟨by rw [fall1_4]; omega, ?_, fun k k1 k2 => ?_⟩
  · rw [fall1_ne _ (by omega) (by omega) (by omega)]; exact g2
  · rw [fall1_4] at k2
    rw [fall1_d _ (by omega) (by omega)]
    have := g3 (k + 1) (by omega) (by omega)
    rw [show 1 + 23 * p + (5 + 2 * k) + 2 = 1 + 23 * p + (5 + 2 * (k + 1)) by omega]
    exact this
section MODEL
variable {G0 G : aH} {M : Nat} {μ : Nat → Int → Int} {N : Int}
theorem pm_falls_l {Q : aH → Prop} {p : Int} (hp : 0 ≤ p ∧ p < 6) : ∀ (n : Nat) (G : aH) (μ : Nat → Int → Int), MM G0 G M μ → FB (μ 1) p → μ 1 (1 + 23 * p + 4) ≤ n → (∀ G1, MM G0 G1 M (rep μ 1 (fallN p n (μ 1))) → Q G1) → tw_X8_falls_b7 Q (n + 1) G M (Int32.ofInt p) (Int32.ofInt (1 + 23 * p))
  | 0, G, μ, hM, hF, h1, h => by
    have hf1 := hF.1
    rw [tws_X8_falls_b7]
    simp (disch := omega) only [n_nat, n_add, n_sub, n_mul, n_neg, n_le, n_lt, n_eq, n_div, n_tn, n_if, Int.cast_ofNat_Int, MM.o hM, MM.r0 hM, MM.r1 hM, MM.r2 hM, MM.r3 hM, MM.r4 hM, MM.r8 hM, MM.r9 hM, MM.r10 hM, MM.r13 hM, MM.r16 hM, MM.r21 hM, MM.r22 hM, MM.a1 hM, MM.a2 hM, MM.a3 hM, MM.a4 hM, MM.a5 hM, MM.a6 hM, MM.a7 hM, MM.a8 hM, MM.a9 hM, MM.a10 hM, MM.a11 hM, MM.a12 hM, MM.d1 hM, MM.d2 hM, MM.d3 hM, MM.d4 hM, MM.d5 hM, MM.d6 hM, MM.d7 hM, MM.d8 hM, MM.d9 hM, MM.d10 hM, MM.d11 hM, MM.d12 hM, MM.fl hM, true_and]
    refine ⟨fun _ => h G ?_, fun c => by omega⟩
    show MM G0 G M (rep μ 1 (μ 1))
    rw [rep_self]
    exact hM
  | n + 1, G, μ, hM, hF, h1, h => by
    have hf1 := hF.1
    have hf2 := hF.2.1
    rw [fallN] at h
    by_cases c : μ 1 (1 + 23 * p + 4) ≤ 0
    · rw [if_pos c] at h
      rw [tws_X8_falls_b7]
      simp (disch := omega) only [n_nat, n_add, n_sub, n_mul, n_neg, n_le, n_lt, n_eq, n_div, n_tn, n_if, Int.cast_ofNat_Int, MM.o hM, MM.r0 hM, MM.r1 hM, MM.r2 hM, MM.r3 hM, MM.r4 hM, MM.r8 hM, MM.r9 hM, MM.r10 hM, MM.r13 hM, MM.r16 hM, MM.r21 hM, MM.r22 hM, MM.a1 hM, MM.a2 hM, MM.a3 hM, MM.a4 hM, MM.a5 hM, MM.a6 hM, MM.a7 hM, MM.a8 hM, MM.a9 hM, MM.a10 hM, MM.a11 hM, MM.a12 hM, MM.d1 hM, MM.d2 hM, MM.d3 hM, MM.d4 hM, MM.d5 hM, MM.d6 hM, MM.d7 hM, MM.d8 hM, MM.d9 hM, MM.d10 hM, MM.d11 hM, MM.d12 hM, MM.fl hM, true_and]
      refine ⟨fun _ => h G ?_, fun d => absurd c d⟩
      rw [rep_self]
      exact hM
    · rw [if_neg c] at h
      have hf3 := hF.2.2 0 (by omega) (by omega)
      rw [show (1 + 23 * p + (5 + 2 * 0) : Int) = 1 + 23 * p + 5 by omega] at hf3
      rw [tws_X8_falls_b7]
      simp (disch := omega) only [n_nat, n_add, n_sub, n_mul, n_neg, n_le, n_lt, n_eq, n_div, n_tn, n_if, Int.cast_ofNat_Int, MM.o hM, MM.r0 hM, MM.r1 hM, MM.r2 hM, MM.r3 hM, MM.r4 hM, MM.r8 hM, MM.r9 hM, MM.r10 hM, MM.r13 hM, MM.r16 hM, MM.r21 hM, MM.r22 hM, MM.a1 hM, MM.a2 hM, MM.a3 hM, MM.a4 hM, MM.a5 hM, MM.a6 hM, MM.a7 hM, MM.a8 hM, MM.a9 hM, MM.a10 hM, MM.a11 hM, MM.a12 hM, MM.d1 hM, MM.d2 hM, MM.d3 hM, MM.d4 hM, MM.d5 hM, MM.d6 hM, MM.d7 hM, MM.d8 hM, MM.d9 hM, MM.d10 hM, MM.d11 hM, MM.d12 hM, MM.fl hM, true_and]
      refine ⟨fun d => absurd d c, fun _ => ⟨fun d => ?_, fun d => ?_⟩⟩
      · rw [if_pos d] at h
        refine h G ?_
        rw [rep_self]
        exact hM
      · rw [if_neg d] at h
        refine hM.wr (by omega) (by omega) (fun G1 hM1 => ⟨hM1.o, ?_⟩)
        refine pm_dropsDue hM1 hp (by rw [rep_at, ud_ne (by omega)]; omega) (fun G2 hM2 => ?_)
        rw [rep_rep, rep_at] at hM2
        have hM2 : MM G0 G2 M (rep μ 1 (fall1 (μ 1) p)) := hM2
        refine pm_falls_l hp n G2 _ hM2 (by rw [rep_at]; exact hF.step hp (by omega)) (by rw [rep_at, fall1_4]; omega) ?_
        rw [rep_rep, rep_at]
        exact h
theorem pm_falls {Q : aH → Prop} (hM : MM G0 G M μ) {p : Int} (hp : 0 ≤ p ∧ p < 6) (hF : FB (μ 1) p) (h : ∀ G1, MM G0 G1 M (rep μ 1 (fallN p 8 (μ 1))) → Q G1) : tw_X8_falls Q G M (Int32.ofInt p) := by
  unfold tw_X8_falls
  simp (disch := omega) only [n_nat, n_add, n_sub, n_mul, n_neg, n_le, n_lt, n_eq, n_div, n_tn, n_if, Int.cast_ofNat_Int]
  intro x hx
  subst hx
  exact ⟨_, pm_falls_l hp 8 G μ hM hF hF.1.2 h⟩
end MODEL
