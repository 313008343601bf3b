/-! PLAIN LAW: a day of the model, whole -/
theorem WI.fb {N : Int} {w : Int → Int} (hW : WI N w) {p : Int} (hp : 0 ≤ p ∧ p < 6) : FB w p := by
  obtain ⟨b1, b2, b3, b4, b5, b6, b7, b8, -⟩ := hW.2.2.1 p hp.1 hp.2
  have hd := hW.2.2.2.2.2.2.2.2.1
  exact ⟨b5, hd, fun k k1 k2 => by have := b7 k k1 k2; omega⟩
theorem WI.bk {N : Int} {w : Int → Int} (hW : WI N w) {b : Int} (hb : 0 ≤ b ∧ b ≤ 3) : BK w b := by
  have h0 := hW.2.1
  obtain ⟨g1, g2⟩ := hW.2.2.2.1 b hb.1 hb.2
  exact ⟨g1, fun k k1 k2 => by have := g2 k k1 k2; omega, fun p p1 p2 => (hW.2.2.1 p p1 p2).1⟩
section MODEL
variable {G0 G : aH} {M : Nat} {μ : Nat → Int → Int} {N : Int}
theorem pm_day25 {Q : Int32 → aH → Prop} {a : Int32} (hE : ∀ (w : Int → Int) (p : Int), WI N w → 0 ≤ p ∧ p ≤ 6 → WI N (eatsR w p)) : ∀ (n : Nat) (k : Int) (G : aH) (μ : Nat → Int → Int), MM G0 G M μ → WI N (μ 1) → 0 ≤ k → k + n = 7 → (∀ G1, MM G0 G1 M (rep μ 1 (fasR (eaN k n (μ 1)))) → Q a G1) → tw_X8_day_b25 Q (n + 1) G M a (Int32.ofInt k)
  | 0, k, G, μ, hM, hW, hk, hn, h => by
    rw [tws_X8_day_b25]
    simp (disch := omega) only [n_nat, n_add, n_sub, n_mul, n_neg, n_le, n_lt, n_eq, n_div, n_tn, n_if, Int.cast_ofNat_Int]
    exact ⟨fun _ => pm_day42 hM hW.2.1 (fun p p1 p2 => hW.fb ⟨p1, p2⟩) h, fun c => by omega⟩
  | n + 1, k, G, μ, hM, hW, hk, hn, h => by
    have hpl := hW.2.2.2.2.2.2.1 k hk (by omega)
    have hc := hW.2.2.2.2.2.2.2.1
    rw [tws_X8_day_b25]
    simp (disch := omega) only [n_nat, n_add, n_sub, n_mul, n_neg, n_le, n_lt, n_eq, n_div, n_tn, n_if, Int.cast_ofNat_Int]
    refine ⟨fun c => by omega, fun _ => ⟨hM.o, pm_eats hM (by omega) hc hpl.2 (by have := hpl.1; rw [Int.add_zero] at this; exact this) (fun z => hW.bk ⟨hk, z⟩) (fun z => by have := (hW.2.2.2.2.2.1 (k - 4) (by omega) (by omega)).1; rw [Int.add_zero] at this; omega) (fun G1 hM1 => ?_)⟩⟩
    intro x hx
    subst hx
    refine pm_day25 hE n _ G1 _ hM1 (by rw [rep_at]; exact hE _ _ hW (by omega)) (by omega) (by omega) ?_
    rw [rep_rep, rep_at]
    exact h
theorem pm_day4e {Q : Int32 → aH → Prop} {a : Int32} (hE : ∀ (w : Int → Int) (p : Int), WI N w → 0 ≤ p ∧ p ≤ 6 → WI N (eatsR w p)) (hM : MM G0 G M μ) (hW : WI N (μ 1)) (h : ∀ G1, MM G0 G1 M (rep μ 1 (fasR (eaN 0 7 (μ 1)))) → Q a G1) : tw_X8_day_b4 Q 1 G M a (Int32.ofInt 2) := by
  rw [tws_X8_day_b4]
  simp (disch := omega) only [n_nat, n_add, n_sub, n_mul, n_neg, n_le, n_lt, n_eq, n_div, n_tn, n_if, Int.cast_ofNat_Int]
  refine ⟨fun _ => ?_, fun c => by omega⟩
  unfold tw_X8_day_b23
  exact ⟨8, pm_day25 hE 7 0 G μ hM hW (by omega) (by omega) h⟩
theorem pm_day4s {Q : Int32 → aH → Prop} {n : Nat} {k a : Int} (hk : 0 ≤ k ∧ k ≤ 1) (hM : MM G0 G M μ) (hW : WI N (μ 1)) (h : ∀ G1, MM G0 G1 M (rep μ 1 (thrR (μ 1) k)) → tw_X8_day_b4 Q n G1 M (Int32.ofInt (a + thrW (μ 1) k)) (Int32.ofInt (k + 1))) : tw_X8_day_b4 Q (n + 1) G M (Int32.ofInt a) (Int32.ofInt k) := by
  have hf := hW.2.2.2.2.1 k hk.1 hk.2
  rw [tws_X8_day_b4]
  simp (disch := omega) only [n_nat, n_add, n_sub, n_mul, n_neg, n_le, n_lt, n_eq, n_div, n_tn, n_if, Int.cast_ofNat_Int]
  refine ⟨fun c => by omega, fun _ => ⟨hM.o, pm_threshedOn hM hk hf.2.1 hf.1 hf.2.2 (hW.2.2.2.2.2.1 _ hf.2.1.1 hf.2.1.2).1 (fun G1 hM1 => ?_)⟩⟩
  intro x hx y hy
  rw [n_add] at hx
  subst hx hy
  exact h G1 hM1
theorem pm_day {Q : Int32 → aH → Prop} (hT : ∀ (w : Int → Int) (f : Int), WI N w → 0 ≤ f ∧ f ≤ 1 → WI N (thrR w f)) (hE : ∀ (w : Int → Int) (p : Int), WI N w → 0 ≤ p ∧ p ≤ 6 → WI N (eatsR w p)) (hM : MM G0 G M μ) (hW : WI N (μ 1)) (h : ∀ G1, MM G0 G1 M (rep μ 1 (fasR (eaN 0 7 (thrR (thrR (μ 1) 0) 1)))) → Q (Int32.ofInt (thrW (μ 1) 0 + thrW (thrR (μ 1) 0) 1)) G1) : tw_X8_day Q G M := by
  unfold tw_X8_day
  simp (disch := omega) only [n_nat, n_add, n_sub, n_mul, n_neg, n_le, n_lt, n_eq, n_div, n_tn, n_if, Int.cast_ofNat_Int]
  have hW1 := hT _ 0 hW (by omega)
  have hW2 := hT _ 1 hW1 (by omega)
  refine ⟨3, pm_day4s (by omega) hM hW (fun G1 hM1 => ?_)⟩
  rw [show (0 : Int) + 1 = 1 by omega, show 0 + thrW (μ 1) 0 = thrW (μ 1) 0 by omega]
  refine pm_day4s (by omega) hM1 (by rw [rep_at]; exact hW1) (fun G2 hM2 => ?_)
  rw [show (1 : Int) + 1 = 2 by omega, rep_at]
  rw [rep_rep, rep_at] at hM2
  refine pm_day4e hE hM2 (by rw [rep_at]; exact hW2) ?_
  rw [rep_rep, rep_at]
  exact h
end MODEL
