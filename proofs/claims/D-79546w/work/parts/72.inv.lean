/-! PLAIN LAW: the invariant is kept -/
/-- a parish's part of it -/
def PC (N : Int) (w : Int → Int) (p : Int) : Prop := (0 ≤ w (1 + 23 * p + 0) ∧ w (1 + 23 * p + 0) ≤ 2) ∧ (0 ≤ w (1 + 23 * p + 1) ∧ w (1 + 23 * p + 1) ≤ 1000 * N) ∧ 0 ≤ w (1 + 23 * p + 2) ∧ 0 ≤ w (1 + 23 * p + 3) ∧ (0 ≤ w (1 + 23 * p + 4) ∧ w (1 + 23 * p + 4) ≤ 8) ∧
    w (1 + 23 * p + 2) + w (1 + 23 * p + 3) + sF (fun k => w (1 + 23 * p + (5 + 2 * k + 1))) 0 (w (1 + 23 * p + 4)).toNat ≤ w (1 + 23 * p + 1) ∧
    (∀ k, 0 ≤ k → k < w (1 + 23 * p + 4) → 0 < w (1 + 23 * p + (5 + 2 * k + 1)) ∧ 0 ≤ w (1 + 23 * p + (5 + 2 * k)) ∧ w (1 + 23 * p + (5 + 2 * k)) ≤ w 428 ∧ w 428 ≤ w (1 + 23 * p + (5 + 2 * k)) + 7) ∧
    (∀ k, 0 ≤ k → k + 1 < w (1 + 23 * p + 4) → w (1 + 23 * p + (5 + 2 * k)) < w (1 + 23 * p + (5 + 2 * (k + 1)))) ∧
    (w 0 ≤ p → w (1 + 23 * p + 1) = 0 ∧ w (1 + 23 * p + 4) = 0)
theorem WI.pc {N : Int} {w : Int → Int} (h : WI N w) {p : Int} (h1 : 0 ≤ p) (h2 : p < 6) : PC N w p := h.2.2.1 p h1 h2
theorem PC.cg {N : Int} {w w' : Int → Int} {p : Int} (h : PC N w p) (e : ∀ j, 1 + 23 * p ≤ j → j < 1 + 23 * p + 23 → w' j = w j) (e0 : w' 0 = w 0) (e8 : w' 428 = w 428) : PC N w' p := by
  obtain ⟨a1, a2, a3, a4, a5, a6, a7, a8, a9⟩ := h
  have f0 := e (1 + 23 * p + 0) (by omega) (by omega)
  have f1 := e (1 + 23 * p + 1) (by omega) (by omega)
  have f2 := e (1 + 23 * p + 2) (by omega) (by omega)
  have f3 := e (1 + 23 * p + 3) (by omega) (by omega)
  have f4 := e (1 + 23 * p + 4) (by omega) (by omega)
  have fs : sF (fun k => w' (1 + 23 * p + (5 + 2 * k + 1))) 0 (w (1 + 23 * p + 4)).toNat = sF (fun k => w (1 + 23 * p + (5 + 2 * k + 1))) 0 (w (1 + 23 * p + 4)).toNat := sF_cg _ 0 (fun i i1 i2 => e _ (by omega) (by omega))
  refine ⟨by rw [f0]; exact a1, by rw [f1]; exact a2, by rw [f2]; exact a3, by rw [f3]; exact a4, by rw [f4]; exact a5, by rw [f1, f2, f3, f4, fs]; exact a6, fun k k1 k2 => ?_, fun k k1 k2 => ?_, by rw [e0, f1, f4]; exact a9⟩
  · rw [f4] at k2
    rw [e8, e _ (by omega) (by omega), e (1 + 23 * p + (5 + 2 * k)) (by omega) (by omega)]
    exact a7 k k1 k2
  · rw [f4] at k2
    rw [e _ (by omega) (by omega), e (1 + 23 * p + (5 + 2 * (k + 1))) (by omega) (by omega)]
    exact a8 k k1 k2
