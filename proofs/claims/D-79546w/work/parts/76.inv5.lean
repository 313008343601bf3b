/-! PLAIN LAW: the invariant is kept by what falls into arrears -/
theorem PC_fall1 {N : Int} {w : Int → Int} {p : Int} (hp : 0 ≤ p ∧ p < 6) (h : PC N w p) (h1 : 1 ≤ w (1 + 23 * p + 4)) : PC N (fall1 w p) p := by
  obtain ⟨a1, a2, a3, a4, a5, a6, a7, a8, a9⟩ := h
  have e4 := fall1_4 w p
  have ne : ∀ j, ¬ j = 1 + 23 * p + 2 → ¬ (1 + 23 * p + 4 ≤ j ∧ j < 1 + 23 * p + 23) → fall1 w p j = w j := fun j z1 z2 => fall1_ne w z1 z2 (by omega)
  have e2 : fall1 w p (1 + 23 * p + 2) = w (1 + 23 * p + 2) + w (1 + 23 * p + 6) := by
    unfold fall1
    rw [drW_ne _ (by omega) (by rw [ud_ne (by omega)]; omega), ud_at]
  have ed : ∀ k, 0 ≤ k → k < w (1 + 23 * p + 4) - 1 → fall1 w p (1 + 23 * p + (5 + 2 * k)) = w (1 + 23 * p + (5 + 2 * (k + 1))) := fun k k1 k2 => by
    rw [fall1_d w (by omega) (by omega)]
    congr 1
    omega
  have es : ∀ k, 0 ≤ k → k < w (1 + 23 * p + 4) - 1 → fall1 w p (1 + 23 * p + (5 + 2 * k + 1)) = w (1 + 23 * p + (5 + 2 * (k + 1) + 1)) := fun k k1 k2 => by
    rw [fall1_d w (by omega) (by omega)]
    congr 1
    omega
  obtain ⟨n, hn⟩ : ∃ n : Nat, (w (1 + 23 * p + 4)).toNat = n + 1 := ⟨(w (1 + 23 * p + 4)).toNat - 1, by omega⟩
  have hsum : sF (fun k => w (1 + 23 * p + (5 + 2 * k + 1))) 0 (w (1 + 23 * p + 4)).toNat = w (1 + 23 * p + 6) + sF (fun k => w (1 + 23 * p + (5 + 2 * (k + 1) + 1))) 0 n := by
    rw [hn, sF_s, sF_sh (fun k => w (1 + 23 * p + (5 + 2 * k + 1))) 1 n 0]
    show w (1 + 23 * p + (5 + 2 * 0 + 1)) + _ = _
    rw [show (1 + 23 * p + (5 + 2 * 0 + 1) : Int) = 1 + 23 * p + 6 by omega]
  have hs2 : sF (fun k => fall1 w p (1 + 23 * p + (5 + 2 * k + 1))) 0 (w (1 + 23 * p + 4) - 1).toNat = sF (fun k => w (1 + 23 * p + (5 + 2 * (k + 1) + 1))) 0 n := by
    rw [show (w (1 + 23 * p + 4) - 1).toNat = n by omega]
    exact sF_cg n 0 (fun i i1 i2 => es i i1 (by omega))
  have h6 := (a7 0 (by omega) (by omega)).1
  rw [show (1 + 23 * p + (5 + 2 * 0 + 1) : Int) = 1 + 23 * p + 6 by omega] at h6
  have e8 := ne 428 (by omega) (by omega)
  have e0 := ne 0 (by omega) (by omega)
  refine ⟨by rw [ne _ (by omega) (by omega)]; exact a1, by rw [ne _ (by omega) (by omega)]; exact a2, by rw [e2]; omega, by rw [ne _ (by omega) (by omega)]; exact a4, by rw [e4]; omega, ?_, fun k k1 k2 => ?_, fun k k1 k2 => ?_, fun z => ?_⟩
  · rw [e2, e4, ne (1 + 23 * p + 3) (by omega) (by omega), ne (1 + 23 * p + 1) (by omega) (by omega), hs2]
    omega
  · rw [e4] at k2
    rw [es k k1 k2, ed k k1 k2, e8]
    exact a7 (k + 1) (by omega) (by omega)
  · rw [e4] at k2
    rw [ed k k1 (by omega), ed (k + 1) (by omega) (by omega)]
    exact a8 (k + 1) (by omega) (by omega)
  · rw [e0] at z
    have := a9 z
    omega
