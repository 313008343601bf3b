/-! PLAIN LAW: the invariant is kept by threshing -/
theorem thrW_b {w : Int → Int} {f : Int} (hk : 0 ≤ w (383 + 4 * f + 1) ∧ w (383 + 4 * f + 1) ≤ 2) (hs : 0 ≤ w (383 + 4 * f + 0) ∧ w (383 + 4 * f + 0) ≤ 20) (hl : 1 ≤ w (383 + 4 * f + 2) ∧ w (383 + 4 * f + 2) ≤ 6) (hp : 0 ≤ w (391 + 5 * w (383 + 4 * f + 1) + 0) ∧ w (391 + 5 * w (383 + 4 * f + 1) + 0) ≤ 2000) : 0 ≤ thrW w f ∧ thrW w f ≤ w (383 + 4 * f + 0) ∧ 0 ≤ thrW w f * pt (w (383 + 4 * f + 1)) ∧ thrW w f * pt (w (383 + 4 * f + 1)) ≤ 2000 - w (391 + 5 * w (383 + 4 * f + 1) + 0) := by
  have hpt := pt_b (w (383 + 4 * f + 1))
  have hroom : 0 ≤ (2000 - w (391 + 5 * w (383 + 4 * f + 1) + 0)) / pt (w (383 + 4 * f + 1)) := Int.ediv_nonneg (by omega) (by omega)
  have hin : 0 ≤ mnI (w (383 + 4 * f + 2)) (w (383 + 4 * f + 0)) ∧ mnI (w (383 + 4 * f + 2)) (w (383 + 4 * f + 0)) ≤ w (383 + 4 * f + 0) := by unfold mnI; split <;> omega
  have h1 : 0 ≤ thrW w f ∧ thrW w f ≤ w (383 + 4 * f + 0) ∧ thrW w f ≤ (2000 - w (391 + 5 * w (383 + 4 * f + 1) + 0)) / pt (w (383 + 4 * f + 1)) := by
    unfold thrW
    unfold mnI at hin ⊢
    split <;> omega
  have h2 := Int.ediv_mul_le (2000 - w (391 + 5 * w (383 + 4 * f + 1) + 0)) (b := pt (w (383 + 4 * f + 1))) (by omega)
  have h3 := Int.mul_le_mul_of_nonneg_right (c := pt (w (383 + 4 * f + 1))) h1.2.2 (by omega)
  have h4 := Int.mul_nonneg h1.1 (b := pt (w (383 + 4 * f + 1))) (by omega)
  exact ⟨h1.1, h1.2.1, h4, Int.le_trans h3 h2⟩
theorem WI.thr {N : Int} {w : Int → Int} {f : Int} (h : WI N w) (hf : 0 ≤ f ∧ f ≤ 1) : WI N (thrR w f) := by
  have hfl := h.2.2.2.2.1 f hf.1 hf.2
  have hst := h.2.2.2.2.2.1 _ hfl.2.1.1 hfl.2.1.2
  obtain ⟨m1, m2, m3, m4⟩ := thrW_b hfl.2.1 hfl.1 hfl.2.2 hst.1
  have hk := hfl.2.1
  have ne : ∀ j, ¬ (383 ≤ j ∧ j < 406) → thrR w f j = w j := fun j hj => by
    unfold thrR
    rw [ud_ne (by omega), ud_ne (by omega), ud_ne (by omega), ud_ne (by omega)]
  have e0 := ne 0 (by omega)
  have e8 := ne 428 (by omega)
  refine ⟨h.1, by rw [e0]; exact h.2.1, fun p p1 p2 => (h.pc p1 p2).cg (fun j j1 j2 => ne j (by omega)) e0 e8, fun b b1 b2 => ?_, fun g g1 g2 => ?_, fun c c1 c2 => ?_, fun p p1 p2 => ?_, by rw [ne 427 (by omega)]; exact h.2.2.2.2.2.2.2.1, by rw [e8]; exact h.2.2.2.2.2.2.2.2.1, ?_, ?_⟩
  · have hb := h.2.2.2.1 b b1 b2
    rw [ne _ (by omega), e0]
    exact ⟨hb.1, fun k k1 k2 => by rw [ne _ (by omega)]; exact hb.2 k k1 k2⟩
  · have hg := h.2.2.2.2.1 g g1 g2
    have e1 : thrR w f (383 + 4 * g + 1) = w (383 + 4 * g + 1) := by
      unfold thrR
      rw [ud_ne (by omega), ud_ne (by omega), ud_ne (by omega), ud_ne (by omega)]
    have e2 : thrR w f (383 + 4 * g + 2) = w (383 + 4 * g + 2) := by
      unfold thrR
      rw [ud_ne (by omega), ud_ne (by omega), ud_ne (by omega), ud_ne (by omega)]
    rw [e1, e2]
    refine ⟨?_, hg.2⟩
    by_cases e : g = f
    · subst e
      have e3 : thrR w g (383 + 4 * g + 0) = w (383 + 4 * g + 0) - thrW w g := by
        unfold thrR
        rw [ud_ne (by omega), ud_ne (by omega), ud_ne (by omega), Int.add_zero, ud_at]
      rw [e3]
      omega
    · have e3 : thrR w f (383 + 4 * g + 0) = w (383 + 4 * g + 0) := by
        unfold thrR
        rw [ud_ne (by omega), ud_ne (by omega), ud_ne (by omega), ud_ne (by omega)]
      rw [e3]
      exact hg.1
  · have hc := h.2.2.2.2.2.1 c c1 c2
    have e1 : thrR w f (391 + 5 * c + 1) = w (391 + 5 * c + 1) := by
      unfold thrR
      rw [ud_ne (by omega), ud_ne (by omega), ud_ne (by omega), ud_ne (by omega)]
    rw [e1]
    refine ⟨?_, hc.2⟩
    by_cases e : c = w (383 + 4 * f + 1)
    · have e3 : thrR w f (391 + 5 * c + 0) = w (391 + 5 * c) + thrW w f * pt (w (383 + 4 * f + 1)) := by
        unfold thrR
        rw [ud_ne (by omega), Int.add_zero, ← e, ud_at]
      rw [e3]
      rw [← e] at m3 m4
      rw [Int.add_zero] at m4 hc
      rw [← e]
      omega
    · have e3 : thrR w f (391 + 5 * c + 0) = w (391 + 5 * c + 0) := by
        unfold thrR
        rw [ud_ne (by omega), ud_ne (by omega), ud_ne (by omega), ud_ne (by omega)]
      rw [e3]
      exact hc.1
  · rw [ne _ (by omega), ne _ (by omega)]
    exact h.2.2.2.2.2.2.1 p p1 p2
  · rw [ne 430 (by omega), e0, sF_cg (g := fun p => w (1 + 23 * p + 3) * pt (w (1 + 23 * p + 0))) _ 0 (fun i i1 i2 => by have := h.2.1; rw [ne _ (by omega), ne _ (by omega)])]
    exact h.2.2.2.2.2.2.2.2.2.1
  · have es : ∀ c : Int, 0 ≤ c → c ≤ 2 → thrR w f (391 + 5 * c + 3) = w (391 + 5 * c + 3) := fun c c1 c2 => by
      unfold thrR
      rw [ud_ne (by omega), ud_ne (by omega), ud_ne (by omega), ud_ne (by omega)]
    rw [ne 431 (by omega), es 0 (by omega) (by omega), es 1 (by omega) (by omega), es 2 (by omega) (by omega)]
    exact h.2.2.2.2.2.2.2.2.2.2
