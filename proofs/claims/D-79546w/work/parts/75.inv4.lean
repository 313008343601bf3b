/-! PLAIN LAW: the invariant is kept by the rats, on -/
theorem mnI_le (x y : Int) : mnI x y ≤ x ∧ mnI x y ≤ y := by unfold mnI; split <;> omega
theorem WI.eats {N : Int} {w : Int → Int} {p : Int} (h : WI N w) (hp : 0 ≤ p ∧ p ≤ 6) : WI N (eatsR w p) := by
  have hpl := h.2.2.2.2.2.2.1 p hp.1 hp.2
  have hg : 0 ≤ w (406 + 3 * p) ∧ w (406 + 3 * p) ≤ 2 := by have := hpl.1; rw [Int.add_zero] at this; exact this
  have hn : p ≤ 3 → 0 ≤ w (139 + 61 * p) ∧ w (139 + 61 * p) ≤ 60 := fun z => (h.2.2.2.1 p hp.1 z).1
  have ne1 : ∀ j, ¬ j = 432 → (p ≤ 3 → ¬ (139 + 61 * p ≤ j ∧ j ≤ 139 + 61 * p + 60)) → (4 ≤ p → ¬ j = 391 + 5 * (p - 4)) → eatR w p j = w j := fun j => eatR_ne hp hn hpl.2.1
  have ne : ∀ j, ¬ j = 432 → (p ≤ 3 → ¬ (139 + 61 * p ≤ j ∧ j ≤ 139 + 61 * p + 60)) → (4 ≤ p → ¬ j = 391 + 5 * (p - 4)) → ¬ j = 406 + 3 * p + 1 → ¬ j = 406 + 3 * p + 2 → eatsR w p j = w j := fun j a b c d e => by
    unfold eatsR nigR
    rw [ud_ne d, ud_ne e]
    exact ne1 j a b c
  have e0 := ne 0 (by omega) (by omega) (by omega) (by omega) (by omega)
  have e8 := ne 428 (by omega) (by omega) (by omega) (by omega) (by omega)
  refine ⟨h.1, by rw [e0]; exact h.2.1, fun q p1 p2 => (h.pc p1 p2).cg (fun j j1 j2 => ne j (by omega) (by omega) (by omega) (by omega) (by omega)) e0 e8, fun b b1 b2 => ?_, fun g g1 g2 => ?_, fun c c1 c2 => ?_, fun q p1 p2 => ?_, by rw [ne 427 (by omega) (by omega) (by omega) (by omega) (by omega)]; exact h.2.2.2.2.2.2.2.1, by rw [e8]; exact h.2.2.2.2.2.2.2.2.1, ?_, ?_⟩
  · have hb := h.2.2.2.1 b b1 b2
    rw [e0]
    have en : ∀ j, 139 + 61 * b ≤ j → j ≤ 139 + 61 * b + 60 → eatsR w p j = eatR w p j := fun j j1 j2 => by
      unfold eatsR nigR
      rw [ud_ne (by omega), ud_ne (by omega)]
    by_cases e : b = p
    · subst e
      have hm := mnI_le (w (139 + 61 * b)) (w (406 + 3 * b + 1) / 10)
      have hm0 : 0 ≤ mnI (w (139 + 61 * b)) (w (406 + 3 * b + 1) / 10) := by unfold mnI; split <;> omega
      have ee : eatR w b = eatB b (mnI (w (139 + 61 * b)) (w (406 + 3 * b + 1) / 10)).toNat w := by
        unfold eatR
        rw [if_neg (by omega)]
      have en2 : eatsR w b (139 + 61 * b) = w (139 + 61 * b) - (mnI (w (139 + 61 * b)) (w (406 + 3 * b + 1) / 10)).toNat := by
        rw [en _ (by omega) (by omega), ee, (eatB_ne ⟨b1, b2⟩ _ w (by omega) hb.1.2).2]
      rw [en2]
      refine ⟨by omega, fun k k1 k2 => ?_⟩
      rw [en _ (by omega) (by omega), ee, eatB_sh ⟨b1, b2⟩ _ w (by omega) hb.1.2 k k1 (by omega)]
      exact hb.2 k k1 (by omega)
    · rw [ne (139 + 61 * b) (by omega) (by omega) (by omega) (by omega) (by omega)]
      exact ⟨hb.1, fun k k1 k2 => by rw [ne _ (by omega) (by omega) (by omega) (by omega) (by omega)]; exact hb.2 k k1 k2⟩
  · rw [ne _ (by omega) (by omega) (by omega) (by omega) (by omega), ne (383 + 4 * g + 1) (by omega) (by omega) (by omega) (by omega) (by omega), ne (383 + 4 * g + 2) (by omega) (by omega) (by omega) (by omega) (by omega)]
    exact h.2.2.2.2.1 g g1 g2
  · have hc := h.2.2.2.2.2.1 c c1 c2
    rw [ne (391 + 5 * c + 1) (by omega) (by omega) (by omega) (by omega) (by omega)]
    refine ⟨?_, hc.2⟩
    by_cases e : 4 ≤ p ∧ c = p - 4
    · obtain ⟨e4, ec⟩ := e
      subst ec
      have e5 : eatsR w p (391 + 5 * (p - 4) + 0) = w (391 + 5 * (p - 4)) - mnI (w (391 + 5 * (p - 4))) (w (406 + 3 * (4 + (p - 4)) + 1)) := by
        unfold eatsR nigR eatR
        rw [ud_ne (by omega), ud_ne (by omega), if_pos e4]
        unfold binR
        rw [ud_ne (by omega), Int.add_zero, ud_at]
      have e6 : 4 + (p - 4) = p := by omega
      rw [e5, e6]
      have hm := mnI_le (w (391 + 5 * (p - 4))) (w (406 + 3 * p + 1))
      have hc1 := hc.1
      rw [Int.add_zero] at hc1
      have hm0 : 0 ≤ mnI (w (391 + 5 * (p - 4))) (w (406 + 3 * p + 1)) := by unfold mnI; split <;> omega
      omega
    · rw [ne (391 + 5 * c + 0) (by omega) (by omega) (by omega) (by omega) (by omega)]
      exact hc.1
  · have hq := h.2.2.2.2.2.2.1 q p1 p2
    have e1 : eatsR w p (406 + 3 * q + 0) = w (406 + 3 * q + 0) := ne _ (by omega) (by omega) (by omega) (by omega) (by omega)
    rw [e1]
    refine ⟨hq.1, ?_⟩
    by_cases e : q = p
    · subst e
      have g1 : eatR w q (406 + 3 * q + 1) = w (406 + 3 * q + 1) := ne1 _ (by omega) (by omega) (by omega)
      have g0 : eatR w q (406 + 3 * q) = w (406 + 3 * q) := ne1 _ (by omega) (by omega) (by omega)
      have hr := (rt_b (w := eatR w q) (p := q) (left := lftW (eatR w q) q) (by rw [g1]; exact hpl.2) (by rw [g0]; exact hg)).2
      have e2 : eatsR w q (406 + 3 * q + 1) = mnI 50 (rt2 (eatR w q) q (lftW (eatR w q) q)) := by
        unfold eatsR nigR
        rw [ud_at]
      rw [e2]
      have := mnI_le 50 (rt2 (eatR w q) q (lftW (eatR w q) q))
      have hm0 : 0 ≤ mnI 50 (rt2 (eatR w q) q (lftW (eatR w q) q)) := by unfold mnI; split <;> omega
      omega
    · rw [ne (406 + 3 * q + 1) (by omega) (by omega) (by omega) (by omega) (by omega)]
      exact hq.2
  · rw [ne 430 (by omega) (by omega) (by omega) (by omega) (by omega), e0, sF_cg (g := fun p => w (1 + 23 * p + 3) * pt (w (1 + 23 * p + 0))) _ 0 (fun i i1 i2 => by have := h.2.1; rw [ne (1 + 23 * i + 3) (by omega) (by omega) (by omega) (by omega) (by omega), ne (1 + 23 * i + 0) (by omega) (by omega) (by omega) (by omega) (by omega)])]
    exact h.2.2.2.2.2.2.2.2.2.1
  · rw [ne 431 (by omega) (by omega) (by omega) (by omega) (by omega), ne (391 + 5 * 0 + 3) (by omega) (by omega) (by omega) (by omega) (by omega), ne (391 + 5 * 1 + 3) (by omega) (by omega) (by omega) (by omega) (by omega), ne (391 + 5 * 2 + 3) (by omega) (by omega) (by omega) (by omega) (by omega)]
    exact h.2.2.2.2.2.2.2.2.2.2
