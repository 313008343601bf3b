/-! PLAIN LAW: the invariant is kept by the rats -/
theorem eatB_sh {b : Int} (hb : 0 ≤ b ∧ b ≤ 3) : ∀ (n : Nat) (w : Int → Int), n ≤ w (139 + 61 * b) → w (139 + 61 * b) ≤ 60 → ∀ k, 0 ≤ k → k < w (139 + 61 * b) - n → eatB b n w (139 + 61 * b + 1 + k) = w (139 + 61 * b + 1 + k)
  | 0, w, _, _, k, _, _ => rfl
  | n + 1, w, h1, h2, k, k1, k2 => by
    have e0 : ud w 432 (w 432 + pt (kdW w b (w (139 + 61 * b) - 1))) (139 + 61 * b) = w (139 + 61 * b) := ud_ne (by omega)
    have e1 : popW (ud w 432 (w 432 + pt (kdW w b (w (139 + 61 * b) - 1)))) b (139 + 61 * b) = w (139 + 61 * b) - 1 := by rw [popW_n _ (by omega), e0]
    show eatB b n _ (139 + 61 * b + 1 + k) = _
    rw [eatB_sh hb n _ (by omega) (by omega) k k1 (by omega)]
    unfold popW
    rw [ud_ne (by omega), ud_ne (by omega), ud_ne (by omega)]
/-- what the rats leave alone -/
theorem eatR_ne {w : Int → Int} {p j : Int} (hp : 0 ≤ p ∧ p ≤ 6) (hn : p ≤ 3 → 0 ≤ w (139 + 61 * p) ∧ w (139 + 61 * p) ≤ 60) (hr : 0 ≤ w (406 + 3 * p + 1)) (h1 : ¬ j = 432) (h2 : p ≤ 3 → ¬ (139 + 61 * p ≤ j ∧ j ≤ 139 + 61 * p + 60)) (h3 : 4 ≤ p → ¬ j = 391 + 5 * (p - 4)) : eatR w p j = w j := by
  unfold eatR
  by_cases c : 4 ≤ p
  · rw [if_pos c]
    unfold binR
    rw [ud_ne h1, ud_ne (h3 c)]
  · rw [if_neg c]
    have hn' := hn (by omega)
    refine (eatB_ne (b := p) (by omega) _ w ?_ hn'.2).1 j h1 (h2 (by omega))
    have hm : 0 ≤ mnI (w (139 + 61 * p)) (w (406 + 3 * p + 1) / 10) ∧ mnI (w (139 + 61 * p)) (w (406 + 3 * p + 1) / 10) ≤ w (139 + 61 * p) := by unfold mnI; split <;> omega
    omega
