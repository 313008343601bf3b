/-! PLAIN LAW: the invariant is kept by each command -/
/-- what a command leaves -/
def CK (N : Int) (w : Int → Int) (o : oC) : Prop := WI (N + 1) o.2.1 ∧ w 428 ≤ o.2.1 428 ∧ o.2.1 428 ≤ w 428 + 30
theorem CK.no {N : Int} {w : Int → Int} (h : WI N w) (hN : N + 1 ≤ 720) (c : Int) : CK N w (noC w c) := ⟨h.mono (by omega), Int.le_refl _, by show w 428 ≤ _; omega⟩
theorem CK.re {N : Int} {w : Int → Int} (h : WI N w) (hN : N + 1 ≤ 720) (r d b i : Int) : CK N w (reC w r d b i) := ⟨h.mono (by omega), Int.le_refl _, by show w 428 ≤ _; omega⟩
theorem CK.ok {N a : Int} {w w' : Int → Int} (h : WI (N + 1) w') (h8 : w' 428 = w 428) : CK N w (a, w', none) := ⟨h, by show w 428 ≤ w' 428; omega, by show w' 428 ≤ _; omega⟩
/-- only some places are changed, none of which matters elsewhere -/
theorem f_stop_k {N : Int} {w : Int → Int} (h : WI N w) (hN : N + 1 ≤ 720) (p : Int) : CK N w (f_stop w p) := by
  have h0 := h.2.1
  unfold f_stop
  split
  · rename_i c
    have hl := h.2.2.2.2.2.2.1 p c.1 c.2
    split
    · exact CK.re h hN _ _ _ _
    · rename_i d
      have ne : ∀ j, ¬ j = 406 + 3 * p + 0 → ud w (406 + 3 * p + 0) (w (406 + 3 * p + 0) - 1) j = w j := fun j hj => ud_ne hj
      refine CK.ok (h.ch (by omega) (ne 0 (by omega)) (ne 428 (by omega)) (fun q q1 q2 => .inl fun j j1 j2 => ne j (by omega)) (fun b b1 b2 => .inl fun j j1 j2 => ne j (by omega)) (fun b b1 b2 => .inl fun j j1 j2 => ne j (by omega)) (fun b b1 b2 => .inl fun j j1 j2 => ne j (by omega)) (fun q q1 q2 => ?_) (.inl (ne _ (by omega))) (.inl ⟨ne _ (by omega), fun q q1 q2 => ⟨ne _ (by omega), ne _ (by omega)⟩⟩) (.inl ⟨ne _ (by omega), fun q q1 q2 => ne _ (by omega)⟩)) (ne 428 (by omega))
      by_cases e : q = p
      · subst e
        refine .inr ⟨?_, ?_⟩
        · rw [ud_at]; omega
        · rw [ne _ (by omega)]; exact hl.2
      · exact .inl fun j j1 j2 => ne j (by omega)
  · exact CK.no h hN _
theorem f_cat_k {N : Int} {w : Int → Int} (h : WI N w) (hN : N + 1 ≤ 720) (p : Int) : CK N w (f_cat w p) := by
  unfold f_cat
  split
  · rename_i c
    exact CK.ok ((h.cat c).mono (by omega)) (ud_ne (by omega))
  · exact CK.no h hN _
theorem f_settle_k {N : Int} {w : Int → Int} (h : WI N w) (hN : N + 1 ≤ 720) (p c : Int) : CK N w (f_settle w p c) := by
  have h0 := h.2.1
  unfold f_settle
  split
  · rename_i d
    split
    · rename_i e
      split
      · exact CK.no h hN _
      · split
        · rename_i f
          have ne : ∀ j, ¬ j = 1 + 23 * p + 2 → ¬ j = 429 → ud (ud w (1 + 23 * p + 2) (w (1 + 23 * p + 2) - c / 2)) 429 (w 429 + c) j = w j := fun j hj hk => by rw [ud_ne hk, ud_ne hj]
          refine CK.ok (h.ch (by omega) (ne 0 (by omega) (by omega)) (ne 428 (by omega) (by omega)) (fun q q1 q2 => ?_) (fun b b1 b2 => .inl fun j j1 j2 => ne j (by omega) (by omega)) (fun b b1 b2 => .inl fun j j1 j2 => ne j (by omega) (by omega)) (fun b b1 b2 => .inl fun j j1 j2 => ne j (by omega) (by omega)) (fun b b1 b2 => .inl fun j j1 j2 => ne j (by omega) (by omega)) (.inl (ne _ (by omega) (by omega))) (.inl ⟨ne _ (by omega) (by omega), fun q q1 q2 => ⟨ne _ (by omega) (by omega), ne _ (by omega) (by omega)⟩⟩) (.inl ⟨ne _ (by omega) (by omega), fun q q1 q2 => ne _ (by omega) (by omega)⟩)) (ne 428 (by omega) (by omega))
          by_cases z : q = p
          · subst z
            obtain ⟨a1, a2, a3, a4, a5, a6, a7, a8, a9⟩ := (h.pc d.1 (by omega)).mono (show N ≤ N + 1 by omega)
            have e2 : ud (ud w (1 + 23 * q + 2) (w (1 + 23 * q + 2) - c / 2)) 429 (w 429 + c) (1 + 23 * q + 2) = w (1 + 23 * q + 2) - c / 2 := by rw [ud_ne (by omega), ud_at]
            have fs : sF (fun k => ud (ud w (1 + 23 * q + 2) (w (1 + 23 * q + 2) - c / 2)) 429 (w 429 + c) (1 + 23 * q + (5 + 2 * k + 1))) 0 (w (1 + 23 * q + 4)).toNat = sF (fun k => w (1 + 23 * q + (5 + 2 * k + 1))) 0 (w (1 + 23 * q + 4)).toNat := sF_cg _ 0 (fun i i1 i2 => ne _ (by omega) (by omega))
            refine .inr ⟨by rw [ne _ (by omega) (by omega)]; exact a1, by rw [ne _ (by omega) (by omega)]; exact a2, by rw [e2]; omega, by rw [ne _ (by omega) (by omega)]; exact a4, by rw [ne _ (by omega) (by omega)]; exact a5, ?_, fun k k1 k2 => ?_, fun k k1 k2 => ?_, ?_⟩
            · rw [e2, ne (1 + 23 * q + 3) (by omega) (by omega), ne (1 + 23 * q + 4) (by omega) (by omega), ne (1 + 23 * q + 1) (by omega) (by omega), fs]; omega
            · rw [ne (1 + 23 * q + 4) (by omega) (by omega)] at k2
              rw [ne _ (by omega) (by omega), ne (1 + 23 * q + (5 + 2 * k)) (by omega) (by omega), ne 428 (by omega) (by omega)]
              exact a7 k k1 k2
            · rw [ne (1 + 23 * q + 4) (by omega) (by omega)] at k2
              rw [ne _ (by omega) (by omega), ne (1 + 23 * q + (5 + 2 * (k + 1))) (by omega) (by omega)]
              exact a8 k k1 k2
            · rw [ne 0 (by omega) (by omega), ne (1 + 23 * q + 1) (by omega) (by omega), ne (1 + 23 * q + 4) (by omega) (by omega)]
              exact a9
          · exact .inl fun j j1 j2 => ne j (by omega) (by omega)
        · exact CK.re h hN _ _ _ _
    · exact CK.no h hN _
  · exact CK.no h hN _
theorem f_sell_k {N : Int} {w : Int → Int} (h : WI N w) (hN : N + 1 ≤ 720) (k n b : Int) : CK N w (f_sell w k n b) := by
  have h0 := h.2.1
  unfold f_sell
  have hx0 : 0 ≤ (if b = 1 then (72 : Int) else 64) := by split <;> omega
  generalize (if b = 1 then (72 : Int) else 64) = x0 at hx0 ⊢
  split
  · rename_i c
    split
    · rename_i d
      split
      · split
        · rename_i f
          generalize hm : n * x0 = x at f ⊢
          have hx : 0 ≤ x := by
            rw [← hm]
            exact Int.mul_nonneg (by omega) hx0
          generalize hcoin : n * (w (391 + 5 * k + 1) + b) = y
          generalize hw' : ud (ud (ud (ud (ud w (391 + 5 * k + 0) (w (391 + 5 * k + 0) - x)) (391 + 5 * k + 2) (w (391 + 5 * k + 2) + n)) (391 + 5 * k + 3) (w (391 + 5 * k + 3) + x)) 431 (w 431 + x)) 429 (w 429 + y) = w'
          have ne : ∀ j, ¬ (j = 391 + 5 * k + 0 ∨ j = 391 + 5 * k + 2 ∨ j = 391 + 5 * k + 3 ∨ j = 431 ∨ j = 429) → w' j = w j := fun j hj => by rw [← hw', ud_ne (by omega), ud_ne (by omega), ud_ne (by omega), ud_ne (by omega), ud_ne (by omega)]
          have e0 : w' (391 + 5 * k + 0) = w (391 + 5 * k + 0) - x := by rw [← hw', ud_ne (by omega), ud_ne (by omega), ud_ne (by omega), ud_ne (by omega), ud_at]
          have e3 : w' (391 + 5 * k + 3) = w (391 + 5 * k + 3) + x := by rw [← hw', ud_ne (by omega), ud_ne (by omega), ud_at]
          have e31 : w' 431 = w 431 + x := by rw [← hw', ud_ne (by omega), ud_at]
          have hk := h.2.2.2.2.2.1 k c.1 c.2
          have hs := h.2.2.2.2.2.2.2.2.2.2
          refine CK.ok (h.ch (by omega) (ne 0 (by omega)) (ne 428 (by omega)) (fun q q1 q2 => .inl fun j j1 j2 => ne j (by omega)) (fun b b1 b2 => .inl fun j j1 j2 => ne j (by omega)) (fun b b1 b2 => .inl fun j j1 j2 => ne j (by omega)) (fun q q1 q2 => ?_) (fun b b1 b2 => .inl fun j j1 j2 => ne j (by omega)) (.inl (ne _ (by omega))) (.inl ⟨ne _ (by omega), fun q q1 q2 => ⟨ne _ (by omega), ne _ (by omega)⟩⟩) (.inr ?_)) (ne 428 (by omega))
          · by_cases z : q = k
            · subst z
              refine .inr ⟨?_, ?_⟩
              · rw [e0]; omega
              · rw [ne _ (by omega)]; exact hk.2
            · exact .inl fun j j1 j2 => ne j (by omega)
          · rw [e31, hs]
            have c3 : k = 0 ∨ k = 1 ∨ k = 2 := by omega
            rcases c3 with z | z | z <;> subst z <;> rw [e3]
            · rw [ne (391 + 5 * 1 + 3) (by omega), ne (391 + 5 * 2 + 3) (by omega)]; omega
            · rw [ne (391 + 5 * 0 + 3) (by omega), ne (391 + 5 * 2 + 3) (by omega)]; omega
            · rw [ne (391 + 5 * 0 + 3) (by omega), ne (391 + 5 * 1 + 3) (by omega)]; omega
        · exact CK.re h hN _ _ _ _
      · exact CK.no h hN _
    · exact CK.no h hN _
  · exact CK.no h hN _
theorem f_flails_k {N : Int} {w : Int → Int} (h : WI N w) (hN : N + 1 ≤ 720) {f v : Int} (hf : 0 ≤ f ∧ f ≤ 1) (hv : 1 ≤ v ∧ v ≤ 6) : CK N w (f_set w (383 + 4 * f + 2) v) := by
  have h0 := h.2.1
  have hl := h.2.2.2.2.1 f hf.1 hf.2
  have ne : ∀ j, ¬ j = 383 + 4 * f + 2 → ud w (383 + 4 * f + 2) v j = w j := fun j hj => ud_ne hj
  refine CK.ok (h.ch (by omega) (ne 0 (by omega)) (ne 428 (by omega)) (fun q q1 q2 => .inl fun j j1 j2 => ne j (by omega)) (fun b b1 b2 => .inl fun j j1 j2 => ne j (by omega)) (fun q q1 q2 => ?_) (fun b b1 b2 => .inl fun j j1 j2 => ne j (by omega)) (fun b b1 b2 => .inl fun j j1 j2 => ne j (by omega)) (.inl (ne _ (by omega))) (.inl ⟨ne _ (by omega), fun q q1 q2 => ⟨ne _ (by omega), ne _ (by omega)⟩⟩) (.inl ⟨ne _ (by omega), fun q q1 q2 => ne _ (by omega)⟩)) (ne 428 (by omega))
  by_cases e : q = f
  · subst e
    refine .inr ⟨?_, ?_, ?_⟩
    · rw [ne _ (by omega)]; exact hl.1
    · rw [ne _ (by omega)]; exact hl.2.1
    · rw [ud_at]; exact hv
  · exact .inl fun j j1 j2 => ne j (by omega)
theorem f_price_k {N : Int} {w : Int → Int} (h : WI N w) (hN : N + 1 ≤ 720) {f v : Int} (hf : 0 ≤ f ∧ f ≤ 2) (hv : 1 ≤ v ∧ v ≤ 50) : CK N w (f_set w (391 + 5 * f + 1) v) := by
  have h0 := h.2.1
  have hl := h.2.2.2.2.2.1 f hf.1 hf.2
  have ne : ∀ j, ¬ j = 391 + 5 * f + 1 → ud w (391 + 5 * f + 1) v j = w j := fun j hj => ud_ne hj
  refine CK.ok (h.ch (by omega) (ne 0 (by omega)) (ne 428 (by omega)) (fun q q1 q2 => .inl fun j j1 j2 => ne j (by omega)) (fun b b1 b2 => .inl fun j j1 j2 => ne j (by omega)) (fun b b1 b2 => .inl fun j j1 j2 => ne j (by omega)) (fun q q1 q2 => ?_) (fun b b1 b2 => .inl fun j j1 j2 => ne j (by omega)) (.inl (ne _ (by omega))) (.inl ⟨ne _ (by omega), fun q q1 q2 => ⟨ne _ (by omega), ne _ (by omega)⟩⟩) (.inl ⟨ne _ (by omega), fun q q1 q2 => ne _ (by omega)⟩)) (ne 428 (by omega))
  by_cases e : q = f
  · subst e
    refine .inr ⟨?_, ?_⟩
    · rw [ne _ (by omega)]; exact hl.1
    · rw [ud_at]; exact hv
  · exact .inl fun j j1 j2 => ne j (by omega)
theorem f_pass_k {N : Int} {w : Int → Int} (h : WI N w) (hN : N + 1 ≤ 720) (h8 : w 428 + 30 ≤ 100000) (d : Int) : CK N w (f_pass w d) := by
  unfold f_pass
  split
  · rename_i c
    obtain ⟨g1, g2, -⟩ := WI_ps d.toNat w h (by omega)
    exact ⟨g1.mono (by omega), by show w 428 ≤ psR d.toNat w 428; omega, by show psR d.toNat w 428 ≤ _; omega⟩
  · exact CK.no h hN _
theorem f_parish_k {N : Int} {w : Int → Int} (h : WI N w) (hN : N + 1 ≤ 720) {k : Int} (hk : 0 ≤ k ∧ k ≤ 2) : CK N w (f_parish w k) := by
  have h0 := h.2.1
  unfold f_parish
  split
  · exact CK.re h hN _ _ _ _
  · rename_i c
    generalize hw' : ud (ud w (1 + 23 * w 0) k) 0 (w 0 + 1) = w'
    have ne : ∀ j, ¬ (j = 1 + 23 * w 0 ∨ j = 0) → w' j = w j := fun j hj => by rw [← hw', ud_ne (by omega), ud_ne (by omega)]
    have e0 : w' 0 = w 0 + 1 := by rw [← hw', ud_at]
    have ek : w' (1 + 23 * w 0 + 0) = k := by rw [← hw', ud_ne (by omega), Int.add_zero, ud_at]
    have e3 : w (1 + 23 * w 0 + 3) = 0 := by
      obtain ⟨a1, a2, a3, a4, a5, a6, a7, a8, a9⟩ := h.pc h0.1 (by omega)
      have b9 := a9 (by omega)
      rw [b9.1, b9.2] at a6
      have : sF (fun k => w (1 + 23 * w 0 + (5 + 2 * k + 1))) 0 (0 : Int).toNat = 0 := rfl
      omega
    refine ⟨⟨by have := h.1; omega, by show 0 ≤ w' 0 ∧ w' 0 ≤ 6; omega, fun p p1 p2 => ?_, fun b b1 b2 => ?_, fun f f1 f2 => ?_, fun j j1 j2 => ?_, fun p p1 p2 => ?_, ?_, ?_, ?_, ?_⟩, by show w 428 ≤ w' 428; rw [ne _ (by omega)]; omega, by show w' 428 ≤ _; rw [ne _ (by omega)]; omega⟩
    · obtain ⟨a1, a2, a3, a4, a5, a6, a7, a8, a9⟩ := (h.pc p1 p2).mono (show N ≤ N + 1 by omega)
      have fs : sF (fun k => w' (1 + 23 * p + (5 + 2 * k + 1))) 0 (w (1 + 23 * p + 4)).toNat = sF (fun k => w (1 + 23 * p + (5 + 2 * k + 1))) 0 (w (1 + 23 * p + 4)).toNat := sF_cg _ 0 (fun i i1 i2 => ne _ (by omega))
      show (0 ≤ w' _ ∧ w' _ ≤ 2) ∧ (0 ≤ w' _ ∧ w' _ ≤ _) ∧ 0 ≤ w' _ ∧ 0 ≤ w' _ ∧ (0 ≤ w' _ ∧ w' _ ≤ 8) ∧ w' _ + w' _ + sF (fun k => w' _) 0 (w' _).toNat ≤ w' _ ∧ (∀ k, 0 ≤ k → k < w' _ → 0 < w' _ ∧ 0 ≤ w' _ ∧ w' _ ≤ w' 428 ∧ w' 428 ≤ w' _ + 7) ∧ (∀ k, 0 ≤ k → k + 1 < w' _ → w' _ < w' _) ∧ (w' 0 ≤ p → w' _ = 0 ∧ w' _ = 0)
      rw [ne (1 + 23 * p + 1) (by omega), ne (1 + 23 * p + 2) (by omega), ne (1 + 23 * p + 3) (by omega), ne (1 + 23 * p + 4) (by omega), fs, ne 428 (by omega), e0]
      refine ⟨?_, a2, a3, a4, a5, a6, fun k k1 k2 => ?_, fun k k1 k2 => ?_, fun z => a9 (by omega)⟩
      · by_cases e : p = w 0
        · rw [e, ek]; exact hk
        · rw [ne _ (by omega)]; exact a1
      · rw [ne _ (by omega), ne (1 + 23 * p + (5 + 2 * k)) (by omega)]
        exact a7 k k1 k2
      · rw [ne _ (by omega), ne (1 + 23 * p + (5 + 2 * (k + 1))) (by omega)]
        exact a8 k k1 k2
    · have hh := h.2.2.2.1 b b1 b2
      show (0 ≤ w' _ ∧ w' _ ≤ _) ∧ ∀ k, 0 ≤ k → k < w' _ → 0 ≤ w' _ ∧ w' _ < w' 0
      rw [ne _ (by omega), e0]
      exact ⟨hh.1, fun k k1 k2 => by rw [ne _ (by omega)]; have := hh.2 k k1 k2; omega⟩
    · show (0 ≤ w' _ ∧ w' _ ≤ _) ∧ (0 ≤ w' _ ∧ w' _ ≤ _) ∧ (1 ≤ w' _ ∧ w' _ ≤ _)
      rw [ne _ (by omega), ne (383 + 4 * f + 1) (by omega), ne (383 + 4 * f + 2) (by omega)]
      exact h.2.2.2.2.1 f f1 f2
    · show (0 ≤ w' _ ∧ w' _ ≤ _) ∧ (1 ≤ w' _ ∧ w' _ ≤ _)
      rw [ne _ (by omega), ne (391 + 5 * j + 1) (by omega)]
      exact h.2.2.2.2.2.1 j j1 j2
    · show (0 ≤ w' _ ∧ w' _ ≤ _) ∧ (0 ≤ w' _ ∧ w' _ ≤ _)
      rw [ne _ (by omega), ne (406 + 3 * p + 1) (by omega)]
      exact h.2.2.2.2.2.2.1 p p1 p2
    · show -1 ≤ w' _ ∧ w' _ ≤ 6
      rw [ne _ (by omega)]
      exact h.2.2.2.2.2.2.2.1
    · show 0 ≤ w' _ ∧ w' _ ≤ _
      rw [ne _ (by omega)]
      exact h.2.2.2.2.2.2.2.2.1
    · show w' 430 = sF (fun p => w' (1 + 23 * p + 3) * pt (w' (1 + 23 * p + 0))) 0 (w' 0).toNat
      rw [ne 430 (by omega), e0, show (w 0 + 1).toNat = (w 0).toNat + 1 by omega, sF_end, show (0 : Int) + ((w 0).toNat : Int) = w 0 by omega, ne (1 + 23 * w 0 + 3) (by omega), e3, Int.zero_mul, Int.add_zero, sF_cg (g := fun p => w (1 + 23 * p + 3) * pt (w (1 + 23 * p + 0))) _ 0 (fun i i1 i2 => by rw [ne _ (by omega), ne (1 + 23 * i + 0) (by omega)])]
      exact h.2.2.2.2.2.2.2.2.2.1
    · show w' 431 = w' _ + w' _ + w' _
      rw [ne 431 (by omega), ne _ (by omega), ne (391 + 5 * 1 + 3) (by omega), ne (391 + 5 * 2 + 3) (by omega)]
      exact h.2.2.2.2.2.2.2.2.2.2
