/-! PLAIN LAW: the invariant is kept by harvests, threshing, carting; at the beginning -/
theorem PC.rise {N : Int} {w : Int → Int} {p : Int} (h : PC N w p) : ∀ (n : Nat), (n : Int) < w (1 + 23 * p + 4) → w (1 + 23 * p + (5 + 2 * 0)) + n ≤ w (1 + 23 * p + (5 + 2 * (n : Int)))
  | 0, _ => by
    rw [show ((0 : Nat) : Int) = 0 from rfl]
    omega
  | n + 1, hn => by
    have h1 := h.rise n (by omega)
    have h2 := h.2.2.2.2.2.2.2.1 n (by omega) (by omega)
    rw [show (1 + 23 * p + (5 + 2 * (((n + 1 : Nat)) : Int)) : Int) = 1 + 23 * p + (5 + 2 * ((n : Int) + 1)) by omega]
    omega
theorem PC.last {N : Int} {w : Int → Int} {p : Int} (h : PC N w p) (hm : w (1 + 23 * p + 4) = 8) : w (1 + 23 * p + (5 + 2 * 7)) = w 428 := by
  have h1 := h.rise 7 (by omega)
  have h2 := h.2.2.2.2.2.2.1 0 (by omega) (by omega)
  have h3 := h.2.2.2.2.2.2.1 7 (by omega) (by omega)
  rw [show ((7 : Nat) : Int) = 7 from rfl] at h1
  omega
theorem f_harvest_k {N : Int} {w : Int → Int} (h : WI N w) (hN : N + 1 ≤ 720) (p s : Int) : CK N w (f_harvest w p s) := by
  have h0 := h.2.1
  unfold f_harvest
  split
  · rename_i c
    split
    · rename_i d
      obtain ⟨a1, a2, a3, a4, a5, a6, a7, a8, a9⟩ := h.pc c.1 (by omega)
      have hlast := (h.pc c.1 (by omega : p < 6)).last
      generalize hdue : (w (1 + 23 * p + 1) + s) / 10 - w (1 + 23 * p + 1) / 10 = due
      generalize hmany : w (1 + 23 * p + 4) = many at a5 a6 a7 a8 hlast
      have hd2 : 0 ≤ due ∧ due ≤ s := by omega
      -- what is common to the three ways
      have fin : ∀ (w' : Int → Int) (a m' : Int), (∀ j, ¬ j = 1 + 23 * p + 1 → ¬ j = 1 + 23 * p + 4 → ¬ (1 + 23 * p + 5 ≤ j ∧ j < 1 + 23 * p + 23) → w' j = w j) → w' (1 + 23 * p + 1) = w (1 + 23 * p + 1) + s → w' (1 + 23 * p + 4) = m' → (0 ≤ m' ∧ m' ≤ 8) → sF (fun k => w' (1 + 23 * p + (5 + 2 * k + 1))) 0 m'.toNat = sF (fun k => w (1 + 23 * p + (5 + 2 * k + 1))) 0 many.toNat + due → (∀ k, 0 ≤ k → k < m' → 0 < w' (1 + 23 * p + (5 + 2 * k + 1)) ∧ 0 ≤ w' (1 + 23 * p + (5 + 2 * k)) ∧ w' (1 + 23 * p + (5 + 2 * k)) ≤ w 428 ∧ w 428 ≤ w' (1 + 23 * p + (5 + 2 * k)) + 7) → (∀ k, 0 ≤ k → k + 1 < m' → w' (1 + 23 * p + (5 + 2 * k)) < w' (1 + 23 * p + (5 + 2 * (k + 1)))) → CK N w (a, w', none) := by
        intro w' a m' ne e1 e4 hm' hs h7 h8
        refine CK.ok (h.ch (by omega) (ne 0 (by omega) (by omega) (by omega)) (ne 428 (by omega) (by omega) (by omega)) (fun q q1 q2 => ?_) (fun b b1 b2 => .inl fun j j1 j2 => ne j (by omega) (by omega) (by omega)) (fun b b1 b2 => .inl fun j j1 j2 => ne j (by omega) (by omega) (by omega)) (fun b b1 b2 => .inl fun j j1 j2 => ne j (by omega) (by omega) (by omega)) (fun b b1 b2 => .inl fun j j1 j2 => ne j (by omega) (by omega) (by omega)) (.inl (ne _ (by omega) (by omega) (by omega))) (.inl ⟨ne _ (by omega) (by omega) (by omega), fun q q1 q2 => ⟨ne _ (by omega) (by omega) (by omega), ne _ (by omega) (by omega) (by omega)⟩⟩) (.inl ⟨ne _ (by omega) (by omega) (by omega), fun q q1 q2 => ne _ (by omega) (by omega) (by omega)⟩)) (ne 428 (by omega) (by omega) (by omega))
        by_cases z : q = p
        · subst z
          refine .inr ⟨by rw [ne _ (by omega) (by omega) (by omega)]; exact a1, by rw [e1]; omega, by rw [ne _ (by omega) (by omega) (by omega)]; exact a3, by rw [ne _ (by omega) (by omega) (by omega)]; exact a4, by rw [e4]; exact hm', ?_, ?_, ?_, fun x => by rw [ne 0 (by omega) (by omega) (by omega)] at x; omega⟩
          · rw [e4, hs, e1, ne (1 + 23 * q + 2) (by omega) (by omega) (by omega), ne (1 + 23 * q + 3) (by omega) (by omega) (by omega)]
            omega
          · rw [e4, ne 428 (by omega) (by omega) (by omega)]; exact h7
          · rw [e4]; exact h8
        · exact .inl fun j j1 j2 => ne j (by omega) (by omega) (by omega)
      show CK N w (if due ≤ 0 then _ else _)
      split
      · rename_i e
        refine fin _ _ many (fun j j1 j2 j3 => ud_ne j1) (ud_at _ _ _) (by rw [ud_ne (by omega)]; exact hmany) a5 ?_ (fun k k1 k2 => ?_) (fun k k1 k2 => ?_)
        · rw [sF_cg (g := fun k => w (1 + 23 * p + (5 + 2 * k + 1))) _ 0 (fun i i1 i2 => ud_ne (by omega))]
          omega
        · rw [ud_ne (by omega), ud_ne (by omega)]
          exact a7 k k1 k2
        · rw [ud_ne (by omega), ud_ne (by omega)]
          exact a8 k k1 k2
      · rename_i e
        split
        · rename_i f
          have hm8 : many ≤ 7 := by
            by_cases z : many = 8
            · subst z
              have := hlast rfl
              rcases f with f | f
              · omega
              · rw [show (1 + 23 * p + 5 + 2 * (8 - 1) : Int) = 1 + 23 * p + (5 + 2 * 7) by omega] at f
                omega
            · omega
          generalize hw' : ud (ud (ud (ud (ud w (1 + 23 * p + 1) (w (1 + 23 * p + 1) + s)) (1 + 23 * p + 5 + 2 * many) (w 428)) (1 + 23 * p + 5 + 2 * many + 1) 0) (1 + 23 * p + 4) (many + 1)) (1 + 23 * p + 5 + 2 * many + 1) (0 + due) = w'
          have ne : ∀ j, ¬ (j = 1 + 23 * p + 1 ∨ j = 1 + 23 * p + 4 ∨ j = 1 + 23 * p + 5 + 2 * many ∨ j = 1 + 23 * p + 5 + 2 * many + 1) → w' j = w j := fun j hj => by rw [← hw', ud_ne (by omega), ud_ne (by omega), ud_ne (by omega), ud_ne (by omega), ud_ne (by omega)]
          have ed : w' (1 + 23 * p + (5 + 2 * many)) = w 428 := by rw [← hw', ud_ne (by omega), ud_ne (by omega), ud_ne (by omega), show (1 + 23 * p + (5 + 2 * many) : Int) = 1 + 23 * p + 5 + 2 * many by omega, ud_at]
          have es : w' (1 + 23 * p + (5 + 2 * many + 1)) = due := by rw [← hw', show (1 + 23 * p + (5 + 2 * many + 1) : Int) = 1 + 23 * p + 5 + 2 * many + 1 by omega, ud_at]; omega
          have h428 := h.2.2.2.2.2.2.2.2.1
          refine fin w' due (many + 1) (fun j j1 j2 j3 => ne j (by omega)) (by rw [← hw', ud_ne (by omega), ud_ne (by omega), ud_ne (by omega), ud_ne (by omega), ud_at]) (by rw [← hw', ud_ne (by omega), ud_at]) (by omega) ?_ (fun k k1 k2 => ?_) (fun k k1 k2 => ?_)
          · rw [show (many + 1).toNat = many.toNat + 1 by omega, sF_end, show (0 : Int) + (many.toNat : Int) = many by omega, es, sF_cg (g := fun k => w (1 + 23 * p + (5 + 2 * k + 1))) _ 0 (fun i i1 i2 => ne _ (by omega))]
          · by_cases z : k = many
            · subst z
              rw [ed, es]
              omega
            · rw [ne _ (by omega), ne (1 + 23 * p + (5 + 2 * k)) (by omega)]
              exact a7 k k1 (by omega)
          · by_cases z : k + 1 = many
            · rw [z, ed, ne _ (by omega)]
              have h7 := (a7 k k1 (by omega)).2.2.1
              rcases f with f | f
              · omega
              · rw [show (1 + 23 * p + 5 + 2 * (many - 1) : Int) = 1 + 23 * p + (5 + 2 * k) by omega] at f
                omega
            · rw [ne _ (by omega), ne (1 + 23 * p + (5 + 2 * (k + 1))) (by omega)]
              exact a8 k k1 (by omega)
        · rename_i f
          have hm1 : 1 ≤ many := by omega
          generalize hw' : ud (ud w (1 + 23 * p + 1) (w (1 + 23 * p + 1) + s)) (1 + 23 * p + 5 + 2 * (many - 1) + 1) (w (1 + 23 * p + 5 + 2 * (many - 1) + 1) + due) = w'
          have ne : ∀ j, ¬ (j = 1 + 23 * p + 1 ∨ j = 1 + 23 * p + 5 + 2 * (many - 1) + 1) → w' j = w j := fun j hj => by rw [← hw', ud_ne (by omega), ud_ne (by omega)]
          have es : w' (1 + 23 * p + (5 + 2 * (many - 1) + 1)) = w (1 + 23 * p + (5 + 2 * (many - 1) + 1)) + due := by rw [← hw', show (1 + 23 * p + (5 + 2 * (many - 1) + 1) : Int) = 1 + 23 * p + 5 + 2 * (many - 1) + 1 by omega, ud_at]
          refine fin w' due many (fun j j1 j2 j3 => ne j (by omega)) (by rw [← hw', ud_ne (by omega), ud_at]) (by rw [ne _ (by omega)]; exact hmany) a5 ?_ (fun k k1 k2 => ?_) (fun k k1 k2 => ?_)
          · obtain ⟨n, hn⟩ : ∃ n : Nat, many.toNat = n + 1 := ⟨many.toNat - 1, by omega⟩
            rw [hn, sF_end, sF_end, show (0 : Int) + (n : Int) = many - 1 by omega, es, sF_cg (g := fun k => w (1 + 23 * p + (5 + 2 * k + 1))) _ 0 (fun i i1 i2 => ne _ (by omega))]
            omega
          · have h7 := a7 k k1 k2
            by_cases z : k = many - 1
            · subst z
              rw [es, ne (1 + 23 * p + (5 + 2 * (many - 1))) (by omega)]
              omega
            · rw [ne _ (by omega), ne (1 + 23 * p + (5 + 2 * k)) (by omega)]
              exact h7
          · rw [ne _ (by omega), ne (1 + 23 * p + (5 + 2 * (k + 1))) (by omega)]
            exact a8 k k1 k2
    · exact CK.no h hN _
  · exact CK.no h hN _
theorem popN_sh {b : Int} : ∀ (n : Nat) (w : Int → Int), n ≤ w (139 + 61 * b) → w (139 + 61 * b) ≤ 60 → popN w b n (139 + 61 * b) = w (139 + 61 * b) - n ∧ ∀ k, 0 ≤ k → k < w (139 + 61 * b) - n → popN w b n (139 + 61 * b + 1 + k) = w (139 + 61 * b + 1 + k)
  | 0, w, _, _ => ⟨by show w _ = _; omega, fun _ _ _ => rfl⟩
  | n + 1, w, h1, h2 => by
    have e := popW_n w (b := b) (by omega)
    obtain ⟨g1, g2⟩ := popN_sh (b := b) n (popW w b) (by omega) (by omega)
    refine ⟨by show popN (popW w b) b n _ = _; omega, fun k k1 k2 => ?_⟩
    show popN (popW w b) b n _ = _
    rw [g2 k k1 (by omega)]
    unfold popW
    rw [ud_ne (by omega), ud_ne (by omega)]
theorem f_thresh_k {N : Int} {w : Int → Int} (h : WI N w) (hN : N + 1 ≤ 720) (f b s : Int) : CK N w (f_thresh w f b s) := by
  have h0 := h.2.1
  unfold f_thresh
  split
  · rename_i c1
    split
    · rename_i c2
      split
      · rename_i c3
        split
        · rename_i c4
          split
          · have hb := h.2.2.2.1 b c2.1 c2.2
            have hfl := h.2.2.2.2.1 f c1.1 c1.2
            have hs := hb.2 (w (139 + 61 * b) - 1) (by omega) (by omega)
            have hk := (h.2.2.1 (w (139 + 61 * b + 1 + (w (139 + 61 * b) - 1))) hs.1 (by omega)).1
            have hkd : 0 ≤ kdW w b (w (139 + 61 * b) - 1) ∧ kdW w b (w (139 + 61 * b) - 1) ≤ 2 := hk
            generalize kdW w b (w (139 + 61 * b) - 1) = kind at hkd
            show CK N w (if 0 < w (383 + 4 * f + 0) ∧ ¬ w (383 + 4 * f + 1) = kind then _ else _)
            split
            · exact CK.re h hN _ _ _ _
            · split
              · rename_i c6
                obtain ⟨g1, g2⟩ := popN_sh (b := b) s.toNat w (by omega) hb.1.2
                have ph := popN_hi (b := b) s.toNat w (by omega) hb.1.2
                generalize hw' : ud (ud (popN w b s.toNat) (383 + 4 * f + 0) (w (383 + 4 * f + 0) + s)) (383 + 4 * f + 1) kind = w'
                have ne : ∀ j, ¬ j = 383 + 4 * f + 0 → ¬ j = 383 + 4 * f + 1 → ¬ (139 + 61 * b ≤ j ∧ j ≤ 139 + 61 * b + 60) → w' j = w j := fun j j1 j2 j3 => by rw [← hw', ud_ne j2, ud_ne j1, ph j j3]
                have nb : ∀ j, 139 + 61 * b ≤ j → j ≤ 139 + 61 * b + 60 → w' j = popN w b s.toNat j := fun j j1 j2 => by rw [← hw', ud_ne (by omega), ud_ne (by omega)]
                refine CK.ok (h.ch (by omega) (ne 0 (by omega) (by omega) (by omega)) (ne 428 (by omega) (by omega) (by omega)) (fun q q1 q2 => .inl fun j j1 j2 => ne j (by omega) (by omega) (by omega)) (fun q q1 q2 => ?_) (fun q q1 q2 => ?_) (fun q q1 q2 => .inl fun j j1 j2 => ne j (by omega) (by omega) (by omega)) (fun q q1 q2 => .inl fun j j1 j2 => ne j (by omega) (by omega) (by omega)) (.inl (ne _ (by omega) (by omega) (by omega))) (.inl ⟨ne _ (by omega) (by omega) (by omega), fun q q1 q2 => ⟨ne _ (by omega) (by omega) (by omega), ne _ (by omega) (by omega) (by omega)⟩⟩) (.inl ⟨ne _ (by omega) (by omega) (by omega), fun q q1 q2 => ne _ (by omega) (by omega) (by omega)⟩)) (ne 428 (by omega) (by omega) (by omega))
                · by_cases z : q = b
                  · subst z
                    have en : w' (139 + 61 * q) = w (139 + 61 * q) - s := by rw [nb _ (by omega) (by omega), g1]; omega
                    refine .inr ⟨by rw [en]; omega, fun k k1 k2 => ?_⟩
                    rw [en] at k2
                    rw [nb _ (by omega) (by omega), g2 k k1 (by omega), ne 0 (by omega) (by omega) (by omega)]
                    exact hb.2 k k1 (by omega)
                  · exact .inl fun j j1 j2 => ne j (by omega) (by omega) (by omega)
                · by_cases z : q = f
                  · subst z
                    refine .inr ⟨?_, ?_, ?_⟩
                    · rw [← hw', ud_ne (by omega), ud_at]; omega
                    · rw [← hw', ud_at]; exact hkd
                    · rw [ne _ (by omega) (by omega) (by omega)]; exact hfl.2.2
                  · exact .inl fun j j1 j2 => ne j (by omega) (by omega) (by omega)
              · exact CK.re h hN _ _ _ _
          · exact CK.re h hN _ _ _ _
        · exact CK.re h hN _ _ _ _
      · exact CK.no h hN _
    · exact CK.no h hN _
  · exact CK.no h hN _
/-- a parish's part with x sheaves in hand -/
def PX (N x : Int) (w : Int → Int) (p : Int) : Prop := (0 ≤ w (1 + 23 * p + 4) ∧ w (1 + 23 * p + 4) ≤ 8) ∧
    w (1 + 23 * p + 2) + w (1 + 23 * p + 3) + x + sF (fun k => w (1 + 23 * p + (5 + 2 * k + 1))) 0 (w (1 + 23 * p + 4)).toNat ≤ w (1 + 23 * p + 1) ∧
    (∀ k, 0 ≤ k → k < w (1 + 23 * p + 4) → 0 < w (1 + 23 * p + (5 + 2 * k + 1)) ∧ 0 ≤ w (1 + 23 * p + (5 + 2 * k)) ∧ w (1 + 23 * p + (5 + 2 * k)) ≤ w 428 ∧ w 428 ≤ w (1 + 23 * p + (5 + 2 * k)) + 7) ∧
    (∀ k, 0 ≤ k → k + 1 < w (1 + 23 * p + 4) → w (1 + 23 * p + (5 + 2 * k)) < w (1 + 23 * p + (5 + 2 * (k + 1))))
theorem PX.cg {N x : Int} {w w' : Int → Int} {p : Int} (h : PX N x w p) (e : ∀ j, 1 + 23 * p ≤ j → j < 1 + 23 * p + 23 → w' j = w j) (e8 : w' 428 = w 428) : PX N x w' p := by
  obtain ⟨a5, a6, a7, a8⟩ := h
  have f1 := e (1 + 23 * p + 1) (by omega) (by omega)
  have f2 := e (1 + 23 * p + 2) (by omega) (by omega)
  have f3 := e (1 + 23 * p + 3) (by omega) (by omega)
  have f4 := e (1 + 23 * p + 4) (by omega) (by omega)
  have fs : sF (fun k => w' (1 + 23 * p + (5 + 2 * k + 1))) 0 (w (1 + 23 * p + 4)).toNat = sF (fun k => w (1 + 23 * p + (5 + 2 * k + 1))) 0 (w (1 + 23 * p + 4)).toNat := sF_cg _ 0 (fun i i1 i2 => e _ (by omega) (by omega))
  refine ⟨by rw [f4]; exact a5, by rw [f1, f2, f3, f4, fs]; exact a6, fun k k1 k2 => ?_, fun k k1 k2 => ?_⟩
  · rw [f4] at k2
    rw [e8, e _ (by omega) (by omega), e (1 + 23 * p + (5 + 2 * k)) (by omega) (by omega)]
    exact a7 k k1 k2
  · rw [f4] at k2
    rw [e _ (by omega) (by omega), e (1 + 23 * p + (5 + 2 * (k + 1))) (by omega) (by omega)]
    exact a8 k k1 k2
theorem PX.dec {N x : Int} {w : Int → Int} {p : Int} (hp : 0 ≤ p ∧ p < 6) (h : PX N x w p) (h1 : 1 ≤ w (1 + 23 * p + 4)) : PX N (x + 1) (decW w p) p := by
  obtain ⟨a5, a6, a7, a8⟩ := h
  have ne : ∀ j, ¬ (1 + 23 * p + 4 ≤ j ∧ j < 1 + 23 * p + 23) → decW w p j = w j := fun j hj => decW_ne w hj (by omega)
  have h70 := (a7 0 (by omega) (by omega)).1
  rw [show (1 + 23 * p + (5 + 2 * 0 + 1) : Int) = 1 + 23 * p + 6 by omega] at h70
  obtain ⟨n, hn⟩ : ∃ n : Nat, (w (1 + 23 * p + 4)).toNat = n + 1 := ⟨(w (1 + 23 * p + 4)).toNat - 1, by omega⟩
  have hsum : sF (fun k => w (1 + 23 * p + (5 + 2 * k + 1))) 0 (w (1 + 23 * p + 4)).toNat = w (1 + 23 * p + 6) + sF (fun k => w (1 + 23 * p + (5 + 2 * (k + 1) + 1))) 0 n := by
    rw [hn, sF_s, sF_sh (fun k => w (1 + 23 * p + (5 + 2 * k + 1))) 1 n 0]
    show w (1 + 23 * p + (5 + 2 * 0 + 1)) + _ = _
    rw [show (1 + 23 * p + (5 + 2 * 0 + 1) : Int) = 1 + 23 * p + 6 by omega]
  by_cases c : w (1 + 23 * p + 6) - 1 = 0
  · have ew : decW w p = drW (ud w (1 + 23 * p + 6) (w (1 + 23 * p + 6) - 1)) p := by unfold decW; rw [if_pos c]
    have e4u : ud w (1 + 23 * p + 6) (w (1 + 23 * p + 6) - 1) (1 + 23 * p + 4) = w (1 + 23 * p + 4) := ud_ne (by omega)
    have e4 : decW w p (1 + 23 * p + 4) = w (1 + 23 * p + 4) - 1 := by rw [ew, drW_4, e4u]
    have ed : ∀ k, 0 ≤ k → k < w (1 + 23 * p + 4) - 1 → decW w p (1 + 23 * p + (5 + 2 * k)) = w (1 + 23 * p + (5 + 2 * (k + 1))) := fun k k1 k2 => by
      rw [ew, drW_d _ (by omega) (by rw [e4u]; omega), ud_ne (by omega)]
      congr 1
      omega
    have es : ∀ k, 0 ≤ k → k < w (1 + 23 * p + 4) - 1 → decW w p (1 + 23 * p + (5 + 2 * k + 1)) = w (1 + 23 * p + (5 + 2 * (k + 1) + 1)) := fun k k1 k2 => by
      rw [ew, drW_d _ (by omega) (by rw [e4u]; omega), ud_ne (by omega)]
      congr 1
      omega
    have hs2 : sF (fun k => decW w p (1 + 23 * p + (5 + 2 * k + 1))) 0 (w (1 + 23 * p + 4) - 1).toNat = sF (fun k => w (1 + 23 * p + (5 + 2 * (k + 1) + 1))) 0 n := by
      rw [show (w (1 + 23 * p + 4) - 1).toNat = n by omega]
      exact sF_cg n 0 (fun i i1 i2 => es i i1 (by omega))
    refine ⟨by rw [e4]; omega, ?_, fun k k1 k2 => ?_, fun k k1 k2 => ?_⟩
    · rw [e4, ne (1 + 23 * p + 2) (by omega), ne (1 + 23 * p + 3) (by omega), ne (1 + 23 * p + 1) (by omega), hs2]
      omega
    · rw [e4] at k2
      rw [es k k1 k2, ed k k1 k2, ne 428 (by omega)]
      exact a7 (k + 1) (by omega) (by omega)
    · rw [e4] at k2
      rw [ed k k1 (by omega), ed (k + 1) (by omega) (by omega)]
      exact a8 (k + 1) (by omega) (by omega)
  · have ew : decW w p = ud w (1 + 23 * p + 6) (w (1 + 23 * p + 6) - 1) := by unfold decW; rw [if_neg c]
    have ne6 : ∀ j, ¬ j = 1 + 23 * p + 6 → decW w p j = w j := fun j hj => by rw [ew, ud_ne hj]
    have e6 : decW w p (1 + 23 * p + 6) = w (1 + 23 * p + 6) - 1 := by rw [ew, ud_at]
    have hs2 : sF (fun k => decW w p (1 + 23 * p + (5 + 2 * k + 1))) 0 (w (1 + 23 * p + 4)).toNat = w (1 + 23 * p + 6) - 1 + sF (fun k => w (1 + 23 * p + (5 + 2 * (k + 1) + 1))) 0 n := by
      rw [hn, sF_s, sF_sh (fun k => decW w p (1 + 23 * p + (5 + 2 * k + 1))) 1 n 0, sF_cg (g := fun k => w (1 + 23 * p + (5 + 2 * (k + 1) + 1))) n 0 (fun i i1 i2 => ne6 _ (by omega))]
      show decW w p (1 + 23 * p + (5 + 2 * 0 + 1)) + _ = _
      rw [show (1 + 23 * p + (5 + 2 * 0 + 1) : Int) = 1 + 23 * p + 6 by omega, e6]
    refine ⟨by rw [ne6 _ (by omega)]; exact a5, ?_, fun k k1 k2 => ?_, fun k k1 k2 => ?_⟩
    · rw [ne6 (1 + 23 * p + 2) (by omega), ne6 (1 + 23 * p + 3) (by omega), ne6 (1 + 23 * p + 1) (by omega), ne6 (1 + 23 * p + 4) (by omega), hs2]
      omega
    · rw [ne6 _ (by omega)] at k2
      have h7 := a7 k k1 k2
      rw [ne6 (1 + 23 * p + (5 + 2 * k)) (by omega), ne6 428 (by omega)]
      by_cases z : k = 0
      · subst z
        rw [show (1 + 23 * p + (5 + 2 * 0 + 1) : Int) = 1 + 23 * p + 6 by omega, e6]
        omega
      · rw [ne6 _ (by omega)]
        exact h7
    · rw [ne6 _ (by omega)] at k2
      rw [ne6 _ (by omega), ne6 (1 + 23 * p + (5 + 2 * (k + 1))) (by omega)]
      exact a8 k k1 k2
theorem cartN_k {N : Int} {p b : Int} (hp : 0 ≤ p ∧ p < 6) (hb : 0 ≤ b ∧ b ≤ 3) : ∀ (n : Nat) (x : Int) (w : Int → Int), DV w p n → PX N x w p → BC w b → p < w 0 → w (139 + 61 * b) + n ≤ 60 → PX N (x + n) (cartN p b n w) p ∧ BC (cartN p b n w) b
  | 0, x, w, _, hx, hc, _, _ => ⟨by rw [show x + ((0 : Nat) : Int) = x by omega]; exact hx, hc⟩
  | n + 1, x, w, hd, hx, hc, hpw, hn => by
    have hc1 := hc.1
    have hm := hd.many (by omega)
    have hdd := hd.dec (by omega)
    have e4 : w (1 + 23 * p + 4) ≤ 9 := by have := hd.1; omega
    have ne : ∀ j, ¬ (1 + 23 * p + 4 ≤ j ∧ j < 1 + 23 * p + 23) → decW w p j = w j := fun j hj => decW_ne w hj e4
    have en := ne (139 + 61 * b) (by omega)
    have pe : ∀ j, ¬ j = 139 + 61 * b → ¬ j = 139 + 61 * b + 1 + w (139 + 61 * b) → pushW (decW w p) b p j = decW w p j := fun j j1 j2 => by
      unfold pushW
      rw [en, ud_ne j1, ud_ne j2]
    have pn : pushW (decW w p) b p (139 + 61 * b) = w (139 + 61 * b) + 1 := by
      unfold pushW
      rw [ud_at, en]
    have pt_ : pushW (decW w p) b p (139 + 61 * b + 1 + w (139 + 61 * b)) = p := by
      unfold pushW
      rw [en, ud_ne (by omega), ud_at]
    have hdv : DV (pushW (decW w p) b p) p (n : Int) := by
      have h1 := hdd.1
      rw [show ((n + 1 : Nat) : Int) - 1 = n by omega] at h1
      exact h1.cg (fun j j1 j2 => pe j (by omega) (by omega))
    have hbc : BC (pushW (decW w p) b p) b := by
      refine ⟨by rw [pn]; omega, fun k k1 k2 => ?_⟩
      rw [pn] at k2
      rw [pe 0 (by omega) (by omega), ne 0 (by omega)]
      by_cases z : k = w (139 + 61 * b)
      · rw [z, pt_]; omega
      · rw [pe _ (by omega) (by omega), ne _ (by omega)]
        exact hc.2 k k1 (by omega)
    have h := cartN_k hp hb n (x + 1) (pushW (decW w p) b p) hdv ((hx.dec hp hm).cg (fun j j1 j2 => pe j (by omega) (by omega)) (pe 428 (by omega) (by omega))) hbc (by rw [pe 0 (by omega) (by omega), ne 0 (by omega)]; exact hpw) (by rw [pn]; omega)
    rw [show x + 1 + (n : Int) = x + ((n + 1 : Nat) : Int) by omega] at h
    exact h
theorem f_cart_k {N : Int} {w : Int → Int} (h : WI N w) (hN : N + 1 ≤ 720) (p s b : Int) : CK N w (f_cart w p s b) := by
  have h0 := h.2.1
  unfold f_cart
  split
  · rename_i c1
    split
    · rename_i c2
      split
      · rename_i c3
        split
        · rename_i c4
          split
          · rename_i c5
            have hb := h.2.2.2.1 b c2.1 c2.2
            obtain ⟨a1, a2, a3, a4, a5, a6, a7, a8, a9⟩ := (h.pc c1.1 (by omega)).mono (show N ≤ N + 1 by omega)
            have hdv := h.dv (p := p) (s := s) (by omega) c4
            rw [show s = ((s.toNat : Nat) : Int) by omega] at hdv
            obtain ⟨g1, g2⟩ := cartN_ne (p := p) (b := b) (by omega) c2 s.toNat w hdv (by omega) (by omega)
            obtain ⟨k1, k2⟩ := cartN_k (N := N + 1) (p := p) (b := b) (by omega) c2 s.toNat 0 w hdv ⟨a5, by omega, a7, a8⟩ hb c1.2 (by omega)
            rw [show (0 : Int) + ((s.toNat : Nat) : Int) = s by omega] at k1
            rw [show ((s.toNat : Nat) : Int) = s by omega] at g2
            have q3 := g1 (1 + 23 * p + 3) (by omega) (by omega)
            have q430 := g1 430 (by omega) (by omega)
            have q0 := g1 (1 + 23 * p + 0) (by omega) (by omega)
            generalize cartN p b s.toNat w = v at g1 g2 k1 k2 q3 q430 q0
            rw [q3, q430, q0]
            generalize hw' : ud (ud v (1 + 23 * p + 3) (w (1 + 23 * p + 3) + s)) 430 (w 430 + s * pt (w (1 + 23 * p + 0))) = w'
            have nv : ∀ j, ¬ j = 1 + 23 * p + 3 → ¬ j = 430 → w' j = v j := fun j j1 j2 => by rw [← hw', ud_ne j2, ud_ne j1]
            have ne : ∀ j, ¬ j = 1 + 23 * p + 3 → ¬ j = 430 → ¬ (1 + 23 * p + 4 ≤ j ∧ j < 1 + 23 * p + 23) → ¬ (139 + 61 * b ≤ j ∧ j < 139 + 61 * b + 61) → w' j = w j := fun j j1 j2 j3 j4 => by rw [nv j j1 j2, g1 j j3 j4]
            have e3 : w' (1 + 23 * p + 3) = w (1 + 23 * p + 3) + s := by rw [← hw', ud_ne (by omega), ud_at]
            have e430 : w' 430 = w 430 + s * pt (w (1 + 23 * p + 0)) := by rw [← hw', ud_at]
            have ne0 := ne 0 (by omega) (by omega) (by omega) (by omega)
            refine CK.ok (h.ch (by omega) ne0 (ne 428 (by omega) (by omega) (by omega) (by omega)) (fun q q1 q2 => ?_) (fun q q1 q2 => ?_) (fun q q1 q2 => .inl fun j j1 j2 => ne j (by omega) (by omega) (by omega) (by omega)) (fun q q1 q2 => .inl fun j j1 j2 => ne j (by omega) (by omega) (by omega) (by omega)) (fun q q1 q2 => .inl fun j j1 j2 => ne j (by omega) (by omega) (by omega) (by omega)) (.inl (ne _ (by omega) (by omega) (by omega) (by omega))) (.inr ?_) (.inl ⟨ne _ (by omega) (by omega) (by omega) (by omega), fun q q1 q2 => ne _ (by omega) (by omega) (by omega) (by omega)⟩)) (ne 428 (by omega) (by omega) (by omega) (by omega))
            · by_cases z : q = p
              · subst z
                obtain ⟨b5, b6, b7, b8⟩ := k1
                have v1 := g1 (1 + 23 * q + 1) (by omega) (by omega)
                have v2 := g1 (1 + 23 * q + 2) (by omega) (by omega)
                have fs : sF (fun k => w' (1 + 23 * q + (5 + 2 * k + 1))) 0 (v (1 + 23 * q + 4)).toNat = sF (fun k => v (1 + 23 * q + (5 + 2 * k + 1))) 0 (v (1 + 23 * q + 4)).toNat := sF_cg _ 0 (fun i i1 i2 => nv _ (by omega) (by omega))
                refine .inr ⟨by rw [ne _ (by omega) (by omega) (by omega) (by omega)]; exact a1, by rw [ne _ (by omega) (by omega) (by omega) (by omega)]; exact a2, by rw [ne _ (by omega) (by omega) (by omega) (by omega)]; exact a3, by rw [e3]; omega, by rw [nv _ (by omega) (by omega)]; exact b5, ?_, fun k k1 k2 => ?_, fun k k1 k2 => ?_, fun x => by rw [ne0] at x; omega⟩
                · rw [nv (1 + 23 * q + 4) (by omega) (by omega), fs, e3, nv (1 + 23 * q + 2) (by omega) (by omega), nv (1 + 23 * q + 1) (by omega) (by omega)]
                  omega
                · rw [nv (1 + 23 * q + 4) (by omega) (by omega)] at k2
                  rw [nv _ (by omega) (by omega), nv (1 + 23 * q + (5 + 2 * k)) (by omega) (by omega), nv 428 (by omega) (by omega)]
                  exact b7 k k1 k2
                · rw [nv (1 + 23 * q + 4) (by omega) (by omega)] at k2
                  rw [nv _ (by omega) (by omega), nv (1 + 23 * q + (5 + 2 * (k + 1))) (by omega) (by omega)]
                  exact b8 k k1 k2
              · exact .inl fun j j1 j2 => ne j (by omega) (by omega) (by omega) (by omega)
            · by_cases z : q = b
              · subst z
                refine .inr ⟨by rw [nv _ (by omega) (by omega)]; exact k2.1, fun k k1 k3 => ?_⟩
                rw [nv _ (by omega) (by omega)] at k3
                rw [nv _ (by have := k2.1; omega) (by have := k2.1; omega), nv 0 (by omega) (by omega)]
                exact k2.2 k k1 k3
              · exact .inl fun j j1 j2 => ne j (by omega) (by omega) (by omega) (by omega)
            · have hsum := h.2.2.2.2.2.2.2.2.2.1
              have spl : ∀ f : Int → Int, sF f 0 (w 0).toNat = sF f 0 p.toNat + (f p + sF f (p + 1) ((w 0).toNat - p.toNat - 1)) := fun f => by
                rw [show (w 0).toNat = p.toNat + ((w 0).toNat - p.toNat - 1 + 1) by omega, sF_app, sF_s, show (0 : Int) + (p.toNat : Int) = p by omega]
                congr 4
                omega
              rw [e430, hsum, spl, spl]
              have s1 : sF (fun p => w' (1 + 23 * p + 3) * pt (w' (1 + 23 * p + 0))) 0 p.toNat = sF (fun p => w (1 + 23 * p + 3) * pt (w (1 + 23 * p + 0))) 0 p.toNat := sF_cg _ _ (fun i i1 i2 => by rw [ne _ (by omega) (by omega) (by omega) (by omega), ne (1 + 23 * i + 0) (by omega) (by omega) (by omega) (by omega)])
              have s2 : sF (fun p => w' (1 + 23 * p + 3) * pt (w' (1 + 23 * p + 0))) (p + 1) ((w 0).toNat - p.toNat - 1) = sF (fun p => w (1 + 23 * p + 3) * pt (w (1 + 23 * p + 0))) (p + 1) ((w 0).toNat - p.toNat - 1) := sF_cg _ _ (fun i i1 i2 => by rw [ne _ (by omega) (by omega) (by omega) (by omega), ne (1 + 23 * i + 0) (by omega) (by omega) (by omega) (by omega)])
              rw [s1, s2]
              show _ = _ + (w' (1 + 23 * p + 3) * pt (w' (1 + 23 * p + 0)) + _)
              rw [e3, ne (1 + 23 * p + 0) (by omega) (by omega) (by omega) (by omega), Int.add_mul]
              omega
          · exact CK.re h hN _ _ _ _
        · exact CK.re h hN _ _ _ _
      · exact CK.no h hN _
    · exact CK.no h hN _
  · exact CK.no h hN _
theorem bgW_ne {j : Int} (h1 : ¬ (383 ≤ j ∧ j ≤ 427)) : bgW j = 0 := by
  unfold bgW bgL bgK bgF
  rw [ud_ne (by omega), ud_ne (by omega), ud_ne (by omega), ud_ne (by omega), ud_ne (by omega), ud_ne (by omega), ud_ne (by omega), ud_ne (by omega), ud_ne (by omega), ud_ne (by omega), ud_ne (by omega), ud_ne (by omega), ud_ne (by omega)]
theorem bgW_f {f : Int} (hf : 0 ≤ f ∧ f ≤ 1) : bgW (383 + 4 * f + 0) = 0 ∧ bgW (383 + 4 * f + 1) = 0 ∧ bgW (383 + 4 * f + 2) = 2 ∧ bgW (383 + 4 * f + 3) = 0 := by
  have : f = 0 ∨ f = 1 := by omega
  rcases this with e | e <;> subst e <;> exact ⟨rfl, rfl, rfl, rfl⟩
theorem bgW_k {k : Int} (hk : 0 ≤ k ∧ k ≤ 2) : bgW (391 + 5 * k + 0) = 0 ∧ bgW (391 + 5 * k + 1) = 10 ∧ bgW (391 + 5 * k + 2) = 0 ∧ bgW (391 + 5 * k + 3) = 0 ∧ bgW (391 + 5 * k + 4) = 0 := by
  have : k = 0 ∨ k = 1 ∨ k = 2 := by omega
  rcases this with e | e | e <;> subst e <;> exact ⟨rfl, rfl, rfl, rfl, rfl⟩
theorem bgW_l {p : Int} (hp : 0 ≤ p ∧ p ≤ 6) : bgW (406 + 3 * p + 0) = 2 ∧ bgW (406 + 3 * p + 1) = 0 ∧ bgW (406 + 3 * p + 2) = 0 := by
  have : p = 0 ∨ p = 1 ∨ p = 2 ∨ p = 3 ∨ p = 4 ∨ p = 5 ∨ p = 6 := by omega
  rcases this with e | e | e | e | e | e | e <;> subst e <;> exact ⟨rfl, rfl, rfl⟩
theorem WI_bg {N : Int} (hN : 0 ≤ N ∧ N ≤ 720) : WI N bgW := by
  refine ⟨hN, by rw [bgW_ne (by omega)]; omega, fun p p1 p2 => ?_, fun b b1 b2 => ?_, fun f f1 f2 => ?_, fun k k1 k2 => ?_, fun p p1 p2 => ?_, ⟨by show (-1 : Int) ≤ -1; omega, by show (-1 : Int) ≤ 6; omega⟩, by rw [bgW_ne (by omega)]; omega, ?_, ?_⟩
  · rw [bgW_ne (by omega), bgW_ne (by omega), bgW_ne (by omega), bgW_ne (by omega), bgW_ne (by omega), bgW_ne (by omega), bgW_ne (by omega)]
    have : sF (fun k => bgW (1 + 23 * p + (5 + 2 * k + 1))) 0 (0 : Int).toNat = 0 := rfl
    rw [this]
    exact ⟨by omega, by omega, by omega, by omega, by omega, by omega, fun k k1 k2 => by omega, fun k k1 k2 => by omega, fun _ => ⟨rfl, rfl⟩⟩
  · rw [bgW_ne (by omega)]
    exact ⟨by omega, fun k k1 k2 => by omega⟩
  · have := bgW_f ⟨f1, f2⟩
    omega
  · have := bgW_k ⟨k1, k2⟩
    omega
  · have := bgW_l ⟨p1, p2⟩
    omega
  · rw [bgW_ne (by omega), bgW_ne (j := 0) (by omega)]
    rfl
  · rw [bgW_ne (by omega), (bgW_k (k := 0) (by omega)).2.2.2.1, (bgW_k (k := 1) (by omega)).2.2.2.1, (bgW_k (k := 2) (by omega)).2.2.2.1]
    rfl
