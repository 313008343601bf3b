/-! PLAIN LAW: the invariant is kept by a day -/
theorem WI.fas {N : Int} {w : Int → Int} (h : WI N w) (hd : w 428 < 100000) : WI N (fasR w) ∧ fasR w 428 = w 428 + 1 ∧ fasR w 0 = w 0 := by
  have h0 := h.2.1
  obtain ⟨g1, g2, g3, g4⟩ := faN_p (w 0).toNat 0 w h (by omega) (by omega) (fun p p1 p2 => by omega)
  have ed : fasR w 428 = w 428 + 1 := by
    unfold fasR
    rw [ud_at, g4]
  have ne : ∀ j, ¬ j = 428 → fasR w j = faN 0 (w 0).toNat w j := fun j hj => by
    unfold fasR
    rw [ud_ne hj]
  refine ⟨⟨g1.1, by rw [ne 0 (by omega)]; exact g1.2.1, fun p p1 p2 => ?_, fun b b1 b2 => ?_, fun f f1 f2 => ?_, fun k k1 k2 => ?_, fun p p1 p2 => ?_, ?_, ?_, ?_, ?_⟩, ed, by rw [ne 0 (by omega), g3]⟩
  · obtain ⟨a1, a2, a3, a4, a5, a6, a7, a8, a9⟩ := g1.pc p1 p2
    have e4 := ne (1 + 23 * p + 4) (by omega)
    have fs : sF (fun k => fasR w (1 + 23 * p + (5 + 2 * k + 1))) 0 (faN 0 (w 0).toNat w (1 + 23 * p + 4)).toNat = sF (fun k => faN 0 (w 0).toNat w (1 + 23 * p + (5 + 2 * k + 1))) 0 (faN 0 (w 0).toNat w (1 + 23 * p + 4)).toNat := sF_cg _ 0 (fun i i1 i2 => ne _ (by omega))
    rw [e4, fs, ne (1 + 23 * p + 0) (by omega), ne (1 + 23 * p + 1) (by omega), ne (1 + 23 * p + 2) (by omega), ne (1 + 23 * p + 3) (by omega), ne 0 (by omega), ed]
    refine ⟨a1, a2, a3, a4, a5, a6, fun k k1 k2 => ?_, fun k k1 k2 => ?_, a9⟩
    · rw [ne _ (by omega), ne (1 + 23 * p + (5 + 2 * k)) (by omega)]
      have b7 := a7 k k1 k2
      by_cases c : p < w 0
      · have := g2 p p1 c k k1 k2
        omega
      · have := (a9 (by omega)).2
        omega
    · rw [ne _ (by omega), ne (1 + 23 * p + (5 + 2 * (k + 1))) (by omega)]
      exact a8 k k1 k2
  · have hh := g1.2.2.2.1 b b1 b2
    rw [ne _ (by omega), ne 0 (by omega)]
    exact ⟨hh.1, fun k k1 k2 => by rw [ne _ (by omega)]; exact hh.2 k k1 k2⟩
  · rw [ne _ (by omega), ne (383 + 4 * f + 1) (by omega), ne (383 + 4 * f + 2) (by omega)]
    exact g1.2.2.2.2.1 f f1 f2
  · rw [ne _ (by omega), ne (391 + 5 * k + 1) (by omega)]
    exact g1.2.2.2.2.2.1 k k1 k2
  · rw [ne _ (by omega), ne (406 + 3 * p + 1) (by omega)]
    exact g1.2.2.2.2.2.2.1 p p1 p2
  · rw [ne _ (by omega)]
    exact g1.2.2.2.2.2.2.2.1
  · rw [ed]
    have := h.2.2.2.2.2.2.2.2.1
    omega
  · rw [ne 430 (by omega), ne 0 (by omega), sF_cg (g := fun p => faN 0 (w 0).toNat w (1 + 23 * p + 3) * pt (faN 0 (w 0).toNat w (1 + 23 * p + 0))) _ 0 (fun i i1 i2 => by rw [ne _ (by omega), ne _ (by omega)])]
    exact g1.2.2.2.2.2.2.2.2.2.1
  · rw [ne 431 (by omega), ne _ (by omega), ne (391 + 5 * 1 + 3) (by omega), ne (391 + 5 * 2 + 3) (by omega)]
    exact g1.2.2.2.2.2.2.2.2.2.2
theorem eatsR_fix {w : Int → Int} {p : Int} (hp : 0 ≤ p ∧ p ≤ 6) (hn : p ≤ 3 → 0 ≤ w (139 + 61 * p) ∧ w (139 + 61 * p) ≤ 60) (hr : 0 ≤ w (406 + 3 * p + 1)) : eatsR w p 0 = w 0 ∧ eatsR w p 428 = w 428 := by
  unfold eatsR nigR
  rw [ud_ne (by omega), ud_ne (by omega), ud_ne (by omega), ud_ne (by omega)]
  exact ⟨eatR_ne hp hn hr (by omega) (by omega) (by omega), eatR_ne hp hn hr (by omega) (by omega) (by omega)⟩
theorem WI_eaN {N : Int} : ∀ (n : Nat) (k : Int) (w : Int → Int), WI N w → 0 ≤ k → k + n = 7 → WI N (eaN k n w) ∧ eaN k n w 428 = w 428 ∧ eaN k n w 0 = w 0
  | 0, _, w, h, _, _ => ⟨h, rfl, rfl⟩
  | n + 1, k, w, h, h1, h2 => by
    have hf := eatsR_fix (w := w) (p := k) (by omega) (fun z => (h.2.2.2.1 k h1 z).1) (h.2.2.2.2.2.2.1 k h1 (by omega)).2.1
    obtain ⟨g1, g2, g3⟩ := WI_eaN n (k + 1) (eatsR w k) (h.eats (by omega)) (by omega) (by omega)
    exact ⟨g1, g2.trans hf.2, g3.trans hf.1⟩
theorem thrR_fix (w : Int → Int) {f : Int} (hf : 0 ≤ f ∧ f ≤ 1) (hk : 0 ≤ w (383 + 4 * f + 1) ∧ w (383 + 4 * f + 1) ≤ 2) : thrR w f 0 = w 0 ∧ thrR w f 428 = w 428 := by
  unfold thrR
  rw [ud_ne (by omega), ud_ne (by omega), ud_ne (by omega), ud_ne (by omega), ud_ne (by omega), ud_ne (by omega), ud_ne (by omega), ud_ne (by omega)]
  exact ⟨rfl, rfl⟩
/-- a day: the row behind it, what is threshed in it -/
def dyR (w : Int → Int) : Int → Int := fasR (eaN 0 7 (thrR (thrR w 0) 1))
def dyS (w : Int → Int) : Int := thrW w 0 + thrW (thrR w 0) 1
theorem WI.thb {N : Int} {w : Int → Int} {f : Int} (h : WI N w) (hf : 0 ≤ f ∧ f ≤ 1) : 0 ≤ thrW w f ∧ thrW w f ≤ 20 := by
  have hfl := h.2.2.2.2.1 f hf.1 hf.2
  have hst := h.2.2.2.2.2.1 _ hfl.2.1.1 hfl.2.1.2
  obtain ⟨m1, m2, -, -⟩ := thrW_b hfl.2.1 hfl.1 hfl.2.2 hst.1
  omega
theorem WI.dy {N : Int} {w : Int → Int} (h : WI N w) (hd : w 428 < 100000) : WI N (dyR w) ∧ dyR w 428 = w 428 + 1 ∧ dyR w 0 = w 0 ∧ 0 ≤ dyS w ∧ dyS w ≤ 40 := by
  have t0 := h.thr (f := 0) (by omega)
  have t1 := t0.thr (f := 1) (by omega)
  have f0 := thrR_fix w (f := 0) (by omega) (h.2.2.2.2.1 0 (by omega) (by omega)).2.1
  have f1 := thrR_fix (thrR w 0) (f := 1) (by omega) (t0.2.2.2.2.1 1 (by omega) (by omega)).2.1
  obtain ⟨e1, e2, e3⟩ := WI_eaN 7 0 _ t1 (by omega) (by omega)
  obtain ⟨g1, g2, g3⟩ := e1.fas (by rw [e2, f1.2, f0.2]; exact hd)
  have b0 := h.thb (f := 0) (by omega)
  have b1 := t0.thb (f := 1) (by omega)
  refine ⟨g1, ?_, ?_, ?_⟩
  · show fasR (eaN 0 7 (thrR (thrR w 0) 1)) 428 = _
    rw [g2, e2, f1.2, f0.2]
  · show fasR (eaN 0 7 (thrR (thrR w 0) 1)) 0 = _
    rw [g3, e3, f1.1, f0.1]
  · unfold dyS
    omega
section MODEL
variable {G0 G : aH} {M : Nat} {μ : Nat → Int → Int} {N : Int}
theorem pm_dy {Q : Int32 → aH → Prop} (hM : MM G0 G M μ) (hW : WI N (μ 1)) (h : ∀ G1, MM G0 G1 M (rep μ 1 (dyR (μ 1))) → Q (Int32.ofInt (dyS (μ 1))) G1) : tw_X8_day Q G M :=
  pm_day (fun _ _ h hf => h.thr hf) (fun _ _ h hp => h.eats hp) hM hW h
end MODEL
