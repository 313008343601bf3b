/-! PLAIN LAW: the model's commands: carting -/
theorem sF_sh (f : Int → Int) (d : Int) : ∀ (n : Nat) (k : Int), sF f (k + d) n = sF (fun i => f (i + d)) k n
  | 0, _ => rfl
  | n + 1, k => by
    rw [sF_s, sF_s, show k + d + 1 = k + 1 + d by omega, sF_sh f d n (k + 1)]
def decW (w : Int → Int) (p : Int) : Int → Int := if w (1 + 23 * p + 6) - 1 = 0 then drW (ud w (1 + 23 * p + 6) (w (1 + 23 * p + 6) - 1)) p else ud w (1 + 23 * p + 6) (w (1 + 23 * p + 6) - 1)
def pushW (w : Int → Int) (b p : Int) : Int → Int := ud (ud w (139 + 61 * b + 1 + w (139 + 61 * b)) p) (139 + 61 * b) (w (139 + 61 * b) + 1)
def cartN (p b : Int) : Nat → (Int → Int) → Int → Int
  | 0, w => w
  | n + 1, w => cartN p b n (pushW (decW w p) b p)
/-- dues that bear so much -/
def DV (w : Int → Int) (p left : Int) : Prop := (0 ≤ w (1 + 23 * p + 4) ∧ w (1 + 23 * p + 4) ≤ 8) ∧ (∀ k, 0 ≤ k → k < w (1 + 23 * p + 4) → 0 < w (1 + 23 * p + (5 + 2 * k + 1)) ∧ w (1 + 23 * p + (5 + 2 * k + 1)) ≤ 720000) ∧ left ≤ dueW w p
theorem DV.many {w : Int → Int} {p left : Int} (h : DV w p left) (hl : 1 ≤ left) : 1 ≤ w (1 + 23 * p + 4) := by
  obtain ⟨h1, h2, h3⟩ := h
  rcases Int.lt_or_le (w (1 + 23 * p + 4)) 1 with c | c
  · have e : w (1 + 23 * p + 4) = 0 := by omega
    unfold dueW at h3
    rw [e] at h3
    have : sF (fun k => w (1 + 23 * p + (5 + 2 * k + 1))) 0 (0 : Int).toNat = 0 := rfl
    omega
  · exact c
theorem drW_4 (w : Int → Int) (p : Int) : drW w p (1 + 23 * p + 4) = w (1 + 23 * p + 4) - 1 := by
  unfold drW
  rw [ud_at]
theorem drW_d (w : Int → Int) {p j : Int} (h1 : 1 + 23 * p + 5 ≤ j) (h2 : j < 1 + 23 * p + 3 + 2 * w (1 + 23 * p + 4)) : drW w p j = w (j + 2) := by
  unfold drW
  rw [ud_ne (by omega), if_pos (by omega)]
  exact if_pos (by omega)
theorem drW_ne (w : Int → Int) {p j : Int} (h1 : ¬ (1 + 23 * p + 4 ≤ j ∧ j < 1 + 23 * p + 23)) (h2 : w (1 + 23 * p + 4) ≤ 9) : drW w p j = w j := by
  unfold drW
  rw [ud_ne (by omega)]
  split
  · exact if_neg (by omega)
  · rfl
theorem decW_ne (w : Int → Int) {p j : Int} (h1 : ¬ (1 + 23 * p + 4 ≤ j ∧ j < 1 + 23 * p + 23)) (h2 : w (1 + 23 * p + 4) ≤ 9) : decW w p j = w j := by
  unfold decW
  split
  · rw [drW_ne _ h1 (by rw [ud_ne (by omega)]; exact h2), ud_ne (by omega)]
  · rw [ud_ne (by omega)]
theorem DV.dec {w : Int → Int} {p left : Int} (h : DV w p left) (hl : 1 ≤ left) : DV (decW w p) p (left - 1) ∧ dueW (decW w p) p = dueW w p - 1 := by
  have hm := h.many hl
  obtain ⟨h1, h2, h3⟩ := h
  have h0 := h2 0 (by omega) (by omega)
  have e0 : (1 + 23 * p + (5 + 2 * 0 + 1) : Int) = 1 + 23 * p + 6 := by omega
  rw [e0] at h0
  obtain ⟨n, hn⟩ : ∃ n : Nat, (w (1 + 23 * p + 4)).toNat = n + 1 := ⟨(w (1 + 23 * p + 4)).toNat - 1, by omega⟩
  have hd : dueW w p = w (1 + 23 * p + 6) + sF (fun k => w (1 + 23 * p + (5 + 2 * k + 1))) (0 + 1) n := by
    unfold dueW
    rw [hn, sF_s]
    show w (1 + 23 * p + (5 + 2 * 0 + 1)) + _ = _
    rw [e0]
  by_cases c : w (1 + 23 * p + 6) - 1 = 0
  · have ed : decW w p = drW (ud w (1 + 23 * p + 6) (w (1 + 23 * p + 6) - 1)) p := if_pos c
    have e4 : ud w (1 + 23 * p + 6) (w (1 + 23 * p + 6) - 1) (1 + 23 * p + 4) = w (1 + 23 * p + 4) := ud_ne (by omega)
    have f4 : decW w p (1 + 23 * p + 4) = w (1 + 23 * p + 4) - 1 := by rw [ed, drW_4, e4]
    have fd : ∀ k, 0 ≤ k → k < w (1 + 23 * p + 4) - 1 → decW w p (1 + 23 * p + (5 + 2 * k + 1)) = w (1 + 23 * p + (5 + 2 * (k + 1) + 1)) := fun k g1 g2 => by
      rw [ed, drW_d _ (by omega) (by omega), ud_ne (by omega)]
      congr 1
      omega
    have es : dueW (decW w p) p = dueW w p - 1 := by
      have e5 : dueW (decW w p) p = sF (fun k => w (1 + 23 * p + (5 + 2 * (k + 1) + 1))) 0 n := by
        unfold dueW
        rw [f4, show (w (1 + 23 * p + 4) - 1).toNat = n by omega]
        exact sF_cg n 0 (fun i g1 g2 => fd i g1 (by omega))
      rw [e5, hd, sF_sh (fun k => w (1 + 23 * p + (5 + 2 * k + 1))) 1 n 0]
      omega
    refine ⟨⟨by rw [f4]; omega, fun k g1 g2 => ?_, by rw [es]; omega⟩, es⟩
    rw [f4] at g2
    rw [fd k g1 g2]
    exact h2 (k + 1) (by omega) (by omega)
  · have ed : decW w p = ud w (1 + 23 * p + 6) (w (1 + 23 * p + 6) - 1) := if_neg c
    have f4 : decW w p (1 + 23 * p + 4) = w (1 + 23 * p + 4) := by rw [ed, ud_ne (by omega)]
    have es : dueW (decW w p) p = dueW w p - 1 := by
      have e5 : dueW (decW w p) p = (w (1 + 23 * p + 6) - 1) + sF (fun k => w (1 + 23 * p + (5 + 2 * k + 1))) (0 + 1) n := by
        unfold dueW
        rw [f4, hn, sF_s, sF_cg (g := fun k => w (1 + 23 * p + (5 + 2 * k + 1))) n (0 + 1) (fun i g1 g2 => by rw [ed, ud_ne (by omega)])]
        rw [ed, e0, ud_at]
      rw [e5, hd]
      omega
    refine ⟨⟨by rw [f4]; omega, fun k g1 g2 => ?_, by rw [es]; omega⟩, es⟩
    rw [f4] at g2
    rw [ed]
    by_cases k0 : k = 0
    · subst k0
      rw [e0, ud_at]
      omega
    · rw [ud_ne (by omega)]
      exact h2 k g1 g2
theorem DV.cg {w w' : Int → Int} {p left : Int} (h : DV w p left) (e : ∀ j, 1 + 23 * p + 4 ≤ j → j < 1 + 23 * p + 23 → w' j = w j) : DV w' p left := by
  obtain ⟨h1, h2, h3⟩ := h
  have e4 := e (1 + 23 * p + 4) (by omega) (by omega)
  refine ⟨by rw [e4]; exact h1, fun k g1 g2 => ?_, ?_⟩
  · rw [e4] at g2
    rw [e _ (by omega) (by omega)]
    exact h2 k g1 g2
  · have : dueW w' p = dueW w p := by
      unfold dueW
      rw [e4]
      exact sF_cg _ 0 (fun i g1 g2 => e _ (by omega) (by omega))
    rw [this]; exact h3
section MODEL
variable {G0 G : aH} {M : Nat} {μ : Nat → Int → Int} {N : Int}
theorem pm_carts147 {Q : Int32 → aH → Prop} (hM : MM G0 G M μ) {p s b l : Int} (hp : 0 ≤ p ∧ p < 6) (hb : 0 ≤ b ∧ b ≤ 3) (hn : 0 ≤ μ 1 (139 + 61 * b) ∧ μ 1 (139 + 61 * b) < 60) {at_ : Int32} {kk : aH → Nat → Int32 → Int32 → Int32 → Int32 → Int32 → Prop} (h : ∀ G1, MM G0 G1 M (rep μ 1 (pushW (μ 1) b p)) → kk G1 M (Int32.ofInt p) (Int32.ofInt s) (Int32.ofInt b) at_ (Int32.ofInt (l - 1))) : tw_X8_carts_b147 Q kk G M (Int32.ofInt p) (Int32.ofInt s) (Int32.ofInt b) at_ (Int32.ofInt l) := by
  unfold tw_X8_carts_b147
  simp (disch := omega) only [n_nat, n_add, n_sub, n_mul, n_neg, n_le, n_lt, n_eq, n_div, n_tn, n_if, Int.cast_ofNat_Int, MM.o hM, MM.r0 hM, MM.r1 hM, MM.r2 hM, MM.r3 hM, MM.r4 hM, MM.r8 hM, MM.r9 hM, MM.r10 hM, MM.r13 hM, MM.r16 hM, MM.r21 hM, MM.r22 hM, MM.a1 hM, MM.a2 hM, MM.a3 hM, MM.a4 hM, MM.a5 hM, MM.a6 hM, MM.a7 hM, MM.a8 hM, MM.a9 hM, MM.a10 hM, MM.a11 hM, MM.a12 hM, MM.d1 hM, MM.d2 hM, MM.d3 hM, MM.d4 hM, MM.d5 hM, MM.d6 hM, MM.d7 hM, MM.d8 hM, MM.d9 hM, MM.d10 hM, MM.d11 hM, MM.d12 hM, MM.fl hM, true_and]
  refine pm_inBay hM hb.1 hb.2 ?_
  simp (disch := omega) only [n_nat, n_add, n_sub, n_mul, n_neg, n_le, n_lt, n_eq, n_div, n_tn, n_if, Int.cast_ofNat_Int, MM.o hM, MM.r0 hM, MM.r1 hM, MM.r2 hM, MM.r3 hM, MM.r4 hM, MM.r8 hM, MM.r9 hM, MM.r10 hM, MM.r13 hM, MM.r16 hM, MM.r21 hM, MM.r22 hM, MM.a1 hM, MM.a2 hM, MM.a3 hM, MM.a4 hM, MM.a5 hM, MM.a6 hM, MM.a7 hM, MM.a8 hM, MM.a9 hM, MM.a10 hM, MM.a11 hM, MM.a12 hM, MM.d1 hM, MM.d2 hM, MM.d3 hM, MM.d4 hM, MM.d5 hM, MM.d6 hM, MM.d7 hM, MM.d8 hM, MM.d9 hM, MM.d10 hM, MM.d11 hM, MM.d12 hM, MM.fl hM, true_and]
  refine hM.wr (by omega) (by omega) (fun G1 hM1 => ?_)
  simp (disch := omega) only [n_nat, n_add, n_sub, n_mul, n_neg, n_le, n_lt, n_eq, n_div, n_tn, n_if, Int.cast_ofNat_Int, MM.o hM1, MM.r0 hM1, MM.r1 hM1, MM.r2 hM1, MM.r3 hM1, MM.r4 hM1, MM.r8 hM1, MM.r9 hM1, MM.r10 hM1, MM.r13 hM1, MM.r16 hM1, MM.r21 hM1, MM.r22 hM1, MM.a1 hM1, MM.a2 hM1, MM.a3 hM1, MM.a4 hM1, MM.a5 hM1, MM.a6 hM1, MM.a7 hM1, MM.a8 hM1, MM.a9 hM1, MM.a10 hM1, MM.a11 hM1, MM.a12 hM1, MM.d1 hM1, MM.d2 hM1, MM.d3 hM1, MM.d4 hM1, MM.d5 hM1, MM.d6 hM1, MM.d7 hM1, MM.d8 hM1, MM.d9 hM1, MM.d10 hM1, MM.d11 hM1, MM.d12 hM1, MM.fl hM1, true_and, rep_at, ud_ne]
  refine hM1.wr (by omega) (by omega) (fun G2 hM2 => ?_)
  intro x hx
  subst hx
  rw [rep_rep, rep_at] at hM2
  rw [show l + -1 = l - 1 by omega]
  exact h G2 hM2
theorem pm_carts110 {Q : Int32 → aH → Prop} {p s b : Int} (hp : 0 ≤ p ∧ p < 6) (hb : 0 ≤ b ∧ b ≤ 3) : ∀ (n : Nat) (G : aH) (μ : Nat → Int → Int), MM G0 G M μ → DV (μ 1) p n → 0 ≤ μ 1 (139 + 61 * b) → μ 1 (139 + 61 * b) + n ≤ 60 → (∀ G1, MM G0 G1 M (rep μ 1 (cartN p b n (μ 1))) → tw_X8_carts_b192 Q G1 M (Int32.ofInt p) (Int32.ofInt s) (Int32.ofInt b) (Int32.ofInt (1 + 23 * p))) → tw_X8_carts_b110 Q (n + 1) G M (Int32.ofInt p) (Int32.ofInt s) (Int32.ofInt b) (Int32.ofInt (1 + 23 * p)) (Int32.ofInt n)
  | 0, G, μ, hM, hD, h1, h2, h => by
    rw [tws_X8_carts_b110]
    simp (disch := omega) only [n_nat, n_add, n_sub, n_mul, n_neg, n_le, n_lt, n_eq, n_div, n_tn, n_if, Int.cast_ofNat_Int]
    refine ⟨fun _ => h G ?_, fun c => by omega⟩
    show MM G0 G M (rep μ 1 (μ 1))
    rw [rep_self]
    exact hM
  | n + 1, G, μ, hM, hD, h1, h2, h => by
    have hm := hD.many (by omega)
    have hD2 := (hD.dec (by omega)).1
    have h9 := hD.2.1 0 (by omega) (by omega)
    have e0 : (1 + 23 * p + (5 + 2 * 0 + 1) : Int) = 1 + 23 * p + 6 := by omega
    rw [e0] at h9
    have en : (((n + 1 : Nat) : Int) - 1) = (n : Int) := by omega
    have go : ∀ G1, MM G0 G1 M (rep μ 1 (decW (μ 1) p)) → tw_X8_carts_b147 Q (tw_X8_carts_b110 Q (n + 1)) G1 M (Int32.ofInt p) (Int32.ofInt s) (Int32.ofInt b) (Int32.ofInt (1 + 23 * p)) (Int32.ofInt ((n + 1 : Nat) : Int)) := fun G1 hM1 => by
      have e7 : decW (μ 1) p (139 + 61 * b) = μ 1 (139 + 61 * b) := decW_ne _ (by omega) (by have := hD.1; omega)
      refine pm_carts147 hM1 hp hb (by rw [rep_at, e7]; omega) (fun G2 hM2 => ?_)
      rw [en]
      rw [rep_rep, rep_at] at hM2
      refine pm_carts110 hp hb n G2 _ hM2 ?_ ?_ ?_ ?_
      · rw [rep_at]
        rw [en] at hD2
        exact hD2.cg (fun j g1 g2 => by
          unfold pushW
          rw [ud_ne (by omega), ud_ne (by rw [e7]; omega)])
      · rw [rep_at]
        unfold pushW
        rw [ud_at, e7]
        omega
      · rw [rep_at]
        unfold pushW
        rw [ud_at, e7]
        omega
      · rw [rep_rep, rep_at]
        exact h
    rw [tws_X8_carts_b110]
    simp (disch := omega) only [n_nat, n_add, n_sub, n_mul, n_neg, n_le, n_lt, n_eq, n_div, n_tn, n_if, Int.cast_ofNat_Int, MM.o hM, MM.r0 hM, MM.r1 hM, MM.r2 hM, MM.r3 hM, MM.r4 hM, MM.r8 hM, MM.r9 hM, MM.r10 hM, MM.r13 hM, MM.r16 hM, MM.r21 hM, MM.r22 hM, MM.a1 hM, MM.a2 hM, MM.a3 hM, MM.a4 hM, MM.a5 hM, MM.a6 hM, MM.a7 hM, MM.a8 hM, MM.a9 hM, MM.a10 hM, MM.a11 hM, MM.a12 hM, MM.d1 hM, MM.d2 hM, MM.d3 hM, MM.d4 hM, MM.d5 hM, MM.d6 hM, MM.d7 hM, MM.d8 hM, MM.d9 hM, MM.d10 hM, MM.d11 hM, MM.d12 hM, MM.fl hM, true_and]
    refine ⟨fun c => by omega, fun _ => ?_⟩
    refine hM.wr (by omega) (by omega) (fun G1 hM1 => ?_)
    have e6 : (1 + 23 * p + 6 : Int) = 1 + 23 * p + 6 := rfl
    simp (disch := omega) only [n_nat, n_add, n_sub, n_mul, n_neg, n_le, n_lt, n_eq, n_div, n_tn, n_if, Int.cast_ofNat_Int, MM.o hM1, MM.r0 hM1, MM.r1 hM1, MM.r2 hM1, MM.r3 hM1, MM.r4 hM1, MM.r8 hM1, MM.r9 hM1, MM.r10 hM1, MM.r13 hM1, MM.r16 hM1, MM.r21 hM1, MM.r22 hM1, MM.a1 hM1, MM.a2 hM1, MM.a3 hM1, MM.a4 hM1, MM.a5 hM1, MM.a6 hM1, MM.a7 hM1, MM.a8 hM1, MM.a9 hM1, MM.a10 hM1, MM.a11 hM1, MM.a12 hM1, MM.d1 hM1, MM.d2 hM1, MM.d3 hM1, MM.d4 hM1, MM.d5 hM1, MM.d6 hM1, MM.d7 hM1, MM.d8 hM1, MM.d9 hM1, MM.d10 hM1, MM.d11 hM1, MM.d12 hM1, MM.fl hM1, true_and, rep_at, ud_at]
    refine ⟨fun c => ?_, fun c => ?_⟩
    · refine go G1 ?_
      unfold decW
      rw [if_neg c]
      exact hM1
    · refine pm_dropsDue hM1 hp ?_ (fun G2 hM2 => go G2 ?_)
      · rw [rep_at, ud_ne (by omega)]
        have := hD.1
        omega
      · rw [rep_rep, rep_at] at hM2
        unfold decW
        rw [if_pos c]
        exact hM2
end MODEL
