/-! PLAIN LAW: the model's days: the rats, on -/
section MODEL
variable {G0 G : aH} {M : Nat} {μ : Nat → Int → Int} {N : Int}
theorem rt_b {w : Int → Int} {p left : Int} (h1 : 0 ≤ w (406 + 3 * p + 1) ∧ w (406 + 3 * p + 1) ≤ 50) (h2 : 0 ≤ w (406 + 3 * p) ∧ w (406 + 3 * p) ≤ 2) : (0 ≤ rt1 w p left ∧ rt1 w p left ≤ 60) ∧ (0 ≤ rt2 w p left ∧ rt2 w p left ≤ 60) := by
  have h3 : 0 ≤ rt1 w p left ∧ rt1 w p left ≤ 60 := by
    unfold rt1
    split <;> omega
  refine ⟨h3, ?_⟩
  unfold rt2
  split <;> omega
theorem pm_eats135 {Q : aH → Prop} (hM : MM G0 G M μ) {p x y : Int} (hp : 0 ≤ p ∧ p ≤ 6) (hb : -2147483648 ≤ y - x ∧ y - x < 2147483648) (h : ∀ G1, MM G0 G1 M (rep μ 1 (ud (μ 1) (406 + 3 * p + 1) (mnI 50 (y - x)))) → Q G1) : tw_X8_eats_b135 Q G M (Int32.ofInt (406 + 3 * p)) (Int32.ofInt x) (Int32.ofInt y) (Int32.ofInt (406 + 3 * p + 1)) (M + 1) := by
  unfold tw_X8_eats_b135
  simp (disch := omega) only [n_nat, n_add, n_sub, n_mul, n_neg, n_le, n_lt, n_eq, n_div, n_tn, n_if, Int.cast_ofNat_Int, MM.o hM, MM.r0 hM, MM.r1 hM, MM.r2 hM, MM.r3 hM, MM.r4 hM, MM.r8 hM, MM.r9 hM, MM.r10 hM, MM.r13 hM, MM.r16 hM, MM.r21 hM, MM.r22 hM, MM.a1 hM, MM.a2 hM, MM.a3 hM, MM.a4 hM, MM.a5 hM, MM.a6 hM, MM.a7 hM, MM.a8 hM, MM.a9 hM, MM.a10 hM, MM.a11 hM, MM.a12 hM, MM.d1 hM, MM.d2 hM, MM.d3 hM, MM.d4 hM, MM.d5 hM, MM.d6 hM, MM.d7 hM, MM.d8 hM, MM.d9 hM, MM.d10 hM, MM.d11 hM, MM.d12 hM, MM.fl hM, true_and]
  refine hM.wr (by omega) (by omega) (fun G1 hM1 => ?_)
  simp (disch := omega) only [n_nat, n_add, n_sub, n_mul, n_neg, n_le, n_lt, n_eq, n_div, n_tn, n_if, Int.cast_ofNat_Int, MM.o hM1, MM.r0 hM1, MM.r1 hM1, MM.r2 hM1, MM.r3 hM1, MM.r4 hM1, MM.r8 hM1, MM.r9 hM1, MM.r10 hM1, MM.r13 hM1, MM.r16 hM1, MM.r21 hM1, MM.r22 hM1, MM.a1 hM1, MM.a2 hM1, MM.a3 hM1, MM.a4 hM1, MM.a5 hM1, MM.a6 hM1, MM.a7 hM1, MM.a8 hM1, MM.a9 hM1, MM.a10 hM1, MM.a11 hM1, MM.a12 hM1, MM.d1 hM1, MM.d2 hM1, MM.d3 hM1, MM.d4 hM1, MM.d5 hM1, MM.d6 hM1, MM.d7 hM1, MM.d8 hM1, MM.d9 hM1, MM.d10 hM1, MM.d11 hM1, MM.d12 hM1, MM.fl hM1, true_and, rep_at, ud_at]
  refine hM1.wr (by omega) (by omega) (fun G2 hM2 => ?_)
  rw [rep_rep, rep_at, ud_ud] at hM2
  exact h G2 hM2
theorem pm_eats96 {Q : aH → Prop} (hM : MM G0 G M μ) {p x y : Int} (hp : 0 ≤ p ∧ p ≤ 6) (hc : -1 ≤ μ 1 427 ∧ μ 1 427 ≤ 6) (hb : 0 ≤ y + x ∧ y + x ≤ 60) (h : ∀ G1, MM G0 G1 M (rep μ 1 (ud (μ 1) (406 + 3 * p + 1) (mnI 50 ((y + x) - if μ 1 427 = p then (y + x + 1) / 2 else 0)))) → Q G1) : tw_X8_eats_b96 Q G M (Int32.ofInt p) (Int32.ofInt (406 + 3 * p)) (Int32.ofInt x) (Int32.ofInt y) (Int32.ofInt (406 + 3 * p + 1)) (M + 1) := by
  unfold tw_X8_eats_b96
  simp (disch := omega) only [n_nat, n_add, n_sub, n_mul, n_neg, n_le, n_lt, n_eq, n_div, n_tn, n_if, Int.cast_ofNat_Int, MM.o hM, MM.r0 hM, MM.r1 hM, MM.r2 hM, MM.r3 hM, MM.r4 hM, MM.r8 hM, MM.r9 hM, MM.r10 hM, MM.r13 hM, MM.r16 hM, MM.r21 hM, MM.r22 hM, MM.a1 hM, MM.a2 hM, MM.a3 hM, MM.a4 hM, MM.a5 hM, MM.a6 hM, MM.a7 hM, MM.a8 hM, MM.a9 hM, MM.a10 hM, MM.a11 hM, MM.a12 hM, MM.d1 hM, MM.d2 hM, MM.d3 hM, MM.d4 hM, MM.d5 hM, MM.d6 hM, MM.d7 hM, MM.d8 hM, MM.d9 hM, MM.d10 hM, MM.d11 hM, MM.d12 hM, MM.fl hM, true_and]
  refine hM.wr (by omega) (by omega) (fun G1 hM1 => ?_)
  simp (disch := omega) only [n_nat, n_add, n_sub, n_mul, n_neg, n_le, n_lt, n_eq, n_div, n_tn, n_if, Int.cast_ofNat_Int, MM.o hM1, MM.r0 hM1, MM.r1 hM1, MM.r2 hM1, MM.r3 hM1, MM.r4 hM1, MM.r8 hM1, MM.r9 hM1, MM.r10 hM1, MM.r13 hM1, MM.r16 hM1, MM.r21 hM1, MM.r22 hM1, MM.a1 hM1, MM.a2 hM1, MM.a3 hM1, MM.a4 hM1, MM.a5 hM1, MM.a6 hM1, MM.a7 hM1, MM.a8 hM1, MM.a9 hM1, MM.a10 hM1, MM.a11 hM1, MM.a12 hM1, MM.d1 hM1, MM.d2 hM1, MM.d3 hM1, MM.d4 hM1, MM.d5 hM1, MM.d6 hM1, MM.d7 hM1, MM.d8 hM1, MM.d9 hM1, MM.d10 hM1, MM.d11 hM1, MM.d12 hM1, MM.fl hM1, true_and, rep_at, ud_ne, ud_at]
  refine ⟨fun c => ?_, fun c => ?_⟩
  · rw [if_neg c] at h
    refine pm_eats135 hM1 hp (by omega) (fun G2 hM2 => ?_)
    rw [rep_rep, rep_at, ud_ud] at hM2
    exact h G2 hM2
  · rw [if_pos c] at h
    refine pm_eats135 hM1 hp (by omega) (fun G2 hM2 => ?_)
    rw [rep_rep, rep_at, ud_ud] at hM2
    exact h G2 hM2
theorem pm_eats60 {Q : aH → Prop} (hM : MM G0 G M μ) {p left : Int} (hp : 0 ≤ p ∧ p ≤ 6) (hl : -2147483648 ≤ left ∧ left < 2147483648) (hc : -1 ≤ μ 1 427 ∧ μ 1 427 ≤ 6) (h1 : 0 ≤ μ 1 (406 + 3 * p + 1) ∧ μ 1 (406 + 3 * p + 1) ≤ 50) (h2 : 0 ≤ μ 1 (406 + 3 * p) ∧ μ 1 (406 + 3 * p) ≤ 2) (h : ∀ G1, MM G0 G1 M (rep μ 1 (ud (μ 1) (406 + 3 * p + 1) (mnI 50 (rt2 (μ 1) p left)))) → Q G1) : tw_X8_eats_b60 Q G M (Int32.ofInt p) (Int32.ofInt (406 + 3 * p)) (Int32.ofInt left) := by
  have hb := (rt_b (left := left) h1 h2).1
  unfold tw_X8_eats_b60
  simp (disch := omega) only [n_nat, n_add, n_sub, n_mul, n_neg, n_le, n_lt, n_eq, n_div, n_tn, n_if, Int.cast_ofNat_Int, MM.o hM, MM.r0 hM, MM.r1 hM, MM.r2 hM, MM.r3 hM, MM.r4 hM, MM.r8 hM, MM.r9 hM, MM.r10 hM, MM.r13 hM, MM.r16 hM, MM.r21 hM, MM.r22 hM, MM.a1 hM, MM.a2 hM, MM.a3 hM, MM.a4 hM, MM.a5 hM, MM.a6 hM, MM.a7 hM, MM.a8 hM, MM.a9 hM, MM.a10 hM, MM.a11 hM, MM.a12 hM, MM.d1 hM, MM.d2 hM, MM.d3 hM, MM.d4 hM, MM.d5 hM, MM.d6 hM, MM.d7 hM, MM.d8 hM, MM.d9 hM, MM.d10 hM, MM.d11 hM, MM.d12 hM, MM.fl hM, true_and]
  unfold rt2 at h
  unfold rt1 at h hb
  refine ⟨fun c => ?_, fun c => ?_⟩
  · rw [if_neg (by omega)] at h hb
    exact pm_eats96 hM hp hc hb h
  · rw [if_pos (by omega)] at h hb
    exact pm_eats96 hM hp hc hb h
/-- what is left where the rats of p eat -/
def lftW (w : Int → Int) (p : Int) : Int := if 4 ≤ p then w (391 + 5 * (p - 4)) else w (139 + 61 * p)
theorem pm_eats37 {Q : aH → Prop} (hM : MM G0 G M μ) {p e v : Int} (hp : 0 ≤ p ∧ p ≤ 6) (hv : v = μ 1 (406 + 3 * p + 2)) (hl : 0 ≤ lftW (μ 1) p ∧ lftW (μ 1) p ≤ 3000) (hc : -1 ≤ μ 1 427 ∧ μ 1 427 ≤ 6) (h1 : 0 ≤ μ 1 (406 + 3 * p + 1) ∧ μ 1 (406 + 3 * p + 1) ≤ 50) (h2 : 0 ≤ μ 1 (406 + 3 * p) ∧ μ 1 (406 + 3 * p) ≤ 2) (h : ∀ G1, MM G0 G1 M (rep μ 1 (nigR (μ 1) p e (lftW (μ 1) p))) → Q G1) : tw_X8_eats_b37 Q G M (Int32.ofInt p) (Int32.ofInt (406 + 3 * p)) (Int32.ofInt e) (Int32.ofInt v) (Int32.ofInt (406 + 3 * p + 2)) (M + 1) := by
  subst hv
  have go : ∀ (G1 : aH), MM G0 G1 M (rep μ 1 (ud (μ 1) (406 + 3 * p + 2) (μ 1 (406 + 3 * p + 2) + e))) → tw_X8_eats_b60 Q G1 M (Int32.ofInt p) (Int32.ofInt (406 + 3 * p)) (Int32.ofInt (lftW (μ 1) p)) := fun G1 hM1 => by
    refine pm_eats60 hM1 hp (by omega) (by rw [rep_at, ud_ne (by omega)]; exact hc) (by rw [rep_at, ud_ne (by omega)]; exact h1) (by rw [rep_at, ud_ne (by omega)]; exact h2) (fun G2 hM2 => h G2 ?_)
    rw [rep_rep, rep_at] at hM2
    have e9 : rt2 (ud (μ 1) (406 + 3 * p + 2) (μ 1 (406 + 3 * p + 2) + e)) p (lftW (μ 1) p) = rt2 (μ 1) p (lftW (μ 1) p) := by
      unfold rt2 rt1
      rw [ud_ne (show ¬ (406 + 3 * p + 1 : Int) = 406 + 3 * p + 2 by omega), ud_ne (show ¬ (406 + 3 * p : Int) = 406 + 3 * p + 2 by omega), ud_ne (show ¬ (427 : Int) = 406 + 3 * p + 2 by omega)]
    rw [e9] at hM2
    exact hM2
  unfold tw_X8_eats_b37
  simp (disch := omega) only [n_nat, n_add, n_sub, n_mul, n_neg, n_le, n_lt, n_eq, n_div, n_tn, n_if, Int.cast_ofNat_Int, MM.o hM, MM.r0 hM, MM.r1 hM, MM.r2 hM, MM.r3 hM, MM.r4 hM, MM.r8 hM, MM.r9 hM, MM.r10 hM, MM.r13 hM, MM.r16 hM, MM.r21 hM, MM.r22 hM, MM.a1 hM, MM.a2 hM, MM.a3 hM, MM.a4 hM, MM.a5 hM, MM.a6 hM, MM.a7 hM, MM.a8 hM, MM.a9 hM, MM.a10 hM, MM.a11 hM, MM.a12 hM, MM.d1 hM, MM.d2 hM, MM.d3 hM, MM.d4 hM, MM.d5 hM, MM.d6 hM, MM.d7 hM, MM.d8 hM, MM.d9 hM, MM.d10 hM, MM.d11 hM, MM.d12 hM, MM.fl hM, true_and]
  refine hM.wr (by omega) (by omega) (fun G1 hM1 => ?_)
  unfold lftW at go
  refine ⟨fun c => ⟨hM1.o, ?_⟩, fun c => ⟨hM1.o, ?_⟩⟩
  · rw [if_pos c] at go
    refine pm_store hM1 (by omega) (by omega) ?_
    rw [rep_at, ud_ne (by omega), Int.add_zero]
    exact go G1 hM1
  · rw [if_neg c] at go
    refine pm_inBay hM1 (by omega) (by omega) ?_
    rw [rep_at, ud_ne (by omega)]
    exact go G1 hM1
/-- the row when the rats of a place have eaten, before the night -/
def eatR (w : Int → Int) (p : Int) : Int → Int := if 4 ≤ p then binR w (p - 4) else eatB p (mnI (w (139 + 61 * p)) (w (406 + 3 * p + 1) / 10)).toNat w
def eatE (w : Int → Int) (p : Int) : Int := if 4 ≤ p then mnI (w (391 + 5 * (p - 4))) (w (406 + 3 * p + 1)) else mnI (w (139 + 61 * p)) (w (406 + 3 * p + 1) / 10)
def eatsR (w : Int → Int) (p : Int) : Int → Int := nigR (eatR w p) p (eatE w p) (lftW (eatR w p) p)
theorem eatB_ne {b : Int} (hb : 0 ≤ b ∧ b ≤ 3) : ∀ (n : Nat) (w : Int → Int), n ≤ w (139 + 61 * b) → w (139 + 61 * b) ≤ 60 → (∀ j, ¬ j = 432 → ¬ (139 + 61 * b ≤ j ∧ j ≤ 139 + 61 * b + 60) → eatB b n w j = w j) ∧ eatB b n w (139 + 61 * b) = w (139 + 61 * b) - n
  | 0, w, _, _ => ⟨fun _ _ _ => rfl, by show w (139 + 61 * b) = _; omega⟩
  | n + 1, w, h1, h2 => by
    have e0 : ud w 432 (w 432 + pt (kdW w b (w (139 + 61 * b) - 1))) (139 + 61 * b) = w (139 + 61 * b) := ud_ne (by omega)
    have e1 : popW (ud w 432 (w 432 + pt (kdW w b (w (139 + 61 * b) - 1)))) b (139 + 61 * b) = w (139 + 61 * b) - 1 := by rw [popW_n _ (by omega), e0]
    have ih := eatB_ne hb n (popW (ud w 432 (w 432 + pt (kdW w b (w (139 + 61 * b) - 1)))) b) (by omega) (by omega)
    refine ⟨fun j g1 g2 => ?_, ?_⟩
    · show eatB b n _ j = w j
      rw [ih.1 j g1 g2, popW_ne _ (by omega) (by omega), ud_ne g1]
    · show eatB b n _ (139 + 61 * b) = _
      rw [ih.2, e1]
      omega
theorem pm_eats {Q : aH → Prop} (hM : MM G0 G M μ) {p : Int} (hp : 0 ≤ p ∧ p ≤ 6) (hc : -1 ≤ μ 1 427 ∧ μ 1 427 ≤ 6) (h1 : 0 ≤ μ 1 (406 + 3 * p + 1) ∧ μ 1 (406 + 3 * p + 1) ≤ 50) (h2 : 0 ≤ μ 1 (406 + 3 * p) ∧ μ 1 (406 + 3 * p) ≤ 2) (hb : p ≤ 3 → BK (μ 1) p) (hs : 4 ≤ p → 0 ≤ μ 1 (391 + 5 * (p - 4)) ∧ μ 1 (391 + 5 * (p - 4)) ≤ 3000) (h : ∀ G1, MM G0 G1 M (rep μ 1 (eatsR (μ 1) p)) → Q G1) : tw_X8_eats Q G M (Int32.ofInt p) := by
  unfold tw_X8_eats
  unfold eatsR at h
  simp (disch := omega) only [n_nat, n_add, n_sub, n_mul, n_neg, n_le, n_lt, n_eq, n_div, n_tn, n_if, Int.cast_ofNat_Int, MM.o hM, MM.r0 hM, MM.r1 hM, MM.r2 hM, MM.r3 hM, MM.r4 hM, MM.r8 hM, MM.r9 hM, MM.r10 hM, MM.r13 hM, MM.r16 hM, MM.r21 hM, MM.r22 hM, MM.a1 hM, MM.a2 hM, MM.a3 hM, MM.a4 hM, MM.a5 hM, MM.a6 hM, MM.a7 hM, MM.a8 hM, MM.a9 hM, MM.a10 hM, MM.a11 hM, MM.a12 hM, MM.d1 hM, MM.d2 hM, MM.d3 hM, MM.d4 hM, MM.d5 hM, MM.d6 hM, MM.d7 hM, MM.d8 hM, MM.d9 hM, MM.d10 hM, MM.d11 hM, MM.d12 hM, MM.fl hM, true_and]
  intro x hx
  subst hx
  simp (disch := omega) only [n_nat, n_add, n_sub, n_mul, n_neg, n_le, n_lt, n_eq, n_div, n_tn, n_if, Int.cast_ofNat_Int, MM.o hM, MM.r0 hM, MM.r1 hM, MM.r2 hM, MM.r3 hM, MM.r4 hM, MM.r8 hM, MM.r9 hM, MM.r10 hM, MM.r13 hM, MM.r16 hM, MM.r21 hM, MM.r22 hM, MM.a1 hM, MM.a2 hM, MM.a3 hM, MM.a4 hM, MM.a5 hM, MM.a6 hM, MM.a7 hM, MM.a8 hM, MM.a9 hM, MM.a10 hM, MM.a11 hM, MM.a12 hM, MM.d1 hM, MM.d2 hM, MM.d3 hM, MM.d4 hM, MM.d5 hM, MM.d6 hM, MM.d7 hM, MM.d8 hM, MM.d9 hM, MM.d10 hM, MM.d11 hM, MM.d12 hM, MM.fl hM, true_and]
  refine ⟨fun c => ?_, fun c => ?_⟩
  · have e4 : 4 + (p - 4) = p := by omega
    have hsp := hs c
    refine pm_eatInBin hM (k := p - 4) (by omega) hsp (by rw [e4]; exact h1) (fun G1 hM1 => ?_)
    unfold eatR eatE at h
    rw [if_pos c, if_pos c] at h
    have ne : ∀ j, ¬ j = 432 → ¬ j = 391 + 5 * (p - 4) → binR (μ 1) (p - 4) j = μ 1 j := fun j z1 z2 => by
      unfold binR
      rw [ud_ne z1, ud_ne z2]
    rw [e4]
    refine pm_eats37 hM1 hp (by rw [rep_at, ne _ (by omega) (by omega)]) ?_ (by rw [rep_at, ne _ (by omega) (by omega)]; exact hc) (by rw [rep_at, ne _ (by omega) (by omega)]; exact h1) (by rw [rep_at, ne _ (by omega) (by omega)]; exact h2) (fun G2 hM2 => h G2 ?_)
    · rw [rep_at]
      unfold lftW
      rw [if_pos c]
      unfold binR
      rw [ud_ne (by omega), ud_at, e4]
      unfold mnI
      split <;> omega
    · rw [rep_rep, rep_at] at hM2
      exact hM2
  · have hB := hb (by omega)
    have hn := hB.1
    have hm := mnI_b (a := 0) (b := 60) (x := μ 1 (139 + 61 * p)) (y := μ 1 (406 + 3 * p + 1) / 10) (by omega) (by omega)
    have hm2 : mnI (μ 1 (139 + 61 * p)) (μ 1 (406 + 3 * p + 1) / 10) ≤ μ 1 (139 + 61 * p) := by unfold mnI; split <;> omega
    refine pm_eatInBay hM (b := p) (by omega) hB h1 (fun G1 hM1 => ?_)
    unfold eatR eatE at h
    rw [if_neg c, if_neg c] at h
    obtain ⟨ne, el⟩ := eatB_ne (b := p) (by omega) (mnI (μ 1 (139 + 61 * p)) (μ 1 (406 + 3 * p + 1) / 10)).toNat (μ 1) (by omega) (by omega)
    refine pm_eats37 hM1 hp (by rw [rep_at, ne _ (by omega) (by omega)]) ?_ (by rw [rep_at, ne _ (by omega) (by omega)]; exact hc) (by rw [rep_at, ne _ (by omega) (by omega)]; exact h1) (by rw [rep_at, ne _ (by omega) (by omega)]; exact h2) (fun G2 hM2 => h G2 ?_)
    · rw [rep_at]
      unfold lftW
      rw [if_neg c, el]
      omega
    · rw [rep_rep, rep_at] at hM2
      exact hM2
end MODEL
