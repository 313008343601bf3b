/-! PLAIN LAW: the model's book-keeping -/
def cpF (s : Int → Int) (x : Int) (d : Int → Int) (y k : Int) : Int → Int := fun j => if y ≤ j ∧ j < y + k then s (x + (j - y)) else d j
theorem cpF_0 (s : Int → Int) (x : Int) (d : Int → Int) (y : Int) : cpF s x d y 0 = d := by
  funext j
  exact if_neg (by omega)
theorem cpF_s (s : Int → Int) (x : Int) (d : Int → Int) (y k : Int) (hk : 0 ≤ k) : ud (cpF s x d y k) (y + k) (s (x + k)) = cpF s x d y (k + 1) := by
  funext j
  unfold ud cpF
  by_cases e : j = y + k
  · rw [if_pos e, if_pos (by omega), e, show y + k - y = k by omega]
  · rw [if_neg e]
    by_cases c : y ≤ j ∧ j < y + k
    · rw [if_pos c, if_pos (by omega)]
    · rw [if_neg c, if_neg (by omega)]
section MODEL
variable {G0 G : aH} {M : Nat} {μ : Nat → Int → Int} {N : Int}
theorem MM.ai (h : MM G0 G M μ) {a : Nat} (h1 : 1 ≤ a) (h2 : a < 13) {i : Int} (h3 : 0 ≤ i) (h4 : i < mL a) : th_ai G (M + a) 0 (Int32.ofInt i) := by
  match a, h1, h2, h4 with
  | 1, _, _, h4 => exact MM.a1 h i h3 h4
  | 2, _, _, h4 => exact MM.a2 h i h3 h4
  | 3, _, _, h4 => exact MM.a3 h i h3 h4
  | 4, _, _, h4 => exact MM.a4 h i h3 h4
  | 5, _, _, h4 => exact MM.a5 h i h3 h4
  | 6, _, _, h4 => exact MM.a6 h i h3 h4
  | 7, _, _, h4 => exact MM.a7 h i h3 h4
  | 8, _, _, h4 => exact MM.a8 h i h3 h4
  | 9, _, _, h4 => exact MM.a9 h i h3 h4
  | 10, _, _, h4 => exact MM.a10 h i h3 h4
  | 11, _, _, h4 => exact MM.a11 h i h3 h4
  | 12, _, _, h4 => exact MM.a12 h i h3 h4
theorem mL_b (a : Nat) : 0 ≤ mL a ∧ mL a ≤ 3464 := by
  unfold mL
  split <;> omega
theorem pm_copies_l {Q : aH → Prop} {a b : Nat} (ha : 1 ≤ a ∧ a < 13) (hb : 1 ≤ b ∧ b < 13) (hab : ¬ a = b) {x y : Int} (hx : 0 ≤ x ∧ x + 433 ≤ mL a) (hy : 0 ≤ y ∧ y + 433 ≤ mL b) (h : ∀ G1, MM G0 G1 M (rep μ b (cpF (μ a) x (μ b) y 433)) → Q G1) : ∀ (n : Nat) (k : Int) (G : aH), 0 ≤ k → k + n = 433 → MM G0 G M (rep μ b (cpF (μ a) x (μ b) y k)) → tw_X8_copies_b3 Q (n + 1) G (M + a) (Int32.ofInt x) (M + b) (Int32.ofInt y) (Int32.ofInt k)
  | 0, k, G, hk, hn, hM => by
    have ek : k = 433 := by omega
    subst ek
    rw [tws_X8_copies_b3]
    simp (disch := omega) only [n_nat, n_add, n_sub, n_mul, n_neg, n_le, n_lt, n_eq, n_div, n_tn, n_if, Int.cast_ofNat_Int]
    exact ⟨fun _ => h G hM, fun c => by omega⟩
  | n + 1, k, G, hk, hn, hM => by
    have la := mL_b a
    have lb := mL_b b
    rw [tws_X8_copies_b3]
    simp (disch := omega) only [n_nat, n_add, n_sub, n_mul, n_neg, n_le, n_lt, n_eq, n_div, n_tn, n_if, Int.cast_ofNat_Int]
    refine ⟨fun c => by omega, fun _ => ⟨hM.ai ha.1 ha.2 (by omega) (by omega), hM.ai hb.1 hb.2 (by omega) (by omega), ?_⟩⟩
    rw [hM.2.1 a ha.2 (x + k) (by omega) (by omega), rep_ne hab]
    refine hM.wr hb.2 (by omega) (fun G1 hM1 => ?_)
    intro z hz
    subst hz
    rw [rep_rep, rep_at, cpF_s _ _ _ _ _ hk] at hM1
    exact pm_copies_l ha hb hab hx hy h n _ G1 (by omega) (by omega) hM1
theorem pm_copies {Q : aH → Prop} (hM : MM G0 G M μ) {a b : Nat} (ha : 1 ≤ a ∧ a < 13) (hb : 1 ≤ b ∧ b < 13) (hab : ¬ a = b) {x y : Int} (hx : 0 ≤ x ∧ x + 433 ≤ mL a) (hy : 0 ≤ y ∧ y + 433 ≤ mL b) (h : ∀ G1, MM G0 G1 M (rep μ b (cpF (μ a) x (μ b) y 433)) → Q G1) : tw_X8_copies Q G (M + a) (Int32.ofInt x) (M + b) (Int32.ofInt y) := by
  unfold tw_X8_copies
  refine ⟨_, pm_copies_l ha hb hab hx hy h 433 0 G (by omega) (by omega) ?_⟩
  rw [cpF_0, rep_self]
  exact hM
/-- the whole of a row of 433 -/
theorem pm_copy {Q : aH → Prop} (hM : MM G0 G M μ) {a b : Nat} (ha : 1 ≤ a ∧ a < 5) (hb : 1 ≤ b ∧ b < 5) (hab : ¬ a = b) (h : ∀ G1, MM G0 G1 M (rep μ b (μ a)) → Q G1) : tw_X8_copies Q G (M + a) (Int32.ofInt 0) (M + b) (Int32.ofInt 0) := by
  have la : mL a = 433 := by
    match a, ha with
    | 1, _ => rfl
    | 2, _ => rfl
    | 3, _ => rfl
    | 4, _ => rfl
  have lb : mL b = 433 := by
    match b, hb with
    | 1, _ => rfl
    | 2, _ => rfl
    | 3, _ => rfl
    | 4, _ => rfl
  refine pm_copies hM ⟨ha.1, by omega⟩ ⟨hb.1, by omega⟩ hab (by omega) (by omega) (fun G1 hM1 => h G1 (hM1.cg (fun o ho i h1 h2 => ?_)))
  by_cases e : o = b
  · subst e
    rw [rep_at, rep_at]
    unfold cpF
    rw [if_pos (by omega), show (0 : Int) + (i - 0) = i by omega]
  · rw [rep_ne e, rep_ne e]
theorem pm_starts {Q : aH → Prop} (hM : MM G0 G M μ) (h : ∀ G1, MM G0 G1 M (rep (rep μ 2 (μ 1)) 0 (ud (μ 0) 15 0)) → Q G1) : tw_X8_starts Q G M := by
  unfold tw_X8_starts
  simp (disch := omega) only [n_nat, n_add, n_sub, n_mul, n_neg, n_le, n_lt, n_eq, n_div, n_tn, n_if, Int.cast_ofNat_Int, MM.o hM, MM.r0 hM, MM.r1 hM, MM.r2 hM, MM.r3 hM, MM.r4 hM, MM.r8 hM, MM.r9 hM, MM.r10 hM, MM.r13 hM, MM.r16 hM, MM.r21 hM, MM.r22 hM, MM.a1 hM, MM.a2 hM, MM.a3 hM, MM.a4 hM, MM.a5 hM, MM.a6 hM, MM.a7 hM, MM.a8 hM, MM.a9 hM, MM.a10 hM, MM.a11 hM, MM.a12 hM, MM.d1 hM, MM.d2 hM, MM.d3 hM, MM.d4 hM, MM.d5 hM, MM.d6 hM, MM.d7 hM, MM.d8 hM, MM.d9 hM, MM.d10 hM, MM.d11 hM, MM.d12 hM, MM.fl hM, true_and]
  refine pm_copy hM (by omega) (by omega) (by omega) (fun G1 hM1 => ⟨hM1.o, ?_⟩)
  refine hM1.wf (fun G2 hM2 => ?_)
  rw [rep_ne (by omega)] at hM2
  exact h G2 hM2
/-- what is kept at place k -/
def kpM (μ : Nat → Int → Int) (k r d : Int) : Nat → Int → Int := rep (rep (rep μ 0 (ud (μ 0) 7 (k + 1))) 6 (ud (μ 6) k r)) 7 (ud (μ 7) k d)
theorem pm_keeps {Q : aH → Prop} (hM : MM G0 G M μ) {k r d : Int} (hk : 0 ≤ k ∧ k ≤ 2) (h : ∀ G1, MM G0 G1 M (kpM μ k r d) → Q G1) : tw_X8_keeps Q G M (Int32.ofInt k) (Int32.ofInt r) (Int32.ofInt d) := by
  unfold tw_X8_keeps
  simp (disch := omega) only [n_nat, n_add, n_sub, n_mul, n_neg, n_le, n_lt, n_eq, n_div, n_tn, n_if, Int.cast_ofNat_Int, MM.o hM, MM.r0 hM, MM.r1 hM, MM.r2 hM, MM.r3 hM, MM.r4 hM, MM.r8 hM, MM.r9 hM, MM.r10 hM, MM.r13 hM, MM.r16 hM, MM.r21 hM, MM.r22 hM, MM.a1 hM, MM.a2 hM, MM.a3 hM, MM.a4 hM, MM.a5 hM, MM.a6 hM, MM.a7 hM, MM.a8 hM, MM.a9 hM, MM.a10 hM, MM.a11 hM, MM.a12 hM, MM.d1 hM, MM.d2 hM, MM.d3 hM, MM.d4 hM, MM.d5 hM, MM.d6 hM, MM.d7 hM, MM.d8 hM, MM.d9 hM, MM.d10 hM, MM.d11 hM, MM.d12 hM, MM.fl hM, true_and]
  refine hM.wf (fun G1 hM1 => ?_)
  simp (disch := omega) only [n_nat, n_add, n_sub, n_mul, n_neg, n_le, n_lt, n_eq, n_div, n_tn, n_if, Int.cast_ofNat_Int, MM.o hM1, MM.r0 hM1, MM.r1 hM1, MM.r2 hM1, MM.r3 hM1, MM.r4 hM1, MM.r8 hM1, MM.r9 hM1, MM.r10 hM1, MM.r13 hM1, MM.r16 hM1, MM.r21 hM1, MM.r22 hM1, MM.a1 hM1, MM.a2 hM1, MM.a3 hM1, MM.a4 hM1, MM.a5 hM1, MM.a6 hM1, MM.a7 hM1, MM.a8 hM1, MM.a9 hM1, MM.a10 hM1, MM.a11 hM1, MM.a12 hM1, MM.d1 hM1, MM.d2 hM1, MM.d3 hM1, MM.d4 hM1, MM.d5 hM1, MM.d6 hM1, MM.d7 hM1, MM.d8 hM1, MM.d9 hM1, MM.d10 hM1, MM.d11 hM1, MM.d12 hM1, MM.fl hM1, true_and]
  refine hM1.wr (by omega) (by omega) (fun G2 hM2 => ?_)
  simp (disch := omega) only [n_nat, n_add, n_sub, n_mul, n_neg, n_le, n_lt, n_eq, n_div, n_tn, n_if, Int.cast_ofNat_Int, MM.o hM2, MM.r0 hM2, MM.r1 hM2, MM.r2 hM2, MM.r3 hM2, MM.r4 hM2, MM.r8 hM2, MM.r9 hM2, MM.r10 hM2, MM.r13 hM2, MM.r16 hM2, MM.r21 hM2, MM.r22 hM2, MM.a1 hM2, MM.a2 hM2, MM.a3 hM2, MM.a4 hM2, MM.a5 hM2, MM.a6 hM2, MM.a7 hM2, MM.a8 hM2, MM.a9 hM2, MM.a10 hM2, MM.a11 hM2, MM.a12 hM2, MM.d1 hM2, MM.d2 hM2, MM.d3 hM2, MM.d4 hM2, MM.d5 hM2, MM.d6 hM2, MM.d7 hM2, MM.d8 hM2, MM.d9 hM2, MM.d10 hM2, MM.d11 hM2, MM.d12 hM2, MM.fl hM2, true_and]
  refine hM2.wr (by omega) (by omega) (fun G3 hM3 => ?_)
  simp only [rep_ne (show ¬ (6 : Nat) = 0 by omega), rep_ne (show ¬ (7 : Nat) = 0 by omega), rep_ne (show ¬ (7 : Nat) = 6 by omega)] at hM3
  exact h G3 hM3
end MODEL
