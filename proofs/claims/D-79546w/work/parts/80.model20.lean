/-! PLAIN LAW: the model: the best place for the cat; its texts, its snapshots -/
/-- a row at the beginning -/
def zrF (w : Int → Int) (k : Int) : Int → Int := fun j => if 0 ≤ j ∧ j < k then 0 else w j
def bgF : Int → Int := ud (ud (fun _ => 0) (383 + 4 * 0 + 2) 2) (383 + 4 * 1 + 2) 2
def bgK : Int → Int := ud (ud (ud bgF (391 + 5 * 0 + 1) 10) (391 + 5 * 1 + 1) 10) (391 + 5 * 2 + 1) 10
def bgL : Int → Int := ud (ud (ud (ud (ud (ud (ud bgK (406 + 3 * 0) 2) (406 + 3 * 1) 2) (406 + 3 * 2) 2) (406 + 3 * 3) 2) (406 + 3 * 4) 2) (406 + 3 * 5) 2) (406 + 3 * 6) 2
def bgW : Int → Int := ud bgL 427 (-1)
def q_bestCat (w : Int → Int) (i : Int) : Int32 := if i = 1 then (if 0 < ewS w (-1) - (bcF (ewS w) 6 1 0 (ewS w 0)).2 then ewS w (-1) - (bcF (ewS w) 6 1 0 (ewS w 0)).2 else 0) else Int32.ofInt (bcF (ewS w) 6 1 0 (ewS w 0)).1
def q_reason (μ : Nat → Int → Int) (d i : Int) : Int := if d < 0 then -2 else if 0 ≤ i ∧ i ≤ 1 then (if d < μ 0 7 then (if i = 1 then μ 7 d else μ 6 d) else -4) else -2
section MODEL
variable {G0 G : aH} {M : Nat} {μ : Nat → Int → Int} {N : Int}
theorem pm_eatenWith_l {Q : Int32 → aH → Prop} {w0 : Int → Int} (hw0 : μ 1 = w0) : ∀ (n : Nat) (k : Int) (w : Int → Int) (G : aH), MM G0 G M (rep (trM μ) 1 w) → WI N w → w 428 + n ≤ 100000 → 0 ≤ k → k + n = 10 → (∀ G1, MM G0 G1 M (trM μ) → Q (Int32.ofInt (psR n w 432 - w0 432)) G1) → tw_X8_eatenWith_b24 Q (n + 1) G M (Int32.ofInt k)
  | 0, k, w, G, hM, hW, h8, hk, hn, h => by
    rw [tws_X8_eatenWith_b24]
    simp (disch := omega) only [n_nat, n_add, n_sub, n_mul, n_neg, n_le, n_lt, n_eq, n_div, n_tn, n_if, Int.cast_ofNat_Int]
    refine ⟨fun _ => ?_, fun c => by omega⟩
    unfold tw_X8_eatenWith_b41
    simp (disch := omega) only [n_nat, MM.o hM, MM.r0 hM, MM.r1 hM, MM.r2 hM, MM.r3 hM, MM.r4 hM, MM.r8 hM, MM.r9 hM, MM.r10 hM, MM.r13 hM, MM.r16 hM, MM.r21 hM, MM.r22 hM, MM.a1 hM, MM.a2 hM, MM.a3 hM, MM.a4 hM, MM.a5 hM, MM.a6 hM, MM.a7 hM, MM.a8 hM, MM.a9 hM, MM.a10 hM, MM.a11 hM, MM.a12 hM, MM.d1 hM, MM.d2 hM, MM.d3 hM, MM.d4 hM, MM.d5 hM, MM.d6 hM, MM.d7 hM, MM.d8 hM, MM.d9 hM, MM.d10 hM, MM.d11 hM, MM.d12 hM, MM.fl hM, true_and]
    have e3 : rep (trM μ) 1 w 3 = w0 := by
      rw [rep_ne (by omega), ← hw0]
      exact rep_at _ _ _
    have d1 : a_mi G (M + 1) (Int32.toNatClampNeg (Int32.ofInt 432)) = Int32.ofInt (w 432) := by
      rw [n_tn (by omega) (by omega), MM.d1 hM 432 (by omega) (by omega), rep_at]
    have d3 : a_mi G (M + 3) (Int32.toNatClampNeg (Int32.ofInt 432)) = Int32.ofInt (w0 432) := by
      rw [n_tn (by omega) (by omega), MM.d3 hM 432 (by omega) (by omega), e3]
    rw [d1, d3]
    intro x hx
    try simp (disch := omega) only [n_nat, n_add, n_sub, n_mul, n_neg, n_le, n_lt, n_eq, n_div, n_tn, n_if, Int.cast_ofNat_Int] at hx
    subst hx
    exact pm_back hM h
  | n + 1, k, w, G, hM, hW, h8, hk, hn, h => by
    rw [tws_X8_eatenWith_b24]
    simp (disch := omega) only [n_nat, n_add, n_sub, n_mul, n_neg, n_le, n_lt, n_eq, n_div, n_tn, n_if, Int.cast_ofNat_Int, MM.o hM, MM.r0 hM, MM.r1 hM, MM.r2 hM, MM.r3 hM, MM.r4 hM, MM.r8 hM, MM.r9 hM, MM.r10 hM, MM.r13 hM, MM.r16 hM, MM.r21 hM, MM.r22 hM, MM.a1 hM, MM.a2 hM, MM.a3 hM, MM.a4 hM, MM.a5 hM, MM.a6 hM, MM.a7 hM, MM.a8 hM, MM.a9 hM, MM.a10 hM, MM.a11 hM, MM.a12 hM, MM.d1 hM, MM.d2 hM, MM.d3 hM, MM.d4 hM, MM.d5 hM, MM.d6 hM, MM.d7 hM, MM.d8 hM, MM.d9 hM, MM.d10 hM, MM.d11 hM, MM.d12 hM, MM.fl hM, true_and]
    have hdy := hW.dy (by omega)
    refine ⟨fun c => by omega, fun _ => pm_dy hM (N := N) (by rw [rep_at]; exact hW) (fun G1 hM1 => ?_)⟩
    intro x hx
    subst hx
    rw [rep_rep, rep_at] at hM1
    exact pm_eatenWith_l hw0 n (k + 1) (dyR w) G1 hM1 hdy.1 (by omega) (by omega) (by omega) h
theorem WI.cat {N : Int} {w : Int → Int} {c : Int} (h : WI N w) (hc : -1 ≤ c ∧ c ≤ 6) : WI N (ud w 427 c) :=
  have ne : ∀ j, ¬ j = 427 → ud w 427 c j = w j := fun j hj => ud_ne hj
  h.ch ⟨by omega, h.1.2⟩ (ne 0 (by omega)) (ne 428 (by omega)) (fun q q1 q2 => .inl fun j j1 j2 => ne j (by omega)) (fun b b1 b2 => .inl fun j j1 j2 => ne j (by omega)) (fun b b1 b2 => .inl fun j j1 j2 => ne j (by omega)) (fun b b1 b2 => .inl fun j j1 j2 => ne j (by omega)) (fun b b1 b2 => .inl fun j j1 j2 => ne j (by omega)) (.inr (by rw [ud_at]; exact hc)) (.inl ⟨ne _ (by omega), fun q q1 q2 => ⟨ne _ (by omega), ne _ (by omega)⟩⟩) (.inl ⟨ne _ (by omega), fun q q1 q2 => ne _ (by omega)⟩)
theorem pm_eatenWith {Q : Int32 → aH → Prop} (hM : MM G0 G M μ) (hW : WI N (μ 1)) (h8 : μ 1 428 + 10 ≤ 100000) {c : Int} (hc : -1 ≤ c ∧ c ≤ 6) (h : ∀ G1, MM G0 G1 M (trM μ) → Q (ewS (μ 1) c) G1) : tw_X8_eatenWith Q G M (Int32.ofInt c) := by
  unfold tw_X8_eatenWith
  simp (disch := omega) only [n_nat, MM.o hM, MM.r0 hM, MM.r1 hM, MM.r2 hM, MM.r3 hM, MM.r4 hM, MM.r8 hM, MM.r9 hM, MM.r10 hM, MM.r13 hM, MM.r16 hM, MM.r21 hM, MM.r22 hM, MM.a1 hM, MM.a2 hM, MM.a3 hM, MM.a4 hM, MM.a5 hM, MM.a6 hM, MM.a7 hM, MM.a8 hM, MM.a9 hM, MM.a10 hM, MM.a11 hM, MM.a12 hM, MM.d1 hM, MM.d2 hM, MM.d3 hM, MM.d4 hM, MM.d5 hM, MM.d6 hM, MM.d7 hM, MM.d8 hM, MM.d9 hM, MM.d10 hM, MM.d11 hM, MM.d12 hM, MM.fl hM, true_and]
  refine pm_copy hM (by omega) (by omega) (by omega) (fun G1 hM1 => ?_)
  simp (disch := omega) only [n_nat, MM.o hM1, MM.r0 hM1, MM.r1 hM1, MM.r2 hM1, MM.r3 hM1, MM.r4 hM1, MM.r8 hM1, MM.r9 hM1, MM.r10 hM1, MM.r13 hM1, MM.r16 hM1, MM.r21 hM1, MM.r22 hM1, MM.a1 hM1, MM.a2 hM1, MM.a3 hM1, MM.a4 hM1, MM.a5 hM1, MM.a6 hM1, MM.a7 hM1, MM.a8 hM1, MM.a9 hM1, MM.a10 hM1, MM.a11 hM1, MM.a12 hM1, MM.d1 hM1, MM.d2 hM1, MM.d3 hM1, MM.d4 hM1, MM.d5 hM1, MM.d6 hM1, MM.d7 hM1, MM.d8 hM1, MM.d9 hM1, MM.d10 hM1, MM.d11 hM1, MM.d12 hM1, MM.fl hM1, true_and]
  rw [n_tn (by omega) (by omega)]
  refine hM1.wr (by omega) (by omega) (fun G2 hM2 => ?_)
  have e : rep μ 3 (μ 1) 1 = μ 1 := rep_ne (by omega)
  rw [e] at hM2
  exact ⟨_, pm_eatenWith_l (μ := μ) (N := N) rfl 10 0 (ud (μ 1) 427 c) G2 hM2 (hW.cat hc) (by rw [ud_ne (by omega)]; omega) (by omega) (by omega) h⟩
theorem trM_trM (μ : Nat → Int → Int) : trM (trM μ) = trM μ := by
  show rep (rep μ 3 (μ 1)) 3 (rep μ 3 (μ 1) 1) = rep μ 3 (μ 1)
  rw [rep_rep, rep_ne (by omega)]
theorem trM_1 (μ : Nat → Int → Int) : trM μ 1 = μ 1 := rep_ne (by omega)
theorem pm_bestCat64 {Q : Int32 → aH → Prop} (hM : MM G0 G M (trM μ)) (hW : WI N (μ 1)) (h8 : μ 1 428 + 10 ≤ 100000) {i b : Int} {l : Int32} (hi : 0 ≤ i ∧ i ≤ 1) (h : ∀ G1, MM G0 G1 M (trM μ) → Q (if i = 1 then (if 0 < ewS (μ 1) (-1) - l then ewS (μ 1) (-1) - l else 0) else Int32.ofInt b) G1) : tw_X8_bestCat_b64 Q G M (Int32.ofInt i) (Int32.ofInt b) l := by
  unfold tw_X8_bestCat_b64
  simp (disch := omega) only [n_nat, n_neg, n_eq, MM.o hM, MM.r0 hM, MM.r1 hM, MM.r2 hM, MM.r3 hM, MM.r4 hM, MM.r8 hM, MM.r9 hM, MM.r10 hM, MM.r13 hM, MM.r16 hM, MM.r21 hM, MM.r22 hM, MM.a1 hM, MM.a2 hM, MM.a3 hM, MM.a4 hM, MM.a5 hM, MM.a6 hM, MM.a7 hM, MM.a8 hM, MM.a9 hM, MM.a10 hM, MM.a11 hM, MM.a12 hM, MM.d1 hM, MM.d2 hM, MM.d3 hM, MM.d4 hM, MM.d5 hM, MM.d6 hM, MM.d7 hM, MM.d8 hM, MM.d9 hM, MM.d10 hM, MM.d11 hM, MM.d12 hM, MM.fl hM, true_and]
  refine ⟨fun c => ?_, fun c => pm_eatenWith hM (by rw [trM_1]; exact hW) (by rw [trM_1]; exact h8) (by omega) (fun G1 hM1 => ?_)⟩
  · have := h G hM
    rw [if_neg c] at this
    exact this
  · rw [trM_trM] at hM1
    have := h G1 hM1
    rw [if_pos c] at this
    rw [trM_1]
    exact this
theorem pm_bestCat23 {Q : Int32 → aH → Prop} (hW : WI N (μ 1)) (h8 : μ 1 428 + 10 ≤ 100000) {i : Int} (hi : 0 ≤ i ∧ i ≤ 1) : ∀ (n : Nat) (k b : Int) (l : Int32) (G : aH), MM G0 G M (trM μ) → 0 ≤ k → k + n = 7 → (∀ G1, MM G0 G1 M (trM μ) → Q (if i = 1 then (if 0 < ewS (μ 1) (-1) - (bcF (ewS (μ 1)) n k b l).2 then ewS (μ 1) (-1) - (bcF (ewS (μ 1)) n k b l).2 else 0) else Int32.ofInt (bcF (ewS (μ 1)) n k b l).1) G1) → tw_X8_bestCat_b23 Q (n + 1) G M (Int32.ofInt i) (Int32.ofInt b) l (Int32.ofInt k) := by
  intro n
  induction n with
  | zero =>
    intro k b l G hM hk hn h
    rw [tws_X8_bestCat_b23]
    simp (disch := omega) only [n_nat, n_le]
    exact ⟨fun _ => pm_bestCat64 hM hW h8 hi h, fun c => by omega⟩
  | succ n ih =>
    intro k b l G hM hk hn h
    rw [tws_X8_bestCat_b23]
    simp (disch := omega) only [n_nat, n_le, MM.o hM, MM.r0 hM, MM.r1 hM, MM.r2 hM, MM.r3 hM, MM.r4 hM, MM.r8 hM, MM.r9 hM, MM.r10 hM, MM.r13 hM, MM.r16 hM, MM.r21 hM, MM.r22 hM, MM.a1 hM, MM.a2 hM, MM.a3 hM, MM.a4 hM, MM.a5 hM, MM.a6 hM, MM.a7 hM, MM.a8 hM, MM.a9 hM, MM.a10 hM, MM.a11 hM, MM.a12 hM, MM.d1 hM, MM.d2 hM, MM.d3 hM, MM.d4 hM, MM.d5 hM, MM.d6 hM, MM.d7 hM, MM.d8 hM, MM.d9 hM, MM.d10 hM, MM.d11 hM, MM.d12 hM, MM.fl hM, true_and]
    refine ⟨fun c => by omega, fun _ => pm_eatenWith hM (by rw [trM_1]; exact hW) (by rw [trM_1]; exact h8) (by omega) (fun G1 hM1 => ?_)⟩
    rw [trM_trM] at hM1
    rw [trM_1]
    rw [bcF] at h
    refine ⟨fun c => ?_, fun c => ?_⟩ <;> unfold tw_X8_bestCat_b50 <;> intro x hx y hy <;> try simp (disch := omega) only [n_nat, n_add, n_sub, n_mul, n_neg, n_le, n_lt, n_eq, n_div, n_tn, n_if, Int.cast_ofNat_Int] at hy <;> subst hx hy
    · rw [if_pos c] at h
      exact ih (k + 1) _ _ G1 hM1 (by omega) (by omega) h
    · rw [if_neg c] at h
      exact ih (k + 1) _ _ G1 hM1 (by omega) (by omega) h
theorem pm_bestCat {Q : Int32 → aH → Prop} (hM : MM G0 G M μ) (hW : WI N (μ 1)) (h8 : μ 1 428 + 10 ≤ 100000) {i : Int} (hi : -2147483648 ≤ i ∧ i < 2147483648) (h1 : ¬ (0 ≤ i ∧ i ≤ 1) → Q (Int32.ofInt (-2)) G) (h2 : (0 ≤ i ∧ i ≤ 1) → ∀ G1, MM G0 G1 M (trM μ) → Q (q_bestCat (μ 1) i) G1) : tw_X8_bestCat Q G M (Int32.ofInt i) := by
  unfold tw_X8_bestCat
  simp (disch := omega) only [n_nat, n_neg]
  refine pm_isIn hi (by omega) (by omega) ?_
  by_cases c : 0 ≤ i ∧ i ≤ 1
  · rw [bI_t c]
    refine ⟨fun _ => ⟨hM.o, pm_eatenWith hM hW h8 (by omega) (fun G1 hM1 => ⟨7, ?_⟩)⟩, fun e => absurd e (by decide)⟩
    exact pm_bestCat23 hW h8 c 6 1 0 _ G1 hM1 (by omega) (by omega) (h2 c)
  · rw [bI_f c]
    exact ⟨fun e => absurd rfl e, fun _ => h1 c⟩
theorem pm_append {Q : Int32 → aH → Prop} (hM : MM G0 G M μ) (ht : 0 ≤ μ 0 11 ∧ μ 0 11 ≤ 60) {c : Int} (hc : -2147483648 ≤ c ∧ c < 2147483648) (h1 : ¬ (32 ≤ c ∧ c ≤ 126) ∨ μ 0 11 = 60 → Q (Int32.ofInt (-2)) G) (h2 : (32 ≤ c ∧ c ≤ 126) → μ 0 11 < 60 → ∀ G1, MM G0 G1 M (rep (rep μ 8 (ud (μ 8) (μ 0 11) c)) 0 (ud (μ 0) 11 (μ 0 11 + 1))) → Q (Int32.ofInt (μ 0 11 + 1)) G1) : tw_X8_append Q G M (Int32.ofInt c) := by
  unfold tw_X8_append
  simp (disch := omega) only [n_nat, n_add, n_sub, n_mul, n_neg, n_le, n_lt, n_eq, n_div, n_tn, n_if, Int.cast_ofNat_Int]
  refine pm_isIn hc (by omega) (by omega) ?_
  by_cases d : 32 ≤ c ∧ c ≤ 126
  · rw [bI_t d]
    refine ⟨fun e => absurd e (by decide), fun _ => ?_⟩
    simp (disch := omega) only [n_nat, n_add, n_sub, n_mul, n_neg, n_le, n_lt, n_eq, n_div, n_tn, n_if, Int.cast_ofNat_Int, MM.o hM, MM.r0 hM, MM.r1 hM, MM.r2 hM, MM.r3 hM, MM.r4 hM, MM.r8 hM, MM.r9 hM, MM.r10 hM, MM.r13 hM, MM.r16 hM, MM.r21 hM, MM.r22 hM, MM.a1 hM, MM.a2 hM, MM.a3 hM, MM.a4 hM, MM.a5 hM, MM.a6 hM, MM.a7 hM, MM.a8 hM, MM.a9 hM, MM.a10 hM, MM.a11 hM, MM.a12 hM, MM.d1 hM, MM.d2 hM, MM.d3 hM, MM.d4 hM, MM.d5 hM, MM.d6 hM, MM.d7 hM, MM.d8 hM, MM.d9 hM, MM.d10 hM, MM.d11 hM, MM.d12 hM, MM.fl hM, true_and]
    refine ⟨fun e => ⟨MM.a8 hM _ (by omega) (by omega), ?_⟩, fun e => h1 (.inr e)⟩
    refine hM.wr (by omega) (by omega) (fun G1 hM1 => ?_)
    simp (disch := omega) only [n_nat, n_add, n_sub, n_mul, n_neg, n_le, n_lt, n_eq, n_div, n_tn, n_if, Int.cast_ofNat_Int, MM.o hM1, MM.r0 hM1, MM.r1 hM1, MM.r2 hM1, MM.r3 hM1, MM.r4 hM1, MM.r8 hM1, MM.r9 hM1, MM.r10 hM1, MM.r13 hM1, MM.r16 hM1, MM.r21 hM1, MM.r22 hM1, MM.a1 hM1, MM.a2 hM1, MM.a3 hM1, MM.a4 hM1, MM.a5 hM1, MM.a6 hM1, MM.a7 hM1, MM.a8 hM1, MM.a9 hM1, MM.a10 hM1, MM.a11 hM1, MM.a12 hM1, MM.d1 hM1, MM.d2 hM1, MM.d3 hM1, MM.d4 hM1, MM.d5 hM1, MM.d6 hM1, MM.d7 hM1, MM.d8 hM1, MM.d9 hM1, MM.d10 hM1, MM.d11 hM1, MM.d12 hM1, MM.fl hM1, true_and]
    refine hM1.wf (fun G2 hM2 => ?_)
    simp (disch := omega) only [n_nat, n_add, n_sub, n_mul, n_neg, n_le, n_lt, n_eq, n_div, n_tn, n_if, Int.cast_ofNat_Int, MM.o hM2, MM.r0 hM2, MM.r1 hM2, MM.r2 hM2, MM.r3 hM2, MM.r4 hM2, MM.r8 hM2, MM.r9 hM2, MM.r10 hM2, MM.r13 hM2, MM.r16 hM2, MM.r21 hM2, MM.r22 hM2, MM.a1 hM2, MM.a2 hM2, MM.a3 hM2, MM.a4 hM2, MM.a5 hM2, MM.a6 hM2, MM.a7 hM2, MM.a8 hM2, MM.a9 hM2, MM.a10 hM2, MM.a11 hM2, MM.a12 hM2, MM.d1 hM2, MM.d2 hM2, MM.d3 hM2, MM.d4 hM2, MM.d5 hM2, MM.d6 hM2, MM.d7 hM2, MM.d8 hM2, MM.d9 hM2, MM.d10 hM2, MM.d11 hM2, MM.d12 hM2, MM.fl hM2, true_and]
    rw [rep_ne (show ¬ (0 : Nat) = 8 by omega)] at hM2 ⊢
    rw [rep_at, ud_at]
    exact h2 d (by omega) G2 hM2
  · rw [bI_f d]
    exact ⟨fun _ => h1 (.inl d), fun e => absurd rfl e⟩
theorem pm_save {Q : Int32 → aH → Prop} (hM : MM G0 G M μ) (h : ∀ G1, MM G0 G1 M (rep (rep μ 4 (μ 1)) 0 (ud (μ 0) 5 1)) → Q (Int32.ofInt (μ 1 0)) G1) : tw_X8_save Q G M := by
  unfold tw_X8_save
  simp (disch := omega) only [n_nat, MM.o hM, MM.r0 hM, MM.r1 hM, MM.r2 hM, MM.r3 hM, MM.r4 hM, MM.r8 hM, MM.r9 hM, MM.r10 hM, MM.r13 hM, MM.r16 hM, MM.r21 hM, MM.r22 hM, MM.a1 hM, MM.a2 hM, MM.a3 hM, MM.a4 hM, MM.a5 hM, MM.a6 hM, MM.a7 hM, MM.a8 hM, MM.a9 hM, MM.a10 hM, MM.a11 hM, MM.a12 hM, MM.d1 hM, MM.d2 hM, MM.d3 hM, MM.d4 hM, MM.d5 hM, MM.d6 hM, MM.d7 hM, MM.d8 hM, MM.d9 hM, MM.d10 hM, MM.d11 hM, MM.d12 hM, MM.fl hM, true_and]
  refine pm_copy hM (by omega) (by omega) (by omega) (fun G1 hM1 => ⟨hM1.o, ?_⟩)
  refine hM1.wf (fun G2 hM2 => ?_)
  simp (disch := omega) only [n_nat, n_add, n_sub, n_mul, n_neg, n_le, n_lt, n_eq, n_div, n_tn, n_if, Int.cast_ofNat_Int, MM.o hM2, MM.r0 hM2, MM.r1 hM2, MM.r2 hM2, MM.r3 hM2, MM.r4 hM2, MM.r8 hM2, MM.r9 hM2, MM.r10 hM2, MM.r13 hM2, MM.r16 hM2, MM.r21 hM2, MM.r22 hM2, MM.a1 hM2, MM.a2 hM2, MM.a3 hM2, MM.a4 hM2, MM.a5 hM2, MM.a6 hM2, MM.a7 hM2, MM.a8 hM2, MM.a9 hM2, MM.a10 hM2, MM.a11 hM2, MM.a12 hM2, MM.d1 hM2, MM.d2 hM2, MM.d3 hM2, MM.d4 hM2, MM.d5 hM2, MM.d6 hM2, MM.d7 hM2, MM.d8 hM2, MM.d9 hM2, MM.d10 hM2, MM.d11 hM2, MM.d12 hM2, MM.fl hM2, true_and]
  rw [rep_ne (show ¬ (0 : Nat) = 4 by omega)] at hM2 ⊢
  rw [rep_ne (show ¬ (1 : Nat) = 0 by omega), rep_ne (show ¬ (1 : Nat) = 4 by omega)]
  exact h G2 hM2
theorem pm_undo {Q : Int32 → aH → Prop} (hM : MM G0 G M μ) (hr : 0 ≤ μ 0 6 ∧ μ 0 6 ≤ 8) (h1 : μ 0 6 = 0 → Q (Int32.ofInt (-4)) G) (h2 : ¬ μ 0 6 = 0 → ∀ G1, MM G0 G1 M (rep (rep μ 0 (ud (μ 0) 6 (μ 0 6 - 1))) 1 (fun j => μ 5 ((μ 0 6 - 1) * 433 + j))) → Q (Int32.ofInt (μ 0 6 - 1)) G1) : tw_X8_undo Q G M := by
  unfold tw_X8_undo
  simp (disch := omega) only [n_nat, n_add, n_sub, n_mul, n_neg, n_le, n_lt, n_eq, n_div, n_tn, n_if, Int.cast_ofNat_Int, MM.o hM, MM.r0 hM, MM.r1 hM, MM.r2 hM, MM.r3 hM, MM.r4 hM, MM.r8 hM, MM.r9 hM, MM.r10 hM, MM.r13 hM, MM.r16 hM, MM.r21 hM, MM.r22 hM, MM.a1 hM, MM.a2 hM, MM.a3 hM, MM.a4 hM, MM.a5 hM, MM.a6 hM, MM.a7 hM, MM.a8 hM, MM.a9 hM, MM.a10 hM, MM.a11 hM, MM.a12 hM, MM.d1 hM, MM.d2 hM, MM.d3 hM, MM.d4 hM, MM.d5 hM, MM.d6 hM, MM.d7 hM, MM.d8 hM, MM.d9 hM, MM.d10 hM, MM.d11 hM, MM.d12 hM, MM.fl hM, true_and]
  refine ⟨fun c => ?_, h1⟩
  refine hM.wf (fun G1 hM1 => ?_)
  have e6 : ud (μ 0) 6 (μ 0 6 - 1) ((6 : Nat) : Int) = μ 0 6 - 1 := ud_at _ _ _
  simp (disch := omega) only [n_nat, n_add, n_sub, n_mul, n_neg, n_le, n_lt, n_eq, n_div, n_tn, n_if, Int.cast_ofNat_Int, MM.o hM1, MM.r0 hM1, MM.r1 hM1, MM.r2 hM1, MM.r3 hM1, MM.r4 hM1, MM.r8 hM1, MM.r9 hM1, MM.r10 hM1, MM.r13 hM1, MM.r16 hM1, MM.r21 hM1, MM.r22 hM1, MM.a1 hM1, MM.a2 hM1, MM.a3 hM1, MM.a4 hM1, MM.a5 hM1, MM.a6 hM1, MM.a7 hM1, MM.a8 hM1, MM.a9 hM1, MM.a10 hM1, MM.a11 hM1, MM.a12 hM1, MM.d1 hM1, MM.d2 hM1, MM.d3 hM1, MM.d4 hM1, MM.d5 hM1, MM.d6 hM1, MM.d7 hM1, MM.d8 hM1, MM.d9 hM1, MM.d10 hM1, MM.d11 hM1, MM.d12 hM1, MM.fl hM1, true_and, rep_at]
  rw [ud_at]
  refine pm_copies hM1 (by omega) (by omega) (by omega) ⟨by omega, by show (μ 0 6 - 1) * 433 + 433 ≤ 3464; omega⟩ ⟨by omega, by show (0 : Int) + 433 ≤ 433; omega⟩ (fun G2 hM2 => ?_)
  simp (disch := omega) only [n_nat, n_add, n_sub, n_mul, n_neg, n_le, n_lt, n_eq, n_div, n_tn, n_if, Int.cast_ofNat_Int, MM.o hM2, MM.r0 hM2, MM.r1 hM2, MM.r2 hM2, MM.r3 hM2, MM.r4 hM2, MM.r8 hM2, MM.r9 hM2, MM.r10 hM2, MM.r13 hM2, MM.r16 hM2, MM.r21 hM2, MM.r22 hM2, MM.a1 hM2, MM.a2 hM2, MM.a3 hM2, MM.a4 hM2, MM.a5 hM2, MM.a6 hM2, MM.a7 hM2, MM.a8 hM2, MM.a9 hM2, MM.a10 hM2, MM.a11 hM2, MM.a12 hM2, MM.d1 hM2, MM.d2 hM2, MM.d3 hM2, MM.d4 hM2, MM.d5 hM2, MM.d6 hM2, MM.d7 hM2, MM.d8 hM2, MM.d9 hM2, MM.d10 hM2, MM.d11 hM2, MM.d12 hM2, MM.fl hM2, true_and]
  rw [rep_ne (show ¬ (0 : Nat) = 1 by omega), rep_at, ud_at]
  refine h2 c G2 (hM2.cg (fun o ho i i1 i2 => ?_))
  by_cases e : o = 1
  · subst e
    rw [rep_at, rep_at]
    have i2 : i < 433 := i2
    unfold cpF
    rw [if_pos (by omega), rep_ne (by omega), show i - 0 = i by omega]
  · rw [rep_ne e, rep_ne e]
    rfl
theorem pm_restore {Q : Int32 → aH → Prop} (hM : MM G0 G M μ) (h5 : 0 ≤ μ 0 5 ∧ μ 0 5 ≤ 1) (h1 : μ 0 5 = 0 → Q (Int32.ofInt (-4)) G) (h2 : ¬ μ 0 5 = 0 → ∀ G1, MM G0 G1 M (rep (rep μ 1 (μ 4)) 0 (ud (μ 0) 6 0)) → Q (Int32.ofInt (μ 4 0)) G1) : tw_X8_restore Q G M := by
  unfold tw_X8_restore
  simp (disch := omega) only [n_nat, n_add, n_sub, n_mul, n_neg, n_le, n_lt, n_eq, n_div, n_tn, n_if, Int.cast_ofNat_Int, MM.o hM, MM.r0 hM, MM.r1 hM, MM.r2 hM, MM.r3 hM, MM.r4 hM, MM.r8 hM, MM.r9 hM, MM.r10 hM, MM.r13 hM, MM.r16 hM, MM.r21 hM, MM.r22 hM, MM.a1 hM, MM.a2 hM, MM.a3 hM, MM.a4 hM, MM.a5 hM, MM.a6 hM, MM.a7 hM, MM.a8 hM, MM.a9 hM, MM.a10 hM, MM.a11 hM, MM.a12 hM, MM.d1 hM, MM.d2 hM, MM.d3 hM, MM.d4 hM, MM.d5 hM, MM.d6 hM, MM.d7 hM, MM.d8 hM, MM.d9 hM, MM.d10 hM, MM.d11 hM, MM.d12 hM, MM.fl hM, true_and]
  refine ⟨fun c => ?_, h1⟩
  refine pm_copy hM (by omega) (by omega) (by omega) (fun G1 hM1 => ⟨hM1.o, ?_⟩)
  refine hM1.wf (fun G2 hM2 => ?_)
  simp (disch := omega) only [n_nat, n_add, n_sub, n_mul, n_neg, n_le, n_lt, n_eq, n_div, n_tn, n_if, Int.cast_ofNat_Int, MM.o hM2, MM.r0 hM2, MM.r1 hM2, MM.r2 hM2, MM.r3 hM2, MM.r4 hM2, MM.r8 hM2, MM.r9 hM2, MM.r10 hM2, MM.r13 hM2, MM.r16 hM2, MM.r21 hM2, MM.r22 hM2, MM.a1 hM2, MM.a2 hM2, MM.a3 hM2, MM.a4 hM2, MM.a5 hM2, MM.a6 hM2, MM.a7 hM2, MM.a8 hM2, MM.a9 hM2, MM.a10 hM2, MM.a11 hM2, MM.a12 hM2, MM.d1 hM2, MM.d2 hM2, MM.d3 hM2, MM.d4 hM2, MM.d5 hM2, MM.d6 hM2, MM.d7 hM2, MM.d8 hM2, MM.d9 hM2, MM.d10 hM2, MM.d11 hM2, MM.d12 hM2, MM.fl hM2, true_and]
  rw [rep_ne (show ¬ (0 : Nat) = 1 by omega)] at hM2 ⊢
  rw [rep_ne (show ¬ (1 : Nat) = 0 by omega), rep_at]
  exact h2 c G2 hM2
theorem pm_bayOf {Q : Int32 → aH → Prop} (hM : MM G0 G M μ) (hW : WI N (μ 1)) {b i : Int} (hb : -2147483648 ≤ b ∧ b < 2147483648) (hi : -2147483648 ≤ i ∧ i < 2147483648) (h : Q (if 0 ≤ b ∧ b ≤ 3 then (if i = 0 then Int32.ofInt (μ 1 (139 + 61 * b)) else if i = 1 then Int32.ofInt (lotsW (μ 1) b) else if i = 2 then Int32.ofInt (pinW (μ 1) b) else if i = 3 then setW (μ 1) b else Int32.ofInt (-2)) else Int32.ofInt (-1)) G) : tw_X8_bayOf Q G M (Int32.ofInt b) (Int32.ofInt i) := by
  unfold tw_X8_bayOf
  simp (disch := omega) only [n_nat, n_add, n_sub, n_mul, n_neg, n_le, n_lt, n_eq, n_div, n_tn, n_if, Int.cast_ofNat_Int]
  refine pm_isBay hb ?_
  by_cases c : 0 ≤ b ∧ b ≤ 3
  · rw [bI_t c]
    rw [if_pos c] at h
    refine ⟨fun _ => ⟨fun e => ⟨hM.o, ?_⟩, fun e => ⟨hM.o, ?_⟩, fun e => ⟨hM.o, ?_⟩, fun e => ⟨hM.o, ?_⟩, fun e0 e1 e2 e3 => ?_⟩, fun e => absurd e (by decide)⟩
    · rw [if_pos e] at h
      exact pm_inBay hM c.1 c.2 h
    · rw [if_neg (by omega), if_pos e] at h
      exact pm_lotsOf hM hW c.1 c.2 h
    · rw [if_neg (by omega), if_neg (by omega), if_pos e] at h
      exact pm_pintsIn hM hW c.1 c.2 h
    · rw [if_neg (by omega), if_neg (by omega), if_neg (by omega), if_pos e] at h
      exact pm_parishesIn hM hW c.1 c.2 h
    · rw [if_neg e0, if_neg e1, if_neg e2, if_neg e3] at h
      exact h
  · rw [bI_f c]
    rw [if_neg c] at h
    exact ⟨fun e => absurd rfl e, fun _ => h⟩
theorem pm_reason {Q : Int32 → aH → Prop} (hM : MM G0 G M μ) (hl : 0 ≤ μ 0 7 ∧ μ 0 7 ≤ 3) {d i : Int} (hd : -2147483648 ≤ d ∧ d < 2147483648) (hi : -2147483648 ≤ i ∧ i < 2147483648) (h : Q (Int32.ofInt (q_reason μ d i)) G) : tw_X8_reason Q G M (Int32.ofInt d) (Int32.ofInt i) := by
  unfold tw_X8_reason
  simp (disch := omega) only [n_nat, n_add, n_sub, n_mul, n_neg, n_le, n_lt, n_eq, n_div, n_tn, n_if, Int.cast_ofNat_Int]
  unfold q_reason at h
  refine ⟨fun c => ?_, fun c => pm_isIn hi (by omega) (by omega) ?_⟩
  · rw [if_pos c] at h; exact h
  · rw [if_neg c] at h
    by_cases e : 0 ≤ i ∧ i ≤ 1
    · rw [bI_t e]
      rw [if_pos e] at h
      refine ⟨fun _ => ?_, fun e => absurd e (by decide)⟩
      simp (disch := omega) only [n_nat, n_add, n_sub, n_mul, n_neg, n_le, n_lt, n_eq, n_div, n_tn, n_if, Int.cast_ofNat_Int, MM.o hM, MM.r0 hM, MM.r1 hM, MM.r2 hM, MM.r3 hM, MM.r4 hM, MM.r8 hM, MM.r9 hM, MM.r10 hM, MM.r13 hM, MM.r16 hM, MM.r21 hM, MM.r22 hM, MM.a1 hM, MM.a2 hM, MM.a3 hM, MM.a4 hM, MM.a5 hM, MM.a6 hM, MM.a7 hM, MM.a8 hM, MM.a9 hM, MM.a10 hM, MM.a11 hM, MM.a12 hM, MM.d1 hM, MM.d2 hM, MM.d3 hM, MM.d4 hM, MM.d5 hM, MM.d6 hM, MM.d7 hM, MM.d8 hM, MM.d9 hM, MM.d10 hM, MM.d11 hM, MM.d12 hM, MM.fl hM, true_and]
      refine ⟨fun f => ⟨fun g => ?_, fun g => ?_⟩, fun f => ?_⟩
      · rw [if_pos f, if_neg g] at h
        simp (disch := omega) only [n_nat, n_add, n_sub, n_mul, n_neg, n_le, n_lt, n_eq, n_div, n_tn, n_if, Int.cast_ofNat_Int, MM.o hM, MM.r0 hM, MM.r1 hM, MM.r2 hM, MM.r3 hM, MM.r4 hM, MM.r8 hM, MM.r9 hM, MM.r10 hM, MM.r13 hM, MM.r16 hM, MM.r21 hM, MM.r22 hM, MM.a1 hM, MM.a2 hM, MM.a3 hM, MM.a4 hM, MM.a5 hM, MM.a6 hM, MM.a7 hM, MM.a8 hM, MM.a9 hM, MM.a10 hM, MM.a11 hM, MM.a12 hM, MM.d1 hM, MM.d2 hM, MM.d3 hM, MM.d4 hM, MM.d5 hM, MM.d6 hM, MM.d7 hM, MM.d8 hM, MM.d9 hM, MM.d10 hM, MM.d11 hM, MM.d12 hM, MM.fl hM, true_and]
        exact h
      · rw [if_pos f, if_pos g] at h
        simp (disch := omega) only [n_nat, n_add, n_sub, n_mul, n_neg, n_le, n_lt, n_eq, n_div, n_tn, n_if, Int.cast_ofNat_Int, MM.o hM, MM.r0 hM, MM.r1 hM, MM.r2 hM, MM.r3 hM, MM.r4 hM, MM.r8 hM, MM.r9 hM, MM.r10 hM, MM.r13 hM, MM.r16 hM, MM.r21 hM, MM.r22 hM, MM.a1 hM, MM.a2 hM, MM.a3 hM, MM.a4 hM, MM.a5 hM, MM.a6 hM, MM.a7 hM, MM.a8 hM, MM.a9 hM, MM.a10 hM, MM.a11 hM, MM.a12 hM, MM.d1 hM, MM.d2 hM, MM.d3 hM, MM.d4 hM, MM.d5 hM, MM.d6 hM, MM.d7 hM, MM.d8 hM, MM.d9 hM, MM.d10 hM, MM.d11 hM, MM.d12 hM, MM.fl hM, true_and]
        exact h
      · rw [if_neg f] at h; exact h
    · rw [bI_f e]
      rw [if_neg e] at h
      exact ⟨fun e => absurd rfl e, fun _ => h⟩
theorem pm_fault {Q : Int32 → aH → Prop} (hM : MM G0 G M μ) (hf : -1 ≤ μ 0 12 ∧ μ 0 12 ≤ 100) (h : Q (Int32.ofInt (if μ 0 12 = -1 then -4 else μ 0 12)) G) : tw_X8_fault Q G M := by
  unfold tw_X8_fault
  simp (disch := omega) only [n_nat, n_add, n_sub, n_mul, n_neg, n_le, n_lt, n_eq, n_div, n_tn, n_if, Int.cast_ofNat_Int, MM.o hM, MM.r0 hM, MM.r1 hM, MM.r2 hM, MM.r3 hM, MM.r4 hM, MM.r8 hM, MM.r9 hM, MM.r10 hM, MM.r13 hM, MM.r16 hM, MM.r21 hM, MM.r22 hM, MM.a1 hM, MM.a2 hM, MM.a3 hM, MM.a4 hM, MM.a5 hM, MM.a6 hM, MM.a7 hM, MM.a8 hM, MM.a9 hM, MM.a10 hM, MM.a11 hM, MM.a12 hM, MM.d1 hM, MM.d2 hM, MM.d3 hM, MM.d4 hM, MM.d5 hM, MM.d6 hM, MM.d7 hM, MM.d8 hM, MM.d9 hM, MM.d10 hM, MM.d11 hM, MM.d12 hM, MM.fl hM, true_and]
  refine ⟨fun c => ?_, fun c => ?_⟩
  · rw [if_neg c] at h; exact h
  · rw [if_pos c] at h; exact h
theorem pm_written {Q : Int32 → aH → Prop} (hM : MM G0 G M μ) (hl : 0 ≤ μ 0 14 ∧ μ 0 14 ≤ 400) {i : Int} (hi : -2147483648 ≤ i ∧ i < 2147483648) (h : Q (Int32.ofInt (if 0 ≤ i ∧ i < μ 0 14 then μ 9 i else -1)) G) : tw_X8_written Q G M (Int32.ofInt i) := by
  unfold tw_X8_written
  simp (disch := omega) only [n_nat, n_add, n_sub, n_mul, n_neg, n_le, n_lt, n_eq, n_div, n_tn, n_if, Int.cast_ofNat_Int, MM.o hM, MM.r0 hM, MM.r1 hM, MM.r2 hM, MM.r3 hM, MM.r4 hM, MM.r8 hM, MM.r9 hM, MM.r10 hM, MM.r13 hM, MM.r16 hM, MM.r21 hM, MM.r22 hM, MM.a1 hM, MM.a2 hM, MM.a3 hM, MM.a4 hM, MM.a5 hM, MM.a6 hM, MM.a7 hM, MM.a8 hM, MM.a9 hM, MM.a10 hM, MM.a11 hM, MM.a12 hM, MM.d1 hM, MM.d2 hM, MM.d3 hM, MM.d4 hM, MM.d5 hM, MM.d6 hM, MM.d7 hM, MM.d8 hM, MM.d9 hM, MM.d10 hM, MM.d11 hM, MM.d12 hM, MM.fl hM, true_and]
  refine pm_isIn hi (by omega) (by omega) ?_
  by_cases e : 0 ≤ i ∧ i ≤ μ 0 14 - 1
  · rw [bI_t e]
    rw [if_pos (by omega)] at h
    refine ⟨fun e => absurd e (by decide), fun _ => ?_⟩
    simp (disch := omega) only [n_nat, n_add, n_sub, n_mul, n_neg, n_le, n_lt, n_eq, n_div, n_tn, n_if, Int.cast_ofNat_Int, MM.o hM, MM.r0 hM, MM.r1 hM, MM.r2 hM, MM.r3 hM, MM.r4 hM, MM.r8 hM, MM.r9 hM, MM.r10 hM, MM.r13 hM, MM.r16 hM, MM.r21 hM, MM.r22 hM, MM.a1 hM, MM.a2 hM, MM.a3 hM, MM.a4 hM, MM.a5 hM, MM.a6 hM, MM.a7 hM, MM.a8 hM, MM.a9 hM, MM.a10 hM, MM.a11 hM, MM.a12 hM, MM.d1 hM, MM.d2 hM, MM.d3 hM, MM.d4 hM, MM.d5 hM, MM.d6 hM, MM.d7 hM, MM.d8 hM, MM.d9 hM, MM.d10 hM, MM.d11 hM, MM.d12 hM, MM.fl hM, true_and]
    exact h
  · rw [bI_f e]
    rw [if_neg (by omega)] at h
    exact ⟨fun _ => h, fun e => absurd rfl e⟩
theorem pm_bg2 {Q : aH → Prop} (h : ∀ G1, MM G0 G1 M (rep μ 1 (fun _ => 0)) → tw_X8_begins_b22 Q G1 M) : ∀ (n : Nat) (k : Int) (G : aH), MM G0 G M (rep μ 1 (zrF (μ 1) k)) → 0 ≤ k → k + n = 433 → tw_X8_begins_b2 Q (n + 1) G M (Int32.ofInt k)
  | 0, k, G, hM, hk, hn => by
    have ek : k = 433 := by omega
    subst ek
    rw [tws_X8_begins_b2]
    simp (disch := omega) only [n_nat, n_add, n_sub, n_mul, n_neg, n_le, n_lt, n_eq, n_div, n_tn, n_if, Int.cast_ofNat_Int]
    refine ⟨fun _ => h G (hM.cg (fun o ho i i1 i2 => ?_)), fun c => by omega⟩
    by_cases e : o = 1
    · subst e
      have i2 : i < 433 := i2
      rw [rep_at, rep_at]
      unfold zrF
      rw [if_pos (by omega)]
    · rw [rep_ne e, rep_ne e]
  | n + 1, k, G, hM, hk, hn => by
    rw [tws_X8_begins_b2]
    simp (disch := omega) only [n_nat, n_add, n_sub, n_mul, n_neg, n_le, n_lt, n_eq, n_div, n_tn, n_if, Int.cast_ofNat_Int, MM.o hM, MM.r0 hM, MM.r1 hM, MM.r2 hM, MM.r3 hM, MM.r4 hM, MM.r8 hM, MM.r9 hM, MM.r10 hM, MM.r13 hM, MM.r16 hM, MM.r21 hM, MM.r22 hM, MM.a1 hM, MM.a2 hM, MM.a3 hM, MM.a4 hM, MM.a5 hM, MM.a6 hM, MM.a7 hM, MM.a8 hM, MM.a9 hM, MM.a10 hM, MM.a11 hM, MM.a12 hM, MM.d1 hM, MM.d2 hM, MM.d3 hM, MM.d4 hM, MM.d5 hM, MM.d6 hM, MM.d7 hM, MM.d8 hM, MM.d9 hM, MM.d10 hM, MM.d11 hM, MM.d12 hM, MM.fl hM, true_and]
    refine ⟨fun c => by omega, fun _ => ?_⟩
    refine hM.wr (by omega) (by omega) (fun G1 hM1 => ?_)
    intro z hz
    subst hz
    have e : ud (zrF (μ 1) k) k 0 = zrF (μ 1) (k + 1) := by
      funext j
      unfold ud zrF
      by_cases e : j = k
      · rw [if_pos e, if_pos (by omega)]
      · rw [if_neg e]
        by_cases c : 0 ≤ j ∧ j < k
        · rw [if_pos c, if_pos (by omega)]
        · rw [if_neg c, if_neg (by omega)]
    rw [rep_rep, rep_at, e] at hM1
    exact pm_bg2 h n _ G1 hM1 (by omega) (by omega)
theorem pm_bg24 {Q : aH → Prop} {n : Nat} {k : Int} (hk : 0 ≤ k ∧ k ≤ 1) {w : Int → Int} (hM : MM G0 G M (rep μ 1 w)) (h : ∀ G1, MM G0 G1 M (rep μ 1 (ud w (383 + 4 * k + 2) 2)) → tw_X8_begins_b24 Q n G1 M (Int32.ofInt (k + 1))) : tw_X8_begins_b24 Q (n + 1) G M (Int32.ofInt k) := by
  rw [tws_X8_begins_b24]
  simp (disch := omega) only [n_nat, n_add, n_sub, n_mul, n_neg, n_le, n_lt, n_eq, n_div, n_tn, n_if, Int.cast_ofNat_Int, MM.o hM, MM.r0 hM, MM.r1 hM, MM.r2 hM, MM.r3 hM, MM.r4 hM, MM.r8 hM, MM.r9 hM, MM.r10 hM, MM.r13 hM, MM.r16 hM, MM.r21 hM, MM.r22 hM, MM.a1 hM, MM.a2 hM, MM.a3 hM, MM.a4 hM, MM.a5 hM, MM.a6 hM, MM.a7 hM, MM.a8 hM, MM.a9 hM, MM.a10 hM, MM.a11 hM, MM.a12 hM, MM.d1 hM, MM.d2 hM, MM.d3 hM, MM.d4 hM, MM.d5 hM, MM.d6 hM, MM.d7 hM, MM.d8 hM, MM.d9 hM, MM.d10 hM, MM.d11 hM, MM.d12 hM, MM.fl hM, true_and]
  refine ⟨fun c => by omega, fun _ => ?_⟩
  refine hM.wr (by omega) (by omega) (fun G1 hM1 => ?_)
  intro z hz
  subst hz
  rw [rep_rep, rep_at] at hM1
  exact h G1 hM1
theorem pm_bg52 {Q : aH → Prop} {n : Nat} {k : Int} (hk : 0 ≤ k ∧ k ≤ 2) {w : Int → Int} (hM : MM G0 G M (rep μ 1 w)) (h : ∀ G1, MM G0 G1 M (rep μ 1 (ud w (391 + 5 * k + 1) 10)) → tw_X8_begins_b52 Q n G1 M (Int32.ofInt (k + 1))) : tw_X8_begins_b52 Q (n + 1) G M (Int32.ofInt k) := by
  rw [tws_X8_begins_b52]
  simp (disch := omega) only [n_nat, n_add, n_sub, n_mul, n_neg, n_le, n_lt, n_eq, n_div, n_tn, n_if, Int.cast_ofNat_Int, MM.o hM, MM.r0 hM, MM.r1 hM, MM.r2 hM, MM.r3 hM, MM.r4 hM, MM.r8 hM, MM.r9 hM, MM.r10 hM, MM.r13 hM, MM.r16 hM, MM.r21 hM, MM.r22 hM, MM.a1 hM, MM.a2 hM, MM.a3 hM, MM.a4 hM, MM.a5 hM, MM.a6 hM, MM.a7 hM, MM.a8 hM, MM.a9 hM, MM.a10 hM, MM.a11 hM, MM.a12 hM, MM.d1 hM, MM.d2 hM, MM.d3 hM, MM.d4 hM, MM.d5 hM, MM.d6 hM, MM.d7 hM, MM.d8 hM, MM.d9 hM, MM.d10 hM, MM.d11 hM, MM.d12 hM, MM.fl hM, true_and]
  refine ⟨fun c => by omega, fun _ => ?_⟩
  refine hM.wr (by omega) (by omega) (fun G1 hM1 => ?_)
  intro z hz
  subst hz
  rw [rep_rep, rep_at] at hM1
  exact h G1 hM1
theorem pm_bg81 {Q : aH → Prop} {n : Nat} {k : Int} (hk : 0 ≤ k ∧ k ≤ 6) {w : Int → Int} (hM : MM G0 G M (rep μ 1 w)) (h : ∀ G1, MM G0 G1 M (rep μ 1 (ud w (406 + 3 * k) 2)) → tw_X8_begins_b81 Q n G1 M (Int32.ofInt (k + 1))) : tw_X8_begins_b81 Q (n + 1) G M (Int32.ofInt k) := by
  rw [tws_X8_begins_b81]
  simp (disch := omega) only [n_nat, n_add, n_sub, n_mul, n_neg, n_le, n_lt, n_eq, n_div, n_tn, n_if, Int.cast_ofNat_Int, MM.o hM, MM.r0 hM, MM.r1 hM, MM.r2 hM, MM.r3 hM, MM.r4 hM, MM.r8 hM, MM.r9 hM, MM.r10 hM, MM.r13 hM, MM.r16 hM, MM.r21 hM, MM.r22 hM, MM.a1 hM, MM.a2 hM, MM.a3 hM, MM.a4 hM, MM.a5 hM, MM.a6 hM, MM.a7 hM, MM.a8 hM, MM.a9 hM, MM.a10 hM, MM.a11 hM, MM.a12 hM, MM.d1 hM, MM.d2 hM, MM.d3 hM, MM.d4 hM, MM.d5 hM, MM.d6 hM, MM.d7 hM, MM.d8 hM, MM.d9 hM, MM.d10 hM, MM.d11 hM, MM.d12 hM, MM.fl hM, true_and]
  refine ⟨fun c => by omega, fun _ => ?_⟩
  refine hM.wr (by omega) (by omega) (fun G1 hM1 => ?_)
  intro z hz
  subst hz
  rw [rep_rep, rep_at] at hM1
  exact h G1 hM1
theorem pm_begins {Q : aH → Prop} (hM : MM G0 G M μ) (h : ∀ G1, MM G0 G1 M (rep (rep μ 1 bgW) 0 (ud (μ 0) 6 0)) → Q G1) : tw_X8_begins Q G M := by
  unfold tw_X8_begins
  refine ⟨434, pm_bg2 (G0 := G0) (μ := μ) (fun G1 hM1 => ?_) 433 0 G ?_ (by omega) (by omega)⟩
  · unfold tw_X8_begins_b22
    refine ⟨3, pm_bg24 (k := 0) (by omega) hM1 (fun G2 hM2 => pm_bg24 (k := 1) (by omega) hM2 (fun G3 hM3 => ?_))⟩
    rw [tws_X8_begins_b24]
    simp (disch := omega) only [n_nat, n_add, n_sub, n_mul, n_neg, n_le, n_lt, n_eq, n_div, n_tn, n_if, Int.cast_ofNat_Int]
    refine ⟨fun _ => ?_, fun c => by omega⟩
    unfold tw_X8_begins_b50
    refine ⟨4, pm_bg52 (k := 0) (by omega) hM3 (fun G4 hM4 => pm_bg52 (k := 1) (by omega) hM4 (fun G5 hM5 => pm_bg52 (k := 2) (by omega) hM5 (fun G6 hM6 => ?_)))⟩
    rw [tws_X8_begins_b52]
    simp (disch := omega) only [n_nat, n_add, n_sub, n_mul, n_neg, n_le, n_lt, n_eq, n_div, n_tn, n_if, Int.cast_ofNat_Int]
    refine ⟨fun _ => ?_, fun c => by omega⟩
    unfold tw_X8_begins_b79
    refine ⟨8, pm_bg81 (k := 0) (by omega) hM6 (fun G2 hM2 => pm_bg81 (k := 1) (by omega) hM2 (fun G3 hM3 => pm_bg81 (k := 2) (by omega) hM3 (fun G4 hM4 => pm_bg81 (k := 3) (by omega) hM4 (fun G5 hM5 => pm_bg81 (k := 4) (by omega) hM5 (fun G6 hM6 => pm_bg81 (k := 5) (by omega) hM6 (fun G7 hM7 => pm_bg81 (k := 6) (by omega) hM7 (fun G8 hM8 => ?_)))))))⟩
    rw [tws_X8_begins_b81]
    simp (disch := omega) only [n_nat, n_add, n_sub, n_mul, n_neg, n_le, n_lt, n_eq, n_div, n_tn, n_if, Int.cast_ofNat_Int]
    refine ⟨fun _ => ?_, fun c => by omega⟩
    unfold tw_X8_begins_b106
    simp (disch := omega) only [n_nat, n_add, n_sub, n_mul, n_neg, n_le, n_lt, n_eq, n_div, n_tn, n_if, Int.cast_ofNat_Int, MM.o hM8, MM.r0 hM8, MM.r1 hM8, MM.r2 hM8, MM.r3 hM8, MM.r4 hM8, MM.r8 hM8, MM.r9 hM8, MM.r10 hM8, MM.r13 hM8, MM.r16 hM8, MM.r21 hM8, MM.r22 hM8, MM.a1 hM8, MM.a2 hM8, MM.a3 hM8, MM.a4 hM8, MM.a5 hM8, MM.a6 hM8, MM.a7 hM8, MM.a8 hM8, MM.a9 hM8, MM.a10 hM8, MM.a11 hM8, MM.a12 hM8, MM.d1 hM8, MM.d2 hM8, MM.d3 hM8, MM.d4 hM8, MM.d5 hM8, MM.d6 hM8, MM.d7 hM8, MM.d8 hM8, MM.d9 hM8, MM.d10 hM8, MM.d11 hM8, MM.d12 hM8, MM.fl hM8, true_and]
    refine hM8.wr (by omega) (by omega) (fun G9 hM9 => ⟨hM9.o, ?_⟩)
    refine hM9.wf (fun G10 hM10 => h G10 ?_)
    rw [rep_rep, rep_at, rep_ne (show ¬ (0 : Nat) = 1 by omega)] at hM10
    exact hM10
  · have e : zrF (μ 1) 0 = μ 1 := by
      funext j
      exact if_neg (by omega)
    rw [e, rep_self]
    exact hM
theorem pm_clear {Q : Int32 → aH → Prop} (hM : MM G0 G M μ) (h : ∀ G1, MM G0 G1 M (rep (rep μ 1 bgW) 0 (ud (μ 0) 6 0)) → Q (Int32.ofInt (μ 1 0)) G1) : tw_X8_clear Q G M := by
  unfold tw_X8_clear
  simp (disch := omega) only [n_nat, n_add, n_sub, n_mul, n_neg, n_le, n_lt, n_eq, n_div, n_tn, n_if, Int.cast_ofNat_Int, MM.o hM, MM.r0 hM, MM.r1 hM, MM.r2 hM, MM.r3 hM, MM.r4 hM, MM.r8 hM, MM.r9 hM, MM.r10 hM, MM.r13 hM, MM.r16 hM, MM.r21 hM, MM.r22 hM, MM.a1 hM, MM.a2 hM, MM.a3 hM, MM.a4 hM, MM.a5 hM, MM.a6 hM, MM.a7 hM, MM.a8 hM, MM.a9 hM, MM.a10 hM, MM.a11 hM, MM.a12 hM, MM.d1 hM, MM.d2 hM, MM.d3 hM, MM.d4 hM, MM.d5 hM, MM.d6 hM, MM.d7 hM, MM.d8 hM, MM.d9 hM, MM.d10 hM, MM.d11 hM, MM.d12 hM, MM.fl hM, true_and]
  intro x hx
  subst hx
  exact pm_begins hM h
end MODEL
