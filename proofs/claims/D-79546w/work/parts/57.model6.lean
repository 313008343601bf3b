/-! PLAIN LAW: the model's book-keeping, on -/
theorem ud_ud (w : Int → Int) (i v v' : Int) : ud (ud w i v) i v' = ud w i v' := by
  funext j
  unfold ud
  split <;> rfl
theorem ud_self (w : Int → Int) (i : Int) : ud w i (w i) = w := by
  funext j
  unfold ud
  split
  · rename_i e; rw [e]
  · rfl
/-- the reasons that are kept from a depth on -/
def kwM (μ : Nat → Int → Int) (fr : Int) : Nat → Int → Int := if μ 0 15 = 0 then μ else if μ 0 15 = 1 then kpM μ fr (μ 10 0) (μ 10 1) else kpM (kpM μ fr (μ 10 0) (μ 10 1)) (fr + 1) (μ 10 2) (μ 10 3)
def shH (f : Int → Int) (k : Int) : Int → Int := fun j => if 0 ≤ j ∧ j < k then f (j + 433) else f j
/-- the state is remembered -/
def rmM (μ : Nat → Int → Int) : Nat → Int → Int := if μ 0 6 = 8 then rep (rep μ 5 (cpF (μ 2) 0 (shH (μ 5) 3031) 3031 433)) 0 (ud (μ 0) 6 8) else rep (rep μ 5 (cpF (μ 2) 0 (μ 5) (μ 0 6 * 433) 433)) 0 (ud (μ 0) 6 (μ 0 6 + 1))
def enM (μ : Nat → Int → Int) (a : Int) : Nat → Int → Int := if 0 ≤ a then rmM μ else rep (kwM μ 0) 1 (μ 2)
section MODEL
variable {G0 G : aH} {M : Nat} {μ : Nat → Int → Int} {N : Int}
theorem kpM_0 (μ : Nat → Int → Int) (k r d i : Int) : kpM μ k r d 0 i = ud (μ 0) 7 (k + 1) i := by
  unfold kpM
  rw [rep_ne (by omega), rep_ne (by omega), rep_at]
theorem kpM_ne (μ : Nat → Int → Int) (k r d : Int) {a : Nat} (h0 : ¬ a = 0) (h6 : ¬ a = 6) (h7 : ¬ a = 7) : kpM μ k r d a = μ a := by
  unfold kpM
  rw [rep_ne h7, rep_ne h6, rep_ne h0]
theorem kwM_ne (μ : Nat → Int → Int) (fr : Int) {a : Nat} (h0 : ¬ a = 0) (h6 : ¬ a = 6) (h7 : ¬ a = 7) : kwM μ fr a = μ a := by
  unfold kwM
  split
  · rfl
  · split
    · exact kpM_ne _ _ _ _ h0 h6 h7
    · rw [kpM_ne _ _ _ _ h0 h6 h7, kpM_ne _ _ _ _ h0 h6 h7]
theorem pm_keepsWhy_e {Q : aH → Prop} (hM : MM G0 G M μ) {fr k : Int} (hk : 0 ≤ k ∧ k ≤ 2) (hy : μ 0 15 = k) (h : Q G) : tw_X8_keepsWhy_b2 Q 1 G M (Int32.ofInt fr) (Int32.ofInt k) := by
  rw [tws_X8_keepsWhy_b2]
  simp (disch := omega) only [n_nat, n_add, n_sub, n_mul, n_neg, n_le, n_lt, n_eq, n_div, n_tn, n_if, Int.cast_ofNat_Int, MM.o hM, MM.r0 hM, MM.r1 hM, MM.r2 hM, MM.r3 hM, MM.r4 hM, MM.r8 hM, MM.r9 hM, MM.r10 hM, MM.r13 hM, MM.r16 hM, MM.r21 hM, MM.r22 hM, MM.a1 hM, MM.a2 hM, MM.a3 hM, MM.a4 hM, MM.a5 hM, MM.a6 hM, MM.a7 hM, MM.a8 hM, MM.a9 hM, MM.a10 hM, MM.a11 hM, MM.a12 hM, MM.d1 hM, MM.d2 hM, MM.d3 hM, MM.d4 hM, MM.d5 hM, MM.d6 hM, MM.d7 hM, MM.d8 hM, MM.d9 hM, MM.d10 hM, MM.d11 hM, MM.d12 hM, MM.fl hM, true_and]
  exact ⟨fun _ => h, fun c => by omega⟩
theorem pm_keepsWhy_s {Q : aH → Prop} {n : Nat} (hM : MM G0 G M μ) {fr k : Int} (hk : 0 ≤ k ∧ k ≤ 1) (hf : 0 ≤ fr ∧ fr ≤ 1) (hy : k < μ 0 15 ∧ μ 0 15 ≤ 2) (h : ∀ G1, MM G0 G1 M (kpM μ (fr + k) (μ 10 (2 * k)) (μ 10 (2 * k + 1))) → tw_X8_keepsWhy_b2 Q n G1 M (Int32.ofInt fr) (Int32.ofInt (k + 1))) : tw_X8_keepsWhy_b2 Q (n + 1) G M (Int32.ofInt fr) (Int32.ofInt k) := by
  rw [tws_X8_keepsWhy_b2]
  simp (disch := omega) only [n_nat, n_add, n_sub, n_mul, n_neg, n_le, n_lt, n_eq, n_div, n_tn, n_if, Int.cast_ofNat_Int, MM.o hM, MM.r0 hM, MM.r1 hM, MM.r2 hM, MM.r3 hM, MM.r4 hM, MM.r8 hM, MM.r9 hM, MM.r10 hM, MM.r13 hM, MM.r16 hM, MM.r21 hM, MM.r22 hM, MM.a1 hM, MM.a2 hM, MM.a3 hM, MM.a4 hM, MM.a5 hM, MM.a6 hM, MM.a7 hM, MM.a8 hM, MM.a9 hM, MM.a10 hM, MM.a11 hM, MM.a12 hM, MM.d1 hM, MM.d2 hM, MM.d3 hM, MM.d4 hM, MM.d5 hM, MM.d6 hM, MM.d7 hM, MM.d8 hM, MM.d9 hM, MM.d10 hM, MM.d11 hM, MM.d12 hM, MM.fl hM, true_and]
  refine ⟨fun c => by omega, fun _ => pm_keeps hM (by omega) (fun G1 hM1 => ?_)⟩
  intro x hx
  subst hx
  exact h G1 hM1
theorem pm_keepsWhy {Q : aH → Prop} (hM : MM G0 G M μ) {fr : Int} (hf : 0 ≤ fr ∧ fr ≤ 1) (hy : 0 ≤ μ 0 15 ∧ μ 0 15 ≤ 2) (h : ∀ G1, MM G0 G1 M (kwM μ fr) → Q G1) : tw_X8_keepsWhy Q G M (Int32.ofInt fr) := by
  unfold tw_X8_keepsWhy
  simp (disch := omega) only [n_nat, n_add, n_sub, n_mul, n_neg, n_le, n_lt, n_eq, n_div, n_tn, n_if, Int.cast_ofNat_Int]
  unfold kwM at h
  by_cases c0 : μ 0 15 = 0
  · rw [if_pos c0] at h
    exact ⟨1, pm_keepsWhy_e hM (by omega) c0 (h G hM)⟩
  · rw [if_neg c0] at h
    by_cases c1 : μ 0 15 = 1
    · rw [if_pos c1] at h
      refine ⟨2, pm_keepsWhy_s hM (by omega) hf (by omega) (fun G1 hM1 => ?_)⟩
      rw [show fr + 0 = fr by omega, show (2 * 0 : Int) = 0 by omega, show (0 + 1 : Int) = 1 by omega] at hM1
      refine pm_keepsWhy_e hM1 (by omega) ?_ (h G1 hM1)
      rw [kpM_0, ud_ne (by omega)]
      omega
    · rw [if_neg c1] at h
      refine ⟨3, pm_keepsWhy_s hM (by omega) hf (by omega) (fun G1 hM1 => ?_)⟩
      rw [show fr + 0 = fr by omega, show (2 * 0 : Int) = 0 by omega, show (0 + 1 : Int) = 1 by omega] at hM1
      have e15 : kpM μ fr (μ 10 0) (μ 10 1) 0 15 = μ 0 15 := by rw [kpM_0, ud_ne (by omega)]
      have e10 : kpM μ fr (μ 10 0) (μ 10 1) 10 = μ 10 := kpM_ne _ _ _ _ (by omega) (by omega) (by omega)
      refine pm_keepsWhy_s hM1 (by omega) hf (by omega) (fun G2 hM2 => ?_)
      rw [e10, show (0 + 1 : Int) = 1 by omega, show (2 * 1 : Int) = 2 by omega, show (2 + 1 : Int) = 3 by omega] at hM2
      refine pm_keepsWhy_e hM2 (by omega) ?_ (h G2 hM2)
      rw [kpM_0, ud_ne (by omega), e15]
      omega
theorem pm_rem50 {Q : Int32 → aH → Prop} (hM : MM G0 G M μ) {a : Int32} (hr : 0 ≤ μ 0 6 ∧ μ 0 6 ≤ 7) (h : ∀ G1, MM G0 G1 M (rep (rep μ 5 (cpF (μ 2) 0 (μ 5) (μ 0 6 * 433) 433)) 0 (ud (μ 0) 6 (μ 0 6 + 1))) → Q a G1) : tw_X8_remembers_b50 Q G M a := by
  unfold tw_X8_remembers_b50
  simp (disch := omega) only [n_nat, n_add, n_sub, n_mul, n_neg, n_le, n_lt, n_eq, n_div, n_tn, n_if, Int.cast_ofNat_Int, MM.o hM, MM.r0 hM, MM.r1 hM, MM.r2 hM, MM.r3 hM, MM.r4 hM, MM.r8 hM, MM.r9 hM, MM.r10 hM, MM.r13 hM, MM.r16 hM, MM.r21 hM, MM.r22 hM, MM.a1 hM, MM.a2 hM, MM.a3 hM, MM.a4 hM, MM.a5 hM, MM.a6 hM, MM.a7 hM, MM.a8 hM, MM.a9 hM, MM.a10 hM, MM.a11 hM, MM.a12 hM, MM.d1 hM, MM.d2 hM, MM.d3 hM, MM.d4 hM, MM.d5 hM, MM.d6 hM, MM.d7 hM, MM.d8 hM, MM.d9 hM, MM.d10 hM, MM.d11 hM, MM.d12 hM, MM.fl hM, true_and]
  refine pm_copies hM (by omega) (by omega) (by omega) ⟨by omega, by show (0 : Int) + 433 ≤ 433; omega⟩ ⟨by omega, by show μ 0 6 * 433 + 433 ≤ 3464; omega⟩ (fun G1 hM1 => ⟨hM1.o, hM1.o, ?_⟩)
  simp (disch := omega) only [n_nat, n_add, n_sub, n_mul, n_neg, n_le, n_lt, n_eq, n_div, n_tn, n_if, Int.cast_ofNat_Int, MM.o hM1, MM.r0 hM1, MM.r1 hM1, MM.r2 hM1, MM.r3 hM1, MM.r4 hM1, MM.r8 hM1, MM.r9 hM1, MM.r10 hM1, MM.r13 hM1, MM.r16 hM1, MM.r21 hM1, MM.r22 hM1, MM.a1 hM1, MM.a2 hM1, MM.a3 hM1, MM.a4 hM1, MM.a5 hM1, MM.a6 hM1, MM.a7 hM1, MM.a8 hM1, MM.a9 hM1, MM.a10 hM1, MM.a11 hM1, MM.a12 hM1, MM.d1 hM1, MM.d2 hM1, MM.d3 hM1, MM.d4 hM1, MM.d5 hM1, MM.d6 hM1, MM.d7 hM1, MM.d8 hM1, MM.d9 hM1, MM.d10 hM1, MM.d11 hM1, MM.d12 hM1, MM.fl hM1, rep_ne (show ¬ (0 : Nat) = 5 by omega)]
  refine hM1.wf (fun G2 hM2 => ?_)
  rw [rep_ne (show ¬ (0 : Nat) = 5 by omega)] at hM2
  exact h G2 hM2
theorem shH_s (f : Int → Int) (k : Int) (hk : 0 ≤ k) : ud (shH f k) k (shH f k (k + 433)) = shH f (k + 1) := by
  funext j
  unfold ud shH
  rw [if_neg (show ¬ (0 ≤ k + 433 ∧ k + 433 < k) by omega)]
  by_cases e : j = k
  · rw [if_pos e, if_pos (by omega), e]
  · rw [if_neg e]
    by_cases c : 0 ≤ j ∧ j < k
    · rw [if_pos c, if_pos (by omega)]
    · rw [if_neg c, if_neg (by omega)]
theorem pm_rem11 {Q : Int32 → aH → Prop} {a : Int32} (hr : μ 0 6 = 8) (h : ∀ G1, MM G0 G1 M (rep (rep μ 5 (cpF (μ 2) 0 (shH (μ 5) 3031) 3031 433)) 0 (ud (μ 0) 6 8)) → Q a G1) : ∀ (n : Nat) (k : Int) (G : aH), 0 ≤ k → k + n = 3031 → MM G0 G M (rep μ 5 (shH (μ 5) k)) → tw_X8_remembers_b11 Q (n + 1) G M a (Int32.ofInt k)
  | 0, k, G, hk, hn, hM => by
    have ek : k = 3031 := by omega
    subst ek
    rw [tws_X8_remembers_b11]
    simp (disch := omega) only [n_nat, n_add, n_sub, n_mul, n_neg, n_le, n_lt, n_eq, n_div, n_tn, n_if, Int.cast_ofNat_Int]
    refine ⟨fun _ => ?_, fun c => by omega⟩
    unfold tw_X8_remembers_b40
    simp (disch := omega) only [n_nat, n_add, n_sub, n_mul, n_neg, n_le, n_lt, n_eq, n_div, n_tn, n_if, Int.cast_ofNat_Int, MM.o hM, MM.r0 hM, MM.r1 hM, MM.r2 hM, MM.r3 hM, MM.r4 hM, MM.r8 hM, MM.r9 hM, MM.r10 hM, MM.r13 hM, MM.r16 hM, MM.r21 hM, MM.r22 hM, MM.a1 hM, MM.a2 hM, MM.a3 hM, MM.a4 hM, MM.a5 hM, MM.a6 hM, MM.a7 hM, MM.a8 hM, MM.a9 hM, MM.a10 hM, MM.a11 hM, MM.a12 hM, MM.d1 hM, MM.d2 hM, MM.d3 hM, MM.d4 hM, MM.d5 hM, MM.d6 hM, MM.d7 hM, MM.d8 hM, MM.d9 hM, MM.d10 hM, MM.d11 hM, MM.d12 hM, MM.fl hM, true_and, rep_ne (show ¬ (0 : Nat) = 5 by omega)]
    refine hM.wf (fun G1 hM1 => ?_)
    rw [rep_ne (show ¬ (0 : Nat) = 5 by omega), hr] at hM1
    refine pm_rem50 hM1 ?_ (fun G2 hM2 => ?_)
    · rw [rep_at, show (ud (μ 0) ((6 : Nat) : Int) (8 - 1)) 6 = 7 from rfl]
      omega
    · rw [rep_at, show (ud (μ 0) ((6 : Nat) : Int) (8 - 1)) 6 = 7 from rfl, rep_ne (show ¬ (2 : Nat) = 0 by omega), rep_ne (show ¬ (2 : Nat) = 5 by omega), rep_ne (show ¬ (5 : Nat) = 0 by omega), rep_at] at hM2
      refine h G2 ?_
      have e : rep (rep (rep (rep μ 5 (shH (μ 5) 3031)) 0 (ud (μ 0) ((6 : Nat) : Int) (8 - 1))) 5 (cpF (μ 2) 0 (shH (μ 5) 3031) (7 * 433) 433)) 0 (ud (ud (μ 0) ((6 : Nat) : Int) (8 - 1)) 6 (7 + 1)) = rep (rep μ 5 (cpF (μ 2) 0 (shH (μ 5) 3031) 3031 433)) 0 (ud (μ 0) 6 8) := by
        rw [show ((6 : Nat) : Int) = 6 from rfl, ud_ud, rep_comm _ (show ¬ (0 : Nat) = 5 by omega), rep_rep, rep_rep]
        rfl
      rw [← e]
      exact hM2
  | n + 1, k, G, hk, hn, hM => by
    rw [tws_X8_remembers_b11]
    simp (disch := omega) only [n_nat, n_add, n_sub, n_mul, n_neg, n_le, n_lt, n_eq, n_div, n_tn, n_if, Int.cast_ofNat_Int, MM.o hM, MM.r0 hM, MM.r1 hM, MM.r2 hM, MM.r3 hM, MM.r4 hM, MM.r8 hM, MM.r9 hM, MM.r10 hM, MM.r13 hM, MM.r16 hM, MM.r21 hM, MM.r22 hM, MM.a1 hM, MM.a2 hM, MM.a3 hM, MM.a4 hM, MM.a5 hM, MM.a6 hM, MM.a7 hM, MM.a8 hM, MM.a9 hM, MM.a10 hM, MM.a11 hM, MM.a12 hM, MM.d1 hM, MM.d2 hM, MM.d3 hM, MM.d4 hM, MM.d5 hM, MM.d6 hM, MM.d7 hM, MM.d8 hM, MM.d9 hM, MM.d10 hM, MM.d11 hM, MM.d12 hM, MM.fl hM, true_and]
    refine ⟨fun c => by omega, fun _ => ?_⟩
    refine hM.wr (by omega) (by omega) (fun G1 hM1 => ?_)
    intro z hz
    subst hz
    rw [rep_rep, rep_at, shH_s _ _ hk] at hM1
    exact pm_rem11 hr h n _ G1 (by omega) (by omega) hM1
theorem pm_remembers {Q : Int32 → aH → Prop} (hM : MM G0 G M μ) {a : Int32} (hr : 0 ≤ μ 0 6 ∧ μ 0 6 ≤ 8) (h : ∀ G1, MM G0 G1 M (rmM μ) → Q a G1) : tw_X8_remembers Q G M a := by
  unfold tw_X8_remembers
  simp (disch := omega) only [n_nat, n_add, n_sub, n_mul, n_neg, n_le, n_lt, n_eq, n_div, n_tn, n_if, Int.cast_ofNat_Int, MM.o hM, MM.r0 hM, MM.r1 hM, MM.r2 hM, MM.r3 hM, MM.r4 hM, MM.r8 hM, MM.r9 hM, MM.r10 hM, MM.r13 hM, MM.r16 hM, MM.r21 hM, MM.r22 hM, MM.a1 hM, MM.a2 hM, MM.a3 hM, MM.a4 hM, MM.a5 hM, MM.a6 hM, MM.a7 hM, MM.a8 hM, MM.a9 hM, MM.a10 hM, MM.a11 hM, MM.a12 hM, MM.d1 hM, MM.d2 hM, MM.d3 hM, MM.d4 hM, MM.d5 hM, MM.d6 hM, MM.d7 hM, MM.d8 hM, MM.d9 hM, MM.d10 hM, MM.d11 hM, MM.d12 hM, MM.fl hM, true_and]
  unfold rmM at h
  refine ⟨fun c => ?_, fun c => ?_⟩
  · rw [if_neg c] at h
    exact pm_rem50 hM (by omega) h
  · rw [if_pos c] at h
    refine ⟨_, pm_rem11 c h 3031 0 G (by omega) (by omega) ?_⟩
    have e : shH (μ 5) 0 = μ 5 := by
      funext j
      exact if_neg (by omega)
    rw [e, rep_self]
    exact hM
theorem pm_ends {Q : Int32 → aH → Prop} (hM : MM G0 G M μ) {a : Int} (ha : -2147483648 ≤ a ∧ a < 2147483648) (hr : 0 ≤ μ 0 6 ∧ μ 0 6 ≤ 8) (hy : 0 ≤ μ 0 15 ∧ μ 0 15 ≤ 2) (h : ∀ G1, MM G0 G1 M (enM μ a) → Q (Int32.ofInt a) G1) : tw_X8_ends Q G M (Int32.ofInt a) := by
  unfold tw_X8_ends
  simp (disch := omega) only [n_nat, n_add, n_sub, n_mul, n_neg, n_le, n_lt, n_eq, n_div, n_tn, n_if, Int.cast_ofNat_Int, MM.o hM, MM.r0 hM, MM.r1 hM, MM.r2 hM, MM.r3 hM, MM.r4 hM, MM.r8 hM, MM.r9 hM, MM.r10 hM, MM.r13 hM, MM.r16 hM, MM.r21 hM, MM.r22 hM, MM.a1 hM, MM.a2 hM, MM.a3 hM, MM.a4 hM, MM.a5 hM, MM.a6 hM, MM.a7 hM, MM.a8 hM, MM.a9 hM, MM.a10 hM, MM.a11 hM, MM.a12 hM, MM.d1 hM, MM.d2 hM, MM.d3 hM, MM.d4 hM, MM.d5 hM, MM.d6 hM, MM.d7 hM, MM.d8 hM, MM.d9 hM, MM.d10 hM, MM.d11 hM, MM.d12 hM, MM.fl hM, true_and]
  unfold enM at h
  refine ⟨fun c => ?_, fun c => ?_⟩
  · rw [if_pos c] at h
    exact pm_remembers hM hr h
  · rw [if_neg c] at h
    refine pm_keepsWhy hM (by omega) hy (fun G1 hM1 => ⟨hM1.o, hM1.o, ?_⟩)
    simp (disch := omega) only [MM.o hM1, MM.r0 hM1, MM.r1 hM1, MM.r2 hM1, MM.r3 hM1, MM.r4 hM1, MM.r8 hM1, MM.r9 hM1, MM.r10 hM1, MM.r13 hM1, MM.r16 hM1, MM.r21 hM1, MM.r22 hM1, MM.a1 hM1, MM.a2 hM1, MM.a3 hM1, MM.a4 hM1, MM.a5 hM1, MM.a6 hM1, MM.a7 hM1, MM.a8 hM1, MM.a9 hM1, MM.a10 hM1, MM.a11 hM1, MM.a12 hM1, MM.d1 hM1, MM.d2 hM1, MM.d3 hM1, MM.d4 hM1, MM.d5 hM1, MM.d6 hM1, MM.d7 hM1, MM.d8 hM1, MM.d9 hM1, MM.d10 hM1, MM.d11 hM1, MM.d12 hM1, MM.fl hM1]
    refine pm_copy hM1 (by omega) (by omega) (by omega) (fun G2 hM2 => ?_)
    rw [kwM_ne _ _ (by omega) (by omega) (by omega)] at hM2
    exact h G2 hM2
end MODEL
