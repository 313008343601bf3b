/-! PLAIN LAW: the model's commands: what each comes to -/
/-- an answer, the row then, what was refused (reason, detail, the reason behind and its detail) -/
abbrev oC : Type := Int × (Int → Int) × Option (Int × Int × Int × Int)
def rfM (μ : Nat → Int → Int) (r d b i : Int) : Nat → Int → Int := rep (rep μ 0 (ud (μ 0) 15 (if b = 0 then 1 else 2))) 10 (ud (ud (ud (ud (μ 10) 0 r) 1 d) 2 b) 3 i)
def cmM (μ : Nat → Int → Int) (o : oC) : Nat → Int → Int := match o.2.2 with
  | none => rep μ 1 o.2.1
  | some q => rfM μ q.1 q.2.1 q.2.2.1 q.2.2.2
def noC (w : Int → Int) (c : Int) : oC := (c, w, none)
def reC (w : Int → Int) (r d b i : Int) : oC := (-3, w, some (r, d, b, i))
theorem cmM_no (μ : Nat → Int → Int) (c : Int) : cmM μ (noC (μ 1) c) = μ := rep_self μ 1
theorem cmM_ok (μ : Nat → Int → Int) (a : Int) (w : Int → Int) : cmM μ (a, w, none) = rep μ 1 w := rfl
def f_stop (w : Int → Int) (p : Int) : oC := if 0 ≤ p ∧ p ≤ 6 then (if w (406 + 3 * p + 0) = 0 then reC w 9 p 0 0 else (w (406 + 3 * p + 0) - 1, ud w (406 + 3 * p + 0) (w (406 + 3 * p + 0) - 1), none)) else noC w (-1)
def f_cat (w : Int → Int) (p : Int) : oC := if -1 ≤ p ∧ p ≤ 6 then (w 427 + 1, ud w 427 p, none) else noC w (-1)
def f_settle (w : Int → Int) (p c : Int) : oC := if 0 ≤ p ∧ p < w 0 then (if 2 ≤ c ∧ c ≤ 998 then (if c - c / 2 * 2 = 1 then noC w (-2) else if c / 2 ≤ w (1 + 23 * p + 2) then (w (1 + 23 * p + 2) - c / 2, ud (ud w (1 + 23 * p + 2) (w (1 + 23 * p + 2) - c / 2)) 429 (w 429 + c), none) else reC w 10 (w (1 + 23 * p + 2)) 0 0) else noC w (-2)) else noC w (-1)
def f_sell (w : Int → Int) (k n h : Int) : oC := if 0 ≤ k ∧ k ≤ 2 then (if 1 ≤ n ∧ n ≤ 30 then (if 0 ≤ h ∧ h ≤ 1 then
    (if n * (if h = 1 then 72 else 64) ≤ w (391 + 5 * k + 0) then
      (n * (w (391 + 5 * k + 1) + h), ud (ud (ud (ud (ud w (391 + 5 * k + 0) (w (391 + 5 * k + 0) - n * (if h = 1 then 72 else 64))) (391 + 5 * k + 2) (w (391 + 5 * k + 2) + n)) (391 + 5 * k + 3) (w (391 + 5 * k + 3) + n * (if h = 1 then 72 else 64))) 431 (w 431 + n * (if h = 1 then 72 else 64))) 429 (w 429 + n * (w (391 + 5 * k + 1) + h)), none)
    else reC w 8 (w (391 + 5 * k + 0)) (if 0 < w (406 + 3 * (4 + k) + 1) then 13 else 0) (w (406 + 3 * (4 + k) + 1))) else noC w (-2)) else noC w (-2)) else noC w (-1)
section MODEL
variable {G0 G : aH} {M : Nat} {μ : Nat → Int → Int} {N : Int}
theorem pm_ref10 {Q : Int32 → aH → Prop} (hM : MM G0 G M μ) {r d b i y : Int} (h : ∀ G1, MM G0 G1 M (rep (rep μ 0 (ud (μ 0) 15 y)) 10 (ud (ud (ud (ud (μ 10) 0 r) 1 d) 2 b) 3 i)) → Q (Int32.ofInt (-3)) G1) : tw_X8_refuses_b10 Q G M (Int32.ofInt r) (Int32.ofInt d) (Int32.ofInt b) (Int32.ofInt i) (Int32.ofInt y) M := by
  unfold tw_X8_refuses_b10
  simp (disch := omega) only [n_nat, n_add, n_sub, n_mul, n_neg, n_le, n_lt, n_eq, n_div, n_tn, n_if, Int.cast_ofNat_Int, MM.o hM, MM.r0 hM, MM.r1 hM, MM.r2 hM, MM.r3 hM, MM.r4 hM, MM.r8 hM, MM.r9 hM, MM.r10 hM, MM.r13 hM, MM.r16 hM, MM.r21 hM, MM.r22 hM, MM.a1 hM, MM.a2 hM, MM.a3 hM, MM.a4 hM, MM.a5 hM, MM.a6 hM, MM.a7 hM, MM.a8 hM, MM.a9 hM, MM.a10 hM, MM.a11 hM, MM.a12 hM, MM.d1 hM, MM.d2 hM, MM.d3 hM, MM.d4 hM, MM.d5 hM, MM.d6 hM, MM.d7 hM, MM.d8 hM, MM.d9 hM, MM.d10 hM, MM.d11 hM, MM.d12 hM, MM.fl hM, true_and]
  refine hM.wf (fun G1 hM1 => ?_)
  simp (disch := omega) only [n_nat, n_add, n_sub, n_mul, n_neg, n_le, n_lt, n_eq, n_div, n_tn, n_if, Int.cast_ofNat_Int, MM.o hM1, MM.r0 hM1, MM.r1 hM1, MM.r2 hM1, MM.r3 hM1, MM.r4 hM1, MM.r8 hM1, MM.r9 hM1, MM.r10 hM1, MM.r13 hM1, MM.r16 hM1, MM.r21 hM1, MM.r22 hM1, MM.a1 hM1, MM.a2 hM1, MM.a3 hM1, MM.a4 hM1, MM.a5 hM1, MM.a6 hM1, MM.a7 hM1, MM.a8 hM1, MM.a9 hM1, MM.a10 hM1, MM.a11 hM1, MM.a12 hM1, MM.d1 hM1, MM.d2 hM1, MM.d3 hM1, MM.d4 hM1, MM.d5 hM1, MM.d6 hM1, MM.d7 hM1, MM.d8 hM1, MM.d9 hM1, MM.d10 hM1, MM.d11 hM1, MM.d12 hM1, MM.fl hM1, true_and]
  refine hM1.wr (by omega) (by omega) (fun G2 hM2 => ?_)
  simp (disch := omega) only [n_nat, n_add, n_sub, n_mul, n_neg, n_le, n_lt, n_eq, n_div, n_tn, n_if, Int.cast_ofNat_Int, MM.o hM2, MM.r0 hM2, MM.r1 hM2, MM.r2 hM2, MM.r3 hM2, MM.r4 hM2, MM.r8 hM2, MM.r9 hM2, MM.r10 hM2, MM.r13 hM2, MM.r16 hM2, MM.r21 hM2, MM.r22 hM2, MM.a1 hM2, MM.a2 hM2, MM.a3 hM2, MM.a4 hM2, MM.a5 hM2, MM.a6 hM2, MM.a7 hM2, MM.a8 hM2, MM.a9 hM2, MM.a10 hM2, MM.a11 hM2, MM.a12 hM2, MM.d1 hM2, MM.d2 hM2, MM.d3 hM2, MM.d4 hM2, MM.d5 hM2, MM.d6 hM2, MM.d7 hM2, MM.d8 hM2, MM.d9 hM2, MM.d10 hM2, MM.d11 hM2, MM.d12 hM2, MM.fl hM2, true_and]
  refine hM2.wr (by omega) (by omega) (fun G3 hM3 => ?_)
  simp (disch := omega) only [n_nat, n_add, n_sub, n_mul, n_neg, n_le, n_lt, n_eq, n_div, n_tn, n_if, Int.cast_ofNat_Int, MM.o hM3, MM.r0 hM3, MM.r1 hM3, MM.r2 hM3, MM.r3 hM3, MM.r4 hM3, MM.r8 hM3, MM.r9 hM3, MM.r10 hM3, MM.r13 hM3, MM.r16 hM3, MM.r21 hM3, MM.r22 hM3, MM.a1 hM3, MM.a2 hM3, MM.a3 hM3, MM.a4 hM3, MM.a5 hM3, MM.a6 hM3, MM.a7 hM3, MM.a8 hM3, MM.a9 hM3, MM.a10 hM3, MM.a11 hM3, MM.a12 hM3, MM.d1 hM3, MM.d2 hM3, MM.d3 hM3, MM.d4 hM3, MM.d5 hM3, MM.d6 hM3, MM.d7 hM3, MM.d8 hM3, MM.d9 hM3, MM.d10 hM3, MM.d11 hM3, MM.d12 hM3, MM.fl hM3, true_and]
  refine hM3.wr (by omega) (by omega) (fun G4 hM4 => ?_)
  simp (disch := omega) only [n_nat, n_add, n_sub, n_mul, n_neg, n_le, n_lt, n_eq, n_div, n_tn, n_if, Int.cast_ofNat_Int, MM.o hM4, MM.r0 hM4, MM.r1 hM4, MM.r2 hM4, MM.r3 hM4, MM.r4 hM4, MM.r8 hM4, MM.r9 hM4, MM.r10 hM4, MM.r13 hM4, MM.r16 hM4, MM.r21 hM4, MM.r22 hM4, MM.a1 hM4, MM.a2 hM4, MM.a3 hM4, MM.a4 hM4, MM.a5 hM4, MM.a6 hM4, MM.a7 hM4, MM.a8 hM4, MM.a9 hM4, MM.a10 hM4, MM.a11 hM4, MM.a12 hM4, MM.d1 hM4, MM.d2 hM4, MM.d3 hM4, MM.d4 hM4, MM.d5 hM4, MM.d6 hM4, MM.d7 hM4, MM.d8 hM4, MM.d9 hM4, MM.d10 hM4, MM.d11 hM4, MM.d12 hM4, MM.fl hM4, true_and]
  refine hM4.wr (by omega) (by omega) (fun G5 hM5 => ?_)
  simp only [rep_rep, rep_at, rep_ne (show ¬ (10 : Nat) = 0 by omega)] at hM5
  exact h G5 hM5
theorem pm_refuses {Q : Int32 → aH → Prop} (hM : MM G0 G M μ) {r d b i : Int} (hb : 0 ≤ b ∧ b ≤ 100) (h : ∀ G1, MM G0 G1 M (rfM μ r d b i) → Q (Int32.ofInt (-3)) G1) : tw_X8_refuses Q G M (Int32.ofInt r) (Int32.ofInt d) (Int32.ofInt b) (Int32.ofInt i) := by
  unfold tw_X8_refuses
  simp (disch := omega) only [n_nat, n_add, n_sub, n_mul, n_neg, n_le, n_lt, n_eq, n_div, n_tn, n_if, Int.cast_ofNat_Int]
  unfold rfM at h
  refine ⟨fun c => ?_, fun c => ?_⟩
  · rw [if_neg c] at h
    exact pm_ref10 hM h
  · rw [if_pos c] at h
    exact pm_ref10 hM h
theorem pm_stops {Q : Int32 → aH → Prop} (hM : MM G0 G M μ) (hW : WI N (μ 1)) {p : Int} (hp : -2147483648 ≤ p ∧ p < 2147483648) (h : ∀ G1, MM G0 G1 M (cmM μ (f_stop (μ 1) p)) → Q (Int32.ofInt (f_stop (μ 1) p).1) G1) : tw_X8_stops Q G M (Int32.ofInt p) := by
  unfold tw_X8_stops
  simp (disch := omega) only [n_nat, n_add, n_sub, n_mul, n_neg, n_le, n_lt, n_eq, n_div, n_tn, n_if, Int.cast_ofNat_Int, MM.o hM, MM.r0 hM, MM.r1 hM, MM.r2 hM, MM.r3 hM, MM.r4 hM, MM.r8 hM, MM.r9 hM, MM.r10 hM, MM.r13 hM, MM.r16 hM, MM.r21 hM, MM.r22 hM, MM.a1 hM, MM.a2 hM, MM.a3 hM, MM.a4 hM, MM.a5 hM, MM.a6 hM, MM.a7 hM, MM.a8 hM, MM.a9 hM, MM.a10 hM, MM.a11 hM, MM.a12 hM, MM.d1 hM, MM.d2 hM, MM.d3 hM, MM.d4 hM, MM.d5 hM, MM.d6 hM, MM.d7 hM, MM.d8 hM, MM.d9 hM, MM.d10 hM, MM.d11 hM, MM.d12 hM, MM.fl hM, true_and]
  unfold f_stop at h
  refine pm_isPlace hp ?_
  by_cases c : 0 ≤ p ∧ p ≤ 6
  · have hg := (hW.2.2.2.2.2.2.1 p c.1 c.2).1
    rw [Int.add_zero] at hg
    rw [bI_t c]
    rw [if_pos c, Int.add_zero] at h
    refine ⟨fun _ => ⟨hM.o, ?_⟩, fun e => absurd e (by decide)⟩
    simp (disch := omega) only [n_nat, n_add, n_sub, n_mul, n_neg, n_le, n_lt, n_eq, n_div, n_tn, n_if, Int.cast_ofNat_Int, MM.o hM, MM.r0 hM, MM.r1 hM, MM.r2 hM, MM.r3 hM, MM.r4 hM, MM.r8 hM, MM.r9 hM, MM.r10 hM, MM.r13 hM, MM.r16 hM, MM.r21 hM, MM.r22 hM, MM.a1 hM, MM.a2 hM, MM.a3 hM, MM.a4 hM, MM.a5 hM, MM.a6 hM, MM.a7 hM, MM.a8 hM, MM.a9 hM, MM.a10 hM, MM.a11 hM, MM.a12 hM, MM.d1 hM, MM.d2 hM, MM.d3 hM, MM.d4 hM, MM.d5 hM, MM.d6 hM, MM.d7 hM, MM.d8 hM, MM.d9 hM, MM.d10 hM, MM.d11 hM, MM.d12 hM, MM.fl hM, true_and]
    refine ⟨fun d => ?_, fun d => ?_⟩
    · rw [if_neg d] at h
      refine hM.wr (by omega) (by omega) (fun G1 hM1 => ?_)
      simp (disch := omega) only [n_nat, n_add, n_sub, n_mul, n_neg, n_le, n_lt, n_eq, n_div, n_tn, n_if, Int.cast_ofNat_Int, MM.o hM1, MM.r0 hM1, MM.r1 hM1, MM.r2 hM1, MM.r3 hM1, MM.r4 hM1, MM.r8 hM1, MM.r9 hM1, MM.r10 hM1, MM.r13 hM1, MM.r16 hM1, MM.r21 hM1, MM.r22 hM1, MM.a1 hM1, MM.a2 hM1, MM.a3 hM1, MM.a4 hM1, MM.a5 hM1, MM.a6 hM1, MM.a7 hM1, MM.a8 hM1, MM.a9 hM1, MM.a10 hM1, MM.a11 hM1, MM.a12 hM1, MM.d1 hM1, MM.d2 hM1, MM.d3 hM1, MM.d4 hM1, MM.d5 hM1, MM.d6 hM1, MM.d7 hM1, MM.d8 hM1, MM.d9 hM1, MM.d10 hM1, MM.d11 hM1, MM.d12 hM1, MM.fl hM1, true_and]
      rw [rep_at, ud_at]
      exact h G1 hM1
    · rw [if_pos d] at h
      exact pm_refuses hM (by omega) h
  · rw [bI_f c]
    rw [if_neg c, cmM_no] at h
    exact ⟨fun e => absurd rfl e, fun _ => h G hM⟩
theorem pm_comes14 {Q : Int32 → aH → Prop} (hM : MM G0 G M μ) {p : Int} (h : ∀ G1, MM G0 G1 M (rep μ 1 (ud (μ 1) 427 p)) → Q (Int32.ofInt (μ 1 427 + 1)) G1) : tw_X8_comes_b14 Q G M (Int32.ofInt p) := by
  unfold tw_X8_comes_b14
  simp (disch := omega) only [n_nat, n_add, n_sub, n_mul, n_neg, n_le, n_lt, n_eq, n_div, n_tn, n_if, Int.cast_ofNat_Int, MM.o hM, MM.r0 hM, MM.r1 hM, MM.r2 hM, MM.r3 hM, MM.r4 hM, MM.r8 hM, MM.r9 hM, MM.r10 hM, MM.r13 hM, MM.r16 hM, MM.r21 hM, MM.r22 hM, MM.a1 hM, MM.a2 hM, MM.a3 hM, MM.a4 hM, MM.a5 hM, MM.a6 hM, MM.a7 hM, MM.a8 hM, MM.a9 hM, MM.a10 hM, MM.a11 hM, MM.a12 hM, MM.d1 hM, MM.d2 hM, MM.d3 hM, MM.d4 hM, MM.d5 hM, MM.d6 hM, MM.d7 hM, MM.d8 hM, MM.d9 hM, MM.d10 hM, MM.d11 hM, MM.d12 hM, MM.fl hM, true_and]
  intro x hx
  subst hx
  refine hM.wr (by omega) (by omega) (fun G1 hM1 => ?_)
  simp (disch := omega) only [n_nat, n_add, n_sub, n_mul, n_neg, n_le, n_lt, n_eq, n_div, n_tn, n_if, Int.cast_ofNat_Int]
  exact h G1 hM1
theorem pm_comes {Q : Int32 → aH → Prop} (hM : MM G0 G M μ) {p : Int} (hp : -2147483648 ≤ p ∧ p < 2147483648) (h : ∀ G1, MM G0 G1 M (cmM μ (f_cat (μ 1) p)) → Q (Int32.ofInt (f_cat (μ 1) p).1) G1) : tw_X8_comes Q G M (Int32.ofInt p) := by
  unfold tw_X8_comes
  simp (disch := omega) only [n_nat, n_add, n_sub, n_mul, n_neg, n_le, n_lt, n_eq, n_div, n_tn, n_if, Int.cast_ofNat_Int, MM.o hM, MM.r0 hM, MM.r1 hM, MM.r2 hM, MM.r3 hM, MM.r4 hM, MM.r8 hM, MM.r9 hM, MM.r10 hM, MM.r13 hM, MM.r16 hM, MM.r21 hM, MM.r22 hM, MM.a1 hM, MM.a2 hM, MM.a3 hM, MM.a4 hM, MM.a5 hM, MM.a6 hM, MM.a7 hM, MM.a8 hM, MM.a9 hM, MM.a10 hM, MM.a11 hM, MM.a12 hM, MM.d1 hM, MM.d2 hM, MM.d3 hM, MM.d4 hM, MM.d5 hM, MM.d6 hM, MM.d7 hM, MM.d8 hM, MM.d9 hM, MM.d10 hM, MM.d11 hM, MM.d12 hM, MM.fl hM, true_and]
  unfold f_cat at h
  refine pm_isPlace hp ?_
  by_cases c : 0 ≤ p ∧ p ≤ 6
  · rw [bI_t c]
    rw [if_pos (by omega)] at h
    exact ⟨fun _ => pm_comes14 hM h, fun e => absurd e (by decide)⟩
  · rw [bI_f c]
    refine ⟨fun e => absurd rfl e, fun _ => ⟨fun e => ?_, fun e => ?_⟩⟩
    · rw [if_pos (by omega)] at h
      exact pm_comes14 hM h
    · rw [if_neg (by omega), cmM_no] at h
      exact h G hM
theorem pm_settles {Q : Int32 → aH → Prop} (hM : MM G0 G M μ) (hW : WI N (μ 1)) {p c : Int} (hp : -2147483648 ≤ p ∧ p < 2147483648) (hc : -2147483648 ≤ c ∧ c < 2147483648) (h : ∀ G1, MM G0 G1 M (cmM μ (f_settle (μ 1) p c)) → Q (Int32.ofInt (f_settle (μ 1) p c).1) G1) : tw_X8_settles Q G M (Int32.ofInt p) (Int32.ofInt c) := by
  have h0 := hW.2.1
  unfold tw_X8_settles
  simp (disch := omega) only [n_nat, n_neg, MM.o hM, MM.r0 hM, MM.r1 hM, MM.r2 hM, MM.r3 hM, MM.r4 hM, MM.r8 hM, MM.r9 hM, MM.r10 hM, MM.r13 hM, MM.r16 hM, MM.r21 hM, MM.r22 hM, MM.a1 hM, MM.a2 hM, MM.a3 hM, MM.a4 hM, MM.a5 hM, MM.a6 hM, MM.a7 hM, MM.a8 hM, MM.a9 hM, MM.a10 hM, MM.a11 hM, MM.a12 hM, MM.d1 hM, MM.d2 hM, MM.d3 hM, MM.d4 hM, MM.d5 hM, MM.d6 hM, MM.d7 hM, MM.d8 hM, MM.d9 hM, MM.d10 hM, MM.d11 hM, MM.d12 hM, MM.fl hM, true_and]
  unfold f_settle at h
  refine pm_isParish hM hp h0 ?_
  by_cases d : 0 ≤ p ∧ p < μ 1 0
  · obtain ⟨-, -, a3, -⟩ := hW.par d.1 (by omega)
    rw [bI_t d]
    rw [if_pos d] at h
    refine ⟨fun _ => pm_isIn hc (by omega) (by omega) ?_, fun e => absurd e (by decide)⟩
    by_cases g : 2 ≤ c ∧ c ≤ 998
    · rw [bI_t g]
      rw [if_pos g] at h
      refine ⟨fun e => absurd e (by decide), fun _ => ?_⟩
      simp (disch := omega) only [n_nat, n_add, n_sub, n_mul, n_neg, n_le, n_lt, n_eq, n_div, n_tn, n_if, Int.cast_ofNat_Int, MM.o hM, MM.r0 hM, MM.r1 hM, MM.r2 hM, MM.r3 hM, MM.r4 hM, MM.r8 hM, MM.r9 hM, MM.r10 hM, MM.r13 hM, MM.r16 hM, MM.r21 hM, MM.r22 hM, MM.a1 hM, MM.a2 hM, MM.a3 hM, MM.a4 hM, MM.a5 hM, MM.a6 hM, MM.a7 hM, MM.a8 hM, MM.a9 hM, MM.a10 hM, MM.a11 hM, MM.a12 hM, MM.d1 hM, MM.d2 hM, MM.d3 hM, MM.d4 hM, MM.d5 hM, MM.d6 hM, MM.d7 hM, MM.d8 hM, MM.d9 hM, MM.d10 hM, MM.d11 hM, MM.d12 hM, MM.fl hM, true_and]
      refine ⟨fun e => ?_, fun e => ?_⟩
      · rw [if_neg e] at h
        refine pm_of hM (by omega) (by omega) ?_
        simp (disch := omega) only [n_nat, n_add, n_sub, n_mul, n_neg, n_le, n_lt, n_eq, n_div, n_tn, n_if, Int.cast_ofNat_Int, MM.o hM, MM.r0 hM, MM.r1 hM, MM.r2 hM, MM.r3 hM, MM.r4 hM, MM.r8 hM, MM.r9 hM, MM.r10 hM, MM.r13 hM, MM.r16 hM, MM.r21 hM, MM.r22 hM, MM.a1 hM, MM.a2 hM, MM.a3 hM, MM.a4 hM, MM.a5 hM, MM.a6 hM, MM.a7 hM, MM.a8 hM, MM.a9 hM, MM.a10 hM, MM.a11 hM, MM.a12 hM, MM.d1 hM, MM.d2 hM, MM.d3 hM, MM.d4 hM, MM.d5 hM, MM.d6 hM, MM.d7 hM, MM.d8 hM, MM.d9 hM, MM.d10 hM, MM.d11 hM, MM.d12 hM, MM.fl hM, true_and]
        refine ⟨fun z => ?_, fun z => ?_⟩
        · rw [if_pos z] at h
          refine hM.wr (by omega) (by omega) (fun G1 hM1 => ?_)
          simp (disch := omega) only [n_nat, n_add, n_sub, n_mul, n_neg, n_le, n_lt, n_eq, n_div, n_tn, n_if, Int.cast_ofNat_Int, MM.o hM1, MM.r0 hM1, MM.r1 hM1, MM.r2 hM1, MM.r3 hM1, MM.r4 hM1, MM.r8 hM1, MM.r9 hM1, MM.r10 hM1, MM.r13 hM1, MM.r16 hM1, MM.r21 hM1, MM.r22 hM1, MM.a1 hM1, MM.a2 hM1, MM.a3 hM1, MM.a4 hM1, MM.a5 hM1, MM.a6 hM1, MM.a7 hM1, MM.a8 hM1, MM.a9 hM1, MM.a10 hM1, MM.a11 hM1, MM.a12 hM1, MM.d1 hM1, MM.d2 hM1, MM.d3 hM1, MM.d4 hM1, MM.d5 hM1, MM.d6 hM1, MM.d7 hM1, MM.d8 hM1, MM.d9 hM1, MM.d10 hM1, MM.d11 hM1, MM.d12 hM1, MM.fl hM1, true_and]
          refine hM1.wr (by omega) (by omega) (fun G2 hM2 => ?_)
          simp (disch := omega) only [MM.o hM2, MM.r0 hM2, MM.r1 hM2, MM.r2 hM2, MM.r3 hM2, MM.r4 hM2, MM.r8 hM2, MM.r9 hM2, MM.r10 hM2, MM.r13 hM2, MM.r16 hM2, MM.r21 hM2, MM.r22 hM2, MM.a1 hM2, MM.a2 hM2, MM.a3 hM2, MM.a4 hM2, MM.a5 hM2, MM.a6 hM2, MM.a7 hM2, MM.a8 hM2, MM.a9 hM2, MM.a10 hM2, MM.a11 hM2, MM.a12 hM2, MM.d1 hM2, MM.d2 hM2, MM.d3 hM2, MM.d4 hM2, MM.d5 hM2, MM.d6 hM2, MM.d7 hM2, MM.d8 hM2, MM.d9 hM2, MM.d10 hM2, MM.d11 hM2, MM.d12 hM2, MM.fl hM2, true_and]
          refine pm_of hM2 (by omega) (by omega) ?_
          rw [rep_rep, rep_at, ud_ne (by omega)] at hM2
          rw [rep_at, ud_ne (by omega), rep_at, ud_at]
          exact h G2 hM2
        · rw [if_neg z] at h
          exact pm_of hM (by omega) (by omega) ⟨hM.o, pm_refuses hM (by omega) h⟩
      · rw [if_pos e, cmM_no] at h
        exact h G hM
    · rw [bI_f g]
      rw [if_neg g, cmM_no] at h
      exact ⟨fun _ => h G hM, fun e => absurd rfl e⟩
  · rw [bI_f d]
    rw [if_neg d, cmM_no] at h
    exact ⟨fun e => absurd rfl e, fun _ => h G hM⟩
end MODEL
