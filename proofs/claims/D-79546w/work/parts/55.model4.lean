/-! PLAIN LAW: the model's public methods that ask -/
def q_par (w : Int → Int) (p what : Int) : Int := if what = 0 then w (1 + 23 * p + 0) else if what = 1 then w (1 + 23 * p + 1) else if what = 2 then dueW w p else if what = 3 then w (1 + 23 * p + 2) else if what = 4 then w (1 + 23 * p + 4) else if what = 5 then (if w (1 + 23 * p + 4) = 0 then -4 else w (1 + 23 * p + 5)) else if what = 6 then w (1 + 23 * p + 3) else if what = 7 then sF (inbW w p) 0 4 else if what = 8 then rnk w p else -2
def q_parishOf (w : Int → Int) (p what : Int) : Int := if 0 ≤ p ∧ p < w 0 then q_par w p what else -1
def q_floorOf (w : Int → Int) (f what : Int) : Int := if 0 ≤ f ∧ f ≤ 1 then (if 0 ≤ what ∧ what ≤ 3 then (if what = 1 ∧ w (383 + 4 * f + 0) = 0 then -4 else w (383 + 4 * f + what)) else -2) else -1
def q_binOf (w : Int → Int) (k what : Int) : Int := if 0 ≤ k ∧ k ≤ 2 then (if 0 ≤ what ∧ what ≤ 4 then w (391 + 5 * k + what) else -2) else -1
def q_placeOf (w : Int → Int) (p what : Int) : Int := if 0 ≤ p ∧ p ≤ 6 then (if 0 ≤ what ∧ what ≤ 2 then w (406 + 3 * p + what) else if what = 3 then bI (w 427 = p) else -2) else -1
def q_tithe (w : Int → Int) (p s : Int) : Int := if 0 ≤ p ∧ p < w 0 then (if 1 ≤ s ∧ s ≤ 999 then (w (1 + 23 * p + 1) + s) / 10 - w (1 + 23 * p + 1) / 10 else -2) else -1
def q_grain (w : Int → Int) (what : Int) : Int := if what = 0 then w 430 else if what = 1 then sumW w 1 else if what = 2 then sumW w 2 else if what = 3 then sumW w 3 else if what = 4 then w 431 else if what = 5 then w 432 else -2
def q_grainAgain (w : Int → Int) : Int := sumW w 1 + sumW w 2 + sumW w 3 + w 431 + w 432
def totW (w : Int → Int) (what : Int) : Int := sF (fun p => if what = 4 then sF (fun k => w (1 + 23 * p + (5 + 2 * k + 1))) 0 (w (1 + 23 * p + 4)).toNat else w (1 + 23 * p + what)) 0 (w 0).toNat
def plcW (w : Int → Int) (what : Int) : Int := sF (fun p => w (406 + 3 * p + what)) 0 7
def q_account (w : Int → Int) (typed rem what : Int) : Int := if what = 0 then w 0 else if what = 1 then w 428 else if what = 2 then w 429 else if what = 3 then totW w 4 else if what = 4 then totW w 2 else if what = 5 then sF (fun b => w (139 + 61 * b)) 0 4 else if what = 6 then w (383 + 4 * 0 + 0) + w (383 + 4 * 1 + 0) else if what = 7 then sumW w 3 else if what = 8 then plcW w 1 else if what = 9 then plcW w 0 else if what = 10 then w 427 + 1 else if what = 11 then w (391 + 5 * 0 + 2) + w (391 + 5 * 1 + 2) + w (391 + 5 * 2 + 2) else if what = 12 then typed else if what = 13 then rem else -2
section MODEL
variable {G0 G : aH} {M : Nat} {μ : Nat → Int → Int} {N : Int}
theorem pm_parishOf {Q : Int32 → aH → Prop} (hM : MM G0 G M μ) (hW : WI N (μ 1)) {p what : Int} (hp : -2147483648 ≤ p ∧ p < 2147483648) (hb : -2147483648 ≤ what ∧ what < 2147483648) (h : Q (Int32.ofInt (q_parishOf (μ 1) p what)) G) : tw_X8_parishOf Q G M (Int32.ofInt p) (Int32.ofInt what) := by
  have h0 := hW.2.1
  unfold tw_X8_parishOf
  simp (disch := omega) only [n_nat, n_add, n_sub, n_mul, n_neg, n_le, n_lt, n_eq, n_div, n_tn, n_if, Int.cast_ofNat_Int, MM.o hM, MM.r0 hM, MM.r1 hM, MM.r2 hM, MM.r3 hM, MM.r4 hM, MM.r8 hM, MM.r9 hM, MM.r10 hM, MM.r13 hM, MM.r16 hM, MM.r21 hM, MM.r22 hM, MM.a1 hM, MM.a2 hM, MM.a3 hM, MM.a4 hM, MM.a5 hM, MM.a6 hM, MM.a7 hM, MM.a8 hM, MM.a9 hM, MM.a10 hM, MM.a11 hM, MM.a12 hM, MM.d1 hM, MM.d2 hM, MM.d3 hM, MM.d4 hM, MM.d5 hM, MM.d6 hM, MM.d7 hM, MM.d8 hM, MM.d9 hM, MM.d10 hM, MM.d11 hM, MM.d12 hM, MM.fl hM, true_and]
  unfold q_parishOf at h
  refine pm_isParish hM hp h0 ?_
  by_cases c : 0 ≤ p ∧ p < μ 1 0
  · have hp6 : 0 ≤ p ∧ p < 6 := by omega
    obtain ⟨a1, -⟩ := hW.par hp6.1 hp6.2
    rw [bI_t c]
    rw [if_pos c] at h
    unfold q_par at h
    refine ⟨fun _ => ⟨fun e => by
      rw [if_pos e] at h
      subst e; exact ⟨hM.o, pm_of hM (by omega) (by omega) h⟩, fun e => by
      rw [if_neg (by omega), if_pos e] at h
      subst e; exact ⟨hM.o, pm_of hM (by omega) (by omega) h⟩, fun e => by
      rw [if_neg (by omega), if_neg (by omega), if_pos e] at h
      exact ⟨hM.o, pm_dueW hM hW hp6 h⟩, fun e => by
      rw [if_neg (by omega), if_neg (by omega), if_neg (by omega), if_pos e] at h
      subst e; exact ⟨hM.o, pm_of hM (by omega) (by omega) h⟩, fun e => by
      rw [if_neg (by omega), if_neg (by omega), if_neg (by omega), if_neg (by omega), if_pos e] at h
      subst e; exact ⟨hM.o, pm_of hM (by omega) (by omega) h⟩, fun e => by
      rw [if_neg (by omega), if_neg (by omega), if_neg (by omega), if_neg (by omega), if_neg (by omega), if_pos e] at h
      exact ⟨hM.o, pm_of hM (by omega) (by omega) ⟨fun d => ⟨hM.o, pm_of hM (by omega) (by omega) (by rw [n_eq (by omega) (by omega)] at d; rw [if_neg d] at h; exact h)⟩, fun d => by rw [n_eq (by omega) (by omega)] at d; rw [if_pos d] at h; exact h⟩⟩, fun e => by
      rw [if_neg (by omega), if_neg (by omega), if_neg (by omega), if_neg (by omega), if_neg (by omega), if_neg (by omega), if_pos e] at h
      subst e; exact ⟨hM.o, pm_of hM (by omega) (by omega) h⟩, fun e => by
      rw [if_neg (by omega), if_neg (by omega), if_neg (by omega), if_neg (by omega), if_neg (by omega), if_neg (by omega), if_neg (by omega), if_pos e] at h
      exact ⟨hM.o, pm_inBays hM hW hp6 h⟩, fun e => by
      rw [if_neg (by omega), if_neg (by omega), if_neg (by omega), if_neg (by omega), if_neg (by omega), if_neg (by omega), if_neg (by omega), if_neg (by omega), if_pos e] at h
      exact ⟨hM.o, pm_rankOf hM hW hp6 h⟩, fun e0 e1 e2 e3 e4 e5 e6 e7 e8 => by
      rw [if_neg (by omega), if_neg (by omega), if_neg (by omega), if_neg (by omega), if_neg (by omega), if_neg (by omega), if_neg (by omega), if_neg (by omega), if_neg (by omega)] at h
      exact h⟩, fun e => absurd e (by decide)⟩
  · rw [bI_f c]
    rw [if_neg c] at h
    exact ⟨fun e => absurd rfl e, fun _ => h⟩
theorem pm_floorOf {Q : Int32 → aH → Prop} (hM : MM G0 G M μ) (hW : WI N (μ 1)) {p what : Int} (hp : -2147483648 ≤ p ∧ p < 2147483648) (hb : -2147483648 ≤ what ∧ what < 2147483648) (h : Q (Int32.ofInt (q_floorOf (μ 1) p what)) G) : tw_X8_floorOf Q G M (Int32.ofInt p) (Int32.ofInt what) := by
  unfold tw_X8_floorOf
  simp (disch := omega) only [n_nat, n_add, n_sub, n_mul, n_neg, n_le, n_lt, n_eq, n_div, n_tn, n_if, Int.cast_ofNat_Int, MM.o hM, MM.r0 hM, MM.r1 hM, MM.r2 hM, MM.r3 hM, MM.r4 hM, MM.r8 hM, MM.r9 hM, MM.r10 hM, MM.r13 hM, MM.r16 hM, MM.r21 hM, MM.r22 hM, MM.a1 hM, MM.a2 hM, MM.a3 hM, MM.a4 hM, MM.a5 hM, MM.a6 hM, MM.a7 hM, MM.a8 hM, MM.a9 hM, MM.a10 hM, MM.a11 hM, MM.a12 hM, MM.d1 hM, MM.d2 hM, MM.d3 hM, MM.d4 hM, MM.d5 hM, MM.d6 hM, MM.d7 hM, MM.d8 hM, MM.d9 hM, MM.d10 hM, MM.d11 hM, MM.d12 hM, MM.fl hM, true_and]
  unfold q_floorOf at h
  refine pm_isFloor hp ?_
  by_cases c : 0 ≤ p ∧ p ≤ 1
  · have hf := hW.2.2.2.2.1 p c.1 c.2
    rw [bI_t c]
    rw [if_pos c] at h
    refine ⟨fun _ => pm_isIn hb (by omega) (by omega) ?_, fun e => absurd e (by decide)⟩
    by_cases d : 0 ≤ what ∧ what ≤ 3
    · rw [bI_t d]
      rw [if_pos d] at h
      refine ⟨fun _ => ⟨fun e => ?_, fun e => ⟨hM.o, pm_floor hM (by omega) (by omega) ⟨fun g => ?_, fun g => ?_⟩⟩⟩, fun e => absurd e (by decide)⟩
      · rw [if_neg (by omega)] at h
        exact ⟨hM.o, pm_floor hM (by omega) (by omega) h⟩
      · rw [n_eq (by omega) (by omega)] at g
        rw [if_neg (by omega)] at h
        exact ⟨hM.o, pm_floor hM (by omega) (by omega) h⟩
      · rw [n_eq (by omega) (by omega)] at g
        rw [if_pos ⟨e, g⟩] at h
        exact h
    · rw [bI_f d]
      rw [if_neg d] at h
      exact ⟨fun e => absurd rfl e, fun _ => h⟩
  · rw [bI_f c]
    rw [if_neg c] at h
    exact ⟨fun e => absurd rfl e, fun _ => h⟩
theorem pm_binOf {Q : Int32 → aH → Prop} (hM : MM G0 G M μ) {p what : Int} (hp : -2147483648 ≤ p ∧ p < 2147483648) (hb : -2147483648 ≤ what ∧ what < 2147483648) (h : Q (Int32.ofInt (q_binOf (μ 1) p what)) G) : tw_X8_binOf Q G M (Int32.ofInt p) (Int32.ofInt what) := by
  unfold tw_X8_binOf
  simp (disch := omega) only [n_nat, n_add, n_sub, n_mul, n_neg, n_le, n_lt, n_eq, n_div, n_tn, n_if, Int.cast_ofNat_Int, MM.o hM, MM.r0 hM, MM.r1 hM, MM.r2 hM, MM.r3 hM, MM.r4 hM, MM.r8 hM, MM.r9 hM, MM.r10 hM, MM.r13 hM, MM.r16 hM, MM.r21 hM, MM.r22 hM, MM.a1 hM, MM.a2 hM, MM.a3 hM, MM.a4 hM, MM.a5 hM, MM.a6 hM, MM.a7 hM, MM.a8 hM, MM.a9 hM, MM.a10 hM, MM.a11 hM, MM.a12 hM, MM.d1 hM, MM.d2 hM, MM.d3 hM, MM.d4 hM, MM.d5 hM, MM.d6 hM, MM.d7 hM, MM.d8 hM, MM.d9 hM, MM.d10 hM, MM.d11 hM, MM.d12 hM, MM.fl hM, true_and]
  unfold q_binOf at h
  refine pm_isKind hp ?_
  by_cases c : 0 ≤ p ∧ p ≤ 2
  · rw [bI_t c]
    rw [if_pos c] at h
    refine ⟨fun _ => pm_isIn hb (by omega) (by omega) ?_, fun e => absurd e (by decide)⟩
    by_cases d : 0 ≤ what ∧ what ≤ 4
    · rw [bI_t d]
      rw [if_pos d] at h
      exact ⟨fun e => absurd e (by decide), fun _ => ⟨hM.o, pm_store hM (by omega) (by omega) h⟩⟩
    · rw [bI_f d]
      rw [if_neg d] at h
      exact ⟨fun _ => h, fun e => absurd rfl e⟩
  · rw [bI_f c]
    rw [if_neg c] at h
    exact ⟨fun e => absurd rfl e, fun _ => h⟩
theorem pm_placeOf {Q : Int32 → aH → Prop} (hM : MM G0 G M μ) (hW : WI N (μ 1)) {p what : Int} (hp : -2147483648 ≤ p ∧ p < 2147483648) (hb : -2147483648 ≤ what ∧ what < 2147483648) (h : Q (Int32.ofInt (q_placeOf (μ 1) p what)) G) : tw_X8_placeOf Q G M (Int32.ofInt p) (Int32.ofInt what) := by
  have hc := hW.2.2.2.2.2.2.2.1
  unfold tw_X8_placeOf
  simp (disch := omega) only [n_nat, n_add, n_sub, n_mul, n_neg, n_le, n_lt, n_eq, n_div, n_tn, n_if, Int.cast_ofNat_Int, MM.o hM, MM.r0 hM, MM.r1 hM, MM.r2 hM, MM.r3 hM, MM.r4 hM, MM.r8 hM, MM.r9 hM, MM.r10 hM, MM.r13 hM, MM.r16 hM, MM.r21 hM, MM.r22 hM, MM.a1 hM, MM.a2 hM, MM.a3 hM, MM.a4 hM, MM.a5 hM, MM.a6 hM, MM.a7 hM, MM.a8 hM, MM.a9 hM, MM.a10 hM, MM.a11 hM, MM.a12 hM, MM.d1 hM, MM.d2 hM, MM.d3 hM, MM.d4 hM, MM.d5 hM, MM.d6 hM, MM.d7 hM, MM.d8 hM, MM.d9 hM, MM.d10 hM, MM.d11 hM, MM.d12 hM, MM.fl hM, true_and]
  unfold q_placeOf at h
  refine pm_isPlace hp ?_
  by_cases c : 0 ≤ p ∧ p ≤ 6
  · rw [bI_t c]
    rw [if_pos c] at h
    refine ⟨fun _ => pm_isIn hb (by omega) (by omega) ?_, fun e => absurd e (by decide)⟩
    by_cases d : 0 ≤ what ∧ what ≤ 2
    · rw [bI_t d]
      rw [if_pos d] at h
      refine ⟨fun e => absurd e (by decide), fun _ => ?_⟩
      simp (disch := omega) only [n_nat, n_add, n_sub, n_mul, n_neg, n_le, n_lt, n_eq, n_div, n_tn, n_if, Int.cast_ofNat_Int, MM.o hM, MM.r0 hM, MM.r1 hM, MM.r2 hM, MM.r3 hM, MM.r4 hM, MM.r8 hM, MM.r9 hM, MM.r10 hM, MM.r13 hM, MM.r16 hM, MM.r21 hM, MM.r22 hM, MM.a1 hM, MM.a2 hM, MM.a3 hM, MM.a4 hM, MM.a5 hM, MM.a6 hM, MM.a7 hM, MM.a8 hM, MM.a9 hM, MM.a10 hM, MM.a11 hM, MM.a12 hM, MM.d1 hM, MM.d2 hM, MM.d3 hM, MM.d4 hM, MM.d5 hM, MM.d6 hM, MM.d7 hM, MM.d8 hM, MM.d9 hM, MM.d10 hM, MM.d11 hM, MM.d12 hM, MM.fl hM, true_and]
      exact h
    · rw [bI_f d]
      rw [if_neg d] at h
      refine ⟨fun _ => ⟨fun e => ?_, fun e => ?_⟩, fun e => absurd rfl e⟩
      · rw [if_neg e] at h; exact h
      · rw [if_pos e] at h
        simp (disch := omega) only [n_nat, n_add, n_sub, n_mul, n_neg, n_le, n_lt, n_eq, n_div, n_tn, n_if, Int.cast_ofNat_Int, MM.o hM, MM.r0 hM, MM.r1 hM, MM.r2 hM, MM.r3 hM, MM.r4 hM, MM.r8 hM, MM.r9 hM, MM.r10 hM, MM.r13 hM, MM.r16 hM, MM.r21 hM, MM.r22 hM, MM.a1 hM, MM.a2 hM, MM.a3 hM, MM.a4 hM, MM.a5 hM, MM.a6 hM, MM.a7 hM, MM.a8 hM, MM.a9 hM, MM.a10 hM, MM.a11 hM, MM.a12 hM, MM.d1 hM, MM.d2 hM, MM.d3 hM, MM.d4 hM, MM.d5 hM, MM.d6 hM, MM.d7 hM, MM.d8 hM, MM.d9 hM, MM.d10 hM, MM.d11 hM, MM.d12 hM, MM.fl hM, true_and]
        refine ⟨fun g => ?_, fun g => ?_⟩
        · rw [bI_f g] at h; exact h
        · rw [bI_t g] at h; exact h
  · rw [bI_f c]
    rw [if_neg c] at h
    exact ⟨fun e => absurd rfl e, fun _ => h⟩
theorem pm_becomeDue {Q : Int32 → aH → Prop} (hM : MM G0 G M μ) (hW : WI N (μ 1)) {p s : Int} (hp : 0 ≤ p ∧ p < 6) (hs : 1 ≤ s ∧ s ≤ 999) (h : Q (Int32.ofInt ((μ 1 (1 + 23 * p + 1) + s) / 10 - μ 1 (1 + 23 * p + 1) / 10)) G) : tw_X8_becomeDue Q G M (Int32.ofInt p) (Int32.ofInt s) := by
  obtain ⟨-, -, -, -, a5, -⟩ := hW.par hp.1 hp.2
  unfold tw_X8_becomeDue
  simp (disch := omega) only [n_nat, n_add, n_sub, n_mul, n_neg, n_le, n_lt, n_eq, n_div, n_tn, n_if, Int.cast_ofNat_Int, MM.o hM, MM.r0 hM, MM.r1 hM, MM.r2 hM, MM.r3 hM, MM.r4 hM, MM.r8 hM, MM.r9 hM, MM.r10 hM, MM.r13 hM, MM.r16 hM, MM.r21 hM, MM.r22 hM, MM.a1 hM, MM.a2 hM, MM.a3 hM, MM.a4 hM, MM.a5 hM, MM.a6 hM, MM.a7 hM, MM.a8 hM, MM.a9 hM, MM.a10 hM, MM.a11 hM, MM.a12 hM, MM.d1 hM, MM.d2 hM, MM.d3 hM, MM.d4 hM, MM.d5 hM, MM.d6 hM, MM.d7 hM, MM.d8 hM, MM.d9 hM, MM.d10 hM, MM.d11 hM, MM.d12 hM, MM.fl hM, true_and]
  refine pm_of hM (by omega) (by omega) ⟨hM.o, pm_of hM (by omega) (by omega) ?_⟩
  simp (disch := omega) only [n_nat, n_add, n_sub, n_mul, n_neg, n_le, n_lt, n_eq, n_div, n_tn, n_if, Int.cast_ofNat_Int]
  exact h
theorem pm_tithe {Q : Int32 → aH → Prop} (hM : MM G0 G M μ) (hW : WI N (μ 1)) {p s : Int} (hp : -2147483648 ≤ p ∧ p < 2147483648) (hb : -2147483648 ≤ s ∧ s < 2147483648) (h : Q (Int32.ofInt (q_tithe (μ 1) p s)) G) : tw_X8_tithe Q G M (Int32.ofInt p) (Int32.ofInt s) := by
  have h0 := hW.2.1
  unfold tw_X8_tithe
  simp (disch := omega) only [n_nat, n_add, n_sub, n_mul, n_neg, n_le, n_lt, n_eq, n_div, n_tn, n_if, Int.cast_ofNat_Int, MM.o hM, MM.r0 hM, MM.r1 hM, MM.r2 hM, MM.r3 hM, MM.r4 hM, MM.r8 hM, MM.r9 hM, MM.r10 hM, MM.r13 hM, MM.r16 hM, MM.r21 hM, MM.r22 hM, MM.a1 hM, MM.a2 hM, MM.a3 hM, MM.a4 hM, MM.a5 hM, MM.a6 hM, MM.a7 hM, MM.a8 hM, MM.a9 hM, MM.a10 hM, MM.a11 hM, MM.a12 hM, MM.d1 hM, MM.d2 hM, MM.d3 hM, MM.d4 hM, MM.d5 hM, MM.d6 hM, MM.d7 hM, MM.d8 hM, MM.d9 hM, MM.d10 hM, MM.d11 hM, MM.d12 hM, MM.fl hM, true_and]
  unfold q_tithe at h
  refine pm_isParish hM hp h0 ?_
  by_cases c : 0 ≤ p ∧ p < μ 1 0
  · rw [bI_t c]
    rw [if_pos c] at h
    refine ⟨fun _ => pm_isIn hb (by omega) (by omega) ?_, fun e => absurd e (by decide)⟩
    by_cases d : 1 ≤ s ∧ s ≤ 999
    · rw [bI_t d]
      rw [if_pos d] at h
      exact ⟨fun e => absurd e (by decide), fun _ => ⟨hM.o, pm_becomeDue hM hW (by omega) d h⟩⟩
    · rw [bI_f d]
      rw [if_neg d] at h
      exact ⟨fun _ => h, fun e => absurd rfl e⟩
  · rw [bI_f c]
    rw [if_neg c] at h
    exact ⟨fun e => absurd rfl e, fun _ => h⟩
theorem pm_titheAgain {Q : Int32 → aH → Prop} (hM : MM G0 G M μ) (hW : WI N (μ 1)) {p s : Int} (hp : -2147483648 ≤ p ∧ p < 2147483648) (hb : -2147483648 ≤ s ∧ s < 2147483648) (h : Q (Int32.ofInt (q_tithe (μ 1) p s)) G) : tw_X8_titheAgain Q G M (Int32.ofInt p) (Int32.ofInt s) := by
  unfold tw_X8_titheAgain
  exact ⟨hM.o, pm_tithe hM hW hp hb h⟩
theorem pm_grain {Q : Int32 → aH → Prop} (hM : MM G0 G M μ) (hW : WI N (μ 1)) {what : Int} (hb : -2147483648 ≤ what ∧ what < 2147483648) (h : Q (Int32.ofInt (q_grain (μ 1) what)) G) : tw_X8_grain Q G M (Int32.ofInt what) := by
  unfold tw_X8_grain
  simp (disch := omega) only [n_nat, n_add, n_sub, n_mul, n_neg, n_le, n_lt, n_eq, n_div, n_tn, n_if, Int.cast_ofNat_Int, true_and]
  unfold q_grain at h
  exact ⟨fun e => by
    rw [if_pos e] at h
    simp (disch := omega) only [n_nat, n_add, n_sub, n_mul, n_neg, n_le, n_lt, n_eq, n_div, n_tn, n_if, Int.cast_ofNat_Int, MM.o hM, MM.r0 hM, MM.r1 hM, MM.r2 hM, MM.r3 hM, MM.r4 hM, MM.r8 hM, MM.r9 hM, MM.r10 hM, MM.r13 hM, MM.r16 hM, MM.r21 hM, MM.r22 hM, MM.a1 hM, MM.a2 hM, MM.a3 hM, MM.a4 hM, MM.a5 hM, MM.a6 hM, MM.a7 hM, MM.a8 hM, MM.a9 hM, MM.a10 hM, MM.a11 hM, MM.a12 hM, MM.d1 hM, MM.d2 hM, MM.d3 hM, MM.d4 hM, MM.d5 hM, MM.d6 hM, MM.d7 hM, MM.d8 hM, MM.d9 hM, MM.d10 hM, MM.d11 hM, MM.d12 hM, MM.fl hM, true_and]; exact h, fun e => by
    rw [if_neg (by omega), if_pos e] at h
    subst e; exact ⟨hM.o, pm_sum hM hW (by omega) h⟩, fun e => by
    rw [if_neg (by omega), if_neg (by omega), if_pos e] at h
    subst e; exact ⟨hM.o, pm_sum hM hW (by omega) h⟩, fun e => by
    rw [if_neg (by omega), if_neg (by omega), if_neg (by omega), if_pos e] at h
    subst e; exact ⟨hM.o, pm_sum hM hW (by omega) h⟩, fun e => by
    rw [if_neg (by omega), if_neg (by omega), if_neg (by omega), if_neg (by omega), if_pos e] at h
    simp (disch := omega) only [n_nat, n_add, n_sub, n_mul, n_neg, n_le, n_lt, n_eq, n_div, n_tn, n_if, Int.cast_ofNat_Int, MM.o hM, MM.r0 hM, MM.r1 hM, MM.r2 hM, MM.r3 hM, MM.r4 hM, MM.r8 hM, MM.r9 hM, MM.r10 hM, MM.r13 hM, MM.r16 hM, MM.r21 hM, MM.r22 hM, MM.a1 hM, MM.a2 hM, MM.a3 hM, MM.a4 hM, MM.a5 hM, MM.a6 hM, MM.a7 hM, MM.a8 hM, MM.a9 hM, MM.a10 hM, MM.a11 hM, MM.a12 hM, MM.d1 hM, MM.d2 hM, MM.d3 hM, MM.d4 hM, MM.d5 hM, MM.d6 hM, MM.d7 hM, MM.d8 hM, MM.d9 hM, MM.d10 hM, MM.d11 hM, MM.d12 hM, MM.fl hM, true_and]; exact h, fun e => by
    rw [if_neg (by omega), if_neg (by omega), if_neg (by omega), if_neg (by omega), if_neg (by omega), if_pos e] at h
    simp (disch := omega) only [n_nat, n_add, n_sub, n_mul, n_neg, n_le, n_lt, n_eq, n_div, n_tn, n_if, Int.cast_ofNat_Int, MM.o hM, MM.r0 hM, MM.r1 hM, MM.r2 hM, MM.r3 hM, MM.r4 hM, MM.r8 hM, MM.r9 hM, MM.r10 hM, MM.r13 hM, MM.r16 hM, MM.r21 hM, MM.r22 hM, MM.a1 hM, MM.a2 hM, MM.a3 hM, MM.a4 hM, MM.a5 hM, MM.a6 hM, MM.a7 hM, MM.a8 hM, MM.a9 hM, MM.a10 hM, MM.a11 hM, MM.a12 hM, MM.d1 hM, MM.d2 hM, MM.d3 hM, MM.d4 hM, MM.d5 hM, MM.d6 hM, MM.d7 hM, MM.d8 hM, MM.d9 hM, MM.d10 hM, MM.d11 hM, MM.d12 hM, MM.fl hM, true_and]; exact h, fun e0 e1 e2 e3 e4 e5 => by
    rw [if_neg (by omega), if_neg (by omega), if_neg (by omega), if_neg (by omega), if_neg (by omega), if_neg (by omega)] at h
    exact h⟩
theorem pm_grainAgain {Q : Int32 → aH → Prop} (hM : MM G0 G M μ) (hW : WI N (μ 1)) (h : Q (Int32.ofInt (q_grainAgain (μ 1))) G) : tw_X8_grainAgain Q G M := by
  unfold tw_X8_grainAgain
  simp (disch := omega) only [n_nat, n_add, n_sub, n_mul, n_neg, n_le, n_lt, n_eq, n_div, n_tn, n_if, Int.cast_ofNat_Int, MM.o hM, MM.r0 hM, MM.r1 hM, MM.r2 hM, MM.r3 hM, MM.r4 hM, MM.r8 hM, MM.r9 hM, MM.r10 hM, MM.r13 hM, MM.r16 hM, MM.r21 hM, MM.r22 hM, MM.a1 hM, MM.a2 hM, MM.a3 hM, MM.a4 hM, MM.a5 hM, MM.a6 hM, MM.a7 hM, MM.a8 hM, MM.a9 hM, MM.a10 hM, MM.a11 hM, MM.a12 hM, MM.d1 hM, MM.d2 hM, MM.d3 hM, MM.d4 hM, MM.d5 hM, MM.d6 hM, MM.d7 hM, MM.d8 hM, MM.d9 hM, MM.d10 hM, MM.d11 hM, MM.d12 hM, MM.fl hM, true_and]
  refine pm_sum hM hW (by omega) ⟨hM.o, pm_sum hM hW (by omega) ⟨hM.o, pm_sum hM hW (by omega) ?_⟩⟩
  simp (disch := omega) only [n_nat, n_add, n_sub, n_mul, n_neg, n_le, n_lt, n_eq, n_div, n_tn, n_if, Int.cast_ofNat_Int, MM.o hM, MM.r0 hM, MM.r1 hM, MM.r2 hM, MM.r3 hM, MM.r4 hM, MM.r8 hM, MM.r9 hM, MM.r10 hM, MM.r13 hM, MM.r16 hM, MM.r21 hM, MM.r22 hM, MM.a1 hM, MM.a2 hM, MM.a3 hM, MM.a4 hM, MM.a5 hM, MM.a6 hM, MM.a7 hM, MM.a8 hM, MM.a9 hM, MM.a10 hM, MM.a11 hM, MM.a12 hM, MM.d1 hM, MM.d2 hM, MM.d3 hM, MM.d4 hM, MM.d5 hM, MM.d6 hM, MM.d7 hM, MM.d8 hM, MM.d9 hM, MM.d10 hM, MM.d11 hM, MM.d12 hM, MM.fl hM, true_and]
  exact h
theorem pm_account {Q : Int32 → aH → Prop} (hM : MM G0 G M μ) (hW : WI N (μ 1)) {what : Int} (hb : -2147483648 ≤ what ∧ what < 2147483648) (h : Q (Int32.ofInt (q_account (μ 1) (μ 0 11) (μ 0 6) what)) G) : tw_X8_account Q G M (Int32.ofInt what) := by
  have h0 := hW.2.1
  have hm : ∀ p, 0 ≤ p → p < 6 → 0 ≤ μ 1 (1 + 23 * p + 4) ∧ μ 1 (1 + 23 * p + 4) ≤ 8 := fun p h1 h2 => (hW.par h1 h2).1
  unfold tw_X8_account
  simp (disch := omega) only [n_nat, n_add, n_sub, n_mul, n_neg, n_le, n_lt, n_eq, n_div, n_tn, n_if, Int.cast_ofNat_Int, true_and]
  unfold q_account at h
  exact ⟨fun e => by
    rw [if_pos e] at h
    simp (disch := omega) only [n_nat, n_add, n_sub, n_mul, n_neg, n_le, n_lt, n_eq, n_div, n_tn, n_if, Int.cast_ofNat_Int, MM.o hM, MM.r0 hM, MM.r1 hM, MM.r2 hM, MM.r3 hM, MM.r4 hM, MM.r8 hM, MM.r9 hM, MM.r10 hM, MM.r13 hM, MM.r16 hM, MM.r21 hM, MM.r22 hM, MM.a1 hM, MM.a2 hM, MM.a3 hM, MM.a4 hM, MM.a5 hM, MM.a6 hM, MM.a7 hM, MM.a8 hM, MM.a9 hM, MM.a10 hM, MM.a11 hM, MM.a12 hM, MM.d1 hM, MM.d2 hM, MM.d3 hM, MM.d4 hM, MM.d5 hM, MM.d6 hM, MM.d7 hM, MM.d8 hM, MM.d9 hM, MM.d10 hM, MM.d11 hM, MM.d12 hM, MM.fl hM, true_and]; exact h, fun e => by
    rw [if_neg (by omega), if_pos e] at h
    simp (disch := omega) only [n_nat, n_add, n_sub, n_mul, n_neg, n_le, n_lt, n_eq, n_div, n_tn, n_if, Int.cast_ofNat_Int, MM.o hM, MM.r0 hM, MM.r1 hM, MM.r2 hM, MM.r3 hM, MM.r4 hM, MM.r8 hM, MM.r9 hM, MM.r10 hM, MM.r13 hM, MM.r16 hM, MM.r21 hM, MM.r22 hM, MM.a1 hM, MM.a2 hM, MM.a3 hM, MM.a4 hM, MM.a5 hM, MM.a6 hM, MM.a7 hM, MM.a8 hM, MM.a9 hM, MM.a10 hM, MM.a11 hM, MM.a12 hM, MM.d1 hM, MM.d2 hM, MM.d3 hM, MM.d4 hM, MM.d5 hM, MM.d6 hM, MM.d7 hM, MM.d8 hM, MM.d9 hM, MM.d10 hM, MM.d11 hM, MM.d12 hM, MM.fl hM, true_and]; exact h, fun e => by
    rw [if_neg (by omega), if_neg (by omega), if_pos e] at h
    simp (disch := omega) only [n_nat, n_add, n_sub, n_mul, n_neg, n_le, n_lt, n_eq, n_div, n_tn, n_if, Int.cast_ofNat_Int, MM.o hM, MM.r0 hM, MM.r1 hM, MM.r2 hM, MM.r3 hM, MM.r4 hM, MM.r8 hM, MM.r9 hM, MM.r10 hM, MM.r13 hM, MM.r16 hM, MM.r21 hM, MM.r22 hM, MM.a1 hM, MM.a2 hM, MM.a3 hM, MM.a4 hM, MM.a5 hM, MM.a6 hM, MM.a7 hM, MM.a8 hM, MM.a9 hM, MM.a10 hM, MM.a11 hM, MM.a12 hM, MM.d1 hM, MM.d2 hM, MM.d3 hM, MM.d4 hM, MM.d5 hM, MM.d6 hM, MM.d7 hM, MM.d8 hM, MM.d9 hM, MM.d10 hM, MM.d11 hM, MM.d12 hM, MM.fl hM, true_and]; exact h, fun e => by
    rw [if_neg (by omega), if_neg (by omega), if_neg (by omega), if_pos e] at h
    exact ⟨hM.o, pm_total hM h0 (by omega) (by omega) hm h⟩, fun e => by
    rw [if_neg (by omega), if_neg (by omega), if_neg (by omega), if_neg (by omega), if_pos e] at h
    exact ⟨hM.o, pm_total hM h0 (by omega) (by omega) hm h⟩, fun e => by
    rw [if_neg (by omega), if_neg (by omega), if_neg (by omega), if_neg (by omega), if_neg (by omega), if_pos e] at h
    exact ⟨hM.o, pm_allInBays hM h⟩, fun e => by
    rw [if_neg (by omega), if_neg (by omega), if_neg (by omega), if_neg (by omega), if_neg (by omega), if_neg (by omega), if_pos e] at h
    exact ⟨hM.o, pm_onFloors hM h⟩, fun e => by
    rw [if_neg (by omega), if_neg (by omega), if_neg (by omega), if_neg (by omega), if_neg (by omega), if_neg (by omega), if_neg (by omega), if_pos e] at h
    exact ⟨hM.o, pm_sum hM hW (by omega) h⟩, fun e => by
    rw [if_neg (by omega), if_neg (by omega), if_neg (by omega), if_neg (by omega), if_neg (by omega), if_neg (by omega), if_neg (by omega), if_neg (by omega), if_pos e] at h
    exact ⟨hM.o, pm_allAt hM (by omega) (by omega) h⟩, fun e => by
    rw [if_neg (by omega), if_neg (by omega), if_neg (by omega), if_neg (by omega), if_neg (by omega), if_neg (by omega), if_neg (by omega), if_neg (by omega), if_neg (by omega), if_pos e] at h
    exact ⟨hM.o, pm_allAt hM (by omega) (by omega) h⟩, fun e => by
    rw [if_neg (by omega), if_neg (by omega), if_neg (by omega), if_neg (by omega), if_neg (by omega), if_neg (by omega), if_neg (by omega), if_neg (by omega), if_neg (by omega), if_neg (by omega), if_pos e] at h
    simp (disch := omega) only [n_nat, n_add, n_sub, n_mul, n_neg, n_le, n_lt, n_eq, n_div, n_tn, n_if, Int.cast_ofNat_Int, MM.o hM, MM.r0 hM, MM.r1 hM, MM.r2 hM, MM.r3 hM, MM.r4 hM, MM.r8 hM, MM.r9 hM, MM.r10 hM, MM.r13 hM, MM.r16 hM, MM.r21 hM, MM.r22 hM, MM.a1 hM, MM.a2 hM, MM.a3 hM, MM.a4 hM, MM.a5 hM, MM.a6 hM, MM.a7 hM, MM.a8 hM, MM.a9 hM, MM.a10 hM, MM.a11 hM, MM.a12 hM, MM.d1 hM, MM.d2 hM, MM.d3 hM, MM.d4 hM, MM.d5 hM, MM.d6 hM, MM.d7 hM, MM.d8 hM, MM.d9 hM, MM.d10 hM, MM.d11 hM, MM.d12 hM, MM.fl hM, true_and]; exact h, fun e => by
    rw [if_neg (by omega), if_neg (by omega), if_neg (by omega), if_neg (by omega), if_neg (by omega), if_neg (by omega), if_neg (by omega), if_neg (by omega), if_neg (by omega), if_neg (by omega), if_neg (by omega), if_pos e] at h
    exact ⟨hM.o, pm_bushels hM h⟩, fun e => by
    rw [if_neg (by omega), if_neg (by omega), if_neg (by omega), if_neg (by omega), if_neg (by omega), if_neg (by omega), if_neg (by omega), if_neg (by omega), if_neg (by omega), if_neg (by omega), if_neg (by omega), if_neg (by omega), if_pos e] at h
    simp (disch := omega) only [n_nat, n_add, n_sub, n_mul, n_neg, n_le, n_lt, n_eq, n_div, n_tn, n_if, Int.cast_ofNat_Int, MM.o hM, MM.r0 hM, MM.r1 hM, MM.r2 hM, MM.r3 hM, MM.r4 hM, MM.r8 hM, MM.r9 hM, MM.r10 hM, MM.r13 hM, MM.r16 hM, MM.r21 hM, MM.r22 hM, MM.a1 hM, MM.a2 hM, MM.a3 hM, MM.a4 hM, MM.a5 hM, MM.a6 hM, MM.a7 hM, MM.a8 hM, MM.a9 hM, MM.a10 hM, MM.a11 hM, MM.a12 hM, MM.d1 hM, MM.d2 hM, MM.d3 hM, MM.d4 hM, MM.d5 hM, MM.d6 hM, MM.d7 hM, MM.d8 hM, MM.d9 hM, MM.d10 hM, MM.d11 hM, MM.d12 hM, MM.fl hM, true_and]; exact h, fun e => by
    rw [if_neg (by omega), if_neg (by omega), if_neg (by omega), if_neg (by omega), if_neg (by omega), if_neg (by omega), if_neg (by omega), if_neg (by omega), if_neg (by omega), if_neg (by omega), if_neg (by omega), if_neg (by omega), if_neg (by omega), if_pos e] at h
    simp (disch := omega) only [n_nat, n_add, n_sub, n_mul, n_neg, n_le, n_lt, n_eq, n_div, n_tn, n_if, Int.cast_ofNat_Int, MM.o hM, MM.r0 hM, MM.r1 hM, MM.r2 hM, MM.r3 hM, MM.r4 hM, MM.r8 hM, MM.r9 hM, MM.r10 hM, MM.r13 hM, MM.r16 hM, MM.r21 hM, MM.r22 hM, MM.a1 hM, MM.a2 hM, MM.a3 hM, MM.a4 hM, MM.a5 hM, MM.a6 hM, MM.a7 hM, MM.a8 hM, MM.a9 hM, MM.a10 hM, MM.a11 hM, MM.a12 hM, MM.d1 hM, MM.d2 hM, MM.d3 hM, MM.d4 hM, MM.d5 hM, MM.d6 hM, MM.d7 hM, MM.d8 hM, MM.d9 hM, MM.d10 hM, MM.d11 hM, MM.d12 hM, MM.fl hM, true_and]; exact h, fun e0 e1 e2 e3 e4 e5 e6 e7 e8 e9 e10 e11 e12 e13 => by
    rw [if_neg (by omega), if_neg (by omega), if_neg (by omega), if_neg (by omega), if_neg (by omega), if_neg (by omega), if_neg (by omega), if_neg (by omega), if_neg (by omega), if_neg (by omega), if_neg (by omega), if_neg (by omega), if_neg (by omega), if_neg (by omega)] at h
    exact h⟩
end MODEL
