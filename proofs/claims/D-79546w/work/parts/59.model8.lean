/-! PLAIN LAW: the model's commands, on -/
def sttM (μ : Nat → Int → Int) : Nat → Int → Int := rep (rep μ 2 (μ 1)) 0 (ud (μ 0) 15 0)
theorem sttM_1 (μ : Nat → Int → Int) : sttM μ 1 = μ 1 := by
  unfold sttM
  rw [rep_ne (by omega), rep_ne (by omega)]
/-- a call: what stands behind it -/
def caM (μ : Nat → Int → Int) (o : oC) : Nat → Int → Int := enM (cmM (sttM μ) o) o.1
theorem cmM_6 (μ : Nat → Int → Int) (o : oC) : cmM μ o 0 6 = μ 0 6 := by
  obtain ⟨a, w, q⟩ := o
  cases q with
  | none => show rep μ 1 w 0 6 = _; rw [rep_ne (by omega)]
  | some q => show rfM μ q.1 q.2.1 q.2.2.1 q.2.2.2 0 6 = _; unfold rfM; rw [rep_ne (by omega), rep_at, ud_ne (by omega)]
theorem cmM_15 (μ : Nat → Int → Int) (o : oC) (h : 0 ≤ μ 0 15 ∧ μ 0 15 ≤ 2) : 0 ≤ cmM μ o 0 15 ∧ cmM μ o 0 15 ≤ 2 := by
  obtain ⟨a, w, q⟩ := o
  cases q with
  | none => rw [show cmM μ (a, w, none) 0 15 = rep μ 1 w 0 15 from rfl, rep_ne (by omega)]; exact h
  | some q =>
    rw [show cmM μ (a, w, some q) 0 15 = rfM μ q.1 q.2.1 q.2.2.1 q.2.2.2 0 15 from rfl]
    unfold rfM
    rw [rep_ne (by omega), rep_at, ud_at]
    split <;> omega
theorem sttM_6 (μ : Nat → Int → Int) : sttM μ 0 6 = μ 0 6 := by
  unfold sttM
  rw [rep_at, ud_ne (by omega)]
theorem sttM_15 (μ : Nat → Int → Int) : sttM μ 0 15 = 0 := by
  unfold sttM
  rw [rep_at, ud_at]
def f_set (w : Int → Int) (at_ v : Int) : oC := (w at_, ud w at_ v, none)
def f_harvest (w : Int → Int) (p s : Int) : oC := if 0 ≤ p ∧ p < w 0 then (if 1 ≤ s ∧ s ≤ 999 then
    (let due := (w (1 + 23 * p + 1) + s) / 10 - w (1 + 23 * p + 1) / 10
     let many := w (1 + 23 * p + 4)
     let w1 := ud w (1 + 23 * p + 1) (w (1 + 23 * p + 1) + s)
     if due ≤ 0 then (due, w1, none)
     else if many = 0 ∨ ¬ w (1 + 23 * p + 5 + 2 * (many - 1)) = w 428 then (due, ud (ud (ud (ud w1 (1 + 23 * p + 5 + 2 * many) (w 428)) (1 + 23 * p + 5 + 2 * many + 1) 0) (1 + 23 * p + 4) (many + 1)) (1 + 23 * p + 5 + 2 * many + 1) (0 + due), none)
     else (due, ud w1 (1 + 23 * p + 5 + 2 * (many - 1) + 1) (w (1 + 23 * p + 5 + 2 * (many - 1) + 1) + due), none))
    else noC w (-2)) else noC w (-1)
section MODEL
variable {G0 G : aH} {M : Nat} {μ : Nat → Int → Int} {N : Int}
theorem pm_sells44 {Q : Int32 → aH → Prop} (hM : MM G0 G M μ) (hW : WI N (μ 1)) {k n h m : Int} (hk : 0 ≤ k ∧ k ≤ 2) (hn : 1 ≤ n ∧ n ≤ 30) (hh : 0 ≤ h ∧ h ≤ 1) (hm : m = if h = 1 then 72 else 64) (hQ : ∀ G1, MM G0 G1 M (cmM μ (f_sell (μ 1) k n h)) → Q (Int32.ofInt (f_sell (μ 1) k n h).1) G1) : tw_X8_sells_b44 Q G M (Int32.ofInt k) (Int32.ofInt n) (Int32.ofInt h) (Int32.ofInt m) (Int32.ofInt n) := by
  have hs := hW.2.2.2.2.2.1 k hk.1 hk.2
  have hr := (hW.2.2.2.2.2.2.1 (4 + k) (by omega) (by omega)).2
  have hm2 : 64 ≤ m ∧ m ≤ 72 := by rw [hm]; split <;> omega
  have hnm : 0 ≤ n * m ∧ n * m ≤ 2160 := ⟨Int.mul_nonneg (by omega) (by omega), by
    have := Int.mul_le_mul (a := n) (b := m) (c := 30) (d := 72) (by omega) (by omega) (by omega) (by omega)
    omega⟩
  unfold tw_X8_sells_b44
  unfold f_sell at hQ
  rw [if_pos hk, if_pos hn, if_pos hh, ← hm] at hQ
  simp (disch := omega) only [n_nat, n_add, n_sub, n_mul, n_neg, n_le, n_lt, n_eq, n_div, n_tn, n_if, Int.cast_ofNat_Int]
  intro x hx
  subst hx
  refine ⟨hM.o, pm_rats hM (by omega) (by omega) ⟨hM.o, pm_store hM (by omega) (by omega) ⟨fun c => ?_, fun c => ?_⟩⟩⟩ <;> rw [n_le (by omega) (by omega)] at c
  · rw [if_pos c] at hQ
    refine ⟨hM.o, pm_store hM (by omega) (by omega) ?_⟩
    simp (disch := omega) only [n_nat, n_add, n_sub, n_mul, n_neg, n_le, n_lt, n_eq, n_div, n_tn, n_if, Int.cast_ofNat_Int, MM.o hM, MM.r0 hM, MM.r1 hM, MM.r2 hM, MM.r3 hM, MM.r4 hM, MM.r8 hM, MM.r9 hM, MM.r10 hM, MM.r13 hM, MM.r16 hM, MM.r21 hM, MM.r22 hM, MM.a1 hM, MM.a2 hM, MM.a3 hM, MM.a4 hM, MM.a5 hM, MM.a6 hM, MM.a7 hM, MM.a8 hM, MM.a9 hM, MM.a10 hM, MM.a11 hM, MM.a12 hM, MM.d1 hM, MM.d2 hM, MM.d3 hM, MM.d4 hM, MM.d5 hM, MM.d6 hM, MM.d7 hM, MM.d8 hM, MM.d9 hM, MM.d10 hM, MM.d11 hM, MM.d12 hM, MM.fl hM, true_and]
    intro x hx
    subst hx
    refine hM.wr (by omega) (by omega) (fun G1 hM1 => ?_)
    simp (disch := omega) only [n_nat, n_add, n_sub, n_mul, n_neg, n_le, n_lt, n_eq, n_div, n_tn, n_if, Int.cast_ofNat_Int, MM.o hM1, MM.r0 hM1, MM.r1 hM1, MM.r2 hM1, MM.r3 hM1, MM.r4 hM1, MM.r8 hM1, MM.r9 hM1, MM.r10 hM1, MM.r13 hM1, MM.r16 hM1, MM.r21 hM1, MM.r22 hM1, MM.a1 hM1, MM.a2 hM1, MM.a3 hM1, MM.a4 hM1, MM.a5 hM1, MM.a6 hM1, MM.a7 hM1, MM.a8 hM1, MM.a9 hM1, MM.a10 hM1, MM.a11 hM1, MM.a12 hM1, MM.d1 hM1, MM.d2 hM1, MM.d3 hM1, MM.d4 hM1, MM.d5 hM1, MM.d6 hM1, MM.d7 hM1, MM.d8 hM1, MM.d9 hM1, MM.d10 hM1, MM.d11 hM1, MM.d12 hM1, MM.fl hM1, true_and]
    refine hM1.wr (by omega) (by omega) (fun G2 hM2 => ?_)
    simp (disch := omega) only [n_nat, n_add, n_sub, n_mul, n_neg, n_le, n_lt, n_eq, n_div, n_tn, n_if, Int.cast_ofNat_Int, MM.o hM2, MM.r0 hM2, MM.r1 hM2, MM.r2 hM2, MM.r3 hM2, MM.r4 hM2, MM.r8 hM2, MM.r9 hM2, MM.r10 hM2, MM.r13 hM2, MM.r16 hM2, MM.r21 hM2, MM.r22 hM2, MM.a1 hM2, MM.a2 hM2, MM.a3 hM2, MM.a4 hM2, MM.a5 hM2, MM.a6 hM2, MM.a7 hM2, MM.a8 hM2, MM.a9 hM2, MM.a10 hM2, MM.a11 hM2, MM.a12 hM2, MM.d1 hM2, MM.d2 hM2, MM.d3 hM2, MM.d4 hM2, MM.d5 hM2, MM.d6 hM2, MM.d7 hM2, MM.d8 hM2, MM.d9 hM2, MM.d10 hM2, MM.d11 hM2, MM.d12 hM2, MM.fl hM2, true_and]
    refine hM2.wr (by omega) (by omega) (fun G3 hM3 => ?_)
    simp (disch := omega) only [n_nat, n_add, n_sub, n_mul, n_neg, n_le, n_lt, n_eq, n_div, n_tn, n_if, Int.cast_ofNat_Int, MM.o hM3, MM.r0 hM3, MM.r1 hM3, MM.r2 hM3, MM.r3 hM3, MM.r4 hM3, MM.r8 hM3, MM.r9 hM3, MM.r10 hM3, MM.r13 hM3, MM.r16 hM3, MM.r21 hM3, MM.r22 hM3, MM.a1 hM3, MM.a2 hM3, MM.a3 hM3, MM.a4 hM3, MM.a5 hM3, MM.a6 hM3, MM.a7 hM3, MM.a8 hM3, MM.a9 hM3, MM.a10 hM3, MM.a11 hM3, MM.a12 hM3, MM.d1 hM3, MM.d2 hM3, MM.d3 hM3, MM.d4 hM3, MM.d5 hM3, MM.d6 hM3, MM.d7 hM3, MM.d8 hM3, MM.d9 hM3, MM.d10 hM3, MM.d11 hM3, MM.d12 hM3, MM.fl hM3, true_and]
    refine hM3.wr (by omega) (by omega) (fun G4 hM4 => ?_)
    simp (disch := omega) only [n_nat, n_add, n_sub, n_mul, n_neg, n_le, n_lt, n_eq, n_div, n_tn, n_if, Int.cast_ofNat_Int, MM.o hM4, MM.r0 hM4, MM.r1 hM4, MM.r2 hM4, MM.r3 hM4, MM.r4 hM4, MM.r8 hM4, MM.r9 hM4, MM.r10 hM4, MM.r13 hM4, MM.r16 hM4, MM.r21 hM4, MM.r22 hM4, MM.a1 hM4, MM.a2 hM4, MM.a3 hM4, MM.a4 hM4, MM.a5 hM4, MM.a6 hM4, MM.a7 hM4, MM.a8 hM4, MM.a9 hM4, MM.a10 hM4, MM.a11 hM4, MM.a12 hM4, MM.d1 hM4, MM.d2 hM4, MM.d3 hM4, MM.d4 hM4, MM.d5 hM4, MM.d6 hM4, MM.d7 hM4, MM.d8 hM4, MM.d9 hM4, MM.d10 hM4, MM.d11 hM4, MM.d12 hM4, MM.fl hM4, true_and]
    refine hM4.wr (by omega) (by omega) (fun G5 hM5 => ?_)
    simp (disch := omega) only [rep_rep, rep_at, ud_ne, Int.add_zero] at hM5 hQ ⊢
    exact hQ G5 hM5
  · rw [if_neg c] at hQ
    refine ⟨hM.o, pm_store hM (by omega) (by omega) ⟨fun d => ?_, fun d => ?_⟩⟩ <;> rw [n_le (by omega) (by omega)] at d <;> unfold tw_X8_sells_b87
    · rw [if_neg (by omega)] at hQ
      exact ⟨hM.o, pm_refuses hM (by omega) hQ⟩
    · rw [if_pos (by omega)] at hQ
      exact ⟨hM.o, pm_refuses hM (by omega) hQ⟩
theorem pm_sells {Q : Int32 → aH → Prop} (hM : MM G0 G M μ) (hW : WI N (μ 1)) {k n h : Int} (hk : -2147483648 ≤ k ∧ k < 2147483648) (hn : -2147483648 ≤ n ∧ n < 2147483648) (hh : -2147483648 ≤ h ∧ h < 2147483648) (hQ : ∀ G1, MM G0 G1 M (cmM μ (f_sell (μ 1) k n h)) → Q (Int32.ofInt (f_sell (μ 1) k n h).1) G1) : tw_X8_sells Q G M (Int32.ofInt k) (Int32.ofInt n) (Int32.ofInt h) := by
  unfold tw_X8_sells
  simp (disch := omega) only [n_nat, n_add, n_sub, n_mul, n_neg, n_le, n_lt, n_eq, n_div, n_tn, n_if, Int.cast_ofNat_Int]
  refine pm_isKind hk ?_
  by_cases c : 0 ≤ k ∧ k ≤ 2
  · rw [bI_t c]
    refine ⟨fun _ => pm_isIn hn (by omega) (by omega) ?_, fun e => absurd e (by decide)⟩
    by_cases d : 1 ≤ n ∧ n ≤ 30
    · rw [bI_t d]
      refine ⟨fun e => absurd e (by decide), fun _ => pm_isIn hh (by omega) (by omega) ?_⟩
      by_cases g : 0 ≤ h ∧ h ≤ 1
      · rw [bI_t g]
        refine ⟨fun _ => ⟨fun e => ?_, fun e => ?_⟩, fun e => absurd e (by decide)⟩
        · exact pm_sells44 hM hW c d g (if_neg e).symm hQ
        · exact pm_sells44 hM hW c d g (if_pos e).symm hQ
      · rw [bI_f g]
        unfold f_sell at hQ
        rw [if_pos c, if_pos d, if_neg g, cmM_no] at hQ
        exact ⟨fun e => absurd rfl e, fun _ => hQ G hM⟩
    · rw [bI_f d]
      unfold f_sell at hQ
      rw [if_pos c, if_neg d, cmM_no] at hQ
      exact ⟨fun _ => hQ G hM, fun e => absurd rfl e⟩
  · rw [bI_f c]
    unfold f_sell at hQ
    rw [if_neg c, cmM_no] at hQ
    exact ⟨fun e => absurd rfl e, fun _ => hQ G hM⟩
theorem pm_becomes {Q : Int32 → aH → Prop} (hM : MM G0 G M μ) {a v : Int} (ha : 0 ≤ a ∧ a < 433) (hr : 0 ≤ μ 0 6 ∧ μ 0 6 ≤ 8) (hp : 0 ≤ μ 1 a) (h : ∀ G1, MM G0 G1 M (caM μ (f_set (μ 1) a v)) → Q (Int32.ofInt (μ 1 a)) G1) : tw_X8_becomes Q G M (Int32.ofInt a) (Int32.ofInt v) := by
  unfold tw_X8_becomes
  simp (disch := omega) only [n_nat, n_add, n_sub, n_mul, n_neg, n_le, n_lt, n_eq, n_div, n_tn, n_if, Int.cast_ofNat_Int, MM.o hM, MM.r0 hM, MM.r1 hM, MM.r2 hM, MM.r3 hM, MM.r4 hM, MM.r8 hM, MM.r9 hM, MM.r10 hM, MM.r13 hM, MM.r16 hM, MM.r21 hM, MM.r22 hM, MM.a1 hM, MM.a2 hM, MM.a3 hM, MM.a4 hM, MM.a5 hM, MM.a6 hM, MM.a7 hM, MM.a8 hM, MM.a9 hM, MM.a10 hM, MM.a11 hM, MM.a12 hM, MM.d1 hM, MM.d2 hM, MM.d3 hM, MM.d4 hM, MM.d5 hM, MM.d6 hM, MM.d7 hM, MM.d8 hM, MM.d9 hM, MM.d10 hM, MM.d11 hM, MM.d12 hM, MM.fl hM, true_and]
  refine pm_starts hM (fun G1 hM1 => ?_)
  have e1 := sttM_1 μ
  have e6 := sttM_6 μ
  unfold sttM at e1 e6
  simp (disch := omega) only [n_nat, n_add, n_sub, n_mul, n_neg, n_le, n_lt, n_eq, n_div, n_tn, n_if, Int.cast_ofNat_Int, MM.o hM1, MM.r0 hM1, MM.r1 hM1, MM.r2 hM1, MM.r3 hM1, MM.r4 hM1, MM.r8 hM1, MM.r9 hM1, MM.r10 hM1, MM.r13 hM1, MM.r16 hM1, MM.r21 hM1, MM.r22 hM1, MM.a1 hM1, MM.a2 hM1, MM.a3 hM1, MM.a4 hM1, MM.a5 hM1, MM.a6 hM1, MM.a7 hM1, MM.a8 hM1, MM.a9 hM1, MM.a10 hM1, MM.a11 hM1, MM.a12 hM1, MM.d1 hM1, MM.d2 hM1, MM.d3 hM1, MM.d4 hM1, MM.d5 hM1, MM.d6 hM1, MM.d7 hM1, MM.d8 hM1, MM.d9 hM1, MM.d10 hM1, MM.d11 hM1, MM.d12 hM1, MM.fl hM1, true_and]
  intro x hx
  subst hx
  refine hM1.wr (by omega) (by omega) (fun G2 hM2 => ?_)
  refine ⟨hM2.o, pm_remembers hM2 ?_ (fun G3 hM3 => ?_)⟩
  · rw [rep_ne (by omega), e6]; exact hr
  · rw [e1] at hM3 ⊢
    refine h G3 ?_
    unfold caM enM
    rw [if_pos (show 0 ≤ (f_set (μ 1) a v).1 from hp)]
    exact hM3
theorem pm_flails {Q : Int32 → aH → Prop} (hM : MM G0 G M μ) (hW : WI N (μ 1)) (hr : 0 ≤ μ 0 6 ∧ μ 0 6 ≤ 8) {f n : Int} (hf : -2147483648 ≤ f ∧ f < 2147483648) (hn : -2147483648 ≤ n ∧ n < 2147483648) (h1 : ¬ (0 ≤ f ∧ f ≤ 1) → Q (Int32.ofInt (-1)) G) (h2 : (0 ≤ f ∧ f ≤ 1) → ¬ (1 ≤ n ∧ n ≤ 6) → Q (Int32.ofInt (-2)) G) (h3 : (0 ≤ f ∧ f ≤ 1) → (1 ≤ n ∧ n ≤ 6) → ∀ G1, MM G0 G1 M (caM μ (f_set (μ 1) (383 + 4 * f + 2) n)) → Q (Int32.ofInt (μ 1 (383 + 4 * f + 2))) G1) : tw_X8_flails Q G M (Int32.ofInt f) (Int32.ofInt n) := by
  unfold tw_X8_flails
  simp (disch := omega) only [n_nat, n_add, n_sub, n_mul, n_neg, n_le, n_lt, n_eq, n_div, n_tn, n_if, Int.cast_ofNat_Int]
  refine pm_isFloor hf ?_
  by_cases c : 0 ≤ f ∧ f ≤ 1
  · have hfl := (hW.2.2.2.2.1 f c.1 c.2).2.2
    rw [bI_t c]
    refine ⟨fun _ => pm_isIn hn (by omega) (by omega) ?_, fun e => absurd e (by decide)⟩
    by_cases d : 1 ≤ n ∧ n ≤ 6
    · rw [bI_t d]
      exact ⟨fun e => absurd e (by decide), fun _ => ⟨hM.o, pm_becomes hM (by omega) hr (by omega) (h3 c d)⟩⟩
    · rw [bI_f d]
      exact ⟨fun _ => h2 c d, fun e => absurd rfl e⟩
  · rw [bI_f c]
    exact ⟨fun e => absurd rfl e, fun _ => h1 c⟩
theorem pm_price {Q : Int32 → aH → Prop} (hM : MM G0 G M μ) (hW : WI N (μ 1)) (hr : 0 ≤ μ 0 6 ∧ μ 0 6 ≤ 8) {f n : Int} (hf : -2147483648 ≤ f ∧ f < 2147483648) (hn : -2147483648 ≤ n ∧ n < 2147483648) (h1 : ¬ (0 ≤ f ∧ f ≤ 2) → Q (Int32.ofInt (-1)) G) (h2 : (0 ≤ f ∧ f ≤ 2) → ¬ (1 ≤ n ∧ n ≤ 50) → Q (Int32.ofInt (-2)) G) (h3 : (0 ≤ f ∧ f ≤ 2) → (1 ≤ n ∧ n ≤ 50) → ∀ G1, MM G0 G1 M (caM μ (f_set (μ 1) (391 + 5 * f + 1) n)) → Q (Int32.ofInt (μ 1 (391 + 5 * f + 1))) G1) : tw_X8_price Q G M (Int32.ofInt f) (Int32.ofInt n) := by
  unfold tw_X8_price
  simp (disch := omega) only [n_nat, n_add, n_sub, n_mul, n_neg, n_le, n_lt, n_eq, n_div, n_tn, n_if, Int.cast_ofNat_Int]
  refine pm_isKind hf ?_
  by_cases c : 0 ≤ f ∧ f ≤ 2
  · have hfl := (hW.2.2.2.2.2.1 f c.1 c.2).2
    rw [bI_t c]
    refine ⟨fun _ => pm_isIn hn (by omega) (by omega) ?_, fun e => absurd e (by decide)⟩
    by_cases d : 1 ≤ n ∧ n ≤ 50
    · rw [bI_t d]
      exact ⟨fun e => absurd e (by decide), fun _ => ⟨hM.o, pm_becomes hM (by omega) hr (by omega) (h3 c d)⟩⟩
    · rw [bI_f d]
      exact ⟨fun _ => h2 c d, fun e => absurd rfl e⟩
  · rw [bI_f c]
    exact ⟨fun e => absurd rfl e, fun _ => h1 c⟩
/-- the end of a call -/
theorem pm_ended {Q : Int32 → aH → Prop} {o : oC} (hM : MM G0 G M (cmM (sttM μ) o)) (hr : 0 ≤ μ 0 6 ∧ μ 0 6 ≤ 8) (ho : -2147483648 ≤ o.1 ∧ o.1 < 2147483648) (h : ∀ G1, MM G0 G1 M (caM μ o) → Q (Int32.ofInt o.1) G1) : tw_X8_ends Q G M (Int32.ofInt o.1) := by
  have e6 := sttM_6 μ
  have e15 := sttM_15 μ
  exact pm_ends hM ho (by rw [cmM_6]; omega) (cmM_15 _ _ (by omega)) h
theorem f_stop_b {w : Int → Int} (hW : WI N w) (p : Int) : -3 ≤ (f_stop w p).1 ∧ (f_stop w p).1 ≤ 2 := by
  unfold f_stop
  by_cases c : 0 ≤ p ∧ p ≤ 6
  · have := (hW.2.2.2.2.2.2.1 p c.1 c.2).1
    rw [if_pos c]
    split
    · show -3 ≤ (-3 : Int) ∧ _; exact ⟨by omega, by show (-3 : Int) ≤ 2; omega⟩
    · show -3 ≤ w (406 + 3 * p + 0) - 1 ∧ w (406 + 3 * p + 0) - 1 ≤ 2; omega
  · rw [if_neg c]
    show -3 ≤ (-1 : Int) ∧ (-1 : Int) ≤ 2
    omega
theorem pm_stop {Q : Int32 → aH → Prop} (hM : MM G0 G M μ) (hW : WI N (μ 1)) (hr : 0 ≤ μ 0 6 ∧ μ 0 6 ≤ 8) {p : Int} (hp : -2147483648 ≤ p ∧ p < 2147483648) (h : ∀ G1, MM G0 G1 M (caM μ (f_stop (μ 1) p)) → Q (Int32.ofInt (f_stop (μ 1) p).1) G1) : tw_X8_stop Q G M (Int32.ofInt p) := by
  unfold tw_X8_stop
  have e1 := sttM_1 μ
  have hb := f_stop_b hW p
  refine ⟨hM.o, pm_starts hM (fun G1 hM1 => ⟨hM1.o, ?_⟩)⟩
  have hM1 : MM G0 G1 M (sttM μ) := hM1
  refine pm_stops (N := N) hM1 (by rw [e1]; exact hW) hp ?_
  rw [e1]
  intro G2 hM2
  exact ⟨hM2.o, pm_ended hM2 hr (by omega) h⟩
theorem f_cat_b {w : Int → Int} (hW : WI N w) (p : Int) : -3 ≤ (f_cat w p).1 ∧ (f_cat w p).1 ≤ 7 := by
  have := hW.2.2.2.2.2.2.2.1
  unfold f_cat
  split
  · show -3 ≤ w 427 + 1 ∧ w 427 + 1 ≤ 7; omega
  · show -3 ≤ (-1 : Int) ∧ (-1 : Int) ≤ 7; omega
theorem pm_cat {Q : Int32 → aH → Prop} (hM : MM G0 G M μ) (hW : WI N (μ 1)) (hr : 0 ≤ μ 0 6 ∧ μ 0 6 ≤ 8) {p : Int} (hp : -2147483648 ≤ p ∧ p < 2147483648) (h : ∀ G1, MM G0 G1 M (caM μ (f_cat (μ 1) p)) → Q (Int32.ofInt (f_cat (μ 1) p).1) G1) : tw_X8_cat Q G M (Int32.ofInt p) := by
  unfold tw_X8_cat
  have e1 := sttM_1 μ
  have hb := f_cat_b hW p
  refine ⟨hM.o, pm_starts hM (fun G1 hM1 => ⟨hM1.o, ?_⟩)⟩
  have hM1 : MM G0 G1 M (sttM μ) := hM1
  refine pm_comes hM1 hp ?_
  rw [e1]
  intro G2 hM2
  exact ⟨hM2.o, pm_ended hM2 hr (by omega) h⟩
end MODEL
