/-! PLAIN LAW: the model's commands, third -/
def f_parish (w : Int → Int) (k : Int) : oC := if w 0 = 6 then reC w 1 6 0 0 else (w 0, ud (ud w (1 + 23 * w 0) k) 0 (w 0 + 1), none)
theorem f_settle_b {N : Int} {w : Int → Int} (hW : WI N w) (p c : Int) : -3 ≤ (f_settle w p c).1 ∧ (f_settle w p c).1 ≤ 720000 := by
  have h0 := hW.2.1
  unfold f_settle
  by_cases d : 0 ≤ p ∧ p < w 0
  · obtain ⟨-, -, a3, -⟩ := hW.par d.1 (by omega)
    rw [if_pos d]
    split
    · split
      · show -3 ≤ (-2 : Int) ∧ (-2 : Int) ≤ 720000; omega
      · split
        · show -3 ≤ w (1 + 23 * p + 2) - c / 2 ∧ w (1 + 23 * p + 2) - c / 2 ≤ 720000; omega
        · show -3 ≤ (-3 : Int) ∧ (-3 : Int) ≤ 720000; omega
    · show -3 ≤ (-2 : Int) ∧ (-2 : Int) ≤ 720000; omega
  · rw [if_neg d]
    show -3 ≤ (-1 : Int) ∧ (-1 : Int) ≤ 720000; omega
theorem f_sell_b {N : Int} {w : Int → Int} (hW : WI N w) (k n h : Int) : -3 ≤ (f_sell w k n h).1 ∧ (f_sell w k n h).1 ≤ 2000 := by
  unfold f_sell
  by_cases c : 0 ≤ k ∧ k ≤ 2
  · have hs := (hW.2.2.2.2.2.1 k c.1 c.2).2
    rw [if_pos c]
    by_cases d : 1 ≤ n ∧ n ≤ 30
    · rw [if_pos d]
      by_cases g : 0 ≤ h ∧ h ≤ 1
      · rw [if_pos g]
        by_cases z : n * (if h = 1 then 72 else 64) ≤ w (391 + 5 * k + 0)
        · rw [if_pos z]
          have h1 : 0 ≤ n * (w (391 + 5 * k + 1) + h) := Int.mul_nonneg (by omega) (by omega)
          have h2 := Int.mul_le_mul (a := n) (b := w (391 + 5 * k + 1) + h) (c := 30) (d := 51) (by omega) (by omega) (by omega) (by omega)
          show -3 ≤ n * (w (391 + 5 * k + 1) + h) ∧ n * (w (391 + 5 * k + 1) + h) ≤ 2000
          omega
        · rw [if_neg z]; show -3 ≤ (-3 : Int) ∧ (-3 : Int) ≤ 2000; omega
      · rw [if_neg g]; show -3 ≤ (-2 : Int) ∧ (-2 : Int) ≤ 2000; omega
    · rw [if_neg d]; show -3 ≤ (-2 : Int) ∧ (-2 : Int) ≤ 2000; omega
  · rw [if_neg c]; show -3 ≤ (-1 : Int) ∧ (-1 : Int) ≤ 2000; omega
theorem f_harvest_b {N : Int} {w : Int → Int} (hW : WI N w) (p s : Int) : -3 ≤ (f_harvest w p s).1 ∧ (f_harvest w p s).1 ≤ 720000 := by
  have h0 := hW.2.1
  unfold f_harvest
  by_cases d : 0 ≤ p ∧ p < w 0
  · obtain ⟨-, -, -, -, a5, -⟩ := hW.par d.1 (by omega)
    rw [if_pos d]
    by_cases g : 1 ≤ s ∧ s ≤ 999
    · rw [if_pos g]
      have hd : -3 ≤ (w (1 + 23 * p + 1) + s) / 10 - w (1 + 23 * p + 1) / 10 ∧ (w (1 + 23 * p + 1) + s) / 10 - w (1 + 23 * p + 1) / 10 ≤ 720000 := by omega
      dsimp only
      split
      · exact hd
      · split
        · exact hd
        · exact hd
    · rw [if_neg g]; show -3 ≤ (-2 : Int) ∧ (-2 : Int) ≤ 720000; omega
  · rw [if_neg d]; show -3 ≤ (-1 : Int) ∧ (-1 : Int) ≤ 720000; omega
section MODEL
variable {G0 G : aH} {M : Nat} {μ : Nat → Int → Int} {N : Int}
theorem pm_settle {Q : Int32 → aH → Prop} (hM : MM G0 G M μ) (hW : WI N (μ 1)) (hr : 0 ≤ μ 0 6 ∧ μ 0 6 ≤ 8) {p c : Int} (hp : -2147483648 ≤ p ∧ p < 2147483648) (hc : -2147483648 ≤ c ∧ c < 2147483648) (h : ∀ G1, MM G0 G1 M (caM μ (f_settle (μ 1) p c)) → Q (Int32.ofInt (f_settle (μ 1) p c).1) G1) : tw_X8_settle Q G M (Int32.ofInt p) (Int32.ofInt c) := by
  unfold tw_X8_settle
  have e1 := sttM_1 μ
  have hb := f_settle_b hW p c
  refine ⟨hM.o, pm_starts hM (fun G1 hM1 => ⟨hM1.o, ?_⟩)⟩
  have hM1 : MM G0 G1 M (sttM μ) := hM1
  refine pm_settles (N := N) hM1 (by rw [e1]; exact hW) hp hc ?_
  rw [e1]
  intro G2 hM2
  exact ⟨hM2.o, pm_ended hM2 hr (by omega) h⟩
theorem pm_sell {Q : Int32 → aH → Prop} (hM : MM G0 G M μ) (hW : WI N (μ 1)) (hr : 0 ≤ μ 0 6 ∧ μ 0 6 ≤ 8) {k n b : Int} (hk : -2147483648 ≤ k ∧ k < 2147483648) (hn : -2147483648 ≤ n ∧ n < 2147483648) (hh : -2147483648 ≤ b ∧ b < 2147483648) (h : ∀ G1, MM G0 G1 M (caM μ (f_sell (μ 1) k n b)) → Q (Int32.ofInt (f_sell (μ 1) k n b).1) G1) : tw_X8_sell Q G M (Int32.ofInt k) (Int32.ofInt n) (Int32.ofInt b) := by
  unfold tw_X8_sell
  have e1 := sttM_1 μ
  have hb := f_sell_b hW k n b
  refine ⟨hM.o, pm_starts hM (fun G1 hM1 => ⟨hM1.o, ?_⟩)⟩
  have hM1 : MM G0 G1 M (sttM μ) := hM1
  refine pm_sells (N := N) hM1 (by rw [e1]; exact hW) hk hn hh ?_
  rw [e1]
  intro G2 hM2
  exact ⟨hM2.o, pm_ended hM2 hr (by omega) h⟩
theorem pm_harv149 {Q : Int32 → aH → Prop} (hM : MM G0 G M μ) {at_ due many : Int} (ha : 0 ≤ at_ ∧ at_ ≤ 120) (hd : -2147483648 ≤ due ∧ due < 2147483648) (hm : 0 < due → 1 ≤ many ∧ many ≤ 9) (h1 : due ≤ 0 → Q (Int32.ofInt due) G) (h2 : 0 < due → ∀ G1, MM G0 G1 M (rep μ 1 (ud (μ 1) (at_ + 5 + 2 * (many - 1) + 1) (μ 1 (at_ + 5 + 2 * (many - 1) + 1) + due))) → Q (Int32.ofInt due) G1) : tw_X8_harvests_b149 Q G M (Int32.ofInt at_) (Int32.ofInt due) (Int32.ofInt many) := by
  unfold tw_X8_harvests_b149
  by_cases c : due ≤ 0
  · simp (disch := omega) only [n_nat, n_le]
    exact ⟨fun _ => h1 c, fun d => absurd c d⟩
  · have hm' := hm (by omega)
    simp (disch := omega) only [n_nat, n_add, n_sub, n_mul, n_neg, n_le, n_lt, n_eq, n_div, n_tn, n_if, Int.cast_ofNat_Int, MM.o hM, MM.r0 hM, MM.r1 hM, MM.r2 hM, MM.r3 hM, MM.r4 hM, MM.r8 hM, MM.r9 hM, MM.r10 hM, MM.r13 hM, MM.r16 hM, MM.r21 hM, MM.r22 hM, MM.a1 hM, MM.a2 hM, MM.a3 hM, MM.a4 hM, MM.a5 hM, MM.a6 hM, MM.a7 hM, MM.a8 hM, MM.a9 hM, MM.a10 hM, MM.a11 hM, MM.a12 hM, MM.d1 hM, MM.d2 hM, MM.d3 hM, MM.d4 hM, MM.d5 hM, MM.d6 hM, MM.d7 hM, MM.d8 hM, MM.d9 hM, MM.d10 hM, MM.d11 hM, MM.d12 hM, MM.fl hM, true_and]
    refine ⟨fun d => absurd d c, fun _ => ?_⟩
    refine hM.wr (by omega) (by omega) (fun G1 hM1 => ?_)
    exact h2 (by omega) G1 hM1
theorem pm_harvests {Q : Int32 → aH → Prop} (hM : MM G0 G M μ) (hW : WI N (μ 1)) {p s : Int} (hp : -2147483648 ≤ p ∧ p < 2147483648) (hs : -2147483648 ≤ s ∧ s < 2147483648) (hQ : ∀ G1, MM G0 G1 M (cmM μ (f_harvest (μ 1) p s)) → Q (Int32.ofInt (f_harvest (μ 1) p s).1) G1) : tw_X8_harvests Q G M (Int32.ofInt p) (Int32.ofInt s) := by
  have h0 := hW.2.1
  unfold tw_X8_harvests
  simp (disch := omega) only [n_nat, n_add, n_sub, n_mul, n_neg, n_le, n_lt, n_eq, n_div, n_tn, n_if, Int.cast_ofNat_Int, MM.o hM, MM.r0 hM, MM.r1 hM, MM.r2 hM, MM.r3 hM, MM.r4 hM, MM.r8 hM, MM.r9 hM, MM.r10 hM, MM.r13 hM, MM.r16 hM, MM.r21 hM, MM.r22 hM, MM.a1 hM, MM.a2 hM, MM.a3 hM, MM.a4 hM, MM.a5 hM, MM.a6 hM, MM.a7 hM, MM.a8 hM, MM.a9 hM, MM.a10 hM, MM.a11 hM, MM.a12 hM, MM.d1 hM, MM.d2 hM, MM.d3 hM, MM.d4 hM, MM.d5 hM, MM.d6 hM, MM.d7 hM, MM.d8 hM, MM.d9 hM, MM.d10 hM, MM.d11 hM, MM.d12 hM, MM.fl hM, true_and]
  unfold f_harvest at hQ
  refine pm_isParish hM hp h0 ?_
  by_cases d : 0 ≤ p ∧ p < μ 1 0
  · obtain ⟨a1, -, -, -, a5, -⟩ := hW.par d.1 (by omega)
    obtain ⟨b1, b2, b3, b4, b5, b6, b7, b8, -⟩ := hW.2.2.1 p d.1 (by omega)
    have hday := hW.2.2.2.2.2.2.2.2.1
    have hN := hW.1
    rw [bI_t d]
    rw [if_pos d] at hQ
    refine ⟨fun _ => pm_isIn hs (by omega) (by omega) ?_, fun e => absurd e (by decide)⟩
    by_cases g : 1 ≤ s ∧ s ≤ 999
    · rw [bI_t g]
      rw [if_pos g] at hQ
      dsimp only at hQ
      refine ⟨fun _ => ?_, fun e => absurd e (by decide)⟩
      intro x hx
      subst hx
      refine ⟨hM.o, pm_becomeDue hM hW (by omega) g ?_⟩
      generalize hdue : (μ 1 (1 + 23 * p + 1) + s) / 10 - μ 1 (1 + 23 * p + 1) / 10 = due at *
      have hdb : 0 ≤ due ∧ due ≤ 720000 := by omega
      simp (disch := omega) only [n_nat, n_add, n_sub, n_mul, n_neg, n_le, n_lt, n_eq, n_div, n_tn, n_if, Int.cast_ofNat_Int, MM.o hM, MM.r0 hM, MM.r1 hM, MM.r2 hM, MM.r3 hM, MM.r4 hM, MM.r8 hM, MM.r9 hM, MM.r10 hM, MM.r13 hM, MM.r16 hM, MM.r21 hM, MM.r22 hM, MM.a1 hM, MM.a2 hM, MM.a3 hM, MM.a4 hM, MM.a5 hM, MM.a6 hM, MM.a7 hM, MM.a8 hM, MM.a9 hM, MM.a10 hM, MM.a11 hM, MM.a12 hM, MM.d1 hM, MM.d2 hM, MM.d3 hM, MM.d4 hM, MM.d5 hM, MM.d6 hM, MM.d7 hM, MM.d8 hM, MM.d9 hM, MM.d10 hM, MM.d11 hM, MM.d12 hM, MM.fl hM, true_and]
      intro x hx
      subst hx
      refine hM.wr (by omega) (by omega) (fun G1 hM1 => ?_)
      refine ⟨fun c => ?_, fun c => ?_⟩
      · rw [if_pos c] at hQ
        exact pm_harv149 hM1 (by omega) (by omega) (fun _ => by omega) (fun _ => hQ G1 hM1) (fun _ => by omega)
      · rw [if_neg c] at hQ
        have h97 : (μ 1 (1 + 23 * p + 4) = 0 ∨ ¬ μ 1 (1 + 23 * p + 5 + 2 * (μ 1 (1 + 23 * p + 4) - 1)) = μ 1 428) → tw_X8_harvests_b97 Q G1 M (Int32.ofInt (1 + 23 * p)) (Int32.ofInt due) (Int32.ofInt (μ 1 (1 + 23 * p + 4))) := by
          intro hc
          rw [if_pos hc] at hQ
          have h7 : μ 1 (1 + 23 * p + 4) ≤ 8 := a1.2
          unfold tw_X8_harvests_b97
          simp (disch := omega) only [n_nat, n_add, n_sub, n_mul, n_neg, n_le, n_lt, n_eq, n_div, n_tn, n_if, Int.cast_ofNat_Int, MM.o hM1, MM.r0 hM1, MM.r1 hM1, MM.r2 hM1, MM.r3 hM1, MM.r4 hM1, MM.r8 hM1, MM.r9 hM1, MM.r10 hM1, MM.r13 hM1, MM.r16 hM1, MM.r21 hM1, MM.r22 hM1, MM.a1 hM1, MM.a2 hM1, MM.a3 hM1, MM.a4 hM1, MM.a5 hM1, MM.a6 hM1, MM.a7 hM1, MM.a8 hM1, MM.a9 hM1, MM.a10 hM1, MM.a11 hM1, MM.a12 hM1, MM.d1 hM1, MM.d2 hM1, MM.d3 hM1, MM.d4 hM1, MM.d5 hM1, MM.d6 hM1, MM.d7 hM1, MM.d8 hM1, MM.d9 hM1, MM.d10 hM1, MM.d11 hM1, MM.d12 hM1, MM.fl hM1, true_and]
          refine hM1.wr (by omega) (by omega) (fun G2 hM2 => ?_)
          simp (disch := omega) only [n_nat, n_add, n_sub, n_mul, n_neg, n_le, n_lt, n_eq, n_div, n_tn, n_if, Int.cast_ofNat_Int, MM.o hM2, MM.r0 hM2, MM.r1 hM2, MM.r2 hM2, MM.r3 hM2, MM.r4 hM2, MM.r8 hM2, MM.r9 hM2, MM.r10 hM2, MM.r13 hM2, MM.r16 hM2, MM.r21 hM2, MM.r22 hM2, MM.a1 hM2, MM.a2 hM2, MM.a3 hM2, MM.a4 hM2, MM.a5 hM2, MM.a6 hM2, MM.a7 hM2, MM.a8 hM2, MM.a9 hM2, MM.a10 hM2, MM.a11 hM2, MM.a12 hM2, MM.d1 hM2, MM.d2 hM2, MM.d3 hM2, MM.d4 hM2, MM.d5 hM2, MM.d6 hM2, MM.d7 hM2, MM.d8 hM2, MM.d9 hM2, MM.d10 hM2, MM.d11 hM2, MM.d12 hM2, MM.fl hM2, true_and]
          refine hM2.wr (by omega) (by omega) (fun G3 hM3 => ?_)
          simp (disch := omega) only [n_nat, n_add, n_sub, n_mul, n_neg, n_le, n_lt, n_eq, n_div, n_tn, n_if, Int.cast_ofNat_Int, MM.o hM3, MM.r0 hM3, MM.r1 hM3, MM.r2 hM3, MM.r3 hM3, MM.r4 hM3, MM.r8 hM3, MM.r9 hM3, MM.r10 hM3, MM.r13 hM3, MM.r16 hM3, MM.r21 hM3, MM.r22 hM3, MM.a1 hM3, MM.a2 hM3, MM.a3 hM3, MM.a4 hM3, MM.a5 hM3, MM.a6 hM3, MM.a7 hM3, MM.a8 hM3, MM.a9 hM3, MM.a10 hM3, MM.a11 hM3, MM.a12 hM3, MM.d1 hM3, MM.d2 hM3, MM.d3 hM3, MM.d4 hM3, MM.d5 hM3, MM.d6 hM3, MM.d7 hM3, MM.d8 hM3, MM.d9 hM3, MM.d10 hM3, MM.d11 hM3, MM.d12 hM3, MM.fl hM3, true_and]
          refine hM3.wr (by omega) (by omega) (fun G4 hM4 => ?_)
          intro x hx
          subst hx
          refine pm_harv149 hM4 (by omega) (by omega) ?_ (fun z => by omega) (fun _ G5 hM5 => ?_)
          · intro _; omega
          · simp (disch := omega) only [rep_rep, rep_at, ud_ne, ud_at, show μ 1 (1 + 23 * p + 4) + 1 - 1 = μ 1 (1 + 23 * p + 4) by omega] at hM5 hQ ⊢
            exact hQ G5 hM5
        refine ⟨fun e => ?_, fun e => ?_⟩ <;> rw [n_eq (by omega) (by omega)] at e
        · exact h97 (Or.inl e)
        · obtain ⟨e1, e2, e3, e4⟩ := b7 (μ 1 (1 + 23 * p + 4) - 1) (by omega) (by omega)
          have e5 : 1 + 23 * p + (5 + 2 * (μ 1 (1 + 23 * p + 4) - 1)) = 1 + 23 * p + 5 + 2 * (μ 1 (1 + 23 * p + 4) - 1) := by omega
          rw [e5] at e2 e3 e4
          simp (disch := omega) only [n_nat, n_add, n_sub, n_mul, n_neg, n_le, n_lt, n_eq, n_div, n_tn, n_if, Int.cast_ofNat_Int, MM.o hM1, MM.r0 hM1, MM.r1 hM1, MM.r2 hM1, MM.r3 hM1, MM.r4 hM1, MM.r8 hM1, MM.r9 hM1, MM.r10 hM1, MM.r13 hM1, MM.r16 hM1, MM.r21 hM1, MM.r22 hM1, MM.a1 hM1, MM.a2 hM1, MM.a3 hM1, MM.a4 hM1, MM.a5 hM1, MM.a6 hM1, MM.a7 hM1, MM.a8 hM1, MM.a9 hM1, MM.a10 hM1, MM.a11 hM1, MM.a12 hM1, MM.d1 hM1, MM.d2 hM1, MM.d3 hM1, MM.d4 hM1, MM.d5 hM1, MM.d6 hM1, MM.d7 hM1, MM.d8 hM1, MM.d9 hM1, MM.d10 hM1, MM.d11 hM1, MM.d12 hM1, MM.fl hM1, true_and, rep_at, ud_ne]
          refine ⟨fun g => ?_, fun g => h97 (Or.inr g)⟩
          rw [if_neg (by omega)] at hQ
          refine pm_harv149 hM1 (by omega) (by omega) (fun _ => by omega) (fun z => by omega) (fun _ G5 hM5 => ?_)
          simp (disch := omega) only [rep_rep, rep_at, ud_ne] at hM5
          exact hQ G5 hM5
    · rw [bI_f g]
      rw [if_neg g, cmM_no] at hQ
      exact ⟨fun e => absurd rfl e, fun _ => hQ G hM⟩
  · rw [bI_f d]
    rw [if_neg d, cmM_no] at hQ
    exact ⟨fun e => absurd rfl e, fun _ => hQ G hM⟩
theorem pm_harvest {Q : Int32 → aH → Prop} (hM : MM G0 G M μ) (hW : WI N (μ 1)) (hr : 0 ≤ μ 0 6 ∧ μ 0 6 ≤ 8) {p c : Int} (hp : -2147483648 ≤ p ∧ p < 2147483648) (hc : -2147483648 ≤ c ∧ c < 2147483648) (h : ∀ G1, MM G0 G1 M (caM μ (f_harvest (μ 1) p c)) → Q (Int32.ofInt (f_harvest (μ 1) p c).1) G1) : tw_X8_harvest Q G M (Int32.ofInt p) (Int32.ofInt c) := by
  unfold tw_X8_harvest
  have e1 := sttM_1 μ
  have hb := f_harvest_b hW p c
  refine ⟨hM.o, pm_starts hM (fun G1 hM1 => ⟨hM1.o, ?_⟩)⟩
  have hM1 : MM G0 G1 M (sttM μ) := hM1
  refine pm_harvests (N := N) hM1 (by rw [e1]; exact hW) hp hc ?_
  rw [e1]
  intro G2 hM2
  exact ⟨hM2.o, pm_ended hM2 hr (by omega) h⟩
theorem pm_parish {Q : Int32 → aH → Prop} (hM : MM G0 G M μ) (hW : WI N (μ 1)) (hr : 0 ≤ μ 0 6 ∧ μ 0 6 ≤ 8) {k : Int} (hk : -2147483648 ≤ k ∧ k < 2147483648) (h1 : ¬ (0 ≤ k ∧ k ≤ 2) → Q (Int32.ofInt (-1)) G) (h2 : 0 ≤ k ∧ k ≤ 2 → ∀ G1, MM G0 G1 M (caM μ (f_parish (μ 1) k)) → Q (Int32.ofInt (f_parish (μ 1) k).1) G1) : tw_X8_parish Q G M (Int32.ofInt k) := by
  have h0 := hW.2.1
  unfold tw_X8_parish
  simp (disch := omega) only [n_nat, n_add, n_sub, n_mul, n_neg, n_le, n_lt, n_eq, n_div, n_tn, n_if, Int.cast_ofNat_Int, MM.o hM, MM.r0 hM, MM.r1 hM, MM.r2 hM, MM.r3 hM, MM.r4 hM, MM.r8 hM, MM.r9 hM, MM.r10 hM, MM.r13 hM, MM.r16 hM, MM.r21 hM, MM.r22 hM, MM.a1 hM, MM.a2 hM, MM.a3 hM, MM.a4 hM, MM.a5 hM, MM.a6 hM, MM.a7 hM, MM.a8 hM, MM.a9 hM, MM.a10 hM, MM.a11 hM, MM.a12 hM, MM.d1 hM, MM.d2 hM, MM.d3 hM, MM.d4 hM, MM.d5 hM, MM.d6 hM, MM.d7 hM, MM.d8 hM, MM.d9 hM, MM.d10 hM, MM.d11 hM, MM.d12 hM, MM.fl hM, true_and]
  refine pm_isKind hk ?_
  by_cases c : 0 ≤ k ∧ k ≤ 2
  · rw [bI_t c]
    have h := h2 c
    refine ⟨fun _ => ⟨hM.o, pm_starts hM (fun G1 hM1 => ⟨hM1.o, ?_⟩)⟩, fun e => absurd e (by decide)⟩
    have hM1 : MM G0 G1 M (sttM μ) := hM1
    have e1 := sttM_1 μ
    rw [← e1] at h0
    simp (disch := omega) only [n_nat, n_add, n_sub, n_mul, n_neg, n_le, n_lt, n_eq, n_div, n_tn, n_if, Int.cast_ofNat_Int, MM.o hM1, MM.r0 hM1, MM.r1 hM1, MM.r2 hM1, MM.r3 hM1, MM.r4 hM1, MM.r8 hM1, MM.r9 hM1, MM.r10 hM1, MM.r13 hM1, MM.r16 hM1, MM.r21 hM1, MM.r22 hM1, MM.a1 hM1, MM.a2 hM1, MM.a3 hM1, MM.a4 hM1, MM.a5 hM1, MM.a6 hM1, MM.a7 hM1, MM.a8 hM1, MM.a9 hM1, MM.a10 hM1, MM.a11 hM1, MM.a12 hM1, MM.d1 hM1, MM.d2 hM1, MM.d3 hM1, MM.d4 hM1, MM.d5 hM1, MM.d6 hM1, MM.d7 hM1, MM.d8 hM1, MM.d9 hM1, MM.d10 hM1, MM.d11 hM1, MM.d12 hM1, MM.fl hM1, true_and]
    rw [e1]
    rw [e1] at h0
    refine ⟨fun d => ?_, fun d => ?_⟩
    · intro x hx
      subst hx
      have ef : f_parish (μ 1) k = (μ 1 0, ud (ud (μ 1) (1 + 23 * μ 1 0) k) 0 (μ 1 0 + 1), none) := by
        unfold f_parish
        rw [if_neg d]
      simp (disch := omega) only [n_nat, n_add, n_sub, n_mul, n_neg, n_le, n_lt, n_eq, n_div, n_tn, n_if, Int.cast_ofNat_Int, MM.o hM1, MM.r0 hM1, MM.r1 hM1, MM.r2 hM1, MM.r3 hM1, MM.r4 hM1, MM.r8 hM1, MM.r9 hM1, MM.r10 hM1, MM.r13 hM1, MM.r16 hM1, MM.r21 hM1, MM.r22 hM1, MM.a1 hM1, MM.a2 hM1, MM.a3 hM1, MM.a4 hM1, MM.a5 hM1, MM.a6 hM1, MM.a7 hM1, MM.a8 hM1, MM.a9 hM1, MM.a10 hM1, MM.a11 hM1, MM.a12 hM1, MM.d1 hM1, MM.d2 hM1, MM.d3 hM1, MM.d4 hM1, MM.d5 hM1, MM.d6 hM1, MM.d7 hM1, MM.d8 hM1, MM.d9 hM1, MM.d10 hM1, MM.d11 hM1, MM.d12 hM1, MM.fl hM1, true_and]
      refine hM1.wr (by omega) (by omega) (fun G2 hM2 => ?_)
      simp (disch := omega) only [n_nat, n_add, n_sub, n_mul, n_neg, n_le, n_lt, n_eq, n_div, n_tn, n_if, Int.cast_ofNat_Int, MM.o hM2, MM.r0 hM2, MM.r1 hM2, MM.r2 hM2, MM.r3 hM2, MM.r4 hM2, MM.r8 hM2, MM.r9 hM2, MM.r10 hM2, MM.r13 hM2, MM.r16 hM2, MM.r21 hM2, MM.r22 hM2, MM.a1 hM2, MM.a2 hM2, MM.a3 hM2, MM.a4 hM2, MM.a5 hM2, MM.a6 hM2, MM.a7 hM2, MM.a8 hM2, MM.a9 hM2, MM.a10 hM2, MM.a11 hM2, MM.a12 hM2, MM.d1 hM2, MM.d2 hM2, MM.d3 hM2, MM.d4 hM2, MM.d5 hM2, MM.d6 hM2, MM.d7 hM2, MM.d8 hM2, MM.d9 hM2, MM.d10 hM2, MM.d11 hM2, MM.d12 hM2, MM.fl hM2, true_and, rep_at, e1, ud_ne]
      refine hM2.wr (by omega) (by omega) (fun G3 hM3 => ?_)
      refine ⟨hM3.o, ?_⟩
      rw [rep_rep, rep_at, e1] at hM3
      have h9 := pm_ended (o := f_parish (μ 1) k) (Q := Q) (G := G3) (by rw [ef]; exact hM3) hr (by rw [ef]; show -2147483648 ≤ μ 1 0 ∧ μ 1 0 < 2147483648; omega) h
      rw [ef] at h9
      exact h9
    · have ef : f_parish (μ 1) k = reC (μ 1) 1 6 0 0 := by
        unfold f_parish
        rw [if_pos d]
      refine pm_refuses hM1 (by omega) (fun G2 hM2 => ⟨hM2.o, ?_⟩)
      have h9 := pm_ended (o := f_parish (μ 1) k) (Q := Q) (G := G2) (by rw [ef]; exact hM2) hr (by rw [ef]; show -2147483648 ≤ (-3 : Int) ∧ (-3 : Int) < 2147483648; omega) h
      rw [ef] at h9
      exact h9
  · rw [bI_f c]
    exact ⟨fun e => absurd rfl e, fun _ => h1 c⟩
end MODEL
