/-! PLAIN LAW: the model's commands: threshing, the first due dropped -/
section MODEL
variable {G0 G : aH} {M : Nat} {μ : Nat → Int → Int} {N : Int}
theorem pm_thr124 {Q : Int32 → aH → Prop} (hM : MM G0 G M μ) (hW : WI N (μ 1)) {f b s kind : Int} (hf : 0 ≤ f ∧ f ≤ 1) (hb : 0 ≤ b ∧ b ≤ 3) (hs : 1 ≤ s ∧ s ≤ 20) (hs2 : s ≤ μ 1 (139 + 61 * b)) (h1 : s ≤ 20 - μ 1 (383 + 4 * f + 0) → ∀ G1, MM G0 G1 M (rep μ 1 (ud (ud (popN (μ 1) b s.toNat) (383 + 4 * f + 0) (μ 1 (383 + 4 * f + 0) + s)) (383 + 4 * f + 1) kind)) → Q (Int32.ofInt (μ 1 (383 + 4 * f + 0) + s)) G1) (h2 : ¬ s ≤ 20 - μ 1 (383 + 4 * f + 0) → ∀ G1, MM G0 G1 M (rfM μ 6 (20 - μ 1 (383 + 4 * f + 0)) 0 0) → Q (Int32.ofInt (-3)) G1) : tw_X8_threshes_b124 Q G M (Int32.ofInt f) (Int32.ofInt b) (Int32.ofInt s) (Int32.ofInt kind) := by
  have hfl := (hW.2.2.2.2.1 f hf.1 hf.2).1
  have hn := (hW.2.2.2.1 b hb.1 hb.2).1
  unfold tw_X8_threshes_b124
  simp (disch := omega) only [n_nat, n_add, n_sub, n_mul, n_neg, n_le, n_lt, n_eq, n_div, n_tn, n_if, Int.cast_ofNat_Int, MM.o hM, MM.r0 hM, MM.r1 hM, MM.r2 hM, MM.r3 hM, MM.r4 hM, MM.r8 hM, MM.r9 hM, MM.r10 hM, MM.r13 hM, MM.r16 hM, MM.r21 hM, MM.r22 hM, MM.a1 hM, MM.a2 hM, MM.a3 hM, MM.a4 hM, MM.a5 hM, MM.a6 hM, MM.a7 hM, MM.a8 hM, MM.a9 hM, MM.a10 hM, MM.a11 hM, MM.a12 hM, MM.d1 hM, MM.d2 hM, MM.d3 hM, MM.d4 hM, MM.d5 hM, MM.d6 hM, MM.d7 hM, MM.d8 hM, MM.d9 hM, MM.d10 hM, MM.d11 hM, MM.d12 hM, MM.fl hM, true_and]
  refine pm_floor hM (by omega) (by omega) ?_
  simp (disch := omega) only [n_nat, n_add, n_sub, n_mul, n_neg, n_le, n_lt, n_eq, n_div, n_tn, n_if, Int.cast_ofNat_Int]
  refine ⟨fun c => ⟨hM.o, pm_takes hM hb (by omega) hn.2 (fun G1 hM1 => ⟨hM1.o, ?_⟩)⟩, fun c => ⟨hM.o, pm_floor hM (by omega) (by omega) ⟨hM.o, ?_⟩⟩⟩
  · have h9 := h1 c
    have e := popN_hi (b := b) s.toNat (μ 1) (by omega) hn.2 (383 + 4 * f + 0) (by omega)
    rw [Int.add_zero] at e h9
    simp (disch := omega) only [n_nat, n_add, n_sub, n_mul, n_neg, n_le, n_lt, n_eq, n_div, n_tn, n_if, Int.cast_ofNat_Int, MM.o hM1, MM.r0 hM1, MM.r1 hM1, MM.r2 hM1, MM.r3 hM1, MM.r4 hM1, MM.r8 hM1, MM.r9 hM1, MM.r10 hM1, MM.r13 hM1, MM.r16 hM1, MM.r21 hM1, MM.r22 hM1, MM.a1 hM1, MM.a2 hM1, MM.a3 hM1, MM.a4 hM1, MM.a5 hM1, MM.a6 hM1, MM.a7 hM1, MM.a8 hM1, MM.a9 hM1, MM.a10 hM1, MM.a11 hM1, MM.a12 hM1, MM.d1 hM1, MM.d2 hM1, MM.d3 hM1, MM.d4 hM1, MM.d5 hM1, MM.d6 hM1, MM.d7 hM1, MM.d8 hM1, MM.d9 hM1, MM.d10 hM1, MM.d11 hM1, MM.d12 hM1, MM.fl hM1, true_and, rep_at]
    refine hM1.wr (by omega) (by omega) (fun G2 hM2 => ?_)
    simp (disch := omega) only [n_nat, n_add, n_sub, n_mul, n_neg, n_le, n_lt, n_eq, n_div, n_tn, n_if, Int.cast_ofNat_Int, MM.o hM2, MM.r0 hM2, MM.r1 hM2, MM.r2 hM2, MM.r3 hM2, MM.r4 hM2, MM.r8 hM2, MM.r9 hM2, MM.r10 hM2, MM.r13 hM2, MM.r16 hM2, MM.r21 hM2, MM.r22 hM2, MM.a1 hM2, MM.a2 hM2, MM.a3 hM2, MM.a4 hM2, MM.a5 hM2, MM.a6 hM2, MM.a7 hM2, MM.a8 hM2, MM.a9 hM2, MM.a10 hM2, MM.a11 hM2, MM.a12 hM2, MM.d1 hM2, MM.d2 hM2, MM.d3 hM2, MM.d4 hM2, MM.d5 hM2, MM.d6 hM2, MM.d7 hM2, MM.d8 hM2, MM.d9 hM2, MM.d10 hM2, MM.d11 hM2, MM.d12 hM2, MM.fl hM2, true_and, rep_at]
    refine hM2.wr (by omega) (by omega) (fun G3 hM3 => ⟨hM3.o, pm_floor hM3 (by omega) (by omega) ?_⟩)
    simp (disch := omega) only [rep_rep, rep_at, ud_ne, ud_at, Int.add_zero, e] at hM3 ⊢
    exact h9 G3 hM3
  · simp (disch := omega) only [n_nat, n_add, n_sub, n_mul, n_neg, n_le, n_lt, n_eq, n_div, n_tn, n_if, Int.cast_ofNat_Int]
    exact pm_refuses hM (by omega) (h2 c)
theorem pm_threshes {Q : Int32 → aH → Prop} (hM : MM G0 G M μ) (hW : WI N (μ 1)) {f b s : Int} (hf : -2147483648 ≤ f ∧ f < 2147483648) (hb : -2147483648 ≤ b ∧ b < 2147483648) (hs : -2147483648 ≤ s ∧ s < 2147483648) (h : ∀ G1, MM G0 G1 M (cmM μ (f_thresh (μ 1) f b s)) → Q (Int32.ofInt (f_thresh (μ 1) f b s).1) G1) : tw_X8_threshes Q G M (Int32.ofInt f) (Int32.ofInt b) (Int32.ofInt s) := by
  have h0 := hW.2.1
  unfold tw_X8_threshes
  simp (disch := omega) only [n_nat, n_add, n_sub, n_mul, n_neg, n_le, n_lt, n_eq, n_div, n_tn, n_if, Int.cast_ofNat_Int, MM.o hM, MM.r0 hM, MM.r1 hM, MM.r2 hM, MM.r3 hM, MM.r4 hM, MM.r8 hM, MM.r9 hM, MM.r10 hM, MM.r13 hM, MM.r16 hM, MM.r21 hM, MM.r22 hM, MM.a1 hM, MM.a2 hM, MM.a3 hM, MM.a4 hM, MM.a5 hM, MM.a6 hM, MM.a7 hM, MM.a8 hM, MM.a9 hM, MM.a10 hM, MM.a11 hM, MM.a12 hM, MM.d1 hM, MM.d2 hM, MM.d3 hM, MM.d4 hM, MM.d5 hM, MM.d6 hM, MM.d7 hM, MM.d8 hM, MM.d9 hM, MM.d10 hM, MM.d11 hM, MM.d12 hM, MM.fl hM, true_and]
  unfold f_thresh at h
  refine pm_isFloor hf ?_
  by_cases c1 : 0 ≤ f ∧ f ≤ 1
  · have hfl := hW.2.2.2.2.1 f c1.1 c1.2
    rw [bI_t c1]
    rw [if_pos c1] at h
    refine ⟨fun e => absurd e (by decide), fun _ => pm_isBay hb ?_⟩
    by_cases c2 : 0 ≤ b ∧ b ≤ 3
    · have hn := (hW.2.2.2.1 b c2.1 c2.2).1
      rw [bI_t c2]
      rw [if_pos c2] at h
      refine ⟨fun _ => pm_isIn hs (by omega) (by omega) ?_, fun e => absurd e (by decide)⟩
      by_cases c3 : 1 ≤ s ∧ s ≤ 20
      · rw [bI_t c3]
        rw [if_pos c3] at h
        refine ⟨fun _ => ⟨hM.o, pm_inBay hM c2.1 c2.2 ⟨fun c => ?_, fun c => ?_⟩⟩, fun e => absurd e (by decide)⟩ <;> rw [n_le (by omega) (by omega)] at c
        · rw [if_pos c] at h
          have hu : -1 ≤ unlW (μ 1) b s ∧ unlW (μ 1) b s ≤ 2 := unF_b _ _ (fun j h1 h2 => by
            have hsh := (hW.2.2.2.1 b c2.1 c2.2).2 (μ 1 (139 + 61 * b) - 1 - j) (by omega) (by omega)
            exact (hW.2.2.1 _ hsh.1 (by omega)).1)
          refine ⟨hM.o, pm_unlike hM hW c2 ⟨c3.1, c⟩ ⟨fun d => ?_, fun d => ?_⟩⟩ <;> rw [n_eq (by omega) (by omega)] at d
          · rw [if_pos d] at h
            dsimp only at h
            refine ⟨hM.o, pm_inBay hM c2.1 c2.2 ⟨hM.o, ?_⟩⟩
            simp (disch := omega) only [n_nat, n_add, n_sub, n_mul, n_neg, n_le, n_lt, n_eq, n_div, n_tn, n_if, Int.cast_ofNat_Int]
            refine pm_kdW hM hW c2 (by omega) (fun hk => ⟨hM.o, pm_floor hM (by omega) (by omega) ⟨fun g => ?_, fun g => ?_⟩⟩) <;> rw [n_le (by omega) (by omega)] at g
            · rw [if_neg (by omega)] at h
              refine pm_thr124 hM hW c1 c2 c3 c (fun z => ?_) (fun z => ?_)
              · rw [if_pos z] at h; exact h
              · rw [if_neg z] at h; exact h
            · refine ⟨hM.o, pm_floor hM (by omega) (by omega) ⟨fun e => ?_, fun e => ?_⟩⟩ <;> rw [n_eq (by omega) (by omega)] at e
              · rw [if_neg (fun q => q.2 e)] at h
                refine pm_thr124 hM hW c1 c2 c3 c (fun z => ?_) (fun z => ?_)
                · rw [if_pos z] at h; exact h
                · rw [if_neg z] at h; exact h
              · rw [if_pos ⟨by omega, e⟩] at h
                exact ⟨hM.o, pm_floor hM (by omega) (by omega) ⟨hM.o, pm_refuses hM (by omega) h⟩⟩
          · rw [if_neg d] at h
            exact ⟨hM.o, pm_refuses hM (by omega) h⟩
        · rw [if_neg c] at h
          exact ⟨hM.o, pm_inBay hM c2.1 c2.2 ⟨hM.o, pm_refuses hM (by omega) h⟩⟩
      · rw [bI_f c3]
        rw [if_neg c3, cmM_no] at h
        exact ⟨fun e => absurd rfl e, fun _ => h G hM⟩
    · rw [bI_f c2]
      rw [if_neg c2, cmM_no] at h
      exact ⟨fun e => absurd rfl e, fun _ => h G hM⟩
  · rw [bI_f c1]
    rw [if_neg c1, cmM_no] at h
    exact ⟨fun _ => h G hM, fun e => absurd rfl e⟩
theorem f_thresh_b {w : Int → Int} (hW : WI N w) (f b s : Int) : -3 ≤ (f_thresh w f b s).1 ∧ (f_thresh w f b s).1 ≤ 100 := by
  unfold f_thresh
  by_cases c1 : 0 ≤ f ∧ f ≤ 1
  · have hfl := (hW.2.2.2.2.1 f c1.1 c1.2).1
    rw [if_pos c1]
    by_cases c2 : 0 ≤ b ∧ b ≤ 3
    · rw [if_pos c2]
      by_cases c3 : 1 ≤ s ∧ s ≤ 20
      · rw [if_pos c3]
        split
        · split
          · dsimp only
            split
            · show -3 ≤ (-3 : Int) ∧ (-3 : Int) ≤ 100; omega
            · split
              · show -3 ≤ w (383 + 4 * f + 0) + s ∧ w (383 + 4 * f + 0) + s ≤ 100; omega
              · show -3 ≤ (-3 : Int) ∧ (-3 : Int) ≤ 100; omega
          · show -3 ≤ (-3 : Int) ∧ (-3 : Int) ≤ 100; omega
        · show -3 ≤ (-3 : Int) ∧ (-3 : Int) ≤ 100; omega
      · rw [if_neg c3]; show -3 ≤ (-2 : Int) ∧ (-2 : Int) ≤ 100; omega
    · rw [if_neg c2]; show -3 ≤ (-1 : Int) ∧ (-1 : Int) ≤ 100; omega
  · rw [if_neg c1]; show -3 ≤ (-1 : Int) ∧ (-1 : Int) ≤ 100; omega
theorem pm_thresh {Q : Int32 → aH → Prop} (hM : MM G0 G M μ) (hW : WI N (μ 1)) (hr : 0 ≤ μ 0 6 ∧ μ 0 6 ≤ 8) {f b s : Int} (hf : -2147483648 ≤ f ∧ f < 2147483648) (hb : -2147483648 ≤ b ∧ b < 2147483648) (hs : -2147483648 ≤ s ∧ s < 2147483648) (h : ∀ G1, MM G0 G1 M (caM μ (f_thresh (μ 1) f b s)) → Q (Int32.ofInt (f_thresh (μ 1) f b s).1) G1) : tw_X8_thresh Q G M (Int32.ofInt f) (Int32.ofInt b) (Int32.ofInt s) := by
  unfold tw_X8_thresh
  have e1 := sttM_1 μ
  have hbd := f_thresh_b hW f b s
  refine ⟨hM.o, pm_starts hM (fun G1 hM1 => ⟨hM1.o, ?_⟩)⟩
  have hM1 : MM G0 G1 M (sttM μ) := hM1
  refine pm_threshes (N := N) hM1 (by rw [e1]; exact hW) hf hb hs ?_
  rw [e1]
  intro G2 hM2
  exact ⟨hM2.o, pm_ended hM2 hr (by omega) h⟩
/-- the first due is dropped -/
def shD (w : Int → Int) (p k : Int) : Int → Int := fun j => if 1 + 23 * p + 5 ≤ j ∧ j < 1 + 23 * p + k then w (j + 2) else w j
def drW (w : Int → Int) (p : Int) : Int → Int := ud (if 2 ≤ w (1 + 23 * p + 4) then shD w p (3 + 2 * w (1 + 23 * p + 4)) else w) (1 + 23 * p + 4) (w (1 + 23 * p + 4) - 1)
theorem shD_5 (w : Int → Int) (p : Int) : shD w p 5 = w := by
  funext j
  exact if_neg (by omega)
theorem shD_s (w : Int → Int) (p k : Int) (hk : 5 ≤ k) : ud (shD w p k) (1 + 23 * p + k) (shD w p k (1 + 23 * p + k + 2)) = shD w p (k + 1) := by
  funext j
  unfold ud shD
  rw [if_neg (show ¬ (1 + 23 * p + 5 ≤ 1 + 23 * p + k + 2 ∧ 1 + 23 * p + k + 2 < 1 + 23 * p + k) by omega)]
  by_cases e : j = 1 + 23 * p + k
  · rw [if_pos e, if_pos (by omega), e]
  · rw [if_neg e]
    by_cases c : 1 + 23 * p + 5 ≤ j ∧ j < 1 + 23 * p + k
    · rw [if_pos c, if_pos (by omega)]
    · rw [if_neg c, if_neg (by omega)]
theorem pm_drops49 {Q : aH → Prop} (hM : MM G0 G M μ) {p : Int} (hp : 0 ≤ p ∧ p < 6) (h : ∀ G1, MM G0 G1 M (rep μ 1 (ud (μ 1) (1 + 23 * p + 4) (μ 1 (1 + 23 * p + 4) - 1))) → Q G1) : tw_X8_dropsDue_b49 Q G M (Int32.ofInt (1 + 23 * p)) := by
  unfold tw_X8_dropsDue_b49
  simp (disch := omega) only [n_nat, n_add, n_sub, n_mul, n_neg, n_le, n_lt, n_eq, n_div, n_tn, n_if, Int.cast_ofNat_Int, MM.o hM, MM.r0 hM, MM.r1 hM, MM.r2 hM, MM.r3 hM, MM.r4 hM, MM.r8 hM, MM.r9 hM, MM.r10 hM, MM.r13 hM, MM.r16 hM, MM.r21 hM, MM.r22 hM, MM.a1 hM, MM.a2 hM, MM.a3 hM, MM.a4 hM, MM.a5 hM, MM.a6 hM, MM.a7 hM, MM.a8 hM, MM.a9 hM, MM.a10 hM, MM.a11 hM, MM.a12 hM, MM.d1 hM, MM.d2 hM, MM.d3 hM, MM.d4 hM, MM.d5 hM, MM.d6 hM, MM.d7 hM, MM.d8 hM, MM.d9 hM, MM.d10 hM, MM.d11 hM, MM.d12 hM, MM.fl hM, true_and]
  exact hM.wr (by omega) (by omega) h
theorem pm_drops9 {Q : aH → Prop} {p : Int} (hp : 0 ≤ p ∧ p < 6) (hm : 2 ≤ μ 1 (1 + 23 * p + 4) ∧ μ 1 (1 + 23 * p + 4) ≤ 8) (h : ∀ G1, MM G0 G1 M (rep μ 1 (drW (μ 1) p)) → Q G1) : ∀ (n : Nat) (k : Int) (G : aH), 5 ≤ k → k + n = 3 + 2 * μ 1 (1 + 23 * p + 4) → MM G0 G M (rep μ 1 (shD (μ 1) p k)) → tw_X8_dropsDue_b9 Q (n + 1) G M (Int32.ofInt (1 + 23 * p)) (Int32.ofInt k)
  | 0, k, G, hk, hn, hM => by
    have e4 : shD (μ 1) p k (1 + 23 * p + 4) = μ 1 (1 + 23 * p + 4) := if_neg (by omega)
    rw [tws_X8_dropsDue_b9]
    simp (disch := omega) only [n_nat, n_add, n_sub, n_mul, n_neg, n_le, n_lt, n_eq, n_div, n_tn, n_if, Int.cast_ofNat_Int, MM.o hM, MM.r0 hM, MM.r1 hM, MM.r2 hM, MM.r3 hM, MM.r4 hM, MM.r8 hM, MM.r9 hM, MM.r10 hM, MM.r13 hM, MM.r16 hM, MM.r21 hM, MM.r22 hM, MM.a1 hM, MM.a2 hM, MM.a3 hM, MM.a4 hM, MM.a5 hM, MM.a6 hM, MM.a7 hM, MM.a8 hM, MM.a9 hM, MM.a10 hM, MM.a11 hM, MM.a12 hM, MM.d1 hM, MM.d2 hM, MM.d3 hM, MM.d4 hM, MM.d5 hM, MM.d6 hM, MM.d7 hM, MM.d8 hM, MM.d9 hM, MM.d10 hM, MM.d11 hM, MM.d12 hM, MM.fl hM, true_and, rep_at, e4]
    refine ⟨fun _ => pm_drops49 hM hp ?_, fun c => by omega⟩
    rw [rep_at, rep_rep, e4]
    unfold drW at h
    rw [if_pos hm.1, ← hn, show k + ((0 : Nat) : Int) = k by omega] at h
    exact h
  | n + 1, k, G, hk, hn, hM => by
    have e4 : shD (μ 1) p k (1 + 23 * p + 4) = μ 1 (1 + 23 * p + 4) := if_neg (by omega)
    rw [tws_X8_dropsDue_b9]
    simp (disch := omega) only [n_nat, n_add, n_sub, n_mul, n_neg, n_le, n_lt, n_eq, n_div, n_tn, n_if, Int.cast_ofNat_Int, MM.o hM, MM.r0 hM, MM.r1 hM, MM.r2 hM, MM.r3 hM, MM.r4 hM, MM.r8 hM, MM.r9 hM, MM.r10 hM, MM.r13 hM, MM.r16 hM, MM.r21 hM, MM.r22 hM, MM.a1 hM, MM.a2 hM, MM.a3 hM, MM.a4 hM, MM.a5 hM, MM.a6 hM, MM.a7 hM, MM.a8 hM, MM.a9 hM, MM.a10 hM, MM.a11 hM, MM.a12 hM, MM.d1 hM, MM.d2 hM, MM.d3 hM, MM.d4 hM, MM.d5 hM, MM.d6 hM, MM.d7 hM, MM.d8 hM, MM.d9 hM, MM.d10 hM, MM.d11 hM, MM.d12 hM, MM.fl hM, true_and, rep_at, e4]
    refine ⟨fun c => by omega, fun _ => ?_⟩
    refine hM.wr (by omega) (by omega) (fun G1 hM1 => ?_)
    intro x hx
    subst hx
    rw [rep_rep, rep_at, shD_s _ _ _ hk] at hM1
    exact pm_drops9 hp hm h n _ G1 (by omega) (by omega) hM1
theorem pm_dropsDue {Q : aH → Prop} (hM : MM G0 G M μ) {p : Int} (hp : 0 ≤ p ∧ p < 6) (hm : 1 ≤ μ 1 (1 + 23 * p + 4) ∧ μ 1 (1 + 23 * p + 4) ≤ 8) (h : ∀ G1, MM G0 G1 M (rep μ 1 (drW (μ 1) p)) → Q G1) : tw_X8_dropsDue Q G M (Int32.ofInt p) := by
  unfold tw_X8_dropsDue
  simp (disch := omega) only [n_nat, n_add, n_sub, n_mul, n_neg, n_le, n_lt, n_eq, n_div, n_tn, n_if, Int.cast_ofNat_Int]
  intro x hx
  subst hx
  by_cases c : 2 ≤ μ 1 (1 + 23 * p + 4)
  · refine ⟨_, pm_drops9 hp ⟨c, hm.2⟩ h (2 * μ 1 (1 + 23 * p + 4) - 2).toNat 5 G (by omega) (by omega) ?_⟩
    rw [shD_5, rep_self]
    exact hM
  · refine ⟨1, ?_⟩
    rw [tws_X8_dropsDue_b9]
    simp (disch := omega) only [n_nat, n_add, n_sub, n_mul, n_neg, n_le, n_lt, n_eq, n_div, n_tn, n_if, Int.cast_ofNat_Int, MM.o hM, MM.r0 hM, MM.r1 hM, MM.r2 hM, MM.r3 hM, MM.r4 hM, MM.r8 hM, MM.r9 hM, MM.r10 hM, MM.r13 hM, MM.r16 hM, MM.r21 hM, MM.r22 hM, MM.a1 hM, MM.a2 hM, MM.a3 hM, MM.a4 hM, MM.a5 hM, MM.a6 hM, MM.a7 hM, MM.a8 hM, MM.a9 hM, MM.a10 hM, MM.a11 hM, MM.a12 hM, MM.d1 hM, MM.d2 hM, MM.d3 hM, MM.d4 hM, MM.d5 hM, MM.d6 hM, MM.d7 hM, MM.d8 hM, MM.d9 hM, MM.d10 hM, MM.d11 hM, MM.d12 hM, MM.fl hM, true_and]
    refine ⟨fun _ => pm_drops49 hM hp ?_, fun d => by omega⟩
    unfold drW at h
    rw [if_neg c] at h
    exact h
end MODEL
