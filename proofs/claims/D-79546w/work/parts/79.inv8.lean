/-! PLAIN LAW: some days of the model -/
def psR : Nat → (Int → Int) → Int → Int
  | 0, w => w
  | n + 1, w => psR n (dyR w)
def psS : Nat → (Int → Int) → Int
  | 0, _ => 0
  | n + 1, w => dyS w + psS n (dyR w)
theorem psR_e : ∀ (n : Nat) (w : Int → Int), psR (n + 1) w = dyR (psR n w)
  | 0, _ => rfl
  | n + 1, w => psR_e n (dyR w)
theorem WI_ps {N : Int} : ∀ (n : Nat) (w : Int → Int), WI N w → w 428 + n ≤ 100000 → WI N (psR n w) ∧ psR n w 428 = w 428 + n ∧ psR n w 0 = w 0 ∧ 0 ≤ psS n w ∧ psS n w ≤ 40 * n
  | 0, w, h, _ => ⟨h, by show w 428 = _; omega, rfl, by show (0 : Int) ≤ 0; omega, by show (0 : Int) ≤ _; omega⟩
  | n + 1, w, h, hd => by
    obtain ⟨d1, d2, d3, d4, d5⟩ := h.dy (by omega)
    obtain ⟨g1, g2, g3, g4, g5⟩ := WI_ps n (dyR w) d1 (by omega)
    refine ⟨g1, ?_, g3.trans d3, ?_, ?_⟩
    · show psR n (dyR w) 428 = _
      omega
    · show 0 ≤ dyS w + psS n (dyR w)
      omega
    · show dyS w + psS n (dyR w) ≤ _
      omega
def f_pass (w : Int → Int) (d : Int) : oC := if 1 ≤ d ∧ d ≤ 30 then (psS d.toNat w, psR d.toNat w, none) else noC w (-2)
def ewR (w : Int → Int) (c : Int) : Int → Int := psR 10 (ud w 427 c)
/-- the kinds of a search for the least; e what is eaten with the cat at a place -/
def bcF (e : Int → Int32) : Nat → Int → Int → Int32 → Int × Int32
  | 0, _, b, l => (b, l)
  | n + 1, k, b, l => bcF e n (k + 1) (if l ≤ e k then b else k) (if e k < l then e k else l)
def ewS (w : Int → Int) (c : Int) : Int32 := Int32.ofInt (ewR w c 432 - w 432)
/-- how long a bin lasts: the days, from a count on -/
def laF (k : Int) : Nat → (Int → Int) → Int → Int
  | 0, _, a => a
  | n + 1, w, a => if w (391 + 5 * k + 0) ≤ 0 then a else laF k n (dyR w) (a + 1)
theorem f_pass_b {N : Int} {w : Int → Int} (h : WI N w) (hd : w 428 + 30 ≤ 100000) (d : Int) : -3 ≤ (f_pass w d).1 ∧ (f_pass w d).1 ≤ 1200 := by
  unfold f_pass
  split
  · have := (WI_ps d.toNat w h (by omega)).2.2.2
    show -3 ≤ psS d.toNat w ∧ psS d.toNat w ≤ 1200
    omega
  · show (-3 : Int) ≤ -2 ∧ (-2 : Int) ≤ 1200
    omega
section MODEL
variable {G0 G : aH} {M : Nat} {μ : Nat → Int → Int} {N : Int}
theorem pm_passes_l {Q : Int32 → aH → Prop} {d : Int} (hd : 0 ≤ d ∧ d ≤ 30) : ∀ (n : Nat) (a k : Int) (G : aH) (μ : Nat → Int → Int), MM G0 G M μ → WI N (μ 1) → μ 1 428 + n ≤ 100000 → 0 ≤ k → k + n = d → (∀ G1, MM G0 G1 M (rep μ 1 (psR n (μ 1))) → Q (Int32.ofInt (a + psS n (μ 1))) G1) → tw_X8_passes_b17 Q (n + 1) G M (Int32.ofInt d) (Int32.ofInt a) (Int32.ofInt k)
  | 0, a, k, G, μ, hM, hW, h8, hk, hn, h => by
    rw [tws_X8_passes_b17]
    simp (disch := omega) only [n_nat, n_add, n_sub, n_mul, n_neg, n_le, n_lt, n_eq, n_div, n_tn, n_if, Int.cast_ofNat_Int]
    refine ⟨fun _ => ?_, fun c => by omega⟩
    have := h G (by show MM G0 G M (rep μ 1 (μ 1)); rw [rep_self]; exact hM)
    rw [psS, Int.add_zero] at this
    exact this
  | n + 1, a, k, G, μ, hM, hW, h8, hk, hn, h => by
    rw [tws_X8_passes_b17]
    simp (disch := omega) only [n_nat, n_add, n_sub, n_mul, n_neg, n_le, n_lt, n_eq, n_div, n_tn, n_if, Int.cast_ofNat_Int, MM.o hM, MM.r0 hM, MM.r1 hM, MM.r2 hM, MM.r3 hM, MM.r4 hM, MM.r8 hM, MM.r9 hM, MM.r10 hM, MM.r13 hM, MM.r16 hM, MM.r21 hM, MM.r22 hM, MM.a1 hM, MM.a2 hM, MM.a3 hM, MM.a4 hM, MM.a5 hM, MM.a6 hM, MM.a7 hM, MM.a8 hM, MM.a9 hM, MM.a10 hM, MM.a11 hM, MM.a12 hM, MM.d1 hM, MM.d2 hM, MM.d3 hM, MM.d4 hM, MM.d5 hM, MM.d6 hM, MM.d7 hM, MM.d8 hM, MM.d9 hM, MM.d10 hM, MM.d11 hM, MM.d12 hM, MM.fl hM, true_and]
    refine ⟨fun c => by omega, fun _ => pm_dy hM hW (fun G1 hM1 => ?_)⟩
    intro x hx y hy
    try simp (disch := omega) only [n_nat, n_add, n_sub, n_mul, n_neg, n_le, n_lt, n_eq, n_div, n_tn, n_if, Int.cast_ofNat_Int] at hx hy
    subst hx hy
    have hdy := hW.dy (by omega)
    refine pm_passes_l hd n _ _ G1 (rep μ 1 (dyR (μ 1))) hM1 (by rw [rep_at]; exact hdy.1) (by rw [rep_at]; omega) (by omega) (by omega) (fun G2 hM2 => ?_)
    rw [rep_rep, rep_at] at hM2
    rw [rep_at, Int.add_assoc]
    exact h G2 hM2
theorem pm_passes {Q : Int32 → aH → Prop} (hM : MM G0 G M μ) (hW : WI N (μ 1)) (h8 : μ 1 428 + 30 ≤ 100000) {d : Int} (hd : -2147483648 ≤ d ∧ d < 2147483648) (h : ∀ G1, MM G0 G1 M (cmM μ (f_pass (μ 1) d)) → Q (Int32.ofInt (f_pass (μ 1) d).1) G1) : tw_X8_passes Q G M (Int32.ofInt d) := by
  unfold tw_X8_passes
  simp (disch := omega) only [n_nat, n_add, n_sub, n_mul, n_neg, n_le, n_lt, n_eq, n_div, n_tn, n_if, Int.cast_ofNat_Int]
  unfold f_pass at h
  refine pm_isIn hd (by omega) (by omega) ?_
  by_cases c : 1 ≤ d ∧ d ≤ 30
  · rw [bI_t c]
    rw [if_pos c] at h
    refine ⟨fun _ => ⟨_, pm_passes_l (d := d) (by omega) d.toNat 0 0 G μ hM hW (by omega) (by omega) (by omega) (fun G1 hM1 => ?_)⟩, fun e => absurd e (by decide)⟩
    rw [Int.zero_add]
    exact h G1 hM1
  · rw [bI_f c]
    rw [if_neg c, cmM_no] at h
    exact ⟨fun e => absurd rfl e, fun _ => h G hM⟩
theorem pm_pass {Q : Int32 → aH → Prop} (hM : MM G0 G M μ) (hW : WI N (μ 1)) (hr : 0 ≤ μ 0 6 ∧ μ 0 6 ≤ 8) (h8 : μ 1 428 + 30 ≤ 100000) {p : Int} (hp : -2147483648 ≤ p ∧ p < 2147483648) (h : ∀ G1, MM G0 G1 M (caM μ (f_pass (μ 1) p)) → Q (Int32.ofInt (f_pass (μ 1) p).1) G1) : tw_X8_pass Q G M (Int32.ofInt p) := by
  have hb := f_pass_b hW h8 p
  unfold tw_X8_pass
  refine ⟨hM.o, pm_starts hM (fun G1 hM1 => ?_)⟩
  have hM1 : MM G0 G1 M (sttM μ) := hM1
  refine ⟨hM1.o, pm_passes hM1 (by rw [sttM_1]; exact hW) (by rw [sttM_1]; exact h8) hp (fun G2 hM2 => ⟨hM2.o, ?_⟩)⟩
  rw [sttM_1] at hM2 ⊢
  exact pm_ended hM2 hr (by omega) h
/-- behind a trial: all as it was -/
def trM (μ : Nat → Int → Int) : Nat → Int → Int := rep μ 3 (μ 1)
theorem pm_back {Q : aH → Prop} {w : Int → Int} (hM : MM G0 G M (rep (trM μ) 1 w)) (h : ∀ G1, MM G0 G1 M (trM μ) → Q G1) : tw_X8_copies Q G (M + 3) (Int32.ofInt 0) (M + 1) (Int32.ofInt 0) := by
  refine pm_copy hM (by omega) (by omega) (by omega) (fun G1 hM1 => h G1 ?_)
  have e : rep (rep (trM μ) 1 w) 1 (rep (trM μ) 1 w 3) = trM μ := by
    rw [rep_rep, rep_ne (by omega)]
    have e2 : trM μ 3 = trM μ 1 := by
      unfold trM
      rw [rep_at, rep_ne (by omega)]
    rw [e2, rep_self]
  rw [e] at hM1
  exact hM1
theorem pm_lasts50 {Q : Int32 → aH → Prop} {w : Int → Int} {d : Int} (hd : 0 ≤ d ∧ d ≤ 100) (hM : MM G0 G M (rep (trM μ) 1 w)) (h : ∀ G1, MM G0 G1 M (trM μ) → Q (Int32.ofInt (if d ≤ 60 then d else -4)) G1) : tw_X8_lasts_b50 Q G M (Int32.ofInt d) := by
  unfold tw_X8_lasts_b50
  simp (disch := omega) only [n_nat, MM.o hM, MM.r0 hM, MM.r1 hM, MM.r2 hM, MM.r3 hM, MM.r4 hM, MM.r8 hM, MM.r9 hM, MM.r10 hM, MM.r13 hM, MM.r16 hM, MM.r21 hM, MM.r22 hM, MM.a1 hM, MM.a2 hM, MM.a3 hM, MM.a4 hM, MM.a5 hM, MM.a6 hM, MM.a7 hM, MM.a8 hM, MM.a9 hM, MM.a10 hM, MM.a11 hM, MM.a12 hM, MM.d1 hM, MM.d2 hM, MM.d3 hM, MM.d4 hM, MM.d5 hM, MM.d6 hM, MM.d7 hM, MM.d8 hM, MM.d9 hM, MM.d10 hM, MM.d11 hM, MM.d12 hM, MM.fl hM, true_and]
  refine pm_back hM (fun G1 hM1 => ?_)
  have := h G1 hM1
  simp (disch := omega) only [n_nat, n_add, n_sub, n_mul, n_neg, n_le, n_lt, n_eq, n_div, n_tn, n_if, Int.cast_ofNat_Int]
  refine ⟨fun c => ?_, fun c => ?_⟩
  · rw [if_pos c] at this; exact this
  · rw [if_neg c] at this; exact this
theorem pm_lasts24 {Q : Int32 → aH → Prop} {k : Int} (hk : 0 ≤ k ∧ k ≤ 2) : ∀ (n : Nat) (a : Int) (w : Int → Int) (G : aH), MM G0 G M (rep (trM μ) 1 w) → WI N w → w 428 + n ≤ 100000 → 0 ≤ a → a + n = 61 → (∀ G1, MM G0 G1 M (trM μ) → Q (Int32.ofInt (if laF k n w a ≤ 60 then laF k n w a else -4)) G1) → tw_X8_lasts_b24 Q (n + 1) G M (Int32.ofInt k) (Int32.ofInt a)
  | 0, a, w, G, hM, hW, h8, ha, hn, h => by
    rw [tws_X8_lasts_b24]
    simp (disch := omega) only [n_nat, n_add, n_sub, n_mul, n_neg, n_le, n_lt, n_eq, n_div, n_tn, n_if, Int.cast_ofNat_Int]
    refine ⟨fun _ => pm_lasts50 (by omega) hM h, fun c => by omega⟩
  | n + 1, a, w, G, hM, hW, h8, ha, hn, h => by
    have hk2 := (hW.2.2.2.2.2.1 k hk.1 hk.2).1
    rw [tws_X8_lasts_b24]
    simp (disch := omega) only [n_nat, n_add, n_sub, n_mul, n_neg, n_le, n_lt, n_eq, n_div, n_tn, n_if, Int.cast_ofNat_Int, MM.o hM, MM.r0 hM, MM.r1 hM, MM.r2 hM, MM.r3 hM, MM.r4 hM, MM.r8 hM, MM.r9 hM, MM.r10 hM, MM.r13 hM, MM.r16 hM, MM.r21 hM, MM.r22 hM, MM.a1 hM, MM.a2 hM, MM.a3 hM, MM.a4 hM, MM.a5 hM, MM.a6 hM, MM.a7 hM, MM.a8 hM, MM.a9 hM, MM.a10 hM, MM.a11 hM, MM.a12 hM, MM.d1 hM, MM.d2 hM, MM.d3 hM, MM.d4 hM, MM.d5 hM, MM.d6 hM, MM.d7 hM, MM.d8 hM, MM.d9 hM, MM.d10 hM, MM.d11 hM, MM.d12 hM, MM.fl hM, true_and]
    refine ⟨fun c => by omega, fun _ => pm_store hM (by omega) (by omega) ⟨fun c => ?_, fun c => ?_⟩⟩ <;> rw [rep_at, n_le (by omega) (by omega)] at c <;> rw [laF] at h
    · rw [if_pos c] at h
      exact pm_lasts50 (by omega) hM h
    · rw [if_neg c] at h
      have hdy := hW.dy (by omega)
      refine ⟨hM.o, pm_dy hM (N := N) (by rw [rep_at]; exact hW) (fun G1 hM1 => ?_)⟩
      intro x hx
      try simp (disch := omega) only [n_nat, n_add, n_sub, n_mul, n_neg, n_le, n_lt, n_eq, n_div, n_tn, n_if, Int.cast_ofNat_Int] at hx
      subst hx
      rw [rep_rep, rep_at] at hM1
      exact pm_lasts24 hk n (a + 1) (dyR w) G1 hM1 hdy.1 (by omega) (by omega) (by omega) h
theorem pm_lasts {Q : Int32 → aH → Prop} (hM : MM G0 G M μ) (hW : WI N (μ 1)) (h8 : μ 1 428 + 61 ≤ 100000) {k : Int} (hk : -2147483648 ≤ k ∧ k < 2147483648) (h1 : ¬ (0 ≤ k ∧ k ≤ 2) → Q (Int32.ofInt (-1)) G) (h2 : (0 ≤ k ∧ k ≤ 2) → ∀ G1, MM G0 G1 M (trM μ) → Q (Int32.ofInt (if laF k 61 (μ 1) 0 ≤ 60 then laF k 61 (μ 1) 0 else -4)) G1) : tw_X8_lasts Q G M (Int32.ofInt k) := by
  unfold tw_X8_lasts
  simp (disch := omega) only [n_nat, n_add, n_sub, n_mul, n_neg, n_le, n_lt, n_eq, n_div, n_tn, n_if, Int.cast_ofNat_Int]
  refine pm_isKind hk ?_
  by_cases c : 0 ≤ k ∧ k ≤ 2
  · rw [bI_t c]
    refine ⟨fun _ => ⟨hM.o, hM.o, ?_⟩, fun e => absurd e (by decide)⟩
    simp (disch := omega) only [MM.o hM, MM.r0 hM, MM.r1 hM, MM.r2 hM, MM.r3 hM, MM.r4 hM, MM.r8 hM, MM.r9 hM, MM.r10 hM, MM.r13 hM, MM.r16 hM, MM.r21 hM, MM.r22 hM, MM.a1 hM, MM.a2 hM, MM.a3 hM, MM.a4 hM, MM.a5 hM, MM.a6 hM, MM.a7 hM, MM.a8 hM, MM.a9 hM, MM.a10 hM, MM.a11 hM, MM.a12 hM, MM.d1 hM, MM.d2 hM, MM.d3 hM, MM.d4 hM, MM.d5 hM, MM.d6 hM, MM.d7 hM, MM.d8 hM, MM.d9 hM, MM.d10 hM, MM.d11 hM, MM.d12 hM, MM.fl hM]
    refine pm_copy hM (by omega) (by omega) (by omega) (fun G1 hM1 => ⟨_, pm_lasts24 (μ := μ) (N := N) c 61 0 (μ 1) G1 ?_ hW (by omega) (by omega) (by omega) (h2 c)⟩)
    have e : rep (trM μ) 1 (μ 1) = trM μ := by
      have e2 : trM μ 1 = μ 1 := rep_ne (by omega)
      rw [← e2, rep_self]
    rw [e]
    exact hM1
  · rw [bI_f c]
    exact ⟨fun e => absurd rfl e, fun _ => h1 c⟩
end MODEL
