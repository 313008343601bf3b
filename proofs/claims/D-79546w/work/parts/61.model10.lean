/-! PLAIN LAW: the model's commands: threshing -/
/-- the top sheaf of a bay is gone -/
def popW (w : Int → Int) (b : Int) : Int → Int := ud (ud w (139 + 61 * b) (w (139 + 61 * b) - 1)) (139 + 61 * b + 1 + (w (139 + 61 * b) - 1)) 0
def popN (w : Int → Int) (b : Int) : Nat → Int → Int
  | 0 => w
  | n + 1 => popN (popW w b) b n
theorem popW_n (w : Int → Int) {b : Int} (h : 1 ≤ w (139 + 61 * b)) : popW w b (139 + 61 * b) = w (139 + 61 * b) - 1 := by
  unfold popW
  rw [ud_ne (by omega), ud_at]
theorem popW_ne (w : Int → Int) {b j : Int} (h : 1 ≤ w (139 + 61 * b)) (h1 : ¬ (139 + 61 * b ≤ j ∧ j ≤ 139 + 61 * b + w (139 + 61 * b))) : popW w b j = w j := by
  unfold popW
  rw [ud_ne (by omega), ud_ne (by omega)]
def kdW (w : Int → Int) (b k : Int) : Int := w (1 + 23 * w (139 + 61 * b + 1 + k) + 0)
/-- of the top sheaves, from k on, the kind of the first that is not of the kind of the top one -/
def unF (kd : Int → Int) (top : Int) : Int → Nat → Int
  | _, 0 => -1
  | k, n + 1 => if kd (top - k) = kd top then unF kd top (k + 1) n else kd (top - k)
def unlW (w : Int → Int) (b s : Int) : Int := unF (kdW w b) (w (139 + 61 * b) - 1) 0 s.toNat
def f_thresh (w : Int → Int) (f b s : Int) : oC := if 0 ≤ f ∧ f ≤ 1 then (if 0 ≤ b ∧ b ≤ 3 then (if 1 ≤ s ∧ s ≤ 20 then
    (if s ≤ w (139 + 61 * b) then (if unlW w b s = -1 then
      (let kind := kdW w b (w (139 + 61 * b) - 1)
       if 0 < w (383 + 4 * f + 0) ∧ ¬ w (383 + 4 * f + 1) = kind then reC w 5 (w (383 + 4 * f + 1)) 0 0
       else if s ≤ 20 - w (383 + 4 * f + 0) then
         (w (383 + 4 * f + 0) + s, ud (ud (popN w b s.toNat) (383 + 4 * f + 0) (w (383 + 4 * f + 0) + s)) (383 + 4 * f + 1) kind, none)
       else reC w 6 (20 - w (383 + 4 * f + 0)) 0 0)
      else reC w 7 (unlW w b s) 0 0) else reC w 4 (w (139 + 61 * b)) 0 0) else noC w (-2)) else noC w (-1)) else noC w (-1)
theorem popN_hi {b : Int} : ∀ (n : Nat) (w : Int → Int), n ≤ w (139 + 61 * b) → w (139 + 61 * b) ≤ 60 → ∀ j, ¬ (139 + 61 * b ≤ j ∧ j ≤ 139 + 61 * b + 60) → popN w b n j = w j
  | 0, w, _, _, j, _ => rfl
  | n + 1, w, h1, h2, j, h3 => by
    have e := popW_n w (b := b) (by omega)
    show popN (popW w b) b n j = w j
    rw [popN_hi n (popW w b) (by omega) (by omega) j h3, popW_ne w (by omega) (by omega)]
section MODEL
variable {G0 G : aH} {M : Nat} {μ : Nat → Int → Int} {N : Int}
theorem pm_takes_l {Q : aH → Prop} {b s : Int} (hb : 0 ≤ b ∧ b ≤ 3) (hs : 0 ≤ s ∧ s ≤ 60) : ∀ (n : Nat) (k : Int) (G : aH) (μ : Nat → Int → Int), MM G0 G M μ → 0 ≤ k → k + n = s → n ≤ μ 1 (139 + 61 * b) → μ 1 (139 + 61 * b) ≤ 60 → (∀ G1, MM G0 G1 M (rep μ 1 (popN (μ 1) b n)) → Q G1) → tw_X8_takes_b2 Q (n + 1) G M (Int32.ofInt b) (Int32.ofInt s) (Int32.ofInt k)
  | 0, k, G, μ, hM, hk, hn, h1, h2, h => by
    rw [tws_X8_takes_b2]
    simp (disch := omega) only [n_nat, n_add, n_sub, n_mul, n_neg, n_le, n_lt, n_eq, n_div, n_tn, n_if, Int.cast_ofNat_Int]
    refine ⟨fun _ => h G ?_, fun c => by omega⟩
    show MM G0 G M (rep μ 1 (μ 1))
    rw [rep_self]
    exact hM
  | n + 1, k, G, μ, hM, hk, hn, h1, h2, h => by
    rw [tws_X8_takes_b2]
    simp (disch := omega) only [n_nat, n_add, n_sub, n_mul, n_neg, n_le, n_lt, n_eq, n_div, n_tn, n_if, Int.cast_ofNat_Int, MM.o hM, MM.r0 hM, MM.r1 hM, MM.r2 hM, MM.r3 hM, MM.r4 hM, MM.r8 hM, MM.r9 hM, MM.r10 hM, MM.r13 hM, MM.r16 hM, MM.r21 hM, MM.r22 hM, MM.a1 hM, MM.a2 hM, MM.a3 hM, MM.a4 hM, MM.a5 hM, MM.a6 hM, MM.a7 hM, MM.a8 hM, MM.a9 hM, MM.a10 hM, MM.a11 hM, MM.a12 hM, MM.d1 hM, MM.d2 hM, MM.d3 hM, MM.d4 hM, MM.d5 hM, MM.d6 hM, MM.d7 hM, MM.d8 hM, MM.d9 hM, MM.d10 hM, MM.d11 hM, MM.d12 hM, MM.fl hM, true_and]
    refine ⟨fun c => by omega, fun _ => ?_⟩
    refine hM.wr (by omega) (by omega) (fun G1 hM1 => ?_)
    simp (disch := omega) only [n_nat, n_add, n_sub, n_mul, n_neg, n_le, n_lt, n_eq, n_div, n_tn, n_if, Int.cast_ofNat_Int, MM.o hM1, MM.r0 hM1, MM.r1 hM1, MM.r2 hM1, MM.r3 hM1, MM.r4 hM1, MM.r8 hM1, MM.r9 hM1, MM.r10 hM1, MM.r13 hM1, MM.r16 hM1, MM.r21 hM1, MM.r22 hM1, MM.a1 hM1, MM.a2 hM1, MM.a3 hM1, MM.a4 hM1, MM.a5 hM1, MM.a6 hM1, MM.a7 hM1, MM.a8 hM1, MM.a9 hM1, MM.a10 hM1, MM.a11 hM1, MM.a12 hM1, MM.d1 hM1, MM.d2 hM1, MM.d3 hM1, MM.d4 hM1, MM.d5 hM1, MM.d6 hM1, MM.d7 hM1, MM.d8 hM1, MM.d9 hM1, MM.d10 hM1, MM.d11 hM1, MM.d12 hM1, MM.fl hM1, true_and]
    refine pm_inBay hM1 hb.1 hb.2 ?_
    rw [rep_at, ud_at]
    simp (disch := omega) only [n_nat, n_add, n_sub, n_mul, n_neg, n_le, n_lt, n_eq, n_div, n_tn, n_if, Int.cast_ofNat_Int, MM.o hM1, MM.r0 hM1, MM.r1 hM1, MM.r2 hM1, MM.r3 hM1, MM.r4 hM1, MM.r8 hM1, MM.r9 hM1, MM.r10 hM1, MM.r13 hM1, MM.r16 hM1, MM.r21 hM1, MM.r22 hM1, MM.a1 hM1, MM.a2 hM1, MM.a3 hM1, MM.a4 hM1, MM.a5 hM1, MM.a6 hM1, MM.a7 hM1, MM.a8 hM1, MM.a9 hM1, MM.a10 hM1, MM.a11 hM1, MM.a12 hM1, MM.d1 hM1, MM.d2 hM1, MM.d3 hM1, MM.d4 hM1, MM.d5 hM1, MM.d6 hM1, MM.d7 hM1, MM.d8 hM1, MM.d9 hM1, MM.d10 hM1, MM.d11 hM1, MM.d12 hM1, MM.fl hM1, true_and]
    refine hM1.wr (by omega) (by omega) (fun G2 hM2 => ?_)
    intro x hx
    subst hx
    rw [rep_rep, rep_at] at hM2
    have hM2 : MM G0 G2 M (rep μ 1 (popW (μ 1) b)) := hM2
    have e := popW_n (μ 1) (b := b) (by omega)
    refine pm_takes_l hb hs n _ G2 _ hM2 (by omega) (by omega) (by rw [rep_at]; omega) (by rw [rep_at]; omega) ?_
    rw [rep_rep, rep_at]
    exact h
theorem pm_takes {Q : aH → Prop} (hM : MM G0 G M μ) {b s : Int} (hb : 0 ≤ b ∧ b ≤ 3) (hs : 0 ≤ s ∧ s ≤ μ 1 (139 + 61 * b)) (hn : μ 1 (139 + 61 * b) ≤ 60) (h : ∀ G1, MM G0 G1 M (rep μ 1 (popN (μ 1) b s.toNat)) → Q G1) : tw_X8_takes Q G M (Int32.ofInt b) (Int32.ofInt s) := by
  unfold tw_X8_takes
  exact ⟨_, pm_takes_l hb ⟨hs.1, by omega⟩ s.toNat 0 G μ hM (by omega) (by omega) (by omega) hn h⟩
theorem pm_kdW {Q : Int32 → aH → Prop} (hM : MM G0 G M μ) (hW : WI N (μ 1)) {b k : Int} (hb : 0 ≤ b ∧ b ≤ 3) (hk : 0 ≤ k ∧ k < μ 1 (139 + 61 * b)) (h : (0 ≤ kdW (μ 1) b k ∧ kdW (μ 1) b k ≤ 2) → Q (Int32.ofInt (kdW (μ 1) b k)) G) : tw_X8_kindOf Q G M (Int32.ofInt b) (Int32.ofInt k) := by
  have h0 := hW.2.1
  have hn := (hW.2.2.2.1 b hb.1 hb.2).1
  have hs := (hW.2.2.2.1 b hb.1 hb.2).2 k hk.1 hk.2
  have hp := (hW.2.2.1 (μ 1 (139 + 61 * b + 1 + k)) hs.1 (by omega)).1
  exact pm_kindOf hM hb.1 hb.2 hk.1 (by omega) hs.1 (by omega) (h hp)
theorem pm_unlike_l {Q : Int32 → aH → Prop} (hM : MM G0 G M μ) (hW : WI N (μ 1)) {b s : Int} (hb : 0 ≤ b ∧ b ≤ 3) (hs : 1 ≤ s ∧ s ≤ μ 1 (139 + 61 * b)) : ∀ (n : Nat) (k : Int), 0 ≤ k → k + n = s → Q (Int32.ofInt (unF (kdW (μ 1) b) (μ 1 (139 + 61 * b) - 1) k n)) G → tw_X8_unlike_b14 Q (n + 1) G M (Int32.ofInt b) (Int32.ofInt s) (Int32.ofInt (μ 1 (139 + 61 * b) - 1)) (Int32.ofInt (-1)) (Int32.ofInt k)
  | 0, k, hk, hn, h => by
    have hb2 := (hW.2.2.2.1 b hb.1 hb.2).1
    rw [tws_X8_unlike_b14]
    simp (disch := omega) only [n_nat, n_add, n_sub, n_mul, n_neg, n_le, n_lt, n_eq, n_div, n_tn, n_if, Int.cast_ofNat_Int]
    exact ⟨fun _ => h, fun c => by omega⟩
  | n + 1, k, hk, hn, h => by
    have hb2 := (hW.2.2.2.1 b hb.1 hb.2).1
    rw [unF] at h
    rw [tws_X8_unlike_b14]
    simp (disch := omega) only [n_nat, n_add, n_sub, n_mul, n_neg, n_le, n_lt, n_eq, n_div, n_tn, n_if, Int.cast_ofNat_Int]
    refine ⟨fun c => by omega, fun _ => ⟨fun c => absurd trivial c, fun _ => ⟨hM.o, ?_⟩⟩⟩
    refine pm_kdW hM hW hb (by omega) (fun z1 => ⟨hM.o, pm_kdW hM hW hb (by omega) (fun z2 => ⟨fun c => ?_, fun c => ?_⟩)⟩) <;> rw [n_eq (by omega) (by omega)] at c
    · rw [if_pos c] at h
      unfold tw_X8_unlike_b57
      intro x hx
      try simp (disch := omega) only [n_nat, n_add, n_sub, n_mul, n_neg, n_le, n_lt, n_eq, n_div, n_tn, n_if, Int.cast_ofNat_Int] at hx
      subst hx
      exact pm_unlike_l hM hW hb hs n _ (by omega) (by omega) h
    · rw [if_neg c] at h
      refine ⟨hM.o, pm_kdW hM hW hb (by omega) (fun _ => ?_)⟩
      unfold tw_X8_unlike_b57
      intro x hx
      try simp (disch := omega) only [n_nat, n_add, n_sub, n_mul, n_neg, n_le, n_lt, n_eq, n_div, n_tn, n_if, Int.cast_ofNat_Int] at hx
      subst hx
      cases n with
      | zero =>
        rw [tws_X8_unlike_b14]
        simp (disch := omega) only [n_nat, n_add, n_sub, n_mul, n_neg, n_le, n_lt, n_eq, n_div, n_tn, n_if, Int.cast_ofNat_Int]
        exact ⟨fun _ => h, fun d => by omega⟩
      | succ n =>
        rw [tws_X8_unlike_b14]
        simp (disch := omega) only [n_nat, n_add, n_sub, n_mul, n_neg, n_le, n_lt, n_eq, n_div, n_tn, n_if, Int.cast_ofNat_Int]
        exact ⟨fun _ => h, fun _ => ⟨fun _ => h, fun d => by omega⟩⟩
theorem pm_unlike {Q : Int32 → aH → Prop} (hM : MM G0 G M μ) (hW : WI N (μ 1)) {b s : Int} (hb : 0 ≤ b ∧ b ≤ 3) (hs : 1 ≤ s ∧ s ≤ μ 1 (139 + 61 * b)) (h : Q (Int32.ofInt (unlW (μ 1) b s)) G) : tw_X8_unlike Q G M (Int32.ofInt b) (Int32.ofInt s) := by
  unfold tw_X8_unlike
  simp (disch := omega) only [n_nat, n_add, n_sub, n_mul, n_neg, n_le, n_lt, n_eq, n_div, n_tn, n_if, Int.cast_ofNat_Int, MM.o hM, MM.r0 hM, MM.r1 hM, MM.r2 hM, MM.r3 hM, MM.r4 hM, MM.r8 hM, MM.r9 hM, MM.r10 hM, MM.r13 hM, MM.r16 hM, MM.r21 hM, MM.r22 hM, MM.a1 hM, MM.a2 hM, MM.a3 hM, MM.a4 hM, MM.a5 hM, MM.a6 hM, MM.a7 hM, MM.a8 hM, MM.a9 hM, MM.a10 hM, MM.a11 hM, MM.a12 hM, MM.d1 hM, MM.d2 hM, MM.d3 hM, MM.d4 hM, MM.d5 hM, MM.d6 hM, MM.d7 hM, MM.d8 hM, MM.d9 hM, MM.d10 hM, MM.d11 hM, MM.d12 hM, MM.fl hM, true_and]
  refine pm_inBay hM hb.1 hb.2 ?_
  intro x hx
  try simp (disch := omega) only [n_nat, n_add, n_sub, n_mul, n_neg, n_le, n_lt, n_eq, n_div, n_tn, n_if, Int.cast_ofNat_Int] at hx
  subst hx
  exact ⟨_, pm_unlike_l hM hW hb hs s.toNat 0 (by omega) (by omega) h⟩
theorem unF_b {kd : Int → Int} {top : Int} : ∀ (n : Nat) (k : Int), (∀ j, k ≤ j → j < k + n → 0 ≤ kd (top - j) ∧ kd (top - j) ≤ 2) → -1 ≤ unF kd top k n ∧ unF kd top k n ≤ 2
  | 0, k, _ => by show -1 ≤ (-1 : Int) ∧ (-1 : Int) ≤ 2; omega
  | n + 1, k, h => by
    rw [unF]
    split
    · exact unF_b n (k + 1) (fun j h1 h2 => h j (by omega) (by omega))
    · have := h k (by omega) (by omega); omega
end MODEL
