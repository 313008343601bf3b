/-! PLAIN LAW: the model's commands: carting, on -/
def f_cart (w : Int → Int) (p s b : Int) : oC := if 0 ≤ p ∧ p < w 0 then (if 0 ≤ b ∧ b ≤ 3 then (if 1 ≤ s ∧ s ≤ 60 then
    (if s ≤ dueW w p then (if s ≤ 60 - w (139 + 61 * b) then
      ((cartN p b s.toNat w) (139 + 61 * b), ud (ud (cartN p b s.toNat w) (1 + 23 * p + 3) ((cartN p b s.toNat w) (1 + 23 * p + 3) + s)) 430 ((cartN p b s.toNat w) 430 + s * pt ((cartN p b s.toNat w) (1 + 23 * p + 0))), none)
     else reC w 3 (60 - w (139 + 61 * b)) 0 0) else reC w 2 (dueW w p) (if 0 < w (1 + 23 * p + 2) then 12 else 0) (w (1 + 23 * p + 2))) else noC w (-2)) else noC w (-1)) else noC w (-1)
/-- outside of the dues and the bay nothing is changed -/
theorem cartN_ne {p b : Int} (hp : 0 ≤ p ∧ p < 6) (hb : 0 ≤ b ∧ b ≤ 3) : ∀ (n : Nat) (w : Int → Int), DV w p n → 0 ≤ w (139 + 61 * b) → w (139 + 61 * b) + n ≤ 60 → (∀ j, ¬ (1 + 23 * p + 4 ≤ j ∧ j < 1 + 23 * p + 23) → ¬ (139 + 61 * b ≤ j ∧ j < 139 + 61 * b + 61) → cartN p b n w j = w j) ∧ cartN p b n w (139 + 61 * b) = w (139 + 61 * b) + n
  | 0, w, _, _, _ => ⟨fun _ _ _ => rfl, by show w (139 + 61 * b) = _; omega⟩
  | n + 1, w, hD, h1, h2 => by
    have hm := hD.1
    have e7 : decW w p (139 + 61 * b) = w (139 + 61 * b) := decW_ne _ (by omega) (by omega)
    have hD2 := (hD.dec (by omega)).1
    rw [show (((n + 1 : Nat) : Int) - 1) = (n : Int) by omega] at hD2
    have eb : pushW (decW w p) b p (139 + 61 * b) = w (139 + 61 * b) + 1 := by
      unfold pushW
      rw [ud_at, e7]
    have ih := cartN_ne hp hb n (pushW (decW w p) b p) (hD2.cg (fun j g1 g2 => by
      unfold pushW
      rw [ud_ne (by omega), ud_ne (by rw [e7]; omega)])) (by omega) (by omega)
    refine ⟨fun j g1 g2 => ?_, ?_⟩
    · show cartN p b n (pushW (decW w p) b p) j = w j
      rw [ih.1 j g1 g2]
      unfold pushW
      rw [ud_ne (by omega), ud_ne (by rw [e7]; omega)]
      exact decW_ne _ g1 (by omega)
    · show cartN p b n (pushW (decW w p) b p) (139 + 61 * b) = _
      rw [ih.2, eb]
      omega
theorem WI.dv {N : Int} {w : Int → Int} (hW : WI N w) {p s : Int} (hp : 0 ≤ p ∧ p < 6) (hs : s ≤ dueW w p) : DV w p s := by
  obtain ⟨a1, a2, -⟩ := hW.par hp.1 hp.2
  obtain ⟨b1, b2, b3, b4, b5, b6, b7, b8, -⟩ := hW.2.2.1 p hp.1 hp.2
  refine ⟨a1, fun k g1 g2 => ⟨(b7 k g1 g2).1, ?_⟩, hs⟩
  -- one of them is not more than all
  have h : ∀ (n : Nat) (i : Int), (∀ j, i ≤ j → j < i + n → 0 ≤ w (1 + 23 * p + (5 + 2 * j + 1))) → ∀ j, i ≤ j → j < i + n → w (1 + 23 * p + (5 + 2 * j + 1)) ≤ sF (fun k => w (1 + 23 * p + (5 + 2 * k + 1))) i n := by
    intro n
    induction n with
    | zero => intro i _ j h1 h2; omega
    | succ n ih =>
      intro i hnn j h1 h2
      rw [sF_s]
      have h3 : 0 ≤ sF (fun k => w (1 + 23 * p + (5 + 2 * k + 1))) (i + 1) n := sF_nn n (i + 1) (fun x y z => hnn x (by omega) (by omega))
      have h4 := hnn i (by omega) (by omega)
      by_cases e : j = i
      · subst e
        show w (1 + 23 * p + (5 + 2 * j + 1)) ≤ w (1 + 23 * p + (5 + 2 * j + 1)) + _
        omega
      · have h5 := ih (i + 1) (fun x y z => hnn x (by omega) (by omega)) j (by omega) (by omega)
        show w (1 + 23 * p + (5 + 2 * j + 1)) ≤ w (1 + 23 * p + (5 + 2 * i + 1)) + _
        omega
  have h2 := h (w (1 + 23 * p + 4)).toNat 0 (fun j y z => by have := (b7 j y (by omega)).1; omega) k g1 (by omega)
  unfold dueW at a2
  omega
section MODEL
variable {G0 G : aH} {M : Nat} {μ : Nat → Int → Int} {N : Int}
theorem pm_carts192 {Q : Int32 → aH → Prop} (hM : MM G0 G M μ) {p s b : Int} (hp : 0 ≤ p ∧ p < 6) (hb : 0 ≤ b ∧ b ≤ 3) (hk : 0 ≤ μ 1 (1 + 23 * p + 0) ∧ μ 1 (1 + 23 * p + 0) ≤ 2) (h : ∀ G1, MM G0 G1 M (rep μ 1 (ud (ud (μ 1) (1 + 23 * p + 3) (μ 1 (1 + 23 * p + 3) + s)) 430 (μ 1 430 + s * pt (μ 1 (1 + 23 * p + 0))))) → Q (Int32.ofInt (μ 1 (139 + 61 * b))) G1) : tw_X8_carts_b192 Q G M (Int32.ofInt p) (Int32.ofInt s) (Int32.ofInt b) (Int32.ofInt (1 + 23 * p)) := by
  unfold tw_X8_carts_b192
  simp (disch := omega) only [n_nat, n_add, n_sub, n_mul, n_neg, n_le, n_lt, n_eq, n_div, n_tn, n_if, Int.cast_ofNat_Int, MM.o hM, MM.r0 hM, MM.r1 hM, MM.r2 hM, MM.r3 hM, MM.r4 hM, MM.r8 hM, MM.r9 hM, MM.r10 hM, MM.r13 hM, MM.r16 hM, MM.r21 hM, MM.r22 hM, MM.a1 hM, MM.a2 hM, MM.a3 hM, MM.a4 hM, MM.a5 hM, MM.a6 hM, MM.a7 hM, MM.a8 hM, MM.a9 hM, MM.a10 hM, MM.a11 hM, MM.a12 hM, MM.d1 hM, MM.d2 hM, MM.d3 hM, MM.d4 hM, MM.d5 hM, MM.d6 hM, MM.d7 hM, MM.d8 hM, MM.d9 hM, MM.d10 hM, MM.d11 hM, MM.d12 hM, MM.fl hM, true_and]
  refine hM.wr (by omega) (by omega) (fun G1 hM1 => ?_)
  simp (disch := omega) only [n_nat, n_add, n_sub, n_mul, n_neg, n_le, n_lt, n_eq, n_div, n_tn, n_if, Int.cast_ofNat_Int, MM.o hM1, MM.r0 hM1, MM.r1 hM1, MM.r2 hM1, MM.r3 hM1, MM.r4 hM1, MM.r8 hM1, MM.r9 hM1, MM.r10 hM1, MM.r13 hM1, MM.r16 hM1, MM.r21 hM1, MM.r22 hM1, MM.a1 hM1, MM.a2 hM1, MM.a3 hM1, MM.a4 hM1, MM.a5 hM1, MM.a6 hM1, MM.a7 hM1, MM.a8 hM1, MM.a9 hM1, MM.a10 hM1, MM.a11 hM1, MM.a12 hM1, MM.d1 hM1, MM.d2 hM1, MM.d3 hM1, MM.d4 hM1, MM.d5 hM1, MM.d6 hM1, MM.d7 hM1, MM.d8 hM1, MM.d9 hM1, MM.d10 hM1, MM.d11 hM1, MM.d12 hM1, MM.fl hM1, true_and, rep_at]
  refine pm_of hM1 (by omega) (by omega) ?_
  simp (disch := omega) only [rep_at, ud_ne]
  refine pm_pints (by omega) ?_
  simp (disch := omega) only [n_nat, n_add, n_sub, n_mul, n_neg, n_le, n_lt, n_eq, n_div, n_tn, n_if, Int.cast_ofNat_Int, MM.o hM1, MM.r0 hM1, MM.r1 hM1, MM.r2 hM1, MM.r3 hM1, MM.r4 hM1, MM.r8 hM1, MM.r9 hM1, MM.r10 hM1, MM.r13 hM1, MM.r16 hM1, MM.r21 hM1, MM.r22 hM1, MM.a1 hM1, MM.a2 hM1, MM.a3 hM1, MM.a4 hM1, MM.a5 hM1, MM.a6 hM1, MM.a7 hM1, MM.a8 hM1, MM.a9 hM1, MM.a10 hM1, MM.a11 hM1, MM.a12 hM1, MM.d1 hM1, MM.d2 hM1, MM.d3 hM1, MM.d4 hM1, MM.d5 hM1, MM.d6 hM1, MM.d7 hM1, MM.d8 hM1, MM.d9 hM1, MM.d10 hM1, MM.d11 hM1, MM.d12 hM1, MM.fl hM1, true_and, rep_at, ud_ne]
  refine hM1.wr (by omega) (by omega) (fun G2 hM2 => ⟨hM2.o, pm_inBay hM2 hb.1 hb.2 ?_⟩)
  simp (disch := omega) only [rep_rep, rep_at, ud_ne] at hM2 ⊢
  exact h G2 hM2
theorem pm_carts61 {Q : Int32 → aH → Prop} (hM : MM G0 G M μ) {p x y z : Int} (hp : 0 ≤ p ∧ p < 6) (hx : 0 ≤ x ∧ x ≤ 100) (h : ∀ G1, MM G0 G1 M (rfM μ z y x (μ 1 (1 + 23 * p + 2))) → Q (Int32.ofInt (-3)) G1) : tw_X8_carts_b61 Q G M (Int32.ofInt p) (Int32.ofInt x) (Int32.ofInt y) (Int32.ofInt z) M := by
  unfold tw_X8_carts_b61
  simp (disch := omega) only [n_nat, n_add, n_sub, n_mul, n_neg, n_le, n_lt, n_eq, n_div, n_tn, n_if, Int.cast_ofNat_Int]
  exact ⟨hM.o, pm_of hM (by omega) (by omega) ⟨hM.o, pm_refuses hM hx h⟩⟩
theorem pm_carts {Q : Int32 → aH → Prop} (hM : MM G0 G M μ) (hW : WI N (μ 1)) {p s b : Int} (hp : -2147483648 ≤ p ∧ p < 2147483648) (hs : -2147483648 ≤ s ∧ s < 2147483648) (hb : -2147483648 ≤ b ∧ b < 2147483648) (h : ∀ G1, MM G0 G1 M (cmM μ (f_cart (μ 1) p s b)) → Q (Int32.ofInt (f_cart (μ 1) p s b).1) G1) : tw_X8_carts Q G M (Int32.ofInt p) (Int32.ofInt s) (Int32.ofInt b) := by
  have h0 := hW.2.1
  unfold tw_X8_carts
  simp (disch := omega) only [n_nat, n_add, n_sub, n_mul, n_neg, n_le, n_lt, n_eq, n_div, n_tn, n_if, Int.cast_ofNat_Int, MM.o hM, MM.r0 hM, MM.r1 hM, MM.r2 hM, MM.r3 hM, MM.r4 hM, MM.r8 hM, MM.r9 hM, MM.r10 hM, MM.r13 hM, MM.r16 hM, MM.r21 hM, MM.r22 hM, MM.a1 hM, MM.a2 hM, MM.a3 hM, MM.a4 hM, MM.a5 hM, MM.a6 hM, MM.a7 hM, MM.a8 hM, MM.a9 hM, MM.a10 hM, MM.a11 hM, MM.a12 hM, MM.d1 hM, MM.d2 hM, MM.d3 hM, MM.d4 hM, MM.d5 hM, MM.d6 hM, MM.d7 hM, MM.d8 hM, MM.d9 hM, MM.d10 hM, MM.d11 hM, MM.d12 hM, MM.fl hM, true_and]
  unfold f_cart at h
  refine pm_isParish hM hp h0 ?_
  by_cases c1 : 0 ≤ p ∧ p < μ 1 0
  · have hp6 : 0 ≤ p ∧ p < 6 := by omega
    obtain ⟨a1, a2, a3, -, -, a6⟩ := hW.par hp6.1 hp6.2
    rw [bI_t c1]
    rw [if_pos c1] at h
    refine ⟨fun e => absurd e (by decide), fun _ => pm_isBay hb ?_⟩
    by_cases c2 : 0 ≤ b ∧ b ≤ 3
    · have hn := (hW.2.2.2.1 b c2.1 c2.2).1
      rw [bI_t c2]
      rw [if_pos c2] at h
      refine ⟨fun _ => pm_isIn hs (by omega) (by omega) ?_, fun e => absurd e (by decide)⟩
      by_cases c3 : 1 ≤ s ∧ s ≤ 60
      · rw [bI_t c3]
        rw [if_pos c3] at h
        refine ⟨fun _ => ⟨hM.o, pm_dueW hM hW hp6 ⟨fun c => ?_, fun c => ?_⟩⟩, fun e => absurd e (by decide)⟩ <;> rw [n_le (by omega) (by omega)] at c
        · rw [if_pos c] at h
          refine ⟨hM.o, pm_inBay hM c2.1 c2.2 ?_⟩
          simp (disch := omega) only [n_nat, n_add, n_sub, n_mul, n_neg, n_le, n_lt, n_eq, n_div, n_tn, n_if, Int.cast_ofNat_Int]
          refine ⟨fun d => ?_, fun d => ⟨hM.o, pm_inBay hM c2.1 c2.2 ⟨hM.o, ?_⟩⟩⟩
          · rw [if_pos d] at h
            intro x hx
            subst hx
            have es : s = ((s.toNat : Nat) : Int) := by omega
            have hD : DV (μ 1) p ((s.toNat : Nat) : Int) := by rw [← es]; exact hW.dv hp6 c
            have hc := cartN_ne hp6 c2 s.toNat (μ 1) hD (by omega) (by omega)
            have e0 : cartN p b s.toNat (μ 1) (1 + 23 * p + 0) = μ 1 (1 + 23 * p + 0) := hc.1 _ (by omega) (by omega)
            refine ⟨s.toNat + 1, ?_⟩
            have h110 := pm_carts110 (Q := Q) (s := s) hp6 c2 s.toNat G μ hM hD (by omega) (by omega) (fun G1 hM1 => ?_)
            · rw [← es] at h110; exact h110
            · refine pm_carts192 hM1 hp6 c2 (by rw [rep_at, e0]; exact a6) ?_
              rw [rep_at]
              simp only [rep_rep]
              exact h
          · rw [if_neg d] at h
            simp (disch := omega) only [n_nat, n_add, n_sub, n_mul, n_neg, n_le, n_lt, n_eq, n_div, n_tn, n_if, Int.cast_ofNat_Int]
            exact pm_refuses hM (by omega) h
        · rw [if_neg c] at h
          refine ⟨hM.o, pm_dueW hM hW hp6 ⟨hM.o, pm_of hM (by omega) (by omega) ⟨fun d => ?_, fun d => ?_⟩⟩⟩ <;> rw [n_le (by omega) (by omega)] at d
          · rw [if_neg (by omega)] at h
            exact pm_carts61 hM hp6 (by omega) h
          · rw [if_pos (by omega)] at h
            exact pm_carts61 hM hp6 (by omega) h
      · rw [bI_f c3]
        rw [if_neg c3, cmM_no] at h
        exact ⟨fun e => absurd rfl e, fun _ => h G hM⟩
    · rw [bI_f c2]
      rw [if_neg c2, cmM_no] at h
      exact ⟨fun e => absurd rfl e, fun _ => h G hM⟩
  · rw [bI_f c1]
    rw [if_neg c1, cmM_no] at h
    exact ⟨fun _ => h G hM, fun e => absurd rfl e⟩
theorem f_cart_b {w : Int → Int} (hW : WI N w) (p s b : Int) : -3 ≤ (f_cart w p s b).1 ∧ (f_cart w p s b).1 ≤ 100 := by
  unfold f_cart
  by_cases c1 : 0 ≤ p ∧ p < w 0
  · rw [if_pos c1]
    by_cases c2 : 0 ≤ b ∧ b ≤ 3
    · have hn := (hW.2.2.2.1 b c2.1 c2.2).1
      rw [if_pos c2]
      by_cases c3 : 1 ≤ s ∧ s ≤ 60
      · rw [if_pos c3]
        by_cases c4 : s ≤ dueW w p
        · rw [if_pos c4]
          by_cases c5 : s ≤ 60 - w (139 + 61 * b)
          · rw [if_pos c5]
            have hp6 : 0 ≤ p ∧ p < 6 := by have := hW.2.1; omega
            have es : s = ((s.toNat : Nat) : Int) := by omega
            have hc := (cartN_ne hp6 c2 s.toNat w (by rw [← es]; exact hW.dv hp6 c4) (by omega) (by omega)).2
            show -3 ≤ (cartN p b s.toNat w) (139 + 61 * b) ∧ (cartN p b s.toNat w) (139 + 61 * b) ≤ 100
            omega
          · rw [if_neg c5]; show -3 ≤ (-3 : Int) ∧ (-3 : Int) ≤ 100; omega
        · rw [if_neg c4]; show -3 ≤ (-3 : Int) ∧ (-3 : Int) ≤ 100; omega
      · rw [if_neg c3]; show -3 ≤ (-2 : Int) ∧ (-2 : Int) ≤ 100; omega
    · rw [if_neg c2]; show -3 ≤ (-1 : Int) ∧ (-1 : Int) ≤ 100; omega
  · rw [if_neg c1]; show -3 ≤ (-1 : Int) ∧ (-1 : Int) ≤ 100; omega
theorem pm_cart {Q : Int32 → aH → Prop} (hM : MM G0 G M μ) (hW : WI N (μ 1)) (hr : 0 ≤ μ 0 6 ∧ μ 0 6 ≤ 8) {f b s : Int} (hf : -2147483648 ≤ f ∧ f < 2147483648) (hb : -2147483648 ≤ b ∧ b < 2147483648) (hs : -2147483648 ≤ s ∧ s < 2147483648) (h : ∀ G1, MM G0 G1 M (caM μ (f_cart (μ 1) f b s)) → Q (Int32.ofInt (f_cart (μ 1) f b s).1) G1) : tw_X8_cart Q G M (Int32.ofInt f) (Int32.ofInt b) (Int32.ofInt s) := by
  unfold tw_X8_cart
  have e1 := sttM_1 μ
  have hbd := f_cart_b hW f b s
  refine ⟨hM.o, pm_starts hM (fun G1 hM1 => ⟨hM1.o, ?_⟩)⟩
  have hM1 : MM G0 G1 M (sttM μ) := hM1
  refine pm_carts (N := N) hM1 (by rw [e1]; exact hW) hf hb hs ?_
  rw [e1]
  intro G2 hM2
  exact ⟨hM2.o, pm_ended hM2 hr (by omega) h⟩
end MODEL
