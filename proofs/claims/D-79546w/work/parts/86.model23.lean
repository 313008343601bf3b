/-! PLAIN LAW: the model's script -/
abbrev cmT : Type := Int × Int × Int × Int
def f_do (w : Int → Int) (c : cmT) : oC := if c.1 = 99 then f_cart w c.2.1 c.2.2.1 c.2.2.2 else if c.1 = 104 then f_harvest w c.2.1 c.2.2.1 else if c.1 = 107 then f_cat w c.2.1 else if c.1 = 110 then f_pass w c.2.1 else if c.1 = 115 then f_sell w c.2.1 c.2.2.1 c.2.2.2 else if c.1 = 116 then f_thresh w c.2.1 c.2.2.1 c.2.2.2 else f_stop w c.2.1
def udC (C : Int → cmT) (i : Int) (c : cmT) : Int → cmT := fun j => if j = i then c else C j
def cm4 (c : Int × Int × Int × Int × Int × Int) : cmT := (c.1, c.2.1, c.2.2.1, c.2.2.2.1)
def alS (s : Int → Int) (n : Int) : Nat → Int × Int → Int → (Int → cmT) → Int × Int × (Int → cmT)
  | 0, x, t, C => (x.2, t, C)
  | m + 1, x, t, C => if x.2 = -1 then (if n ≤ x.1 then (x.2, t, C) else if (rdS s n 59 59 x).2.2 = -1 then alS s n m (cmS s n (rdS s n 59 59 x).2.1).2.2.2.2 (t + 1) (udC C t (cm4 (cmS s n (rdS s n 59 59 x).2.1))) else ((rdS s n 59 59 x).2.2, t, C)) else (x.2, t, C)
/-- where a text is wrong, its commands -/
def scS (s : Int → Int) (n : Int) : Int × Int × (Int → cmT) := alS s n 20 (cmS s n 0).2.2.2.2 1 (udC (fun _ => (0, 0, 0, 0)) 0 (cm4 (cmS s n 0)))
/-- the words of a command as they are kept -/
def WD (kd wd : Int → Int) (j : Int) (c : cmT) : Prop := kd j = c.1 ∧ wd (3 * j) = c.2.1 ∧ ((c.1 = 99 ∨ c.1 = 104 ∨ c.1 = 115 ∨ c.1 = 116) → wd (3 * j + 1) = c.2.2.1) ∧ ((c.1 = 99 ∨ c.1 = 115 ∨ c.1 = 116) → wd (3 * j + 2) = c.2.2.2)
theorem WD.do_ {kd wd : Int → Int} {j : Int} {c : cmT} (h : WD kd wd j c) (w : Int → Int) : f_do w (kd j, wd (3 * j), wd (3 * j + 1), wd (3 * j + 2)) = f_do w c := by
  obtain ⟨h1, h2, h3, h4⟩ := h
  obtain ⟨k, a, b, d⟩ := c
  simp only at h1 h2 h3 h4
  unfold f_do
  simp only
  rw [h1, h2]
  by_cases c1 : k = 99
  · rw [if_pos c1, if_pos c1, h3 (by omega), h4 (by omega)]
  · rw [if_neg c1, if_neg c1]
    by_cases c2 : k = 104
    · rw [if_pos c2, if_pos c2, h3 (by omega)]
    · rw [if_neg c2, if_neg c2]
      by_cases c3 : k = 107
      · rw [if_pos c3, if_pos c3]
      · rw [if_neg c3, if_neg c3]
        by_cases c4 : k = 110
        · rw [if_pos c4, if_pos c4]
        · rw [if_neg c4, if_neg c4]
          by_cases c5 : k = 115
          · rw [if_pos c5, if_pos c5, h3 (by omega), h4 (by omega)]
          · rw [if_neg c5, if_neg c5]
            by_cases c6 : k = 116
            · rw [if_pos c6, if_pos c6, h3 (by omega), h4 (by omega)]
            · rw [if_neg c6, if_neg c6]
theorem WD.cg {kd wd kd' wd' : Int → Int} {j : Int} {c : cmT} (h : WD kd wd j c) (h1 : kd' j = kd j) (h2 : ∀ i, 3 * j ≤ i → i < 3 * j + 3 → wd' i = wd i) : WD kd' wd' j c := by
  obtain ⟨a1, a2, a3, a4⟩ := h
  exact ⟨h1.trans a1, (h2 _ (by omega) (by omega)).trans a2, fun z => (h2 _ (by omega) (by omega)).trans (a3 z), fun z => (h2 _ (by omega) (by omega)).trans (a4 z)⟩
/-- the commands done, one behind the other: the row, or which one is not done and why -/
def doS (C : Int → cmT) : Nat → Int → (Int → Int) → (Int → Int) × Option (Int × oC)
  | 0, _, w => (w, none)
  | m + 1, k, w => if 0 ≤ (f_do w (C k)).1 then doS C m (k + 1) (f_do w (C k)).2.1 else (w, some (k, f_do w (C k)))
theorem f_do_k {N : Int} {w : Int → Int} (h : WI N w) (hN : N + 1 ≤ 720) (h8 : w 428 + 30 ≤ 100000) (c : cmT) : CK N w (f_do w c) := by
  unfold f_do
  repeat (first | exact f_cart_k h hN _ _ _ | exact f_harvest_k h hN _ _ | exact f_cat_k h hN _ | exact f_pass_k h hN h8 _ | exact f_sell_k h hN _ _ _ | exact f_thresh_k h hN _ _ _ | exact f_stop_k h hN _ | split)
theorem f_do_b {N : Int} {w : Int → Int} (h : WI N w) (h8 : w 428 + 30 ≤ 100000) (c : cmT) : -3 ≤ (f_do w c).1 ∧ (f_do w c).1 ≤ 720000 := by
  unfold f_do
  split
  · have := f_cart_b h c.2.1 c.2.2.1 c.2.2.2; omega
  · split
    · exact f_harvest_b h _ _
    · split
      · have := f_cat_b h c.2.1; omega
      · split
        · have := f_pass_b h h8 c.2.1; omega
        · split
          · have := f_sell_b h c.2.1 c.2.2.1 c.2.2.2; omega
          · split
            · have := f_thresh_b h c.2.1 c.2.2.1 c.2.2.2; omega
            · have := f_stop_b h c.2.1; omega
/-- done: nothing is refused -/
def OKn (o : oC) : Prop := (0 ≤ o.1 → o.2.2 = none) ∧ (o.2.2 = none ∨ ∃ r d b i, o.2.2 = some (r, d, b, i) ∧ o.1 = -3)
theorem OKn.no (w : Int → Int) {c : Int} : OKn (noC w c) := ⟨fun _ => rfl, .inl rfl⟩
theorem OKn.re (w : Int → Int) (r d b i : Int) : OKn (reC w r d b i) := ⟨fun h => absurd h (by show ¬ (0 : Int) ≤ -3; omega), .inr ⟨r, d, b, i, rfl, rfl⟩⟩
theorem OKn.ok (a : Int) (w : Int → Int) : OKn (a, w, none) := ⟨fun _ => rfl, .inl rfl⟩
theorem f_cart_n (w : Int → Int) (p s b : Int) : OKn (f_cart w p s b) := by
  unfold f_cart
  repeat (first | exact OKn.no w | exact OKn.re w _ _ _ _ | exact OKn.ok _ _ | split)
theorem f_harvest_n (w : Int → Int) (p s : Int) : OKn (f_harvest w p s) := by
  unfold f_harvest
  simp only
  repeat (first | exact OKn.no w | exact OKn.re w _ _ _ _ | exact OKn.ok _ _ | split)
theorem f_cat_n (w : Int → Int) (p : Int) : OKn (f_cat w p) := by
  unfold f_cat
  repeat (first | exact OKn.no w | exact OKn.re w _ _ _ _ | exact OKn.ok _ _ | split)
theorem f_pass_n (w : Int → Int) (d : Int) : OKn (f_pass w d) := by
  unfold f_pass
  repeat (first | exact OKn.no w | exact OKn.re w _ _ _ _ | exact OKn.ok _ _ | split)
theorem f_sell_n (w : Int → Int) (k n b : Int) : OKn (f_sell w k n b) := by
  unfold f_sell
  repeat (first | exact OKn.no w | exact OKn.re w _ _ _ _ | exact OKn.ok _ _ | split)
theorem f_thresh_n (w : Int → Int) (f b s : Int) : OKn (f_thresh w f b s) := by
  unfold f_thresh
  simp only
  repeat (first | exact OKn.no w | exact OKn.re w _ _ _ _ | exact OKn.ok _ _ | split)
theorem f_stop_n (w : Int → Int) (p : Int) : OKn (f_stop w p) := by
  unfold f_stop
  repeat (first | exact OKn.no w | exact OKn.re w _ _ _ _ | exact OKn.ok _ _ | split)
theorem f_do_n (w : Int → Int) (c : cmT) : OKn (f_do w c) := by
  unfold f_do
  repeat (first | exact f_cart_n w _ _ _ | exact f_harvest_n w _ _ | exact f_cat_n w _ | exact f_pass_n w _ | exact f_sell_n w _ _ _ | exact f_thresh_n w _ _ _ | exact f_stop_n w _ | split)
section CMS
variable {s : Int → Int} {n a : Int}
theorem cmS_104 (hk : sgS s n a = 104) : cmS s n a = (104, (rdS s n 48 57 (a + 1, -1)).1, (nuS s n (rdS s n 42 42 (rdS s n 48 57 (a + 1, -1)).2).2).1, 0, (nuS s n (rdS s n 42 42 (rdS s n 48 57 (a + 1, -1)).2).2).2) := by
  unfold cmS
  simp only [hk]
  rfl
theorem cmS_99 (hk : sgS s n a = 99) : cmS s n a = (99, (rdS s n 48 57 (a + 1, -1)).1, (nuS s n (rdS s n 58 58 (rdS s n 48 57 (a + 1, -1)).2).2).1, (rdS s n 48 57 (rdS s n 64 64 (nuS s n (rdS s n 58 58 (rdS s n 48 57 (a + 1, -1)).2).2).2).2).1, (rdS s n 48 57 (rdS s n 64 64 (nuS s n (rdS s n 58 58 (rdS s n 48 57 (a + 1, -1)).2).2).2).2).2) := by
  unfold cmS
  simp only [hk]
  rfl
theorem cmS_116 (hk : sgS s n a = 116) : cmS s n a = (116, (rdS s n 48 57 (a + 1, -1)).1, (rdS s n 48 57 (rdS s n 60 60 (rdS s n 48 57 (a + 1, -1)).2).2).1, (nuS s n (rdS s n 58 58 (rdS s n 48 57 (rdS s n 60 60 (rdS s n 48 57 (a + 1, -1)).2).2).2).2).1, (nuS s n (rdS s n 58 58 (rdS s n 48 57 (rdS s n 60 60 (rdS s n 48 57 (a + 1, -1)).2).2).2).2).2) := by
  unfold cmS
  simp only [hk]
  rfl
theorem cmS_110 (hk : sgS s n a = 110) : cmS s n a = (110, (nuS s n (a + 1, -1)).1, 0, 0, (nuS s n (a + 1, -1)).2) := by
  unfold cmS
  simp only [hk]
  rfl
theorem cmS_115 (hk : sgS s n a = 115) : cmS s n a = (115, (kdS s n (a + 1, -1)).1, (nuS s n (kdS s n (a + 1, -1)).2).1, hpS s n (nuS s n (kdS s n (a + 1, -1)).2).2, (nuS s n (kdS s n (a + 1, -1)).2).2.1 + hpS s n (nuS s n (kdS s n (a + 1, -1)).2).2, (nuS s n (kdS s n (a + 1, -1)).2).2.2) := by
  unfold cmS
  simp only [hk]
  rfl
theorem cmS_107 (hk : sgS s n a = 107) : cmS s n a = (107, (rdS s n 48 57 (a + 1, -1)).1, 0, 0, (rdS s n 48 57 (a + 1, -1)).2) := by
  unfold cmS
  simp only [hk]
  rfl
theorem cmS_103 (hk : sgS s n a = 103) : cmS s n a = (103, (rdS s n 48 57 (a + 1, -1)).1, 0, 0, (rdS s n 48 57 (a + 1, -1)).2) := by
  unfold cmS
  simp only [hk]
  rfl
theorem cmS_no (z1 : ¬ sgS s n a = 104) (z2 : ¬ sgS s n a = 99) (z3 : ¬ sgS s n a = 116) (z4 : ¬ sgS s n a = 110) (z5 : ¬ sgS s n a = 115) (z6 : ¬ sgS s n a = 107) (z7 : ¬ sgS s n a = 103) : cmS s n a = (sgS s n a, 0, 0, 0, a, a) := by
  unfold cmS
  simp only
  rw [if_neg z1, if_neg z2, if_neg z3, if_neg z4, if_neg z5, if_neg (by omega)]
end CMS
section MODEL
variable {G0 G : aH} {M : Nat} {μ : Nat → Int → Int} {x : Int × Int} {t N : Int} {kd wd : Int → Int}
theorem pm_rc330 {Q : aH → Prop} (hM : MM G0 G M (rdM μ x t kd wd)) (h : ∀ G1, MM G0 G1 M (rdM μ x (t + 1) kd wd) → Q G1) : tw_X8_readsCommand_b330 Q G M := by
  unfold tw_X8_readsCommand_b330
  simp (disch := omega) only [MM.o hM, MM.r0 hM, MM.r1 hM, MM.r2 hM, MM.r3 hM, MM.r4 hM, MM.r8 hM, MM.r9 hM, MM.r10 hM, MM.r13 hM, MM.r16 hM, MM.r21 hM, MM.r22 hM, MM.a1 hM, MM.a2 hM, MM.a3 hM, MM.a4 hM, MM.a5 hM, MM.a6 hM, MM.a7 hM, MM.a8 hM, MM.a9 hM, MM.a10 hM, MM.a11 hM, MM.a12 hM, MM.d1 hM, MM.d2 hM, MM.d3 hM, MM.d4 hM, MM.d5 hM, MM.d6 hM, MM.d7 hM, MM.d8 hM, MM.d9 hM, MM.d10 hM, MM.d11 hM, MM.d12 hM, MM.fl hM, true_and, rdM_0, rdF_20, Int.cast_ofNat_Int, n_nat, n_add]
  refine hM.wf (fun G1 hM1 => ?_)
  rw [rdM_w20] at hM1
  exact h G1 hM1
theorem pm_rcBad {Q : aH → Prop} {a : Int} (hM : MM G0 G M (rdM μ (a + 1, -1) t kd wd)) (ha : -100 ≤ a ∧ a ≤ 100) (h : ∀ G1, MM G0 G1 M (rdM μ (a, a) (t + 1) kd wd) → Q G1) : th_o G M 8 ∧ (th_o G M 8 ∧ (∀ G19 : aH, G19 = a_si G M 18 ((a_mi G M 18) - 1) → th_o G19 M 8 ∧ ((¬ a_mi G19 M 19 = (-1) → th_o G19 M 8 ∧ (tw_X8_readsCommand_b327 Q G19 M (a_mi G19 M 19) M)) ∧ (a_mi G19 M 19 = (-1) → th_o G19 M 8 ∧ (tw_X8_readsCommand_b327 Q G19 M (a_mi G19 M 18) M))))) := by
  simp (disch := omega) only [MM.o hM, MM.r0 hM, MM.r1 hM, MM.r2 hM, MM.r3 hM, MM.r4 hM, MM.r8 hM, MM.r9 hM, MM.r10 hM, MM.r13 hM, MM.r16 hM, MM.r21 hM, MM.r22 hM, MM.a1 hM, MM.a2 hM, MM.a3 hM, MM.a4 hM, MM.a5 hM, MM.a6 hM, MM.a7 hM, MM.a8 hM, MM.a9 hM, MM.a10 hM, MM.a11 hM, MM.a12 hM, MM.d1 hM, MM.d2 hM, MM.d3 hM, MM.d4 hM, MM.d5 hM, MM.d6 hM, MM.d7 hM, MM.d8 hM, MM.d9 hM, MM.d10 hM, MM.d11 hM, MM.d12 hM, MM.fl hM, true_and, rdM_0, rdF_18, Int.cast_ofNat_Int, n_nat, n_sub]
  rw [show a + 1 - 1 = a by omega]
  refine hM.wf (fun G1 hM1 => ?_)
  rw [rdM_w18] at hM1
  have hM1 : MM G0 G1 M (rdM μ (a, -1) t kd wd) := hM1
  simp (disch := omega) only [MM.o hM1, MM.r0 hM1, MM.r1 hM1, MM.r2 hM1, MM.r3 hM1, MM.r4 hM1, MM.r8 hM1, MM.r9 hM1, MM.r10 hM1, MM.r13 hM1, MM.r16 hM1, MM.r21 hM1, MM.r22 hM1, MM.a1 hM1, MM.a2 hM1, MM.a3 hM1, MM.a4 hM1, MM.a5 hM1, MM.a6 hM1, MM.a7 hM1, MM.a8 hM1, MM.a9 hM1, MM.a10 hM1, MM.a11 hM1, MM.a12 hM1, MM.d1 hM1, MM.d2 hM1, MM.d3 hM1, MM.d4 hM1, MM.d5 hM1, MM.d6 hM1, MM.d7 hM1, MM.d8 hM1, MM.d9 hM1, MM.d10 hM1, MM.d11 hM1, MM.d12 hM1, MM.fl hM1, true_and, rdM_0, rdF_18, rdF_19, Int.cast_ofNat_Int, n_nat, n_neg]
  refine ⟨fun c => absurd trivial c, fun _ => ?_⟩
  unfold tw_X8_readsCommand_b327
  refine ⟨hM1.o, ?_⟩
  refine hM1.wf (fun G2 hM2 => ?_)
  rw [rdM_w19] at hM2
  exact pm_rc330 hM2 h
theorem pm_readsCommand {Q : aH → Prop} {a : Int} (hM : MM G0 G M (rdM μ (a, -1) t kd wd)) (hS : SI μ) (ha : 0 ≤ a ∧ a ≤ μ 0 17) (ht : 0 ≤ t ∧ t ≤ 29) (h : ∀ G1 wd', MM G0 G1 M (rdM μ (cmS (μ 8) (μ 0 17) a).2.2.2.2 (t + 1) (ud kd t (sgS (μ 8) (μ 0 17) a)) wd') → (∀ j, j < 3 * t → wd' j = wd j) → ((cmS (μ 8) (μ 0 17) a).2.2.2.2.2 = -1 → WD (ud kd t (sgS (μ 8) (μ 0 17) a)) wd' t (cm4 (cmS (μ 8) (μ 0 17) a))) → Q G1) : tw_X8_readsCommand Q G M := by
  have h17 := hS.1
  have hb := sgS_b hS.2 ha.1
  unfold tw_X8_readsCommand
  refine ⟨hM.o, pm_sign hM hS (by omega) ?_⟩
  simp (disch := omega) only [MM.o hM, MM.r0 hM, MM.r1 hM, MM.r2 hM, MM.r3 hM, MM.r4 hM, MM.r8 hM, MM.r9 hM, MM.r10 hM, MM.r13 hM, MM.r16 hM, MM.r21 hM, MM.r22 hM, MM.a1 hM, MM.a2 hM, MM.a3 hM, MM.a4 hM, MM.a5 hM, MM.a6 hM, MM.a7 hM, MM.a8 hM, MM.a9 hM, MM.a10 hM, MM.a11 hM, MM.a12 hM, MM.d1 hM, MM.d2 hM, MM.d3 hM, MM.d4 hM, MM.d5 hM, MM.d6 hM, MM.d7 hM, MM.d8 hM, MM.d9 hM, MM.d10 hM, MM.d11 hM, MM.d12 hM, MM.fl hM, true_and, rdM_0, rdF_20, Int.cast_ofNat_Int]
  rw [n_tn (by omega) (by omega)]
  refine hM.wr (by omega) (by omega) (fun G1 hM1 => ?_)
  rw [rdM_w11] at hM1
  simp (disch := omega) only [MM.o hM1, MM.r0 hM1, MM.r1 hM1, MM.r2 hM1, MM.r3 hM1, MM.r4 hM1, MM.r8 hM1, MM.r9 hM1, MM.r10 hM1, MM.r13 hM1, MM.r16 hM1, MM.r21 hM1, MM.r22 hM1, MM.a1 hM1, MM.a2 hM1, MM.a3 hM1, MM.a4 hM1, MM.a5 hM1, MM.a6 hM1, MM.a7 hM1, MM.a8 hM1, MM.a9 hM1, MM.a10 hM1, MM.a11 hM1, MM.a12 hM1, MM.d1 hM1, MM.d2 hM1, MM.d3 hM1, MM.d4 hM1, MM.d5 hM1, MM.d6 hM1, MM.d7 hM1, MM.d8 hM1, MM.d9 hM1, MM.d10 hM1, MM.d11 hM1, MM.d12 hM1, MM.fl hM1, true_and, rdM_0, rdF_18, Int.cast_ofNat_Int, n_nat, n_add]
  refine hM1.wf (fun G2 hM2 => ?_)
  rw [rdM_w18] at hM2
  generalize hk : sgS (μ 8) (μ 0 17) a = k at *
  generalize hkd : ud kd t k = kd' at *
  have hM2 : MM G0 G2 M (rdM μ (a + 1, -1) t kd' wd) := hM2
  have hkt : kd' t = k := by rw [← hkd, ud_at]
  have hx : ¬ k = -1 → RP (μ 0 17) (a + 1, -1) := fun z => ⟨by show 0 ≤ a + 1; omega, by show a + 1 ≤ _; omega, .inl rfl⟩
  have bad : ¬ k = 104 → ¬ k = 99 → ¬ k = 116 → ¬ k = 110 → ¬ k = 115 → ¬ k = 107 → ¬ k = 103 → ∀ G1, MM G0 G1 M (rdM μ (a, a) (t + 1) kd' wd) → Q G1 := by
    intro z1 z2 z3 z4 z5 z6 z7 G3 hM3
    have e := cmS_no (s := μ 8) (n := μ 0 17) (a := a) (by omega) (by omega) (by omega) (by omega) (by omega) (by omega) (by omega)
    rw [e] at h
    exact h G3 wd hM3 (fun _ _ => rfl) (fun z => absurd (show a = -1 from z) (by omega))
  simp (disch := omega) only [n_nat, n_eq]
  refine ⟨fun e => ?_, fun e => pm_rcBad hM2 (by omega) (bad (by omega) (by omega) (by omega) (by omega) (by omega) (by omega) (by omega)), fun e => pm_rcBad hM2 (by omega) (bad (by omega) (by omega) (by omega) (by omega) (by omega) (by omega) (by omega)), fun e => pm_rcBad hM2 (by omega) (bad (by omega) (by omega) (by omega) (by omega) (by omega) (by omega) (by omega)), fun e => ?_, fun e => ?_, fun e => pm_rcBad hM2 (by omega) (bad (by omega) (by omega) (by omega) (by omega) (by omega) (by omega) (by omega)), fun e => pm_rcBad hM2 (by omega) (bad (by omega) (by omega) (by omega) (by omega) (by omega) (by omega) (by omega)), fun e => ?_, fun e => pm_rcBad hM2 (by omega) (bad (by omega) (by omega) (by omega) (by omega) (by omega) (by omega) (by omega)), fun e => pm_rcBad hM2 (by omega) (bad (by omega) (by omega) (by omega) (by omega) (by omega) (by omega) (by omega)), fun e => ?_, fun e => pm_rcBad hM2 (by omega) (bad (by omega) (by omega) (by omega) (by omega) (by omega) (by omega) (by omega)), fun e => pm_rcBad hM2 (by omega) (bad (by omega) (by omega) (by omega) (by omega) (by omega) (by omega) (by omega)), fun e => pm_rcBad hM2 (by omega) (bad (by omega) (by omega) (by omega) (by omega) (by omega) (by omega) (by omega)), fun e => pm_rcBad hM2 (by omega) (bad (by omega) (by omega) (by omega) (by omega) (by omega) (by omega) (by omega)), fun e => ?_, fun e => ?_, fun z1 z2 z3 z4 z5 z6 z7 z8 z9 z10 z11 z12 z13 z14 z15 z16 z17 z18 => pm_rcBad hM2 (by omega) (bad (by omega) (by omega) (by omega) (by omega) (by omega) (by omega) (by omega))⟩
  · -- c
    subst e
    have hx := hx (by omega)
    obtain ⟨g1, -⟩ := rdS_b hS.2 (lo := 48) (hi := 57) (by omega) hx
    obtain ⟨f1, -⟩ := rdS_b hS.2 (lo := 58) (hi := 58) (by omega) g1
    obtain ⟨e1, -⟩ := nuS_b hS.2 f1
    obtain ⟨d1, -⟩ := rdS_b hS.2 (lo := 64) (hi := 64) (by omega) e1
    rw [cmS_99 hk] at h
    refine ⟨hM2.o, pm_reads hM2 hS hx (by omega) (by omega) (fun G3 hM3 => ⟨hM3.o, pm_tells hM3 ht (by omega) (fun G4 hM4 => ⟨hM4.o, pm_reads hM4 hS g1 (by omega) (by omega) (fun G5 hM5 => ⟨hM5.o, pm_number hM5 hS f1 (fun G6 hM6 => ⟨hM6.o, pm_tells hM6 ht (by omega) (fun G7 hM7 => ⟨hM7.o, pm_reads hM7 hS e1 (by omega) (by omega) (fun G8 hM8 => ⟨hM8.o, pm_reads hM8 hS d1 (by omega) (by omega) (fun G9 hM9 => ⟨hM9.o, pm_tells hM9 ht (by omega) (fun G10 hM10 => pm_rc330 hM10 (fun G11 hM11 => h G11 _ hM11 (fun j hj => ?_) (fun _ => ⟨hkt, ?_, fun _ => ?_, fun _ => ?_⟩)))⟩)⟩)⟩)⟩)⟩)⟩)⟩)⟩
    · rw [ud_ne (by omega), ud_ne (by omega), ud_ne (by omega)]
    · rw [ud_ne (by omega), ud_ne (by omega), show 3 * t + 0 = 3 * t by omega, ud_at]; rfl
    · rw [ud_ne (by omega), ud_at]; rfl
    · rw [ud_at]; rfl
  · -- g
    subst e
    have hx := hx (by omega)
    rw [cmS_103 hk] at h
    refine ⟨hM2.o, pm_reads hM2 hS hx (by omega) (by omega) (fun G3 hM3 => ⟨hM3.o, pm_tells hM3 ht (by omega) (fun G10 hM10 => pm_rc330 hM10 (fun G11 hM11 => h G11 _ hM11 (fun j hj => ?_) (fun _ => ⟨hkt, ?_, fun z => ?_, fun z => ?_⟩)))⟩)⟩
    · rw [ud_ne (by omega)]
    · rw [show 3 * t + 0 = 3 * t by omega, ud_at]; rfl
    · exact absurd z (by show ¬ ((103 : Int) = 99 ∨ (103 : Int) = 104 ∨ (103 : Int) = 115 ∨ (103 : Int) = 116); omega)
    · exact absurd z (by show ¬ ((103 : Int) = 99 ∨ (103 : Int) = 115 ∨ (103 : Int) = 116); omega)
  · -- h
    subst e
    have hx := hx (by omega)
    obtain ⟨g1, -⟩ := rdS_b hS.2 (lo := 48) (hi := 57) (by omega) hx
    obtain ⟨f1, -⟩ := rdS_b hS.2 (lo := 42) (hi := 42) (by omega) g1
    rw [cmS_104 hk] at h
    refine ⟨hM2.o, pm_reads hM2 hS hx (by omega) (by omega) (fun G3 hM3 => ⟨hM3.o, pm_tells hM3 ht (by omega) (fun G4 hM4 => ⟨hM4.o, pm_reads hM4 hS g1 (by omega) (by omega) (fun G5 hM5 => ⟨hM5.o, pm_number hM5 hS f1 (fun G6 hM6 => ⟨hM6.o, pm_tells hM6 ht (by omega) (fun G10 hM10 => pm_rc330 hM10 (fun G11 hM11 => h G11 _ hM11 (fun j hj => ?_) (fun _ => ⟨hkt, ?_, fun _ => ?_, fun z => ?_⟩)))⟩)⟩)⟩)⟩)⟩
    · rw [ud_ne (by omega), ud_ne (by omega)]
    · rw [ud_ne (by omega), show 3 * t + 0 = 3 * t by omega, ud_at]; rfl
    · rw [ud_at]; rfl
    · exact absurd z (by show ¬ ((104 : Int) = 99 ∨ (104 : Int) = 115 ∨ (104 : Int) = 116); omega)
  · -- k
    subst e
    have hx := hx (by omega)
    rw [cmS_107 hk] at h
    refine ⟨hM2.o, pm_reads hM2 hS hx (by omega) (by omega) (fun G3 hM3 => ⟨hM3.o, pm_tells hM3 ht (by omega) (fun G10 hM10 => pm_rc330 hM10 (fun G11 hM11 => h G11 _ hM11 (fun j hj => ?_) (fun _ => ⟨hkt, ?_, fun z => ?_, fun z => ?_⟩)))⟩)⟩
    · rw [ud_ne (by omega)]
    · rw [show 3 * t + 0 = 3 * t by omega, ud_at]; rfl
    · exact absurd z (by show ¬ ((107 : Int) = 99 ∨ (107 : Int) = 104 ∨ (107 : Int) = 115 ∨ (107 : Int) = 116); omega)
    · exact absurd z (by show ¬ ((107 : Int) = 99 ∨ (107 : Int) = 115 ∨ (107 : Int) = 116); omega)
  · -- n
    subst e
    have hx := hx (by omega)
    rw [cmS_110 hk] at h
    refine ⟨hM2.o, pm_number hM2 hS hx (fun G3 hM3 => ⟨hM3.o, pm_tells hM3 ht (by omega) (fun G10 hM10 => pm_rc330 hM10 (fun G11 hM11 => h G11 _ hM11 (fun j hj => ?_) (fun _ => ⟨hkt, ?_, fun z => ?_, fun z => ?_⟩)))⟩)⟩
    · rw [ud_ne (by omega)]
    · rw [show 3 * t + 0 = 3 * t by omega, ud_at]; rfl
    · exact absurd z (by show ¬ ((110 : Int) = 99 ∨ (110 : Int) = 104 ∨ (110 : Int) = 115 ∨ (110 : Int) = 116); omega)
    · exact absurd z (by show ¬ ((110 : Int) = 99 ∨ (110 : Int) = 115 ∨ (110 : Int) = 116); omega)
  · -- s
    subst e
    have hx := hx (by omega)
    rw [cmS_115 hk] at h
    refine ⟨hM2.o, pm_readsSale hM2 hS hx ht (fun G10 hM10 => pm_rc330 hM10 (fun G11 hM11 => h G11 _ hM11 (fun j hj => ?_) (fun _ => ⟨hkt, ?_, fun _ => ?_, fun _ => ?_⟩)))⟩
    · rw [ud_ne (by omega), ud_ne (by omega), ud_ne (by omega)]
    · rw [ud_ne (by omega), ud_ne (by omega), show 3 * t + 0 = 3 * t by omega, ud_at]; rfl
    · rw [ud_ne (by omega), ud_at]; rfl
    · rw [ud_at]; rfl
  · -- t
    subst e
    have hx := hx (by omega)
    obtain ⟨g1, -⟩ := rdS_b hS.2 (lo := 48) (hi := 57) (by omega) hx
    obtain ⟨f1, -⟩ := rdS_b hS.2 (lo := 60) (hi := 60) (by omega) g1
    obtain ⟨e1, -⟩ := rdS_b hS.2 (lo := 48) (hi := 57) (by omega) f1
    obtain ⟨d1, -⟩ := rdS_b hS.2 (lo := 58) (hi := 58) (by omega) e1
    rw [cmS_116 hk] at h
    refine ⟨hM2.o, pm_reads hM2 hS hx (by omega) (by omega) (fun G3 hM3 => ⟨hM3.o, pm_tells hM3 ht (by omega) (fun G4 hM4 => ⟨hM4.o, pm_reads hM4 hS g1 (by omega) (by omega) (fun G5 hM5 => ⟨hM5.o, pm_reads hM5 hS f1 (by omega) (by omega) (fun G6 hM6 => ⟨hM6.o, pm_tells hM6 ht (by omega) (fun G7 hM7 => ⟨hM7.o, pm_reads hM7 hS e1 (by omega) (by omega) (fun G8 hM8 => ⟨hM8.o, pm_number hM8 hS d1 (fun G9 hM9 => ⟨hM9.o, pm_tells hM9 ht (by omega) (fun G10 hM10 => pm_rc330 hM10 (fun G11 hM11 => h G11 _ hM11 (fun j hj => ?_) (fun _ => ⟨hkt, ?_, fun _ => ?_, fun _ => ?_⟩)))⟩)⟩)⟩)⟩)⟩)⟩)⟩)⟩
    · rw [ud_ne (by omega), ud_ne (by omega), ud_ne (by omega)]
    · rw [ud_ne (by omega), ud_ne (by omega), show 3 * t + 0 = 3 * t by omega, ud_at]; rfl
    · rw [ud_ne (by omega), ud_at]; rfl
    · rw [ud_at]; rfl
end MODEL
