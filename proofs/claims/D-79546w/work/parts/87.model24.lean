/-! PLAIN LAW: the model's script, whole -/
def rdB (μ : Nat → Int → Int) : Nat → Int → Int := rep μ 0 (ud (ud (μ 0) 17 (μ 0 11)) 11 0)
theorem rdB_17 (μ : Nat → Int → Int) : rdB μ 0 17 = μ 0 11 := by
  unfold rdB
  rw [rep_at, ud_ne (by omega), ud_at]
theorem rdB_ne (μ : Nat → Int → Int) {o : Nat} (h : ¬ o = 0) : rdB μ o = μ o := rep_ne h
theorem alS_b {s : Int → Int} {n : Int} (hn : n ≤ 60) (hs : ∀ i, 0 ≤ i → i < n → 32 ≤ s i ∧ s i ≤ 126) : ∀ (m : Nat) (x : Int × Int) (t : Int) (C : Int → cmT), RP n x → t ≤ (alS s n m x t C).2.1 ∧ (alS s n m x t C).2.1 ≤ t + m ∧ ((alS s n m x t C).1 = -1 ∨ (0 ≤ (alS s n m x t C).1 ∧ (alS s n m x t C).1 ≤ n))
  | 0, x, t, C, hx => ⟨Int.le_refl _, by show t ≤ t + ((0 : Nat) : Int); omega, hx.2.2⟩
  | m + 1, x, t, C, hx => by
    rw [alS]
    split
    · rename_i c
      split
      · exact ⟨Int.le_refl _, by show t ≤ _; omega, hx.2.2⟩
      · obtain ⟨g1, g2, g3, -⟩ := rdS_b hs (lo := 59) (hi := 59) (by omega) hx
        split
        · have hc := cmS_b hs (a := (rdS s n 59 59 x).2.1) ⟨g1.1, g1.2.1⟩
          obtain ⟨f1, f2, f3⟩ := alS_b hn hs m (cmS s n (rdS s n 59 59 x).2.1).2.2.2.2 (t + 1) (udC C t (cm4 (cmS s n (rdS s n 59 59 x).2.1))) hc.1
          exact ⟨by omega, by omega, f3⟩
        · exact ⟨Int.le_refl _, by show t ≤ _; omega, g1.2.2⟩
    · exact ⟨Int.le_refl _, by show t ≤ _; omega, hx.2.2⟩
theorem scS_b {s : Int → Int} {n : Int} (hn : 0 ≤ n ∧ n ≤ 60) (hs : ∀ i, 0 ≤ i → i < n → 32 ≤ s i ∧ s i ≤ 126) : (1 ≤ (scS s n).2.1 ∧ (scS s n).2.1 ≤ 21) ∧ ((scS s n).1 = -1 ∨ (0 ≤ (scS s n).1 ∧ (scS s n).1 ≤ 60)) := by
  have hc := cmS_b hs (a := 0) ⟨by omega, hn.1⟩
  have := alS_b hn.2 hs 20 (cmS s n 0).2.2.2.2 1 (udC (fun _ => (0, 0, 0, 0)) 0 (cm4 (cmS s n 0))) hc.1
  unfold scS
  omega
theorem cmM_neg {μ : Nat → Int → Int} {o : oC} (h : o.2.2 = none) : cmM μ o = rep μ 1 o.2.1 := by
  unfold cmM
  rw [h]
theorem OKn.row {w : Int → Int} {o : oC} (h : OKn o) : ∀ {μ : Nat → Int → Int}, o.2.2 = none ∨ (∃ r d b i, o.2.2 = some (r, d, b, i) ∧ cmM μ o = rfM μ r d b i) := by
  intro μ
  rcases h.2 with e | ⟨r, d, b, i, e, -⟩
  · exact .inl e
  · refine .inr ⟨r, d, b, i, e, ?_⟩
    unfold cmM
    rw [e]
section MODEL
variable {G0 G : aH} {M : Nat} {μ : Nat → Int → Int} {N : Int}
theorem pm_rAll_e {Q : aH → Prop} {n : Nat} {x : Int × Int} {t : Int} {kd wd : Int → Int} (hM : MM G0 G M (rdM μ x t kd wd)) (hS : SI μ) (hx : RP (μ 0 17) x) (h : ¬ x.2 = -1 ∨ μ 0 17 ≤ x.1) (hQ : Q G) : tw_X8_readsAll_b19 Q (n + 1) G M := by
  have h17 := hS.1
  obtain ⟨x1, x2, x3⟩ := hx
  rw [tws_X8_readsAll_b19]
  simp (disch := omega) only [MM.o hM, MM.r0 hM, MM.r1 hM, MM.r2 hM, MM.r3 hM, MM.r4 hM, MM.r8 hM, MM.r9 hM, MM.r10 hM, MM.r13 hM, MM.r16 hM, MM.r21 hM, MM.r22 hM, MM.a1 hM, MM.a2 hM, MM.a3 hM, MM.a4 hM, MM.a5 hM, MM.a6 hM, MM.a7 hM, MM.a8 hM, MM.a9 hM, MM.a10 hM, MM.a11 hM, MM.a12 hM, MM.d1 hM, MM.d2 hM, MM.d3 hM, MM.d4 hM, MM.d5 hM, MM.d6 hM, MM.d7 hM, MM.d8 hM, MM.d9 hM, MM.d10 hM, MM.d11 hM, MM.d12 hM, MM.fl hM, true_and, rdM_0, rdF_17, rdF_18, rdF_19, Int.cast_ofNat_Int, n_nat, n_neg, n_eq, n_le]
  exact ⟨fun _ => hQ, fun c => ⟨fun _ => hQ, fun d => by omega⟩⟩
theorem pm_rAll {Q : aH → Prop} (hS : SI μ) : ∀ (m : Nat) (x : Int × Int) (t : Int) (kd wd : Int → Int) (C : Int → cmT) (G : aH), MM G0 G M (rdM μ x t kd wd) → RP (μ 0 17) x → (x.2 = -1 → 60 ≤ x.1 + 3 * m) → 1 ≤ t → t + m ≤ 21 → (x.2 = -1 → ∀ j, 0 ≤ j → j < t → WD kd wd j (C j)) → (∀ G1 y kd' wd', MM G0 G1 M (rdM μ (y, (alS (μ 8) (μ 0 17) m x t C).1) (alS (μ 8) (μ 0 17) m x t C).2.1 kd' wd') → ((alS (μ 8) (μ 0 17) m x t C).1 = -1 → ∀ j, 0 ≤ j → j < (alS (μ 8) (μ 0 17) m x t C).2.1 → WD kd' wd' j ((alS (μ 8) (μ 0 17) m x t C).2.2 j)) → Q G1) → tw_X8_readsAll_b19 Q (m + 1 + 1) G M
  | 0, x, t, kd, wd, C, G, hM, hx, hf, h1, h2, hw, h => by
    have h17 := hS.1
    refine pm_rAll_e hM hS hx (by omega) (h G x.1 kd wd hM hw)
  | m + 1, x, t, kd, wd, C, G, hM, hx, hf, h1, h2, hw, h => by
    have h17 := hS.1
    rw [alS] at h
    by_cases c : x.2 = -1
    · rw [if_pos c] at h
      by_cases d : μ 0 17 ≤ x.1
      · rw [if_pos d] at h
        exact pm_rAll_e hM hS hx (.inr d) (h G x.1 kd wd hM hw)
      · rw [if_neg d] at h
        obtain ⟨g1, g2, g3, g4, -⟩ := rdS_b hS.2 (lo := 59) (hi := 59) (by omega) hx
        obtain ⟨x1, x2, x3⟩ := id hx
        rw [tws_X8_readsAll_b19]
        simp (disch := omega) only [MM.o hM, MM.r0 hM, MM.r1 hM, MM.r2 hM, MM.r3 hM, MM.r4 hM, MM.r8 hM, MM.r9 hM, MM.r10 hM, MM.r13 hM, MM.r16 hM, MM.r21 hM, MM.r22 hM, MM.a1 hM, MM.a2 hM, MM.a3 hM, MM.a4 hM, MM.a5 hM, MM.a6 hM, MM.a7 hM, MM.a8 hM, MM.a9 hM, MM.a10 hM, MM.a11 hM, MM.a12 hM, MM.d1 hM, MM.d2 hM, MM.d3 hM, MM.d4 hM, MM.d5 hM, MM.d6 hM, MM.d7 hM, MM.d8 hM, MM.d9 hM, MM.d10 hM, MM.d11 hM, MM.d12 hM, MM.fl hM, true_and, rdM_0, rdF_17, rdF_18, rdF_19, Int.cast_ofNat_Int, n_nat, n_neg, n_eq, n_le]
        refine ⟨fun z => absurd c z, fun _ => ⟨fun z => absurd z d, fun _ => pm_reads hM hS hx (by omega) (by omega) (fun G1 hM1 => ?_)⟩⟩
        generalize hr : (rdS (μ 8) (μ 0 17) 59 59 x).2 = r at *
        obtain ⟨r1, r2, r3⟩ := id g1
        simp (disch := omega) only [MM.o hM1, MM.r0 hM1, MM.r1 hM1, MM.r2 hM1, MM.r3 hM1, MM.r4 hM1, MM.r8 hM1, MM.r9 hM1, MM.r10 hM1, MM.r13 hM1, MM.r16 hM1, MM.r21 hM1, MM.r22 hM1, MM.a1 hM1, MM.a2 hM1, MM.a3 hM1, MM.a4 hM1, MM.a5 hM1, MM.a6 hM1, MM.a7 hM1, MM.a8 hM1, MM.a9 hM1, MM.a10 hM1, MM.a11 hM1, MM.a12 hM1, MM.d1 hM1, MM.d2 hM1, MM.d3 hM1, MM.d4 hM1, MM.d5 hM1, MM.d6 hM1, MM.d7 hM1, MM.d8 hM1, MM.d9 hM1, MM.d10 hM1, MM.d11 hM1, MM.d12 hM1, MM.fl hM1, true_and, rdM_0, rdF_19, Int.cast_ofNat_Int, n_nat, n_neg, n_eq]
        refine ⟨fun e => ?_, fun e => ?_⟩
        · rw [if_neg e] at h
          unfold tw_X8_readsAll_b59
          exact pm_rAll_e hM1 hS g1 (.inl e) (h G1 r.1 kd wd hM1 (fun z => absurd z e))
        · rw [if_pos e] at h
          have hr2 : r = (r.1, -1) := by rw [← e]
          rw [hr2] at hM1
          have hc := cmS_b hS.2 (a := r.1) ⟨r1, r2⟩
          refine pm_readsCommand hM1 hS ⟨r1, r2⟩ (by omega) (fun G2 wd' hM2 hk1 hk2 => ?_)
          unfold tw_X8_readsAll_b59
          have g3 := g3 e
          refine pm_rAll hS m _ (t + 1) _ wd' (udC C t (cm4 (cmS (μ 8) (μ 0 17) r.1))) G2 hM2 hc.1 (fun z => by have := hc.2.1 z; omega) (by omega) (by omega) (fun z j j1 j2 => ?_) h
          unfold udC
          by_cases q : j = t
          · rw [if_pos q, q]
            exact hk2 z
          · rw [if_neg q]
            exact (hw c j j1 (by omega)).cg (ud_ne q) (fun i i1 i2 => hk1 i (by omega))
    · rw [if_neg c] at h
      exact pm_rAll_e hM hS hx (.inl c) (h G x.1 kd wd hM hw)
theorem pm_readsAll {Q : aH → Prop} (hM : MM G0 G M μ) (hS : SI μ) (h : ∀ G1 y kd' wd', MM G0 G1 M (rdM μ (y, (scS (μ 8) (μ 0 17)).1) (scS (μ 8) (μ 0 17)).2.1 kd' wd') → ((scS (μ 8) (μ 0 17)).1 = -1 → ∀ j, 0 ≤ j → j < (scS (μ 8) (μ 0 17)).2.1 → WD kd' wd' j ((scS (μ 8) (μ 0 17)).2.2 j)) → Q G1) : tw_X8_readsAll Q G M := by
  have h17 := hS.1
  have e : μ = rdM μ (μ 0 18, μ 0 19) (μ 0 20) (μ 11) (μ 12) := by
    funext q j
    unfold rdM rep
    by_cases q12 : q = 12
    · rw [if_pos q12, q12]
    · rw [if_neg q12]
      by_cases q11 : q = 11
      · rw [if_pos q11, q11]
      · rw [if_neg q11]
        by_cases q0 : q = 0
        · rw [if_pos q0, q0]
          unfold rdF
          by_cases j1 : j = 18
          · rw [if_pos j1, j1]
          · rw [if_neg j1]
            by_cases j2 : j = 19
            · rw [if_pos j2, j2]
            · rw [if_neg j2]
              by_cases j3 : j = 20
              · rw [if_pos j3, j3]
              · rw [if_neg j3]
        · rw [if_neg q0]
  rw [e] at hM
  unfold tw_X8_readsAll
  simp only [n_nat, n_neg]
  refine ⟨hM.o, ?_⟩
  refine hM.wf (fun G1 hM1 => ⟨hM1.o, ?_⟩)
  rw [rdM_w18] at hM1
  refine hM1.wf (fun G2 hM2 => ⟨hM2.o, ?_⟩)
  rw [rdM_w19] at hM2
  refine hM2.wf (fun G3 hM3 => ⟨hM3.o, ?_⟩)
  rw [rdM_w20] at hM3
  have hc := cmS_b hS.2 (a := 0) ⟨by omega, h17.1⟩
  refine pm_readsCommand (a := 0) (t := 0) hM3 hS (by omega) (by omega) (fun G4 wd' hM4 hk1 hk2 => ⟨22, ?_⟩)
  refine pm_rAll hS 20 _ 1 _ wd' (udC (fun _ => (0, 0, 0, 0)) 0 (cm4 (cmS (μ 8) (μ 0 17) 0))) G4 hM4 hc.1 (fun z => by have := hc.2.1 z; omega) (by omega) (by omega) (fun z j j1 j2 => ?_) h
  have : j = 0 := by omega
  subst this
  exact hk2 z
theorem pm_does {Q : Int32 → aH → Prop} (hM : MM G0 G M μ) (hW : WI N (μ 1)) (h8 : μ 1 428 + 30 ≤ 100000) {c : cmT} (h1 : -2147483648 ≤ c.1 ∧ c.1 < 2147483648) (h2 : -2147483648 ≤ c.2.1 ∧ c.2.1 < 2147483648) (h3 : -2147483648 ≤ c.2.2.1 ∧ c.2.2.1 < 2147483648) (h4 : -2147483648 ≤ c.2.2.2 ∧ c.2.2.2 < 2147483648) (h : ∀ G1, MM G0 G1 M (cmM μ (f_do (μ 1) c)) → Q (Int32.ofInt (f_do (μ 1) c).1) G1) : tw_X8_does Q G M (Int32.ofInt c.1) (Int32.ofInt c.2.1) (Int32.ofInt c.2.2.1) (Int32.ofInt c.2.2.2) := by
  obtain ⟨k, a, b, d⟩ := c
  simp only at h1 h2 h3 h4 ⊢
  unfold f_do at h
  simp only at h
  have st : ¬ k = 99 → ¬ k = 104 → ¬ k = 107 → ¬ k = 110 → ¬ k = 115 → ¬ k = 116 → th_o G M 8 ∧ tw_X8_stops (fun r G => Q r G) G M (Int32.ofInt a) := by
    intro z1 z2 z3 z4 z5 z6
    rw [if_neg z1, if_neg z2, if_neg z3, if_neg z4, if_neg z5, if_neg z6] at h
    exact ⟨hM.o, pm_stops hM hW h2 h⟩
  unfold tw_X8_does
  simp (disch := omega) only [n_nat, n_eq]
  refine ⟨fun e => ⟨hM.o, ?_⟩, fun e => st (by omega) (by omega) (by omega) (by omega) (by omega) (by omega), fun e => st (by omega) (by omega) (by omega) (by omega) (by omega) (by omega), fun e => st (by omega) (by omega) (by omega) (by omega) (by omega) (by omega), fun e => st (by omega) (by omega) (by omega) (by omega) (by omega) (by omega), fun e => ⟨hM.o, ?_⟩, fun e => st (by omega) (by omega) (by omega) (by omega) (by omega) (by omega), fun e => st (by omega) (by omega) (by omega) (by omega) (by omega) (by omega), fun e => ⟨hM.o, ?_⟩, fun e => st (by omega) (by omega) (by omega) (by omega) (by omega) (by omega), fun e => st (by omega) (by omega) (by omega) (by omega) (by omega) (by omega), fun e => ⟨hM.o, ?_⟩, fun e => st (by omega) (by omega) (by omega) (by omega) (by omega) (by omega), fun e => st (by omega) (by omega) (by omega) (by omega) (by omega) (by omega), fun e => st (by omega) (by omega) (by omega) (by omega) (by omega) (by omega), fun e => st (by omega) (by omega) (by omega) (by omega) (by omega) (by omega), fun e => ⟨hM.o, ?_⟩, fun e => ⟨hM.o, ?_⟩, fun z1 z2 z3 z4 z5 z6 z7 z8 z9 z10 z11 z12 z13 z14 z15 z16 z17 z18 => st (by omega) (by omega) (by omega) (by omega) (by omega) (by omega)⟩
  · rw [if_pos e] at h
    exact pm_carts hM hW h2 h3 h4 h
  · rw [if_neg (by omega), if_pos e] at h
    exact pm_harvests hM hW h2 h3 h
  · rw [if_neg (by omega), if_neg (by omega), if_pos e] at h
    exact pm_comes hM h2 h
  · rw [if_neg (by omega), if_neg (by omega), if_neg (by omega), if_pos e] at h
    exact pm_passes hM hW h8 h2 h
  · rw [if_neg (by omega), if_neg (by omega), if_neg (by omega), if_neg (by omega), if_pos e] at h
    exact pm_sells hM hW h2 h3 h4 h
  · rw [if_neg (by omega), if_neg (by omega), if_neg (by omega), if_neg (by omega), if_neg (by omega), if_pos e] at h
    exact pm_threshes hM hW h2 h3 h4 h
end MODEL
