/-! PLAIN LAW: the model's script, its run -/
def nrm (x : Int) : Int := (Int32.ofInt x).toInt
theorem nrm_b (x : Int) : -2147483648 ≤ nrm x ∧ nrm x < 2147483648 := ⟨Int32.le_toInt _, Int32.toInt_lt _⟩
theorem nrm_e (x : Int) : Int32.ofInt x = Int32.ofInt (nrm x) := (Int32.ofInt_toInt _).symm
theorem nrm_i {x : Int} (h : -2147483648 ≤ x ∧ x < 2147483648) : nrm x = x := n_toInt h.1 h.2
/-- bounds of a command -/
def CBd (c : cmT) : Prop := (-100 ≤ c.1 ∧ c.1 ≤ 1000) ∧ (-100 ≤ c.2.1 ∧ c.2.1 ≤ 1000) ∧ (-100 ≤ c.2.2.1 ∧ c.2.2.1 ≤ 1000) ∧ (-100 ≤ c.2.2.2 ∧ c.2.2.2 ≤ 1000)
theorem WD.nr {kd wd : Int → Int} {j : Int} {c : cmT} (h : WD kd wd j c) (hb : CBd c) : WD (fun i => nrm (kd i)) (fun i => nrm (wd i)) j c := by
  obtain ⟨h1, h2, h3, h4⟩ := h
  obtain ⟨b1, b2, b3, b4⟩ := hb
  refine ⟨?_, ?_, fun z => ?_, fun z => ?_⟩
  · show nrm (kd j) = _
    rw [h1, nrm_i (by omega)]
  · show nrm (wd _) = _
    rw [h2, nrm_i (by omega)]
  · show nrm (wd _) = _
    rw [h3 z, nrm_i (by omega)]
  · show nrm (wd _) = _
    rw [h4 z, nrm_i (by omega)]
theorem cmS_v {s : Int → Int} {n a : Int} (hs : ∀ i, 0 ≤ i → i < n → 32 ≤ s i ∧ s i ≤ 126) (ha : 0 ≤ a ∧ a ≤ n) : CBd (cm4 (cmS s n a)) := by
  have hb := sgS_b hs ha.1
  have hx : ¬ sgS s n a = -1 → RP n (a + 1, -1) := fun z => ⟨by show 0 ≤ a + 1; omega, by show a + 1 ≤ n; omega, .inl rfl⟩
  by_cases z1 : sgS s n a = 104
  · have hx := hx (by omega)
    obtain ⟨g1, -, -, -, g5, -⟩ := rdS_b hs (lo := 48) (hi := 57) (by omega) hx
    obtain ⟨f1, -⟩ := rdS_b hs (lo := 42) (hi := 42) (by omega) g1
    have e1 := (nuS_b hs f1).2.2.2.2
    rw [cmS_104 z1]
    exact ⟨⟨by show (-100 : Int) ≤ 104; omega, by show (104 : Int) ≤ 1000; omega⟩, by show -100 ≤ (rdS s n 48 57 (a + 1, -1)).1 ∧ (rdS s n 48 57 (a + 1, -1)).1 ≤ 1000; omega, by show -100 ≤ (nuS s n _).1 ∧ (nuS s n _).1 ≤ 1000; omega, by show (-100 : Int) ≤ 0 ∧ (0 : Int) ≤ 1000; omega⟩
  · by_cases z2 : sgS s n a = 99
    · have hx := hx (by omega)
      obtain ⟨g1, -, -, -, g5, -⟩ := rdS_b hs (lo := 48) (hi := 57) (by omega) hx
      obtain ⟨f1, -⟩ := rdS_b hs (lo := 58) (hi := 58) (by omega) g1
      obtain ⟨e1, -, -, -, e5⟩ := nuS_b hs f1
      obtain ⟨d1, -⟩ := rdS_b hs (lo := 64) (hi := 64) (by omega) e1
      have b5 := (rdS_b hs (lo := 48) (hi := 57) (by omega) d1).2.2.2.2.1
      rw [cmS_99 z2]
      exact ⟨⟨by show (-100 : Int) ≤ 99; omega, by show (99 : Int) ≤ 1000; omega⟩, by show -100 ≤ (rdS s n 48 57 (a + 1, -1)).1 ∧ (rdS s n 48 57 (a + 1, -1)).1 ≤ 1000; omega, by show -100 ≤ (nuS s n _).1 ∧ (nuS s n _).1 ≤ 1000; omega, by show -100 ≤ (rdS s n _ _ _).1 ∧ (rdS s n _ _ _).1 ≤ 1000; omega⟩
    · by_cases z3 : sgS s n a = 116
      · have hx := hx (by omega)
        obtain ⟨g1, -, -, -, g5, -⟩ := rdS_b hs (lo := 48) (hi := 57) (by omega) hx
        obtain ⟨f1, -⟩ := rdS_b hs (lo := 60) (hi := 60) (by omega) g1
        obtain ⟨e1, -, -, -, e5, -⟩ := rdS_b hs (lo := 48) (hi := 57) (by omega) f1
        obtain ⟨d1, -⟩ := rdS_b hs (lo := 58) (hi := 58) (by omega) e1
        have b5 := (nuS_b hs d1).2.2.2.2
        rw [cmS_116 z3]
        exact ⟨⟨by show (-100 : Int) ≤ 116; omega, by show (116 : Int) ≤ 1000; omega⟩, by show -100 ≤ (rdS s n 48 57 (a + 1, -1)).1 ∧ (rdS s n 48 57 (a + 1, -1)).1 ≤ 1000; omega, by show -100 ≤ (rdS s n _ _ _).1 ∧ (rdS s n _ _ _).1 ≤ 1000; omega, by show -100 ≤ (nuS s n _).1 ∧ (nuS s n _).1 ≤ 1000; omega⟩
      · by_cases z4 : sgS s n a = 110
        · have hx := hx (by omega)
          have b5 := (nuS_b hs hx).2.2.2.2
          rw [cmS_110 z4]
          exact ⟨⟨by show (-100 : Int) ≤ 110; omega, by show (110 : Int) ≤ 1000; omega⟩, by show -100 ≤ (nuS s n _).1 ∧ (nuS s n _).1 ≤ 1000; omega, by show (-100 : Int) ≤ 0 ∧ (0 : Int) ≤ 1000; omega, by show (-100 : Int) ≤ 0 ∧ (0 : Int) ≤ 1000; omega⟩
        · by_cases z5 : sgS s n a = 115
          · have hx := hx (by omega)
            obtain ⟨g1, -, -, g4⟩ := kdS_b hs hx
            have b5 := (nuS_b hs g1).2.2.2.2
            have hp := hpS_b (s := s) (n := n) (nuS s n (kdS s n (a + 1, -1)).2).2
            rw [cmS_115 z5]
            exact ⟨⟨by show (-100 : Int) ≤ 115; omega, by show (115 : Int) ≤ 1000; omega⟩, by show -100 ≤ (kdS s n _).1 ∧ (kdS s n _).1 ≤ 1000; omega, by show -100 ≤ (nuS s n _).1 ∧ (nuS s n _).1 ≤ 1000; omega, by show -100 ≤ hpS s n _ ∧ hpS s n _ ≤ 1000; omega⟩
          · by_cases z6 : sgS s n a = 107
            · have hx := hx (by omega)
              have g5 := (rdS_b hs (lo := 48) (hi := 57) (by omega) hx).2.2.2.2.1
              rw [cmS_107 z6]
              exact ⟨⟨by show (-100 : Int) ≤ 107; omega, by show (107 : Int) ≤ 1000; omega⟩, by show -100 ≤ (rdS s n _ _ _).1 ∧ (rdS s n _ _ _).1 ≤ 1000; omega, by show (-100 : Int) ≤ 0 ∧ (0 : Int) ≤ 1000; omega, by show (-100 : Int) ≤ 0 ∧ (0 : Int) ≤ 1000; omega⟩
            · by_cases z7 : sgS s n a = 103
              · have hx := hx (by omega)
                have g5 := (rdS_b hs (lo := 48) (hi := 57) (by omega) hx).2.2.2.2.1
                rw [cmS_103 z7]
                exact ⟨⟨by show (-100 : Int) ≤ 103; omega, by show (103 : Int) ≤ 1000; omega⟩, by show -100 ≤ (rdS s n _ _ _).1 ∧ (rdS s n _ _ _).1 ≤ 1000; omega, by show (-100 : Int) ≤ 0 ∧ (0 : Int) ≤ 1000; omega, by show (-100 : Int) ≤ 0 ∧ (0 : Int) ≤ 1000; omega⟩
              · rw [cmS_no z1 z2 z3 z4 z5 z6 z7]
                exact ⟨by show -100 ≤ sgS s n a ∧ sgS s n a ≤ 1000; omega, by show (-100 : Int) ≤ 0 ∧ (0 : Int) ≤ 1000; omega, by show (-100 : Int) ≤ 0 ∧ (0 : Int) ≤ 1000; omega, by show (-100 : Int) ≤ 0 ∧ (0 : Int) ≤ 1000; omega⟩
theorem alS_v {s : Int → Int} {n : Int} (hs : ∀ i, 0 ≤ i → i < n → 32 ≤ s i ∧ s i ≤ 126) : ∀ (m : Nat) (x : Int × Int) (t : Int) (C : Int → cmT), RP n x → (∀ j, CBd (C j)) → ∀ j, CBd ((alS s n m x t C).2.2 j)
  | 0, x, t, C, hx, hC => hC
  | m + 1, x, t, C, hx, hC => by
    rw [alS]
    split
    · split
      · exact hC
      · obtain ⟨g1, -⟩ := rdS_b hs (lo := 59) (hi := 59) (by omega) hx
        split
        · have hc := cmS_b hs (a := (rdS s n 59 59 x).2.1) ⟨g1.1, g1.2.1⟩
          refine alS_v hs m _ (t + 1) _ hc.1 (fun j => ?_)
          unfold udC
          split
          · exact cmS_v hs ⟨g1.1, g1.2.1⟩
          · exact hC j
        · exact hC
    · exact hC
theorem scS_v {s : Int → Int} {n : Int} (hn : 0 ≤ n) (hs : ∀ i, 0 ≤ i → i < n → 32 ≤ s i ∧ s i ≤ 126) (j : Int) : CBd ((scS s n).2.2 j) := by
  have hc := cmS_b hs (a := 0) ⟨by omega, hn⟩
  refine alS_v hs 20 _ 1 _ hc.1 (fun j => ?_) j
  unfold udC
  split
  · exact cmS_v hs ⟨by omega, hn⟩
  · exact ⟨⟨by show (-100 : Int) ≤ 0; omega, by show (0 : Int) ≤ 1000; omega⟩, ⟨by show (-100 : Int) ≤ 0; omega, by show (0 : Int) ≤ 1000; omega⟩, ⟨by show (-100 : Int) ≤ 0; omega, by show (0 : Int) ≤ 1000; omega⟩, ⟨by show (-100 : Int) ≤ 0; omega, by show (0 : Int) ≤ 1000; omega⟩⟩
theorem cmM_o (μ : Nat → Int → Int) (o : oC) {a : Nat} (h0 : ¬ a = 0) (h1 : ¬ a = 1) (h10 : ¬ a = 10) : cmM μ o a = μ a := by
  obtain ⟨c, w, _ | q⟩ := o
  · exact rep_ne h1
  · show rfM μ q.1 q.2.1 q.2.2.1 q.2.2.2 a = _
    unfold rfM
    rw [rep_ne h10, rep_ne h0]
section MODEL
variable {G0 G : aH} {M : Nat} {μ : Nat → Int → Int} {N : Int}
theorem pm_scr91 {Q : Int32 → aH → Prop} (hM : MM G0 G M μ) {k : Int} (h15 : 0 ≤ μ 0 15 ∧ μ 0 15 ≤ 2) (h : ∀ G1, MM G0 G1 M (rep (kwM (kpM μ 0 11 k) 1) 1 (μ 2)) → Q (Int32.ofInt (-3)) G1) : tw_X8_script_b91 Q G M (Int32.ofInt k) := by
  unfold tw_X8_script_b91
  simp only [n_nat, n_neg]
  refine ⟨hM.o, pm_keeps hM (by omega) (fun G1 hM1 => ⟨hM1.o, pm_keepsWhy hM1 (by omega) (by rw [kpM_0, ud_ne (by omega)]; exact h15) (fun G2 hM2 => ⟨hM2.o, hM2.o, ?_⟩)⟩)⟩
  simp (disch := omega) only [MM.o hM2, MM.r0 hM2, MM.r1 hM2, MM.r2 hM2, MM.r3 hM2, MM.r4 hM2, MM.r8 hM2, MM.r9 hM2, MM.r10 hM2, MM.r13 hM2, MM.r16 hM2, MM.r21 hM2, MM.r22 hM2, MM.a1 hM2, MM.a2 hM2, MM.a3 hM2, MM.a4 hM2, MM.a5 hM2, MM.a6 hM2, MM.a7 hM2, MM.a8 hM2, MM.a9 hM2, MM.a10 hM2, MM.a11 hM2, MM.a12 hM2, MM.d1 hM2, MM.d2 hM2, MM.d3 hM2, MM.d4 hM2, MM.d5 hM2, MM.d6 hM2, MM.d7 hM2, MM.d8 hM2, MM.d9 hM2, MM.d10 hM2, MM.d11 hM2, MM.d12 hM2, MM.fl hM2]
  refine pm_copy hM2 (by omega) (by omega) (by omega) (fun G3 hM3 => ?_)
  rw [kwM_ne _ _ (by omega) (by omega) (by omega), kpM_ne _ _ _ _ (by omega) (by omega) (by omega)] at hM3
  exact h G3 hM3
theorem pm_scr42 {Q : Int32 → aH → Prop} {T : Int} {C : Int → cmT} (hC : ∀ j, CBd (C j)) (h20 : μ 0 20 = T) (hT : 0 ≤ T ∧ T ≤ 21) (h15 : μ 0 15 = 0) (h6 : 0 ≤ μ 0 6 ∧ μ 0 6 ≤ 8) (hw : ∀ j, 0 ≤ j → j < T → WD (μ 11) (μ 12) j (C j)) : ∀ (m : Nat) (k N : Int) (w : Int → Int) (G : aH), MM G0 G M (rep μ 1 w) → 0 ≤ k → k + m = T → WI N w → N + m ≤ 720 → w 428 + 30 * m ≤ 100000 → (∀ w', doS C m k w = (w', none) → ∀ G1, MM G0 G1 M (rmM (rep μ 1 w')) → Q (Int32.ofInt T) G1) → (∀ w' j o, doS C m k w = (w', some (j, o)) → ∀ G1, MM G0 G1 M (rep (kwM (kpM (cmM (rep μ 1 w') o) 0 11 j) 1) 1 (μ 2)) → Q (Int32.ofInt (-3)) G1) → tw_X8_script_b42 Q (m + 1) G M (Int32.ofInt k)
  | 0, k, N, w, G, hM, hk, hm, hW, hN, h8, h1, h2 => by
    have e0 : rep μ 1 w 0 = μ 0 := rep_ne (by omega)
    rw [tws_X8_script_b42]
    simp (disch := omega) only [MM.o hM, MM.r0 hM, MM.r1 hM, MM.r2 hM, MM.r3 hM, MM.r4 hM, MM.r8 hM, MM.r9 hM, MM.r10 hM, MM.r13 hM, MM.r16 hM, MM.r21 hM, MM.r22 hM, MM.a1 hM, MM.a2 hM, MM.a3 hM, MM.a4 hM, MM.a5 hM, MM.a6 hM, MM.a7 hM, MM.a8 hM, MM.a9 hM, MM.a10 hM, MM.a11 hM, MM.a12 hM, MM.d1 hM, MM.d2 hM, MM.d3 hM, MM.d4 hM, MM.d5 hM, MM.d6 hM, MM.d7 hM, MM.d8 hM, MM.d9 hM, MM.d10 hM, MM.d11 hM, MM.d12 hM, MM.fl hM, true_and, e0, Int.cast_ofNat_Int, h20, n_le]
    refine ⟨fun _ => ?_, fun c => by omega⟩
    unfold tw_X8_script_b126
    simp (disch := omega) only [MM.o hM, MM.r0 hM, MM.r1 hM, MM.r2 hM, MM.r3 hM, MM.r4 hM, MM.r8 hM, MM.r9 hM, MM.r10 hM, MM.r13 hM, MM.r16 hM, MM.r21 hM, MM.r22 hM, MM.a1 hM, MM.a2 hM, MM.a3 hM, MM.a4 hM, MM.a5 hM, MM.a6 hM, MM.a7 hM, MM.a8 hM, MM.a9 hM, MM.a10 hM, MM.a11 hM, MM.a12 hM, MM.d1 hM, MM.d2 hM, MM.d3 hM, MM.d4 hM, MM.d5 hM, MM.d6 hM, MM.d7 hM, MM.d8 hM, MM.d9 hM, MM.d10 hM, MM.d11 hM, MM.d12 hM, MM.fl hM, true_and, e0, Int.cast_ofNat_Int, h20]
    exact pm_remembers hM (by rw [e0]; exact h6) (h1 w rfl)
  | m + 1, k, N, w, G, hM, hk, hm, hW, hN, h8, h1, h2 => by
    have e0 : rep μ 1 w 0 = μ 0 := rep_ne (by omega)
    have e11 : rep μ 1 w 11 = μ 11 := rep_ne (by omega)
    have e12 : rep μ 1 w 12 = μ 12 := rep_ne (by omega)
    have hwd := (hw k hk (by omega)).nr (hC k)
    have hdo := hwd.do_ w
    have hck := f_do_k hW (by omega) (by omega) (C k)
    have hb := f_do_b hW (by omega) (C k)
    have hn := f_do_n w (C k)
    rw [doS] at h1 h2
    rw [tws_X8_script_b42]
    simp (disch := omega) only [MM.o hM, MM.r0 hM, MM.r1 hM, MM.r2 hM, MM.r3 hM, MM.r4 hM, MM.r8 hM, MM.r9 hM, MM.r10 hM, MM.r13 hM, MM.r16 hM, MM.r21 hM, MM.r22 hM, MM.a1 hM, MM.a2 hM, MM.a3 hM, MM.a4 hM, MM.a5 hM, MM.a6 hM, MM.a7 hM, MM.a8 hM, MM.a9 hM, MM.a10 hM, MM.a11 hM, MM.a12 hM, MM.d1 hM, MM.d2 hM, MM.d3 hM, MM.d4 hM, MM.d5 hM, MM.d6 hM, MM.d7 hM, MM.d8 hM, MM.d9 hM, MM.d10 hM, MM.d11 hM, MM.d12 hM, MM.fl hM, true_and, e0, Int.cast_ofNat_Int, h20, n_le, n_nat, n_mul, n_add]
    refine ⟨fun c => by omega, fun _ => ?_⟩
    rw [n_tn (by omega) (by omega), n_tn (by omega) (by omega), n_tn (by omega) (by omega), n_tn (by omega) (by omega), MM.d11 hM k hk (by omega), MM.d12 hM (3 * k) (by omega) (by omega), MM.d12 hM (3 * k + 1) (by omega) (by omega), MM.d12 hM (3 * k + 2) (by omega) (by omega), e11, e12, nrm_e (μ 11 k), nrm_e (μ 12 (3 * k)), nrm_e (μ 12 (3 * k + 1)), nrm_e (μ 12 (3 * k + 2))]
    refine pm_does (c := (nrm (μ 11 k), nrm (μ 12 (3 * k)), nrm (μ 12 (3 * k + 1)), nrm (μ 12 (3 * k + 2)))) hM (N := N) (by rw [rep_at]; exact hW) (by rw [rep_at]; omega) (nrm_b _) (nrm_b _) (nrm_b _) (nrm_b _) (fun G1 hM1 => ?_)
    rw [rep_at] at hM1 ⊢
    have hdo : f_do w (nrm (μ 11 k), nrm (μ 12 (3 * k)), nrm (μ 12 (3 * k + 1)), nrm (μ 12 (3 * k + 2))) = f_do w (C k) := hdo
    rw [hdo] at hM1 ⊢
    simp (disch := omega) only [n_nat, n_add, n_sub, n_mul, n_neg, n_le, n_lt, n_eq, n_div, n_tn, n_if, Int.cast_ofNat_Int]
    refine ⟨fun c => ?_, fun c => ?_⟩
    · rw [if_pos c] at h1 h2
      rw [cmM_neg (hn.1 c), rep_rep] at hM1
      intro y hy
      subst hy
      exact pm_scr42 hC h20 hT h15 h6 hw m (k + 1) (N + 1) (f_do w (C k)).2.1 G1 hM1 (by omega) (by omega) hck.1 (by omega) (by have := hck.2; omega) h1 h2
    · rw [if_neg c] at h1 h2
      have e15 : 0 ≤ rep μ 1 w 0 15 ∧ rep μ 1 w 0 15 ≤ 2 := by rw [e0, h15]; omega
      refine pm_scr91 hM1 (cmM_15 _ _ e15) (fun G2 hM2 => ?_)
      have e2 : cmM (rep μ 1 w) (f_do w (C k)) 2 = μ 2 := by rw [cmM_o _ _ (by omega) (by omega) (by omega), rep_ne (by omega)]
      rw [e2] at hM2
      exact h2 w k (f_do w (C k)) rfl G2 hM2
theorem pm_script {Q : Int32 → aH → Prop} (hM : MM G0 G M μ) (hW : WI N (μ 1)) (h6 : 0 ≤ μ 0 6 ∧ μ 0 6 ≤ 8) (ht : (0 ≤ μ 0 11 ∧ μ 0 11 ≤ 60) ∧ ∀ i, 0 ≤ i → i < μ 0 11 → 32 ≤ μ 8 i ∧ μ 8 i ≤ 126) (hN : N + 21 ≤ 720) (h8 : μ 1 428 + 630 ≤ 100000)
    (h1 : ¬ (scS (μ 8) (μ 0 11)).1 = -1 → ∀ G1 x t kd wd, MM G0 G1 M (rep (rdM (rdB μ) x t kd wd) 0 (ud (rdF (rdB μ 0) x.1 x.2 t) 12 (scS (μ 8) (μ 0 11)).1)) → Q (Int32.ofInt (-2)) G1)
    (h2 : (scS (μ 8) (μ 0 11)).1 = -1 → ∀ w', doS (scS (μ 8) (μ 0 11)).2.2 (scS (μ 8) (μ 0 11)).2.1.toNat 0 (μ 1) = (w', none) → ∀ G1 x t kd wd, MM G0 G1 M (rmM (rep (sttM (rdM (rdB μ) x t kd wd)) 1 w')) → Q (Int32.ofInt (scS (μ 8) (μ 0 11)).2.1) G1)
    (h3 : (scS (μ 8) (μ 0 11)).1 = -1 → ∀ w' j o, doS (scS (μ 8) (μ 0 11)).2.2 (scS (μ 8) (μ 0 11)).2.1.toNat 0 (μ 1) = (w', some (j, o)) → ∀ G1 x t kd wd, MM G0 G1 M (rep (kwM (kpM (cmM (rep (sttM (rdM (rdB μ) x t kd wd)) 1 w') o) 0 11 j) 1) 1 (μ 1)) → Q (Int32.ofInt (-3)) G1) : tw_X8_script Q G M := by
  have hb := scS_b ht.1 ht.2
  have hv := scS_v ht.1.1 ht.2
  have h17 := rdB_17 μ
  have r8 : rdB μ 8 = μ 8 := rdB_ne μ (by omega)
  have hS : SI (rdB μ) := by
    unfold SI
    rw [h17, r8]
    exact ht
  unfold tw_X8_script
  simp (disch := omega) only [MM.o hM, MM.r0 hM, MM.r1 hM, MM.r2 hM, MM.r3 hM, MM.r4 hM, MM.r8 hM, MM.r9 hM, MM.r10 hM, MM.r13 hM, MM.r16 hM, MM.r21 hM, MM.r22 hM, MM.a1 hM, MM.a2 hM, MM.a3 hM, MM.a4 hM, MM.a5 hM, MM.a6 hM, MM.a7 hM, MM.a8 hM, MM.a9 hM, MM.a10 hM, MM.a11 hM, MM.a12 hM, MM.d1 hM, MM.d2 hM, MM.d3 hM, MM.d4 hM, MM.d5 hM, MM.d6 hM, MM.d7 hM, MM.d8 hM, MM.d9 hM, MM.d10 hM, MM.d11 hM, MM.d12 hM, MM.fl hM, true_and, n_nat]
  refine hM.wf (fun G1 hM1 => ⟨hM1.o, ?_⟩)
  refine hM1.wf (fun G2 hM2 => ⟨hM2.o, ?_⟩)
  rw [rep_rep, rep_at] at hM2
  have hM2 : MM G0 G2 M (rdB μ) := hM2
  refine pm_readsAll hM2 hS (fun G3 y kd wd hM3 hwd => ⟨hM3.o, ?_⟩)
  rw [h17, r8] at hM3 hwd
  simp (disch := omega) only [MM.o hM3, MM.r0 hM3, MM.r1 hM3, MM.r2 hM3, MM.r3 hM3, MM.r4 hM3, MM.r8 hM3, MM.r9 hM3, MM.r10 hM3, MM.r13 hM3, MM.r16 hM3, MM.r21 hM3, MM.r22 hM3, MM.a1 hM3, MM.a2 hM3, MM.a3 hM3, MM.a4 hM3, MM.a5 hM3, MM.a6 hM3, MM.a7 hM3, MM.a8 hM3, MM.a9 hM3, MM.a10 hM3, MM.a11 hM3, MM.a12 hM3, MM.d1 hM3, MM.d2 hM3, MM.d3 hM3, MM.d4 hM3, MM.d5 hM3, MM.d6 hM3, MM.d7 hM3, MM.d8 hM3, MM.d9 hM3, MM.d10 hM3, MM.d11 hM3, MM.d12 hM3, MM.fl hM3, true_and, rdM_0, rdF_19, Int.cast_ofNat_Int, n_nat, n_neg, n_eq]
  refine ⟨fun c => ?_, fun c => ?_⟩
  · refine pm_starts hM3 (fun G4 hM4 => ⟨(scS (μ 8) (μ 0 11)).2.1.toNat + 1, ?_⟩)
    have hM4 : MM G0 G4 M (sttM (rdM (rdB μ) (y, (scS (μ 8) (μ 0 11)).1) (scS (μ 8) (μ 0 11)).2.1 kd wd)) := hM4
    have e1 : rdM (rdB μ) (y, (scS (μ 8) (μ 0 11)).1) (scS (μ 8) (μ 0 11)).2.1 kd wd 1 = μ 1 := by rw [rdM_ne _ _ _ _ _ (by omega), rdB_ne μ (by omega)]
    generalize hμ : rdM (rdB μ) (y, (scS (μ 8) (μ 0 11)).1) (scS (μ 8) (μ 0 11)).2.1 kd wd = μr at hM4 e1
    have s0 : sttM μr 0 = ud (μr 0) 15 0 := rep_at _ _ _
    have s2 : sttM μr 2 = μ 1 := by
      unfold sttM
      rw [rep_ne (by omega), rep_at, e1]
    have s11 : sttM μr 11 = kd := by
      unfold sttM
      rw [rep_ne (by omega), rep_ne (by omega), ← hμ, rdM_11]
    have s12 : sttM μr 12 = wd := by
      unfold sttM
      rw [rep_ne (by omega), rep_ne (by omega), ← hμ, rdM_12]
    have s1 : sttM μr = rep (sttM μr) 1 (μ 1) := by
      have : sttM μr 1 = μ 1 := by rw [sttM_1, e1]
      rw [← this, rep_self]
    rw [s1] at hM4
    have h20 : sttM μr 0 20 = (scS (μ 8) (μ 0 11)).2.1 := by rw [s0, ud_ne (by omega), ← hμ, rdM_0, rdF_20]
    have h6' : 0 ≤ sttM μr 0 6 ∧ sttM μr 0 6 ≤ 8 := by
      rw [sttM_6, ← hμ, rdM_0]
      show 0 ≤ rdB μ 0 6 ∧ rdB μ 0 6 ≤ 8
      unfold rdB
      rw [rep_at, ud_ne (by omega), ud_ne (by omega)]
      exact h6
    refine pm_scr42 (μ := sttM μr) (C := (scS (μ 8) (μ 0 11)).2.2) hv h20 (by omega) (sttM_15 μr) h6' (by rw [s11, s12]; exact hwd c) (scS (μ 8) (μ 0 11)).2.1.toNat 0 N (μ 1) G4 hM4 (by omega) (by omega) hW (by omega) (by omega) ?_ ?_
    · intro w' hd G5 hM5
      rw [← hμ] at hM5
      exact h2 c w' hd G5 _ _ kd wd hM5
    · intro w' j o hd G5 hM5
      rw [s2, ← hμ] at hM5
      exact h3 c w' j o hd G5 _ _ kd wd hM5
  · refine hM3.wf (fun G4 hM4 => ?_)
    rw [rdM_0] at hM4
    exact h1 c G4 (y, (scS (μ 8) (μ 0 11)).1) (scS (μ 8) (μ 0 11)).2.1 kd wd hM4
end MODEL
