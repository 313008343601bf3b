/-! PLAIN LAW: the model reads a text -/
def sgS (s : Int → Int) (n at_ : Int) : Int := if n ≤ at_ then -1 else s at_
def rdS (s : Int → Int) (n lo hi : Int) (x : Int × Int) : Int × Int × Int := if x.2 = -1 ∧ (lo ≤ sgS s n x.1 ∧ sgS s n x.1 ≤ hi) then (s x.1 - 48, x.1 + 1, -1) else (0, x.1, if x.2 = -1 then x.1 else x.2)
def nuL (s : Int → Int) (n : Int) : Nat → Int × Int × Int → Int × Int × Int
  | 0, r => r
  | m + 1, r => if r.2.2 = -1 ∧ (48 ≤ sgS s n r.2.1 ∧ sgS s n r.2.1 ≤ 57) then nuL s n m (10 * r.1 + (s r.2.1 - 48), r.2.1 + 1, -1) else r
def nuS (s : Int → Int) (n : Int) (x : Int × Int) : Int × Int × Int := nuL s n 2 (rdS s n 48 57 x)
def knS (c : Int) : Int := if c = 119 then 0 else if c = 114 then 1 else if c = 98 then 2 else -1
def kdS (s : Int → Int) (n : Int) (x : Int × Int) : Int × Int × Int := (knS (sgS s n x.1), (if knS (sgS s n x.1) = -1 then x.1 else x.1 + 1), if x.2 = -1 ∧ knS (sgS s n x.1) = -1 then x.1 else x.2)
def hpS (s : Int → Int) (n : Int) (x : Int × Int) : Int := bI (x.2 = -1 ∧ sgS s n x.1 = 104)
/-- a command: its sign, its numbers, where it ends, where it is wrong -/
def cmS (s : Int → Int) (n at_ : Int) : Int × Int × Int × Int × Int × Int :=
  let k := sgS s n at_
  let r1 := rdS s n 48 57 (at_ + 1, -1)
  if k = 104 then (let r2 := rdS s n 42 42 r1.2; let r3 := nuS s n r2.2; (k, r1.1, r3.1, 0, r3.2))
  else if k = 99 then (let r2 := rdS s n 58 58 r1.2; let r3 := nuS s n r2.2; let r4 := rdS s n 64 64 r3.2; let r5 := rdS s n 48 57 r4.2; (k, r1.1, r3.1, r5.1, r5.2))
  else if k = 116 then (let r2 := rdS s n 60 60 r1.2; let r3 := rdS s n 48 57 r2.2; let r4 := rdS s n 58 58 r3.2; let r5 := nuS s n r4.2; (k, r1.1, r3.1, r5.1, r5.2))
  else if k = 110 then (let r2 := nuS s n (at_ + 1, -1); (k, r2.1, 0, 0, r2.2))
  else if k = 115 then (let q1 := kdS s n (at_ + 1, -1); let r2 := nuS s n q1.2; (k, q1.1, r2.1, hpS s n r2.2, r2.2.1 + hpS s n r2.2, r2.2.2))
  else if k = 107 ∨ k = 103 then (k, r1.1, 0, 0, r1.2)
  else (k, 0, 0, 0, at_, at_)
theorem sgS_b {s : Int → Int} {n a : Int} (hs : ∀ i, 0 ≤ i → i < n → 32 ≤ s i ∧ s i ≤ 126) (ha : 0 ≤ a) : -1 ≤ sgS s n a ∧ sgS s n a ≤ 126 ∧ (sgS s n a = -1 ∨ (a < n ∧ sgS s n a = s a ∧ 32 ≤ s a)) := by
  unfold sgS
  split
  · omega
  · have := hs a ha (by omega)
    omega
/-- a place in a text: where it is, where it is wrong -/
def RP (n : Int) (x : Int × Int) : Prop := 0 ≤ x.1 ∧ x.1 ≤ n ∧ (x.2 = -1 ∨ (0 ≤ x.2 ∧ x.2 ≤ n))
section RD
variable {s : Int → Int} {n : Int}
theorem rdS_b (hs : ∀ i, 0 ≤ i → i < n → 32 ≤ s i ∧ s i ≤ 126) {lo hi : Int} (hl : 0 ≤ lo) {x : Int × Int} (hx : RP n x) : RP n (rdS s n lo hi x).2 ∧ x.1 ≤ (rdS s n lo hi x).2.1 ∧ ((rdS s n lo hi x).2.2 = -1 → x.2 = -1 ∧ (rdS s n lo hi x).2.1 = x.1 + 1) ∧ (¬ x.2 = -1 → (rdS s n lo hi x).2.2 = x.2) ∧ (-48 ≤ (rdS s n lo hi x).1 ∧ (rdS s n lo hi x).1 ≤ 78) ∧ (0 ≤ (rdS s n lo hi x).1 ∨ lo < 48) ∧ ((rdS s n lo hi x).1 ≤ 9 ∨ 57 < hi) := by
  obtain ⟨h1, h2, h3⟩ := hx
  unfold rdS RP
  have hb := sgS_b hs h1
  split
  · rename_i c
    simp only
    refine ⟨⟨by omega, by omega, by simp⟩, by omega, fun _ => ⟨c.1, by omega⟩, fun z => absurd c.1 z, by omega, by omega, by omega⟩
  · rename_i c
    by_cases e : x.2 = -1
    · rw [if_pos e]
      simp only
      refine ⟨⟨by omega, by omega, by omega⟩, by omega, fun z => by omega, fun z => absurd e z, by omega, by omega, by omega⟩
    · rw [if_neg e]
      simp only
      refine ⟨⟨by omega, by omega, by omega⟩, by omega, fun z => absurd z e, fun z => trivial, by omega, by omega, by omega⟩
theorem nuL_b (hs : ∀ i, 0 ≤ i → i < n → 32 ≤ s i ∧ s i ≤ 126) : ∀ (m : Nat) (r : Int × Int × Int) (B : Int), RP n r.2 → 0 ≤ r.1 ∧ r.1 ≤ B → 0 ≤ B → RP n (nuL s n m r).2 ∧ r.2.1 ≤ (nuL s n m r).2.1 ∧ ((nuL s n m r).2.2 = -1 ↔ r.2.2 = -1) ∧ (¬ r.2.2 = -1 → nuL s n m r = r) ∧ 0 ≤ (nuL s n m r).1 ∧ (nuL s n m r).1 ≤ 10 ^ m * (B + 1) - 1
  | 0, r, B, hx, hr, hB => ⟨hx, Int.le_refl _, Iff.rfl, fun _ => rfl, hr.1, by show r.1 ≤ 1 * (B + 1) - 1; omega⟩
  | m + 1, r, B, hx, hr, hB => by
    have hp : (0 : Int) < 10 ^ m := Int.pow_pos (by omega)
    rw [nuL]
    have hb := sgS_b hs hx.1
    split
    · rename_i c
      have := nuL_b hs m (10 * r.1 + (s r.2.1 - 48), r.2.1 + 1, -1) (10 * B + 9) ⟨by show 0 ≤ r.2.1 + 1; have := hx.1; omega, by show r.2.1 + 1 ≤ n; omega, .inl rfl⟩ (by show 0 ≤ 10 * r.1 + (s r.2.1 - 48) ∧ 10 * r.1 + (s r.2.1 - 48) ≤ _; omega) (by omega)
      obtain ⟨g1, g2, g3, g4, g5, g6⟩ := this
      refine ⟨g1, by have g2 : r.2.1 + 1 ≤ _ := g2; omega, ⟨fun _ => c.1, fun _ => g3.mpr rfl⟩, fun z => absurd c.1 z, g5, ?_⟩
      have e : (10 : Int) ^ (m + 1) * (B + 1) = 10 ^ m * (10 * B + 9 + 1) := by
        rw [Int.pow_succ, Int.mul_assoc]
        congr 1
        omega
      rw [e]
      exact g6
    · rename_i c
      refine ⟨hx, Int.le_refl _, Iff.rfl, fun _ => rfl, hr.1, ?_⟩
      have : (1 : Int) * (B + 1) ≤ 10 ^ (m + 1) * (B + 1) := Int.mul_le_mul_of_nonneg_right (Int.pow_pos (by omega)) (by omega)
      omega
theorem nuS_b (hs : ∀ i, 0 ≤ i → i < n → 32 ≤ s i ∧ s i ≤ 126) {x : Int × Int} (hx : RP n x) : RP n (nuS s n x).2 ∧ x.1 ≤ (nuS s n x).2.1 ∧ ((nuS s n x).2.2 = -1 → x.2 = -1 ∧ x.1 + 1 ≤ (nuS s n x).2.1) ∧ (¬ x.2 = -1 → (nuS s n x).2.2 = x.2) ∧ 0 ≤ (nuS s n x).1 ∧ (nuS s n x).1 ≤ 999 := by
  obtain ⟨g1, g2, g3, g4, g5, g6, g7⟩ := rdS_b hs (lo := 48) (hi := 57) (by omega) hx
  obtain ⟨f1, f2, f3, f4, f5, f6⟩ := nuL_b hs 2 (rdS s n 48 57 x) 9 g1 (by omega) (by omega)
  have e : (10 : Int) ^ 2 * (9 + 1) - 1 = 999 := by decide
  rw [e] at f6
  unfold nuS
  refine ⟨f1, by omega, fun z => ?_, fun z => ?_, f5, f6⟩
  · have := f3.mp z
    have := g3 this
    omega
  · have := g4 z
    have h4 := f4 (by rw [this]; exact z)
    rw [h4]
    exact this
theorem kdS_b (hs : ∀ i, 0 ≤ i → i < n → 32 ≤ s i ∧ s i ≤ 126) {x : Int × Int} (hx : RP n x) : RP n (kdS s n x).2 ∧ x.1 ≤ (kdS s n x).2.1 ∧ ((kdS s n x).2.2 = -1 → x.2 = -1 ∧ (kdS s n x).2.1 = x.1 + 1) ∧ (-1 ≤ (kdS s n x).1 ∧ (kdS s n x).1 ≤ 2) := by
  have hb := sgS_b hs hx.1
  have h3 := hx.2
  unfold kdS
  unfold RP
  simp only
  generalize hk : knS (sgS s n x.1) = k
  have hkk : (-1 ≤ k ∧ k ≤ 2) ∧ (¬ k = -1 → sgS s n x.1 ≥ 98) := by
    rw [← hk]
    unfold knS
    repeat (first | split | omega)
  have h1 := hx.1
  by_cases c : k = -1
  · rw [if_pos c]
    by_cases d : x.2 = -1
    · rw [if_pos ⟨d, c⟩]
      omega
    · rw [if_neg (fun z => d z.1)]
      omega
  · rw [if_neg c, if_neg (fun z => c z.2)]
    have := hkk.2 c
    omega
theorem hpS_b (x : Int × Int) : 0 ≤ hpS s n x ∧ hpS s n x ≤ 1 := n_band _
theorem hpS_1 (hs : ∀ i, 0 ≤ i → i < n → 32 ≤ s i ∧ s i ≤ 126) {x : Int × Int} (hx : RP n x) (h : hpS s n x = 1) : x.2 = -1 ∧ x.1 < n ∧ s x.1 = 104 := by
  have hb := sgS_b hs hx.1
  unfold hpS bI at h
  split at h
  · rename_i c
    omega
  · omega
theorem cmS_b (hs : ∀ i, 0 ≤ i → i < n → 32 ≤ s i ∧ s i ≤ 126) {a : Int} (ha : 0 ≤ a ∧ a ≤ n) : RP n (cmS s n a).2.2.2.2 ∧ ((cmS s n a).2.2.2.2.2 = -1 → a + 2 ≤ (cmS s n a).2.2.2.2.1) ∧ (cmS s n a).1 = sgS s n a := by
  have hb := sgS_b hs ha.1
  unfold cmS
  simp only
  have hx : sgS s n a ≠ -1 → RP n (a + 1, -1) := fun z => ⟨by show 0 ≤ a + 1; omega, by show a + 1 ≤ n; omega, .inl rfl⟩
  split
  · rename_i c
    have hx := hx (by omega)
    obtain ⟨g1, g2, g3, g4, -⟩ := rdS_b hs (lo := 48) (hi := 57) (by omega) hx
    obtain ⟨f1, f2, f3, f4, -⟩ := rdS_b hs (lo := 42) (hi := 42) (by omega) g1
    obtain ⟨e1, e2, e3, e4, -⟩ := nuS_b hs f1
    refine ⟨e1, fun z => ?_, rfl⟩
    have := e3 z
    simp only at g2 ⊢
    omega
  · split
    · rename_i c
      have hx := hx (by omega)
      obtain ⟨g1, g2, g3, g4, -⟩ := rdS_b hs (lo := 48) (hi := 57) (by omega) hx
      obtain ⟨f1, f2, f3, f4, -⟩ := rdS_b hs (lo := 58) (hi := 58) (by omega) g1
      obtain ⟨e1, e2, e3, e4, -⟩ := nuS_b hs f1
      obtain ⟨d1, d2, d3, d4, -⟩ := rdS_b hs (lo := 64) (hi := 64) (by omega) e1
      obtain ⟨b1, b2, b3, b4, -⟩ := rdS_b hs (lo := 48) (hi := 57) (by omega) d1
      refine ⟨b1, fun z => ?_, rfl⟩
      have := b3 z
      simp only at g2 ⊢
      omega
    · split
      · rename_i c
        have hx := hx (by omega)
        obtain ⟨g1, g2, g3, g4, -⟩ := rdS_b hs (lo := 48) (hi := 57) (by omega) hx
        obtain ⟨f1, f2, f3, f4, -⟩ := rdS_b hs (lo := 60) (hi := 60) (by omega) g1
        obtain ⟨e1, e2, e3, e4, -⟩ := rdS_b hs (lo := 48) (hi := 57) (by omega) f1
        obtain ⟨d1, d2, d3, d4, -⟩ := rdS_b hs (lo := 58) (hi := 58) (by omega) e1
        obtain ⟨b1, b2, b3, b4, -⟩ := nuS_b hs d1
        refine ⟨b1, fun z => ?_, rfl⟩
        have := b3 z
        simp only at g2 ⊢
        omega
      · split
        · rename_i c
          have hx := hx (by omega)
          obtain ⟨e1, e2, e3, e4, -⟩ := nuS_b hs hx
          refine ⟨e1, fun z => ?_, rfl⟩
          have := e3 z
          simp only at this ⊢
          omega
        · split
          · rename_i c
            have hx := hx (by omega)
            obtain ⟨g1, g2, g3, -⟩ := kdS_b hs hx
            obtain ⟨e1, e2, e3, e4, -⟩ := nuS_b hs g1
            have hp := hpS_b (s := s) (n := n) (nuS s n (kdS s n (a + 1, -1)).2).2
            have hp1 := hpS_1 hs e1
            refine ⟨⟨?_, ?_, e1.2.2⟩, fun z => ?_, rfl⟩
            · have := e1.1
              show 0 ≤ _ + _
              omega
            · show _ + _ ≤ _
              have := e1.2.1
              by_cases y : hpS s n (nuS s n (kdS s n (a + 1, -1)).2).2 = 1
              · have := hp1 y
                omega
              · omega
            · have := e3 z
              simp only at g2
              show _ ≤ _ + _
              omega
          · split
            · rename_i c
              have hx := hx (by omega)
              obtain ⟨g1, g2, g3, g4, -⟩ := rdS_b hs (lo := 48) (hi := 57) (by omega) hx
              refine ⟨g1, fun z => ?_, rfl⟩
              have := g3 z
              simp only at this ⊢
              omega
            · exact ⟨⟨ha.1, ha.2, .inr ha⟩, fun z => by simp only at z; omega, rfl⟩
end RD
/-- the model as it reads -/
def rdF (f : Int → Int) (at_ wr told : Int) : Int → Int := fun j => if j = 18 then at_ else if j = 19 then wr else if j = 20 then told else f j
def rdM (μ : Nat → Int → Int) (x : Int × Int) (told : Int) (kd wd : Int → Int) : Nat → Int → Int := rep (rep (rep μ 0 (rdF (μ 0) x.1 x.2 told)) 11 kd) 12 wd
section RDM
variable (μ : Nat → Int → Int) (x : Int × Int) (t : Int) (kd wd : Int → Int)
theorem rdM_0 : rdM μ x t kd wd 0 = rdF (μ 0) x.1 x.2 t := by
  unfold rdM
  rw [rep_ne (by omega), rep_ne (by omega), rep_at]
theorem rdM_11 : rdM μ x t kd wd 11 = kd := by
  unfold rdM
  rw [rep_ne (by omega), rep_at]
theorem rdM_12 : rdM μ x t kd wd 12 = wd := by
  unfold rdM
  rw [rep_at]
theorem rdM_ne {o : Nat} (h : ¬ o = 0 ∧ ¬ o = 11 ∧ ¬ o = 12) : rdM μ x t kd wd o = μ o := by
  unfold rdM
  rw [rep_ne h.2.2, rep_ne h.2.1, rep_ne h.1]
theorem rdF_18 (f : Int → Int) (a w t : Int) : rdF f a w t 18 = a := rfl
theorem rdF_19 (f : Int → Int) (a w t : Int) : rdF f a w t 19 = w := rfl
theorem rdF_20 (f : Int → Int) (a w t : Int) : rdF f a w t 20 = t := rfl
theorem rdF_17 (f : Int → Int) (a w t : Int) : rdF f a w t 17 = f 17 := rfl
theorem rdM_w18 (v : Int) : rep (rdM μ x t kd wd) 0 (ud (rdM μ x t kd wd 0) ((18 : Nat) : Int) v) = rdM μ (v, x.2) t kd wd := by
  rw [rdM_0]
  unfold rdM
  rw [rep_comm _ (show ¬ (12 : Nat) = 0 by omega), rep_comm _ (show ¬ (11 : Nat) = 0 by omega), rep_rep]
  have e : ud (rdF (μ 0) x.1 x.2 t) ((18 : Nat) : Int) v = rdF (μ 0) v x.2 t := by
    funext j
    unfold ud rdF
    by_cases h : j = 18
    · rw [if_pos (show j = ((18 : Nat) : Int) from h), if_pos h]
    · rw [if_neg (show ¬ j = ((18 : Nat) : Int) from h), if_neg h, if_neg h]
  rw [e]
theorem rdM_w19 (v : Int) : rep (rdM μ x t kd wd) 0 (ud (rdM μ x t kd wd 0) ((19 : Nat) : Int) v) = rdM μ (x.1, v) t kd wd := by
  rw [rdM_0]
  unfold rdM
  rw [rep_comm _ (show ¬ (12 : Nat) = 0 by omega), rep_comm _ (show ¬ (11 : Nat) = 0 by omega), rep_rep]
  have e : ud (rdF (μ 0) x.1 x.2 t) ((19 : Nat) : Int) v = rdF (μ 0) x.1 v t := by
    funext j
    unfold ud rdF
    by_cases h : j = 19
    · rw [if_pos (show j = ((19 : Nat) : Int) from h), if_neg (by omega), if_pos h]
    · rw [if_neg (show ¬ j = ((19 : Nat) : Int) from h)]
      by_cases h2 : j = 18
      · rw [if_pos h2, if_pos h2]
      · rw [if_neg h2, if_neg h2, if_neg h, if_neg h]
  rw [e]
theorem rdM_w20 (v : Int) : rep (rdM μ x t kd wd) 0 (ud (rdM μ x t kd wd 0) ((20 : Nat) : Int) v) = rdM μ x v kd wd := by
  rw [rdM_0]
  unfold rdM
  rw [rep_comm _ (show ¬ (12 : Nat) = 0 by omega), rep_comm _ (show ¬ (11 : Nat) = 0 by omega), rep_rep]
  have e : ud (rdF (μ 0) x.1 x.2 t) ((20 : Nat) : Int) v = rdF (μ 0) x.1 x.2 v := by
    funext j
    unfold ud rdF
    by_cases h : j = 20
    · rw [if_pos (show j = ((20 : Nat) : Int) from h), if_neg (by omega), if_neg (by omega), if_pos h]
    · rw [if_neg (show ¬ j = ((20 : Nat) : Int) from h)]
      by_cases h2 : j = 18
      · rw [if_pos h2, if_pos h2]
      · rw [if_neg h2, if_neg h2]
        by_cases h3 : j = 19
        · rw [if_pos h3, if_pos h3]
        · rw [if_neg h3, if_neg h3, if_neg h, if_neg h]
  rw [e]
theorem rdM_w11 (i v : Int) : rep (rdM μ x t kd wd) 11 (ud (rdM μ x t kd wd 11) i v) = rdM μ x t (ud kd i v) wd := by
  rw [rdM_11]
  unfold rdM
  rw [rep_comm _ (show ¬ (12 : Nat) = 11 by omega), rep_rep]
theorem rdM_w12 (i v : Int) : rep (rdM μ x t kd wd) 12 (ud (rdM μ x t kd wd 12) i v) = rdM μ x t kd (ud wd i v) := by
  rw [rdM_12]
  unfold rdM
  rw [rep_rep]
end RDM
/-- what the reading needs -/
def SI (μ : Nat → Int → Int) : Prop := (0 ≤ μ 0 17 ∧ μ 0 17 ≤ 60) ∧ ∀ i, 0 ≤ i → i < μ 0 17 → 32 ≤ μ 8 i ∧ μ 8 i ≤ 126
section MODEL
variable {G0 G : aH} {M : Nat} {μ : Nat → Int → Int} {x : Int × Int} {t : Int} {kd wd : Int → Int}
theorem pm_sign {Q : Int32 → aH → Prop} (hM : MM G0 G M (rdM μ x t kd wd)) (hS : SI μ) (hx : 0 ≤ x.1 ∧ x.1 ≤ 100) (h : Q (Int32.ofInt (sgS (μ 8) (μ 0 17) x.1)) G) : tw_X8_sign Q G M := by
  have h17 := hS.1
  unfold tw_X8_sign
  simp (disch := omega) only [MM.o hM, MM.r0 hM, MM.r1 hM, MM.r2 hM, MM.r3 hM, MM.r4 hM, MM.r8 hM, MM.r9 hM, MM.r10 hM, MM.r13 hM, MM.r16 hM, MM.r21 hM, MM.r22 hM, MM.a1 hM, MM.a2 hM, MM.a3 hM, MM.a4 hM, MM.a5 hM, MM.a6 hM, MM.a7 hM, MM.a8 hM, MM.a9 hM, MM.a10 hM, MM.a11 hM, MM.a12 hM, MM.d1 hM, MM.d2 hM, MM.d3 hM, MM.d4 hM, MM.d5 hM, MM.d6 hM, MM.d7 hM, MM.d8 hM, MM.d9 hM, MM.d10 hM, MM.d11 hM, MM.d12 hM, MM.fl hM, true_and, rdM_0, rdF_17, rdF_18, Int.cast_ofNat_Int]
  rw [n_le (by omega) (by omega)]
  unfold sgS at h
  refine ⟨fun c => ?_, fun c => ?_⟩
  · rw [if_pos c] at h; exact h
  · rw [if_neg c] at h
    refine ⟨MM.a8 hM _ hx.1 (by omega), ?_⟩
    rw [n_tn (by omega) (by omega), MM.d8 hM _ hx.1 (by omega), rdM_ne _ _ _ _ _ (by omega)]
    exact h
theorem pm_reads45 {Q : Int32 → aH → Prop} (hM : MM G0 G M (rdM μ x t kd wd)) (hS : SI μ) (hx : RP (μ 0 17) x) (h : ∀ G1, MM G0 G1 M (rdM μ (x.1, if x.2 = -1 then x.1 else x.2) t kd wd) → Q (Int32.ofInt 0) G1) : tw_X8_reads_b45 Q G M := by
  have h17 := hS.1
  obtain ⟨x1, x2, x3⟩ := hx
  unfold tw_X8_reads_b45
  simp (disch := omega) only [MM.o hM, MM.r0 hM, MM.r1 hM, MM.r2 hM, MM.r3 hM, MM.r4 hM, MM.r8 hM, MM.r9 hM, MM.r10 hM, MM.r13 hM, MM.r16 hM, MM.r21 hM, MM.r22 hM, MM.a1 hM, MM.a2 hM, MM.a3 hM, MM.a4 hM, MM.a5 hM, MM.a6 hM, MM.a7 hM, MM.a8 hM, MM.a9 hM, MM.a10 hM, MM.a11 hM, MM.a12 hM, MM.d1 hM, MM.d2 hM, MM.d3 hM, MM.d4 hM, MM.d5 hM, MM.d6 hM, MM.d7 hM, MM.d8 hM, MM.d9 hM, MM.d10 hM, MM.d11 hM, MM.d12 hM, MM.fl hM, true_and, rdM_0, rdF_19, rdF_18, Int.cast_ofNat_Int, n_nat, n_neg, n_eq]
  refine ⟨fun c => ?_, fun c => ?_⟩ <;> unfold tw_X8_reads_b65 <;> refine ⟨hM.o, ?_⟩ <;> refine hM.wf (fun G1 hM1 => ?_) <;> rw [rdM_w19] at hM1
  · rw [if_neg c] at h
    exact h G1 hM1
  · rw [if_pos c] at h
    exact h G1 hM1
theorem pm_reads {Q : Int32 → aH → Prop} (hM : MM G0 G M (rdM μ x t kd wd)) (hS : SI μ) (hx : RP (μ 0 17) x) {lo hi : Int} (hl : 0 ≤ lo ∧ lo ≤ 200) (hh : 0 ≤ hi ∧ hi ≤ 200) (h : ∀ G1, MM G0 G1 M (rdM μ (rdS (μ 8) (μ 0 17) lo hi x).2 t kd wd) → Q (Int32.ofInt (rdS (μ 8) (μ 0 17) lo hi x).1) G1) : tw_X8_reads Q G M (Int32.ofInt lo) (Int32.ofInt hi) := by
  have h17 := hS.1
  have hb := sgS_b hS.2 hx.1
  obtain ⟨x1, x2, x3⟩ := id hx
  unfold tw_X8_reads
  simp (disch := omega) only [MM.o hM, MM.r0 hM, MM.r1 hM, MM.r2 hM, MM.r3 hM, MM.r4 hM, MM.r8 hM, MM.r9 hM, MM.r10 hM, MM.r13 hM, MM.r16 hM, MM.r21 hM, MM.r22 hM, MM.a1 hM, MM.a2 hM, MM.a3 hM, MM.a4 hM, MM.a5 hM, MM.a6 hM, MM.a7 hM, MM.a8 hM, MM.a9 hM, MM.a10 hM, MM.a11 hM, MM.a12 hM, MM.d1 hM, MM.d2 hM, MM.d3 hM, MM.d4 hM, MM.d5 hM, MM.d6 hM, MM.d7 hM, MM.d8 hM, MM.d9 hM, MM.d10 hM, MM.d11 hM, MM.d12 hM, MM.fl hM, true_and, rdM_0, rdF_19, Int.cast_ofNat_Int, n_nat, n_neg, n_eq]
  unfold rdS at h
  refine ⟨fun c => ?_, fun c => pm_sign hM hS (by omega) (pm_isIn (by omega) (by omega) (by omega) ?_)⟩
  · rw [if_neg (fun z => c z.1)] at h
    exact pm_reads45 hM hS hx h
  · by_cases d : lo ≤ sgS (μ 8) (μ 0 17) x.1 ∧ sgS (μ 8) (μ 0 17) x.1 ≤ hi
    · rw [bI_t d]
      rw [if_pos ⟨c, d⟩] at h
      refine ⟨fun e => absurd e (by decide), fun _ => ⟨hM.o, hM.o, ?_⟩⟩
      simp (disch := omega) only [MM.fl hM, rdM_0, rdF_18, Int.cast_ofNat_Int, n_add]
      refine hM.wf (fun G1 hM1 => ?_)
      rw [rdM_w18] at hM1
      simp (disch := omega) only [MM.o hM1, MM.r0 hM1, MM.r1 hM1, MM.r2 hM1, MM.r3 hM1, MM.r4 hM1, MM.r8 hM1, MM.r9 hM1, MM.r10 hM1, MM.r13 hM1, MM.r16 hM1, MM.r21 hM1, MM.r22 hM1, MM.a1 hM1, MM.a2 hM1, MM.a3 hM1, MM.a4 hM1, MM.a5 hM1, MM.a6 hM1, MM.a7 hM1, MM.a8 hM1, MM.a9 hM1, MM.a10 hM1, MM.a11 hM1, MM.a12 hM1, MM.d1 hM1, MM.d2 hM1, MM.d3 hM1, MM.d4 hM1, MM.d5 hM1, MM.d6 hM1, MM.d7 hM1, MM.d8 hM1, MM.d9 hM1, MM.d10 hM1, MM.d11 hM1, MM.d12 hM1, MM.fl hM1, true_and, rdM_0, rdF_18, Int.cast_ofNat_Int, n_add, n_sub]
      rw [show x.1 + 1 - 1 = x.1 by omega]
      rw [n_tn (by omega) (by omega), MM.d8 hM1 _ x1 (by omega), rdM_ne _ _ _ _ _ (by omega), n_sub]
      have := h G1 (by rw [c] at hM1; exact hM1)
      exact this
    · rw [bI_f d]
      rw [if_neg (fun z => d z.2)] at h
      exact ⟨fun _ => pm_reads45 hM hS hx h, fun e => absurd rfl e⟩
theorem pm_tells {Q : aH → Prop} (hM : MM G0 G M (rdM μ x t kd wd)) {k v : Int} (ht : 0 ≤ t ∧ t ≤ 29) (hk : 0 ≤ k ∧ k ≤ 2) (h : ∀ G1, MM G0 G1 M (rdM μ x t kd (ud wd (3 * t + k) v)) → Q G1) : tw_X8_tells Q G M (Int32.ofInt k) (Int32.ofInt v) := by
  unfold tw_X8_tells
  simp (disch := omega) only [MM.o hM, MM.r0 hM, MM.r1 hM, MM.r2 hM, MM.r3 hM, MM.r4 hM, MM.r8 hM, MM.r9 hM, MM.r10 hM, MM.r13 hM, MM.r16 hM, MM.r21 hM, MM.r22 hM, MM.a1 hM, MM.a2 hM, MM.a3 hM, MM.a4 hM, MM.a5 hM, MM.a6 hM, MM.a7 hM, MM.a8 hM, MM.a9 hM, MM.a10 hM, MM.a11 hM, MM.a12 hM, MM.d1 hM, MM.d2 hM, MM.d3 hM, MM.d4 hM, MM.d5 hM, MM.d6 hM, MM.d7 hM, MM.d8 hM, MM.d9 hM, MM.d10 hM, MM.d11 hM, MM.d12 hM, MM.fl hM, true_and, rdM_0, rdF_20, Int.cast_ofNat_Int, n_nat, n_mul, n_add]
  rw [n_tn (by omega) (by omega)]
  refine hM.wr (by omega) (by omega) (fun G1 hM1 => ?_)
  rw [rdM_w12] at hM1
  exact h G1 hM1
theorem pm_num_l {Q : Int32 → aH → Prop} (hS : SI μ) : ∀ (m : Nat) (k v : Int) (x : Int × Int) (G : aH), MM G0 G M (rdM μ x t kd wd) → RP (μ 0 17) x → k + m = 3 → 1 ≤ k → 0 ≤ v ∧ (k = 1 → v ≤ 9) ∧ (k = 2 → v ≤ 99) ∧ v ≤ 999 → (∀ G1, MM G0 G1 M (rdM μ (nuL (μ 8) (μ 0 17) m (v, x)).2 t kd wd) → Q (Int32.ofInt (nuL (μ 8) (μ 0 17) m (v, x)).1) G1) → tw_X8_number_b11 Q (m + 1) G M (Int32.ofInt v) (Int32.ofInt k)
  | 0, k, v, x, G, hM, hx, hk, hk0, hv, h => by
    rw [tws_X8_number_b11]
    simp (disch := omega) only [n_nat, n_add, n_sub, n_mul, n_neg, n_le, n_lt, n_eq, n_div, n_tn, n_if, Int.cast_ofNat_Int]
    exact ⟨fun _ => h G hM, fun c => by omega⟩
  | m + 1, k, v, x, G, hM, hx, hk, hk0, hv, h => by
    have h17 := hS.1
    have hb := sgS_b hS.2 hx.1
    obtain ⟨x1, x2, x3⟩ := id hx
    rw [tws_X8_number_b11]
    simp (disch := omega) only [MM.o hM, MM.r0 hM, MM.r1 hM, MM.r2 hM, MM.r3 hM, MM.r4 hM, MM.r8 hM, MM.r9 hM, MM.r10 hM, MM.r13 hM, MM.r16 hM, MM.r21 hM, MM.r22 hM, MM.a1 hM, MM.a2 hM, MM.a3 hM, MM.a4 hM, MM.a5 hM, MM.a6 hM, MM.a7 hM, MM.a8 hM, MM.a9 hM, MM.a10 hM, MM.a11 hM, MM.a12 hM, MM.d1 hM, MM.d2 hM, MM.d3 hM, MM.d4 hM, MM.d5 hM, MM.d6 hM, MM.d7 hM, MM.d8 hM, MM.d9 hM, MM.d10 hM, MM.d11 hM, MM.d12 hM, MM.fl hM, true_and, rdM_0, rdF_19, Int.cast_ofNat_Int, n_nat, n_neg, n_eq, n_le]
    rw [nuL] at h
    refine ⟨fun c => by omega, fun _ => ⟨fun c => ?_, fun c => pm_sign hM hS (by omega) (pm_isIn (by omega) (by omega) (by omega) ?_)⟩⟩
    · rw [if_neg (fun z => c z.1)] at h
      exact h G hM
    · by_cases d : 48 ≤ sgS (μ 8) (μ 0 17) x.1 ∧ sgS (μ 8) (μ 0 17) x.1 ≤ 57
      · rw [bI_t d]
        rw [if_pos ⟨c, d⟩] at h
        refine ⟨fun e => absurd e (by decide), fun _ => ⟨hM.o, pm_reads hM hS hx (by omega) (by omega) (fun G1 hM1 => ?_)⟩⟩
        have er : rdS (μ 8) (μ 0 17) 48 57 x = (μ 8 x.1 - 48, x.1 + 1, -1) := by
          unfold rdS
          rw [if_pos ⟨c, d⟩]
        rw [er] at hM1 ⊢
        intro y hy z hz
        try simp (disch := omega) only [n_nat, n_add, n_sub, n_mul, n_neg, n_le, n_lt, n_eq, n_div, n_tn, n_if, Int.cast_ofNat_Int] at hy hz
        subst hy hz
        refine pm_num_l hS m (k + 1) _ (x.1 + 1, -1) G1 hM1 ⟨by show 0 ≤ x.1 + 1; omega, by show x.1 + 1 ≤ _; omega, .inl rfl⟩ (by omega) (by omega) (by omega) h
      · rw [bI_f d]
        rw [if_neg (fun z => d z.2)] at h
        exact ⟨fun _ => h G hM, fun e => absurd rfl e⟩
theorem pm_number {Q : Int32 → aH → Prop} (hM : MM G0 G M (rdM μ x t kd wd)) (hS : SI μ) (hx : RP (μ 0 17) x) (h : ∀ G1, MM G0 G1 M (rdM μ (nuS (μ 8) (μ 0 17) x).2 t kd wd) → Q (Int32.ofInt (nuS (μ 8) (μ 0 17) x).1) G1) : tw_X8_number Q G M := by
  obtain ⟨g1, g2, g3, g4, g5, g6, g7⟩ := rdS_b hS.2 (lo := 48) (hi := 57) (by omega) hx
  unfold tw_X8_number
  simp only [n_nat]
  exact ⟨hM.o, pm_reads hM hS hx (by omega) (by omega) (fun G1 hM1 => ⟨3, pm_num_l hS 2 1 _ _ G1 hM1 g1 (by omega) (by omega) (by omega) h⟩)⟩
theorem pm_kd80 {Q : Int32 → aH → Prop} (hM : MM G0 G M (rdM μ x t kd wd)) {k b : Int} (h : ∀ G1, MM G0 G1 M (rdM μ (x.1 + b, x.2) t kd wd) → Q (Int32.ofInt k) G1) : tw_X8_readsKind_b80 Q G (Int32.ofInt k) (Int32.ofInt b) (Int32.ofInt x.1) M := by
  unfold tw_X8_readsKind_b80
  refine ⟨hM.o, ?_⟩
  rw [n_add]
  refine hM.wf (fun G1 hM1 => ?_)
  rw [rdM_w18] at hM1
  exact h G1 hM1
theorem pm_kd36 {Q : Int32 → aH → Prop} (hM : MM G0 G M (rdM μ x t kd wd)) (hx : RP 60 x) {k : Int} (hk : -1 ≤ k ∧ k ≤ 2) (h : ∀ G1, MM G0 G1 M (rdM μ (if k = -1 then x.1 else x.1 + 1, if x.2 = -1 ∧ k = -1 then x.1 else x.2) t kd wd) → Q (Int32.ofInt k) G1) : tw_X8_readsKind_b36 Q G M (Int32.ofInt k) := by
  obtain ⟨x1, x2, x3⟩ := hx
  have b62 : ∀ v : Int, (v = if x.2 = -1 ∧ k = -1 then x.1 else x.2) → tw_X8_readsKind_b62 Q G M (Int32.ofInt k) (Int32.ofInt v) M := by
    intro v hv
    unfold tw_X8_readsKind_b62
    refine ⟨hM.o, ?_⟩
    refine hM.wf (fun G1 hM1 => ?_)
    rw [rdM_w19] at hM1
    simp (disch := omega) only [MM.o hM1, MM.r0 hM1, MM.r1 hM1, MM.r2 hM1, MM.r3 hM1, MM.r4 hM1, MM.r8 hM1, MM.r9 hM1, MM.r10 hM1, MM.r13 hM1, MM.r16 hM1, MM.r21 hM1, MM.r22 hM1, MM.a1 hM1, MM.a2 hM1, MM.a3 hM1, MM.a4 hM1, MM.a5 hM1, MM.a6 hM1, MM.a7 hM1, MM.a8 hM1, MM.a9 hM1, MM.a10 hM1, MM.a11 hM1, MM.a12 hM1, MM.d1 hM1, MM.d2 hM1, MM.d3 hM1, MM.d4 hM1, MM.d5 hM1, MM.d6 hM1, MM.d7 hM1, MM.d8 hM1, MM.d9 hM1, MM.d10 hM1, MM.d11 hM1, MM.d12 hM1, MM.fl hM1, true_and, rdM_0, rdF_18, Int.cast_ofNat_Int, n_nat, n_neg, n_eq]
    rw [← hv] at h
    refine ⟨fun c => ?_, fun c => ?_⟩
    · rw [if_neg c] at h
      exact pm_kd80 (x := (x.1, v)) hM1 h
    · rw [if_pos c] at h
      refine pm_kd80 (x := (x.1, v)) hM1 (fun G2 hM2 => h G2 ?_)
      have e : ((x.1, v).1 + 0, (x.1, v).2) = (x.1, v) := by
        show (x.1 + 0, v) = _
        rw [Int.add_zero]
      rw [e] at hM2
      exact hM2
  unfold tw_X8_readsKind_b36
  simp (disch := omega) only [MM.o hM, MM.r0 hM, MM.r1 hM, MM.r2 hM, MM.r3 hM, MM.r4 hM, MM.r8 hM, MM.r9 hM, MM.r10 hM, MM.r13 hM, MM.r16 hM, MM.r21 hM, MM.r22 hM, MM.a1 hM, MM.a2 hM, MM.a3 hM, MM.a4 hM, MM.a5 hM, MM.a6 hM, MM.a7 hM, MM.a8 hM, MM.a9 hM, MM.a10 hM, MM.a11 hM, MM.a12 hM, MM.d1 hM, MM.d2 hM, MM.d3 hM, MM.d4 hM, MM.d5 hM, MM.d6 hM, MM.d7 hM, MM.d8 hM, MM.d9 hM, MM.d10 hM, MM.d11 hM, MM.d12 hM, MM.fl hM, true_and, rdM_0, rdF_18, rdF_19, Int.cast_ofNat_Int, n_nat, n_neg, n_eq]
  refine ⟨fun c => ?_, fun c => ⟨fun d => ?_, fun d => ?_⟩⟩
  · unfold tw_X8_readsKind_b58
    simp (disch := omega) only [MM.o hM, MM.r0 hM, MM.r1 hM, MM.r2 hM, MM.r3 hM, MM.r4 hM, MM.r8 hM, MM.r9 hM, MM.r10 hM, MM.r13 hM, MM.r16 hM, MM.r21 hM, MM.r22 hM, MM.a1 hM, MM.a2 hM, MM.a3 hM, MM.a4 hM, MM.a5 hM, MM.a6 hM, MM.a7 hM, MM.a8 hM, MM.a9 hM, MM.a10 hM, MM.a11 hM, MM.a12 hM, MM.d1 hM, MM.d2 hM, MM.d3 hM, MM.d4 hM, MM.d5 hM, MM.d6 hM, MM.d7 hM, MM.d8 hM, MM.d9 hM, MM.d10 hM, MM.d11 hM, MM.d12 hM, MM.fl hM, true_and, rdM_0, rdF_19, Int.cast_ofNat_Int]
    exact b62 _ (by rw [if_neg (fun z => c z.1)])
  · unfold tw_X8_readsKind_b58
    simp (disch := omega) only [MM.o hM, MM.r0 hM, MM.r1 hM, MM.r2 hM, MM.r3 hM, MM.r4 hM, MM.r8 hM, MM.r9 hM, MM.r10 hM, MM.r13 hM, MM.r16 hM, MM.r21 hM, MM.r22 hM, MM.a1 hM, MM.a2 hM, MM.a3 hM, MM.a4 hM, MM.a5 hM, MM.a6 hM, MM.a7 hM, MM.a8 hM, MM.a9 hM, MM.a10 hM, MM.a11 hM, MM.a12 hM, MM.d1 hM, MM.d2 hM, MM.d3 hM, MM.d4 hM, MM.d5 hM, MM.d6 hM, MM.d7 hM, MM.d8 hM, MM.d9 hM, MM.d10 hM, MM.d11 hM, MM.d12 hM, MM.fl hM, true_and, rdM_0, rdF_19, Int.cast_ofNat_Int]
    exact b62 _ (by rw [if_neg (fun z => d z.2)])
  · exact b62 _ (by rw [if_pos ⟨c, d⟩])
theorem pm_readsKind {Q : Int32 → aH → Prop} (hM : MM G0 G M (rdM μ x t kd wd)) (hS : SI μ) (hx : RP (μ 0 17) x) (h : ∀ G1, MM G0 G1 M (rdM μ (kdS (μ 8) (μ 0 17) x).2 t kd wd) → Q (Int32.ofInt (kdS (μ 8) (μ 0 17) x).1) G1) : tw_X8_readsKind Q G M := by
  have h17 := hS.1
  have hb := sgS_b hS.2 hx.1
  obtain ⟨x1, x2, x3⟩ := id hx
  have hx6 : RP 60 x := ⟨x1, by omega, by omega⟩
  unfold tw_X8_readsKind
  refine ⟨hM.o, pm_sign hM hS (by omega) ?_⟩
  simp (disch := omega) only [n_nat, n_eq, n_neg]
  unfold kdS at h
  simp only at h
  generalize hc : sgS (μ 8) (μ 0 17) x.1 = c at h
  unfold knS at h
  refine ⟨fun c1 => ⟨fun c2 => ⟨fun c3 => ?_, fun c3 => ?_⟩, fun c2 => ?_⟩, fun c1 => ?_⟩
  · rw [if_neg c1, if_neg c2, if_neg c3] at h
    exact pm_kd36 hM hx6 (by omega) h
  · rw [if_neg c1, if_neg c2, if_pos c3] at h
    exact pm_kd36 hM hx6 (by omega) h
  · rw [if_neg c1, if_pos c2] at h
    exact pm_kd36 hM hx6 (by omega) h
  · rw [if_pos c1] at h
    exact pm_kd36 hM hx6 (by omega) h
theorem pm_readsSale {Q : aH → Prop} (hM : MM G0 G M (rdM μ x t kd wd)) (hS : SI μ) (hx : RP (μ 0 17) x) (ht : 0 ≤ t ∧ t ≤ 29) (h : ∀ G1, MM G0 G1 M (rdM μ ((nuS (μ 8) (μ 0 17) (kdS (μ 8) (μ 0 17) x).2).2.1 + hpS (μ 8) (μ 0 17) (nuS (μ 8) (μ 0 17) (kdS (μ 8) (μ 0 17) x).2).2, (nuS (μ 8) (μ 0 17) (kdS (μ 8) (μ 0 17) x).2).2.2) t kd (ud (ud (ud wd (3 * t + 0) (kdS (μ 8) (μ 0 17) x).1) (3 * t + 1) (nuS (μ 8) (μ 0 17) (kdS (μ 8) (μ 0 17) x).2).1) (3 * t + 2) (hpS (μ 8) (μ 0 17) (nuS (μ 8) (μ 0 17) (kdS (μ 8) (μ 0 17) x).2).2))) → Q G1) : tw_X8_readsSale Q G M := by
  have h17 := hS.1
  obtain ⟨k1, k2, k3, k4⟩ := kdS_b hS.2 hx
  obtain ⟨n1, n2, n3, n4, n5, n6⟩ := nuS_b hS.2 k1
  unfold tw_X8_readsSale
  simp only [n_nat]
  refine ⟨hM.o, pm_readsKind hM hS hx (fun G1 hM1 => ⟨hM1.o, pm_tells hM1 ht (by omega) (fun G2 hM2 => ⟨hM2.o, pm_number hM2 hS k1 (fun G3 hM3 => ⟨hM3.o, pm_tells hM3 ht (by omega) (fun G4 hM4 => ⟨hM4.o, ?_⟩)⟩)⟩)⟩)⟩
  generalize hy : (nuS (μ 8) (μ 0 17) (kdS (μ 8) (μ 0 17) x).2).2 = y at *
  have hb := sgS_b hS.2 n1.1
  obtain ⟨y1, y2, y3⟩ := id n1
  have b69 : ∀ (v : Int) (G : aH) (wd : Int → Int), MM G0 G M (rdM μ y t kd wd) → (∀ G1, MM G0 G1 M (rdM μ (y.1 + v, y.2) t kd wd) → Q G1) → tw_X8_readsSale_b69 Q G (Int32.ofInt v) (Int32.ofInt y.1) M := by
    intro v G wd hM k
    unfold tw_X8_readsSale_b69
    refine ⟨hM.o, ?_⟩
    rw [n_add]
    refine hM.wf (fun G1 hM1 => ?_)
    rw [rdM_w18] at hM1
    exact k G1 hM1
  have b40 : ∀ v : Int, v = hpS (μ 8) (μ 0 17) y → tw_X8_readsSale_b40 Q G4 M (Int32.ofInt v) := by
    intro v hv
    have hv2 := hpS_b (s := μ 8) (n := μ 0 17) y
    rw [← hv] at h hv2
    unfold tw_X8_readsSale_b40
    simp (disch := omega) only [n_nat, n_eq]
    refine ⟨fun c => ?_, fun c => ?_⟩ <;> unfold tw_X8_readsSale_b52 <;> refine ⟨hM4.o, pm_tells hM4 ht (by omega) (fun G5 hM5 => ⟨hM5.o, ?_⟩)⟩ <;> simp (disch := omega) only [MM.o hM5, MM.r0 hM5, MM.r1 hM5, MM.r2 hM5, MM.r3 hM5, MM.r4 hM5, MM.r8 hM5, MM.r9 hM5, MM.r10 hM5, MM.r13 hM5, MM.r16 hM5, MM.r21 hM5, MM.r22 hM5, MM.a1 hM5, MM.a2 hM5, MM.a3 hM5, MM.a4 hM5, MM.a5 hM5, MM.a6 hM5, MM.a7 hM5, MM.a8 hM5, MM.a9 hM5, MM.a10 hM5, MM.a11 hM5, MM.a12 hM5, MM.d1 hM5, MM.d2 hM5, MM.d3 hM5, MM.d4 hM5, MM.d5 hM5, MM.d6 hM5, MM.d7 hM5, MM.d8 hM5, MM.d9 hM5, MM.d10 hM5, MM.d11 hM5, MM.d12 hM5, MM.fl hM5, true_and, rdM_0, rdF_18, Int.cast_ofNat_Int, n_nat, n_eq]
    · refine ⟨fun _ => b69 0 G5 _ hM5 ?_, fun d => absurd c d⟩
      subst c
      exact h
    · refine ⟨fun d => absurd d c, fun _ => b69 1 G5 _ hM5 ?_⟩
      have : v = 1 := by omega
      subst this
      exact h
  simp (disch := omega) only [MM.o hM4, MM.r0 hM4, MM.r1 hM4, MM.r2 hM4, MM.r3 hM4, MM.r4 hM4, MM.r8 hM4, MM.r9 hM4, MM.r10 hM4, MM.r13 hM4, MM.r16 hM4, MM.r21 hM4, MM.r22 hM4, MM.a1 hM4, MM.a2 hM4, MM.a3 hM4, MM.a4 hM4, MM.a5 hM4, MM.a6 hM4, MM.a7 hM4, MM.a8 hM4, MM.a9 hM4, MM.a10 hM4, MM.a11 hM4, MM.a12 hM4, MM.d1 hM4, MM.d2 hM4, MM.d3 hM4, MM.d4 hM4, MM.d5 hM4, MM.d6 hM4, MM.d7 hM4, MM.d8 hM4, MM.d9 hM4, MM.d10 hM4, MM.d11 hM4, MM.d12 hM4, MM.fl hM4, true_and, rdM_0, rdF_19, Int.cast_ofNat_Int, n_nat, n_neg, n_eq]
  refine ⟨fun c => ?_, fun c => pm_sign hM4 hS (by omega) ?_⟩
  · unfold tw_X8_readsSale_b39
    simp only [n_nat]
    refine b40 0 ?_
    unfold hpS
    rw [bI_f (fun z => c z.1)]
  · rw [n_eq (by omega) (by omega)]
    refine ⟨fun d => ?_, fun d => ?_⟩
    · unfold tw_X8_readsSale_b39
      simp only [n_nat]
      refine b40 0 ?_
      unfold hpS
      rw [bI_f (fun z => d z.2)]
    · refine b40 1 ?_
      unfold hpS
      rw [bI_t ⟨c, d⟩]
end MODEL
