/-! PLAIN LAW: the invariant, part by part -/
def BC (w : Int → Int) (b : Int) : Prop := (0 ≤ w (139 + 61 * b) ∧ w (139 + 61 * b) ≤ 60) ∧ ∀ k, 0 ≤ k → k < w (139 + 61 * b) → 0 ≤ w (139 + 61 * b + 1 + k) ∧ w (139 + 61 * b + 1 + k) < w 0
def FC (w : Int → Int) (f : Int) : Prop := (0 ≤ w (383 + 4 * f + 0) ∧ w (383 + 4 * f + 0) ≤ 20) ∧ (0 ≤ w (383 + 4 * f + 1) ∧ w (383 + 4 * f + 1) ≤ 2) ∧ (1 ≤ w (383 + 4 * f + 2) ∧ w (383 + 4 * f + 2) ≤ 6)
def KC (w : Int → Int) (k : Int) : Prop := (0 ≤ w (391 + 5 * k + 0) ∧ w (391 + 5 * k + 0) ≤ 2000) ∧ (1 ≤ w (391 + 5 * k + 1) ∧ w (391 + 5 * k + 1) ≤ 50)
def LC (w : Int → Int) (p : Int) : Prop := (0 ≤ w (406 + 3 * p + 0) ∧ w (406 + 3 * p + 0) ≤ 2) ∧ (0 ≤ w (406 + 3 * p + 1) ∧ w (406 + 3 * p + 1) ≤ 50)
theorem PC.mono {N N' : Int} {w : Int → Int} {p : Int} (h : PC N w p) (hN : N ≤ N') : PC N' w p := by
  obtain ⟨a1, a2, a3, a4, a5, a6, a7, a8, a9⟩ := h
  exact ⟨a1, by omega, a3, a4, a5, a6, a7, a8, a9⟩
theorem WI.mono {N N' : Int} {w : Int → Int} (h : WI N w) (hN : N ≤ N' ∧ N' ≤ 720) : WI N' w := ⟨by have := h.1; omega, h.2.1, fun p p1 p2 => (h.pc p1 p2).mono hN.1, h.2.2.2⟩
theorem WI.ch {N N' : Int} {w w' : Int → Int} (h : WI N w) (hN : N ≤ N' ∧ N' ≤ 720) (e0 : w' 0 = w 0) (e8 : w' 428 = w 428)
    (hp : ∀ p, 0 ≤ p → p < 6 → (∀ j, 1 + 23 * p ≤ j → j < 1 + 23 * p + 23 → w' j = w j) ∨ PC N' w' p)
    (hb : ∀ b, 0 ≤ b → b ≤ 3 → (∀ j, 139 + 61 * b ≤ j → j < 139 + 61 * b + 61 → w' j = w j) ∨ BC w' b)
    (hf : ∀ f, 0 ≤ f → f ≤ 1 → (∀ j, 383 + 4 * f ≤ j → j < 383 + 4 * f + 3 → w' j = w j) ∨ FC w' f)
    (hk : ∀ k, 0 ≤ k → k ≤ 2 → (∀ j, 391 + 5 * k ≤ j → j < 391 + 5 * k + 2 → w' j = w j) ∨ KC w' k)
    (hl : ∀ p, 0 ≤ p → p ≤ 6 → (∀ j, 406 + 3 * p ≤ j → j < 406 + 3 * p + 2 → w' j = w j) ∨ LC w' p)
    (hc : w' 427 = w 427 ∨ (-1 ≤ w' 427 ∧ w' 427 ≤ 6))
    (h3 : (w' 430 = w 430 ∧ ∀ p, 0 ≤ p → p < w 0 → w' (1 + 23 * p + 3) = w (1 + 23 * p + 3) ∧ w' (1 + 23 * p + 0) = w (1 + 23 * p + 0)) ∨ w' 430 = sF (fun p => w' (1 + 23 * p + 3) * pt (w' (1 + 23 * p + 0))) 0 (w 0).toNat)
    (h4 : (w' 431 = w 431 ∧ ∀ k, 0 ≤ k → k ≤ 2 → w' (391 + 5 * k + 3) = w (391 + 5 * k + 3)) ∨ w' 431 = w' (391 + 5 * 0 + 3) + w' (391 + 5 * 1 + 3) + w' (391 + 5 * 2 + 3)) : WI N' w' := by
  refine ⟨by have := h.1; omega, by rw [e0]; exact h.2.1, fun p p1 p2 => ?_, fun b b1 b2 => ?_, fun f f1 f2 => ?_, fun k k1 k2 => ?_, fun p p1 p2 => ?_, ?_, by rw [e8]; exact h.2.2.2.2.2.2.2.2.1, ?_, ?_⟩
  · rcases hp p p1 p2 with e | e
    · exact ((h.pc p1 p2).cg e e0 e8).mono hN.1
    · exact e
  · rcases hb b b1 b2 with e | e
    · have hh := h.2.2.2.1 b b1 b2
      rw [e _ (by omega) (by omega), e0]
      exact ⟨hh.1, fun k k1 k2 => by rw [e _ (by omega) (by omega)]; exact hh.2 k k1 k2⟩
    · exact e
  · rcases hf f f1 f2 with e | e
    · rw [e _ (by omega) (by omega), e (383 + 4 * f + 1) (by omega) (by omega), e (383 + 4 * f + 2) (by omega) (by omega)]
      exact h.2.2.2.2.1 f f1 f2
    · exact e
  · rcases hk k k1 k2 with e | e
    · rw [e _ (by omega) (by omega), e (391 + 5 * k + 1) (by omega) (by omega)]
      exact h.2.2.2.2.2.1 k k1 k2
    · exact e
  · rcases hl p p1 p2 with e | e
    · rw [e _ (by omega) (by omega), e (406 + 3 * p + 1) (by omega) (by omega)]
      exact h.2.2.2.2.2.2.1 p p1 p2
    · exact e
  · have := h.2.2.2.2.2.2.2.1
    omega
  · rcases h3 with e | e
    · rw [e.1, e0, sF_cg (g := fun p => w (1 + 23 * p + 3) * pt (w (1 + 23 * p + 0))) _ 0 (fun i i1 i2 => by have := h.2.1; have ee := e.2 i i1 (by omega); rw [ee.1, ee.2])]
      exact h.2.2.2.2.2.2.2.2.2.1
    · rw [e0]; exact e
  · rcases h4 with e | e
    · rw [e.1, e.2 0 (by omega) (by omega), e.2 1 (by omega) (by omega), e.2 2 (by omega) (by omega)]
      exact h.2.2.2.2.2.2.2.2.2.2
    · exact e
theorem fallN_ne {p : Int} : ∀ (n : Nat) (w : Int → Int), w (1 + 23 * p + 4) ≤ 8 → ∀ j, ¬ j = 1 + 23 * p + 2 → ¬ (1 + 23 * p + 4 ≤ j ∧ j < 1 + 23 * p + 23) → fallN p n w j = w j
  | 0, w, _, j, _, _ => rfl
  | n + 1, w, h, j, h1, h2 => by
    rw [fallN]
    split
    · rfl
    · split
      · rfl
      · rw [fallN_ne n _ (by rw [fall1_4]; omega) j h1 h2, fall1_ne w h1 h2 (by omega)]
theorem PC_fallN {N : Int} {p : Int} (hp : 0 ≤ p ∧ p < 6) : ∀ (n : Nat) (w : Int → Int), PC N w p → PC N (fallN p n w) p
  | 0, w, h => h
  | n + 1, w, h => by
    rw [fallN]
    split
    · exact h
    · split
      · exact h
      · exact PC_fallN hp n _ (PC_fall1 hp h (by omega))
/-- nothing is too old -/
def FD (w : Int → Int) (p : Int) : Prop := ∀ k, 0 ≤ k → k < w (1 + 23 * p + 4) → w 428 - 7 < w (1 + 23 * p + (5 + 2 * k))
theorem PC.first {N : Int} {w : Int → Int} {p : Int} (h : PC N w p) : ∀ (n : Nat), (n : Int) < w (1 + 23 * p + 4) → w (1 + 23 * p + 5) ≤ w (1 + 23 * p + (5 + 2 * (n : Int)))
  | 0, _ => by
    rw [show (1 + 23 * p + (5 + 2 * ((0 : Nat) : Int)) : Int) = 1 + 23 * p + 5 by omega]
    exact Int.le_refl _
  | n + 1, hn => by
    have h1 := h.first n (by omega)
    have h2 := h.2.2.2.2.2.2.2.1 n (by omega) (by omega)
    rw [show (1 + 23 * p + (5 + 2 * (((n + 1 : Nat)) : Int)) : Int) = 1 + 23 * p + (5 + 2 * ((n : Int) + 1)) by omega]
    omega
theorem FD_fallN {N : Int} {p : Int} (hp : 0 ≤ p ∧ p < 6) : ∀ (n : Nat) (w : Int → Int), PC N w p → w (1 + 23 * p + 4) ≤ n → FD (fallN p n w) p
  | 0, w, h, h1 => fun k k1 k2 => by
    have k2 : k < w (1 + 23 * p + 4) := k2
    omega
  | n + 1, w, h, h1 => by
    rw [fallN]
    split
    · rename_i c
      exact fun k k1 k2 => by omega
    · split
      · rename_i c d
        intro k k1 k2
        have := h.first k.toNat (by omega)
        rw [show ((k.toNat : Nat) : Int) = k by omega] at this
        omega
      · exact FD_fallN hp n _ (PC_fall1 hp h (by omega)) (by rw [fall1_4]; omega)
theorem WI.fal {N : Int} {w : Int → Int} {p : Int} (h : WI N w) (hp : 0 ≤ p ∧ p < 6) : WI N (fallN p 8 w) := by
  have hc := h.pc hp.1 hp.2
  have ne := fallN_ne (p := p) 8 w hc.2.2.2.2.1.2
  refine h.ch ⟨by omega, h.1.2⟩ (ne 0 (by omega) (by omega)) (ne 428 (by omega) (by omega)) (fun q q1 q2 => ?_) (fun b b1 b2 => .inl fun j j1 j2 => ne j (by omega) (by omega)) (fun b b1 b2 => .inl fun j j1 j2 => ne j (by omega) (by omega)) (fun b b1 b2 => .inl fun j j1 j2 => ne j (by omega) (by omega)) (fun b b1 b2 => .inl fun j j1 j2 => ne j (by omega) (by omega)) (.inl (ne _ (by omega) (by omega))) (.inl ⟨ne _ (by omega) (by omega), fun q q1 q2 => ⟨ne _ (by omega) (by omega), ne _ (by omega) (by omega)⟩⟩) (.inl ⟨ne _ (by omega) (by omega), fun q q1 q2 => ne _ (by omega) (by omega)⟩)
  by_cases e : q = p
  · subst e
    exact .inr (PC_fallN hp 8 w hc)
  · exact .inl fun j j1 j2 => ne j (by omega) (by omega)
theorem FD.cg {w w' : Int → Int} {p : Int} (h : FD w p) (e8 : w' 428 = w 428) (e : ∀ j, 1 + 23 * p ≤ j → j < 1 + 23 * p + 23 → w' j = w j) (h4 : w (1 + 23 * p + 4) ≤ 8) : FD w' p := fun k k1 k2 => by
  rw [e _ (by omega) (by omega)] at k2
  rw [e8, e _ (by omega) (by omega)]
  exact h k k1 k2
theorem faN_p {N : Int} : ∀ (n : Nat) (k : Int) (w : Int → Int), WI N w → 0 ≤ k → k + n = w 0 → (∀ p, 0 ≤ p → p < k → FD w p) → WI N (faN k n w) ∧ (∀ p, 0 ≤ p → p < w 0 → FD (faN k n w) p) ∧ faN k n w 0 = w 0 ∧ faN k n w 428 = w 428
  | 0, k, w, h, h1, h2, h3 => ⟨h, fun p p1 p2 => h3 p p1 (by omega), rfl, rfl⟩
  | n + 1, k, w, h, h1, h2, h3 => by
    have h0 := h.2.1
    have hk : 0 ≤ k ∧ k < 6 := by omega
    have hc := h.pc hk.1 hk.2
    have ne := fallN_ne (p := k) 8 w hc.2.2.2.2.1.2
    have e0 := ne 0 (by omega) (by omega)
    have e8 := ne 428 (by omega) (by omega)
    obtain ⟨g1, g2, g3, g4⟩ := faN_p n (k + 1) (fallN k 8 w) (h.fal hk) (by omega) (by rw [e0]; omega) (fun p p1 p2 => by
      by_cases e : p = k
      · subst e
        exact FD_fallN hk 8 w hc hc.2.2.2.2.1.2
      · exact (h3 p p1 (by omega)).cg e8 (fun j j1 j2 => ne j (by omega) (by omega)) (h.pc p1 (by omega)).2.2.2.2.1.2)
    rw [e0] at g2 g3
    rw [e8] at g4
    exact ⟨g1, g2, g3, g4⟩
