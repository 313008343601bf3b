/-! PLAIN LAW: pieces of memory, the model's object -/
/-- nothing else is changed -/
def Fr (lo hi : Nat) (G G1 : aH) : Prop := a_sz G ≤ a_sz G1 ∧ ∀ a, a < a_sz G → ¬ (lo ≤ a ∧ a < hi) → a_sh G1 a = a_sh G a ∧ a_mi G1 a = a_mi G a ∧ a_mr G1 a = a_mr G a
theorem Fr.rf {lo hi : Nat} {G : aH} : Fr lo hi G G := ⟨Nat.le_refl _, fun _ _ _ => ⟨rfl, rfl, rfl⟩⟩
theorem Fr.trans {lo hi : Nat} {G G1 G2 : aH} (h : Fr lo hi G G1) (h1 : Fr lo hi G1 G2) : Fr lo hi G G2 :=
  ⟨Nat.le_trans h.1 h1.1, fun a x y => by
    obtain ⟨a1, a2, a3⟩ := h.2 a x y
    obtain ⟨b1, b2, b3⟩ := h1.2 a (Nat.lt_of_lt_of_le x h.1) y
    exact ⟨b1.trans a1, b2.trans a2, b3.trans a3⟩⟩
theorem Fr.si {lo hi : Nat} {G G1 : aH} (h : Fr lo hi G G1) {a k : Nat} {v : Int32} (h1 : lo ≤ a) (h2 : a < hi) : Fr lo hi G (a_si G1 a k v) :=
  h.trans ⟨Nat.le_refl _, fun q _ hq => ⟨rfl, by funext j; rw [mi_si, if_neg (fun z => hq ⟨by omega, by omega⟩)], rfl⟩⟩
theorem Fr.sr {lo hi : Nat} {G G1 : aH} (h : Fr lo hi G G1) {a k : Nat} {v : Nat} (h1 : lo ≤ a) (h2 : a < hi) : Fr lo hi G (a_sr G1 a k v) :=
  h.trans ⟨Nat.le_refl _, fun q _ hq => ⟨rfl, rfl, by funext j; rw [mr_sr, if_neg (fun z => hq ⟨by omega, by omega⟩)]⟩⟩
theorem Fr.nw {lo hi : Nat} {G G1 : aH} (h : Fr lo hi G G1) {K n : Nat} : Fr lo hi G (a_nw G1 K n) :=
  h.trans ⟨by rw [sz_nw]; omega, fun q hq _ => by
    have e : ¬ q = a_sz G1 := by omega
    refine ⟨by rw [sh_nw, if_neg e], by funext j; rw [mi_nw, if_neg e], by funext j; rw [mr_nw, if_neg e]⟩⟩
theorem Fr.wide {lo hi lo' hi' : Nat} {G G1 : aH} (h : Fr lo hi G G1) (h1 : lo' ≤ lo) (h2 : hi ≤ hi') : Fr lo' hi' G G1 :=
  ⟨h.1, fun a x y => h.2 a x (fun z => y ⟨by omega, by omega⟩)⟩
/-- the whole numbers of a piece of memory -/
def RG (b n : Nat) (L : Nat → Int) (G : aH) (μ : Nat → Int → Int) : Prop := ∀ o, o < n → ∀ i : Int, 0 ≤ i → i < L o → a_mi G (b + o) i.toNat = Int32.ofInt (μ o i)
/-- a place, a whole piece anew -/
def ud (w : Int → Int) (i v : Int) : Int → Int := fun j => if j = i then v else w j
def rep (μ : Nat → Int → Int) (a : Nat) (w : Int → Int) : Nat → Int → Int := fun q => if q = a then w else μ q
theorem ud_at (w : Int → Int) (i v : Int) : ud w i v i = v := if_pos rfl
theorem ud_ne {w : Int → Int} {i v j : Int} (h : ¬ j = i) : ud w i v j = w j := if_neg h
theorem rep_at (μ : Nat → Int → Int) (a : Nat) (w : Int → Int) : rep μ a w a = w := if_pos rfl
theorem rep_ne {μ : Nat → Int → Int} {a q : Nat} {w : Int → Int} (h : ¬ q = a) : rep μ a w q = μ q := if_neg h
theorem rep_rep (μ : Nat → Int → Int) (a : Nat) (w w' : Int → Int) : rep (rep μ a w) a w' = rep μ a w' := by
  funext q
  unfold rep
  split <;> rfl
theorem rep_self (μ : Nat → Int → Int) (a : Nat) : rep μ a (μ a) = μ := by
  funext q
  unfold rep
  split
  · rename_i e; rw [e]
  · rfl
theorem rep_comm (μ : Nat → Int → Int) {a b : Nat} (h : ¬ a = b) (w w' : Int → Int) : rep (rep μ a w) b w' = rep (rep μ b w') a w := by
  funext q
  unfold rep
  by_cases e : q = a
  · rw [if_pos e, if_neg (fun z => h (e.symm.trans z)), if_pos e]
  · rw [if_neg e, if_neg e]
theorem RG.put {b n : Nat} {L : Nat → Int} {G : aH} {μ : Nat → Int → Int} (h : RG b n L G μ) {o : Nat} {i v : Int} (hi : 0 ≤ i) : RG b n L (a_si G (b + o) i.toNat (Int32.ofInt v)) (rep μ o (ud (μ o) i v)) := by
  intro q hq j hj hl
  rw [mi_si]
  by_cases e : q = o
  · subst e
    rw [rep_at]
    by_cases e2 : j = i
    · subst e2
      rw [ud_at, if_pos ⟨by omega, by omega⟩]
    · rw [ud_ne e2, if_neg (fun z => e2 (by omega)), h q hq j hj hl]
  · rw [rep_ne e, if_neg (fun z => e (by omega)), h q hq j hj hl]
theorem RG.kept {b n : Nat} {L : Nat → Int} {G G1 : aH} {μ : Nat → Int → Int} (h : RG b n L G μ) (hk : ∀ o, o < n → a_mi G1 (b + o) = a_mi G (b + o)) : RG b n L G1 μ := fun o ho i hi hl => by
  rw [hk o ho]
  exact h o ho i hi hl
theorem RG.cg {b n : Nat} {L : Nat → Int} {G : aH} {μ μ' : Nat → Int → Int} (h : RG b n L G μ) (hk : ∀ o, o < n → ∀ i : Int, 0 ≤ i → i < L o → μ' o i = μ o i) : RG b n L G μ' := fun o ho i hi hl => by
  rw [hk o ho i hi hl]
  exact h o ho i hi hl
/-- the model's object: M, its arrays behind it -/
def MSt (G : aH) (M : Nat) : Prop :=
  th_o G M 8 ∧ (a_mr G M 0 = M + 1 ∧ a_mr G M 1 = M + 2 ∧ a_mr G M 2 = M + 3 ∧ a_mr G M 3 = M + 4 ∧ a_mr G M 4 = M + 5 ∧ a_mr G M 8 = M + 6 ∧ a_mr G M 9 = M + 7 ∧ a_mr G M 10 = M + 8 ∧ a_mr G M 13 = M + 9 ∧ a_mr G M 16 = M + 10 ∧ a_mr G M 21 = M + 11 ∧ a_mr G M 22 = M + 12) ∧
  a_sh G (M + 1) = (100 + 0, 433) ∧ a_sh G (M + 2) = (100 + 0, 433) ∧ a_sh G (M + 3) = (100 + 0, 433) ∧ a_sh G (M + 4) = (100 + 0, 433) ∧ a_sh G (M + 5) = (100 + 0, 3464) ∧ a_sh G (M + 6) = (100 + 0, 3) ∧ a_sh G (M + 7) = (100 + 0, 3) ∧ a_sh G (M + 8) = (100 + 0, 60) ∧ a_sh G (M + 9) = (100 + 0, 400) ∧ a_sh G (M + 10) = (100 + 0, 4) ∧ a_sh G (M + 11) = (100 + 0, 30) ∧ a_sh G (M + 12) = (100 + 0, 90) ∧ M + 13 ≤ a_sz G
/-- the model with its numbers, nothing else changed since G0 -/
def mL : Nat → Int := fun o => match o with | 0 => 23 | 1 => 433 | 2 => 433 | 3 => 433 | 4 => 433 | 5 => 3464 | 6 => 3 | 7 => 3 | 8 => 60 | 9 => 400 | 10 => 4 | 11 => 30 | _ => 90
def MM (G0 G : aH) (M : Nat) (μ : Nat → Int → Int) : Prop := MSt G M ∧ RG M 13 mL G μ ∧ Fr M (M + 13) G0 G
section MMS
variable {G0 G : aH} {M : Nat} {μ : Nat → Int → Int}
theorem MM.o (h : MM G0 G M μ) : th_o G M 8 := h.1.1
theorem MM.r0 (h : MM G0 G M μ) : a_mr G M 0 = M + 1 := h.1.2.1.1
theorem MM.r1 (h : MM G0 G M μ) : a_mr G M 1 = M + 2 := h.1.2.1.2.1
theorem MM.r2 (h : MM G0 G M μ) : a_mr G M 2 = M + 3 := h.1.2.1.2.2.1
theorem MM.r3 (h : MM G0 G M μ) : a_mr G M 3 = M + 4 := h.1.2.1.2.2.2.1
theorem MM.r4 (h : MM G0 G M μ) : a_mr G M 4 = M + 5 := h.1.2.1.2.2.2.2.1
theorem MM.r8 (h : MM G0 G M μ) : a_mr G M 8 = M + 6 := h.1.2.1.2.2.2.2.2.1
theorem MM.r9 (h : MM G0 G M μ) : a_mr G M 9 = M + 7 := h.1.2.1.2.2.2.2.2.2.1
theorem MM.r10 (h : MM G0 G M μ) : a_mr G M 10 = M + 8 := h.1.2.1.2.2.2.2.2.2.2.1
theorem MM.r13 (h : MM G0 G M μ) : a_mr G M 13 = M + 9 := h.1.2.1.2.2.2.2.2.2.2.2.1
theorem MM.r16 (h : MM G0 G M μ) : a_mr G M 16 = M + 10 := h.1.2.1.2.2.2.2.2.2.2.2.2.1
theorem MM.r21 (h : MM G0 G M μ) : a_mr G M 21 = M + 11 := h.1.2.1.2.2.2.2.2.2.2.2.2.2.1
theorem MM.r22 (h : MM G0 G M μ) : a_mr G M 22 = M + 12 := h.1.2.1.2.2.2.2.2.2.2.2.2.2.2
theorem MM.a1 (h : MM G0 G M μ) (i : Int) (h1 : 0 ≤ i) (h2 : i < 433) : th_ai G (M + 1) 0 (Int32.ofInt i) := th_ai_of h.1.2.2.1 h1 (by omega) (by omega)
theorem MM.a2 (h : MM G0 G M μ) (i : Int) (h1 : 0 ≤ i) (h2 : i < 433) : th_ai G (M + 2) 0 (Int32.ofInt i) := th_ai_of h.1.2.2.2.1 h1 (by omega) (by omega)
theorem MM.a3 (h : MM G0 G M μ) (i : Int) (h1 : 0 ≤ i) (h2 : i < 433) : th_ai G (M + 3) 0 (Int32.ofInt i) := th_ai_of h.1.2.2.2.2.1 h1 (by omega) (by omega)
theorem MM.a4 (h : MM G0 G M μ) (i : Int) (h1 : 0 ≤ i) (h2 : i < 433) : th_ai G (M + 4) 0 (Int32.ofInt i) := th_ai_of h.1.2.2.2.2.2.1 h1 (by omega) (by omega)
theorem MM.a5 (h : MM G0 G M μ) (i : Int) (h1 : 0 ≤ i) (h2 : i < 3464) : th_ai G (M + 5) 0 (Int32.ofInt i) := th_ai_of h.1.2.2.2.2.2.2.1 h1 (by omega) (by omega)
theorem MM.a6 (h : MM G0 G M μ) (i : Int) (h1 : 0 ≤ i) (h2 : i < 3) : th_ai G (M + 6) 0 (Int32.ofInt i) := th_ai_of h.1.2.2.2.2.2.2.2.1 h1 (by omega) (by omega)
theorem MM.a7 (h : MM G0 G M μ) (i : Int) (h1 : 0 ≤ i) (h2 : i < 3) : th_ai G (M + 7) 0 (Int32.ofInt i) := th_ai_of h.1.2.2.2.2.2.2.2.2.1 h1 (by omega) (by omega)
theorem MM.a8 (h : MM G0 G M μ) (i : Int) (h1 : 0 ≤ i) (h2 : i < 60) : th_ai G (M + 8) 0 (Int32.ofInt i) := th_ai_of h.1.2.2.2.2.2.2.2.2.2.1 h1 (by omega) (by omega)
theorem MM.a9 (h : MM G0 G M μ) (i : Int) (h1 : 0 ≤ i) (h2 : i < 400) : th_ai G (M + 9) 0 (Int32.ofInt i) := th_ai_of h.1.2.2.2.2.2.2.2.2.2.2.1 h1 (by omega) (by omega)
theorem MM.a10 (h : MM G0 G M μ) (i : Int) (h1 : 0 ≤ i) (h2 : i < 4) : th_ai G (M + 10) 0 (Int32.ofInt i) := th_ai_of h.1.2.2.2.2.2.2.2.2.2.2.2.1 h1 (by omega) (by omega)
theorem MM.a11 (h : MM G0 G M μ) (i : Int) (h1 : 0 ≤ i) (h2 : i < 30) : th_ai G (M + 11) 0 (Int32.ofInt i) := th_ai_of h.1.2.2.2.2.2.2.2.2.2.2.2.2.1 h1 (by omega) (by omega)
theorem MM.a12 (h : MM G0 G M μ) (i : Int) (h1 : 0 ≤ i) (h2 : i < 90) : th_ai G (M + 12) 0 (Int32.ofInt i) := th_ai_of h.1.2.2.2.2.2.2.2.2.2.2.2.2.2.1 h1 (by omega) (by omega)
theorem MM.d1 (h : MM G0 G M μ) (i : Int) (h1 : 0 ≤ i) (h2 : i < 433) : a_mi G (M + 1) i.toNat = Int32.ofInt (μ 1 i) := h.2.1 1 (by omega) i h1 h2
theorem MM.d2 (h : MM G0 G M μ) (i : Int) (h1 : 0 ≤ i) (h2 : i < 433) : a_mi G (M + 2) i.toNat = Int32.ofInt (μ 2 i) := h.2.1 2 (by omega) i h1 h2
theorem MM.d3 (h : MM G0 G M μ) (i : Int) (h1 : 0 ≤ i) (h2 : i < 433) : a_mi G (M + 3) i.toNat = Int32.ofInt (μ 3 i) := h.2.1 3 (by omega) i h1 h2
theorem MM.d4 (h : MM G0 G M μ) (i : Int) (h1 : 0 ≤ i) (h2 : i < 433) : a_mi G (M + 4) i.toNat = Int32.ofInt (μ 4 i) := h.2.1 4 (by omega) i h1 h2
theorem MM.d5 (h : MM G0 G M μ) (i : Int) (h1 : 0 ≤ i) (h2 : i < 3464) : a_mi G (M + 5) i.toNat = Int32.ofInt (μ 5 i) := h.2.1 5 (by omega) i h1 h2
theorem MM.d6 (h : MM G0 G M μ) (i : Int) (h1 : 0 ≤ i) (h2 : i < 3) : a_mi G (M + 6) i.toNat = Int32.ofInt (μ 6 i) := h.2.1 6 (by omega) i h1 h2
theorem MM.d7 (h : MM G0 G M μ) (i : Int) (h1 : 0 ≤ i) (h2 : i < 3) : a_mi G (M + 7) i.toNat = Int32.ofInt (μ 7 i) := h.2.1 7 (by omega) i h1 h2
theorem MM.d8 (h : MM G0 G M μ) (i : Int) (h1 : 0 ≤ i) (h2 : i < 60) : a_mi G (M + 8) i.toNat = Int32.ofInt (μ 8 i) := h.2.1 8 (by omega) i h1 h2
theorem MM.d9 (h : MM G0 G M μ) (i : Int) (h1 : 0 ≤ i) (h2 : i < 400) : a_mi G (M + 9) i.toNat = Int32.ofInt (μ 9 i) := h.2.1 9 (by omega) i h1 h2
theorem MM.d10 (h : MM G0 G M μ) (i : Int) (h1 : 0 ≤ i) (h2 : i < 4) : a_mi G (M + 10) i.toNat = Int32.ofInt (μ 10 i) := h.2.1 10 (by omega) i h1 h2
theorem MM.d11 (h : MM G0 G M μ) (i : Int) (h1 : 0 ≤ i) (h2 : i < 30) : a_mi G (M + 11) i.toNat = Int32.ofInt (μ 11 i) := h.2.1 11 (by omega) i h1 h2
theorem MM.d12 (h : MM G0 G M μ) (i : Int) (h1 : 0 ≤ i) (h2 : i < 90) : a_mi G (M + 12) i.toNat = Int32.ofInt (μ 12 i) := h.2.1 12 (by omega) i h1 h2
theorem MM.fl (h : MM G0 G M μ) (k : Nat) (hk : k < 23) : a_mi G M k = Int32.ofInt (μ 0 (k : Int)) := h.2.1 0 (by omega) k (by omega) (by show (k : Int) < 23; omega)
theorem MM.put (h : MM G0 G M μ) {o : Nat} {i v : Int} (ho : o < 13) (hi : 0 ≤ i) : MM G0 (a_si G (M + o) i.toNat (Int32.ofInt v)) M (rep μ o (ud (μ o) i v)) :=
  ⟨h.1, h.2.1.put hi, h.2.2.si (by omega) (by omega)⟩
/-- a place of an array is written -/
theorem MM.wr (h : MM G0 G M μ) {P : aH → Prop} {o : Nat} {i v : Int} (ho : o < 13) (hi : 0 ≤ i) (k : ∀ G1, MM G0 G1 M (rep μ o (ud (μ o) i v)) → P G1) : ∀ G1 : aH, G1 = a_si G (M + o) i.toNat (Int32.ofInt v) → P G1 := fun G1 e => k G1 (e ▸ h.put ho hi)
/-- a field is written -/
theorem MM.wf (h : MM G0 G M μ) {P : aH → Prop} {k : Nat} {v : Int} (kk : ∀ G1, MM G0 G1 M (rep μ 0 (ud (μ 0) k v)) → P G1) : ∀ G1 : aH, G1 = a_si G M k (Int32.ofInt v) → P G1 := fun G1 e => kk G1 (by
  rw [e]
  exact h.put (o := 0) (i := (k : Int)) (by omega) (by omega))
theorem MM.cg (h : MM G0 G M μ) {μ' : Nat → Int → Int} (hk : ∀ o, o < 13 → ∀ i : Int, 0 ≤ i → i < mL o → μ' o i = μ o i) : MM G0 G M μ' := ⟨h.1, h.2.1.cg hk, h.2.2⟩
end MMS
