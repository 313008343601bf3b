/-! PLAIN LAW: sheaves in lots -/
theorem sF_app (f : Int → Int) : ∀ (a b : Nat) (k : Int), sF f k (a + b) = sF f k a + sF f (k + a) b
  | 0, b, k => by rw [Nat.zero_add, sF_0, show k + ((0 : Nat) : Int) = k by omega]; omega
  | a + 1, b, k => by rw [show a + 1 + b = (a + b) + 1 by omega, sF_s, sF_s, sF_app f a b (k + 1), show k + 1 + (a : Int) = k + ((a + 1 : Nat) : Int) by omega]; omega
theorem sF_con {f : Int → Int} {c : Int} : ∀ (n : Nat) (k : Int), (∀ i, k ≤ i → i < k + n → f i = c) → sF f k n = n * c
  | 0, k, _ => by rw [sF_0, show (((0 : Nat) : Int)) = 0 from rfl, Int.zero_mul]
  | n + 1, k, h => by
    rw [sF_s, h k (by omega) (by omega), sF_con n (k + 1) (fun i h1 h2 => h i (by omega) (by omega)), show ((n + 1 : Nat) : Int) = (n : Int) + 1 by omega, Int.add_mul, Int.one_mul]
    omega
/-- where a lot begins -/
def sO (z : Int → Int) (i : Int) : Int := sF z 0 i.toNat
theorem sO_0 (z : Int → Int) : sO z 0 = 0 := rfl
theorem sO_s (z : Int → Int) {i : Int} (h : 0 ≤ i) : sO z (i + 1) = sO z i + z i := by
  unfold sO
  rw [show (i + 1).toNat = i.toNat + 1 by omega, sF_end, show (0 : Int) + (i.toNat : Int) = i by omega]
theorem sO_cg {z z' : Int → Int} {i : Int} (h : ∀ j, 0 ≤ j → j < i → z' j = z j) : sO z' i = sO z i := sF_cg _ 0 (fun j h1 h2 => h j h1 (by omega))
/-- n sheaves s lie in m lots of z sheaves of parishes q -/
def Lts (n : Int) (s : Int → Int) (m : Int) (z q : Int → Int) : Prop :=
  0 ≤ m ∧ sO z m = n ∧ (∀ i, 0 ≤ i → i < m → 1 ≤ z i) ∧ (∀ i, 0 ≤ i → i < m → ∀ k, sO z i ≤ k → k < sO z i + z i → s k = q i) ∧ ∀ i, 0 ≤ i → i + 1 < m → ¬ q i = q (i + 1)
section LOTS
variable {n m : Int} {s z q : Int → Int}
theorem Lts.st_le (h : Lts n s m z q) : ∀ (d : Nat) (i : Int), 0 ≤ i → i + d ≤ m → sO z i + d ≤ sO z (i + d)
  | 0, i, _, _ => by rw [show i + ((0 : Nat) : Int) = i by omega]; omega
  | d + 1, i, h0, h1 => by
    have h2 := h.st_le d i h0 (by omega)
    have h3 := h.2.2.1 (i + d) (by omega) (by omega)
    rw [show i + ((d + 1 : Nat) : Int) = i + (d : Int) + 1 by omega, sO_s z (by omega)]
    omega
theorem Lts.le (h : Lts n s m z q) {i j : Int} (h0 : 0 ≤ i) (h1 : i ≤ j) (h2 : j ≤ m) : sO z i + (j - i) ≤ sO z j := by
  have := h.st_le (j - i).toNat i h0 (by omega)
  rw [show i + ((j - i).toNat : Int) = j by omega] at this
  omega
theorem Lts.m_le (h : Lts n s m z q) : m ≤ n := by
  have := h.le (i := 0) (j := m) (by omega) h.1 (by omega)
  rw [sO_0, h.2.1] at this
  omega
theorem Lts.nn (h : Lts n s m z q) : 0 ≤ n := by
  have := h.m_le
  have := h.1
  omega
theorem Lts.pos (h : Lts n s m z q) : 1 ≤ n ↔ 1 ≤ m := by
  have h1 := h.m_le
  refine ⟨fun c => ?_, fun c => by omega⟩
  have h2 := h.1
  have h3 := h.2.1
  by_cases e : m = 0
  · subst e
    rw [sO_0] at h3
    omega
  · omega
theorem Lts.end_le (h : Lts n s m z q) {i : Int} (h0 : 0 ≤ i) (h1 : i < m) : 0 ≤ sO z i ∧ sO z i + z i ≤ n := by
  have h2 := h.le (i := i + 1) (j := m) (by omega) (by omega) (by omega)
  have h3 := h.le (i := 0) (j := i) (by omega) (by omega) (by omega)
  rw [sO_s z h0, h.2.1] at h2
  rw [sO_0] at h3
  omega
theorem Lts.sum_l (h : Lts n s m z q) (f : Int → Int) : ∀ (i : Nat), (i : Int) ≤ m → sF (fun k => f (s k)) 0 (sO z i).toNat = sF (fun i => z i * f (q i)) 0 i
  | 0, _ => rfl
  | i + 1, hi => by
    have h1 := h.end_le (i := i) (by omega) (by omega)
    have hz := h.2.2.1 i (by omega) (by omega)
    rw [show ((i + 1 : Nat) : Int) = (i : Int) + 1 by omega, sO_s z (by omega), show (sO z (i : Int) + z i).toNat = (sO z (i : Int)).toNat + (z i).toNat by omega, sF_app, h.sum_l f i (by omega), sF_end, sF_con (f := fun k => f (s k)) (c := f (q i)) (z i).toNat (0 + ((sO z (i : Int)).toNat : Int)) (fun k k1 k2 => ?_), show (((z i).toNat : Nat) : Int) = z i by omega, show (0 : Int) + (i : Int) = i by omega]
    rw [h.2.2.2.1 i (by omega) (by omega) k (by omega) (by omega)]
theorem Lts.sum (h : Lts n s m z q) (f : Int → Int) : sF (fun k => f (s k)) 0 n.toNat = sF (fun i => z i * f (q i)) 0 m.toNat := by
  have := h.sum_l f m.toNat (by have := h.1; omega)
  rw [show ((m.toNat : Nat) : Int) = m by have := h.1; omega, h.2.1] at this
  exact this
theorem oF_app (g : Int → Int32) : ∀ (a b : Nat) (k : Int) (x : Int32), oF g k (a + b) x = oF g (k + a) b (oF g k a x)
  | 0, b, k, x => by rw [Nat.zero_add, show k + ((0 : Nat) : Int) = k by omega]; rfl
  | a + 1, b, k, x => by
    rw [show a + 1 + b = (a + b) + 1 by omega]
    show oF g (k + 1) (a + b) (x ||| g k) = _
    rw [oF_app g a b (k + 1), show k + 1 + (a : Int) = k + ((a + 1 : Nat) : Int) by omega]
    rfl
theorem oF_con {g : Int → Int32} {c : Int32} : ∀ (n : Nat) (k : Int) (x : Int32), (∀ i, k ≤ i → i < k + n → g i = c) → oF g k n (x ||| c) = x ||| c
  | 0, k, x, _ => rfl
  | n + 1, k, x, h => by
    show oF g (k + 1) n (x ||| c ||| g k) = _
    rw [h k (by omega) (by omega), Int32.or_assoc, Int32.or_self]
    exact oF_con n (k + 1) x (fun i h1 h2 => h i (by omega) (by omega))
theorem Lts.or_l (h : Lts n s m z q) (g : Int → Int32) : ∀ (i : Nat), (i : Int) ≤ m → oF (fun k => g (s k)) 0 (sO z i).toNat (Int32.ofInt 0) = oF (fun i => g (q i)) 0 i (Int32.ofInt 0)
  | 0, _ => rfl
  | i + 1, hi => by
    have h1 := h.end_le (i := i) (by omega) (by omega)
    have hz := h.2.2.1 i (by omega) (by omega)
    rw [show ((i + 1 : Nat) : Int) = (i : Int) + 1 by omega, sO_s z (by omega), show (sO z (i : Int) + z i).toNat = (sO z (i : Int)).toNat + (1 + ((z i).toNat - 1)) by omega, oF_app, h.or_l g i (by omega), oF_app, oF_app]
    show oF _ _ _ (_ ||| g (s _)) = _ ||| g (q _)
    rw [h.2.2.2.1 i (by omega) (by omega) (0 + ((sO z (i : Int)).toNat : Int)) (by omega) (by omega), show (0 : Int) + (i : Int) = i by omega]
    exact oF_con _ _ _ (fun k k1 k2 => by rw [h.2.2.2.1 i (by omega) (by omega) k (by omega) (by omega)])
theorem Lts.or (h : Lts n s m z q) (g : Int → Int32) : oF (fun k => g (s k)) 0 n.toNat (Int32.ofInt 0) = oF (fun i => g (q i)) 0 m.toNat (Int32.ofInt 0) := by
  have := h.or_l g m.toNat (by have := h.1; omega)
  rw [show ((m.toNat : Nat) : Int) = m by have := h.1; omega, h.2.1] at this
  exact this
/-- a lot begins there -/
def stS (s : Int → Int) (k : Int) : Int := if k = 0 then 1 else bI (¬ s k = s (k - 1))
theorem Lts.st1 (h : Lts n s m z q) {i : Int} (h0 : 0 ≤ i) (h1 : i < m) : stS s (sO z i) = 1 := by
  unfold stS
  split
  · rfl
  · rename_i c
    have hi : 1 ≤ i := by
      by_cases e : i = 0
      · subst e; exact absurd (sO_0 z) c
      · omega
    have e1 : sO z i = sO z (i - 1) + z (i - 1) := by
      have := sO_s z (i := i - 1) (by omega)
      rw [show i - 1 + 1 = i by omega] at this
      exact this
    have hz := h.2.2.1 i h0 h1
    have hz1 := h.2.2.1 (i - 1) (by omega) (by omega)
    rw [h.2.2.2.1 i h0 h1 _ (by omega) (by omega), h.2.2.2.1 (i - 1) (by omega) (by omega) _ (by omega) (by omega), bI_t]
    have := h.2.2.2.2 (i - 1) (by omega) (by omega)
    rw [show i - 1 + 1 = i by omega] at this
    exact fun e => this e.symm
theorem Lts.st0 (h : Lts n s m z q) {i k : Int} (h0 : 0 ≤ i) (h1 : i < m) (h2 : sO z i < k) (h3 : k < sO z i + z i) : stS s k = 0 := by
  have := (h.end_le h0 h1).1
  unfold stS
  rw [if_neg (by omega), h.2.2.2.1 i h0 h1 k (by omega) h3, h.2.2.2.1 i h0 h1 (k - 1) (by omega) (by omega), bI_f (fun c => c rfl)]
theorem Lts.lots_l (h : Lts n s m z q) : ∀ (i : Nat), (i : Int) ≤ m → sF (stS s) 0 (sO z i).toNat = i
  | 0, _ => rfl
  | i + 1, hi => by
    have h1 := h.end_le (i := i) (by omega) (by omega)
    have hz := h.2.2.1 i (by omega) (by omega)
    rw [show ((i + 1 : Nat) : Int) = (i : Int) + 1 by omega, sO_s z (by omega), show (sO z (i : Int) + z i).toNat = (sO z (i : Int)).toNat + (1 + ((z i).toNat - 1)) by omega, sF_app, h.lots_l i (by omega), sF_app, sF_s, sF_0, sF_con (c := 0) _ _ (fun k k1 k2 => h.st0 (i := i) (by omega) (by omega) (by omega) (by omega)), show (0 : Int) + ((sO z (i : Int)).toNat : Int) = sO z i by omega, h.st1 (by omega) (by omega)]
    omega
theorem Lts.lots (h : Lts n s m z q) : sF (stS s) 0 n.toNat = m := by
  have := h.lots_l m.toNat (by have := h.1; omega)
  rw [show ((m.toNat : Nat) : Int) = m by have := h.1; omega, h.2.1] at this
  exact this
theorem Lts.ltw {w : Int → Int} {b : Int} (h : Lts (w (139 + 61 * b)) (shW w b) m z q) : lotsW w b = m := by
  have e := h.lots
  unfold lotsW
  rw [← e]
  exact sF_cg _ 0 (fun i _ _ => by
    unfold stW stS shW
    rfl)
theorem Lts.in_ (h : Lts n s m z q) {k i j : Int} (hi : 0 ≤ i ∧ i < m) (hj : 0 ≤ j ∧ j < m) (h1 : sO z i ≤ k) (h2 : k < sO z i + z i) (h3 : sO z j ≤ k) (h4 : k < sO z j + z j) : i = j := by
  rcases Int.lt_trichotomy i j with c | c | c
  · have := h.le (i := i + 1) (j := j) (by omega) (by omega) (by omega)
    rw [sO_s z hi.1] at this
    omega
  · exact c
  · have := h.le (i := j + 1) (j := i) (by omega) (by omega) (by omega)
    rw [sO_s z hj.1] at this
    omega
/-- a sheaf more -/
theorem Lts.push1 (h : Lts n s m z q) {p : Int} {s' : Int → Int} (hs : ∀ k, 0 ≤ k → k < n → s' k = s k) (hp : s' n = p) (hm : 1 ≤ m) (hq : q (m - 1) = p) {z' : Int → Int} (hz : ∀ i, 0 ≤ i → i < m - 1 → z' i = z i) (hz1 : z' (m - 1) = z (m - 1) + 1) : Lts (n + 1) s' m z' q := by
  have e1 : ∀ i, 0 ≤ i → i ≤ m - 1 → sO z' i = sO z i := fun i i1 i2 => sO_cg (fun j j1 j2 => hz j j1 (by omega))
  have e2 := sO_s z' (i := m - 1) (by omega)
  have e3 := sO_s z (i := m - 1) (by omega)
  rw [show m - 1 + 1 = m by omega] at e2 e3
  have e4 := h.2.1
  have e5 := e1 (m - 1) (by omega) (by omega)
  refine ⟨h.1, by omega, fun i i1 i2 => ?_, fun i i1 i2 k k1 k2 => ?_, h.2.2.2.2⟩
  · have := h.2.2.1 i i1 i2
    by_cases e : i = m - 1
    · subst e; omega
    · rw [hz i i1 (by omega)]; exact this
  · have hb := h.end_le i1 i2
    rw [e1 i i1 (by omega)] at k1 k2
    by_cases e : k = n
    · subst e
      have : i = m - 1 := by
        by_cases c : i = m - 1
        · exact c
        · rw [hz i i1 (by omega)] at k2
          omega
      rw [hp, this, hq]
    · by_cases c : i = m - 1
      · subst c
        rw [hs k (by omega) (by omega)]
        exact h.2.2.2.1 (m - 1) i1 i2 k k1 (by omega)
      · rw [hz i i1 (by omega)] at k2
        rw [hs k (by omega) (by omega)]
        exact h.2.2.2.1 i i1 i2 k k1 k2
theorem Lts.pushN (h : Lts n s m z q) {p : Int} {s' : Int → Int} (hs : ∀ k, 0 ≤ k → k < n → s' k = s k) (hp : s' n = p) (hq : 1 ≤ m → ¬ q (m - 1) = p) {z' q' : Int → Int} (hz : ∀ i, 0 ≤ i → i < m → z' i = z i) (hz1 : z' m = 1) (hq1 : ∀ i, 0 ≤ i → i < m → q' i = q i) (hq2 : q' m = p) : Lts (n + 1) s' (m + 1) z' q' := by
  have h0 := h.1
  have e1 : ∀ i, 0 ≤ i → i ≤ m → sO z' i = sO z i := fun i i1 i2 => sO_cg (fun j j1 j2 => hz j j1 (by omega))
  have e2 := sO_s z' (i := m) h0
  have e4 := h.2.1
  have e5 := e1 m (by omega) (by omega)
  refine ⟨by omega, by omega, fun i i1 i2 => ?_, fun i i1 i2 k k1 k2 => ?_, fun i i1 i2 => ?_⟩
  · by_cases e : i = m
    · subst e; omega
    · rw [hz i i1 (by omega)]; exact h.2.2.1 i i1 (by omega)
  · rw [e1 i i1 (by omega)] at k1 k2
    by_cases e : i = m
    · subst e
      rw [hz1] at k2
      rw [show k = n by omega, hp, hq2]
    · have hb := h.end_le i1 (show i < m by omega)
      rw [hz i i1 (by omega)] at k2
      rw [hs k (by omega) (by omega), hq1 i i1 (by omega)]
      exact h.2.2.2.1 i i1 (by omega) k k1 k2
  · by_cases e : i + 1 = m
    · rw [e, hq2, hq1 i i1 (by omega), show i = m - 1 by omega]
      exact hq (by omega)
    · rw [hq1 i i1 (by omega), hq1 (i + 1) (by omega) (by omega)]
      exact h.2.2.2.2 i i1 (by omega)
/-- a sheaf less -/
theorem Lts.pop (h : Lts n s m z q) (hn : 1 ≤ n) {s' z' : Int → Int} (hs : ∀ k, 0 ≤ k → k < n - 1 → s' k = s k) (hz : ∀ i, 0 ≤ i → i < m - 1 → z' i = z i) (hz1 : z' (m - 1) = z (m - 1) - 1) : s (n - 1) = q (m - 1) ∧ Lts (n - 1) s' (if z (m - 1) = 1 then m - 1 else m) z' q := by
  have hm := h.pos.mp hn
  have e1 : ∀ i, 0 ≤ i → i ≤ m - 1 → sO z' i = sO z i := fun i i1 i2 => sO_cg (fun j j1 j2 => hz j j1 (by omega))
  have e2 := sO_s z' (i := m - 1) (by omega)
  have e3 := sO_s z (i := m - 1) (by omega)
  rw [show m - 1 + 1 = m by omega] at e2 e3
  have e4 := h.2.1
  have e5 := e1 (m - 1) (by omega) (by omega)
  have hz0 := h.2.2.1 (m - 1) (by omega) (by omega)
  refine ⟨h.2.2.2.1 (m - 1) (by omega) (by omega) (n - 1) (by omega) (by omega), ?_⟩
  split
  · rename_i c
    refine ⟨by omega, by omega, fun i i1 i2 => ?_, fun i i1 i2 k k1 k2 => ?_, fun i i1 i2 => h.2.2.2.2 i i1 (by omega)⟩
    · rw [hz i i1 i2]; exact h.2.2.1 i i1 (by omega)
    · have hb := h.le (i := i + 1) (j := m - 1) (by omega) (by omega) (by omega)
      have hb0 := (h.end_le i1 (show i < m by omega)).1
      rw [sO_s z i1] at hb
      rw [e1 i i1 (by omega)] at k1 k2
      rw [hz i i1 i2] at k2
      rw [hs k (by omega) (by omega)]
      exact h.2.2.2.1 i i1 (by omega) k k1 k2
  · rename_i c
    refine ⟨h.1, by omega, fun i i1 i2 => ?_, fun i i1 i2 k k1 k2 => ?_, h.2.2.2.2⟩
    · have := h.2.2.1 i i1 i2
      by_cases e : i = m - 1
      · subst e; omega
      · rw [hz i i1 (by omega)]; exact this
    · have hb := h.end_le i1 i2
      rw [e1 i i1 (by omega)] at k1 k2
      by_cases e : i = m - 1
      · subst e
        rw [hs k (by omega) (by omega)]
        exact h.2.2.2.1 (m - 1) i1 i2 k k1 (by omega)
      · have hb2 := h.le (i := i + 1) (j := m - 1) (by omega) (by omega) (by omega)
        rw [sO_s z i1] at hb2
        rw [hz i i1 (by omega)] at k2
        rw [hs k (by omega) (by omega)]
        exact h.2.2.2.1 i i1 i2 k k1 k2
theorem Lts.cg (h : Lts n s m z q) {s' z' q' : Int → Int} (hs : ∀ k, 0 ≤ k → k < n → s' k = s k) (hz : ∀ i, 0 ≤ i → i < m → z' i = z i) (hq : ∀ i, 0 ≤ i → i < m → q' i = q i) : Lts n s' m z' q' := by
  have e1 : ∀ i, 0 ≤ i → i ≤ m → sO z' i = sO z i := fun i i1 i2 => sO_cg (fun j j1 j2 => hz j j1 (by omega))
  refine ⟨h.1, by rw [e1 m h.1 (by omega)]; exact h.2.1, fun i i1 i2 => by rw [hz i i1 i2]; exact h.2.2.1 i i1 i2, fun i i1 i2 k k1 k2 => ?_, fun i i1 i2 => ?_⟩
  · have hb := h.end_le i1 i2
    rw [e1 i i1 (by omega)] at k1 k2
    rw [hz i i1 i2] at k2
    rw [hs k (by omega) (by omega), hq i i1 i2]
    exact h.2.2.2.1 i i1 i2 k k1 k2
  · rw [hq i i1 (by omega), hq (i + 1) (by omega) (by omega)]
    exact h.2.2.2.2 i i1 i2
theorem Lts.nil (s z q : Int → Int) : Lts 0 s 0 z q := ⟨by omega, sO_0 z, fun i i1 i2 => by omega, fun i i1 i2 => by omega, fun i i1 i2 => by omega⟩
end LOTS
section MODEL
variable {G0 G : aH} {M : Nat} {μ : Nat → Int → Int} {N : Int}
theorem pm_lotAt_l {Q : Int32 → aH → Prop} (hM : MM G0 G M μ) (hW : WI N (μ 1)) {b m i : Int} {z q : Int → Int} (hb : 0 ≤ b ∧ b ≤ 3) (hL : Lts (μ 1 (139 + 61 * b)) (shW (μ 1) b) m z q) (hi : 0 ≤ i ∧ i < m) (h : Q (Int32.ofInt (sO z i)) G) : ∀ (d : Nat) (k j : Int), k + d = sO z i → (k = -1 ∧ j = -1) ∨ (0 ≤ j ∧ j < m ∧ sO z j ≤ k ∧ k < sO z j + z j) → tw_X8_lotAt_b5 Q (d + 1) G M (Int32.ofInt b) (Int32.ofInt i) (Int32.ofInt j) (Int32.ofInt k)
  | 0, k, j, hk, hj => by
    have hn := (hW.2.2.2.1 b hb.1 hb.2).1
    have hmn := hL.m_le
    have he := hL.end_le hi.1 hi.2
    have hzi := hL.2.2.1 i hi.1 hi.2
    have hij : j = i := by
      rcases hj with c | c
      · omega
      · exact hL.in_ (k := k) ⟨c.1, c.2.1⟩ hi c.2.2.1 c.2.2.2 (by omega) (by omega)
    subst hij
    rw [tws_X8_lotAt_b5]
    simp (disch := omega) only [n_nat, n_add, n_sub, n_mul, n_neg, n_le, n_lt, n_eq, n_div, n_tn, n_if, Int.cast_ofNat_Int]
    refine ⟨fun _ => ?_, fun c => absurd (Int.le_refl _) c⟩
    rw [show k = sO z j by omega]
    exact h
  | d + 1, k, j, hk, hj => by
    have hn := (hW.2.2.2.1 b hb.1 hb.2).1
    have h0 := hW.2.1
    have hmn := hL.m_le
    have he := hL.end_le hi.1 hi.2
    have hzi := hL.2.2.1 i hi.1 hi.2
    have hji : -1 ≤ j ∧ j < i ∧ -1 ≤ k := by
      rcases hj with c | c
      · omega
      · have e0 := (hL.end_le c.1 c.2.1).1
        refine ⟨by omega, ?_, by omega⟩
        by_cases e : j < i
        · exact e
        · have := hL.le (i := i) (j := j) hi.1 (by omega) (by omega)
          omega
    -- the next place
    have nxt : (stS (shW (μ 1) b) (k + 1) = 1 ∧ 0 ≤ j + 1 ∧ j + 1 < m ∧ sO z (j + 1) ≤ k + 1 ∧ k + 1 < sO z (j + 1) + z (j + 1)) ∨ (stS (shW (μ 1) b) (k + 1) = 0 ∧ 0 ≤ j ∧ j < m ∧ sO z j ≤ k + 1 ∧ k + 1 < sO z j + z j) := by
      rcases hj with c | c
      · have z0 := hL.2.2.1 0 (by omega) (by omega)
        have s1 := hL.st1 (i := 0) (by omega) (by omega)
        rw [sO_0] at s1
        refine .inl ⟨by rw [show k + 1 = 0 by omega]; exact s1, by omega, by omega, ?_, ?_⟩ <;> rw [show j + 1 = 0 by omega, sO_0] <;> omega
      · by_cases e : k + 1 = sO z j + z j
        · have e1 := sO_s z c.1
          have z1 := hL.2.2.1 (j + 1) (by omega) (by omega)
          have s1 := hL.st1 (i := j + 1) (by omega) (by omega)
          exact .inl ⟨by rw [show k + 1 = sO z (j + 1) by omega]; exact s1, by omega, by omega, by omega, by omega⟩
        · exact .inr ⟨hL.st0 c.1 c.2.1 (by omega) (by omega), c.1, c.2.1, by omega, by omega⟩
    rw [tws_X8_lotAt_b5]
    simp (disch := omega) only [n_nat, n_add, n_sub, n_mul, n_neg, n_le, n_lt, n_eq, n_div, n_tn, n_if, Int.cast_ofNat_Int, MM.o hM, MM.r0 hM, MM.r1 hM, MM.r2 hM, MM.r3 hM, MM.r4 hM, MM.r8 hM, MM.r9 hM, MM.r10 hM, MM.r13 hM, MM.r16 hM, MM.r21 hM, MM.r22 hM, MM.a1 hM, MM.a2 hM, MM.a3 hM, MM.a4 hM, MM.a5 hM, MM.a6 hM, MM.a7 hM, MM.a8 hM, MM.a9 hM, MM.a10 hM, MM.a11 hM, MM.a12 hM, MM.d1 hM, MM.d2 hM, MM.d3 hM, MM.d4 hM, MM.d5 hM, MM.d6 hM, MM.d7 hM, MM.d8 hM, MM.d9 hM, MM.d10 hM, MM.d11 hM, MM.d12 hM, MM.fl hM, true_and]
    refine ⟨fun c => by omega, fun _ => ?_⟩
    intro x hx
    subst hx
    have hst : stS (shW (μ 1) b) (k + 1) = if k + 1 = 0 then 1 else bI (¬ μ 1 (139 + 61 * b + 1 + (k + 1)) = μ 1 (139 + 61 * b + 1 + (k + 1 - 1))) := rfl
    simp (disch := omega) only [n_nat, n_add, n_sub, n_mul, n_neg, n_le, n_lt, n_eq, n_div, n_tn, n_if, Int.cast_ofNat_Int]
    refine ⟨fun c => ?_, fun c => ?_⟩
    · rw [if_pos c] at hst
      rcases nxt with e | e
      · unfold tw_X8_lotAt_b38 tw_X8_lotAt_b43
        simp (disch := omega) only [n_nat, n_add, n_sub, n_mul, n_neg, n_le, n_lt, n_eq, n_div, n_tn, n_if, Int.cast_ofNat_Int]
        intro y hy
        subst hy
        exact pm_lotAt_l hM hW hb hL hi h d _ _ (by omega) (.inr e.2)
      · omega
    · rw [if_neg c] at hst
      have hk1 := hL.le (i := i) (j := m) hi.1 (by omega) (by omega)
      rw [hL.2.1] at hk1
      have hs1 := (hW.2.2.2.1 b hb.1 hb.2).2 (k + 1) (by omega) (by omega)
      have hs2 := (hW.2.2.2.1 b hb.1 hb.2).2 (k + 1 - 1) (by omega) (by omega)
      refine pm_sheaf hM hb.1 hb.2 (by omega) (by omega) ⟨hM.o, pm_sheaf hM hb.1 hb.2 (by omega) (by omega) ⟨fun e => ?_, fun e => ?_⟩⟩
      · rw [n_eq (by omega) (by omega)] at e
        rw [bI_f (fun z => z e)] at hst
        rcases nxt with f | f
        · omega
        · unfold tw_X8_lotAt_b43
          simp (disch := omega) only [n_nat, n_add, n_sub, n_mul, n_neg, n_le, n_lt, n_eq, n_div, n_tn, n_if, Int.cast_ofNat_Int]
          intro y hy
          subst hy
          exact pm_lotAt_l hM hW hb hL hi h d _ _ (by omega) (.inr (by rw [Int.add_zero]; exact f.2))
      · rw [n_eq (by omega) (by omega)] at e
        rw [bI_t e] at hst
        rcases nxt with f | f
        · unfold tw_X8_lotAt_b38 tw_X8_lotAt_b43
          simp (disch := omega) only [n_nat, n_add, n_sub, n_mul, n_neg, n_le, n_lt, n_eq, n_div, n_tn, n_if, Int.cast_ofNat_Int]
          intro y hy
          subst hy
          exact pm_lotAt_l hM hW hb hL hi h d _ _ (by omega) (.inr f.2)
        · omega
theorem pm_lotAt {Q : Int32 → aH → Prop} (hM : MM G0 G M μ) (hW : WI N (μ 1)) {b m i : Int} {z q : Int → Int} (hb : 0 ≤ b ∧ b ≤ 3) (hL : Lts (μ 1 (139 + 61 * b)) (shW (μ 1) b) m z q) (hi : 0 ≤ i ∧ i < m) (h : Q (Int32.ofInt (sO z i)) G) : tw_X8_lotAt Q G M (Int32.ofInt b) (Int32.ofInt i) := by
  unfold tw_X8_lotAt
  simp only [n_nat, n_neg]
  have := (hL.end_le hi.1 hi.2).1
  exact ⟨(sO z i + 1).toNat + 1, pm_lotAt_l hM hW hb hL hi h (sO z i + 1).toNat (-1) (-1) (by omega) (.inl ⟨rfl, rfl⟩)⟩
theorem pm_lotSz {Q : Int32 → aH → Prop} (hM : MM G0 G M μ) (hW : WI N (μ 1)) {b m i : Int} {z q : Int → Int} (hb : 0 ≤ b ∧ b ≤ 3) (hL : Lts (μ 1 (139 + 61 * b)) (shW (μ 1) b) m z q) (hi : 0 ≤ i ∧ i < m) (h : Q (Int32.ofInt (z i)) G) : tw_X8_lotSize Q G M (Int32.ofInt b) (Int32.ofInt (sO z i)) := by
  have he := hL.end_le hi.1 hi.2
  have hz := hL.2.2.1 i hi.1 hi.2
  have hsh : ∀ k, shW (μ 1) b k = μ 1 (139 + 61 * b + 1 + k) := fun _ => rfl
  have h1 := hL.2.2.2.1 i hi.1 hi.2
  refine pm_lotSize hM hW hb.1 hb.2 he.1 (by omega) (by omega) he.2 (fun j j1 j2 => ?_) ?_ h
  · rw [← hsh, ← hsh, h1 j j1 j2, h1 (sO z i) (by omega) (by omega)]
  · by_cases c : i + 1 < m
    · refine .inr ?_
      have z1 := hL.2.2.1 (i + 1) (by omega) c
      have e1 := sO_s z hi.1
      rw [← hsh, ← hsh, h1 (sO z i) (by omega) (by omega), ← e1, hL.2.2.2.1 (i + 1) (by omega) c _ (by omega) (by omega)]
      exact fun e => hL.2.2.2.2 i hi.1 c e.symm
    · refine .inl ?_
      have e1 := sO_s z hi.1
      have e2 := hL.2.1
      rw [show i + 1 = m by omega] at e1
      omega
theorem pm_lotOf {Q : Int32 → aH → Prop} (hM : MM G0 G M μ) (hW : WI N (μ 1)) {b m i k : Int} {z q : Int → Int} (hb : -2147483648 ≤ b ∧ b < 2147483648) (hi : -2147483648 ≤ i ∧ i < 2147483648) (hk : -2147483648 ≤ k ∧ k < 2147483648) (hL : (0 ≤ b ∧ b ≤ 3) → Lts (μ 1 (139 + 61 * b)) (shW (μ 1) b) m z q) (h : Q (Int32.ofInt (if 0 ≤ b ∧ b ≤ 3 then (if 0 ≤ i ∧ i < m then (if k = 0 then q i else if k = 1 then z i else -2) else -1) else -1)) G) : tw_X8_lotOf Q G M (Int32.ofInt b) (Int32.ofInt i) (Int32.ofInt k) := by
  unfold tw_X8_lotOf
  simp (disch := omega) only [n_nat, n_add, n_sub, n_mul, n_neg, n_le, n_lt, n_eq, n_div, n_tn, n_if, Int.cast_ofNat_Int]
  refine pm_isBay hb ?_
  by_cases c : 0 ≤ b ∧ b ≤ 3
  · rw [bI_t c]
    rw [if_pos c] at h
    have hL := hL c
    have hn := (hW.2.2.2.1 b c.1 c.2).1
    have hmn := hL.m_le
    have hm0 := hL.1
    refine ⟨fun e => absurd e (by decide), fun _ => ⟨hM.o, pm_lotsOf hM hW c.1 c.2 ?_⟩⟩
    rw [hL.ltw]
    simp (disch := omega) only [n_nat, n_add, n_sub, n_mul, n_neg, n_le, n_lt, n_eq, n_div, n_tn, n_if, Int.cast_ofNat_Int]
    refine pm_isIn hi (by omega) (by omega) ?_
    by_cases d : 0 ≤ i ∧ i < m
    · rw [bI_t (show 0 ≤ i ∧ i ≤ m - 1 by omega)]
      rw [if_pos d] at h
      refine ⟨fun _ => ⟨hM.o, pm_lotAt hM hW c hL d ⟨fun e => ⟨fun f => ?_, fun f => ⟨hM.o, ?_⟩⟩, fun e => ⟨hM.o, ?_⟩⟩⟩, fun e => absurd e (by decide)⟩
      · rw [if_neg e, if_neg f] at h
        exact h
      · rw [if_neg e, if_pos f] at h
        exact pm_lotSz hM hW c hL d h
      · rw [if_pos e] at h
        have he := hL.end_le d.1 d.2
        have hz := hL.2.2.1 i d.1 d.2
        refine pm_sheaf hM c.1 c.2 he.1 (by omega) ?_
        have h1 : μ 1 (139 + 61 * b + 1 + sO z i) = q i := hL.2.2.2.1 i d.1 d.2 (sO z i) (by omega) (by omega)
        rw [h1]
        exact h
    · rw [bI_f (show ¬ (0 ≤ i ∧ i ≤ m - 1) by omega)]
      rw [if_neg d] at h
      exact ⟨fun e => absurd rfl e, fun _ => h⟩
  · rw [bI_f c]
    rw [if_neg c] at h
    exact ⟨fun _ => h, fun e => absurd rfl e⟩
end MODEL
