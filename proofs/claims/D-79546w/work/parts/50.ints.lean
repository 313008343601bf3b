/-! PLAIN LAW: whole numbers -/
theorem n_lit (n : Nat) [h : OfNat Int32 n] : (OfNat.ofNat n : Int32) = OfNat.ofNat n := rfl
theorem n_0 : (0 : Int32) = Int32.ofInt 0 := rfl
theorem n_1 : (1 : Int32) = Int32.ofInt 1 := rfl
theorem n_nat (n : Nat) : (@OfNat.ofNat Int32 n Int32.instOfNat) = Int32.ofInt (@OfNat.ofNat Int n instOfNat) := by
  show Int32.ofNat n = Int32.ofInt (n : Int)
  rw [Int32.ofInt_eq_ofNat]
theorem n_add (a b : Int) : Int32.ofInt a + Int32.ofInt b = Int32.ofInt (a + b) := (Int32.ofInt_add a b).symm
theorem n_sub (a b : Int) : Int32.ofInt a - Int32.ofInt b = Int32.ofInt (a - b) := (Int32.ofInt_sub a b).symm
theorem n_mul (a b : Int) : Int32.ofInt a * Int32.ofInt b = Int32.ofInt (a * b) := (Int32.ofInt_mul a b).symm
theorem n_neg (a : Int) : -Int32.ofInt a = Int32.ofInt (-a) := (Int32.ofInt_neg a).symm
theorem n_toInt {a : Int} (h1 : -2147483648 ≤ a) (h2 : a < 2147483648) : (Int32.ofInt a).toInt = a := Int32.toInt_ofInt_of_le (by omega) (by omega)
theorem n_tn {a : Int} (h1 : -2147483648 ≤ a) (h2 : a < 2147483648) : (Int32.ofInt a).toNatClampNeg = a.toNat := Int32.toNatClampNeg_ofInt_of_le (by omega) (by omega)
theorem n_le {a b : Int} (h1 : -2147483648 ≤ a ∧ a < 2147483648) (h2 : -2147483648 ≤ b ∧ b < 2147483648) : (Int32.ofInt a ≤ Int32.ofInt b) = (a ≤ b) := by
  rw [Int32.le_iff_toInt_le, n_toInt h1.1 h1.2, n_toInt h2.1 h2.2]
theorem n_lt {a b : Int} (h1 : -2147483648 ≤ a ∧ a < 2147483648) (h2 : -2147483648 ≤ b ∧ b < 2147483648) : (Int32.ofInt a < Int32.ofInt b) = (a < b) := by
  rw [Int32.lt_iff_toInt_lt, n_toInt h1.1 h1.2, n_toInt h2.1 h2.2]
theorem n_eq {a b : Int} (h1 : -2147483648 ≤ a ∧ a < 2147483648) (h2 : -2147483648 ≤ b ∧ b < 2147483648) : (Int32.ofInt a = Int32.ofInt b) = (a = b) := by
  rw [← Int32.toInt_inj, n_toInt h1.1 h1.2, n_toInt h2.1 h2.2]
theorem n_div {a b : Int} (h1 : 0 ≤ a ∧ a < 2147483648) (h2 : 0 < b ∧ b < 2147483648) : Int32.ofInt a / Int32.ofInt b = Int32.ofInt (a / b) := by
  have h := Int32.ofInt_tdiv (a := a) (b := b) (by show (-2147483648 : Int) ≤ a; omega) (by show a ≤ (2147483647 : Int); omega) (by show (-2147483648 : Int) ≤ b; omega) (by show b ≤ (2147483647 : Int); omega)
  rw [Int.tdiv_eq_ediv_of_nonneg h1.1] at h
  exact h.symm
/-- a whole number as it is -/
theorem n_of (x : Int32) : ∃ i : Int, x = Int32.ofInt i ∧ -2147483648 ≤ i ∧ i < 2147483648 :=
  ⟨x.toInt, (Int32.ofInt_toInt x).symm, Int32.le_toInt x, Int32.toInt_lt x⟩
theorem n_if (c : Prop) [Decidable c] (a b : Int) : (if c then Int32.ofInt a else Int32.ofInt b) = Int32.ofInt (if c then a else b) := by split <;> rfl
theorem th_ai_of {G : aH} {a j n : Nat} {i : Int} (h : a_sh G a = (100 + j, n)) (h1 : 0 ≤ i) (h2 : i < n) (h3 : n < 2147483648) : th_ai G a j (Int32.ofInt i) := by
  refine ⟨by rw [h], ?_, ?_⟩
  · rw [show (0 : Int32) = Int32.ofInt 0 from rfl, n_lt (by omega) (by omega)]
    omega
  · rw [n_tn (by omega) (by omega), h]
    show i.toNat < n
    omega
/-- a yes or no as a number -/
def bI (c : Prop) [Decidable c] : Int := if c then 1 else 0
theorem bI_t {c : Prop} [Decidable c] (h : c) : bI c = 1 := if_pos h
theorem bI_f {c : Prop} [Decidable c] (h : ¬ c) : bI c = 0 := if_neg h
theorem n_b0 (c : Prop) [Decidable c] : (Int32.ofInt (bI c) = Int32.ofInt 0) = ¬ c := by
  unfold bI
  split
  · rename_i h
    simp [h]
  · rename_i h
    simp [h]
theorem n_bn (c : Prop) [Decidable c] : (narrow .boolean (.int (Int32.ofInt (bI c))) = .int (Int32.ofInt (bI c))) = True := by
  unfold bI
  split <;> simp <;> rfl
theorem n_band (c : Prop) [Decidable c] : 0 ≤ bI c ∧ bI c ≤ 1 := by
  unfold bI
  split <;> omega
theorem bI_cg {c d : Prop} [Decidable c] [Decidable d] (h : c ↔ d) : bI c = bI d := by
  by_cases hc : c
  · rw [bI_t hc, bI_t (h.mp hc)]
  · rw [bI_f hc, bI_f (fun z => hc (h.mpr z))]
/-- a sum from k on of n -/
def sF (f : Int → Int) : Int → Nat → Int
  | _, 0 => 0
  | k, n + 1 => f k + sF f (k + 1) n
theorem sF_0 (f : Int → Int) (k : Int) : sF f k 0 = 0 := rfl
theorem sF_s (f : Int → Int) (k : Int) (n : Nat) : sF f k (n + 1) = f k + sF f (k + 1) n := rfl
theorem sF_cg {f g : Int → Int} : ∀ (n : Nat) (k : Int), (∀ i, k ≤ i → i < k + n → f i = g i) → sF f k n = sF g k n
  | 0, _, _ => rfl
  | n + 1, k, h => by
    rw [sF_s, sF_s, h k (by omega) (by omega), sF_cg n (k + 1) (fun i h1 h2 => h i (by omega) (by omega))]
theorem sF_nn {f : Int → Int} : ∀ (n : Nat) (k : Int), (∀ i, k ≤ i → i < k + n → 0 ≤ f i) → 0 ≤ sF f k n
  | 0, _, _ => Int.le_refl 0
  | n + 1, k, h => by
    rw [sF_s]
    have h1 := h k (by omega) (by omega)
    have h2 := sF_nn n (k + 1) (fun i h1 h2 => h i (by omega) (by omega))
    omega
theorem sF_le {f g : Int → Int} : ∀ (n : Nat) (k : Int), (∀ i, k ≤ i → i < k + n → f i ≤ g i) → sF f k n ≤ sF g k n
  | 0, _, _ => Int.le_refl 0
  | n + 1, k, h => by
    rw [sF_s, sF_s]
    have h1 := h k (by omega) (by omega)
    have h2 := sF_le n (k + 1) (fun i h1 h2 => h i (by omega) (by omega))
    omega
theorem sF_end (f : Int → Int) : ∀ (n : Nat) (k : Int), sF f k (n + 1) = sF f k n + f (k + n)
  | 0, k => by rw [sF_s, sF_0, sF_0, show k + ((0 : Nat) : Int) = k by omega]; omega
  | n + 1, k => by
    rw [sF_s, sF_end f n (k + 1), sF_s f k n, show k + 1 + (n : Int) = k + ((n + 1 : Nat) : Int) by omega]
    omega
def pt (kind : Int) : Int := if kind = 0 then 6 else if kind = 1 then 5 else 7
theorem pt_b (k : Int) : 5 ≤ pt k ∧ pt k ≤ 7 := by unfold pt; split <;> (try split) <;> omega
