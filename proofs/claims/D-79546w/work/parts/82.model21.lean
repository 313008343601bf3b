/-! PLAIN LAW: the model's line -/
/-- digits of a number below 100 -/
def dgs (n : Int) : List Int := if n < 10 then [48 + n] else [48 + n / 10, 48 + (n - n / 10 * 10)]
def sg (k : Int) : Int := if k = 0 then 119 else if k = 1 then 114 else 98
def TX (f : Int → Int) (l : List Int) : Prop := ∀ (i : Nat) (c : Int), l[i]? = some c → f i = c
theorem TX.nil (f : Int → Int) : TX f [] := fun i c h => by simp at h
theorem TX.put {f : Int → Int} {l : List Int} (h : TX f l) (c : Int) : TX (ud f l.length c) (l ++ [c]) := fun i d hd => by
  by_cases e : i < l.length
  · rw [List.getElem?_append_left e] at hd
    rw [ud_ne (by omega)]
    exact h i d hd
  · rw [List.getElem?_append_right (by omega)] at hd
    by_cases e2 : i = l.length
    · subst e2
      simp at hd
      rw [ud_at]
      exact hd
    · rw [List.getElem?_eq_none (by simp; omega)] at hd
      exact absurd hd (by simp)
theorem TX.at_ {f : Int → Int} {l : List Int} (h : TX f l) {i : Int} (h0 : 0 ≤ i) (h1 : i < l.length) : f i = l[i.toNat]'(by omega) := by
  have := h i.toNat _ (List.getElem?_eq_getElem (by omega))
  rw [show ((i.toNat : Nat) : Int) = i by omega] at this
  exact this
theorem TX.cg {f g : Int → Int} {l : List Int} (h : TX f l) (e : ∀ i, 0 ≤ i → i < l.length → g i = f i) : TX g l := fun i c hc => by
  have hi : i < l.length := by
    by_cases z : i < l.length
    · exact z
    · rw [List.getElem?_eq_none (by omega)] at hc
      exact absurd hc (by simp)
  rw [e i (by omega) (by omega)]
  exact h i c hc
def lot1 (kd q z : Int) : List Int := 32 :: (dgs q ++ (sg kd :: dgs z))
def lnF (g : Int → List Int) : Nat → List Int
  | 0 => []
  | n + 1 => lnF g n ++ g n
def dsT (w : Int → Int) (b m : Int) (z q : Int → Int) : List Int := dgs b ++ [58] ++ lnF (fun i => lot1 (w (1 + 23 * q i + 0)) (q i) (z i)) m.toNat
theorem dgs_l (n : Int) : 1 ≤ (dgs n).length ∧ (dgs n).length ≤ 2 := by
  unfold dgs
  split <;> simp
theorem lot1_l (k q z : Int) : (lot1 k q z).length ≤ 6 := by
  unfold lot1
  have := dgs_l q
  have := dgs_l z
  simp
  omega
theorem lnF_l {g : Int → List Int} (hg : ∀ i, (g i).length ≤ 6) : ∀ n, (lnF g n).length ≤ 6 * n
  | 0 => by simp [lnF]
  | n + 1 => by
    have := lnF_l hg n
    have := hg n
    rw [lnF]
    simp
    omega
section MODEL
variable {G0 G : aH} {M : Nat} {μ : Nat → Int → Int} {N : Int}
theorem pm_put {Q : Int32 → aH → Prop} {f : Int → Int} {l : List Int} (hM : MM G0 G M (rep μ 9 f)) (hT : TX f l) (hl : l.length < 400) {c : Int} (h : ∀ G1 f1, MM G0 G1 M (rep μ 9 f1) → TX f1 (l ++ [c]) → Q (Int32.ofInt ((l ++ [c]).length : Nat)) G1) : tw_X8_put Q G M (Int32.ofInt (l.length : Nat)) (Int32.ofInt c) := by
  unfold tw_X8_put
  simp (disch := omega) only [n_nat, n_add, n_sub, n_mul, n_neg, n_le, n_lt, n_eq, n_div, n_tn, n_if, Int.cast_ofNat_Int, MM.o hM, MM.r0 hM, MM.r1 hM, MM.r2 hM, MM.r3 hM, MM.r4 hM, MM.r8 hM, MM.r9 hM, MM.r10 hM, MM.r13 hM, MM.r16 hM, MM.r21 hM, MM.r22 hM, MM.a1 hM, MM.a2 hM, MM.a3 hM, MM.a4 hM, MM.a5 hM, MM.a6 hM, MM.a7 hM, MM.a8 hM, MM.a9 hM, MM.a10 hM, MM.a11 hM, MM.a12 hM, MM.d1 hM, MM.d2 hM, MM.d3 hM, MM.d4 hM, MM.d5 hM, MM.d6 hM, MM.d7 hM, MM.d8 hM, MM.d9 hM, MM.d10 hM, MM.d11 hM, MM.d12 hM, MM.fl hM, true_and]
  refine hM.wr (by omega) (by omega) (fun G1 hM1 => ?_)
  rw [rep_rep, rep_at] at hM1
  have := h G1 _ hM1 (hT.put c)
  rw [List.length_append] at this
  exact this
theorem pm_writes {Q : Int32 → aH → Prop} {f : Int → Int} {l : List Int} (hM : MM G0 G M (rep μ 9 f)) (hT : TX f l) (hl : l.length + 2 ≤ 400) {n : Int} (hn : 0 ≤ n ∧ n < 100) (h : ∀ G1 f1, MM G0 G1 M (rep μ 9 f1) → TX f1 (l ++ dgs n) → Q (Int32.ofInt ((l ++ dgs n).length : Nat)) G1) : tw_X8_writes Q G M (Int32.ofInt (l.length : Nat)) (Int32.ofInt n) := by
  have l1 : ∀ (Q : Int32 → aH → Prop) (f : Int → Int) (l : List Int) (G : aH) (x p : Int) (n : Nat), MM G0 G M (rep μ 9 f) → TX f l → l.length < 400 → 0 ≤ x → x < 100 → 1 ≤ p → p ≤ 10 → (∀ G1 f1, MM G0 G1 M (rep μ 9 f1) → TX f1 (l ++ [48 + (x / p - x / p / 10 * 10)]) → tw_X8_writes_b24 Q n G1 M (Int32.ofInt x) (Int32.ofInt ((l ++ [48 + (x / p - x / p / 10 * 10)]).length : Nat)) (Int32.ofInt (p / 10))) → tw_X8_writes_b24 Q (n + 1) G M (Int32.ofInt x) (Int32.ofInt (l.length : Nat)) (Int32.ofInt p) := by
    intro Q f l G x p n hM hT hl hx hx2 hp hp2 k
    have hq : 0 ≤ x / p ∧ x / p ≤ x := ⟨Int.ediv_nonneg hx (by omega), Int.ediv_le_self _ hx⟩
    rw [tws_X8_writes_b24]
    simp (disch := omega) only [n_nat, n_add, n_sub, n_mul, n_neg, n_le, n_lt, n_eq, n_div, n_tn, n_if, Int.cast_ofNat_Int, MM.o hM, MM.r0 hM, MM.r1 hM, MM.r2 hM, MM.r3 hM, MM.r4 hM, MM.r8 hM, MM.r9 hM, MM.r10 hM, MM.r13 hM, MM.r16 hM, MM.r21 hM, MM.r22 hM, MM.a1 hM, MM.a2 hM, MM.a3 hM, MM.a4 hM, MM.a5 hM, MM.a6 hM, MM.a7 hM, MM.a8 hM, MM.a9 hM, MM.a10 hM, MM.a11 hM, MM.a12 hM, MM.d1 hM, MM.d2 hM, MM.d3 hM, MM.d4 hM, MM.d5 hM, MM.d6 hM, MM.d7 hM, MM.d8 hM, MM.d9 hM, MM.d10 hM, MM.d11 hM, MM.d12 hM, MM.fl hM, true_and]
    refine ⟨fun c => by omega, fun _ => ⟨by omega, pm_put hM hT hl (fun G1 f1 hM1 hT1 => ?_)⟩⟩
    intro y hy
    subst hy
    exact k G1 f1 hM1 hT1
  unfold tw_X8_writes
  by_cases c : n < 10
  · have e : dgs n = [48 + (n / 1 - n / 1 / 10 * 10)] := by
      unfold dgs
      rw [if_pos c, Int.ediv_one]
      congr 1
      omega
    rw [e] at h
    refine ⟨1, ?_⟩
    rw [tws_X8_writes_b5]
    simp (disch := omega) only [n_nat, n_add, n_sub, n_mul, n_neg, n_le, n_lt, n_eq, n_div, n_tn, n_if, Int.cast_ofNat_Int, Int.ediv_one]
    refine ⟨by omega, fun _ => ⟨2, l1 Q f l G n 1 1 hM hT (by omega) hn.1 hn.2 (by omega) (by omega) (fun G1 f1 hM1 hT1 => ?_)⟩, fun d => absurd c d⟩
    rw [tws_X8_writes_b24]
    simp (disch := omega) only [n_nat, n_add, n_sub, n_mul, n_neg, n_le, n_lt, n_eq, n_div, n_tn, n_if, Int.cast_ofNat_Int]
    exact ⟨fun _ => h G1 f1 hM1 hT1, fun d => by omega⟩
  · have e : l ++ dgs n = (l ++ [48 + (n / 10 - n / 10 / 10 * 10)]) ++ [48 + (n / 1 - n / 1 / 10 * 10)] := by
      unfold dgs
      rw [if_neg c, Int.ediv_one, List.append_assoc]
      congr 1
      show [_, _] = [_, _]
      congr 1
      omega
    rw [e] at h
    refine ⟨2, ?_⟩
    rw [tws_X8_writes_b5]
    simp (disch := omega) only [n_nat, n_add, n_sub, n_mul, n_neg, n_le, n_lt, n_eq, n_div, n_tn, n_if, Int.cast_ofNat_Int, Int.ediv_one]
    refine ⟨by omega, fun d => absurd d c, fun _ => ?_⟩
    intro y hy
    subst hy
    rw [tws_X8_writes_b5]
    simp (disch := omega) only [n_nat, n_add, n_sub, n_mul, n_neg, n_le, n_lt, n_eq, n_div, n_tn, n_if, Int.cast_ofNat_Int]
    refine ⟨by omega, fun _ => ⟨3, l1 Q f l G n 10 2 hM hT (by omega) hn.1 hn.2 (by omega) (by omega) (fun G1 f1 hM1 hT1 => ?_)⟩, fun d => by omega⟩
    refine l1 Q f1 _ G1 n 1 1 hM1 hT1 (by simp; omega) hn.1 hn.2 (by omega) (by omega) (fun G2 f2 hM2 hT2 => ?_)
    rw [tws_X8_writes_b24]
    simp (disch := omega) only [n_nat, n_add, n_sub, n_mul, n_neg, n_le, n_lt, n_eq, n_div, n_tn, n_if, Int.cast_ofNat_Int]
    exact ⟨fun _ => h G2 f2 hM2 hT2, fun d => by omega⟩
/-- with a line anew -/
def lnM (μ : Nat → Int → Int) (f : Int → Int) (n : Int) : Nat → Int → Int := rep (rep μ 9 f) 0 (ud (μ 0) 14 n)
theorem pm_desc84 {Q : Int32 → aH → Prop} (hW : WI N (μ 1)) {b m i : Int} {z q : Int → Int} (hb : 0 ≤ b ∧ b ≤ 3) (hL : Lts (μ 1 (139 + 61 * b)) (shW (μ 1) b) m z q) (hi : 0 ≤ i ∧ i < m) {f : Int → Int} {l : List Int} (hM : MM G0 G M (rep μ 9 f)) (hT : TX f l) (hl : l.length + 3 ≤ 400) {c : Int} {kk : aH → Nat → Int32 → Int32 → Int32 → Prop} (h : ∀ G1 f1, MM G0 G1 M (rep μ 9 f1) → TX f1 (l ++ (c :: dgs (z i))) → kk G1 M (Int32.ofInt b) (Int32.ofInt ((l ++ (c :: dgs (z i))).length : Nat)) (Int32.ofInt (sO z (i + 1)))) : tw_X8_describe_b84 Q kk G M (Int32.ofInt b) (Int32.ofInt (sO z i)) (Int32.ofInt c) (Int32.ofInt (l.length : Nat)) M := by
  have hn := (hW.2.2.2.1 b hb.1 hb.2).1
  have he := hL.end_le hi.1 hi.2
  have hz := hL.2.2.1 i hi.1 hi.2
  have e1 : ∀ f1 : Int → Int, rep μ 9 f1 1 = μ 1 := fun f1 => rep_ne (by omega)
  unfold tw_X8_describe_b84
  refine ⟨hM.o, pm_put hM hT (by omega) (fun G1 f1 hM1 hT1 => ⟨hM1.o, pm_lotSz hM1 (N := N) (by rw [e1]; exact hW) hb (by rw [e1]; exact hL) hi ⟨hM1.o, pm_writes hM1 hT1 (by simp; omega) (by omega) (fun G2 f2 hM2 hT2 => ⟨hM2.o, pm_lotSz hM2 (N := N) (by rw [e1]; exact hW) hb (by rw [e1]; exact hL) hi ?_⟩)⟩⟩)⟩
  intro y hy
  try simp (disch := omega) only [n_nat, n_add, n_sub, n_mul, n_neg, n_le, n_lt, n_eq, n_div, n_tn, n_if, Int.cast_ofNat_Int] at hy
  subst hy
  rw [← sO_s z hi.1]
  rw [List.append_assoc] at hT2 ⊢
  exact h G2 f2 hM2 hT2
theorem pm_desc24 {Q : Int32 → aH → Prop} (hW : WI N (μ 1)) {b m : Int} {z q : Int → Int} (hb : 0 ≤ b ∧ b ≤ 3) (hL : Lts (μ 1 (139 + 61 * b)) (shW (μ 1) b) m z q) (h : ∀ G1 f1, MM G0 G1 M (lnM μ f1 ((dsT (μ 1) b m z q).length : Nat)) → TX f1 (dsT (μ 1) b m z q) → Q (Int32.ofInt ((dsT (μ 1) b m z q).length : Nat)) G1) : ∀ (n i : Nat) (f : Int → Int) (G : aH), (i : Int) + n = m → MM G0 G M (rep μ 9 f) → TX f (dsT (μ 1) b i z q) → tw_X8_describe_b24 Q (n + 1) G M (Int32.ofInt b) (Int32.ofInt ((dsT (μ 1) b i z q).length : Nat)) (Int32.ofInt (sO z i)) := by
  intro n
  have hn := (hW.2.2.2.1 b hb.1 hb.2).1
  have h0 := hW.2.1
  have hmn := hL.m_le
  have e1 : ∀ f1 : Int → Int, rep μ 9 f1 1 = μ 1 := fun f1 => rep_ne (by omega)
  have hlen : ∀ i : Nat, (i : Int) ≤ m → (dsT (μ 1) b i z q).length ≤ 3 + 6 * i := by
    intro i hi
    have h1 := dgs_l b
    have h2 := lnF_l (g := fun i => lot1 (μ 1 (1 + 23 * q i + 0)) (q i) (z i)) (fun i => lot1_l _ _ _) (i : Int).toNat
    unfold dsT
    simp only [List.length_append, List.length_singleton]
    omega
  induction n with
  | zero =>
    intro i f G hi hM hT
    have ei : (i : Int) = m := by omega
    have hlen := hlen i (by omega)
    rw [tws_X8_describe_b24]
    refine ⟨hM.o, pm_inBay hM hb.1 hb.2 ?_⟩
    rw [e1, ei, hL.2.1]
    simp (disch := omega) only [n_nat, n_add, n_sub, n_mul, n_neg, n_le, n_lt, n_eq, n_div, n_tn, n_if, Int.cast_ofNat_Int]
    refine ⟨fun _ => ?_, fun d => absurd (Int.le_refl _) d⟩
    unfold tw_X8_describe_b112
    refine ⟨hM.o, ?_⟩
    refine hM.wf (fun G1 hM1 => ⟨hM1.o, ?_⟩)
    simp (disch := omega) only [MM.o hM1, MM.r0 hM1, MM.r1 hM1, MM.r2 hM1, MM.r3 hM1, MM.r4 hM1, MM.r8 hM1, MM.r9 hM1, MM.r10 hM1, MM.r13 hM1, MM.r16 hM1, MM.r21 hM1, MM.r22 hM1, MM.a1 hM1, MM.a2 hM1, MM.a3 hM1, MM.a4 hM1, MM.a5 hM1, MM.a6 hM1, MM.a7 hM1, MM.a8 hM1, MM.a9 hM1, MM.a10 hM1, MM.a11 hM1, MM.a12 hM1, MM.d1 hM1, MM.d2 hM1, MM.d3 hM1, MM.d4 hM1, MM.d5 hM1, MM.d6 hM1, MM.d7 hM1, MM.d8 hM1, MM.d9 hM1, MM.d10 hM1, MM.d11 hM1, MM.d12 hM1, MM.fl hM1, rep_at]
    rw [show ud (rep μ 9 f 0) ((14 : Nat) : Int) ((dsT (μ 1) b m z q).length : Int) ((14 : Nat) : Int) = ((dsT (μ 1) b m z q).length : Int) from ud_at _ _ _]
    rw [ei] at hT
    exact h G1 f hM1 hT
  | succ n ih =>
    intro i f G hi hM hT
    have hi2 : (0 : Int) ≤ i ∧ (i : Int) < m := by omega
    have hlen1 := hlen i (by omega)
    have hlen2 := hlen (i + 1) (by omega)
    have he := hL.end_le hi2.1 hi2.2
    have hz := hL.2.2.1 i hi2.1 hi2.2
    have eq : μ 1 (139 + 61 * b + 1 + sO z i) = q i := hL.2.2.2.1 i hi2.1 hi2.2 (sO z i) (by omega) (by omega)
    have hs := (hW.2.2.2.1 b hb.1 hb.2).2 (sO z i) (by omega) (by omega)
    rw [eq] at hs
    have hk := (hW.2.2.1 (q i) hs.1 (by omega)).1
    have el : dsT (μ 1) b ((i : Int) + 1) z q = dsT (μ 1) b i z q ++ lot1 (μ 1 (1 + 23 * q i + 0)) (q i) (z i) := by
      unfold dsT
      rw [show ((i : Int) + 1).toNat = i + 1 by omega, show ((i : Int)).toNat = i by omega, lnF, List.append_assoc]
      simp only [List.append_assoc]
    rw [tws_X8_describe_b24]
    refine ⟨hM.o, pm_inBay hM hb.1 hb.2 ?_⟩
    rw [e1]
    simp (disch := omega) only [n_nat, n_add, n_sub, n_mul, n_neg, n_le, n_lt, n_eq, n_div, n_tn, n_if, Int.cast_ofNat_Int]
    refine ⟨fun d => by omega, fun _ => ⟨hM.o, pm_kindOf hM hb.1 hb.2 he.1 (by omega) (by rw [e1, eq]; exact hs.1) (by rw [e1, eq]; omega) ⟨hM.o, pm_put hM hT (by omega) (fun G1 f1 hM1 hT1 => ⟨hM1.o, pm_sheaf hM1 hb.1 hb.2 he.1 (by omega) ⟨hM1.o, ?_⟩⟩)⟩⟩⟩
    rw [e1, e1, eq]
    refine pm_writes hM1 hT1 (by simp; omega) (by omega) (fun G2 f2 hM2 hT2 => ?_)
    simp (disch := omega) only [n_nat, n_add, n_sub, n_mul, n_neg, n_le, n_lt, n_eq, n_div, n_tn, n_if, Int.cast_ofNat_Int]
    have e3 : ∀ c, sg (μ 1 (1 + 23 * q i + 0)) = c → dsT (μ 1) b i z q ++ [32] ++ dgs (q i) ++ c :: dgs (z i) = dsT (μ 1) b ((i + 1 : Nat) : Int) z q := by
      intro c hc
      rw [show ((i + 1 : Nat) : Int) = (i : Int) + 1 by omega, el]
      unfold lot1
      rw [hc]
      simp only [List.append_assoc, List.cons_append, List.nil_append]
    have hq := dgs_l (q i)
    refine ⟨fun c => ⟨fun d => ?_, fun d => ?_⟩, fun c => ?_⟩ <;> refine pm_desc84 hW hb hL hi2 hM2 hT2 (by simp; omega) (fun G3 f3 hM3 hT3 => ?_) <;> rw [show (i : Int) + 1 = ((i + 1 : Nat) : Int) by omega]
    · rw [e3 _ (by unfold sg; rw [if_neg c, if_neg d])] at hT3 ⊢
      exact ih (i + 1) f3 G3 (by omega) hM3 hT3
    · rw [e3 _ (by unfold sg; rw [if_neg c, if_pos d])] at hT3 ⊢
      exact ih (i + 1) f3 G3 (by omega) hM3 hT3
    · rw [e3 _ (by unfold sg; rw [if_pos c])] at hT3 ⊢
      exact ih (i + 1) f3 G3 (by omega) hM3 hT3
theorem pm_describe {Q : Int32 → aH → Prop} (hM : MM G0 G M μ) (hW : WI N (μ 1)) {b m : Int} {z q : Int → Int} (hb : -2147483648 ≤ b ∧ b < 2147483648) (hL : (0 ≤ b ∧ b ≤ 3) → Lts (μ 1 (139 + 61 * b)) (shW (μ 1) b) m z q) (h1 : ¬ (0 ≤ b ∧ b ≤ 3) → Q (Int32.ofInt (-1)) G) (h2 : (0 ≤ b ∧ b ≤ 3) → ∀ G1 f1, MM G0 G1 M (lnM μ f1 ((dsT (μ 1) b m z q).length : Nat)) → TX f1 (dsT (μ 1) b m z q) → Q (Int32.ofInt ((dsT (μ 1) b m z q).length : Nat)) G1) : tw_X8_describe Q G M (Int32.ofInt b) := by
  unfold tw_X8_describe
  simp only [n_nat, n_neg]
  refine pm_isBay hb ?_
  by_cases c : 0 ≤ b ∧ b ≤ 3
  · rw [bI_t c]
    have hL := hL c
    have hM' : MM G0 G M (rep μ 9 (μ 9)) := by rw [rep_self]; exact hM
    refine ⟨fun _ => ⟨hM.o, pm_writes (l := []) hM' (TX.nil _) (by simp) (by omega) (fun G1 f1 hM1 hT1 => ⟨hM1.o, pm_put hM1 hT1 (by have := dgs_l b; simp; omega) (fun G2 f2 hM2 hT2 => ⟨m.toNat + 1, ?_⟩)⟩)⟩, fun e => absurd e (by decide)⟩
    have e : ([] : List Int) ++ dgs b ++ [58] = dsT (μ 1) b ((0 : Nat) : Int) z q := by
      unfold dsT
      rw [show (((0 : Nat) : Int)).toNat = 0 from rfl, lnF, List.append_nil, List.nil_append]
    rw [e] at hT2 ⊢
    exact pm_desc24 hW c hL (h2 c) m.toNat 0 f2 G2 (by have := hL.1; omega) hM2 hT2
  · rw [bI_f c]
    exact ⟨fun e => absurd rfl e, fun _ => h1 c⟩
end MODEL
