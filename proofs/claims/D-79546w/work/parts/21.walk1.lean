/-! WALKS: J0_length J1_length X0_account J0_ensureCapacityInternal J0_isLatin1 J7_canEncode J0_append J1_append X0_append X0_isBay X0_pintsOf X1_pintsIn X0_bayOf X2_like X4_becomes X3_like X5_like X6_like X7_like X1_like -/
set_option maxRecDepth 100000
def tw_J0_length (Q : Int32 → aH → Prop) (G : aH) (a0 : Nat) : Prop :=
  th_o G a0 12 ∧ (
  Q (a_mi G a0 3) G)
theorem tk_J0_length {l : Launch} {D : tD} {B : Nat} {Q : Int32 → aH → Prop} {a0 : Nat} : Met l yJ0_length (ws_ yJ0_length cJ0_length 1 ((Option.some Jvm.ClassFile.FieldType.int))) rm_J0_length (th_P D B [rv a0] (fun G => tw_J0_length Q G a0)) (th_Qi D B Q) 0 0 (th_A B) :=
  th_ofW (by decide +kernel) (th_cr th_cn) (Nat.le_of_ble_eq_true rfl) (fun p e s m args below meth c CF hret hlk hnm hK hSt G ls hR hS hw hL => by
    have E : th_E p m c cJ0_length 1 s args RJ0 meth ((Option.some Jvm.ClassFile.FieldType.int)) "length" D B := ⟨CF, hret, hlk, hnm, hK, hSt⟩
    have hx := CF.1; have hb := CF.2.1
    have hL : th_L ls 1 [(0, rv a0)] := hL
    unfold tw_J0_length at hw
    refine th_aload_n hx hb dJ0_length_0 rfl (lv_at hL.1 0 rfl) ?_
    obtain ⟨ho, hw⟩ := hw
    refine fg_J0_79 CF hK hR ho dJ0_length_1 ?_
    exact th_iret hx hb hret hlk hR hS hw (by omega) (by omega) dJ0_length_4)
def tw_J1_length (Q : Int32 → aH → Prop) (G : aH) (a0 : Nat) : Prop :=
  th_o G a0 12 ∧ (
  (tw_J0_length
    (fun (r2 : Int32) (G1 : aH) =>
      Q r2 G1)
    G a0))
theorem tk_J1_length {l : Launch} {D : tD} {B : Nat} {Q : Int32 → aH → Prop} {a0 : Nat} : Met l yJ1_length (ws_ yJ1_length cJ1_length 1 ((Option.some Jvm.ClassFile.FieldType.int))) rm_J1_length (th_P D B [rv a0] (fun G => tw_J1_length Q G a0)) (th_Qi D B Q) 0 0 (th_A B) :=
  th_ofW (by decide +kernel) (th_cr th_cn) (Nat.le_of_ble_eq_true rfl) (fun p e s m args below meth c CF hret hlk hnm hK hSt G ls hR hS hw hL => by
    have E : th_E p m c cJ1_length 1 s args RJ1 meth ((Option.some Jvm.ClassFile.FieldType.int)) "length" D B := ⟨CF, hret, hlk, hnm, hK, hSt⟩
    have hx := CF.1; have hb := CF.2.1
    have hL : th_L ls 1 [(0, rv a0)] := hL
    unfold tw_J1_length at hw
    refine th_aload_n hx hb dJ1_length_0 rfl (lv_at hL.1 0 rfl) ?_
    obtain ⟨ho, hw⟩ := hw
    refine th_ki hS (th_rSU CF hK hSt hR hS ho (ci := 12) rfl (rest := []) (tk_J0_length) (cw_J1_343 CF hK (by decide +kernel)) hw rfl hL.1.1 rfl th_cn (Nat.le_of_ble_eq_true rfl) dJ1_length_1 ⟨by show _ ≤ (0 : Nat); omega, by show _ ≤ (0 : Nat); omega⟩) (fun r2 G1 H locs hw hR hS => ?_)
    exact th_iret hx hb hret hlk hR hS hw (by omega) (by omega) dJ1_length_4)
def tw_X0_account (Q : Int32 → aH → Prop) (G : aH) (a0 : Nat) (x1 : Int32) : Prop :=
  (x1 = 0 →
    th_o G a0 0 ∧ (
    th_o G (a_mr G a0 0) 1 ∧ (
    Q (a_mi G (a_mr G a0 0) 1) G))) ∧
  (x1 = 1 →
    th_o G a0 0 ∧ (
    th_o G (a_mr G a0 0) 1 ∧ (
    Q (a_mi G (a_mr G a0 0) 7) G))) ∧
  (x1 = 2 →
    th_o G a0 0 ∧ (
    th_o G (a_mr G a0 0) 1 ∧ (
    Q (a_mi G (a_mr G a0 0) 8) G))) ∧
  (x1 = 3 →
    th_o G a0 0 ∧ (
    (tw_X0_overParishes
      (fun (r2 : Int32) (G1 : aH) =>
        Q r2 G1)
      G a0 2))) ∧
  (x1 = 4 →
    th_o G a0 0 ∧ (
    (tw_X0_overParishes
      (fun (r4 : Int32) (G3 : aH) =>
        Q r4 G3)
      G a0 3))) ∧
  (x1 = 5 →
    th_o G a0 0 ∧ (
    (tw_X0_overParishes
      (fun (r6 : Int32) (G5 : aH) =>
        Q r6 G5)
      G a0 7))) ∧
  (x1 = 6 →
    th_o G a0 0 ∧ (
    th_o G (a_mr G a0 0) 1 ∧ (
    th_ai G (a_mr G (a_mr G a0 0) 3) 6 0 ∧ (
    th_o G (a_mr G (a_mr G (a_mr G a0 0) 3) (0 : Int32).toNatClampNeg) 5 ∧ (
    th_o G a0 0 ∧ (
    th_o G (a_mr G a0 0) 1 ∧ (
    th_ai G (a_mr G (a_mr G a0 0) 3) 6 1 ∧ (
    th_o G (a_mr G (a_mr G (a_mr G a0 0) 3) (1 : Int32).toNatClampNeg) 5 ∧ (
    Q ((a_mi G (a_mr G (a_mr G (a_mr G a0 0) 3) (0 : Int32).toNatClampNeg) 1) + (a_mi G (a_mr G (a_mr G (a_mr G a0 0) 3) (1 : Int32).toNatClampNeg) 1)) G))))))))) ∧
  (x1 = 7 →
    th_o G a0 0 ∧ (
    (tw_X0_overBins
      (fun (r8 : Int32) (G7 : aH) =>
        Q r8 G7)
      G a0 0))) ∧
  (x1 = 8 →
    th_o G a0 0 ∧ (
    (tw_X0_overPlaces
      (fun (r10 : Int32) (G9 : aH) =>
        Q r10 G9)
      G a0 1))) ∧
  (x1 = 9 →
    th_o G a0 0 ∧ (
    (tw_X0_overPlaces
      (fun (r12 : Int32) (G11 : aH) =>
        Q r12 G11)
      G a0 0))) ∧
  (x1 = 10 →
    th_o G a0 0 ∧ (
    th_o G (a_mr G a0 0) 1 ∧ (
    Q ((a_mi G (a_mr G a0 0) 6) + 1) G))) ∧
  (x1 = 11 →
    th_o G a0 0 ∧ (
    (tw_X0_overBins
      (fun (r14 : Int32) (G13 : aH) =>
        Q r14 G13)
      G a0 2))) ∧
  (x1 = 12 →
    th_o G a0 0 ∧ (
    th_o G (a_mr G a0 9) 12 ∧ (
    (tw_J1_length
      (fun (r16 : Int32) (G15 : aH) =>
        Q r16 G15)
      G (a_mr G a0 9))))) ∧
  (x1 = 13 →
    th_o G a0 0 ∧ (
    Q (a_mi G a0 6) G)) ∧
  (¬ x1 = 0 → ¬ x1 = 1 → ¬ x1 = 2 → ¬ x1 = 3 → ¬ x1 = 4 → ¬ x1 = 5 → ¬ x1 = 6 → ¬ x1 = 7 → ¬ x1 = 8 → ¬ x1 = 9 → ¬ x1 = 10 → ¬ x1 = 11 → ¬ x1 = 12 → ¬ x1 = 13 → 
    Q (-2) G)
theorem tk_X0_account {l : Launch} {D : tD} {B : Nat} {Q : Int32 → aH → Prop} {a0 : Nat} {x1 : Int32} : Met l yX0_account (ws_ yX0_account cX0_account 2 ((Option.some Jvm.ClassFile.FieldType.int))) rm_X0_account (th_P D B [rv a0, .int x1] (fun G => tw_X0_account Q G a0 x1)) (th_Qi D B Q) 35 70 (th_A B) :=
  th_ofW (by decide +kernel) (th_cr (th_ci th_cn)) (Nat.le_of_ble_eq_true rfl) (fun p e s m args below meth c CF hret hlk hnm hK hSt G ls hR hS hw hL => by
    have E : th_E p m c cX0_account 2 s args RX0 meth ((Option.some Jvm.ClassFile.FieldType.int)) "account" D B := ⟨CF, hret, hlk, hnm, hK, hSt⟩
    have hx := CF.1; have hb := CF.2.1
    have hL : th_L ls 2 [(0, rv a0), (1, .int x1)] := hL
    unfold tw_X0_account at hw
    refine lv_iload_n hx hb dX0_account_0 rfl (lv_at hL.1 1 rfl) ?_
    by_cases g0 : x1 = 0
    · replace hw := hw.1 g0
      refine lv_tableIn hx hb dX0_account_1 (tgt := 72) (by rw [g0]; decide) (by rw [g0]; decide) (by rw [g0]; rfl) (by decide) ?_
      refine th_aload_n hx hb dX0_account_72 rfl (lv_at hL.1 0 rfl) ?_
      obtain ⟨ho, hw⟩ := hw
      refine fg_X0_22 CF hK hR ho dX0_account_73 ?_
      obtain ⟨ho, hw⟩ := hw
      refine fg_X0_79 CF hK hR ho dX0_account_76 ?_
      exact th_iret hx hb hret hlk hR hS hw (by omega) (by omega) dX0_account_79
    by_cases g1 : x1 = 1
    · replace hw := hw.2.1 g1
      refine lv_tableIn hx hb dX0_account_1 (tgt := 80) (by rw [g1]; decide) (by rw [g1]; decide) (by rw [g1]; rfl) (by decide) ?_
      refine th_aload_n hx hb dX0_account_80 rfl (lv_at hL.1 0 rfl) ?_
      obtain ⟨ho, hw⟩ := hw
      refine fg_X0_22 CF hK hR ho dX0_account_81 ?_
      obtain ⟨ho, hw⟩ := hw
      refine fg_X0_133 CF hK hR ho dX0_account_84 ?_
      exact th_iret hx hb hret hlk hR hS hw (by omega) (by omega) dX0_account_87
    by_cases g2 : x1 = 2
    · replace hw := hw.2.2.1 g2
      refine lv_tableIn hx hb dX0_account_1 (tgt := 88) (by rw [g2]; decide) (by rw [g2]; decide) (by rw [g2]; rfl) (by decide) ?_
      refine th_aload_n hx hb dX0_account_88 rfl (lv_at hL.1 0 rfl) ?_
      obtain ⟨ho, hw⟩ := hw
      refine fg_X0_22 CF hK hR ho dX0_account_89 ?_
      obtain ⟨ho, hw⟩ := hw
      refine fg_X0_256 CF hK hR ho dX0_account_92 ?_
      exact th_iret hx hb hret hlk hR hS hw (by omega) (by omega) dX0_account_95
    by_cases g3 : x1 = 3
    · replace hw := hw.2.2.2.1 g3
      refine lv_tableIn hx hb dX0_account_1 (tgt := 96) (by rw [g3]; decide) (by rw [g3]; decide) (by rw [g3]; rfl) (by decide) ?_
      refine th_aload_n hx hb dX0_account_96 rfl (lv_at hL.1 0 rfl) ?_
      refine lv_iconst hx hb dX0_account_97 (v := 2) rfl ?_
      obtain ⟨ho, hw⟩ := hw
      refine th_ki hS (th_rV CF hK hSt hR hS ho (ci := 0) rfl (rest := []) (tk_X0_overParishes) (cw_X0_472 CF hK (by decide +kernel)) hw rfl hL.1.1 rfl th_cn (Nat.le_of_ble_eq_true rfl) dX0_account_98 ⟨by show _ ≤ (35 : Nat); omega, by show _ ≤ (70 : Nat); omega⟩) (fun r2 G1 H locs hw hR hS => ?_)
      exact th_iret hx hb hret hlk hR hS hw (by omega) (by omega) dX0_account_101
    by_cases g4 : x1 = 4
    · replace hw := hw.2.2.2.2.1 g4
      refine lv_tableIn hx hb dX0_account_1 (tgt := 102) (by rw [g4]; decide) (by rw [g4]; decide) (by rw [g4]; rfl) (by decide) ?_
      refine th_aload_n hx hb dX0_account_102 rfl (lv_at hL.1 0 rfl) ?_
      refine lv_iconst hx hb dX0_account_103 (v := 3) rfl ?_
      obtain ⟨ho, hw⟩ := hw
      refine th_ki hS (th_rV CF hK hSt hR hS ho (ci := 0) rfl (rest := []) (tk_X0_overParishes) (cw_X0_472 CF hK (by decide +kernel)) hw rfl hL.1.1 rfl th_cn (Nat.le_of_ble_eq_true rfl) dX0_account_104 ⟨by show _ ≤ (35 : Nat); omega, by show _ ≤ (70 : Nat); omega⟩) (fun r4 G3 H locs hw hR hS => ?_)
      exact th_iret hx hb hret hlk hR hS hw (by omega) (by omega) dX0_account_107
    by_cases g5 : x1 = 5
    · replace hw := hw.2.2.2.2.2.1 g5
      refine lv_tableIn hx hb dX0_account_1 (tgt := 108) (by rw [g5]; decide) (by rw [g5]; decide) (by rw [g5]; rfl) (by decide) ?_
      refine th_aload_n hx hb dX0_account_108 rfl (lv_at hL.1 0 rfl) ?_
      refine lv_bipush hx hb dX0_account_109 (v := 7) rfl ?_
      obtain ⟨ho, hw⟩ := hw
      refine th_ki hS (th_rV CF hK hSt hR hS ho (ci := 0) rfl (rest := []) (tk_X0_overParishes) (cw_X0_472 CF hK (by decide +kernel)) hw rfl hL.1.1 rfl th_cn (Nat.le_of_ble_eq_true rfl) dX0_account_111 ⟨by show _ ≤ (35 : Nat); omega, by show _ ≤ (70 : Nat); omega⟩) (fun r6 G5 H locs hw hR hS => ?_)
      exact th_iret hx hb hret hlk hR hS hw (by omega) (by omega) dX0_account_114
    by_cases g6 : x1 = 6
    · replace hw := hw.2.2.2.2.2.2.1 g6
      refine lv_tableIn hx hb dX0_account_1 (tgt := 115) (by rw [g6]; decide) (by rw [g6]; decide) (by rw [g6]; rfl) (by decide) ?_
      refine th_aload_n hx hb dX0_account_115 rfl (lv_at hL.1 0 rfl) ?_
      obtain ⟨ho, hw⟩ := hw
      refine fg_X0_22 CF hK hR ho dX0_account_116 ?_
      obtain ⟨ho, hw⟩ := hw
      refine fg_X0_202 CF hK hR ho dX0_account_119 ?_
      refine lv_iconst hx hb dX0_account_122 (v := 0) rfl ?_
      obtain ⟨ha, hw⟩ := hw
      refine th_aald hx hb hK 6 (by decide) rfl rfl hR ha dX0_account_123 ?_
      obtain ⟨ho, hw⟩ := hw
      refine fg_X0_210 CF hK hR ho dX0_account_124 ?_
      refine th_aload_n hx hb dX0_account_127 rfl (lv_at hL.1 0 rfl) ?_
      obtain ⟨ho, hw⟩ := hw
      refine fg_X0_22 CF hK hR ho dX0_account_128 ?_
      obtain ⟨ho, hw⟩ := hw
      refine fg_X0_202 CF hK hR ho dX0_account_131 ?_
      refine lv_iconst hx hb dX0_account_134 (v := 1) rfl ?_
      obtain ⟨ha, hw⟩ := hw
      refine th_aald hx hb hK 6 (by decide) rfl rfl hR ha dX0_account_135 ?_
      obtain ⟨ho, hw⟩ := hw
      refine fg_X0_210 CF hK hR ho dX0_account_136 ?_
      refine lv_iadd hx hb dX0_account_139 ?_
      exact th_iret hx hb hret hlk hR hS hw (by omega) (by omega) dX0_account_140
    by_cases g7 : x1 = 7
    · replace hw := hw.2.2.2.2.2.2.2.1 g7
      refine lv_tableIn hx hb dX0_account_1 (tgt := 141) (by rw [g7]; decide) (by rw [g7]; decide) (by rw [g7]; rfl) (by decide) ?_
      refine th_aload_n hx hb dX0_account_141 rfl (lv_at hL.1 0 rfl) ?_
      refine lv_iconst hx hb dX0_account_142 (v := 0) rfl ?_
      obtain ⟨ho, hw⟩ := hw
      refine th_ki hS (th_rV CF hK hSt hR hS ho (ci := 0) rfl (rest := []) (tk_X0_overBins) (cw_X0_469 CF hK (by decide +kernel)) hw rfl hL.1.1 rfl th_cn (Nat.le_of_ble_eq_true rfl) dX0_account_143 ⟨by show _ ≤ (35 : Nat); omega, by show _ ≤ (70 : Nat); omega⟩) (fun r8 G7 H locs hw hR hS => ?_)
      exact th_iret hx hb hret hlk hR hS hw (by omega) (by omega) dX0_account_146
    by_cases g8 : x1 = 8
    · replace hw := hw.2.2.2.2.2.2.2.2.1 g8
      refine lv_tableIn hx hb dX0_account_1 (tgt := 147) (by rw [g8]; decide) (by rw [g8]; decide) (by rw [g8]; rfl) (by decide) ?_
      refine th_aload_n hx hb dX0_account_147 rfl (lv_at hL.1 0 rfl) ?_
      refine lv_iconst hx hb dX0_account_148 (v := 1) rfl ?_
      obtain ⟨ho, hw⟩ := hw
      refine th_ki hS (th_rV CF hK hSt hR hS ho (ci := 0) rfl (rest := []) (tk_X0_overPlaces) (cw_X0_475 CF hK (by decide +kernel)) hw rfl hL.1.1 rfl th_cn (Nat.le_of_ble_eq_true rfl) dX0_account_149 ⟨by show _ ≤ (35 : Nat); omega, by show _ ≤ (70 : Nat); omega⟩) (fun r10 G9 H locs hw hR hS => ?_)
      exact th_iret hx hb hret hlk hR hS hw (by omega) (by omega) dX0_account_152
    by_cases g9 : x1 = 9
    · replace hw := hw.2.2.2.2.2.2.2.2.2.1 g9
      refine lv_tableIn hx hb dX0_account_1 (tgt := 153) (by rw [g9]; decide) (by rw [g9]; decide) (by rw [g9]; rfl) (by decide) ?_
      refine th_aload_n hx hb dX0_account_153 rfl (lv_at hL.1 0 rfl) ?_
      refine lv_iconst hx hb dX0_account_154 (v := 0) rfl ?_
      obtain ⟨ho, hw⟩ := hw
      refine th_ki hS (th_rV CF hK hSt hR hS ho (ci := 0) rfl (rest := []) (tk_X0_overPlaces) (cw_X0_475 CF hK (by decide +kernel)) hw rfl hL.1.1 rfl th_cn (Nat.le_of_ble_eq_true rfl) dX0_account_155 ⟨by show _ ≤ (35 : Nat); omega, by show _ ≤ (70 : Nat); omega⟩) (fun r12 G11 H locs hw hR hS => ?_)
      exact th_iret hx hb hret hlk hR hS hw (by omega) (by omega) dX0_account_158
    by_cases g10 : x1 = 10
    · replace hw := hw.2.2.2.2.2.2.2.2.2.2.1 g10
      refine lv_tableIn hx hb dX0_account_1 (tgt := 159) (by rw [g10]; decide) (by rw [g10]; decide) (by rw [g10]; rfl) (by decide) ?_
      refine th_aload_n hx hb dX0_account_159 rfl (lv_at hL.1 0 rfl) ?_
      obtain ⟨ho, hw⟩ := hw
      refine fg_X0_22 CF hK hR ho dX0_account_160 ?_
      obtain ⟨ho, hw⟩ := hw
      refine fg_X0_274 CF hK hR ho dX0_account_163 ?_
      refine lv_iconst hx hb dX0_account_166 (v := 1) rfl ?_
      refine lv_iadd hx hb dX0_account_167 ?_
      exact th_iret hx hb hret hlk hR hS hw (by omega) (by omega) dX0_account_168
    by_cases g11 : x1 = 11
    · replace hw := hw.2.2.2.2.2.2.2.2.2.2.2.1 g11
      refine lv_tableIn hx hb dX0_account_1 (tgt := 169) (by rw [g11]; decide) (by rw [g11]; decide) (by rw [g11]; rfl) (by decide) ?_
      refine th_aload_n hx hb dX0_account_169 rfl (lv_at hL.1 0 rfl) ?_
      refine lv_iconst hx hb dX0_account_170 (v := 2) rfl ?_
      obtain ⟨ho, hw⟩ := hw
      refine th_ki hS (th_rV CF hK hSt hR hS ho (ci := 0) rfl (rest := []) (tk_X0_overBins) (cw_X0_469 CF hK (by decide +kernel)) hw rfl hL.1.1 rfl th_cn (Nat.le_of_ble_eq_true rfl) dX0_account_171 ⟨by show _ ≤ (35 : Nat); omega, by show _ ≤ (70 : Nat); omega⟩) (fun r14 G13 H locs hw hR hS => ?_)
      exact th_iret hx hb hret hlk hR hS hw (by omega) (by omega) dX0_account_174
    by_cases g12 : x1 = 12
    · replace hw := hw.2.2.2.2.2.2.2.2.2.2.2.2.1 g12
      refine lv_tableIn hx hb dX0_account_1 (tgt := 175) (by rw [g12]; decide) (by rw [g12]; decide) (by rw [g12]; rfl) (by decide) ?_
      refine th_aload_n hx hb dX0_account_175 rfl (lv_at hL.1 0 rfl) ?_
      obtain ⟨ho, hw⟩ := hw
      refine fg_X0_46 CF hK hR ho dX0_account_176 ?_
      obtain ⟨ho, hw⟩ := hw
      refine th_ki hS (th_rV CF hK hSt hR hS ho (ci := 12) rfl (rest := []) (tk_J1_length) (cw_X0_286 CF hK (by decide +kernel)) hw rfl hL.1.1 rfl th_cn (Nat.le_of_ble_eq_true rfl) dX0_account_179 ⟨by show _ ≤ (35 : Nat); omega, by show _ ≤ (70 : Nat); omega⟩) (fun r16 G15 H locs hw hR hS => ?_)
      exact th_iret hx hb hret hlk hR hS hw (by omega) (by omega) dX0_account_182
    by_cases g13 : x1 = 13
    · replace hw := hw.2.2.2.2.2.2.2.2.2.2.2.2.2.1 g13
      refine lv_tableIn hx hb dX0_account_1 (tgt := 183) (by rw [g13]; decide) (by rw [g13]; decide) (by rw [g13]; rfl) (by decide) ?_
      refine th_aload_n hx hb dX0_account_183 rfl (lv_at hL.1 0 rfl) ?_
      obtain ⟨ho, hw⟩ := hw
      refine fg_X0_63 CF hK hR ho dX0_account_184 ?_
      exact th_iret hx hb hret hlk hR hS hw (by omega) (by omega) dX0_account_187
    replace hw := hw.2.2.2.2.2.2.2.2.2.2.2.2.2.2 g0 g1 g2 g3 g4 g5 g6 g7 g8 g9 g10 g11 g12 g13
    have w0 := th_sw g0 (k := 0) (by decide)
    have w1 := th_sw g1 (k := 1) (by decide)
    have w2 := th_sw g2 (k := 2) (by decide)
    have w3 := th_sw g3 (k := 3) (by decide)
    have w4 := th_sw g4 (k := 4) (by decide)
    have w5 := th_sw g5 (k := 5) (by decide)
    have w6 := th_sw g6 (k := 6) (by decide)
    have w7 := th_sw g7 (k := 7) (by decide)
    have w8 := th_sw g8 (k := 8) (by decide)
    have w9 := th_sw g9 (k := 9) (by decide)
    have w10 := th_sw g10 (k := 10) (by decide)
    have w11 := th_sw g11 (k := 11) (by decide)
    have w12 := th_sw g12 (k := 12) (by decide)
    have w13 := th_sw g13 (k := 13) (by decide)
    refine lv_tableOut hx hb dX0_account_1 (tgt := 188) (by omega) (by decide) ?_
    refine lv_bipush hx hb dX0_account_188 (v := (-2)) rfl ?_
    exact th_iret hx hb hret hlk hR hS hw (by omega) (by omega) dX0_account_190)
def tw_J0_ensureCapacityInternal (Q : aH → Prop) (G : aH) (a0 : Nat) (x1 : Int32) : Prop :=
  th_o G a0 12 ∧ (
  th_a G (a_mr G a0 0) 1 ∧ (
  th_o G a0 12 ∧ (
  ∀ x2_1 : Int32, x2_1 = (th_len G (a_mr G a0 0)) >>> ((a_mi G a0 1) &&& 31) → 
  (x1 - x2_1 ≤ 0 →
    Q G) ∧
  (¬ x1 - x2_1 ≤ 0 →
    False))))
theorem tk_J0_ensureCapacityInternal {l : Launch} {D : tD} {B : Nat} {Q : aH → Prop} {a0 : Nat} {x1 : Int32} : Met l yJ0_ensureCapacityInternal (ws_ yJ0_ensureCapacityInternal cJ0_ensureCapacityInternal 3 ((Option.none : Option Jvm.ClassFile.FieldType))) rm_J0_ensureCapacityInternal (th_P D B [rv a0, .int x1] (fun G => tw_J0_ensureCapacityInternal Q G a0 x1)) (th_Qv D B Q) 0 0 (th_A B) :=
  th_ofW (by decide +kernel) (th_cr (th_ci th_cn)) (Nat.le_of_ble_eq_true rfl) (fun p e s m args below meth c CF hret hlk hnm hK hSt G ls hR hS hw hL => by
    have E : th_E p m c cJ0_ensureCapacityInternal 3 s args RJ0 meth ((Option.none : Option Jvm.ClassFile.FieldType)) "ensureCapacityInternal" D B := ⟨CF, hret, hlk, hnm, hK, hSt⟩
    have hx := CF.1; have hb := CF.2.1
    have hL : th_L ls 3 [(0, rv a0), (1, .int x1)] := hL
    unfold tw_J0_ensureCapacityInternal at hw
    refine th_aload_n hx hb dJ0_ensureCapacityInternal_0 rfl (lv_at hL.1 0 rfl) ?_
    obtain ⟨ho, hw⟩ := hw
    refine fg_J0_15 CF hK hR ho dJ0_ensureCapacityInternal_1 ?_
    obtain ⟨ha, hw⟩ := hw
    refine th_alen hx hb hK 1 (by decide) hR ha dJ0_ensureCapacityInternal_4 ?_
    refine th_aload_n hx hb dJ0_ensureCapacityInternal_5 rfl (lv_at hL.1 0 rfl) ?_
    obtain ⟨ho, hw⟩ := hw
    refine fg_J0_22 CF hK hR ho dJ0_ensureCapacityInternal_6 ?_
    refine lv_ishr hx hb dJ0_ensureCapacityInternal_9 ?_
    obtain ⟨x2_1, hx2_1⟩ : ∃ y : Int32, y = (th_len G (a_mr G a0 0)) >>> ((a_mi G a0 1) &&& 31) := ⟨_, rfl⟩
    replace hw := hw x2_1 hx2_1
    refine th_nmi hx2_1 ?_
    refine th_istore_n hx hb dJ0_ensureCapacityInternal_10 rfl hL (by decide) rfl (fun ls hL => ?_)
    refine lv_iload_n hx hb dJ0_ensureCapacityInternal_11 rfl (lv_at hL.1 2 rfl) ?_
    refine lv_iload_n hx hb dJ0_ensureCapacityInternal_12 rfl (lv_at hL.1 0 rfl) ?_
    refine lv_isub hx hb dJ0_ensureCapacityInternal_13 ?_
    refine lv_if_le hx hb dJ0_ensureCapacityInternal_14 (tgt := 38) (by decide) (fun h => ?_) (fun h => ?_)
    · replace hw := hw.1 h
      exact th_vret hx hb hret hlk hR hS hw (by omega) (by omega) dJ0_ensureCapacityInternal_38
    · replace hw := hw.2 h
      exact hw.elim)
def tw_J0_isLatin1 (Q : Int32 → aH → Prop) (G : aH) (a0 : Nat) : Prop :=
  ((1 : Int32) = 0 →
    Q 0 G) ∧
  (¬ (1 : Int32) = 0 →
    th_o G a0 12 ∧ (
    (¬ a_mi G a0 1 = 0 →
      Q 0 G) ∧
    (a_mi G a0 1 = 0 →
      Q 1 G)))
theorem tk_J0_isLatin1 {l : Launch} {D : tD} {B : Nat} {Q : Int32 → aH → Prop} {a0 : Nat} : Met l yJ0_isLatin1 (ws_ yJ0_isLatin1 cJ0_isLatin1 1 ((Option.some Jvm.ClassFile.FieldType.boolean))) rm_J0_isLatin1 (th_P D B [rv a0] (fun G => tw_J0_isLatin1 Q G a0)) (th_Qi D B Q) 0 0 (th_A B) :=
  th_ofW (by decide +kernel) (th_cr th_cn) (Nat.le_of_ble_eq_true rfl) (fun p e s m args below meth c CF hret hlk hnm hK hSt G ls hR hS hw hL => by
    have E : th_E p m c cJ0_isLatin1 1 s args RJ0 meth ((Option.some Jvm.ClassFile.FieldType.boolean)) "isLatin1" D B := ⟨CF, hret, hlk, hnm, hK, hSt⟩
    have hx := CF.1; have hb := CF.2.1
    have hL : th_L ls 1 [(0, rv a0)] := hL
    unfold tw_J0_isLatin1 at hw
    refine va_gets hx hb hSt.1 hS CF.2.2.2.1 (CF.2.2.2.2 _ q370) (fun _ h => h) dJ0_isLatin1_0 ?_
    refine lv_if_eq hx hb dJ0_isLatin1_3 (tgt := 17) (by decide) (fun h => ?_) (fun h => ?_)
    · replace hw := hw.1 h
      refine lv_iconst hx hb dJ0_isLatin1_17 (v := 0) rfl ?_
      exact th_zret .boolean hx hb hret rfl hlk hR hS hw (by omega) (by omega) dJ0_isLatin1_18
    · replace hw := hw.2 h
      refine th_aload_n hx hb dJ0_isLatin1_6 rfl (lv_at hL.1 0 rfl) ?_
      obtain ⟨ho, hw⟩ := hw
      refine fg_J0_22 CF hK hR ho dJ0_isLatin1_7 ?_
      refine lv_if_ne hx hb dJ0_isLatin1_10 (tgt := 17) (by decide) (fun h => ?_) (fun h => ?_)
      · replace hw := hw.1 h
        refine lv_iconst hx hb dJ0_isLatin1_17 (v := 0) rfl ?_
        exact th_zret .boolean hx hb hret rfl hlk hR hS hw (by omega) (by omega) dJ0_isLatin1_18
      · replace hw := hw.2 h
        refine lv_iconst hx hb dJ0_isLatin1_13 (v := 1) rfl ?_
        refine lv_goto hx hb dJ0_isLatin1_14 (tgt := 18) (by decide) ?_
        exact th_zret .boolean hx hb hret rfl hlk hR hS hw (by omega) (by omega) dJ0_isLatin1_18)
def tw_J7_canEncode (Q : Int32 → aH → Prop) (G : aH) (x0 : Int32) : Prop :=
  (255 < x0 →
    Q 0 G) ∧
  (¬ 255 < x0 →
    Q 1 G)
theorem tk_J7_canEncode {l : Launch} {D : tD} {B : Nat} {Q : Int32 → aH → Prop} {x0 : Int32} : Met l yJ7_canEncode (ws_ yJ7_canEncode cJ7_canEncode 1 ((Option.some Jvm.ClassFile.FieldType.boolean))) rm_J7_canEncode (th_P D B [.int x0] (fun G => tw_J7_canEncode Q G x0)) (th_Qi D B Q) 0 0 (th_A B) :=
  th_ofW (by decide +kernel) (th_ci th_cn) (Nat.le_of_ble_eq_true rfl) (fun p e s m args below meth c CF hret hlk hnm hK hSt G ls hR hS hw hL => by
    have E : th_E p m c cJ7_canEncode 1 s args RJ7 meth ((Option.some Jvm.ClassFile.FieldType.boolean)) "canEncode" D B := ⟨CF, hret, hlk, hnm, hK, hSt⟩
    have hx := CF.1; have hb := CF.2.1
    have hL : th_L ls 1 [(0, .int x0)] := hL
    unfold tw_J7_canEncode at hw
    refine lv_iload_n hx hb dJ7_canEncode_0 rfl (lv_at hL.1 0 rfl) ?_
    refine lv_sipush hx hb dJ7_canEncode_1 (v := 255) rfl ?_
    refine lv_icmp_gt hx hb dJ7_canEncode_4 (tgt := 11) (by decide) (fun h => ?_) (fun h => ?_)
    · replace hw := hw.1 h
      refine lv_iconst hx hb dJ7_canEncode_11 (v := 0) rfl ?_
      exact th_zret .boolean hx hb hret rfl hlk hR hS hw (by omega) (by omega) dJ7_canEncode_12
    · replace hw := hw.2 h
      refine lv_iconst hx hb dJ7_canEncode_7 (v := 1) rfl ?_
      refine lv_goto hx hb dJ7_canEncode_8 (tgt := 12) (by decide) ?_
      exact th_zret .boolean hx hb hret rfl hlk hR hS hw (by omega) (by omega) dJ7_canEncode_12)
def tw_J0_append (Q : Nat → aH → Prop) (G : aH) (a0 : Nat) (x1 : Int32) : Prop :=
  th_o G a0 12 ∧ (
  th_o G a0 12 ∧ (
  (tw_J0_ensureCapacityInternal
    (fun (G1 : aH) =>
      th_o G1 a0 12 ∧ (
      (tw_J0_isLatin1
        (fun (r3 : Int32) (G2 : aH) =>
          (r3 = 0 →
            False) ∧
          (¬ r3 = 0 →
            (tw_J7_canEncode
              (fun (r5 : Int32) (G4 : aH) =>
                (r5 = 0 →
                  False) ∧
                (¬ r5 = 0 →
                  th_o G4 a0 12 ∧ (
                  th_o G4 a0 12 ∧ (
                  th_o G4 a0 12 ∧ (
                  ∀ G6 : aH, G6 = a_si G4 a0 3 ((a_mi G4 a0 3) + 1) → 
                  th_ai G6 (a_mr G4 a0 0) 1 (a_mi G4 a0 3) ∧ (
                  ∀ G7 : aH, G7 = a_si G6 (a_mr G4 a0 0) (a_mi G4 a0 3).toNatClampNeg ((x1.toInt8.toInt32).toInt8.toInt32) → 
                  Q a0 G7))))))
              G2 x1)))
        G1 a0)))
    G a0 ((a_mi G a0 3) + 1))))
theorem tk_J0_append {l : Launch} {D : tD} {B : Nat} {Q : Nat → aH → Prop} {a0 : Nat} {x1 : Int32} : Met l yJ0_append (ws_ yJ0_append cJ0_append 2 ((Option.some (Jvm.ClassFile.FieldType.object "java/lang/AbstractStringBuilder")))) rm_J0_append (th_P D B [rv a0, .int x1] (fun G => tw_J0_append Q G a0 x1)) (th_Qr D B Q) 0 0 (th_A B) :=
  th_ofW (by decide +kernel) (th_cr (th_ci th_cn)) (Nat.le_of_ble_eq_true rfl) (fun p e s m args below meth c CF hret hlk hnm hK hSt G ls hR hS hw hL => by
    have E : th_E p m c cJ0_append 2 s args RJ0 meth ((Option.some (Jvm.ClassFile.FieldType.object "java/lang/AbstractStringBuilder"))) "append" D B := ⟨CF, hret, hlk, hnm, hK, hSt⟩
    have hx := CF.1; have hb := CF.2.1
    have hL : th_L ls 2 [(0, rv a0), (1, .int x1)] := hL
    unfold tw_J0_append at hw
    refine th_aload_n hx hb dJ0_append_0 rfl (lv_at hL.1 0 rfl) ?_
    refine th_aload_n hx hb dJ0_append_1 rfl (lv_at hL.1 0 rfl) ?_
    obtain ⟨ho, hw⟩ := hw
    refine fg_J0_79 CF hK hR ho dJ0_append_2 ?_
    refine lv_iconst hx hb dJ0_append_5 (v := 1) rfl ?_
    refine lv_iadd hx hb dJ0_append_6 ?_
    obtain ⟨ho, hw⟩ := hw
    refine th_kv hS (th_rV CF hK hSt hR hS ho (ci := 12) rfl (rest := []) (tk_J0_ensureCapacityInternal) (cw_J0_100 CF hK (by decide +kernel)) hw rfl hL.1.1 rfl th_cn (Nat.le_of_ble_eq_true rfl) dJ0_append_7 ⟨by show _ ≤ (0 : Nat); omega, by show _ ≤ (0 : Nat); omega⟩) (fun G1 H locs hw hR hS => ?_)
    refine th_aload_n hx hb dJ0_append_10 rfl (lv_at hL.1 0 rfl) ?_
    obtain ⟨ho, hw⟩ := hw
    refine th_ki hS (th_rU CF hK hSt hR hS ho (ci := 12) rfl (rest := []) (tk_J0_isLatin1) (cw_J0_83 CF hK (by decide +kernel)) hw rfl hL.1.1 rfl th_cn (Nat.le_of_ble_eq_true rfl) dJ0_append_11 ⟨by show _ ≤ (0 : Nat); omega, by show _ ≤ (0 : Nat); omega⟩) (fun r3 G2 H locs hw hR hS => ?_)
    refine lv_if_eq hx hb dJ0_append_14 (tgt := 45) (by decide) (fun h => ?_) (fun h => ?_)
    · replace hw := hw.1 h
      exact hw.elim
    · replace hw := hw.2 h
      refine lv_iload_n hx hb dJ0_append_17 rfl (lv_at hL.1 1 rfl) ?_
      refine th_ki hS (th_rS CF hK hSt hR hS (rest := []) (tk_J7_canEncode) (cw_J0_191 CF hK (by decide +kernel)) hw rfl hL.1.1 rfl th_cn (Nat.le_of_ble_eq_true rfl) dJ0_append_18 ⟨by show _ ≤ (0 : Nat); omega, by show _ ≤ (0 : Nat); omega⟩) (fun r5 G4 H locs hw hR hS => ?_)
      refine lv_if_eq hx hb dJ0_append_21 (tgt := 45) (by decide) (fun h => ?_) (fun h => ?_)
      · replace hw := hw.1 h
        exact hw.elim
      · replace hw := hw.2 h
        refine th_aload_n hx hb dJ0_append_24 rfl (lv_at hL.1 0 rfl) ?_
        obtain ⟨ho, hw⟩ := hw
        refine fg_J0_15 CF hK hR ho dJ0_append_25 ?_
        refine th_aload_n hx hb dJ0_append_28 rfl (lv_at hL.1 0 rfl) ?_
        refine lv_dup hx hb dJ0_append_29 (rv_cat _) ?_
        obtain ⟨ho, hw⟩ := hw
        refine fg_J0_79 CF hK hR ho dJ0_append_30 ?_
        refine lv_dup_x1 hx hb dJ0_append_33 rfl (rv_cat _) ?_
        refine lv_iconst hx hb dJ0_append_34 (v := 1) rfl ?_
        refine lv_iadd hx hb dJ0_append_35 ?_
        obtain ⟨ho, hw⟩ := hw
        refine fp_J0_79 CF hK hR hS ho dJ0_append_36 (fun G6 H locs hG hR hS => ?_)
        replace hw := hw G6 hG
        refine lv_iload_n hx hb dJ0_append_39 rfl (lv_at hL.1 1 rfl) ?_
        refine lv_i2b hx hb dJ0_append_40 rfl ?_
        obtain ⟨ha, hw⟩ := hw
        refine th_bast hx hb hK hR hS ha dJ0_append_41 (fun G7 H locs hG hR hS => ?_)
        replace hw := hw G7 hG
        refine lv_goto hx hb dJ0_append_42 (tgt := 75) (by decide) ?_
        refine th_aload_n hx hb dJ0_append_75 rfl (lv_at hL.1 0 rfl) ?_
        exact th_aret hx hb hret (Or.inl ⟨_, rfl⟩) hlk hR hS hw (by omega) (by omega) dJ0_append_76)
def tw_J1_append (Q : Nat → aH → Prop) (G : aH) (a0 : Nat) (x1 : Int32) : Prop :=
  th_o G a0 12 ∧ (
  (tw_J0_append
    (fun (b2 : Nat) (G1 : aH) =>
      Q a0 G1)
    G a0 x1))
theorem tk_J1_append {l : Launch} {D : tD} {B : Nat} {Q : Nat → aH → Prop} {a0 : Nat} {x1 : Int32} : Met l yJ1_append (ws_ yJ1_append cJ1_append 2 ((Option.some (Jvm.ClassFile.FieldType.object "java/lang/StringBuilder")))) rm_J1_append (th_P D B [rv a0, .int x1] (fun G => tw_J1_append Q G a0 x1)) (th_Qr D B Q) 0 0 (th_A B) :=
  th_ofW (by decide +kernel) (th_cr (th_ci th_cn)) (Nat.le_of_ble_eq_true rfl) (fun p e s m args below meth c CF hret hlk hnm hK hSt G ls hR hS hw hL => by
    have E : th_E p m c cJ1_append 2 s args RJ1 meth ((Option.some (Jvm.ClassFile.FieldType.object "java/lang/StringBuilder"))) "append" D B := ⟨CF, hret, hlk, hnm, hK, hSt⟩
    have hx := CF.1; have hb := CF.2.1
    have hL : th_L ls 2 [(0, rv a0), (1, .int x1)] := hL
    unfold tw_J1_append at hw
    refine th_aload_n hx hb dJ1_append_0 rfl (lv_at hL.1 0 rfl) ?_
    refine lv_iload_n hx hb dJ1_append_1 rfl (lv_at hL.1 1 rfl) ?_
    obtain ⟨ho, hw⟩ := hw
    refine th_kr hS (th_rSU CF hK hSt hR hS ho (ci := 12) rfl (rest := []) (tk_J0_append) (cw_J1_50 CF hK (by decide +kernel)) hw rfl hL.1.1 rfl th_cn (Nat.le_of_ble_eq_true rfl) dJ1_append_2 ⟨by show _ ≤ (0 : Nat); omega, by show _ ≤ (0 : Nat); omega⟩) (fun b2 G1 H locs hw hR hS => ?_)
    refine lv_pop hx hb dJ1_append_5 (rv_cat _) ?_
    refine th_aload_n hx hb dJ1_append_6 rfl (lv_at hL.1 0 rfl) ?_
    exact th_aret hx hb hret (Or.inl ⟨_, rfl⟩) hlk hR hS hw (by omega) (by omega) dJ1_append_7)
def tw_X0_append (Q : Int32 → aH → Prop) (G : aH) (a0 : Nat) (x1 : Int32) : Prop :=
  (tw_X0_within
    (fun (r2 : Int32) (G1 : aH) =>
      (r2 = 0 →
        Q (-2) G1) ∧
      (¬ r2 = 0 →
        th_o G1 a0 0 ∧ (
        th_o G1 (a_mr G1 a0 9) 12 ∧ (
        (tw_J1_length
          (fun (r4 : Int32) (G3 : aH) =>
            (¬ r4 = 60 →
              th_o G3 a0 0 ∧ (
              th_o G3 (a_mr G3 a0 9) 12 ∧ (
              (tw_J1_append
                (fun (b6 : Nat) (G5 : aH) =>
                  th_o G5 a0 0 ∧ (
                  th_o G5 (a_mr G5 a0 9) 12 ∧ (
                  (tw_J1_length
                    (fun (r8 : Int32) (G7 : aH) =>
                      Q r8 G7)
                    G5 (a_mr G5 a0 9)))))
                G3 (a_mr G3 a0 9) x1)))) ∧
            (r4 = 60 →
              Q (-2) G3))
          G1 (a_mr G1 a0 9))))))
    G x1 32 126)
theorem tk_X0_append {l : Launch} {D : tD} {B : Nat} {Q : Int32 → aH → Prop} {a0 : Nat} {x1 : Int32} : Met l yX0_append (ws_ yX0_append cX0_append 2 ((Option.some Jvm.ClassFile.FieldType.int))) rm_X0_append (th_P D B [rv a0, .int x1] (fun G => tw_X0_append Q G a0 x1)) (th_Qi D B Q) 0 0 (th_A B) :=
  th_ofW (by decide +kernel) (th_cr (th_ci th_cn)) (Nat.le_of_ble_eq_true rfl) (fun p e s m args below meth c CF hret hlk hnm hK hSt G ls hR hS hw hL => by
    have E : th_E p m c cX0_append 2 s args RX0 meth ((Option.some Jvm.ClassFile.FieldType.int)) "append" D B := ⟨CF, hret, hlk, hnm, hK, hSt⟩
    have hx := CF.1; have hb := CF.2.1
    have hL : th_L ls 2 [(0, rv a0), (1, .int x1)] := hL
    unfold tw_X0_append at hw
    refine lv_iload_n hx hb dX0_append_0 rfl (lv_at hL.1 1 rfl) ?_
    refine lv_bipush hx hb dX0_append_1 (v := 32) rfl ?_
    refine lv_bipush hx hb dX0_append_3 (v := 126) rfl ?_
    refine th_ki hS (th_rS CF hK hSt hR hS (rest := []) (tk_X0_within) (cw_X0_82 CF hK (by decide +kernel)) hw rfl hL.1.1 rfl th_cn (Nat.le_of_ble_eq_true rfl) dX0_append_5 ⟨by show _ ≤ (0 : Nat); omega, by show _ ≤ (0 : Nat); omega⟩) (fun r2 G1 H locs hw hR hS => ?_)
    refine lv_if_eq hx hb dX0_append_8 (tgt := 23) (by decide) (fun h => ?_) (fun h => ?_)
    · replace hw := hw.1 h
      refine lv_bipush hx hb dX0_append_23 (v := (-2)) rfl ?_
      exact th_iret hx hb hret hlk hR hS hw (by omega) (by omega) dX0_append_25
    · replace hw := hw.2 h
      refine th_aload_n hx hb dX0_append_11 rfl (lv_at hL.1 0 rfl) ?_
      obtain ⟨ho, hw⟩ := hw
      refine fg_X0_46 CF hK hR ho dX0_append_12 ?_
      obtain ⟨ho, hw⟩ := hw
      refine th_ki hS (th_rV CF hK hSt hR hS ho (ci := 12) rfl (rest := []) (tk_J1_length) (cw_X0_286 CF hK (by decide +kernel)) hw rfl hL.1.1 rfl th_cn (Nat.le_of_ble_eq_true rfl) dX0_append_15 ⟨by show _ ≤ (0 : Nat); omega, by show _ ≤ (0 : Nat); omega⟩) (fun r4 G3 H locs hw hR hS => ?_)
      refine lv_bipush hx hb dX0_append_18 (v := 60) rfl ?_
      refine lv_icmp_ne hx hb dX0_append_20 (tgt := 26) (by decide) (fun h => ?_) (fun h => ?_)
      · replace hw := hw.1 h
        refine th_aload_n hx hb dX0_append_26 rfl (lv_at hL.1 0 rfl) ?_
        obtain ⟨ho, hw⟩ := hw
        refine fg_X0_46 CF hK hR ho dX0_append_27 ?_
        refine lv_iload_n hx hb dX0_append_30 rfl (lv_at hL.1 1 rfl) ?_
        obtain ⟨ho, hw⟩ := hw
        refine th_kr hS (th_rV CF hK hSt hR hS ho (ci := 12) rfl (rest := []) (tk_J1_append) (cw_X0_289 CF hK (by decide +kernel)) hw rfl hL.1.1 rfl th_cn (Nat.le_of_ble_eq_true rfl) dX0_append_31 ⟨by show _ ≤ (0 : Nat); omega, by show _ ≤ (0 : Nat); omega⟩) (fun b6 G5 H locs hw hR hS => ?_)
        refine lv_pop hx hb dX0_append_34 (rv_cat _) ?_
        refine th_aload_n hx hb dX0_append_35 rfl (lv_at hL.1 0 rfl) ?_
        obtain ⟨ho, hw⟩ := hw
        refine fg_X0_46 CF hK hR ho dX0_append_36 ?_
        obtain ⟨ho, hw⟩ := hw
        refine th_ki hS (th_rV CF hK hSt hR hS ho (ci := 12) rfl (rest := []) (tk_J1_length) (cw_X0_286 CF hK (by decide +kernel)) hw rfl hL.1.1 rfl th_cn (Nat.le_of_ble_eq_true rfl) dX0_append_39 ⟨by show _ ≤ (0 : Nat); omega, by show _ ≤ (0 : Nat); omega⟩) (fun r8 G7 H locs hw hR hS => ?_)
        exact th_iret hx hb hret hlk hR hS hw (by omega) (by omega) dX0_append_42
      · replace hw := hw.2 h
        refine lv_bipush hx hb dX0_append_23 (v := (-2)) rfl ?_
        exact th_iret hx hb hret hlk hR hS hw (by omega) (by omega) dX0_append_25)
def tw_X0_isBay (Q : Int32 → aH → Prop) (G : aH) (x0 : Int32) : Prop :=
  (tw_X0_within
    (fun (r2 : Int32) (G1 : aH) =>
      narrow .boolean (.int r2) = .int r2 ∧ Q r2 G1)
    G x0 0 3)
theorem tk_X0_isBay {l : Launch} {D : tD} {B : Nat} {Q : Int32 → aH → Prop} {x0 : Int32} : Met l yX0_isBay (ws_ yX0_isBay cX0_isBay 1 ((Option.some Jvm.ClassFile.FieldType.boolean))) rm_X0_isBay (th_P D B [.int x0] (fun G => tw_X0_isBay Q G x0)) (th_Qi D B Q) 0 0 (th_A B) :=
  th_ofW (by decide +kernel) (th_ci th_cn) (Nat.le_of_ble_eq_true rfl) (fun p e s m args below meth c CF hret hlk hnm hK hSt G ls hR hS hw hL => by
    have E : th_E p m c cX0_isBay 1 s args RX0 meth ((Option.some Jvm.ClassFile.FieldType.boolean)) "isBay" D B := ⟨CF, hret, hlk, hnm, hK, hSt⟩
    have hx := CF.1; have hb := CF.2.1
    have hL : th_L ls 1 [(0, .int x0)] := hL
    unfold tw_X0_isBay at hw
    refine lv_iload_n hx hb dX0_isBay_0 rfl (lv_at hL.1 0 rfl) ?_
    refine lv_iconst hx hb dX0_isBay_1 (v := 0) rfl ?_
    refine lv_iconst hx hb dX0_isBay_2 (v := 3) rfl ?_
    refine th_ki hS (th_rS CF hK hSt hR hS (rest := []) (tk_X0_within) (cw_X0_82 CF hK (by decide +kernel)) hw rfl hL.1.1 rfl th_cn (Nat.le_of_ble_eq_true rfl) dX0_isBay_3 ⟨by show _ ≤ (0 : Nat); omega, by show _ ≤ (0 : Nat); omega⟩) (fun r2 G1 H locs hw hR hS => ?_)
    exact th_zret .boolean hx hb hret hw.1 hlk hR hS hw.2 (by omega) (by omega) dX0_isBay_6)
def tw_X0_pintsOf (Q : Int32 → aH → Prop) (G : aH) (x0 : Int32) : Prop :=
  (¬ x0 = 0 →
    (¬ x0 = 1 →
      Q 7 G) ∧
    (x0 = 1 →
      Q 5 G)) ∧
  (x0 = 0 →
    Q 6 G)
theorem tk_X0_pintsOf {l : Launch} {D : tD} {B : Nat} {Q : Int32 → aH → Prop} {x0 : Int32} : Met l yX0_pintsOf (ws_ yX0_pintsOf cX0_pintsOf 1 ((Option.some Jvm.ClassFile.FieldType.int))) rm_X0_pintsOf (th_P D B [.int x0] (fun G => tw_X0_pintsOf Q G x0)) (th_Qi D B Q) 0 0 (th_A B) :=
  th_ofW (by decide +kernel) (th_ci th_cn) (Nat.le_of_ble_eq_true rfl) (fun p e s m args below meth c CF hret hlk hnm hK hSt G ls hR hS hw hL => by
    have E : th_E p m c cX0_pintsOf 1 s args RX0 meth ((Option.some Jvm.ClassFile.FieldType.int)) "pintsOf" D B := ⟨CF, hret, hlk, hnm, hK, hSt⟩
    have hx := CF.1; have hb := CF.2.1
    have hL : th_L ls 1 [(0, .int x0)] := hL
    unfold tw_X0_pintsOf at hw
    refine lv_iload_n hx hb dX0_pintsOf_0 rfl (lv_at hL.1 0 rfl) ?_
    refine lv_if_ne hx hb dX0_pintsOf_1 (tgt := 9) (by decide) (fun h => ?_) (fun h => ?_)
    · replace hw := hw.1 h
      refine lv_iload_n hx hb dX0_pintsOf_9 rfl (lv_at hL.1 0 rfl) ?_
      refine lv_iconst hx hb dX0_pintsOf_10 (v := 1) rfl ?_
      refine lv_icmp_ne hx hb dX0_pintsOf_11 (tgt := 18) (by decide) (fun h => ?_) (fun h => ?_)
      · replace hw := hw.1 h
        refine lv_bipush hx hb dX0_pintsOf_18 (v := 7) rfl ?_
        exact th_iret hx hb hret hlk hR hS hw (by omega) (by omega) dX0_pintsOf_20
      · replace hw := hw.2 h
        refine lv_iconst hx hb dX0_pintsOf_14 (v := 5) rfl ?_
        refine lv_goto hx hb dX0_pintsOf_15 (tgt := 20) (by decide) ?_
        exact th_iret hx hb hret hlk hR hS hw (by omega) (by omega) dX0_pintsOf_20
    · replace hw := hw.2 h
      refine lv_bipush hx hb dX0_pintsOf_4 (v := 6) rfl ?_
      refine lv_goto hx hb dX0_pintsOf_6 (tgt := 20) (by decide) ?_
      exact th_iret hx hb hret hlk hR hS hw (by omega) (by omega) dX0_pintsOf_20)
def tw_X1_pintsIn_b7 (Q : Int32 → aH → Prop) : Nat → aH → Nat → Int32 → Nat → Prop := fun n => Nat.rec (motive := fun _ => aH → Nat → Int32 → Nat → Prop) (fun _ _ _ _ => False) (fun _ ih G a0 x2 a3 =>
  th_o G a3 20 ∧ (
  (tw_X20_hasNext
    (fun (r4 : Int32) (G3 : aH) =>
      (r4 = 0 →
        Q x2 G3) ∧
      (¬ r4 = 0 →
        th_o G3 a3 20 ∧ (
        (tw_X20_next
          (fun (b6 : Nat) (G5 : aH) =>
            (b6 = 0 ∨ th_o G5 b6 4) ∧ (
            th_o G5 b6 4 ∧ (
            th_o G5 a0 1 ∧ (
            th_o G5 b6 4 ∧ (
            th_ai G5 (a_mr G5 a0 0) 4 (a_mi G5 b6 0) ∧ (
            th_o G5 (a_mr G5 (a_mr G5 a0 0) (a_mi G5 b6 0).toNatClampNeg) 2 ∧ (
            (tw_X0_pintsOf
              (fun (r8 : Int32) (G7 : aH) =>
                ∀ x2_9 : Int32, x2_9 = x2 + ((a_mi G5 b6 1) * r8) → 
                ih G7 a0 x2_9 a3)
              G5 (a_mi G5 (a_mr G5 (a_mr G5 a0 0) (a_mi G5 b6 0).toNatClampNeg) 0)))))))))
          G3 a3))))
    G a3))) n
theorem tws_X1_pintsIn_b7 (Q : Int32 → aH → Prop) (n : Nat) (G : aH) (a0 : Nat) (x2 : Int32) (a3 : Nat) : tw_X1_pintsIn_b7 Q (n + 1) G a0 x2 a3 = (
  th_o G a3 20 ∧ (
  (tw_X20_hasNext
    (fun (r4 : Int32) (G3 : aH) =>
      (r4 = 0 →
        Q x2 G3) ∧
      (¬ r4 = 0 →
        th_o G3 a3 20 ∧ (
        (tw_X20_next
          (fun (b6 : Nat) (G5 : aH) =>
            (b6 = 0 ∨ th_o G5 b6 4) ∧ (
            th_o G5 b6 4 ∧ (
            th_o G5 a0 1 ∧ (
            th_o G5 b6 4 ∧ (
            th_ai G5 (a_mr G5 a0 0) 4 (a_mi G5 b6 0) ∧ (
            th_o G5 (a_mr G5 (a_mr G5 a0 0) (a_mi G5 b6 0).toNatClampNeg) 2 ∧ (
            (tw_X0_pintsOf
              (fun (r8 : Int32) (G7 : aH) =>
                ∀ x2_9 : Int32, x2_9 = x2 + ((a_mi G5 b6 1) * r8) → 
                tw_X1_pintsIn_b7 Q n G7 a0 x2_9 a3)
              G5 (a_mi G5 (a_mr G5 (a_mr G5 a0 0) (a_mi G5 b6 0).toNatClampNeg) 0)))))))))
          G3 a3))))
    G a3))) := rfl
def tw_X1_pintsIn (Q : Int32 → aH → Prop) (G : aH) (a0 : Nat) (a1 : Nat) : Prop :=
  th_o G a1 3 ∧ (
  (tw_X3_iterator
    (fun (b2 : Nat) (G1 : aH) =>
      ∃ n9 : Nat, tw_X1_pintsIn_b7 Q n9 G1 a0 0 b2)
    G a1))
theorem tk_X1_pintsIn_b7 {p : Program} {l : Launch} {e : Env} {s : State} {m : MethodId} {args : Array Value} {below : List Frame} {meth : Method} {c : Code} {D : tD} {B : Nat} (E : th_E p m c cX1_pintsIn 5 s args RX1 meth ((Option.some Jvm.ClassFile.FieldType.int)) "pintsIn" D B) {Q : Int32 → aH → Prop} : ∀ (n : Nat) {G : aH} {H : Heap} {locs : List Loc} {cells slots : Nat} {ls : Array Slot} {a0 : Nat} {x2 : Int32} {a3 : Nat} (hR : th_H D B G H) (hS : va_S (th_A B) s.heap H locs) (hL : th_L ls 5 [(0, rv a0), (2, .int x2), (3, rv a3)]) (hw : tw_X1_pintsIn_b7 Q n G a0 x2 a3) (hc : cells + (0) ≤ 1 ∧ slots + (0) ≤ 2), W p l e rm_X1_pintsIn s m args below meth c H locs cells slots (MQ below (th_Qi D B Q) args s 1 2 (th_A B)) (F0 m 7 ls []) := by
  have CF := E.1; have hx := CF.1; have hb := CF.2.1; have hret := E.2.1; have hlk := E.2.2.1; have hnm := E.2.2.2.1; have hK := E.2.2.2.2.1; have hSt := E.2.2.2.2.2
  intro n
  induction n with
  | zero => intro _ _ _ _ _ _ _ _ _ _ _ _ hw; exact hw.elim
  | succ n ih =>
    intro G H locs cells slots ls a0 x2 a3 hR hS hL hw hc
    rw [tws_X1_pintsIn_b7] at hw
    refine th_aload_n hx hb dX1_pintsIn_7 rfl (lv_at hL.1 2 rfl) ?_
    obtain ⟨ho, hw⟩ := hw
    refine th_k5i hS (th_rF CF hK hSt hR hS ho (ci := 20) rfl (rest := []) (tk_X20_hasNext) (cw_X1_88 CF hK (by decide +kernel)) hw rfl hL.1.1 rfl th_cn (Nat.le_of_ble_eq_true rfl) dX1_pintsIn_8 ⟨by show _ ≤ (1 : Nat); omega, by show _ ≤ (2 : Nat); omega⟩) (fun r4 G3 H locs hw hR hS => ?_)
    refine lv_if_eq hx hb dX1_pintsIn_13 (tgt := 55) (by decide) (fun h => ?_) (fun h => ?_)
    · replace hw := hw.1 h
      refine lv_iload_n hx hb dX1_pintsIn_55 rfl (lv_at hL.1 1 rfl) ?_
      exact th_iret hx hb hret hlk hR hS hw (by omega) (by omega) dX1_pintsIn_56
    · replace hw := hw.2 h
      refine th_aload_n hx hb dX1_pintsIn_16 rfl (lv_at hL.1 2 rfl) ?_
      obtain ⟨ho, hw⟩ := hw
      refine th_k5r hS (th_rF CF hK hSt hR hS ho (ci := 20) rfl (rest := []) (tk_X20_next) (cw_X1_94 CF hK (by decide +kernel)) hw rfl hL.1.1 rfl th_cn (Nat.le_of_ble_eq_true rfl) dX1_pintsIn_17 ⟨by show _ ≤ (1 : Nat); omega, by show _ ≤ (2 : Nat); omega⟩) (fun b6 G5 H locs hw hR hS => ?_)
      obtain ⟨ho, hw⟩ := hw
      refine th_cast hx hb CF.2.2.2.1 (ci := 4) rfl (CF.2.2.2.2 _ q1275) hK hR ho dX1_pintsIn_22 ?_
      refine th_astore hx hb dX1_pintsIn_25 hL (by decide) rfl (fun ls hL => ?_)
      refine lv_iload_n hx hb dX1_pintsIn_27 rfl (lv_at hL.1 2 rfl) ?_
      refine th_aload hx hb dX1_pintsIn_28 (lv_at hL.1 0 rfl) ?_
      obtain ⟨ho, hw⟩ := hw
      refine fg_X1_100 CF hK hR ho dX1_pintsIn_30 ?_
      refine th_aload_n hx hb dX1_pintsIn_33 rfl (lv_at hL.1 1 rfl) ?_
      obtain ⟨ho, hw⟩ := hw
      refine fg_X1_11 CF hK hR ho dX1_pintsIn_34 ?_
      refine th_aload hx hb dX1_pintsIn_37 (lv_at hL.1 0 rfl) ?_
      obtain ⟨ho, hw⟩ := hw
      refine fg_X1_103 CF hK hR ho dX1_pintsIn_39 ?_
      obtain ⟨ha, hw⟩ := hw
      refine th_aald hx hb hK 4 (by decide) rfl rfl hR ha dX1_pintsIn_42 ?_
      obtain ⟨ho, hw⟩ := hw
      refine fg_X1_106 CF hK hR ho dX1_pintsIn_43 ?_
      refine th_ki hS (th_rSN CF hK hSt hR hS (rest := [.int (a_mi G5 b6 1), .int x2]) (tk_X0_pintsOf) (cw_X1_109 CF hK (by decide +kernel)) hw rfl hL.1.1 rfl (th_ci (th_ci th_cn)) (Nat.le_of_ble_eq_true rfl) dX1_pintsIn_46 ⟨by show _ ≤ (1 : Nat); omega, by show _ ≤ (2 : Nat); omega⟩) (fun r8 G7 H locs hw hR hS => ?_)
      refine lv_imul hx hb dX1_pintsIn_49 ?_
      refine lv_iadd hx hb dX1_pintsIn_50 ?_
      obtain ⟨x2_9, hx2_9⟩ : ∃ y : Int32, y = x2 + ((a_mi G5 b6 1) * r8) := ⟨_, rfl⟩
      replace hw := hw x2_9 hx2_9
      refine th_nmi hx2_9 ?_
      refine th_istore_n hx hb dX1_pintsIn_51 rfl hL (by decide) rfl (fun ls hL => ?_)
      refine lv_goto hx hb dX1_pintsIn_52 (tgt := 7) (by decide) ?_
      exact ih hR hS (hL.sub [2, 0, 3] rfl) hw ⟨by omega, by omega⟩
theorem tk_X1_pintsIn {l : Launch} {D : tD} {B : Nat} {Q : Int32 → aH → Prop} {a0 : Nat} {a1 : Nat} : Met l yX1_pintsIn (ws_ yX1_pintsIn cX1_pintsIn 5 ((Option.some Jvm.ClassFile.FieldType.int))) rm_X1_pintsIn (th_P D B [rv a0, rv a1] (fun G => tw_X1_pintsIn Q G a0 a1)) (th_Qi D B Q) 1 2 (th_A B) :=
  th_ofW (by decide +kernel) (th_cr (th_cr th_cn)) (Nat.le_of_ble_eq_true rfl) (fun p e s m args below meth c CF hret hlk hnm hK hSt G ls hR hS hw hL => by
    have E : th_E p m c cX1_pintsIn 5 s args RX1 meth ((Option.some Jvm.ClassFile.FieldType.int)) "pintsIn" D B := ⟨CF, hret, hlk, hnm, hK, hSt⟩
    have hx := CF.1; have hb := CF.2.1
    have hL : th_L ls 5 [(0, rv a0), (1, rv a1)] := hL
    unfold tw_X1_pintsIn at hw
    refine lv_iconst hx hb dX1_pintsIn_0 (v := 0) rfl ?_
    refine th_istore_n hx hb dX1_pintsIn_1 rfl hL (by decide) rfl (fun ls hL => ?_)
    refine th_aload_n hx hb dX1_pintsIn_2 rfl (lv_at hL.1 2 rfl) ?_
    obtain ⟨ho, hw⟩ := hw
    refine th_kr hS (th_rV CF hK hSt hR hS ho (ci := 3) rfl (rest := []) (tk_X3_iterator) (cw_X1_84 CF hK (by decide +kernel)) hw rfl hL.1.1 rfl th_cn (Nat.le_of_ble_eq_true rfl) dX1_pintsIn_3 ⟨by show _ ≤ (1 : Nat); omega, by show _ ≤ (2 : Nat); omega⟩) (fun b2 G1 H locs hw hR hS => ?_)
    refine th_astore_n hx hb dX1_pintsIn_6 rfl hL (by decide) rfl (fun ls hL => ?_)
    obtain ⟨n9, hw⟩ := hw
    exact tk_X1_pintsIn_b7 E n9 hR hS (hL.sub [2, 1, 0] rfl) hw ⟨by omega, by omega⟩)
def tw_X0_bayOf_b80 (Q : Int32 → aH → Prop) : Nat → aH → Int32 → Nat → Prop := fun n => Nat.rec (motive := fun _ => aH → Int32 → Nat → Prop) (fun _ _ _ => False) (fun _ ih G x4 a5 =>
  th_o G a5 20 ∧ (
  (tw_X20_hasNext
    (fun (r9 : Int32) (G8 : aH) =>
      (r9 = 0 →
        Q x4 G8) ∧
      (¬ r9 = 0 →
        th_o G8 a5 20 ∧ (
        (tw_X20_next
          (fun (b11 : Nat) (G10 : aH) =>
            (b11 = 0 ∨ th_o G10 b11 4) ∧ (
            th_o G10 b11 4 ∧ (
            ∀ x4_12 : Int32, x4_12 = x4 ||| (1 <<< ((a_mi G10 b11 0) &&& 31)) → 
            ih G10 x4_12 a5)))
          G8 a5))))
    G a5))) n
theorem tws_X0_bayOf_b80 (Q : Int32 → aH → Prop) (n : Nat) (G : aH) (x4 : Int32) (a5 : Nat) : tw_X0_bayOf_b80 Q (n + 1) G x4 a5 = (
  th_o G a5 20 ∧ (
  (tw_X20_hasNext
    (fun (r9 : Int32) (G8 : aH) =>
      (r9 = 0 →
        Q x4 G8) ∧
      (¬ r9 = 0 →
        th_o G8 a5 20 ∧ (
        (tw_X20_next
          (fun (b11 : Nat) (G10 : aH) =>
            (b11 = 0 ∨ th_o G10 b11 4) ∧ (
            th_o G10 b11 4 ∧ (
            ∀ x4_12 : Int32, x4_12 = x4 ||| (1 <<< ((a_mi G10 b11 0) &&& 31)) → 
            tw_X0_bayOf_b80 Q n G10 x4_12 a5)))
          G8 a5))))
    G a5))) := rfl
def tw_X0_bayOf (Q : Int32 → aH → Prop) (G : aH) (a0 : Nat) (x1 : Int32) (x2 : Int32) : Prop :=
  (tw_X0_isBay
    (fun (r2 : Int32) (G1 : aH) =>
      (¬ r2 = 0 →
        th_o G1 a0 0 ∧ (
        th_o G1 (a_mr G1 a0 0) 1 ∧ (
        th_ai G1 (a_mr G1 (a_mr G1 a0 0) 2) 5 x1 ∧ (
        ∀ a3_3 : Nat, a3_3 = a_mr G1 (a_mr G1 (a_mr G1 a0 0) 2) x1.toNatClampNeg → 
        (x2 = 0 →
          th_o G1 a3_3 3 ∧ (
          Q (a_mi G1 a3_3 2) G1)) ∧
        (x2 = 1 →
          th_o G1 a3_3 3 ∧ (
          Q (a_mi G1 a3_3 1) G1)) ∧
        (x2 = 2 →
          th_o G1 a0 0 ∧ (
          th_o G1 (a_mr G1 a0 0) 1 ∧ (
          (tw_X1_pintsIn
            (fun (r5 : Int32) (G4 : aH) =>
              Q r5 G4)
            G1 (a_mr G1 a0 0) a3_3)))) ∧
        (x2 = 3 →
          th_o G1 a3_3 3 ∧ (
          (tw_X3_iterator
            (fun (b7 : Nat) (G6 : aH) =>
              ∃ n9 : Nat, tw_X0_bayOf_b80 Q n9 G6 0 b7)
            G1 a3_3))) ∧
        (¬ x2 = 0 → ¬ x2 = 1 → ¬ x2 = 2 → ¬ x2 = 3 → 
          Q (-2) G1))))) ∧
      (r2 = 0 →
        Q (-1) G1))
    G x1)
theorem tk_X0_bayOf_b80 {p : Program} {l : Launch} {e : Env} {s : State} {m : MethodId} {args : Array Value} {below : List Frame} {meth : Method} {c : Code} {D : tD} {B : Nat} (E : th_E p m c cX0_bayOf 7 s args RX0 meth ((Option.some Jvm.ClassFile.FieldType.int)) "bayOf" D B) {Q : Int32 → aH → Prop} : ∀ (n : Nat) {G : aH} {H : Heap} {locs : List Loc} {cells slots : Nat} {ls : Array Slot} {x4 : Int32} {a5 : Nat} (hR : th_H D B G H) (hS : va_S (th_A B) s.heap H locs) (hL : th_L ls 7 [(4, .int x4), (5, rv a5)]) (hw : tw_X0_bayOf_b80 Q n G x4 a5) (hc : cells + (0) ≤ 1 ∧ slots + (0) ≤ 2), W p l e rm_X0_bayOf s m args below meth c H locs cells slots (MQ below (th_Qi D B Q) args s 1 2 (th_A B)) (F0 m 80 ls []) := by
  have CF := E.1; have hx := CF.1; have hb := CF.2.1; have hret := E.2.1; have hlk := E.2.2.1; have hnm := E.2.2.2.1; have hK := E.2.2.2.2.1; have hSt := E.2.2.2.2.2
  intro n
  induction n with
  | zero => intro _ _ _ _ _ _ _ _ _ _ _ hw; exact hw.elim
  | succ n ih =>
    intro G H locs cells slots ls x4 a5 hR hS hL hw hc
    rw [tws_X0_bayOf_b80] at hw
    refine th_aload hx hb dX0_bayOf_80 (lv_at hL.1 1 rfl) ?_
    obtain ⟨ho, hw⟩ := hw
    refine th_k5i hS (th_rF CF hK hSt hR hS ho (ci := 20) rfl (rest := []) (tk_X20_hasNext) (cw_X0_394 CF hK (by decide +kernel)) hw rfl hL.1.1 rfl th_cn (Nat.le_of_ble_eq_true rfl) dX0_bayOf_82 ⟨by show _ ≤ (1 : Nat); omega, by show _ ≤ (2 : Nat); omega⟩) (fun r9 G8 H locs hw hR hS => ?_)
    refine lv_if_eq hx hb dX0_bayOf_87 (tgt := 117) (by decide) (fun h => ?_) (fun h => ?_)
    · replace hw := hw.1 h
      refine lv_iload hx hb dX0_bayOf_117 (lv_at hL.1 0 rfl) ?_
      exact th_iret hx hb hret hlk hR hS hw (by omega) (by omega) dX0_bayOf_119
    · replace hw := hw.2 h
      refine th_aload hx hb dX0_bayOf_90 (lv_at hL.1 1 rfl) ?_
      obtain ⟨ho, hw⟩ := hw
      refine th_k5r hS (th_rF CF hK hSt hR hS ho (ci := 20) rfl (rest := []) (tk_X20_next) (cw_X0_399 CF hK (by decide +kernel)) hw rfl hL.1.1 rfl th_cn (Nat.le_of_ble_eq_true rfl) dX0_bayOf_92 ⟨by show _ ≤ (1 : Nat); omega, by show _ ≤ (2 : Nat); omega⟩) (fun b11 G10 H locs hw hR hS => ?_)
      obtain ⟨ho, hw⟩ := hw
      refine th_cast hx hb CF.2.2.2.1 (ci := 4) rfl (CF.2.2.2.2 _ q1253) hK hR ho dX0_bayOf_97 ?_
      refine th_astore hx hb dX0_bayOf_100 hL (by decide) rfl (fun ls hL => ?_)
      refine lv_iload hx hb dX0_bayOf_102 (lv_at hL.1 1 rfl) ?_
      refine lv_iconst hx hb dX0_bayOf_104 (v := 1) rfl ?_
      refine th_aload hx hb dX0_bayOf_105 (lv_at hL.1 0 rfl) ?_
      obtain ⟨ho, hw⟩ := hw
      refine fg_X0_179 CF hK hR ho dX0_bayOf_107 ?_
      refine lv_ishl hx hb dX0_bayOf_110 ?_
      refine lv_ior hx hb dX0_bayOf_111 ?_
      obtain ⟨x4_12, hx4_12⟩ : ∃ y : Int32, y = x4 ||| (1 <<< ((a_mi G10 b11 0) &&& 31)) := ⟨_, rfl⟩
      replace hw := hw x4_12 hx4_12
      refine th_nmi hx4_12 ?_
      refine th_istore hx hb dX0_bayOf_112 hL (by decide) rfl (fun ls hL => ?_)
      refine lv_goto hx hb dX0_bayOf_114 (tgt := 80) (by decide) ?_
      exact ih hR hS (hL.sub [0, 2] rfl) hw ⟨by omega, by omega⟩
theorem tk_X0_bayOf {l : Launch} {D : tD} {B : Nat} {Q : Int32 → aH → Prop} {a0 : Nat} {x1 : Int32} {x2 : Int32} : Met l yX0_bayOf (ws_ yX0_bayOf cX0_bayOf 7 ((Option.some Jvm.ClassFile.FieldType.int))) rm_X0_bayOf (th_P D B [rv a0, .int x1, .int x2] (fun G => tw_X0_bayOf Q G a0 x1 x2)) (th_Qi D B Q) 1 2 (th_A B) :=
  th_ofW (by decide +kernel) (th_cr (th_ci (th_ci th_cn))) (Nat.le_of_ble_eq_true rfl) (fun p e s m args below meth c CF hret hlk hnm hK hSt G ls hR hS hw hL => by
    have E : th_E p m c cX0_bayOf 7 s args RX0 meth ((Option.some Jvm.ClassFile.FieldType.int)) "bayOf" D B := ⟨CF, hret, hlk, hnm, hK, hSt⟩
    have hx := CF.1; have hb := CF.2.1
    have hL : th_L ls 7 [(0, rv a0), (1, .int x1), (2, .int x2)] := hL
    unfold tw_X0_bayOf at hw
    refine lv_iload_n hx hb dX0_bayOf_0 rfl (lv_at hL.1 1 rfl) ?_
    refine th_ki hS (th_rS CF hK hSt hR hS (rest := []) (tk_X0_isBay) (cw_X0_143 CF hK (by decide +kernel)) hw rfl hL.1.1 rfl th_cn (Nat.le_of_ble_eq_true rfl) dX0_bayOf_1 ⟨by show _ ≤ (1 : Nat); omega, by show _ ≤ (2 : Nat); omega⟩) (fun r2 G1 H locs hw hR hS => ?_)
    refine lv_if_ne hx hb dX0_bayOf_4 (tgt := 9) (by decide) (fun h => ?_) (fun h => ?_)
    · replace hw := hw.1 h
      refine th_aload_n hx hb dX0_bayOf_9 rfl (lv_at hL.1 0 rfl) ?_
      obtain ⟨ho, hw⟩ := hw
      refine fg_X0_22 CF hK hR ho dX0_bayOf_10 ?_
      obtain ⟨ho, hw⟩ := hw
      refine fg_X0_150 CF hK hR ho dX0_bayOf_13 ?_
      refine lv_iload_n hx hb dX0_bayOf_16 rfl (lv_at hL.1 1 rfl) ?_
      obtain ⟨ha, hw⟩ := hw
      refine th_aald hx hb hK 5 (by decide) rfl rfl hR ha dX0_bayOf_17 ?_
      obtain ⟨a3_3, ha3_3⟩ : ∃ y : Nat, y = a_mr G1 (a_mr G1 (a_mr G1 a0 0) 2) x1.toNatClampNeg := ⟨_, rfl⟩
      replace hw := hw a3_3 ha3_3
      refine th_nmr ha3_3 ?_
      refine th_astore_n hx hb dX0_bayOf_18 rfl hL (by decide) rfl (fun ls hL => ?_)
      refine lv_iload_n hx hb dX0_bayOf_19 rfl (lv_at hL.1 3 rfl) ?_
      by_cases g0 : x2 = 0
      · replace hw := hw.1 g0
        refine lv_tableIn hx hb dX0_bayOf_20 (tgt := 52) (by rw [g0]; decide) (by rw [g0]; decide) (by rw [g0]; rfl) (by decide) ?_
        refine th_aload_n hx hb dX0_bayOf_52 rfl (lv_at hL.1 0 rfl) ?_
        obtain ⟨ho, hw⟩ := hw
        refine fg_X0_164 CF hK hR ho dX0_bayOf_53 ?_
        exact th_iret hx hb hret hlk hR hS hw (by omega) (by omega) dX0_bayOf_56
      by_cases g1 : x2 = 1
      · replace hw := hw.2.1 g1
        refine lv_tableIn hx hb dX0_bayOf_20 (tgt := 57) (by rw [g1]; decide) (by rw [g1]; decide) (by rw [g1]; rfl) (by decide) ?_
        refine th_aload_n hx hb dX0_bayOf_57 rfl (lv_at hL.1 0 rfl) ?_
        obtain ⟨ho, hw⟩ := hw
        refine fg_X0_191 CF hK hR ho dX0_bayOf_58 ?_
        exact th_iret hx hb hret hlk hR hS hw (by omega) (by omega) dX0_bayOf_61
      by_cases g2 : x2 = 2
      · replace hw := hw.2.2.1 g2
        refine lv_tableIn hx hb dX0_bayOf_20 (tgt := 62) (by rw [g2]; decide) (by rw [g2]; decide) (by rw [g2]; rfl) (by decide) ?_
        refine th_aload_n hx hb dX0_bayOf_62 rfl (lv_at hL.1 1 rfl) ?_
        obtain ⟨ho, hw⟩ := hw
        refine fg_X0_22 CF hK hR ho dX0_bayOf_63 ?_
        refine th_aload_n hx hb dX0_bayOf_66 rfl (lv_at hL.1 0 rfl) ?_
        obtain ⟨ho, hw⟩ := hw
        refine th_ki hS (th_rV CF hK hSt hR hS ho (ci := 1) rfl (rest := []) (tk_X1_pintsIn) (cw_X0_417 CF hK (by decide +kernel)) hw rfl hL.1.1 rfl th_cn (Nat.le_of_ble_eq_true rfl) dX0_bayOf_67 ⟨by show _ ≤ (1 : Nat); omega, by show _ ≤ (2 : Nat); omega⟩) (fun r5 G4 H locs hw hR hS => ?_)
        exact th_iret hx hb hret hlk hR hS hw (by omega) (by omega) dX0_bayOf_70
      by_cases g3 : x2 = 3
      · replace hw := hw.2.2.2.1 g3
        refine lv_tableIn hx hb dX0_bayOf_20 (tgt := 71) (by rw [g3]; decide) (by rw [g3]; decide) (by rw [g3]; rfl) (by decide) ?_
        refine lv_iconst hx hb dX0_bayOf_71 (v := 0) rfl ?_
        refine th_istore hx hb dX0_bayOf_72 hL (by decide) rfl (fun ls hL => ?_)
        refine th_aload_n hx hb dX0_bayOf_74 rfl (lv_at hL.1 1 rfl) ?_
        obtain ⟨ho, hw⟩ := hw
        refine th_kr hS (th_rV CF hK hSt hR hS ho (ci := 3) rfl (rest := []) (tk_X3_iterator) (cw_X0_390 CF hK (by decide +kernel)) hw rfl hL.1.1 rfl th_cn (Nat.le_of_ble_eq_true rfl) dX0_bayOf_75 ⟨by show _ ≤ (1 : Nat); omega, by show _ ≤ (2 : Nat); omega⟩) (fun b7 G6 H locs hw hR hS => ?_)
        refine th_astore hx hb dX0_bayOf_78 hL (by decide) rfl (fun ls hL => ?_)
        obtain ⟨n9, hw⟩ := hw
        exact tk_X0_bayOf_b80 E n9 hR hS (hL.sub [1, 0] rfl) hw ⟨by omega, by omega⟩
      replace hw := hw.2.2.2.2 g0 g1 g2 g3
      have w0 := th_sw g0 (k := 0) (by decide)
      have w1 := th_sw g1 (k := 1) (by decide)
      have w2 := th_sw g2 (k := 2) (by decide)
      have w3 := th_sw g3 (k := 3) (by decide)
      refine lv_tableOut hx hb dX0_bayOf_20 (tgt := 120) (by omega) (by decide) ?_
      refine lv_bipush hx hb dX0_bayOf_120 (v := (-2)) rfl ?_
      exact th_iret hx hb hret hlk hR hS hw (by omega) (by omega) dX0_bayOf_122
    · replace hw := hw.2 h
      refine lv_iconst hx hb dX0_bayOf_7 (v := (-1)) rfl ?_
      exact th_iret hx hb hret hlk hR hS hw (by omega) (by omega) dX0_bayOf_8)
def tw_X2_like (Q : aH → Prop) (G : aH) (a0 : Nat) (a1 : Nat) : Prop :=
  th_o G a1 2 ∧ (
  th_o G a0 2 ∧ (
  ∀ G1 : aH, G1 = a_si G a0 0 (a_mi G a1 0) → 
  th_o G1 a1 2 ∧ (
  th_o G1 a0 2 ∧ (
  ∀ G2 : aH, G2 = a_si G1 a0 1 (a_mi G1 a1 1) → 
  th_o G2 a1 2 ∧ (
  th_o G2 a0 2 ∧ (
  ∀ G3 : aH, G3 = a_si G2 a0 2 (a_mi G2 a1 2) → 
  th_o G3 a1 2 ∧ (
  th_o G3 a0 2 ∧ (
  ∀ G4 : aH, G4 = a_si G3 a0 3 (a_mi G3 a1 3) → 
  th_o G4 a1 2 ∧ (
  th_o G4 a0 2 ∧ (
  ∀ G5 : aH, G5 = a_si G4 a0 6 (a_mi G4 a1 6) → 
  th_o G5 a1 2 ∧ (
  th_o G5 a0 2 ∧ (
  th_o G5 a0 2 ∧ (
  th_cpy G5 0 (a_mr G5 a1 4) 0 (a_mr G5 a0 4) 0 (a_mi G5 a0 6) ∧ (
  ∀ G6 : aH, G6 = a_cp G5 (a_mr G5 a1 4) (0 : Int32).toNatClampNeg (a_mr G5 a0 4) (0 : Int32).toNatClampNeg (a_mi G5 a0 6).toNatClampNeg → 
  th_o G6 a1 2 ∧ (
  th_o G6 a0 2 ∧ (
  th_o G6 a0 2 ∧ (
  th_cpy G6 0 (a_mr G6 a1 5) 0 (a_mr G6 a0 5) 0 (a_mi G6 a0 6) ∧ (
  ∀ G7 : aH, G7 = a_cp G6 (a_mr G6 a1 5) (0 : Int32).toNatClampNeg (a_mr G6 a0 5) (0 : Int32).toNatClampNeg (a_mi G6 a0 6).toNatClampNeg → 
  Q G7))))))))))))))))))
theorem tk_X2_like {l : Launch} {D : tD} {B : Nat} {Q : aH → Prop} {a0 : Nat} {a1 : Nat} : Met l yX2_like (ws_ yX2_like cX2_like 2 ((Option.none : Option Jvm.ClassFile.FieldType))) rm_X2_like (th_P D B [rv a0, rv a1] (fun G => tw_X2_like Q G a0 a1)) (th_Qv D B Q) 0 0 (th_A B) :=
  th_ofW (by decide +kernel) (th_cr (th_cr th_cn)) (Nat.le_of_ble_eq_true rfl) (fun p e s m args below meth c CF hret hlk hnm hK hSt G ls hR hS hw hL => by
    have E : th_E p m c cX2_like 2 s args RX2 meth ((Option.none : Option Jvm.ClassFile.FieldType)) "like" D B := ⟨CF, hret, hlk, hnm, hK, hSt⟩
    have hx := CF.1; have hb := CF.2.1
    have hL : th_L ls 2 [(0, rv a0), (1, rv a1)] := hL
    unfold tw_X2_like at hw
    refine th_aload_n hx hb dX2_like_0 rfl (lv_at hL.1 0 rfl) ?_
    refine th_aload_n hx hb dX2_like_1 rfl (lv_at hL.1 1 rfl) ?_
    obtain ⟨ho, hw⟩ := hw
    refine fg_X2_18 CF hK hR ho dX2_like_2 ?_
    obtain ⟨ho, hw⟩ := hw
    refine fp_X2_18 CF hK hR hS ho dX2_like_5 (fun G1 H locs hG hR hS => ?_)
    replace hw := hw G1 hG
    refine th_aload_n hx hb dX2_like_8 rfl (lv_at hL.1 0 rfl) ?_
    refine th_aload_n hx hb dX2_like_9 rfl (lv_at hL.1 1 rfl) ?_
    obtain ⟨ho, hw⟩ := hw
    refine fg_X2_22 CF hK hR ho dX2_like_10 ?_
    obtain ⟨ho, hw⟩ := hw
    refine fp_X2_22 CF hK hR hS ho dX2_like_13 (fun G2 H locs hG hR hS => ?_)
    replace hw := hw G2 hG
    refine th_aload_n hx hb dX2_like_16 rfl (lv_at hL.1 0 rfl) ?_
    refine th_aload_n hx hb dX2_like_17 rfl (lv_at hL.1 1 rfl) ?_
    obtain ⟨ho, hw⟩ := hw
    refine fg_X2_25 CF hK hR ho dX2_like_18 ?_
    obtain ⟨ho, hw⟩ := hw
    refine fp_X2_25 CF hK hR hS ho dX2_like_21 (fun G3 H locs hG hR hS => ?_)
    replace hw := hw G3 hG
    refine th_aload_n hx hb dX2_like_24 rfl (lv_at hL.1 0 rfl) ?_
    refine th_aload_n hx hb dX2_like_25 rfl (lv_at hL.1 1 rfl) ?_
    obtain ⟨ho, hw⟩ := hw
    refine fg_X2_28 CF hK hR ho dX2_like_26 ?_
    obtain ⟨ho, hw⟩ := hw
    refine fp_X2_28 CF hK hR hS ho dX2_like_29 (fun G4 H locs hG hR hS => ?_)
    replace hw := hw G4 hG
    refine th_aload_n hx hb dX2_like_32 rfl (lv_at hL.1 0 rfl) ?_
    refine th_aload_n hx hb dX2_like_33 rfl (lv_at hL.1 1 rfl) ?_
    obtain ⟨ho, hw⟩ := hw
    refine fg_X2_31 CF hK hR ho dX2_like_34 ?_
    obtain ⟨ho, hw⟩ := hw
    refine fp_X2_31 CF hK hR hS ho dX2_like_37 (fun G5 H locs hG hR hS => ?_)
    replace hw := hw G5 hG
    refine th_aload_n hx hb dX2_like_40 rfl (lv_at hL.1 1 rfl) ?_
    obtain ⟨ho, hw⟩ := hw
    refine fg_X2_9 CF hK hR ho dX2_like_41 ?_
    refine lv_iconst hx hb dX2_like_44 (v := 0) rfl ?_
    refine th_aload_n hx hb dX2_like_45 rfl (lv_at hL.1 0 rfl) ?_
    obtain ⟨ho, hw⟩ := hw
    refine fg_X2_9 CF hK hR ho dX2_like_46 ?_
    refine lv_iconst hx hb dX2_like_49 (v := 0) rfl ?_
    refine th_aload_n hx hb dX2_like_50 rfl (lv_at hL.1 0 rfl) ?_
    obtain ⟨ho, hw⟩ := hw
    refine fg_X2_31 CF hK hR ho dX2_like_51 ?_
    obtain ⟨hcp, hw⟩ := hw
    refine th_copyi hx hb (CF.2.2.1.trans hL.1.1.symm) CF.2.2.2.1 (CF.2.2.2.2 _ q480) (CF.2.2.2.2 _ q482) (CF.2.2.2.2 _ q481) (CF.2.2.2.2 _ q121) hK hR hS hcp (by decide) th_cn (Nat.le_of_ble_eq_true rfl) (by decide) dX2_like_54 (fun G6 H locs hG hR hS => ?_)
    replace hw := hw G6 hG
    refine th_aload_n hx hb dX2_like_57 rfl (lv_at hL.1 1 rfl) ?_
    obtain ⟨ho, hw⟩ := hw
    refine fg_X2_15 CF hK hR ho dX2_like_58 ?_
    refine lv_iconst hx hb dX2_like_61 (v := 0) rfl ?_
    refine th_aload_n hx hb dX2_like_62 rfl (lv_at hL.1 0 rfl) ?_
    obtain ⟨ho, hw⟩ := hw
    refine fg_X2_15 CF hK hR ho dX2_like_63 ?_
    refine lv_iconst hx hb dX2_like_66 (v := 0) rfl ?_
    refine th_aload_n hx hb dX2_like_67 rfl (lv_at hL.1 0 rfl) ?_
    obtain ⟨ho, hw⟩ := hw
    refine fg_X2_31 CF hK hR ho dX2_like_68 ?_
    obtain ⟨hcp, hw⟩ := hw
    refine th_copyi hx hb (CF.2.2.1.trans hL.1.1.symm) CF.2.2.2.1 (CF.2.2.2.2 _ q480) (CF.2.2.2.2 _ q482) (CF.2.2.2.2 _ q481) (CF.2.2.2.2 _ q121) hK hR hS hcp (by decide) th_cn (Nat.le_of_ble_eq_true rfl) (by decide) dX2_like_71 (fun G7 H locs hG hR hS => ?_)
    replace hw := hw G7 hG
    exact th_vret hx hb hret hlk hR hS hw (by omega) (by omega) dX2_like_74)
def tw_X4_becomes (Q : aH → Prop) (G : aH) (a0 : Nat) (x1 : Int32) (x2 : Int32) : Prop :=
  th_o G a0 4 ∧ (
  ∀ G1 : aH, G1 = a_si G a0 0 x1 → 
  th_o G1 a0 4 ∧ (
  ∀ G2 : aH, G2 = a_si G1 a0 1 x2 → 
  Q G2))
theorem tk_X4_becomes {l : Launch} {D : tD} {B : Nat} {Q : aH → Prop} {a0 : Nat} {x1 : Int32} {x2 : Int32} : Met l yX4_becomes (ws_ yX4_becomes cX4_becomes 3 ((Option.none : Option Jvm.ClassFile.FieldType))) rm_X4_becomes (th_P D B [rv a0, .int x1, .int x2] (fun G => tw_X4_becomes Q G a0 x1 x2)) (th_Qv D B Q) 0 0 (th_A B) :=
  th_ofW (by decide +kernel) (th_cr (th_ci (th_ci th_cn))) (Nat.le_of_ble_eq_true rfl) (fun p e s m args below meth c CF hret hlk hnm hK hSt G ls hR hS hw hL => by
    have E : th_E p m c cX4_becomes 3 s args RX4 meth ((Option.none : Option Jvm.ClassFile.FieldType)) "becomes" D B := ⟨CF, hret, hlk, hnm, hK, hSt⟩
    have hx := CF.1; have hb := CF.2.1
    have hL : th_L ls 3 [(0, rv a0), (1, .int x1), (2, .int x2)] := hL
    unfold tw_X4_becomes at hw
    refine th_aload_n hx hb dX4_becomes_0 rfl (lv_at hL.1 0 rfl) ?_
    refine lv_iload_n hx hb dX4_becomes_1 rfl (lv_at hL.1 1 rfl) ?_
    obtain ⟨ho, hw⟩ := hw
    refine fp_X4_14 CF hK hR hS ho dX4_becomes_2 (fun G1 H locs hG hR hS => ?_)
    replace hw := hw G1 hG
    refine th_aload_n hx hb dX4_becomes_5 rfl (lv_at hL.1 0 rfl) ?_
    refine lv_iload_n hx hb dX4_becomes_6 rfl (lv_at hL.1 2 rfl) ?_
    obtain ⟨ho, hw⟩ := hw
    refine fp_X4_18 CF hK hR hS ho dX4_becomes_7 (fun G2 H locs hG hR hS => ?_)
    replace hw := hw G2 hG
    exact th_vret hx hb hret hlk hR hS hw (by omega) (by omega) dX4_becomes_10)
def tw_X3_like_b18 (Q : aH → Prop) : Nat → aH → Nat → Nat → Int32 → Prop := fun n => Nat.rec (motive := fun _ => aH → Nat → Nat → Int32 → Prop) (fun _ _ _ _ => False) (fun _ ih G a0 a1 x2 =>
  th_o G a0 3 ∧ (
  (a_mi G a0 1 ≤ x2 →
    Q G) ∧
  (¬ a_mi G a0 1 ≤ x2 →
    th_o G a0 3 ∧ (
    th_ai G (a_mr G a0 0) 3 x2 ∧ (
    th_o G a1 3 ∧ (
    th_ai G (a_mr G a1 0) 3 x2 ∧ (
    th_o G (a_mr G (a_mr G a1 0) x2.toNatClampNeg) 4 ∧ (
    th_o G a1 3 ∧ (
    th_ai G (a_mr G a1 0) 3 x2 ∧ (
    th_o G (a_mr G (a_mr G a1 0) x2.toNatClampNeg) 4 ∧ (
    th_o G (a_mr G (a_mr G a0 0) x2.toNatClampNeg) 4 ∧ (
    (tw_X4_becomes
      (fun (G3 : aH) =>
        ∀ x2_4 : Int32, x2_4 = x2 + 1 → 
        ih G3 a0 a1 x2_4)
      G (a_mr G (a_mr G a0 0) x2.toNatClampNeg) (a_mi G (a_mr G (a_mr G a1 0) x2.toNatClampNeg) 0) (a_mi G (a_mr G (a_mr G a1 0) x2.toNatClampNeg) 1)))))))))))))) n
theorem tws_X3_like_b18 (Q : aH → Prop) (n : Nat) (G : aH) (a0 : Nat) (a1 : Nat) (x2 : Int32) : tw_X3_like_b18 Q (n + 1) G a0 a1 x2 = (
  th_o G a0 3 ∧ (
  (a_mi G a0 1 ≤ x2 →
    Q G) ∧
  (¬ a_mi G a0 1 ≤ x2 →
    th_o G a0 3 ∧ (
    th_ai G (a_mr G a0 0) 3 x2 ∧ (
    th_o G a1 3 ∧ (
    th_ai G (a_mr G a1 0) 3 x2 ∧ (
    th_o G (a_mr G (a_mr G a1 0) x2.toNatClampNeg) 4 ∧ (
    th_o G a1 3 ∧ (
    th_ai G (a_mr G a1 0) 3 x2 ∧ (
    th_o G (a_mr G (a_mr G a1 0) x2.toNatClampNeg) 4 ∧ (
    th_o G (a_mr G (a_mr G a0 0) x2.toNatClampNeg) 4 ∧ (
    (tw_X4_becomes
      (fun (G3 : aH) =>
        ∀ x2_4 : Int32, x2_4 = x2 + 1 → 
        tw_X3_like_b18 Q n G3 a0 a1 x2_4)
      G (a_mr G (a_mr G a0 0) x2.toNatClampNeg) (a_mi G (a_mr G (a_mr G a1 0) x2.toNatClampNeg) 0) (a_mi G (a_mr G (a_mr G a1 0) x2.toNatClampNeg) 1)))))))))))))) := rfl
def tw_X3_like (Q : aH → Prop) (G : aH) (a0 : Nat) (a1 : Nat) : Prop :=
  th_o G a1 3 ∧ (
  th_o G a0 3 ∧ (
  ∀ G1 : aH, G1 = a_si G a0 1 (a_mi G a1 1) → 
  th_o G1 a1 3 ∧ (
  th_o G1 a0 3 ∧ (
  ∀ G2 : aH, G2 = a_si G1 a0 2 (a_mi G1 a1 2) → 
  ∃ n9 : Nat, tw_X3_like_b18 Q n9 G2 a0 a1 0))))
theorem tk_X3_like_b18 {p : Program} {l : Launch} {e : Env} {s : State} {m : MethodId} {args : Array Value} {below : List Frame} {meth : Method} {c : Code} {D : tD} {B : Nat} (E : th_E p m c cX3_like 3 s args RX3 meth ((Option.none : Option Jvm.ClassFile.FieldType)) "like" D B) {Q : aH → Prop} : ∀ (n : Nat) {G : aH} {H : Heap} {locs : List Loc} {cells slots : Nat} {ls : Array Slot} {a0 : Nat} {a1 : Nat} {x2 : Int32} (hR : th_H D B G H) (hS : va_S (th_A B) s.heap H locs) (hL : th_L ls 3 [(0, rv a0), (1, rv a1), (2, .int x2)]) (hw : tw_X3_like_b18 Q n G a0 a1 x2) (hc : cells + (0) ≤ 0 ∧ slots + (0) ≤ 0), W p l e rm_X3_like s m args below meth c H locs cells slots (MQ below (th_Qv D B Q) args s 0 0 (th_A B)) (F0 m 18 ls []) := by
  have CF := E.1; have hx := CF.1; have hb := CF.2.1; have hret := E.2.1; have hlk := E.2.2.1; have hnm := E.2.2.2.1; have hK := E.2.2.2.2.1; have hSt := E.2.2.2.2.2
  intro n
  induction n with
  | zero => intro _ _ _ _ _ _ _ _ _ _ _ _ hw; exact hw.elim
  | succ n ih =>
    intro G H locs cells slots ls a0 a1 x2 hR hS hL hw hc
    rw [tws_X3_like_b18] at hw
    refine lv_iload_n hx hb dX3_like_18 rfl (lv_at hL.1 2 rfl) ?_
    refine th_aload_n hx hb dX3_like_19 rfl (lv_at hL.1 0 rfl) ?_
    obtain ⟨ho, hw⟩ := hw
    refine fg_X3_23 CF hK hR ho dX3_like_20 ?_
    refine lv_icmp_ge hx hb dX3_like_23 (tgt := 59) (by decide) (fun h => ?_) (fun h => ?_)
    · replace hw := hw.1 h
      exact th_vret hx hb hret hlk hR hS hw (by omega) (by omega) dX3_like_59
    · replace hw := hw.2 h
      refine th_aload_n hx hb dX3_like_26 rfl (lv_at hL.1 0 rfl) ?_
      obtain ⟨ho, hw⟩ := hw
      refine fg_X3_11 CF hK hR ho dX3_like_27 ?_
      refine lv_iload_n hx hb dX3_like_30 rfl (lv_at hL.1 2 rfl) ?_
      obtain ⟨ha, hw⟩ := hw
      refine th_aald hx hb hK 3 (by decide) rfl rfl hR ha dX3_like_31 ?_
      refine th_aload_n hx hb dX3_like_32 rfl (lv_at hL.1 1 rfl) ?_
      obtain ⟨ho, hw⟩ := hw
      refine fg_X3_11 CF hK hR ho dX3_like_33 ?_
      refine lv_iload_n hx hb dX3_like_36 rfl (lv_at hL.1 2 rfl) ?_
      obtain ⟨ha, hw⟩ := hw
      refine th_aald hx hb hK 3 (by decide) rfl rfl hR ha dX3_like_37 ?_
      obtain ⟨ho, hw⟩ := hw
      refine fg_X3_30 CF hK hR ho dX3_like_38 ?_
      refine th_aload_n hx hb dX3_like_41 rfl (lv_at hL.1 1 rfl) ?_
      obtain ⟨ho, hw⟩ := hw
      refine fg_X3_11 CF hK hR ho dX3_like_42 ?_
      refine lv_iload_n hx hb dX3_like_45 rfl (lv_at hL.1 2 rfl) ?_
      obtain ⟨ha, hw⟩ := hw
      refine th_aald hx hb hK 3 (by decide) rfl rfl hR ha dX3_like_46 ?_
      obtain ⟨ho, hw⟩ := hw
      refine fg_X3_33 CF hK hR ho dX3_like_47 ?_
      obtain ⟨ho, hw⟩ := hw
      refine th_kv hS (th_rV CF hK hSt hR hS ho (ci := 4) rfl (rest := []) (tk_X4_becomes) (cw_X3_34 CF hK (by decide +kernel)) hw rfl hL.1.1 rfl th_cn (Nat.le_of_ble_eq_true rfl) dX3_like_50 ⟨by show _ ≤ (0 : Nat); omega, by show _ ≤ (0 : Nat); omega⟩) (fun G3 H locs hw hR hS => ?_)
      obtain ⟨x2_4, hx2_4⟩ : ∃ y : Int32, y = x2 + 1 := ⟨_, rfl⟩
      replace hw := hw x2_4 hx2_4
      refine th_iinc hx hb dX3_like_53 hL (k := 2) rfl (v := x2_4) hx2_4.symm (by decide) rfl (fun ls hL => ?_)
      refine lv_goto hx hb dX3_like_56 (tgt := 18) (by decide) ?_
      exact ih hR hS (hL.sub [1, 2, 0] rfl) hw ⟨by omega, by omega⟩
theorem tk_X3_like {l : Launch} {D : tD} {B : Nat} {Q : aH → Prop} {a0 : Nat} {a1 : Nat} : Met l yX3_like (ws_ yX3_like cX3_like 3 ((Option.none : Option Jvm.ClassFile.FieldType))) rm_X3_like (th_P D B [rv a0, rv a1] (fun G => tw_X3_like Q G a0 a1)) (th_Qv D B Q) 0 0 (th_A B) :=
  th_ofW (by decide +kernel) (th_cr (th_cr th_cn)) (Nat.le_of_ble_eq_true rfl) (fun p e s m args below meth c CF hret hlk hnm hK hSt G ls hR hS hw hL => by
    have E : th_E p m c cX3_like 3 s args RX3 meth ((Option.none : Option Jvm.ClassFile.FieldType)) "like" D B := ⟨CF, hret, hlk, hnm, hK, hSt⟩
    have hx := CF.1; have hb := CF.2.1
    have hL : th_L ls 3 [(0, rv a0), (1, rv a1)] := hL
    unfold tw_X3_like at hw
    refine th_aload_n hx hb dX3_like_0 rfl (lv_at hL.1 0 rfl) ?_
    refine th_aload_n hx hb dX3_like_1 rfl (lv_at hL.1 1 rfl) ?_
    obtain ⟨ho, hw⟩ := hw
    refine fg_X3_23 CF hK hR ho dX3_like_2 ?_
    obtain ⟨ho, hw⟩ := hw
    refine fp_X3_23 CF hK hR hS ho dX3_like_5 (fun G1 H locs hG hR hS => ?_)
    replace hw := hw G1 hG
    refine th_aload_n hx hb dX3_like_8 rfl (lv_at hL.1 0 rfl) ?_
    refine th_aload_n hx hb dX3_like_9 rfl (lv_at hL.1 1 rfl) ?_
    obtain ⟨ho, hw⟩ := hw
    refine fg_X3_27 CF hK hR ho dX3_like_10 ?_
    obtain ⟨ho, hw⟩ := hw
    refine fp_X3_27 CF hK hR hS ho dX3_like_13 (fun G2 H locs hG hR hS => ?_)
    replace hw := hw G2 hG
    refine lv_iconst hx hb dX3_like_16 (v := 0) rfl ?_
    refine th_istore_n hx hb dX3_like_17 rfl hL (by decide) rfl (fun ls hL => ?_)
    obtain ⟨n9, hw⟩ := hw
    exact tk_X3_like_b18 E n9 hR hS (hL.sub [1, 2, 0] rfl) hw ⟨by omega, by omega⟩)
def tw_X5_like (Q : aH → Prop) (G : aH) (a0 : Nat) (a1 : Nat) : Prop :=
  th_o G a1 5 ∧ (
  th_o G a0 5 ∧ (
  ∀ G1 : aH, G1 = a_si G a0 0 (a_mi G a1 0) → 
  th_o G1 a1 5 ∧ (
  th_o G1 a0 5 ∧ (
  ∀ G2 : aH, G2 = a_si G1 a0 1 (a_mi G1 a1 1) → 
  th_o G2 a1 5 ∧ (
  th_o G2 a0 5 ∧ (
  ∀ G3 : aH, G3 = a_si G2 a0 2 (a_mi G2 a1 2) → 
  th_o G3 a1 5 ∧ (
  th_o G3 a0 5 ∧ (
  ∀ G4 : aH, G4 = a_si G3 a0 3 (a_mi G3 a1 3) → 
  Q G4))))))))
theorem tk_X5_like {l : Launch} {D : tD} {B : Nat} {Q : aH → Prop} {a0 : Nat} {a1 : Nat} : Met l yX5_like (ws_ yX5_like cX5_like 2 ((Option.none : Option Jvm.ClassFile.FieldType))) rm_X5_like (th_P D B [rv a0, rv a1] (fun G => tw_X5_like Q G a0 a1)) (th_Qv D B Q) 0 0 (th_A B) :=
  th_ofW (by decide +kernel) (th_cr (th_cr th_cn)) (Nat.le_of_ble_eq_true rfl) (fun p e s m args below meth c CF hret hlk hnm hK hSt G ls hR hS hw hL => by
    have E : th_E p m c cX5_like 2 s args RX5 meth ((Option.none : Option Jvm.ClassFile.FieldType)) "like" D B := ⟨CF, hret, hlk, hnm, hK, hSt⟩
    have hx := CF.1; have hb := CF.2.1
    have hL : th_L ls 2 [(0, rv a0), (1, rv a1)] := hL
    unfold tw_X5_like at hw
    refine th_aload_n hx hb dX5_like_0 rfl (lv_at hL.1 0 rfl) ?_
    refine th_aload_n hx hb dX5_like_1 rfl (lv_at hL.1 1 rfl) ?_
    obtain ⟨ho, hw⟩ := hw
    refine fg_X5_13 CF hK hR ho dX5_like_2 ?_
    obtain ⟨ho, hw⟩ := hw
    refine fp_X5_13 CF hK hR hS ho dX5_like_5 (fun G1 H locs hG hR hS => ?_)
    replace hw := hw G1 hG
    refine th_aload_n hx hb dX5_like_8 rfl (lv_at hL.1 0 rfl) ?_
    refine th_aload_n hx hb dX5_like_9 rfl (lv_at hL.1 1 rfl) ?_
    obtain ⟨ho, hw⟩ := hw
    refine fg_X5_16 CF hK hR ho dX5_like_10 ?_
    obtain ⟨ho, hw⟩ := hw
    refine fp_X5_16 CF hK hR hS ho dX5_like_13 (fun G2 H locs hG hR hS => ?_)
    replace hw := hw G2 hG
    refine th_aload_n hx hb dX5_like_16 rfl (lv_at hL.1 0 rfl) ?_
    refine th_aload_n hx hb dX5_like_17 rfl (lv_at hL.1 1 rfl) ?_
    obtain ⟨ho, hw⟩ := hw
    refine fg_X5_7 CF hK hR ho dX5_like_18 ?_
    obtain ⟨ho, hw⟩ := hw
    refine fp_X5_7 CF hK hR hS ho dX5_like_21 (fun G3 H locs hG hR hS => ?_)
    replace hw := hw G3 hG
    refine th_aload_n hx hb dX5_like_24 rfl (lv_at hL.1 0 rfl) ?_
    refine th_aload_n hx hb dX5_like_25 rfl (lv_at hL.1 1 rfl) ?_
    obtain ⟨ho, hw⟩ := hw
    refine fg_X5_19 CF hK hR ho dX5_like_26 ?_
    obtain ⟨ho, hw⟩ := hw
    refine fp_X5_19 CF hK hR hS ho dX5_like_29 (fun G4 H locs hG hR hS => ?_)
    replace hw := hw G4 hG
    exact th_vret hx hb hret hlk hR hS hw (by omega) (by omega) dX5_like_32)
def tw_X6_like (Q : aH → Prop) (G : aH) (a0 : Nat) (a1 : Nat) : Prop :=
  th_o G a1 6 ∧ (
  th_o G a0 6 ∧ (
  ∀ G1 : aH, G1 = a_si G a0 0 (a_mi G a1 0) → 
  th_o G1 a1 6 ∧ (
  th_o G1 a0 6 ∧ (
  ∀ G2 : aH, G2 = a_si G1 a0 1 (a_mi G1 a1 1) → 
  th_o G2 a1 6 ∧ (
  th_o G2 a0 6 ∧ (
  ∀ G3 : aH, G3 = a_si G2 a0 2 (a_mi G2 a1 2) → 
  th_o G3 a1 6 ∧ (
  th_o G3 a0 6 ∧ (
  ∀ G4 : aH, G4 = a_si G3 a0 3 (a_mi G3 a1 3) → 
  th_o G4 a1 6 ∧ (
  th_o G4 a0 6 ∧ (
  ∀ G5 : aH, G5 = a_si G4 a0 4 (a_mi G4 a1 4) → 
  Q G5))))))))))
theorem tk_X6_like {l : Launch} {D : tD} {B : Nat} {Q : aH → Prop} {a0 : Nat} {a1 : Nat} : Met l yX6_like (ws_ yX6_like cX6_like 2 ((Option.none : Option Jvm.ClassFile.FieldType))) rm_X6_like (th_P D B [rv a0, rv a1] (fun G => tw_X6_like Q G a0 a1)) (th_Qv D B Q) 0 0 (th_A B) :=
  th_ofW (by decide +kernel) (th_cr (th_cr th_cn)) (Nat.le_of_ble_eq_true rfl) (fun p e s m args below meth c CF hret hlk hnm hK hSt G ls hR hS hw hL => by
    have E : th_E p m c cX6_like 2 s args RX6 meth ((Option.none : Option Jvm.ClassFile.FieldType)) "like" D B := ⟨CF, hret, hlk, hnm, hK, hSt⟩
    have hx := CF.1; have hb := CF.2.1
    have hL : th_L ls 2 [(0, rv a0), (1, rv a1)] := hL
    unfold tw_X6_like at hw
    refine th_aload_n hx hb dX6_like_0 rfl (lv_at hL.1 0 rfl) ?_
    refine th_aload_n hx hb dX6_like_1 rfl (lv_at hL.1 1 rfl) ?_
    obtain ⟨ho, hw⟩ := hw
    refine fg_X6_13 CF hK hR ho dX6_like_2 ?_
    obtain ⟨ho, hw⟩ := hw
    refine fp_X6_13 CF hK hR hS ho dX6_like_5 (fun G1 H locs hG hR hS => ?_)
    replace hw := hw G1 hG
    refine th_aload_n hx hb dX6_like_8 rfl (lv_at hL.1 0 rfl) ?_
    refine th_aload_n hx hb dX6_like_9 rfl (lv_at hL.1 1 rfl) ?_
    obtain ⟨ho, hw⟩ := hw
    refine fg_X6_7 CF hK hR ho dX6_like_10 ?_
    obtain ⟨ho, hw⟩ := hw
    refine fp_X6_7 CF hK hR hS ho dX6_like_13 (fun G2 H locs hG hR hS => ?_)
    replace hw := hw G2 hG
    refine th_aload_n hx hb dX6_like_16 rfl (lv_at hL.1 0 rfl) ?_
    refine th_aload_n hx hb dX6_like_17 rfl (lv_at hL.1 1 rfl) ?_
    obtain ⟨ho, hw⟩ := hw
    refine fg_X6_16 CF hK hR ho dX6_like_18 ?_
    obtain ⟨ho, hw⟩ := hw
    refine fp_X6_16 CF hK hR hS ho dX6_like_21 (fun G3 H locs hG hR hS => ?_)
    replace hw := hw G3 hG
    refine th_aload_n hx hb dX6_like_24 rfl (lv_at hL.1 0 rfl) ?_
    refine th_aload_n hx hb dX6_like_25 rfl (lv_at hL.1 1 rfl) ?_
    obtain ⟨ho, hw⟩ := hw
    refine fg_X6_19 CF hK hR ho dX6_like_26 ?_
    obtain ⟨ho, hw⟩ := hw
    refine fp_X6_19 CF hK hR hS ho dX6_like_29 (fun G4 H locs hG hR hS => ?_)
    replace hw := hw G4 hG
    refine th_aload_n hx hb dX6_like_32 rfl (lv_at hL.1 0 rfl) ?_
    refine th_aload_n hx hb dX6_like_33 rfl (lv_at hL.1 1 rfl) ?_
    obtain ⟨ho, hw⟩ := hw
    refine fg_X6_22 CF hK hR ho dX6_like_34 ?_
    obtain ⟨ho, hw⟩ := hw
    refine fp_X6_22 CF hK hR hS ho dX6_like_37 (fun G5 H locs hG hR hS => ?_)
    replace hw := hw G5 hG
    exact th_vret hx hb hret hlk hR hS hw (by omega) (by omega) dX6_like_40)
def tw_X7_like (Q : aH → Prop) (G : aH) (a0 : Nat) (a1 : Nat) : Prop :=
  th_o G a1 7 ∧ (
  th_o G a0 7 ∧ (
  ∀ G1 : aH, G1 = a_si G a0 0 (a_mi G a1 0) → 
  th_o G1 a1 7 ∧ (
  th_o G1 a0 7 ∧ (
  ∀ G2 : aH, G2 = a_si G1 a0 1 (a_mi G1 a1 1) → 
  th_o G2 a1 7 ∧ (
  th_o G2 a0 7 ∧ (
  ∀ G3 : aH, G3 = a_si G2 a0 2 (a_mi G2 a1 2) → 
  Q G3))))))
theorem tk_X7_like {l : Launch} {D : tD} {B : Nat} {Q : aH → Prop} {a0 : Nat} {a1 : Nat} : Met l yX7_like (ws_ yX7_like cX7_like 2 ((Option.none : Option Jvm.ClassFile.FieldType))) rm_X7_like (th_P D B [rv a0, rv a1] (fun G => tw_X7_like Q G a0 a1)) (th_Qv D B Q) 0 0 (th_A B) :=
  th_ofW (by decide +kernel) (th_cr (th_cr th_cn)) (Nat.le_of_ble_eq_true rfl) (fun p e s m args below meth c CF hret hlk hnm hK hSt G ls hR hS hw hL => by
    have E : th_E p m c cX7_like 2 s args RX7 meth ((Option.none : Option Jvm.ClassFile.FieldType)) "like" D B := ⟨CF, hret, hlk, hnm, hK, hSt⟩
    have hx := CF.1; have hb := CF.2.1
    have hL : th_L ls 2 [(0, rv a0), (1, rv a1)] := hL
    unfold tw_X7_like at hw
    refine th_aload_n hx hb dX7_like_0 rfl (lv_at hL.1 0 rfl) ?_
    refine th_aload_n hx hb dX7_like_1 rfl (lv_at hL.1 1 rfl) ?_
    obtain ⟨ho, hw⟩ := hw
    refine fg_X7_9 CF hK hR ho dX7_like_2 ?_
    obtain ⟨ho, hw⟩ := hw
    refine fp_X7_9 CF hK hR hS ho dX7_like_5 (fun G1 H locs hG hR hS => ?_)
    replace hw := hw G1 hG
    refine th_aload_n hx hb dX7_like_8 rfl (lv_at hL.1 0 rfl) ?_
    refine th_aload_n hx hb dX7_like_9 rfl (lv_at hL.1 1 rfl) ?_
    obtain ⟨ho, hw⟩ := hw
    refine fg_X7_15 CF hK hR ho dX7_like_10 ?_
    obtain ⟨ho, hw⟩ := hw
    refine fp_X7_15 CF hK hR hS ho dX7_like_13 (fun G2 H locs hG hR hS => ?_)
    replace hw := hw G2 hG
    refine th_aload_n hx hb dX7_like_16 rfl (lv_at hL.1 0 rfl) ?_
    refine th_aload_n hx hb dX7_like_17 rfl (lv_at hL.1 1 rfl) ?_
    obtain ⟨ho, hw⟩ := hw
    refine fg_X7_18 CF hK hR ho dX7_like_18 ?_
    obtain ⟨ho, hw⟩ := hw
    refine fp_X7_18 CF hK hR hS ho dX7_like_21 (fun G3 H locs hG hR hS => ?_)
    replace hw := hw G3 hG
    exact th_vret hx hb hret hlk hR hS hw (by omega) (by omega) dX7_like_24)
def tw_X1_like_b157 (Q : aH → Prop) : Nat → aH → Nat → Nat → Int32 → Prop := fun n => Nat.rec (motive := fun _ => aH → Nat → Nat → Int32 → Prop) (fun _ _ _ _ => False) (fun _ ih G a0 a1 x2 =>
  (7 ≤ x2 →
    Q G) ∧
  (¬ 7 ≤ x2 →
    th_o G a0 1 ∧ (
    th_ai G (a_mr G a0 5) 8 x2 ∧ (
    th_o G a1 1 ∧ (
    th_ai G (a_mr G a1 5) 8 x2 ∧ (
    th_o G (a_mr G (a_mr G a0 5) x2.toNatClampNeg) 7 ∧ (
    (tw_X7_like
      (fun (G6 : aH) =>
        ∀ x2_7 : Int32, x2_7 = x2 + 1 → 
        ih G6 a0 a1 x2_7)
      G (a_mr G (a_mr G a0 5) x2.toNatClampNeg) (a_mr G (a_mr G a1 5) x2.toNatClampNeg))))))))) n
theorem tws_X1_like_b157 (Q : aH → Prop) (n : Nat) (G : aH) (a0 : Nat) (a1 : Nat) (x2 : Int32) : tw_X1_like_b157 Q (n + 1) G a0 a1 x2 = (
  (7 ≤ x2 →
    Q G) ∧
  (¬ 7 ≤ x2 →
    th_o G a0 1 ∧ (
    th_ai G (a_mr G a0 5) 8 x2 ∧ (
    th_o G a1 1 ∧ (
    th_ai G (a_mr G a1 5) 8 x2 ∧ (
    th_o G (a_mr G (a_mr G a0 5) x2.toNatClampNeg) 7 ∧ (
    (tw_X7_like
      (fun (G6 : aH) =>
        ∀ x2_7 : Int32, x2_7 = x2 + 1 → 
        tw_X1_like_b157 Q n G6 a0 a1 x2_7)
      G (a_mr G (a_mr G a0 5) x2.toNatClampNeg) (a_mr G (a_mr G a1 5) x2.toNatClampNeg))))))))) := rfl
def tw_X1_like_b155 (Q : aH → Prop) (G : aH) (a0 : Nat) (a1 : Nat) : Prop :=
  ∃ n9 : Nat, tw_X1_like_b157 Q n9 G a0 a1 0
def tw_X1_like_b129 (Q : aH → Prop) : Nat → aH → Nat → Nat → Int32 → Prop := fun n => Nat.rec (motive := fun _ => aH → Nat → Nat → Int32 → Prop) (fun _ _ _ _ => False) (fun _ ih G a0 a1 x2 =>
  (3 ≤ x2 →
    tw_X1_like_b155 Q G a0 a1) ∧
  (¬ 3 ≤ x2 →
    th_o G a0 1 ∧ (
    th_ai G (a_mr G a0 4) 7 x2 ∧ (
    th_o G a1 1 ∧ (
    th_ai G (a_mr G a1 4) 7 x2 ∧ (
    th_o G (a_mr G (a_mr G a0 4) x2.toNatClampNeg) 6 ∧ (
    (tw_X6_like
      (fun (G8 : aH) =>
        ∀ x2_9 : Int32, x2_9 = x2 + 1 → 
        ih G8 a0 a1 x2_9)
      G (a_mr G (a_mr G a0 4) x2.toNatClampNeg) (a_mr G (a_mr G a1 4) x2.toNatClampNeg))))))))) n
theorem tws_X1_like_b129 (Q : aH → Prop) (n : Nat) (G : aH) (a0 : Nat) (a1 : Nat) (x2 : Int32) : tw_X1_like_b129 Q (n + 1) G a0 a1 x2 = (
  (3 ≤ x2 →
    tw_X1_like_b155 Q G a0 a1) ∧
  (¬ 3 ≤ x2 →
    th_o G a0 1 ∧ (
    th_ai G (a_mr G a0 4) 7 x2 ∧ (
    th_o G a1 1 ∧ (
    th_ai G (a_mr G a1 4) 7 x2 ∧ (
    th_o G (a_mr G (a_mr G a0 4) x2.toNatClampNeg) 6 ∧ (
    (tw_X6_like
      (fun (G8 : aH) =>
        ∀ x2_9 : Int32, x2_9 = x2 + 1 → 
        tw_X1_like_b129 Q n G8 a0 a1 x2_9)
      G (a_mr G (a_mr G a0 4) x2.toNatClampNeg) (a_mr G (a_mr G a1 4) x2.toNatClampNeg))))))))) := rfl
def tw_X1_like_b127 (Q : aH → Prop) (G : aH) (a0 : Nat) (a1 : Nat) : Prop :=
  ∃ n9 : Nat, tw_X1_like_b129 Q n9 G a0 a1 0
def tw_X1_like_b101 (Q : aH → Prop) : Nat → aH → Nat → Nat → Int32 → Prop := fun n => Nat.rec (motive := fun _ => aH → Nat → Nat → Int32 → Prop) (fun _ _ _ _ => False) (fun _ ih G a0 a1 x2 =>
  (2 ≤ x2 →
    tw_X1_like_b127 Q G a0 a1) ∧
  (¬ 2 ≤ x2 →
    th_o G a0 1 ∧ (
    th_ai G (a_mr G a0 3) 6 x2 ∧ (
    th_o G a1 1 ∧ (
    th_ai G (a_mr G a1 3) 6 x2 ∧ (
    th_o G (a_mr G (a_mr G a0 3) x2.toNatClampNeg) 5 ∧ (
    (tw_X5_like
      (fun (G10 : aH) =>
        ∀ x2_11 : Int32, x2_11 = x2 + 1 → 
        ih G10 a0 a1 x2_11)
      G (a_mr G (a_mr G a0 3) x2.toNatClampNeg) (a_mr G (a_mr G a1 3) x2.toNatClampNeg))))))))) n
theorem tws_X1_like_b101 (Q : aH → Prop) (n : Nat) (G : aH) (a0 : Nat) (a1 : Nat) (x2 : Int32) : tw_X1_like_b101 Q (n + 1) G a0 a1 x2 = (
  (2 ≤ x2 →
    tw_X1_like_b127 Q G a0 a1) ∧
  (¬ 2 ≤ x2 →
    th_o G a0 1 ∧ (
    th_ai G (a_mr G a0 3) 6 x2 ∧ (
    th_o G a1 1 ∧ (
    th_ai G (a_mr G a1 3) 6 x2 ∧ (
    th_o G (a_mr G (a_mr G a0 3) x2.toNatClampNeg) 5 ∧ (
    (tw_X5_like
      (fun (G10 : aH) =>
        ∀ x2_11 : Int32, x2_11 = x2 + 1 → 
        tw_X1_like_b101 Q n G10 a0 a1 x2_11)
      G (a_mr G (a_mr G a0 3) x2.toNatClampNeg) (a_mr G (a_mr G a1 3) x2.toNatClampNeg))))))))) := rfl
def tw_X1_like_b99 (Q : aH → Prop) (G : aH) (a0 : Nat) (a1 : Nat) : Prop :=
  ∃ n9 : Nat, tw_X1_like_b101 Q n9 G a0 a1 0
def tw_X1_like_b73 (Q : aH → Prop) : Nat → aH → Nat → Nat → Int32 → Prop := fun n => Nat.rec (motive := fun _ => aH → Nat → Nat → Int32 → Prop) (fun _ _ _ _ => False) (fun _ ih G a0 a1 x2 =>
  (4 ≤ x2 →
    tw_X1_like_b99 Q G a0 a1) ∧
  (¬ 4 ≤ x2 →
    th_o G a0 1 ∧ (
    th_ai G (a_mr G a0 2) 5 x2 ∧ (
    th_o G a1 1 ∧ (
    th_ai G (a_mr G a1 2) 5 x2 ∧ (
    th_o G (a_mr G (a_mr G a0 2) x2.toNatClampNeg) 3 ∧ (
    (tw_X3_like
      (fun (G12 : aH) =>
        ∀ x2_13 : Int32, x2_13 = x2 + 1 → 
        ih G12 a0 a1 x2_13)
      G (a_mr G (a_mr G a0 2) x2.toNatClampNeg) (a_mr G (a_mr G a1 2) x2.toNatClampNeg))))))))) n
theorem tws_X1_like_b73 (Q : aH → Prop) (n : Nat) (G : aH) (a0 : Nat) (a1 : Nat) (x2 : Int32) : tw_X1_like_b73 Q (n + 1) G a0 a1 x2 = (
  (4 ≤ x2 →
    tw_X1_like_b99 Q G a0 a1) ∧
  (¬ 4 ≤ x2 →
    th_o G a0 1 ∧ (
    th_ai G (a_mr G a0 2) 5 x2 ∧ (
    th_o G a1 1 ∧ (
    th_ai G (a_mr G a1 2) 5 x2 ∧ (
    th_o G (a_mr G (a_mr G a0 2) x2.toNatClampNeg) 3 ∧ (
    (tw_X3_like
      (fun (G12 : aH) =>
        ∀ x2_13 : Int32, x2_13 = x2 + 1 → 
        tw_X1_like_b73 Q n G12 a0 a1 x2_13)
      G (a_mr G (a_mr G a0 2) x2.toNatClampNeg) (a_mr G (a_mr G a1 2) x2.toNatClampNeg))))))))) := rfl
def tw_X1_like_b71 (Q : aH → Prop) (G : aH) (a0 : Nat) (a1 : Nat) : Prop :=
  ∃ n9 : Nat, tw_X1_like_b73 Q n9 G a0 a1 0
def tw_X1_like_b42 (Q : aH → Prop) : Nat → aH → Nat → Nat → Int32 → Prop := fun n => Nat.rec (motive := fun _ => aH → Nat → Nat → Int32 → Prop) (fun _ _ _ _ => False) (fun _ ih G a0 a1 x2 =>
  th_o G a0 1 ∧ (
  (a_mi G a0 1 ≤ x2 →
    tw_X1_like_b71 Q G a0 a1) ∧
  (¬ a_mi G a0 1 ≤ x2 →
    th_o G a0 1 ∧ (
    th_ai G (a_mr G a0 0) 4 x2 ∧ (
    th_o G a1 1 ∧ (
    th_ai G (a_mr G a1 0) 4 x2 ∧ (
    th_o G (a_mr G (a_mr G a0 0) x2.toNatClampNeg) 2 ∧ (
    (tw_X2_like
      (fun (G14 : aH) =>
        ∀ x2_15 : Int32, x2_15 = x2 + 1 → 
        ih G14 a0 a1 x2_15)
      G (a_mr G (a_mr G a0 0) x2.toNatClampNeg) (a_mr G (a_mr G a1 0) x2.toNatClampNeg)))))))))) n
theorem tws_X1_like_b42 (Q : aH → Prop) (n : Nat) (G : aH) (a0 : Nat) (a1 : Nat) (x2 : Int32) : tw_X1_like_b42 Q (n + 1) G a0 a1 x2 = (
  th_o G a0 1 ∧ (
  (a_mi G a0 1 ≤ x2 →
    tw_X1_like_b71 Q G a0 a1) ∧
  (¬ a_mi G a0 1 ≤ x2 →
    th_o G a0 1 ∧ (
    th_ai G (a_mr G a0 0) 4 x2 ∧ (
    th_o G a1 1 ∧ (
    th_ai G (a_mr G a1 0) 4 x2 ∧ (
    th_o G (a_mr G (a_mr G a0 0) x2.toNatClampNeg) 2 ∧ (
    (tw_X2_like
      (fun (G14 : aH) =>
        ∀ x2_15 : Int32, x2_15 = x2 + 1 → 
        tw_X1_like_b42 Q n G14 a0 a1 x2_15)
      G (a_mr G (a_mr G a0 0) x2.toNatClampNeg) (a_mr G (a_mr G a1 0) x2.toNatClampNeg)))))))))) := rfl
def tw_X1_like (Q : aH → Prop) (G : aH) (a0 : Nat) (a1 : Nat) : Prop :=
  th_o G a1 1 ∧ (
  th_o G a0 1 ∧ (
  ∀ G1 : aH, G1 = a_si G a0 1 (a_mi G a1 1) → 
  th_o G1 a1 1 ∧ (
  th_o G1 a0 1 ∧ (
  ∀ G2 : aH, G2 = a_si G1 a0 6 (a_mi G1 a1 6) → 
  th_o G2 a1 1 ∧ (
  th_o G2 a0 1 ∧ (
  ∀ G3 : aH, G3 = a_si G2 a0 7 (a_mi G2 a1 7) → 
  th_o G3 a1 1 ∧ (
  th_o G3 a0 1 ∧ (
  ∀ G4 : aH, G4 = a_si G3 a0 8 (a_mi G3 a1 8) → 
  th_o G4 a1 1 ∧ (
  th_o G4 a0 1 ∧ (
  ∀ G5 : aH, G5 = a_si G4 a0 9 (a_mi G4 a1 9) → 
  ∃ n9 : Nat, tw_X1_like_b42 Q n9 G5 a0 a1 0))))))))))
theorem tk_X1_like_b157 {p : Program} {l : Launch} {e : Env} {s : State} {m : MethodId} {args : Array Value} {below : List Frame} {meth : Method} {c : Code} {D : tD} {B : Nat} (E : th_E p m c cX1_like 3 s args RX1 meth ((Option.none : Option Jvm.ClassFile.FieldType)) "like" D B) {Q : aH → Prop} : ∀ (n : Nat) {G : aH} {H : Heap} {locs : List Loc} {cells slots : Nat} {ls : Array Slot} {a0 : Nat} {a1 : Nat} {x2 : Int32} (hR : th_H D B G H) (hS : va_S (th_A B) s.heap H locs) (hL : th_L ls 3 [(0, rv a0), (1, rv a1), (2, .int x2)]) (hw : tw_X1_like_b157 Q n G a0 a1 x2) (hc : cells + (0) ≤ 0 ∧ slots + (0) ≤ 0), W p l e rm_X1_like s m args below meth c H locs cells slots (MQ below (th_Qv D B Q) args s 0 0 (th_A B)) (F0 m 157 ls []) := by
  have CF := E.1; have hx := CF.1; have hb := CF.2.1; have hret := E.2.1; have hlk := E.2.2.1; have hnm := E.2.2.2.1; have hK := E.2.2.2.2.1; have hSt := E.2.2.2.2.2
  intro n
  induction n with
  | zero => intro _ _ _ _ _ _ _ _ _ _ _ _ hw; exact hw.elim
  | succ n ih =>
    intro G H locs cells slots ls a0 a1 x2 hR hS hL hw hc
    rw [tws_X1_like_b157] at hw
    refine lv_iload_n hx hb dX1_like_157 rfl (lv_at hL.1 2 rfl) ?_
    refine lv_bipush hx hb dX1_like_158 (v := 7) rfl ?_
    refine lv_icmp_ge hx hb dX1_like_160 (tgt := 184) (by decide) (fun h => ?_) (fun h => ?_)
    · replace hw := hw.1 h
      exact th_vret hx hb hret hlk hR hS hw (by omega) (by omega) dX1_like_184
    · replace hw := hw.2 h
      refine th_aload_n hx hb dX1_like_163 rfl (lv_at hL.1 0 rfl) ?_
      obtain ⟨ho, hw⟩ := hw
      refine fg_X1_37 CF hK hR ho dX1_like_164 ?_
      refine lv_iload_n hx hb dX1_like_167 rfl (lv_at hL.1 2 rfl) ?_
      obtain ⟨ha, hw⟩ := hw
      refine th_aald hx hb hK 8 (by decide) rfl rfl hR ha dX1_like_168 ?_
      refine th_aload_n hx hb dX1_like_169 rfl (lv_at hL.1 1 rfl) ?_
      obtain ⟨ho, hw⟩ := hw
      refine fg_X1_37 CF hK hR ho dX1_like_170 ?_
      refine lv_iload_n hx hb dX1_like_173 rfl (lv_at hL.1 2 rfl) ?_
      obtain ⟨ha, hw⟩ := hw
      refine th_aald hx hb hK 8 (by decide) rfl rfl hR ha dX1_like_174 ?_
      obtain ⟨ho, hw⟩ := hw
      refine th_kv hS (th_rV CF hK hSt hR hS ho (ci := 7) rfl (rest := []) (tk_X7_like) (cw_X1_81 CF hK (by decide +kernel)) hw rfl hL.1.1 rfl th_cn (Nat.le_of_ble_eq_true rfl) dX1_like_175 ⟨by show _ ≤ (0 : Nat); omega, by show _ ≤ (0 : Nat); omega⟩) (fun G6 H locs hw hR hS => ?_)
      obtain ⟨x2_7, hx2_7⟩ : ∃ y : Int32, y = x2 + 1 := ⟨_, rfl⟩
      replace hw := hw x2_7 hx2_7
      refine th_iinc hx hb dX1_like_178 hL (k := 2) rfl (v := x2_7) hx2_7.symm (by decide) rfl (fun ls hL => ?_)
      refine lv_goto hx hb dX1_like_181 (tgt := 157) (by decide) ?_
      exact ih hR hS (hL.sub [1, 2, 0] rfl) hw ⟨by omega, by omega⟩
theorem tk_X1_like_b155 {p : Program} {l : Launch} {e : Env} {s : State} {m : MethodId} {args : Array Value} {below : List Frame} {meth : Method} {c : Code} {D : tD} {B : Nat} (E : th_E p m c cX1_like 3 s args RX1 meth ((Option.none : Option Jvm.ClassFile.FieldType)) "like" D B) {Q : aH → Prop} {G : aH} {H : Heap} {locs : List Loc} {cells slots : Nat} {ls : Array Slot} {a0 : Nat} {a1 : Nat} (hR : th_H D B G H) (hS : va_S (th_A B) s.heap H locs) (hL : th_L ls 3 [(0, rv a0), (1, rv a1)]) (hw : tw_X1_like_b155 Q G a0 a1) (hc : cells + (0) ≤ 0 ∧ slots + (0) ≤ 0) : W p l e rm_X1_like s m args below meth c H locs cells slots (MQ below (th_Qv D B Q) args s 0 0 (th_A B)) (F0 m 155 ls []) := by
  have CF := E.1; have hx := CF.1; have hb := CF.2.1; have hret := E.2.1; have hlk := E.2.2.1; have hnm := E.2.2.2.1; have hK := E.2.2.2.2.1; have hSt := E.2.2.2.2.2
  unfold tw_X1_like_b155 at hw
  refine lv_iconst hx hb dX1_like_155 (v := 0) rfl ?_
  refine th_istore_n hx hb dX1_like_156 rfl hL (by decide) rfl (fun ls hL => ?_)
  obtain ⟨n9, hw⟩ := hw
  exact tk_X1_like_b157 E n9 hR hS (hL.sub [1, 2, 0] rfl) hw ⟨by omega, by omega⟩
theorem tk_X1_like_b129 {p : Program} {l : Launch} {e : Env} {s : State} {m : MethodId} {args : Array Value} {below : List Frame} {meth : Method} {c : Code} {D : tD} {B : Nat} (E : th_E p m c cX1_like 3 s args RX1 meth ((Option.none : Option Jvm.ClassFile.FieldType)) "like" D B) {Q : aH → Prop} : ∀ (n : Nat) {G : aH} {H : Heap} {locs : List Loc} {cells slots : Nat} {ls : Array Slot} {a0 : Nat} {a1 : Nat} {x2 : Int32} (hR : th_H D B G H) (hS : va_S (th_A B) s.heap H locs) (hL : th_L ls 3 [(0, rv a0), (1, rv a1), (2, .int x2)]) (hw : tw_X1_like_b129 Q n G a0 a1 x2) (hc : cells + (0) ≤ 0 ∧ slots + (0) ≤ 0), W p l e rm_X1_like s m args below meth c H locs cells slots (MQ below (th_Qv D B Q) args s 0 0 (th_A B)) (F0 m 129 ls []) := by
  have CF := E.1; have hx := CF.1; have hb := CF.2.1; have hret := E.2.1; have hlk := E.2.2.1; have hnm := E.2.2.2.1; have hK := E.2.2.2.2.1; have hSt := E.2.2.2.2.2
  intro n
  induction n with
  | zero => intro _ _ _ _ _ _ _ _ _ _ _ _ hw; exact hw.elim
  | succ n ih =>
    intro G H locs cells slots ls a0 a1 x2 hR hS hL hw hc
    rw [tws_X1_like_b129] at hw
    refine lv_iload_n hx hb dX1_like_129 rfl (lv_at hL.1 2 rfl) ?_
    refine lv_iconst hx hb dX1_like_130 (v := 3) rfl ?_
    refine lv_icmp_ge hx hb dX1_like_131 (tgt := 155) (by decide) (fun h => ?_) (fun h => ?_)
    · replace hw := hw.1 h
      exact tk_X1_like_b155 E hR hS (hL.sub [0, 1] rfl) hw ⟨by omega, by omega⟩
    · replace hw := hw.2 h
      refine th_aload_n hx hb dX1_like_134 rfl (lv_at hL.1 0 rfl) ?_
      obtain ⟨ho, hw⟩ := hw
      refine fg_X1_31 CF hK hR ho dX1_like_135 ?_
      refine lv_iload_n hx hb dX1_like_138 rfl (lv_at hL.1 2 rfl) ?_
      obtain ⟨ha, hw⟩ := hw
      refine th_aald hx hb hK 7 (by decide) rfl rfl hR ha dX1_like_139 ?_
      refine th_aload_n hx hb dX1_like_140 rfl (lv_at hL.1 1 rfl) ?_
      obtain ⟨ho, hw⟩ := hw
      refine fg_X1_31 CF hK hR ho dX1_like_141 ?_
      refine lv_iload_n hx hb dX1_like_144 rfl (lv_at hL.1 2 rfl) ?_
      obtain ⟨ha, hw⟩ := hw
      refine th_aald hx hb hK 7 (by decide) rfl rfl hR ha dX1_like_145 ?_
      obtain ⟨ho, hw⟩ := hw
      refine th_kv hS (th_rV CF hK hSt hR hS ho (ci := 6) rfl (rest := []) (tk_X6_like) (cw_X1_78 CF hK (by decide +kernel)) hw rfl hL.1.1 rfl th_cn (Nat.le_of_ble_eq_true rfl) dX1_like_146 ⟨by show _ ≤ (0 : Nat); omega, by show _ ≤ (0 : Nat); omega⟩) (fun G8 H locs hw hR hS => ?_)
      obtain ⟨x2_9, hx2_9⟩ : ∃ y : Int32, y = x2 + 1 := ⟨_, rfl⟩
      replace hw := hw x2_9 hx2_9
      refine th_iinc hx hb dX1_like_149 hL (k := 2) rfl (v := x2_9) hx2_9.symm (by decide) rfl (fun ls hL => ?_)
      refine lv_goto hx hb dX1_like_152 (tgt := 129) (by decide) ?_
      exact ih hR hS (hL.sub [1, 2, 0] rfl) hw ⟨by omega, by omega⟩
theorem tk_X1_like_b127 {p : Program} {l : Launch} {e : Env} {s : State} {m : MethodId} {args : Array Value} {below : List Frame} {meth : Method} {c : Code} {D : tD} {B : Nat} (E : th_E p m c cX1_like 3 s args RX1 meth ((Option.none : Option Jvm.ClassFile.FieldType)) "like" D B) {Q : aH → Prop} {G : aH} {H : Heap} {locs : List Loc} {cells slots : Nat} {ls : Array Slot} {a0 : Nat} {a1 : Nat} (hR : th_H D B G H) (hS : va_S (th_A B) s.heap H locs) (hL : th_L ls 3 [(0, rv a0), (1, rv a1)]) (hw : tw_X1_like_b127 Q G a0 a1) (hc : cells + (0) ≤ 0 ∧ slots + (0) ≤ 0) : W p l e rm_X1_like s m args below meth c H locs cells slots (MQ below (th_Qv D B Q) args s 0 0 (th_A B)) (F0 m 127 ls []) := by
  have CF := E.1; have hx := CF.1; have hb := CF.2.1; have hret := E.2.1; have hlk := E.2.2.1; have hnm := E.2.2.2.1; have hK := E.2.2.2.2.1; have hSt := E.2.2.2.2.2
  unfold tw_X1_like_b127 at hw
  refine lv_iconst hx hb dX1_like_127 (v := 0) rfl ?_
  refine th_istore_n hx hb dX1_like_128 rfl hL (by decide) rfl (fun ls hL => ?_)
  obtain ⟨n9, hw⟩ := hw
  exact tk_X1_like_b129 E n9 hR hS (hL.sub [1, 2, 0] rfl) hw ⟨by omega, by omega⟩
theorem tk_X1_like_b101 {p : Program} {l : Launch} {e : Env} {s : State} {m : MethodId} {args : Array Value} {below : List Frame} {meth : Method} {c : Code} {D : tD} {B : Nat} (E : th_E p m c cX1_like 3 s args RX1 meth ((Option.none : Option Jvm.ClassFile.FieldType)) "like" D B) {Q : aH → Prop} : ∀ (n : Nat) {G : aH} {H : Heap} {locs : List Loc} {cells slots : Nat} {ls : Array Slot} {a0 : Nat} {a1 : Nat} {x2 : Int32} (hR : th_H D B G H) (hS : va_S (th_A B) s.heap H locs) (hL : th_L ls 3 [(0, rv a0), (1, rv a1), (2, .int x2)]) (hw : tw_X1_like_b101 Q n G a0 a1 x2) (hc : cells + (0) ≤ 0 ∧ slots + (0) ≤ 0), W p l e rm_X1_like s m args below meth c H locs cells slots (MQ below (th_Qv D B Q) args s 0 0 (th_A B)) (F0 m 101 ls []) := by
  have CF := E.1; have hx := CF.1; have hb := CF.2.1; have hret := E.2.1; have hlk := E.2.2.1; have hnm := E.2.2.2.1; have hK := E.2.2.2.2.1; have hSt := E.2.2.2.2.2
  intro n
  induction n with
  | zero => intro _ _ _ _ _ _ _ _ _ _ _ _ hw; exact hw.elim
  | succ n ih =>
    intro G H locs cells slots ls a0 a1 x2 hR hS hL hw hc
    rw [tws_X1_like_b101] at hw
    refine lv_iload_n hx hb dX1_like_101 rfl (lv_at hL.1 2 rfl) ?_
    refine lv_iconst hx hb dX1_like_102 (v := 2) rfl ?_
    refine lv_icmp_ge hx hb dX1_like_103 (tgt := 127) (by decide) (fun h => ?_) (fun h => ?_)
    · replace hw := hw.1 h
      exact tk_X1_like_b127 E hR hS (hL.sub [0, 1] rfl) hw ⟨by omega, by omega⟩
    · replace hw := hw.2 h
      refine th_aload_n hx hb dX1_like_106 rfl (lv_at hL.1 0 rfl) ?_
      obtain ⟨ho, hw⟩ := hw
      refine fg_X1_25 CF hK hR ho dX1_like_107 ?_
      refine lv_iload_n hx hb dX1_like_110 rfl (lv_at hL.1 2 rfl) ?_
      obtain ⟨ha, hw⟩ := hw
      refine th_aald hx hb hK 6 (by decide) rfl rfl hR ha dX1_like_111 ?_
      refine th_aload_n hx hb dX1_like_112 rfl (lv_at hL.1 1 rfl) ?_
      obtain ⟨ho, hw⟩ := hw
      refine fg_X1_25 CF hK hR ho dX1_like_113 ?_
      refine lv_iload_n hx hb dX1_like_116 rfl (lv_at hL.1 2 rfl) ?_
      obtain ⟨ha, hw⟩ := hw
      refine th_aald hx hb hK 6 (by decide) rfl rfl hR ha dX1_like_117 ?_
      obtain ⟨ho, hw⟩ := hw
      refine th_kv hS (th_rV CF hK hSt hR hS ho (ci := 5) rfl (rest := []) (tk_X5_like) (cw_X1_75 CF hK (by decide +kernel)) hw rfl hL.1.1 rfl th_cn (Nat.le_of_ble_eq_true rfl) dX1_like_118 ⟨by show _ ≤ (0 : Nat); omega, by show _ ≤ (0 : Nat); omega⟩) (fun G10 H locs hw hR hS => ?_)
      obtain ⟨x2_11, hx2_11⟩ : ∃ y : Int32, y = x2 + 1 := ⟨_, rfl⟩
      replace hw := hw x2_11 hx2_11
      refine th_iinc hx hb dX1_like_121 hL (k := 2) rfl (v := x2_11) hx2_11.symm (by decide) rfl (fun ls hL => ?_)
      refine lv_goto hx hb dX1_like_124 (tgt := 101) (by decide) ?_
      exact ih hR hS (hL.sub [1, 2, 0] rfl) hw ⟨by omega, by omega⟩
theorem tk_X1_like_b99 {p : Program} {l : Launch} {e : Env} {s : State} {m : MethodId} {args : Array Value} {below : List Frame} {meth : Method} {c : Code} {D : tD} {B : Nat} (E : th_E p m c cX1_like 3 s args RX1 meth ((Option.none : Option Jvm.ClassFile.FieldType)) "like" D B) {Q : aH → Prop} {G : aH} {H : Heap} {locs : List Loc} {cells slots : Nat} {ls : Array Slot} {a0 : Nat} {a1 : Nat} (hR : th_H D B G H) (hS : va_S (th_A B) s.heap H locs) (hL : th_L ls 3 [(0, rv a0), (1, rv a1)]) (hw : tw_X1_like_b99 Q G a0 a1) (hc : cells + (0) ≤ 0 ∧ slots + (0) ≤ 0) : W p l e rm_X1_like s m args below meth c H locs cells slots (MQ below (th_Qv D B Q) args s 0 0 (th_A B)) (F0 m 99 ls []) := by
  have CF := E.1; have hx := CF.1; have hb := CF.2.1; have hret := E.2.1; have hlk := E.2.2.1; have hnm := E.2.2.2.1; have hK := E.2.2.2.2.1; have hSt := E.2.2.2.2.2
  unfold tw_X1_like_b99 at hw
  refine lv_iconst hx hb dX1_like_99 (v := 0) rfl ?_
  refine th_istore_n hx hb dX1_like_100 rfl hL (by decide) rfl (fun ls hL => ?_)
  obtain ⟨n9, hw⟩ := hw
  exact tk_X1_like_b101 E n9 hR hS (hL.sub [1, 2, 0] rfl) hw ⟨by omega, by omega⟩
theorem tk_X1_like_b73 {p : Program} {l : Launch} {e : Env} {s : State} {m : MethodId} {args : Array Value} {below : List Frame} {meth : Method} {c : Code} {D : tD} {B : Nat} (E : th_E p m c cX1_like 3 s args RX1 meth ((Option.none : Option Jvm.ClassFile.FieldType)) "like" D B) {Q : aH → Prop} : ∀ (n : Nat) {G : aH} {H : Heap} {locs : List Loc} {cells slots : Nat} {ls : Array Slot} {a0 : Nat} {a1 : Nat} {x2 : Int32} (hR : th_H D B G H) (hS : va_S (th_A B) s.heap H locs) (hL : th_L ls 3 [(0, rv a0), (1, rv a1), (2, .int x2)]) (hw : tw_X1_like_b73 Q n G a0 a1 x2) (hc : cells + (0) ≤ 0 ∧ slots + (0) ≤ 0), W p l e rm_X1_like s m args below meth c H locs cells slots (MQ below (th_Qv D B Q) args s 0 0 (th_A B)) (F0 m 73 ls []) := by
  have CF := E.1; have hx := CF.1; have hb := CF.2.1; have hret := E.2.1; have hlk := E.2.2.1; have hnm := E.2.2.2.1; have hK := E.2.2.2.2.1; have hSt := E.2.2.2.2.2
  intro n
  induction n with
  | zero => intro _ _ _ _ _ _ _ _ _ _ _ _ hw; exact hw.elim
  | succ n ih =>
    intro G H locs cells slots ls a0 a1 x2 hR hS hL hw hc
    rw [tws_X1_like_b73] at hw
    refine lv_iload_n hx hb dX1_like_73 rfl (lv_at hL.1 2 rfl) ?_
    refine lv_iconst hx hb dX1_like_74 (v := 4) rfl ?_
    refine lv_icmp_ge hx hb dX1_like_75 (tgt := 99) (by decide) (fun h => ?_) (fun h => ?_)
    · replace hw := hw.1 h
      exact tk_X1_like_b99 E hR hS (hL.sub [0, 1] rfl) hw ⟨by omega, by omega⟩
    · replace hw := hw.2 h
      refine th_aload_n hx hb dX1_like_78 rfl (lv_at hL.1 0 rfl) ?_
      obtain ⟨ho, hw⟩ := hw
      refine fg_X1_19 CF hK hR ho dX1_like_79 ?_
      refine lv_iload_n hx hb dX1_like_82 rfl (lv_at hL.1 2 rfl) ?_
      obtain ⟨ha, hw⟩ := hw
      refine th_aald hx hb hK 5 (by decide) rfl rfl hR ha dX1_like_83 ?_
      refine th_aload_n hx hb dX1_like_84 rfl (lv_at hL.1 1 rfl) ?_
      obtain ⟨ho, hw⟩ := hw
      refine fg_X1_19 CF hK hR ho dX1_like_85 ?_
      refine lv_iload_n hx hb dX1_like_88 rfl (lv_at hL.1 2 rfl) ?_
      obtain ⟨ha, hw⟩ := hw
      refine th_aald hx hb hK 5 (by decide) rfl rfl hR ha dX1_like_89 ?_
      obtain ⟨ho, hw⟩ := hw
      refine th_kv hS (th_rV CF hK hSt hR hS ho (ci := 3) rfl (rest := []) (tk_X3_like) (cw_X1_72 CF hK (by decide +kernel)) hw rfl hL.1.1 rfl th_cn (Nat.le_of_ble_eq_true rfl) dX1_like_90 ⟨by show _ ≤ (0 : Nat); omega, by show _ ≤ (0 : Nat); omega⟩) (fun G12 H locs hw hR hS => ?_)
      obtain ⟨x2_13, hx2_13⟩ : ∃ y : Int32, y = x2 + 1 := ⟨_, rfl⟩
      replace hw := hw x2_13 hx2_13
      refine th_iinc hx hb dX1_like_93 hL (k := 2) rfl (v := x2_13) hx2_13.symm (by decide) rfl (fun ls hL => ?_)
      refine lv_goto hx hb dX1_like_96 (tgt := 73) (by decide) ?_
      exact ih hR hS (hL.sub [1, 2, 0] rfl) hw ⟨by omega, by omega⟩
theorem tk_X1_like_b71 {p : Program} {l : Launch} {e : Env} {s : State} {m : MethodId} {args : Array Value} {below : List Frame} {meth : Method} {c : Code} {D : tD} {B : Nat} (E : th_E p m c cX1_like 3 s args RX1 meth ((Option.none : Option Jvm.ClassFile.FieldType)) "like" D B) {Q : aH → Prop} {G : aH} {H : Heap} {locs : List Loc} {cells slots : Nat} {ls : Array Slot} {a0 : Nat} {a1 : Nat} (hR : th_H D B G H) (hS : va_S (th_A B) s.heap H locs) (hL : th_L ls 3 [(0, rv a0), (1, rv a1)]) (hw : tw_X1_like_b71 Q G a0 a1) (hc : cells + (0) ≤ 0 ∧ slots + (0) ≤ 0) : W p l e rm_X1_like s m args below meth c H locs cells slots (MQ below (th_Qv D B Q) args s 0 0 (th_A B)) (F0 m 71 ls []) := by
  have CF := E.1; have hx := CF.1; have hb := CF.2.1; have hret := E.2.1; have hlk := E.2.2.1; have hnm := E.2.2.2.1; have hK := E.2.2.2.2.1; have hSt := E.2.2.2.2.2
  unfold tw_X1_like_b71 at hw
  refine lv_iconst hx hb dX1_like_71 (v := 0) rfl ?_
  refine th_istore_n hx hb dX1_like_72 rfl hL (by decide) rfl (fun ls hL => ?_)
  obtain ⟨n9, hw⟩ := hw
  exact tk_X1_like_b73 E n9 hR hS (hL.sub [1, 2, 0] rfl) hw ⟨by omega, by omega⟩
theorem tk_X1_like_b42 {p : Program} {l : Launch} {e : Env} {s : State} {m : MethodId} {args : Array Value} {below : List Frame} {meth : Method} {c : Code} {D : tD} {B : Nat} (E : th_E p m c cX1_like 3 s args RX1 meth ((Option.none : Option Jvm.ClassFile.FieldType)) "like" D B) {Q : aH → Prop} : ∀ (n : Nat) {G : aH} {H : Heap} {locs : List Loc} {cells slots : Nat} {ls : Array Slot} {a0 : Nat} {a1 : Nat} {x2 : Int32} (hR : th_H D B G H) (hS : va_S (th_A B) s.heap H locs) (hL : th_L ls 3 [(0, rv a0), (1, rv a1), (2, .int x2)]) (hw : tw_X1_like_b42 Q n G a0 a1 x2) (hc : cells + (0) ≤ 0 ∧ slots + (0) ≤ 0), W p l e rm_X1_like s m args below meth c H locs cells slots (MQ below (th_Qv D B Q) args s 0 0 (th_A B)) (F0 m 42 ls []) := by
  have CF := E.1; have hx := CF.1; have hb := CF.2.1; have hret := E.2.1; have hlk := E.2.2.1; have hnm := E.2.2.2.1; have hK := E.2.2.2.2.1; have hSt := E.2.2.2.2.2
  intro n
  induction n with
  | zero => intro _ _ _ _ _ _ _ _ _ _ _ _ hw; exact hw.elim
  | succ n ih =>
    intro G H locs cells slots ls a0 a1 x2 hR hS hL hw hc
    rw [tws_X1_like_b42] at hw
    refine lv_iload_n hx hb dX1_like_42 rfl (lv_at hL.1 2 rfl) ?_
    refine th_aload_n hx hb dX1_like_43 rfl (lv_at hL.1 0 rfl) ?_
    obtain ⟨ho, hw⟩ := hw
    refine fg_X1_50 CF hK hR ho dX1_like_44 ?_
    refine lv_icmp_ge hx hb dX1_like_47 (tgt := 71) (by decide) (fun h => ?_) (fun h => ?_)
    · replace hw := hw.1 h
      exact tk_X1_like_b71 E hR hS (hL.sub [0, 1] rfl) hw ⟨by omega, by omega⟩
    · replace hw := hw.2 h
      refine th_aload_n hx hb dX1_like_50 rfl (lv_at hL.1 0 rfl) ?_
      obtain ⟨ho, hw⟩ := hw
      refine fg_X1_11 CF hK hR ho dX1_like_51 ?_
      refine lv_iload_n hx hb dX1_like_54 rfl (lv_at hL.1 2 rfl) ?_
      obtain ⟨ha, hw⟩ := hw
      refine th_aald hx hb hK 4 (by decide) rfl rfl hR ha dX1_like_55 ?_
      refine th_aload_n hx hb dX1_like_56 rfl (lv_at hL.1 1 rfl) ?_
      obtain ⟨ho, hw⟩ := hw
      refine fg_X1_11 CF hK hR ho dX1_like_57 ?_
      refine lv_iload_n hx hb dX1_like_60 rfl (lv_at hL.1 2 rfl) ?_
      obtain ⟨ha, hw⟩ := hw
      refine th_aald hx hb hK 4 (by decide) rfl rfl hR ha dX1_like_61 ?_
      obtain ⟨ho, hw⟩ := hw
      refine th_kv hS (th_rV CF hK hSt hR hS ho (ci := 2) rfl (rest := []) (tk_X2_like) (cw_X1_68 CF hK (by decide +kernel)) hw rfl hL.1.1 rfl th_cn (Nat.le_of_ble_eq_true rfl) dX1_like_62 ⟨by show _ ≤ (0 : Nat); omega, by show _ ≤ (0 : Nat); omega⟩) (fun G14 H locs hw hR hS => ?_)
      obtain ⟨x2_15, hx2_15⟩ : ∃ y : Int32, y = x2 + 1 := ⟨_, rfl⟩
      replace hw := hw x2_15 hx2_15
      refine th_iinc hx hb dX1_like_65 hL (k := 2) rfl (v := x2_15) hx2_15.symm (by decide) rfl (fun ls hL => ?_)
      refine lv_goto hx hb dX1_like_68 (tgt := 42) (by decide) ?_
      exact ih hR hS (hL.sub [1, 2, 0] rfl) hw ⟨by omega, by omega⟩
theorem tk_X1_like {l : Launch} {D : tD} {B : Nat} {Q : aH → Prop} {a0 : Nat} {a1 : Nat} : Met l yX1_like (ws_ yX1_like cX1_like 3 ((Option.none : Option Jvm.ClassFile.FieldType))) rm_X1_like (th_P D B [rv a0, rv a1] (fun G => tw_X1_like Q G a0 a1)) (th_Qv D B Q) 0 0 (th_A B) :=
  th_ofW (by decide +kernel) (th_cr (th_cr th_cn)) (Nat.le_of_ble_eq_true rfl) (fun p e s m args below meth c CF hret hlk hnm hK hSt G ls hR hS hw hL => by
    have E : th_E p m c cX1_like 3 s args RX1 meth ((Option.none : Option Jvm.ClassFile.FieldType)) "like" D B := ⟨CF, hret, hlk, hnm, hK, hSt⟩
    have hx := CF.1; have hb := CF.2.1
    have hL : th_L ls 3 [(0, rv a0), (1, rv a1)] := hL
    unfold tw_X1_like at hw
    refine th_aload_n hx hb dX1_like_0 rfl (lv_at hL.1 0 rfl) ?_
    refine th_aload_n hx hb dX1_like_1 rfl (lv_at hL.1 1 rfl) ?_
    obtain ⟨ho, hw⟩ := hw
    refine fg_X1_50 CF hK hR ho dX1_like_2 ?_
    obtain ⟨ho, hw⟩ := hw
    refine fp_X1_50 CF hK hR hS ho dX1_like_5 (fun G1 H locs hG hR hS => ?_)
    replace hw := hw G1 hG
    refine th_aload_n hx hb dX1_like_8 rfl (lv_at hL.1 0 rfl) ?_
    refine th_aload_n hx hb dX1_like_9 rfl (lv_at hL.1 1 rfl) ?_
    obtain ⟨ho, hw⟩ := hw
    refine fg_X1_41 CF hK hR ho dX1_like_10 ?_
    obtain ⟨ho, hw⟩ := hw
    refine fp_X1_41 CF hK hR hS ho dX1_like_13 (fun G2 H locs hG hR hS => ?_)
    replace hw := hw G2 hG
    refine th_aload_n hx hb dX1_like_16 rfl (lv_at hL.1 0 rfl) ?_
    refine th_aload_n hx hb dX1_like_17 rfl (lv_at hL.1 1 rfl) ?_
    obtain ⟨ho, hw⟩ := hw
    refine fg_X1_53 CF hK hR ho dX1_like_18 ?_
    obtain ⟨ho, hw⟩ := hw
    refine fp_X1_53 CF hK hR hS ho dX1_like_21 (fun G3 H locs hG hR hS => ?_)
    replace hw := hw G3 hG
    refine th_aload_n hx hb dX1_like_24 rfl (lv_at hL.1 0 rfl) ?_
    refine th_aload_n hx hb dX1_like_25 rfl (lv_at hL.1 1 rfl) ?_
    obtain ⟨ho, hw⟩ := hw
    refine fg_X1_56 CF hK hR ho dX1_like_26 ?_
    obtain ⟨ho, hw⟩ := hw
    refine fp_X1_56 CF hK hR hS ho dX1_like_29 (fun G4 H locs hG hR hS => ?_)
    replace hw := hw G4 hG
    refine th_aload_n hx hb dX1_like_32 rfl (lv_at hL.1 0 rfl) ?_
    refine th_aload_n hx hb dX1_like_33 rfl (lv_at hL.1 1 rfl) ?_
    obtain ⟨ho, hw⟩ := hw
    refine fg_X1_59 CF hK hR ho dX1_like_34 ?_
    obtain ⟨ho, hw⟩ := hw
    refine fp_X1_59 CF hK hR hS ho dX1_like_37 (fun G5 H locs hG hR hS => ?_)
    replace hw := hw G5 hG
    refine lv_iconst hx hb dX1_like_40 (v := 0) rfl ?_
    refine th_istore_n hx hb dX1_like_41 rfl hL (by decide) rfl (fun ls hL => ?_)
    obtain ⟨n9, hw⟩ := hw
    exact tk_X1_like_b42 E n9 hR hS (hL.sub [1, 2, 0] rfl) hw ⟨by omega, by omega⟩)
