/-! WALKS: X0_save J8_checkIndex J2_checkIndex J0_charAt J1_charAt X0_isHere X0_takesIf X11_init X0_digit X0_number X0_numberBehind X12_init X13_init X0_digitBehind X14_init X15_init X0_kindSign X16_init X17_init X18_init X19_init X0_shortCommand X0_command -/
set_option maxRecDepth 100000
def tw_X0_save (Q : Int32 → aH → Prop) (G : aH) (a0 : Nat) : Prop :=
  th_o G a0 0 ∧ (
  th_o G a0 0 ∧ (
  th_o G (a_mr G a0 3) 1 ∧ (
  (tw_X1_like
    (fun (G1 : aH) =>
      th_o G1 a0 0 ∧ (
      ∀ G2 : aH, G2 = a_si G1 a0 4 1 → 
      th_o G2 a0 0 ∧ (
      th_o G2 (a_mr G2 a0 0) 1 ∧ (
      Q (a_mi G2 (a_mr G2 a0 0) 1) G2))))
    G (a_mr G a0 3) (a_mr G a0 0)))))
theorem tk_X0_save {l : Launch} {D : tD} {B : Nat} {Q : Int32 → aH → Prop} {a0 : Nat} : Met l yX0_save (ws_ yX0_save cX0_save 1 ((Option.some Jvm.ClassFile.FieldType.int))) rm_X0_save (th_P D B [rv a0] (fun G => tw_X0_save Q G a0)) (th_Qi D B Q) 0 0 (th_A B) :=
  th_ofW (by decide +kernel) (th_cr th_cn) (Nat.le_of_ble_eq_true rfl) (fun p e s m args below meth c CF hret hlk hnm hK hSt G ls hR hS hw hL => by
    have E : th_E p m c cX0_save 1 s args RX0 meth ((Option.some Jvm.ClassFile.FieldType.int)) "save" D B := ⟨CF, hret, hlk, hnm, hK, hSt⟩
    have hx := CF.1; have hb := CF.2.1
    have hL : th_L ls 1 [(0, rv a0)] := hL
    unfold tw_X0_save at hw
    refine th_aload_n hx hb dX0_save_0 rfl (lv_at hL.1 0 rfl) ?_
    obtain ⟨ho, hw⟩ := hw
    refine fg_X0_32 CF hK hR ho dX0_save_1 ?_
    refine th_aload_n hx hb dX0_save_4 rfl (lv_at hL.1 0 rfl) ?_
    obtain ⟨ho, hw⟩ := hw
    refine fg_X0_22 CF hK hR ho dX0_save_5 ?_
    obtain ⟨ho, hw⟩ := hw
    refine th_kv hS (th_rV CF hK hSt hR hS ho (ci := 1) rfl (rest := []) (tk_X1_like) (cw_X0_59 CF hK (by decide +kernel)) hw rfl hL.1.1 rfl th_cn (Nat.le_of_ble_eq_true rfl) dX0_save_8 ⟨by show _ ≤ (0 : Nat); omega, by show _ ≤ (0 : Nat); omega⟩) (fun G1 H locs hw hR hS => ?_)
    refine th_aload_n hx hb dX0_save_11 rfl (lv_at hL.1 0 rfl) ?_
    refine lv_iconst hx hb dX0_save_12 (v := 1) rfl ?_
    obtain ⟨ho, hw⟩ := hw
    refine fp_X0_483 CF hK hR hS (Or.inr rfl) ho dX0_save_13 (fun G2 H locs hG hR hS => ?_)
    replace hw := hw G2 hG
    refine th_aload_n hx hb dX0_save_16 rfl (lv_at hL.1 0 rfl) ?_
    obtain ⟨ho, hw⟩ := hw
    refine fg_X0_22 CF hK hR ho dX0_save_17 ?_
    obtain ⟨ho, hw⟩ := hw
    refine fg_X0_79 CF hK hR ho dX0_save_20 ?_
    exact th_iret hx hb hret hlk hR hS hw (by omega) (by omega) dX0_save_23)
def tw_J8_checkIndex (Q : Int32 → aH → Prop) (G : aH) (x0 : Int32) (x1 : Int32) (v2 : Value) : Prop :=
  (x0 < 0 →
    False) ∧
  (¬ x0 < 0 →
    (x0 < x1 →
      Q x0 G) ∧
    (¬ x0 < x1 →
      False))
theorem tk_J8_checkIndex {l : Launch} {D : tD} {B : Nat} {Q : Int32 → aH → Prop} {x0 : Int32} {x1 : Int32} {v2 : Value} (hv2 : th_nr v2) : Met l yJ8_checkIndex (ws_ yJ8_checkIndex cJ8_checkIndex 3 ((Option.some Jvm.ClassFile.FieldType.int))) rm_J8_checkIndex (th_P D B [.int x0, .int x1, v2] (fun G => tw_J8_checkIndex Q G x0 x1 v2)) (th_Qi D B Q) 0 0 (th_A B) :=
  th_ofW (by decide +kernel) (th_ci (th_ci (th_cg (th_nr.cat hv2) th_cn))) (Nat.le_of_ble_eq_true rfl) (fun p e s m args below meth c CF hret hlk hnm hK hSt G ls hR hS hw hL => by
    have E : th_E p m c cJ8_checkIndex 3 s args RJ8 meth ((Option.some Jvm.ClassFile.FieldType.int)) "checkIndex" D B := ⟨CF, hret, hlk, hnm, hK, hSt⟩
    have hx := CF.1; have hb := CF.2.1
    have hL : th_L ls 3 [(0, .int x0), (1, .int x1), (2, v2)] := hL
    unfold tw_J8_checkIndex at hw
    refine lv_iload_n hx hb dJ8_checkIndex_0 rfl (lv_at hL.1 0 rfl) ?_
    refine lv_if_lt hx hb dJ8_checkIndex_1 (tgt := 9) (by decide) (fun h => ?_) (fun h => ?_)
    · replace hw := hw.1 h
      exact hw.elim
    · replace hw := hw.2 h
      refine lv_iload_n hx hb dJ8_checkIndex_4 rfl (lv_at hL.1 0 rfl) ?_
      refine lv_iload_n hx hb dJ8_checkIndex_5 rfl (lv_at hL.1 1 rfl) ?_
      refine lv_icmp_lt hx hb dJ8_checkIndex_6 (tgt := 16) (by decide) (fun h => ?_) (fun h => ?_)
      · replace hw := hw.1 h
        refine lv_iload_n hx hb dJ8_checkIndex_16 rfl (lv_at hL.1 0 rfl) ?_
        exact th_iret hx hb hret hlk hR hS hw (by omega) (by omega) dJ8_checkIndex_17
      · replace hw := hw.2 h
        exact hw.elim)
def tw_J2_checkIndex (Q : aH → Prop) (G : aH) (x0 : Int32) (x1 : Int32) : Prop :=
  ∀ v1 : Value, th_nr v1 → 
  (tw_J8_checkIndex
    (fun (r3 : Int32) (G2 : aH) =>
      Q G2)
    G x0 x1 v1)
theorem tk_J2_checkIndex {l : Launch} {D : tD} {B : Nat} {Q : aH → Prop} {x0 : Int32} {x1 : Int32} : Met l yJ2_checkIndex (ws_ yJ2_checkIndex cJ2_checkIndex 2 ((Option.none : Option Jvm.ClassFile.FieldType))) rm_J2_checkIndex (th_P D B [.int x0, .int x1] (fun G => tw_J2_checkIndex Q G x0 x1)) (th_Qv D B Q) 0 0 (th_A B) :=
  th_ofW (by decide +kernel) (th_ci (th_ci th_cn)) (Nat.le_of_ble_eq_true rfl) (fun p e s m args below meth c CF hret hlk hnm hK hSt G ls hR hS hw hL => by
    have E : th_E p m c cJ2_checkIndex 2 s args RJ2 meth ((Option.none : Option Jvm.ClassFile.FieldType)) "checkIndex" D B := ⟨CF, hret, hlk, hnm, hK, hSt⟩
    have hx := CF.1; have hb := CF.2.1
    have hL : th_L ls 2 [(0, .int x0), (1, .int x1)] := hL
    unfold tw_J2_checkIndex at hw
    refine lv_iload_n hx hb dJ2_checkIndex_0 rfl (lv_at hL.1 0 rfl) ?_
    refine lv_iload_n hx hb dJ2_checkIndex_1 rfl (lv_at hL.1 1 rfl) ?_
    refine th_getsq hx hb hSt.2.2.2.1 hS CF.2.2.2.1 (CF.2.2.2.2 _ q868) (fun _ h => h) dJ2_checkIndex_2 (fun v1 hv1 => ?_)
    replace hw := hw v1 hv1
    refine th_ki hS (th_rS CF hK hSt hR hS (rest := []) (tk_J8_checkIndex hv1) (cw_J2_1059 CF hK (by decide +kernel)) hw rfl hL.1.1 rfl th_cn (Nat.le_of_ble_eq_true rfl) dJ2_checkIndex_5 ⟨by show _ ≤ (0 : Nat); omega, by show _ ≤ (0 : Nat); omega⟩) (fun r3 G2 H locs hw hR hS => ?_)
    refine lv_pop hx hb dJ2_checkIndex_8 rfl ?_
    exact th_vret hx hb hret hlk hR hS hw (by omega) (by omega) dJ2_checkIndex_9)
def tw_J0_charAt (Q : Int32 → aH → Prop) (G : aH) (a0 : Nat) (x1 : Int32) : Prop :=
  th_o G a0 12 ∧ (
  ∀ x2_1 : Int32, x2_1 = a_mi G a0 1 → 
  th_o G a0 12 ∧ (
  ∀ a3_2 : Nat, a3_2 = a_mr G a0 0 → 
  th_o G a0 12 ∧ (
  th_a G a3_2 1 ∧ (
  ∀ x4_3 : Int32, x4_3 = (if (th_len G a3_2) >>> (x2_1 &&& 31) < a_mi G a0 3 then (th_len G a3_2) >>> (x2_1 &&& 31) else a_mi G a0 3) → 
  (tw_J2_checkIndex
    (fun (G4 : aH) =>
      (¬ x2_1 = 0 →
        False) ∧
      (x2_1 = 0 →
        th_ai G4 a3_2 1 x1 ∧ (
        narrow .char (.int ((((a_mi G4 a3_2 x1.toNatClampNeg) &&& 255).toUInt32 % 65536).toInt32)) = .int ((((a_mi G4 a3_2 x1.toNatClampNeg) &&& 255).toUInt32 % 65536).toInt32) ∧ Q ((((a_mi G4 a3_2 x1.toNatClampNeg) &&& 255).toUInt32 % 65536).toInt32) G4)))
    G x1 x4_3)))))
theorem tk_J0_charAt {l : Launch} {D : tD} {B : Nat} {Q : Int32 → aH → Prop} {a0 : Nat} {x1 : Int32} : Met l yJ0_charAt (ws_ yJ0_charAt cJ0_charAt 5 ((Option.some Jvm.ClassFile.FieldType.char))) rm_J0_charAt (th_P D B [rv a0, .int x1] (fun G => tw_J0_charAt Q G a0 x1)) (th_Qi D B Q) 0 0 (th_A B) :=
  th_ofW (by decide +kernel) (th_cr (th_ci th_cn)) (Nat.le_of_ble_eq_true rfl) (fun p e s m args below meth c CF hret hlk hnm hK hSt G ls hR hS hw hL => by
    have E : th_E p m c cJ0_charAt 5 s args RJ0 meth ((Option.some Jvm.ClassFile.FieldType.char)) "charAt" D B := ⟨CF, hret, hlk, hnm, hK, hSt⟩
    have hx := CF.1; have hb := CF.2.1
    have hL : th_L ls 5 [(0, rv a0), (1, .int x1)] := hL
    unfold tw_J0_charAt at hw
    refine th_aload_n hx hb dJ0_charAt_0 rfl (lv_at hL.1 0 rfl) ?_
    obtain ⟨ho, hw⟩ := hw
    refine fg_J0_22 CF hK hR ho dJ0_charAt_1 ?_
    obtain ⟨x2_1, hx2_1⟩ : ∃ y : Int32, y = a_mi G a0 1 := ⟨_, rfl⟩
    replace hw := hw x2_1 hx2_1
    refine th_nmi hx2_1 ?_
    refine th_istore_n hx hb dJ0_charAt_4 rfl hL (by decide) rfl (fun ls hL => ?_)
    refine th_aload_n hx hb dJ0_charAt_5 rfl (lv_at hL.1 1 rfl) ?_
    obtain ⟨ho, hw⟩ := hw
    refine fg_J0_15 CF hK hR ho dJ0_charAt_6 ?_
    obtain ⟨a3_2, ha3_2⟩ : ∃ y : Nat, y = a_mr G a0 0 := ⟨_, rfl⟩
    replace hw := hw a3_2 ha3_2
    refine th_nmr ha3_2 ?_
    refine th_astore_n hx hb dJ0_charAt_9 rfl hL (by decide) rfl (fun ls hL => ?_)
    refine th_aload_n hx hb dJ0_charAt_10 rfl (lv_at hL.1 2 rfl) ?_
    obtain ⟨ho, hw⟩ := hw
    refine fg_J0_79 CF hK hR ho dJ0_charAt_11 ?_
    refine th_aload_n hx hb dJ0_charAt_14 rfl (lv_at hL.1 0 rfl) ?_
    obtain ⟨ha, hw⟩ := hw
    refine th_alen hx hb hK 1 (by decide) hR ha dJ0_charAt_15 ?_
    refine lv_iload_n hx hb dJ0_charAt_16 rfl (lv_at hL.1 1 rfl) ?_
    refine lv_ishr hx hb dJ0_charAt_17 ?_
    refine va_mmin hx hb (CF.2.2.1.trans hL.1.1.symm) CF.2.2.2.1 (CF.2.2.2.2 _ q926) (CF.2.2.2.2 _ q666) (CF.2.2.2.2 _ q119) (CF.2.2.2.2 _ q667) (by decide) (by rw [th_c1.sum th_cn]; exact Nat.le_of_ble_eq_true rfl) (by show _ ≤ (0 : Nat); omega) (by show _ ≤ (0 : Nat); omega) dJ0_charAt_18 ?_
    obtain ⟨x4_3, hx4_3⟩ : ∃ y : Int32, y = (if (th_len G a3_2) >>> (x2_1 &&& 31) < a_mi G a0 3 then (th_len G a3_2) >>> (x2_1 &&& 31) else a_mi G a0 3) := ⟨_, rfl⟩
    replace hw := hw x4_3 hx4_3
    refine th_nmi hx4_3 ?_
    refine th_istore hx hb dJ0_charAt_21 hL (by decide) rfl (fun ls hL => ?_)
    refine lv_iload_n hx hb dJ0_charAt_23 rfl (lv_at hL.1 4 rfl) ?_
    refine lv_iload hx hb dJ0_charAt_24 (lv_at hL.1 0 rfl) ?_
    refine th_kv hS (th_rS CF hK hSt hR hS (rest := []) (tk_J2_checkIndex) (cw_J0_144 CF hK (by decide +kernel)) hw rfl hL.1.1 rfl th_cn (Nat.le_of_ble_eq_true rfl) dJ0_charAt_26 ⟨by show _ ≤ (0 : Nat); omega, by show _ ≤ (0 : Nat); omega⟩) (fun G4 H locs hw hR hS => ?_)
    refine lv_iload_n hx hb dJ0_charAt_29 rfl (lv_at hL.1 2 rfl) ?_
    refine lv_if_ne hx hb dJ0_charAt_30 (tgt := 42) (by decide) (fun h => ?_) (fun h => ?_)
    · replace hw := hw.1 h
      exact hw.elim
    · replace hw := hw.2 h
      refine th_aload_n hx hb dJ0_charAt_33 rfl (lv_at hL.1 1 rfl) ?_
      refine lv_iload_n hx hb dJ0_charAt_34 rfl (lv_at hL.1 4 rfl) ?_
      obtain ⟨ha, hw⟩ := hw
      refine th_bald hx hb hK hR ha dJ0_charAt_35 ?_
      refine lv_sipush hx hb dJ0_charAt_36 (v := 255) rfl ?_
      refine lv_iand hx hb dJ0_charAt_39 ?_
      refine lv_i2c hx hb dJ0_charAt_40 rfl ?_
      exact th_zret .char hx hb hret hw.1 hlk hR hS hw.2 (by omega) (by omega) dJ0_charAt_41)
def tw_J1_charAt (Q : Int32 → aH → Prop) (G : aH) (a0 : Nat) (x1 : Int32) : Prop :=
  th_o G a0 12 ∧ (
  (tw_J0_charAt
    (fun (r2 : Int32) (G1 : aH) =>
      narrow .char (.int r2) = .int r2 ∧ Q r2 G1)
    G a0 x1))
theorem tk_J1_charAt {l : Launch} {D : tD} {B : Nat} {Q : Int32 → aH → Prop} {a0 : Nat} {x1 : Int32} : Met l yJ1_charAt (ws_ yJ1_charAt cJ1_charAt 2 ((Option.some Jvm.ClassFile.FieldType.char))) rm_J1_charAt (th_P D B [rv a0, .int x1] (fun G => tw_J1_charAt Q G a0 x1)) (th_Qi D B Q) 0 0 (th_A B) :=
  th_ofW (by decide +kernel) (th_cr (th_ci th_cn)) (Nat.le_of_ble_eq_true rfl) (fun p e s m args below meth c CF hret hlk hnm hK hSt G ls hR hS hw hL => by
    have E : th_E p m c cJ1_charAt 2 s args RJ1 meth ((Option.some Jvm.ClassFile.FieldType.char)) "charAt" D B := ⟨CF, hret, hlk, hnm, hK, hSt⟩
    have hx := CF.1; have hb := CF.2.1
    have hL : th_L ls 2 [(0, rv a0), (1, .int x1)] := hL
    unfold tw_J1_charAt at hw
    refine th_aload_n hx hb dJ1_charAt_0 rfl (lv_at hL.1 0 rfl) ?_
    refine lv_iload_n hx hb dJ1_charAt_1 rfl (lv_at hL.1 1 rfl) ?_
    obtain ⟨ho, hw⟩ := hw
    refine th_ki hS (th_rSU CF hK hSt hR hS ho (ci := 12) rfl (rest := []) (tk_J0_charAt) (cw_J1_329 CF hK (by decide +kernel)) hw rfl hL.1.1 rfl th_cn (Nat.le_of_ble_eq_true rfl) dJ1_charAt_2 ⟨by show _ ≤ (0 : Nat); omega, by show _ ≤ (0 : Nat); omega⟩) (fun r2 G1 H locs hw hR hS => ?_)
    exact th_zret .char hx hb hret hw.1 hlk hR hS hw.2 (by omega) (by omega) dJ1_charAt_5)
def tw_X0_isHere (Q : Int32 → aH → Prop) (G : aH) (a0 : Nat) (x1 : Int32) (x2 : Int32) : Prop :=
  th_o G a0 0 ∧ (
  th_o G a0 0 ∧ (
  th_o G (a_mr G a0 9) 12 ∧ (
  (tw_J1_length
    (fun (r2 : Int32) (G1 : aH) =>
      (r2 ≤ a_mi G a0 13 →
        Q 0 G1) ∧
      (¬ r2 ≤ a_mi G a0 13 →
        th_o G1 a0 0 ∧ (
        th_o G1 a0 0 ∧ (
        th_o G1 (a_mr G1 a0 9) 12 ∧ (
        (tw_J1_charAt
          (fun (r4 : Int32) (G3 : aH) =>
            (tw_X0_within
              (fun (r6 : Int32) (G5 : aH) =>
                (r6 = 0 →
                  Q 0 G5) ∧
                (¬ r6 = 0 →
                  Q 1 G5))
              G3 r4 x1 x2))
          G1 (a_mr G1 a0 9) (a_mi G1 a0 13)))))))
    G (a_mr G a0 9)))))
theorem tk_X0_isHere {l : Launch} {D : tD} {B : Nat} {Q : Int32 → aH → Prop} {a0 : Nat} {x1 : Int32} {x2 : Int32} : Met l yX0_isHere (ws_ yX0_isHere cX0_isHere 3 ((Option.some Jvm.ClassFile.FieldType.boolean))) rm_X0_isHere (th_P D B [rv a0, .int x1, .int x2] (fun G => tw_X0_isHere Q G a0 x1 x2)) (th_Qi D B Q) 0 0 (th_A B) :=
  th_ofW (by decide +kernel) (th_cr (th_ci (th_ci th_cn))) (Nat.le_of_ble_eq_true rfl) (fun p e s m args below meth c CF hret hlk hnm hK hSt G ls hR hS hw hL => by
    have E : th_E p m c cX0_isHere 3 s args RX0 meth ((Option.some Jvm.ClassFile.FieldType.boolean)) "isHere" D B := ⟨CF, hret, hlk, hnm, hK, hSt⟩
    have hx := CF.1; have hb := CF.2.1
    have hL : th_L ls 3 [(0, rv a0), (1, .int x1), (2, .int x2)] := hL
    unfold tw_X0_isHere at hw
    refine th_aload_n hx hb dX0_isHere_0 rfl (lv_at hL.1 0 rfl) ?_
    obtain ⟨ho, hw⟩ := hw
    refine fg_X0_293 CF hK hR ho dX0_isHere_1 ?_
    refine th_aload_n hx hb dX0_isHere_4 rfl (lv_at hL.1 0 rfl) ?_
    obtain ⟨ho, hw⟩ := hw
    refine fg_X0_46 CF hK hR ho dX0_isHere_5 ?_
    obtain ⟨ho, hw⟩ := hw
    refine th_ki hS (th_rV CF hK hSt hR hS ho (ci := 12) rfl (rest := [.int (a_mi G a0 13)]) (tk_J1_length) (cw_X0_286 CF hK (by decide +kernel)) hw rfl hL.1.1 rfl (th_ci th_cn) (Nat.le_of_ble_eq_true rfl) dX0_isHere_8 ⟨by show _ ≤ (0 : Nat); omega, by show _ ≤ (0 : Nat); omega⟩) (fun r2 G1 H locs hw hR hS => ?_)
    refine lv_icmp_ge hx hb dX0_isHere_11 (tgt := 37) (by decide) (fun h => ?_) (fun h => ?_)
    · replace hw := hw.1 h
      refine lv_iconst hx hb dX0_isHere_37 (v := 0) rfl ?_
      exact th_zret .boolean hx hb hret rfl hlk hR hS hw (by omega) (by omega) dX0_isHere_38
    · replace hw := hw.2 h
      refine th_aload_n hx hb dX0_isHere_14 rfl (lv_at hL.1 0 rfl) ?_
      obtain ⟨ho, hw⟩ := hw
      refine fg_X0_46 CF hK hR ho dX0_isHere_15 ?_
      refine th_aload_n hx hb dX0_isHere_18 rfl (lv_at hL.1 0 rfl) ?_
      obtain ⟨ho, hw⟩ := hw
      refine fg_X0_293 CF hK hR ho dX0_isHere_19 ?_
      obtain ⟨ho, hw⟩ := hw
      refine th_ki hS (th_rV CF hK hSt hR hS ho (ci := 12) rfl (rest := []) (tk_J1_charAt) (cw_X0_296 CF hK (by decide +kernel)) hw rfl hL.1.1 rfl th_cn (Nat.le_of_ble_eq_true rfl) dX0_isHere_22 ⟨by show _ ≤ (0 : Nat); omega, by show _ ≤ (0 : Nat); omega⟩) (fun r4 G3 H locs hw hR hS => ?_)
      refine lv_iload_n hx hb dX0_isHere_25 rfl (lv_at hL.1 1 rfl) ?_
      refine lv_iload_n hx hb dX0_isHere_26 rfl (lv_at hL.1 2 rfl) ?_
      refine th_ki hS (th_rS CF hK hSt hR hS (rest := []) (tk_X0_within) (cw_X0_82 CF hK (by decide +kernel)) hw rfl hL.1.1 rfl th_cn (Nat.le_of_ble_eq_true rfl) dX0_isHere_27 ⟨by show _ ≤ (0 : Nat); omega, by show _ ≤ (0 : Nat); omega⟩) (fun r6 G5 H locs hw hR hS => ?_)
      refine lv_if_eq hx hb dX0_isHere_30 (tgt := 37) (by decide) (fun h => ?_) (fun h => ?_)
      · replace hw := hw.1 h
        refine lv_iconst hx hb dX0_isHere_37 (v := 0) rfl ?_
        exact th_zret .boolean hx hb hret rfl hlk hR hS hw (by omega) (by omega) dX0_isHere_38
      · replace hw := hw.2 h
        refine lv_iconst hx hb dX0_isHere_33 (v := 1) rfl ?_
        refine lv_goto hx hb dX0_isHere_34 (tgt := 38) (by decide) ?_
        exact th_zret .boolean hx hb hret rfl hlk hR hS hw (by omega) (by omega) dX0_isHere_38)
def tw_X0_takesIf_b21 (Q : Int32 → aH → Prop) (G : aH) (x2 : Int32) (tx0 : Int32) (tx1 : Int32) (ta2 : Nat) : Prop :=
  th_o G ta2 0 ∧ (
  ∀ G3 : aH, G3 = a_si G ta2 13 (tx1 + tx0) → 
  narrow .boolean (.int x2) = .int x2 ∧ Q x2 G3)
def tw_X0_takesIf (Q : Int32 → aH → Prop) (G : aH) (a0 : Nat) (x1 : Int32) : Prop :=
  th_o G a0 0 ∧ (
  (tw_X0_isHere
    (fun (r2 : Int32) (G1 : aH) =>
      th_o G1 a0 0 ∧ (
      (r2 = 0 →
        tw_X0_takesIf_b21 Q G1 r2 0 (a_mi G1 a0 13) a0) ∧
      (¬ r2 = 0 →
        tw_X0_takesIf_b21 Q G1 r2 1 (a_mi G1 a0 13) a0)))
    G a0 x1 x1))
theorem tk_X0_takesIf_b21 {p : Program} {l : Launch} {e : Env} {s : State} {m : MethodId} {args : Array Value} {below : List Frame} {meth : Method} {c : Code} {D : tD} {B : Nat} (E : th_E p m c cX0_takesIf 3 s args RX0 meth ((Option.some Jvm.ClassFile.FieldType.boolean)) "takesIf" D B) {Q : Int32 → aH → Prop} {G : aH} {H : Heap} {locs : List Loc} {cells slots : Nat} {ls : Array Slot} {x2 : Int32} {tx0 : Int32} {tx1 : Int32} {ta2 : Nat} (hR : th_H D B G H) (hS : va_S (th_A B) s.heap H locs) (hL : th_L ls 3 [(2, .int x2)]) (hw : tw_X0_takesIf_b21 Q G x2 tx0 tx1 ta2) (hc : cells + (0) ≤ 0 ∧ slots + (0) ≤ 0) : W p l e rm_X0_takesIf s m args below meth c H locs cells slots (MQ below (th_Qi D B Q) args s 0 0 (th_A B)) (F0 m 21 ls [.int tx0, .int tx1, rv ta2]) := by
  have CF := E.1; have hx := CF.1; have hb := CF.2.1; have hret := E.2.1; have hlk := E.2.2.1; have hnm := E.2.2.2.1; have hK := E.2.2.2.2.1; have hSt := E.2.2.2.2.2
  unfold tw_X0_takesIf_b21 at hw
  refine lv_iadd hx hb dX0_takesIf_21 ?_
  obtain ⟨ho, hw⟩ := hw
  refine fp_X0_293 CF hK hR hS ho dX0_takesIf_22 (fun G3 H locs hG hR hS => ?_)
  replace hw := hw G3 hG
  refine lv_iload_n hx hb dX0_takesIf_25 rfl (lv_at hL.1 0 rfl) ?_
  exact th_zret .boolean hx hb hret hw.1 hlk hR hS hw.2 (by omega) (by omega) dX0_takesIf_26
theorem tk_X0_takesIf {l : Launch} {D : tD} {B : Nat} {Q : Int32 → aH → Prop} {a0 : Nat} {x1 : Int32} : Met l yX0_takesIf (ws_ yX0_takesIf cX0_takesIf 3 ((Option.some Jvm.ClassFile.FieldType.boolean))) rm_X0_takesIf (th_P D B [rv a0, .int x1] (fun G => tw_X0_takesIf Q G a0 x1)) (th_Qi D B Q) 0 0 (th_A B) :=
  th_ofW (by decide +kernel) (th_cr (th_ci th_cn)) (Nat.le_of_ble_eq_true rfl) (fun p e s m args below meth c CF hret hlk hnm hK hSt G ls hR hS hw hL => by
    have E : th_E p m c cX0_takesIf 3 s args RX0 meth ((Option.some Jvm.ClassFile.FieldType.boolean)) "takesIf" D B := ⟨CF, hret, hlk, hnm, hK, hSt⟩
    have hx := CF.1; have hb := CF.2.1
    have hL : th_L ls 3 [(0, rv a0), (1, .int x1)] := hL
    unfold tw_X0_takesIf at hw
    refine th_aload_n hx hb dX0_takesIf_0 rfl (lv_at hL.1 0 rfl) ?_
    refine lv_iload_n hx hb dX0_takesIf_1 rfl (lv_at hL.1 1 rfl) ?_
    refine lv_iload_n hx hb dX0_takesIf_2 rfl (lv_at hL.1 1 rfl) ?_
    obtain ⟨ho, hw⟩ := hw
    refine th_ki hS (th_rV CF hK hSt hR hS ho (ci := 0) rfl (rest := []) (tk_X0_isHere) (cw_X0_300 CF hK (by decide +kernel)) hw rfl hL.1.1 rfl th_cn (Nat.le_of_ble_eq_true rfl) dX0_takesIf_3 ⟨by show _ ≤ (0 : Nat); omega, by show _ ≤ (0 : Nat); omega⟩) (fun r2 G1 H locs hw hR hS => ?_)
    refine th_istore_n hx hb dX0_takesIf_6 rfl hL (by decide) rfl (fun ls hL => ?_)
    refine th_aload_n hx hb dX0_takesIf_7 rfl (lv_at hL.1 1 rfl) ?_
    refine lv_dup hx hb dX0_takesIf_8 (rv_cat _) ?_
    obtain ⟨ho, hw⟩ := hw
    refine fg_X0_293 CF hK hR ho dX0_takesIf_9 ?_
    refine lv_iload_n hx hb dX0_takesIf_12 rfl (lv_at hL.1 0 rfl) ?_
    refine lv_if_eq hx hb dX0_takesIf_13 (tgt := 20) (by decide) (fun h => ?_) (fun h => ?_)
    · replace hw := hw.1 h
      refine lv_iconst hx hb dX0_takesIf_20 (v := 0) rfl ?_
      exact tk_X0_takesIf_b21 E hR hS (hL.sub [0] rfl) hw ⟨by omega, by omega⟩
    · replace hw := hw.2 h
      refine lv_iconst hx hb dX0_takesIf_16 (v := 1) rfl ?_
      refine lv_goto hx hb dX0_takesIf_17 (tgt := 21) (by decide) ?_
      exact tk_X0_takesIf_b21 E hR hS (hL.sub [0] rfl) hw ⟨by omega, by omega⟩)
def tw_X11_init (Q : aH → Prop) (G : aH) (a0 : Nat) : Prop :=
  (a_sh G a0).1 ≠ 0 ∧ (
  (tw_J10_init
    (fun (G1 : aH) =>
      Q G1)
    G a0 0 0 0 0))
theorem tk_X11_init {l : Launch} {D : tD} {B : Nat} {Q : aH → Prop} {a0 : Nat} : Met l yX11_init (ws_ yX11_init cX11_init 1 ((Option.none : Option Jvm.ClassFile.FieldType))) rm_X11_init (th_P D B [rv a0] (fun G => tw_X11_init Q G a0)) (th_Qv D B Q) 0 0 (th_A B) :=
  th_ofW (by decide +kernel) (th_cr th_cn) (Nat.le_of_ble_eq_true rfl) (fun p e s m args below meth c CF hret hlk hnm hK hSt G ls hR hS hw hL => by
    have E : th_E p m c cX11_init 1 s args RX11 meth ((Option.none : Option Jvm.ClassFile.FieldType)) "<init>" D B := ⟨CF, hret, hlk, hnm, hK, hSt⟩
    have hx := CF.1; have hb := CF.2.1
    have hL : th_L ls 1 [(0, rv a0)] := hL
    unfold tw_X11_init at hw
    refine th_aload_n hx hb dX11_init_0 rfl (lv_at hL.1 0 rfl) ?_
    refine th_null hx hb dX11_init_1 ?_
    refine th_null hx hb dX11_init_2 ?_
    refine lv_iconst hx hb dX11_init_3 (v := 0) rfl ?_
    refine lv_iconst hx hb dX11_init_4 (v := 0) rfl ?_
    obtain ⟨h0, hw⟩ := hw
    refine th_kv hS (th_rI CF hK hSt hR hS h0 (rest := []) (tk_J10_init) (cw_X11_1 CF hK (by decide +kernel)) hw rfl hL.1.1 rfl th_cn (Nat.le_of_ble_eq_true rfl) dX11_init_5 ⟨by show _ ≤ (0 : Nat); omega, by show _ ≤ (0 : Nat); omega⟩) (fun G1 H locs hw hR hS => ?_)
    exact th_vret hx hb hret hlk hR hS hw (by omega) (by omega) dX11_init_8)
def tw_X0_digit (Q : Int32 → aH → Prop) (X : Nat → aH → Prop) (G : aH) (a0 : Nat) : Prop :=
  th_o G a0 0 ∧ (
  (tw_X0_isHere
    (fun (r2 : Int32) (G1 : aH) =>
      (¬ r2 = 0 →
        th_o G1 a0 0 ∧ (
        th_o G1 a0 0 ∧ (
        ∀ G3 : aH, G3 = a_si G1 a0 13 ((a_mi G1 a0 13) + 1) → 
        th_o G3 a0 0 ∧ (
        th_o G3 a0 0 ∧ (
        th_o G3 (a_mr G3 a0 9) 12 ∧ (
        (tw_J1_charAt
          (fun (r5 : Int32) (G4 : aH) =>
            Q (r5 - 48) G4)
          G3 (a_mr G3 a0 9) ((a_mi G3 a0 13) - 1)))))))) ∧
      (r2 = 0 →
        ∀ z6 : Nat, z6 = a_sz G1 → ∀ G7 : aH, G7 = a_nw G1 (11 + 1) 0 → 
        (a_sh G7 z6).1 ≠ 0 ∧ (
        (tw_X11_init
          (fun (G8 : aH) =>
            th_oo G8 z6 [9, 10, 11] ∧ (
            X z6 G8))
          G7 z6))))
    G a0 48 57))
theorem tk_X0_digit {l : Launch} {D : tD} {B : Nat} {Q : Int32 → aH → Prop} {X : Nat → aH → Prop} {a0 : Nat} : vz_Met l yX0_digit (ws_ yX0_digit cX0_digit 1 ((Option.some Jvm.ClassFile.FieldType.int))) rm_X0_digit (th_P D B [rv a0] (fun G => tw_X0_digit Q X G a0)) (th_Qi D B Q) (th_X D B X) 1 6 (th_A B) :=
  th_ofX (by decide +kernel) (th_cr th_cn) (Nat.le_of_ble_eq_true rfl) (fun p e s m args below meth c CF hret hlk hnm htab0 hK hSt G ls hR hS hw hL => by
    have E : th_E p m c cX0_digit 1 s args RX0 meth ((Option.some Jvm.ClassFile.FieldType.int)) "digit" D B := ⟨CF, hret, hlk, hnm, hK, hSt⟩
    have htab : c.exceptionTable.toList = tableOf [] := th_notab htab0
    have hx := CF.1; have hb := CF.2.1
    have hL : th_L ls 1 [(0, rv a0)] := hL
    unfold tw_X0_digit at hw
    refine th_aload_n hx hb dX0_digit_0 rfl (lv_at hL.1 0 rfl) ?_
    refine lv_bipush hx hb dX0_digit_1 (v := 48) rfl ?_
    refine lv_bipush hx hb dX0_digit_3 (v := 57) rfl ?_
    obtain ⟨ho, hw⟩ := hw
    refine th_ki hS (th_rV CF hK hSt hR hS ho (ci := 0) rfl (rest := []) (tk_X0_isHere) (cw_X0_300 CF hK (by decide +kernel)) hw rfl hL.1.1 rfl th_cn (Nat.le_of_ble_eq_true rfl) dX0_digit_5 ⟨by show _ ≤ (1 : Nat); omega, by show _ ≤ (6 : Nat); omega⟩) (fun r2 G1 H locs hw hR hS => ?_)
    refine lv_if_ne hx hb dX0_digit_8 (tgt := 19) (by decide) (fun h => ?_) (fun h => ?_)
    · replace hw := hw.1 h
      refine th_aload_n hx hb dX0_digit_19 rfl (lv_at hL.1 0 rfl) ?_
      refine lv_dup hx hb dX0_digit_20 (rv_cat _) ?_
      obtain ⟨ho, hw⟩ := hw
      refine fg_X0_293 CF hK hR ho dX0_digit_21 ?_
      refine lv_iconst hx hb dX0_digit_24 (v := 1) rfl ?_
      refine lv_iadd hx hb dX0_digit_25 ?_
      obtain ⟨ho, hw⟩ := hw
      refine fp_X0_293 CF hK hR hS ho dX0_digit_26 (fun G3 H locs hG hR hS => ?_)
      replace hw := hw G3 hG
      refine th_aload_n hx hb dX0_digit_29 rfl (lv_at hL.1 0 rfl) ?_
      obtain ⟨ho, hw⟩ := hw
      refine fg_X0_46 CF hK hR ho dX0_digit_30 ?_
      refine th_aload_n hx hb dX0_digit_33 rfl (lv_at hL.1 0 rfl) ?_
      obtain ⟨ho, hw⟩ := hw
      refine fg_X0_293 CF hK hR ho dX0_digit_34 ?_
      refine lv_iconst hx hb dX0_digit_37 (v := 1) rfl ?_
      refine lv_isub hx hb dX0_digit_38 ?_
      obtain ⟨ho, hw⟩ := hw
      refine th_ki hS (th_rV CF hK hSt hR hS ho (ci := 12) rfl (rest := []) (tk_J1_charAt) (cw_X0_296 CF hK (by decide +kernel)) hw rfl hL.1.1 rfl th_cn (Nat.le_of_ble_eq_true rfl) dX0_digit_39 ⟨by show _ ≤ (1 : Nat); omega, by show _ ≤ (6 : Nat); omega⟩) (fun r5 G4 H locs hw hR hS => ?_)
      refine lv_bipush hx hb dX0_digit_42 (v := 48) rfl ?_
      refine lv_isub hx hb dX0_digit_44 ?_
      exact vz_ret (th_iret hx hb hret hlk hR hS hw (by omega) (by omega) dX0_digit_45)
    · replace hw := hw.2 h
      refine fn_X0_304 CF hK hR hS (by show _ ≤ (1 : Nat); omega) (by show _ ≤ (6 : Nat); omega) dX0_digit_11 (fun z6 G7 H hz hG hR hS => ?_)
      replace hw := hw z6 hz G7 hG
      refine lv_dup hx hb dX0_digit_14 (rv_cat _) ?_
      obtain ⟨h0, hw⟩ := hw
      refine th_kv hS (th_rI CF hK hSt hR hS h0 (rest := [rv z6]) (tk_X11_init) (cw_X0_306 CF hK (by decide +kernel)) hw rfl hL.1.1 rfl (th_cr th_cn) (Nat.le_of_ble_eq_true rfl) dX0_digit_15 ⟨by show _ ≤ (1 : Nat); omega, by show _ ≤ (6 : Nat); omega⟩) (fun G8 H locs hw hR hS => ?_)
      obtain ⟨ho, hw⟩ := hw
      refine th_athrowo hx hb hR ho dX0_digit_18 ?_
      exact th_out hK hlk (by rw [htab]; decide) hR hS hw ho (by omega) (by omega))
def tw_X0_number_b7 (Q : Int32 → aH → Prop) (X : Nat → aH → Prop) : Nat → aH → Nat → Int32 → Int32 → Prop := fun n => Nat.rec (motive := fun _ => aH → Nat → Int32 → Int32 → Prop) (fun _ _ _ _ => False) (fun _ ih G a0 x1 x2 =>
  (3 ≤ x2 →
    Q x1 G) ∧
  (¬ 3 ≤ x2 →
    th_o G a0 0 ∧ (
    (tw_X0_isHere
      (fun (r4 : Int32) (G3 : aH) =>
        (r4 = 0 →
          Q x1 G3) ∧
        (¬ r4 = 0 →
          th_o G3 a0 0 ∧ (
          (tw_X0_digit
            (fun (r6 : Int32) (G5 : aH) =>
              ∀ x1_7 : Int32, x1_7 = (10 * x1) + r6 → 
              ∀ x2_8 : Int32, x2_8 = x2 + 1 → 
              ih G5 a0 x1_7 x2_8)
            X
            G3 a0))))
      G a0 48 57)))) n
theorem tws_X0_number_b7 (Q : Int32 → aH → Prop) (X : Nat → aH → Prop) (n : Nat) (G : aH) (a0 : Nat) (x1 : Int32) (x2 : Int32) : tw_X0_number_b7 Q X (n + 1) G a0 x1 x2 = (
  (3 ≤ x2 →
    Q x1 G) ∧
  (¬ 3 ≤ x2 →
    th_o G a0 0 ∧ (
    (tw_X0_isHere
      (fun (r4 : Int32) (G3 : aH) =>
        (r4 = 0 →
          Q x1 G3) ∧
        (¬ r4 = 0 →
          th_o G3 a0 0 ∧ (
          (tw_X0_digit
            (fun (r6 : Int32) (G5 : aH) =>
              ∀ x1_7 : Int32, x1_7 = (10 * x1) + r6 → 
              ∀ x2_8 : Int32, x2_8 = x2 + 1 → 
              tw_X0_number_b7 Q X n G5 a0 x1_7 x2_8)
            X
            G3 a0))))
      G a0 48 57)))) := rfl
def tw_X0_number (Q : Int32 → aH → Prop) (X : Nat → aH → Prop) (G : aH) (a0 : Nat) : Prop :=
  th_o G a0 0 ∧ (
  (tw_X0_digit
    (fun (r2 : Int32) (G1 : aH) =>
      tw_X0_number_b7 Q X 30 G1 a0 r2 1)
    X
    G a0))
theorem tk_X0_number_b7 {p : Program} {l : Launch} {e : Env} {s : State} {m : MethodId} {args : Array Value} {below : List Frame} {meth : Method} {c : Code} {D : tD} {B : Nat} (E : th_E p m c cX0_number 3 s args RX0 meth ((Option.some Jvm.ClassFile.FieldType.int)) "number" D B) (htab : c.exceptionTable.toList = tableOf []) {Q : Int32 → aH → Prop} {X : Nat → aH → Prop} : ∀ (n : Nat) {G : aH} {H : Heap} {locs : List Loc} {cells slots : Nat} {ls : Array Slot} {a0 : Nat} {x1 : Int32} {x2 : Int32} (hR : th_H D B G H) (hS : va_S (th_A B) s.heap H locs) (hL : th_L ls 3 [(0, rv a0), (1, .int x1), (2, .int x2)]) (hw : tw_X0_number_b7 Q X n G a0 x1 x2) (hc : cells + (n * 1 + 1) ≤ 32 ∧ slots + (n * 6 + 6) ≤ 192), W p l e rm_X0_number s m args below meth c H locs cells slots (vz_MQ below (th_Qi D B Q) (th_X D B X) args s 32 192 (th_A B)) (F0 m 7 ls []) := by
  have CF := E.1; have hx := CF.1; have hb := CF.2.1; have hret := E.2.1; have hlk := E.2.2.1; have hnm := E.2.2.2.1; have hK := E.2.2.2.2.1; have hSt := E.2.2.2.2.2
  intro n
  induction n with
  | zero => intro _ _ _ _ _ _ _ _ _ _ _ _ hw; exact hw.elim
  | succ n ih =>
    intro G H locs cells slots ls a0 x1 x2 hR hS hL hw hc
    rw [tws_X0_number_b7] at hw
    refine lv_iload_n hx hb dX0_number_7 rfl (lv_at hL.1 2 rfl) ?_
    refine lv_iconst hx hb dX0_number_8 (v := 3) rfl ?_
    refine lv_icmp_ge hx hb dX0_number_9 (tgt := 39) (by decide) (fun h => ?_) (fun h => ?_)
    · replace hw := hw.1 h
      refine lv_iload_n hx hb dX0_number_39 rfl (lv_at hL.1 1 rfl) ?_
      exact vz_ret (th_iret hx hb hret hlk hR hS hw (by omega) (by omega) dX0_number_40)
    · replace hw := hw.2 h
      refine th_aload_n hx hb dX0_number_12 rfl (lv_at hL.1 0 rfl) ?_
      refine lv_bipush hx hb dX0_number_13 (v := 48) rfl ?_
      refine lv_bipush hx hb dX0_number_15 (v := 57) rfl ?_
      obtain ⟨ho, hw⟩ := hw
      refine th_ki hS (th_rV CF hK hSt hR hS ho (ci := 0) rfl (rest := []) (tk_X0_isHere) (cw_X0_300 CF hK (by decide +kernel)) hw rfl hL.1.1 rfl th_cn (Nat.le_of_ble_eq_true rfl) dX0_number_17 ⟨by show _ ≤ (32 : Nat); omega, by show _ ≤ (192 : Nat); omega⟩) (fun r4 G3 H locs hw hR hS => ?_)
      refine lv_if_eq hx hb dX0_number_20 (tgt := 39) (by decide) (fun h => ?_) (fun h => ?_)
      · replace hw := hw.1 h
        refine lv_iload_n hx hb dX0_number_39 rfl (lv_at hL.1 1 rfl) ?_
        exact vz_ret (th_iret hx hb hret hlk hR hS hw (by omega) (by omega) dX0_number_40)
      · replace hw := hw.2 h
        refine lv_bipush hx hb dX0_number_23 (v := 10) rfl ?_
        refine lv_iload_n hx hb dX0_number_25 rfl (lv_at hL.1 1 rfl) ?_
        refine lv_imul hx hb dX0_number_26 ?_
        refine th_aload_n hx hb dX0_number_27 rfl (lv_at hL.1 0 rfl) ?_
        obtain ⟨ho, hw⟩ := hw
        refine th_Xki hS (th_XrV CF hK hSt hR hS ho (ci := 0) rfl (rest := [.int (10 * x1)]) (tk_X0_digit) (cw_X0_311 CF hK (by decide +kernel)) hw rfl hL.1.1 rfl (th_ci th_cn) (Nat.le_of_ble_eq_true rfl) dX0_number_28 ⟨by show _ ≤ (32 : Nat); omega, by show _ ≤ (192 : Nat); omega⟩) (fun e9 G9 H locs hw ho hR hS => ?_) (fun r6 G5 H locs hw hR hS => ?_)
        · exact th_out hK hlk (by rw [htab]; decide) hR hS hw ho (by omega) (by omega)
        · skip
          refine lv_iadd hx hb dX0_number_31 ?_
          obtain ⟨x1_7, hx1_7⟩ : ∃ y : Int32, y = (10 * x1) + r6 := ⟨_, rfl⟩
          replace hw := hw x1_7 hx1_7
          refine th_nmi hx1_7 ?_
          refine th_istore_n hx hb dX0_number_32 rfl hL (by decide) rfl (fun ls hL => ?_)
          obtain ⟨x2_8, hx2_8⟩ : ∃ y : Int32, y = x2 + 1 := ⟨_, rfl⟩
          replace hw := hw x2_8 hx2_8
          refine th_iinc hx hb dX0_number_33 hL (k := 2) rfl (v := x2_8) hx2_8.symm (by decide) rfl (fun ls hL => ?_)
          refine lv_goto hx hb dX0_number_36 (tgt := 7) (by decide) ?_
          exact ih hR hS (hL.sub [2, 1, 0] rfl) hw ⟨by omega, by omega⟩
theorem tk_X0_number {l : Launch} {D : tD} {B : Nat} {Q : Int32 → aH → Prop} {X : Nat → aH → Prop} {a0 : Nat} : vz_Met l yX0_number (ws_ yX0_number cX0_number 3 ((Option.some Jvm.ClassFile.FieldType.int))) rm_X0_number (th_P D B [rv a0] (fun G => tw_X0_number Q X G a0)) (th_Qi D B Q) (th_X D B X) 32 192 (th_A B) :=
  th_ofX (by decide +kernel) (th_cr th_cn) (Nat.le_of_ble_eq_true rfl) (fun p e s m args below meth c CF hret hlk hnm htab0 hK hSt G ls hR hS hw hL => by
    have E : th_E p m c cX0_number 3 s args RX0 meth ((Option.some Jvm.ClassFile.FieldType.int)) "number" D B := ⟨CF, hret, hlk, hnm, hK, hSt⟩
    have htab : c.exceptionTable.toList = tableOf [] := th_notab htab0
    have hx := CF.1; have hb := CF.2.1
    have hL : th_L ls 3 [(0, rv a0)] := hL
    unfold tw_X0_number at hw
    refine th_aload_n hx hb dX0_number_0 rfl (lv_at hL.1 0 rfl) ?_
    obtain ⟨ho, hw⟩ := hw
    refine th_Xki hS (th_XrV CF hK hSt hR hS ho (ci := 0) rfl (rest := []) (tk_X0_digit) (cw_X0_311 CF hK (by decide +kernel)) hw rfl hL.1.1 rfl th_cn (Nat.le_of_ble_eq_true rfl) dX0_number_1 ⟨by show _ ≤ (32 : Nat); omega, by show _ ≤ (192 : Nat); omega⟩) (fun e9 G9 H locs hw ho hR hS => ?_) (fun r2 G1 H locs hw hR hS => ?_)
    · exact th_out hK hlk (by rw [htab]; decide) hR hS hw ho (by omega) (by omega)
    · skip
      refine th_istore_n hx hb dX0_number_4 rfl hL (by decide) rfl (fun ls hL => ?_)
      refine lv_iconst hx hb dX0_number_5 (v := 1) rfl ?_
      refine th_istore_n hx hb dX0_number_6 rfl hL (by decide) rfl (fun ls hL => ?_)
      exact tk_X0_number_b7 E htab 30 hR hS (hL.sub [2, 1, 0] rfl) hw ⟨by omega, by omega⟩)
def tw_X0_numberBehind (Q : Int32 → aH → Prop) (X : Nat → aH → Prop) (G : aH) (a0 : Nat) (x1 : Int32) : Prop :=
  th_o G a0 0 ∧ (
  (tw_X0_takesIf
    (fun (r2 : Int32) (G1 : aH) =>
      (¬ r2 = 0 →
        th_o G1 a0 0 ∧ (
        (tw_X0_number
          (fun (r4 : Int32) (G3 : aH) =>
            Q r4 G3)
          X
          G1 a0))) ∧
      (r2 = 0 →
        ∀ z5 : Nat, z5 = a_sz G1 → ∀ G6 : aH, G6 = a_nw G1 (11 + 1) 0 → 
        (a_sh G6 z5).1 ≠ 0 ∧ (
        (tw_X11_init
          (fun (G7 : aH) =>
            th_oo G7 z5 [9, 10, 11] ∧ (
            X z5 G7))
          G6 z5))))
    G a0 x1))
theorem tk_X0_numberBehind {l : Launch} {D : tD} {B : Nat} {Q : Int32 → aH → Prop} {X : Nat → aH → Prop} {a0 : Nat} {x1 : Int32} : vz_Met l yX0_numberBehind (ws_ yX0_numberBehind cX0_numberBehind 2 ((Option.some Jvm.ClassFile.FieldType.int))) rm_X0_numberBehind (th_P D B [rv a0, .int x1] (fun G => tw_X0_numberBehind Q X G a0 x1)) (th_Qi D B Q) (th_X D B X) 32 192 (th_A B) :=
  th_ofX (by decide +kernel) (th_cr (th_ci th_cn)) (Nat.le_of_ble_eq_true rfl) (fun p e s m args below meth c CF hret hlk hnm htab0 hK hSt G ls hR hS hw hL => by
    have E : th_E p m c cX0_numberBehind 2 s args RX0 meth ((Option.some Jvm.ClassFile.FieldType.int)) "numberBehind" D B := ⟨CF, hret, hlk, hnm, hK, hSt⟩
    have htab : c.exceptionTable.toList = tableOf [] := th_notab htab0
    have hx := CF.1; have hb := CF.2.1
    have hL : th_L ls 2 [(0, rv a0), (1, .int x1)] := hL
    unfold tw_X0_numberBehind at hw
    refine th_aload_n hx hb dX0_numberBehind_0 rfl (lv_at hL.1 0 rfl) ?_
    refine lv_iload_n hx hb dX0_numberBehind_1 rfl (lv_at hL.1 1 rfl) ?_
    obtain ⟨ho, hw⟩ := hw
    refine th_ki hS (th_rV CF hK hSt hR hS ho (ci := 0) rfl (rest := []) (tk_X0_takesIf) (cw_X0_307 CF hK (by decide +kernel)) hw rfl hL.1.1 rfl th_cn (Nat.le_of_ble_eq_true rfl) dX0_numberBehind_2 ⟨by show _ ≤ (32 : Nat); omega, by show _ ≤ (192 : Nat); omega⟩) (fun r2 G1 H locs hw hR hS => ?_)
    refine lv_if_ne hx hb dX0_numberBehind_5 (tgt := 16) (by decide) (fun h => ?_) (fun h => ?_)
    · replace hw := hw.1 h
      refine th_aload_n hx hb dX0_numberBehind_16 rfl (lv_at hL.1 0 rfl) ?_
      obtain ⟨ho, hw⟩ := hw
      refine th_Xki hS (th_XrV CF hK hSt hR hS ho (ci := 0) rfl (rest := []) (tk_X0_number) (cw_X0_314 CF hK (by decide +kernel)) hw rfl hL.1.1 rfl th_cn (Nat.le_of_ble_eq_true rfl) dX0_numberBehind_17 ⟨by show _ ≤ (32 : Nat); omega, by show _ ≤ (192 : Nat); omega⟩) (fun e9 G9 H locs hw ho hR hS => ?_) (fun r4 G3 H locs hw hR hS => ?_)
      · exact th_out hK hlk (by rw [htab]; decide) hR hS hw ho (by omega) (by omega)
      · skip
        exact vz_ret (th_iret hx hb hret hlk hR hS hw (by omega) (by omega) dX0_numberBehind_20)
    · replace hw := hw.2 h
      refine fn_X0_304 CF hK hR hS (by show _ ≤ (32 : Nat); omega) (by show _ ≤ (192 : Nat); omega) dX0_numberBehind_8 (fun z5 G6 H hz hG hR hS => ?_)
      replace hw := hw z5 hz G6 hG
      refine lv_dup hx hb dX0_numberBehind_11 (rv_cat _) ?_
      obtain ⟨h0, hw⟩ := hw
      refine th_kv hS (th_rI CF hK hSt hR hS h0 (rest := [rv z5]) (tk_X11_init) (cw_X0_306 CF hK (by decide +kernel)) hw rfl hL.1.1 rfl (th_cr th_cn) (Nat.le_of_ble_eq_true rfl) dX0_numberBehind_12 ⟨by show _ ≤ (32 : Nat); omega, by show _ ≤ (192 : Nat); omega⟩) (fun G7 H locs hw hR hS => ?_)
      obtain ⟨ho, hw⟩ := hw
      refine th_athrowo hx hb hR ho dX0_numberBehind_15 ?_
      exact th_out hK hlk (by rw [htab]; decide) hR hS hw ho (by omega) (by omega))
def tw_X12_init_b47 (Q : aH → Prop) (G : aH) (tx0 : Int32) (ta1 : Nat) : Prop :=
  th_oo G ta1 [13, 14, 15, 16, 17, 18, 19] ∧ (
  ∀ G3 : aH, G3 = a_si G ta1 2 tx0 → 
  Q G3)
def tw_X12_init_b30 (Q : aH → Prop) (G : aH) (a0 : Nat) (a2 : Nat) (tx0 : Int32) (ta1 : Nat) : Prop :=
  th_oo G ta1 [13, 14, 15, 16, 17, 18, 19] ∧ (
  ∀ G2 : aH, G2 = a_si G ta1 1 tx0 → 
  th_a G2 a2 0 ∧ (
  (th_len G2 a2 ≤ 2 →
    tw_X12_init_b47 Q G2 0 a0) ∧
  (¬ th_len G2 a2 ≤ 2 →
    th_ai G2 a2 0 2 ∧ (
    tw_X12_init_b47 Q G2 (a_mi G2 a2 (2 : Int32).toNatClampNeg) a0))))
def tw_X12_init (Q : aH → Prop) (G : aH) (a0 : Nat) (a1 : Nat) (a2 : Nat) : Prop :=
  th_oo G a0 [13, 14, 15, 16, 17, 18, 19] ∧ (
  (a_sh G a0).1 ≠ 0 ∧ (
  th_ai G a2 0 0 ∧ (
  th_oo G a0 [13, 14, 15, 16, 17, 18, 19] ∧ (
  ∀ G1 : aH, G1 = a_si G a0 0 (a_mi G a2 (0 : Int32).toNatClampNeg) → 
  th_a G1 a2 0 ∧ (
  (th_len G1 a2 ≤ 1 →
    tw_X12_init_b30 Q G1 a0 a2 0 a0) ∧
  (¬ th_len G1 a2 ≤ 1 →
    th_ai G1 a2 0 1 ∧ (
    tw_X12_init_b30 Q G1 a0 a2 (a_mi G1 a2 (1 : Int32).toNatClampNeg) a0)))))))
theorem tk_X12_init_b47 {p : Program} {l : Launch} {e : Env} {s : State} {m : MethodId} {args : Array Value} {below : List Frame} {meth : Method} {c : Code} {D : tD} {B : Nat} (E : th_E p m c cX12_init 3 s args RX12 meth ((Option.none : Option Jvm.ClassFile.FieldType)) "<init>" D B) {Q : aH → Prop} {G : aH} {H : Heap} {locs : List Loc} {cells slots : Nat} {ls : Array Slot} {tx0 : Int32} {ta1 : Nat} (hR : th_H D B G H) (hS : va_S (th_A B) s.heap H locs) (hL : th_L ls 3 []) (hw : tw_X12_init_b47 Q G tx0 ta1) (hc : cells + (0) ≤ 0 ∧ slots + (0) ≤ 0) : W p l e rm_X12_init s m args below meth c H locs cells slots (MQ below (th_Qv D B Q) args s 0 0 (th_A B)) (F0 m 47 ls [.int tx0, rv ta1]) := by
  have CF := E.1; have hx := CF.1; have hb := CF.2.1; have hret := E.2.1; have hlk := E.2.2.1; have hnm := E.2.2.2.1; have hK := E.2.2.2.2.1; have hSt := E.2.2.2.2.2
  unfold tw_X12_init_b47 at hw
  obtain ⟨ho, hw⟩ := hw
  refine fp_X12_20 CF hK hR hS hnm ho dX12_init_47 (fun G3 H locs hG hR hS => ?_)
  replace hw := hw G3 hG
  exact th_vret hx hb hret hlk hR hS hw (by omega) (by omega) dX12_init_50
theorem tk_X12_init_b30 {p : Program} {l : Launch} {e : Env} {s : State} {m : MethodId} {args : Array Value} {below : List Frame} {meth : Method} {c : Code} {D : tD} {B : Nat} (E : th_E p m c cX12_init 3 s args RX12 meth ((Option.none : Option Jvm.ClassFile.FieldType)) "<init>" D B) {Q : aH → Prop} {G : aH} {H : Heap} {locs : List Loc} {cells slots : Nat} {ls : Array Slot} {a0 : Nat} {a2 : Nat} {tx0 : Int32} {ta1 : Nat} (hR : th_H D B G H) (hS : va_S (th_A B) s.heap H locs) (hL : th_L ls 3 [(0, rv a0), (2, rv a2)]) (hw : tw_X12_init_b30 Q G a0 a2 tx0 ta1) (hc : cells + (0) ≤ 0 ∧ slots + (0) ≤ 0) : W p l e rm_X12_init s m args below meth c H locs cells slots (MQ below (th_Qv D B Q) args s 0 0 (th_A B)) (F0 m 30 ls [.int tx0, rv ta1]) := by
  have CF := E.1; have hx := CF.1; have hb := CF.2.1; have hret := E.2.1; have hlk := E.2.2.1; have hnm := E.2.2.2.1; have hK := E.2.2.2.2.1; have hSt := E.2.2.2.2.2
  unfold tw_X12_init_b30 at hw
  obtain ⟨ho, hw⟩ := hw
  refine fp_X12_17 CF hK hR hS hnm ho dX12_init_30 (fun G2 H locs hG hR hS => ?_)
  replace hw := hw G2 hG
  refine th_aload_n hx hb dX12_init_33 rfl (lv_at hL.1 0 rfl) ?_
  refine th_aload_n hx hb dX12_init_34 rfl (lv_at hL.1 1 rfl) ?_
  obtain ⟨ha, hw⟩ := hw
  refine th_alen hx hb hK 0 (by decide) hR ha dX12_init_35 ?_
  refine lv_iconst hx hb dX12_init_36 (v := 2) rfl ?_
  refine lv_icmp_le hx hb dX12_init_37 (tgt := 46) (by decide) (fun h => ?_) (fun h => ?_)
  · replace hw := hw.1 h
    refine lv_iconst hx hb dX12_init_46 (v := 0) rfl ?_
    exact tk_X12_init_b47 E hR hS (hL.sub [] rfl) hw ⟨by omega, by omega⟩
  · replace hw := hw.2 h
    refine th_aload_n hx hb dX12_init_40 rfl (lv_at hL.1 1 rfl) ?_
    refine lv_iconst hx hb dX12_init_41 (v := 2) rfl ?_
    obtain ⟨ha, hw⟩ := hw
    refine th_iald hx hb hK hR ha dX12_init_42 ?_
    refine lv_goto hx hb dX12_init_43 (tgt := 47) (by decide) ?_
    exact tk_X12_init_b47 E hR hS (hL.sub [] rfl) hw ⟨by omega, by omega⟩
theorem tk_X12_init {l : Launch} {D : tD} {B : Nat} {Q : aH → Prop} {a0 : Nat} {a1 : Nat} {a2 : Nat} : Met l yX12_init (ws_ yX12_init cX12_init 3 ((Option.none : Option Jvm.ClassFile.FieldType))) rm_X12_init (th_P D B [rv a0, rv a1, rv a2] (fun G => tw_X12_init Q G a0 a1 a2)) (th_Qv D B Q) 0 0 (th_A B) :=
  th_ofW (by decide +kernel) (th_cr (th_cr (th_cr th_cn))) (Nat.le_of_ble_eq_true rfl) (fun p e s m args below meth c CF hret hlk hnm hK hSt G ls hR hS hw hL => by
    have E : th_E p m c cX12_init 3 s args RX12 meth ((Option.none : Option Jvm.ClassFile.FieldType)) "<init>" D B := ⟨CF, hret, hlk, hnm, hK, hSt⟩
    have hx := CF.1; have hb := CF.2.1
    have hL : th_L ls 3 [(0, rv a0), (1, rv a1), (2, rv a2)] := hL
    unfold tw_X12_init at hw
    refine th_aload_n hx hb dX12_init_0 rfl (lv_at hL.1 0 rfl) ?_
    refine th_aload_n hx hb dX12_init_1 rfl (lv_at hL.1 1 rfl) ?_
    obtain ⟨ho, hw⟩ := hw
    refine fp_X12_1 CF hK hR hS hnm (th_nrv _) ho dX12_init_2 (fun H locs hR hS => ?_)
    refine th_aload_n hx hb dX12_init_5 rfl (lv_at hL.1 0 rfl) ?_
    obtain ⟨h0, hw⟩ := hw
    refine th_objInit hx hb CF.2.2.2.1 (CF.2.2.2.2 _ q965) (CF.2.2.2.2 _ q148) (CF.2.2.2.2 _ q149) (hL.1.1.trans CF.2.2.1.symm) hR h0 th_cn (Nat.le_of_ble_eq_true rfl) (by decide) (by decide) dX12_init_6 ?_
    refine th_aload_n hx hb dX12_init_9 rfl (lv_at hL.1 0 rfl) ?_
    refine th_aload_n hx hb dX12_init_10 rfl (lv_at hL.1 2 rfl) ?_
    refine lv_iconst hx hb dX12_init_11 (v := 0) rfl ?_
    obtain ⟨ha, hw⟩ := hw
    refine th_iald hx hb hK hR ha dX12_init_12 ?_
    obtain ⟨ho, hw⟩ := hw
    refine fp_X12_13 CF hK hR hS hnm ho dX12_init_13 (fun G1 H locs hG hR hS => ?_)
    replace hw := hw G1 hG
    refine th_aload_n hx hb dX12_init_16 rfl (lv_at hL.1 0 rfl) ?_
    refine th_aload_n hx hb dX12_init_17 rfl (lv_at hL.1 2 rfl) ?_
    obtain ⟨ha, hw⟩ := hw
    refine th_alen hx hb hK 0 (by decide) hR ha dX12_init_18 ?_
    refine lv_iconst hx hb dX12_init_19 (v := 1) rfl ?_
    refine lv_icmp_le hx hb dX12_init_20 (tgt := 29) (by decide) (fun h => ?_) (fun h => ?_)
    · replace hw := hw.1 h
      refine lv_iconst hx hb dX12_init_29 (v := 0) rfl ?_
      exact tk_X12_init_b30 E hR hS (hL.sub [0, 2] rfl) hw ⟨by omega, by omega⟩
    · replace hw := hw.2 h
      refine th_aload_n hx hb dX12_init_23 rfl (lv_at hL.1 2 rfl) ?_
      refine lv_iconst hx hb dX12_init_24 (v := 1) rfl ?_
      obtain ⟨ha, hw⟩ := hw
      refine th_iald hx hb hK hR ha dX12_init_25 ?_
      refine lv_goto hx hb dX12_init_26 (tgt := 30) (by decide) ?_
      exact tk_X12_init_b30 E hR hS (hL.sub [0, 2] rfl) hw ⟨by omega, by omega⟩)
def tw_X13_init (Q : aH → Prop) (G : aH) (a0 : Nat) (a1 : Nat) (x2 : Int32) (x3 : Int32) : Prop :=
  th_o G a0 13 ∧ (
  ∀ G1 : aH, G1 = a_sr G a0 3 a1 → 
  ∀ z2 : Nat, z2 = a_sz G1 → ∀ G3 : aH, G3 = a_nw G1 (100 + 0) 2 → 
  th_ai G3 z2 0 0 ∧ (
  ∀ G4 : aH, G4 = a_si G3 z2 (0 : Int32).toNatClampNeg x2 → 
  th_ai G4 z2 0 1 ∧ (
  ∀ G5 : aH, G5 = a_si G4 z2 (1 : Int32).toNatClampNeg x3 → 
  (a_sh G5 a0).1 ≠ 0 ∧ (
  (tw_X12_init
    (fun (G6 : aH) =>
      Q G6)
    G5 a0 a1 z2)))))
theorem tk_X13_init {l : Launch} {D : tD} {B : Nat} {Q : aH → Prop} {a0 : Nat} {a1 : Nat} {x2 : Int32} {x3 : Int32} : Met l yX13_init (ws_ yX13_init cX13_init 4 ((Option.none : Option Jvm.ClassFile.FieldType))) rm_X13_init (th_P D B [rv a0, rv a1, .int x2, .int x3] (fun G => tw_X13_init Q G a0 a1 x2 x3)) (th_Qv D B Q) 1 2 (th_A B) :=
  th_ofW (by decide +kernel) (th_cr (th_cr (th_ci (th_ci th_cn)))) (Nat.le_of_ble_eq_true rfl) (fun p e s m args below meth c CF hret hlk hnm hK hSt G ls hR hS hw hL => by
    have E : th_E p m c cX13_init 4 s args RX13 meth ((Option.none : Option Jvm.ClassFile.FieldType)) "<init>" D B := ⟨CF, hret, hlk, hnm, hK, hSt⟩
    have hx := CF.1; have hb := CF.2.1
    have hL : th_L ls 4 [(0, rv a0), (1, rv a1), (2, .int x2), (3, .int x3)] := hL
    unfold tw_X13_init at hw
    refine th_aload_n hx hb dX13_init_0 rfl (lv_at hL.1 0 rfl) ?_
    refine th_aload_n hx hb dX13_init_1 rfl (lv_at hL.1 1 rfl) ?_
    obtain ⟨ho, hw⟩ := hw
    refine fp_X13_1 CF hK hR hS hnm ho dX13_init_2 (fun G1 H locs hG hR hS => ?_)
    replace hw := hw G1 hG
    refine th_aload_n hx hb dX13_init_5 rfl (lv_at hL.1 0 rfl) ?_
    refine th_aload_n hx hb dX13_init_6 rfl (lv_at hL.1 1 rfl) ?_
    refine lv_iconst hx hb dX13_init_7 (v := 2) rfl ?_
    refine th_newa hx hb 0 (atype := .int) (CF.2.2.2.2 _ q200) rfl (by decide) (n := 2) 2 (by decide) rfl (by decide +kernel) hK hR hS (by show _ ≤ (1 : Nat); omega) (by show _ ≤ (2 : Nat); omega) dX13_init_8 (fun z2 G3 H hz hG hR hS => ?_)
    replace hw := hw z2 hz G3 hG
    refine lv_dup hx hb dX13_init_10 (rv_cat _) ?_
    refine lv_iconst hx hb dX13_init_11 (v := 0) rfl ?_
    refine lv_iload_n hx hb dX13_init_12 rfl (lv_at hL.1 2 rfl) ?_
    obtain ⟨ha, hw⟩ := hw
    refine th_iast hx hb hK hR hS ha dX13_init_13 (fun G4 H locs hG hR hS => ?_)
    replace hw := hw G4 hG
    refine lv_dup hx hb dX13_init_14 (rv_cat _) ?_
    refine lv_iconst hx hb dX13_init_15 (v := 1) rfl ?_
    refine lv_iload_n hx hb dX13_init_16 rfl (lv_at hL.1 3 rfl) ?_
    obtain ⟨ha, hw⟩ := hw
    refine th_iast hx hb hK hR hS ha dX13_init_17 (fun G5 H locs hG hR hS => ?_)
    replace hw := hw G5 hG
    obtain ⟨h0, hw⟩ := hw
    refine th_kv hS (th_rI CF hK hSt hR hS h0 (rest := []) (tk_X12_init) (cw_X13_7 CF hK (by decide +kernel)) hw rfl hL.1.1 rfl th_cn (Nat.le_of_ble_eq_true rfl) dX13_init_18 ⟨by show _ ≤ (1 : Nat); omega, by show _ ≤ (2 : Nat); omega⟩) (fun G6 H locs hw hR hS => ?_)
    exact th_vret hx hb hret hlk hR hS hw (by omega) (by omega) dX13_init_21)
def tw_X0_digitBehind (Q : Int32 → aH → Prop) (X : Nat → aH → Prop) (G : aH) (a0 : Nat) (x1 : Int32) : Prop :=
  th_o G a0 0 ∧ (
  (tw_X0_takesIf
    (fun (r2 : Int32) (G1 : aH) =>
      (¬ r2 = 0 →
        th_o G1 a0 0 ∧ (
        (tw_X0_digit
          (fun (r4 : Int32) (G3 : aH) =>
            Q r4 G3)
          X
          G1 a0))) ∧
      (r2 = 0 →
        ∀ z5 : Nat, z5 = a_sz G1 → ∀ G6 : aH, G6 = a_nw G1 (11 + 1) 0 → 
        (a_sh G6 z5).1 ≠ 0 ∧ (
        (tw_X11_init
          (fun (G7 : aH) =>
            th_oo G7 z5 [9, 10, 11] ∧ (
            X z5 G7))
          G6 z5))))
    G a0 x1))
theorem tk_X0_digitBehind {l : Launch} {D : tD} {B : Nat} {Q : Int32 → aH → Prop} {X : Nat → aH → Prop} {a0 : Nat} {x1 : Int32} : vz_Met l yX0_digitBehind (ws_ yX0_digitBehind cX0_digitBehind 2 ((Option.some Jvm.ClassFile.FieldType.int))) rm_X0_digitBehind (th_P D B [rv a0, .int x1] (fun G => tw_X0_digitBehind Q X G a0 x1)) (th_Qi D B Q) (th_X D B X) 1 6 (th_A B) :=
  th_ofX (by decide +kernel) (th_cr (th_ci th_cn)) (Nat.le_of_ble_eq_true rfl) (fun p e s m args below meth c CF hret hlk hnm htab0 hK hSt G ls hR hS hw hL => by
    have E : th_E p m c cX0_digitBehind 2 s args RX0 meth ((Option.some Jvm.ClassFile.FieldType.int)) "digitBehind" D B := ⟨CF, hret, hlk, hnm, hK, hSt⟩
    have htab : c.exceptionTable.toList = tableOf [] := th_notab htab0
    have hx := CF.1; have hb := CF.2.1
    have hL : th_L ls 2 [(0, rv a0), (1, .int x1)] := hL
    unfold tw_X0_digitBehind at hw
    refine th_aload_n hx hb dX0_digitBehind_0 rfl (lv_at hL.1 0 rfl) ?_
    refine lv_iload_n hx hb dX0_digitBehind_1 rfl (lv_at hL.1 1 rfl) ?_
    obtain ⟨ho, hw⟩ := hw
    refine th_ki hS (th_rV CF hK hSt hR hS ho (ci := 0) rfl (rest := []) (tk_X0_takesIf) (cw_X0_307 CF hK (by decide +kernel)) hw rfl hL.1.1 rfl th_cn (Nat.le_of_ble_eq_true rfl) dX0_digitBehind_2 ⟨by show _ ≤ (1 : Nat); omega, by show _ ≤ (6 : Nat); omega⟩) (fun r2 G1 H locs hw hR hS => ?_)
    refine lv_if_ne hx hb dX0_digitBehind_5 (tgt := 16) (by decide) (fun h => ?_) (fun h => ?_)
    · replace hw := hw.1 h
      refine th_aload_n hx hb dX0_digitBehind_16 rfl (lv_at hL.1 0 rfl) ?_
      obtain ⟨ho, hw⟩ := hw
      refine th_Xki hS (th_XrV CF hK hSt hR hS ho (ci := 0) rfl (rest := []) (tk_X0_digit) (cw_X0_311 CF hK (by decide +kernel)) hw rfl hL.1.1 rfl th_cn (Nat.le_of_ble_eq_true rfl) dX0_digitBehind_17 ⟨by show _ ≤ (1 : Nat); omega, by show _ ≤ (6 : Nat); omega⟩) (fun e9 G9 H locs hw ho hR hS => ?_) (fun r4 G3 H locs hw hR hS => ?_)
      · exact th_out hK hlk (by rw [htab]; decide) hR hS hw ho (by omega) (by omega)
      · skip
        exact vz_ret (th_iret hx hb hret hlk hR hS hw (by omega) (by omega) dX0_digitBehind_20)
    · replace hw := hw.2 h
      refine fn_X0_304 CF hK hR hS (by show _ ≤ (1 : Nat); omega) (by show _ ≤ (6 : Nat); omega) dX0_digitBehind_8 (fun z5 G6 H hz hG hR hS => ?_)
      replace hw := hw z5 hz G6 hG
      refine lv_dup hx hb dX0_digitBehind_11 (rv_cat _) ?_
      obtain ⟨h0, hw⟩ := hw
      refine th_kv hS (th_rI CF hK hSt hR hS h0 (rest := [rv z5]) (tk_X11_init) (cw_X0_306 CF hK (by decide +kernel)) hw rfl hL.1.1 rfl (th_cr th_cn) (Nat.le_of_ble_eq_true rfl) dX0_digitBehind_12 ⟨by show _ ≤ (1 : Nat); omega, by show _ ≤ (6 : Nat); omega⟩) (fun G7 H locs hw hR hS => ?_)
      obtain ⟨ho, hw⟩ := hw
      refine th_athrowo hx hb hR ho dX0_digitBehind_15 ?_
      exact th_out hK hlk (by rw [htab]; decide) hR hS hw ho (by omega) (by omega))
def tw_X14_init (Q : aH → Prop) (G : aH) (a0 : Nat) (a1 : Nat) (x2 : Int32) (x3 : Int32) (x4 : Int32) : Prop :=
  th_o G a0 14 ∧ (
  ∀ G1 : aH, G1 = a_sr G a0 3 a1 → 
  ∀ z2 : Nat, z2 = a_sz G1 → ∀ G3 : aH, G3 = a_nw G1 (100 + 0) 3 → 
  th_ai G3 z2 0 0 ∧ (
  ∀ G4 : aH, G4 = a_si G3 z2 (0 : Int32).toNatClampNeg x2 → 
  th_ai G4 z2 0 1 ∧ (
  ∀ G5 : aH, G5 = a_si G4 z2 (1 : Int32).toNatClampNeg x3 → 
  th_ai G5 z2 0 2 ∧ (
  ∀ G6 : aH, G6 = a_si G5 z2 (2 : Int32).toNatClampNeg x4 → 
  (a_sh G6 a0).1 ≠ 0 ∧ (
  (tw_X12_init
    (fun (G7 : aH) =>
      Q G7)
    G6 a0 a1 z2))))))
theorem tk_X14_init {l : Launch} {D : tD} {B : Nat} {Q : aH → Prop} {a0 : Nat} {a1 : Nat} {x2 : Int32} {x3 : Int32} {x4 : Int32} : Met l yX14_init (ws_ yX14_init cX14_init 5 ((Option.none : Option Jvm.ClassFile.FieldType))) rm_X14_init (th_P D B [rv a0, rv a1, .int x2, .int x3, .int x4] (fun G => tw_X14_init Q G a0 a1 x2 x3 x4)) (th_Qv D B Q) 1 3 (th_A B) :=
  th_ofW (by decide +kernel) (th_cr (th_cr (th_ci (th_ci (th_ci th_cn))))) (Nat.le_of_ble_eq_true rfl) (fun p e s m args below meth c CF hret hlk hnm hK hSt G ls hR hS hw hL => by
    have E : th_E p m c cX14_init 5 s args RX14 meth ((Option.none : Option Jvm.ClassFile.FieldType)) "<init>" D B := ⟨CF, hret, hlk, hnm, hK, hSt⟩
    have hx := CF.1; have hb := CF.2.1
    have hL : th_L ls 5 [(0, rv a0), (1, rv a1), (2, .int x2), (3, .int x3), (4, .int x4)] := hL
    unfold tw_X14_init at hw
    refine th_aload_n hx hb dX14_init_0 rfl (lv_at hL.1 0 rfl) ?_
    refine th_aload_n hx hb dX14_init_1 rfl (lv_at hL.1 1 rfl) ?_
    obtain ⟨ho, hw⟩ := hw
    refine fp_X14_1 CF hK hR hS hnm ho dX14_init_2 (fun G1 H locs hG hR hS => ?_)
    replace hw := hw G1 hG
    refine th_aload_n hx hb dX14_init_5 rfl (lv_at hL.1 0 rfl) ?_
    refine th_aload_n hx hb dX14_init_6 rfl (lv_at hL.1 1 rfl) ?_
    refine lv_iconst hx hb dX14_init_7 (v := 3) rfl ?_
    refine th_newa hx hb 0 (atype := .int) (CF.2.2.2.2 _ q200) rfl (by decide) (n := 3) 3 (by decide) rfl (by decide +kernel) hK hR hS (by show _ ≤ (1 : Nat); omega) (by show _ ≤ (3 : Nat); omega) dX14_init_8 (fun z2 G3 H hz hG hR hS => ?_)
    replace hw := hw z2 hz G3 hG
    refine lv_dup hx hb dX14_init_10 (rv_cat _) ?_
    refine lv_iconst hx hb dX14_init_11 (v := 0) rfl ?_
    refine lv_iload_n hx hb dX14_init_12 rfl (lv_at hL.1 2 rfl) ?_
    obtain ⟨ha, hw⟩ := hw
    refine th_iast hx hb hK hR hS ha dX14_init_13 (fun G4 H locs hG hR hS => ?_)
    replace hw := hw G4 hG
    refine lv_dup hx hb dX14_init_14 (rv_cat _) ?_
    refine lv_iconst hx hb dX14_init_15 (v := 1) rfl ?_
    refine lv_iload_n hx hb dX14_init_16 rfl (lv_at hL.1 3 rfl) ?_
    obtain ⟨ha, hw⟩ := hw
    refine th_iast hx hb hK hR hS ha dX14_init_17 (fun G5 H locs hG hR hS => ?_)
    replace hw := hw G5 hG
    refine lv_dup hx hb dX14_init_18 (rv_cat _) ?_
    refine lv_iconst hx hb dX14_init_19 (v := 2) rfl ?_
    refine lv_iload hx hb dX14_init_20 (lv_at hL.1 4 rfl) ?_
    obtain ⟨ha, hw⟩ := hw
    refine th_iast hx hb hK hR hS ha dX14_init_22 (fun G6 H locs hG hR hS => ?_)
    replace hw := hw G6 hG
    obtain ⟨h0, hw⟩ := hw
    refine th_kv hS (th_rI CF hK hSt hR hS h0 (rest := []) (tk_X12_init) (cw_X14_7 CF hK (by decide +kernel)) hw rfl hL.1.1 rfl th_cn (Nat.le_of_ble_eq_true rfl) dX14_init_23 ⟨by show _ ≤ (1 : Nat); omega, by show _ ≤ (3 : Nat); omega⟩) (fun G7 H locs hw hR hS => ?_)
    exact th_vret hx hb hret hlk hR hS hw (by omega) (by omega) dX14_init_26)
def tw_X15_init (Q : aH → Prop) (G : aH) (a0 : Nat) (a1 : Nat) (x2 : Int32) (x3 : Int32) (x4 : Int32) : Prop :=
  th_o G a0 15 ∧ (
  ∀ G1 : aH, G1 = a_sr G a0 3 a1 → 
  ∀ z2 : Nat, z2 = a_sz G1 → ∀ G3 : aH, G3 = a_nw G1 (100 + 0) 3 → 
  th_ai G3 z2 0 0 ∧ (
  ∀ G4 : aH, G4 = a_si G3 z2 (0 : Int32).toNatClampNeg x2 → 
  th_ai G4 z2 0 1 ∧ (
  ∀ G5 : aH, G5 = a_si G4 z2 (1 : Int32).toNatClampNeg x3 → 
  th_ai G5 z2 0 2 ∧ (
  ∀ G6 : aH, G6 = a_si G5 z2 (2 : Int32).toNatClampNeg x4 → 
  (a_sh G6 a0).1 ≠ 0 ∧ (
  (tw_X12_init
    (fun (G7 : aH) =>
      Q G7)
    G6 a0 a1 z2))))))
theorem tk_X15_init {l : Launch} {D : tD} {B : Nat} {Q : aH → Prop} {a0 : Nat} {a1 : Nat} {x2 : Int32} {x3 : Int32} {x4 : Int32} : Met l yX15_init (ws_ yX15_init cX15_init 5 ((Option.none : Option Jvm.ClassFile.FieldType))) rm_X15_init (th_P D B [rv a0, rv a1, .int x2, .int x3, .int x4] (fun G => tw_X15_init Q G a0 a1 x2 x3 x4)) (th_Qv D B Q) 1 3 (th_A B) :=
  th_ofW (by decide +kernel) (th_cr (th_cr (th_ci (th_ci (th_ci th_cn))))) (Nat.le_of_ble_eq_true rfl) (fun p e s m args below meth c CF hret hlk hnm hK hSt G ls hR hS hw hL => by
    have E : th_E p m c cX15_init 5 s args RX15 meth ((Option.none : Option Jvm.ClassFile.FieldType)) "<init>" D B := ⟨CF, hret, hlk, hnm, hK, hSt⟩
    have hx := CF.1; have hb := CF.2.1
    have hL : th_L ls 5 [(0, rv a0), (1, rv a1), (2, .int x2), (3, .int x3), (4, .int x4)] := hL
    unfold tw_X15_init at hw
    refine th_aload_n hx hb dX15_init_0 rfl (lv_at hL.1 0 rfl) ?_
    refine th_aload_n hx hb dX15_init_1 rfl (lv_at hL.1 1 rfl) ?_
    obtain ⟨ho, hw⟩ := hw
    refine fp_X15_1 CF hK hR hS hnm ho dX15_init_2 (fun G1 H locs hG hR hS => ?_)
    replace hw := hw G1 hG
    refine th_aload_n hx hb dX15_init_5 rfl (lv_at hL.1 0 rfl) ?_
    refine th_aload_n hx hb dX15_init_6 rfl (lv_at hL.1 1 rfl) ?_
    refine lv_iconst hx hb dX15_init_7 (v := 3) rfl ?_
    refine th_newa hx hb 0 (atype := .int) (CF.2.2.2.2 _ q200) rfl (by decide) (n := 3) 3 (by decide) rfl (by decide +kernel) hK hR hS (by show _ ≤ (1 : Nat); omega) (by show _ ≤ (3 : Nat); omega) dX15_init_8 (fun z2 G3 H hz hG hR hS => ?_)
    replace hw := hw z2 hz G3 hG
    refine lv_dup hx hb dX15_init_10 (rv_cat _) ?_
    refine lv_iconst hx hb dX15_init_11 (v := 0) rfl ?_
    refine lv_iload_n hx hb dX15_init_12 rfl (lv_at hL.1 2 rfl) ?_
    obtain ⟨ha, hw⟩ := hw
    refine th_iast hx hb hK hR hS ha dX15_init_13 (fun G4 H locs hG hR hS => ?_)
    replace hw := hw G4 hG
    refine lv_dup hx hb dX15_init_14 (rv_cat _) ?_
    refine lv_iconst hx hb dX15_init_15 (v := 1) rfl ?_
    refine lv_iload_n hx hb dX15_init_16 rfl (lv_at hL.1 3 rfl) ?_
    obtain ⟨ha, hw⟩ := hw
    refine th_iast hx hb hK hR hS ha dX15_init_17 (fun G5 H locs hG hR hS => ?_)
    replace hw := hw G5 hG
    refine lv_dup hx hb dX15_init_18 (rv_cat _) ?_
    refine lv_iconst hx hb dX15_init_19 (v := 2) rfl ?_
    refine lv_iload hx hb dX15_init_20 (lv_at hL.1 4 rfl) ?_
    obtain ⟨ha, hw⟩ := hw
    refine th_iast hx hb hK hR hS ha dX15_init_22 (fun G6 H locs hG hR hS => ?_)
    replace hw := hw G6 hG
    obtain ⟨h0, hw⟩ := hw
    refine th_kv hS (th_rI CF hK hSt hR hS h0 (rest := []) (tk_X12_init) (cw_X15_7 CF hK (by decide +kernel)) hw rfl hL.1.1 rfl th_cn (Nat.le_of_ble_eq_true rfl) dX15_init_23 ⟨by show _ ≤ (1 : Nat); omega, by show _ ≤ (3 : Nat); omega⟩) (fun G7 H locs hw hR hS => ?_)
    exact th_vret hx hb hret hlk hR hS hw (by omega) (by omega) dX15_init_26)
def tw_X0_kindSign_b26 (Q : Int32 → aH → Prop) (X : Nat → aH → Prop) (G : aH) : Prop :=
  ∀ z1 : Nat, z1 = a_sz G → ∀ G2 : aH, G2 = a_nw G (11 + 1) 0 → 
  (a_sh G2 z1).1 ≠ 0 ∧ (
  (tw_X11_init
    (fun (G3 : aH) =>
      th_oo G3 z1 [9, 10, 11] ∧ (
      X z1 G3))
    G2 z1))
def tw_X0_kindSign_b2 (Q : Int32 → aH → Prop) (X : Nat → aH → Prop) : Nat → aH → Nat → Int32 → Prop := fun n => Nat.rec (motive := fun _ => aH → Nat → Int32 → Prop) (fun _ _ _ => False) (fun _ ih G a0 x1 =>
  (3 ≤ x1 →
    tw_X0_kindSign_b26 Q X G ) ∧
  (¬ 3 ≤ x1 →
    (tw_X0_signOf
      (fun (r5 : Int32) (G4 : aH) =>
        th_o G4 a0 0 ∧ (
        (tw_X0_takesIf
          (fun (r7 : Int32) (G6 : aH) =>
            (r7 = 0 →
              ∀ x1_8 : Int32, x1_8 = x1 + 1 → 
              ih G6 a0 x1_8) ∧
            (¬ r7 = 0 →
              Q x1 G6))
          G4 a0 r5)))
      G x1))) n
theorem tws_X0_kindSign_b2 (Q : Int32 → aH → Prop) (X : Nat → aH → Prop) (n : Nat) (G : aH) (a0 : Nat) (x1 : Int32) : tw_X0_kindSign_b2 Q X (n + 1) G a0 x1 = (
  (3 ≤ x1 →
    tw_X0_kindSign_b26 Q X G ) ∧
  (¬ 3 ≤ x1 →
    (tw_X0_signOf
      (fun (r5 : Int32) (G4 : aH) =>
        th_o G4 a0 0 ∧ (
        (tw_X0_takesIf
          (fun (r7 : Int32) (G6 : aH) =>
            (r7 = 0 →
              ∀ x1_8 : Int32, x1_8 = x1 + 1 → 
              tw_X0_kindSign_b2 Q X n G6 a0 x1_8) ∧
            (¬ r7 = 0 →
              Q x1 G6))
          G4 a0 r5)))
      G x1))) := rfl
def tw_X0_kindSign (Q : Int32 → aH → Prop) (X : Nat → aH → Prop) (G : aH) (a0 : Nat) : Prop :=
  ∃ n9 : Nat, tw_X0_kindSign_b2 Q X n9 G a0 0
theorem tk_X0_kindSign_b26 {p : Program} {l : Launch} {e : Env} {s : State} {m : MethodId} {args : Array Value} {below : List Frame} {meth : Method} {c : Code} {D : tD} {B : Nat} (E : th_E p m c cX0_kindSign 2 s args RX0 meth ((Option.some Jvm.ClassFile.FieldType.int)) "kindSign" D B) (htab : c.exceptionTable.toList = tableOf []) {Q : Int32 → aH → Prop} {X : Nat → aH → Prop} {G : aH} {H : Heap} {locs : List Loc} {cells slots : Nat} {ls : Array Slot} (hR : th_H D B G H) (hS : va_S (th_A B) s.heap H locs) (hL : th_L ls 2 []) (hw : tw_X0_kindSign_b26 Q X G ) (hc : cells + (1) ≤ 1 ∧ slots + (6) ≤ 6) : W p l e rm_X0_kindSign s m args below meth c H locs cells slots (vz_MQ below (th_Qi D B Q) (th_X D B X) args s 1 6 (th_A B)) (F0 m 26 ls []) := by
  have CF := E.1; have hx := CF.1; have hb := CF.2.1; have hret := E.2.1; have hlk := E.2.2.1; have hnm := E.2.2.2.1; have hK := E.2.2.2.2.1; have hSt := E.2.2.2.2.2
  unfold tw_X0_kindSign_b26 at hw
  refine fn_X0_304 CF hK hR hS (by show _ ≤ (1 : Nat); omega) (by show _ ≤ (6 : Nat); omega) dX0_kindSign_26 (fun z1 G2 H hz hG hR hS => ?_)
  replace hw := hw z1 hz G2 hG
  refine lv_dup hx hb dX0_kindSign_29 (rv_cat _) ?_
  obtain ⟨h0, hw⟩ := hw
  refine th_kv hS (th_rI CF hK hSt hR hS h0 (rest := [rv z1]) (tk_X11_init) (cw_X0_306 CF hK (by decide +kernel)) hw rfl hL.1.1 rfl (th_cr th_cn) (Nat.le_of_ble_eq_true rfl) dX0_kindSign_30 ⟨by show _ ≤ (1 : Nat); omega, by show _ ≤ (6 : Nat); omega⟩) (fun G3 H locs hw hR hS => ?_)
  obtain ⟨ho, hw⟩ := hw
  refine th_athrowo hx hb hR ho dX0_kindSign_33 ?_
  exact th_out hK hlk (by rw [htab]; decide) hR hS hw ho (by omega) (by omega)
theorem tk_X0_kindSign_b2 {p : Program} {l : Launch} {e : Env} {s : State} {m : MethodId} {args : Array Value} {below : List Frame} {meth : Method} {c : Code} {D : tD} {B : Nat} (E : th_E p m c cX0_kindSign 2 s args RX0 meth ((Option.some Jvm.ClassFile.FieldType.int)) "kindSign" D B) (htab : c.exceptionTable.toList = tableOf []) {Q : Int32 → aH → Prop} {X : Nat → aH → Prop} : ∀ (n : Nat) {G : aH} {H : Heap} {locs : List Loc} {cells slots : Nat} {ls : Array Slot} {a0 : Nat} {x1 : Int32} (hR : th_H D B G H) (hS : va_S (th_A B) s.heap H locs) (hL : th_L ls 2 [(0, rv a0), (1, .int x1)]) (hw : tw_X0_kindSign_b2 Q X n G a0 x1) (hc : cells + (1) ≤ 1 ∧ slots + (6) ≤ 6), W p l e rm_X0_kindSign s m args below meth c H locs cells slots (vz_MQ below (th_Qi D B Q) (th_X D B X) args s 1 6 (th_A B)) (F0 m 2 ls []) := by
  have CF := E.1; have hx := CF.1; have hb := CF.2.1; have hret := E.2.1; have hlk := E.2.2.1; have hnm := E.2.2.2.1; have hK := E.2.2.2.2.1; have hSt := E.2.2.2.2.2
  intro n
  induction n with
  | zero => intro _ _ _ _ _ _ _ _ _ _ _ hw; exact hw.elim
  | succ n ih =>
    intro G H locs cells slots ls a0 x1 hR hS hL hw hc
    rw [tws_X0_kindSign_b2] at hw
    refine lv_iload_n hx hb dX0_kindSign_2 rfl (lv_at hL.1 1 rfl) ?_
    refine lv_iconst hx hb dX0_kindSign_3 (v := 3) rfl ?_
    refine lv_icmp_ge hx hb dX0_kindSign_4 (tgt := 26) (by decide) (fun h => ?_) (fun h => ?_)
    · replace hw := hw.1 h
      exact tk_X0_kindSign_b26 E htab hR hS (hL.sub [] rfl) hw ⟨by omega, by omega⟩
    · replace hw := hw.2 h
      refine th_aload_n hx hb dX0_kindSign_7 rfl (lv_at hL.1 0 rfl) ?_
      refine lv_iload_n hx hb dX0_kindSign_8 rfl (lv_at hL.1 1 rfl) ?_
      refine th_ki hS (th_rS CF hK hSt hR hS (rest := [rv a0]) (tk_X0_signOf) (cw_X0_317 CF hK (by decide +kernel)) hw rfl hL.1.1 rfl (th_cr th_cn) (Nat.le_of_ble_eq_true rfl) dX0_kindSign_9 ⟨by show _ ≤ (1 : Nat); omega, by show _ ≤ (6 : Nat); omega⟩) (fun r5 G4 H locs hw hR hS => ?_)
      obtain ⟨ho, hw⟩ := hw
      refine th_ki hS (th_rV CF hK hSt hR hS ho (ci := 0) rfl (rest := []) (tk_X0_takesIf) (cw_X0_307 CF hK (by decide +kernel)) hw rfl hL.1.1 rfl th_cn (Nat.le_of_ble_eq_true rfl) dX0_kindSign_12 ⟨by show _ ≤ (1 : Nat); omega, by show _ ≤ (6 : Nat); omega⟩) (fun r7 G6 H locs hw hR hS => ?_)
      refine lv_if_eq hx hb dX0_kindSign_15 (tgt := 20) (by decide) (fun h => ?_) (fun h => ?_)
      · replace hw := hw.1 h
        obtain ⟨x1_8, hx1_8⟩ : ∃ y : Int32, y = x1 + 1 := ⟨_, rfl⟩
        replace hw := hw x1_8 hx1_8
        refine th_iinc hx hb dX0_kindSign_20 hL (k := 1) rfl (v := x1_8) hx1_8.symm (by decide) rfl (fun ls hL => ?_)
        refine lv_goto hx hb dX0_kindSign_23 (tgt := 2) (by decide) ?_
        exact ih hR hS (hL.sub [1, 0] rfl) hw ⟨by omega, by omega⟩
      · replace hw := hw.2 h
        refine lv_iload_n hx hb dX0_kindSign_18 rfl (lv_at hL.1 1 rfl) ?_
        exact vz_ret (th_iret hx hb hret hlk hR hS hw (by omega) (by omega) dX0_kindSign_19)
theorem tk_X0_kindSign {l : Launch} {D : tD} {B : Nat} {Q : Int32 → aH → Prop} {X : Nat → aH → Prop} {a0 : Nat} : vz_Met l yX0_kindSign (ws_ yX0_kindSign cX0_kindSign 2 ((Option.some Jvm.ClassFile.FieldType.int))) rm_X0_kindSign (th_P D B [rv a0] (fun G => tw_X0_kindSign Q X G a0)) (th_Qi D B Q) (th_X D B X) 1 6 (th_A B) :=
  th_ofX (by decide +kernel) (th_cr th_cn) (Nat.le_of_ble_eq_true rfl) (fun p e s m args below meth c CF hret hlk hnm htab0 hK hSt G ls hR hS hw hL => by
    have E : th_E p m c cX0_kindSign 2 s args RX0 meth ((Option.some Jvm.ClassFile.FieldType.int)) "kindSign" D B := ⟨CF, hret, hlk, hnm, hK, hSt⟩
    have htab : c.exceptionTable.toList = tableOf [] := th_notab htab0
    have hx := CF.1; have hb := CF.2.1
    have hL : th_L ls 2 [(0, rv a0)] := hL
    unfold tw_X0_kindSign at hw
    refine lv_iconst hx hb dX0_kindSign_0 (v := 0) rfl ?_
    refine th_istore_n hx hb dX0_kindSign_1 rfl hL (by decide) rfl (fun ls hL => ?_)
    obtain ⟨n9, hw⟩ := hw
    exact tk_X0_kindSign_b2 E htab n9 hR hS (hL.sub [1, 0] rfl) hw ⟨by omega, by omega⟩)
def tw_X16_init (Q : aH → Prop) (G : aH) (a0 : Nat) (a1 : Nat) (x2 : Int32) (x3 : Int32) (x4 : Int32) : Prop :=
  th_o G a0 16 ∧ (
  ∀ G1 : aH, G1 = a_sr G a0 3 a1 → 
  ∀ z2 : Nat, z2 = a_sz G1 → ∀ G3 : aH, G3 = a_nw G1 (100 + 0) 3 → 
  th_ai G3 z2 0 0 ∧ (
  ∀ G4 : aH, G4 = a_si G3 z2 (0 : Int32).toNatClampNeg x2 → 
  th_ai G4 z2 0 1 ∧ (
  ∀ G5 : aH, G5 = a_si G4 z2 (1 : Int32).toNatClampNeg x3 → 
  th_ai G5 z2 0 2 ∧ (
  ∀ G6 : aH, G6 = a_si G5 z2 (2 : Int32).toNatClampNeg x4 → 
  (a_sh G6 a0).1 ≠ 0 ∧ (
  (tw_X12_init
    (fun (G7 : aH) =>
      Q G7)
    G6 a0 a1 z2))))))
theorem tk_X16_init {l : Launch} {D : tD} {B : Nat} {Q : aH → Prop} {a0 : Nat} {a1 : Nat} {x2 : Int32} {x3 : Int32} {x4 : Int32} : Met l yX16_init (ws_ yX16_init cX16_init 5 ((Option.none : Option Jvm.ClassFile.FieldType))) rm_X16_init (th_P D B [rv a0, rv a1, .int x2, .int x3, .int x4] (fun G => tw_X16_init Q G a0 a1 x2 x3 x4)) (th_Qv D B Q) 1 3 (th_A B) :=
  th_ofW (by decide +kernel) (th_cr (th_cr (th_ci (th_ci (th_ci th_cn))))) (Nat.le_of_ble_eq_true rfl) (fun p e s m args below meth c CF hret hlk hnm hK hSt G ls hR hS hw hL => by
    have E : th_E p m c cX16_init 5 s args RX16 meth ((Option.none : Option Jvm.ClassFile.FieldType)) "<init>" D B := ⟨CF, hret, hlk, hnm, hK, hSt⟩
    have hx := CF.1; have hb := CF.2.1
    have hL : th_L ls 5 [(0, rv a0), (1, rv a1), (2, .int x2), (3, .int x3), (4, .int x4)] := hL
    unfold tw_X16_init at hw
    refine th_aload_n hx hb dX16_init_0 rfl (lv_at hL.1 0 rfl) ?_
    refine th_aload_n hx hb dX16_init_1 rfl (lv_at hL.1 1 rfl) ?_
    obtain ⟨ho, hw⟩ := hw
    refine fp_X16_1 CF hK hR hS hnm ho dX16_init_2 (fun G1 H locs hG hR hS => ?_)
    replace hw := hw G1 hG
    refine th_aload_n hx hb dX16_init_5 rfl (lv_at hL.1 0 rfl) ?_
    refine th_aload_n hx hb dX16_init_6 rfl (lv_at hL.1 1 rfl) ?_
    refine lv_iconst hx hb dX16_init_7 (v := 3) rfl ?_
    refine th_newa hx hb 0 (atype := .int) (CF.2.2.2.2 _ q200) rfl (by decide) (n := 3) 3 (by decide) rfl (by decide +kernel) hK hR hS (by show _ ≤ (1 : Nat); omega) (by show _ ≤ (3 : Nat); omega) dX16_init_8 (fun z2 G3 H hz hG hR hS => ?_)
    replace hw := hw z2 hz G3 hG
    refine lv_dup hx hb dX16_init_10 (rv_cat _) ?_
    refine lv_iconst hx hb dX16_init_11 (v := 0) rfl ?_
    refine lv_iload_n hx hb dX16_init_12 rfl (lv_at hL.1 2 rfl) ?_
    obtain ⟨ha, hw⟩ := hw
    refine th_iast hx hb hK hR hS ha dX16_init_13 (fun G4 H locs hG hR hS => ?_)
    replace hw := hw G4 hG
    refine lv_dup hx hb dX16_init_14 (rv_cat _) ?_
    refine lv_iconst hx hb dX16_init_15 (v := 1) rfl ?_
    refine lv_iload_n hx hb dX16_init_16 rfl (lv_at hL.1 3 rfl) ?_
    obtain ⟨ha, hw⟩ := hw
    refine th_iast hx hb hK hR hS ha dX16_init_17 (fun G5 H locs hG hR hS => ?_)
    replace hw := hw G5 hG
    refine lv_dup hx hb dX16_init_18 (rv_cat _) ?_
    refine lv_iconst hx hb dX16_init_19 (v := 2) rfl ?_
    refine lv_iload hx hb dX16_init_20 (lv_at hL.1 4 rfl) ?_
    obtain ⟨ha, hw⟩ := hw
    refine th_iast hx hb hK hR hS ha dX16_init_22 (fun G6 H locs hG hR hS => ?_)
    replace hw := hw G6 hG
    obtain ⟨h0, hw⟩ := hw
    refine th_kv hS (th_rI CF hK hSt hR hS h0 (rest := []) (tk_X12_init) (cw_X16_7 CF hK (by decide +kernel)) hw rfl hL.1.1 rfl th_cn (Nat.le_of_ble_eq_true rfl) dX16_init_23 ⟨by show _ ≤ (1 : Nat); omega, by show _ ≤ (3 : Nat); omega⟩) (fun G7 H locs hw hR hS => ?_)
    exact th_vret hx hb hret hlk hR hS hw (by omega) (by omega) dX16_init_26)
def tw_X17_init (Q : aH → Prop) (G : aH) (a0 : Nat) (a1 : Nat) (x2 : Int32) : Prop :=
  th_o G a0 17 ∧ (
  ∀ G1 : aH, G1 = a_sr G a0 3 a1 → 
  ∀ z2 : Nat, z2 = a_sz G1 → ∀ G3 : aH, G3 = a_nw G1 (100 + 0) 1 → 
  th_ai G3 z2 0 0 ∧ (
  ∀ G4 : aH, G4 = a_si G3 z2 (0 : Int32).toNatClampNeg x2 → 
  (a_sh G4 a0).1 ≠ 0 ∧ (
  (tw_X12_init
    (fun (G5 : aH) =>
      Q G5)
    G4 a0 a1 z2))))
theorem tk_X17_init {l : Launch} {D : tD} {B : Nat} {Q : aH → Prop} {a0 : Nat} {a1 : Nat} {x2 : Int32} : Met l yX17_init (ws_ yX17_init cX17_init 3 ((Option.none : Option Jvm.ClassFile.FieldType))) rm_X17_init (th_P D B [rv a0, rv a1, .int x2] (fun G => tw_X17_init Q G a0 a1 x2)) (th_Qv D B Q) 1 1 (th_A B) :=
  th_ofW (by decide +kernel) (th_cr (th_cr (th_ci th_cn))) (Nat.le_of_ble_eq_true rfl) (fun p e s m args below meth c CF hret hlk hnm hK hSt G ls hR hS hw hL => by
    have E : th_E p m c cX17_init 3 s args RX17 meth ((Option.none : Option Jvm.ClassFile.FieldType)) "<init>" D B := ⟨CF, hret, hlk, hnm, hK, hSt⟩
    have hx := CF.1; have hb := CF.2.1
    have hL : th_L ls 3 [(0, rv a0), (1, rv a1), (2, .int x2)] := hL
    unfold tw_X17_init at hw
    refine th_aload_n hx hb dX17_init_0 rfl (lv_at hL.1 0 rfl) ?_
    refine th_aload_n hx hb dX17_init_1 rfl (lv_at hL.1 1 rfl) ?_
    obtain ⟨ho, hw⟩ := hw
    refine fp_X17_1 CF hK hR hS hnm ho dX17_init_2 (fun G1 H locs hG hR hS => ?_)
    replace hw := hw G1 hG
    refine th_aload_n hx hb dX17_init_5 rfl (lv_at hL.1 0 rfl) ?_
    refine th_aload_n hx hb dX17_init_6 rfl (lv_at hL.1 1 rfl) ?_
    refine lv_iconst hx hb dX17_init_7 (v := 1) rfl ?_
    refine th_newa hx hb 0 (atype := .int) (CF.2.2.2.2 _ q200) rfl (by decide) (n := 1) 1 (by decide) rfl (by decide +kernel) hK hR hS (by show _ ≤ (1 : Nat); omega) (by show _ ≤ (1 : Nat); omega) dX17_init_8 (fun z2 G3 H hz hG hR hS => ?_)
    replace hw := hw z2 hz G3 hG
    refine lv_dup hx hb dX17_init_10 (rv_cat _) ?_
    refine lv_iconst hx hb dX17_init_11 (v := 0) rfl ?_
    refine lv_iload_n hx hb dX17_init_12 rfl (lv_at hL.1 2 rfl) ?_
    obtain ⟨ha, hw⟩ := hw
    refine th_iast hx hb hK hR hS ha dX17_init_13 (fun G4 H locs hG hR hS => ?_)
    replace hw := hw G4 hG
    obtain ⟨h0, hw⟩ := hw
    refine th_kv hS (th_rI CF hK hSt hR hS h0 (rest := []) (tk_X12_init) (cw_X17_7 CF hK (by decide +kernel)) hw rfl hL.1.1 rfl th_cn (Nat.le_of_ble_eq_true rfl) dX17_init_14 ⟨by show _ ≤ (1 : Nat); omega, by show _ ≤ (1 : Nat); omega⟩) (fun G5 H locs hw hR hS => ?_)
    exact th_vret hx hb hret hlk hR hS hw (by omega) (by omega) dX17_init_17)
def tw_X18_init (Q : aH → Prop) (G : aH) (a0 : Nat) (a1 : Nat) (x2 : Int32) : Prop :=
  th_o G a0 18 ∧ (
  ∀ G1 : aH, G1 = a_sr G a0 3 a1 → 
  ∀ z2 : Nat, z2 = a_sz G1 → ∀ G3 : aH, G3 = a_nw G1 (100 + 0) 1 → 
  th_ai G3 z2 0 0 ∧ (
  ∀ G4 : aH, G4 = a_si G3 z2 (0 : Int32).toNatClampNeg x2 → 
  (a_sh G4 a0).1 ≠ 0 ∧ (
  (tw_X12_init
    (fun (G5 : aH) =>
      Q G5)
    G4 a0 a1 z2))))
theorem tk_X18_init {l : Launch} {D : tD} {B : Nat} {Q : aH → Prop} {a0 : Nat} {a1 : Nat} {x2 : Int32} : Met l yX18_init (ws_ yX18_init cX18_init 3 ((Option.none : Option Jvm.ClassFile.FieldType))) rm_X18_init (th_P D B [rv a0, rv a1, .int x2] (fun G => tw_X18_init Q G a0 a1 x2)) (th_Qv D B Q) 1 1 (th_A B) :=
  th_ofW (by decide +kernel) (th_cr (th_cr (th_ci th_cn))) (Nat.le_of_ble_eq_true rfl) (fun p e s m args below meth c CF hret hlk hnm hK hSt G ls hR hS hw hL => by
    have E : th_E p m c cX18_init 3 s args RX18 meth ((Option.none : Option Jvm.ClassFile.FieldType)) "<init>" D B := ⟨CF, hret, hlk, hnm, hK, hSt⟩
    have hx := CF.1; have hb := CF.2.1
    have hL : th_L ls 3 [(0, rv a0), (1, rv a1), (2, .int x2)] := hL
    unfold tw_X18_init at hw
    refine th_aload_n hx hb dX18_init_0 rfl (lv_at hL.1 0 rfl) ?_
    refine th_aload_n hx hb dX18_init_1 rfl (lv_at hL.1 1 rfl) ?_
    obtain ⟨ho, hw⟩ := hw
    refine fp_X18_1 CF hK hR hS hnm ho dX18_init_2 (fun G1 H locs hG hR hS => ?_)
    replace hw := hw G1 hG
    refine th_aload_n hx hb dX18_init_5 rfl (lv_at hL.1 0 rfl) ?_
    refine th_aload_n hx hb dX18_init_6 rfl (lv_at hL.1 1 rfl) ?_
    refine lv_iconst hx hb dX18_init_7 (v := 1) rfl ?_
    refine th_newa hx hb 0 (atype := .int) (CF.2.2.2.2 _ q200) rfl (by decide) (n := 1) 1 (by decide) rfl (by decide +kernel) hK hR hS (by show _ ≤ (1 : Nat); omega) (by show _ ≤ (1 : Nat); omega) dX18_init_8 (fun z2 G3 H hz hG hR hS => ?_)
    replace hw := hw z2 hz G3 hG
    refine lv_dup hx hb dX18_init_10 (rv_cat _) ?_
    refine lv_iconst hx hb dX18_init_11 (v := 0) rfl ?_
    refine lv_iload_n hx hb dX18_init_12 rfl (lv_at hL.1 2 rfl) ?_
    obtain ⟨ha, hw⟩ := hw
    refine th_iast hx hb hK hR hS ha dX18_init_13 (fun G4 H locs hG hR hS => ?_)
    replace hw := hw G4 hG
    obtain ⟨h0, hw⟩ := hw
    refine th_kv hS (th_rI CF hK hSt hR hS h0 (rest := []) (tk_X12_init) (cw_X18_7 CF hK (by decide +kernel)) hw rfl hL.1.1 rfl th_cn (Nat.le_of_ble_eq_true rfl) dX18_init_14 ⟨by show _ ≤ (1 : Nat); omega, by show _ ≤ (1 : Nat); omega⟩) (fun G5 H locs hw hR hS => ?_)
    exact th_vret hx hb hret hlk hR hS hw (by omega) (by omega) dX18_init_17)
def tw_X19_init (Q : aH → Prop) (G : aH) (a0 : Nat) (a1 : Nat) (x2 : Int32) : Prop :=
  th_o G a0 19 ∧ (
  ∀ G1 : aH, G1 = a_sr G a0 3 a1 → 
  ∀ z2 : Nat, z2 = a_sz G1 → ∀ G3 : aH, G3 = a_nw G1 (100 + 0) 1 → 
  th_ai G3 z2 0 0 ∧ (
  ∀ G4 : aH, G4 = a_si G3 z2 (0 : Int32).toNatClampNeg x2 → 
  (a_sh G4 a0).1 ≠ 0 ∧ (
  (tw_X12_init
    (fun (G5 : aH) =>
      Q G5)
    G4 a0 a1 z2))))
theorem tk_X19_init {l : Launch} {D : tD} {B : Nat} {Q : aH → Prop} {a0 : Nat} {a1 : Nat} {x2 : Int32} : Met l yX19_init (ws_ yX19_init cX19_init 3 ((Option.none : Option Jvm.ClassFile.FieldType))) rm_X19_init (th_P D B [rv a0, rv a1, .int x2] (fun G => tw_X19_init Q G a0 a1 x2)) (th_Qv D B Q) 1 1 (th_A B) :=
  th_ofW (by decide +kernel) (th_cr (th_cr (th_ci th_cn))) (Nat.le_of_ble_eq_true rfl) (fun p e s m args below meth c CF hret hlk hnm hK hSt G ls hR hS hw hL => by
    have E : th_E p m c cX19_init 3 s args RX19 meth ((Option.none : Option Jvm.ClassFile.FieldType)) "<init>" D B := ⟨CF, hret, hlk, hnm, hK, hSt⟩
    have hx := CF.1; have hb := CF.2.1
    have hL : th_L ls 3 [(0, rv a0), (1, rv a1), (2, .int x2)] := hL
    unfold tw_X19_init at hw
    refine th_aload_n hx hb dX19_init_0 rfl (lv_at hL.1 0 rfl) ?_
    refine th_aload_n hx hb dX19_init_1 rfl (lv_at hL.1 1 rfl) ?_
    obtain ⟨ho, hw⟩ := hw
    refine fp_X19_1 CF hK hR hS hnm ho dX19_init_2 (fun G1 H locs hG hR hS => ?_)
    replace hw := hw G1 hG
    refine th_aload_n hx hb dX19_init_5 rfl (lv_at hL.1 0 rfl) ?_
    refine th_aload_n hx hb dX19_init_6 rfl (lv_at hL.1 1 rfl) ?_
    refine lv_iconst hx hb dX19_init_7 (v := 1) rfl ?_
    refine th_newa hx hb 0 (atype := .int) (CF.2.2.2.2 _ q200) rfl (by decide) (n := 1) 1 (by decide) rfl (by decide +kernel) hK hR hS (by show _ ≤ (1 : Nat); omega) (by show _ ≤ (1 : Nat); omega) dX19_init_8 (fun z2 G3 H hz hG hR hS => ?_)
    replace hw := hw z2 hz G3 hG
    refine lv_dup hx hb dX19_init_10 (rv_cat _) ?_
    refine lv_iconst hx hb dX19_init_11 (v := 0) rfl ?_
    refine lv_iload_n hx hb dX19_init_12 rfl (lv_at hL.1 2 rfl) ?_
    obtain ⟨ha, hw⟩ := hw
    refine th_iast hx hb hK hR hS ha dX19_init_13 (fun G4 H locs hG hR hS => ?_)
    replace hw := hw G4 hG
    obtain ⟨h0, hw⟩ := hw
    refine th_kv hS (th_rI CF hK hSt hR hS h0 (rest := []) (tk_X12_init) (cw_X19_7 CF hK (by decide +kernel)) hw rfl hL.1.1 rfl th_cn (Nat.le_of_ble_eq_true rfl) dX19_init_14 ⟨by show _ ≤ (1 : Nat); omega, by show _ ≤ (1 : Nat); omega⟩) (fun G5 H locs hw hR hS => ?_)
    exact th_vret hx hb hret hlk hR hS hw (by omega) (by omega) dX19_init_17)
def tw_X0_shortCommand (Q : Nat → aH → Prop) (X : Nat → aH → Prop) (G : aH) (a0 : Nat) : Prop :=
  th_o G a0 0 ∧ (
  (tw_X0_takesIf
    (fun (r2 : Int32) (G1 : aH) =>
      (r2 = 0 →
        th_o G1 a0 0 ∧ (
        (tw_X0_takesIf
          (fun (r4 : Int32) (G3 : aH) =>
            (r4 = 0 →
              th_o G3 a0 0 ∧ (
              (tw_X0_takesIf
                (fun (r6 : Int32) (G5 : aH) =>
                  (r6 = 0 →
                    ∀ z7 : Nat, z7 = a_sz G5 → ∀ G8 : aH, G8 = a_nw G5 (11 + 1) 0 → 
                    (a_sh G8 z7).1 ≠ 0 ∧ (
                    (tw_X11_init
                      (fun (G9 : aH) =>
                        th_oo G9 z7 [9, 10, 11] ∧ (
                        X z7 G9))
                      G8 z7))) ∧
                  (¬ r6 = 0 →
                    ∀ z10 : Nat, z10 = a_sz G5 → ∀ G11 : aH, G11 = a_nw G5 (19 + 1) 0 → 
                    th_o G11 a0 0 ∧ (
                    (tw_X0_digit
                      (fun (r13 : Int32) (G12 : aH) =>
                        (a_sh G12 z10).1 ≠ 0 ∧ (
                        (tw_X19_init
                          (fun (G14 : aH) =>
                            Q z10 G14)
                          G12 z10 a0 r13)))
                      X
                      G11 a0))))
                G3 a0 103))) ∧
            (¬ r4 = 0 →
              ∀ z15 : Nat, z15 = a_sz G3 → ∀ G16 : aH, G16 = a_nw G3 (18 + 1) 0 → 
              th_o G16 a0 0 ∧ (
              (tw_X0_digit
                (fun (r18 : Int32) (G17 : aH) =>
                  (a_sh G17 z15).1 ≠ 0 ∧ (
                  (tw_X18_init
                    (fun (G19 : aH) =>
                      Q z15 G19)
                    G17 z15 a0 r18)))
                X
                G16 a0))))
          G1 a0 107))) ∧
      (¬ r2 = 0 →
        ∀ z20 : Nat, z20 = a_sz G1 → ∀ G21 : aH, G21 = a_nw G1 (17 + 1) 0 → 
        th_o G21 a0 0 ∧ (
        (tw_X0_number
          (fun (r23 : Int32) (G22 : aH) =>
            (a_sh G22 z20).1 ≠ 0 ∧ (
            (tw_X17_init
              (fun (G24 : aH) =>
                Q z20 G24)
              G22 z20 a0 r23)))
          X
          G21 a0))))
    G a0 110))
theorem tk_X0_shortCommand {l : Launch} {D : tD} {B : Nat} {Q : Nat → aH → Prop} {X : Nat → aH → Prop} {a0 : Nat} : vz_Met l yX0_shortCommand (ws_ yX0_shortCommand cX0_shortCommand 1 ((Option.some (Jvm.ClassFile.FieldType.object "TitheBarn$Command")))) rm_X0_shortCommand (th_P D B [rv a0] (fun G => tw_X0_shortCommand Q X G a0)) (th_Qr D B Q) (th_X D B X) 34 198 (th_A B) :=
  th_ofX (by decide +kernel) (th_cr th_cn) (Nat.le_of_ble_eq_true rfl) (fun p e s m args below meth c CF hret hlk hnm htab0 hK hSt G ls hR hS hw hL => by
    have E : th_E p m c cX0_shortCommand 1 s args RX0 meth ((Option.some (Jvm.ClassFile.FieldType.object "TitheBarn$Command"))) "shortCommand" D B := ⟨CF, hret, hlk, hnm, hK, hSt⟩
    have htab : c.exceptionTable.toList = tableOf [] := th_notab htab0
    have hx := CF.1; have hb := CF.2.1
    have hL : th_L ls 1 [(0, rv a0)] := hL
    unfold tw_X0_shortCommand at hw
    refine th_aload_n hx hb dX0_shortCommand_0 rfl (lv_at hL.1 0 rfl) ?_
    refine lv_bipush hx hb dX0_shortCommand_1 (v := 110) rfl ?_
    obtain ⟨ho, hw⟩ := hw
    refine th_ki hS (th_rV CF hK hSt hR hS ho (ci := 0) rfl (rest := []) (tk_X0_takesIf) (cw_X0_307 CF hK (by decide +kernel)) hw rfl hL.1.1 rfl th_cn (Nat.le_of_ble_eq_true rfl) dX0_shortCommand_3 ⟨by show _ ≤ (34 : Nat); omega, by show _ ≤ (198 : Nat); omega⟩) (fun r2 G1 H locs hw hR hS => ?_)
    refine lv_if_eq hx hb dX0_shortCommand_6 (tgt := 22) (by decide) (fun h => ?_) (fun h => ?_)
    · replace hw := hw.1 h
      refine th_aload_n hx hb dX0_shortCommand_22 rfl (lv_at hL.1 0 rfl) ?_
      refine lv_bipush hx hb dX0_shortCommand_23 (v := 107) rfl ?_
      obtain ⟨ho, hw⟩ := hw
      refine th_ki hS (th_rV CF hK hSt hR hS ho (ci := 0) rfl (rest := []) (tk_X0_takesIf) (cw_X0_307 CF hK (by decide +kernel)) hw rfl hL.1.1 rfl th_cn (Nat.le_of_ble_eq_true rfl) dX0_shortCommand_25 ⟨by show _ ≤ (34 : Nat); omega, by show _ ≤ (198 : Nat); omega⟩) (fun r4 G3 H locs hw hR hS => ?_)
      refine lv_if_eq hx hb dX0_shortCommand_28 (tgt := 44) (by decide) (fun h => ?_) (fun h => ?_)
      · replace hw := hw.1 h
        refine th_aload_n hx hb dX0_shortCommand_44 rfl (lv_at hL.1 0 rfl) ?_
        refine lv_bipush hx hb dX0_shortCommand_45 (v := 103) rfl ?_
        obtain ⟨ho, hw⟩ := hw
        refine th_ki hS (th_rV CF hK hSt hR hS ho (ci := 0) rfl (rest := []) (tk_X0_takesIf) (cw_X0_307 CF hK (by decide +kernel)) hw rfl hL.1.1 rfl th_cn (Nat.le_of_ble_eq_true rfl) dX0_shortCommand_47 ⟨by show _ ≤ (34 : Nat); omega, by show _ ≤ (198 : Nat); omega⟩) (fun r6 G5 H locs hw hR hS => ?_)
        refine lv_if_eq hx hb dX0_shortCommand_50 (tgt := 66) (by decide) (fun h => ?_) (fun h => ?_)
        · replace hw := hw.1 h
          refine fn_X0_304 CF hK hR hS (by show _ ≤ (34 : Nat); omega) (by show _ ≤ (198 : Nat); omega) dX0_shortCommand_66 (fun z7 G8 H hz hG hR hS => ?_)
          replace hw := hw z7 hz G8 hG
          refine lv_dup hx hb dX0_shortCommand_69 (rv_cat _) ?_
          obtain ⟨h0, hw⟩ := hw
          refine th_kv hS (th_rI CF hK hSt hR hS h0 (rest := [rv z7]) (tk_X11_init) (cw_X0_306 CF hK (by decide +kernel)) hw rfl hL.1.1 rfl (th_cr th_cn) (Nat.le_of_ble_eq_true rfl) dX0_shortCommand_70 ⟨by show _ ≤ (34 : Nat); omega, by show _ ≤ (198 : Nat); omega⟩) (fun G9 H locs hw hR hS => ?_)
          obtain ⟨ho, hw⟩ := hw
          refine th_athrowo hx hb hR ho dX0_shortCommand_73 ?_
          exact th_out hK hlk (by rw [htab]; decide) hR hS hw ho (by omega) (by omega)
        · replace hw := hw.2 h
          refine fn_X0_358 CF hK hR hS (by show _ ≤ (34 : Nat); omega) (by show _ ≤ (198 : Nat); omega) dX0_shortCommand_53 (fun z10 G11 H hz hG hR hS => ?_)
          replace hw := hw z10 hz G11 hG
          refine lv_dup hx hb dX0_shortCommand_56 (rv_cat _) ?_
          refine th_aload_n hx hb dX0_shortCommand_57 rfl (lv_at hL.1 0 rfl) ?_
          refine th_aload_n hx hb dX0_shortCommand_58 rfl (lv_at hL.1 0 rfl) ?_
          obtain ⟨ho, hw⟩ := hw
          refine th_Xki hS (th_XrV CF hK hSt hR hS ho (ci := 0) rfl (rest := [rv a0, rv z10, rv z10]) (tk_X0_digit) (cw_X0_311 CF hK (by decide +kernel)) hw rfl hL.1.1 rfl (th_cr (th_cr (th_cr th_cn))) (Nat.le_of_ble_eq_true rfl) dX0_shortCommand_59 ⟨by show _ ≤ (34 : Nat); omega, by show _ ≤ (198 : Nat); omega⟩) (fun e9 G9 H locs hw ho hR hS => ?_) (fun r13 G12 H locs hw hR hS => ?_)
          · exact th_out hK hlk (by rw [htab]; decide) hR hS hw ho (by omega) (by omega)
          · skip
            obtain ⟨h0, hw⟩ := hw
            refine th_kv hS (th_rI CF hK hSt hR hS h0 (rest := [rv z10]) (tk_X19_init) (cw_X0_360 CF hK (by decide +kernel)) hw rfl hL.1.1 rfl (th_cr th_cn) (Nat.le_of_ble_eq_true rfl) dX0_shortCommand_62 ⟨by show _ ≤ (34 : Nat); omega, by show _ ≤ (198 : Nat); omega⟩) (fun G14 H locs hw hR hS => ?_)
            exact vz_ret (th_aret hx hb hret (Or.inl ⟨_, rfl⟩) hlk hR hS hw (by omega) (by omega) dX0_shortCommand_65)
      · replace hw := hw.2 h
        refine fn_X0_355 CF hK hR hS (by show _ ≤ (34 : Nat); omega) (by show _ ≤ (198 : Nat); omega) dX0_shortCommand_31 (fun z15 G16 H hz hG hR hS => ?_)
        replace hw := hw z15 hz G16 hG
        refine lv_dup hx hb dX0_shortCommand_34 (rv_cat _) ?_
        refine th_aload_n hx hb dX0_shortCommand_35 rfl (lv_at hL.1 0 rfl) ?_
        refine th_aload_n hx hb dX0_shortCommand_36 rfl (lv_at hL.1 0 rfl) ?_
        obtain ⟨ho, hw⟩ := hw
        refine th_Xki hS (th_XrV CF hK hSt hR hS ho (ci := 0) rfl (rest := [rv a0, rv z15, rv z15]) (tk_X0_digit) (cw_X0_311 CF hK (by decide +kernel)) hw rfl hL.1.1 rfl (th_cr (th_cr (th_cr th_cn))) (Nat.le_of_ble_eq_true rfl) dX0_shortCommand_37 ⟨by show _ ≤ (34 : Nat); omega, by show _ ≤ (198 : Nat); omega⟩) (fun e9 G9 H locs hw ho hR hS => ?_) (fun r18 G17 H locs hw hR hS => ?_)
        · exact th_out hK hlk (by rw [htab]; decide) hR hS hw ho (by omega) (by omega)
        · skip
          obtain ⟨h0, hw⟩ := hw
          refine th_kv hS (th_rI CF hK hSt hR hS h0 (rest := [rv z15]) (tk_X18_init) (cw_X0_357 CF hK (by decide +kernel)) hw rfl hL.1.1 rfl (th_cr th_cn) (Nat.le_of_ble_eq_true rfl) dX0_shortCommand_40 ⟨by show _ ≤ (34 : Nat); omega, by show _ ≤ (198 : Nat); omega⟩) (fun G19 H locs hw hR hS => ?_)
          exact vz_ret (th_aret hx hb hret (Or.inl ⟨_, rfl⟩) hlk hR hS hw (by omega) (by omega) dX0_shortCommand_43)
    · replace hw := hw.2 h
      refine fn_X0_350 CF hK hR hS (by show _ ≤ (34 : Nat); omega) (by show _ ≤ (198 : Nat); omega) dX0_shortCommand_9 (fun z20 G21 H hz hG hR hS => ?_)
      replace hw := hw z20 hz G21 hG
      refine lv_dup hx hb dX0_shortCommand_12 (rv_cat _) ?_
      refine th_aload_n hx hb dX0_shortCommand_13 rfl (lv_at hL.1 0 rfl) ?_
      refine th_aload_n hx hb dX0_shortCommand_14 rfl (lv_at hL.1 0 rfl) ?_
      obtain ⟨ho, hw⟩ := hw
      refine th_Xki hS (th_XrV CF hK hSt hR hS ho (ci := 0) rfl (rest := [rv a0, rv z20, rv z20]) (tk_X0_number) (cw_X0_314 CF hK (by decide +kernel)) hw rfl hL.1.1 rfl (th_cr (th_cr (th_cr th_cn))) (Nat.le_of_ble_eq_true rfl) dX0_shortCommand_15 ⟨by show _ ≤ (34 : Nat); omega, by show _ ≤ (198 : Nat); omega⟩) (fun e9 G9 H locs hw ho hR hS => ?_) (fun r23 G22 H locs hw hR hS => ?_)
      · exact th_out hK hlk (by rw [htab]; decide) hR hS hw ho (by omega) (by omega)
      · skip
        obtain ⟨h0, hw⟩ := hw
        refine th_kv hS (th_rI CF hK hSt hR hS h0 (rest := [rv z20]) (tk_X17_init) (cw_X0_352 CF hK (by decide +kernel)) hw rfl hL.1.1 rfl (th_cr th_cn) (Nat.le_of_ble_eq_true rfl) dX0_shortCommand_18 ⟨by show _ ≤ (34 : Nat); omega, by show _ ≤ (198 : Nat); omega⟩) (fun G24 H locs hw hR hS => ?_)
        exact vz_ret (th_aret hx hb hret (Or.inl ⟨_, rfl⟩) hlk hR hS hw (by omega) (by omega) dX0_shortCommand_21))
def tw_X0_command_b146 (Q : Nat → aH → Prop) (X : Nat → aH → Prop) (G : aH) (tx0 : Int32) (tx1 : Int32) (tx2 : Int32) (ta3 : Nat) (ta4 : Nat) (ta5 : Nat) : Prop :=
  (a_sh G ta4).1 ≠ 0 ∧ (
  (tw_X16_init
    (fun (G19 : aH) =>
      Q ta5 G19)
    G ta4 ta3 tx2 tx1 tx0))
def tw_X0_command (Q : Nat → aH → Prop) (X : Nat → aH → Prop) (G : aH) (a0 : Nat) : Prop :=
  th_o G a0 0 ∧ (
  (tw_X0_takesIf
    (fun (r2 : Int32) (G1 : aH) =>
      (r2 = 0 →
        th_o G1 a0 0 ∧ (
        (tw_X0_takesIf
          (fun (r4 : Int32) (G3 : aH) =>
            (r4 = 0 →
              th_o G3 a0 0 ∧ (
              (tw_X0_takesIf
                (fun (r6 : Int32) (G5 : aH) =>
                  (r6 = 0 →
                    th_o G5 a0 0 ∧ (
                    (tw_X0_takesIf
                      (fun (r8 : Int32) (G7 : aH) =>
                        (r8 = 0 →
                          th_o G7 a0 0 ∧ (
                          (tw_X0_shortCommand
                            (fun (b10 : Nat) (G9 : aH) =>
                              Q b10 G9)
                            X
                            G7 a0))) ∧
                        (¬ r8 = 0 →
                          th_o G7 a0 0 ∧ (
                          (tw_X0_kindSign
                            (fun (r12 : Int32) (G11 : aH) =>
                              th_o G11 a0 0 ∧ (
                              (tw_X0_number
                                (fun (r14 : Int32) (G13 : aH) =>
                                  ∀ z15 : Nat, z15 = a_sz G13 → ∀ G16 : aH, G16 = a_nw G13 (16 + 1) 0 → 
                                  th_o G16 a0 0 ∧ (
                                  (tw_X0_takesIf
                                    (fun (r18 : Int32) (G17 : aH) =>
                                      (r18 = 0 →
                                        tw_X0_command_b146 Q X G17 0 r14 r12 a0 z15 z15) ∧
                                      (¬ r18 = 0 →
                                        tw_X0_command_b146 Q X G17 1 r14 r12 a0 z15 z15))
                                    G16 a0 104)))
                                X
                                G11 a0)))
                            X
                            G7 a0))))
                      G5 a0 115))) ∧
                  (¬ r6 = 0 →
                    th_o G5 a0 0 ∧ (
                    (tw_X0_digit
                      (fun (r21 : Int32) (G20 : aH) =>
                        th_o G20 a0 0 ∧ (
                        (tw_X0_digitBehind
                          (fun (r23 : Int32) (G22 : aH) =>
                            ∀ z24 : Nat, z24 = a_sz G22 → ∀ G25 : aH, G25 = a_nw G22 (15 + 1) 0 → 
                            th_o G25 a0 0 ∧ (
                            (tw_X0_numberBehind
                              (fun (r27 : Int32) (G26 : aH) =>
                                (a_sh G26 z24).1 ≠ 0 ∧ (
                                (tw_X15_init
                                  (fun (G28 : aH) =>
                                    Q z24 G28)
                                  G26 z24 a0 r21 r23 r27)))
                              X
                              G25 a0 58)))
                          X
                          G20 a0 60)))
                      X
                      G5 a0))))
                G3 a0 116))) ∧
            (¬ r4 = 0 →
              th_o G3 a0 0 ∧ (
              (tw_X0_digit
                (fun (r30 : Int32) (G29 : aH) =>
                  th_o G29 a0 0 ∧ (
                  (tw_X0_numberBehind
                    (fun (r32 : Int32) (G31 : aH) =>
                      ∀ z33 : Nat, z33 = a_sz G31 → ∀ G34 : aH, G34 = a_nw G31 (14 + 1) 0 → 
                      th_o G34 a0 0 ∧ (
                      (tw_X0_digitBehind
                        (fun (r36 : Int32) (G35 : aH) =>
                          (a_sh G35 z33).1 ≠ 0 ∧ (
                          (tw_X14_init
                            (fun (G37 : aH) =>
                              Q z33 G37)
                            G35 z33 a0 r30 r32 r36)))
                        X
                        G34 a0 64)))
                    X
                    G29 a0 58)))
                X
                G3 a0))))
          G1 a0 99))) ∧
      (¬ r2 = 0 →
        th_o G1 a0 0 ∧ (
        (tw_X0_digit
          (fun (r39 : Int32) (G38 : aH) =>
            ∀ z40 : Nat, z40 = a_sz G38 → ∀ G41 : aH, G41 = a_nw G38 (13 + 1) 0 → 
            th_o G41 a0 0 ∧ (
            (tw_X0_numberBehind
              (fun (r43 : Int32) (G42 : aH) =>
                (a_sh G42 z40).1 ≠ 0 ∧ (
                (tw_X13_init
                  (fun (G44 : aH) =>
                    Q z40 G44)
                  G42 z40 a0 r39 r43)))
              X
              G41 a0 42)))
          X
          G1 a0))))
    G a0 104))
theorem tk_X0_command_b146 {p : Program} {l : Launch} {e : Env} {s : State} {m : MethodId} {args : Array Value} {below : List Frame} {meth : Method} {c : Code} {D : tD} {B : Nat} (E : th_E p m c cX0_command 3 s args RX0 meth ((Option.some (Jvm.ClassFile.FieldType.object "TitheBarn$Command"))) "command" D B) (htab : c.exceptionTable.toList = tableOf []) {Q : Nat → aH → Prop} {X : Nat → aH → Prop} {G : aH} {H : Heap} {locs : List Loc} {cells slots : Nat} {ls : Array Slot} {tx0 : Int32} {tx1 : Int32} {tx2 : Int32} {ta3 : Nat} {ta4 : Nat} {ta5 : Nat} (hR : th_H D B G H) (hS : va_S (th_A B) s.heap H locs) (hL : th_L ls 3 []) (hw : tw_X0_command_b146 Q X G tx0 tx1 tx2 ta3 ta4 ta5) (hc : cells + (1) ≤ 36 ∧ slots + (3) ≤ 212) : W p l e rm_X0_command s m args below meth c H locs cells slots (vz_MQ below (th_Qr D B Q) (th_X D B X) args s 36 212 (th_A B)) (F0 m 146 ls [.int tx0, .int tx1, .int tx2, rv ta3, rv ta4, rv ta5]) := by
  have CF := E.1; have hx := CF.1; have hb := CF.2.1; have hret := E.2.1; have hlk := E.2.2.1; have hnm := E.2.2.2.1; have hK := E.2.2.2.2.1; have hSt := E.2.2.2.2.2
  unfold tw_X0_command_b146 at hw
  obtain ⟨h0, hw⟩ := hw
  refine th_kv hS (th_rI CF hK hSt hR hS h0 (rest := [rv ta5]) (tk_X16_init) (cw_X0_345 CF hK (by decide +kernel)) hw rfl hL.1.1 rfl (th_cr th_cn) (Nat.le_of_ble_eq_true rfl) dX0_command_146 ⟨by show _ ≤ (36 : Nat); omega, by show _ ≤ (212 : Nat); omega⟩) (fun G19 H locs hw hR hS => ?_)
  exact vz_ret (th_aret hx hb hret (Or.inl ⟨_, rfl⟩) hlk hR hS hw (by omega) (by omega) dX0_command_149)
theorem tk_X0_command {l : Launch} {D : tD} {B : Nat} {Q : Nat → aH → Prop} {X : Nat → aH → Prop} {a0 : Nat} : vz_Met l yX0_command (ws_ yX0_command cX0_command 3 ((Option.some (Jvm.ClassFile.FieldType.object "TitheBarn$Command")))) rm_X0_command (th_P D B [rv a0] (fun G => tw_X0_command Q X G a0)) (th_Qr D B Q) (th_X D B X) 36 212 (th_A B) :=
  th_ofX (by decide +kernel) (th_cr th_cn) (Nat.le_of_ble_eq_true rfl) (fun p e s m args below meth c CF hret hlk hnm htab0 hK hSt G ls hR hS hw hL => by
    have E : th_E p m c cX0_command 3 s args RX0 meth ((Option.some (Jvm.ClassFile.FieldType.object "TitheBarn$Command"))) "command" D B := ⟨CF, hret, hlk, hnm, hK, hSt⟩
    have htab : c.exceptionTable.toList = tableOf [] := th_notab htab0
    have hx := CF.1; have hb := CF.2.1
    have hL : th_L ls 3 [(0, rv a0)] := hL
    unfold tw_X0_command at hw
    refine th_aload_n hx hb dX0_command_0 rfl (lv_at hL.1 0 rfl) ?_
    refine lv_bipush hx hb dX0_command_1 (v := 104) rfl ?_
    obtain ⟨ho, hw⟩ := hw
    refine th_ki hS (th_rV CF hK hSt hR hS ho (ci := 0) rfl (rest := []) (tk_X0_takesIf) (cw_X0_307 CF hK (by decide +kernel)) hw rfl hL.1.1 rfl th_cn (Nat.le_of_ble_eq_true rfl) dX0_command_3 ⟨by show _ ≤ (36 : Nat); omega, by show _ ≤ (212 : Nat); omega⟩) (fun r2 G1 H locs hw hR hS => ?_)
    refine lv_if_eq hx hb dX0_command_6 (tgt := 30) (by decide) (fun h => ?_) (fun h => ?_)
    · replace hw := hw.1 h
      refine th_aload_n hx hb dX0_command_30 rfl (lv_at hL.1 0 rfl) ?_
      refine lv_bipush hx hb dX0_command_31 (v := 99) rfl ?_
      obtain ⟨ho, hw⟩ := hw
      refine th_ki hS (th_rV CF hK hSt hR hS ho (ci := 0) rfl (rest := []) (tk_X0_takesIf) (cw_X0_307 CF hK (by decide +kernel)) hw rfl hL.1.1 rfl th_cn (Nat.le_of_ble_eq_true rfl) dX0_command_33 ⟨by show _ ≤ (36 : Nat); omega, by show _ ≤ (212 : Nat); omega⟩) (fun r4 G3 H locs hw hR hS => ?_)
      refine lv_if_eq hx hb dX0_command_36 (tgt := 68) (by decide) (fun h => ?_) (fun h => ?_)
      · replace hw := hw.1 h
        refine th_aload_n hx hb dX0_command_68 rfl (lv_at hL.1 0 rfl) ?_
        refine lv_bipush hx hb dX0_command_69 (v := 116) rfl ?_
        obtain ⟨ho, hw⟩ := hw
        refine th_ki hS (th_rV CF hK hSt hR hS ho (ci := 0) rfl (rest := []) (tk_X0_takesIf) (cw_X0_307 CF hK (by decide +kernel)) hw rfl hL.1.1 rfl th_cn (Nat.le_of_ble_eq_true rfl) dX0_command_71 ⟨by show _ ≤ (36 : Nat); omega, by show _ ≤ (212 : Nat); omega⟩) (fun r6 G5 H locs hw hR hS => ?_)
        refine lv_if_eq hx hb dX0_command_74 (tgt := 106) (by decide) (fun h => ?_) (fun h => ?_)
        · replace hw := hw.1 h
          refine th_aload_n hx hb dX0_command_106 rfl (lv_at hL.1 0 rfl) ?_
          refine lv_bipush hx hb dX0_command_107 (v := 115) rfl ?_
          obtain ⟨ho, hw⟩ := hw
          refine th_ki hS (th_rV CF hK hSt hR hS ho (ci := 0) rfl (rest := []) (tk_X0_takesIf) (cw_X0_307 CF hK (by decide +kernel)) hw rfl hL.1.1 rfl th_cn (Nat.le_of_ble_eq_true rfl) dX0_command_109 ⟨by show _ ≤ (36 : Nat); omega, by show _ ≤ (212 : Nat); omega⟩) (fun r8 G7 H locs hw hR hS => ?_)
          refine lv_if_eq hx hb dX0_command_112 (tgt := 150) (by decide) (fun h => ?_) (fun h => ?_)
          · replace hw := hw.1 h
            refine th_aload_n hx hb dX0_command_150 rfl (lv_at hL.1 0 rfl) ?_
            obtain ⟨ho, hw⟩ := hw
            refine th_Xkr hS (th_XrV CF hK hSt hR hS ho (ci := 0) rfl (rest := []) (tk_X0_shortCommand) (cw_X0_346 CF hK (by decide +kernel)) hw rfl hL.1.1 rfl th_cn (Nat.le_of_ble_eq_true rfl) dX0_command_151 ⟨by show _ ≤ (36 : Nat); omega, by show _ ≤ (212 : Nat); omega⟩) (fun e9 G9 H locs hw ho hR hS => ?_) (fun b10 G9 H locs hw hR hS => ?_)
            · exact th_out hK hlk (by rw [htab]; decide) hR hS hw ho (by omega) (by omega)
            · skip
              exact vz_ret (th_aret hx hb hret (Or.inl ⟨_, rfl⟩) hlk hR hS hw (by omega) (by omega) dX0_command_154)
          · replace hw := hw.2 h
            refine th_aload_n hx hb dX0_command_115 rfl (lv_at hL.1 0 rfl) ?_
            obtain ⟨ho, hw⟩ := hw
            refine th_Xki hS (th_XrV CF hK hSt hR hS ho (ci := 0) rfl (rest := []) (tk_X0_kindSign) (cw_X0_340 CF hK (by decide +kernel)) hw rfl hL.1.1 rfl th_cn (Nat.le_of_ble_eq_true rfl) dX0_command_116 ⟨by show _ ≤ (36 : Nat); omega, by show _ ≤ (212 : Nat); omega⟩) (fun e9 G9 H locs hw ho hR hS => ?_) (fun r12 G11 H locs hw hR hS => ?_)
            · exact th_out hK hlk (by rw [htab]; decide) hR hS hw ho (by omega) (by omega)
            · skip
              refine th_istore_n hx hb dX0_command_119 rfl hL (by decide) rfl (fun ls hL => ?_)
              refine th_aload_n hx hb dX0_command_120 rfl (lv_at hL.1 1 rfl) ?_
              obtain ⟨ho, hw⟩ := hw
              refine th_Xki hS (th_XrV CF hK hSt hR hS ho (ci := 0) rfl (rest := []) (tk_X0_number) (cw_X0_314 CF hK (by decide +kernel)) hw rfl hL.1.1 rfl th_cn (Nat.le_of_ble_eq_true rfl) dX0_command_121 ⟨by show _ ≤ (36 : Nat); omega, by show _ ≤ (212 : Nat); omega⟩) (fun e9 G9 H locs hw ho hR hS => ?_) (fun r14 G13 H locs hw hR hS => ?_)
              · exact th_out hK hlk (by rw [htab]; decide) hR hS hw ho (by omega) (by omega)
              · skip
                refine th_istore_n hx hb dX0_command_124 rfl hL (by decide) rfl (fun ls hL => ?_)
                refine fn_X0_343 CF hK hR hS (by show _ ≤ (36 : Nat); omega) (by show _ ≤ (212 : Nat); omega) dX0_command_125 (fun z15 G16 H hz hG hR hS => ?_)
                replace hw := hw z15 hz G16 hG
                refine lv_dup hx hb dX0_command_128 (rv_cat _) ?_
                refine th_aload_n hx hb dX0_command_129 rfl (lv_at hL.1 2 rfl) ?_
                refine lv_iload_n hx hb dX0_command_130 rfl (lv_at hL.1 1 rfl) ?_
                refine lv_iload_n hx hb dX0_command_131 rfl (lv_at hL.1 0 rfl) ?_
                refine th_aload_n hx hb dX0_command_132 rfl (lv_at hL.1 2 rfl) ?_
                refine lv_bipush hx hb dX0_command_133 (v := 104) rfl ?_
                obtain ⟨ho, hw⟩ := hw
                refine th_ki hS (th_rV CF hK hSt hR hS ho (ci := 0) rfl (rest := [.int r14, .int r12, rv a0, rv z15, rv z15]) (tk_X0_takesIf) (cw_X0_307 CF hK (by decide +kernel)) hw rfl hL.1.1 rfl (th_ci (th_ci (th_cr (th_cr (th_cr th_cn))))) (Nat.le_of_ble_eq_true rfl) dX0_command_135 ⟨by show _ ≤ (36 : Nat); omega, by show _ ≤ (212 : Nat); omega⟩) (fun r18 G17 H locs hw hR hS => ?_)
                refine lv_if_eq hx hb dX0_command_138 (tgt := 145) (by decide) (fun h => ?_) (fun h => ?_)
                · replace hw := hw.1 h
                  refine lv_iconst hx hb dX0_command_145 (v := 0) rfl ?_
                  exact tk_X0_command_b146 E htab hR hS (hL.sub [] rfl) hw ⟨by omega, by omega⟩
                · replace hw := hw.2 h
                  refine lv_iconst hx hb dX0_command_141 (v := 1) rfl ?_
                  refine lv_goto hx hb dX0_command_142 (tgt := 146) (by decide) ?_
                  exact tk_X0_command_b146 E htab hR hS (hL.sub [] rfl) hw ⟨by omega, by omega⟩
        · replace hw := hw.2 h
          refine th_aload_n hx hb dX0_command_77 rfl (lv_at hL.1 0 rfl) ?_
          obtain ⟨ho, hw⟩ := hw
          refine th_Xki hS (th_XrV CF hK hSt hR hS ho (ci := 0) rfl (rest := []) (tk_X0_digit) (cw_X0_311 CF hK (by decide +kernel)) hw rfl hL.1.1 rfl th_cn (Nat.le_of_ble_eq_true rfl) dX0_command_78 ⟨by show _ ≤ (36 : Nat); omega, by show _ ≤ (212 : Nat); omega⟩) (fun e9 G9 H locs hw ho hR hS => ?_) (fun r21 G20 H locs hw hR hS => ?_)
          · exact th_out hK hlk (by rw [htab]; decide) hR hS hw ho (by omega) (by omega)
          · skip
            refine th_istore_n hx hb dX0_command_81 rfl hL (by decide) rfl (fun ls hL => ?_)
            refine th_aload_n hx hb dX0_command_82 rfl (lv_at hL.1 1 rfl) ?_
            refine lv_bipush hx hb dX0_command_83 (v := 60) rfl ?_
            obtain ⟨ho, hw⟩ := hw
            refine th_Xki hS (th_XrV CF hK hSt hR hS ho (ci := 0) rfl (rest := []) (tk_X0_digitBehind) (cw_X0_331 CF hK (by decide +kernel)) hw rfl hL.1.1 rfl th_cn (Nat.le_of_ble_eq_true rfl) dX0_command_85 ⟨by show _ ≤ (36 : Nat); omega, by show _ ≤ (212 : Nat); omega⟩) (fun e9 G9 H locs hw ho hR hS => ?_) (fun r23 G22 H locs hw hR hS => ?_)
            · exact th_out hK hlk (by rw [htab]; decide) hR hS hw ho (by omega) (by omega)
            · skip
              refine th_istore_n hx hb dX0_command_88 rfl hL (by decide) rfl (fun ls hL => ?_)
              refine fn_X0_337 CF hK hR hS (by show _ ≤ (36 : Nat); omega) (by show _ ≤ (212 : Nat); omega) dX0_command_89 (fun z24 G25 H hz hG hR hS => ?_)
              replace hw := hw z24 hz G25 hG
              refine lv_dup hx hb dX0_command_92 (rv_cat _) ?_
              refine th_aload_n hx hb dX0_command_93 rfl (lv_at hL.1 2 rfl) ?_
              refine lv_iload_n hx hb dX0_command_94 rfl (lv_at hL.1 1 rfl) ?_
              refine lv_iload_n hx hb dX0_command_95 rfl (lv_at hL.1 0 rfl) ?_
              refine th_aload_n hx hb dX0_command_96 rfl (lv_at hL.1 2 rfl) ?_
              refine lv_bipush hx hb dX0_command_97 (v := 58) rfl ?_
              obtain ⟨ho, hw⟩ := hw
              refine th_Xki hS (th_XrV CF hK hSt hR hS ho (ci := 0) rfl (rest := [.int r23, .int r21, rv a0, rv z24, rv z24]) (tk_X0_numberBehind) (cw_X0_322 CF hK (by decide +kernel)) hw rfl hL.1.1 rfl (th_ci (th_ci (th_cr (th_cr (th_cr th_cn))))) (Nat.le_of_ble_eq_true rfl) dX0_command_99 ⟨by show _ ≤ (36 : Nat); omega, by show _ ≤ (212 : Nat); omega⟩) (fun e9 G9 H locs hw ho hR hS => ?_) (fun r27 G26 H locs hw hR hS => ?_)
              · exact th_out hK hlk (by rw [htab]; decide) hR hS hw ho (by omega) (by omega)
              · skip
                obtain ⟨h0, hw⟩ := hw
                refine th_kv hS (th_rI CF hK hSt hR hS h0 (rest := [rv z24]) (tk_X15_init) (cw_X0_339 CF hK (by decide +kernel)) hw rfl hL.1.1 rfl (th_cr th_cn) (Nat.le_of_ble_eq_true rfl) dX0_command_102 ⟨by show _ ≤ (36 : Nat); omega, by show _ ≤ (212 : Nat); omega⟩) (fun G28 H locs hw hR hS => ?_)
                exact vz_ret (th_aret hx hb hret (Or.inl ⟨_, rfl⟩) hlk hR hS hw (by omega) (by omega) dX0_command_105)
      · replace hw := hw.2 h
        refine th_aload_n hx hb dX0_command_39 rfl (lv_at hL.1 0 rfl) ?_
        obtain ⟨ho, hw⟩ := hw
        refine th_Xki hS (th_XrV CF hK hSt hR hS ho (ci := 0) rfl (rest := []) (tk_X0_digit) (cw_X0_311 CF hK (by decide +kernel)) hw rfl hL.1.1 rfl th_cn (Nat.le_of_ble_eq_true rfl) dX0_command_40 ⟨by show _ ≤ (36 : Nat); omega, by show _ ≤ (212 : Nat); omega⟩) (fun e9 G9 H locs hw ho hR hS => ?_) (fun r30 G29 H locs hw hR hS => ?_)
        · exact th_out hK hlk (by rw [htab]; decide) hR hS hw ho (by omega) (by omega)
        · skip
          refine th_istore_n hx hb dX0_command_43 rfl hL (by decide) rfl (fun ls hL => ?_)
          refine th_aload_n hx hb dX0_command_44 rfl (lv_at hL.1 1 rfl) ?_
          refine lv_bipush hx hb dX0_command_45 (v := 58) rfl ?_
          obtain ⟨ho, hw⟩ := hw
          refine th_Xki hS (th_XrV CF hK hSt hR hS ho (ci := 0) rfl (rest := []) (tk_X0_numberBehind) (cw_X0_322 CF hK (by decide +kernel)) hw rfl hL.1.1 rfl th_cn (Nat.le_of_ble_eq_true rfl) dX0_command_47 ⟨by show _ ≤ (36 : Nat); omega, by show _ ≤ (212 : Nat); omega⟩) (fun e9 G9 H locs hw ho hR hS => ?_) (fun r32 G31 H locs hw hR hS => ?_)
          · exact th_out hK hlk (by rw [htab]; decide) hR hS hw ho (by omega) (by omega)
          · skip
            refine th_istore_n hx hb dX0_command_50 rfl hL (by decide) rfl (fun ls hL => ?_)
            refine fn_X0_329 CF hK hR hS (by show _ ≤ (36 : Nat); omega) (by show _ ≤ (212 : Nat); omega) dX0_command_51 (fun z33 G34 H hz hG hR hS => ?_)
            replace hw := hw z33 hz G34 hG
            refine lv_dup hx hb dX0_command_54 (rv_cat _) ?_
            refine th_aload_n hx hb dX0_command_55 rfl (lv_at hL.1 2 rfl) ?_
            refine lv_iload_n hx hb dX0_command_56 rfl (lv_at hL.1 1 rfl) ?_
            refine lv_iload_n hx hb dX0_command_57 rfl (lv_at hL.1 0 rfl) ?_
            refine th_aload_n hx hb dX0_command_58 rfl (lv_at hL.1 2 rfl) ?_
            refine lv_bipush hx hb dX0_command_59 (v := 64) rfl ?_
            obtain ⟨ho, hw⟩ := hw
            refine th_Xki hS (th_XrV CF hK hSt hR hS ho (ci := 0) rfl (rest := [.int r32, .int r30, rv a0, rv z33, rv z33]) (tk_X0_digitBehind) (cw_X0_331 CF hK (by decide +kernel)) hw rfl hL.1.1 rfl (th_ci (th_ci (th_cr (th_cr (th_cr th_cn))))) (Nat.le_of_ble_eq_true rfl) dX0_command_61 ⟨by show _ ≤ (36 : Nat); omega, by show _ ≤ (212 : Nat); omega⟩) (fun e9 G9 H locs hw ho hR hS => ?_) (fun r36 G35 H locs hw hR hS => ?_)
            · exact th_out hK hlk (by rw [htab]; decide) hR hS hw ho (by omega) (by omega)
            · skip
              obtain ⟨h0, hw⟩ := hw
              refine th_kv hS (th_rI CF hK hSt hR hS h0 (rest := [rv z33]) (tk_X14_init) (cw_X0_334 CF hK (by decide +kernel)) hw rfl hL.1.1 rfl (th_cr th_cn) (Nat.le_of_ble_eq_true rfl) dX0_command_64 ⟨by show _ ≤ (36 : Nat); omega, by show _ ≤ (212 : Nat); omega⟩) (fun G37 H locs hw hR hS => ?_)
              exact vz_ret (th_aret hx hb hret (Or.inl ⟨_, rfl⟩) hlk hR hS hw (by omega) (by omega) dX0_command_67)
    · replace hw := hw.2 h
      refine th_aload_n hx hb dX0_command_9 rfl (lv_at hL.1 0 rfl) ?_
      obtain ⟨ho, hw⟩ := hw
      refine th_Xki hS (th_XrV CF hK hSt hR hS ho (ci := 0) rfl (rest := []) (tk_X0_digit) (cw_X0_311 CF hK (by decide +kernel)) hw rfl hL.1.1 rfl th_cn (Nat.le_of_ble_eq_true rfl) dX0_command_10 ⟨by show _ ≤ (36 : Nat); omega, by show _ ≤ (212 : Nat); omega⟩) (fun e9 G9 H locs hw ho hR hS => ?_) (fun r39 G38 H locs hw hR hS => ?_)
      · exact th_out hK hlk (by rw [htab]; decide) hR hS hw ho (by omega) (by omega)
      · skip
        refine th_istore_n hx hb dX0_command_13 rfl hL (by decide) rfl (fun ls hL => ?_)
        refine fn_X0_320 CF hK hR hS (by show _ ≤ (36 : Nat); omega) (by show _ ≤ (212 : Nat); omega) dX0_command_14 (fun z40 G41 H hz hG hR hS => ?_)
        replace hw := hw z40 hz G41 hG
        refine lv_dup hx hb dX0_command_17 (rv_cat _) ?_
        refine th_aload_n hx hb dX0_command_18 rfl (lv_at hL.1 1 rfl) ?_
        refine lv_iload_n hx hb dX0_command_19 rfl (lv_at hL.1 0 rfl) ?_
        refine th_aload_n hx hb dX0_command_20 rfl (lv_at hL.1 1 rfl) ?_
        refine lv_bipush hx hb dX0_command_21 (v := 42) rfl ?_
        obtain ⟨ho, hw⟩ := hw
        refine th_Xki hS (th_XrV CF hK hSt hR hS ho (ci := 0) rfl (rest := [.int r39, rv a0, rv z40, rv z40]) (tk_X0_numberBehind) (cw_X0_322 CF hK (by decide +kernel)) hw rfl hL.1.1 rfl (th_ci (th_cr (th_cr (th_cr th_cn)))) (Nat.le_of_ble_eq_true rfl) dX0_command_23 ⟨by show _ ≤ (36 : Nat); omega, by show _ ≤ (212 : Nat); omega⟩) (fun e9 G9 H locs hw ho hR hS => ?_) (fun r43 G42 H locs hw hR hS => ?_)
        · exact th_out hK hlk (by rw [htab]; decide) hR hS hw ho (by omega) (by omega)
        · skip
          obtain ⟨h0, hw⟩ := hw
          refine th_kv hS (th_rI CF hK hSt hR hS h0 (rest := [rv z40]) (tk_X13_init) (cw_X0_326 CF hK (by decide +kernel)) hw rfl hL.1.1 rfl (th_cr th_cn) (Nat.le_of_ble_eq_true rfl) dX0_command_26 ⟨by show _ ≤ (36 : Nat); omega, by show _ ≤ (212 : Nat); omega⟩) (fun G44 H locs hw hR hS => ?_)
          exact vz_ret (th_aret hx hb hret (Or.inl ⟨_, rfl⟩) hlk hR hS hw (by omega) (by omega) dX0_command_29))
