/-! WALKS: X1_threshes X3_takes X1_isLeftIn X1_isLeftIn_2 X0_half X7_breeds X2_dropsFirst X2_passes X1_passes X0_eatenBy X0_bestCat -/
set_option maxRecDepth 100000
def tw_X1_threshes (Q : Int32 → aH → Prop) (G : aH) (a0 : Nat) (a1 : Nat) : Prop :=
  th_o G a0 1 ∧ (
  th_o G a1 5 ∧ (
  th_ai G (a_mr G a0 4) 7 (a_mi G a1 0) ∧ (
  ∀ a2_1 : Nat, a2_1 = a_mr G (a_mr G a0 4) (a_mi G a1 0).toNatClampNeg → 
  th_o G a1 5 ∧ (
  th_o G a1 5 ∧ (
  th_o G a2_1 6 ∧ (
  th_o G a1 5 ∧ (
  (tw_X0_pintsOf
    (fun (r3 : Int32) (G2 : aH) =>
      ¬ r3 = 0 ∧ (
      ∀ x3_4 : Int32, x3_4 = (if (2000 - (a_mi G a2_1 0)) / r3 < (if a_mi G a1 1 < a_mi G a1 2 then a_mi G a1 1 else a_mi G a1 2) then (2000 - (a_mi G a2_1 0)) / r3 else (if a_mi G a1 1 < a_mi G a1 2 then a_mi G a1 1 else a_mi G a1 2)) → 
      th_o G2 a1 5 ∧ (
      th_o G2 a1 5 ∧ (
      ∀ G5 : aH, G5 = a_si G2 a1 1 ((a_mi G2 a1 1) - x3_4) → 
      th_o G5 a1 5 ∧ (
      th_o G5 a1 5 ∧ (
      ∀ G6 : aH, G6 = a_si G5 a1 3 ((a_mi G5 a1 3) + x3_4) → 
      th_o G6 a2_1 6 ∧ (
      th_o G6 a1 5 ∧ (
      (tw_X0_pintsOf
        (fun (r8 : Int32) (G7 : aH) =>
          th_o G7 a2_1 6 ∧ (
          ∀ G9 : aH, G9 = a_si G7 a2_1 0 ((a_mi G6 a2_1 0) + (x3_4 * r8)) → 
          th_o G9 a2_1 6 ∧ (
          th_o G9 a1 5 ∧ (
          (tw_X0_pintsOf
            (fun (r11 : Int32) (G10 : aH) =>
              th_o G10 a2_1 6 ∧ (
              ∀ G12 : aH, G12 = a_si G10 a2_1 4 ((a_mi G9 a2_1 4) + (x3_4 * r11)) → 
              Q x3_4 G12))
            G9 (a_mi G9 a1 0))))))
        G6 (a_mi G6 a1 0))))))))))
    G (a_mi G a1 0)))))))))
theorem tk_X1_threshes {l : Launch} {D : tD} {B : Nat} {Q : Int32 → aH → Prop} {a0 : Nat} {a1 : Nat} : Met l yX1_threshes (ws_ yX1_threshes cX1_threshes 4 ((Option.some Jvm.ClassFile.FieldType.int))) rm_X1_threshes (th_P D B [rv a0, rv a1] (fun G => tw_X1_threshes Q G a0 a1)) (th_Qi D B Q) 0 0 (th_A B) :=
  th_ofW (by decide +kernel) (th_cr (th_cr th_cn)) (Nat.le_of_ble_eq_true rfl) (fun p e s m args below meth c CF hret hlk hnm hK hSt G ls hR hS hw hL => by
    have E : th_E p m c cX1_threshes 4 s args RX1 meth ((Option.some Jvm.ClassFile.FieldType.int)) "threshes" D B := ⟨CF, hret, hlk, hnm, hK, hSt⟩
    have hx := CF.1; have hb := CF.2.1
    have hL : th_L ls 4 [(0, rv a0), (1, rv a1)] := hL
    unfold tw_X1_threshes at hw
    refine th_aload_n hx hb dX1_threshes_0 rfl (lv_at hL.1 0 rfl) ?_
    obtain ⟨ho, hw⟩ := hw
    refine fg_X1_31 CF hK hR ho dX1_threshes_1 ?_
    refine th_aload_n hx hb dX1_threshes_4 rfl (lv_at hL.1 1 rfl) ?_
    obtain ⟨ho, hw⟩ := hw
    refine fg_X1_113 CF hK hR ho dX1_threshes_5 ?_
    obtain ⟨ha, hw⟩ := hw
    refine th_aald hx hb hK 7 (by decide) rfl rfl hR ha dX1_threshes_8 ?_
    obtain ⟨a2_1, ha2_1⟩ : ∃ y : Nat, y = a_mr G (a_mr G a0 4) (a_mi G a1 0).toNatClampNeg := ⟨_, rfl⟩
    replace hw := hw a2_1 ha2_1
    refine th_nmr ha2_1 ?_
    refine th_astore_n hx hb dX1_threshes_9 rfl hL (by decide) rfl (fun ls hL => ?_)
    refine th_aload_n hx hb dX1_threshes_10 rfl (lv_at hL.1 2 rfl) ?_
    obtain ⟨ho, hw⟩ := hw
    refine fg_X1_114 CF hK hR ho dX1_threshes_11 ?_
    refine th_aload_n hx hb dX1_threshes_14 rfl (lv_at hL.1 2 rfl) ?_
    obtain ⟨ho, hw⟩ := hw
    refine fg_X1_117 CF hK hR ho dX1_threshes_15 ?_
    refine va_mmin hx hb (CF.2.2.1.trans hL.1.1.symm) CF.2.2.2.1 (CF.2.2.2.2 _ q767) (CF.2.2.2.2 _ q666) (CF.2.2.2.2 _ q119) (CF.2.2.2.2 _ q667) (by decide) (by rw [th_c1.sum th_cn]; exact Nat.le_of_ble_eq_true rfl) (by show _ ≤ (0 : Nat); omega) (by show _ ≤ (0 : Nat); omega) dX1_threshes_18 ?_
    refine lv_sipush hx hb dX1_threshes_21 (v := 2000) rfl ?_
    refine th_aload_n hx hb dX1_threshes_24 rfl (lv_at hL.1 0 rfl) ?_
    obtain ⟨ho, hw⟩ := hw
    refine fg_X1_124 CF hK hR ho dX1_threshes_25 ?_
    refine lv_isub hx hb dX1_threshes_28 ?_
    refine th_aload_n hx hb dX1_threshes_29 rfl (lv_at hL.1 2 rfl) ?_
    obtain ⟨ho, hw⟩ := hw
    refine fg_X1_113 CF hK hR ho dX1_threshes_30 ?_
    refine th_ki hS (th_rSN CF hK hSt hR hS (rest := [.int (2000 - (a_mi G a2_1 0)), .int (if a_mi G a1 1 < a_mi G a1 2 then a_mi G a1 1 else a_mi G a1 2)]) (tk_X0_pintsOf) (cw_X1_109 CF hK (by decide +kernel)) hw rfl hL.1.1 rfl (th_ci (th_ci th_cn)) (Nat.le_of_ble_eq_true rfl) dX1_threshes_33 ⟨by show _ ≤ (0 : Nat); omega, by show _ ≤ (0 : Nat); omega⟩) (fun r3 G2 H locs hw hR hS => ?_)
    obtain ⟨h0, hw⟩ := hw
    refine lv_idiv hx hb dX1_threshes_36 h0 ?_
    refine va_mmin hx hb (CF.2.2.1.trans hL.1.1.symm) CF.2.2.2.1 (CF.2.2.2.2 _ q767) (CF.2.2.2.2 _ q666) (CF.2.2.2.2 _ q119) (CF.2.2.2.2 _ q667) (by decide) (by rw [th_c1.sum th_cn]; exact Nat.le_of_ble_eq_true rfl) (by show _ ≤ (0 : Nat); omega) (by show _ ≤ (0 : Nat); omega) dX1_threshes_37 ?_
    obtain ⟨x3_4, hx3_4⟩ : ∃ y : Int32, y = (if (2000 - (a_mi G a2_1 0)) / r3 < (if a_mi G a1 1 < a_mi G a1 2 then a_mi G a1 1 else a_mi G a1 2) then (2000 - (a_mi G a2_1 0)) / r3 else (if a_mi G a1 1 < a_mi G a1 2 then a_mi G a1 1 else a_mi G a1 2)) := ⟨_, rfl⟩
    replace hw := hw x3_4 hx3_4
    refine th_nmi hx3_4 ?_
    refine th_istore_n hx hb dX1_threshes_40 rfl hL (by decide) rfl (fun ls hL => ?_)
    refine th_aload_n hx hb dX1_threshes_41 rfl (lv_at hL.1 3 rfl) ?_
    refine lv_dup hx hb dX1_threshes_42 (rv_cat _) ?_
    obtain ⟨ho, hw⟩ := hw
    refine fg_X1_117 CF hK hR ho dX1_threshes_43 ?_
    refine lv_iload_n hx hb dX1_threshes_46 rfl (lv_at hL.1 0 rfl) ?_
    refine lv_isub hx hb dX1_threshes_47 ?_
    obtain ⟨ho, hw⟩ := hw
    refine fp_X1_117 CF hK hR hS ho dX1_threshes_48 (fun G5 H locs hG hR hS => ?_)
    replace hw := hw G5 hG
    refine th_aload_n hx hb dX1_threshes_51 rfl (lv_at hL.1 3 rfl) ?_
    refine lv_dup hx hb dX1_threshes_52 (rv_cat _) ?_
    obtain ⟨ho, hw⟩ := hw
    refine fg_X1_127 CF hK hR ho dX1_threshes_53 ?_
    refine lv_iload_n hx hb dX1_threshes_56 rfl (lv_at hL.1 0 rfl) ?_
    refine lv_iadd hx hb dX1_threshes_57 ?_
    obtain ⟨ho, hw⟩ := hw
    refine fp_X1_127 CF hK hR hS ho dX1_threshes_58 (fun G6 H locs hG hR hS => ?_)
    replace hw := hw G6 hG
    refine th_aload_n hx hb dX1_threshes_61 rfl (lv_at hL.1 1 rfl) ?_
    refine lv_dup hx hb dX1_threshes_62 (rv_cat _) ?_
    obtain ⟨ho, hw⟩ := hw
    refine fg_X1_124 CF hK hR ho dX1_threshes_63 ?_
    refine lv_iload_n hx hb dX1_threshes_66 rfl (lv_at hL.1 0 rfl) ?_
    refine th_aload_n hx hb dX1_threshes_67 rfl (lv_at hL.1 3 rfl) ?_
    obtain ⟨ho, hw⟩ := hw
    refine fg_X1_113 CF hK hR ho dX1_threshes_68 ?_
    refine th_ki hS (th_rSN CF hK hSt hR hS (rest := [.int x3_4, .int (a_mi G6 a2_1 0), rv a2_1]) (tk_X0_pintsOf) (cw_X1_109 CF hK (by decide +kernel)) hw rfl hL.1.1 rfl (th_ci (th_ci (th_cr th_cn))) (Nat.le_of_ble_eq_true rfl) dX1_threshes_71 ⟨by show _ ≤ (0 : Nat); omega, by show _ ≤ (0 : Nat); omega⟩) (fun r8 G7 H locs hw hR hS => ?_)
    refine lv_imul hx hb dX1_threshes_74 ?_
    refine lv_iadd hx hb dX1_threshes_75 ?_
    obtain ⟨ho, hw⟩ := hw
    refine fp_X1_124 CF hK hR hS ho dX1_threshes_76 (fun G9 H locs hG hR hS => ?_)
    replace hw := hw G9 hG
    refine th_aload_n hx hb dX1_threshes_79 rfl (lv_at hL.1 1 rfl) ?_
    refine lv_dup hx hb dX1_threshes_80 (rv_cat _) ?_
    obtain ⟨ho, hw⟩ := hw
    refine fg_X1_130 CF hK hR ho dX1_threshes_81 ?_
    refine lv_iload_n hx hb dX1_threshes_84 rfl (lv_at hL.1 0 rfl) ?_
    refine th_aload_n hx hb dX1_threshes_85 rfl (lv_at hL.1 3 rfl) ?_
    obtain ⟨ho, hw⟩ := hw
    refine fg_X1_113 CF hK hR ho dX1_threshes_86 ?_
    refine th_ki hS (th_rSN CF hK hSt hR hS (rest := [.int x3_4, .int (a_mi G9 a2_1 4), rv a2_1]) (tk_X0_pintsOf) (cw_X1_109 CF hK (by decide +kernel)) hw rfl hL.1.1 rfl (th_ci (th_ci (th_cr th_cn))) (Nat.le_of_ble_eq_true rfl) dX1_threshes_89 ⟨by show _ ≤ (0 : Nat); omega, by show _ ≤ (0 : Nat); omega⟩) (fun r11 G10 H locs hw hR hS => ?_)
    refine lv_imul hx hb dX1_threshes_92 ?_
    refine lv_iadd hx hb dX1_threshes_93 ?_
    obtain ⟨ho, hw⟩ := hw
    refine fp_X1_130 CF hK hR hS ho dX1_threshes_94 (fun G12 H locs hG hR hS => ?_)
    replace hw := hw G12 hG
    refine lv_iload_n hx hb dX1_threshes_97 rfl (lv_at hL.1 0 rfl) ?_
    exact th_iret hx hb hret hlk hR hS hw (by omega) (by omega) dX1_threshes_98)
def tw_X3_takes (Q : Int32 → aH → Prop) (G : aH) (a0 : Nat) : Prop :=
  th_o G a0 3 ∧ (
  th_o G a0 3 ∧ (
  th_ai G (a_mr G a0 0) 3 ((a_mi G a0 1) - 1) ∧ (
  ∀ a1_1 : Nat, a1_1 = a_mr G (a_mr G a0 0) ((a_mi G a0 1) - 1).toNatClampNeg → 
  th_o G a1_1 4 ∧ (
  th_o G a1_1 4 ∧ (
  ∀ G2 : aH, G2 = a_si G a1_1 1 ((a_mi G a1_1 1) - 1) → 
  th_o G2 a0 3 ∧ (
  th_o G2 a0 3 ∧ (
  ∀ G3 : aH, G3 = a_si G2 a0 2 ((a_mi G2 a0 2) - 1) → 
  th_o G3 a1_1 4 ∧ (
  (¬ a_mi G3 a1_1 1 = 0 →
    th_o G3 a1_1 4 ∧ (
    Q (a_mi G3 a1_1 0) G3)) ∧
  (a_mi G3 a1_1 1 = 0 →
    th_o G3 a0 3 ∧ (
    th_o G3 a0 3 ∧ (
    ∀ G4 : aH, G4 = a_si G3 a0 1 ((a_mi G3 a0 1) - 1) → 
    th_o G4 a1_1 4 ∧ (
    Q (a_mi G4 a1_1 0) G4))))))))))))
theorem tk_X3_takes {l : Launch} {D : tD} {B : Nat} {Q : Int32 → aH → Prop} {a0 : Nat} : Met l yX3_takes (ws_ yX3_takes cX3_takes 2 ((Option.some Jvm.ClassFile.FieldType.int))) rm_X3_takes (th_P D B [rv a0] (fun G => tw_X3_takes Q G a0)) (th_Qi D B Q) 0 0 (th_A B) :=
  th_ofW (by decide +kernel) (th_cr th_cn) (Nat.le_of_ble_eq_true rfl) (fun p e s m args below meth c CF hret hlk hnm hK hSt G ls hR hS hw hL => by
    have E : th_E p m c cX3_takes 2 s args RX3 meth ((Option.some Jvm.ClassFile.FieldType.int)) "takes" D B := ⟨CF, hret, hlk, hnm, hK, hSt⟩
    have hx := CF.1; have hb := CF.2.1
    have hL : th_L ls 2 [(0, rv a0)] := hL
    unfold tw_X3_takes at hw
    refine th_aload_n hx hb dX3_takes_0 rfl (lv_at hL.1 0 rfl) ?_
    obtain ⟨ho, hw⟩ := hw
    refine fg_X3_11 CF hK hR ho dX3_takes_1 ?_
    refine th_aload_n hx hb dX3_takes_4 rfl (lv_at hL.1 0 rfl) ?_
    obtain ⟨ho, hw⟩ := hw
    refine fg_X3_23 CF hK hR ho dX3_takes_5 ?_
    refine lv_iconst hx hb dX3_takes_8 (v := 1) rfl ?_
    refine lv_isub hx hb dX3_takes_9 ?_
    obtain ⟨ha, hw⟩ := hw
    refine th_aald hx hb hK 3 (by decide) rfl rfl hR ha dX3_takes_10 ?_
    obtain ⟨a1_1, ha1_1⟩ : ∃ y : Nat, y = a_mr G (a_mr G a0 0) ((a_mi G a0 1) - 1).toNatClampNeg := ⟨_, rfl⟩
    replace hw := hw a1_1 ha1_1
    refine th_nmr ha1_1 ?_
    refine th_astore_n hx hb dX3_takes_11 rfl hL (by decide) rfl (fun ls hL => ?_)
    refine th_aload_n hx hb dX3_takes_12 rfl (lv_at hL.1 0 rfl) ?_
    refine lv_dup hx hb dX3_takes_13 (rv_cat _) ?_
    obtain ⟨ho, hw⟩ := hw
    refine fg_X3_33 CF hK hR ho dX3_takes_14 ?_
    refine lv_iconst hx hb dX3_takes_17 (v := 1) rfl ?_
    refine lv_isub hx hb dX3_takes_18 ?_
    obtain ⟨ho, hw⟩ := hw
    refine fp_X3_33 CF hK hR hS ho dX3_takes_19 (fun G2 H locs hG hR hS => ?_)
    replace hw := hw G2 hG
    refine th_aload_n hx hb dX3_takes_22 rfl (lv_at hL.1 1 rfl) ?_
    refine lv_dup hx hb dX3_takes_23 (rv_cat _) ?_
    obtain ⟨ho, hw⟩ := hw
    refine fg_X3_27 CF hK hR ho dX3_takes_24 ?_
    refine lv_iconst hx hb dX3_takes_27 (v := 1) rfl ?_
    refine lv_isub hx hb dX3_takes_28 ?_
    obtain ⟨ho, hw⟩ := hw
    refine fp_X3_27 CF hK hR hS ho dX3_takes_29 (fun G3 H locs hG hR hS => ?_)
    replace hw := hw G3 hG
    refine th_aload_n hx hb dX3_takes_32 rfl (lv_at hL.1 0 rfl) ?_
    obtain ⟨ho, hw⟩ := hw
    refine fg_X3_33 CF hK hR ho dX3_takes_33 ?_
    refine lv_if_ne hx hb dX3_takes_36 (tgt := 49) (by decide) (fun h => ?_) (fun h => ?_)
    · replace hw := hw.1 h
      refine th_aload_n hx hb dX3_takes_49 rfl (lv_at hL.1 0 rfl) ?_
      obtain ⟨ho, hw⟩ := hw
      refine fg_X3_30 CF hK hR ho dX3_takes_50 ?_
      exact th_iret hx hb hret hlk hR hS hw (by omega) (by omega) dX3_takes_53
    · replace hw := hw.2 h
      refine th_aload_n hx hb dX3_takes_39 rfl (lv_at hL.1 1 rfl) ?_
      refine lv_dup hx hb dX3_takes_40 (rv_cat _) ?_
      obtain ⟨ho, hw⟩ := hw
      refine fg_X3_23 CF hK hR ho dX3_takes_41 ?_
      refine lv_iconst hx hb dX3_takes_44 (v := 1) rfl ?_
      refine lv_isub hx hb dX3_takes_45 ?_
      obtain ⟨ho, hw⟩ := hw
      refine fp_X3_23 CF hK hR hS ho dX3_takes_46 (fun G4 H locs hG hR hS => ?_)
      replace hw := hw G4 hG
      refine th_aload_n hx hb dX3_takes_49 rfl (lv_at hL.1 0 rfl) ?_
      obtain ⟨ho, hw⟩ := hw
      refine fg_X3_30 CF hK hR ho dX3_takes_50 ?_
      exact th_iret hx hb hret hlk hR hS hw (by omega) (by omega) dX3_takes_53)
def tw_X1_isLeftIn_b64 (Q : Int32 → aH → Prop) (G : aH) (a1 : Nat) : Prop :=
  th_o G a1 3 ∧ (
  (a_mi G a1 2 ≤ 0 →
    Q 0 G) ∧
  (¬ a_mi G a1 2 ≤ 0 →
    Q 1 G))
def tw_X1_isLeftIn_b28 (Q : Int32 → aH → Prop) : Nat → aH → Nat → Nat → Int32 → Int32 → Prop := fun n => Nat.rec (motive := fun _ => aH → Nat → Nat → Int32 → Int32 → Prop) (fun _ _ _ _ _ => False) (fun _ ih G a0 a1 x3 x4 =>
  (x3 ≤ x4 →
    tw_X1_isLeftIn_b64 Q G a1) ∧
  (¬ x3 ≤ x4 →
    th_o G a0 1 ∧ (
    th_o G a0 1 ∧ (
    th_o G a1 3 ∧ (
    (tw_X3_takes
      (fun (r4 : Int32) (G3 : aH) =>
        th_ai G3 (a_mr G a0 0) 4 r4 ∧ (
        th_o G3 (a_mr G3 (a_mr G a0 0) r4.toNatClampNeg) 2 ∧ (
        (tw_X0_pintsOf
          (fun (r6 : Int32) (G5 : aH) =>
            th_o G5 a0 1 ∧ (
            ∀ G7 : aH, G7 = a_si G5 a0 9 ((a_mi G a0 9) + r6) → 
            ∀ x4_8 : Int32, x4_8 = x4 + 1 → 
            ih G7 a0 a1 x3 x4_8))
          G3 (a_mi G3 (a_mr G3 (a_mr G a0 0) r4.toNatClampNeg) 0)))))
      G a1)))))) n
theorem tws_X1_isLeftIn_b28 (Q : Int32 → aH → Prop) (n : Nat) (G : aH) (a0 : Nat) (a1 : Nat) (x3 : Int32) (x4 : Int32) : tw_X1_isLeftIn_b28 Q (n + 1) G a0 a1 x3 x4 = (
  (x3 ≤ x4 →
    tw_X1_isLeftIn_b64 Q G a1) ∧
  (¬ x3 ≤ x4 →
    th_o G a0 1 ∧ (
    th_o G a0 1 ∧ (
    th_o G a1 3 ∧ (
    (tw_X3_takes
      (fun (r4 : Int32) (G3 : aH) =>
        th_ai G3 (a_mr G a0 0) 4 r4 ∧ (
        th_o G3 (a_mr G3 (a_mr G a0 0) r4.toNatClampNeg) 2 ∧ (
        (tw_X0_pintsOf
          (fun (r6 : Int32) (G5 : aH) =>
            th_o G5 a0 1 ∧ (
            ∀ G7 : aH, G7 = a_si G5 a0 9 ((a_mi G a0 9) + r6) → 
            ∀ x4_8 : Int32, x4_8 = x4 + 1 → 
            tw_X1_isLeftIn_b28 Q n G7 a0 a1 x3 x4_8))
          G3 (a_mi G3 (a_mr G3 (a_mr G a0 0) r4.toNatClampNeg) 0)))))
      G a1)))))) := rfl
def tw_X1_isLeftIn (Q : Int32 → aH → Prop) (G : aH) (a0 : Nat) (a1 : Nat) (a2 : Nat) : Prop :=
  th_o G a2 7 ∧ (
  th_o G a1 3 ∧ (
  ∀ x3_1 : Int32, x3_1 = (if a_mi G a1 2 < (a_mi G a2 1) / 10 then a_mi G a1 2 else (a_mi G a2 1) / 10) → 
  th_o G a2 7 ∧ (
  th_o G a2 7 ∧ (
  ∀ G2 : aH, G2 = a_si G a2 2 ((a_mi G a2 2) + x3_1) → 
  ∃ n9 : Nat, tw_X1_isLeftIn_b28 Q n9 G2 a0 a1 x3_1 0))))
theorem tk_X1_isLeftIn_b64 {p : Program} {l : Launch} {e : Env} {s : State} {m : MethodId} {args : Array Value} {below : List Frame} {meth : Method} {c : Code} {D : tD} {B : Nat} (E : th_E p m c cX1_isLeftIn 5 s args RX1 meth ((Option.some Jvm.ClassFile.FieldType.boolean)) "isLeftIn" D B) {Q : Int32 → aH → Prop} {G : aH} {H : Heap} {locs : List Loc} {cells slots : Nat} {ls : Array Slot} {a1 : Nat} (hR : th_H D B G H) (hS : va_S (th_A B) s.heap H locs) (hL : th_L ls 5 [(1, rv a1)]) (hw : tw_X1_isLeftIn_b64 Q G a1) (hc : cells + (0) ≤ 0 ∧ slots + (0) ≤ 0) : W p l e rm_X1_isLeftIn s m args below meth c H locs cells slots (MQ below (th_Qi D B Q) args s 0 0 (th_A B)) (F0 m 64 ls []) := by
  have CF := E.1; have hx := CF.1; have hb := CF.2.1; have hret := E.2.1; have hlk := E.2.2.1; have hnm := E.2.2.2.1; have hK := E.2.2.2.2.1; have hSt := E.2.2.2.2.2
  unfold tw_X1_isLeftIn_b64 at hw
  refine th_aload_n hx hb dX1_isLeftIn_64 rfl (lv_at hL.1 0 rfl) ?_
  obtain ⟨ho, hw⟩ := hw
  refine fg_X1_136 CF hK hR ho dX1_isLeftIn_65 ?_
  refine lv_if_le hx hb dX1_isLeftIn_68 (tgt := 75) (by decide) (fun h => ?_) (fun h => ?_)
  · replace hw := hw.1 h
    refine lv_iconst hx hb dX1_isLeftIn_75 (v := 0) rfl ?_
    exact th_zret .boolean hx hb hret rfl hlk hR hS hw (by omega) (by omega) dX1_isLeftIn_76
  · replace hw := hw.2 h
    refine lv_iconst hx hb dX1_isLeftIn_71 (v := 1) rfl ?_
    refine lv_goto hx hb dX1_isLeftIn_72 (tgt := 76) (by decide) ?_
    exact th_zret .boolean hx hb hret rfl hlk hR hS hw (by omega) (by omega) dX1_isLeftIn_76
theorem tk_X1_isLeftIn_b28 {p : Program} {l : Launch} {e : Env} {s : State} {m : MethodId} {args : Array Value} {below : List Frame} {meth : Method} {c : Code} {D : tD} {B : Nat} (E : th_E p m c cX1_isLeftIn 5 s args RX1 meth ((Option.some Jvm.ClassFile.FieldType.boolean)) "isLeftIn" D B) {Q : Int32 → aH → Prop} : ∀ (n : Nat) {G : aH} {H : Heap} {locs : List Loc} {cells slots : Nat} {ls : Array Slot} {a0 : Nat} {a1 : Nat} {x3 : Int32} {x4 : Int32} (hR : th_H D B G H) (hS : va_S (th_A B) s.heap H locs) (hL : th_L ls 5 [(0, rv a0), (1, rv a1), (3, .int x3), (4, .int x4)]) (hw : tw_X1_isLeftIn_b28 Q n G a0 a1 x3 x4) (hc : cells + (0) ≤ 0 ∧ slots + (0) ≤ 0), W p l e rm_X1_isLeftIn s m args below meth c H locs cells slots (MQ below (th_Qi D B Q) args s 0 0 (th_A B)) (F0 m 28 ls []) := by
  have CF := E.1; have hx := CF.1; have hb := CF.2.1; have hret := E.2.1; have hlk := E.2.2.1; have hnm := E.2.2.2.1; have hK := E.2.2.2.2.1; have hSt := E.2.2.2.2.2
  intro n
  induction n with
  | zero => intro _ _ _ _ _ _ _ _ _ _ _ _ _ hw; exact hw.elim
  | succ n ih =>
    intro G H locs cells slots ls a0 a1 x3 x4 hR hS hL hw hc
    rw [tws_X1_isLeftIn_b28] at hw
    refine lv_iload hx hb dX1_isLeftIn_28 (lv_at hL.1 3 rfl) ?_
    refine lv_iload_n hx hb dX1_isLeftIn_30 rfl (lv_at hL.1 2 rfl) ?_
    refine lv_icmp_ge hx hb dX1_isLeftIn_31 (tgt := 64) (by decide) (fun h => ?_) (fun h => ?_)
    · replace hw := hw.1 h
      exact tk_X1_isLeftIn_b64 E hR hS (hL.sub [1] rfl) hw ⟨by omega, by omega⟩
    · replace hw := hw.2 h
      refine th_aload_n hx hb dX1_isLeftIn_34 rfl (lv_at hL.1 0 rfl) ?_
      refine lv_dup hx hb dX1_isLeftIn_35 (rv_cat _) ?_
      obtain ⟨ho, hw⟩ := hw
      refine fg_X1_59 CF hK hR ho dX1_isLeftIn_36 ?_
      refine th_aload_n hx hb dX1_isLeftIn_39 rfl (lv_at hL.1 0 rfl) ?_
      obtain ⟨ho, hw⟩ := hw
      refine fg_X1_11 CF hK hR ho dX1_isLeftIn_40 ?_
      refine th_aload_n hx hb dX1_isLeftIn_43 rfl (lv_at hL.1 1 rfl) ?_
      obtain ⟨ho, hw⟩ := hw
      refine th_ki hS (th_rV CF hK hSt hR hS ho (ci := 3) rfl (rest := [rv (a_mr G a0 0), .int (a_mi G a0 9), rv a0]) (tk_X3_takes) (cw_X1_140 CF hK (by decide +kernel)) hw rfl hL.1.1 rfl (th_cr (th_ci (th_cr th_cn))) (Nat.le_of_ble_eq_true rfl) dX1_isLeftIn_44 ⟨by show _ ≤ (0 : Nat); omega, by show _ ≤ (0 : Nat); omega⟩) (fun r4 G3 H locs hw hR hS => ?_)
      obtain ⟨ha, hw⟩ := hw
      refine th_aald hx hb hK 4 (by decide) rfl rfl hR ha dX1_isLeftIn_47 ?_
      obtain ⟨ho, hw⟩ := hw
      refine fg_X1_106 CF hK hR ho dX1_isLeftIn_48 ?_
      refine th_ki hS (th_rSN CF hK hSt hR hS (rest := [.int (a_mi G a0 9), rv a0]) (tk_X0_pintsOf) (cw_X1_109 CF hK (by decide +kernel)) hw rfl hL.1.1 rfl (th_ci (th_cr th_cn)) (Nat.le_of_ble_eq_true rfl) dX1_isLeftIn_51 ⟨by show _ ≤ (0 : Nat); omega, by show _ ≤ (0 : Nat); omega⟩) (fun r6 G5 H locs hw hR hS => ?_)
      refine lv_iadd hx hb dX1_isLeftIn_54 ?_
      obtain ⟨ho, hw⟩ := hw
      refine fp_X1_59 CF hK hR hS ho dX1_isLeftIn_55 (fun G7 H locs hG hR hS => ?_)
      replace hw := hw G7 hG
      obtain ⟨x4_8, hx4_8⟩ : ∃ y : Int32, y = x4 + 1 := ⟨_, rfl⟩
      replace hw := hw x4_8 hx4_8
      refine th_iinc hx hb dX1_isLeftIn_58 hL (k := 3) rfl (v := x4_8) hx4_8.symm (by decide) rfl (fun ls hL => ?_)
      refine lv_goto hx hb dX1_isLeftIn_61 (tgt := 28) (by decide) ?_
      exact ih hR hS (hL.sub [1, 2, 3, 0] rfl) hw ⟨by omega, by omega⟩
theorem tk_X1_isLeftIn {l : Launch} {D : tD} {B : Nat} {Q : Int32 → aH → Prop} {a0 : Nat} {a1 : Nat} {a2 : Nat} : Met l yX1_isLeftIn (ws_ yX1_isLeftIn cX1_isLeftIn 5 ((Option.some Jvm.ClassFile.FieldType.boolean))) rm_X1_isLeftIn (th_P D B [rv a0, rv a1, rv a2] (fun G => tw_X1_isLeftIn Q G a0 a1 a2)) (th_Qi D B Q) 0 0 (th_A B) :=
  th_ofW (by decide +kernel) (th_cr (th_cr (th_cr th_cn))) (Nat.le_of_ble_eq_true rfl) (fun p e s m args below meth c CF hret hlk hnm hK hSt G ls hR hS hw hL => by
    have E : th_E p m c cX1_isLeftIn 5 s args RX1 meth ((Option.some Jvm.ClassFile.FieldType.boolean)) "isLeftIn" D B := ⟨CF, hret, hlk, hnm, hK, hSt⟩
    have hx := CF.1; have hb := CF.2.1
    have hL : th_L ls 5 [(0, rv a0), (1, rv a1), (2, rv a2)] := hL
    unfold tw_X1_isLeftIn at hw
    refine th_aload_n hx hb dX1_isLeftIn_0 rfl (lv_at hL.1 2 rfl) ?_
    obtain ⟨ho, hw⟩ := hw
    refine fg_X1_133 CF hK hR ho dX1_isLeftIn_1 ?_
    refine lv_bipush hx hb dX1_isLeftIn_4 (v := 10) rfl ?_
    refine lv_idiv hx hb dX1_isLeftIn_6 (by decide) ?_
    refine th_aload_n hx hb dX1_isLeftIn_7 rfl (lv_at hL.1 1 rfl) ?_
    obtain ⟨ho, hw⟩ := hw
    refine fg_X1_136 CF hK hR ho dX1_isLeftIn_8 ?_
    refine va_mmin hx hb (CF.2.2.1.trans hL.1.1.symm) CF.2.2.2.1 (CF.2.2.2.2 _ q767) (CF.2.2.2.2 _ q666) (CF.2.2.2.2 _ q119) (CF.2.2.2.2 _ q667) (by decide) (by rw [th_c1.sum th_cn]; exact Nat.le_of_ble_eq_true rfl) (by show _ ≤ (0 : Nat); omega) (by show _ ≤ (0 : Nat); omega) dX1_isLeftIn_11 ?_
    obtain ⟨x3_1, hx3_1⟩ : ∃ y : Int32, y = (if a_mi G a1 2 < (a_mi G a2 1) / 10 then a_mi G a1 2 else (a_mi G a2 1) / 10) := ⟨_, rfl⟩
    replace hw := hw x3_1 hx3_1
    refine th_nmi hx3_1 ?_
    refine th_istore_n hx hb dX1_isLeftIn_14 rfl hL (by decide) rfl (fun ls hL => ?_)
    refine th_aload_n hx hb dX1_isLeftIn_15 rfl (lv_at hL.1 3 rfl) ?_
    refine lv_dup hx hb dX1_isLeftIn_16 (rv_cat _) ?_
    obtain ⟨ho, hw⟩ := hw
    refine fg_X1_137 CF hK hR ho dX1_isLeftIn_17 ?_
    refine lv_iload_n hx hb dX1_isLeftIn_20 rfl (lv_at hL.1 0 rfl) ?_
    refine lv_iadd hx hb dX1_isLeftIn_21 ?_
    obtain ⟨ho, hw⟩ := hw
    refine fp_X1_137 CF hK hR hS ho dX1_isLeftIn_22 (fun G2 H locs hG hR hS => ?_)
    replace hw := hw G2 hG
    refine lv_iconst hx hb dX1_isLeftIn_25 (v := 0) rfl ?_
    refine th_istore hx hb dX1_isLeftIn_26 hL (by decide) rfl (fun ls hL => ?_)
    obtain ⟨n9, hw⟩ := hw
    exact tk_X1_isLeftIn_b28 E n9 hR hS (hL.sub [2, 3, 1, 0] rfl) hw ⟨by omega, by omega⟩)
def tw_X1_isLeftIn_2 (Q : Int32 → aH → Prop) (G : aH) (a0 : Nat) (a1 : Nat) (a2 : Nat) : Prop :=
  th_o G a2 7 ∧ (
  th_o G a1 6 ∧ (
  ∀ x3_1 : Int32, x3_1 = (if a_mi G a1 0 < a_mi G a2 1 then a_mi G a1 0 else a_mi G a2 1) → 
  th_o G a2 7 ∧ (
  th_o G a2 7 ∧ (
  ∀ G2 : aH, G2 = a_si G a2 2 ((a_mi G a2 2) + x3_1) → 
  th_o G2 a0 1 ∧ (
  th_o G2 a0 1 ∧ (
  ∀ G3 : aH, G3 = a_si G2 a0 9 ((a_mi G2 a0 9) + x3_1) → 
  th_o G3 a1 6 ∧ (
  th_o G3 a1 6 ∧ (
  ∀ G4 : aH, G4 = a_si G3 a1 0 ((a_mi G3 a1 0) - x3_1) → 
  th_o G4 a1 6 ∧ (
  (a_mi G4 a1 0 ≤ 0 →
    Q 0 G4) ∧
  (¬ a_mi G4 a1 0 ≤ 0 →
    Q 1 G4))))))))))
theorem tk_X1_isLeftIn_2 {l : Launch} {D : tD} {B : Nat} {Q : Int32 → aH → Prop} {a0 : Nat} {a1 : Nat} {a2 : Nat} : Met l yX1_isLeftIn_2 (ws_ yX1_isLeftIn_2 cX1_isLeftIn_2 4 ((Option.some Jvm.ClassFile.FieldType.boolean))) rm_X1_isLeftIn_2 (th_P D B [rv a0, rv a1, rv a2] (fun G => tw_X1_isLeftIn_2 Q G a0 a1 a2)) (th_Qi D B Q) 0 0 (th_A B) :=
  th_ofW (by decide +kernel) (th_cr (th_cr (th_cr th_cn))) (Nat.le_of_ble_eq_true rfl) (fun p e s m args below meth c CF hret hlk hnm hK hSt G ls hR hS hw hL => by
    have E : th_E p m c cX1_isLeftIn_2 4 s args RX1 meth ((Option.some Jvm.ClassFile.FieldType.boolean)) "isLeftIn" D B := ⟨CF, hret, hlk, hnm, hK, hSt⟩
    have hx := CF.1; have hb := CF.2.1
    have hL : th_L ls 4 [(0, rv a0), (1, rv a1), (2, rv a2)] := hL
    unfold tw_X1_isLeftIn_2 at hw
    refine th_aload_n hx hb dX1_isLeftIn_2_0 rfl (lv_at hL.1 2 rfl) ?_
    obtain ⟨ho, hw⟩ := hw
    refine fg_X1_133 CF hK hR ho dX1_isLeftIn_2_1 ?_
    refine th_aload_n hx hb dX1_isLeftIn_2_4 rfl (lv_at hL.1 1 rfl) ?_
    obtain ⟨ho, hw⟩ := hw
    refine fg_X1_124 CF hK hR ho dX1_isLeftIn_2_5 ?_
    refine va_mmin hx hb (CF.2.2.1.trans hL.1.1.symm) CF.2.2.2.1 (CF.2.2.2.2 _ q767) (CF.2.2.2.2 _ q666) (CF.2.2.2.2 _ q119) (CF.2.2.2.2 _ q667) (by decide) (by rw [th_c1.sum th_cn]; exact Nat.le_of_ble_eq_true rfl) (by show _ ≤ (0 : Nat); omega) (by show _ ≤ (0 : Nat); omega) dX1_isLeftIn_2_8 ?_
    obtain ⟨x3_1, hx3_1⟩ : ∃ y : Int32, y = (if a_mi G a1 0 < a_mi G a2 1 then a_mi G a1 0 else a_mi G a2 1) := ⟨_, rfl⟩
    replace hw := hw x3_1 hx3_1
    refine th_nmi hx3_1 ?_
    refine th_istore_n hx hb dX1_isLeftIn_2_11 rfl hL (by decide) rfl (fun ls hL => ?_)
    refine th_aload_n hx hb dX1_isLeftIn_2_12 rfl (lv_at hL.1 3 rfl) ?_
    refine lv_dup hx hb dX1_isLeftIn_2_13 (rv_cat _) ?_
    obtain ⟨ho, hw⟩ := hw
    refine fg_X1_137 CF hK hR ho dX1_isLeftIn_2_14 ?_
    refine lv_iload_n hx hb dX1_isLeftIn_2_17 rfl (lv_at hL.1 0 rfl) ?_
    refine lv_iadd hx hb dX1_isLeftIn_2_18 ?_
    obtain ⟨ho, hw⟩ := hw
    refine fp_X1_137 CF hK hR hS ho dX1_isLeftIn_2_19 (fun G2 H locs hG hR hS => ?_)
    replace hw := hw G2 hG
    refine th_aload_n hx hb dX1_isLeftIn_2_22 rfl (lv_at hL.1 1 rfl) ?_
    refine lv_dup hx hb dX1_isLeftIn_2_23 (rv_cat _) ?_
    obtain ⟨ho, hw⟩ := hw
    refine fg_X1_59 CF hK hR ho dX1_isLeftIn_2_24 ?_
    refine lv_iload_n hx hb dX1_isLeftIn_2_27 rfl (lv_at hL.1 0 rfl) ?_
    refine lv_iadd hx hb dX1_isLeftIn_2_28 ?_
    obtain ⟨ho, hw⟩ := hw
    refine fp_X1_59 CF hK hR hS ho dX1_isLeftIn_2_29 (fun G3 H locs hG hR hS => ?_)
    replace hw := hw G3 hG
    refine th_aload_n hx hb dX1_isLeftIn_2_32 rfl (lv_at hL.1 2 rfl) ?_
    refine lv_dup hx hb dX1_isLeftIn_2_33 (rv_cat _) ?_
    obtain ⟨ho, hw⟩ := hw
    refine fg_X1_124 CF hK hR ho dX1_isLeftIn_2_34 ?_
    refine lv_iload_n hx hb dX1_isLeftIn_2_37 rfl (lv_at hL.1 0 rfl) ?_
    refine lv_isub hx hb dX1_isLeftIn_2_38 ?_
    obtain ⟨ho, hw⟩ := hw
    refine fp_X1_124 CF hK hR hS ho dX1_isLeftIn_2_39 (fun G4 H locs hG hR hS => ?_)
    replace hw := hw G4 hG
    refine th_aload_n hx hb dX1_isLeftIn_2_42 rfl (lv_at hL.1 2 rfl) ?_
    obtain ⟨ho, hw⟩ := hw
    refine fg_X1_124 CF hK hR ho dX1_isLeftIn_2_43 ?_
    refine lv_if_le hx hb dX1_isLeftIn_2_46 (tgt := 53) (by decide) (fun h => ?_) (fun h => ?_)
    · replace hw := hw.1 h
      refine lv_iconst hx hb dX1_isLeftIn_2_53 (v := 0) rfl ?_
      exact th_zret .boolean hx hb hret rfl hlk hR hS hw (by omega) (by omega) dX1_isLeftIn_2_54
    · replace hw := hw.2 h
      refine lv_iconst hx hb dX1_isLeftIn_2_49 (v := 1) rfl ?_
      refine lv_goto hx hb dX1_isLeftIn_2_50 (tgt := 54) (by decide) ?_
      exact th_zret .boolean hx hb hret rfl hlk hR hS hw (by omega) (by omega) dX1_isLeftIn_2_54)
def tw_X0_half (Q : Int32 → aH → Prop) (G : aH) (x0 : Int32) : Prop :=
  Q ((x0 + 1) / 2) G
theorem tk_X0_half {l : Launch} {D : tD} {B : Nat} {Q : Int32 → aH → Prop} {x0 : Int32} : Met l yX0_half (ws_ yX0_half cX0_half 1 ((Option.some Jvm.ClassFile.FieldType.int))) rm_X0_half (th_P D B [.int x0] (fun G => tw_X0_half Q G x0)) (th_Qi D B Q) 0 0 (th_A B) :=
  th_ofW (by decide +kernel) (th_ci th_cn) (Nat.le_of_ble_eq_true rfl) (fun p e s m args below meth c CF hret hlk hnm hK hSt G ls hR hS hw hL => by
    have E : th_E p m c cX0_half 1 s args RX0 meth ((Option.some Jvm.ClassFile.FieldType.int)) "half" D B := ⟨CF, hret, hlk, hnm, hK, hSt⟩
    have hx := CF.1; have hb := CF.2.1
    have hL : th_L ls 1 [(0, .int x0)] := hL
    unfold tw_X0_half at hw
    refine lv_iload_n hx hb dX0_half_0 rfl (lv_at hL.1 0 rfl) ?_
    refine lv_iconst hx hb dX0_half_1 (v := 1) rfl ?_
    refine lv_iadd hx hb dX0_half_2 ?_
    refine lv_iconst hx hb dX0_half_3 (v := 2) rfl ?_
    refine lv_idiv hx hb dX0_half_4 (by decide) ?_
    exact th_iret hx hb hret hlk hR hS hw (by omega) (by omega) dX0_half_5)
def tw_X7_breeds_b52 (Q : aH → Prop) (G : aH) (a0 : Nat) (tx0 : Int32) (tx1 : Int32) (ta2 : Nat) : Prop :=
  th_o G ta2 7 ∧ (
  ∀ G4 : aH, G4 = a_si G ta2 1 (tx1 - tx0) → 
  th_o G4 a0 7 ∧ (
  th_o G4 a0 7 ∧ (
  ∀ G5 : aH, G5 = a_si G4 a0 1 (if a_mi G4 a0 1 < 50 then a_mi G4 a0 1 else 50) → 
  Q G5)))
def tw_X7_breeds_b29 (Q : aH → Prop) (G : aH) (a0 : Nat) (x2 : Int32) (tx0 : Int32) (ta1 : Nat) : Prop :=
  th_o G ta1 7 ∧ (
  ∀ G3 : aH, G3 = a_si G ta1 1 tx0 → 
  th_o G3 a0 7 ∧ (
  (x2 = 0 →
    tw_X7_breeds_b52 Q G3 a0 0 (a_mi G3 a0 1) a0) ∧
  (¬ x2 = 0 →
    th_o G3 a0 7 ∧ (
    (tw_X0_half
      (fun (r7 : Int32) (G6 : aH) =>
        tw_X7_breeds_b52 Q G6 a0 r7 (a_mi G3 a0 1) a0)
      G3 (a_mi G3 a0 1))))))
def tw_X7_breeds (Q : aH → Prop) (G : aH) (a0 : Nat) (x1 : Int32) (x2 : Int32) : Prop :=
  (x1 = 0 →
    th_o G a0 7 ∧ (
    th_o G a0 7 ∧ (
    (tw_X0_half
      (fun (r2 : Int32) (G1 : aH) =>
        tw_X7_breeds_b29 Q G1 a0 x2 ((a_mi G a0 1) - r2) a0)
      G (a_mi G a0 1))))) ∧
  (¬ x1 = 0 →
    th_o G a0 7 ∧ (
    th_o G a0 7 ∧ (
    tw_X7_breeds_b29 Q G a0 x2 ((a_mi G a0 1) + (a_mi G a0 0)) a0)))
theorem tk_X7_breeds_b52 {p : Program} {l : Launch} {e : Env} {s : State} {m : MethodId} {args : Array Value} {below : List Frame} {meth : Method} {c : Code} {D : tD} {B : Nat} (E : th_E p m c cX7_breeds 3 s args RX7 meth ((Option.none : Option Jvm.ClassFile.FieldType)) "breeds" D B) {Q : aH → Prop} {G : aH} {H : Heap} {locs : List Loc} {cells slots : Nat} {ls : Array Slot} {a0 : Nat} {tx0 : Int32} {tx1 : Int32} {ta2 : Nat} (hR : th_H D B G H) (hS : va_S (th_A B) s.heap H locs) (hL : th_L ls 3 [(0, rv a0)]) (hw : tw_X7_breeds_b52 Q G a0 tx0 tx1 ta2) (hc : cells + (0) ≤ 0 ∧ slots + (0) ≤ 0) : W p l e rm_X7_breeds s m args below meth c H locs cells slots (MQ below (th_Qv D B Q) args s 0 0 (th_A B)) (F0 m 52 ls [.int tx0, .int tx1, rv ta2]) := by
  have CF := E.1; have hx := CF.1; have hb := CF.2.1; have hret := E.2.1; have hlk := E.2.2.1; have hnm := E.2.2.2.1; have hK := E.2.2.2.2.1; have hSt := E.2.2.2.2.2
  unfold tw_X7_breeds_b52 at hw
  refine lv_isub hx hb dX7_breeds_52 ?_
  obtain ⟨ho, hw⟩ := hw
  refine fp_X7_15 CF hK hR hS ho dX7_breeds_53 (fun G4 H locs hG hR hS => ?_)
  replace hw := hw G4 hG
  refine th_aload_n hx hb dX7_breeds_56 rfl (lv_at hL.1 0 rfl) ?_
  refine lv_bipush hx hb dX7_breeds_57 (v := 50) rfl ?_
  refine th_aload_n hx hb dX7_breeds_59 rfl (lv_at hL.1 0 rfl) ?_
  obtain ⟨ho, hw⟩ := hw
  refine fg_X7_15 CF hK hR ho dX7_breeds_60 ?_
  refine va_mmin hx hb (CF.2.2.1.trans hL.1.1.symm) CF.2.2.2.1 (CF.2.2.2.2 _ q787) (CF.2.2.2.2 _ q666) (CF.2.2.2.2 _ q119) (CF.2.2.2.2 _ q667) (by decide) (by rw [th_c1.sum (th_cr th_cn)]; exact Nat.le_of_ble_eq_true rfl) (by show _ ≤ (0 : Nat); omega) (by show _ ≤ (0 : Nat); omega) dX7_breeds_63 ?_
  obtain ⟨ho, hw⟩ := hw
  refine fp_X7_15 CF hK hR hS ho dX7_breeds_66 (fun G5 H locs hG hR hS => ?_)
  replace hw := hw G5 hG
  exact th_vret hx hb hret hlk hR hS hw (by omega) (by omega) dX7_breeds_69
theorem tk_X7_breeds_b29 {p : Program} {l : Launch} {e : Env} {s : State} {m : MethodId} {args : Array Value} {below : List Frame} {meth : Method} {c : Code} {D : tD} {B : Nat} (E : th_E p m c cX7_breeds 3 s args RX7 meth ((Option.none : Option Jvm.ClassFile.FieldType)) "breeds" D B) {Q : aH → Prop} {G : aH} {H : Heap} {locs : List Loc} {cells slots : Nat} {ls : Array Slot} {a0 : Nat} {x2 : Int32} {tx0 : Int32} {ta1 : Nat} (hR : th_H D B G H) (hS : va_S (th_A B) s.heap H locs) (hL : th_L ls 3 [(0, rv a0), (2, .int x2)]) (hw : tw_X7_breeds_b29 Q G a0 x2 tx0 ta1) (hc : cells + (0) ≤ 0 ∧ slots + (0) ≤ 0) : W p l e rm_X7_breeds s m args below meth c H locs cells slots (MQ below (th_Qv D B Q) args s 0 0 (th_A B)) (F0 m 29 ls [.int tx0, rv ta1]) := by
  have CF := E.1; have hx := CF.1; have hb := CF.2.1; have hret := E.2.1; have hlk := E.2.2.1; have hnm := E.2.2.2.1; have hK := E.2.2.2.2.1; have hSt := E.2.2.2.2.2
  unfold tw_X7_breeds_b29 at hw
  obtain ⟨ho, hw⟩ := hw
  refine fp_X7_15 CF hK hR hS ho dX7_breeds_29 (fun G3 H locs hG hR hS => ?_)
  replace hw := hw G3 hG
  refine th_aload_n hx hb dX7_breeds_32 rfl (lv_at hL.1 0 rfl) ?_
  refine lv_dup hx hb dX7_breeds_33 (rv_cat _) ?_
  obtain ⟨ho, hw⟩ := hw
  refine fg_X7_15 CF hK hR ho dX7_breeds_34 ?_
  refine lv_iload_n hx hb dX7_breeds_37 rfl (lv_at hL.1 1 rfl) ?_
  refine lv_if_eq hx hb dX7_breeds_38 (tgt := 51) (by decide) (fun h => ?_) (fun h => ?_)
  · replace hw := hw.1 h
    refine lv_iconst hx hb dX7_breeds_51 (v := 0) rfl ?_
    exact tk_X7_breeds_b52 E hR hS (hL.sub [0] rfl) hw ⟨by omega, by omega⟩
  · replace hw := hw.2 h
    refine th_aload_n hx hb dX7_breeds_41 rfl (lv_at hL.1 0 rfl) ?_
    obtain ⟨ho, hw⟩ := hw
    refine fg_X7_15 CF hK hR ho dX7_breeds_42 ?_
    refine th_ki hS (th_rSN CF hK hSt hR hS (rest := [.int (a_mi G3 a0 1), rv a0]) (tk_X0_half) (cw_X7_21 CF hK (by decide +kernel)) hw rfl hL.1.1 rfl (th_ci (th_cr th_cn)) (Nat.le_of_ble_eq_true rfl) dX7_breeds_45 ⟨by show _ ≤ (0 : Nat); omega, by show _ ≤ (0 : Nat); omega⟩) (fun r7 G6 H locs hw hR hS => ?_)
    refine lv_goto hx hb dX7_breeds_48 (tgt := 52) (by decide) ?_
    exact tk_X7_breeds_b52 E hR hS (hL.sub [0] rfl) hw ⟨by omega, by omega⟩
theorem tk_X7_breeds {l : Launch} {D : tD} {B : Nat} {Q : aH → Prop} {a0 : Nat} {x1 : Int32} {x2 : Int32} : Met l yX7_breeds (ws_ yX7_breeds cX7_breeds 3 ((Option.none : Option Jvm.ClassFile.FieldType))) rm_X7_breeds (th_P D B [rv a0, .int x1, .int x2] (fun G => tw_X7_breeds Q G a0 x1 x2)) (th_Qv D B Q) 0 0 (th_A B) :=
  th_ofW (by decide +kernel) (th_cr (th_ci (th_ci th_cn))) (Nat.le_of_ble_eq_true rfl) (fun p e s m args below meth c CF hret hlk hnm hK hSt G ls hR hS hw hL => by
    have E : th_E p m c cX7_breeds 3 s args RX7 meth ((Option.none : Option Jvm.ClassFile.FieldType)) "breeds" D B := ⟨CF, hret, hlk, hnm, hK, hSt⟩
    have hx := CF.1; have hb := CF.2.1
    have hL : th_L ls 3 [(0, rv a0), (1, .int x1), (2, .int x2)] := hL
    unfold tw_X7_breeds at hw
    refine th_aload_n hx hb dX7_breeds_0 rfl (lv_at hL.1 0 rfl) ?_
    refine lv_iload_n hx hb dX7_breeds_1 rfl (lv_at hL.1 1 rfl) ?_
    refine lv_if_eq hx hb dX7_breeds_2 (tgt := 17) (by decide) (fun h => ?_) (fun h => ?_)
    · replace hw := hw.1 h
      refine th_aload_n hx hb dX7_breeds_17 rfl (lv_at hL.1 0 rfl) ?_
      obtain ⟨ho, hw⟩ := hw
      refine fg_X7_15 CF hK hR ho dX7_breeds_18 ?_
      refine th_aload_n hx hb dX7_breeds_21 rfl (lv_at hL.1 0 rfl) ?_
      obtain ⟨ho, hw⟩ := hw
      refine fg_X7_15 CF hK hR ho dX7_breeds_22 ?_
      refine th_ki hS (th_rSN CF hK hSt hR hS (rest := [.int (a_mi G a0 1), rv a0]) (tk_X0_half) (cw_X7_21 CF hK (by decide +kernel)) hw rfl hL.1.1 rfl (th_ci (th_cr th_cn)) (Nat.le_of_ble_eq_true rfl) dX7_breeds_25 ⟨by show _ ≤ (0 : Nat); omega, by show _ ≤ (0 : Nat); omega⟩) (fun r2 G1 H locs hw hR hS => ?_)
      refine lv_isub hx hb dX7_breeds_28 ?_
      exact tk_X7_breeds_b29 E hR hS (hL.sub [0, 2] rfl) hw ⟨by omega, by omega⟩
    · replace hw := hw.2 h
      refine th_aload_n hx hb dX7_breeds_5 rfl (lv_at hL.1 0 rfl) ?_
      obtain ⟨ho, hw⟩ := hw
      refine fg_X7_15 CF hK hR ho dX7_breeds_6 ?_
      refine th_aload_n hx hb dX7_breeds_9 rfl (lv_at hL.1 0 rfl) ?_
      obtain ⟨ho, hw⟩ := hw
      refine fg_X7_9 CF hK hR ho dX7_breeds_10 ?_
      refine lv_iadd hx hb dX7_breeds_13 ?_
      refine lv_goto hx hb dX7_breeds_14 (tgt := 29) (by decide) ?_
      exact tk_X7_breeds_b29 E hR hS (hL.sub [0, 2] rfl) hw ⟨by omega, by omega⟩)
def tw_X2_dropsFirst_b12 (Q : aH → Prop) : Nat → aH → Nat → Int32 → Prop := fun n => Nat.rec (motive := fun _ => aH → Nat → Int32 → Prop) (fun _ _ _ => False) (fun _ ih G a0 x1 =>
  th_o G a0 2 ∧ (
  (a_mi G a0 6 ≤ x1 →
    Q G) ∧
  (¬ a_mi G a0 6 ≤ x1 →
    th_o G a0 2 ∧ (
    th_o G a0 2 ∧ (
    th_ai G (a_mr G a0 4) 0 (x1 + 1) ∧ (
    th_ai G (a_mr G a0 4) 0 x1 ∧ (
    ∀ G2 : aH, G2 = a_si G (a_mr G a0 4) x1.toNatClampNeg (a_mi G (a_mr G a0 4) (x1 + 1).toNatClampNeg) → 
    th_o G2 a0 2 ∧ (
    th_o G2 a0 2 ∧ (
    th_ai G2 (a_mr G2 a0 5) 0 (x1 + 1) ∧ (
    th_ai G2 (a_mr G2 a0 5) 0 x1 ∧ (
    ∀ G3 : aH, G3 = a_si G2 (a_mr G2 a0 5) x1.toNatClampNeg (a_mi G2 (a_mr G2 a0 5) (x1 + 1).toNatClampNeg) → 
    ∀ x1_4 : Int32, x1_4 = x1 + 1 → 
    ih G3 a0 x1_4))))))))))) n
theorem tws_X2_dropsFirst_b12 (Q : aH → Prop) (n : Nat) (G : aH) (a0 : Nat) (x1 : Int32) : tw_X2_dropsFirst_b12 Q (n + 1) G a0 x1 = (
  th_o G a0 2 ∧ (
  (a_mi G a0 6 ≤ x1 →
    Q G) ∧
  (¬ a_mi G a0 6 ≤ x1 →
    th_o G a0 2 ∧ (
    th_o G a0 2 ∧ (
    th_ai G (a_mr G a0 4) 0 (x1 + 1) ∧ (
    th_ai G (a_mr G a0 4) 0 x1 ∧ (
    ∀ G2 : aH, G2 = a_si G (a_mr G a0 4) x1.toNatClampNeg (a_mi G (a_mr G a0 4) (x1 + 1).toNatClampNeg) → 
    th_o G2 a0 2 ∧ (
    th_o G2 a0 2 ∧ (
    th_ai G2 (a_mr G2 a0 5) 0 (x1 + 1) ∧ (
    th_ai G2 (a_mr G2 a0 5) 0 x1 ∧ (
    ∀ G3 : aH, G3 = a_si G2 (a_mr G2 a0 5) x1.toNatClampNeg (a_mi G2 (a_mr G2 a0 5) (x1 + 1).toNatClampNeg) → 
    ∀ x1_4 : Int32, x1_4 = x1 + 1 → 
    tw_X2_dropsFirst_b12 Q n G3 a0 x1_4))))))))))) := rfl
def tw_X2_dropsFirst (Q : aH → Prop) (G : aH) (a0 : Nat) : Prop :=
  th_o G a0 2 ∧ (
  th_o G a0 2 ∧ (
  ∀ G1 : aH, G1 = a_si G a0 6 ((a_mi G a0 6) - 1) → 
  ∃ n9 : Nat, tw_X2_dropsFirst_b12 Q n9 G1 a0 0))
theorem tk_X2_dropsFirst_b12 {p : Program} {l : Launch} {e : Env} {s : State} {m : MethodId} {args : Array Value} {below : List Frame} {meth : Method} {c : Code} {D : tD} {B : Nat} (E : th_E p m c cX2_dropsFirst 2 s args RX2 meth ((Option.none : Option Jvm.ClassFile.FieldType)) "dropsFirst" D B) {Q : aH → Prop} : ∀ (n : Nat) {G : aH} {H : Heap} {locs : List Loc} {cells slots : Nat} {ls : Array Slot} {a0 : Nat} {x1 : Int32} (hR : th_H D B G H) (hS : va_S (th_A B) s.heap H locs) (hL : th_L ls 2 [(0, rv a0), (1, .int x1)]) (hw : tw_X2_dropsFirst_b12 Q n G a0 x1) (hc : cells + (0) ≤ 0 ∧ slots + (0) ≤ 0), W p l e rm_X2_dropsFirst s m args below meth c H locs cells slots (MQ below (th_Qv D B Q) args s 0 0 (th_A B)) (F0 m 12 ls []) := by
  have CF := E.1; have hx := CF.1; have hb := CF.2.1; have hret := E.2.1; have hlk := E.2.2.1; have hnm := E.2.2.2.1; have hK := E.2.2.2.2.1; have hSt := E.2.2.2.2.2
  intro n
  induction n with
  | zero => intro _ _ _ _ _ _ _ _ _ _ _ hw; exact hw.elim
  | succ n ih =>
    intro G H locs cells slots ls a0 x1 hR hS hL hw hc
    rw [tws_X2_dropsFirst_b12] at hw
    refine lv_iload_n hx hb dX2_dropsFirst_12 rfl (lv_at hL.1 1 rfl) ?_
    refine th_aload_n hx hb dX2_dropsFirst_13 rfl (lv_at hL.1 0 rfl) ?_
    obtain ⟨ho, hw⟩ := hw
    refine fg_X2_31 CF hK hR ho dX2_dropsFirst_14 ?_
    refine lv_icmp_ge hx hb dX2_dropsFirst_17 (tgt := 54) (by decide) (fun h => ?_) (fun h => ?_)
    · replace hw := hw.1 h
      exact th_vret hx hb hret hlk hR hS hw (by omega) (by omega) dX2_dropsFirst_54
    · replace hw := hw.2 h
      refine th_aload_n hx hb dX2_dropsFirst_20 rfl (lv_at hL.1 0 rfl) ?_
      obtain ⟨ho, hw⟩ := hw
      refine fg_X2_9 CF hK hR ho dX2_dropsFirst_21 ?_
      refine lv_iload_n hx hb dX2_dropsFirst_24 rfl (lv_at hL.1 1 rfl) ?_
      refine th_aload_n hx hb dX2_dropsFirst_25 rfl (lv_at hL.1 0 rfl) ?_
      obtain ⟨ho, hw⟩ := hw
      refine fg_X2_9 CF hK hR ho dX2_dropsFirst_26 ?_
      refine lv_iload_n hx hb dX2_dropsFirst_29 rfl (lv_at hL.1 1 rfl) ?_
      refine lv_iconst hx hb dX2_dropsFirst_30 (v := 1) rfl ?_
      refine lv_iadd hx hb dX2_dropsFirst_31 ?_
      obtain ⟨ha, hw⟩ := hw
      refine th_iald hx hb hK hR ha dX2_dropsFirst_32 ?_
      obtain ⟨ha, hw⟩ := hw
      refine th_iast hx hb hK hR hS ha dX2_dropsFirst_33 (fun G2 H locs hG hR hS => ?_)
      replace hw := hw G2 hG
      refine th_aload_n hx hb dX2_dropsFirst_34 rfl (lv_at hL.1 0 rfl) ?_
      obtain ⟨ho, hw⟩ := hw
      refine fg_X2_15 CF hK hR ho dX2_dropsFirst_35 ?_
      refine lv_iload_n hx hb dX2_dropsFirst_38 rfl (lv_at hL.1 1 rfl) ?_
      refine th_aload_n hx hb dX2_dropsFirst_39 rfl (lv_at hL.1 0 rfl) ?_
      obtain ⟨ho, hw⟩ := hw
      refine fg_X2_15 CF hK hR ho dX2_dropsFirst_40 ?_
      refine lv_iload_n hx hb dX2_dropsFirst_43 rfl (lv_at hL.1 1 rfl) ?_
      refine lv_iconst hx hb dX2_dropsFirst_44 (v := 1) rfl ?_
      refine lv_iadd hx hb dX2_dropsFirst_45 ?_
      obtain ⟨ha, hw⟩ := hw
      refine th_iald hx hb hK hR ha dX2_dropsFirst_46 ?_
      obtain ⟨ha, hw⟩ := hw
      refine th_iast hx hb hK hR hS ha dX2_dropsFirst_47 (fun G3 H locs hG hR hS => ?_)
      replace hw := hw G3 hG
      obtain ⟨x1_4, hx1_4⟩ : ∃ y : Int32, y = x1 + 1 := ⟨_, rfl⟩
      replace hw := hw x1_4 hx1_4
      refine th_iinc hx hb dX2_dropsFirst_48 hL (k := 1) rfl (v := x1_4) hx1_4.symm (by decide) rfl (fun ls hL => ?_)
      refine lv_goto hx hb dX2_dropsFirst_51 (tgt := 12) (by decide) ?_
      exact ih hR hS (hL.sub [1, 0] rfl) hw ⟨by omega, by omega⟩
theorem tk_X2_dropsFirst {l : Launch} {D : tD} {B : Nat} {Q : aH → Prop} {a0 : Nat} : Met l yX2_dropsFirst (ws_ yX2_dropsFirst cX2_dropsFirst 2 ((Option.none : Option Jvm.ClassFile.FieldType))) rm_X2_dropsFirst (th_P D B [rv a0] (fun G => tw_X2_dropsFirst Q G a0)) (th_Qv D B Q) 0 0 (th_A B) :=
  th_ofW (by decide +kernel) (th_cr th_cn) (Nat.le_of_ble_eq_true rfl) (fun p e s m args below meth c CF hret hlk hnm hK hSt G ls hR hS hw hL => by
    have E : th_E p m c cX2_dropsFirst 2 s args RX2 meth ((Option.none : Option Jvm.ClassFile.FieldType)) "dropsFirst" D B := ⟨CF, hret, hlk, hnm, hK, hSt⟩
    have hx := CF.1; have hb := CF.2.1
    have hL : th_L ls 2 [(0, rv a0)] := hL
    unfold tw_X2_dropsFirst at hw
    refine th_aload_n hx hb dX2_dropsFirst_0 rfl (lv_at hL.1 0 rfl) ?_
    refine lv_dup hx hb dX2_dropsFirst_1 (rv_cat _) ?_
    obtain ⟨ho, hw⟩ := hw
    refine fg_X2_31 CF hK hR ho dX2_dropsFirst_2 ?_
    refine lv_iconst hx hb dX2_dropsFirst_5 (v := 1) rfl ?_
    refine lv_isub hx hb dX2_dropsFirst_6 ?_
    obtain ⟨ho, hw⟩ := hw
    refine fp_X2_31 CF hK hR hS ho dX2_dropsFirst_7 (fun G1 H locs hG hR hS => ?_)
    replace hw := hw G1 hG
    refine lv_iconst hx hb dX2_dropsFirst_10 (v := 0) rfl ?_
    refine th_istore_n hx hb dX2_dropsFirst_11 rfl hL (by decide) rfl (fun ls hL => ?_)
    obtain ⟨n9, hw⟩ := hw
    exact tk_X2_dropsFirst_b12 E n9 hR hS (hL.sub [1, 0] rfl) hw ⟨by omega, by omega⟩)
def tw_X2_passes_b0 (Q : aH → Prop) : Nat → aH → Nat → Int32 → Prop := fun n => Nat.rec (motive := fun _ => aH → Nat → Int32 → Prop) (fun _ _ _ => False) (fun _ ih G a0 x1 =>
  th_o G a0 2 ∧ (
  (a_mi G a0 6 ≤ 0 →
    Q G) ∧
  (¬ a_mi G a0 6 ≤ 0 →
    th_o G a0 2 ∧ (
    th_ai G (a_mr G a0 4) 0 0 ∧ (
    (x1 - 7 < a_mi G (a_mr G a0 4) (0 : Int32).toNatClampNeg →
      Q G) ∧
    (¬ x1 - 7 < a_mi G (a_mr G a0 4) (0 : Int32).toNatClampNeg →
      th_o G a0 2 ∧ (
      th_o G a0 2 ∧ (
      th_ai G (a_mr G a0 5) 0 0 ∧ (
      th_o G a0 2 ∧ (
      ∀ G1 : aH, G1 = a_si G a0 3 ((a_mi G a0 3) + (a_mi G (a_mr G a0 5) (0 : Int32).toNatClampNeg)) → 
      th_o G1 a0 2 ∧ (
      (tw_X2_dropsFirst
        (fun (G2 : aH) =>
          ih G2 a0 x1)
        G1 a0)))))))))))) n
theorem tws_X2_passes_b0 (Q : aH → Prop) (n : Nat) (G : aH) (a0 : Nat) (x1 : Int32) : tw_X2_passes_b0 Q (n + 1) G a0 x1 = (
  th_o G a0 2 ∧ (
  (a_mi G a0 6 ≤ 0 →
    Q G) ∧
  (¬ a_mi G a0 6 ≤ 0 →
    th_o G a0 2 ∧ (
    th_ai G (a_mr G a0 4) 0 0 ∧ (
    (x1 - 7 < a_mi G (a_mr G a0 4) (0 : Int32).toNatClampNeg →
      Q G) ∧
    (¬ x1 - 7 < a_mi G (a_mr G a0 4) (0 : Int32).toNatClampNeg →
      th_o G a0 2 ∧ (
      th_o G a0 2 ∧ (
      th_ai G (a_mr G a0 5) 0 0 ∧ (
      th_o G a0 2 ∧ (
      ∀ G1 : aH, G1 = a_si G a0 3 ((a_mi G a0 3) + (a_mi G (a_mr G a0 5) (0 : Int32).toNatClampNeg)) → 
      th_o G1 a0 2 ∧ (
      (tw_X2_dropsFirst
        (fun (G2 : aH) =>
          tw_X2_passes_b0 Q n G2 a0 x1)
        G1 a0)))))))))))) := rfl
def tw_X2_passes (Q : aH → Prop) (G : aH) (a0 : Nat) (x1 : Int32) : Prop :=
  ∃ n9 : Nat, tw_X2_passes_b0 Q n9 G a0 x1
theorem tk_X2_passes_b0 {p : Program} {l : Launch} {e : Env} {s : State} {m : MethodId} {args : Array Value} {below : List Frame} {meth : Method} {c : Code} {D : tD} {B : Nat} (E : th_E p m c cX2_passes 2 s args RX2 meth ((Option.none : Option Jvm.ClassFile.FieldType)) "passes" D B) {Q : aH → Prop} : ∀ (n : Nat) {G : aH} {H : Heap} {locs : List Loc} {cells slots : Nat} {ls : Array Slot} {a0 : Nat} {x1 : Int32} (hR : th_H D B G H) (hS : va_S (th_A B) s.heap H locs) (hL : th_L ls 2 [(0, rv a0), (1, .int x1)]) (hw : tw_X2_passes_b0 Q n G a0 x1) (hc : cells + (0) ≤ 0 ∧ slots + (0) ≤ 0), W p l e rm_X2_passes s m args below meth c H locs cells slots (MQ below (th_Qv D B Q) args s 0 0 (th_A B)) (F0 m 0 ls []) := by
  have CF := E.1; have hx := CF.1; have hb := CF.2.1; have hret := E.2.1; have hlk := E.2.2.1; have hnm := E.2.2.2.1; have hK := E.2.2.2.2.1; have hSt := E.2.2.2.2.2
  intro n
  induction n with
  | zero => intro _ _ _ _ _ _ _ _ _ _ _ hw; exact hw.elim
  | succ n ih =>
    intro G H locs cells slots ls a0 x1 hR hS hL hw hc
    rw [tws_X2_passes_b0] at hw
    refine th_aload_n hx hb dX2_passes_0 rfl (lv_at hL.1 0 rfl) ?_
    obtain ⟨ho, hw⟩ := hw
    refine fg_X2_31 CF hK hR ho dX2_passes_1 ?_
    refine lv_if_le hx hb dX2_passes_4 (tgt := 42) (by decide) (fun h => ?_) (fun h => ?_)
    · replace hw := hw.1 h
      exact th_vret hx hb hret hlk hR hS hw (by omega) (by omega) dX2_passes_42
    · replace hw := hw.2 h
      refine th_aload_n hx hb dX2_passes_7 rfl (lv_at hL.1 0 rfl) ?_
      obtain ⟨ho, hw⟩ := hw
      refine fg_X2_9 CF hK hR ho dX2_passes_8 ?_
      refine lv_iconst hx hb dX2_passes_11 (v := 0) rfl ?_
      obtain ⟨ha, hw⟩ := hw
      refine th_iald hx hb hK hR ha dX2_passes_12 ?_
      refine lv_iload_n hx hb dX2_passes_13 rfl (lv_at hL.1 1 rfl) ?_
      refine lv_bipush hx hb dX2_passes_14 (v := 7) rfl ?_
      refine lv_isub hx hb dX2_passes_16 ?_
      refine lv_icmp_gt hx hb dX2_passes_17 (tgt := 42) (by decide) (fun h => ?_) (fun h => ?_)
      · replace hw := hw.1 h
        exact th_vret hx hb hret hlk hR hS hw (by omega) (by omega) dX2_passes_42
      · replace hw := hw.2 h
        refine th_aload_n hx hb dX2_passes_20 rfl (lv_at hL.1 0 rfl) ?_
        refine lv_dup hx hb dX2_passes_21 (rv_cat _) ?_
        obtain ⟨ho, hw⟩ := hw
        refine fg_X2_28 CF hK hR ho dX2_passes_22 ?_
        refine th_aload_n hx hb dX2_passes_25 rfl (lv_at hL.1 0 rfl) ?_
        obtain ⟨ho, hw⟩ := hw
        refine fg_X2_15 CF hK hR ho dX2_passes_26 ?_
        refine lv_iconst hx hb dX2_passes_29 (v := 0) rfl ?_
        obtain ⟨ha, hw⟩ := hw
        refine th_iald hx hb hK hR ha dX2_passes_30 ?_
        refine lv_iadd hx hb dX2_passes_31 ?_
        obtain ⟨ho, hw⟩ := hw
        refine fp_X2_28 CF hK hR hS ho dX2_passes_32 (fun G1 H locs hG hR hS => ?_)
        replace hw := hw G1 hG
        refine th_aload_n hx hb dX2_passes_35 rfl (lv_at hL.1 0 rfl) ?_
        obtain ⟨ho, hw⟩ := hw
        refine th_kv hS (th_rV CF hK hSt hR hS ho (ci := 2) rfl (rest := []) (tk_X2_dropsFirst) (cw_X2_46 CF hK (by decide +kernel)) hw rfl hL.1.1 rfl th_cn (Nat.le_of_ble_eq_true rfl) dX2_passes_36 ⟨by show _ ≤ (0 : Nat); omega, by show _ ≤ (0 : Nat); omega⟩) (fun G2 H locs hw hR hS => ?_)
        refine lv_goto hx hb dX2_passes_39 (tgt := 0) (by decide) ?_
        exact ih hR hS (hL.sub [0, 1] rfl) hw ⟨by omega, by omega⟩
theorem tk_X2_passes {l : Launch} {D : tD} {B : Nat} {Q : aH → Prop} {a0 : Nat} {x1 : Int32} : Met l yX2_passes (ws_ yX2_passes cX2_passes 2 ((Option.none : Option Jvm.ClassFile.FieldType))) rm_X2_passes (th_P D B [rv a0, .int x1] (fun G => tw_X2_passes Q G a0 x1)) (th_Qv D B Q) 0 0 (th_A B) :=
  th_ofW (by decide +kernel) (th_cr (th_ci th_cn)) (Nat.le_of_ble_eq_true rfl) (fun p e s m args below meth c CF hret hlk hnm hK hSt G ls hR hS hw hL => by
    have E : th_E p m c cX2_passes 2 s args RX2 meth ((Option.none : Option Jvm.ClassFile.FieldType)) "passes" D B := ⟨CF, hret, hlk, hnm, hK, hSt⟩
    have hx := CF.1; have hb := CF.2.1
    have hL : th_L ls 2 [(0, rv a0), (1, .int x1)] := hL
    unfold tw_X2_passes at hw
    obtain ⟨n9, hw⟩ := hw
    exact tk_X2_passes_b0 E n9 hR hS (hL.sub [0, 1] rfl) hw ⟨by omega, by omega⟩)
def tw_X1_passes_b143 (Q : Int32 → aH → Prop) (G : aH) (a0 : Nat) (x1 : Int32) : Prop :=
  th_o G a0 1 ∧ (
  th_o G a0 1 ∧ (
  ∀ G3 : aH, G3 = a_si G a0 7 ((a_mi G a0 7) + 1) → 
  Q x1 G3))
def tw_X1_passes_b116 (Q : Int32 → aH → Prop) : Nat → aH → Nat → Int32 → Int32 → Prop := fun n => Nat.rec (motive := fun _ => aH → Nat → Int32 → Int32 → Prop) (fun _ _ _ _ => False) (fun _ ih G a0 x1 x2 =>
  th_o G a0 1 ∧ (
  (a_mi G a0 1 ≤ x2 →
    tw_X1_passes_b143 Q G a0 x1) ∧
  (¬ a_mi G a0 1 ≤ x2 →
    th_o G a0 1 ∧ (
    th_ai G (a_mr G a0 0) 4 x2 ∧ (
    th_o G a0 1 ∧ (
    th_o G (a_mr G (a_mr G a0 0) x2.toNatClampNeg) 2 ∧ (
    (tw_X2_passes
      (fun (G4 : aH) =>
        ∀ x2_5 : Int32, x2_5 = x2 + 1 → 
        ih G4 a0 x1 x2_5)
      G (a_mr G (a_mr G a0 0) x2.toNatClampNeg) (a_mi G a0 7))))))))) n
theorem tws_X1_passes_b116 (Q : Int32 → aH → Prop) (n : Nat) (G : aH) (a0 : Nat) (x1 : Int32) (x2 : Int32) : tw_X1_passes_b116 Q (n + 1) G a0 x1 x2 = (
  th_o G a0 1 ∧ (
  (a_mi G a0 1 ≤ x2 →
    tw_X1_passes_b143 Q G a0 x1) ∧
  (¬ a_mi G a0 1 ≤ x2 →
    th_o G a0 1 ∧ (
    th_ai G (a_mr G a0 0) 4 x2 ∧ (
    th_o G a0 1 ∧ (
    th_o G (a_mr G (a_mr G a0 0) x2.toNatClampNeg) 2 ∧ (
    (tw_X2_passes
      (fun (G4 : aH) =>
        ∀ x2_5 : Int32, x2_5 = x2 + 1 → 
        tw_X1_passes_b116 Q n G4 a0 x1 x2_5)
      G (a_mr G (a_mr G a0 0) x2.toNatClampNeg) (a_mi G a0 7))))))))) := rfl
def tw_X1_passes_b114 (Q : Int32 → aH → Prop) (G : aH) (a0 : Nat) (x1 : Int32) : Prop :=
  ∃ n9 : Nat, tw_X1_passes_b116 Q n9 G a0 x1 0
def tw_X1_passes_b105 (Q : Int32 → aH → Prop) (k42 : aH → Nat → Int32 → Int32 → Prop) (G : aH) (a0 : Nat) (x1 : Int32) (x2 : Int32) (tx0 : Int32) (tx1 : Int32) (ta2 : Nat) : Prop :=
  th_o G ta2 7 ∧ (
  (tw_X7_breeds
    (fun (G9 : aH) =>
      ∀ x2_10 : Int32, x2_10 = x2 + 1 → 
      k42 G9 a0 x1 x2_10)
    G ta2 tx1 tx0))
def tw_X1_passes_b87 (Q : Int32 → aH → Prop) (k42 : aH → Nat → Int32 → Int32 → Prop) (G : aH) (a0 : Nat) (x1 : Int32) (x2 : Int32) (a3 : Nat) (tx0 : Int32) : Prop :=
  th_o G a0 1 ∧ (
  (¬ a_mi G a0 6 = x2 →
    tw_X1_passes_b105 Q k42 G a0 x1 x2 0 tx0 a3) ∧
  (a_mi G a0 6 = x2 →
    tw_X1_passes_b105 Q k42 G a0 x1 x2 1 tx0 a3))
def tw_X1_passes_b42 (Q : Int32 → aH → Prop) : Nat → aH → Nat → Int32 → Int32 → Prop := fun n => Nat.rec (motive := fun _ => aH → Nat → Int32 → Int32 → Prop) (fun _ _ _ _ => False) (fun _ ih G a0 x1 x2 =>
  (7 ≤ x2 →
    tw_X1_passes_b114 Q G a0 x1) ∧
  (¬ 7 ≤ x2 →
    th_o G a0 1 ∧ (
    th_ai G (a_mr G a0 5) 8 x2 ∧ (
    ∀ a3_6 : Nat, a3_6 = a_mr G (a_mr G a0 5) x2.toNatClampNeg → 
    (4 ≤ x2 →
      th_o G a0 1 ∧ (
      th_ai G (a_mr G a0 4) 7 (x2 - 4) ∧ (
      th_o G a0 1 ∧ (
      (tw_X1_isLeftIn_2
        (fun (r8 : Int32) (G7 : aH) =>
          tw_X1_passes_b87 Q (ih) G7 a0 x1 x2 a3_6 r8)
        G a0 (a_mr G (a_mr G a0 4) (x2 - 4).toNatClampNeg) a3_6))))) ∧
    (¬ 4 ≤ x2 →
      th_o G a0 1 ∧ (
      th_ai G (a_mr G a0 2) 5 x2 ∧ (
      th_o G a0 1 ∧ (
      (tw_X1_isLeftIn
        (fun (r12 : Int32) (G11 : aH) =>
          tw_X1_passes_b87 Q (ih) G11 a0 x1 x2 a3_6 r12)
        G a0 (a_mr G (a_mr G a0 2) x2.toNatClampNeg) a3_6))))))))) n
theorem tws_X1_passes_b42 (Q : Int32 → aH → Prop) (n : Nat) (G : aH) (a0 : Nat) (x1 : Int32) (x2 : Int32) : tw_X1_passes_b42 Q (n + 1) G a0 x1 x2 = (
  (7 ≤ x2 →
    tw_X1_passes_b114 Q G a0 x1) ∧
  (¬ 7 ≤ x2 →
    th_o G a0 1 ∧ (
    th_ai G (a_mr G a0 5) 8 x2 ∧ (
    ∀ a3_6 : Nat, a3_6 = a_mr G (a_mr G a0 5) x2.toNatClampNeg → 
    (4 ≤ x2 →
      th_o G a0 1 ∧ (
      th_ai G (a_mr G a0 4) 7 (x2 - 4) ∧ (
      th_o G a0 1 ∧ (
      (tw_X1_isLeftIn_2
        (fun (r8 : Int32) (G7 : aH) =>
          tw_X1_passes_b87 Q (tw_X1_passes_b42 Q n) G7 a0 x1 x2 a3_6 r8)
        G a0 (a_mr G (a_mr G a0 4) (x2 - 4).toNatClampNeg) a3_6))))) ∧
    (¬ 4 ≤ x2 →
      th_o G a0 1 ∧ (
      th_ai G (a_mr G a0 2) 5 x2 ∧ (
      th_o G a0 1 ∧ (
      (tw_X1_isLeftIn
        (fun (r12 : Int32) (G11 : aH) =>
          tw_X1_passes_b87 Q (tw_X1_passes_b42 Q n) G11 a0 x1 x2 a3_6 r12)
        G a0 (a_mr G (a_mr G a0 2) x2.toNatClampNeg) a3_6))))))))) := rfl
def tw_X1_passes_b40 (Q : Int32 → aH → Prop) (G : aH) (a0 : Nat) (x1 : Int32) : Prop :=
  ∃ n9 : Nat, tw_X1_passes_b42 Q n9 G a0 x1 0
def tw_X1_passes_b13 (Q : Int32 → aH → Prop) : Nat → aH → Nat → Int32 → Nat → Int32 → Int32 → Prop := fun n => Nat.rec (motive := fun _ => aH → Nat → Int32 → Nat → Int32 → Int32 → Prop) (fun _ _ _ _ _ _ => False) (fun _ ih G a0 x1 a2 x3 x4 =>
  (x3 ≤ x4 →
    tw_X1_passes_b40 Q G a0 x1) ∧
  (¬ x3 ≤ x4 →
    th_ai G a2 6 x4 ∧ (
    ∀ a5_13 : Nat, a5_13 = a_mr G a2 x4.toNatClampNeg → 
    th_o G a0 1 ∧ (
    (tw_X1_threshes
      (fun (r15 : Int32) (G14 : aH) =>
        ∀ x1_16 : Int32, x1_16 = x1 + r15 → 
        ∀ x4_17 : Int32, x4_17 = x4 + 1 → 
        ih G14 a0 x1_16 a2 x3 x4_17)
      G a0 a5_13))))) n
theorem tws_X1_passes_b13 (Q : Int32 → aH → Prop) (n : Nat) (G : aH) (a0 : Nat) (x1 : Int32) (a2 : Nat) (x3 : Int32) (x4 : Int32) : tw_X1_passes_b13 Q (n + 1) G a0 x1 a2 x3 x4 = (
  (x3 ≤ x4 →
    tw_X1_passes_b40 Q G a0 x1) ∧
  (¬ x3 ≤ x4 →
    th_ai G a2 6 x4 ∧ (
    ∀ a5_13 : Nat, a5_13 = a_mr G a2 x4.toNatClampNeg → 
    th_o G a0 1 ∧ (
    (tw_X1_threshes
      (fun (r15 : Int32) (G14 : aH) =>
        ∀ x1_16 : Int32, x1_16 = x1 + r15 → 
        ∀ x4_17 : Int32, x4_17 = x4 + 1 → 
        tw_X1_passes_b13 Q n G14 a0 x1_16 a2 x3 x4_17)
      G a0 a5_13))))) := rfl
def tw_X1_passes (Q : Int32 → aH → Prop) (G : aH) (a0 : Nat) : Prop :=
  th_o G a0 1 ∧ (
  ∀ a2_1 : Nat, a2_1 = a_mr G a0 3 → 
  th_a G a2_1 6 ∧ (
  ∀ x3_2 : Int32, x3_2 = th_len G a2_1 → 
  ∃ n9 : Nat, tw_X1_passes_b13 Q n9 G a0 0 a2_1 x3_2 0))
theorem tk_X1_passes_b143 {p : Program} {l : Launch} {e : Env} {s : State} {m : MethodId} {args : Array Value} {below : List Frame} {meth : Method} {c : Code} {D : tD} {B : Nat} (E : th_E p m c cX1_passes 6 s args RX1 meth ((Option.some Jvm.ClassFile.FieldType.int)) "passes" D B) {Q : Int32 → aH → Prop} {G : aH} {H : Heap} {locs : List Loc} {cells slots : Nat} {ls : Array Slot} {a0 : Nat} {x1 : Int32} (hR : th_H D B G H) (hS : va_S (th_A B) s.heap H locs) (hL : th_L ls 6 [(0, rv a0), (1, .int x1)]) (hw : tw_X1_passes_b143 Q G a0 x1) (hc : cells + (0) ≤ 0 ∧ slots + (0) ≤ 0) : W p l e rm_X1_passes s m args below meth c H locs cells slots (MQ below (th_Qi D B Q) args s 0 0 (th_A B)) (F0 m 143 ls []) := by
  have CF := E.1; have hx := CF.1; have hb := CF.2.1; have hret := E.2.1; have hlk := E.2.2.1; have hnm := E.2.2.2.1; have hK := E.2.2.2.2.1; have hSt := E.2.2.2.2.2
  unfold tw_X1_passes_b143 at hw
  refine th_aload_n hx hb dX1_passes_143 rfl (lv_at hL.1 0 rfl) ?_
  refine lv_dup hx hb dX1_passes_144 (rv_cat _) ?_
  obtain ⟨ho, hw⟩ := hw
  refine fg_X1_53 CF hK hR ho dX1_passes_145 ?_
  refine lv_iconst hx hb dX1_passes_148 (v := 1) rfl ?_
  refine lv_iadd hx hb dX1_passes_149 ?_
  obtain ⟨ho, hw⟩ := hw
  refine fp_X1_53 CF hK hR hS ho dX1_passes_150 (fun G3 H locs hG hR hS => ?_)
  replace hw := hw G3 hG
  refine lv_iload_n hx hb dX1_passes_153 rfl (lv_at hL.1 1 rfl) ?_
  exact th_iret hx hb hret hlk hR hS hw (by omega) (by omega) dX1_passes_154
theorem tk_X1_passes_b116 {p : Program} {l : Launch} {e : Env} {s : State} {m : MethodId} {args : Array Value} {below : List Frame} {meth : Method} {c : Code} {D : tD} {B : Nat} (E : th_E p m c cX1_passes 6 s args RX1 meth ((Option.some Jvm.ClassFile.FieldType.int)) "passes" D B) {Q : Int32 → aH → Prop} : ∀ (n : Nat) {G : aH} {H : Heap} {locs : List Loc} {cells slots : Nat} {ls : Array Slot} {a0 : Nat} {x1 : Int32} {x2 : Int32} (hR : th_H D B G H) (hS : va_S (th_A B) s.heap H locs) (hL : th_L ls 6 [(0, rv a0), (1, .int x1), (2, .int x2)]) (hw : tw_X1_passes_b116 Q n G a0 x1 x2) (hc : cells + (0) ≤ 0 ∧ slots + (0) ≤ 0), W p l e rm_X1_passes s m args below meth c H locs cells slots (MQ below (th_Qi D B Q) args s 0 0 (th_A B)) (F0 m 116 ls []) := by
  have CF := E.1; have hx := CF.1; have hb := CF.2.1; have hret := E.2.1; have hlk := E.2.2.1; have hnm := E.2.2.2.1; have hK := E.2.2.2.2.1; have hSt := E.2.2.2.2.2
  intro n
  induction n with
  | zero => intro _ _ _ _ _ _ _ _ _ _ _ _ hw; exact hw.elim
  | succ n ih =>
    intro G H locs cells slots ls a0 x1 x2 hR hS hL hw hc
    rw [tws_X1_passes_b116] at hw
    refine lv_iload_n hx hb dX1_passes_116 rfl (lv_at hL.1 2 rfl) ?_
    refine th_aload_n hx hb dX1_passes_117 rfl (lv_at hL.1 0 rfl) ?_
    obtain ⟨ho, hw⟩ := hw
    refine fg_X1_50 CF hK hR ho dX1_passes_118 ?_
    refine lv_icmp_ge hx hb dX1_passes_121 (tgt := 143) (by decide) (fun h => ?_) (fun h => ?_)
    · replace hw := hw.1 h
      exact tk_X1_passes_b143 E hR hS (hL.sub [0, 1] rfl) hw ⟨by omega, by omega⟩
    · replace hw := hw.2 h
      refine th_aload_n hx hb dX1_passes_124 rfl (lv_at hL.1 0 rfl) ?_
      obtain ⟨ho, hw⟩ := hw
      refine fg_X1_11 CF hK hR ho dX1_passes_125 ?_
      refine lv_iload_n hx hb dX1_passes_128 rfl (lv_at hL.1 2 rfl) ?_
      obtain ⟨ha, hw⟩ := hw
      refine th_aald hx hb hK 4 (by decide) rfl rfl hR ha dX1_passes_129 ?_
      refine th_aload_n hx hb dX1_passes_130 rfl (lv_at hL.1 0 rfl) ?_
      obtain ⟨ho, hw⟩ := hw
      refine fg_X1_53 CF hK hR ho dX1_passes_131 ?_
      obtain ⟨ho, hw⟩ := hw
      refine th_kv hS (th_rV CF hK hSt hR hS ho (ci := 2) rfl (rest := []) (tk_X2_passes) (cw_X1_159 CF hK (by decide +kernel)) hw rfl hL.1.1 rfl th_cn (Nat.le_of_ble_eq_true rfl) dX1_passes_134 ⟨by show _ ≤ (0 : Nat); omega, by show _ ≤ (0 : Nat); omega⟩) (fun G4 H locs hw hR hS => ?_)
      obtain ⟨x2_5, hx2_5⟩ : ∃ y : Int32, y = x2 + 1 := ⟨_, rfl⟩
      replace hw := hw x2_5 hx2_5
      refine th_iinc hx hb dX1_passes_137 hL (k := 2) rfl (v := x2_5) hx2_5.symm (by decide) rfl (fun ls hL => ?_)
      refine lv_goto hx hb dX1_passes_140 (tgt := 116) (by decide) ?_
      exact ih hR hS (hL.sub [1, 2, 0] rfl) hw ⟨by omega, by omega⟩
theorem tk_X1_passes_b114 {p : Program} {l : Launch} {e : Env} {s : State} {m : MethodId} {args : Array Value} {below : List Frame} {meth : Method} {c : Code} {D : tD} {B : Nat} (E : th_E p m c cX1_passes 6 s args RX1 meth ((Option.some Jvm.ClassFile.FieldType.int)) "passes" D B) {Q : Int32 → aH → Prop} {G : aH} {H : Heap} {locs : List Loc} {cells slots : Nat} {ls : Array Slot} {a0 : Nat} {x1 : Int32} (hR : th_H D B G H) (hS : va_S (th_A B) s.heap H locs) (hL : th_L ls 6 [(0, rv a0), (1, .int x1)]) (hw : tw_X1_passes_b114 Q G a0 x1) (hc : cells + (0) ≤ 0 ∧ slots + (0) ≤ 0) : W p l e rm_X1_passes s m args below meth c H locs cells slots (MQ below (th_Qi D B Q) args s 0 0 (th_A B)) (F0 m 114 ls []) := by
  have CF := E.1; have hx := CF.1; have hb := CF.2.1; have hret := E.2.1; have hlk := E.2.2.1; have hnm := E.2.2.2.1; have hK := E.2.2.2.2.1; have hSt := E.2.2.2.2.2
  unfold tw_X1_passes_b114 at hw
  refine lv_iconst hx hb dX1_passes_114 (v := 0) rfl ?_
  refine th_istore_n hx hb dX1_passes_115 rfl hL (by decide) rfl (fun ls hL => ?_)
  obtain ⟨n9, hw⟩ := hw
  exact tk_X1_passes_b116 E n9 hR hS (hL.sub [1, 2, 0] rfl) hw ⟨by omega, by omega⟩
theorem tk_X1_passes_b105 {p : Program} {l : Launch} {e : Env} {s : State} {m : MethodId} {args : Array Value} {below : List Frame} {meth : Method} {c : Code} {D : tD} {B : Nat} (E : th_E p m c cX1_passes 6 s args RX1 meth ((Option.some Jvm.ClassFile.FieldType.int)) "passes" D B) {Q : Int32 → aH → Prop} {k42 : aH → Nat → Int32 → Int32 → Prop} {c42 s42 : Nat} (h42 : ∀ (G : aH) (H : Heap) (locs : List Loc) (cells slots : Nat) (ls : Array Slot) (y42_0 : Nat) (y42_1 : Int32) (y42_2 : Int32), k42 G y42_0 y42_1 y42_2 → th_H D B G H → va_S (th_A B) s.heap H locs → th_L ls 6 [(0, rv y42_0), (1, .int y42_1), (2, .int y42_2)] → cells ≤ c42 ∧ slots ≤ s42 → W p l e rm_X1_passes s m args below meth c H locs cells slots (MQ below (th_Qi D B Q) args s 0 0 (th_A B)) (F0 m 42 ls [])) {G : aH} {H : Heap} {locs : List Loc} {cells slots : Nat} {ls : Array Slot} {a0 : Nat} {x1 : Int32} {x2 : Int32} {tx0 : Int32} {tx1 : Int32} {ta2 : Nat} (hR : th_H D B G H) (hS : va_S (th_A B) s.heap H locs) (hL : th_L ls 6 [(0, rv a0), (1, .int x1), (2, .int x2)]) (hw : tw_X1_passes_b105 Q k42 G a0 x1 x2 tx0 tx1 ta2) (hc : cells + (0) ≤ 0 ∧ slots + (0) ≤ 0 ∧ cells + (0) ≤ c42 ∧ slots + (0) ≤ s42) : W p l e rm_X1_passes s m args below meth c H locs cells slots (MQ below (th_Qi D B Q) args s 0 0 (th_A B)) (F0 m 105 ls [.int tx0, .int tx1, rv ta2]) := by
  have CF := E.1; have hx := CF.1; have hb := CF.2.1; have hret := E.2.1; have hlk := E.2.2.1; have hnm := E.2.2.2.1; have hK := E.2.2.2.2.1; have hSt := E.2.2.2.2.2
  unfold tw_X1_passes_b105 at hw
  obtain ⟨ho, hw⟩ := hw
  refine th_kv hS (th_rV CF hK hSt hR hS ho (ci := 7) rfl (rest := []) (tk_X7_breeds) (cw_X1_155 CF hK (by decide +kernel)) hw rfl hL.1.1 rfl th_cn (Nat.le_of_ble_eq_true rfl) dX1_passes_105 ⟨by show _ ≤ (0 : Nat); omega, by show _ ≤ (0 : Nat); omega⟩) (fun G9 H locs hw hR hS => ?_)
  obtain ⟨x2_10, hx2_10⟩ : ∃ y : Int32, y = x2 + 1 := ⟨_, rfl⟩
  replace hw := hw x2_10 hx2_10
  refine th_iinc hx hb dX1_passes_108 hL (k := 2) rfl (v := x2_10) hx2_10.symm (by decide) rfl (fun ls hL => ?_)
  refine lv_goto hx hb dX1_passes_111 (tgt := 42) (by decide) ?_
  exact h42 _ _ _ _ _ _ _ _ _ hw hR hS (hL.sub [1, 2, 0] rfl) ⟨by omega, by omega⟩
theorem tk_X1_passes_b87 {p : Program} {l : Launch} {e : Env} {s : State} {m : MethodId} {args : Array Value} {below : List Frame} {meth : Method} {c : Code} {D : tD} {B : Nat} (E : th_E p m c cX1_passes 6 s args RX1 meth ((Option.some Jvm.ClassFile.FieldType.int)) "passes" D B) {Q : Int32 → aH → Prop} {k42 : aH → Nat → Int32 → Int32 → Prop} {c42 s42 : Nat} (h42 : ∀ (G : aH) (H : Heap) (locs : List Loc) (cells slots : Nat) (ls : Array Slot) (y42_0 : Nat) (y42_1 : Int32) (y42_2 : Int32), k42 G y42_0 y42_1 y42_2 → th_H D B G H → va_S (th_A B) s.heap H locs → th_L ls 6 [(0, rv y42_0), (1, .int y42_1), (2, .int y42_2)] → cells ≤ c42 ∧ slots ≤ s42 → W p l e rm_X1_passes s m args below meth c H locs cells slots (MQ below (th_Qi D B Q) args s 0 0 (th_A B)) (F0 m 42 ls [])) {G : aH} {H : Heap} {locs : List Loc} {cells slots : Nat} {ls : Array Slot} {a0 : Nat} {x1 : Int32} {x2 : Int32} {a3 : Nat} {tx0 : Int32} (hR : th_H D B G H) (hS : va_S (th_A B) s.heap H locs) (hL : th_L ls 6 [(0, rv a0), (1, .int x1), (2, .int x2), (3, rv a3)]) (hw : tw_X1_passes_b87 Q k42 G a0 x1 x2 a3 tx0) (hc : cells + (0) ≤ 0 ∧ slots + (0) ≤ 0 ∧ cells + (0) ≤ c42 ∧ slots + (0) ≤ s42) : W p l e rm_X1_passes s m args below meth c H locs cells slots (MQ below (th_Qi D B Q) args s 0 0 (th_A B)) (F0 m 87 ls [.int tx0]) := by
  have CF := E.1; have hx := CF.1; have hb := CF.2.1; have hret := E.2.1; have hlk := E.2.2.1; have hnm := E.2.2.2.1; have hK := E.2.2.2.2.1; have hSt := E.2.2.2.2.2
  unfold tw_X1_passes_b87 at hw
  refine th_istore hx hb dX1_passes_87 hL (by decide) rfl (fun ls hL => ?_)
  refine th_aload_n hx hb dX1_passes_89 rfl (lv_at hL.1 4 rfl) ?_
  refine lv_iload hx hb dX1_passes_90 (lv_at hL.1 0 rfl) ?_
  refine th_aload_n hx hb dX1_passes_92 rfl (lv_at hL.1 1 rfl) ?_
  obtain ⟨ho, hw⟩ := hw
  refine fg_X1_41 CF hK hR ho dX1_passes_93 ?_
  refine lv_iload_n hx hb dX1_passes_96 rfl (lv_at hL.1 3 rfl) ?_
  refine lv_icmp_ne hx hb dX1_passes_97 (tgt := 104) (by decide) (fun h => ?_) (fun h => ?_)
  · replace hw := hw.1 h
    refine lv_iconst hx hb dX1_passes_104 (v := 0) rfl ?_
    exact tk_X1_passes_b105 E h42 hR hS (hL.sub [1, 2, 3] rfl) hw ⟨by omega, by omega, by omega, by omega⟩
  · replace hw := hw.2 h
    refine lv_iconst hx hb dX1_passes_100 (v := 1) rfl ?_
    refine lv_goto hx hb dX1_passes_101 (tgt := 105) (by decide) ?_
    exact tk_X1_passes_b105 E h42 hR hS (hL.sub [1, 2, 3] rfl) hw ⟨by omega, by omega, by omega, by omega⟩
theorem tk_X1_passes_b42 {p : Program} {l : Launch} {e : Env} {s : State} {m : MethodId} {args : Array Value} {below : List Frame} {meth : Method} {c : Code} {D : tD} {B : Nat} (E : th_E p m c cX1_passes 6 s args RX1 meth ((Option.some Jvm.ClassFile.FieldType.int)) "passes" D B) {Q : Int32 → aH → Prop} : ∀ (n : Nat) {G : aH} {H : Heap} {locs : List Loc} {cells slots : Nat} {ls : Array Slot} {a0 : Nat} {x1 : Int32} {x2 : Int32} (hR : th_H D B G H) (hS : va_S (th_A B) s.heap H locs) (hL : th_L ls 6 [(0, rv a0), (1, .int x1), (2, .int x2)]) (hw : tw_X1_passes_b42 Q n G a0 x1 x2) (hc : cells + (0) ≤ 0 ∧ slots + (0) ≤ 0), W p l e rm_X1_passes s m args below meth c H locs cells slots (MQ below (th_Qi D B Q) args s 0 0 (th_A B)) (F0 m 42 ls []) := by
  have CF := E.1; have hx := CF.1; have hb := CF.2.1; have hret := E.2.1; have hlk := E.2.2.1; have hnm := E.2.2.2.1; have hK := E.2.2.2.2.1; have hSt := E.2.2.2.2.2
  intro n
  induction n with
  | zero => intro _ _ _ _ _ _ _ _ _ _ _ _ hw; exact hw.elim
  | succ n ih =>
    intro G H locs cells slots ls a0 x1 x2 hR hS hL hw hc
    rw [tws_X1_passes_b42] at hw
    refine lv_iload_n hx hb dX1_passes_42 rfl (lv_at hL.1 2 rfl) ?_
    refine lv_bipush hx hb dX1_passes_43 (v := 7) rfl ?_
    refine lv_icmp_ge hx hb dX1_passes_45 (tgt := 114) (by decide) (fun h => ?_) (fun h => ?_)
    · replace hw := hw.1 h
      exact tk_X1_passes_b114 E hR hS (hL.sub [0, 1] rfl) hw ⟨by omega, by omega⟩
    · replace hw := hw.2 h
      refine th_aload_n hx hb dX1_passes_48 rfl (lv_at hL.1 0 rfl) ?_
      obtain ⟨ho, hw⟩ := hw
      refine fg_X1_37 CF hK hR ho dX1_passes_49 ?_
      refine lv_iload_n hx hb dX1_passes_52 rfl (lv_at hL.1 2 rfl) ?_
      obtain ⟨ha, hw⟩ := hw
      refine th_aald hx hb hK 8 (by decide) rfl rfl hR ha dX1_passes_53 ?_
      obtain ⟨a3_6, ha3_6⟩ : ∃ y : Nat, y = a_mr G (a_mr G a0 5) x2.toNatClampNeg := ⟨_, rfl⟩
      replace hw := hw a3_6 ha3_6
      refine th_nmr ha3_6 ?_
      refine th_astore_n hx hb dX1_passes_54 rfl hL (by decide) rfl (fun ls hL => ?_)
      refine lv_iload_n hx hb dX1_passes_55 rfl (lv_at hL.1 3 rfl) ?_
      refine lv_iconst hx hb dX1_passes_56 (v := 4) rfl ?_
      refine lv_icmp_ge hx hb dX1_passes_57 (tgt := 74) (by decide) (fun h => ?_) (fun h => ?_)
      · replace hw := hw.1 h
        refine th_aload_n hx hb dX1_passes_74 rfl (lv_at hL.1 1 rfl) ?_
        refine th_aload_n hx hb dX1_passes_75 rfl (lv_at hL.1 1 rfl) ?_
        obtain ⟨ho, hw⟩ := hw
        refine fg_X1_31 CF hK hR ho dX1_passes_76 ?_
        refine lv_iload_n hx hb dX1_passes_79 rfl (lv_at hL.1 3 rfl) ?_
        refine lv_iconst hx hb dX1_passes_80 (v := 4) rfl ?_
        refine lv_isub hx hb dX1_passes_81 ?_
        obtain ⟨ha, hw⟩ := hw
        refine th_aald hx hb hK 7 (by decide) rfl rfl hR ha dX1_passes_82 ?_
        refine th_aload_n hx hb dX1_passes_83 rfl (lv_at hL.1 0 rfl) ?_
        obtain ⟨ho, hw⟩ := hw
        refine th_ki hS (th_rV CF hK hSt hR hS ho (ci := 1) rfl (rest := []) (tk_X1_isLeftIn_2) (cw_X1_152 CF hK (by decide +kernel)) hw rfl hL.1.1 rfl th_cn (Nat.le_of_ble_eq_true rfl) dX1_passes_84 ⟨by show _ ≤ (0 : Nat); omega, by show _ ≤ (0 : Nat); omega⟩) (fun r8 G7 H locs hw hR hS => ?_)
        exact tk_X1_passes_b87 E (c42 := cells + 0 + 0) (s42 := slots + 0 + 0) (fun G H locs cells slots ls y0 y1 y2 hw hR hS hL hc => ih hR hS hL hw ⟨by omega, by omega⟩) hR hS (hL.sub [1, 2, 3, 0] rfl) hw ⟨by omega, by omega, by omega, by omega⟩
      · replace hw := hw.2 h
        refine th_aload_n hx hb dX1_passes_60 rfl (lv_at hL.1 1 rfl) ?_
        refine th_aload_n hx hb dX1_passes_61 rfl (lv_at hL.1 1 rfl) ?_
        obtain ⟨ho, hw⟩ := hw
        refine fg_X1_19 CF hK hR ho dX1_passes_62 ?_
        refine lv_iload_n hx hb dX1_passes_65 rfl (lv_at hL.1 3 rfl) ?_
        obtain ⟨ha, hw⟩ := hw
        refine th_aald hx hb hK 5 (by decide) rfl rfl hR ha dX1_passes_66 ?_
        refine th_aload_n hx hb dX1_passes_67 rfl (lv_at hL.1 0 rfl) ?_
        obtain ⟨ho, hw⟩ := hw
        refine th_ki hS (th_rV CF hK hSt hR hS ho (ci := 1) rfl (rest := []) (tk_X1_isLeftIn) (cw_X1_148 CF hK (by decide +kernel)) hw rfl hL.1.1 rfl th_cn (Nat.le_of_ble_eq_true rfl) dX1_passes_68 ⟨by show _ ≤ (0 : Nat); omega, by show _ ≤ (0 : Nat); omega⟩) (fun r12 G11 H locs hw hR hS => ?_)
        refine lv_goto hx hb dX1_passes_71 (tgt := 87) (by decide) ?_
        exact tk_X1_passes_b87 E (c42 := cells + 0 + 0) (s42 := slots + 0 + 0) (fun G H locs cells slots ls y0 y1 y2 hw hR hS hL hc => ih hR hS hL hw ⟨by omega, by omega⟩) hR hS (hL.sub [1, 2, 3, 0] rfl) hw ⟨by omega, by omega, by omega, by omega⟩
theorem tk_X1_passes_b40 {p : Program} {l : Launch} {e : Env} {s : State} {m : MethodId} {args : Array Value} {below : List Frame} {meth : Method} {c : Code} {D : tD} {B : Nat} (E : th_E p m c cX1_passes 6 s args RX1 meth ((Option.some Jvm.ClassFile.FieldType.int)) "passes" D B) {Q : Int32 → aH → Prop} {G : aH} {H : Heap} {locs : List Loc} {cells slots : Nat} {ls : Array Slot} {a0 : Nat} {x1 : Int32} (hR : th_H D B G H) (hS : va_S (th_A B) s.heap H locs) (hL : th_L ls 6 [(0, rv a0), (1, .int x1)]) (hw : tw_X1_passes_b40 Q G a0 x1) (hc : cells + (0) ≤ 0 ∧ slots + (0) ≤ 0) : W p l e rm_X1_passes s m args below meth c H locs cells slots (MQ below (th_Qi D B Q) args s 0 0 (th_A B)) (F0 m 40 ls []) := by
  have CF := E.1; have hx := CF.1; have hb := CF.2.1; have hret := E.2.1; have hlk := E.2.2.1; have hnm := E.2.2.2.1; have hK := E.2.2.2.2.1; have hSt := E.2.2.2.2.2
  unfold tw_X1_passes_b40 at hw
  refine lv_iconst hx hb dX1_passes_40 (v := 0) rfl ?_
  refine th_istore_n hx hb dX1_passes_41 rfl hL (by decide) rfl (fun ls hL => ?_)
  obtain ⟨n9, hw⟩ := hw
  exact tk_X1_passes_b42 E n9 hR hS (hL.sub [1, 2, 0] rfl) hw ⟨by omega, by omega⟩
theorem tk_X1_passes_b13 {p : Program} {l : Launch} {e : Env} {s : State} {m : MethodId} {args : Array Value} {below : List Frame} {meth : Method} {c : Code} {D : tD} {B : Nat} (E : th_E p m c cX1_passes 6 s args RX1 meth ((Option.some Jvm.ClassFile.FieldType.int)) "passes" D B) {Q : Int32 → aH → Prop} : ∀ (n : Nat) {G : aH} {H : Heap} {locs : List Loc} {cells slots : Nat} {ls : Array Slot} {a0 : Nat} {x1 : Int32} {a2 : Nat} {x3 : Int32} {x4 : Int32} (hR : th_H D B G H) (hS : va_S (th_A B) s.heap H locs) (hL : th_L ls 6 [(0, rv a0), (1, .int x1), (2, rv a2), (3, .int x3), (4, .int x4)]) (hw : tw_X1_passes_b13 Q n G a0 x1 a2 x3 x4) (hc : cells + (0) ≤ 0 ∧ slots + (0) ≤ 0), W p l e rm_X1_passes s m args below meth c H locs cells slots (MQ below (th_Qi D B Q) args s 0 0 (th_A B)) (F0 m 13 ls []) := by
  have CF := E.1; have hx := CF.1; have hb := CF.2.1; have hret := E.2.1; have hlk := E.2.2.1; have hnm := E.2.2.2.1; have hK := E.2.2.2.2.1; have hSt := E.2.2.2.2.2
  intro n
  induction n with
  | zero => intro _ _ _ _ _ _ _ _ _ _ _ _ _ _ hw; exact hw.elim
  | succ n ih =>
    intro G H locs cells slots ls a0 x1 a2 x3 x4 hR hS hL hw hc
    rw [tws_X1_passes_b13] at hw
    refine lv_iload hx hb dX1_passes_13 (lv_at hL.1 4 rfl) ?_
    refine lv_iload_n hx hb dX1_passes_15 rfl (lv_at hL.1 3 rfl) ?_
    refine lv_icmp_ge hx hb dX1_passes_16 (tgt := 40) (by decide) (fun h => ?_) (fun h => ?_)
    · replace hw := hw.1 h
      exact tk_X1_passes_b40 E hR hS (hL.sub [0, 1] rfl) hw ⟨by omega, by omega⟩
    · replace hw := hw.2 h
      refine th_aload_n hx hb dX1_passes_19 rfl (lv_at hL.1 2 rfl) ?_
      refine lv_iload hx hb dX1_passes_20 (lv_at hL.1 4 rfl) ?_
      obtain ⟨ha, hw⟩ := hw
      refine th_aald hx hb hK 6 (by decide) rfl rfl hR ha dX1_passes_22 ?_
      obtain ⟨a5_13, ha5_13⟩ : ∃ y : Nat, y = a_mr G a2 x4.toNatClampNeg := ⟨_, rfl⟩
      replace hw := hw a5_13 ha5_13
      refine th_nmr ha5_13 ?_
      refine th_astore hx hb dX1_passes_23 hL (by decide) rfl (fun ls hL => ?_)
      refine lv_iload_n hx hb dX1_passes_25 rfl (lv_at hL.1 2 rfl) ?_
      refine th_aload_n hx hb dX1_passes_26 rfl (lv_at hL.1 1 rfl) ?_
      refine th_aload hx hb dX1_passes_27 (lv_at hL.1 0 rfl) ?_
      obtain ⟨ho, hw⟩ := hw
      refine th_ki hS (th_rV CF hK hSt hR hS ho (ci := 1) rfl (rest := [.int x1]) (tk_X1_threshes) (cw_X1_144 CF hK (by decide +kernel)) hw rfl hL.1.1 rfl (th_ci th_cn) (Nat.le_of_ble_eq_true rfl) dX1_passes_29 ⟨by show _ ≤ (0 : Nat); omega, by show _ ≤ (0 : Nat); omega⟩) (fun r15 G14 H locs hw hR hS => ?_)
      refine lv_iadd hx hb dX1_passes_32 ?_
      obtain ⟨x1_16, hx1_16⟩ : ∃ y : Int32, y = x1 + r15 := ⟨_, rfl⟩
      replace hw := hw x1_16 hx1_16
      refine th_nmi hx1_16 ?_
      refine th_istore_n hx hb dX1_passes_33 rfl hL (by decide) rfl (fun ls hL => ?_)
      obtain ⟨x4_17, hx4_17⟩ : ∃ y : Int32, y = x4 + 1 := ⟨_, rfl⟩
      replace hw := hw x4_17 hx4_17
      refine th_iinc hx hb dX1_passes_34 hL (k := 5) rfl (v := x4_17) hx4_17.symm (by decide) rfl (fun ls hL => ?_)
      refine lv_goto hx hb dX1_passes_37 (tgt := 13) (by decide) ?_
      exact ih hR hS (hL.sub [3, 1, 4, 5, 0] rfl) hw ⟨by omega, by omega⟩
theorem tk_X1_passes {l : Launch} {D : tD} {B : Nat} {Q : Int32 → aH → Prop} {a0 : Nat} : Met l yX1_passes (ws_ yX1_passes cX1_passes 6 ((Option.some Jvm.ClassFile.FieldType.int))) rm_X1_passes (th_P D B [rv a0] (fun G => tw_X1_passes Q G a0)) (th_Qi D B Q) 0 0 (th_A B) :=
  th_ofW (by decide +kernel) (th_cr th_cn) (Nat.le_of_ble_eq_true rfl) (fun p e s m args below meth c CF hret hlk hnm hK hSt G ls hR hS hw hL => by
    have E : th_E p m c cX1_passes 6 s args RX1 meth ((Option.some Jvm.ClassFile.FieldType.int)) "passes" D B := ⟨CF, hret, hlk, hnm, hK, hSt⟩
    have hx := CF.1; have hb := CF.2.1
    have hL : th_L ls 6 [(0, rv a0)] := hL
    unfold tw_X1_passes at hw
    refine lv_iconst hx hb dX1_passes_0 (v := 0) rfl ?_
    refine th_istore_n hx hb dX1_passes_1 rfl hL (by decide) rfl (fun ls hL => ?_)
    refine th_aload_n hx hb dX1_passes_2 rfl (lv_at hL.1 1 rfl) ?_
    obtain ⟨ho, hw⟩ := hw
    refine fg_X1_25 CF hK hR ho dX1_passes_3 ?_
    obtain ⟨a2_1, ha2_1⟩ : ∃ y : Nat, y = a_mr G a0 3 := ⟨_, rfl⟩
    replace hw := hw a2_1 ha2_1
    refine th_nmr ha2_1 ?_
    refine th_astore_n hx hb dX1_passes_6 rfl hL (by decide) rfl (fun ls hL => ?_)
    refine th_aload_n hx hb dX1_passes_7 rfl (lv_at hL.1 0 rfl) ?_
    obtain ⟨ha, hw⟩ := hw
    refine th_alen hx hb hK 6 (by decide) hR ha dX1_passes_8 ?_
    obtain ⟨x3_2, hx3_2⟩ : ∃ y : Int32, y = th_len G a2_1 := ⟨_, rfl⟩
    replace hw := hw x3_2 hx3_2
    refine th_nmi hx3_2 ?_
    refine th_istore_n hx hb dX1_passes_9 rfl hL (by decide) rfl (fun ls hL => ?_)
    refine lv_iconst hx hb dX1_passes_10 (v := 0) rfl ?_
    refine th_istore hx hb dX1_passes_11 hL (by decide) rfl (fun ls hL => ?_)
    obtain ⟨n9, hw⟩ := hw
    exact tk_X1_passes_b13 E n9 hR hS (hL.sub [4, 3, 2, 1, 0] rfl) hw ⟨by omega, by omega⟩)
def tw_X0_eatenBy_b41 (Q : Int32 → aH → Prop) (G : aH) (a0 : Nat) : Prop :=
  th_o G a0 0 ∧ (
  th_o G (a_mr G a0 2) 1 ∧ (
  th_o G a0 0 ∧ (
  th_o G (a_mr G a0 0) 1 ∧ (
  Q ((a_mi G (a_mr G a0 2) 9) - (a_mi G (a_mr G a0 0) 9)) G))))
def tw_X0_eatenBy_b21 (Q : Int32 → aH → Prop) : Nat → aH → Nat → Int32 → Prop := fun n => Nat.rec (motive := fun _ => aH → Nat → Int32 → Prop) (fun _ _ _ => False) (fun _ ih G a0 x2 =>
  (10 ≤ x2 →
    tw_X0_eatenBy_b41 Q G a0) ∧
  (¬ 10 ≤ x2 →
    th_o G a0 0 ∧ (
    th_o G (a_mr G a0 2) 1 ∧ (
    (tw_X1_passes
      (fun (r4 : Int32) (G3 : aH) =>
        ∀ x2_5 : Int32, x2_5 = x2 + 1 → 
        ih G3 a0 x2_5)
      G (a_mr G a0 2)))))) n
theorem tws_X0_eatenBy_b21 (Q : Int32 → aH → Prop) (n : Nat) (G : aH) (a0 : Nat) (x2 : Int32) : tw_X0_eatenBy_b21 Q (n + 1) G a0 x2 = (
  (10 ≤ x2 →
    tw_X0_eatenBy_b41 Q G a0) ∧
  (¬ 10 ≤ x2 →
    th_o G a0 0 ∧ (
    th_o G (a_mr G a0 2) 1 ∧ (
    (tw_X1_passes
      (fun (r4 : Int32) (G3 : aH) =>
        ∀ x2_5 : Int32, x2_5 = x2 + 1 → 
        tw_X0_eatenBy_b21 Q n G3 a0 x2_5)
      G (a_mr G a0 2)))))) := rfl
def tw_X0_eatenBy (Q : Int32 → aH → Prop) (G : aH) (a0 : Nat) (x1 : Int32) : Prop :=
  th_o G a0 0 ∧ (
  th_o G a0 0 ∧ (
  th_o G (a_mr G a0 2) 1 ∧ (
  (tw_X1_like
    (fun (G1 : aH) =>
      th_o G1 a0 0 ∧ (
      th_o G1 (a_mr G1 a0 2) 1 ∧ (
      ∀ G2 : aH, G2 = a_si G1 (a_mr G1 a0 2) 6 x1 → 
      ∃ n9 : Nat, tw_X0_eatenBy_b21 Q n9 G2 a0 0)))
    G (a_mr G a0 2) (a_mr G a0 0)))))
theorem tk_X0_eatenBy_b41 {p : Program} {l : Launch} {e : Env} {s : State} {m : MethodId} {args : Array Value} {below : List Frame} {meth : Method} {c : Code} {D : tD} {B : Nat} (E : th_E p m c cX0_eatenBy 4 s args RX0 meth ((Option.some Jvm.ClassFile.FieldType.int)) "eatenBy" D B) {Q : Int32 → aH → Prop} {G : aH} {H : Heap} {locs : List Loc} {cells slots : Nat} {ls : Array Slot} {a0 : Nat} (hR : th_H D B G H) (hS : va_S (th_A B) s.heap H locs) (hL : th_L ls 4 [(0, rv a0)]) (hw : tw_X0_eatenBy_b41 Q G a0) (hc : cells + (0) ≤ 0 ∧ slots + (0) ≤ 0) : W p l e rm_X0_eatenBy s m args below meth c H locs cells slots (MQ below (th_Qi D B Q) args s 0 0 (th_A B)) (F0 m 41 ls []) := by
  have CF := E.1; have hx := CF.1; have hb := CF.2.1; have hret := E.2.1; have hlk := E.2.2.1; have hnm := E.2.2.2.1; have hK := E.2.2.2.2.1; have hSt := E.2.2.2.2.2
  unfold tw_X0_eatenBy_b41 at hw
  refine th_aload_n hx hb dX0_eatenBy_41 rfl (lv_at hL.1 0 rfl) ?_
  obtain ⟨ho, hw⟩ := hw
  refine fg_X0_29 CF hK hR ho dX0_eatenBy_42 ?_
  obtain ⟨ho, hw⟩ := hw
  refine fg_X0_430 CF hK hR ho dX0_eatenBy_45 ?_
  refine th_aload_n hx hb dX0_eatenBy_48 rfl (lv_at hL.1 0 rfl) ?_
  obtain ⟨ho, hw⟩ := hw
  refine fg_X0_22 CF hK hR ho dX0_eatenBy_49 ?_
  obtain ⟨ho, hw⟩ := hw
  refine fg_X0_430 CF hK hR ho dX0_eatenBy_52 ?_
  refine lv_isub hx hb dX0_eatenBy_55 ?_
  exact th_iret hx hb hret hlk hR hS hw (by omega) (by omega) dX0_eatenBy_56
theorem tk_X0_eatenBy_b21 {p : Program} {l : Launch} {e : Env} {s : State} {m : MethodId} {args : Array Value} {below : List Frame} {meth : Method} {c : Code} {D : tD} {B : Nat} (E : th_E p m c cX0_eatenBy 4 s args RX0 meth ((Option.some Jvm.ClassFile.FieldType.int)) "eatenBy" D B) {Q : Int32 → aH → Prop} : ∀ (n : Nat) {G : aH} {H : Heap} {locs : List Loc} {cells slots : Nat} {ls : Array Slot} {a0 : Nat} {x2 : Int32} (hR : th_H D B G H) (hS : va_S (th_A B) s.heap H locs) (hL : th_L ls 4 [(0, rv a0), (2, .int x2)]) (hw : tw_X0_eatenBy_b21 Q n G a0 x2) (hc : cells + (0) ≤ 0 ∧ slots + (0) ≤ 0), W p l e rm_X0_eatenBy s m args below meth c H locs cells slots (MQ below (th_Qi D B Q) args s 0 0 (th_A B)) (F0 m 21 ls []) := by
  have CF := E.1; have hx := CF.1; have hb := CF.2.1; have hret := E.2.1; have hlk := E.2.2.1; have hnm := E.2.2.2.1; have hK := E.2.2.2.2.1; have hSt := E.2.2.2.2.2
  intro n
  induction n with
  | zero => intro _ _ _ _ _ _ _ _ _ _ _ hw; exact hw.elim
  | succ n ih =>
    intro G H locs cells slots ls a0 x2 hR hS hL hw hc
    rw [tws_X0_eatenBy_b21] at hw
    refine lv_iload_n hx hb dX0_eatenBy_21 rfl (lv_at hL.1 1 rfl) ?_
    refine lv_bipush hx hb dX0_eatenBy_22 (v := 10) rfl ?_
    refine lv_icmp_ge hx hb dX0_eatenBy_24 (tgt := 41) (by decide) (fun h => ?_) (fun h => ?_)
    · replace hw := hw.1 h
      exact tk_X0_eatenBy_b41 E hR hS (hL.sub [0] rfl) hw ⟨by omega, by omega⟩
    · replace hw := hw.2 h
      refine th_aload_n hx hb dX0_eatenBy_27 rfl (lv_at hL.1 0 rfl) ?_
      obtain ⟨ho, hw⟩ := hw
      refine fg_X0_29 CF hK hR ho dX0_eatenBy_28 ?_
      obtain ⟨ho, hw⟩ := hw
      refine th_ki hS (th_rV CF hK hSt hR hS ho (ci := 1) rfl (rest := []) (tk_X1_passes) (cw_X0_280 CF hK (by decide +kernel)) hw rfl hL.1.1 rfl th_cn (Nat.le_of_ble_eq_true rfl) dX0_eatenBy_31 ⟨by show _ ≤ (0 : Nat); omega, by show _ ≤ (0 : Nat); omega⟩) (fun r4 G3 H locs hw hR hS => ?_)
      refine th_istore_n hx hb dX0_eatenBy_34 rfl hL (by decide) rfl (fun ls hL => ?_)
      obtain ⟨x2_5, hx2_5⟩ : ∃ y : Int32, y = x2 + 1 := ⟨_, rfl⟩
      replace hw := hw x2_5 hx2_5
      refine th_iinc hx hb dX0_eatenBy_35 hL (k := 2) rfl (v := x2_5) hx2_5.symm (by decide) rfl (fun ls hL => ?_)
      refine lv_goto hx hb dX0_eatenBy_38 (tgt := 21) (by decide) ?_
      exact ih hR hS (hL.sub [2, 0] rfl) hw ⟨by omega, by omega⟩
theorem tk_X0_eatenBy {l : Launch} {D : tD} {B : Nat} {Q : Int32 → aH → Prop} {a0 : Nat} {x1 : Int32} : Met l yX0_eatenBy (ws_ yX0_eatenBy cX0_eatenBy 4 ((Option.some Jvm.ClassFile.FieldType.int))) rm_X0_eatenBy (th_P D B [rv a0, .int x1] (fun G => tw_X0_eatenBy Q G a0 x1)) (th_Qi D B Q) 0 0 (th_A B) :=
  th_ofW (by decide +kernel) (th_cr (th_ci th_cn)) (Nat.le_of_ble_eq_true rfl) (fun p e s m args below meth c CF hret hlk hnm hK hSt G ls hR hS hw hL => by
    have E : th_E p m c cX0_eatenBy 4 s args RX0 meth ((Option.some Jvm.ClassFile.FieldType.int)) "eatenBy" D B := ⟨CF, hret, hlk, hnm, hK, hSt⟩
    have hx := CF.1; have hb := CF.2.1
    have hL : th_L ls 4 [(0, rv a0), (1, .int x1)] := hL
    unfold tw_X0_eatenBy at hw
    refine th_aload_n hx hb dX0_eatenBy_0 rfl (lv_at hL.1 0 rfl) ?_
    obtain ⟨ho, hw⟩ := hw
    refine fg_X0_29 CF hK hR ho dX0_eatenBy_1 ?_
    refine th_aload_n hx hb dX0_eatenBy_4 rfl (lv_at hL.1 0 rfl) ?_
    obtain ⟨ho, hw⟩ := hw
    refine fg_X0_22 CF hK hR ho dX0_eatenBy_5 ?_
    obtain ⟨ho, hw⟩ := hw
    refine th_kv hS (th_rV CF hK hSt hR hS ho (ci := 1) rfl (rest := []) (tk_X1_like) (cw_X0_59 CF hK (by decide +kernel)) hw rfl hL.1.1 rfl th_cn (Nat.le_of_ble_eq_true rfl) dX0_eatenBy_8 ⟨by show _ ≤ (0 : Nat); omega, by show _ ≤ (0 : Nat); omega⟩) (fun G1 H locs hw hR hS => ?_)
    refine th_aload_n hx hb dX0_eatenBy_11 rfl (lv_at hL.1 0 rfl) ?_
    obtain ⟨ho, hw⟩ := hw
    refine fg_X0_29 CF hK hR ho dX0_eatenBy_12 ?_
    refine lv_iload_n hx hb dX0_eatenBy_15 rfl (lv_at hL.1 1 rfl) ?_
    obtain ⟨ho, hw⟩ := hw
    refine fp_X0_274 CF hK hR hS ho dX0_eatenBy_16 (fun G2 H locs hG hR hS => ?_)
    replace hw := hw G2 hG
    refine lv_iconst hx hb dX0_eatenBy_19 (v := 0) rfl ?_
    refine th_istore_n hx hb dX0_eatenBy_20 rfl hL (by decide) rfl (fun ls hL => ?_)
    obtain ⟨n9, hw⟩ := hw
    exact tk_X0_eatenBy_b21 E n9 hR hS (hL.sub [1, 0] rfl) hw ⟨by omega, by omega⟩)
def tw_X0_bestCat_b64 (Q : Int32 → aH → Prop) (G : aH) (a0 : Nat) (x1 : Int32) (x2 : Int32) (x3 : Int32) : Prop :=
  (¬ x1 = 0 →
    th_o G a0 0 ∧ (
    (tw_X0_eatenBy
      (fun (r6 : Int32) (G5 : aH) =>
        Q (if 0 < r6 - x3 then r6 - x3 else 0) G5)
      G a0 (-1)))) ∧
  (x1 = 0 →
    Q x2 G)
def tw_X0_bestCat_b50 (Q : Int32 → aH → Prop) (k23 : aH → Nat → Int32 → Int32 → Int32 → Int32 → Prop) (G : aH) (a0 : Nat) (x1 : Int32) (x3 : Int32) (x4 : Int32) (x5 : Int32) (tx0 : Int32) : Prop :=
  ∀ x3_9 : Int32, x3_9 = (if x5 < x3 then x5 else x3) → 
  ∀ x4_10 : Int32, x4_10 = x4 + 1 → 
  k23 G a0 x1 tx0 x3_9 x4_10
def tw_X0_bestCat_b23 (Q : Int32 → aH → Prop) : Nat → aH → Nat → Int32 → Int32 → Int32 → Int32 → Prop := fun n => Nat.rec (motive := fun _ => aH → Nat → Int32 → Int32 → Int32 → Int32 → Prop) (fun _ _ _ _ _ _ => False) (fun _ ih G a0 x1 x2 x3 x4 =>
  (7 ≤ x4 →
    tw_X0_bestCat_b64 Q G a0 x1 x2 x3) ∧
  (¬ 7 ≤ x4 →
    th_o G a0 0 ∧ (
    (tw_X0_eatenBy
      (fun (r8 : Int32) (G7 : aH) =>
        (x3 ≤ r8 →
          tw_X0_bestCat_b50 Q (ih) G7 a0 x1 x3 x4 r8 x2) ∧
        (¬ x3 ≤ r8 →
          tw_X0_bestCat_b50 Q (ih) G7 a0 x1 x3 x4 r8 x4))
      G a0 x4)))) n
theorem tws_X0_bestCat_b23 (Q : Int32 → aH → Prop) (n : Nat) (G : aH) (a0 : Nat) (x1 : Int32) (x2 : Int32) (x3 : Int32) (x4 : Int32) : tw_X0_bestCat_b23 Q (n + 1) G a0 x1 x2 x3 x4 = (
  (7 ≤ x4 →
    tw_X0_bestCat_b64 Q G a0 x1 x2 x3) ∧
  (¬ 7 ≤ x4 →
    th_o G a0 0 ∧ (
    (tw_X0_eatenBy
      (fun (r8 : Int32) (G7 : aH) =>
        (x3 ≤ r8 →
          tw_X0_bestCat_b50 Q (tw_X0_bestCat_b23 Q n) G7 a0 x1 x3 x4 r8 x2) ∧
        (¬ x3 ≤ r8 →
          tw_X0_bestCat_b50 Q (tw_X0_bestCat_b23 Q n) G7 a0 x1 x3 x4 r8 x4))
      G a0 x4)))) := rfl
def tw_X0_bestCat (Q : Int32 → aH → Prop) (G : aH) (a0 : Nat) (x1 : Int32) : Prop :=
  (tw_X0_within
    (fun (r2 : Int32) (G1 : aH) =>
      (¬ r2 = 0 →
        th_o G1 a0 0 ∧ (
        (tw_X0_eatenBy
          (fun (r4 : Int32) (G3 : aH) =>
            ∃ n9 : Nat, tw_X0_bestCat_b23 Q n9 G3 a0 x1 0 r4 1)
          G1 a0 0))) ∧
      (r2 = 0 →
        Q (-2) G1))
    G x1 0 1)
theorem tk_X0_bestCat_b64 {p : Program} {l : Launch} {e : Env} {s : State} {m : MethodId} {args : Array Value} {below : List Frame} {meth : Method} {c : Code} {D : tD} {B : Nat} (E : th_E p m c cX0_bestCat 6 s args RX0 meth ((Option.some Jvm.ClassFile.FieldType.int)) "bestCat" D B) {Q : Int32 → aH → Prop} {G : aH} {H : Heap} {locs : List Loc} {cells slots : Nat} {ls : Array Slot} {a0 : Nat} {x1 : Int32} {x2 : Int32} {x3 : Int32} (hR : th_H D B G H) (hS : va_S (th_A B) s.heap H locs) (hL : th_L ls 6 [(0, rv a0), (1, .int x1), (2, .int x2), (3, .int x3)]) (hw : tw_X0_bestCat_b64 Q G a0 x1 x2 x3) (hc : cells + (0) ≤ 0 ∧ slots + (0) ≤ 0) : W p l e rm_X0_bestCat s m args below meth c H locs cells slots (MQ below (th_Qi D B Q) args s 0 0 (th_A B)) (F0 m 64 ls []) := by
  have CF := E.1; have hx := CF.1; have hb := CF.2.1; have hret := E.2.1; have hlk := E.2.2.1; have hnm := E.2.2.2.1; have hK := E.2.2.2.2.1; have hSt := E.2.2.2.2.2
  unfold tw_X0_bestCat_b64 at hw
  refine lv_iload_n hx hb dX0_bestCat_64 rfl (lv_at hL.1 1 rfl) ?_
  refine lv_if_ne hx hb dX0_bestCat_65 (tgt := 72) (by decide) (fun h => ?_) (fun h => ?_)
  · replace hw := hw.1 h
    refine lv_iconst hx hb dX0_bestCat_72 (v := 0) rfl ?_
    refine th_aload_n hx hb dX0_bestCat_73 rfl (lv_at hL.1 0 rfl) ?_
    refine lv_iconst hx hb dX0_bestCat_74 (v := (-1)) rfl ?_
    obtain ⟨ho, hw⟩ := hw
    refine th_ki hS (th_rV CF hK hSt hR hS ho (ci := 0) rfl (rest := [.int 0]) (tk_X0_eatenBy) (cw_X0_433 CF hK (by decide +kernel)) hw rfl hL.1.1 rfl (th_ci th_cn) (Nat.le_of_ble_eq_true rfl) dX0_bestCat_75 ⟨by show _ ≤ (0 : Nat); omega, by show _ ≤ (0 : Nat); omega⟩) (fun r6 G5 H locs hw hR hS => ?_)
    refine lv_iload_n hx hb dX0_bestCat_78 rfl (lv_at hL.1 3 rfl) ?_
    refine lv_isub hx hb dX0_bestCat_79 ?_
    refine va_mmax hx hb (CF.2.2.1.trans hL.1.1.symm) CF.2.2.2.1 (CF.2.2.2.2 _ q1313) (CF.2.2.2.2 _ q822) (CF.2.2.2.2 _ q119) (CF.2.2.2.2 _ q823) (by decide) (by rw [th_c1.sum th_cn]; exact Nat.le_of_ble_eq_true rfl) (by show _ ≤ (0 : Nat); omega) (by show _ ≤ (0 : Nat); omega) dX0_bestCat_80 ?_
    exact th_iret hx hb hret hlk hR hS hw (by omega) (by omega) dX0_bestCat_83
  · replace hw := hw.2 h
    refine lv_iload_n hx hb dX0_bestCat_68 rfl (lv_at hL.1 2 rfl) ?_
    refine lv_goto hx hb dX0_bestCat_69 (tgt := 83) (by decide) ?_
    exact th_iret hx hb hret hlk hR hS hw (by omega) (by omega) dX0_bestCat_83
theorem tk_X0_bestCat_b50 {p : Program} {l : Launch} {e : Env} {s : State} {m : MethodId} {args : Array Value} {below : List Frame} {meth : Method} {c : Code} {D : tD} {B : Nat} (E : th_E p m c cX0_bestCat 6 s args RX0 meth ((Option.some Jvm.ClassFile.FieldType.int)) "bestCat" D B) {Q : Int32 → aH → Prop} {k23 : aH → Nat → Int32 → Int32 → Int32 → Int32 → Prop} {c23 s23 : Nat} (h23 : ∀ (G : aH) (H : Heap) (locs : List Loc) (cells slots : Nat) (ls : Array Slot) (y23_0 : Nat) (y23_1 : Int32) (y23_2 : Int32) (y23_3 : Int32) (y23_4 : Int32), k23 G y23_0 y23_1 y23_2 y23_3 y23_4 → th_H D B G H → va_S (th_A B) s.heap H locs → th_L ls 6 [(0, rv y23_0), (1, .int y23_1), (2, .int y23_2), (3, .int y23_3), (4, .int y23_4)] → cells ≤ c23 ∧ slots ≤ s23 → W p l e rm_X0_bestCat s m args below meth c H locs cells slots (MQ below (th_Qi D B Q) args s 0 0 (th_A B)) (F0 m 23 ls [])) {G : aH} {H : Heap} {locs : List Loc} {cells slots : Nat} {ls : Array Slot} {a0 : Nat} {x1 : Int32} {x3 : Int32} {x4 : Int32} {x5 : Int32} {tx0 : Int32} (hR : th_H D B G H) (hS : va_S (th_A B) s.heap H locs) (hL : th_L ls 6 [(0, rv a0), (1, .int x1), (3, .int x3), (4, .int x4), (5, .int x5)]) (hw : tw_X0_bestCat_b50 Q k23 G a0 x1 x3 x4 x5 tx0) (hc : cells + (0) ≤ 0 ∧ slots + (0) ≤ 0 ∧ cells + (0) ≤ c23 ∧ slots + (0) ≤ s23) : W p l e rm_X0_bestCat s m args below meth c H locs cells slots (MQ below (th_Qi D B Q) args s 0 0 (th_A B)) (F0 m 50 ls [.int tx0]) := by
  have CF := E.1; have hx := CF.1; have hb := CF.2.1; have hret := E.2.1; have hlk := E.2.2.1; have hnm := E.2.2.2.1; have hK := E.2.2.2.2.1; have hSt := E.2.2.2.2.2
  unfold tw_X0_bestCat_b50 at hw
  refine th_istore_n hx hb dX0_bestCat_50 rfl hL (by decide) rfl (fun ls hL => ?_)
  refine lv_iload_n hx hb dX0_bestCat_51 rfl (lv_at hL.1 3 rfl) ?_
  refine lv_iload hx hb dX0_bestCat_52 (lv_at hL.1 5 rfl) ?_
  refine va_mmin hx hb (CF.2.2.1.trans hL.1.1.symm) CF.2.2.2.1 (CF.2.2.2.2 _ q1312) (CF.2.2.2.2 _ q666) (CF.2.2.2.2 _ q119) (CF.2.2.2.2 _ q667) (by decide) (by rw [th_c1.sum th_cn]; exact Nat.le_of_ble_eq_true rfl) (by show _ ≤ (0 : Nat); omega) (by show _ ≤ (0 : Nat); omega) dX0_bestCat_54 ?_
  obtain ⟨x3_9, hx3_9⟩ : ∃ y : Int32, y = (if x5 < x3 then x5 else x3) := ⟨_, rfl⟩
  replace hw := hw x3_9 hx3_9
  refine th_nmi hx3_9 ?_
  refine th_istore_n hx hb dX0_bestCat_57 rfl hL (by decide) rfl (fun ls hL => ?_)
  obtain ⟨x4_10, hx4_10⟩ : ∃ y : Int32, y = x4 + 1 := ⟨_, rfl⟩
  replace hw := hw x4_10 hx4_10
  refine th_iinc hx hb dX0_bestCat_58 hL (k := 4) rfl (v := x4_10) hx4_10.symm (by decide) rfl (fun ls hL => ?_)
  refine lv_goto hx hb dX0_bestCat_61 (tgt := 23) (by decide) ?_
  exact h23 _ _ _ _ _ _ _ _ _ _ _ hw hR hS (hL.sub [3, 4, 2, 1, 0] rfl) ⟨by omega, by omega⟩
theorem tk_X0_bestCat_b23 {p : Program} {l : Launch} {e : Env} {s : State} {m : MethodId} {args : Array Value} {below : List Frame} {meth : Method} {c : Code} {D : tD} {B : Nat} (E : th_E p m c cX0_bestCat 6 s args RX0 meth ((Option.some Jvm.ClassFile.FieldType.int)) "bestCat" D B) {Q : Int32 → aH → Prop} : ∀ (n : Nat) {G : aH} {H : Heap} {locs : List Loc} {cells slots : Nat} {ls : Array Slot} {a0 : Nat} {x1 : Int32} {x2 : Int32} {x3 : Int32} {x4 : Int32} (hR : th_H D B G H) (hS : va_S (th_A B) s.heap H locs) (hL : th_L ls 6 [(0, rv a0), (1, .int x1), (2, .int x2), (3, .int x3), (4, .int x4)]) (hw : tw_X0_bestCat_b23 Q n G a0 x1 x2 x3 x4) (hc : cells + (0) ≤ 0 ∧ slots + (0) ≤ 0), W p l e rm_X0_bestCat s m args below meth c H locs cells slots (MQ below (th_Qi D B Q) args s 0 0 (th_A B)) (F0 m 23 ls []) := by
  have CF := E.1; have hx := CF.1; have hb := CF.2.1; have hret := E.2.1; have hlk := E.2.2.1; have hnm := E.2.2.2.1; have hK := E.2.2.2.2.1; have hSt := E.2.2.2.2.2
  intro n
  induction n with
  | zero => intro _ _ _ _ _ _ _ _ _ _ _ _ _ _ hw; exact hw.elim
  | succ n ih =>
    intro G H locs cells slots ls a0 x1 x2 x3 x4 hR hS hL hw hc
    rw [tws_X0_bestCat_b23] at hw
    refine lv_iload hx hb dX0_bestCat_23 (lv_at hL.1 4 rfl) ?_
    refine lv_bipush hx hb dX0_bestCat_25 (v := 7) rfl ?_
    refine lv_icmp_ge hx hb dX0_bestCat_27 (tgt := 64) (by decide) (fun h => ?_) (fun h => ?_)
    · replace hw := hw.1 h
      exact tk_X0_bestCat_b64 E hR hS (hL.sub [0, 1, 2, 3] rfl) hw ⟨by omega, by omega⟩
    · replace hw := hw.2 h
      refine th_aload_n hx hb dX0_bestCat_30 rfl (lv_at hL.1 0 rfl) ?_
      refine lv_iload hx hb dX0_bestCat_31 (lv_at hL.1 4 rfl) ?_
      obtain ⟨ho, hw⟩ := hw
      refine th_ki hS (th_rV CF hK hSt hR hS ho (ci := 0) rfl (rest := []) (tk_X0_eatenBy) (cw_X0_433 CF hK (by decide +kernel)) hw rfl hL.1.1 rfl th_cn (Nat.le_of_ble_eq_true rfl) dX0_bestCat_33 ⟨by show _ ≤ (0 : Nat); omega, by show _ ≤ (0 : Nat); omega⟩) (fun r8 G7 H locs hw hR hS => ?_)
      refine th_istore hx hb dX0_bestCat_36 hL (by decide) rfl (fun ls hL => ?_)
      refine lv_iload hx hb dX0_bestCat_38 (lv_at hL.1 0 rfl) ?_
      refine lv_iload_n hx hb dX0_bestCat_40 rfl (lv_at hL.1 4 rfl) ?_
      refine lv_icmp_ge hx hb dX0_bestCat_41 (tgt := 49) (by decide) (fun h => ?_) (fun h => ?_)
      · replace hw := hw.1 h
        refine lv_iload_n hx hb dX0_bestCat_49 rfl (lv_at hL.1 3 rfl) ?_
        exact tk_X0_bestCat_b50 E (c23 := cells + 0 + 0) (s23 := slots + 0 + 0) (fun G H locs cells slots ls y0 y1 y2 y3 y4 hw hR hS hL hc => ih hR hS hL hw ⟨by omega, by omega⟩) hR hS (hL.sub [1, 2, 4, 5, 0] rfl) hw ⟨by omega, by omega, by omega, by omega⟩
      · replace hw := hw.2 h
        refine lv_iload hx hb dX0_bestCat_44 (lv_at hL.1 5 rfl) ?_
        refine lv_goto hx hb dX0_bestCat_46 (tgt := 50) (by decide) ?_
        exact tk_X0_bestCat_b50 E (c23 := cells + 0 + 0) (s23 := slots + 0 + 0) (fun G H locs cells slots ls y0 y1 y2 y3 y4 hw hR hS hL hc => ih hR hS hL hw ⟨by omega, by omega⟩) hR hS (hL.sub [1, 2, 4, 5, 0] rfl) hw ⟨by omega, by omega, by omega, by omega⟩
theorem tk_X0_bestCat {l : Launch} {D : tD} {B : Nat} {Q : Int32 → aH → Prop} {a0 : Nat} {x1 : Int32} : Met l yX0_bestCat (ws_ yX0_bestCat cX0_bestCat 6 ((Option.some Jvm.ClassFile.FieldType.int))) rm_X0_bestCat (th_P D B [rv a0, .int x1] (fun G => tw_X0_bestCat Q G a0 x1)) (th_Qi D B Q) 0 0 (th_A B) :=
  th_ofW (by decide +kernel) (th_cr (th_ci th_cn)) (Nat.le_of_ble_eq_true rfl) (fun p e s m args below meth c CF hret hlk hnm hK hSt G ls hR hS hw hL => by
    have E : th_E p m c cX0_bestCat 6 s args RX0 meth ((Option.some Jvm.ClassFile.FieldType.int)) "bestCat" D B := ⟨CF, hret, hlk, hnm, hK, hSt⟩
    have hx := CF.1; have hb := CF.2.1
    have hL : th_L ls 6 [(0, rv a0), (1, .int x1)] := hL
    unfold tw_X0_bestCat at hw
    refine lv_iload_n hx hb dX0_bestCat_0 rfl (lv_at hL.1 1 rfl) ?_
    refine lv_iconst hx hb dX0_bestCat_1 (v := 0) rfl ?_
    refine lv_iconst hx hb dX0_bestCat_2 (v := 1) rfl ?_
    refine th_ki hS (th_rS CF hK hSt hR hS (rest := []) (tk_X0_within) (cw_X0_82 CF hK (by decide +kernel)) hw rfl hL.1.1 rfl th_cn (Nat.le_of_ble_eq_true rfl) dX0_bestCat_3 ⟨by show _ ≤ (0 : Nat); omega, by show _ ≤ (0 : Nat); omega⟩) (fun r2 G1 H locs hw hR hS => ?_)
    refine lv_if_ne hx hb dX0_bestCat_6 (tgt := 12) (by decide) (fun h => ?_) (fun h => ?_)
    · replace hw := hw.1 h
      refine lv_iconst hx hb dX0_bestCat_12 (v := 0) rfl ?_
      refine th_istore_n hx hb dX0_bestCat_13 rfl hL (by decide) rfl (fun ls hL => ?_)
      refine th_aload_n hx hb dX0_bestCat_14 rfl (lv_at hL.1 1 rfl) ?_
      refine lv_iconst hx hb dX0_bestCat_15 (v := 0) rfl ?_
      obtain ⟨ho, hw⟩ := hw
      refine th_ki hS (th_rV CF hK hSt hR hS ho (ci := 0) rfl (rest := []) (tk_X0_eatenBy) (cw_X0_433 CF hK (by decide +kernel)) hw rfl hL.1.1 rfl th_cn (Nat.le_of_ble_eq_true rfl) dX0_bestCat_16 ⟨by show _ ≤ (0 : Nat); omega, by show _ ≤ (0 : Nat); omega⟩) (fun r4 G3 H locs hw hR hS => ?_)
      refine th_istore_n hx hb dX0_bestCat_19 rfl hL (by decide) rfl (fun ls hL => ?_)
      refine lv_iconst hx hb dX0_bestCat_20 (v := 1) rfl ?_
      refine th_istore hx hb dX0_bestCat_21 hL (by decide) rfl (fun ls hL => ?_)
      obtain ⟨n9, hw⟩ := hw
      exact tk_X0_bestCat_b23 E n9 hR hS (hL.sub [3, 4, 2, 1, 0] rfl) hw ⟨by omega, by omega⟩
    · replace hw := hw.2 h
      refine lv_bipush hx hb dX0_bestCat_9 (v := (-2)) rfl ?_
      exact th_iret hx hb hret hlk hR hS hw (by omega) (by omega) dX0_bestCat_11)
