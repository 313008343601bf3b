/-! WALKS: X8_sell X8_settles X8_settle X8_share X8_stop X8_thresh X8_tithe X8_titheAgain X8_undo X8_written -/
set_option maxRecDepth 100000
def tw_X8_sell (Q : Int32 → aH → Prop) (G : aH) (a0 : Nat) (x1 : Int32) (x2 : Int32) (x3 : Int32) : Prop :=
  th_o G a0 8 ∧ (
  (tw_X8_starts
    (fun (G1 : aH) =>
      th_o G1 a0 8 ∧ (
      (tw_X8_sells
        (fun (r3 : Int32) (G2 : aH) =>
          th_o G2 a0 8 ∧ (
          (tw_X8_ends
            (fun (r5 : Int32) (G4 : aH) =>
              Q r5 G4)
            G2 a0 r3)))
        G1 a0 x1 x2 x3)))
    G a0))
theorem tk_X8_sell {l : Launch} {D : tD} {B : Nat} {Q : Int32 → aH → Prop} {a0 : Nat} {x1 : Int32} {x2 : Int32} {x3 : Int32} : Met l yX8_sell (ws_ yX8_sell cX8_sell 4 ((Option.some Jvm.ClassFile.FieldType.int))) rm_X8_sell (th_P D B [rv a0, .int x1, .int x2, .int x3] (fun G => tw_X8_sell Q G a0 x1 x2 x3)) (th_Qi D B Q) 0 0 (th_A B) :=
  th_ofW (by decide +kernel) (th_cr (th_ci (th_ci (th_ci th_cn)))) (Nat.le_of_ble_eq_true rfl) (fun p e s m args below meth c CF hret hlk hnm hK hSt G ls hR hS hw hL => by
    have E : th_E p m c cX8_sell 4 s args RX8 meth ((Option.some Jvm.ClassFile.FieldType.int)) "sell" D B := ⟨CF, hret, hlk, hnm, hK, hSt⟩
    have hx := CF.1; have hb := CF.2.1
    have hL : th_L ls 4 [(0, rv a0), (1, .int x1), (2, .int x2), (3, .int x3)] := hL
    unfold tw_X8_sell at hw
    refine th_aload_n hx hb dX8_sell_0 rfl (lv_at hL.1 0 rfl) ?_
    obtain ⟨ho, hw⟩ := hw
    refine th_kv hS (th_rV CF hK hSt hR hS ho (ci := 8) rfl (rest := []) (tk_X8_starts) (cw_X8_97 CF hK (by decide +kernel)) hw rfl hL.1.1 rfl th_cn (Nat.le_of_ble_eq_true rfl) dX8_sell_1 ⟨by show _ ≤ (0 : Nat); omega, by show _ ≤ (0 : Nat); omega⟩) (fun G1 H locs hw hR hS => ?_)
    refine th_aload_n hx hb dX8_sell_4 rfl (lv_at hL.1 0 rfl) ?_
    refine th_aload_n hx hb dX8_sell_5 rfl (lv_at hL.1 0 rfl) ?_
    refine lv_iload_n hx hb dX8_sell_6 rfl (lv_at hL.1 1 rfl) ?_
    refine lv_iload_n hx hb dX8_sell_7 rfl (lv_at hL.1 2 rfl) ?_
    refine lv_iload_n hx hb dX8_sell_8 rfl (lv_at hL.1 3 rfl) ?_
    obtain ⟨ho, hw⟩ := hw
    refine th_ki hS (th_rV CF hK hSt hR hS ho (ci := 8) rfl (rest := [rv a0]) (tk_X8_sells) (cw_X8_184 CF hK (by decide +kernel)) hw rfl hL.1.1 rfl (th_cr th_cn) (Nat.le_of_ble_eq_true rfl) dX8_sell_9 ⟨by show _ ≤ (0 : Nat); omega, by show _ ≤ (0 : Nat); omega⟩) (fun r3 G2 H locs hw hR hS => ?_)
    obtain ⟨ho, hw⟩ := hw
    refine th_ki hS (th_rV CF hK hSt hR hS ho (ci := 8) rfl (rest := []) (tk_X8_ends) (cw_X8_104 CF hK (by decide +kernel)) hw rfl hL.1.1 rfl th_cn (Nat.le_of_ble_eq_true rfl) dX8_sell_12 ⟨by show _ ≤ (0 : Nat); omega, by show _ ≤ (0 : Nat); omega⟩) (fun r5 G4 H locs hw hR hS => ?_)
    exact th_iret hx hb hret hlk hR hS hw (by omega) (by omega) dX8_sell_15)
def tw_X8_settles (Q : Int32 → aH → Prop) (G : aH) (a0 : Nat) (x1 : Int32) (x2 : Int32) : Prop :=
  th_o G a0 8 ∧ (
  (tw_X8_isParish
    (fun (r2 : Int32) (G1 : aH) =>
      (¬ r2 = 0 →
        (tw_X8_isIn
          (fun (r4 : Int32) (G3 : aH) =>
            (r4 = 0 →
              Q (-2) G3) ∧
            (¬ r4 = 0 →
              (¬ x2 - x2 / 2 * 2 = 1 →
                th_o G3 a0 8 ∧ (
                (tw_X8_of
                  (fun (r6 : Int32) (G5 : aH) =>
                    (x2 / 2 ≤ r6 →
                      th_o G5 a0 8 ∧ (
                      th_ai G5 (a_mr G5 a0 0) 0 ((1 + (23 * x1)) + 2) ∧ (
                      th_ai G5 (a_mr G5 a0 0) 0 ((1 + (23 * x1)) + 2) ∧ (
                      ∀ G7 : aH, G7 = a_si G5 (a_mr G5 a0 0) ((1 + (23 * x1)) + 2).toNatClampNeg ((a_mi G5 (a_mr G5 a0 0) ((1 + (23 * x1)) + 2).toNatClampNeg) - (x2 / 2)) → 
                      th_o G7 a0 8 ∧ (
                      th_ai G7 (a_mr G7 a0 0) 0 429 ∧ (
                      th_ai G7 (a_mr G7 a0 0) 0 429 ∧ (
                      ∀ G8 : aH, G8 = a_si G7 (a_mr G7 a0 0) (429 : Int32).toNatClampNeg ((a_mi G7 (a_mr G7 a0 0) (429 : Int32).toNatClampNeg) + x2) → 
                      th_o G8 a0 8 ∧ (
                      (tw_X8_of
                        (fun (r10 : Int32) (G9 : aH) =>
                          Q r10 G9)
                        G8 a0 x1 2))))))))) ∧
                    (¬ x2 / 2 ≤ r6 →
                      th_o G5 a0 8 ∧ (
                      (tw_X8_of
                        (fun (r12 : Int32) (G11 : aH) =>
                          th_o G11 a0 8 ∧ (
                          (tw_X8_refuses
                            (fun (r14 : Int32) (G13 : aH) =>
                              Q r14 G13)
                            G11 a0 10 r12 0 0)))
                        G5 a0 x1 2))))
                  G3 a0 x1 2))) ∧
              (x2 - x2 / 2 * 2 = 1 →
                Q (-2) G3)))
          G1 x2 2 998)) ∧
      (r2 = 0 →
        Q (-1) G1))
    G a0 x1))
theorem tk_X8_settles {l : Launch} {D : tD} {B : Nat} {Q : Int32 → aH → Prop} {a0 : Nat} {x1 : Int32} {x2 : Int32} : Met l yX8_settles (ws_ yX8_settles cX8_settles 3 ((Option.some Jvm.ClassFile.FieldType.int))) rm_X8_settles (th_P D B [rv a0, .int x1, .int x2] (fun G => tw_X8_settles Q G a0 x1 x2)) (th_Qi D B Q) 0 0 (th_A B) :=
  th_ofW (by decide +kernel) (th_cr (th_ci (th_ci th_cn))) (Nat.le_of_ble_eq_true rfl) (fun p e s m args below meth c CF hret hlk hnm hK hSt G ls hR hS hw hL => by
    have E : th_E p m c cX8_settles 3 s args RX8 meth ((Option.some Jvm.ClassFile.FieldType.int)) "settles" D B := ⟨CF, hret, hlk, hnm, hK, hSt⟩
    have hx := CF.1; have hb := CF.2.1
    have hL : th_L ls 3 [(0, rv a0), (1, .int x1), (2, .int x2)] := hL
    unfold tw_X8_settles at hw
    refine th_aload_n hx hb dX8_settles_0 rfl (lv_at hL.1 0 rfl) ?_
    refine lv_iload_n hx hb dX8_settles_1 rfl (lv_at hL.1 1 rfl) ?_
    obtain ⟨ho, hw⟩ := hw
    refine th_ki hS (th_rV CF hK hSt hR hS ho (ci := 8) rfl (rest := []) (tk_X8_isParish) (cw_X8_107 CF hK (by decide +kernel)) hw rfl hL.1.1 rfl th_cn (Nat.le_of_ble_eq_true rfl) dX8_settles_2 ⟨by show _ ≤ (0 : Nat); omega, by show _ ≤ (0 : Nat); omega⟩) (fun r2 G1 H locs hw hR hS => ?_)
    refine lv_if_ne hx hb dX8_settles_5 (tgt := 10) (by decide) (fun h => ?_) (fun h => ?_)
    · replace hw := hw.1 h
      refine lv_iload_n hx hb dX8_settles_10 rfl (lv_at hL.1 2 rfl) ?_
      refine lv_iconst hx hb dX8_settles_11 (v := 2) rfl ?_
      refine lv_sipush hx hb dX8_settles_12 (v := 998) rfl ?_
      refine th_ki hS (th_rS CF hK hSt hR hS (rest := []) (tk_X8_isIn) (cw_X8_56 CF hK (by decide +kernel)) hw rfl hL.1.1 rfl th_cn (Nat.le_of_ble_eq_true rfl) dX8_settles_15 ⟨by show _ ≤ (0 : Nat); omega, by show _ ≤ (0 : Nat); omega⟩) (fun r4 G3 H locs hw hR hS => ?_)
      refine lv_if_eq hx hb dX8_settles_18 (tgt := 28) (by decide) (fun h => ?_) (fun h => ?_)
      · replace hw := hw.1 h
        refine lv_bipush hx hb dX8_settles_28 (v := (-2)) rfl ?_
        exact th_iret hx hb hret hlk hR hS hw (by omega) (by omega) dX8_settles_30
      · replace hw := hw.2 h
        refine lv_iload_n hx hb dX8_settles_21 rfl (lv_at hL.1 2 rfl) ?_
        refine lv_iconst hx hb dX8_settles_22 (v := 2) rfl ?_
        refine lv_irem hx hb dX8_settles_23 (by decide) ?_
        refine lv_iconst hx hb dX8_settles_24 (v := 1) rfl ?_
        refine lv_icmp_ne hx hb dX8_settles_25 (tgt := 31) (by decide) (fun h => ?_) (fun h => ?_)
        · replace hw := hw.1 h
          refine th_aload_n hx hb dX8_settles_31 rfl (lv_at hL.1 0 rfl) ?_
          refine lv_iload_n hx hb dX8_settles_32 rfl (lv_at hL.1 1 rfl) ?_
          refine lv_iconst hx hb dX8_settles_33 (v := 2) rfl ?_
          obtain ⟨ho, hw⟩ := hw
          refine th_ki hS (th_rV CF hK hSt hR hS ho (ci := 8) rfl (rest := []) (tk_X8_of) (cw_X8_89 CF hK (by decide +kernel)) hw rfl hL.1.1 rfl th_cn (Nat.le_of_ble_eq_true rfl) dX8_settles_34 ⟨by show _ ≤ (0 : Nat); omega, by show _ ≤ (0 : Nat); omega⟩) (fun r6 G5 H locs hw hR hS => ?_)
          refine lv_iload_n hx hb dX8_settles_37 rfl (lv_at hL.1 2 rfl) ?_
          refine lv_iconst hx hb dX8_settles_38 (v := 2) rfl ?_
          refine lv_idiv hx hb dX8_settles_39 (by decide) ?_
          refine lv_icmp_ge hx hb dX8_settles_40 (tgt := 58) (by decide) (fun h => ?_) (fun h => ?_)
          · replace hw := hw.1 h
            refine th_aload_n hx hb dX8_settles_58 rfl (lv_at hL.1 0 rfl) ?_
            obtain ⟨ho, hw⟩ := hw
            refine fg_X8_9 CF hK hR ho dX8_settles_59 ?_
            refine lv_iconst hx hb dX8_settles_62 (v := 1) rfl ?_
            refine lv_bipush hx hb dX8_settles_63 (v := 23) rfl ?_
            refine lv_iload_n hx hb dX8_settles_65 rfl (lv_at hL.1 1 rfl) ?_
            refine lv_imul hx hb dX8_settles_66 ?_
            refine lv_iadd hx hb dX8_settles_67 ?_
            refine lv_iconst hx hb dX8_settles_68 (v := 2) rfl ?_
            refine lv_iadd hx hb dX8_settles_69 ?_
            refine lv_dup2_11 hx hb dX8_settles_70 rfl (rv_cat _) ?_
            obtain ⟨ha, hw⟩ := hw
            refine th_iald hx hb hK hR ha dX8_settles_71 ?_
            refine lv_iload_n hx hb dX8_settles_72 rfl (lv_at hL.1 2 rfl) ?_
            refine lv_iconst hx hb dX8_settles_73 (v := 2) rfl ?_
            refine lv_idiv hx hb dX8_settles_74 (by decide) ?_
            refine lv_isub hx hb dX8_settles_75 ?_
            obtain ⟨ha, hw⟩ := hw
            refine th_iast hx hb hK hR hS ha dX8_settles_76 (fun G7 H locs hG hR hS => ?_)
            replace hw := hw G7 hG
            refine th_aload_n hx hb dX8_settles_77 rfl (lv_at hL.1 0 rfl) ?_
            obtain ⟨ho, hw⟩ := hw
            refine fg_X8_9 CF hK hR ho dX8_settles_78 ?_
            refine lv_sipush hx hb dX8_settles_81 (v := 429) rfl ?_
            refine lv_dup2_11 hx hb dX8_settles_84 rfl (rv_cat _) ?_
            obtain ⟨ha, hw⟩ := hw
            refine th_iald hx hb hK hR ha dX8_settles_85 ?_
            refine lv_iload_n hx hb dX8_settles_86 rfl (lv_at hL.1 2 rfl) ?_
            refine lv_iadd hx hb dX8_settles_87 ?_
            obtain ⟨ha, hw⟩ := hw
            refine th_iast hx hb hK hR hS ha dX8_settles_88 (fun G8 H locs hG hR hS => ?_)
            replace hw := hw G8 hG
            refine th_aload_n hx hb dX8_settles_89 rfl (lv_at hL.1 0 rfl) ?_
            refine lv_iload_n hx hb dX8_settles_90 rfl (lv_at hL.1 1 rfl) ?_
            refine lv_iconst hx hb dX8_settles_91 (v := 2) rfl ?_
            obtain ⟨ho, hw⟩ := hw
            refine th_ki hS (th_rV CF hK hSt hR hS ho (ci := 8) rfl (rest := []) (tk_X8_of) (cw_X8_89 CF hK (by decide +kernel)) hw rfl hL.1.1 rfl th_cn (Nat.le_of_ble_eq_true rfl) dX8_settles_92 ⟨by show _ ≤ (0 : Nat); omega, by show _ ≤ (0 : Nat); omega⟩) (fun r10 G9 H locs hw hR hS => ?_)
            exact th_iret hx hb hret hlk hR hS hw (by omega) (by omega) dX8_settles_95
          · replace hw := hw.2 h
            refine th_aload_n hx hb dX8_settles_43 rfl (lv_at hL.1 0 rfl) ?_
            refine lv_bipush hx hb dX8_settles_44 (v := 10) rfl ?_
            refine th_aload_n hx hb dX8_settles_46 rfl (lv_at hL.1 0 rfl) ?_
            refine lv_iload_n hx hb dX8_settles_47 rfl (lv_at hL.1 1 rfl) ?_
            refine lv_iconst hx hb dX8_settles_48 (v := 2) rfl ?_
            obtain ⟨ho, hw⟩ := hw
            refine th_ki hS (th_rV CF hK hSt hR hS ho (ci := 8) rfl (rest := [.int 10, rv a0]) (tk_X8_of) (cw_X8_89 CF hK (by decide +kernel)) hw rfl hL.1.1 rfl (th_ci (th_cr th_cn)) (Nat.le_of_ble_eq_true rfl) dX8_settles_49 ⟨by show _ ≤ (0 : Nat); omega, by show _ ≤ (0 : Nat); omega⟩) (fun r12 G11 H locs hw hR hS => ?_)
            refine lv_iconst hx hb dX8_settles_52 (v := 0) rfl ?_
            refine lv_iconst hx hb dX8_settles_53 (v := 0) rfl ?_
            obtain ⟨ho, hw⟩ := hw
            refine th_ki hS (th_rV CF hK hSt hR hS ho (ci := 8) rfl (rest := []) (tk_X8_refuses) (cw_X8_100 CF hK (by decide +kernel)) hw rfl hL.1.1 rfl th_cn (Nat.le_of_ble_eq_true rfl) dX8_settles_54 ⟨by show _ ≤ (0 : Nat); omega, by show _ ≤ (0 : Nat); omega⟩) (fun r14 G13 H locs hw hR hS => ?_)
            exact th_iret hx hb hret hlk hR hS hw (by omega) (by omega) dX8_settles_57
        · replace hw := hw.2 h
          refine lv_bipush hx hb dX8_settles_28 (v := (-2)) rfl ?_
          exact th_iret hx hb hret hlk hR hS hw (by omega) (by omega) dX8_settles_30
    · replace hw := hw.2 h
      refine lv_iconst hx hb dX8_settles_8 (v := (-1)) rfl ?_
      exact th_iret hx hb hret hlk hR hS hw (by omega) (by omega) dX8_settles_9)
def tw_X8_settle (Q : Int32 → aH → Prop) (G : aH) (a0 : Nat) (x1 : Int32) (x2 : Int32) : Prop :=
  th_o G a0 8 ∧ (
  (tw_X8_starts
    (fun (G1 : aH) =>
      th_o G1 a0 8 ∧ (
      (tw_X8_settles
        (fun (r3 : Int32) (G2 : aH) =>
          th_o G2 a0 8 ∧ (
          (tw_X8_ends
            (fun (r5 : Int32) (G4 : aH) =>
              Q r5 G4)
            G2 a0 r3)))
        G1 a0 x1 x2)))
    G a0))
theorem tk_X8_settle {l : Launch} {D : tD} {B : Nat} {Q : Int32 → aH → Prop} {a0 : Nat} {x1 : Int32} {x2 : Int32} : Met l yX8_settle (ws_ yX8_settle cX8_settle 3 ((Option.some Jvm.ClassFile.FieldType.int))) rm_X8_settle (th_P D B [rv a0, .int x1, .int x2] (fun G => tw_X8_settle Q G a0 x1 x2)) (th_Qi D B Q) 0 0 (th_A B) :=
  th_ofW (by decide +kernel) (th_cr (th_ci (th_ci th_cn))) (Nat.le_of_ble_eq_true rfl) (fun p e s m args below meth c CF hret hlk hnm hK hSt G ls hR hS hw hL => by
    have E : th_E p m c cX8_settle 3 s args RX8 meth ((Option.some Jvm.ClassFile.FieldType.int)) "settle" D B := ⟨CF, hret, hlk, hnm, hK, hSt⟩
    have hx := CF.1; have hb := CF.2.1
    have hL : th_L ls 3 [(0, rv a0), (1, .int x1), (2, .int x2)] := hL
    unfold tw_X8_settle at hw
    refine th_aload_n hx hb dX8_settle_0 rfl (lv_at hL.1 0 rfl) ?_
    obtain ⟨ho, hw⟩ := hw
    refine th_kv hS (th_rV CF hK hSt hR hS ho (ci := 8) rfl (rest := []) (tk_X8_starts) (cw_X8_97 CF hK (by decide +kernel)) hw rfl hL.1.1 rfl th_cn (Nat.le_of_ble_eq_true rfl) dX8_settle_1 ⟨by show _ ≤ (0 : Nat); omega, by show _ ≤ (0 : Nat); omega⟩) (fun G1 H locs hw hR hS => ?_)
    refine th_aload_n hx hb dX8_settle_4 rfl (lv_at hL.1 0 rfl) ?_
    refine th_aload_n hx hb dX8_settle_5 rfl (lv_at hL.1 0 rfl) ?_
    refine lv_iload_n hx hb dX8_settle_6 rfl (lv_at hL.1 1 rfl) ?_
    refine lv_iload_n hx hb dX8_settle_7 rfl (lv_at hL.1 2 rfl) ?_
    obtain ⟨ho, hw⟩ := hw
    refine th_ki hS (th_rV CF hK hSt hR hS ho (ci := 8) rfl (rest := [rv a0]) (tk_X8_settles) (cw_X8_187 CF hK (by decide +kernel)) hw rfl hL.1.1 rfl (th_cr th_cn) (Nat.le_of_ble_eq_true rfl) dX8_settle_8 ⟨by show _ ≤ (0 : Nat); omega, by show _ ≤ (0 : Nat); omega⟩) (fun r3 G2 H locs hw hR hS => ?_)
    obtain ⟨ho, hw⟩ := hw
    refine th_ki hS (th_rV CF hK hSt hR hS ho (ci := 8) rfl (rest := []) (tk_X8_ends) (cw_X8_104 CF hK (by decide +kernel)) hw rfl hL.1.1 rfl th_cn (Nat.le_of_ble_eq_true rfl) dX8_settle_11 ⟨by show _ ≤ (0 : Nat); omega, by show _ ≤ (0 : Nat); omega⟩) (fun r5 G4 H locs hw hR hS => ?_)
    exact th_iret hx hb hret hlk hR hS hw (by omega) (by omega) dX8_settle_14)
def tw_X8_share (Q : UInt32 → aH → Prop) (G : aH) (a0 : Nat) (x1 : Int32) : Prop :=
  th_o G a0 8 ∧ (
  (tw_X8_total
    (fun (r2 : Int32) (G1 : aH) =>
      th_o G1 a0 8 ∧ (
      (tw_X8_isParish
        (fun (r4 : Int32) (G3 : aH) =>
          (r4 = 0 →
            Q (FP.fconst0) G3) ∧
          (¬ r4 = 0 →
            (r2 ≤ 0 →
              Q (FP.fconst0) G3) ∧
            (¬ r2 ≤ 0 →
              th_o G3 a0 8 ∧ (
              (tw_X8_of
                (fun (r6 : Int32) (G5 : aH) =>
                  vf_n32 (FP.fdiv (FP.i2f r6) (FP.i2f r2)) ∧ (
                  Q (FP.fdiv (FP.i2f r6) (FP.i2f r2)) G5))
                G3 a0 x1 3)))))
        G1 a0 x1)))
    G a0 3))
theorem tk_X8_share {l : Launch} {D : tD} {B : Nat} {Q : UInt32 → aH → Prop} {a0 : Nat} {x1 : Int32} : Met l yX8_share (ws_ yX8_share cX8_share 3 ((Option.some Jvm.ClassFile.FieldType.float))) rm_X8_share (th_P D B [rv a0, .int x1] (fun G => tw_X8_share Q G a0 x1)) (th_Qf D B Q) 0 0 (th_A B) :=
  th_ofW (by decide +kernel) (th_cr (th_ci th_cn)) (Nat.le_of_ble_eq_true rfl) (fun p e s m args below meth c CF hret hlk hnm hK hSt G ls hR hS hw hL => by
    have E : th_E p m c cX8_share 3 s args RX8 meth ((Option.some Jvm.ClassFile.FieldType.float)) "share" D B := ⟨CF, hret, hlk, hnm, hK, hSt⟩
    have hx := CF.1; have hb := CF.2.1
    have hL : th_L ls 3 [(0, rv a0), (1, .int x1)] := hL
    unfold tw_X8_share at hw
    refine th_aload_n hx hb dX8_share_0 rfl (lv_at hL.1 0 rfl) ?_
    refine lv_iconst hx hb dX8_share_1 (v := 3) rfl ?_
    obtain ⟨ho, hw⟩ := hw
    refine th_ki hS (th_rV CF hK hSt hR hS ho (ci := 8) rfl (rest := []) (tk_X8_total) (cw_X8_245 CF hK (by decide +kernel)) hw rfl hL.1.1 rfl th_cn (Nat.le_of_ble_eq_true rfl) dX8_share_2 ⟨by show _ ≤ (0 : Nat); omega, by show _ ≤ (0 : Nat); omega⟩) (fun r2 G1 H locs hw hR hS => ?_)
    refine th_istore_n hx hb dX8_share_5 rfl hL (by decide) rfl (fun ls hL => ?_)
    refine th_aload_n hx hb dX8_share_6 rfl (lv_at hL.1 1 rfl) ?_
    refine lv_iload_n hx hb dX8_share_7 rfl (lv_at hL.1 2 rfl) ?_
    obtain ⟨ho, hw⟩ := hw
    refine th_ki hS (th_rV CF hK hSt hR hS ho (ci := 8) rfl (rest := []) (tk_X8_isParish) (cw_X8_107 CF hK (by decide +kernel)) hw rfl hL.1.1 rfl th_cn (Nat.le_of_ble_eq_true rfl) dX8_share_8 ⟨by show _ ≤ (0 : Nat); omega, by show _ ≤ (0 : Nat); omega⟩) (fun r4 G3 H locs hw hR hS => ?_)
    refine lv_if_eq hx hb dX8_share_11 (tgt := 31) (by decide) (fun h => ?_) (fun h => ?_)
    · replace hw := hw.1 h
      refine lv_fconst0 hx hb dX8_share_31 ?_
      exact th_fret hx hb hret hlk hR hS hw (by omega) (by omega) dX8_share_32
    · replace hw := hw.2 h
      refine lv_iload_n hx hb dX8_share_14 rfl (lv_at hL.1 0 rfl) ?_
      refine lv_if_le hx hb dX8_share_15 (tgt := 31) (by decide) (fun h => ?_) (fun h => ?_)
      · replace hw := hw.1 h
        refine lv_fconst0 hx hb dX8_share_31 ?_
        exact th_fret hx hb hret hlk hR hS hw (by omega) (by omega) dX8_share_32
      · replace hw := hw.2 h
        refine th_aload_n hx hb dX8_share_18 rfl (lv_at hL.1 1 rfl) ?_
        refine lv_iload_n hx hb dX8_share_19 rfl (lv_at hL.1 2 rfl) ?_
        refine lv_iconst hx hb dX8_share_20 (v := 3) rfl ?_
        obtain ⟨ho, hw⟩ := hw
        refine th_ki hS (th_rV CF hK hSt hR hS ho (ci := 8) rfl (rest := []) (tk_X8_of) (cw_X8_89 CF hK (by decide +kernel)) hw rfl hL.1.1 rfl th_cn (Nat.le_of_ble_eq_true rfl) dX8_share_21 ⟨by show _ ≤ (0 : Nat); omega, by show _ ≤ (0 : Nat); omega⟩) (fun r6 G5 H locs hw hR hS => ?_)
        refine lv_i2f hx hb dX8_share_24 ?_
        refine lv_iload_n hx hb dX8_share_25 rfl (lv_at hL.1 0 rfl) ?_
        refine lv_i2f hx hb dX8_share_26 ?_
        obtain ⟨h0, hw⟩ := hw
        refine lv_fdiv hx hb dX8_share_27 h0 ?_
        refine lv_goto hx hb dX8_share_28 (tgt := 32) (by decide) ?_
        exact th_fret hx hb hret hlk hR hS hw (by omega) (by omega) dX8_share_32)
def tw_X8_stop (Q : Int32 → aH → Prop) (G : aH) (a0 : Nat) (x1 : Int32) : Prop :=
  th_o G a0 8 ∧ (
  (tw_X8_starts
    (fun (G1 : aH) =>
      th_o G1 a0 8 ∧ (
      (tw_X8_stops
        (fun (r3 : Int32) (G2 : aH) =>
          th_o G2 a0 8 ∧ (
          (tw_X8_ends
            (fun (r5 : Int32) (G4 : aH) =>
              Q r5 G4)
            G2 a0 r3)))
        G1 a0 x1)))
    G a0))
theorem tk_X8_stop {l : Launch} {D : tD} {B : Nat} {Q : Int32 → aH → Prop} {a0 : Nat} {x1 : Int32} : Met l yX8_stop (ws_ yX8_stop cX8_stop 2 ((Option.some Jvm.ClassFile.FieldType.int))) rm_X8_stop (th_P D B [rv a0, .int x1] (fun G => tw_X8_stop Q G a0 x1)) (th_Qi D B Q) 0 0 (th_A B) :=
  th_ofW (by decide +kernel) (th_cr (th_ci th_cn)) (Nat.le_of_ble_eq_true rfl) (fun p e s m args below meth c CF hret hlk hnm hK hSt G ls hR hS hw hL => by
    have E : th_E p m c cX8_stop 2 s args RX8 meth ((Option.some Jvm.ClassFile.FieldType.int)) "stop" D B := ⟨CF, hret, hlk, hnm, hK, hSt⟩
    have hx := CF.1; have hb := CF.2.1
    have hL : th_L ls 2 [(0, rv a0), (1, .int x1)] := hL
    unfold tw_X8_stop at hw
    refine th_aload_n hx hb dX8_stop_0 rfl (lv_at hL.1 0 rfl) ?_
    obtain ⟨ho, hw⟩ := hw
    refine th_kv hS (th_rV CF hK hSt hR hS ho (ci := 8) rfl (rest := []) (tk_X8_starts) (cw_X8_97 CF hK (by decide +kernel)) hw rfl hL.1.1 rfl th_cn (Nat.le_of_ble_eq_true rfl) dX8_stop_1 ⟨by show _ ≤ (0 : Nat); omega, by show _ ≤ (0 : Nat); omega⟩) (fun G1 H locs hw hR hS => ?_)
    refine th_aload_n hx hb dX8_stop_4 rfl (lv_at hL.1 0 rfl) ?_
    refine th_aload_n hx hb dX8_stop_5 rfl (lv_at hL.1 0 rfl) ?_
    refine lv_iload_n hx hb dX8_stop_6 rfl (lv_at hL.1 1 rfl) ?_
    obtain ⟨ho, hw⟩ := hw
    refine th_ki hS (th_rV CF hK hSt hR hS ho (ci := 8) rfl (rest := [rv a0]) (tk_X8_stops) (cw_X8_193 CF hK (by decide +kernel)) hw rfl hL.1.1 rfl (th_cr th_cn) (Nat.le_of_ble_eq_true rfl) dX8_stop_7 ⟨by show _ ≤ (0 : Nat); omega, by show _ ≤ (0 : Nat); omega⟩) (fun r3 G2 H locs hw hR hS => ?_)
    obtain ⟨ho, hw⟩ := hw
    refine th_ki hS (th_rV CF hK hSt hR hS ho (ci := 8) rfl (rest := []) (tk_X8_ends) (cw_X8_104 CF hK (by decide +kernel)) hw rfl hL.1.1 rfl th_cn (Nat.le_of_ble_eq_true rfl) dX8_stop_10 ⟨by show _ ≤ (0 : Nat); omega, by show _ ≤ (0 : Nat); omega⟩) (fun r5 G4 H locs hw hR hS => ?_)
    exact th_iret hx hb hret hlk hR hS hw (by omega) (by omega) dX8_stop_13)
def tw_X8_thresh (Q : Int32 → aH → Prop) (G : aH) (a0 : Nat) (x1 : Int32) (x2 : Int32) (x3 : Int32) : Prop :=
  th_o G a0 8 ∧ (
  (tw_X8_starts
    (fun (G1 : aH) =>
      th_o G1 a0 8 ∧ (
      (tw_X8_threshes
        (fun (r3 : Int32) (G2 : aH) =>
          th_o G2 a0 8 ∧ (
          (tw_X8_ends
            (fun (r5 : Int32) (G4 : aH) =>
              Q r5 G4)
            G2 a0 r3)))
        G1 a0 x1 x2 x3)))
    G a0))
theorem tk_X8_thresh {l : Launch} {D : tD} {B : Nat} {Q : Int32 → aH → Prop} {a0 : Nat} {x1 : Int32} {x2 : Int32} {x3 : Int32} : Met l yX8_thresh (ws_ yX8_thresh cX8_thresh 4 ((Option.some Jvm.ClassFile.FieldType.int))) rm_X8_thresh (th_P D B [rv a0, .int x1, .int x2, .int x3] (fun G => tw_X8_thresh Q G a0 x1 x2 x3)) (th_Qi D B Q) 0 0 (th_A B) :=
  th_ofW (by decide +kernel) (th_cr (th_ci (th_ci (th_ci th_cn)))) (Nat.le_of_ble_eq_true rfl) (fun p e s m args below meth c CF hret hlk hnm hK hSt G ls hR hS hw hL => by
    have E : th_E p m c cX8_thresh 4 s args RX8 meth ((Option.some Jvm.ClassFile.FieldType.int)) "thresh" D B := ⟨CF, hret, hlk, hnm, hK, hSt⟩
    have hx := CF.1; have hb := CF.2.1
    have hL : th_L ls 4 [(0, rv a0), (1, .int x1), (2, .int x2), (3, .int x3)] := hL
    unfold tw_X8_thresh at hw
    refine th_aload_n hx hb dX8_thresh_0 rfl (lv_at hL.1 0 rfl) ?_
    obtain ⟨ho, hw⟩ := hw
    refine th_kv hS (th_rV CF hK hSt hR hS ho (ci := 8) rfl (rest := []) (tk_X8_starts) (cw_X8_97 CF hK (by decide +kernel)) hw rfl hL.1.1 rfl th_cn (Nat.le_of_ble_eq_true rfl) dX8_thresh_1 ⟨by show _ ≤ (0 : Nat); omega, by show _ ≤ (0 : Nat); omega⟩) (fun G1 H locs hw hR hS => ?_)
    refine th_aload_n hx hb dX8_thresh_4 rfl (lv_at hL.1 0 rfl) ?_
    refine th_aload_n hx hb dX8_thresh_5 rfl (lv_at hL.1 0 rfl) ?_
    refine lv_iload_n hx hb dX8_thresh_6 rfl (lv_at hL.1 1 rfl) ?_
    refine lv_iload_n hx hb dX8_thresh_7 rfl (lv_at hL.1 2 rfl) ?_
    refine lv_iload_n hx hb dX8_thresh_8 rfl (lv_at hL.1 3 rfl) ?_
    obtain ⟨ho, hw⟩ := hw
    refine th_ki hS (th_rV CF hK hSt hR hS ho (ci := 8) rfl (rest := [rv a0]) (tk_X8_threshes) (cw_X8_172 CF hK (by decide +kernel)) hw rfl hL.1.1 rfl (th_cr th_cn) (Nat.le_of_ble_eq_true rfl) dX8_thresh_9 ⟨by show _ ≤ (0 : Nat); omega, by show _ ≤ (0 : Nat); omega⟩) (fun r3 G2 H locs hw hR hS => ?_)
    obtain ⟨ho, hw⟩ := hw
    refine th_ki hS (th_rV CF hK hSt hR hS ho (ci := 8) rfl (rest := []) (tk_X8_ends) (cw_X8_104 CF hK (by decide +kernel)) hw rfl hL.1.1 rfl th_cn (Nat.le_of_ble_eq_true rfl) dX8_thresh_12 ⟨by show _ ≤ (0 : Nat); omega, by show _ ≤ (0 : Nat); omega⟩) (fun r5 G4 H locs hw hR hS => ?_)
    exact th_iret hx hb hret hlk hR hS hw (by omega) (by omega) dX8_thresh_15)
def tw_X8_tithe (Q : Int32 → aH → Prop) (G : aH) (a0 : Nat) (x1 : Int32) (x2 : Int32) : Prop :=
  th_o G a0 8 ∧ (
  (tw_X8_isParish
    (fun (r2 : Int32) (G1 : aH) =>
      (¬ r2 = 0 →
        (tw_X8_isIn
          (fun (r4 : Int32) (G3 : aH) =>
            (r4 = 0 →
              Q (-2) G3) ∧
            (¬ r4 = 0 →
              th_o G3 a0 8 ∧ (
              (tw_X8_becomeDue
                (fun (r6 : Int32) (G5 : aH) =>
                  Q r6 G5)
                G3 a0 x1 x2))))
          G1 x2 1 999)) ∧
      (r2 = 0 →
        Q (-1) G1))
    G a0 x1))
theorem tk_X8_tithe {l : Launch} {D : tD} {B : Nat} {Q : Int32 → aH → Prop} {a0 : Nat} {x1 : Int32} {x2 : Int32} : Met l yX8_tithe (ws_ yX8_tithe cX8_tithe 3 ((Option.some Jvm.ClassFile.FieldType.int))) rm_X8_tithe (th_P D B [rv a0, .int x1, .int x2] (fun G => tw_X8_tithe Q G a0 x1 x2)) (th_Qi D B Q) 0 0 (th_A B) :=
  th_ofW (by decide +kernel) (th_cr (th_ci (th_ci th_cn))) (Nat.le_of_ble_eq_true rfl) (fun p e s m args below meth c CF hret hlk hnm hK hSt G ls hR hS hw hL => by
    have E : th_E p m c cX8_tithe 3 s args RX8 meth ((Option.some Jvm.ClassFile.FieldType.int)) "tithe" D B := ⟨CF, hret, hlk, hnm, hK, hSt⟩
    have hx := CF.1; have hb := CF.2.1
    have hL : th_L ls 3 [(0, rv a0), (1, .int x1), (2, .int x2)] := hL
    unfold tw_X8_tithe at hw
    refine th_aload_n hx hb dX8_tithe_0 rfl (lv_at hL.1 0 rfl) ?_
    refine lv_iload_n hx hb dX8_tithe_1 rfl (lv_at hL.1 1 rfl) ?_
    obtain ⟨ho, hw⟩ := hw
    refine th_ki hS (th_rV CF hK hSt hR hS ho (ci := 8) rfl (rest := []) (tk_X8_isParish) (cw_X8_107 CF hK (by decide +kernel)) hw rfl hL.1.1 rfl th_cn (Nat.le_of_ble_eq_true rfl) dX8_tithe_2 ⟨by show _ ≤ (0 : Nat); omega, by show _ ≤ (0 : Nat); omega⟩) (fun r2 G1 H locs hw hR hS => ?_)
    refine lv_if_ne hx hb dX8_tithe_5 (tgt := 12) (by decide) (fun h => ?_) (fun h => ?_)
    · replace hw := hw.1 h
      refine lv_iload_n hx hb dX8_tithe_12 rfl (lv_at hL.1 2 rfl) ?_
      refine lv_iconst hx hb dX8_tithe_13 (v := 1) rfl ?_
      refine lv_sipush hx hb dX8_tithe_14 (v := 999) rfl ?_
      refine th_ki hS (th_rS CF hK hSt hR hS (rest := []) (tk_X8_isIn) (cw_X8_56 CF hK (by decide +kernel)) hw rfl hL.1.1 rfl th_cn (Nat.le_of_ble_eq_true rfl) dX8_tithe_17 ⟨by show _ ≤ (0 : Nat); omega, by show _ ≤ (0 : Nat); omega⟩) (fun r4 G3 H locs hw hR hS => ?_)
      refine lv_if_eq hx hb dX8_tithe_20 (tgt := 32) (by decide) (fun h => ?_) (fun h => ?_)
      · replace hw := hw.1 h
        refine lv_bipush hx hb dX8_tithe_32 (v := (-2)) rfl ?_
        exact th_iret hx hb hret hlk hR hS hw (by omega) (by omega) dX8_tithe_34
      · replace hw := hw.2 h
        refine th_aload_n hx hb dX8_tithe_23 rfl (lv_at hL.1 0 rfl) ?_
        refine lv_iload_n hx hb dX8_tithe_24 rfl (lv_at hL.1 1 rfl) ?_
        refine lv_iload_n hx hb dX8_tithe_25 rfl (lv_at hL.1 2 rfl) ?_
        obtain ⟨ho, hw⟩ := hw
        refine th_ki hS (th_rV CF hK hSt hR hS ho (ci := 8) rfl (rest := []) (tk_X8_becomeDue) (cw_X8_110 CF hK (by decide +kernel)) hw rfl hL.1.1 rfl th_cn (Nat.le_of_ble_eq_true rfl) dX8_tithe_26 ⟨by show _ ≤ (0 : Nat); omega, by show _ ≤ (0 : Nat); omega⟩) (fun r6 G5 H locs hw hR hS => ?_)
        refine lv_goto hx hb dX8_tithe_29 (tgt := 34) (by decide) ?_
        exact th_iret hx hb hret hlk hR hS hw (by omega) (by omega) dX8_tithe_34
    · replace hw := hw.2 h
      refine lv_iconst hx hb dX8_tithe_8 (v := (-1)) rfl ?_
      refine lv_goto hx hb dX8_tithe_9 (tgt := 34) (by decide) ?_
      exact th_iret hx hb hret hlk hR hS hw (by omega) (by omega) dX8_tithe_34)
def tw_X8_titheAgain (Q : Int32 → aH → Prop) (G : aH) (a0 : Nat) (x1 : Int32) (x2 : Int32) : Prop :=
  th_o G a0 8 ∧ (
  (tw_X8_tithe
    (fun (r2 : Int32) (G1 : aH) =>
      Q r2 G1)
    G a0 x1 x2))
theorem tk_X8_titheAgain {l : Launch} {D : tD} {B : Nat} {Q : Int32 → aH → Prop} {a0 : Nat} {x1 : Int32} {x2 : Int32} : Met l yX8_titheAgain (ws_ yX8_titheAgain cX8_titheAgain 3 ((Option.some Jvm.ClassFile.FieldType.int))) rm_X8_titheAgain (th_P D B [rv a0, .int x1, .int x2] (fun G => tw_X8_titheAgain Q G a0 x1 x2)) (th_Qi D B Q) 0 0 (th_A B) :=
  th_ofW (by decide +kernel) (th_cr (th_ci (th_ci th_cn))) (Nat.le_of_ble_eq_true rfl) (fun p e s m args below meth c CF hret hlk hnm hK hSt G ls hR hS hw hL => by
    have E : th_E p m c cX8_titheAgain 3 s args RX8 meth ((Option.some Jvm.ClassFile.FieldType.int)) "titheAgain" D B := ⟨CF, hret, hlk, hnm, hK, hSt⟩
    have hx := CF.1; have hb := CF.2.1
    have hL : th_L ls 3 [(0, rv a0), (1, .int x1), (2, .int x2)] := hL
    unfold tw_X8_titheAgain at hw
    refine th_aload_n hx hb dX8_titheAgain_0 rfl (lv_at hL.1 0 rfl) ?_
    refine lv_iload_n hx hb dX8_titheAgain_1 rfl (lv_at hL.1 1 rfl) ?_
    refine lv_iload_n hx hb dX8_titheAgain_2 rfl (lv_at hL.1 2 rfl) ?_
    obtain ⟨ho, hw⟩ := hw
    refine th_ki hS (th_rV CF hK hSt hR hS ho (ci := 8) rfl (rest := []) (tk_X8_tithe) (cw_X8_116 CF hK (by decide +kernel)) hw rfl hL.1.1 rfl th_cn (Nat.le_of_ble_eq_true rfl) dX8_titheAgain_3 ⟨by show _ ≤ (0 : Nat); omega, by show _ ≤ (0 : Nat); omega⟩) (fun r2 G1 H locs hw hR hS => ?_)
    exact th_iret hx hb hret hlk hR hS hw (by omega) (by omega) dX8_titheAgain_6)
def tw_X8_undo (Q : Int32 → aH → Prop) (G : aH) (a0 : Nat) : Prop :=
  th_o G a0 8 ∧ (
  (¬ a_mi G a0 6 = 0 →
    th_o G a0 8 ∧ (
    th_o G a0 8 ∧ (
    ∀ G1 : aH, G1 = a_si G a0 6 ((a_mi G a0 6) - 1) → 
    th_o G1 a0 8 ∧ (
    th_o G1 a0 8 ∧ (
    th_o G1 a0 8 ∧ (
    (tw_X8_copies
      (fun (G2 : aH) =>
        th_o G2 a0 8 ∧ (
        Q (a_mi G2 a0 6) G2))
      G1 (a_mr G1 a0 4) ((a_mi G1 a0 6) * 433) (a_mr G1 a0 0) 0))))))) ∧
  (a_mi G a0 6 = 0 →
    Q (-4) G))
theorem tk_X8_undo {l : Launch} {D : tD} {B : Nat} {Q : Int32 → aH → Prop} {a0 : Nat} : Met l yX8_undo (ws_ yX8_undo cX8_undo 1 ((Option.some Jvm.ClassFile.FieldType.int))) rm_X8_undo (th_P D B [rv a0] (fun G => tw_X8_undo Q G a0)) (th_Qi D B Q) 0 0 (th_A B) :=
  th_ofW (by decide +kernel) (th_cr th_cn) (Nat.le_of_ble_eq_true rfl) (fun p e s m args below meth c CF hret hlk hnm hK hSt G ls hR hS hw hL => by
    have E : th_E p m c cX8_undo 1 s args RX8 meth ((Option.some Jvm.ClassFile.FieldType.int)) "undo" D B := ⟨CF, hret, hlk, hnm, hK, hSt⟩
    have hx := CF.1; have hb := CF.2.1
    have hL : th_L ls 1 [(0, rv a0)] := hL
    unfold tw_X8_undo at hw
    refine th_aload_n hx hb dX8_undo_0 rfl (lv_at hL.1 0 rfl) ?_
    obtain ⟨ho, hw⟩ := hw
    refine fg_X8_53 CF hK hR ho dX8_undo_1 ?_
    refine lv_if_ne hx hb dX8_undo_4 (tgt := 10) (by decide) (fun h => ?_) (fun h => ?_)
    · replace hw := hw.1 h
      refine th_aload_n hx hb dX8_undo_10 rfl (lv_at hL.1 0 rfl) ?_
      refine lv_dup hx hb dX8_undo_11 (rv_cat _) ?_
      obtain ⟨ho, hw⟩ := hw
      refine fg_X8_53 CF hK hR ho dX8_undo_12 ?_
      refine lv_iconst hx hb dX8_undo_15 (v := 1) rfl ?_
      refine lv_isub hx hb dX8_undo_16 ?_
      obtain ⟨ho, hw⟩ := hw
      refine fp_X8_53 CF hK hR hS ho dX8_undo_17 (fun G1 H locs hG hR hS => ?_)
      replace hw := hw G1 hG
      refine th_aload_n hx hb dX8_undo_20 rfl (lv_at hL.1 0 rfl) ?_
      obtain ⟨ho, hw⟩ := hw
      refine fg_X8_22 CF hK hR ho dX8_undo_21 ?_
      refine th_aload_n hx hb dX8_undo_24 rfl (lv_at hL.1 0 rfl) ?_
      obtain ⟨ho, hw⟩ := hw
      refine fg_X8_53 CF hK hR ho dX8_undo_25 ?_
      refine lv_sipush hx hb dX8_undo_28 (v := 433) rfl ?_
      refine lv_imul hx hb dX8_undo_31 ?_
      refine th_aload_n hx hb dX8_undo_32 rfl (lv_at hL.1 0 rfl) ?_
      obtain ⟨ho, hw⟩ := hw
      refine fg_X8_9 CF hK hR ho dX8_undo_33 ?_
      refine lv_iconst hx hb dX8_undo_36 (v := 0) rfl ?_
      refine th_kv hS (th_rS CF hK hSt hR hS (rest := []) (tk_X8_copies) (cw_X8_73 CF hK (by decide +kernel)) hw rfl hL.1.1 rfl th_cn (Nat.le_of_ble_eq_true rfl) dX8_undo_37 ⟨by show _ ≤ (0 : Nat); omega, by show _ ≤ (0 : Nat); omega⟩) (fun G2 H locs hw hR hS => ?_)
      refine th_aload_n hx hb dX8_undo_40 rfl (lv_at hL.1 0 rfl) ?_
      obtain ⟨ho, hw⟩ := hw
      refine fg_X8_53 CF hK hR ho dX8_undo_41 ?_
      exact th_iret hx hb hret hlk hR hS hw (by omega) (by omega) dX8_undo_44
    · replace hw := hw.2 h
      refine lv_bipush hx hb dX8_undo_7 (v := (-4)) rfl ?_
      exact th_iret hx hb hret hlk hR hS hw (by omega) (by omega) dX8_undo_9)
def tw_X8_written (Q : Int32 → aH → Prop) (G : aH) (a0 : Nat) (x1 : Int32) : Prop :=
  th_o G a0 8 ∧ (
  (tw_X8_isIn
    (fun (r2 : Int32) (G1 : aH) =>
      (r2 = 0 →
        Q (-1) G1) ∧
      (¬ r2 = 0 →
        th_o G1 a0 8 ∧ (
        th_ai G1 (a_mr G1 a0 13) 0 x1 ∧ (
        Q (a_mi G1 (a_mr G1 a0 13) x1.toNatClampNeg) G1))))
    G x1 0 ((a_mi G a0 14) - 1)))
theorem tk_X8_written {l : Launch} {D : tD} {B : Nat} {Q : Int32 → aH → Prop} {a0 : Nat} {x1 : Int32} : Met l yX8_written (ws_ yX8_written cX8_written 2 ((Option.some Jvm.ClassFile.FieldType.int))) rm_X8_written (th_P D B [rv a0, .int x1] (fun G => tw_X8_written Q G a0 x1)) (th_Qi D B Q) 0 0 (th_A B) :=
  th_ofW (by decide +kernel) (th_cr (th_ci th_cn)) (Nat.le_of_ble_eq_true rfl) (fun p e s m args below meth c CF hret hlk hnm hK hSt G ls hR hS hw hL => by
    have E : th_E p m c cX8_written 2 s args RX8 meth ((Option.some Jvm.ClassFile.FieldType.int)) "written" D B := ⟨CF, hret, hlk, hnm, hK, hSt⟩
    have hx := CF.1; have hb := CF.2.1
    have hL : th_L ls 2 [(0, rv a0), (1, .int x1)] := hL
    unfold tw_X8_written at hw
    refine lv_iload_n hx hb dX8_written_0 rfl (lv_at hL.1 1 rfl) ?_
    refine lv_iconst hx hb dX8_written_1 (v := 0) rfl ?_
    refine th_aload_n hx hb dX8_written_2 rfl (lv_at hL.1 0 rfl) ?_
    obtain ⟨ho, hw⟩ := hw
    refine fg_X8_298 CF hK hR ho dX8_written_3 ?_
    refine lv_iconst hx hb dX8_written_6 (v := 1) rfl ?_
    refine lv_isub hx hb dX8_written_7 ?_
    refine th_ki hS (th_rS CF hK hSt hR hS (rest := []) (tk_X8_isIn) (cw_X8_56 CF hK (by decide +kernel)) hw rfl hL.1.1 rfl th_cn (Nat.le_of_ble_eq_true rfl) dX8_written_8 ⟨by show _ ≤ (0 : Nat); omega, by show _ ≤ (0 : Nat); omega⟩) (fun r2 G1 H locs hw hR hS => ?_)
    refine lv_if_eq hx hb dX8_written_11 (tgt := 23) (by decide) (fun h => ?_) (fun h => ?_)
    · replace hw := hw.1 h
      refine lv_iconst hx hb dX8_written_23 (v := (-1)) rfl ?_
      exact th_iret hx hb hret hlk hR hS hw (by omega) (by omega) dX8_written_24
    · replace hw := hw.2 h
      refine th_aload_n hx hb dX8_written_14 rfl (lv_at hL.1 0 rfl) ?_
      obtain ⟨ho, hw⟩ := hw
      refine fg_X8_38 CF hK hR ho dX8_written_15 ?_
      refine lv_iload_n hx hb dX8_written_18 rfl (lv_at hL.1 1 rfl) ?_
      obtain ⟨ha, hw⟩ := hw
      refine th_iald hx hb hK hR ha dX8_written_19 ?_
      refine lv_goto hx hb dX8_written_20 (tgt := 24) (by decide) ?_
      exact th_iret hx hb hret hlk hR hS hw (by omega) (by omega) dX8_written_24)
