/-! WALKS: X0_readsScript X13_done X14_done X0_otherKind X0_doThresh X15_done X0_doSell X16_done X17_done X18_done X0_doStop -/
set_option maxRecDepth 100000
def tw_X0_readsScript_b42 (Q : Int32 → aH → Prop) (G : aH) (a0 : Nat) : Prop :=
  th_o G a0 0 ∧ (
  th_o G a0 0 ∧ (
  th_o G (a_mr G a0 9) 12 ∧ (
  (tw_J1_length
    (fun (r10 : Int32) (G9 : aH) =>
      (r10 ≤ a_mi G a0 13 →
        th_o G9 a0 0 ∧ (
        th_o G9 (a_mr G9 a0 9) 12 ∧ (
        (tw_J1_setLength
          (fun (G11 : aH) =>
            Q 1 G11)
          G9 (a_mr G9 a0 9) 0)))) ∧
      (¬ r10 ≤ a_mi G a0 13 →
        ∀ z12 : Nat, z12 = a_sz G9 → ∀ G13 : aH, G13 = a_nw G9 (11 + 1) 0 → 
        (a_sh G13 z12).1 ≠ 0 ∧ (
        (tw_X11_init
          (fun (G14 : aH) =>
            th_oo G14 z12 [9, 10, 11] ∧ (
            (th_o G14 z12 11 ∧ (
              th_o G14 a0 0 ∧ (
              th_o G14 a0 0 ∧ (
              ∀ G15 : aH, G15 = a_si G14 a0 8 (a_mi G14 a0 13) → 
              th_o G15 a0 0 ∧ (
              th_o G15 (a_mr G15 a0 9) 12 ∧ (
              (tw_J1_setLength
                (fun (G16 : aH) =>
                  Q 0 G16)
                G15 (a_mr G15 a0 9) 0)))))))))
          G13 z12))))
    G (a_mr G a0 9)))))
def tw_X0_readsScript_b10 (Q : Int32 → aH → Prop) : Nat → aH → Nat → Prop := fun n => Nat.rec (motive := fun _ => aH → Nat → Prop) (fun _ _ => False) (fun _ ih G a0 =>
  th_o G a0 0 ∧ (
  th_o G a0 0 ∧ (
  th_o G a0 0 ∧ (
  (tw_X0_command
    (fun (b4 : Nat) (G3 : aH) =>
      th_ai G3 (a_mr G a0 11) 10 (a_mi G a0 12) ∧ th_oo G3 b4 [13, 14, 15, 16, 17, 18, 19] ∧ (
      ∀ G5 : aH, G5 = a_sr G3 (a_mr G a0 11) (a_mi G a0 12).toNatClampNeg b4 → 
      th_o G5 a0 0 ∧ (
      th_o G5 a0 0 ∧ (
      ∀ G6 : aH, G6 = a_si G5 a0 12 ((a_mi G5 a0 12) + 1) → 
      th_o G6 a0 0 ∧ (
      (tw_X0_takesIf
        (fun (r8 : Int32) (G7 : aH) =>
          (¬ r8 = 0 →
            ih G7 a0) ∧
          (r8 = 0 →
            tw_X0_readsScript_b42 Q G7 a0))
        G6 a0 59))))))
    (fun (e17 : Nat) (G18 : aH) =>
      (th_o G18 e17 11 ∧ (
        th_o G18 a0 0 ∧ (
        th_o G18 a0 0 ∧ (
        ∀ G19 : aH, G19 = a_si G18 a0 8 (a_mi G18 a0 13) → 
        th_o G19 a0 0 ∧ (
        th_o G19 (a_mr G19 a0 9) 12 ∧ (
        (tw_J1_setLength
          (fun (G20 : aH) =>
            Q 0 G20)
          G19 (a_mr G19 a0 9) 0))))))))
    G a0))))) n
theorem tws_X0_readsScript_b10 (Q : Int32 → aH → Prop) (n : Nat) (G : aH) (a0 : Nat) : tw_X0_readsScript_b10 Q (n + 1) G a0 = (
  th_o G a0 0 ∧ (
  th_o G a0 0 ∧ (
  th_o G a0 0 ∧ (
  (tw_X0_command
    (fun (b4 : Nat) (G3 : aH) =>
      th_ai G3 (a_mr G a0 11) 10 (a_mi G a0 12) ∧ th_oo G3 b4 [13, 14, 15, 16, 17, 18, 19] ∧ (
      ∀ G5 : aH, G5 = a_sr G3 (a_mr G a0 11) (a_mi G a0 12).toNatClampNeg b4 → 
      th_o G5 a0 0 ∧ (
      th_o G5 a0 0 ∧ (
      ∀ G6 : aH, G6 = a_si G5 a0 12 ((a_mi G5 a0 12) + 1) → 
      th_o G6 a0 0 ∧ (
      (tw_X0_takesIf
        (fun (r8 : Int32) (G7 : aH) =>
          (¬ r8 = 0 →
            tw_X0_readsScript_b10 Q n G7 a0) ∧
          (r8 = 0 →
            tw_X0_readsScript_b42 Q G7 a0))
        G6 a0 59))))))
    (fun (e17 : Nat) (G18 : aH) =>
      (th_o G18 e17 11 ∧ (
        th_o G18 a0 0 ∧ (
        th_o G18 a0 0 ∧ (
        ∀ G19 : aH, G19 = a_si G18 a0 8 (a_mi G18 a0 13) → 
        th_o G19 a0 0 ∧ (
        th_o G19 (a_mr G19 a0 9) 12 ∧ (
        (tw_J1_setLength
          (fun (G20 : aH) =>
            Q 0 G20)
          G19 (a_mr G19 a0 9) 0))))))))
    G a0))))) := rfl
def tw_X0_readsScript (Q : Int32 → aH → Prop) (G : aH) (a0 : Nat) : Prop :=
  th_o G a0 0 ∧ (
  ∀ G1 : aH, G1 = a_si G a0 13 0 → 
  th_o G1 a0 0 ∧ (
  ∀ G2 : aH, G2 = a_si G1 a0 12 0 → 
  tw_X0_readsScript_b10 Q 30 G2 a0))
theorem tk_X0_readsScript_b42 {p : Program} {l : Launch} {e : Env} {s : State} {m : MethodId} {args : Array Value} {below : List Frame} {meth : Method} {c : Code} {D : tD} {B : Nat} (E : th_E p m c cX0_readsScript 4 s args RX0 meth ((Option.some Jvm.ClassFile.FieldType.boolean)) "readsScript" D B) (htab : c.exceptionTable.toList = tableOf [((10 : Nat), (66 : Nat), (76 : Nat), (304 : Nat)), ((10 : Nat), (66 : Nat), (97 : Nat), (0 : Nat)), ((76 : Nat), (87 : Nat), (97 : Nat), (0 : Nat))]) {Q : Int32 → aH → Prop} {G : aH} {H : Heap} {locs : List Loc} {cells slots : Nat} {ls : Array Slot} {a0 : Nat} (hR : th_H D B G H) (hS : va_S (th_A B) s.heap H locs) (hL : th_L ls 4 [(0, rv a0)]) (hw : tw_X0_readsScript_b42 Q G a0) (hc : cells + (1) ≤ 1117 ∧ slots + (6) ≤ 6578) : W p l e rm_X0_readsScript s m args below meth c H locs cells slots (vz_MQ below (th_Qi D B Q) (th_X D B (fun _ _ => False)) args s 1117 6578 (th_A B)) (F0 m 42 ls []) := by
  have CF := E.1; have hx := CF.1; have hb := CF.2.1; have hret := E.2.1; have hlk := E.2.2.1; have hnm := E.2.2.2.1; have hK := E.2.2.2.2.1; have hSt := E.2.2.2.2.2
  unfold tw_X0_readsScript_b42 at hw
  refine th_aload_n hx hb dX0_readsScript_42 rfl (lv_at hL.1 0 rfl) ?_
  obtain ⟨ho, hw⟩ := hw
  refine fg_X0_293 CF hK hR ho dX0_readsScript_43 ?_
  refine th_aload_n hx hb dX0_readsScript_46 rfl (lv_at hL.1 0 rfl) ?_
  obtain ⟨ho, hw⟩ := hw
  refine fg_X0_46 CF hK hR ho dX0_readsScript_47 ?_
  obtain ⟨ho, hw⟩ := hw
  refine th_ki hS (th_rV CF hK hSt hR hS ho (ci := 12) rfl (rest := [.int (a_mi G a0 13)]) (tk_J1_length) (cw_X0_286 CF hK (by decide +kernel)) hw rfl hL.1.1 rfl (th_ci th_cn) (Nat.le_of_ble_eq_true rfl) dX0_readsScript_50 ⟨by show _ ≤ (1117 : Nat); omega, by show _ ≤ (6578 : Nat); omega⟩) (fun r10 G9 H locs hw hR hS => ?_)
  refine lv_icmp_ge hx hb dX0_readsScript_53 (tgt := 64) (by decide) (fun h => ?_) (fun h => ?_)
  · replace hw := hw.1 h
    refine lv_iconst hx hb dX0_readsScript_64 (v := 1) rfl ?_
    refine th_istore_n hx hb dX0_readsScript_65 rfl hL (by decide) rfl (fun ls hL => ?_)
    refine th_aload_n hx hb dX0_readsScript_66 rfl (lv_at hL.1 1 rfl) ?_
    obtain ⟨ho, hw⟩ := hw
    refine fg_X0_46 CF hK hR ho dX0_readsScript_67 ?_
    refine lv_iconst hx hb dX0_readsScript_70 (v := 0) rfl ?_
    obtain ⟨ho, hw⟩ := hw
    refine th_kv hS (th_rV CF hK hSt hR hS ho (ci := 12) rfl (rest := []) (tk_J1_setLength) (cw_X0_367 CF hK (by decide +kernel)) hw rfl hL.1.1 rfl th_cn (Nat.le_of_ble_eq_true rfl) dX0_readsScript_71 ⟨by show _ ≤ (1117 : Nat); omega, by show _ ≤ (6578 : Nat); omega⟩) (fun G11 H locs hw hR hS => ?_)
    refine lv_iload_n hx hb dX0_readsScript_74 rfl (lv_at hL.1 0 rfl) ?_
    exact vz_ret (th_zret .boolean hx hb hret rfl hlk hR hS hw (by omega) (by omega) dX0_readsScript_75)
  · replace hw := hw.2 h
    refine fn_X0_304 CF hK hR hS (by show _ ≤ (1117 : Nat); omega) (by show _ ≤ (6578 : Nat); omega) dX0_readsScript_56 (fun z12 G13 H hz hG hR hS => ?_)
    replace hw := hw z12 hz G13 hG
    refine lv_dup hx hb dX0_readsScript_59 (rv_cat _) ?_
    obtain ⟨h0, hw⟩ := hw
    refine th_kv hS (th_rI CF hK hSt hR hS h0 (rest := [rv z12]) (tk_X11_init) (cw_X0_306 CF hK (by decide +kernel)) hw rfl hL.1.1 rfl (th_cr th_cn) (Nat.le_of_ble_eq_true rfl) dX0_readsScript_60 ⟨by show _ ≤ (1117 : Nat); omega, by show _ ≤ (6578 : Nat); omega⟩) (fun G14 H locs hw hR hS => ?_)
    obtain ⟨ho, hw⟩ := hw
    refine th_athrowo hx hb hR ho dX0_readsScript_63 ?_
    obtain ⟨hk, hw⟩ := hw
    refine th_catch (ci := 11) (nm := "TitheBarn$Fault") CF.2.2.2.1 hK hR hk rfl htab [] (⟨10, 66, 76, 304⟩ : ExceptionTableEntry) [(⟨10, 66, 97, 0⟩ : ExceptionTableEntry), (⟨76, 87, 97, 0⟩ : ExceptionTableEntry)] rfl (by intro z hz; cases hz) rfl (by decide) (CF.2.2.2.2 _ q906) q936 ?_
    refine th_astore_n hx hb dX0_readsScript_76 rfl hL (by decide) rfl (fun ls hL => ?_)
    refine th_aload_n hx hb dX0_readsScript_77 rfl (lv_at hL.1 1 rfl) ?_
    refine th_aload_n hx hb dX0_readsScript_78 rfl (lv_at hL.1 1 rfl) ?_
    obtain ⟨ho, hw⟩ := hw
    refine fg_X0_293 CF hK hR ho dX0_readsScript_79 ?_
    obtain ⟨ho, hw⟩ := hw
    refine fp_X0_39 CF hK hR hS ho dX0_readsScript_82 (fun G15 H locs hG hR hS => ?_)
    replace hw := hw G15 hG
    refine lv_iconst hx hb dX0_readsScript_85 (v := 0) rfl ?_
    refine th_istore_n hx hb dX0_readsScript_86 rfl hL (by decide) rfl (fun ls hL => ?_)
    refine th_aload_n hx hb dX0_readsScript_87 rfl (lv_at hL.1 2 rfl) ?_
    obtain ⟨ho, hw⟩ := hw
    refine fg_X0_46 CF hK hR ho dX0_readsScript_88 ?_
    refine lv_iconst hx hb dX0_readsScript_91 (v := 0) rfl ?_
    obtain ⟨ho, hw⟩ := hw
    refine th_kv hS (th_rV CF hK hSt hR hS ho (ci := 12) rfl (rest := []) (tk_J1_setLength) (cw_X0_367 CF hK (by decide +kernel)) hw rfl hL.1.1 rfl th_cn (Nat.le_of_ble_eq_true rfl) dX0_readsScript_92 ⟨by show _ ≤ (1117 : Nat); omega, by show _ ≤ (6578 : Nat); omega⟩) (fun G16 H locs hw hR hS => ?_)
    refine lv_iload_n hx hb dX0_readsScript_95 rfl (lv_at hL.1 0 rfl) ?_
    exact vz_ret (th_zret .boolean hx hb hret rfl hlk hR hS hw (by omega) (by omega) dX0_readsScript_96)
theorem tk_X0_readsScript_b10 {p : Program} {l : Launch} {e : Env} {s : State} {m : MethodId} {args : Array Value} {below : List Frame} {meth : Method} {c : Code} {D : tD} {B : Nat} (E : th_E p m c cX0_readsScript 4 s args RX0 meth ((Option.some Jvm.ClassFile.FieldType.boolean)) "readsScript" D B) (htab : c.exceptionTable.toList = tableOf [((10 : Nat), (66 : Nat), (76 : Nat), (304 : Nat)), ((10 : Nat), (66 : Nat), (97 : Nat), (0 : Nat)), ((76 : Nat), (87 : Nat), (97 : Nat), (0 : Nat))]) {Q : Int32 → aH → Prop} : ∀ (n : Nat) {G : aH} {H : Heap} {locs : List Loc} {cells slots : Nat} {ls : Array Slot} {a0 : Nat} (hR : th_H D B G H) (hS : va_S (th_A B) s.heap H locs) (hL : th_L ls 4 [(0, rv a0)]) (hw : tw_X0_readsScript_b10 Q n G a0) (hc : cells + (n * 36 + 37) ≤ 1117 ∧ slots + (n * 212 + 218) ≤ 6578), W p l e rm_X0_readsScript s m args below meth c H locs cells slots (vz_MQ below (th_Qi D B Q) (th_X D B (fun _ _ => False)) args s 1117 6578 (th_A B)) (F0 m 10 ls []) := by
  have CF := E.1; have hx := CF.1; have hb := CF.2.1; have hret := E.2.1; have hlk := E.2.2.1; have hnm := E.2.2.2.1; have hK := E.2.2.2.2.1; have hSt := E.2.2.2.2.2
  intro n
  induction n with
  | zero => intro _ _ _ _ _ _ _ _ _ _ hw; exact hw.elim
  | succ n ih =>
    intro G H locs cells slots ls a0 hR hS hL hw hc
    rw [tws_X0_readsScript_b10] at hw
    refine th_aload_n hx hb dX0_readsScript_10 rfl (lv_at hL.1 0 rfl) ?_
    obtain ⟨ho, hw⟩ := hw
    refine fg_X0_55 CF hK hR ho dX0_readsScript_11 ?_
    refine th_aload_n hx hb dX0_readsScript_14 rfl (lv_at hL.1 0 rfl) ?_
    obtain ⟨ho, hw⟩ := hw
    refine fg_X0_361 CF hK hR ho dX0_readsScript_15 ?_
    refine th_aload_n hx hb dX0_readsScript_18 rfl (lv_at hL.1 0 rfl) ?_
    obtain ⟨ho, hw⟩ := hw
    refine th_Xkr hS (th_XrV CF hK hSt hR hS ho (ci := 0) rfl (rest := [.int (a_mi G a0 12), rv (a_mr G a0 11)]) (tk_X0_command) (cw_X0_364 CF hK (by decide +kernel)) hw rfl hL.1.1 rfl (th_ci (th_cr th_cn)) (Nat.le_of_ble_eq_true rfl) dX0_readsScript_19 ⟨by show _ ≤ (1117 : Nat); omega, by show _ ≤ (6578 : Nat); omega⟩) (fun e17 G18 H locs hw ho hR hS => ?_) (fun b4 G3 H locs hw hR hS => ?_)
    · obtain ⟨hk, hw⟩ := hw
      refine th_catch (ci := 11) (nm := "TitheBarn$Fault") CF.2.2.2.1 hK hR hk rfl htab [] (⟨10, 66, 76, 304⟩ : ExceptionTableEntry) [(⟨10, 66, 97, 0⟩ : ExceptionTableEntry), (⟨76, 87, 97, 0⟩ : ExceptionTableEntry)] rfl (by intro z hz; cases hz) rfl (by decide) (CF.2.2.2.2 _ q906) q936 ?_
      refine th_astore_n hx hb dX0_readsScript_76 rfl hL (by decide) rfl (fun ls hL => ?_)
      refine th_aload_n hx hb dX0_readsScript_77 rfl (lv_at hL.1 1 rfl) ?_
      refine th_aload_n hx hb dX0_readsScript_78 rfl (lv_at hL.1 1 rfl) ?_
      obtain ⟨ho, hw⟩ := hw
      refine fg_X0_293 CF hK hR ho dX0_readsScript_79 ?_
      obtain ⟨ho, hw⟩ := hw
      refine fp_X0_39 CF hK hR hS ho dX0_readsScript_82 (fun G19 H locs hG hR hS => ?_)
      replace hw := hw G19 hG
      refine lv_iconst hx hb dX0_readsScript_85 (v := 0) rfl ?_
      refine th_istore_n hx hb dX0_readsScript_86 rfl hL (by decide) rfl (fun ls hL => ?_)
      refine th_aload_n hx hb dX0_readsScript_87 rfl (lv_at hL.1 2 rfl) ?_
      obtain ⟨ho, hw⟩ := hw
      refine fg_X0_46 CF hK hR ho dX0_readsScript_88 ?_
      refine lv_iconst hx hb dX0_readsScript_91 (v := 0) rfl ?_
      obtain ⟨ho, hw⟩ := hw
      refine th_kv hS (th_rV CF hK hSt hR hS ho (ci := 12) rfl (rest := []) (tk_J1_setLength) (cw_X0_367 CF hK (by decide +kernel)) hw rfl hL.1.1 rfl th_cn (Nat.le_of_ble_eq_true rfl) dX0_readsScript_92 ⟨by show _ ≤ (1117 : Nat); omega, by show _ ≤ (6578 : Nat); omega⟩) (fun G20 H locs hw hR hS => ?_)
      refine lv_iload_n hx hb dX0_readsScript_95 rfl (lv_at hL.1 0 rfl) ?_
      exact vz_ret (th_zret .boolean hx hb hret rfl hlk hR hS hw (by omega) (by omega) dX0_readsScript_96)
    · skip
      obtain ⟨ha, ho, hw⟩ := hw
      refine th_aast7 hx hb hK hR hS ha ho dX0_readsScript_22 (fun G5 H locs hG hR hS => ?_)
      replace hw := hw G5 hG
      refine th_aload_n hx hb dX0_readsScript_23 rfl (lv_at hL.1 0 rfl) ?_
      refine lv_dup hx hb dX0_readsScript_24 (rv_cat _) ?_
      obtain ⟨ho, hw⟩ := hw
      refine fg_X0_361 CF hK hR ho dX0_readsScript_25 ?_
      refine lv_iconst hx hb dX0_readsScript_28 (v := 1) rfl ?_
      refine lv_iadd hx hb dX0_readsScript_29 ?_
      obtain ⟨ho, hw⟩ := hw
      refine fp_X0_361 CF hK hR hS ho dX0_readsScript_30 (fun G6 H locs hG hR hS => ?_)
      replace hw := hw G6 hG
      refine th_aload_n hx hb dX0_readsScript_33 rfl (lv_at hL.1 0 rfl) ?_
      refine lv_bipush hx hb dX0_readsScript_34 (v := 59) rfl ?_
      obtain ⟨ho, hw⟩ := hw
      refine th_ki hS (th_rV CF hK hSt hR hS ho (ci := 0) rfl (rest := []) (tk_X0_takesIf) (cw_X0_307 CF hK (by decide +kernel)) hw rfl hL.1.1 rfl th_cn (Nat.le_of_ble_eq_true rfl) dX0_readsScript_36 ⟨by show _ ≤ (1117 : Nat); omega, by show _ ≤ (6578 : Nat); omega⟩) (fun r8 G7 H locs hw hR hS => ?_)
      refine lv_if_ne hx hb dX0_readsScript_39 (tgt := 10) (by decide) (fun h => ?_) (fun h => ?_)
      · replace hw := hw.1 h
        exact ih hR hS (hL.sub [0] rfl) hw ⟨by omega, by omega⟩
      · replace hw := hw.2 h
        exact tk_X0_readsScript_b42 E htab hR hS (hL.sub [0] rfl) hw ⟨by omega, by omega⟩
theorem tk_X0_readsScript {l : Launch} {D : tD} {B : Nat} {Q : Int32 → aH → Prop} {a0 : Nat} : vz_Met l yX0_readsScript (wsW_ yX0_readsScript cX0_readsScript 4 ((Option.some Jvm.ClassFile.FieldType.boolean)) [((10 : Nat), (66 : Nat), (76 : Nat), (304 : Nat)), ((10 : Nat), (66 : Nat), (97 : Nat), (0 : Nat)), ((76 : Nat), (87 : Nat), (97 : Nat), (0 : Nat))]) rm_X0_readsScript (th_P D B [rv a0] (fun G => tw_X0_readsScript Q G a0)) (th_Qi D B Q) (th_X D B (fun _ _ => False)) 1117 6578 (th_A B) :=
  th_ofXH (by decide +kernel) (th_cr th_cn) (Nat.le_of_ble_eq_true rfl) (fun p e s m args below meth c CF hret hlk hnm htab0 hK hSt G ls hR hS hw hL => by
    have E : th_E p m c cX0_readsScript 4 s args RX0 meth ((Option.some Jvm.ClassFile.FieldType.boolean)) "readsScript" D B := ⟨CF, hret, hlk, hnm, hK, hSt⟩
    have htab : c.exceptionTable.toList = tableOf [((10 : Nat), (66 : Nat), (76 : Nat), (304 : Nat)), ((10 : Nat), (66 : Nat), (97 : Nat), (0 : Nat)), ((76 : Nat), (87 : Nat), (97 : Nat), (0 : Nat))] := htab0
    have hx := CF.1; have hb := CF.2.1
    have hL : th_L ls 4 [(0, rv a0)] := hL
    unfold tw_X0_readsScript at hw
    refine th_aload_n hx hb dX0_readsScript_0 rfl (lv_at hL.1 0 rfl) ?_
    refine lv_iconst hx hb dX0_readsScript_1 (v := 0) rfl ?_
    obtain ⟨ho, hw⟩ := hw
    refine fp_X0_293 CF hK hR hS ho dX0_readsScript_2 (fun G1 H locs hG hR hS => ?_)
    replace hw := hw G1 hG
    refine th_aload_n hx hb dX0_readsScript_5 rfl (lv_at hL.1 0 rfl) ?_
    refine lv_iconst hx hb dX0_readsScript_6 (v := 0) rfl ?_
    obtain ⟨ho, hw⟩ := hw
    refine fp_X0_361 CF hK hR hS ho dX0_readsScript_7 (fun G2 H locs hG hR hS => ?_)
    replace hw := hw G2 hG
    exact tk_X0_readsScript_b10 E htab 30 hR hS (hL.sub [0] rfl) hw ⟨by omega, by omega⟩)
def tw_X13_done (Q : Int32 → aH → Prop) (X : Nat → aH → Prop) (G : aH) (a0 : Nat) : Prop :=
  th_o G a0 13 ∧ (
  th_o G a0 13 ∧ (
  th_o G a0 13 ∧ (
  th_o G (a_mr G a0 3) 0 ∧ (
  (tw_X0_doHarvest
    (fun (r2 : Int32) (G1 : aH) =>
      Q r2 G1)
    X
    G (a_mr G a0 3) (a_mi G a0 0) (a_mi G a0 1))))))
theorem tk_X13_done {l : Launch} {D : tD} {B : Nat} {Q : Int32 → aH → Prop} {X : Nat → aH → Prop} {a0 : Nat} : vz_Met l yX13_done (ws_ yX13_done cX13_done 1 ((Option.some Jvm.ClassFile.FieldType.int))) rm_X13_done (th_P D B [rv a0] (fun G => tw_X13_done Q X G a0)) (th_Qi D B Q) (th_X D B X) 7 48 (th_A B) :=
  th_ofX (by decide +kernel) (th_cr th_cn) (Nat.le_of_ble_eq_true rfl) (fun p e s m args below meth c CF hret hlk hnm htab0 hK hSt G ls hR hS hw hL => by
    have E : th_E p m c cX13_done 1 s args RX13 meth ((Option.some Jvm.ClassFile.FieldType.int)) "done" D B := ⟨CF, hret, hlk, hnm, hK, hSt⟩
    have htab : c.exceptionTable.toList = tableOf [] := th_notab htab0
    have hx := CF.1; have hb := CF.2.1
    have hL : th_L ls 1 [(0, rv a0)] := hL
    unfold tw_X13_done at hw
    refine th_aload_n hx hb dX13_done_0 rfl (lv_at hL.1 0 rfl) ?_
    obtain ⟨ho, hw⟩ := hw
    refine fg_X13_1 CF hK hR ho dX13_done_1 ?_
    refine th_aload_n hx hb dX13_done_4 rfl (lv_at hL.1 0 rfl) ?_
    obtain ⟨ho, hw⟩ := hw
    refine fg_X13_13 CF hK hR ho dX13_done_5 ?_
    refine th_aload_n hx hb dX13_done_8 rfl (lv_at hL.1 0 rfl) ?_
    obtain ⟨ho, hw⟩ := hw
    refine fg_X13_17 CF hK hR ho dX13_done_9 ?_
    obtain ⟨ho, hw⟩ := hw
    refine th_Xki hS (th_XrVN CF hK hSt hR hS ho (ci := 0) rfl (rest := []) (tk_X0_doHarvest) (cw_X13_20 CF hK (by decide +kernel)) hw rfl hL.1.1 rfl th_cn (Nat.le_of_ble_eq_true rfl) dX13_done_12 ⟨by show _ ≤ (7 : Nat); omega, by show _ ≤ (48 : Nat); omega⟩) (fun e9 G9 H locs hw ho hR hS => ?_) (fun r2 G1 H locs hw hR hS => ?_)
    · exact th_out hK hlk (by rw [htab]; decide) hR hS hw ho (by omega) (by omega)
    · skip
      exact vz_ret (th_iret hx hb hret hlk hR hS hw (by omega) (by omega) dX13_done_15))
def tw_X14_done (Q : Int32 → aH → Prop) (X : Nat → aH → Prop) (G : aH) (a0 : Nat) : Prop :=
  th_o G a0 14 ∧ (
  th_o G a0 14 ∧ (
  th_o G a0 14 ∧ (
  th_o G a0 14 ∧ (
  th_o G (a_mr G a0 3) 0 ∧ (
  (tw_X0_doCart
    (fun (r2 : Int32) (G1 : aH) =>
      Q r2 G1)
    X
    G (a_mr G a0 3) (a_mi G a0 0) (a_mi G a0 1) (a_mi G a0 2)))))))
theorem tk_X14_done {l : Launch} {D : tD} {B : Nat} {Q : Int32 → aH → Prop} {X : Nat → aH → Prop} {a0 : Nat} : vz_Met l yX14_done (ws_ yX14_done cX14_done 1 ((Option.some Jvm.ClassFile.FieldType.int))) rm_X14_done (th_P D B [rv a0] (fun G => tw_X14_done Q X G a0)) (th_Qi D B Q) (th_X D B X) 7 48 (th_A B) :=
  th_ofX (by decide +kernel) (th_cr th_cn) (Nat.le_of_ble_eq_true rfl) (fun p e s m args below meth c CF hret hlk hnm htab0 hK hSt G ls hR hS hw hL => by
    have E : th_E p m c cX14_done 1 s args RX14 meth ((Option.some Jvm.ClassFile.FieldType.int)) "done" D B := ⟨CF, hret, hlk, hnm, hK, hSt⟩
    have htab : c.exceptionTable.toList = tableOf [] := th_notab htab0
    have hx := CF.1; have hb := CF.2.1
    have hL : th_L ls 1 [(0, rv a0)] := hL
    unfold tw_X14_done at hw
    refine th_aload_n hx hb dX14_done_0 rfl (lv_at hL.1 0 rfl) ?_
    obtain ⟨ho, hw⟩ := hw
    refine fg_X14_1 CF hK hR ho dX14_done_1 ?_
    refine th_aload_n hx hb dX14_done_4 rfl (lv_at hL.1 0 rfl) ?_
    obtain ⟨ho, hw⟩ := hw
    refine fg_X14_13 CF hK hR ho dX14_done_5 ?_
    refine th_aload_n hx hb dX14_done_8 rfl (lv_at hL.1 0 rfl) ?_
    obtain ⟨ho, hw⟩ := hw
    refine fg_X14_17 CF hK hR ho dX14_done_9 ?_
    refine th_aload_n hx hb dX14_done_12 rfl (lv_at hL.1 0 rfl) ?_
    obtain ⟨ho, hw⟩ := hw
    refine fg_X14_20 CF hK hR ho dX14_done_13 ?_
    obtain ⟨ho, hw⟩ := hw
    refine th_Xki hS (th_XrVN CF hK hSt hR hS ho (ci := 0) rfl (rest := []) (tk_X0_doCart) (cw_X14_23 CF hK (by decide +kernel)) hw rfl hL.1.1 rfl th_cn (Nat.le_of_ble_eq_true rfl) dX14_done_16 ⟨by show _ ≤ (7 : Nat); omega, by show _ ≤ (48 : Nat); omega⟩) (fun e9 G9 H locs hw ho hR hS => ?_) (fun r2 G1 H locs hw hR hS => ?_)
    · exact th_out hK hlk (by rw [htab]; decide) hR hS hw ho (by omega) (by omega)
    · skip
      exact vz_ret (th_iret hx hb hret hlk hR hS hw (by omega) (by omega) dX14_done_19))
def tw_X0_otherKind_b47 (Q : Int32 → aH → Prop) (G : aH) (a0 : Nat) (a1 : Nat) (x5 : Int32) : Prop :=
  th_o G a1 3 ∧ (
  th_ai G (a_mr G a1 0) 3 x5 ∧ (
  th_o G a0 0 ∧ (
  (tw_X0_kindOfLot
    (fun (r9 : Int32) (G8 : aH) =>
      Q r9 G8)
    G a0 (a_mr G (a_mr G a1 0) x5.toNatClampNeg)))))
def tw_X0_otherKind_b27 (Q : Int32 → aH → Prop) : Nat → aH → Nat → Nat → Int32 → Int32 → Int32 → Prop := fun n => Nat.rec (motive := fun _ => aH → Nat → Nat → Int32 → Int32 → Int32 → Prop) (fun _ _ _ _ _ _ => False) (fun _ ih G a0 a1 x3 x4 x5 =>
  (x3 ≤ 0 →
    Q (-1) G) ∧
  (¬ x3 ≤ 0 →
    th_o G a1 3 ∧ (
    th_ai G (a_mr G a1 0) 3 x5 ∧ (
    th_o G a0 0 ∧ (
    (tw_X0_kindOfLot
      (fun (r5 : Int32) (G4 : aH) =>
        (r5 = x4 →
          th_o G4 a1 3 ∧ (
          th_ai G4 (a_mr G4 a1 0) 3 x5 ∧ (
          th_o G4 (a_mr G4 (a_mr G4 a1 0) x5.toNatClampNeg) 4 ∧ (
          ∀ x3_6 : Int32, x3_6 = x3 - (a_mi G4 (a_mr G4 (a_mr G4 a1 0) x5.toNatClampNeg) 1) → 
          ∀ x5_7 : Int32, x5_7 = x5 + (-1) → 
          ih G4 a0 a1 x3_6 x4 x5_7)))) ∧
        (¬ r5 = x4 →
          tw_X0_otherKind_b47 Q G4 a0 a1 x5))
      G a0 (a_mr G (a_mr G a1 0) x5.toNatClampNeg))))))) n
theorem tws_X0_otherKind_b27 (Q : Int32 → aH → Prop) (n : Nat) (G : aH) (a0 : Nat) (a1 : Nat) (x3 : Int32) (x4 : Int32) (x5 : Int32) : tw_X0_otherKind_b27 Q (n + 1) G a0 a1 x3 x4 x5 = (
  (x3 ≤ 0 →
    Q (-1) G) ∧
  (¬ x3 ≤ 0 →
    th_o G a1 3 ∧ (
    th_ai G (a_mr G a1 0) 3 x5 ∧ (
    th_o G a0 0 ∧ (
    (tw_X0_kindOfLot
      (fun (r5 : Int32) (G4 : aH) =>
        (r5 = x4 →
          th_o G4 a1 3 ∧ (
          th_ai G4 (a_mr G4 a1 0) 3 x5 ∧ (
          th_o G4 (a_mr G4 (a_mr G4 a1 0) x5.toNatClampNeg) 4 ∧ (
          ∀ x3_6 : Int32, x3_6 = x3 - (a_mi G4 (a_mr G4 (a_mr G4 a1 0) x5.toNatClampNeg) 1) → 
          ∀ x5_7 : Int32, x5_7 = x5 + (-1) → 
          tw_X0_otherKind_b27 Q n G4 a0 a1 x3_6 x4 x5_7)))) ∧
        (¬ r5 = x4 →
          tw_X0_otherKind_b47 Q G4 a0 a1 x5))
      G a0 (a_mr G (a_mr G a1 0) x5.toNatClampNeg))))))) := rfl
def tw_X0_otherKind (Q : Int32 → aH → Prop) (G : aH) (a0 : Nat) (a1 : Nat) (x2 : Int32) : Prop :=
  th_o G a1 3 ∧ (
  th_o G a1 3 ∧ (
  th_ai G (a_mr G a1 0) 3 ((a_mi G a1 1) - 1) ∧ (
  th_o G a0 0 ∧ (
  (tw_X0_kindOfLot
    (fun (r2 : Int32) (G1 : aH) =>
      th_o G1 a1 3 ∧ (
      ∀ x5_3 : Int32, x5_3 = (a_mi G1 a1 1) - 1 → 
      ∃ n9 : Nat, tw_X0_otherKind_b27 Q n9 G1 a0 a1 x2 r2 x5_3))
    G a0 (a_mr G (a_mr G a1 0) ((a_mi G a1 1) - 1).toNatClampNeg))))))
theorem tk_X0_otherKind_b47 {p : Program} {l : Launch} {e : Env} {s : State} {m : MethodId} {args : Array Value} {below : List Frame} {meth : Method} {c : Code} {D : tD} {B : Nat} (E : th_E p m c cX0_otherKind 6 s args RX0 meth ((Option.some Jvm.ClassFile.FieldType.int)) "otherKind" D B) {Q : Int32 → aH → Prop} {G : aH} {H : Heap} {locs : List Loc} {cells slots : Nat} {ls : Array Slot} {a0 : Nat} {a1 : Nat} {x5 : Int32} (hR : th_H D B G H) (hS : va_S (th_A B) s.heap H locs) (hL : th_L ls 6 [(0, rv a0), (1, rv a1), (5, .int x5)]) (hw : tw_X0_otherKind_b47 Q G a0 a1 x5) (hc : cells + (0) ≤ 0 ∧ slots + (0) ≤ 0) : W p l e rm_X0_otherKind s m args below meth c H locs cells slots (MQ below (th_Qi D B Q) args s 0 0 (th_A B)) (F0 m 47 ls []) := by
  have CF := E.1; have hx := CF.1; have hb := CF.2.1; have hret := E.2.1; have hlk := E.2.2.1; have hnm := E.2.2.2.1; have hK := E.2.2.2.2.1; have hSt := E.2.2.2.2.2
  unfold tw_X0_otherKind_b47 at hw
  refine th_aload_n hx hb dX0_otherKind_47 rfl (lv_at hL.1 0 rfl) ?_
  refine th_aload_n hx hb dX0_otherKind_48 rfl (lv_at hL.1 1 rfl) ?_
  obtain ⟨ho, hw⟩ := hw
  refine fg_X0_187 CF hK hR ho dX0_otherKind_49 ?_
  refine lv_iload hx hb dX0_otherKind_52 (lv_at hL.1 2 rfl) ?_
  obtain ⟨ha, hw⟩ := hw
  refine th_aald hx hb hK 3 (by decide) rfl rfl hR ha dX0_otherKind_54 ?_
  obtain ⟨ho, hw⟩ := hw
  refine th_ki hS (th_rV CF hK hSt hR hS ho (ci := 0) rfl (rest := []) (tk_X0_kindOfLot) (cw_X0_194 CF hK (by decide +kernel)) hw rfl hL.1.1 rfl th_cn (Nat.le_of_ble_eq_true rfl) dX0_otherKind_55 ⟨by show _ ≤ (0 : Nat); omega, by show _ ≤ (0 : Nat); omega⟩) (fun r9 G8 H locs hw hR hS => ?_)
  exact th_iret hx hb hret hlk hR hS hw (by omega) (by omega) dX0_otherKind_58
theorem tk_X0_otherKind_b27 {p : Program} {l : Launch} {e : Env} {s : State} {m : MethodId} {args : Array Value} {below : List Frame} {meth : Method} {c : Code} {D : tD} {B : Nat} (E : th_E p m c cX0_otherKind 6 s args RX0 meth ((Option.some Jvm.ClassFile.FieldType.int)) "otherKind" D B) {Q : Int32 → aH → Prop} : ∀ (n : Nat) {G : aH} {H : Heap} {locs : List Loc} {cells slots : Nat} {ls : Array Slot} {a0 : Nat} {a1 : Nat} {x3 : Int32} {x4 : Int32} {x5 : Int32} (hR : th_H D B G H) (hS : va_S (th_A B) s.heap H locs) (hL : th_L ls 6 [(0, rv a0), (1, rv a1), (3, .int x3), (4, .int x4), (5, .int x5)]) (hw : tw_X0_otherKind_b27 Q n G a0 a1 x3 x4 x5) (hc : cells + (0) ≤ 0 ∧ slots + (0) ≤ 0), W p l e rm_X0_otherKind s m args below meth c H locs cells slots (MQ below (th_Qi D B Q) args s 0 0 (th_A B)) (F0 m 27 ls []) := by
  have CF := E.1; have hx := CF.1; have hb := CF.2.1; have hret := E.2.1; have hlk := E.2.2.1; have hnm := E.2.2.2.1; have hK := E.2.2.2.2.1; have hSt := E.2.2.2.2.2
  intro n
  induction n with
  | zero => intro _ _ _ _ _ _ _ _ _ _ _ _ _ _ hw; exact hw.elim
  | succ n ih =>
    intro G H locs cells slots ls a0 a1 x3 x4 x5 hR hS hL hw hc
    rw [tws_X0_otherKind_b27] at hw
    refine lv_iload_n hx hb dX0_otherKind_27 rfl (lv_at hL.1 2 rfl) ?_
    refine lv_if_le hx hb dX0_otherKind_28 (tgt := 78) (by decide) (fun h => ?_) (fun h => ?_)
    · replace hw := hw.1 h
      refine lv_iconst hx hb dX0_otherKind_78 (v := (-1)) rfl ?_
      exact th_iret hx hb hret hlk hR hS hw (by omega) (by omega) dX0_otherKind_79
    · replace hw := hw.2 h
      refine th_aload_n hx hb dX0_otherKind_31 rfl (lv_at hL.1 0 rfl) ?_
      refine th_aload_n hx hb dX0_otherKind_32 rfl (lv_at hL.1 1 rfl) ?_
      obtain ⟨ho, hw⟩ := hw
      refine fg_X0_187 CF hK hR ho dX0_otherKind_33 ?_
      refine lv_iload hx hb dX0_otherKind_36 (lv_at hL.1 4 rfl) ?_
      obtain ⟨ha, hw⟩ := hw
      refine th_aald hx hb hK 3 (by decide) rfl rfl hR ha dX0_otherKind_38 ?_
      obtain ⟨ho, hw⟩ := hw
      refine th_ki hS (th_rV CF hK hSt hR hS ho (ci := 0) rfl (rest := []) (tk_X0_kindOfLot) (cw_X0_194 CF hK (by decide +kernel)) hw rfl hL.1.1 rfl th_cn (Nat.le_of_ble_eq_true rfl) dX0_otherKind_39 ⟨by show _ ≤ (0 : Nat); omega, by show _ ≤ (0 : Nat); omega⟩) (fun r5 G4 H locs hw hR hS => ?_)
      refine lv_iload hx hb dX0_otherKind_42 (lv_at hL.1 3 rfl) ?_
      refine lv_icmp_eq hx hb dX0_otherKind_44 (tgt := 59) (by decide) (fun h => ?_) (fun h => ?_)
      · replace hw := hw.1 h
        refine lv_iload_n hx hb dX0_otherKind_59 rfl (lv_at hL.1 2 rfl) ?_
        refine th_aload_n hx hb dX0_otherKind_60 rfl (lv_at hL.1 1 rfl) ?_
        obtain ⟨ho, hw⟩ := hw
        refine fg_X0_187 CF hK hR ho dX0_otherKind_61 ?_
        refine lv_iload hx hb dX0_otherKind_64 (lv_at hL.1 4 rfl) ?_
        obtain ⟨ha, hw⟩ := hw
        refine th_aald hx hb hK 3 (by decide) rfl rfl hR ha dX0_otherKind_66 ?_
        obtain ⟨ho, hw⟩ := hw
        refine fg_X0_198 CF hK hR ho dX0_otherKind_67 ?_
        refine lv_isub hx hb dX0_otherKind_70 ?_
        obtain ⟨x3_6, hx3_6⟩ : ∃ y : Int32, y = x3 - (a_mi G4 (a_mr G4 (a_mr G4 a1 0) x5.toNatClampNeg) 1) := ⟨_, rfl⟩
        replace hw := hw x3_6 hx3_6
        refine th_nmi hx3_6 ?_
        refine th_istore_n hx hb dX0_otherKind_71 rfl hL (by decide) rfl (fun ls hL => ?_)
        obtain ⟨x5_7, hx5_7⟩ : ∃ y : Int32, y = x5 + (-1) := ⟨_, rfl⟩
        replace hw := hw x5_7 hx5_7
        refine th_iinc hx hb dX0_otherKind_72 hL (k := 4) rfl (v := x5_7) hx5_7.symm (by decide) rfl (fun ls hL => ?_)
        refine lv_goto hx hb dX0_otherKind_75 (tgt := 27) (by decide) ?_
        exact ih hR hS (hL.sub [2, 3, 1, 4, 0] rfl) hw ⟨by omega, by omega⟩
      · replace hw := hw.2 h
        exact tk_X0_otherKind_b47 E hR hS (hL.sub [0, 1, 4] rfl) hw ⟨by omega, by omega⟩
theorem tk_X0_otherKind {l : Launch} {D : tD} {B : Nat} {Q : Int32 → aH → Prop} {a0 : Nat} {a1 : Nat} {x2 : Int32} : Met l yX0_otherKind (ws_ yX0_otherKind cX0_otherKind 6 ((Option.some Jvm.ClassFile.FieldType.int))) rm_X0_otherKind (th_P D B [rv a0, rv a1, .int x2] (fun G => tw_X0_otherKind Q G a0 a1 x2)) (th_Qi D B Q) 0 0 (th_A B) :=
  th_ofW (by decide +kernel) (th_cr (th_cr (th_ci th_cn))) (Nat.le_of_ble_eq_true rfl) (fun p e s m args below meth c CF hret hlk hnm hK hSt G ls hR hS hw hL => by
    have E : th_E p m c cX0_otherKind 6 s args RX0 meth ((Option.some Jvm.ClassFile.FieldType.int)) "otherKind" D B := ⟨CF, hret, hlk, hnm, hK, hSt⟩
    have hx := CF.1; have hb := CF.2.1
    have hL : th_L ls 6 [(0, rv a0), (1, rv a1), (2, .int x2)] := hL
    unfold tw_X0_otherKind at hw
    refine lv_iload_n hx hb dX0_otherKind_0 rfl (lv_at hL.1 2 rfl) ?_
    refine th_istore_n hx hb dX0_otherKind_1 rfl hL (by decide) rfl (fun ls hL => ?_)
    refine th_aload_n hx hb dX0_otherKind_2 rfl (lv_at hL.1 1 rfl) ?_
    refine th_aload_n hx hb dX0_otherKind_3 rfl (lv_at hL.1 2 rfl) ?_
    obtain ⟨ho, hw⟩ := hw
    refine fg_X0_187 CF hK hR ho dX0_otherKind_4 ?_
    refine th_aload_n hx hb dX0_otherKind_7 rfl (lv_at hL.1 2 rfl) ?_
    obtain ⟨ho, hw⟩ := hw
    refine fg_X0_191 CF hK hR ho dX0_otherKind_8 ?_
    refine lv_iconst hx hb dX0_otherKind_11 (v := 1) rfl ?_
    refine lv_isub hx hb dX0_otherKind_12 ?_
    obtain ⟨ha, hw⟩ := hw
    refine th_aald hx hb hK 3 (by decide) rfl rfl hR ha dX0_otherKind_13 ?_
    obtain ⟨ho, hw⟩ := hw
    refine th_ki hS (th_rV CF hK hSt hR hS ho (ci := 0) rfl (rest := []) (tk_X0_kindOfLot) (cw_X0_194 CF hK (by decide +kernel)) hw rfl hL.1.1 rfl th_cn (Nat.le_of_ble_eq_true rfl) dX0_otherKind_14 ⟨by show _ ≤ (0 : Nat); omega, by show _ ≤ (0 : Nat); omega⟩) (fun r2 G1 H locs hw hR hS => ?_)
    refine th_istore hx hb dX0_otherKind_17 hL (by decide) rfl (fun ls hL => ?_)
    refine th_aload_n hx hb dX0_otherKind_19 rfl (lv_at hL.1 3 rfl) ?_
    obtain ⟨ho, hw⟩ := hw
    refine fg_X0_191 CF hK hR ho dX0_otherKind_20 ?_
    refine lv_iconst hx hb dX0_otherKind_23 (v := 1) rfl ?_
    refine lv_isub hx hb dX0_otherKind_24 ?_
    obtain ⟨x5_3, hx5_3⟩ : ∃ y : Int32, y = (a_mi G1 a1 1) - 1 := ⟨_, rfl⟩
    replace hw := hw x5_3 hx5_3
    refine th_nmi hx5_3 ?_
    refine th_istore hx hb dX0_otherKind_25 hL (by decide) rfl (fun ls hL => ?_)
    obtain ⟨n9, hw⟩ := hw
    exact tk_X0_otherKind_b27 E n9 hR hS (hL.sub [3, 4, 2, 1, 0] rfl) hw ⟨by omega, by omega⟩)
def tw_X0_doThresh_b211 (Q : Int32 → aH → Prop) (X : Nat → aH → Prop) (G : aH) (x3 : Int32) (a4 : Nat) (x7 : Int32) : Prop :=
  th_o G a4 5 ∧ (
  ∀ G25 : aH, G25 = a_si G a4 0 x7 → 
  th_o G25 a4 5 ∧ (
  th_o G25 a4 5 ∧ (
  ∀ G26 : aH, G26 = a_si G25 a4 1 ((a_mi G25 a4 1) + x3) → 
  th_o G26 a4 5 ∧ (
  Q (a_mi G26 a4 1) G26))))
def tw_X0_doThresh_b192 (Q : Int32 → aH → Prop) (X : Nat → aH → Prop) : Nat → aH → Int32 → Nat → Nat → Int32 → Int32 → Prop := fun n => Nat.rec (motive := fun _ => aH → Int32 → Nat → Nat → Int32 → Int32 → Prop) (fun _ _ _ _ _ _ => False) (fun _ ih G x3 a4 a5 x7 x8 =>
  (x3 ≤ x8 →
    tw_X0_doThresh_b211 Q X G x3 a4 x7) ∧
  (¬ x3 ≤ x8 →
    th_o G a5 3 ∧ (
    (tw_X3_takes
      (fun (r28 : Int32) (G27 : aH) =>
        ∀ x8_29 : Int32, x8_29 = x8 + 1 → 
        ih G27 x3 a4 a5 x7 x8_29)
      G a5)))) n
theorem tws_X0_doThresh_b192 (Q : Int32 → aH → Prop) (X : Nat → aH → Prop) (n : Nat) (G : aH) (x3 : Int32) (a4 : Nat) (a5 : Nat) (x7 : Int32) (x8 : Int32) : tw_X0_doThresh_b192 Q X (n + 1) G x3 a4 a5 x7 x8 = (
  (x3 ≤ x8 →
    tw_X0_doThresh_b211 Q X G x3 a4 x7) ∧
  (¬ x3 ≤ x8 →
    th_o G a5 3 ∧ (
    (tw_X3_takes
      (fun (r28 : Int32) (G27 : aH) =>
        ∀ x8_29 : Int32, x8_29 = x8 + 1 → 
        tw_X0_doThresh_b192 Q X n G27 x3 a4 a5 x7 x8_29)
      G a5)))) := rfl
def tw_X0_doThresh_b176 (Q : Int32 → aH → Prop) (X : Nat → aH → Prop) (G : aH) (x3 : Int32) (a4 : Nat) (a5 : Nat) (x7 : Int32) (tx0 : Int32) : Prop :=
  th_o G a4 5 ∧ (
  (tw_X0_allow
    (fun (G24 : aH) =>
      ∃ n9 : Nat, tw_X0_doThresh_b192 Q X n9 G24 x3 a4 a5 x7 0)
    X
    G tx0 6 (20 - (a_mi G a4 1))))
def tw_X0_doThresh_b150 (Q : Int32 → aH → Prop) (X : Nat → aH → Prop) (G : aH) (x3 : Int32) (a4 : Nat) (a5 : Nat) (x7 : Int32) (tx0 : Int32) : Prop :=
  th_o G a4 5 ∧ (
  (tw_X0_allow
    (fun (G23 : aH) =>
      th_o G23 a4 5 ∧ (
      (20 - (a_mi G23 a4 1) < x3 →
        tw_X0_doThresh_b176 Q X G23 x3 a4 a5 x7 0) ∧
      (¬ 20 - (a_mi G23 a4 1) < x3 →
        tw_X0_doThresh_b176 Q X G23 x3 a4 a5 x7 1)))
    X
    G tx0 5 (a_mi G a4 0)))
def tw_X0_doThresh_b145 (Q : Int32 → aH → Prop) (X : Nat → aH → Prop) (G : aH) (x3 : Int32) (a4 : Nat) (a5 : Nat) (x7 : Int32) : Prop :=
  tw_X0_doThresh_b150 Q X G x3 a4 a5 x7 1
def tw_X0_doThresh_b101 (Q : Int32 → aH → Prop) (X : Nat → aH → Prop) (G : aH) (a0 : Nat) (x3 : Int32) (a4 : Nat) (a5 : Nat) (x6 : Int32) (tx0 : Int32) : Prop :=
  (tw_X0_allow
    (fun (G20 : aH) =>
      th_o G20 a5 3 ∧ (
      th_o G20 a5 3 ∧ (
      th_ai G20 (a_mr G20 a5 0) 3 ((a_mi G20 a5 1) - 1) ∧ (
      th_o G20 a0 0 ∧ (
      (tw_X0_kindOfLot
        (fun (r22 : Int32) (G21 : aH) =>
          th_o G21 a4 5 ∧ (
          (a_mi G21 a4 1 = 0 →
            tw_X0_doThresh_b145 Q X G21 x3 a4 a5 r22) ∧
          (¬ a_mi G21 a4 1 = 0 →
            th_o G21 a4 5 ∧ (
            (¬ a_mi G21 a4 0 = r22 →
              tw_X0_doThresh_b150 Q X G21 x3 a4 a5 r22 0) ∧
            (a_mi G21 a4 0 = r22 →
              tw_X0_doThresh_b145 Q X G21 x3 a4 a5 r22)))))
        G20 a0 (a_mr G20 (a_mr G20 a5 0) ((a_mi G20 a5 1) - 1).toNatClampNeg)))))))
    X
    G tx0 7 x6)
def tw_X0_doThresh_b72 (Q : Int32 → aH → Prop) (X : Nat → aH → Prop) (G : aH) (a0 : Nat) (x3 : Int32) (a4 : Nat) (a5 : Nat) (tx0 : Int32) : Prop :=
  th_o G a5 3 ∧ (
  (tw_X0_allow
    (fun (G17 : aH) =>
      th_o G17 a0 0 ∧ (
      (tw_X0_otherKind
        (fun (r19 : Int32) (G18 : aH) =>
          (¬ r19 = (-1) →
            tw_X0_doThresh_b101 Q X G18 a0 x3 a4 a5 r19 0) ∧
          (r19 = (-1) →
            tw_X0_doThresh_b101 Q X G18 a0 x3 a4 a5 r19 1))
        G17 a0 a5 x3)))
    X
    G tx0 4 (a_mi G a5 2)))
def tw_X0_doThresh (Q : Int32 → aH → Prop) (X : Nat → aH → Prop) (G : aH) (a0 : Nat) (x1 : Int32) (x2 : Int32) (x3 : Int32) : Prop :=
  ∀ z1 : Nat, z1 = a_sz G → ∀ G2 : aH, G2 = a_nw G (100 + 2) 2 → 
  (tw_X0_isFloor
    (fun (r4 : Int32) (G3 : aH) =>
      th_ai G3 z1 2 0 ∧ (
      ∀ G5 : aH, G5 = a_si G3 z1 (0 : Int32).toNatClampNeg (r4 &&& 1) → 
      (tw_X0_isBay
        (fun (r7 : Int32) (G6 : aH) =>
          th_ai G6 z1 2 1 ∧ (
          ∀ G8 : aH, G8 = a_si G6 z1 (1 : Int32).toNatClampNeg (r7 &&& 1) → 
          (tw_X0_all
            (fun (r10 : Int32) (G9 : aH) =>
              (tw_X0_want
                (fun (G11 : aH) =>
                  (tw_X0_within
                    (fun (r13 : Int32) (G12 : aH) =>
                      (tw_X0_want
                        (fun (G14 : aH) =>
                          th_o G14 a0 0 ∧ (
                          th_o G14 (a_mr G14 a0 0) 1 ∧ (
                          th_ai G14 (a_mr G14 (a_mr G14 a0 0) 3) 6 x1 ∧ (
                          ∀ a4_15 : Nat, a4_15 = a_mr G14 (a_mr G14 (a_mr G14 a0 0) 3) x1.toNatClampNeg → 
                          th_o G14 a0 0 ∧ (
                          th_o G14 (a_mr G14 a0 0) 1 ∧ (
                          th_ai G14 (a_mr G14 (a_mr G14 a0 0) 2) 5 x2 ∧ (
                          ∀ a5_16 : Nat, a5_16 = a_mr G14 (a_mr G14 (a_mr G14 a0 0) 2) x2.toNatClampNeg → 
                          th_o G14 a5_16 3 ∧ (
                          (a_mi G14 a5_16 2 < x3 →
                            tw_X0_doThresh_b72 Q X G14 a0 x3 a4_15 a5_16 0) ∧
                          (¬ a_mi G14 a5_16 2 < x3 →
                            tw_X0_doThresh_b72 Q X G14 a0 x3 a4_15 a5_16 1)))))))))
                        X
                        G12 r13 (-2)))
                    G11 x3 1 20))
                X
                G9 r10 (-1)))
            G8 z1)))
        G5 x2)))
    G2 x1)
theorem tk_X0_doThresh_b211 {p : Program} {l : Launch} {e : Env} {s : State} {m : MethodId} {args : Array Value} {below : List Frame} {meth : Method} {c : Code} {D : tD} {B : Nat} (E : th_E p m c cX0_doThresh 10 s args RX0 meth ((Option.some Jvm.ClassFile.FieldType.int)) "doThresh" D B) (htab : c.exceptionTable.toList = tableOf []) {Q : Int32 → aH → Prop} {X : Nat → aH → Prop} {G : aH} {H : Heap} {locs : List Loc} {cells slots : Nat} {ls : Array Slot} {x3 : Int32} {a4 : Nat} {x7 : Int32} (hR : th_H D B G H) (hS : va_S (th_A B) s.heap H locs) (hL : th_L ls 10 [(3, .int x3), (4, rv a4), (7, .int x7)]) (hw : tw_X0_doThresh_b211 Q X G x3 a4 x7) (hc : cells + (0) ≤ 7 ∧ slots + (0) ≤ 48) : W p l e rm_X0_doThresh s m args below meth c H locs cells slots (vz_MQ below (th_Qi D B Q) (th_X D B X) args s 7 48 (th_A B)) (F0 m 211 ls []) := by
  have CF := E.1; have hx := CF.1; have hb := CF.2.1; have hret := E.2.1; have hlk := E.2.2.1; have hnm := E.2.2.2.1; have hK := E.2.2.2.2.1; have hSt := E.2.2.2.2.2
  unfold tw_X0_doThresh_b211 at hw
  refine th_aload hx hb dX0_doThresh_211 (lv_at hL.1 1 rfl) ?_
  refine lv_iload hx hb dX0_doThresh_213 (lv_at hL.1 2 rfl) ?_
  obtain ⟨ho, hw⟩ := hw
  refine fp_X0_213 CF hK hR hS ho dX0_doThresh_215 (fun G25 H locs hG hR hS => ?_)
  replace hw := hw G25 hG
  refine th_aload hx hb dX0_doThresh_218 (lv_at hL.1 1 rfl) ?_
  refine lv_dup hx hb dX0_doThresh_220 (rv_cat _) ?_
  obtain ⟨ho, hw⟩ := hw
  refine fg_X0_210 CF hK hR ho dX0_doThresh_221 ?_
  refine lv_iload_n hx hb dX0_doThresh_224 rfl (lv_at hL.1 0 rfl) ?_
  refine lv_iadd hx hb dX0_doThresh_225 ?_
  obtain ⟨ho, hw⟩ := hw
  refine fp_X0_210 CF hK hR hS ho dX0_doThresh_226 (fun G26 H locs hG hR hS => ?_)
  replace hw := hw G26 hG
  refine th_aload hx hb dX0_doThresh_229 (lv_at hL.1 1 rfl) ?_
  obtain ⟨ho, hw⟩ := hw
  refine fg_X0_210 CF hK hR ho dX0_doThresh_231 ?_
  exact vz_ret (th_iret hx hb hret hlk hR hS hw (by omega) (by omega) dX0_doThresh_234)
theorem tk_X0_doThresh_b192 {p : Program} {l : Launch} {e : Env} {s : State} {m : MethodId} {args : Array Value} {below : List Frame} {meth : Method} {c : Code} {D : tD} {B : Nat} (E : th_E p m c cX0_doThresh 10 s args RX0 meth ((Option.some Jvm.ClassFile.FieldType.int)) "doThresh" D B) (htab : c.exceptionTable.toList = tableOf []) {Q : Int32 → aH → Prop} {X : Nat → aH → Prop} : ∀ (n : Nat) {G : aH} {H : Heap} {locs : List Loc} {cells slots : Nat} {ls : Array Slot} {x3 : Int32} {a4 : Nat} {a5 : Nat} {x7 : Int32} {x8 : Int32} (hR : th_H D B G H) (hS : va_S (th_A B) s.heap H locs) (hL : th_L ls 10 [(3, .int x3), (4, rv a4), (5, rv a5), (7, .int x7), (8, .int x8)]) (hw : tw_X0_doThresh_b192 Q X n G x3 a4 a5 x7 x8) (hc : cells + (0) ≤ 7 ∧ slots + (0) ≤ 48), W p l e rm_X0_doThresh s m args below meth c H locs cells slots (vz_MQ below (th_Qi D B Q) (th_X D B X) args s 7 48 (th_A B)) (F0 m 192 ls []) := by
  have CF := E.1; have hx := CF.1; have hb := CF.2.1; have hret := E.2.1; have hlk := E.2.2.1; have hnm := E.2.2.2.1; have hK := E.2.2.2.2.1; have hSt := E.2.2.2.2.2
  intro n
  induction n with
  | zero => intro _ _ _ _ _ _ _ _ _ _ _ _ _ _ hw; exact hw.elim
  | succ n ih =>
    intro G H locs cells slots ls x3 a4 a5 x7 x8 hR hS hL hw hc
    rw [tws_X0_doThresh_b192] at hw
    refine lv_iload hx hb dX0_doThresh_192 (lv_at hL.1 4 rfl) ?_
    refine lv_iload_n hx hb dX0_doThresh_194 rfl (lv_at hL.1 0 rfl) ?_
    refine lv_icmp_ge hx hb dX0_doThresh_195 (tgt := 211) (by decide) (fun h => ?_) (fun h => ?_)
    · replace hw := hw.1 h
      exact tk_X0_doThresh_b211 E htab hR hS (hL.sub [0, 1, 3] rfl) hw ⟨by omega, by omega⟩
    · replace hw := hw.2 h
      refine th_aload hx hb dX0_doThresh_198 (lv_at hL.1 2 rfl) ?_
      obtain ⟨ho, hw⟩ := hw
      refine th_ki hS (th_rV CF hK hSt hR hS ho (ci := 3) rfl (rest := []) (tk_X3_takes) (cw_X0_214 CF hK (by decide +kernel)) hw rfl hL.1.1 rfl th_cn (Nat.le_of_ble_eq_true rfl) dX0_doThresh_200 ⟨by show _ ≤ (7 : Nat); omega, by show _ ≤ (48 : Nat); omega⟩) (fun r28 G27 H locs hw hR hS => ?_)
      refine th_istore hx hb dX0_doThresh_203 hL (by decide) rfl (fun ls hL => ?_)
      obtain ⟨x8_29, hx8_29⟩ : ∃ y : Int32, y = x8 + 1 := ⟨_, rfl⟩
      replace hw := hw x8_29 hx8_29
      refine th_iinc hx hb dX0_doThresh_205 hL (k := 5) rfl (v := x8_29) hx8_29.symm (by decide) rfl (fun ls hL => ?_)
      refine lv_goto hx hb dX0_doThresh_208 (tgt := 192) (by decide) ?_
      exact ih hR hS (hL.sub [2, 3, 4, 5, 0] rfl) hw ⟨by omega, by omega⟩
theorem tk_X0_doThresh_b176 {p : Program} {l : Launch} {e : Env} {s : State} {m : MethodId} {args : Array Value} {below : List Frame} {meth : Method} {c : Code} {D : tD} {B : Nat} (E : th_E p m c cX0_doThresh 10 s args RX0 meth ((Option.some Jvm.ClassFile.FieldType.int)) "doThresh" D B) (htab : c.exceptionTable.toList = tableOf []) {Q : Int32 → aH → Prop} {X : Nat → aH → Prop} {G : aH} {H : Heap} {locs : List Loc} {cells slots : Nat} {ls : Array Slot} {x3 : Int32} {a4 : Nat} {a5 : Nat} {x7 : Int32} {tx0 : Int32} (hR : th_H D B G H) (hS : va_S (th_A B) s.heap H locs) (hL : th_L ls 10 [(3, .int x3), (4, rv a4), (5, rv a5), (7, .int x7)]) (hw : tw_X0_doThresh_b176 Q X G x3 a4 a5 x7 tx0) (hc : cells + (1) ≤ 7 ∧ slots + (8) ≤ 48) : W p l e rm_X0_doThresh s m args below meth c H locs cells slots (vz_MQ below (th_Qi D B Q) (th_X D B X) args s 7 48 (th_A B)) (F0 m 176 ls [.int tx0]) := by
  have CF := E.1; have hx := CF.1; have hb := CF.2.1; have hret := E.2.1; have hlk := E.2.2.1; have hnm := E.2.2.2.1; have hK := E.2.2.2.2.1; have hSt := E.2.2.2.2.2
  unfold tw_X0_doThresh_b176 at hw
  refine lv_bipush hx hb dX0_doThresh_176 (v := 6) rfl ?_
  refine lv_bipush hx hb dX0_doThresh_178 (v := 20) rfl ?_
  refine th_aload hx hb dX0_doThresh_180 (lv_at hL.1 1 rfl) ?_
  obtain ⟨ho, hw⟩ := hw
  refine fg_X0_210 CF hK hR ho dX0_doThresh_182 ?_
  refine lv_isub hx hb dX0_doThresh_185 ?_
  refine th_Xkv hS (th_XrS CF hK hSt hR hS (rest := []) (tk_X0_allow) (cw_X0_97 CF hK (by decide +kernel)) hw rfl hL.1.1 rfl th_cn (Nat.le_of_ble_eq_true rfl) dX0_doThresh_186 ⟨by show _ ≤ (7 : Nat); omega, by show _ ≤ (48 : Nat); omega⟩) (fun e9 G9 H locs hw ho hR hS => ?_) (fun G24 H locs hw hR hS => ?_)
  · exact th_out hK hlk (by rw [htab]; decide) hR hS hw ho (by omega) (by omega)
  · skip
    refine lv_iconst hx hb dX0_doThresh_189 (v := 0) rfl ?_
    refine th_istore hx hb dX0_doThresh_190 hL (by decide) rfl (fun ls hL => ?_)
    obtain ⟨n9, hw⟩ := hw
    exact tk_X0_doThresh_b192 E htab n9 hR hS (hL.sub [1, 2, 3, 4, 0] rfl) hw ⟨by omega, by omega⟩
theorem tk_X0_doThresh_b150 {p : Program} {l : Launch} {e : Env} {s : State} {m : MethodId} {args : Array Value} {below : List Frame} {meth : Method} {c : Code} {D : tD} {B : Nat} (E : th_E p m c cX0_doThresh 10 s args RX0 meth ((Option.some Jvm.ClassFile.FieldType.int)) "doThresh" D B) (htab : c.exceptionTable.toList = tableOf []) {Q : Int32 → aH → Prop} {X : Nat → aH → Prop} {G : aH} {H : Heap} {locs : List Loc} {cells slots : Nat} {ls : Array Slot} {x3 : Int32} {a4 : Nat} {a5 : Nat} {x7 : Int32} {tx0 : Int32} (hR : th_H D B G H) (hS : va_S (th_A B) s.heap H locs) (hL : th_L ls 10 [(3, .int x3), (4, rv a4), (5, rv a5), (7, .int x7)]) (hw : tw_X0_doThresh_b150 Q X G x3 a4 a5 x7 tx0) (hc : cells + (2) ≤ 7 ∧ slots + (16) ≤ 48) : W p l e rm_X0_doThresh s m args below meth c H locs cells slots (vz_MQ below (th_Qi D B Q) (th_X D B X) args s 7 48 (th_A B)) (F0 m 150 ls [.int tx0]) := by
  have CF := E.1; have hx := CF.1; have hb := CF.2.1; have hret := E.2.1; have hlk := E.2.2.1; have hnm := E.2.2.2.1; have hK := E.2.2.2.2.1; have hSt := E.2.2.2.2.2
  unfold tw_X0_doThresh_b150 at hw
  refine lv_iconst hx hb dX0_doThresh_150 (v := 5) rfl ?_
  refine th_aload hx hb dX0_doThresh_151 (lv_at hL.1 1 rfl) ?_
  obtain ⟨ho, hw⟩ := hw
  refine fg_X0_213 CF hK hR ho dX0_doThresh_153 ?_
  refine th_Xkv hS (th_XrS CF hK hSt hR hS (rest := []) (tk_X0_allow) (cw_X0_97 CF hK (by decide +kernel)) hw rfl hL.1.1 rfl th_cn (Nat.le_of_ble_eq_true rfl) dX0_doThresh_156 ⟨by show _ ≤ (7 : Nat); omega, by show _ ≤ (48 : Nat); omega⟩) (fun e9 G9 H locs hw ho hR hS => ?_) (fun G23 H locs hw hR hS => ?_)
  · exact th_out hK hlk (by rw [htab]; decide) hR hS hw ho (by omega) (by omega)
  · skip
    refine lv_iload_n hx hb dX0_doThresh_159 rfl (lv_at hL.1 0 rfl) ?_
    refine lv_bipush hx hb dX0_doThresh_160 (v := 20) rfl ?_
    refine th_aload hx hb dX0_doThresh_162 (lv_at hL.1 1 rfl) ?_
    obtain ⟨ho, hw⟩ := hw
    refine fg_X0_210 CF hK hR ho dX0_doThresh_164 ?_
    refine lv_isub hx hb dX0_doThresh_167 ?_
    refine lv_icmp_gt hx hb dX0_doThresh_168 (tgt := 175) (by decide) (fun h => ?_) (fun h => ?_)
    · replace hw := hw.1 h
      refine lv_iconst hx hb dX0_doThresh_175 (v := 0) rfl ?_
      exact tk_X0_doThresh_b176 E htab hR hS (hL.sub [0, 1, 2, 3] rfl) hw ⟨by omega, by omega⟩
    · replace hw := hw.2 h
      refine lv_iconst hx hb dX0_doThresh_171 (v := 1) rfl ?_
      refine lv_goto hx hb dX0_doThresh_172 (tgt := 176) (by decide) ?_
      exact tk_X0_doThresh_b176 E htab hR hS (hL.sub [0, 1, 2, 3] rfl) hw ⟨by omega, by omega⟩
theorem tk_X0_doThresh_b145 {p : Program} {l : Launch} {e : Env} {s : State} {m : MethodId} {args : Array Value} {below : List Frame} {meth : Method} {c : Code} {D : tD} {B : Nat} (E : th_E p m c cX0_doThresh 10 s args RX0 meth ((Option.some Jvm.ClassFile.FieldType.int)) "doThresh" D B) (htab : c.exceptionTable.toList = tableOf []) {Q : Int32 → aH → Prop} {X : Nat → aH → Prop} {G : aH} {H : Heap} {locs : List Loc} {cells slots : Nat} {ls : Array Slot} {x3 : Int32} {a4 : Nat} {a5 : Nat} {x7 : Int32} (hR : th_H D B G H) (hS : va_S (th_A B) s.heap H locs) (hL : th_L ls 10 [(3, .int x3), (4, rv a4), (5, rv a5), (7, .int x7)]) (hw : tw_X0_doThresh_b145 Q X G x3 a4 a5 x7) (hc : cells + (2) ≤ 7 ∧ slots + (16) ≤ 48) : W p l e rm_X0_doThresh s m args below meth c H locs cells slots (vz_MQ below (th_Qi D B Q) (th_X D B X) args s 7 48 (th_A B)) (F0 m 145 ls []) := by
  have CF := E.1; have hx := CF.1; have hb := CF.2.1; have hret := E.2.1; have hlk := E.2.2.1; have hnm := E.2.2.2.1; have hK := E.2.2.2.2.1; have hSt := E.2.2.2.2.2
  unfold tw_X0_doThresh_b145 at hw
  refine lv_iconst hx hb dX0_doThresh_145 (v := 1) rfl ?_
  refine lv_goto hx hb dX0_doThresh_146 (tgt := 150) (by decide) ?_
  exact tk_X0_doThresh_b150 E htab hR hS (hL.sub [0, 1, 2, 3] rfl) hw ⟨by omega, by omega⟩
theorem tk_X0_doThresh_b101 {p : Program} {l : Launch} {e : Env} {s : State} {m : MethodId} {args : Array Value} {below : List Frame} {meth : Method} {c : Code} {D : tD} {B : Nat} (E : th_E p m c cX0_doThresh 10 s args RX0 meth ((Option.some Jvm.ClassFile.FieldType.int)) "doThresh" D B) (htab : c.exceptionTable.toList = tableOf []) {Q : Int32 → aH → Prop} {X : Nat → aH → Prop} {G : aH} {H : Heap} {locs : List Loc} {cells slots : Nat} {ls : Array Slot} {a0 : Nat} {x3 : Int32} {a4 : Nat} {a5 : Nat} {x6 : Int32} {tx0 : Int32} (hR : th_H D B G H) (hS : va_S (th_A B) s.heap H locs) (hL : th_L ls 10 [(0, rv a0), (3, .int x3), (4, rv a4), (5, rv a5), (6, .int x6)]) (hw : tw_X0_doThresh_b101 Q X G a0 x3 a4 a5 x6 tx0) (hc : cells + (3) ≤ 7 ∧ slots + (24) ≤ 48) : W p l e rm_X0_doThresh s m args below meth c H locs cells slots (vz_MQ below (th_Qi D B Q) (th_X D B X) args s 7 48 (th_A B)) (F0 m 101 ls [.int tx0]) := by
  have CF := E.1; have hx := CF.1; have hb := CF.2.1; have hret := E.2.1; have hlk := E.2.2.1; have hnm := E.2.2.2.1; have hK := E.2.2.2.2.1; have hSt := E.2.2.2.2.2
  unfold tw_X0_doThresh_b101 at hw
  refine lv_bipush hx hb dX0_doThresh_101 (v := 7) rfl ?_
  refine lv_iload hx hb dX0_doThresh_103 (lv_at hL.1 4 rfl) ?_
  refine th_Xkv hS (th_XrS CF hK hSt hR hS (rest := []) (tk_X0_allow) (cw_X0_97 CF hK (by decide +kernel)) hw rfl hL.1.1 rfl th_cn (Nat.le_of_ble_eq_true rfl) dX0_doThresh_105 ⟨by show _ ≤ (7 : Nat); omega, by show _ ≤ (48 : Nat); omega⟩) (fun e9 G9 H locs hw ho hR hS => ?_) (fun G20 H locs hw hR hS => ?_)
  · exact th_out hK hlk (by rw [htab]; decide) hR hS hw ho (by omega) (by omega)
  · skip
    refine th_aload_n hx hb dX0_doThresh_108 rfl (lv_at hL.1 0 rfl) ?_
    refine th_aload hx hb dX0_doThresh_109 (lv_at hL.1 3 rfl) ?_
    obtain ⟨ho, hw⟩ := hw
    refine fg_X0_187 CF hK hR ho dX0_doThresh_111 ?_
    refine th_aload hx hb dX0_doThresh_114 (lv_at hL.1 3 rfl) ?_
    obtain ⟨ho, hw⟩ := hw
    refine fg_X0_191 CF hK hR ho dX0_doThresh_116 ?_
    refine lv_iconst hx hb dX0_doThresh_119 (v := 1) rfl ?_
    refine lv_isub hx hb dX0_doThresh_120 ?_
    obtain ⟨ha, hw⟩ := hw
    refine th_aald hx hb hK 3 (by decide) rfl rfl hR ha dX0_doThresh_121 ?_
    obtain ⟨ho, hw⟩ := hw
    refine th_ki hS (th_rV CF hK hSt hR hS ho (ci := 0) rfl (rest := []) (tk_X0_kindOfLot) (cw_X0_194 CF hK (by decide +kernel)) hw rfl hL.1.1 rfl th_cn (Nat.le_of_ble_eq_true rfl) dX0_doThresh_122 ⟨by show _ ≤ (7 : Nat); omega, by show _ ≤ (48 : Nat); omega⟩) (fun r22 G21 H locs hw hR hS => ?_)
    refine th_istore hx hb dX0_doThresh_125 hL (by decide) rfl (fun ls hL => ?_)
    refine th_aload hx hb dX0_doThresh_127 (lv_at hL.1 3 rfl) ?_
    obtain ⟨ho, hw⟩ := hw
    refine fg_X0_210 CF hK hR ho dX0_doThresh_129 ?_
    refine lv_if_eq hx hb dX0_doThresh_132 (tgt := 145) (by decide) (fun h => ?_) (fun h => ?_)
    · replace hw := hw.1 h
      exact tk_X0_doThresh_b145 E htab hR hS (hL.sub [2, 3, 4, 0] rfl) hw ⟨by omega, by omega⟩
    · replace hw := hw.2 h
      refine th_aload hx hb dX0_doThresh_135 (lv_at hL.1 3 rfl) ?_
      obtain ⟨ho, hw⟩ := hw
      refine fg_X0_213 CF hK hR ho dX0_doThresh_137 ?_
      refine lv_iload hx hb dX0_doThresh_140 (lv_at hL.1 0 rfl) ?_
      refine lv_icmp_ne hx hb dX0_doThresh_142 (tgt := 149) (by decide) (fun h => ?_) (fun h => ?_)
      · replace hw := hw.1 h
        refine lv_iconst hx hb dX0_doThresh_149 (v := 0) rfl ?_
        exact tk_X0_doThresh_b150 E htab hR hS (hL.sub [2, 3, 4, 0] rfl) hw ⟨by omega, by omega⟩
      · replace hw := hw.2 h
        exact tk_X0_doThresh_b145 E htab hR hS (hL.sub [2, 3, 4, 0] rfl) hw ⟨by omega, by omega⟩
theorem tk_X0_doThresh_b72 {p : Program} {l : Launch} {e : Env} {s : State} {m : MethodId} {args : Array Value} {below : List Frame} {meth : Method} {c : Code} {D : tD} {B : Nat} (E : th_E p m c cX0_doThresh 10 s args RX0 meth ((Option.some Jvm.ClassFile.FieldType.int)) "doThresh" D B) (htab : c.exceptionTable.toList = tableOf []) {Q : Int32 → aH → Prop} {X : Nat → aH → Prop} {G : aH} {H : Heap} {locs : List Loc} {cells slots : Nat} {ls : Array Slot} {a0 : Nat} {x3 : Int32} {a4 : Nat} {a5 : Nat} {tx0 : Int32} (hR : th_H D B G H) (hS : va_S (th_A B) s.heap H locs) (hL : th_L ls 10 [(0, rv a0), (3, .int x3), (4, rv a4), (5, rv a5)]) (hw : tw_X0_doThresh_b72 Q X G a0 x3 a4 a5 tx0) (hc : cells + (4) ≤ 7 ∧ slots + (32) ≤ 48) : W p l e rm_X0_doThresh s m args below meth c H locs cells slots (vz_MQ below (th_Qi D B Q) (th_X D B X) args s 7 48 (th_A B)) (F0 m 72 ls [.int tx0]) := by
  have CF := E.1; have hx := CF.1; have hb := CF.2.1; have hret := E.2.1; have hlk := E.2.2.1; have hnm := E.2.2.2.1; have hK := E.2.2.2.2.1; have hSt := E.2.2.2.2.2
  unfold tw_X0_doThresh_b72 at hw
  refine lv_iconst hx hb dX0_doThresh_72 (v := 4) rfl ?_
  refine th_aload hx hb dX0_doThresh_73 (lv_at hL.1 3 rfl) ?_
  obtain ⟨ho, hw⟩ := hw
  refine fg_X0_164 CF hK hR ho dX0_doThresh_75 ?_
  refine th_Xkv hS (th_XrS CF hK hSt hR hS (rest := []) (tk_X0_allow) (cw_X0_97 CF hK (by decide +kernel)) hw rfl hL.1.1 rfl th_cn (Nat.le_of_ble_eq_true rfl) dX0_doThresh_78 ⟨by show _ ≤ (7 : Nat); omega, by show _ ≤ (48 : Nat); omega⟩) (fun e9 G9 H locs hw ho hR hS => ?_) (fun G17 H locs hw hR hS => ?_)
  · exact th_out hK hlk (by rw [htab]; decide) hR hS hw ho (by omega) (by omega)
  · skip
    refine th_aload_n hx hb dX0_doThresh_81 rfl (lv_at hL.1 0 rfl) ?_
    refine th_aload hx hb dX0_doThresh_82 (lv_at hL.1 3 rfl) ?_
    refine lv_iload_n hx hb dX0_doThresh_84 rfl (lv_at hL.1 1 rfl) ?_
    obtain ⟨ho, hw⟩ := hw
    refine th_ki hS (th_rV CF hK hSt hR hS ho (ci := 0) rfl (rest := []) (tk_X0_otherKind) (cw_X0_206 CF hK (by decide +kernel)) hw rfl hL.1.1 rfl th_cn (Nat.le_of_ble_eq_true rfl) dX0_doThresh_85 ⟨by show _ ≤ (7 : Nat); omega, by show _ ≤ (48 : Nat); omega⟩) (fun r19 G18 H locs hw hR hS => ?_)
    refine th_istore hx hb dX0_doThresh_88 hL (by decide) rfl (fun ls hL => ?_)
    refine lv_iload hx hb dX0_doThresh_90 (lv_at hL.1 0 rfl) ?_
    refine lv_iconst hx hb dX0_doThresh_92 (v := (-1)) rfl ?_
    refine lv_icmp_ne hx hb dX0_doThresh_93 (tgt := 100) (by decide) (fun h => ?_) (fun h => ?_)
    · replace hw := hw.1 h
      refine lv_iconst hx hb dX0_doThresh_100 (v := 0) rfl ?_
      exact tk_X0_doThresh_b101 E htab hR hS (hL.sub [1, 2, 3, 4, 0] rfl) hw ⟨by omega, by omega⟩
    · replace hw := hw.2 h
      refine lv_iconst hx hb dX0_doThresh_96 (v := 1) rfl ?_
      refine lv_goto hx hb dX0_doThresh_97 (tgt := 101) (by decide) ?_
      exact tk_X0_doThresh_b101 E htab hR hS (hL.sub [1, 2, 3, 4, 0] rfl) hw ⟨by omega, by omega⟩
theorem tk_X0_doThresh {l : Launch} {D : tD} {B : Nat} {Q : Int32 → aH → Prop} {X : Nat → aH → Prop} {a0 : Nat} {x1 : Int32} {x2 : Int32} {x3 : Int32} : vz_Met l yX0_doThresh (ws_ yX0_doThresh cX0_doThresh 10 ((Option.some Jvm.ClassFile.FieldType.int))) rm_X0_doThresh (th_P D B [rv a0, .int x1, .int x2, .int x3] (fun G => tw_X0_doThresh Q X G a0 x1 x2 x3)) (th_Qi D B Q) (th_X D B X) 7 48 (th_A B) :=
  th_ofX (by decide +kernel) (th_cr (th_ci (th_ci (th_ci th_cn)))) (Nat.le_of_ble_eq_true rfl) (fun p e s m args below meth c CF hret hlk hnm htab0 hK hSt G ls hR hS hw hL => by
    have E : th_E p m c cX0_doThresh 10 s args RX0 meth ((Option.some Jvm.ClassFile.FieldType.int)) "doThresh" D B := ⟨CF, hret, hlk, hnm, hK, hSt⟩
    have htab : c.exceptionTable.toList = tableOf [] := th_notab htab0
    have hx := CF.1; have hb := CF.2.1
    have hL : th_L ls 10 [(0, rv a0), (1, .int x1), (2, .int x2), (3, .int x3)] := hL
    unfold tw_X0_doThresh at hw
    refine lv_iconst hx hb dX0_doThresh_0 (v := 2) rfl ?_
    refine th_newa hx hb 2 (atype := .boolean) (CF.2.2.2.2 _ q676) rfl (by decide) (n := 2) 2 (by decide) rfl (by decide +kernel) hK hR hS (by show _ ≤ (7 : Nat); omega) (by show _ ≤ (48 : Nat); omega) dX0_doThresh_1 (fun z1 G2 H hz hG hR hS => ?_)
    replace hw := hw z1 hz G2 hG
    refine lv_dup hx hb dX0_doThresh_3 (rv_cat _) ?_
    refine lv_iconst hx hb dX0_doThresh_4 (v := 0) rfl ?_
    refine lv_iload_n hx hb dX0_doThresh_5 rfl (lv_at hL.1 1 rfl) ?_
    refine th_ki hS (th_rS CF hK hSt hR hS (rest := [.int 0, rv z1, rv z1]) (tk_X0_isFloor) (cw_X0_199 CF hK (by decide +kernel)) hw rfl hL.1.1 rfl (th_ci (th_cr (th_cr th_cn))) (Nat.le_of_ble_eq_true rfl) dX0_doThresh_6 ⟨by show _ ≤ (7 : Nat); omega, by show _ ≤ (48 : Nat); omega⟩) (fun r4 G3 H locs hw hR hS => ?_)
    obtain ⟨ha, hw⟩ := hw
    refine th_zast hx hb hK hR hS ha dX0_doThresh_9 (fun G5 H locs hG hR hS => ?_)
    replace hw := hw G5 hG
    refine lv_dup hx hb dX0_doThresh_10 (rv_cat _) ?_
    refine lv_iconst hx hb dX0_doThresh_11 (v := 1) rfl ?_
    refine lv_iload_n hx hb dX0_doThresh_12 rfl (lv_at hL.1 2 rfl) ?_
    refine th_ki hS (th_rS CF hK hSt hR hS (rest := [.int 1, rv z1, rv z1]) (tk_X0_isBay) (cw_X0_143 CF hK (by decide +kernel)) hw rfl hL.1.1 rfl (th_ci (th_cr (th_cr th_cn))) (Nat.le_of_ble_eq_true rfl) dX0_doThresh_13 ⟨by show _ ≤ (7 : Nat); omega, by show _ ≤ (48 : Nat); omega⟩) (fun r7 G6 H locs hw hR hS => ?_)
    obtain ⟨ha, hw⟩ := hw
    refine th_zast hx hb hK hR hS ha dX0_doThresh_16 (fun G8 H locs hG hR hS => ?_)
    replace hw := hw G8 hG
    refine th_ki hS (th_rS CF hK hSt hR hS (rest := []) (tk_X0_all) (cw_X0_146 CF hK (by decide +kernel)) hw rfl hL.1.1 rfl th_cn (Nat.le_of_ble_eq_true rfl) dX0_doThresh_17 ⟨by show _ ≤ (7 : Nat); omega, by show _ ≤ (48 : Nat); omega⟩) (fun r10 G9 H locs hw hR hS => ?_)
    refine lv_iconst hx hb dX0_doThresh_20 (v := (-1)) rfl ?_
    refine th_Xkv hS (th_XrS CF hK hSt hR hS (rest := []) (tk_X0_want) (cw_X0_93 CF hK (by decide +kernel)) hw rfl hL.1.1 rfl th_cn (Nat.le_of_ble_eq_true rfl) dX0_doThresh_21 ⟨by show _ ≤ (7 : Nat); omega, by show _ ≤ (48 : Nat); omega⟩) (fun e9 G9 H locs hw ho hR hS => ?_) (fun G11 H locs hw hR hS => ?_)
    · exact th_out hK hlk (by rw [htab]; decide) hR hS hw ho (by omega) (by omega)
    · skip
      refine lv_iload_n hx hb dX0_doThresh_24 rfl (lv_at hL.1 3 rfl) ?_
      refine lv_iconst hx hb dX0_doThresh_25 (v := 1) rfl ?_
      refine lv_bipush hx hb dX0_doThresh_26 (v := 20) rfl ?_
      refine th_ki hS (th_rS CF hK hSt hR hS (rest := []) (tk_X0_within) (cw_X0_82 CF hK (by decide +kernel)) hw rfl hL.1.1 rfl th_cn (Nat.le_of_ble_eq_true rfl) dX0_doThresh_28 ⟨by show _ ≤ (7 : Nat); omega, by show _ ≤ (48 : Nat); omega⟩) (fun r13 G12 H locs hw hR hS => ?_)
      refine lv_bipush hx hb dX0_doThresh_31 (v := (-2)) rfl ?_
      refine th_Xkv hS (th_XrS CF hK hSt hR hS (rest := []) (tk_X0_want) (cw_X0_93 CF hK (by decide +kernel)) hw rfl hL.1.1 rfl th_cn (Nat.le_of_ble_eq_true rfl) dX0_doThresh_33 ⟨by show _ ≤ (7 : Nat); omega, by show _ ≤ (48 : Nat); omega⟩) (fun e9 G9 H locs hw ho hR hS => ?_) (fun G14 H locs hw hR hS => ?_)
      · exact th_out hK hlk (by rw [htab]; decide) hR hS hw ho (by omega) (by omega)
      · skip
        refine th_aload_n hx hb dX0_doThresh_36 rfl (lv_at hL.1 0 rfl) ?_
        obtain ⟨ho, hw⟩ := hw
        refine fg_X0_22 CF hK hR ho dX0_doThresh_37 ?_
        obtain ⟨ho, hw⟩ := hw
        refine fg_X0_202 CF hK hR ho dX0_doThresh_40 ?_
        refine lv_iload_n hx hb dX0_doThresh_43 rfl (lv_at hL.1 1 rfl) ?_
        obtain ⟨ha, hw⟩ := hw
        refine th_aald hx hb hK 6 (by decide) rfl rfl hR ha dX0_doThresh_44 ?_
        obtain ⟨a4_15, ha4_15⟩ : ∃ y : Nat, y = a_mr G14 (a_mr G14 (a_mr G14 a0 0) 3) x1.toNatClampNeg := ⟨_, rfl⟩
        replace hw := hw a4_15 ha4_15
        refine th_nmr ha4_15 ?_
        refine th_astore hx hb dX0_doThresh_45 hL (by decide) rfl (fun ls hL => ?_)
        refine th_aload_n hx hb dX0_doThresh_47 rfl (lv_at hL.1 1 rfl) ?_
        obtain ⟨ho, hw⟩ := hw
        refine fg_X0_22 CF hK hR ho dX0_doThresh_48 ?_
        obtain ⟨ho, hw⟩ := hw
        refine fg_X0_150 CF hK hR ho dX0_doThresh_51 ?_
        refine lv_iload_n hx hb dX0_doThresh_54 rfl (lv_at hL.1 3 rfl) ?_
        obtain ⟨ha, hw⟩ := hw
        refine th_aald hx hb hK 5 (by decide) rfl rfl hR ha dX0_doThresh_55 ?_
        obtain ⟨a5_16, ha5_16⟩ : ∃ y : Nat, y = a_mr G14 (a_mr G14 (a_mr G14 a0 0) 2) x2.toNatClampNeg := ⟨_, rfl⟩
        replace hw := hw a5_16 ha5_16
        refine th_nmr ha5_16 ?_
        refine th_astore hx hb dX0_doThresh_56 hL (by decide) rfl (fun ls hL => ?_)
        refine th_aload hx hb dX0_doThresh_58 (lv_at hL.1 0 rfl) ?_
        obtain ⟨ho, hw⟩ := hw
        refine fg_X0_164 CF hK hR ho dX0_doThresh_60 ?_
        refine lv_iload_n hx hb dX0_doThresh_63 rfl (lv_at hL.1 5 rfl) ?_
        refine lv_icmp_lt hx hb dX0_doThresh_64 (tgt := 71) (by decide) (fun h => ?_) (fun h => ?_)
        · replace hw := hw.1 h
          refine lv_iconst hx hb dX0_doThresh_71 (v := 0) rfl ?_
          exact tk_X0_doThresh_b72 E htab hR hS (hL.sub [2, 5, 1, 0] rfl) hw ⟨by omega, by omega⟩
        · replace hw := hw.2 h
          refine lv_iconst hx hb dX0_doThresh_67 (v := 1) rfl ?_
          refine lv_goto hx hb dX0_doThresh_68 (tgt := 72) (by decide) ?_
          exact tk_X0_doThresh_b72 E htab hR hS (hL.sub [2, 5, 1, 0] rfl) hw ⟨by omega, by omega⟩)
def tw_X15_done (Q : Int32 → aH → Prop) (X : Nat → aH → Prop) (G : aH) (a0 : Nat) : Prop :=
  th_o G a0 15 ∧ (
  th_o G a0 15 ∧ (
  th_o G a0 15 ∧ (
  th_o G a0 15 ∧ (
  th_o G (a_mr G a0 3) 0 ∧ (
  (tw_X0_doThresh
    (fun (r2 : Int32) (G1 : aH) =>
      Q r2 G1)
    X
    G (a_mr G a0 3) (a_mi G a0 0) (a_mi G a0 1) (a_mi G a0 2)))))))
theorem tk_X15_done {l : Launch} {D : tD} {B : Nat} {Q : Int32 → aH → Prop} {X : Nat → aH → Prop} {a0 : Nat} : vz_Met l yX15_done (ws_ yX15_done cX15_done 1 ((Option.some Jvm.ClassFile.FieldType.int))) rm_X15_done (th_P D B [rv a0] (fun G => tw_X15_done Q X G a0)) (th_Qi D B Q) (th_X D B X) 7 48 (th_A B) :=
  th_ofX (by decide +kernel) (th_cr th_cn) (Nat.le_of_ble_eq_true rfl) (fun p e s m args below meth c CF hret hlk hnm htab0 hK hSt G ls hR hS hw hL => by
    have E : th_E p m c cX15_done 1 s args RX15 meth ((Option.some Jvm.ClassFile.FieldType.int)) "done" D B := ⟨CF, hret, hlk, hnm, hK, hSt⟩
    have htab : c.exceptionTable.toList = tableOf [] := th_notab htab0
    have hx := CF.1; have hb := CF.2.1
    have hL : th_L ls 1 [(0, rv a0)] := hL
    unfold tw_X15_done at hw
    refine th_aload_n hx hb dX15_done_0 rfl (lv_at hL.1 0 rfl) ?_
    obtain ⟨ho, hw⟩ := hw
    refine fg_X15_1 CF hK hR ho dX15_done_1 ?_
    refine th_aload_n hx hb dX15_done_4 rfl (lv_at hL.1 0 rfl) ?_
    obtain ⟨ho, hw⟩ := hw
    refine fg_X15_13 CF hK hR ho dX15_done_5 ?_
    refine th_aload_n hx hb dX15_done_8 rfl (lv_at hL.1 0 rfl) ?_
    obtain ⟨ho, hw⟩ := hw
    refine fg_X15_17 CF hK hR ho dX15_done_9 ?_
    refine th_aload_n hx hb dX15_done_12 rfl (lv_at hL.1 0 rfl) ?_
    obtain ⟨ho, hw⟩ := hw
    refine fg_X15_20 CF hK hR ho dX15_done_13 ?_
    obtain ⟨ho, hw⟩ := hw
    refine th_Xki hS (th_XrVN CF hK hSt hR hS ho (ci := 0) rfl (rest := []) (tk_X0_doThresh) (cw_X15_23 CF hK (by decide +kernel)) hw rfl hL.1.1 rfl th_cn (Nat.le_of_ble_eq_true rfl) dX15_done_16 ⟨by show _ ≤ (7 : Nat); omega, by show _ ≤ (48 : Nat); omega⟩) (fun e9 G9 H locs hw ho hR hS => ?_) (fun r2 G1 H locs hw hR hS => ?_)
    · exact th_out hK hlk (by rw [htab]; decide) hR hS hw ho (by omega) (by omega)
    · skip
      exact vz_ret (th_iret hx hb hret hlk hR hS hw (by omega) (by omega) dX15_done_19))
def tw_X0_doSell_b122 (Q : Int32 → aH → Prop) (X : Nat → aH → Prop) (G : aH) (ta0 : Nat) (tx1 : Int32) (tx2 : Int32) (ta3 : Nat) (ta4 : Nat) : Prop :=
  (a_sh G ta3).1 ≠ 0 ∧ (
  (tw_X10_init_2
    (fun (G28 : aH) =>
      th_oo G28 ta4 [9, 10, 11] ∧ (
      X ta4 G28))
    G ta3 tx2 tx1 ta0))
def tw_X0_doSell_b62 (Q : Int32 → aH → Prop) (X : Nat → aH → Prop) (G : aH) (a0 : Nat) (x1 : Int32) (x2 : Int32) (x3 : Int32) (a4 : Nat) (tx0 : Int32) (tx1 : Int32) : Prop :=
  ∀ x5_16 : Int32, x5_16 = tx1 * tx0 → 
  th_o G a4 6 ∧ (
  (x5_16 ≤ a_mi G a4 0 →
    th_o G a4 6 ∧ (
    ∀ x6_17 : Int32, x6_17 = x2 * ((a_mi G a4 1) + x3) → 
    th_o G a4 6 ∧ (
    th_o G a4 6 ∧ (
    ∀ G18 : aH, G18 = a_si G a4 0 ((a_mi G a4 0) - x5_16) → 
    th_o G18 a4 6 ∧ (
    th_o G18 a4 6 ∧ (
    ∀ G19 : aH, G19 = a_si G18 a4 3 ((a_mi G18 a4 3) + x5_16) → 
    th_o G19 a4 6 ∧ (
    th_o G19 a4 6 ∧ (
    ∀ G20 : aH, G20 = a_si G19 a4 2 ((a_mi G19 a4 2) + x2) → 
    th_o G20 a0 0 ∧ (
    th_o G20 (a_mr G20 a0 0) 1 ∧ (
    th_o G20 (a_mr G20 a0 0) 1 ∧ (
    ∀ G21 : aH, G21 = a_si G20 (a_mr G20 a0 0) 8 ((a_mi G20 (a_mr G20 a0 0) 8) + x6_17) → 
    Q x6_17 G21))))))))))) ∧
  (¬ x5_16 ≤ a_mi G a4 0 →
    th_o G a0 0 ∧ (
    th_o G (a_mr G a0 0) 1 ∧ (
    th_ai G (a_mr G (a_mr G a0 0) 5) 8 (4 + x1) ∧ (
    th_o G (a_mr G (a_mr G (a_mr G a0 0) 5) (4 + x1).toNatClampNeg) 7 ∧ (
    ∀ x6_22 : Int32, x6_22 = a_mi G (a_mr G (a_mr G (a_mr G a0 0) 5) (4 + x1).toNatClampNeg) 1 → 
    ∀ z23 : Nat, z23 = a_sz G → ∀ G24 : aH, G24 = a_nw G (10 + 1) 0 → 
    th_o G24 a4 6 ∧ (
    (¬ x6_22 = 0 →
      ∀ z25 : Nat, z25 = a_sz G24 → ∀ G26 : aH, G26 = a_nw G24 (10 + 1) 0 → 
      (a_sh G26 z25).1 ≠ 0 ∧ (
      (tw_X10_init
        (fun (G27 : aH) =>
          tw_X0_doSell_b122 Q X G27 z25 (a_mi G24 a4 0) 8 z23 z23)
        G26 z25 13 x6_22))) ∧
    (x6_22 = 0 →
      tw_X0_doSell_b122 Q X G24 0 (a_mi G24 a4 0) 8 z23 z23))))))))
def tw_X0_doSell (Q : Int32 → aH → Prop) (X : Nat → aH → Prop) (G : aH) (a0 : Nat) (x1 : Int32) (x2 : Int32) (x3 : Int32) : Prop :=
  (tw_X0_isKind
    (fun (r2 : Int32) (G1 : aH) =>
      (tw_X0_want
        (fun (G3 : aH) =>
          ∀ z4 : Nat, z4 = a_sz G3 → ∀ G5 : aH, G5 = a_nw G3 (100 + 2) 2 → 
          (tw_X0_within
            (fun (r7 : Int32) (G6 : aH) =>
              th_ai G6 z4 2 0 ∧ (
              ∀ G8 : aH, G8 = a_si G6 z4 (0 : Int32).toNatClampNeg (r7 &&& 1) → 
              (tw_X0_within
                (fun (r10 : Int32) (G9 : aH) =>
                  th_ai G9 z4 2 1 ∧ (
                  ∀ G11 : aH, G11 = a_si G9 z4 (1 : Int32).toNatClampNeg (r10 &&& 1) → 
                  (tw_X0_all
                    (fun (r13 : Int32) (G12 : aH) =>
                      (tw_X0_want
                        (fun (G14 : aH) =>
                          th_o G14 a0 0 ∧ (
                          th_o G14 (a_mr G14 a0 0) 1 ∧ (
                          th_ai G14 (a_mr G14 (a_mr G14 a0 0) 4) 7 x1 ∧ (
                          ∀ a4_15 : Nat, a4_15 = a_mr G14 (a_mr G14 (a_mr G14 a0 0) 4) x1.toNatClampNeg → 
                          (¬ x3 = 1 →
                            tw_X0_doSell_b62 Q X G14 a0 x1 x2 x3 a4_15 64 x2) ∧
                          (x3 = 1 →
                            tw_X0_doSell_b62 Q X G14 a0 x1 x2 x3 a4_15 72 x2)))))
                        X
                        G12 r13 (-2)))
                    G11 z4)))
                G8 x3 0 1)))
            G5 x2 1 30))
        X
        G1 r2 (-1)))
    G x1)
theorem tk_X0_doSell_b122 {p : Program} {l : Launch} {e : Env} {s : State} {m : MethodId} {args : Array Value} {below : List Frame} {meth : Method} {c : Code} {D : tD} {B : Nat} (E : th_E p m c cX0_doSell 7 s args RX0 meth ((Option.some Jvm.ClassFile.FieldType.int)) "doSell" D B) (htab : c.exceptionTable.toList = tableOf []) {Q : Int32 → aH → Prop} {X : Nat → aH → Prop} {G : aH} {H : Heap} {locs : List Loc} {cells slots : Nat} {ls : Array Slot} {ta0 : Nat} {tx1 : Int32} {tx2 : Int32} {ta3 : Nat} {ta4 : Nat} (hR : th_H D B G H) (hS : va_S (th_A B) s.heap H locs) (hL : th_L ls 7 []) (hw : tw_X0_doSell_b122 Q X G ta0 tx1 tx2 ta3 ta4) (hc : cells + (0) ≤ 5 ∧ slots + (0) ≤ 32) : W p l e rm_X0_doSell s m args below meth c H locs cells slots (vz_MQ below (th_Qi D B Q) (th_X D B X) args s 5 32 (th_A B)) (F0 m 122 ls [rv ta0, .int tx1, .int tx2, rv ta3, rv ta4]) := by
  have CF := E.1; have hx := CF.1; have hb := CF.2.1; have hret := E.2.1; have hlk := E.2.2.1; have hnm := E.2.2.2.1; have hK := E.2.2.2.2.1; have hSt := E.2.2.2.2.2
  unfold tw_X0_doSell_b122 at hw
  obtain ⟨h0, hw⟩ := hw
  refine th_kv hS (th_rI CF hK hSt hR hS h0 (rest := [rv ta4]) (tk_X10_init_2) (cw_X0_161 CF hK (by decide +kernel)) hw rfl hL.1.1 rfl (th_cr th_cn) (Nat.le_of_ble_eq_true rfl) dX0_doSell_122 ⟨by show _ ≤ (5 : Nat); omega, by show _ ≤ (32 : Nat); omega⟩) (fun G28 H locs hw hR hS => ?_)
  obtain ⟨ho, hw⟩ := hw
  refine th_athrowo hx hb hR ho dX0_doSell_125 ?_
  exact th_out hK hlk (by rw [htab]; decide) hR hS hw ho (by omega) (by omega)
theorem tk_X0_doSell_b62 {p : Program} {l : Launch} {e : Env} {s : State} {m : MethodId} {args : Array Value} {below : List Frame} {meth : Method} {c : Code} {D : tD} {B : Nat} (E : th_E p m c cX0_doSell 7 s args RX0 meth ((Option.some Jvm.ClassFile.FieldType.int)) "doSell" D B) (htab : c.exceptionTable.toList = tableOf []) {Q : Int32 → aH → Prop} {X : Nat → aH → Prop} {G : aH} {H : Heap} {locs : List Loc} {cells slots : Nat} {ls : Array Slot} {a0 : Nat} {x1 : Int32} {x2 : Int32} {x3 : Int32} {a4 : Nat} {tx0 : Int32} {tx1 : Int32} (hR : th_H D B G H) (hS : va_S (th_A B) s.heap H locs) (hL : th_L ls 7 [(0, rv a0), (1, .int x1), (2, .int x2), (3, .int x3), (4, rv a4)]) (hw : tw_X0_doSell_b62 Q X G a0 x1 x2 x3 a4 tx0 tx1) (hc : cells + (2) ≤ 5 ∧ slots + (16) ≤ 32) : W p l e rm_X0_doSell s m args below meth c H locs cells slots (vz_MQ below (th_Qi D B Q) (th_X D B X) args s 5 32 (th_A B)) (F0 m 62 ls [.int tx0, .int tx1]) := by
  have CF := E.1; have hx := CF.1; have hb := CF.2.1; have hret := E.2.1; have hlk := E.2.2.1; have hnm := E.2.2.2.1; have hK := E.2.2.2.2.1; have hSt := E.2.2.2.2.2
  unfold tw_X0_doSell_b62 at hw
  refine lv_imul hx hb dX0_doSell_62 ?_
  obtain ⟨x5_16, hx5_16⟩ : ∃ y : Int32, y = tx1 * tx0 := ⟨_, rfl⟩
  replace hw := hw x5_16 hx5_16
  refine th_nmi hx5_16 ?_
  refine th_istore hx hb dX0_doSell_63 hL (by decide) rfl (fun ls hL => ?_)
  refine th_aload hx hb dX0_doSell_65 (lv_at hL.1 5 rfl) ?_
  obtain ⟨ho, hw⟩ := hw
  refine fg_X0_238 CF hK hR ho dX0_doSell_67 ?_
  refine lv_iload hx hb dX0_doSell_70 (lv_at hL.1 0 rfl) ?_
  refine lv_icmp_ge hx hb dX0_doSell_72 (tgt := 126) (by decide) (fun h => ?_) (fun h => ?_)
  · replace hw := hw.1 h
    refine lv_iload_n hx hb dX0_doSell_126 rfl (lv_at hL.1 3 rfl) ?_
    refine th_aload hx hb dX0_doSell_127 (lv_at hL.1 5 rfl) ?_
    obtain ⟨ho, hw⟩ := hw
    refine fg_X0_230 CF hK hR ho dX0_doSell_129 ?_
    refine lv_iload_n hx hb dX0_doSell_132 rfl (lv_at hL.1 4 rfl) ?_
    refine lv_iadd hx hb dX0_doSell_133 ?_
    refine lv_imul hx hb dX0_doSell_134 ?_
    obtain ⟨x6_17, hx6_17⟩ : ∃ y : Int32, y = x2 * ((a_mi G a4 1) + x3) := ⟨_, rfl⟩
    replace hw := hw x6_17 hx6_17
    refine th_nmi hx6_17 ?_
    refine th_istore hx hb dX0_doSell_135 hL (by decide) rfl (fun ls hL => ?_)
    refine th_aload hx hb dX0_doSell_137 (lv_at hL.1 6 rfl) ?_
    refine lv_dup hx hb dX0_doSell_139 (rv_cat _) ?_
    obtain ⟨ho, hw⟩ := hw
    refine fg_X0_238 CF hK hR ho dX0_doSell_140 ?_
    refine lv_iload hx hb dX0_doSell_143 (lv_at hL.1 1 rfl) ?_
    refine lv_isub hx hb dX0_doSell_145 ?_
    obtain ⟨ho, hw⟩ := hw
    refine fp_X0_238 CF hK hR hS ho dX0_doSell_146 (fun G18 H locs hG hR hS => ?_)
    replace hw := hw G18 hG
    refine th_aload hx hb dX0_doSell_149 (lv_at hL.1 6 rfl) ?_
    refine lv_dup hx hb dX0_doSell_151 (rv_cat _) ?_
    obtain ⟨ho, hw⟩ := hw
    refine fg_X0_250 CF hK hR ho dX0_doSell_152 ?_
    refine lv_iload hx hb dX0_doSell_155 (lv_at hL.1 1 rfl) ?_
    refine lv_iadd hx hb dX0_doSell_157 ?_
    obtain ⟨ho, hw⟩ := hw
    refine fp_X0_250 CF hK hR hS ho dX0_doSell_158 (fun G19 H locs hG hR hS => ?_)
    replace hw := hw G19 hG
    refine th_aload hx hb dX0_doSell_161 (lv_at hL.1 6 rfl) ?_
    refine lv_dup hx hb dX0_doSell_163 (rv_cat _) ?_
    obtain ⟨ho, hw⟩ := hw
    refine fg_X0_253 CF hK hR ho dX0_doSell_164 ?_
    refine lv_iload_n hx hb dX0_doSell_167 rfl (lv_at hL.1 4 rfl) ?_
    refine lv_iadd hx hb dX0_doSell_168 ?_
    obtain ⟨ho, hw⟩ := hw
    refine fp_X0_253 CF hK hR hS ho dX0_doSell_169 (fun G20 H locs hG hR hS => ?_)
    replace hw := hw G20 hG
    refine th_aload_n hx hb dX0_doSell_172 rfl (lv_at hL.1 2 rfl) ?_
    obtain ⟨ho, hw⟩ := hw
    refine fg_X0_22 CF hK hR ho dX0_doSell_173 ?_
    refine lv_dup hx hb dX0_doSell_176 (rv_cat _) ?_
    obtain ⟨ho, hw⟩ := hw
    refine fg_X0_256 CF hK hR ho dX0_doSell_177 ?_
    refine lv_iload hx hb dX0_doSell_180 (lv_at hL.1 0 rfl) ?_
    refine lv_iadd hx hb dX0_doSell_182 ?_
    obtain ⟨ho, hw⟩ := hw
    refine fp_X0_256 CF hK hR hS ho dX0_doSell_183 (fun G21 H locs hG hR hS => ?_)
    replace hw := hw G21 hG
    refine lv_iload hx hb dX0_doSell_186 (lv_at hL.1 0 rfl) ?_
    exact vz_ret (th_iret hx hb hret hlk hR hS hw (by omega) (by omega) dX0_doSell_188)
  · replace hw := hw.2 h
    refine th_aload_n hx hb dX0_doSell_75 rfl (lv_at hL.1 1 rfl) ?_
    obtain ⟨ho, hw⟩ := hw
    refine fg_X0_22 CF hK hR ho dX0_doSell_76 ?_
    obtain ⟨ho, hw⟩ := hw
    refine fg_X0_241 CF hK hR ho dX0_doSell_79 ?_
    refine lv_iconst hx hb dX0_doSell_82 (v := 4) rfl ?_
    refine lv_iload_n hx hb dX0_doSell_83 rfl (lv_at hL.1 2 rfl) ?_
    refine lv_iadd hx hb dX0_doSell_84 ?_
    obtain ⟨ha, hw⟩ := hw
    refine th_aald hx hb hK 8 (by decide) rfl rfl hR ha dX0_doSell_85 ?_
    obtain ⟨ho, hw⟩ := hw
    refine fg_X0_245 CF hK hR ho dX0_doSell_86 ?_
    obtain ⟨x6_22, hx6_22⟩ : ∃ y : Int32, y = a_mi G (a_mr G (a_mr G (a_mr G a0 0) 5) (4 + x1).toNatClampNeg) 1 := ⟨_, rfl⟩
    replace hw := hw x6_22 hx6_22
    refine th_nmi hx6_22 ?_
    refine th_istore hx hb dX0_doSell_89 hL (by decide) rfl (fun ls hL => ?_)
    refine fn_X0_9 CF hK hR hS (by show _ ≤ (5 : Nat); omega) (by show _ ≤ (32 : Nat); omega) dX0_doSell_91 (fun z23 G24 H hz hG hR hS => ?_)
    replace hw := hw z23 hz G24 hG
    refine lv_dup hx hb dX0_doSell_94 (rv_cat _) ?_
    refine lv_bipush hx hb dX0_doSell_95 (v := 8) rfl ?_
    refine th_aload hx hb dX0_doSell_97 (lv_at hL.1 6 rfl) ?_
    obtain ⟨ho, hw⟩ := hw
    refine fg_X0_238 CF hK hR ho dX0_doSell_99 ?_
    refine lv_iload hx hb dX0_doSell_102 (lv_at hL.1 0 rfl) ?_
    refine lv_if_ne hx hb dX0_doSell_104 (tgt := 111) (by decide) (fun h => ?_) (fun h => ?_)
    · replace hw := hw.1 h
      refine fn_X0_9 CF hK hR hS (by show _ ≤ (5 : Nat); omega) (by show _ ≤ (32 : Nat); omega) dX0_doSell_111 (fun z25 G26 H hz hG hR hS => ?_)
      replace hw := hw z25 hz G26 hG
      refine lv_dup hx hb dX0_doSell_114 (rv_cat _) ?_
      refine lv_bipush hx hb dX0_doSell_115 (v := 13) rfl ?_
      refine lv_iload hx hb dX0_doSell_117 (lv_at hL.1 0 rfl) ?_
      obtain ⟨h0, hw⟩ := hw
      refine th_kv hS (th_rI CF hK hSt hR hS h0 (rest := [rv z25, .int (a_mi G24 a4 0), .int 8, rv z23, rv z23]) (tk_X10_init) (cw_X0_11 CF hK (by decide +kernel)) hw rfl hL.1.1 rfl (th_cr (th_ci (th_ci (th_cr (th_cr th_cn))))) (Nat.le_of_ble_eq_true rfl) dX0_doSell_119 ⟨by show _ ≤ (5 : Nat); omega, by show _ ≤ (32 : Nat); omega⟩) (fun G27 H locs hw hR hS => ?_)
      exact tk_X0_doSell_b122 E htab hR hS (hL.sub [] rfl) hw ⟨by omega, by omega⟩
    · replace hw := hw.2 h
      refine th_null hx hb dX0_doSell_107 ?_
      refine lv_goto hx hb dX0_doSell_108 (tgt := 122) (by decide) ?_
      exact tk_X0_doSell_b122 E htab hR hS (hL.sub [] rfl) hw ⟨by omega, by omega⟩
theorem tk_X0_doSell {l : Launch} {D : tD} {B : Nat} {Q : Int32 → aH → Prop} {X : Nat → aH → Prop} {a0 : Nat} {x1 : Int32} {x2 : Int32} {x3 : Int32} : vz_Met l yX0_doSell (ws_ yX0_doSell cX0_doSell 7 ((Option.some Jvm.ClassFile.FieldType.int))) rm_X0_doSell (th_P D B [rv a0, .int x1, .int x2, .int x3] (fun G => tw_X0_doSell Q X G a0 x1 x2 x3)) (th_Qi D B Q) (th_X D B X) 5 32 (th_A B) :=
  th_ofX (by decide +kernel) (th_cr (th_ci (th_ci (th_ci th_cn)))) (Nat.le_of_ble_eq_true rfl) (fun p e s m args below meth c CF hret hlk hnm htab0 hK hSt G ls hR hS hw hL => by
    have E : th_E p m c cX0_doSell 7 s args RX0 meth ((Option.some Jvm.ClassFile.FieldType.int)) "doSell" D B := ⟨CF, hret, hlk, hnm, hK, hSt⟩
    have htab : c.exceptionTable.toList = tableOf [] := th_notab htab0
    have hx := CF.1; have hb := CF.2.1
    have hL : th_L ls 7 [(0, rv a0), (1, .int x1), (2, .int x2), (3, .int x3)] := hL
    unfold tw_X0_doSell at hw
    refine lv_iload_n hx hb dX0_doSell_0 rfl (lv_at hL.1 1 rfl) ?_
    refine th_ki hS (th_rS CF hK hSt hR hS (rest := []) (tk_X0_isKind) (cw_X0_89 CF hK (by decide +kernel)) hw rfl hL.1.1 rfl th_cn (Nat.le_of_ble_eq_true rfl) dX0_doSell_1 ⟨by show _ ≤ (5 : Nat); omega, by show _ ≤ (32 : Nat); omega⟩) (fun r2 G1 H locs hw hR hS => ?_)
    refine lv_iconst hx hb dX0_doSell_4 (v := (-1)) rfl ?_
    refine th_Xkv hS (th_XrS CF hK hSt hR hS (rest := []) (tk_X0_want) (cw_X0_93 CF hK (by decide +kernel)) hw rfl hL.1.1 rfl th_cn (Nat.le_of_ble_eq_true rfl) dX0_doSell_5 ⟨by show _ ≤ (5 : Nat); omega, by show _ ≤ (32 : Nat); omega⟩) (fun e9 G9 H locs hw ho hR hS => ?_) (fun G3 H locs hw hR hS => ?_)
    · exact th_out hK hlk (by rw [htab]; decide) hR hS hw ho (by omega) (by omega)
    · skip
      refine lv_iconst hx hb dX0_doSell_8 (v := 2) rfl ?_
      refine th_newa hx hb 2 (atype := .boolean) (CF.2.2.2.2 _ q676) rfl (by decide) (n := 2) 2 (by decide) rfl (by decide +kernel) hK hR hS (by show _ ≤ (5 : Nat); omega) (by show _ ≤ (32 : Nat); omega) dX0_doSell_9 (fun z4 G5 H hz hG hR hS => ?_)
      replace hw := hw z4 hz G5 hG
      refine lv_dup hx hb dX0_doSell_11 (rv_cat _) ?_
      refine lv_iconst hx hb dX0_doSell_12 (v := 0) rfl ?_
      refine lv_iload_n hx hb dX0_doSell_13 rfl (lv_at hL.1 2 rfl) ?_
      refine lv_iconst hx hb dX0_doSell_14 (v := 1) rfl ?_
      refine lv_bipush hx hb dX0_doSell_15 (v := 30) rfl ?_
      refine th_ki hS (th_rS CF hK hSt hR hS (rest := [.int 0, rv z4, rv z4]) (tk_X0_within) (cw_X0_82 CF hK (by decide +kernel)) hw rfl hL.1.1 rfl (th_ci (th_cr (th_cr th_cn))) (Nat.le_of_ble_eq_true rfl) dX0_doSell_17 ⟨by show _ ≤ (5 : Nat); omega, by show _ ≤ (32 : Nat); omega⟩) (fun r7 G6 H locs hw hR hS => ?_)
      obtain ⟨ha, hw⟩ := hw
      refine th_zast hx hb hK hR hS ha dX0_doSell_20 (fun G8 H locs hG hR hS => ?_)
      replace hw := hw G8 hG
      refine lv_dup hx hb dX0_doSell_21 (rv_cat _) ?_
      refine lv_iconst hx hb dX0_doSell_22 (v := 1) rfl ?_
      refine lv_iload_n hx hb dX0_doSell_23 rfl (lv_at hL.1 3 rfl) ?_
      refine lv_iconst hx hb dX0_doSell_24 (v := 0) rfl ?_
      refine lv_iconst hx hb dX0_doSell_25 (v := 1) rfl ?_
      refine th_ki hS (th_rS CF hK hSt hR hS (rest := [.int 1, rv z4, rv z4]) (tk_X0_within) (cw_X0_82 CF hK (by decide +kernel)) hw rfl hL.1.1 rfl (th_ci (th_cr (th_cr th_cn))) (Nat.le_of_ble_eq_true rfl) dX0_doSell_26 ⟨by show _ ≤ (5 : Nat); omega, by show _ ≤ (32 : Nat); omega⟩) (fun r10 G9 H locs hw hR hS => ?_)
      obtain ⟨ha, hw⟩ := hw
      refine th_zast hx hb hK hR hS ha dX0_doSell_29 (fun G11 H locs hG hR hS => ?_)
      replace hw := hw G11 hG
      refine th_ki hS (th_rS CF hK hSt hR hS (rest := []) (tk_X0_all) (cw_X0_146 CF hK (by decide +kernel)) hw rfl hL.1.1 rfl th_cn (Nat.le_of_ble_eq_true rfl) dX0_doSell_30 ⟨by show _ ≤ (5 : Nat); omega, by show _ ≤ (32 : Nat); omega⟩) (fun r13 G12 H locs hw hR hS => ?_)
      refine lv_bipush hx hb dX0_doSell_33 (v := (-2)) rfl ?_
      refine th_Xkv hS (th_XrS CF hK hSt hR hS (rest := []) (tk_X0_want) (cw_X0_93 CF hK (by decide +kernel)) hw rfl hL.1.1 rfl th_cn (Nat.le_of_ble_eq_true rfl) dX0_doSell_35 ⟨by show _ ≤ (5 : Nat); omega, by show _ ≤ (32 : Nat); omega⟩) (fun e9 G9 H locs hw ho hR hS => ?_) (fun G14 H locs hw hR hS => ?_)
      · exact th_out hK hlk (by rw [htab]; decide) hR hS hw ho (by omega) (by omega)
      · skip
        refine th_aload_n hx hb dX0_doSell_38 rfl (lv_at hL.1 0 rfl) ?_
        obtain ⟨ho, hw⟩ := hw
        refine fg_X0_22 CF hK hR ho dX0_doSell_39 ?_
        obtain ⟨ho, hw⟩ := hw
        refine fg_X0_226 CF hK hR ho dX0_doSell_42 ?_
        refine lv_iload_n hx hb dX0_doSell_45 rfl (lv_at hL.1 1 rfl) ?_
        obtain ⟨ha, hw⟩ := hw
        refine th_aald hx hb hK 7 (by decide) rfl rfl hR ha dX0_doSell_46 ?_
        obtain ⟨a4_15, ha4_15⟩ : ∃ y : Nat, y = a_mr G14 (a_mr G14 (a_mr G14 a0 0) 4) x1.toNatClampNeg := ⟨_, rfl⟩
        replace hw := hw a4_15 ha4_15
        refine th_nmr ha4_15 ?_
        refine th_astore hx hb dX0_doSell_47 hL (by decide) rfl (fun ls hL => ?_)
        refine lv_iload_n hx hb dX0_doSell_49 rfl (lv_at hL.1 3 rfl) ?_
        refine lv_iload_n hx hb dX0_doSell_50 rfl (lv_at hL.1 4 rfl) ?_
        refine lv_iconst hx hb dX0_doSell_51 (v := 1) rfl ?_
        refine lv_icmp_ne hx hb dX0_doSell_52 (tgt := 60) (by decide) (fun h => ?_) (fun h => ?_)
        · replace hw := hw.1 h
          refine lv_bipush hx hb dX0_doSell_60 (v := 64) rfl ?_
          exact tk_X0_doSell_b62 E htab hR hS (hL.sub [1, 2, 3, 4, 0] rfl) hw ⟨by omega, by omega⟩
        · replace hw := hw.2 h
          refine lv_bipush hx hb dX0_doSell_55 (v := 72) rfl ?_
          refine lv_goto hx hb dX0_doSell_57 (tgt := 62) (by decide) ?_
          exact tk_X0_doSell_b62 E htab hR hS (hL.sub [1, 2, 3, 4, 0] rfl) hw ⟨by omega, by omega⟩)
def tw_X16_done (Q : Int32 → aH → Prop) (X : Nat → aH → Prop) (G : aH) (a0 : Nat) : Prop :=
  th_o G a0 16 ∧ (
  th_o G a0 16 ∧ (
  th_o G a0 16 ∧ (
  th_o G a0 16 ∧ (
  th_o G (a_mr G a0 3) 0 ∧ (
  (tw_X0_doSell
    (fun (r2 : Int32) (G1 : aH) =>
      Q r2 G1)
    X
    G (a_mr G a0 3) (a_mi G a0 0) (a_mi G a0 1) (a_mi G a0 2)))))))
theorem tk_X16_done {l : Launch} {D : tD} {B : Nat} {Q : Int32 → aH → Prop} {X : Nat → aH → Prop} {a0 : Nat} : vz_Met l yX16_done (ws_ yX16_done cX16_done 1 ((Option.some Jvm.ClassFile.FieldType.int))) rm_X16_done (th_P D B [rv a0] (fun G => tw_X16_done Q X G a0)) (th_Qi D B Q) (th_X D B X) 7 48 (th_A B) :=
  th_ofX (by decide +kernel) (th_cr th_cn) (Nat.le_of_ble_eq_true rfl) (fun p e s m args below meth c CF hret hlk hnm htab0 hK hSt G ls hR hS hw hL => by
    have E : th_E p m c cX16_done 1 s args RX16 meth ((Option.some Jvm.ClassFile.FieldType.int)) "done" D B := ⟨CF, hret, hlk, hnm, hK, hSt⟩
    have htab : c.exceptionTable.toList = tableOf [] := th_notab htab0
    have hx := CF.1; have hb := CF.2.1
    have hL : th_L ls 1 [(0, rv a0)] := hL
    unfold tw_X16_done at hw
    refine th_aload_n hx hb dX16_done_0 rfl (lv_at hL.1 0 rfl) ?_
    obtain ⟨ho, hw⟩ := hw
    refine fg_X16_1 CF hK hR ho dX16_done_1 ?_
    refine th_aload_n hx hb dX16_done_4 rfl (lv_at hL.1 0 rfl) ?_
    obtain ⟨ho, hw⟩ := hw
    refine fg_X16_13 CF hK hR ho dX16_done_5 ?_
    refine th_aload_n hx hb dX16_done_8 rfl (lv_at hL.1 0 rfl) ?_
    obtain ⟨ho, hw⟩ := hw
    refine fg_X16_17 CF hK hR ho dX16_done_9 ?_
    refine th_aload_n hx hb dX16_done_12 rfl (lv_at hL.1 0 rfl) ?_
    obtain ⟨ho, hw⟩ := hw
    refine fg_X16_20 CF hK hR ho dX16_done_13 ?_
    obtain ⟨ho, hw⟩ := hw
    refine th_Xki hS (th_XrVN CF hK hSt hR hS ho (ci := 0) rfl (rest := []) (tk_X0_doSell) (cw_X16_23 CF hK (by decide +kernel)) hw rfl hL.1.1 rfl th_cn (Nat.le_of_ble_eq_true rfl) dX16_done_16 ⟨by show _ ≤ (7 : Nat); omega, by show _ ≤ (48 : Nat); omega⟩) (fun e9 G9 H locs hw ho hR hS => ?_) (fun r2 G1 H locs hw hR hS => ?_)
    · exact th_out hK hlk (by rw [htab]; decide) hR hS hw ho (by omega) (by omega)
    · skip
      exact vz_ret (th_iret hx hb hret hlk hR hS hw (by omega) (by omega) dX16_done_19))
def tw_X17_done (Q : Int32 → aH → Prop) (X : Nat → aH → Prop) (G : aH) (a0 : Nat) : Prop :=
  th_o G a0 17 ∧ (
  th_o G a0 17 ∧ (
  th_o G (a_mr G a0 3) 0 ∧ (
  (tw_X0_doPass
    (fun (r2 : Int32) (G1 : aH) =>
      Q r2 G1)
    X
    G (a_mr G a0 3) (a_mi G a0 0)))))
theorem tk_X17_done {l : Launch} {D : tD} {B : Nat} {Q : Int32 → aH → Prop} {X : Nat → aH → Prop} {a0 : Nat} : vz_Met l yX17_done (ws_ yX17_done cX17_done 1 ((Option.some Jvm.ClassFile.FieldType.int))) rm_X17_done (th_P D B [rv a0] (fun G => tw_X17_done Q X G a0)) (th_Qi D B Q) (th_X D B X) 7 48 (th_A B) :=
  th_ofX (by decide +kernel) (th_cr th_cn) (Nat.le_of_ble_eq_true rfl) (fun p e s m args below meth c CF hret hlk hnm htab0 hK hSt G ls hR hS hw hL => by
    have E : th_E p m c cX17_done 1 s args RX17 meth ((Option.some Jvm.ClassFile.FieldType.int)) "done" D B := ⟨CF, hret, hlk, hnm, hK, hSt⟩
    have htab : c.exceptionTable.toList = tableOf [] := th_notab htab0
    have hx := CF.1; have hb := CF.2.1
    have hL : th_L ls 1 [(0, rv a0)] := hL
    unfold tw_X17_done at hw
    refine th_aload_n hx hb dX17_done_0 rfl (lv_at hL.1 0 rfl) ?_
    obtain ⟨ho, hw⟩ := hw
    refine fg_X17_1 CF hK hR ho dX17_done_1 ?_
    refine th_aload_n hx hb dX17_done_4 rfl (lv_at hL.1 0 rfl) ?_
    obtain ⟨ho, hw⟩ := hw
    refine fg_X17_13 CF hK hR ho dX17_done_5 ?_
    obtain ⟨ho, hw⟩ := hw
    refine th_Xki hS (th_XrVN CF hK hSt hR hS ho (ci := 0) rfl (rest := []) (tk_X0_doPass) (cw_X17_17 CF hK (by decide +kernel)) hw rfl hL.1.1 rfl th_cn (Nat.le_of_ble_eq_true rfl) dX17_done_8 ⟨by show _ ≤ (7 : Nat); omega, by show _ ≤ (48 : Nat); omega⟩) (fun e9 G9 H locs hw ho hR hS => ?_) (fun r2 G1 H locs hw hR hS => ?_)
    · exact th_out hK hlk (by rw [htab]; decide) hR hS hw ho (by omega) (by omega)
    · skip
      exact vz_ret (th_iret hx hb hret hlk hR hS hw (by omega) (by omega) dX17_done_11))
def tw_X18_done (Q : Int32 → aH → Prop) (X : Nat → aH → Prop) (G : aH) (a0 : Nat) : Prop :=
  th_o G a0 18 ∧ (
  th_o G a0 18 ∧ (
  th_o G (a_mr G a0 3) 0 ∧ (
  (tw_X0_doCat
    (fun (r2 : Int32) (G1 : aH) =>
      Q r2 G1)
    X
    G (a_mr G a0 3) (a_mi G a0 0)))))
theorem tk_X18_done {l : Launch} {D : tD} {B : Nat} {Q : Int32 → aH → Prop} {X : Nat → aH → Prop} {a0 : Nat} : vz_Met l yX18_done (ws_ yX18_done cX18_done 1 ((Option.some Jvm.ClassFile.FieldType.int))) rm_X18_done (th_P D B [rv a0] (fun G => tw_X18_done Q X G a0)) (th_Qi D B Q) (th_X D B X) 7 48 (th_A B) :=
  th_ofX (by decide +kernel) (th_cr th_cn) (Nat.le_of_ble_eq_true rfl) (fun p e s m args below meth c CF hret hlk hnm htab0 hK hSt G ls hR hS hw hL => by
    have E : th_E p m c cX18_done 1 s args RX18 meth ((Option.some Jvm.ClassFile.FieldType.int)) "done" D B := ⟨CF, hret, hlk, hnm, hK, hSt⟩
    have htab : c.exceptionTable.toList = tableOf [] := th_notab htab0
    have hx := CF.1; have hb := CF.2.1
    have hL : th_L ls 1 [(0, rv a0)] := hL
    unfold tw_X18_done at hw
    refine th_aload_n hx hb dX18_done_0 rfl (lv_at hL.1 0 rfl) ?_
    obtain ⟨ho, hw⟩ := hw
    refine fg_X18_1 CF hK hR ho dX18_done_1 ?_
    refine th_aload_n hx hb dX18_done_4 rfl (lv_at hL.1 0 rfl) ?_
    obtain ⟨ho, hw⟩ := hw
    refine fg_X18_13 CF hK hR ho dX18_done_5 ?_
    obtain ⟨ho, hw⟩ := hw
    refine th_Xki hS (th_XrVN CF hK hSt hR hS ho (ci := 0) rfl (rest := []) (tk_X0_doCat) (cw_X18_17 CF hK (by decide +kernel)) hw rfl hL.1.1 rfl th_cn (Nat.le_of_ble_eq_true rfl) dX18_done_8 ⟨by show _ ≤ (7 : Nat); omega, by show _ ≤ (48 : Nat); omega⟩) (fun e9 G9 H locs hw ho hR hS => ?_) (fun r2 G1 H locs hw hR hS => ?_)
    · exact th_out hK hlk (by rw [htab]; decide) hR hS hw ho (by omega) (by omega)
    · skip
      exact vz_ret (th_iret hx hb hret hlk hR hS hw (by omega) (by omega) dX18_done_11))
def tw_X0_doStop_b28 (Q : Int32 → aH → Prop) (X : Nat → aH → Prop) (G : aH) (a0 : Nat) (x1 : Int32) (tx0 : Int32) : Prop :=
  (tw_X0_allow
    (fun (G4 : aH) =>
      th_o G4 a0 0 ∧ (
      th_o G4 (a_mr G4 a0 0) 1 ∧ (
      th_ai G4 (a_mr G4 (a_mr G4 a0 0) 5) 8 x1 ∧ (
      th_o G4 (a_mr G4 (a_mr G4 (a_mr G4 a0 0) 5) x1.toNatClampNeg) 7 ∧ (
      th_o G4 (a_mr G4 (a_mr G4 (a_mr G4 a0 0) 5) x1.toNatClampNeg) 7 ∧ (
      ∀ G5 : aH, G5 = a_si G4 (a_mr G4 (a_mr G4 (a_mr G4 a0 0) 5) x1.toNatClampNeg) 0 ((a_mi G4 (a_mr G4 (a_mr G4 (a_mr G4 a0 0) 5) x1.toNatClampNeg) 0) - 1) → 
      th_o G5 a0 0 ∧ (
      th_o G5 (a_mr G5 a0 0) 1 ∧ (
      th_ai G5 (a_mr G5 (a_mr G5 a0 0) 5) 8 x1 ∧ (
      th_o G5 (a_mr G5 (a_mr G5 (a_mr G5 a0 0) 5) x1.toNatClampNeg) 7 ∧ (
      Q (a_mi G5 (a_mr G5 (a_mr G5 (a_mr G5 a0 0) 5) x1.toNatClampNeg) 0) G5))))))))))
    X
    G tx0 9 x1)
def tw_X0_doStop (Q : Int32 → aH → Prop) (X : Nat → aH → Prop) (G : aH) (a0 : Nat) (x1 : Int32) : Prop :=
  (tw_X0_isPlace
    (fun (r2 : Int32) (G1 : aH) =>
      (tw_X0_want
        (fun (G3 : aH) =>
          th_o G3 a0 0 ∧ (
          th_o G3 (a_mr G3 a0 0) 1 ∧ (
          th_ai G3 (a_mr G3 (a_mr G3 a0 0) 5) 8 x1 ∧ (
          th_o G3 (a_mr G3 (a_mr G3 (a_mr G3 a0 0) 5) x1.toNatClampNeg) 7 ∧ (
          (a_mi G3 (a_mr G3 (a_mr G3 (a_mr G3 a0 0) 5) x1.toNatClampNeg) 0 ≤ 0 →
            tw_X0_doStop_b28 Q X G3 a0 x1 0) ∧
          (¬ a_mi G3 (a_mr G3 (a_mr G3 (a_mr G3 a0 0) 5) x1.toNatClampNeg) 0 ≤ 0 →
            tw_X0_doStop_b28 Q X G3 a0 x1 1))))))
        X
        G1 r2 (-1)))
    G x1)
theorem tk_X0_doStop_b28 {p : Program} {l : Launch} {e : Env} {s : State} {m : MethodId} {args : Array Value} {below : List Frame} {meth : Method} {c : Code} {D : tD} {B : Nat} (E : th_E p m c cX0_doStop 2 s args RX0 meth ((Option.some Jvm.ClassFile.FieldType.int)) "doStop" D B) (htab : c.exceptionTable.toList = tableOf []) {Q : Int32 → aH → Prop} {X : Nat → aH → Prop} {G : aH} {H : Heap} {locs : List Loc} {cells slots : Nat} {ls : Array Slot} {a0 : Nat} {x1 : Int32} {tx0 : Int32} (hR : th_H D B G H) (hS : va_S (th_A B) s.heap H locs) (hL : th_L ls 2 [(0, rv a0), (1, .int x1)]) (hw : tw_X0_doStop_b28 Q X G a0 x1 tx0) (hc : cells + (1) ≤ 2 ∧ slots + (8) ≤ 15) : W p l e rm_X0_doStop s m args below meth c H locs cells slots (vz_MQ below (th_Qi D B Q) (th_X D B X) args s 2 15 (th_A B)) (F0 m 28 ls [.int tx0]) := by
  have CF := E.1; have hx := CF.1; have hb := CF.2.1; have hret := E.2.1; have hlk := E.2.2.1; have hnm := E.2.2.2.1; have hK := E.2.2.2.2.1; have hSt := E.2.2.2.2.2
  unfold tw_X0_doStop_b28 at hw
  refine lv_bipush hx hb dX0_doStop_28 (v := 9) rfl ?_
  refine lv_iload_n hx hb dX0_doStop_30 rfl (lv_at hL.1 1 rfl) ?_
  refine th_Xkv hS (th_XrS CF hK hSt hR hS (rest := []) (tk_X0_allow) (cw_X0_97 CF hK (by decide +kernel)) hw rfl hL.1.1 rfl th_cn (Nat.le_of_ble_eq_true rfl) dX0_doStop_31 ⟨by show _ ≤ (2 : Nat); omega, by show _ ≤ (15 : Nat); omega⟩) (fun e9 G9 H locs hw ho hR hS => ?_) (fun G4 H locs hw hR hS => ?_)
  · exact th_out hK hlk (by rw [htab]; decide) hR hS hw ho (by omega) (by omega)
  · skip
    refine th_aload_n hx hb dX0_doStop_34 rfl (lv_at hL.1 0 rfl) ?_
    obtain ⟨ho, hw⟩ := hw
    refine fg_X0_22 CF hK hR ho dX0_doStop_35 ?_
    obtain ⟨ho, hw⟩ := hw
    refine fg_X0_241 CF hK hR ho dX0_doStop_38 ?_
    refine lv_iload_n hx hb dX0_doStop_41 rfl (lv_at hL.1 1 rfl) ?_
    obtain ⟨ha, hw⟩ := hw
    refine th_aald hx hb hK 8 (by decide) rfl rfl hR ha dX0_doStop_42 ?_
    refine lv_dup hx hb dX0_doStop_43 (rv_cat _) ?_
    obtain ⟨ho, hw⟩ := hw
    refine fg_X0_268 CF hK hR ho dX0_doStop_44 ?_
    refine lv_iconst hx hb dX0_doStop_47 (v := 1) rfl ?_
    refine lv_isub hx hb dX0_doStop_48 ?_
    obtain ⟨ho, hw⟩ := hw
    refine fp_X0_268 CF hK hR hS ho dX0_doStop_49 (fun G5 H locs hG hR hS => ?_)
    replace hw := hw G5 hG
    refine th_aload_n hx hb dX0_doStop_52 rfl (lv_at hL.1 0 rfl) ?_
    obtain ⟨ho, hw⟩ := hw
    refine fg_X0_22 CF hK hR ho dX0_doStop_53 ?_
    obtain ⟨ho, hw⟩ := hw
    refine fg_X0_241 CF hK hR ho dX0_doStop_56 ?_
    refine lv_iload_n hx hb dX0_doStop_59 rfl (lv_at hL.1 1 rfl) ?_
    obtain ⟨ha, hw⟩ := hw
    refine th_aald hx hb hK 8 (by decide) rfl rfl hR ha dX0_doStop_60 ?_
    obtain ⟨ho, hw⟩ := hw
    refine fg_X0_268 CF hK hR ho dX0_doStop_61 ?_
    exact vz_ret (th_iret hx hb hret hlk hR hS hw (by omega) (by omega) dX0_doStop_64)
theorem tk_X0_doStop {l : Launch} {D : tD} {B : Nat} {Q : Int32 → aH → Prop} {X : Nat → aH → Prop} {a0 : Nat} {x1 : Int32} : vz_Met l yX0_doStop (ws_ yX0_doStop cX0_doStop 2 ((Option.some Jvm.ClassFile.FieldType.int))) rm_X0_doStop (th_P D B [rv a0, .int x1] (fun G => tw_X0_doStop Q X G a0 x1)) (th_Qi D B Q) (th_X D B X) 2 15 (th_A B) :=
  th_ofX (by decide +kernel) (th_cr (th_ci th_cn)) (Nat.le_of_ble_eq_true rfl) (fun p e s m args below meth c CF hret hlk hnm htab0 hK hSt G ls hR hS hw hL => by
    have E : th_E p m c cX0_doStop 2 s args RX0 meth ((Option.some Jvm.ClassFile.FieldType.int)) "doStop" D B := ⟨CF, hret, hlk, hnm, hK, hSt⟩
    have htab : c.exceptionTable.toList = tableOf [] := th_notab htab0
    have hx := CF.1; have hb := CF.2.1
    have hL : th_L ls 2 [(0, rv a0), (1, .int x1)] := hL
    unfold tw_X0_doStop at hw
    refine lv_iload_n hx hb dX0_doStop_0 rfl (lv_at hL.1 1 rfl) ?_
    refine th_ki hS (th_rS CF hK hSt hR hS (rest := []) (tk_X0_isPlace) (cw_X0_265 CF hK (by decide +kernel)) hw rfl hL.1.1 rfl th_cn (Nat.le_of_ble_eq_true rfl) dX0_doStop_1 ⟨by show _ ≤ (2 : Nat); omega, by show _ ≤ (15 : Nat); omega⟩) (fun r2 G1 H locs hw hR hS => ?_)
    refine lv_iconst hx hb dX0_doStop_4 (v := (-1)) rfl ?_
    refine th_Xkv hS (th_XrS CF hK hSt hR hS (rest := []) (tk_X0_want) (cw_X0_93 CF hK (by decide +kernel)) hw rfl hL.1.1 rfl th_cn (Nat.le_of_ble_eq_true rfl) dX0_doStop_5 ⟨by show _ ≤ (2 : Nat); omega, by show _ ≤ (15 : Nat); omega⟩) (fun e9 G9 H locs hw ho hR hS => ?_) (fun G3 H locs hw hR hS => ?_)
    · exact th_out hK hlk (by rw [htab]; decide) hR hS hw ho (by omega) (by omega)
    · skip
      refine th_aload_n hx hb dX0_doStop_8 rfl (lv_at hL.1 0 rfl) ?_
      obtain ⟨ho, hw⟩ := hw
      refine fg_X0_22 CF hK hR ho dX0_doStop_9 ?_
      obtain ⟨ho, hw⟩ := hw
      refine fg_X0_241 CF hK hR ho dX0_doStop_12 ?_
      refine lv_iload_n hx hb dX0_doStop_15 rfl (lv_at hL.1 1 rfl) ?_
      obtain ⟨ha, hw⟩ := hw
      refine th_aald hx hb hK 8 (by decide) rfl rfl hR ha dX0_doStop_16 ?_
      obtain ⟨ho, hw⟩ := hw
      refine fg_X0_268 CF hK hR ho dX0_doStop_17 ?_
      refine lv_if_le hx hb dX0_doStop_20 (tgt := 27) (by decide) (fun h => ?_) (fun h => ?_)
      · replace hw := hw.1 h
        refine lv_iconst hx hb dX0_doStop_27 (v := 0) rfl ?_
        exact tk_X0_doStop_b28 E htab hR hS (hL.sub [0, 1] rfl) hw ⟨by omega, by omega⟩
      · replace hw := hw.2 h
        refine lv_iconst hx hb dX0_doStop_23 (v := 1) rfl ?_
        refine lv_goto hx hb dX0_doStop_24 (tgt := 28) (by decide) ?_
        exact tk_X0_doStop_b28 E htab hR hS (hL.sub [0, 1] rfl) hw ⟨by omega, by omega⟩)
