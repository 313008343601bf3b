/-! WALKS: X19_done X0_doScript X0_script X0_sell X0_doSettle X0_settle X0_share X0_stop X0_thresh X0_tithe X0_titheAgain X0_undo X0_written X8_of X8_dueOf X8_total -/
set_option maxRecDepth 100000
def tw_X19_done (Q : Int32 → aH → Prop) (X : Nat → aH → Prop) (G : aH) (a0 : Nat) : Prop :=
  th_o G a0 19 ∧ (
  th_o G a0 19 ∧ (
  th_o G (a_mr G a0 3) 0 ∧ (
  (tw_X0_doStop
    (fun (r2 : Int32) (G1 : aH) =>
      Q r2 G1)
    X
    G (a_mr G a0 3) (a_mi G a0 0)))))
theorem tk_X19_done {l : Launch} {D : tD} {B : Nat} {Q : Int32 → aH → Prop} {X : Nat → aH → Prop} {a0 : Nat} : vz_Met l yX19_done (ws_ yX19_done cX19_done 1 ((Option.some Jvm.ClassFile.FieldType.int))) rm_X19_done (th_P D B [rv a0] (fun G => tw_X19_done Q X G a0)) (th_Qi D B Q) (th_X D B X) 7 48 (th_A B) :=
  th_ofX (by decide +kernel) (th_cr th_cn) (Nat.le_of_ble_eq_true rfl) (fun p e s m args below meth c CF hret hlk hnm htab0 hK hSt G ls hR hS hw hL => by
    have E : th_E p m c cX19_done 1 s args RX19 meth ((Option.some Jvm.ClassFile.FieldType.int)) "done" D B := ⟨CF, hret, hlk, hnm, hK, hSt⟩
    have htab : c.exceptionTable.toList = tableOf [] := th_notab htab0
    have hx := CF.1; have hb := CF.2.1
    have hL : th_L ls 1 [(0, rv a0)] := hL
    unfold tw_X19_done at hw
    refine th_aload_n hx hb dX19_done_0 rfl (lv_at hL.1 0 rfl) ?_
    obtain ⟨ho, hw⟩ := hw
    refine fg_X19_1 CF hK hR ho dX19_done_1 ?_
    refine th_aload_n hx hb dX19_done_4 rfl (lv_at hL.1 0 rfl) ?_
    obtain ⟨ho, hw⟩ := hw
    refine fg_X19_13 CF hK hR ho dX19_done_5 ?_
    obtain ⟨ho, hw⟩ := hw
    refine th_Xki hS (th_XrVN CF hK hSt hR hS ho (ci := 0) rfl (rest := []) (tk_X0_doStop) (cw_X19_17 CF hK (by decide +kernel)) hw rfl hL.1.1 rfl th_cn (Nat.le_of_ble_eq_true rfl) dX19_done_8 ⟨by show _ ≤ (7 : Nat); omega, by show _ ≤ (48 : Nat); omega⟩) (fun e9 G9 H locs hw ho hR hS => ?_) (fun r2 G1 H locs hw hR hS => ?_)
    · exact th_out hK hlk (by rw [htab]; decide) hR hS hw ho (by omega) (by omega)
    · skip
      exact vz_ret (th_iret hx hb hret hlk hR hS hw (by omega) (by omega) dX19_done_11))
def tw_X0_doScript_b2 (Q : Int32 → aH → Prop) (X : Nat → aH → Prop) : Nat → aH → Nat → Int32 → Prop := fun n => Nat.rec (motive := fun _ => aH → Nat → Int32 → Prop) (fun _ _ _ => False) (fun _ ih G a0 x1 =>
  th_o G a0 0 ∧ (
  (a_mi G a0 12 ≤ x1 →
    th_o G a0 0 ∧ (
    Q (a_mi G a0 12) G)) ∧
  (¬ a_mi G a0 12 ≤ x1 →
    th_o G a0 0 ∧ (
    th_ai G (a_mr G a0 11) 10 x1 ∧ (
    ∃ (K9 : Int32 → aH → Prop) (X9 : Nat → aH → Prop), 
    ((th_o G (a_mr G (a_mr G a0 11) x1.toNatClampNeg) 13 ∧ tw_X13_done K9 X9 G (a_mr G (a_mr G a0 11) x1.toNatClampNeg)) ∨ (th_o G (a_mr G (a_mr G a0 11) x1.toNatClampNeg) 14 ∧ tw_X14_done K9 X9 G (a_mr G (a_mr G a0 11) x1.toNatClampNeg)) ∨ (th_o G (a_mr G (a_mr G a0 11) x1.toNatClampNeg) 15 ∧ tw_X15_done K9 X9 G (a_mr G (a_mr G a0 11) x1.toNatClampNeg)) ∨ (th_o G (a_mr G (a_mr G a0 11) x1.toNatClampNeg) 16 ∧ tw_X16_done K9 X9 G (a_mr G (a_mr G a0 11) x1.toNatClampNeg)) ∨ (th_o G (a_mr G (a_mr G a0 11) x1.toNatClampNeg) 17 ∧ tw_X17_done K9 X9 G (a_mr G (a_mr G a0 11) x1.toNatClampNeg)) ∨ (th_o G (a_mr G (a_mr G a0 11) x1.toNatClampNeg) 18 ∧ tw_X18_done K9 X9 G (a_mr G (a_mr G a0 11) x1.toNatClampNeg)) ∨ (th_o G (a_mr G (a_mr G a0 11) x1.toNatClampNeg) 19 ∧ tw_X19_done K9 X9 G (a_mr G (a_mr G a0 11) x1.toNatClampNeg))) ∧ (
    (∀ (r2 : Int32) (G1 : aH), K9 r2 G1 → 
      ∀ x1_3 : Int32, x1_3 = x1 + 1 → 
      ih G1 a0 x1_3) ∧
    (∀ (e4 : Nat) (G5 : aH), X9 e4 G5 → 
      (th_o G5 e4 9 ∧ (
        ∀ z6 : Nat, z6 = a_sz G5 → ∀ G7 : aH, G7 = a_nw G5 (10 + 1) 0 → 
        (a_sh G7 z6).1 ≠ 0 ∧ (
        (tw_X10_init
          (fun (G8 : aH) =>
            th_oo G8 z6 [9, 10, 11] ∧ (
            X z6 G8))
          G7 z6 11 x1)))) ∨
      (th_o G5 e4 10 ∧ (
        ∀ z9 : Nat, z9 = a_sz G5 → ∀ G10 : aH, G10 = a_nw G5 (10 + 1) 0 → 
        (a_sh G10 z9).1 ≠ 0 ∧ (
        (tw_X10_init_2
          (fun (G11 : aH) =>
            th_oo G11 z9 [9, 10, 11] ∧ (
            X z9 G11))
          G10 z9 11 x1 e4))))))))))) n
theorem tws_X0_doScript_b2 (Q : Int32 → aH → Prop) (X : Nat → aH → Prop) (n : Nat) (G : aH) (a0 : Nat) (x1 : Int32) : tw_X0_doScript_b2 Q X (n + 1) G a0 x1 = (
  th_o G a0 0 ∧ (
  (a_mi G a0 12 ≤ x1 →
    th_o G a0 0 ∧ (
    Q (a_mi G a0 12) G)) ∧
  (¬ a_mi G a0 12 ≤ x1 →
    th_o G a0 0 ∧ (
    th_ai G (a_mr G a0 11) 10 x1 ∧ (
    ∃ (K9 : Int32 → aH → Prop) (X9 : Nat → aH → Prop), 
    ((th_o G (a_mr G (a_mr G a0 11) x1.toNatClampNeg) 13 ∧ tw_X13_done K9 X9 G (a_mr G (a_mr G a0 11) x1.toNatClampNeg)) ∨ (th_o G (a_mr G (a_mr G a0 11) x1.toNatClampNeg) 14 ∧ tw_X14_done K9 X9 G (a_mr G (a_mr G a0 11) x1.toNatClampNeg)) ∨ (th_o G (a_mr G (a_mr G a0 11) x1.toNatClampNeg) 15 ∧ tw_X15_done K9 X9 G (a_mr G (a_mr G a0 11) x1.toNatClampNeg)) ∨ (th_o G (a_mr G (a_mr G a0 11) x1.toNatClampNeg) 16 ∧ tw_X16_done K9 X9 G (a_mr G (a_mr G a0 11) x1.toNatClampNeg)) ∨ (th_o G (a_mr G (a_mr G a0 11) x1.toNatClampNeg) 17 ∧ tw_X17_done K9 X9 G (a_mr G (a_mr G a0 11) x1.toNatClampNeg)) ∨ (th_o G (a_mr G (a_mr G a0 11) x1.toNatClampNeg) 18 ∧ tw_X18_done K9 X9 G (a_mr G (a_mr G a0 11) x1.toNatClampNeg)) ∨ (th_o G (a_mr G (a_mr G a0 11) x1.toNatClampNeg) 19 ∧ tw_X19_done K9 X9 G (a_mr G (a_mr G a0 11) x1.toNatClampNeg))) ∧ (
    (∀ (r2 : Int32) (G1 : aH), K9 r2 G1 → 
      ∀ x1_3 : Int32, x1_3 = x1 + 1 → 
      tw_X0_doScript_b2 Q X n G1 a0 x1_3) ∧
    (∀ (e4 : Nat) (G5 : aH), X9 e4 G5 → 
      (th_o G5 e4 9 ∧ (
        ∀ z6 : Nat, z6 = a_sz G5 → ∀ G7 : aH, G7 = a_nw G5 (10 + 1) 0 → 
        (a_sh G7 z6).1 ≠ 0 ∧ (
        (tw_X10_init
          (fun (G8 : aH) =>
            th_oo G8 z6 [9, 10, 11] ∧ (
            X z6 G8))
          G7 z6 11 x1)))) ∨
      (th_o G5 e4 10 ∧ (
        ∀ z9 : Nat, z9 = a_sz G5 → ∀ G10 : aH, G10 = a_nw G5 (10 + 1) 0 → 
        (a_sh G10 z9).1 ≠ 0 ∧ (
        (tw_X10_init_2
          (fun (G11 : aH) =>
            th_oo G11 z9 [9, 10, 11] ∧ (
            X z9 G11))
          G10 z9 11 x1 e4))))))))))) := rfl
def tw_X0_doScript (Q : Int32 → aH → Prop) (X : Nat → aH → Prop) (G : aH) (a0 : Nat) : Prop :=
  tw_X0_doScript_b2 Q X 31 G a0 0
theorem tk_X0_doScript_b2 {p : Program} {l : Launch} {e : Env} {s : State} {m : MethodId} {args : Array Value} {below : List Frame} {meth : Method} {c : Code} {D : tD} {B : Nat} (E : th_E p m c cX0_doScript 3 s args RX0 meth ((Option.some Jvm.ClassFile.FieldType.int)) "doScript" D B) (htab : c.exceptionTable.toList = tableOf [((10 : Nat), (20 : Nat), (23 : Nat), (3 : Nat)), ((10 : Nat), (20 : Nat), (35 : Nat), (9 : Nat))]) {Q : Int32 → aH → Prop} {X : Nat → aH → Prop} : ∀ (n : Nat) {G : aH} {H : Heap} {locs : List Loc} {cells slots : Nat} {ls : Array Slot} {a0 : Nat} {x1 : Int32} (hR : th_H D B G H) (hS : va_S (th_A B) s.heap H locs) (hL : th_L ls 3 [(0, rv a0), (1, .int x1)]) (hw : tw_X0_doScript_b2 Q X n G a0 x1) (hc : cells + (n * 7 + 8) ≤ 225 ∧ slots + (n * 48 + 56) ≤ 1544), W p l e rm_X0_doScript s m args below meth c H locs cells slots (vz_MQ below (th_Qi D B Q) (th_X D B X) args s 225 1544 (th_A B)) (F0 m 2 ls []) := by
  have CF := E.1; have hx := CF.1; have hb := CF.2.1; have hret := E.2.1; have hlk := E.2.2.1; have hnm := E.2.2.2.1; have hK := E.2.2.2.2.1; have hSt := E.2.2.2.2.2
  intro n
  induction n with
  | zero => intro _ _ _ _ _ _ _ _ _ _ _ hw; exact hw.elim
  | succ n ih =>
    intro G H locs cells slots ls a0 x1 hR hS hL hw hc
    rw [tws_X0_doScript_b2] at hw
    refine lv_iload_n hx hb dX0_doScript_2 rfl (lv_at hL.1 1 rfl) ?_
    refine th_aload_n hx hb dX0_doScript_3 rfl (lv_at hL.1 0 rfl) ?_
    obtain ⟨ho, hw⟩ := hw
    refine fg_X0_361 CF hK hR ho dX0_doScript_4 ?_
    refine lv_icmp_ge hx hb dX0_doScript_7 (tgt := 54) (by decide) (fun h => ?_) (fun h => ?_)
    · replace hw := hw.1 h
      refine th_aload_n hx hb dX0_doScript_54 rfl (lv_at hL.1 0 rfl) ?_
      obtain ⟨ho, hw⟩ := hw
      refine fg_X0_361 CF hK hR ho dX0_doScript_55 ?_
      exact vz_ret (th_iret hx hb hret hlk hR hS hw (by omega) (by omega) dX0_doScript_58)
    · replace hw := hw.2 h
      refine th_aload_n hx hb dX0_doScript_10 rfl (lv_at hL.1 0 rfl) ?_
      obtain ⟨ho, hw⟩ := hw
      refine fg_X0_55 CF hK hR ho dX0_doScript_11 ?_
      refine lv_iload_n hx hb dX0_doScript_14 rfl (lv_at hL.1 1 rfl) ?_
      obtain ⟨ha, hw⟩ := hw
      refine th_aald hx hb hK 10 (by decide) rfl rfl hR ha dX0_doScript_15 ?_
      obtain ⟨K9, X9, hr9, hkk, hxx⟩ := hw
      have hrun : vz_Run p l e rm_X0_doScript s m args below meth c H locs (cells) (slots) 7 48 (F0 m 16 ls [rv (a_mr G (a_mr G a0 11) x1.toNatClampNeg)]) [] (th_Qi D B K9 (#[rv (a_mr G (a_mr G a0 11) x1.toNatClampNeg)] : Array Value)) (th_X D B X9) (th_A B) := by
        rcases hr9 with ⟨ho, hw⟩ | ⟨ho, hw⟩ | ⟨ho, hw⟩ | ⟨ho, hw⟩ | ⟨ho, hw⟩ | ⟨ho, hw⟩ | ⟨ho, hw⟩
        · exact th_XrU CF hK hSt hR hS ho (ci := 13) rfl (rest := []) (tk_X13_done) (cw_X0_370_13 CF hK (by decide +kernel)) hw rfl hL.1.1 rfl th_cn (Nat.le_of_ble_eq_true rfl) dX0_doScript_16 ⟨by show _ ≤ (225 : Nat); omega, by show _ ≤ (1544 : Nat); omega⟩
        · exact th_XrU CF hK hSt hR hS ho (ci := 14) rfl (rest := []) (tk_X14_done) (cw_X0_370_14 CF hK (by decide +kernel)) hw rfl hL.1.1 rfl th_cn (Nat.le_of_ble_eq_true rfl) dX0_doScript_16 ⟨by show _ ≤ (225 : Nat); omega, by show _ ≤ (1544 : Nat); omega⟩
        · exact th_XrU CF hK hSt hR hS ho (ci := 15) rfl (rest := []) (tk_X15_done) (cw_X0_370_15 CF hK (by decide +kernel)) hw rfl hL.1.1 rfl th_cn (Nat.le_of_ble_eq_true rfl) dX0_doScript_16 ⟨by show _ ≤ (225 : Nat); omega, by show _ ≤ (1544 : Nat); omega⟩
        · exact th_XrU CF hK hSt hR hS ho (ci := 16) rfl (rest := []) (tk_X16_done) (cw_X0_370_16 CF hK (by decide +kernel)) hw rfl hL.1.1 rfl th_cn (Nat.le_of_ble_eq_true rfl) dX0_doScript_16 ⟨by show _ ≤ (225 : Nat); omega, by show _ ≤ (1544 : Nat); omega⟩
        · exact th_XrU CF hK hSt hR hS ho (ci := 17) rfl (rest := []) (tk_X17_done) (cw_X0_370_17 CF hK (by decide +kernel)) hw rfl hL.1.1 rfl th_cn (Nat.le_of_ble_eq_true rfl) dX0_doScript_16 ⟨by show _ ≤ (225 : Nat); omega, by show _ ≤ (1544 : Nat); omega⟩
        · exact th_XrU CF hK hSt hR hS ho (ci := 18) rfl (rest := []) (tk_X18_done) (cw_X0_370_18 CF hK (by decide +kernel)) hw rfl hL.1.1 rfl th_cn (Nat.le_of_ble_eq_true rfl) dX0_doScript_16 ⟨by show _ ≤ (225 : Nat); omega, by show _ ≤ (1544 : Nat); omega⟩
        · exact th_XrU CF hK hSt hR hS ho (ci := 19) rfl (rest := []) (tk_X19_done) (cw_X0_370_19 CF hK (by decide +kernel)) hw rfl hL.1.1 rfl th_cn (Nat.le_of_ble_eq_true rfl) dX0_doScript_16 ⟨by show _ ≤ (225 : Nat); omega, by show _ ≤ (1544 : Nat); omega⟩
      refine th_Xki hS hrun (fun e4 G5 H locs hw ho hR hS => ?_) (fun r2 G1 H locs hw hR hS => ?_)
      · replace hw := hxx e4 G5 hw
        rcases hw with hw | hw
        · obtain ⟨hk, hw⟩ := hw
          refine th_catch (ci := 9) (nm := "TitheBarn$Wrong") CF.2.2.2.1 hK hR hk rfl htab [] (⟨10, 20, 23, 3⟩ : ExceptionTableEntry) [(⟨10, 20, 35, 9⟩ : ExceptionTableEntry)] rfl (by intro z hz; cases hz) rfl (by decide) (CF.2.2.2.2 _ q466) q517 ?_
          refine th_astore_n hx hb dX0_doScript_23 rfl hL (by decide) rfl (fun ls hL => ?_)
          refine fn_X0_9 CF hK hR hS (by show _ ≤ (225 : Nat); omega) (by show _ ≤ (1544 : Nat); omega) dX0_doScript_24 (fun z6 G7 H hz hG hR hS => ?_)
          replace hw := hw z6 hz G7 hG
          refine lv_dup hx hb dX0_doScript_27 (rv_cat _) ?_
          refine lv_bipush hx hb dX0_doScript_28 (v := 11) rfl ?_
          refine lv_iload_n hx hb dX0_doScript_30 rfl (lv_at hL.1 2 rfl) ?_
          obtain ⟨h0, hw⟩ := hw
          refine th_kv hS (th_rI CF hK hSt hR hS h0 (rest := [rv z6]) (tk_X10_init) (cw_X0_11 CF hK (by decide +kernel)) hw rfl hL.1.1 rfl (th_cr th_cn) (Nat.le_of_ble_eq_true rfl) dX0_doScript_31 ⟨by show _ ≤ (225 : Nat); omega, by show _ ≤ (1544 : Nat); omega⟩) (fun G8 H locs hw hR hS => ?_)
          obtain ⟨ho, hw⟩ := hw
          refine th_athrowo hx hb hR ho dX0_doScript_34 ?_
          exact th_out hK hlk (by rw [htab]; decide) hR hS hw ho (by omega) (by omega)
        · obtain ⟨hk, hw⟩ := hw
          refine th_catch (ci := 10) (nm := "TitheBarn$Refused") CF.2.2.2.1 hK hR hk rfl htab [(⟨10, 20, 23, 3⟩ : ExceptionTableEntry)] (⟨10, 20, 35, 9⟩ : ExceptionTableEntry) [] rfl (by intro z hz; rw [List.mem_singleton.mp hz]; exact Or.inr ⟨by decide, _, CF.2.2.2.2 _ q466, hK.2.2.2.2.1⟩) rfl (by decide) (CF.2.2.2.2 _ q467) q585 ?_
          refine th_astore_n hx hb dX0_doScript_35 rfl hL (by decide) rfl (fun ls hL => ?_)
          refine fn_X0_9 CF hK hR hS (by show _ ≤ (225 : Nat); omega) (by show _ ≤ (1544 : Nat); omega) dX0_doScript_36 (fun z9 G10 H hz hG hR hS => ?_)
          replace hw := hw z9 hz G10 hG
          refine lv_dup hx hb dX0_doScript_39 (rv_cat _) ?_
          refine lv_bipush hx hb dX0_doScript_40 (v := 11) rfl ?_
          refine lv_iload_n hx hb dX0_doScript_42 rfl (lv_at hL.1 2 rfl) ?_
          refine th_aload_n hx hb dX0_doScript_43 rfl (lv_at hL.1 0 rfl) ?_
          obtain ⟨h0, hw⟩ := hw
          refine th_kv hS (th_rI CF hK hSt hR hS h0 (rest := [rv z9]) (tk_X10_init_2) (cw_X0_161 CF hK (by decide +kernel)) hw rfl hL.1.1 rfl (th_cr th_cn) (Nat.le_of_ble_eq_true rfl) dX0_doScript_44 ⟨by show _ ≤ (225 : Nat); omega, by show _ ≤ (1544 : Nat); omega⟩) (fun G11 H locs hw hR hS => ?_)
          obtain ⟨ho, hw⟩ := hw
          refine th_athrowo hx hb hR ho dX0_doScript_47 ?_
          exact th_out hK hlk (by rw [htab]; decide) hR hS hw ho (by omega) (by omega)
      · replace hw := hkk r2 G1 hw
        refine th_istore_n hx hb dX0_doScript_19 rfl hL (by decide) rfl (fun ls hL => ?_)
        refine lv_goto hx hb dX0_doScript_20 (tgt := 48) (by decide) ?_
        obtain ⟨x1_3, hx1_3⟩ : ∃ y : Int32, y = x1 + 1 := ⟨_, rfl⟩
        replace hw := hw x1_3 hx1_3
        refine th_iinc hx hb dX0_doScript_48 hL (k := 2) rfl (v := x1_3) hx1_3.symm (by decide) rfl (fun ls hL => ?_)
        refine lv_goto hx hb dX0_doScript_51 (tgt := 2) (by decide) ?_
        exact ih hR hS (hL.sub [2, 0] rfl) hw ⟨by omega, by omega⟩
theorem tk_X0_doScript {l : Launch} {D : tD} {B : Nat} {Q : Int32 → aH → Prop} {X : Nat → aH → Prop} {a0 : Nat} : vz_Met l yX0_doScript (wsW_ yX0_doScript cX0_doScript 3 ((Option.some Jvm.ClassFile.FieldType.int)) [((10 : Nat), (20 : Nat), (23 : Nat), (3 : Nat)), ((10 : Nat), (20 : Nat), (35 : Nat), (9 : Nat))]) rm_X0_doScript (th_P D B [rv a0] (fun G => tw_X0_doScript Q X G a0)) (th_Qi D B Q) (th_X D B X) 225 1544 (th_A B) :=
  th_ofXH (by decide +kernel) (th_cr th_cn) (Nat.le_of_ble_eq_true rfl) (fun p e s m args below meth c CF hret hlk hnm htab0 hK hSt G ls hR hS hw hL => by
    have E : th_E p m c cX0_doScript 3 s args RX0 meth ((Option.some Jvm.ClassFile.FieldType.int)) "doScript" D B := ⟨CF, hret, hlk, hnm, hK, hSt⟩
    have htab : c.exceptionTable.toList = tableOf [((10 : Nat), (20 : Nat), (23 : Nat), (3 : Nat)), ((10 : Nat), (20 : Nat), (35 : Nat), (9 : Nat))] := htab0
    have hx := CF.1; have hb := CF.2.1
    have hL : th_L ls 3 [(0, rv a0)] := hL
    unfold tw_X0_doScript at hw
    refine lv_iconst hx hb dX0_doScript_0 (v := 0) rfl ?_
    refine th_istore_n hx hb dX0_doScript_1 rfl hL (by decide) rfl (fun ls hL => ?_)
    exact tk_X0_doScript_b2 E htab 31 hR hS (hL.sub [1, 0] rfl) hw ⟨by omega, by omega⟩)
def tw_X0_script (Q : Int32 → aH → Prop) (G : aH) (a0 : Nat) : Prop :=
  th_o G a0 0 ∧ (
  (tw_X0_readsScript
    (fun (r2 : Int32) (G1 : aH) =>
      (¬ r2 = 0 →
        th_o G1 a0 0 ∧ (
        (tw_X0_begins
          (fun (G3 : aH) =>
            th_o G3 a0 0 ∧ (
            (tw_X0_doScript
              (fun (r5 : Int32) (G4 : aH) =>
                th_o G4 a0 0 ∧ (
                (tw_X0_changed
                  (fun (r7 : Int32) (G6 : aH) =>
                    Q r7 G6)
                  G4 a0 r5)))
              (fun (e8 : Nat) (G9 : aH) =>
                (th_o G9 e8 10 ∧ (
                  th_o G9 a0 0 ∧ (
                  (tw_X0_notDone
                    (fun (r11 : Int32) (G10 : aH) =>
                      Q r11 G10)
                    G9 a0 e8)))))
              G3 a0)))
          G1 a0))) ∧
      (r2 = 0 →
        Q (-2) G1))
    G a0))
theorem tk_X0_script {l : Launch} {D : tD} {B : Nat} {Q : Int32 → aH → Prop} {a0 : Nat} : vz_Met l yX0_script (wsW_ yX0_script cX0_script 2 ((Option.some Jvm.ClassFile.FieldType.int)) [((14 : Nat), (22 : Nat), (23 : Nat), (9 : Nat))]) rm_X0_script (th_P D B [rv a0] (fun G => tw_X0_script Q G a0)) (th_Qi D B Q) (th_X D B (fun _ _ => False)) 1342 8122 (th_A B) :=
  th_ofXH (by decide +kernel) (th_cr th_cn) (Nat.le_of_ble_eq_true rfl) (fun p e s m args below meth c CF hret hlk hnm htab0 hK hSt G ls hR hS hw hL => by
    have E : th_E p m c cX0_script 2 s args RX0 meth ((Option.some Jvm.ClassFile.FieldType.int)) "script" D B := ⟨CF, hret, hlk, hnm, hK, hSt⟩
    have htab : c.exceptionTable.toList = tableOf [((14 : Nat), (22 : Nat), (23 : Nat), (9 : Nat))] := htab0
    have hx := CF.1; have hb := CF.2.1
    have hL : th_L ls 2 [(0, rv a0)] := hL
    unfold tw_X0_script at hw
    refine th_aload_n hx hb dX0_script_0 rfl (lv_at hL.1 0 rfl) ?_
    obtain ⟨ho, hw⟩ := hw
    refine th_Xki hS (th_XrVX CF hK hSt hR hS ho (ci := 0) rfl (rest := []) (tk_X0_readsScript) (cw_X0_373 CF hK (by decide +kernel)) hw rfl hL.1.1 rfl th_cn (Nat.le_of_ble_eq_true rfl) dX0_script_1 ⟨by show _ ≤ (1342 : Nat); omega, by show _ ≤ (8122 : Nat); omega⟩) (fun e9 G9 H locs hw ho hR hS => ?_) (fun r2 G1 H locs hw hR hS => ?_)
    · exact absurd hw id
    · skip
      refine lv_if_ne hx hb dX0_script_4 (tgt := 10) (by decide) (fun h => ?_) (fun h => ?_)
      · replace hw := hw.1 h
        refine th_aload_n hx hb dX0_script_10 rfl (lv_at hL.1 0 rfl) ?_
        obtain ⟨ho, hw⟩ := hw
        refine th_kv hS (th_rV CF hK hSt hR hS ho (ci := 0) rfl (rest := []) (tk_X0_begins) (cw_X0_110 CF hK (by decide +kernel)) hw rfl hL.1.1 rfl th_cn (Nat.le_of_ble_eq_true rfl) dX0_script_11 ⟨by show _ ≤ (1342 : Nat); omega, by show _ ≤ (8122 : Nat); omega⟩) (fun G3 H locs hw hR hS => ?_)
        refine th_aload_n hx hb dX0_script_14 rfl (lv_at hL.1 0 rfl) ?_
        refine th_aload_n hx hb dX0_script_15 rfl (lv_at hL.1 0 rfl) ?_
        obtain ⟨ho, hw⟩ := hw
        refine th_Xki hS (th_XrVX CF hK hSt hR hS ho (ci := 0) rfl (rest := [rv a0]) (tk_X0_doScript) (cw_X0_377 CF hK (by decide +kernel)) hw rfl hL.1.1 rfl (th_cr th_cn) (Nat.le_of_ble_eq_true rfl) dX0_script_16 ⟨by show _ ≤ (1342 : Nat); omega, by show _ ≤ (8122 : Nat); omega⟩) (fun e8 G9 H locs hw ho hR hS => ?_) (fun r5 G4 H locs hw hR hS => ?_)
        · obtain ⟨hk, hw⟩ := hw
          refine th_catch (ci := 10) (nm := "TitheBarn$Refused") CF.2.2.2.1 hK hR hk rfl htab [] (⟨14, 22, 23, 9⟩ : ExceptionTableEntry) [] rfl (by intro z hz; cases hz) rfl (by decide) (CF.2.2.2.2 _ q467) q585 ?_
          refine th_astore_n hx hb dX0_script_23 rfl hL (by decide) rfl (fun ls hL => ?_)
          refine th_aload_n hx hb dX0_script_24 rfl (lv_at hL.1 1 rfl) ?_
          refine th_aload_n hx hb dX0_script_25 rfl (lv_at hL.1 0 rfl) ?_
          obtain ⟨ho, hw⟩ := hw
          refine th_ki hS (th_rV CF hK hSt hR hS ho (ci := 0) rfl (rest := []) (tk_X0_notDone) (cw_X0_120 CF hK (by decide +kernel)) hw rfl hL.1.1 rfl th_cn (Nat.le_of_ble_eq_true rfl) dX0_script_26 ⟨by show _ ≤ (1342 : Nat); omega, by show _ ≤ (8122 : Nat); omega⟩) (fun r11 G10 H locs hw hR hS => ?_)
          exact vz_ret (th_iret hx hb hret hlk hR hS hw (by omega) (by omega) dX0_script_29)
        · skip
          obtain ⟨ho, hw⟩ := hw
          refine th_ki hS (th_rV CF hK hSt hR hS ho (ci := 0) rfl (rest := []) (tk_X0_changed) (cw_X0_117 CF hK (by decide +kernel)) hw rfl hL.1.1 rfl th_cn (Nat.le_of_ble_eq_true rfl) dX0_script_19 ⟨by show _ ≤ (1342 : Nat); omega, by show _ ≤ (8122 : Nat); omega⟩) (fun r7 G6 H locs hw hR hS => ?_)
          exact vz_ret (th_iret hx hb hret hlk hR hS hw (by omega) (by omega) dX0_script_22)
      · replace hw := hw.2 h
        refine lv_bipush hx hb dX0_script_7 (v := (-2)) rfl ?_
        exact vz_ret (th_iret hx hb hret hlk hR hS hw (by omega) (by omega) dX0_script_9))
def tw_X0_sell (Q : Int32 → aH → Prop) (G : aH) (a0 : Nat) (x1 : Int32) (x2 : Int32) (x3 : Int32) : Prop :=
  th_o G a0 0 ∧ (
  (tw_X0_begins
    (fun (G1 : aH) =>
      th_o G1 a0 0 ∧ (
      (tw_X0_doSell
        (fun (r3 : Int32) (G2 : aH) =>
          th_o G2 a0 0 ∧ (
          (tw_X0_changed
            (fun (r5 : Int32) (G4 : aH) =>
              Q r5 G4)
            G2 a0 r3)))
        (fun (e6 : Nat) (G7 : aH) =>
          (th_o G7 e6 9 ∧ (
            th_o G7 a0 0 ∧ (
            (tw_X0_notDone
              (fun (r9 : Int32) (G8 : aH) =>
                Q r9 G8)
              G7 a0 e6)))) ∨
          (th_o G7 e6 10 ∧ (
            th_o G7 a0 0 ∧ (
            (tw_X0_notDone
              (fun (r11 : Int32) (G10 : aH) =>
                Q r11 G10)
              G7 a0 e6)))))
        G1 a0 x1 x2 x3)))
    G a0))
theorem tk_X0_sell {l : Launch} {D : tD} {B : Nat} {Q : Int32 → aH → Prop} {a0 : Nat} {x1 : Int32} {x2 : Int32} {x3 : Int32} : vz_Met l yX0_sell (wsW_ yX0_sell cX0_sell 5 ((Option.some Jvm.ClassFile.FieldType.int)) [((4 : Nat), (15 : Nat), (16 : Nat), (3 : Nat)), ((4 : Nat), (15 : Nat), (16 : Nat), (9 : Nat))]) rm_X0_sell (th_P D B [rv a0, .int x1, .int x2, .int x3] (fun G => tw_X0_sell Q G a0 x1 x2 x3)) (th_Qi D B Q) (th_X D B (fun _ _ => False)) 5 32 (th_A B) :=
  th_ofXH (by decide +kernel) (th_cr (th_ci (th_ci (th_ci th_cn)))) (Nat.le_of_ble_eq_true rfl) (fun p e s m args below meth c CF hret hlk hnm htab0 hK hSt G ls hR hS hw hL => by
    have E : th_E p m c cX0_sell 5 s args RX0 meth ((Option.some Jvm.ClassFile.FieldType.int)) "sell" D B := ⟨CF, hret, hlk, hnm, hK, hSt⟩
    have htab : c.exceptionTable.toList = tableOf [((4 : Nat), (15 : Nat), (16 : Nat), (3 : Nat)), ((4 : Nat), (15 : Nat), (16 : Nat), (9 : Nat))] := htab0
    have hx := CF.1; have hb := CF.2.1
    have hL : th_L ls 5 [(0, rv a0), (1, .int x1), (2, .int x2), (3, .int x3)] := hL
    unfold tw_X0_sell at hw
    refine th_aload_n hx hb dX0_sell_0 rfl (lv_at hL.1 0 rfl) ?_
    obtain ⟨ho, hw⟩ := hw
    refine th_kv hS (th_rV CF hK hSt hR hS ho (ci := 0) rfl (rest := []) (tk_X0_begins) (cw_X0_110 CF hK (by decide +kernel)) hw rfl hL.1.1 rfl th_cn (Nat.le_of_ble_eq_true rfl) dX0_sell_1 ⟨by show _ ≤ (5 : Nat); omega, by show _ ≤ (32 : Nat); omega⟩) (fun G1 H locs hw hR hS => ?_)
    refine th_aload_n hx hb dX0_sell_4 rfl (lv_at hL.1 0 rfl) ?_
    refine th_aload_n hx hb dX0_sell_5 rfl (lv_at hL.1 0 rfl) ?_
    refine lv_iload_n hx hb dX0_sell_6 rfl (lv_at hL.1 1 rfl) ?_
    refine lv_iload_n hx hb dX0_sell_7 rfl (lv_at hL.1 2 rfl) ?_
    refine lv_iload_n hx hb dX0_sell_8 rfl (lv_at hL.1 3 rfl) ?_
    obtain ⟨ho, hw⟩ := hw
    refine th_Xki hS (th_XrV CF hK hSt hR hS ho (ci := 0) rfl (rest := [rv a0]) (tk_X0_doSell) (cw_X0_259 CF hK (by decide +kernel)) hw rfl hL.1.1 rfl (th_cr th_cn) (Nat.le_of_ble_eq_true rfl) dX0_sell_9 ⟨by show _ ≤ (5 : Nat); omega, by show _ ≤ (32 : Nat); omega⟩) (fun e6 G7 H locs hw ho hR hS => ?_) (fun r3 G2 H locs hw hR hS => ?_)
    · rcases hw with hw | hw
      · obtain ⟨hk, hw⟩ := hw
        refine th_catch (ci := 9) (nm := "TitheBarn$Wrong") CF.2.2.2.1 hK hR hk rfl htab [] (⟨4, 15, 16, 3⟩ : ExceptionTableEntry) [(⟨4, 15, 16, 9⟩ : ExceptionTableEntry)] rfl (by intro z hz; cases hz) rfl (by decide) (CF.2.2.2.2 _ q466) q517 ?_
        refine th_astore hx hb dX0_sell_16 hL (by decide) rfl (fun ls hL => ?_)
        refine th_aload_n hx hb dX0_sell_18 rfl (lv_at hL.1 1 rfl) ?_
        refine th_aload hx hb dX0_sell_19 (lv_at hL.1 0 rfl) ?_
        obtain ⟨ho, hw⟩ := hw
        refine th_ki hS (th_rV CF hK hSt hR hS ho (ci := 0) rfl (rest := []) (tk_X0_notDone) (cw_X0_120 CF hK (by decide +kernel)) hw rfl hL.1.1 rfl th_cn (Nat.le_of_ble_eq_true rfl) dX0_sell_21 ⟨by show _ ≤ (5 : Nat); omega, by show _ ≤ (32 : Nat); omega⟩) (fun r9 G8 H locs hw hR hS => ?_)
        exact vz_ret (th_iret hx hb hret hlk hR hS hw (by omega) (by omega) dX0_sell_24)
      · obtain ⟨hk, hw⟩ := hw
        refine th_catch (ci := 10) (nm := "TitheBarn$Refused") CF.2.2.2.1 hK hR hk rfl htab [(⟨4, 15, 16, 3⟩ : ExceptionTableEntry)] (⟨4, 15, 16, 9⟩ : ExceptionTableEntry) [] rfl (by intro z hz; rw [List.mem_singleton.mp hz]; exact Or.inr ⟨by decide, _, CF.2.2.2.2 _ q466, hK.2.2.2.2.1⟩) rfl (by decide) (CF.2.2.2.2 _ q467) q585 ?_
        refine th_astore hx hb dX0_sell_16 hL (by decide) rfl (fun ls hL => ?_)
        refine th_aload_n hx hb dX0_sell_18 rfl (lv_at hL.1 1 rfl) ?_
        refine th_aload hx hb dX0_sell_19 (lv_at hL.1 0 rfl) ?_
        obtain ⟨ho, hw⟩ := hw
        refine th_ki hS (th_rV CF hK hSt hR hS ho (ci := 0) rfl (rest := []) (tk_X0_notDone) (cw_X0_120 CF hK (by decide +kernel)) hw rfl hL.1.1 rfl th_cn (Nat.le_of_ble_eq_true rfl) dX0_sell_21 ⟨by show _ ≤ (5 : Nat); omega, by show _ ≤ (32 : Nat); omega⟩) (fun r11 G10 H locs hw hR hS => ?_)
        exact vz_ret (th_iret hx hb hret hlk hR hS hw (by omega) (by omega) dX0_sell_24)
    · skip
      obtain ⟨ho, hw⟩ := hw
      refine th_ki hS (th_rV CF hK hSt hR hS ho (ci := 0) rfl (rest := []) (tk_X0_changed) (cw_X0_117 CF hK (by decide +kernel)) hw rfl hL.1.1 rfl th_cn (Nat.le_of_ble_eq_true rfl) dX0_sell_12 ⟨by show _ ≤ (5 : Nat); omega, by show _ ≤ (32 : Nat); omega⟩) (fun r5 G4 H locs hw hR hS => ?_)
      exact vz_ret (th_iret hx hb hret hlk hR hS hw (by omega) (by omega) dX0_sell_15))
def tw_X0_doSettle_b70 (Q : Int32 → aH → Prop) (X : Nat → aH → Prop) (G : aH) (a0 : Nat) (x2 : Int32) (a3 : Nat) (tx0 : Int32) : Prop :=
  th_o G a3 2 ∧ (
  (tw_X0_allow
    (fun (G14 : aH) =>
      th_o G14 a3 2 ∧ (
      th_o G14 a3 2 ∧ (
      ∀ G15 : aH, G15 = a_si G14 a3 3 ((a_mi G14 a3 3) - (x2 / 2)) → 
      th_o G15 a0 0 ∧ (
      th_o G15 (a_mr G15 a0 0) 1 ∧ (
      th_o G15 (a_mr G15 a0 0) 1 ∧ (
      ∀ G16 : aH, G16 = a_si G15 (a_mr G15 a0 0) 8 ((a_mi G15 (a_mr G15 a0 0) 8) + x2) → 
      th_o G16 a3 2 ∧ (
      Q (a_mi G16 a3 3) G16)))))))
    X
    G tx0 10 (a_mi G a3 3)))
def tw_X0_doSettle_b36 (Q : Int32 → aH → Prop) (X : Nat → aH → Prop) (G : aH) (a0 : Nat) (x1 : Int32) (x2 : Int32) (tx0 : Int32) (tx1 : Int32) (ta2 : Nat) (ta3 : Nat) : Prop :=
  th_ai G ta2 2 tx1 ∧ (
  ∀ G9 : aH, G9 = a_si G ta2 tx1.toNatClampNeg (tx0 &&& 1) → 
  (tw_X0_all
    (fun (r11 : Int32) (G10 : aH) =>
      (tw_X0_want
        (fun (G12 : aH) =>
          th_o G12 a0 0 ∧ (
          th_o G12 (a_mr G12 a0 0) 1 ∧ (
          th_ai G12 (a_mr G12 (a_mr G12 a0 0) 0) 4 x1 ∧ (
          ∀ a3_13 : Nat, a3_13 = a_mr G12 (a_mr G12 (a_mr G12 a0 0) 0) x1.toNatClampNeg → 
          th_o G12 a3_13 2 ∧ (
          (a_mi G12 a3_13 3 < x2 / 2 →
            tw_X0_doSettle_b70 Q X G12 a0 x2 a3_13 0) ∧
          (¬ a_mi G12 a3_13 3 < x2 / 2 →
            tw_X0_doSettle_b70 Q X G12 a0 x2 a3_13 1))))))
        X
        G10 r11 (-2)))
    G9 ta3))
def tw_X0_doSettle (Q : Int32 → aH → Prop) (X : Nat → aH → Prop) (G : aH) (a0 : Nat) (x1 : Int32) (x2 : Int32) : Prop :=
  th_o G a0 0 ∧ (
  (tw_X0_isParish
    (fun (r2 : Int32) (G1 : aH) =>
      (tw_X0_want
        (fun (G3 : aH) =>
          ∀ z4 : Nat, z4 = a_sz G3 → ∀ G5 : aH, G5 = a_nw G3 (100 + 2) 2 → 
          (tw_X0_within
            (fun (r7 : Int32) (G6 : aH) =>
              th_ai G6 z4 2 0 ∧ (
              ∀ G8 : aH, G8 = a_si G6 z4 (0 : Int32).toNatClampNeg (r7 &&& 1) → 
              (¬ x2 - x2 / 2 * 2 = 0 →
                tw_X0_doSettle_b36 Q X G8 a0 x1 x2 0 1 z4 z4) ∧
              (x2 - x2 / 2 * 2 = 0 →
                tw_X0_doSettle_b36 Q X G8 a0 x1 x2 1 1 z4 z4)))
            G5 x2 2 998))
        X
        G1 r2 (-1)))
    G a0 x1))
theorem tk_X0_doSettle_b70 {p : Program} {l : Launch} {e : Env} {s : State} {m : MethodId} {args : Array Value} {below : List Frame} {meth : Method} {c : Code} {D : tD} {B : Nat} (E : th_E p m c cX0_doSettle 4 s args RX0 meth ((Option.some Jvm.ClassFile.FieldType.int)) "doSettle" D B) (htab : c.exceptionTable.toList = tableOf []) {Q : Int32 → aH → Prop} {X : Nat → aH → Prop} {G : aH} {H : Heap} {locs : List Loc} {cells slots : Nat} {ls : Array Slot} {a0 : Nat} {x2 : Int32} {a3 : Nat} {tx0 : Int32} (hR : th_H D B G H) (hS : va_S (th_A B) s.heap H locs) (hL : th_L ls 4 [(0, rv a0), (2, .int x2), (3, rv a3)]) (hw : tw_X0_doSettle_b70 Q X G a0 x2 a3 tx0) (hc : cells + (1) ≤ 4 ∧ slots + (8) ≤ 24) : W p l e rm_X0_doSettle s m args below meth c H locs cells slots (vz_MQ below (th_Qi D B Q) (th_X D B X) args s 4 24 (th_A B)) (F0 m 70 ls [.int tx0]) := by
  have CF := E.1; have hx := CF.1; have hb := CF.2.1; have hret := E.2.1; have hlk := E.2.2.1; have hnm := E.2.2.2.1; have hK := E.2.2.2.2.1; have hSt := E.2.2.2.2.2
  unfold tw_X0_doSettle_b70 at hw
  refine lv_bipush hx hb dX0_doSettle_70 (v := 10) rfl ?_
  refine th_aload_n hx hb dX0_doSettle_72 rfl (lv_at hL.1 2 rfl) ?_
  obtain ⟨ho, hw⟩ := hw
  refine fg_X0_158 CF hK hR ho dX0_doSettle_73 ?_
  refine th_Xkv hS (th_XrS CF hK hSt hR hS (rest := []) (tk_X0_allow) (cw_X0_97 CF hK (by decide +kernel)) hw rfl hL.1.1 rfl th_cn (Nat.le_of_ble_eq_true rfl) dX0_doSettle_76 ⟨by show _ ≤ (4 : Nat); omega, by show _ ≤ (24 : Nat); omega⟩) (fun e9 G9 H locs hw ho hR hS => ?_) (fun G14 H locs hw hR hS => ?_)
  · exact th_out hK hlk (by rw [htab]; decide) hR hS hw ho (by omega) (by omega)
  · skip
    refine th_aload_n hx hb dX0_doSettle_79 rfl (lv_at hL.1 2 rfl) ?_
    refine lv_dup hx hb dX0_doSettle_80 (rv_cat _) ?_
    obtain ⟨ho, hw⟩ := hw
    refine fg_X0_158 CF hK hR ho dX0_doSettle_81 ?_
    refine lv_iload_n hx hb dX0_doSettle_84 rfl (lv_at hL.1 1 rfl) ?_
    refine lv_iconst hx hb dX0_doSettle_85 (v := 2) rfl ?_
    refine lv_idiv hx hb dX0_doSettle_86 (by decide) ?_
    refine lv_isub hx hb dX0_doSettle_87 ?_
    obtain ⟨ho, hw⟩ := hw
    refine fp_X0_158 CF hK hR hS ho dX0_doSettle_88 (fun G15 H locs hG hR hS => ?_)
    replace hw := hw G15 hG
    refine th_aload_n hx hb dX0_doSettle_91 rfl (lv_at hL.1 0 rfl) ?_
    obtain ⟨ho, hw⟩ := hw
    refine fg_X0_22 CF hK hR ho dX0_doSettle_92 ?_
    refine lv_dup hx hb dX0_doSettle_95 (rv_cat _) ?_
    obtain ⟨ho, hw⟩ := hw
    refine fg_X0_256 CF hK hR ho dX0_doSettle_96 ?_
    refine lv_iload_n hx hb dX0_doSettle_99 rfl (lv_at hL.1 1 rfl) ?_
    refine lv_iadd hx hb dX0_doSettle_100 ?_
    obtain ⟨ho, hw⟩ := hw
    refine fp_X0_256 CF hK hR hS ho dX0_doSettle_101 (fun G16 H locs hG hR hS => ?_)
    replace hw := hw G16 hG
    refine th_aload_n hx hb dX0_doSettle_104 rfl (lv_at hL.1 2 rfl) ?_
    obtain ⟨ho, hw⟩ := hw
    refine fg_X0_158 CF hK hR ho dX0_doSettle_105 ?_
    exact vz_ret (th_iret hx hb hret hlk hR hS hw (by omega) (by omega) dX0_doSettle_108)
theorem tk_X0_doSettle_b36 {p : Program} {l : Launch} {e : Env} {s : State} {m : MethodId} {args : Array Value} {below : List Frame} {meth : Method} {c : Code} {D : tD} {B : Nat} (E : th_E p m c cX0_doSettle 4 s args RX0 meth ((Option.some Jvm.ClassFile.FieldType.int)) "doSettle" D B) (htab : c.exceptionTable.toList = tableOf []) {Q : Int32 → aH → Prop} {X : Nat → aH → Prop} {G : aH} {H : Heap} {locs : List Loc} {cells slots : Nat} {ls : Array Slot} {a0 : Nat} {x1 : Int32} {x2 : Int32} {tx0 : Int32} {tx1 : Int32} {ta2 : Nat} {ta3 : Nat} (hR : th_H D B G H) (hS : va_S (th_A B) s.heap H locs) (hL : th_L ls 4 [(0, rv a0), (1, .int x1), (2, .int x2)]) (hw : tw_X0_doSettle_b36 Q X G a0 x1 x2 tx0 tx1 ta2 ta3) (hc : cells + (2) ≤ 4 ∧ slots + (15) ≤ 24) : W p l e rm_X0_doSettle s m args below meth c H locs cells slots (vz_MQ below (th_Qi D B Q) (th_X D B X) args s 4 24 (th_A B)) (F0 m 36 ls [.int tx0, .int tx1, rv ta2, rv ta3]) := by
  have CF := E.1; have hx := CF.1; have hb := CF.2.1; have hret := E.2.1; have hlk := E.2.2.1; have hnm := E.2.2.2.1; have hK := E.2.2.2.2.1; have hSt := E.2.2.2.2.2
  unfold tw_X0_doSettle_b36 at hw
  obtain ⟨ha, hw⟩ := hw
  refine th_zast hx hb hK hR hS ha dX0_doSettle_36 (fun G9 H locs hG hR hS => ?_)
  replace hw := hw G9 hG
  refine th_ki hS (th_rS CF hK hSt hR hS (rest := []) (tk_X0_all) (cw_X0_146 CF hK (by decide +kernel)) hw rfl hL.1.1 rfl th_cn (Nat.le_of_ble_eq_true rfl) dX0_doSettle_37 ⟨by show _ ≤ (4 : Nat); omega, by show _ ≤ (24 : Nat); omega⟩) (fun r11 G10 H locs hw hR hS => ?_)
  refine lv_bipush hx hb dX0_doSettle_40 (v := (-2)) rfl ?_
  refine th_Xkv hS (th_XrS CF hK hSt hR hS (rest := []) (tk_X0_want) (cw_X0_93 CF hK (by decide +kernel)) hw rfl hL.1.1 rfl th_cn (Nat.le_of_ble_eq_true rfl) dX0_doSettle_42 ⟨by show _ ≤ (4 : Nat); omega, by show _ ≤ (24 : Nat); omega⟩) (fun e9 G9 H locs hw ho hR hS => ?_) (fun G12 H locs hw hR hS => ?_)
  · exact th_out hK hlk (by rw [htab]; decide) hR hS hw ho (by omega) (by omega)
  · skip
    refine th_aload_n hx hb dX0_doSettle_45 rfl (lv_at hL.1 0 rfl) ?_
    obtain ⟨ho, hw⟩ := hw
    refine fg_X0_22 CF hK hR ho dX0_doSettle_46 ?_
    obtain ⟨ho, hw⟩ := hw
    refine fg_X0_101 CF hK hR ho dX0_doSettle_49 ?_
    refine lv_iload_n hx hb dX0_doSettle_52 rfl (lv_at hL.1 1 rfl) ?_
    obtain ⟨ha, hw⟩ := hw
    refine th_aald hx hb hK 4 (by decide) rfl rfl hR ha dX0_doSettle_53 ?_
    obtain ⟨a3_13, ha3_13⟩ : ∃ y : Nat, y = a_mr G12 (a_mr G12 (a_mr G12 a0 0) 0) x1.toNatClampNeg := ⟨_, rfl⟩
    replace hw := hw a3_13 ha3_13
    refine th_nmr ha3_13 ?_
    refine th_astore_n hx hb dX0_doSettle_54 rfl hL (by decide) rfl (fun ls hL => ?_)
    refine lv_iload_n hx hb dX0_doSettle_55 rfl (lv_at hL.1 3 rfl) ?_
    refine lv_iconst hx hb dX0_doSettle_56 (v := 2) rfl ?_
    refine lv_idiv hx hb dX0_doSettle_57 (by decide) ?_
    refine th_aload_n hx hb dX0_doSettle_58 rfl (lv_at hL.1 0 rfl) ?_
    obtain ⟨ho, hw⟩ := hw
    refine fg_X0_158 CF hK hR ho dX0_doSettle_59 ?_
    refine lv_icmp_gt hx hb dX0_doSettle_62 (tgt := 69) (by decide) (fun h => ?_) (fun h => ?_)
    · replace hw := hw.1 h
      refine lv_iconst hx hb dX0_doSettle_69 (v := 0) rfl ?_
      exact tk_X0_doSettle_b70 E htab hR hS (hL.sub [1, 3, 0] rfl) hw ⟨by omega, by omega⟩
    · replace hw := hw.2 h
      refine lv_iconst hx hb dX0_doSettle_65 (v := 1) rfl ?_
      refine lv_goto hx hb dX0_doSettle_66 (tgt := 70) (by decide) ?_
      exact tk_X0_doSettle_b70 E htab hR hS (hL.sub [1, 3, 0] rfl) hw ⟨by omega, by omega⟩
theorem tk_X0_doSettle {l : Launch} {D : tD} {B : Nat} {Q : Int32 → aH → Prop} {X : Nat → aH → Prop} {a0 : Nat} {x1 : Int32} {x2 : Int32} : vz_Met l yX0_doSettle (ws_ yX0_doSettle cX0_doSettle 4 ((Option.some Jvm.ClassFile.FieldType.int))) rm_X0_doSettle (th_P D B [rv a0, .int x1, .int x2] (fun G => tw_X0_doSettle Q X G a0 x1 x2)) (th_Qi D B Q) (th_X D B X) 4 24 (th_A B) :=
  th_ofX (by decide +kernel) (th_cr (th_ci (th_ci th_cn))) (Nat.le_of_ble_eq_true rfl) (fun p e s m args below meth c CF hret hlk hnm htab0 hK hSt G ls hR hS hw hL => by
    have E : th_E p m c cX0_doSettle 4 s args RX0 meth ((Option.some Jvm.ClassFile.FieldType.int)) "doSettle" D B := ⟨CF, hret, hlk, hnm, hK, hSt⟩
    have htab : c.exceptionTable.toList = tableOf [] := th_notab htab0
    have hx := CF.1; have hb := CF.2.1
    have hL : th_L ls 4 [(0, rv a0), (1, .int x1), (2, .int x2)] := hL
    unfold tw_X0_doSettle at hw
    refine th_aload_n hx hb dX0_doSettle_0 rfl (lv_at hL.1 0 rfl) ?_
    refine lv_iload_n hx hb dX0_doSettle_1 rfl (lv_at hL.1 1 rfl) ?_
    obtain ⟨ho, hw⟩ := hw
    refine th_ki hS (th_rV CF hK hSt hR hS ho (ci := 0) rfl (rest := []) (tk_X0_isParish) (cw_X0_124 CF hK (by decide +kernel)) hw rfl hL.1.1 rfl th_cn (Nat.le_of_ble_eq_true rfl) dX0_doSettle_2 ⟨by show _ ≤ (4 : Nat); omega, by show _ ≤ (24 : Nat); omega⟩) (fun r2 G1 H locs hw hR hS => ?_)
    refine lv_iconst hx hb dX0_doSettle_5 (v := (-1)) rfl ?_
    refine th_Xkv hS (th_XrS CF hK hSt hR hS (rest := []) (tk_X0_want) (cw_X0_93 CF hK (by decide +kernel)) hw rfl hL.1.1 rfl th_cn (Nat.le_of_ble_eq_true rfl) dX0_doSettle_6 ⟨by show _ ≤ (4 : Nat); omega, by show _ ≤ (24 : Nat); omega⟩) (fun e9 G9 H locs hw ho hR hS => ?_) (fun G3 H locs hw hR hS => ?_)
    · exact th_out hK hlk (by rw [htab]; decide) hR hS hw ho (by omega) (by omega)
    · skip
      refine lv_iconst hx hb dX0_doSettle_9 (v := 2) rfl ?_
      refine th_newa hx hb 2 (atype := .boolean) (CF.2.2.2.2 _ q676) rfl (by decide) (n := 2) 2 (by decide) rfl (by decide +kernel) hK hR hS (by show _ ≤ (4 : Nat); omega) (by show _ ≤ (24 : Nat); omega) dX0_doSettle_10 (fun z4 G5 H hz hG hR hS => ?_)
      replace hw := hw z4 hz G5 hG
      refine lv_dup hx hb dX0_doSettle_12 (rv_cat _) ?_
      refine lv_iconst hx hb dX0_doSettle_13 (v := 0) rfl ?_
      refine lv_iload_n hx hb dX0_doSettle_14 rfl (lv_at hL.1 2 rfl) ?_
      refine lv_iconst hx hb dX0_doSettle_15 (v := 2) rfl ?_
      refine lv_sipush hx hb dX0_doSettle_16 (v := 998) rfl ?_
      refine th_ki hS (th_rS CF hK hSt hR hS (rest := [.int 0, rv z4, rv z4]) (tk_X0_within) (cw_X0_82 CF hK (by decide +kernel)) hw rfl hL.1.1 rfl (th_ci (th_cr (th_cr th_cn))) (Nat.le_of_ble_eq_true rfl) dX0_doSettle_19 ⟨by show _ ≤ (4 : Nat); omega, by show _ ≤ (24 : Nat); omega⟩) (fun r7 G6 H locs hw hR hS => ?_)
      obtain ⟨ha, hw⟩ := hw
      refine th_zast hx hb hK hR hS ha dX0_doSettle_22 (fun G8 H locs hG hR hS => ?_)
      replace hw := hw G8 hG
      refine lv_dup hx hb dX0_doSettle_23 (rv_cat _) ?_
      refine lv_iconst hx hb dX0_doSettle_24 (v := 1) rfl ?_
      refine lv_iload_n hx hb dX0_doSettle_25 rfl (lv_at hL.1 2 rfl) ?_
      refine lv_iconst hx hb dX0_doSettle_26 (v := 2) rfl ?_
      refine lv_irem hx hb dX0_doSettle_27 (by decide) ?_
      refine lv_if_ne hx hb dX0_doSettle_28 (tgt := 35) (by decide) (fun h => ?_) (fun h => ?_)
      · replace hw := hw.1 h
        refine lv_iconst hx hb dX0_doSettle_35 (v := 0) rfl ?_
        exact tk_X0_doSettle_b36 E htab hR hS (hL.sub [0, 1, 2] rfl) hw ⟨by omega, by omega⟩
      · replace hw := hw.2 h
        refine lv_iconst hx hb dX0_doSettle_31 (v := 1) rfl ?_
        refine lv_goto hx hb dX0_doSettle_32 (tgt := 36) (by decide) ?_
        exact tk_X0_doSettle_b36 E htab hR hS (hL.sub [0, 1, 2] rfl) hw ⟨by omega, by omega⟩)
def tw_X0_settle (Q : Int32 → aH → Prop) (G : aH) (a0 : Nat) (x1 : Int32) (x2 : Int32) : Prop :=
  th_o G a0 0 ∧ (
  (tw_X0_begins
    (fun (G1 : aH) =>
      th_o G1 a0 0 ∧ (
      (tw_X0_doSettle
        (fun (r3 : Int32) (G2 : aH) =>
          th_o G2 a0 0 ∧ (
          (tw_X0_changed
            (fun (r5 : Int32) (G4 : aH) =>
              Q r5 G4)
            G2 a0 r3)))
        (fun (e6 : Nat) (G7 : aH) =>
          (th_o G7 e6 9 ∧ (
            th_o G7 a0 0 ∧ (
            (tw_X0_notDone
              (fun (r9 : Int32) (G8 : aH) =>
                Q r9 G8)
              G7 a0 e6)))) ∨
          (th_o G7 e6 10 ∧ (
            th_o G7 a0 0 ∧ (
            (tw_X0_notDone
              (fun (r11 : Int32) (G10 : aH) =>
                Q r11 G10)
              G7 a0 e6)))))
        G1 a0 x1 x2)))
    G a0))
theorem tk_X0_settle {l : Launch} {D : tD} {B : Nat} {Q : Int32 → aH → Prop} {a0 : Nat} {x1 : Int32} {x2 : Int32} : vz_Met l yX0_settle (wsW_ yX0_settle cX0_settle 4 ((Option.some Jvm.ClassFile.FieldType.int)) [((4 : Nat), (14 : Nat), (15 : Nat), (3 : Nat)), ((4 : Nat), (14 : Nat), (15 : Nat), (9 : Nat))]) rm_X0_settle (th_P D B [rv a0, .int x1, .int x2] (fun G => tw_X0_settle Q G a0 x1 x2)) (th_Qi D B Q) (th_X D B (fun _ _ => False)) 4 24 (th_A B) :=
  th_ofXH (by decide +kernel) (th_cr (th_ci (th_ci th_cn))) (Nat.le_of_ble_eq_true rfl) (fun p e s m args below meth c CF hret hlk hnm htab0 hK hSt G ls hR hS hw hL => by
    have E : th_E p m c cX0_settle 4 s args RX0 meth ((Option.some Jvm.ClassFile.FieldType.int)) "settle" D B := ⟨CF, hret, hlk, hnm, hK, hSt⟩
    have htab : c.exceptionTable.toList = tableOf [((4 : Nat), (14 : Nat), (15 : Nat), (3 : Nat)), ((4 : Nat), (14 : Nat), (15 : Nat), (9 : Nat))] := htab0
    have hx := CF.1; have hb := CF.2.1
    have hL : th_L ls 4 [(0, rv a0), (1, .int x1), (2, .int x2)] := hL
    unfold tw_X0_settle at hw
    refine th_aload_n hx hb dX0_settle_0 rfl (lv_at hL.1 0 rfl) ?_
    obtain ⟨ho, hw⟩ := hw
    refine th_kv hS (th_rV CF hK hSt hR hS ho (ci := 0) rfl (rest := []) (tk_X0_begins) (cw_X0_110 CF hK (by decide +kernel)) hw rfl hL.1.1 rfl th_cn (Nat.le_of_ble_eq_true rfl) dX0_settle_1 ⟨by show _ ≤ (4 : Nat); omega, by show _ ≤ (24 : Nat); omega⟩) (fun G1 H locs hw hR hS => ?_)
    refine th_aload_n hx hb dX0_settle_4 rfl (lv_at hL.1 0 rfl) ?_
    refine th_aload_n hx hb dX0_settle_5 rfl (lv_at hL.1 0 rfl) ?_
    refine lv_iload_n hx hb dX0_settle_6 rfl (lv_at hL.1 1 rfl) ?_
    refine lv_iload_n hx hb dX0_settle_7 rfl (lv_at hL.1 2 rfl) ?_
    obtain ⟨ho, hw⟩ := hw
    refine th_Xki hS (th_XrV CF hK hSt hR hS ho (ci := 0) rfl (rest := [rv a0]) (tk_X0_doSettle) (cw_X0_262 CF hK (by decide +kernel)) hw rfl hL.1.1 rfl (th_cr th_cn) (Nat.le_of_ble_eq_true rfl) dX0_settle_8 ⟨by show _ ≤ (4 : Nat); omega, by show _ ≤ (24 : Nat); omega⟩) (fun e6 G7 H locs hw ho hR hS => ?_) (fun r3 G2 H locs hw hR hS => ?_)
    · rcases hw with hw | hw
      · obtain ⟨hk, hw⟩ := hw
        refine th_catch (ci := 9) (nm := "TitheBarn$Wrong") CF.2.2.2.1 hK hR hk rfl htab [] (⟨4, 14, 15, 3⟩ : ExceptionTableEntry) [(⟨4, 14, 15, 9⟩ : ExceptionTableEntry)] rfl (by intro z hz; cases hz) rfl (by decide) (CF.2.2.2.2 _ q466) q517 ?_
        refine th_astore_n hx hb dX0_settle_15 rfl hL (by decide) rfl (fun ls hL => ?_)
        refine th_aload_n hx hb dX0_settle_16 rfl (lv_at hL.1 1 rfl) ?_
        refine th_aload_n hx hb dX0_settle_17 rfl (lv_at hL.1 0 rfl) ?_
        obtain ⟨ho, hw⟩ := hw
        refine th_ki hS (th_rV CF hK hSt hR hS ho (ci := 0) rfl (rest := []) (tk_X0_notDone) (cw_X0_120 CF hK (by decide +kernel)) hw rfl hL.1.1 rfl th_cn (Nat.le_of_ble_eq_true rfl) dX0_settle_18 ⟨by show _ ≤ (4 : Nat); omega, by show _ ≤ (24 : Nat); omega⟩) (fun r9 G8 H locs hw hR hS => ?_)
        exact vz_ret (th_iret hx hb hret hlk hR hS hw (by omega) (by omega) dX0_settle_21)
      · obtain ⟨hk, hw⟩ := hw
        refine th_catch (ci := 10) (nm := "TitheBarn$Refused") CF.2.2.2.1 hK hR hk rfl htab [(⟨4, 14, 15, 3⟩ : ExceptionTableEntry)] (⟨4, 14, 15, 9⟩ : ExceptionTableEntry) [] rfl (by intro z hz; rw [List.mem_singleton.mp hz]; exact Or.inr ⟨by decide, _, CF.2.2.2.2 _ q466, hK.2.2.2.2.1⟩) rfl (by decide) (CF.2.2.2.2 _ q467) q585 ?_
        refine th_astore_n hx hb dX0_settle_15 rfl hL (by decide) rfl (fun ls hL => ?_)
        refine th_aload_n hx hb dX0_settle_16 rfl (lv_at hL.1 1 rfl) ?_
        refine th_aload_n hx hb dX0_settle_17 rfl (lv_at hL.1 0 rfl) ?_
        obtain ⟨ho, hw⟩ := hw
        refine th_ki hS (th_rV CF hK hSt hR hS ho (ci := 0) rfl (rest := []) (tk_X0_notDone) (cw_X0_120 CF hK (by decide +kernel)) hw rfl hL.1.1 rfl th_cn (Nat.le_of_ble_eq_true rfl) dX0_settle_18 ⟨by show _ ≤ (4 : Nat); omega, by show _ ≤ (24 : Nat); omega⟩) (fun r11 G10 H locs hw hR hS => ?_)
        exact vz_ret (th_iret hx hb hret hlk hR hS hw (by omega) (by omega) dX0_settle_21)
    · skip
      obtain ⟨ho, hw⟩ := hw
      refine th_ki hS (th_rV CF hK hSt hR hS ho (ci := 0) rfl (rest := []) (tk_X0_changed) (cw_X0_117 CF hK (by decide +kernel)) hw rfl hL.1.1 rfl th_cn (Nat.le_of_ble_eq_true rfl) dX0_settle_11 ⟨by show _ ≤ (4 : Nat); omega, by show _ ≤ (24 : Nat); omega⟩) (fun r5 G4 H locs hw hR hS => ?_)
      exact vz_ret (th_iret hx hb hret hlk hR hS hw (by omega) (by omega) dX0_settle_14))
def tw_X0_share (Q : UInt32 → aH → Prop) (G : aH) (a0 : Nat) (x1 : Int32) : Prop :=
  th_o G a0 0 ∧ (
  (tw_X0_overParishes
    (fun (r2 : Int32) (G1 : aH) =>
      (r2 = 0 →
        Q (FP.fconst0) G1) ∧
      (¬ r2 = 0 →
        th_o G1 a0 0 ∧ (
        (tw_X0_isParish
          (fun (r4 : Int32) (G3 : aH) =>
            (¬ r4 = 0 →
              th_o G3 a0 0 ∧ (
              th_o G3 (a_mr G3 a0 0) 1 ∧ (
              th_ai G3 (a_mr G3 (a_mr G3 a0 0) 0) 4 x1 ∧ (
              th_o G3 (a_mr G3 (a_mr G3 (a_mr G3 a0 0) 0) x1.toNatClampNeg) 2 ∧ (
              vf_n32 (FP.fdiv (FP.i2f (a_mi G3 (a_mr G3 (a_mr G3 (a_mr G3 a0 0) 0) x1.toNatClampNeg) 2)) (FP.i2f r2)) ∧ (
              Q (FP.fdiv (FP.i2f (a_mi G3 (a_mr G3 (a_mr G3 (a_mr G3 a0 0) 0) x1.toNatClampNeg) 2)) (FP.i2f r2)) G3)))))) ∧
            (r4 = 0 →
              Q (FP.fconst0) G3))
          G1 a0 x1))))
    G a0 6))
theorem tk_X0_share {l : Launch} {D : tD} {B : Nat} {Q : UInt32 → aH → Prop} {a0 : Nat} {x1 : Int32} : Met l yX0_share (ws_ yX0_share cX0_share 3 ((Option.some Jvm.ClassFile.FieldType.float))) rm_X0_share (th_P D B [rv a0, .int x1] (fun G => tw_X0_share Q G a0 x1)) (th_Qf D B Q) 35 70 (th_A B) :=
  th_ofW (by decide +kernel) (th_cr (th_ci th_cn)) (Nat.le_of_ble_eq_true rfl) (fun p e s m args below meth c CF hret hlk hnm hK hSt G ls hR hS hw hL => by
    have E : th_E p m c cX0_share 3 s args RX0 meth ((Option.some Jvm.ClassFile.FieldType.float)) "share" D B := ⟨CF, hret, hlk, hnm, hK, hSt⟩
    have hx := CF.1; have hb := CF.2.1
    have hL : th_L ls 3 [(0, rv a0), (1, .int x1)] := hL
    unfold tw_X0_share at hw
    refine th_aload_n hx hb dX0_share_0 rfl (lv_at hL.1 0 rfl) ?_
    refine lv_bipush hx hb dX0_share_1 (v := 6) rfl ?_
    obtain ⟨ho, hw⟩ := hw
    refine th_ki hS (th_rV CF hK hSt hR hS ho (ci := 0) rfl (rest := []) (tk_X0_overParishes) (cw_X0_472 CF hK (by decide +kernel)) hw rfl hL.1.1 rfl th_cn (Nat.le_of_ble_eq_true rfl) dX0_share_3 ⟨by show _ ≤ (35 : Nat); omega, by show _ ≤ (70 : Nat); omega⟩) (fun r2 G1 H locs hw hR hS => ?_)
    refine th_istore_n hx hb dX0_share_6 rfl hL (by decide) rfl (fun ls hL => ?_)
    refine lv_iload_n hx hb dX0_share_7 rfl (lv_at hL.1 0 rfl) ?_
    refine lv_if_eq hx hb dX0_share_8 (tgt := 19) (by decide) (fun h => ?_) (fun h => ?_)
    · replace hw := hw.1 h
      refine lv_fconst0 hx hb dX0_share_19 ?_
      refine lv_goto hx hb dX0_share_20 (tgt := 39) (by decide) ?_
      exact th_fret hx hb hret hlk hR hS hw (by omega) (by omega) dX0_share_39
    · replace hw := hw.2 h
      refine th_aload_n hx hb dX0_share_11 rfl (lv_at hL.1 1 rfl) ?_
      refine lv_iload_n hx hb dX0_share_12 rfl (lv_at hL.1 2 rfl) ?_
      obtain ⟨ho, hw⟩ := hw
      refine th_ki hS (th_rV CF hK hSt hR hS ho (ci := 0) rfl (rest := []) (tk_X0_isParish) (cw_X0_124 CF hK (by decide +kernel)) hw rfl hL.1.1 rfl th_cn (Nat.le_of_ble_eq_true rfl) dX0_share_13 ⟨by show _ ≤ (35 : Nat); omega, by show _ ≤ (70 : Nat); omega⟩) (fun r4 G3 H locs hw hR hS => ?_)
      refine lv_if_ne hx hb dX0_share_16 (tgt := 23) (by decide) (fun h => ?_) (fun h => ?_)
      · replace hw := hw.1 h
        refine th_aload_n hx hb dX0_share_23 rfl (lv_at hL.1 1 rfl) ?_
        obtain ⟨ho, hw⟩ := hw
        refine fg_X0_22 CF hK hR ho dX0_share_24 ?_
        obtain ⟨ho, hw⟩ := hw
        refine fg_X0_101 CF hK hR ho dX0_share_27 ?_
        refine lv_iload_n hx hb dX0_share_30 rfl (lv_at hL.1 2 rfl) ?_
        obtain ⟨ha, hw⟩ := hw
        refine th_aald hx hb hK 4 (by decide) rfl rfl hR ha dX0_share_31 ?_
        obtain ⟨ho, hw⟩ := hw
        refine fg_X0_408 CF hK hR ho dX0_share_32 ?_
        refine lv_i2f hx hb dX0_share_35 ?_
        refine lv_iload_n hx hb dX0_share_36 rfl (lv_at hL.1 0 rfl) ?_
        refine lv_i2f hx hb dX0_share_37 ?_
        obtain ⟨h0, hw⟩ := hw
        refine lv_fdiv hx hb dX0_share_38 h0 ?_
        exact th_fret hx hb hret hlk hR hS hw (by omega) (by omega) dX0_share_39
      · replace hw := hw.2 h
        refine lv_fconst0 hx hb dX0_share_19 ?_
        refine lv_goto hx hb dX0_share_20 (tgt := 39) (by decide) ?_
        exact th_fret hx hb hret hlk hR hS hw (by omega) (by omega) dX0_share_39)
def tw_X0_stop (Q : Int32 → aH → Prop) (G : aH) (a0 : Nat) (x1 : Int32) : Prop :=
  th_o G a0 0 ∧ (
  (tw_X0_begins
    (fun (G1 : aH) =>
      th_o G1 a0 0 ∧ (
      (tw_X0_doStop
        (fun (r3 : Int32) (G2 : aH) =>
          th_o G2 a0 0 ∧ (
          (tw_X0_changed
            (fun (r5 : Int32) (G4 : aH) =>
              Q r5 G4)
            G2 a0 r3)))
        (fun (e6 : Nat) (G7 : aH) =>
          (th_o G7 e6 9 ∧ (
            th_o G7 a0 0 ∧ (
            (tw_X0_notDone
              (fun (r9 : Int32) (G8 : aH) =>
                Q r9 G8)
              G7 a0 e6)))) ∨
          (th_o G7 e6 10 ∧ (
            th_o G7 a0 0 ∧ (
            (tw_X0_notDone
              (fun (r11 : Int32) (G10 : aH) =>
                Q r11 G10)
              G7 a0 e6)))))
        G1 a0 x1)))
    G a0))
theorem tk_X0_stop {l : Launch} {D : tD} {B : Nat} {Q : Int32 → aH → Prop} {a0 : Nat} {x1 : Int32} : vz_Met l yX0_stop (wsW_ yX0_stop cX0_stop 3 ((Option.some Jvm.ClassFile.FieldType.int)) [((4 : Nat), (13 : Nat), (14 : Nat), (3 : Nat)), ((4 : Nat), (13 : Nat), (14 : Nat), (9 : Nat))]) rm_X0_stop (th_P D B [rv a0, .int x1] (fun G => tw_X0_stop Q G a0 x1)) (th_Qi D B Q) (th_X D B (fun _ _ => False)) 2 15 (th_A B) :=
  th_ofXH (by decide +kernel) (th_cr (th_ci th_cn)) (Nat.le_of_ble_eq_true rfl) (fun p e s m args below meth c CF hret hlk hnm htab0 hK hSt G ls hR hS hw hL => by
    have E : th_E p m c cX0_stop 3 s args RX0 meth ((Option.some Jvm.ClassFile.FieldType.int)) "stop" D B := ⟨CF, hret, hlk, hnm, hK, hSt⟩
    have htab : c.exceptionTable.toList = tableOf [((4 : Nat), (13 : Nat), (14 : Nat), (3 : Nat)), ((4 : Nat), (13 : Nat), (14 : Nat), (9 : Nat))] := htab0
    have hx := CF.1; have hb := CF.2.1
    have hL : th_L ls 3 [(0, rv a0), (1, .int x1)] := hL
    unfold tw_X0_stop at hw
    refine th_aload_n hx hb dX0_stop_0 rfl (lv_at hL.1 0 rfl) ?_
    obtain ⟨ho, hw⟩ := hw
    refine th_kv hS (th_rV CF hK hSt hR hS ho (ci := 0) rfl (rest := []) (tk_X0_begins) (cw_X0_110 CF hK (by decide +kernel)) hw rfl hL.1.1 rfl th_cn (Nat.le_of_ble_eq_true rfl) dX0_stop_1 ⟨by show _ ≤ (2 : Nat); omega, by show _ ≤ (15 : Nat); omega⟩) (fun G1 H locs hw hR hS => ?_)
    refine th_aload_n hx hb dX0_stop_4 rfl (lv_at hL.1 0 rfl) ?_
    refine th_aload_n hx hb dX0_stop_5 rfl (lv_at hL.1 0 rfl) ?_
    refine lv_iload_n hx hb dX0_stop_6 rfl (lv_at hL.1 1 rfl) ?_
    obtain ⟨ho, hw⟩ := hw
    refine th_Xki hS (th_XrV CF hK hSt hR hS ho (ci := 0) rfl (rest := [rv a0]) (tk_X0_doStop) (cw_X0_271 CF hK (by decide +kernel)) hw rfl hL.1.1 rfl (th_cr th_cn) (Nat.le_of_ble_eq_true rfl) dX0_stop_7 ⟨by show _ ≤ (2 : Nat); omega, by show _ ≤ (15 : Nat); omega⟩) (fun e6 G7 H locs hw ho hR hS => ?_) (fun r3 G2 H locs hw hR hS => ?_)
    · rcases hw with hw | hw
      · obtain ⟨hk, hw⟩ := hw
        refine th_catch (ci := 9) (nm := "TitheBarn$Wrong") CF.2.2.2.1 hK hR hk rfl htab [] (⟨4, 13, 14, 3⟩ : ExceptionTableEntry) [(⟨4, 13, 14, 9⟩ : ExceptionTableEntry)] rfl (by intro z hz; cases hz) rfl (by decide) (CF.2.2.2.2 _ q466) q517 ?_
        refine th_astore_n hx hb dX0_stop_14 rfl hL (by decide) rfl (fun ls hL => ?_)
        refine th_aload_n hx hb dX0_stop_15 rfl (lv_at hL.1 1 rfl) ?_
        refine th_aload_n hx hb dX0_stop_16 rfl (lv_at hL.1 0 rfl) ?_
        obtain ⟨ho, hw⟩ := hw
        refine th_ki hS (th_rV CF hK hSt hR hS ho (ci := 0) rfl (rest := []) (tk_X0_notDone) (cw_X0_120 CF hK (by decide +kernel)) hw rfl hL.1.1 rfl th_cn (Nat.le_of_ble_eq_true rfl) dX0_stop_17 ⟨by show _ ≤ (2 : Nat); omega, by show _ ≤ (15 : Nat); omega⟩) (fun r9 G8 H locs hw hR hS => ?_)
        exact vz_ret (th_iret hx hb hret hlk hR hS hw (by omega) (by omega) dX0_stop_20)
      · obtain ⟨hk, hw⟩ := hw
        refine th_catch (ci := 10) (nm := "TitheBarn$Refused") CF.2.2.2.1 hK hR hk rfl htab [(⟨4, 13, 14, 3⟩ : ExceptionTableEntry)] (⟨4, 13, 14, 9⟩ : ExceptionTableEntry) [] rfl (by intro z hz; rw [List.mem_singleton.mp hz]; exact Or.inr ⟨by decide, _, CF.2.2.2.2 _ q466, hK.2.2.2.2.1⟩) rfl (by decide) (CF.2.2.2.2 _ q467) q585 ?_
        refine th_astore_n hx hb dX0_stop_14 rfl hL (by decide) rfl (fun ls hL => ?_)
        refine th_aload_n hx hb dX0_stop_15 rfl (lv_at hL.1 1 rfl) ?_
        refine th_aload_n hx hb dX0_stop_16 rfl (lv_at hL.1 0 rfl) ?_
        obtain ⟨ho, hw⟩ := hw
        refine th_ki hS (th_rV CF hK hSt hR hS ho (ci := 0) rfl (rest := []) (tk_X0_notDone) (cw_X0_120 CF hK (by decide +kernel)) hw rfl hL.1.1 rfl th_cn (Nat.le_of_ble_eq_true rfl) dX0_stop_17 ⟨by show _ ≤ (2 : Nat); omega, by show _ ≤ (15 : Nat); omega⟩) (fun r11 G10 H locs hw hR hS => ?_)
        exact vz_ret (th_iret hx hb hret hlk hR hS hw (by omega) (by omega) dX0_stop_20)
    · skip
      obtain ⟨ho, hw⟩ := hw
      refine th_ki hS (th_rV CF hK hSt hR hS ho (ci := 0) rfl (rest := []) (tk_X0_changed) (cw_X0_117 CF hK (by decide +kernel)) hw rfl hL.1.1 rfl th_cn (Nat.le_of_ble_eq_true rfl) dX0_stop_10 ⟨by show _ ≤ (2 : Nat); omega, by show _ ≤ (15 : Nat); omega⟩) (fun r5 G4 H locs hw hR hS => ?_)
      exact vz_ret (th_iret hx hb hret hlk hR hS hw (by omega) (by omega) dX0_stop_13))
def tw_X0_thresh (Q : Int32 → aH → Prop) (G : aH) (a0 : Nat) (x1 : Int32) (x2 : Int32) (x3 : Int32) : Prop :=
  th_o G a0 0 ∧ (
  (tw_X0_begins
    (fun (G1 : aH) =>
      th_o G1 a0 0 ∧ (
      (tw_X0_doThresh
        (fun (r3 : Int32) (G2 : aH) =>
          th_o G2 a0 0 ∧ (
          (tw_X0_changed
            (fun (r5 : Int32) (G4 : aH) =>
              Q r5 G4)
            G2 a0 r3)))
        (fun (e6 : Nat) (G7 : aH) =>
          (th_o G7 e6 9 ∧ (
            th_o G7 a0 0 ∧ (
            (tw_X0_notDone
              (fun (r9 : Int32) (G8 : aH) =>
                Q r9 G8)
              G7 a0 e6)))) ∨
          (th_o G7 e6 10 ∧ (
            th_o G7 a0 0 ∧ (
            (tw_X0_notDone
              (fun (r11 : Int32) (G10 : aH) =>
                Q r11 G10)
              G7 a0 e6)))))
        G1 a0 x1 x2 x3)))
    G a0))
theorem tk_X0_thresh {l : Launch} {D : tD} {B : Nat} {Q : Int32 → aH → Prop} {a0 : Nat} {x1 : Int32} {x2 : Int32} {x3 : Int32} : vz_Met l yX0_thresh (wsW_ yX0_thresh cX0_thresh 5 ((Option.some Jvm.ClassFile.FieldType.int)) [((4 : Nat), (15 : Nat), (16 : Nat), (3 : Nat)), ((4 : Nat), (15 : Nat), (16 : Nat), (9 : Nat))]) rm_X0_thresh (th_P D B [rv a0, .int x1, .int x2, .int x3] (fun G => tw_X0_thresh Q G a0 x1 x2 x3)) (th_Qi D B Q) (th_X D B (fun _ _ => False)) 7 48 (th_A B) :=
  th_ofXH (by decide +kernel) (th_cr (th_ci (th_ci (th_ci th_cn)))) (Nat.le_of_ble_eq_true rfl) (fun p e s m args below meth c CF hret hlk hnm htab0 hK hSt G ls hR hS hw hL => by
    have E : th_E p m c cX0_thresh 5 s args RX0 meth ((Option.some Jvm.ClassFile.FieldType.int)) "thresh" D B := ⟨CF, hret, hlk, hnm, hK, hSt⟩
    have htab : c.exceptionTable.toList = tableOf [((4 : Nat), (15 : Nat), (16 : Nat), (3 : Nat)), ((4 : Nat), (15 : Nat), (16 : Nat), (9 : Nat))] := htab0
    have hx := CF.1; have hb := CF.2.1
    have hL : th_L ls 5 [(0, rv a0), (1, .int x1), (2, .int x2), (3, .int x3)] := hL
    unfold tw_X0_thresh at hw
    refine th_aload_n hx hb dX0_thresh_0 rfl (lv_at hL.1 0 rfl) ?_
    obtain ⟨ho, hw⟩ := hw
    refine th_kv hS (th_rV CF hK hSt hR hS ho (ci := 0) rfl (rest := []) (tk_X0_begins) (cw_X0_110 CF hK (by decide +kernel)) hw rfl hL.1.1 rfl th_cn (Nat.le_of_ble_eq_true rfl) dX0_thresh_1 ⟨by show _ ≤ (7 : Nat); omega, by show _ ≤ (48 : Nat); omega⟩) (fun G1 H locs hw hR hS => ?_)
    refine th_aload_n hx hb dX0_thresh_4 rfl (lv_at hL.1 0 rfl) ?_
    refine th_aload_n hx hb dX0_thresh_5 rfl (lv_at hL.1 0 rfl) ?_
    refine lv_iload_n hx hb dX0_thresh_6 rfl (lv_at hL.1 1 rfl) ?_
    refine lv_iload_n hx hb dX0_thresh_7 rfl (lv_at hL.1 2 rfl) ?_
    refine lv_iload_n hx hb dX0_thresh_8 rfl (lv_at hL.1 3 rfl) ?_
    obtain ⟨ho, hw⟩ := hw
    refine th_Xki hS (th_XrV CF hK hSt hR hS ho (ci := 0) rfl (rest := [rv a0]) (tk_X0_doThresh) (cw_X0_217 CF hK (by decide +kernel)) hw rfl hL.1.1 rfl (th_cr th_cn) (Nat.le_of_ble_eq_true rfl) dX0_thresh_9 ⟨by show _ ≤ (7 : Nat); omega, by show _ ≤ (48 : Nat); omega⟩) (fun e6 G7 H locs hw ho hR hS => ?_) (fun r3 G2 H locs hw hR hS => ?_)
    · rcases hw with hw | hw
      · obtain ⟨hk, hw⟩ := hw
        refine th_catch (ci := 9) (nm := "TitheBarn$Wrong") CF.2.2.2.1 hK hR hk rfl htab [] (⟨4, 15, 16, 3⟩ : ExceptionTableEntry) [(⟨4, 15, 16, 9⟩ : ExceptionTableEntry)] rfl (by intro z hz; cases hz) rfl (by decide) (CF.2.2.2.2 _ q466) q517 ?_
        refine th_astore hx hb dX0_thresh_16 hL (by decide) rfl (fun ls hL => ?_)
        refine th_aload_n hx hb dX0_thresh_18 rfl (lv_at hL.1 1 rfl) ?_
        refine th_aload hx hb dX0_thresh_19 (lv_at hL.1 0 rfl) ?_
        obtain ⟨ho, hw⟩ := hw
        refine th_ki hS (th_rV CF hK hSt hR hS ho (ci := 0) rfl (rest := []) (tk_X0_notDone) (cw_X0_120 CF hK (by decide +kernel)) hw rfl hL.1.1 rfl th_cn (Nat.le_of_ble_eq_true rfl) dX0_thresh_21 ⟨by show _ ≤ (7 : Nat); omega, by show _ ≤ (48 : Nat); omega⟩) (fun r9 G8 H locs hw hR hS => ?_)
        exact vz_ret (th_iret hx hb hret hlk hR hS hw (by omega) (by omega) dX0_thresh_24)
      · obtain ⟨hk, hw⟩ := hw
        refine th_catch (ci := 10) (nm := "TitheBarn$Refused") CF.2.2.2.1 hK hR hk rfl htab [(⟨4, 15, 16, 3⟩ : ExceptionTableEntry)] (⟨4, 15, 16, 9⟩ : ExceptionTableEntry) [] rfl (by intro z hz; rw [List.mem_singleton.mp hz]; exact Or.inr ⟨by decide, _, CF.2.2.2.2 _ q466, hK.2.2.2.2.1⟩) rfl (by decide) (CF.2.2.2.2 _ q467) q585 ?_
        refine th_astore hx hb dX0_thresh_16 hL (by decide) rfl (fun ls hL => ?_)
        refine th_aload_n hx hb dX0_thresh_18 rfl (lv_at hL.1 1 rfl) ?_
        refine th_aload hx hb dX0_thresh_19 (lv_at hL.1 0 rfl) ?_
        obtain ⟨ho, hw⟩ := hw
        refine th_ki hS (th_rV CF hK hSt hR hS ho (ci := 0) rfl (rest := []) (tk_X0_notDone) (cw_X0_120 CF hK (by decide +kernel)) hw rfl hL.1.1 rfl th_cn (Nat.le_of_ble_eq_true rfl) dX0_thresh_21 ⟨by show _ ≤ (7 : Nat); omega, by show _ ≤ (48 : Nat); omega⟩) (fun r11 G10 H locs hw hR hS => ?_)
        exact vz_ret (th_iret hx hb hret hlk hR hS hw (by omega) (by omega) dX0_thresh_24)
    · skip
      obtain ⟨ho, hw⟩ := hw
      refine th_ki hS (th_rV CF hK hSt hR hS ho (ci := 0) rfl (rest := []) (tk_X0_changed) (cw_X0_117 CF hK (by decide +kernel)) hw rfl hL.1.1 rfl th_cn (Nat.le_of_ble_eq_true rfl) dX0_thresh_12 ⟨by show _ ≤ (7 : Nat); omega, by show _ ≤ (48 : Nat); omega⟩) (fun r5 G4 H locs hw hR hS => ?_)
      exact vz_ret (th_iret hx hb hret hlk hR hS hw (by omega) (by omega) dX0_thresh_15))
def tw_X0_tithe (Q : Int32 → aH → Prop) (G : aH) (a0 : Nat) (x1 : Int32) (x2 : Int32) : Prop :=
  th_o G a0 0 ∧ (
  (tw_X0_isParish
    (fun (r2 : Int32) (G1 : aH) =>
      (¬ r2 = 0 →
        (tw_X0_within
          (fun (r4 : Int32) (G3 : aH) =>
            (r4 = 0 →
              Q (-2) G3) ∧
            (¬ r4 = 0 →
              th_o G3 a0 0 ∧ (
              th_o G3 (a_mr G3 a0 0) 1 ∧ (
              th_ai G3 (a_mr G3 (a_mr G3 a0 0) 0) 4 x1 ∧ (
              th_o G3 (a_mr G3 (a_mr G3 (a_mr G3 a0 0) 0) x1.toNatClampNeg) 2 ∧ (
              (tw_X2_tithe
                (fun (r6 : Int32) (G5 : aH) =>
                  Q r6 G5)
                G3 (a_mr G3 (a_mr G3 (a_mr G3 a0 0) 0) x1.toNatClampNeg) x2)))))))
          G1 x2 1 999)) ∧
      (r2 = 0 →
        Q (-1) G1))
    G a0 x1))
theorem tk_X0_tithe {l : Launch} {D : tD} {B : Nat} {Q : Int32 → aH → Prop} {a0 : Nat} {x1 : Int32} {x2 : Int32} : Met l yX0_tithe (ws_ yX0_tithe cX0_tithe 3 ((Option.some Jvm.ClassFile.FieldType.int))) rm_X0_tithe (th_P D B [rv a0, .int x1, .int x2] (fun G => tw_X0_tithe Q G a0 x1 x2)) (th_Qi D B Q) 0 0 (th_A B) :=
  th_ofW (by decide +kernel) (th_cr (th_ci (th_ci th_cn))) (Nat.le_of_ble_eq_true rfl) (fun p e s m args below meth c CF hret hlk hnm hK hSt G ls hR hS hw hL => by
    have E : th_E p m c cX0_tithe 3 s args RX0 meth ((Option.some Jvm.ClassFile.FieldType.int)) "tithe" D B := ⟨CF, hret, hlk, hnm, hK, hSt⟩
    have hx := CF.1; have hb := CF.2.1
    have hL : th_L ls 3 [(0, rv a0), (1, .int x1), (2, .int x2)] := hL
    unfold tw_X0_tithe at hw
    refine th_aload_n hx hb dX0_tithe_0 rfl (lv_at hL.1 0 rfl) ?_
    refine lv_iload_n hx hb dX0_tithe_1 rfl (lv_at hL.1 1 rfl) ?_
    obtain ⟨ho, hw⟩ := hw
    refine th_ki hS (th_rV CF hK hSt hR hS ho (ci := 0) rfl (rest := []) (tk_X0_isParish) (cw_X0_124 CF hK (by decide +kernel)) hw rfl hL.1.1 rfl th_cn (Nat.le_of_ble_eq_true rfl) dX0_tithe_2 ⟨by show _ ≤ (0 : Nat); omega, by show _ ≤ (0 : Nat); omega⟩) (fun r2 G1 H locs hw hR hS => ?_)
    refine lv_if_ne hx hb dX0_tithe_5 (tgt := 10) (by decide) (fun h => ?_) (fun h => ?_)
    · replace hw := hw.1 h
      refine lv_iload_n hx hb dX0_tithe_10 rfl (lv_at hL.1 2 rfl) ?_
      refine lv_iconst hx hb dX0_tithe_11 (v := 1) rfl ?_
      refine lv_sipush hx hb dX0_tithe_12 (v := 999) rfl ?_
      refine th_ki hS (th_rS CF hK hSt hR hS (rest := []) (tk_X0_within) (cw_X0_82 CF hK (by decide +kernel)) hw rfl hL.1.1 rfl th_cn (Nat.le_of_ble_eq_true rfl) dX0_tithe_15 ⟨by show _ ≤ (0 : Nat); omega, by show _ ≤ (0 : Nat); omega⟩) (fun r4 G3 H locs hw hR hS => ?_)
      refine lv_if_eq hx hb dX0_tithe_18 (tgt := 37) (by decide) (fun h => ?_) (fun h => ?_)
      · replace hw := hw.1 h
        refine lv_bipush hx hb dX0_tithe_37 (v := (-2)) rfl ?_
        exact th_iret hx hb hret hlk hR hS hw (by omega) (by omega) dX0_tithe_39
      · replace hw := hw.2 h
        refine th_aload_n hx hb dX0_tithe_21 rfl (lv_at hL.1 0 rfl) ?_
        obtain ⟨ho, hw⟩ := hw
        refine fg_X0_22 CF hK hR ho dX0_tithe_22 ?_
        obtain ⟨ho, hw⟩ := hw
        refine fg_X0_101 CF hK hR ho dX0_tithe_25 ?_
        refine lv_iload_n hx hb dX0_tithe_28 rfl (lv_at hL.1 1 rfl) ?_
        obtain ⟨ha, hw⟩ := hw
        refine th_aald hx hb hK 4 (by decide) rfl rfl hR ha dX0_tithe_29 ?_
        refine lv_iload_n hx hb dX0_tithe_30 rfl (lv_at hL.1 2 rfl) ?_
        obtain ⟨ho, hw⟩ := hw
        refine th_ki hS (th_rV CF hK hSt hR hS ho (ci := 2) rfl (rest := []) (tk_X2_tithe) (cw_X0_127 CF hK (by decide +kernel)) hw rfl hL.1.1 rfl th_cn (Nat.le_of_ble_eq_true rfl) dX0_tithe_31 ⟨by show _ ≤ (0 : Nat); omega, by show _ ≤ (0 : Nat); omega⟩) (fun r6 G5 H locs hw hR hS => ?_)
        refine lv_goto hx hb dX0_tithe_34 (tgt := 39) (by decide) ?_
        exact th_iret hx hb hret hlk hR hS hw (by omega) (by omega) dX0_tithe_39
    · replace hw := hw.2 h
      refine lv_iconst hx hb dX0_tithe_8 (v := (-1)) rfl ?_
      exact th_iret hx hb hret hlk hR hS hw (by omega) (by omega) dX0_tithe_9)
def tw_X0_titheAgain_b66 (Q : Int32 → aH → Prop) (k46 : aH → Int32 → Int32 → Int32 → Int32 → Prop) (G : aH) (x2 : Int32) (x3 : Int32) (x4 : Int32) (x5 : Int32) : Prop :=
  ∀ x5_7 : Int32, x5_7 = x5 + 1 → 
  k46 G x2 x3 x4 x5_7
def tw_X0_titheAgain_b46 (Q : Int32 → aH → Prop) : Nat → aH → Int32 → Int32 → Int32 → Int32 → Prop := fun n => Nat.rec (motive := fun _ => aH → Int32 → Int32 → Int32 → Int32 → Prop) (fun _ _ _ _ _ => False) (fun _ ih G x2 x3 x4 x5 =>
  (x2 ≤ x5 →
    Q x4 G) ∧
  (¬ x2 ≤ x5 →
    ∀ x3_6 : Int32, x3_6 = x3 + 1 → 
    (¬ x3_6 = 10 →
      tw_X0_titheAgain_b66 Q (ih) G x2 x3_6 x4 x5) ∧
    (x3_6 = 10 →
      ∀ x4_8 : Int32, x4_8 = x4 + 1 → 
      tw_X0_titheAgain_b66 Q (ih) G x2 0 x4_8 x5))) n
theorem tws_X0_titheAgain_b46 (Q : Int32 → aH → Prop) (n : Nat) (G : aH) (x2 : Int32) (x3 : Int32) (x4 : Int32) (x5 : Int32) : tw_X0_titheAgain_b46 Q (n + 1) G x2 x3 x4 x5 = (
  (x2 ≤ x5 →
    Q x4 G) ∧
  (¬ x2 ≤ x5 →
    ∀ x3_6 : Int32, x3_6 = x3 + 1 → 
    (¬ x3_6 = 10 →
      tw_X0_titheAgain_b66 Q (tw_X0_titheAgain_b46 Q n) G x2 x3_6 x4 x5) ∧
    (x3_6 = 10 →
      ∀ x4_8 : Int32, x4_8 = x4 + 1 → 
      tw_X0_titheAgain_b66 Q (tw_X0_titheAgain_b46 Q n) G x2 0 x4_8 x5))) := rfl
def tw_X0_titheAgain (Q : Int32 → aH → Prop) (G : aH) (a0 : Nat) (x1 : Int32) (x2 : Int32) : Prop :=
  th_o G a0 0 ∧ (
  (tw_X0_isParish
    (fun (r2 : Int32) (G1 : aH) =>
      (¬ r2 = 0 →
        (tw_X0_within
          (fun (r4 : Int32) (G3 : aH) =>
            (¬ r4 = 0 →
              th_o G3 a0 0 ∧ (
              th_o G3 (a_mr G3 a0 0) 1 ∧ (
              th_ai G3 (a_mr G3 (a_mr G3 a0 0) 0) 4 x1 ∧ (
              th_o G3 (a_mr G3 (a_mr G3 (a_mr G3 a0 0) 0) x1.toNatClampNeg) 2 ∧ (
              ∀ x3_5 : Int32, x3_5 = (a_mi G3 (a_mr G3 (a_mr G3 (a_mr G3 a0 0) 0) x1.toNatClampNeg) 1) - (a_mi G3 (a_mr G3 (a_mr G3 (a_mr G3 a0 0) 0) x1.toNatClampNeg) 1) / 10 * 10 → 
              ∃ n9 : Nat, tw_X0_titheAgain_b46 Q n9 G3 x2 x3_5 0 0))))) ∧
            (r4 = 0 →
              Q (-2) G3))
          G1 x2 1 999)) ∧
      (r2 = 0 →
        Q (-1) G1))
    G a0 x1))
theorem tk_X0_titheAgain_b66 {p : Program} {l : Launch} {e : Env} {s : State} {m : MethodId} {args : Array Value} {below : List Frame} {meth : Method} {c : Code} {D : tD} {B : Nat} (E : th_E p m c cX0_titheAgain 6 s args RX0 meth ((Option.some Jvm.ClassFile.FieldType.int)) "titheAgain" D B) {Q : Int32 → aH → Prop} {k46 : aH → Int32 → Int32 → Int32 → Int32 → Prop} {c46 s46 : Nat} (h46 : ∀ (G : aH) (H : Heap) (locs : List Loc) (cells slots : Nat) (ls : Array Slot) (y46_0 : Int32) (y46_1 : Int32) (y46_2 : Int32) (y46_3 : Int32), k46 G y46_0 y46_1 y46_2 y46_3 → th_H D B G H → va_S (th_A B) s.heap H locs → th_L ls 6 [(2, .int y46_0), (3, .int y46_1), (4, .int y46_2), (5, .int y46_3)] → cells ≤ c46 ∧ slots ≤ s46 → W p l e rm_X0_titheAgain s m args below meth c H locs cells slots (MQ below (th_Qi D B Q) args s 0 0 (th_A B)) (F0 m 46 ls [])) {G : aH} {H : Heap} {locs : List Loc} {cells slots : Nat} {ls : Array Slot} {x2 : Int32} {x3 : Int32} {x4 : Int32} {x5 : Int32} (hR : th_H D B G H) (hS : va_S (th_A B) s.heap H locs) (hL : th_L ls 6 [(2, .int x2), (3, .int x3), (4, .int x4), (5, .int x5)]) (hw : tw_X0_titheAgain_b66 Q k46 G x2 x3 x4 x5) (hc : cells + (0) ≤ 0 ∧ slots + (0) ≤ 0 ∧ cells + (0) ≤ c46 ∧ slots + (0) ≤ s46) : W p l e rm_X0_titheAgain s m args below meth c H locs cells slots (MQ below (th_Qi D B Q) args s 0 0 (th_A B)) (F0 m 66 ls []) := by
  have CF := E.1; have hx := CF.1; have hb := CF.2.1; have hret := E.2.1; have hlk := E.2.2.1; have hnm := E.2.2.2.1; have hK := E.2.2.2.2.1; have hSt := E.2.2.2.2.2
  unfold tw_X0_titheAgain_b66 at hw
  obtain ⟨x5_7, hx5_7⟩ : ∃ y : Int32, y = x5 + 1 := ⟨_, rfl⟩
  replace hw := hw x5_7 hx5_7
  refine th_iinc hx hb dX0_titheAgain_66 hL (k := 3) rfl (v := x5_7) hx5_7.symm (by decide) rfl (fun ls hL => ?_)
  refine lv_goto hx hb dX0_titheAgain_69 (tgt := 46) (by decide) ?_
  exact h46 _ _ _ _ _ _ _ _ _ _ hw hR hS (hL.sub [1, 2, 3, 0] rfl) ⟨by omega, by omega⟩
theorem tk_X0_titheAgain_b46 {p : Program} {l : Launch} {e : Env} {s : State} {m : MethodId} {args : Array Value} {below : List Frame} {meth : Method} {c : Code} {D : tD} {B : Nat} (E : th_E p m c cX0_titheAgain 6 s args RX0 meth ((Option.some Jvm.ClassFile.FieldType.int)) "titheAgain" D B) {Q : Int32 → aH → Prop} : ∀ (n : Nat) {G : aH} {H : Heap} {locs : List Loc} {cells slots : Nat} {ls : Array Slot} {x2 : Int32} {x3 : Int32} {x4 : Int32} {x5 : Int32} (hR : th_H D B G H) (hS : va_S (th_A B) s.heap H locs) (hL : th_L ls 6 [(2, .int x2), (3, .int x3), (4, .int x4), (5, .int x5)]) (hw : tw_X0_titheAgain_b46 Q n G x2 x3 x4 x5) (hc : cells + (0) ≤ 0 ∧ slots + (0) ≤ 0), W p l e rm_X0_titheAgain s m args below meth c H locs cells slots (MQ below (th_Qi D B Q) args s 0 0 (th_A B)) (F0 m 46 ls []) := by
  have CF := E.1; have hx := CF.1; have hb := CF.2.1; have hret := E.2.1; have hlk := E.2.2.1; have hnm := E.2.2.2.1; have hK := E.2.2.2.2.1; have hSt := E.2.2.2.2.2
  intro n
  induction n with
  | zero => intro _ _ _ _ _ _ _ _ _ _ _ _ _ hw; exact hw.elim
  | succ n ih =>
    intro G H locs cells slots ls x2 x3 x4 x5 hR hS hL hw hc
    rw [tws_X0_titheAgain_b46] at hw
    refine lv_iload hx hb dX0_titheAgain_46 (lv_at hL.1 3 rfl) ?_
    refine lv_iload_n hx hb dX0_titheAgain_48 rfl (lv_at hL.1 0 rfl) ?_
    refine lv_icmp_ge hx hb dX0_titheAgain_49 (tgt := 72) (by decide) (fun h => ?_) (fun h => ?_)
    · replace hw := hw.1 h
      refine lv_iload hx hb dX0_titheAgain_72 (lv_at hL.1 2 rfl) ?_
      exact th_iret hx hb hret hlk hR hS hw (by omega) (by omega) dX0_titheAgain_74
    · replace hw := hw.2 h
      obtain ⟨x3_6, hx3_6⟩ : ∃ y : Int32, y = x3 + 1 := ⟨_, rfl⟩
      replace hw := hw x3_6 hx3_6
      refine th_iinc hx hb dX0_titheAgain_52 hL (k := 1) rfl (v := x3_6) hx3_6.symm (by decide) rfl (fun ls hL => ?_)
      refine lv_iload_n hx hb dX0_titheAgain_55 rfl (lv_at hL.1 0 rfl) ?_
      refine lv_bipush hx hb dX0_titheAgain_56 (v := 10) rfl ?_
      refine lv_icmp_ne hx hb dX0_titheAgain_58 (tgt := 66) (by decide) (fun h => ?_) (fun h => ?_)
      · replace hw := hw.1 h
        exact tk_X0_titheAgain_b66 E (c46 := cells + 0) (s46 := slots + 0) (fun G H locs cells slots ls y0 y1 y2 y3 hw hR hS hL hc => ih hR hS hL hw ⟨by omega, by omega⟩) hR hS (hL.sub [1, 0, 2, 3] rfl) hw ⟨by omega, by omega, by omega, by omega⟩
      · replace hw := hw.2 h
        refine lv_iconst hx hb dX0_titheAgain_61 (v := 0) rfl ?_
        refine th_istore_n hx hb dX0_titheAgain_62 rfl hL (by decide) rfl (fun ls hL => ?_)
        obtain ⟨x4_8, hx4_8⟩ : ∃ y : Int32, y = x4 + 1 := ⟨_, rfl⟩
        replace hw := hw x4_8 hx4_8
        refine th_iinc hx hb dX0_titheAgain_63 hL (k := 2) rfl (v := x4_8) hx4_8.symm (by decide) rfl (fun ls hL => ?_)
        exact tk_X0_titheAgain_b66 E (c46 := cells + 0) (s46 := slots + 0) (fun G H locs cells slots ls y0 y1 y2 y3 hw hR hS hL hc => ih hR hS hL hw ⟨by omega, by omega⟩) hR hS (hL.sub [2, 1, 0, 3] rfl) hw ⟨by omega, by omega, by omega, by omega⟩
theorem tk_X0_titheAgain {l : Launch} {D : tD} {B : Nat} {Q : Int32 → aH → Prop} {a0 : Nat} {x1 : Int32} {x2 : Int32} : Met l yX0_titheAgain (ws_ yX0_titheAgain cX0_titheAgain 6 ((Option.some Jvm.ClassFile.FieldType.int))) rm_X0_titheAgain (th_P D B [rv a0, .int x1, .int x2] (fun G => tw_X0_titheAgain Q G a0 x1 x2)) (th_Qi D B Q) 0 0 (th_A B) :=
  th_ofW (by decide +kernel) (th_cr (th_ci (th_ci th_cn))) (Nat.le_of_ble_eq_true rfl) (fun p e s m args below meth c CF hret hlk hnm hK hSt G ls hR hS hw hL => by
    have E : th_E p m c cX0_titheAgain 6 s args RX0 meth ((Option.some Jvm.ClassFile.FieldType.int)) "titheAgain" D B := ⟨CF, hret, hlk, hnm, hK, hSt⟩
    have hx := CF.1; have hb := CF.2.1
    have hL : th_L ls 6 [(0, rv a0), (1, .int x1), (2, .int x2)] := hL
    unfold tw_X0_titheAgain at hw
    refine th_aload_n hx hb dX0_titheAgain_0 rfl (lv_at hL.1 0 rfl) ?_
    refine lv_iload_n hx hb dX0_titheAgain_1 rfl (lv_at hL.1 1 rfl) ?_
    obtain ⟨ho, hw⟩ := hw
    refine th_ki hS (th_rV CF hK hSt hR hS ho (ci := 0) rfl (rest := []) (tk_X0_isParish) (cw_X0_124 CF hK (by decide +kernel)) hw rfl hL.1.1 rfl th_cn (Nat.le_of_ble_eq_true rfl) dX0_titheAgain_2 ⟨by show _ ≤ (0 : Nat); omega, by show _ ≤ (0 : Nat); omega⟩) (fun r2 G1 H locs hw hR hS => ?_)
    refine lv_if_ne hx hb dX0_titheAgain_5 (tgt := 10) (by decide) (fun h => ?_) (fun h => ?_)
    · replace hw := hw.1 h
      refine lv_iload_n hx hb dX0_titheAgain_10 rfl (lv_at hL.1 2 rfl) ?_
      refine lv_iconst hx hb dX0_titheAgain_11 (v := 1) rfl ?_
      refine lv_sipush hx hb dX0_titheAgain_12 (v := 999) rfl ?_
      refine th_ki hS (th_rS CF hK hSt hR hS (rest := []) (tk_X0_within) (cw_X0_82 CF hK (by decide +kernel)) hw rfl hL.1.1 rfl th_cn (Nat.le_of_ble_eq_true rfl) dX0_titheAgain_15 ⟨by show _ ≤ (0 : Nat); omega, by show _ ≤ (0 : Nat); omega⟩) (fun r4 G3 H locs hw hR hS => ?_)
      refine lv_if_ne hx hb dX0_titheAgain_18 (tgt := 24) (by decide) (fun h => ?_) (fun h => ?_)
      · replace hw := hw.1 h
        refine th_aload_n hx hb dX0_titheAgain_24 rfl (lv_at hL.1 0 rfl) ?_
        obtain ⟨ho, hw⟩ := hw
        refine fg_X0_22 CF hK hR ho dX0_titheAgain_25 ?_
        obtain ⟨ho, hw⟩ := hw
        refine fg_X0_101 CF hK hR ho dX0_titheAgain_28 ?_
        refine lv_iload_n hx hb dX0_titheAgain_31 rfl (lv_at hL.1 1 rfl) ?_
        obtain ⟨ha, hw⟩ := hw
        refine th_aald hx hb hK 4 (by decide) rfl rfl hR ha dX0_titheAgain_32 ?_
        obtain ⟨ho, hw⟩ := hw
        refine fg_X0_130 CF hK hR ho dX0_titheAgain_33 ?_
        refine lv_bipush hx hb dX0_titheAgain_36 (v := 10) rfl ?_
        refine lv_irem hx hb dX0_titheAgain_38 (by decide) ?_
        obtain ⟨x3_5, hx3_5⟩ : ∃ y : Int32, y = (a_mi G3 (a_mr G3 (a_mr G3 (a_mr G3 a0 0) 0) x1.toNatClampNeg) 1) - (a_mi G3 (a_mr G3 (a_mr G3 (a_mr G3 a0 0) 0) x1.toNatClampNeg) 1) / 10 * 10 := ⟨_, rfl⟩
        replace hw := hw x3_5 hx3_5
        refine th_nmi hx3_5 ?_
        refine th_istore_n hx hb dX0_titheAgain_39 rfl hL (by decide) rfl (fun ls hL => ?_)
        refine lv_iconst hx hb dX0_titheAgain_40 (v := 0) rfl ?_
        refine th_istore hx hb dX0_titheAgain_41 hL (by decide) rfl (fun ls hL => ?_)
        refine lv_iconst hx hb dX0_titheAgain_43 (v := 0) rfl ?_
        refine th_istore hx hb dX0_titheAgain_44 hL (by decide) rfl (fun ls hL => ?_)
        obtain ⟨n9, hw⟩ := hw
        exact tk_X0_titheAgain_b46 E n9 hR hS (hL.sub [5, 2, 1, 0] rfl) hw ⟨by omega, by omega⟩
      · replace hw := hw.2 h
        refine lv_bipush hx hb dX0_titheAgain_21 (v := (-2)) rfl ?_
        exact th_iret hx hb hret hlk hR hS hw (by omega) (by omega) dX0_titheAgain_23
    · replace hw := hw.2 h
      refine lv_iconst hx hb dX0_titheAgain_8 (v := (-1)) rfl ?_
      exact th_iret hx hb hret hlk hR hS hw (by omega) (by omega) dX0_titheAgain_9)
def tw_X0_undo (Q : Int32 → aH → Prop) (G : aH) (a0 : Nat) : Prop :=
  th_o G a0 0 ∧ (
  (¬ a_mi G a0 6 = 0 →
    th_o G a0 0 ∧ (
    th_o G a0 0 ∧ (
    ∀ G1 : aH, G1 = a_si G a0 6 ((a_mi G a0 6) - 1) → 
    th_o G1 a0 0 ∧ (
    th_o G1 a0 0 ∧ (
    th_o G1 a0 0 ∧ (
    th_ai G1 (a_mr G1 a0 5) 9 (a_mi G1 a0 6) ∧ (
    th_o G1 (a_mr G1 a0 0) 1 ∧ (
    (tw_X1_like
      (fun (G2 : aH) =>
        th_o G2 a0 0 ∧ (
        Q (a_mi G2 a0 6) G2))
      G1 (a_mr G1 a0 0) (a_mr G1 (a_mr G1 a0 5) (a_mi G1 a0 6).toNatClampNeg)))))))))) ∧
  (a_mi G a0 6 = 0 →
    Q (-4) G))
theorem tk_X0_undo {l : Launch} {D : tD} {B : Nat} {Q : Int32 → aH → Prop} {a0 : Nat} : Met l yX0_undo (ws_ yX0_undo cX0_undo 1 ((Option.some Jvm.ClassFile.FieldType.int))) rm_X0_undo (th_P D B [rv a0] (fun G => tw_X0_undo Q G a0)) (th_Qi D B Q) 0 0 (th_A B) :=
  th_ofW (by decide +kernel) (th_cr th_cn) (Nat.le_of_ble_eq_true rfl) (fun p e s m args below meth c CF hret hlk hnm hK hSt G ls hR hS hw hL => by
    have E : th_E p m c cX0_undo 1 s args RX0 meth ((Option.some Jvm.ClassFile.FieldType.int)) "undo" D B := ⟨CF, hret, hlk, hnm, hK, hSt⟩
    have hx := CF.1; have hb := CF.2.1
    have hL : th_L ls 1 [(0, rv a0)] := hL
    unfold tw_X0_undo at hw
    refine th_aload_n hx hb dX0_undo_0 rfl (lv_at hL.1 0 rfl) ?_
    obtain ⟨ho, hw⟩ := hw
    refine fg_X0_63 CF hK hR ho dX0_undo_1 ?_
    refine lv_if_ne hx hb dX0_undo_4 (tgt := 10) (by decide) (fun h => ?_) (fun h => ?_)
    · replace hw := hw.1 h
      refine th_aload_n hx hb dX0_undo_10 rfl (lv_at hL.1 0 rfl) ?_
      refine lv_dup hx hb dX0_undo_11 (rv_cat _) ?_
      obtain ⟨ho, hw⟩ := hw
      refine fg_X0_63 CF hK hR ho dX0_undo_12 ?_
      refine lv_iconst hx hb dX0_undo_15 (v := 1) rfl ?_
      refine lv_isub hx hb dX0_undo_16 ?_
      obtain ⟨ho, hw⟩ := hw
      refine fp_X0_63 CF hK hR hS ho dX0_undo_17 (fun G1 H locs hG hR hS => ?_)
      replace hw := hw G1 hG
      refine th_aload_n hx hb dX0_undo_20 rfl (lv_at hL.1 0 rfl) ?_
      obtain ⟨ho, hw⟩ := hw
      refine fg_X0_22 CF hK hR ho dX0_undo_21 ?_
      refine th_aload_n hx hb dX0_undo_24 rfl (lv_at hL.1 0 rfl) ?_
      obtain ⟨ho, hw⟩ := hw
      refine fg_X0_35 CF hK hR ho dX0_undo_25 ?_
      refine th_aload_n hx hb dX0_undo_28 rfl (lv_at hL.1 0 rfl) ?_
      obtain ⟨ho, hw⟩ := hw
      refine fg_X0_63 CF hK hR ho dX0_undo_29 ?_
      obtain ⟨ha, hw⟩ := hw
      refine th_aald hx hb hK 9 (by decide) rfl rfl hR ha dX0_undo_32 ?_
      obtain ⟨ho, hw⟩ := hw
      refine th_kv hS (th_rV CF hK hSt hR hS ho (ci := 1) rfl (rest := []) (tk_X1_like) (cw_X0_59 CF hK (by decide +kernel)) hw rfl hL.1.1 rfl th_cn (Nat.le_of_ble_eq_true rfl) dX0_undo_33 ⟨by show _ ≤ (0 : Nat); omega, by show _ ≤ (0 : Nat); omega⟩) (fun G2 H locs hw hR hS => ?_)
      refine th_aload_n hx hb dX0_undo_36 rfl (lv_at hL.1 0 rfl) ?_
      obtain ⟨ho, hw⟩ := hw
      refine fg_X0_63 CF hK hR ho dX0_undo_37 ?_
      exact th_iret hx hb hret hlk hR hS hw (by omega) (by omega) dX0_undo_40
    · replace hw := hw.2 h
      refine lv_bipush hx hb dX0_undo_7 (v := (-4)) rfl ?_
      exact th_iret hx hb hret hlk hR hS hw (by omega) (by omega) dX0_undo_9)
def tw_X0_written (Q : Int32 → aH → Prop) (G : aH) (a0 : Nat) (x1 : Int32) : Prop :=
  th_o G a0 0 ∧ (
  th_o G (a_mr G a0 10) 12 ∧ (
  (tw_J1_length
    (fun (r2 : Int32) (G1 : aH) =>
      (tw_X0_within
        (fun (r4 : Int32) (G3 : aH) =>
          (r4 = 0 →
            Q (-1) G3) ∧
          (¬ r4 = 0 →
            th_o G3 a0 0 ∧ (
            th_o G3 (a_mr G3 a0 10) 12 ∧ (
            (tw_J1_charAt
              (fun (r6 : Int32) (G5 : aH) =>
                Q r6 G5)
              G3 (a_mr G3 a0 10) x1)))))
        G1 x1 0 (r2 - 1)))
    G (a_mr G a0 10))))
theorem tk_X0_written {l : Launch} {D : tD} {B : Nat} {Q : Int32 → aH → Prop} {a0 : Nat} {x1 : Int32} : Met l yX0_written (ws_ yX0_written cX0_written 2 ((Option.some Jvm.ClassFile.FieldType.int))) rm_X0_written (th_P D B [rv a0, .int x1] (fun G => tw_X0_written Q G a0 x1)) (th_Qi D B Q) 0 0 (th_A B) :=
  th_ofW (by decide +kernel) (th_cr (th_ci th_cn)) (Nat.le_of_ble_eq_true rfl) (fun p e s m args below meth c CF hret hlk hnm hK hSt G ls hR hS hw hL => by
    have E : th_E p m c cX0_written 2 s args RX0 meth ((Option.some Jvm.ClassFile.FieldType.int)) "written" D B := ⟨CF, hret, hlk, hnm, hK, hSt⟩
    have hx := CF.1; have hb := CF.2.1
    have hL : th_L ls 2 [(0, rv a0), (1, .int x1)] := hL
    unfold tw_X0_written at hw
    refine lv_iload_n hx hb dX0_written_0 rfl (lv_at hL.1 1 rfl) ?_
    refine lv_iconst hx hb dX0_written_1 (v := 0) rfl ?_
    refine th_aload_n hx hb dX0_written_2 rfl (lv_at hL.1 0 rfl) ?_
    obtain ⟨ho, hw⟩ := hw
    refine fg_X0_50 CF hK hR ho dX0_written_3 ?_
    obtain ⟨ho, hw⟩ := hw
    refine th_ki hS (th_rV CF hK hSt hR hS ho (ci := 12) rfl (rest := [.int 0, .int x1]) (tk_J1_length) (cw_X0_286 CF hK (by decide +kernel)) hw rfl hL.1.1 rfl (th_ci (th_ci th_cn)) (Nat.le_of_ble_eq_true rfl) dX0_written_6 ⟨by show _ ≤ (0 : Nat); omega, by show _ ≤ (0 : Nat); omega⟩) (fun r2 G1 H locs hw hR hS => ?_)
    refine lv_iconst hx hb dX0_written_9 (v := 1) rfl ?_
    refine lv_isub hx hb dX0_written_10 ?_
    refine th_ki hS (th_rS CF hK hSt hR hS (rest := []) (tk_X0_within) (cw_X0_82 CF hK (by decide +kernel)) hw rfl hL.1.1 rfl th_cn (Nat.le_of_ble_eq_true rfl) dX0_written_11 ⟨by show _ ≤ (0 : Nat); omega, by show _ ≤ (0 : Nat); omega⟩) (fun r4 G3 H locs hw hR hS => ?_)
    refine lv_if_eq hx hb dX0_written_14 (tgt := 28) (by decide) (fun h => ?_) (fun h => ?_)
    · replace hw := hw.1 h
      refine lv_iconst hx hb dX0_written_28 (v := (-1)) rfl ?_
      exact th_iret hx hb hret hlk hR hS hw (by omega) (by omega) dX0_written_29
    · replace hw := hw.2 h
      refine th_aload_n hx hb dX0_written_17 rfl (lv_at hL.1 0 rfl) ?_
      obtain ⟨ho, hw⟩ := hw
      refine fg_X0_50 CF hK hR ho dX0_written_18 ?_
      refine lv_iload_n hx hb dX0_written_21 rfl (lv_at hL.1 1 rfl) ?_
      obtain ⟨ho, hw⟩ := hw
      refine th_ki hS (th_rV CF hK hSt hR hS ho (ci := 12) rfl (rest := []) (tk_J1_charAt) (cw_X0_296 CF hK (by decide +kernel)) hw rfl hL.1.1 rfl th_cn (Nat.le_of_ble_eq_true rfl) dX0_written_22 ⟨by show _ ≤ (0 : Nat); omega, by show _ ≤ (0 : Nat); omega⟩) (fun r6 G5 H locs hw hR hS => ?_)
      refine lv_goto hx hb dX0_written_25 (tgt := 29) (by decide) ?_
      exact th_iret hx hb hret hlk hR hS hw (by omega) (by omega) dX0_written_29)
def tw_X8_of (Q : Int32 → aH → Prop) (G : aH) (a0 : Nat) (x1 : Int32) (x2 : Int32) : Prop :=
  th_o G a0 8 ∧ (
  th_ai G (a_mr G a0 0) 0 ((1 + (23 * x1)) + x2) ∧ (
  Q (a_mi G (a_mr G a0 0) ((1 + (23 * x1)) + x2).toNatClampNeg) G))
theorem tk_X8_of {l : Launch} {D : tD} {B : Nat} {Q : Int32 → aH → Prop} {a0 : Nat} {x1 : Int32} {x2 : Int32} : Met l yX8_of (ws_ yX8_of cX8_of 3 ((Option.some Jvm.ClassFile.FieldType.int))) rm_X8_of (th_P D B [rv a0, .int x1, .int x2] (fun G => tw_X8_of Q G a0 x1 x2)) (th_Qi D B Q) 0 0 (th_A B) :=
  th_ofW (by decide +kernel) (th_cr (th_ci (th_ci th_cn))) (Nat.le_of_ble_eq_true rfl) (fun p e s m args below meth c CF hret hlk hnm hK hSt G ls hR hS hw hL => by
    have E : th_E p m c cX8_of 3 s args RX8 meth ((Option.some Jvm.ClassFile.FieldType.int)) "of" D B := ⟨CF, hret, hlk, hnm, hK, hSt⟩
    have hx := CF.1; have hb := CF.2.1
    have hL : th_L ls 3 [(0, rv a0), (1, .int x1), (2, .int x2)] := hL
    unfold tw_X8_of at hw
    refine th_aload_n hx hb dX8_of_0 rfl (lv_at hL.1 0 rfl) ?_
    obtain ⟨ho, hw⟩ := hw
    refine fg_X8_9 CF hK hR ho dX8_of_1 ?_
    refine lv_iconst hx hb dX8_of_4 (v := 1) rfl ?_
    refine lv_bipush hx hb dX8_of_5 (v := 23) rfl ?_
    refine lv_iload_n hx hb dX8_of_7 rfl (lv_at hL.1 1 rfl) ?_
    refine lv_imul hx hb dX8_of_8 ?_
    refine lv_iadd hx hb dX8_of_9 ?_
    refine lv_iload_n hx hb dX8_of_10 rfl (lv_at hL.1 2 rfl) ?_
    refine lv_iadd hx hb dX8_of_11 ?_
    obtain ⟨ha, hw⟩ := hw
    refine th_iald hx hb hK hR ha dX8_of_12 ?_
    exact th_iret hx hb hret hlk hR hS hw (by omega) (by omega) dX8_of_13)
def tw_X8_dueOf_b4 (Q : Int32 → aH → Prop) : Nat → aH → Nat → Int32 → Int32 → Int32 → Prop := fun n => Nat.rec (motive := fun _ => aH → Nat → Int32 → Int32 → Int32 → Prop) (fun _ _ _ _ _ => False) (fun _ ih G a0 x1 x2 x3 =>
  th_o G a0 8 ∧ (
  (tw_X8_of
    (fun (r2 : Int32) (G1 : aH) =>
      (r2 ≤ x3 →
        Q x2 G1) ∧
      (¬ r2 ≤ x3 →
        th_o G1 a0 8 ∧ (
        (tw_X8_of
          (fun (r4 : Int32) (G3 : aH) =>
            ∀ x2_5 : Int32, x2_5 = x2 + r4 → 
            ∀ x3_6 : Int32, x3_6 = x3 + 1 → 
            ih G3 a0 x1 x2_5 x3_6)
          G1 a0 x1 ((5 + (2 * x3)) + 1)))))
    G a0 x1 4))) n
theorem tws_X8_dueOf_b4 (Q : Int32 → aH → Prop) (n : Nat) (G : aH) (a0 : Nat) (x1 : Int32) (x2 : Int32) (x3 : Int32) : tw_X8_dueOf_b4 Q (n + 1) G a0 x1 x2 x3 = (
  th_o G a0 8 ∧ (
  (tw_X8_of
    (fun (r2 : Int32) (G1 : aH) =>
      (r2 ≤ x3 →
        Q x2 G1) ∧
      (¬ r2 ≤ x3 →
        th_o G1 a0 8 ∧ (
        (tw_X8_of
          (fun (r4 : Int32) (G3 : aH) =>
            ∀ x2_5 : Int32, x2_5 = x2 + r4 → 
            ∀ x3_6 : Int32, x3_6 = x3 + 1 → 
            tw_X8_dueOf_b4 Q n G3 a0 x1 x2_5 x3_6)
          G1 a0 x1 ((5 + (2 * x3)) + 1)))))
    G a0 x1 4))) := rfl
def tw_X8_dueOf (Q : Int32 → aH → Prop) (G : aH) (a0 : Nat) (x1 : Int32) : Prop :=
  ∃ n9 : Nat, tw_X8_dueOf_b4 Q n9 G a0 x1 0 0
theorem tk_X8_dueOf_b4 {p : Program} {l : Launch} {e : Env} {s : State} {m : MethodId} {args : Array Value} {below : List Frame} {meth : Method} {c : Code} {D : tD} {B : Nat} (E : th_E p m c cX8_dueOf 4 s args RX8 meth ((Option.some Jvm.ClassFile.FieldType.int)) "dueOf" D B) {Q : Int32 → aH → Prop} : ∀ (n : Nat) {G : aH} {H : Heap} {locs : List Loc} {cells slots : Nat} {ls : Array Slot} {a0 : Nat} {x1 : Int32} {x2 : Int32} {x3 : Int32} (hR : th_H D B G H) (hS : va_S (th_A B) s.heap H locs) (hL : th_L ls 4 [(0, rv a0), (1, .int x1), (2, .int x2), (3, .int x3)]) (hw : tw_X8_dueOf_b4 Q n G a0 x1 x2 x3) (hc : cells + (0) ≤ 0 ∧ slots + (0) ≤ 0), W p l e rm_X8_dueOf s m args below meth c H locs cells slots (MQ below (th_Qi D B Q) args s 0 0 (th_A B)) (F0 m 4 ls []) := by
  have CF := E.1; have hx := CF.1; have hb := CF.2.1; have hret := E.2.1; have hlk := E.2.2.1; have hnm := E.2.2.2.1; have hK := E.2.2.2.2.1; have hSt := E.2.2.2.2.2
  intro n
  induction n with
  | zero => intro _ _ _ _ _ _ _ _ _ _ _ _ _ hw; exact hw.elim
  | succ n ih =>
    intro G H locs cells slots ls a0 x1 x2 x3 hR hS hL hw hc
    rw [tws_X8_dueOf_b4] at hw
    refine lv_iload_n hx hb dX8_dueOf_4 rfl (lv_at hL.1 3 rfl) ?_
    refine th_aload_n hx hb dX8_dueOf_5 rfl (lv_at hL.1 0 rfl) ?_
    refine lv_iload_n hx hb dX8_dueOf_6 rfl (lv_at hL.1 1 rfl) ?_
    refine lv_iconst hx hb dX8_dueOf_7 (v := 4) rfl ?_
    obtain ⟨ho, hw⟩ := hw
    refine th_ki hS (th_rV CF hK hSt hR hS ho (ci := 8) rfl (rest := [.int x3]) (tk_X8_of) (cw_X8_89 CF hK (by decide +kernel)) hw rfl hL.1.1 rfl (th_ci th_cn) (Nat.le_of_ble_eq_true rfl) dX8_dueOf_8 ⟨by show _ ≤ (0 : Nat); omega, by show _ ≤ (0 : Nat); omega⟩) (fun r2 G1 H locs hw hR hS => ?_)
    refine lv_icmp_ge hx hb dX8_dueOf_11 (tgt := 35) (by decide) (fun h => ?_) (fun h => ?_)
    · replace hw := hw.1 h
      refine lv_iload_n hx hb dX8_dueOf_35 rfl (lv_at hL.1 2 rfl) ?_
      exact th_iret hx hb hret hlk hR hS hw (by omega) (by omega) dX8_dueOf_36
    · replace hw := hw.2 h
      refine lv_iload_n hx hb dX8_dueOf_14 rfl (lv_at hL.1 2 rfl) ?_
      refine th_aload_n hx hb dX8_dueOf_15 rfl (lv_at hL.1 0 rfl) ?_
      refine lv_iload_n hx hb dX8_dueOf_16 rfl (lv_at hL.1 1 rfl) ?_
      refine lv_iconst hx hb dX8_dueOf_17 (v := 5) rfl ?_
      refine lv_iconst hx hb dX8_dueOf_18 (v := 2) rfl ?_
      refine lv_iload_n hx hb dX8_dueOf_19 rfl (lv_at hL.1 3 rfl) ?_
      refine lv_imul hx hb dX8_dueOf_20 ?_
      refine lv_iadd hx hb dX8_dueOf_21 ?_
      refine lv_iconst hx hb dX8_dueOf_22 (v := 1) rfl ?_
      refine lv_iadd hx hb dX8_dueOf_23 ?_
      obtain ⟨ho, hw⟩ := hw
      refine th_ki hS (th_rV CF hK hSt hR hS ho (ci := 8) rfl (rest := [.int x2]) (tk_X8_of) (cw_X8_89 CF hK (by decide +kernel)) hw rfl hL.1.1 rfl (th_ci th_cn) (Nat.le_of_ble_eq_true rfl) dX8_dueOf_24 ⟨by show _ ≤ (0 : Nat); omega, by show _ ≤ (0 : Nat); omega⟩) (fun r4 G3 H locs hw hR hS => ?_)
      refine lv_iadd hx hb dX8_dueOf_27 ?_
      obtain ⟨x2_5, hx2_5⟩ : ∃ y : Int32, y = x2 + r4 := ⟨_, rfl⟩
      replace hw := hw x2_5 hx2_5
      refine th_nmi hx2_5 ?_
      refine th_istore_n hx hb dX8_dueOf_28 rfl hL (by decide) rfl (fun ls hL => ?_)
      obtain ⟨x3_6, hx3_6⟩ : ∃ y : Int32, y = x3 + 1 := ⟨_, rfl⟩
      replace hw := hw x3_6 hx3_6
      refine th_iinc hx hb dX8_dueOf_29 hL (k := 3) rfl (v := x3_6) hx3_6.symm (by decide) rfl (fun ls hL => ?_)
      refine lv_goto hx hb dX8_dueOf_32 (tgt := 4) (by decide) ?_
      exact ih hR hS (hL.sub [2, 3, 1, 0] rfl) hw ⟨by omega, by omega⟩
theorem tk_X8_dueOf {l : Launch} {D : tD} {B : Nat} {Q : Int32 → aH → Prop} {a0 : Nat} {x1 : Int32} : Met l yX8_dueOf (ws_ yX8_dueOf cX8_dueOf 4 ((Option.some Jvm.ClassFile.FieldType.int))) rm_X8_dueOf (th_P D B [rv a0, .int x1] (fun G => tw_X8_dueOf Q G a0 x1)) (th_Qi D B Q) 0 0 (th_A B) :=
  th_ofW (by decide +kernel) (th_cr (th_ci th_cn)) (Nat.le_of_ble_eq_true rfl) (fun p e s m args below meth c CF hret hlk hnm hK hSt G ls hR hS hw hL => by
    have E : th_E p m c cX8_dueOf 4 s args RX8 meth ((Option.some Jvm.ClassFile.FieldType.int)) "dueOf" D B := ⟨CF, hret, hlk, hnm, hK, hSt⟩
    have hx := CF.1; have hb := CF.2.1
    have hL : th_L ls 4 [(0, rv a0), (1, .int x1)] := hL
    unfold tw_X8_dueOf at hw
    refine lv_iconst hx hb dX8_dueOf_0 (v := 0) rfl ?_
    refine th_istore_n hx hb dX8_dueOf_1 rfl hL (by decide) rfl (fun ls hL => ?_)
    refine lv_iconst hx hb dX8_dueOf_2 (v := 0) rfl ?_
    refine th_istore_n hx hb dX8_dueOf_3 rfl hL (by decide) rfl (fun ls hL => ?_)
    obtain ⟨n9, hw⟩ := hw
    exact tk_X8_dueOf_b4 E n9 hR hS (hL.sub [2, 3, 1, 0] rfl) hw ⟨by omega, by omega⟩)
def tw_X8_total_b34 (Q : Int32 → aH → Prop) (k4 : aH → Nat → Int32 → Int32 → Int32 → Prop) (G : aH) (a0 : Nat) (x1 : Int32) (x3 : Int32) (tx0 : Int32) (tx1 : Int32) : Prop :=
  ∀ x2_3 : Int32, x2_3 = tx1 + tx0 → 
  ∀ x3_4 : Int32, x3_4 = x3 + 1 → 
  k4 G a0 x1 x2_3 x3_4
def tw_X8_total_b4 (Q : Int32 → aH → Prop) : Nat → aH → Nat → Int32 → Int32 → Int32 → Prop := fun n => Nat.rec (motive := fun _ => aH → Nat → Int32 → Int32 → Int32 → Prop) (fun _ _ _ _ _ => False) (fun _ ih G a0 x1 x2 x3 =>
  th_o G a0 8 ∧ (
  th_ai G (a_mr G a0 0) 0 0 ∧ (
  (a_mi G (a_mr G a0 0) (0 : Int32).toNatClampNeg ≤ x3 →
    Q x2 G) ∧
  (¬ a_mi G (a_mr G a0 0) (0 : Int32).toNatClampNeg ≤ x3 →
    (¬ x1 = 4 →
      th_o G a0 8 ∧ (
      (tw_X8_of
        (fun (r2 : Int32) (G1 : aH) =>
          tw_X8_total_b34 Q (ih) G1 a0 x1 x3 r2 x2)
        G a0 x3 x1))) ∧
    (x1 = 4 →
      th_o G a0 8 ∧ (
      (tw_X8_dueOf
        (fun (r6 : Int32) (G5 : aH) =>
          tw_X8_total_b34 Q (ih) G5 a0 x1 x3 r6 x2)
        G a0 x3))))))) n
theorem tws_X8_total_b4 (Q : Int32 → aH → Prop) (n : Nat) (G : aH) (a0 : Nat) (x1 : Int32) (x2 : Int32) (x3 : Int32) : tw_X8_total_b4 Q (n + 1) G a0 x1 x2 x3 = (
  th_o G a0 8 ∧ (
  th_ai G (a_mr G a0 0) 0 0 ∧ (
  (a_mi G (a_mr G a0 0) (0 : Int32).toNatClampNeg ≤ x3 →
    Q x2 G) ∧
  (¬ a_mi G (a_mr G a0 0) (0 : Int32).toNatClampNeg ≤ x3 →
    (¬ x1 = 4 →
      th_o G a0 8 ∧ (
      (tw_X8_of
        (fun (r2 : Int32) (G1 : aH) =>
          tw_X8_total_b34 Q (tw_X8_total_b4 Q n) G1 a0 x1 x3 r2 x2)
        G a0 x3 x1))) ∧
    (x1 = 4 →
      th_o G a0 8 ∧ (
      (tw_X8_dueOf
        (fun (r6 : Int32) (G5 : aH) =>
          tw_X8_total_b34 Q (tw_X8_total_b4 Q n) G5 a0 x1 x3 r6 x2)
        G a0 x3))))))) := rfl
def tw_X8_total (Q : Int32 → aH → Prop) (G : aH) (a0 : Nat) (x1 : Int32) : Prop :=
  ∃ n9 : Nat, tw_X8_total_b4 Q n9 G a0 x1 0 0
theorem tk_X8_total_b34 {p : Program} {l : Launch} {e : Env} {s : State} {m : MethodId} {args : Array Value} {below : List Frame} {meth : Method} {c : Code} {D : tD} {B : Nat} (E : th_E p m c cX8_total 4 s args RX8 meth ((Option.some Jvm.ClassFile.FieldType.int)) "total" D B) {Q : Int32 → aH → Prop} {k4 : aH → Nat → Int32 → Int32 → Int32 → Prop} {c4 s4 : Nat} (h4 : ∀ (G : aH) (H : Heap) (locs : List Loc) (cells slots : Nat) (ls : Array Slot) (y4_0 : Nat) (y4_1 : Int32) (y4_2 : Int32) (y4_3 : Int32), k4 G y4_0 y4_1 y4_2 y4_3 → th_H D B G H → va_S (th_A B) s.heap H locs → th_L ls 4 [(0, rv y4_0), (1, .int y4_1), (2, .int y4_2), (3, .int y4_3)] → cells ≤ c4 ∧ slots ≤ s4 → W p l e rm_X8_total s m args below meth c H locs cells slots (MQ below (th_Qi D B Q) args s 0 0 (th_A B)) (F0 m 4 ls [])) {G : aH} {H : Heap} {locs : List Loc} {cells slots : Nat} {ls : Array Slot} {a0 : Nat} {x1 : Int32} {x3 : Int32} {tx0 : Int32} {tx1 : Int32} (hR : th_H D B G H) (hS : va_S (th_A B) s.heap H locs) (hL : th_L ls 4 [(0, rv a0), (1, .int x1), (3, .int x3)]) (hw : tw_X8_total_b34 Q k4 G a0 x1 x3 tx0 tx1) (hc : cells + (0) ≤ 0 ∧ slots + (0) ≤ 0 ∧ cells + (0) ≤ c4 ∧ slots + (0) ≤ s4) : W p l e rm_X8_total s m args below meth c H locs cells slots (MQ below (th_Qi D B Q) args s 0 0 (th_A B)) (F0 m 34 ls [.int tx0, .int tx1]) := by
  have CF := E.1; have hx := CF.1; have hb := CF.2.1; have hret := E.2.1; have hlk := E.2.2.1; have hnm := E.2.2.2.1; have hK := E.2.2.2.2.1; have hSt := E.2.2.2.2.2
  unfold tw_X8_total_b34 at hw
  refine lv_iadd hx hb dX8_total_34 ?_
  obtain ⟨x2_3, hx2_3⟩ : ∃ y : Int32, y = tx1 + tx0 := ⟨_, rfl⟩
  replace hw := hw x2_3 hx2_3
  refine th_nmi hx2_3 ?_
  refine th_istore_n hx hb dX8_total_35 rfl hL (by decide) rfl (fun ls hL => ?_)
  obtain ⟨x3_4, hx3_4⟩ : ∃ y : Int32, y = x3 + 1 := ⟨_, rfl⟩
  replace hw := hw x3_4 hx3_4
  refine th_iinc hx hb dX8_total_36 hL (k := 3) rfl (v := x3_4) hx3_4.symm (by decide) rfl (fun ls hL => ?_)
  refine lv_goto hx hb dX8_total_39 (tgt := 4) (by decide) ?_
  exact h4 _ _ _ _ _ _ _ _ _ _ hw hR hS (hL.sub [2, 3, 1, 0] rfl) ⟨by omega, by omega⟩
theorem tk_X8_total_b4 {p : Program} {l : Launch} {e : Env} {s : State} {m : MethodId} {args : Array Value} {below : List Frame} {meth : Method} {c : Code} {D : tD} {B : Nat} (E : th_E p m c cX8_total 4 s args RX8 meth ((Option.some Jvm.ClassFile.FieldType.int)) "total" D B) {Q : Int32 → aH → Prop} : ∀ (n : Nat) {G : aH} {H : Heap} {locs : List Loc} {cells slots : Nat} {ls : Array Slot} {a0 : Nat} {x1 : Int32} {x2 : Int32} {x3 : Int32} (hR : th_H D B G H) (hS : va_S (th_A B) s.heap H locs) (hL : th_L ls 4 [(0, rv a0), (1, .int x1), (2, .int x2), (3, .int x3)]) (hw : tw_X8_total_b4 Q n G a0 x1 x2 x3) (hc : cells + (0) ≤ 0 ∧ slots + (0) ≤ 0), W p l e rm_X8_total s m args below meth c H locs cells slots (MQ below (th_Qi D B Q) args s 0 0 (th_A B)) (F0 m 4 ls []) := by
  have CF := E.1; have hx := CF.1; have hb := CF.2.1; have hret := E.2.1; have hlk := E.2.2.1; have hnm := E.2.2.2.1; have hK := E.2.2.2.2.1; have hSt := E.2.2.2.2.2
  intro n
  induction n with
  | zero => intro _ _ _ _ _ _ _ _ _ _ _ _ _ hw; exact hw.elim
  | succ n ih =>
    intro G H locs cells slots ls a0 x1 x2 x3 hR hS hL hw hc
    rw [tws_X8_total_b4] at hw
    refine lv_iload_n hx hb dX8_total_4 rfl (lv_at hL.1 3 rfl) ?_
    refine th_aload_n hx hb dX8_total_5 rfl (lv_at hL.1 0 rfl) ?_
    obtain ⟨ho, hw⟩ := hw
    refine fg_X8_9 CF hK hR ho dX8_total_6 ?_
    refine lv_iconst hx hb dX8_total_9 (v := 0) rfl ?_
    obtain ⟨ha, hw⟩ := hw
    refine th_iald hx hb hK hR ha dX8_total_10 ?_
    refine lv_icmp_ge hx hb dX8_total_11 (tgt := 42) (by decide) (fun h => ?_) (fun h => ?_)
    · replace hw := hw.1 h
      refine lv_iload_n hx hb dX8_total_42 rfl (lv_at hL.1 2 rfl) ?_
      exact th_iret hx hb hret hlk hR hS hw (by omega) (by omega) dX8_total_43
    · replace hw := hw.2 h
      refine lv_iload_n hx hb dX8_total_14 rfl (lv_at hL.1 2 rfl) ?_
      refine lv_iload_n hx hb dX8_total_15 rfl (lv_at hL.1 1 rfl) ?_
      refine lv_iconst hx hb dX8_total_16 (v := 4) rfl ?_
      refine lv_icmp_ne hx hb dX8_total_17 (tgt := 28) (by decide) (fun h => ?_) (fun h => ?_)
      · replace hw := hw.1 h
        refine th_aload_n hx hb dX8_total_28 rfl (lv_at hL.1 0 rfl) ?_
        refine lv_iload_n hx hb dX8_total_29 rfl (lv_at hL.1 3 rfl) ?_
        refine lv_iload_n hx hb dX8_total_30 rfl (lv_at hL.1 1 rfl) ?_
        obtain ⟨ho, hw⟩ := hw
        refine th_ki hS (th_rV CF hK hSt hR hS ho (ci := 8) rfl (rest := [.int x2]) (tk_X8_of) (cw_X8_89 CF hK (by decide +kernel)) hw rfl hL.1.1 rfl (th_ci th_cn) (Nat.le_of_ble_eq_true rfl) dX8_total_31 ⟨by show _ ≤ (0 : Nat); omega, by show _ ≤ (0 : Nat); omega⟩) (fun r2 G1 H locs hw hR hS => ?_)
        exact tk_X8_total_b34 E (c4 := cells + 0 + 0) (s4 := slots + 0 + 0) (fun G H locs cells slots ls y0 y1 y2 y3 hw hR hS hL hc => ih hR hS hL hw ⟨by omega, by omega⟩) hR hS (hL.sub [0, 1, 3] rfl) hw ⟨by omega, by omega, by omega, by omega⟩
      · replace hw := hw.2 h
        refine th_aload_n hx hb dX8_total_20 rfl (lv_at hL.1 0 rfl) ?_
        refine lv_iload_n hx hb dX8_total_21 rfl (lv_at hL.1 3 rfl) ?_
        obtain ⟨ho, hw⟩ := hw
        refine th_ki hS (th_rV CF hK hSt hR hS ho (ci := 8) rfl (rest := [.int x2]) (tk_X8_dueOf) (cw_X8_125 CF hK (by decide +kernel)) hw rfl hL.1.1 rfl (th_ci th_cn) (Nat.le_of_ble_eq_true rfl) dX8_total_22 ⟨by show _ ≤ (0 : Nat); omega, by show _ ≤ (0 : Nat); omega⟩) (fun r6 G5 H locs hw hR hS => ?_)
        refine lv_goto hx hb dX8_total_25 (tgt := 34) (by decide) ?_
        exact tk_X8_total_b34 E (c4 := cells + 0 + 0) (s4 := slots + 0 + 0) (fun G H locs cells slots ls y0 y1 y2 y3 hw hR hS hL hc => ih hR hS hL hw ⟨by omega, by omega⟩) hR hS (hL.sub [0, 1, 3] rfl) hw ⟨by omega, by omega, by omega, by omega⟩
theorem tk_X8_total {l : Launch} {D : tD} {B : Nat} {Q : Int32 → aH → Prop} {a0 : Nat} {x1 : Int32} : Met l yX8_total (ws_ yX8_total cX8_total 4 ((Option.some Jvm.ClassFile.FieldType.int))) rm_X8_total (th_P D B [rv a0, .int x1] (fun G => tw_X8_total Q G a0 x1)) (th_Qi D B Q) 0 0 (th_A B) :=
  th_ofW (by decide +kernel) (th_cr (th_ci th_cn)) (Nat.le_of_ble_eq_true rfl) (fun p e s m args below meth c CF hret hlk hnm hK hSt G ls hR hS hw hL => by
    have E : th_E p m c cX8_total 4 s args RX8 meth ((Option.some Jvm.ClassFile.FieldType.int)) "total" D B := ⟨CF, hret, hlk, hnm, hK, hSt⟩
    have hx := CF.1; have hb := CF.2.1
    have hL : th_L ls 4 [(0, rv a0), (1, .int x1)] := hL
    unfold tw_X8_total at hw
    refine lv_iconst hx hb dX8_total_0 (v := 0) rfl ?_
    refine th_istore_n hx hb dX8_total_1 rfl hL (by decide) rfl (fun ls hL => ?_)
    refine lv_iconst hx hb dX8_total_2 (v := 0) rfl ?_
    refine th_istore_n hx hb dX8_total_3 rfl hL (by decide) rfl (fun ls hL => ?_)
    obtain ⟨n9, hw⟩ := hw
    exact tk_X8_total_b4 E n9 hR hS (hL.sub [2, 3, 1, 0] rfl) hw ⟨by omega, by omega⟩)
