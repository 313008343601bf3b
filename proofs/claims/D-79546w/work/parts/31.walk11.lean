/-! WALKS: X8_copies X8_threshedOn X8_rats X8_takes X8_eatInBay X8_eatInBin X8_eats X8_dropsDue X8_falls X8_day X8_eatenWith -/
set_option maxRecDepth 100000
def tw_X8_copies_b3 (Q : aH → Prop) : Nat → aH → Nat → Int32 → Nat → Int32 → Int32 → Prop := fun n => Nat.rec (motive := fun _ => aH → Nat → Int32 → Nat → Int32 → Int32 → Prop) (fun _ _ _ _ _ _ => False) (fun _ ih G a0 x1 a2 x3 x4 =>
  (433 ≤ x4 →
    Q G) ∧
  (¬ 433 ≤ x4 →
    th_ai G a0 0 (x1 + x4) ∧ (
    th_ai G a2 0 (x3 + x4) ∧ (
    ∀ G1 : aH, G1 = a_si G a2 (x3 + x4).toNatClampNeg (a_mi G a0 (x1 + x4).toNatClampNeg) → 
    ∀ x4_2 : Int32, x4_2 = x4 + 1 → 
    ih G1 a0 x1 a2 x3 x4_2)))) n
theorem tws_X8_copies_b3 (Q : aH → Prop) (n : Nat) (G : aH) (a0 : Nat) (x1 : Int32) (a2 : Nat) (x3 : Int32) (x4 : Int32) : tw_X8_copies_b3 Q (n + 1) G a0 x1 a2 x3 x4 = (
  (433 ≤ x4 →
    Q G) ∧
  (¬ 433 ≤ x4 →
    th_ai G a0 0 (x1 + x4) ∧ (
    th_ai G a2 0 (x3 + x4) ∧ (
    ∀ G1 : aH, G1 = a_si G a2 (x3 + x4).toNatClampNeg (a_mi G a0 (x1 + x4).toNatClampNeg) → 
    ∀ x4_2 : Int32, x4_2 = x4 + 1 → 
    tw_X8_copies_b3 Q n G1 a0 x1 a2 x3 x4_2)))) := rfl
def tw_X8_copies (Q : aH → Prop) (G : aH) (a0 : Nat) (x1 : Int32) (a2 : Nat) (x3 : Int32) : Prop :=
  ∃ n9 : Nat, tw_X8_copies_b3 Q n9 G a0 x1 a2 x3 0
theorem tk_X8_copies_b3 {p : Program} {l : Launch} {e : Env} {s : State} {m : MethodId} {args : Array Value} {below : List Frame} {meth : Method} {c : Code} {D : tD} {B : Nat} (E : th_E p m c cX8_copies 5 s args RX8 meth ((Option.none : Option Jvm.ClassFile.FieldType)) "copies" D B) {Q : aH → Prop} : ∀ (n : Nat) {G : aH} {H : Heap} {locs : List Loc} {cells slots : Nat} {ls : Array Slot} {a0 : Nat} {x1 : Int32} {a2 : Nat} {x3 : Int32} {x4 : Int32} (hR : th_H D B G H) (hS : va_S (th_A B) s.heap H locs) (hL : th_L ls 5 [(0, rv a0), (1, .int x1), (2, rv a2), (3, .int x3), (4, .int x4)]) (hw : tw_X8_copies_b3 Q n G a0 x1 a2 x3 x4) (hc : cells + (0) ≤ 0 ∧ slots + (0) ≤ 0), W p l e rm_X8_copies s m args below meth c H locs cells slots (MQ below (th_Qv D B Q) args s 0 0 (th_A B)) (F0 m 3 ls []) := by
  have CF := E.1; have hx := CF.1; have hb := CF.2.1; have hret := E.2.1; have hlk := E.2.2.1; have hnm := E.2.2.2.1; have hK := E.2.2.2.2.1; have hSt := E.2.2.2.2.2
  intro n
  induction n with
  | zero => intro _ _ _ _ _ _ _ _ _ _ _ _ _ _ hw; exact hw.elim
  | succ n ih =>
    intro G H locs cells slots ls a0 x1 a2 x3 x4 hR hS hL hw hc
    rw [tws_X8_copies_b3] at hw
    refine lv_iload hx hb dX8_copies_3 (lv_at hL.1 4 rfl) ?_
    refine lv_sipush hx hb dX8_copies_5 (v := 433) rfl ?_
    refine lv_icmp_ge hx hb dX8_copies_8 (tgt := 29) (by decide) (fun h => ?_) (fun h => ?_)
    · replace hw := hw.1 h
      exact th_vret hx hb hret hlk hR hS hw (by omega) (by omega) dX8_copies_29
    · replace hw := hw.2 h
      refine th_aload_n hx hb dX8_copies_11 rfl (lv_at hL.1 2 rfl) ?_
      refine lv_iload_n hx hb dX8_copies_12 rfl (lv_at hL.1 3 rfl) ?_
      refine lv_iload hx hb dX8_copies_13 (lv_at hL.1 4 rfl) ?_
      refine lv_iadd hx hb dX8_copies_15 ?_
      refine th_aload_n hx hb dX8_copies_16 rfl (lv_at hL.1 0 rfl) ?_
      refine lv_iload_n hx hb dX8_copies_17 rfl (lv_at hL.1 1 rfl) ?_
      refine lv_iload hx hb dX8_copies_18 (lv_at hL.1 4 rfl) ?_
      refine lv_iadd hx hb dX8_copies_20 ?_
      obtain ⟨ha, hw⟩ := hw
      refine th_iald hx hb hK hR ha dX8_copies_21 ?_
      obtain ⟨ha, hw⟩ := hw
      refine th_iast hx hb hK hR hS ha dX8_copies_22 (fun G1 H locs hG hR hS => ?_)
      replace hw := hw G1 hG
      obtain ⟨x4_2, hx4_2⟩ : ∃ y : Int32, y = x4 + 1 := ⟨_, rfl⟩
      replace hw := hw x4_2 hx4_2
      refine th_iinc hx hb dX8_copies_23 hL (k := 4) rfl (v := x4_2) hx4_2.symm (by decide) rfl (fun ls hL => ?_)
      refine lv_goto hx hb dX8_copies_26 (tgt := 3) (by decide) ?_
      exact ih hR hS (hL.sub [1, 2, 3, 4, 0] rfl) hw ⟨by omega, by omega⟩
theorem tk_X8_copies {l : Launch} {D : tD} {B : Nat} {Q : aH → Prop} {a0 : Nat} {x1 : Int32} {a2 : Nat} {x3 : Int32} : Met l yX8_copies (ws_ yX8_copies cX8_copies 5 ((Option.none : Option Jvm.ClassFile.FieldType))) rm_X8_copies (th_P D B [rv a0, .int x1, rv a2, .int x3] (fun G => tw_X8_copies Q G a0 x1 a2 x3)) (th_Qv D B Q) 0 0 (th_A B) :=
  th_ofW (by decide +kernel) (th_cr (th_ci (th_cr (th_ci th_cn)))) (Nat.le_of_ble_eq_true rfl) (fun p e s m args below meth c CF hret hlk hnm hK hSt G ls hR hS hw hL => by
    have E : th_E p m c cX8_copies 5 s args RX8 meth ((Option.none : Option Jvm.ClassFile.FieldType)) "copies" D B := ⟨CF, hret, hlk, hnm, hK, hSt⟩
    have hx := CF.1; have hb := CF.2.1
    have hL : th_L ls 5 [(0, rv a0), (1, .int x1), (2, rv a2), (3, .int x3)] := hL
    unfold tw_X8_copies at hw
    refine lv_iconst hx hb dX8_copies_0 (v := 0) rfl ?_
    refine th_istore hx hb dX8_copies_1 hL (by decide) rfl (fun ls hL => ?_)
    obtain ⟨n9, hw⟩ := hw
    exact tk_X8_copies_b3 E n9 hR hS (hL.sub [1, 2, 3, 4, 0] rfl) hw ⟨by omega, by omega⟩)
def tw_X8_threshedOn (Q : Int32 → aH → Prop) (G : aH) (a0 : Nat) (x1 : Int32) : Prop :=
  th_o G a0 8 ∧ (
  (tw_X8_floor
    (fun (r2 : Int32) (G1 : aH) =>
      th_o G1 a0 8 ∧ (
      (tw_X8_store
        (fun (r4 : Int32) (G3 : aH) =>
          (tw_X8_pints
            (fun (r6 : Int32) (G5 : aH) =>
              ¬ r6 = 0 ∧ (
              ∀ x3_7 : Int32, x3_7 = (2000 - r4) / r6 → 
              th_o G5 a0 8 ∧ (
              (tw_X8_floor
                (fun (r9 : Int32) (G8 : aH) =>
                  th_o G8 a0 8 ∧ (
                  (tw_X8_floor
                    (fun (r11 : Int32) (G10 : aH) =>
                      ∀ x4_12 : Int32, x4_12 = (if (if r11 < r9 then r11 else r9) < x3_7 then (if r11 < r9 then r11 else r9) else x3_7) → 
                      th_o G10 a0 8 ∧ (
                      th_ai G10 (a_mr G10 a0 0) 0 (383 + (4 * x1)) ∧ (
                      th_ai G10 (a_mr G10 a0 0) 0 (383 + (4 * x1)) ∧ (
                      ∀ G13 : aH, G13 = a_si G10 (a_mr G10 a0 0) (383 + (4 * x1)).toNatClampNeg ((a_mi G10 (a_mr G10 a0 0) (383 + (4 * x1)).toNatClampNeg) - x4_12) → 
                      th_o G13 a0 8 ∧ (
                      th_ai G13 (a_mr G13 a0 0) 0 ((383 + (4 * x1)) + 3) ∧ (
                      th_ai G13 (a_mr G13 a0 0) 0 ((383 + (4 * x1)) + 3) ∧ (
                      ∀ G14 : aH, G14 = a_si G13 (a_mr G13 a0 0) ((383 + (4 * x1)) + 3).toNatClampNeg ((a_mi G13 (a_mr G13 a0 0) ((383 + (4 * x1)) + 3).toNatClampNeg) + x4_12) → 
                      th_o G14 a0 8 ∧ (
                      th_ai G14 (a_mr G14 a0 0) 0 (391 + (5 * r2)) ∧ (
                      (tw_X8_pints
                        (fun (r16 : Int32) (G15 : aH) =>
                          th_ai G15 (a_mr G14 a0 0) 0 (391 + (5 * r2)) ∧ (
                          ∀ G17 : aH, G17 = a_si G15 (a_mr G14 a0 0) (391 + (5 * r2)).toNatClampNeg ((a_mi G14 (a_mr G14 a0 0) (391 + (5 * r2)).toNatClampNeg) + (x4_12 * r16)) → 
                          th_o G17 a0 8 ∧ (
                          th_ai G17 (a_mr G17 a0 0) 0 ((391 + (5 * r2)) + 4) ∧ (
                          (tw_X8_pints
                            (fun (r19 : Int32) (G18 : aH) =>
                              th_ai G18 (a_mr G17 a0 0) 0 ((391 + (5 * r2)) + 4) ∧ (
                              ∀ G20 : aH, G20 = a_si G18 (a_mr G17 a0 0) ((391 + (5 * r2)) + 4).toNatClampNeg ((a_mi G17 (a_mr G17 a0 0) ((391 + (5 * r2)) + 4).toNatClampNeg) + (x4_12 * r19)) → 
                              Q x4_12 G20))
                            G17 r2)))))
                        G14 r2))))))))))
                    G8 a0 x1 0)))
                G5 a0 x1 2))))
            G3 r2))
        G1 a0 r2 0)))
    G a0 x1 1))
theorem tk_X8_threshedOn {l : Launch} {D : tD} {B : Nat} {Q : Int32 → aH → Prop} {a0 : Nat} {x1 : Int32} : Met l yX8_threshedOn (ws_ yX8_threshedOn cX8_threshedOn 5 ((Option.some Jvm.ClassFile.FieldType.int))) rm_X8_threshedOn (th_P D B [rv a0, .int x1] (fun G => tw_X8_threshedOn Q G a0 x1)) (th_Qi D B Q) 0 0 (th_A B) :=
  th_ofW (by decide +kernel) (th_cr (th_ci th_cn)) (Nat.le_of_ble_eq_true rfl) (fun p e s m args below meth c CF hret hlk hnm hK hSt G ls hR hS hw hL => by
    have E : th_E p m c cX8_threshedOn 5 s args RX8 meth ((Option.some Jvm.ClassFile.FieldType.int)) "threshedOn" D B := ⟨CF, hret, hlk, hnm, hK, hSt⟩
    have hx := CF.1; have hb := CF.2.1
    have hL : th_L ls 5 [(0, rv a0), (1, .int x1)] := hL
    unfold tw_X8_threshedOn at hw
    refine th_aload_n hx hb dX8_threshedOn_0 rfl (lv_at hL.1 0 rfl) ?_
    refine lv_iload_n hx hb dX8_threshedOn_1 rfl (lv_at hL.1 1 rfl) ?_
    refine lv_iconst hx hb dX8_threshedOn_2 (v := 1) rfl ?_
    obtain ⟨ho, hw⟩ := hw
    refine th_ki hS (th_rV CF hK hSt hR hS ho (ci := 8) rfl (rest := []) (tk_X8_floor) (cw_X8_165 CF hK (by decide +kernel)) hw rfl hL.1.1 rfl th_cn (Nat.le_of_ble_eq_true rfl) dX8_threshedOn_3 ⟨by show _ ≤ (0 : Nat); omega, by show _ ≤ (0 : Nat); omega⟩) (fun r2 G1 H locs hw hR hS => ?_)
    refine th_istore_n hx hb dX8_threshedOn_6 rfl hL (by decide) rfl (fun ls hL => ?_)
    refine lv_sipush hx hb dX8_threshedOn_7 (v := 2000) rfl ?_
    refine th_aload_n hx hb dX8_threshedOn_10 rfl (lv_at hL.1 1 rfl) ?_
    refine lv_iload_n hx hb dX8_threshedOn_11 rfl (lv_at hL.1 0 rfl) ?_
    refine lv_iconst hx hb dX8_threshedOn_12 (v := 0) rfl ?_
    obtain ⟨ho, hw⟩ := hw
    refine th_ki hS (th_rV CF hK hSt hR hS ho (ci := 8) rfl (rest := [.int 2000]) (tk_X8_store) (cw_X8_178 CF hK (by decide +kernel)) hw rfl hL.1.1 rfl (th_ci th_cn) (Nat.le_of_ble_eq_true rfl) dX8_threshedOn_13 ⟨by show _ ≤ (0 : Nat); omega, by show _ ≤ (0 : Nat); omega⟩) (fun r4 G3 H locs hw hR hS => ?_)
    refine lv_isub hx hb dX8_threshedOn_16 ?_
    refine lv_iload_n hx hb dX8_threshedOn_17 rfl (lv_at hL.1 0 rfl) ?_
    refine th_ki hS (th_rS CF hK hSt hR hS (rest := [.int (2000 - r4)]) (tk_X8_pints) (cw_X8_134 CF hK (by decide +kernel)) hw rfl hL.1.1 rfl (th_ci th_cn) (Nat.le_of_ble_eq_true rfl) dX8_threshedOn_18 ⟨by show _ ≤ (0 : Nat); omega, by show _ ≤ (0 : Nat); omega⟩) (fun r6 G5 H locs hw hR hS => ?_)
    obtain ⟨h0, hw⟩ := hw
    refine lv_idiv hx hb dX8_threshedOn_21 h0 ?_
    obtain ⟨x3_7, hx3_7⟩ : ∃ y : Int32, y = (2000 - r4) / r6 := ⟨_, rfl⟩
    replace hw := hw x3_7 hx3_7
    refine th_nmi hx3_7 ?_
    refine th_istore_n hx hb dX8_threshedOn_22 rfl hL (by decide) rfl (fun ls hL => ?_)
    refine lv_iload_n hx hb dX8_threshedOn_23 rfl (lv_at hL.1 0 rfl) ?_
    refine th_aload_n hx hb dX8_threshedOn_24 rfl (lv_at hL.1 2 rfl) ?_
    refine lv_iload_n hx hb dX8_threshedOn_25 rfl (lv_at hL.1 3 rfl) ?_
    refine lv_iconst hx hb dX8_threshedOn_26 (v := 2) rfl ?_
    obtain ⟨ho, hw⟩ := hw
    refine th_ki hS (th_rV CF hK hSt hR hS ho (ci := 8) rfl (rest := [.int x3_7]) (tk_X8_floor) (cw_X8_165 CF hK (by decide +kernel)) hw rfl hL.1.1 rfl (th_ci th_cn) (Nat.le_of_ble_eq_true rfl) dX8_threshedOn_27 ⟨by show _ ≤ (0 : Nat); omega, by show _ ≤ (0 : Nat); omega⟩) (fun r9 G8 H locs hw hR hS => ?_)
    refine th_aload_n hx hb dX8_threshedOn_30 rfl (lv_at hL.1 2 rfl) ?_
    refine lv_iload_n hx hb dX8_threshedOn_31 rfl (lv_at hL.1 3 rfl) ?_
    refine lv_iconst hx hb dX8_threshedOn_32 (v := 0) rfl ?_
    obtain ⟨ho, hw⟩ := hw
    refine th_ki hS (th_rV CF hK hSt hR hS ho (ci := 8) rfl (rest := [.int r9, .int x3_7]) (tk_X8_floor) (cw_X8_165 CF hK (by decide +kernel)) hw rfl hL.1.1 rfl (th_ci (th_ci th_cn)) (Nat.le_of_ble_eq_true rfl) dX8_threshedOn_33 ⟨by show _ ≤ (0 : Nat); omega, by show _ ≤ (0 : Nat); omega⟩) (fun r11 G10 H locs hw hR hS => ?_)
    refine va_mmin hx hb (CF.2.2.1.trans hL.1.1.symm) CF.2.2.2.1 (CF.2.2.2.2 _ q1759) (CF.2.2.2.2 _ q666) (CF.2.2.2.2 _ q119) (CF.2.2.2.2 _ q667) (by decide) (by rw [th_c1.sum (th_ci th_cn)]; exact Nat.le_of_ble_eq_true rfl) (by show _ ≤ (0 : Nat); omega) (by show _ ≤ (0 : Nat); omega) dX8_threshedOn_36 ?_
    refine va_mmin hx hb (CF.2.2.1.trans hL.1.1.symm) CF.2.2.2.1 (CF.2.2.2.2 _ q1759) (CF.2.2.2.2 _ q666) (CF.2.2.2.2 _ q119) (CF.2.2.2.2 _ q667) (by decide) (by rw [th_c1.sum th_cn]; exact Nat.le_of_ble_eq_true rfl) (by show _ ≤ (0 : Nat); omega) (by show _ ≤ (0 : Nat); omega) dX8_threshedOn_39 ?_
    obtain ⟨x4_12, hx4_12⟩ : ∃ y : Int32, y = (if (if r11 < r9 then r11 else r9) < x3_7 then (if r11 < r9 then r11 else r9) else x3_7) := ⟨_, rfl⟩
    replace hw := hw x4_12 hx4_12
    refine th_nmi hx4_12 ?_
    refine th_istore hx hb dX8_threshedOn_42 hL (by decide) rfl (fun ls hL => ?_)
    refine th_aload_n hx hb dX8_threshedOn_44 rfl (lv_at hL.1 3 rfl) ?_
    obtain ⟨ho, hw⟩ := hw
    refine fg_X8_9 CF hK hR ho dX8_threshedOn_45 ?_
    refine lv_sipush hx hb dX8_threshedOn_48 (v := 383) rfl ?_
    refine lv_iconst hx hb dX8_threshedOn_51 (v := 4) rfl ?_
    refine lv_iload_n hx hb dX8_threshedOn_52 rfl (lv_at hL.1 4 rfl) ?_
    refine lv_imul hx hb dX8_threshedOn_53 ?_
    refine lv_iadd hx hb dX8_threshedOn_54 ?_
    refine lv_dup2_11 hx hb dX8_threshedOn_55 rfl (rv_cat _) ?_
    obtain ⟨ha, hw⟩ := hw
    refine th_iald hx hb hK hR ha dX8_threshedOn_56 ?_
    refine lv_iload hx hb dX8_threshedOn_57 (lv_at hL.1 0 rfl) ?_
    refine lv_isub hx hb dX8_threshedOn_59 ?_
    obtain ⟨ha, hw⟩ := hw
    refine th_iast hx hb hK hR hS ha dX8_threshedOn_60 (fun G13 H locs hG hR hS => ?_)
    replace hw := hw G13 hG
    refine th_aload_n hx hb dX8_threshedOn_61 rfl (lv_at hL.1 3 rfl) ?_
    obtain ⟨ho, hw⟩ := hw
    refine fg_X8_9 CF hK hR ho dX8_threshedOn_62 ?_
    refine lv_sipush hx hb dX8_threshedOn_65 (v := 383) rfl ?_
    refine lv_iconst hx hb dX8_threshedOn_68 (v := 4) rfl ?_
    refine lv_iload_n hx hb dX8_threshedOn_69 rfl (lv_at hL.1 4 rfl) ?_
    refine lv_imul hx hb dX8_threshedOn_70 ?_
    refine lv_iadd hx hb dX8_threshedOn_71 ?_
    refine lv_iconst hx hb dX8_threshedOn_72 (v := 3) rfl ?_
    refine lv_iadd hx hb dX8_threshedOn_73 ?_
    refine lv_dup2_11 hx hb dX8_threshedOn_74 rfl (rv_cat _) ?_
    obtain ⟨ha, hw⟩ := hw
    refine th_iald hx hb hK hR ha dX8_threshedOn_75 ?_
    refine lv_iload hx hb dX8_threshedOn_76 (lv_at hL.1 0 rfl) ?_
    refine lv_iadd hx hb dX8_threshedOn_78 ?_
    obtain ⟨ha, hw⟩ := hw
    refine th_iast hx hb hK hR hS ha dX8_threshedOn_79 (fun G14 H locs hG hR hS => ?_)
    replace hw := hw G14 hG
    refine th_aload_n hx hb dX8_threshedOn_80 rfl (lv_at hL.1 3 rfl) ?_
    obtain ⟨ho, hw⟩ := hw
    refine fg_X8_9 CF hK hR ho dX8_threshedOn_81 ?_
    refine lv_sipush hx hb dX8_threshedOn_84 (v := 391) rfl ?_
    refine lv_iconst hx hb dX8_threshedOn_87 (v := 5) rfl ?_
    refine lv_iload_n hx hb dX8_threshedOn_88 rfl (lv_at hL.1 2 rfl) ?_
    refine lv_imul hx hb dX8_threshedOn_89 ?_
    refine lv_iadd hx hb dX8_threshedOn_90 ?_
    refine lv_dup2_11 hx hb dX8_threshedOn_91 rfl (rv_cat _) ?_
    obtain ⟨ha, hw⟩ := hw
    refine th_iald hx hb hK hR ha dX8_threshedOn_92 ?_
    refine lv_iload hx hb dX8_threshedOn_93 (lv_at hL.1 0 rfl) ?_
    refine lv_iload_n hx hb dX8_threshedOn_95 rfl (lv_at hL.1 2 rfl) ?_
    refine th_ki hS (th_rS CF hK hSt hR hS (rest := [.int x4_12, .int (a_mi G14 (a_mr G14 a0 0) (391 + (5 * r2)).toNatClampNeg), .int (391 + (5 * r2)), rv (a_mr G14 a0 0)]) (tk_X8_pints) (cw_X8_134 CF hK (by decide +kernel)) hw rfl hL.1.1 rfl (th_ci (th_ci (th_ci (th_cr th_cn)))) (Nat.le_of_ble_eq_true rfl) dX8_threshedOn_96 ⟨by show _ ≤ (0 : Nat); omega, by show _ ≤ (0 : Nat); omega⟩) (fun r16 G15 H locs hw hR hS => ?_)
    refine lv_imul hx hb dX8_threshedOn_99 ?_
    refine lv_iadd hx hb dX8_threshedOn_100 ?_
    obtain ⟨ha, hw⟩ := hw
    refine th_iast hx hb hK hR hS ha dX8_threshedOn_101 (fun G17 H locs hG hR hS => ?_)
    replace hw := hw G17 hG
    refine th_aload_n hx hb dX8_threshedOn_102 rfl (lv_at hL.1 3 rfl) ?_
    obtain ⟨ho, hw⟩ := hw
    refine fg_X8_9 CF hK hR ho dX8_threshedOn_103 ?_
    refine lv_sipush hx hb dX8_threshedOn_106 (v := 391) rfl ?_
    refine lv_iconst hx hb dX8_threshedOn_109 (v := 5) rfl ?_
    refine lv_iload_n hx hb dX8_threshedOn_110 rfl (lv_at hL.1 2 rfl) ?_
    refine lv_imul hx hb dX8_threshedOn_111 ?_
    refine lv_iadd hx hb dX8_threshedOn_112 ?_
    refine lv_iconst hx hb dX8_threshedOn_113 (v := 4) rfl ?_
    refine lv_iadd hx hb dX8_threshedOn_114 ?_
    refine lv_dup2_11 hx hb dX8_threshedOn_115 rfl (rv_cat _) ?_
    obtain ⟨ha, hw⟩ := hw
    refine th_iald hx hb hK hR ha dX8_threshedOn_116 ?_
    refine lv_iload hx hb dX8_threshedOn_117 (lv_at hL.1 0 rfl) ?_
    refine lv_iload_n hx hb dX8_threshedOn_119 rfl (lv_at hL.1 2 rfl) ?_
    refine th_ki hS (th_rS CF hK hSt hR hS (rest := [.int x4_12, .int (a_mi G17 (a_mr G17 a0 0) ((391 + (5 * r2)) + 4).toNatClampNeg), .int ((391 + (5 * r2)) + 4), rv (a_mr G17 a0 0)]) (tk_X8_pints) (cw_X8_134 CF hK (by decide +kernel)) hw rfl hL.1.1 rfl (th_ci (th_ci (th_ci (th_cr th_cn)))) (Nat.le_of_ble_eq_true rfl) dX8_threshedOn_120 ⟨by show _ ≤ (0 : Nat); omega, by show _ ≤ (0 : Nat); omega⟩) (fun r19 G18 H locs hw hR hS => ?_)
    refine lv_imul hx hb dX8_threshedOn_123 ?_
    refine lv_iadd hx hb dX8_threshedOn_124 ?_
    obtain ⟨ha, hw⟩ := hw
    refine th_iast hx hb hK hR hS ha dX8_threshedOn_125 (fun G20 H locs hG hR hS => ?_)
    replace hw := hw G20 hG
    refine lv_iload hx hb dX8_threshedOn_126 (lv_at hL.1 0 rfl) ?_
    exact th_iret hx hb hret hlk hR hS hw (by omega) (by omega) dX8_threshedOn_128)
def tw_X8_rats (Q : Int32 → aH → Prop) (G : aH) (a0 : Nat) (x1 : Int32) : Prop :=
  th_o G a0 8 ∧ (
  th_ai G (a_mr G a0 0) 0 ((406 + (3 * x1)) + 1) ∧ (
  Q (a_mi G (a_mr G a0 0) ((406 + (3 * x1)) + 1).toNatClampNeg) G))
theorem tk_X8_rats {l : Launch} {D : tD} {B : Nat} {Q : Int32 → aH → Prop} {a0 : Nat} {x1 : Int32} : Met l yX8_rats (ws_ yX8_rats cX8_rats 2 ((Option.some Jvm.ClassFile.FieldType.int))) rm_X8_rats (th_P D B [rv a0, .int x1] (fun G => tw_X8_rats Q G a0 x1)) (th_Qi D B Q) 0 0 (th_A B) :=
  th_ofW (by decide +kernel) (th_cr (th_ci th_cn)) (Nat.le_of_ble_eq_true rfl) (fun p e s m args below meth c CF hret hlk hnm hK hSt G ls hR hS hw hL => by
    have E : th_E p m c cX8_rats 2 s args RX8 meth ((Option.some Jvm.ClassFile.FieldType.int)) "rats" D B := ⟨CF, hret, hlk, hnm, hK, hSt⟩
    have hx := CF.1; have hb := CF.2.1
    have hL : th_L ls 2 [(0, rv a0), (1, .int x1)] := hL
    unfold tw_X8_rats at hw
    refine th_aload_n hx hb dX8_rats_0 rfl (lv_at hL.1 0 rfl) ?_
    obtain ⟨ho, hw⟩ := hw
    refine fg_X8_9 CF hK hR ho dX8_rats_1 ?_
    refine lv_sipush hx hb dX8_rats_4 (v := 406) rfl ?_
    refine lv_iconst hx hb dX8_rats_7 (v := 3) rfl ?_
    refine lv_iload_n hx hb dX8_rats_8 rfl (lv_at hL.1 1 rfl) ?_
    refine lv_imul hx hb dX8_rats_9 ?_
    refine lv_iadd hx hb dX8_rats_10 ?_
    refine lv_iconst hx hb dX8_rats_11 (v := 1) rfl ?_
    refine lv_iadd hx hb dX8_rats_12 ?_
    obtain ⟨ha, hw⟩ := hw
    refine th_iald hx hb hK hR ha dX8_rats_13 ?_
    exact th_iret hx hb hret hlk hR hS hw (by omega) (by omega) dX8_rats_14)
def tw_X8_takes_b2 (Q : aH → Prop) : Nat → aH → Nat → Int32 → Int32 → Int32 → Prop := fun n => Nat.rec (motive := fun _ => aH → Nat → Int32 → Int32 → Int32 → Prop) (fun _ _ _ _ _ => False) (fun _ ih G a0 x1 x2 x3 =>
  (x2 ≤ x3 →
    Q G) ∧
  (¬ x2 ≤ x3 →
    th_o G a0 8 ∧ (
    th_ai G (a_mr G a0 0) 0 (139 + (61 * x1)) ∧ (
    th_ai G (a_mr G a0 0) 0 (139 + (61 * x1)) ∧ (
    ∀ G1 : aH, G1 = a_si G (a_mr G a0 0) (139 + (61 * x1)).toNatClampNeg ((a_mi G (a_mr G a0 0) (139 + (61 * x1)).toNatClampNeg) - 1) → 
    th_o G1 a0 8 ∧ (
    th_o G1 a0 8 ∧ (
    (tw_X8_inBay
      (fun (r3 : Int32) (G2 : aH) =>
        th_ai G2 (a_mr G1 a0 0) 0 (((139 + (61 * x1)) + 1) + r3) ∧ (
        ∀ G4 : aH, G4 = a_si G2 (a_mr G1 a0 0) (((139 + (61 * x1)) + 1) + r3).toNatClampNeg 0 → 
        ∀ x3_5 : Int32, x3_5 = x3 + 1 → 
        ih G4 a0 x1 x2 x3_5))
      G1 a0 x1)))))))) n
theorem tws_X8_takes_b2 (Q : aH → Prop) (n : Nat) (G : aH) (a0 : Nat) (x1 : Int32) (x2 : Int32) (x3 : Int32) : tw_X8_takes_b2 Q (n + 1) G a0 x1 x2 x3 = (
  (x2 ≤ x3 →
    Q G) ∧
  (¬ x2 ≤ x3 →
    th_o G a0 8 ∧ (
    th_ai G (a_mr G a0 0) 0 (139 + (61 * x1)) ∧ (
    th_ai G (a_mr G a0 0) 0 (139 + (61 * x1)) ∧ (
    ∀ G1 : aH, G1 = a_si G (a_mr G a0 0) (139 + (61 * x1)).toNatClampNeg ((a_mi G (a_mr G a0 0) (139 + (61 * x1)).toNatClampNeg) - 1) → 
    th_o G1 a0 8 ∧ (
    th_o G1 a0 8 ∧ (
    (tw_X8_inBay
      (fun (r3 : Int32) (G2 : aH) =>
        th_ai G2 (a_mr G1 a0 0) 0 (((139 + (61 * x1)) + 1) + r3) ∧ (
        ∀ G4 : aH, G4 = a_si G2 (a_mr G1 a0 0) (((139 + (61 * x1)) + 1) + r3).toNatClampNeg 0 → 
        ∀ x3_5 : Int32, x3_5 = x3 + 1 → 
        tw_X8_takes_b2 Q n G4 a0 x1 x2 x3_5))
      G1 a0 x1)))))))) := rfl
def tw_X8_takes (Q : aH → Prop) (G : aH) (a0 : Nat) (x1 : Int32) (x2 : Int32) : Prop :=
  ∃ n9 : Nat, tw_X8_takes_b2 Q n9 G a0 x1 x2 0
theorem tk_X8_takes_b2 {p : Program} {l : Launch} {e : Env} {s : State} {m : MethodId} {args : Array Value} {below : List Frame} {meth : Method} {c : Code} {D : tD} {B : Nat} (E : th_E p m c cX8_takes 4 s args RX8 meth ((Option.none : Option Jvm.ClassFile.FieldType)) "takes" D B) {Q : aH → Prop} : ∀ (n : Nat) {G : aH} {H : Heap} {locs : List Loc} {cells slots : Nat} {ls : Array Slot} {a0 : Nat} {x1 : Int32} {x2 : Int32} {x3 : Int32} (hR : th_H D B G H) (hS : va_S (th_A B) s.heap H locs) (hL : th_L ls 4 [(0, rv a0), (1, .int x1), (2, .int x2), (3, .int x3)]) (hw : tw_X8_takes_b2 Q n G a0 x1 x2 x3) (hc : cells + (0) ≤ 0 ∧ slots + (0) ≤ 0), W p l e rm_X8_takes s m args below meth c H locs cells slots (MQ below (th_Qv D B Q) args s 0 0 (th_A B)) (F0 m 2 ls []) := by
  have CF := E.1; have hx := CF.1; have hb := CF.2.1; have hret := E.2.1; have hlk := E.2.2.1; have hnm := E.2.2.2.1; have hK := E.2.2.2.2.1; have hSt := E.2.2.2.2.2
  intro n
  induction n with
  | zero => intro _ _ _ _ _ _ _ _ _ _ _ _ _ hw; exact hw.elim
  | succ n ih =>
    intro G H locs cells slots ls a0 x1 x2 x3 hR hS hL hw hc
    rw [tws_X8_takes_b2] at hw
    refine lv_iload_n hx hb dX8_takes_2 rfl (lv_at hL.1 3 rfl) ?_
    refine lv_iload_n hx hb dX8_takes_3 rfl (lv_at hL.1 2 rfl) ?_
    refine lv_icmp_ge hx hb dX8_takes_4 (tgt := 52) (by decide) (fun h => ?_) (fun h => ?_)
    · replace hw := hw.1 h
      exact th_vret hx hb hret hlk hR hS hw (by omega) (by omega) dX8_takes_52
    · replace hw := hw.2 h
      refine th_aload_n hx hb dX8_takes_7 rfl (lv_at hL.1 0 rfl) ?_
      obtain ⟨ho, hw⟩ := hw
      refine fg_X8_9 CF hK hR ho dX8_takes_8 ?_
      refine lv_sipush hx hb dX8_takes_11 (v := 139) rfl ?_
      refine lv_bipush hx hb dX8_takes_14 (v := 61) rfl ?_
      refine lv_iload_n hx hb dX8_takes_16 rfl (lv_at hL.1 1 rfl) ?_
      refine lv_imul hx hb dX8_takes_17 ?_
      refine lv_iadd hx hb dX8_takes_18 ?_
      refine lv_dup2_11 hx hb dX8_takes_19 rfl (rv_cat _) ?_
      obtain ⟨ha, hw⟩ := hw
      refine th_iald hx hb hK hR ha dX8_takes_20 ?_
      refine lv_iconst hx hb dX8_takes_21 (v := 1) rfl ?_
      refine lv_isub hx hb dX8_takes_22 ?_
      obtain ⟨ha, hw⟩ := hw
      refine th_iast hx hb hK hR hS ha dX8_takes_23 (fun G1 H locs hG hR hS => ?_)
      replace hw := hw G1 hG
      refine th_aload_n hx hb dX8_takes_24 rfl (lv_at hL.1 0 rfl) ?_
      obtain ⟨ho, hw⟩ := hw
      refine fg_X8_9 CF hK hR ho dX8_takes_25 ?_
      refine lv_sipush hx hb dX8_takes_28 (v := 139) rfl ?_
      refine lv_bipush hx hb dX8_takes_31 (v := 61) rfl ?_
      refine lv_iload_n hx hb dX8_takes_33 rfl (lv_at hL.1 1 rfl) ?_
      refine lv_imul hx hb dX8_takes_34 ?_
      refine lv_iadd hx hb dX8_takes_35 ?_
      refine lv_iconst hx hb dX8_takes_36 (v := 1) rfl ?_
      refine lv_iadd hx hb dX8_takes_37 ?_
      refine th_aload_n hx hb dX8_takes_38 rfl (lv_at hL.1 0 rfl) ?_
      refine lv_iload_n hx hb dX8_takes_39 rfl (lv_at hL.1 1 rfl) ?_
      obtain ⟨ho, hw⟩ := hw
      refine th_ki hS (th_rV CF hK hSt hR hS ho (ci := 8) rfl (rest := [.int ((139 + (61 * x1)) + 1), rv (a_mr G1 a0 0)]) (tk_X8_inBay) (cw_X8_128 CF hK (by decide +kernel)) hw rfl hL.1.1 rfl (th_ci (th_cr th_cn)) (Nat.le_of_ble_eq_true rfl) dX8_takes_40 ⟨by show _ ≤ (0 : Nat); omega, by show _ ≤ (0 : Nat); omega⟩) (fun r3 G2 H locs hw hR hS => ?_)
      refine lv_iadd hx hb dX8_takes_43 ?_
      refine lv_iconst hx hb dX8_takes_44 (v := 0) rfl ?_
      obtain ⟨ha, hw⟩ := hw
      refine th_iast hx hb hK hR hS ha dX8_takes_45 (fun G4 H locs hG hR hS => ?_)
      replace hw := hw G4 hG
      obtain ⟨x3_5, hx3_5⟩ : ∃ y : Int32, y = x3 + 1 := ⟨_, rfl⟩
      replace hw := hw x3_5 hx3_5
      refine th_iinc hx hb dX8_takes_46 hL (k := 3) rfl (v := x3_5) hx3_5.symm (by decide) rfl (fun ls hL => ?_)
      refine lv_goto hx hb dX8_takes_49 (tgt := 2) (by decide) ?_
      exact ih hR hS (hL.sub [1, 2, 3, 0] rfl) hw ⟨by omega, by omega⟩
theorem tk_X8_takes {l : Launch} {D : tD} {B : Nat} {Q : aH → Prop} {a0 : Nat} {x1 : Int32} {x2 : Int32} : Met l yX8_takes (ws_ yX8_takes cX8_takes 4 ((Option.none : Option Jvm.ClassFile.FieldType))) rm_X8_takes (th_P D B [rv a0, .int x1, .int x2] (fun G => tw_X8_takes Q G a0 x1 x2)) (th_Qv D B Q) 0 0 (th_A B) :=
  th_ofW (by decide +kernel) (th_cr (th_ci (th_ci th_cn))) (Nat.le_of_ble_eq_true rfl) (fun p e s m args below meth c CF hret hlk hnm hK hSt G ls hR hS hw hL => by
    have E : th_E p m c cX8_takes 4 s args RX8 meth ((Option.none : Option Jvm.ClassFile.FieldType)) "takes" D B := ⟨CF, hret, hlk, hnm, hK, hSt⟩
    have hx := CF.1; have hb := CF.2.1
    have hL : th_L ls 4 [(0, rv a0), (1, .int x1), (2, .int x2)] := hL
    unfold tw_X8_takes at hw
    refine lv_iconst hx hb dX8_takes_0 (v := 0) rfl ?_
    refine th_istore_n hx hb dX8_takes_1 rfl hL (by decide) rfl (fun ls hL => ?_)
    obtain ⟨n9, hw⟩ := hw
    exact tk_X8_takes_b2 E n9 hR hS (hL.sub [1, 2, 3, 0] rfl) hw ⟨by omega, by omega⟩)
def tw_X8_eatInBay_b19 (Q : Int32 → aH → Prop) : Nat → aH → Nat → Int32 → Int32 → Int32 → Prop := fun n => Nat.rec (motive := fun _ => aH → Nat → Int32 → Int32 → Int32 → Prop) (fun _ _ _ _ _ => False) (fun _ ih G a0 x1 x2 x3 =>
  (x2 ≤ x3 →
    Q x2 G) ∧
  (¬ x2 ≤ x3 →
    th_o G a0 8 ∧ (
    th_ai G (a_mr G a0 0) 0 432 ∧ (
    th_o G a0 8 ∧ (
    (tw_X8_inBay
      (fun (r7 : Int32) (G6 : aH) =>
        th_o G6 a0 8 ∧ (
        (tw_X8_kindOf
          (fun (r9 : Int32) (G8 : aH) =>
            (tw_X8_pints
              (fun (r11 : Int32) (G10 : aH) =>
                th_ai G10 (a_mr G a0 0) 0 432 ∧ (
                ∀ G12 : aH, G12 = a_si G10 (a_mr G a0 0) (432 : Int32).toNatClampNeg ((a_mi G (a_mr G a0 0) (432 : Int32).toNatClampNeg) + r11) → 
                th_o G12 a0 8 ∧ (
                (tw_X8_takes
                  (fun (G13 : aH) =>
                    ∀ x3_14 : Int32, x3_14 = x3 + 1 → 
                    ih G13 a0 x1 x2 x3_14)
                  G12 a0 x1 1))))
              G8 r9))
          G6 a0 x1 (r7 - 1))))
      G a0 x1)))))) n
theorem tws_X8_eatInBay_b19 (Q : Int32 → aH → Prop) (n : Nat) (G : aH) (a0 : Nat) (x1 : Int32) (x2 : Int32) (x3 : Int32) : tw_X8_eatInBay_b19 Q (n + 1) G a0 x1 x2 x3 = (
  (x2 ≤ x3 →
    Q x2 G) ∧
  (¬ x2 ≤ x3 →
    th_o G a0 8 ∧ (
    th_ai G (a_mr G a0 0) 0 432 ∧ (
    th_o G a0 8 ∧ (
    (tw_X8_inBay
      (fun (r7 : Int32) (G6 : aH) =>
        th_o G6 a0 8 ∧ (
        (tw_X8_kindOf
          (fun (r9 : Int32) (G8 : aH) =>
            (tw_X8_pints
              (fun (r11 : Int32) (G10 : aH) =>
                th_ai G10 (a_mr G a0 0) 0 432 ∧ (
                ∀ G12 : aH, G12 = a_si G10 (a_mr G a0 0) (432 : Int32).toNatClampNeg ((a_mi G (a_mr G a0 0) (432 : Int32).toNatClampNeg) + r11) → 
                th_o G12 a0 8 ∧ (
                (tw_X8_takes
                  (fun (G13 : aH) =>
                    ∀ x3_14 : Int32, x3_14 = x3 + 1 → 
                    tw_X8_eatInBay_b19 Q n G13 a0 x1 x2 x3_14)
                  G12 a0 x1 1))))
              G8 r9))
          G6 a0 x1 (r7 - 1))))
      G a0 x1)))))) := rfl
def tw_X8_eatInBay (Q : Int32 → aH → Prop) (G : aH) (a0 : Nat) (x1 : Int32) : Prop :=
  th_o G a0 8 ∧ (
  (tw_X8_inBay
    (fun (r2 : Int32) (G1 : aH) =>
      th_o G1 a0 8 ∧ (
      (tw_X8_rats
        (fun (r4 : Int32) (G3 : aH) =>
          ∀ x2_5 : Int32, x2_5 = (if r4 / 10 < r2 then r4 / 10 else r2) → 
          ∃ n9 : Nat, tw_X8_eatInBay_b19 Q n9 G3 a0 x1 x2_5 0)
        G1 a0 x1)))
    G a0 x1))
theorem tk_X8_eatInBay_b19 {p : Program} {l : Launch} {e : Env} {s : State} {m : MethodId} {args : Array Value} {below : List Frame} {meth : Method} {c : Code} {D : tD} {B : Nat} (E : th_E p m c cX8_eatInBay 4 s args RX8 meth ((Option.some Jvm.ClassFile.FieldType.int)) "eatInBay" D B) {Q : Int32 → aH → Prop} : ∀ (n : Nat) {G : aH} {H : Heap} {locs : List Loc} {cells slots : Nat} {ls : Array Slot} {a0 : Nat} {x1 : Int32} {x2 : Int32} {x3 : Int32} (hR : th_H D B G H) (hS : va_S (th_A B) s.heap H locs) (hL : th_L ls 4 [(0, rv a0), (1, .int x1), (2, .int x2), (3, .int x3)]) (hw : tw_X8_eatInBay_b19 Q n G a0 x1 x2 x3) (hc : cells + (0) ≤ 0 ∧ slots + (0) ≤ 0), W p l e rm_X8_eatInBay s m args below meth c H locs cells slots (MQ below (th_Qi D B Q) args s 0 0 (th_A B)) (F0 m 19 ls []) := by
  have CF := E.1; have hx := CF.1; have hb := CF.2.1; have hret := E.2.1; have hlk := E.2.2.1; have hnm := E.2.2.2.1; have hK := E.2.2.2.2.1; have hSt := E.2.2.2.2.2
  intro n
  induction n with
  | zero => intro _ _ _ _ _ _ _ _ _ _ _ _ _ hw; exact hw.elim
  | succ n ih =>
    intro G H locs cells slots ls a0 x1 x2 x3 hR hS hL hw hc
    rw [tws_X8_eatInBay_b19] at hw
    refine lv_iload_n hx hb dX8_eatInBay_19 rfl (lv_at hL.1 3 rfl) ?_
    refine lv_iload_n hx hb dX8_eatInBay_20 rfl (lv_at hL.1 2 rfl) ?_
    refine lv_icmp_ge hx hb dX8_eatInBay_21 (tgt := 62) (by decide) (fun h => ?_) (fun h => ?_)
    · replace hw := hw.1 h
      refine lv_iload_n hx hb dX8_eatInBay_62 rfl (lv_at hL.1 2 rfl) ?_
      exact th_iret hx hb hret hlk hR hS hw (by omega) (by omega) dX8_eatInBay_63
    · replace hw := hw.2 h
      refine th_aload_n hx hb dX8_eatInBay_24 rfl (lv_at hL.1 0 rfl) ?_
      obtain ⟨ho, hw⟩ := hw
      refine fg_X8_9 CF hK hR ho dX8_eatInBay_25 ?_
      refine lv_sipush hx hb dX8_eatInBay_28 (v := 432) rfl ?_
      refine lv_dup2_11 hx hb dX8_eatInBay_31 rfl (rv_cat _) ?_
      obtain ⟨ha, hw⟩ := hw
      refine th_iald hx hb hK hR ha dX8_eatInBay_32 ?_
      refine th_aload_n hx hb dX8_eatInBay_33 rfl (lv_at hL.1 0 rfl) ?_
      refine lv_iload_n hx hb dX8_eatInBay_34 rfl (lv_at hL.1 1 rfl) ?_
      refine th_aload_n hx hb dX8_eatInBay_35 rfl (lv_at hL.1 0 rfl) ?_
      refine lv_iload_n hx hb dX8_eatInBay_36 rfl (lv_at hL.1 1 rfl) ?_
      obtain ⟨ho, hw⟩ := hw
      refine th_ki hS (th_rV CF hK hSt hR hS ho (ci := 8) rfl (rest := [.int x1, rv a0, .int (a_mi G (a_mr G a0 0) (432 : Int32).toNatClampNeg), .int 432, rv (a_mr G a0 0)]) (tk_X8_inBay) (cw_X8_128 CF hK (by decide +kernel)) hw rfl hL.1.1 rfl (th_ci (th_cr (th_ci (th_ci (th_cr th_cn))))) (Nat.le_of_ble_eq_true rfl) dX8_eatInBay_37 ⟨by show _ ≤ (0 : Nat); omega, by show _ ≤ (0 : Nat); omega⟩) (fun r7 G6 H locs hw hR hS => ?_)
      refine lv_iconst hx hb dX8_eatInBay_40 (v := 1) rfl ?_
      refine lv_isub hx hb dX8_eatInBay_41 ?_
      obtain ⟨ho, hw⟩ := hw
      refine th_ki hS (th_rV CF hK hSt hR hS ho (ci := 8) rfl (rest := [.int (a_mi G (a_mr G a0 0) (432 : Int32).toNatClampNeg), .int 432, rv (a_mr G a0 0)]) (tk_X8_kindOf) (cw_X8_141 CF hK (by decide +kernel)) hw rfl hL.1.1 rfl (th_ci (th_ci (th_cr th_cn))) (Nat.le_of_ble_eq_true rfl) dX8_eatInBay_42 ⟨by show _ ≤ (0 : Nat); omega, by show _ ≤ (0 : Nat); omega⟩) (fun r9 G8 H locs hw hR hS => ?_)
      refine th_ki hS (th_rS CF hK hSt hR hS (rest := [.int (a_mi G (a_mr G a0 0) (432 : Int32).toNatClampNeg), .int 432, rv (a_mr G a0 0)]) (tk_X8_pints) (cw_X8_134 CF hK (by decide +kernel)) hw rfl hL.1.1 rfl (th_ci (th_ci (th_cr th_cn))) (Nat.le_of_ble_eq_true rfl) dX8_eatInBay_45 ⟨by show _ ≤ (0 : Nat); omega, by show _ ≤ (0 : Nat); omega⟩) (fun r11 G10 H locs hw hR hS => ?_)
      refine lv_iadd hx hb dX8_eatInBay_48 ?_
      obtain ⟨ha, hw⟩ := hw
      refine th_iast hx hb hK hR hS ha dX8_eatInBay_49 (fun G12 H locs hG hR hS => ?_)
      replace hw := hw G12 hG
      refine th_aload_n hx hb dX8_eatInBay_50 rfl (lv_at hL.1 0 rfl) ?_
      refine lv_iload_n hx hb dX8_eatInBay_51 rfl (lv_at hL.1 1 rfl) ?_
      refine lv_iconst hx hb dX8_eatInBay_52 (v := 1) rfl ?_
      obtain ⟨ho, hw⟩ := hw
      refine th_kv hS (th_rV CF hK hSt hR hS ho (ci := 8) rfl (rest := []) (tk_X8_takes) (cw_X8_168 CF hK (by decide +kernel)) hw rfl hL.1.1 rfl th_cn (Nat.le_of_ble_eq_true rfl) dX8_eatInBay_53 ⟨by show _ ≤ (0 : Nat); omega, by show _ ≤ (0 : Nat); omega⟩) (fun G13 H locs hw hR hS => ?_)
      obtain ⟨x3_14, hx3_14⟩ : ∃ y : Int32, y = x3 + 1 := ⟨_, rfl⟩
      replace hw := hw x3_14 hx3_14
      refine th_iinc hx hb dX8_eatInBay_56 hL (k := 3) rfl (v := x3_14) hx3_14.symm (by decide) rfl (fun ls hL => ?_)
      refine lv_goto hx hb dX8_eatInBay_59 (tgt := 19) (by decide) ?_
      exact ih hR hS (hL.sub [1, 2, 3, 0] rfl) hw ⟨by omega, by omega⟩
theorem tk_X8_eatInBay {l : Launch} {D : tD} {B : Nat} {Q : Int32 → aH → Prop} {a0 : Nat} {x1 : Int32} : Met l yX8_eatInBay (ws_ yX8_eatInBay cX8_eatInBay 4 ((Option.some Jvm.ClassFile.FieldType.int))) rm_X8_eatInBay (th_P D B [rv a0, .int x1] (fun G => tw_X8_eatInBay Q G a0 x1)) (th_Qi D B Q) 0 0 (th_A B) :=
  th_ofW (by decide +kernel) (th_cr (th_ci th_cn)) (Nat.le_of_ble_eq_true rfl) (fun p e s m args below meth c CF hret hlk hnm hK hSt G ls hR hS hw hL => by
    have E : th_E p m c cX8_eatInBay 4 s args RX8 meth ((Option.some Jvm.ClassFile.FieldType.int)) "eatInBay" D B := ⟨CF, hret, hlk, hnm, hK, hSt⟩
    have hx := CF.1; have hb := CF.2.1
    have hL : th_L ls 4 [(0, rv a0), (1, .int x1)] := hL
    unfold tw_X8_eatInBay at hw
    refine th_aload_n hx hb dX8_eatInBay_0 rfl (lv_at hL.1 0 rfl) ?_
    refine lv_iload_n hx hb dX8_eatInBay_1 rfl (lv_at hL.1 1 rfl) ?_
    obtain ⟨ho, hw⟩ := hw
    refine th_ki hS (th_rV CF hK hSt hR hS ho (ci := 8) rfl (rest := []) (tk_X8_inBay) (cw_X8_128 CF hK (by decide +kernel)) hw rfl hL.1.1 rfl th_cn (Nat.le_of_ble_eq_true rfl) dX8_eatInBay_2 ⟨by show _ ≤ (0 : Nat); omega, by show _ ≤ (0 : Nat); omega⟩) (fun r2 G1 H locs hw hR hS => ?_)
    refine th_aload_n hx hb dX8_eatInBay_5 rfl (lv_at hL.1 0 rfl) ?_
    refine lv_iload_n hx hb dX8_eatInBay_6 rfl (lv_at hL.1 1 rfl) ?_
    obtain ⟨ho, hw⟩ := hw
    refine th_ki hS (th_rV CF hK hSt hR hS ho (ci := 8) rfl (rest := [.int r2]) (tk_X8_rats) (cw_X8_181 CF hK (by decide +kernel)) hw rfl hL.1.1 rfl (th_ci th_cn) (Nat.le_of_ble_eq_true rfl) dX8_eatInBay_7 ⟨by show _ ≤ (0 : Nat); omega, by show _ ≤ (0 : Nat); omega⟩) (fun r4 G3 H locs hw hR hS => ?_)
    refine lv_bipush hx hb dX8_eatInBay_10 (v := 10) rfl ?_
    refine lv_idiv hx hb dX8_eatInBay_12 (by decide) ?_
    refine va_mmin hx hb (CF.2.2.1.trans hL.1.1.symm) CF.2.2.2.1 (CF.2.2.2.2 _ q1759) (CF.2.2.2.2 _ q666) (CF.2.2.2.2 _ q119) (CF.2.2.2.2 _ q667) (by decide) (by rw [th_c1.sum th_cn]; exact Nat.le_of_ble_eq_true rfl) (by show _ ≤ (0 : Nat); omega) (by show _ ≤ (0 : Nat); omega) dX8_eatInBay_13 ?_
    obtain ⟨x2_5, hx2_5⟩ : ∃ y : Int32, y = (if r4 / 10 < r2 then r4 / 10 else r2) := ⟨_, rfl⟩
    replace hw := hw x2_5 hx2_5
    refine th_nmi hx2_5 ?_
    refine th_istore_n hx hb dX8_eatInBay_16 rfl hL (by decide) rfl (fun ls hL => ?_)
    refine lv_iconst hx hb dX8_eatInBay_17 (v := 0) rfl ?_
    refine th_istore_n hx hb dX8_eatInBay_18 rfl hL (by decide) rfl (fun ls hL => ?_)
    obtain ⟨n9, hw⟩ := hw
    exact tk_X8_eatInBay_b19 E n9 hR hS (hL.sub [2, 3, 1, 0] rfl) hw ⟨by omega, by omega⟩)
def tw_X8_eatInBin (Q : Int32 → aH → Prop) (G : aH) (a0 : Nat) (x1 : Int32) : Prop :=
  th_o G a0 8 ∧ (
  (tw_X8_store
    (fun (r2 : Int32) (G1 : aH) =>
      th_o G1 a0 8 ∧ (
      (tw_X8_rats
        (fun (r4 : Int32) (G3 : aH) =>
          ∀ x2_5 : Int32, x2_5 = (if r4 < r2 then r4 else r2) → 
          th_o G3 a0 8 ∧ (
          th_ai G3 (a_mr G3 a0 0) 0 (391 + (5 * x1)) ∧ (
          th_ai G3 (a_mr G3 a0 0) 0 (391 + (5 * x1)) ∧ (
          ∀ G6 : aH, G6 = a_si G3 (a_mr G3 a0 0) (391 + (5 * x1)).toNatClampNeg ((a_mi G3 (a_mr G3 a0 0) (391 + (5 * x1)).toNatClampNeg) - x2_5) → 
          th_o G6 a0 8 ∧ (
          th_ai G6 (a_mr G6 a0 0) 0 432 ∧ (
          th_ai G6 (a_mr G6 a0 0) 0 432 ∧ (
          ∀ G7 : aH, G7 = a_si G6 (a_mr G6 a0 0) (432 : Int32).toNatClampNeg ((a_mi G6 (a_mr G6 a0 0) (432 : Int32).toNatClampNeg) + x2_5) → 
          Q x2_5 G7)))))))
        G1 a0 (4 + x1))))
    G a0 x1 0))
theorem tk_X8_eatInBin {l : Launch} {D : tD} {B : Nat} {Q : Int32 → aH → Prop} {a0 : Nat} {x1 : Int32} : Met l yX8_eatInBin (ws_ yX8_eatInBin cX8_eatInBin 3 ((Option.some Jvm.ClassFile.FieldType.int))) rm_X8_eatInBin (th_P D B [rv a0, .int x1] (fun G => tw_X8_eatInBin Q G a0 x1)) (th_Qi D B Q) 0 0 (th_A B) :=
  th_ofW (by decide +kernel) (th_cr (th_ci th_cn)) (Nat.le_of_ble_eq_true rfl) (fun p e s m args below meth c CF hret hlk hnm hK hSt G ls hR hS hw hL => by
    have E : th_E p m c cX8_eatInBin 3 s args RX8 meth ((Option.some Jvm.ClassFile.FieldType.int)) "eatInBin" D B := ⟨CF, hret, hlk, hnm, hK, hSt⟩
    have hx := CF.1; have hb := CF.2.1
    have hL : th_L ls 3 [(0, rv a0), (1, .int x1)] := hL
    unfold tw_X8_eatInBin at hw
    refine th_aload_n hx hb dX8_eatInBin_0 rfl (lv_at hL.1 0 rfl) ?_
    refine lv_iload_n hx hb dX8_eatInBin_1 rfl (lv_at hL.1 1 rfl) ?_
    refine lv_iconst hx hb dX8_eatInBin_2 (v := 0) rfl ?_
    obtain ⟨ho, hw⟩ := hw
    refine th_ki hS (th_rV CF hK hSt hR hS ho (ci := 8) rfl (rest := []) (tk_X8_store) (cw_X8_178 CF hK (by decide +kernel)) hw rfl hL.1.1 rfl th_cn (Nat.le_of_ble_eq_true rfl) dX8_eatInBin_3 ⟨by show _ ≤ (0 : Nat); omega, by show _ ≤ (0 : Nat); omega⟩) (fun r2 G1 H locs hw hR hS => ?_)
    refine th_aload_n hx hb dX8_eatInBin_6 rfl (lv_at hL.1 0 rfl) ?_
    refine lv_iconst hx hb dX8_eatInBin_7 (v := 4) rfl ?_
    refine lv_iload_n hx hb dX8_eatInBin_8 rfl (lv_at hL.1 1 rfl) ?_
    refine lv_iadd hx hb dX8_eatInBin_9 ?_
    obtain ⟨ho, hw⟩ := hw
    refine th_ki hS (th_rV CF hK hSt hR hS ho (ci := 8) rfl (rest := [.int r2]) (tk_X8_rats) (cw_X8_181 CF hK (by decide +kernel)) hw rfl hL.1.1 rfl (th_ci th_cn) (Nat.le_of_ble_eq_true rfl) dX8_eatInBin_10 ⟨by show _ ≤ (0 : Nat); omega, by show _ ≤ (0 : Nat); omega⟩) (fun r4 G3 H locs hw hR hS => ?_)
    refine va_mmin hx hb (CF.2.2.1.trans hL.1.1.symm) CF.2.2.2.1 (CF.2.2.2.2 _ q1759) (CF.2.2.2.2 _ q666) (CF.2.2.2.2 _ q119) (CF.2.2.2.2 _ q667) (by decide) (by rw [th_c1.sum th_cn]; exact Nat.le_of_ble_eq_true rfl) (by show _ ≤ (0 : Nat); omega) (by show _ ≤ (0 : Nat); omega) dX8_eatInBin_13 ?_
    obtain ⟨x2_5, hx2_5⟩ : ∃ y : Int32, y = (if r4 < r2 then r4 else r2) := ⟨_, rfl⟩
    replace hw := hw x2_5 hx2_5
    refine th_nmi hx2_5 ?_
    refine th_istore_n hx hb dX8_eatInBin_16 rfl hL (by decide) rfl (fun ls hL => ?_)
    refine th_aload_n hx hb dX8_eatInBin_17 rfl (lv_at hL.1 1 rfl) ?_
    obtain ⟨ho, hw⟩ := hw
    refine fg_X8_9 CF hK hR ho dX8_eatInBin_18 ?_
    refine lv_sipush hx hb dX8_eatInBin_21 (v := 391) rfl ?_
    refine lv_iconst hx hb dX8_eatInBin_24 (v := 5) rfl ?_
    refine lv_iload_n hx hb dX8_eatInBin_25 rfl (lv_at hL.1 2 rfl) ?_
    refine lv_imul hx hb dX8_eatInBin_26 ?_
    refine lv_iadd hx hb dX8_eatInBin_27 ?_
    refine lv_dup2_11 hx hb dX8_eatInBin_28 rfl (rv_cat _) ?_
    obtain ⟨ha, hw⟩ := hw
    refine th_iald hx hb hK hR ha dX8_eatInBin_29 ?_
    refine lv_iload_n hx hb dX8_eatInBin_30 rfl (lv_at hL.1 0 rfl) ?_
    refine lv_isub hx hb dX8_eatInBin_31 ?_
    obtain ⟨ha, hw⟩ := hw
    refine th_iast hx hb hK hR hS ha dX8_eatInBin_32 (fun G6 H locs hG hR hS => ?_)
    replace hw := hw G6 hG
    refine th_aload_n hx hb dX8_eatInBin_33 rfl (lv_at hL.1 1 rfl) ?_
    obtain ⟨ho, hw⟩ := hw
    refine fg_X8_9 CF hK hR ho dX8_eatInBin_34 ?_
    refine lv_sipush hx hb dX8_eatInBin_37 (v := 432) rfl ?_
    refine lv_dup2_11 hx hb dX8_eatInBin_40 rfl (rv_cat _) ?_
    obtain ⟨ha, hw⟩ := hw
    refine th_iald hx hb hK hR ha dX8_eatInBin_41 ?_
    refine lv_iload_n hx hb dX8_eatInBin_42 rfl (lv_at hL.1 0 rfl) ?_
    refine lv_iadd hx hb dX8_eatInBin_43 ?_
    obtain ⟨ha, hw⟩ := hw
    refine th_iast hx hb hK hR hS ha dX8_eatInBin_44 (fun G7 H locs hG hR hS => ?_)
    replace hw := hw G7 hG
    refine lv_iload_n hx hb dX8_eatInBin_45 rfl (lv_at hL.1 0 rfl) ?_
    exact th_iret hx hb hret hlk hR hS hw (by omega) (by omega) dX8_eatInBin_46)
def tw_X8_eats_b135 (Q : aH → Prop) (G : aH) (a0 : Nat) (x2 : Int32) (tx0 : Int32) (tx1 : Int32) (tx2 : Int32) (ta3 : Nat) : Prop :=
  th_ai G ta3 0 tx2 ∧ (
  ∀ G8 : aH, G8 = a_si G ta3 tx2.toNatClampNeg (tx1 - tx0) → 
  th_o G8 a0 8 ∧ (
  th_o G8 a0 8 ∧ (
  th_ai G8 (a_mr G8 a0 0) 0 (x2 + 1) ∧ (
  th_ai G8 (a_mr G8 a0 0) 0 (x2 + 1) ∧ (
  ∀ G9 : aH, G9 = a_si G8 (a_mr G8 a0 0) (x2 + 1).toNatClampNeg (if a_mi G8 (a_mr G8 a0 0) (x2 + 1).toNatClampNeg < 50 then a_mi G8 (a_mr G8 a0 0) (x2 + 1).toNatClampNeg else 50) → 
  Q G9)))))
def tw_X8_eats_b96 (Q : aH → Prop) (G : aH) (a0 : Nat) (x1 : Int32) (x2 : Int32) (tx0 : Int32) (tx1 : Int32) (tx2 : Int32) (ta3 : Nat) : Prop :=
  th_ai G ta3 0 tx2 ∧ (
  ∀ G7 : aH, G7 = a_si G ta3 tx2.toNatClampNeg (tx1 + tx0) → 
  th_o G7 a0 8 ∧ (
  th_ai G7 (a_mr G7 a0 0) 0 (x2 + 1) ∧ (
  th_o G7 a0 8 ∧ (
  th_ai G7 (a_mr G7 a0 0) 0 427 ∧ (
  (¬ a_mi G7 (a_mr G7 a0 0) (427 : Int32).toNatClampNeg = x1 →
    tw_X8_eats_b135 Q G7 a0 x2 0 (a_mi G7 (a_mr G7 a0 0) (x2 + 1).toNatClampNeg) (x2 + 1) (a_mr G7 a0 0)) ∧
  (a_mi G7 (a_mr G7 a0 0) (427 : Int32).toNatClampNeg = x1 →
    th_o G7 a0 8 ∧ (
    th_ai G7 (a_mr G7 a0 0) 0 (x2 + 1) ∧ (
    tw_X8_eats_b135 Q G7 a0 x2 (((a_mi G7 (a_mr G7 a0 0) (x2 + 1).toNatClampNeg) + 1) / 2) (a_mi G7 (a_mr G7 a0 0) (x2 + 1).toNatClampNeg) (x2 + 1) (a_mr G7 a0 0)))))))))
def tw_X8_eats_b60 (Q : aH → Prop) (G : aH) (a0 : Nat) (x1 : Int32) (x2 : Int32) (tx0 : Int32) : Prop :=
  th_o G a0 8 ∧ (
  th_ai G (a_mr G a0 0) 0 (x2 + 1) ∧ (
  (tx0 ≤ 0 →
    th_o G a0 8 ∧ (
    th_ai G (a_mr G a0 0) 0 (x2 + 1) ∧ (
    tw_X8_eats_b96 Q G a0 x1 x2 (-(((a_mi G (a_mr G a0 0) (x2 + 1).toNatClampNeg) + 1) / 2)) (a_mi G (a_mr G a0 0) (x2 + 1).toNatClampNeg) (x2 + 1) (a_mr G a0 0)))) ∧
  (¬ tx0 ≤ 0 →
    th_o G a0 8 ∧ (
    th_ai G (a_mr G a0 0) 0 x2 ∧ (
    tw_X8_eats_b96 Q G a0 x1 x2 (a_mi G (a_mr G a0 0) x2.toNatClampNeg) (a_mi G (a_mr G a0 0) (x2 + 1).toNatClampNeg) (x2 + 1) (a_mr G a0 0))))))
def tw_X8_eats_b37 (Q : aH → Prop) (G : aH) (a0 : Nat) (x1 : Int32) (x2 : Int32) (tx0 : Int32) (tx1 : Int32) (tx2 : Int32) (ta3 : Nat) : Prop :=
  th_ai G ta3 0 tx2 ∧ (
  ∀ G4 : aH, G4 = a_si G ta3 tx2.toNatClampNeg (tx1 + tx0) → 
  (4 ≤ x1 →
    th_o G4 a0 8 ∧ (
    (tw_X8_store
      (fun (r6 : Int32) (G5 : aH) =>
        tw_X8_eats_b60 Q G5 a0 x1 x2 r6)
      G4 a0 (x1 - 4) 0))) ∧
  (¬ 4 ≤ x1 →
    th_o G4 a0 8 ∧ (
    (tw_X8_inBay
      (fun (r11 : Int32) (G10 : aH) =>
        tw_X8_eats_b60 Q G10 a0 x1 x2 r11)
      G4 a0 x1))))
def tw_X8_eats (Q : aH → Prop) (G : aH) (a0 : Nat) (x1 : Int32) : Prop :=
  ∀ x2_1 : Int32, x2_1 = 406 + (3 * x1) → 
  th_o G a0 8 ∧ (
  th_ai G (a_mr G a0 0) 0 (x2_1 + 2) ∧ (
  (4 ≤ x1 →
    th_o G a0 8 ∧ (
    (tw_X8_eatInBin
      (fun (r3 : Int32) (G2 : aH) =>
        tw_X8_eats_b37 Q G2 a0 x1 x2_1 r3 (a_mi G (a_mr G a0 0) (x2_1 + 2).toNatClampNeg) (x2_1 + 2) (a_mr G a0 0))
      G a0 (x1 - 4)))) ∧
  (¬ 4 ≤ x1 →
    th_o G a0 8 ∧ (
    (tw_X8_eatInBay
      (fun (r13 : Int32) (G12 : aH) =>
        tw_X8_eats_b37 Q G12 a0 x1 x2_1 r13 (a_mi G (a_mr G a0 0) (x2_1 + 2).toNatClampNeg) (x2_1 + 2) (a_mr G a0 0))
      G a0 x1)))))
theorem tk_X8_eats_b135 {p : Program} {l : Launch} {e : Env} {s : State} {m : MethodId} {args : Array Value} {below : List Frame} {meth : Method} {c : Code} {D : tD} {B : Nat} (E : th_E p m c cX8_eats 4 s args RX8 meth ((Option.none : Option Jvm.ClassFile.FieldType)) "eats" D B) {Q : aH → Prop} {G : aH} {H : Heap} {locs : List Loc} {cells slots : Nat} {ls : Array Slot} {a0 : Nat} {x2 : Int32} {tx0 : Int32} {tx1 : Int32} {tx2 : Int32} {ta3 : Nat} (hR : th_H D B G H) (hS : va_S (th_A B) s.heap H locs) (hL : th_L ls 4 [(0, rv a0), (2, .int x2)]) (hw : tw_X8_eats_b135 Q G a0 x2 tx0 tx1 tx2 ta3) (hc : cells + (0) ≤ 0 ∧ slots + (0) ≤ 0) : W p l e rm_X8_eats s m args below meth c H locs cells slots (MQ below (th_Qv D B Q) args s 0 0 (th_A B)) (F0 m 135 ls [.int tx0, .int tx1, .int tx2, rv ta3]) := by
  have CF := E.1; have hx := CF.1; have hb := CF.2.1; have hret := E.2.1; have hlk := E.2.2.1; have hnm := E.2.2.2.1; have hK := E.2.2.2.2.1; have hSt := E.2.2.2.2.2
  unfold tw_X8_eats_b135 at hw
  refine lv_isub hx hb dX8_eats_135 ?_
  obtain ⟨ha, hw⟩ := hw
  refine th_iast hx hb hK hR hS ha dX8_eats_136 (fun G8 H locs hG hR hS => ?_)
  replace hw := hw G8 hG
  refine th_aload_n hx hb dX8_eats_137 rfl (lv_at hL.1 0 rfl) ?_
  obtain ⟨ho, hw⟩ := hw
  refine fg_X8_9 CF hK hR ho dX8_eats_138 ?_
  refine lv_iload_n hx hb dX8_eats_141 rfl (lv_at hL.1 1 rfl) ?_
  refine lv_iconst hx hb dX8_eats_142 (v := 1) rfl ?_
  refine lv_iadd hx hb dX8_eats_143 ?_
  refine lv_bipush hx hb dX8_eats_144 (v := 50) rfl ?_
  refine th_aload_n hx hb dX8_eats_146 rfl (lv_at hL.1 0 rfl) ?_
  obtain ⟨ho, hw⟩ := hw
  refine fg_X8_9 CF hK hR ho dX8_eats_147 ?_
  refine lv_iload_n hx hb dX8_eats_150 rfl (lv_at hL.1 1 rfl) ?_
  refine lv_iconst hx hb dX8_eats_151 (v := 1) rfl ?_
  refine lv_iadd hx hb dX8_eats_152 ?_
  obtain ⟨ha, hw⟩ := hw
  refine th_iald hx hb hK hR ha dX8_eats_153 ?_
  refine va_mmin hx hb (CF.2.2.1.trans hL.1.1.symm) CF.2.2.2.1 (CF.2.2.2.2 _ q1759) (CF.2.2.2.2 _ q666) (CF.2.2.2.2 _ q119) (CF.2.2.2.2 _ q667) (by decide) (by rw [th_c1.sum (th_ci (th_cr th_cn))]; exact Nat.le_of_ble_eq_true rfl) (by show _ ≤ (0 : Nat); omega) (by show _ ≤ (0 : Nat); omega) dX8_eats_154 ?_
  obtain ⟨ha, hw⟩ := hw
  refine th_iast hx hb hK hR hS ha dX8_eats_157 (fun G9 H locs hG hR hS => ?_)
  replace hw := hw G9 hG
  exact th_vret hx hb hret hlk hR hS hw (by omega) (by omega) dX8_eats_158
theorem tk_X8_eats_b96 {p : Program} {l : Launch} {e : Env} {s : State} {m : MethodId} {args : Array Value} {below : List Frame} {meth : Method} {c : Code} {D : tD} {B : Nat} (E : th_E p m c cX8_eats 4 s args RX8 meth ((Option.none : Option Jvm.ClassFile.FieldType)) "eats" D B) {Q : aH → Prop} {G : aH} {H : Heap} {locs : List Loc} {cells slots : Nat} {ls : Array Slot} {a0 : Nat} {x1 : Int32} {x2 : Int32} {tx0 : Int32} {tx1 : Int32} {tx2 : Int32} {ta3 : Nat} (hR : th_H D B G H) (hS : va_S (th_A B) s.heap H locs) (hL : th_L ls 4 [(0, rv a0), (1, .int x1), (2, .int x2)]) (hw : tw_X8_eats_b96 Q G a0 x1 x2 tx0 tx1 tx2 ta3) (hc : cells + (0) ≤ 0 ∧ slots + (0) ≤ 0) : W p l e rm_X8_eats s m args below meth c H locs cells slots (MQ below (th_Qv D B Q) args s 0 0 (th_A B)) (F0 m 96 ls [.int tx0, .int tx1, .int tx2, rv ta3]) := by
  have CF := E.1; have hx := CF.1; have hb := CF.2.1; have hret := E.2.1; have hlk := E.2.2.1; have hnm := E.2.2.2.1; have hK := E.2.2.2.2.1; have hSt := E.2.2.2.2.2
  unfold tw_X8_eats_b96 at hw
  refine lv_iadd hx hb dX8_eats_96 ?_
  obtain ⟨ha, hw⟩ := hw
  refine th_iast hx hb hK hR hS ha dX8_eats_97 (fun G7 H locs hG hR hS => ?_)
  replace hw := hw G7 hG
  refine th_aload_n hx hb dX8_eats_98 rfl (lv_at hL.1 0 rfl) ?_
  obtain ⟨ho, hw⟩ := hw
  refine fg_X8_9 CF hK hR ho dX8_eats_99 ?_
  refine lv_iload_n hx hb dX8_eats_102 rfl (lv_at hL.1 2 rfl) ?_
  refine lv_iconst hx hb dX8_eats_103 (v := 1) rfl ?_
  refine lv_iadd hx hb dX8_eats_104 ?_
  refine lv_dup2_11 hx hb dX8_eats_105 rfl (rv_cat _) ?_
  obtain ⟨ha, hw⟩ := hw
  refine th_iald hx hb hK hR ha dX8_eats_106 ?_
  refine th_aload_n hx hb dX8_eats_107 rfl (lv_at hL.1 0 rfl) ?_
  obtain ⟨ho, hw⟩ := hw
  refine fg_X8_9 CF hK hR ho dX8_eats_108 ?_
  refine lv_sipush hx hb dX8_eats_111 (v := 427) rfl ?_
  obtain ⟨ha, hw⟩ := hw
  refine th_iald hx hb hK hR ha dX8_eats_114 ?_
  refine lv_iload_n hx hb dX8_eats_115 rfl (lv_at hL.1 1 rfl) ?_
  refine lv_icmp_ne hx hb dX8_eats_116 (tgt := 134) (by decide) (fun h => ?_) (fun h => ?_)
  · replace hw := hw.1 h
    refine lv_iconst hx hb dX8_eats_134 (v := 0) rfl ?_
    exact tk_X8_eats_b135 E hR hS (hL.sub [0, 2] rfl) hw ⟨by omega, by omega⟩
  · replace hw := hw.2 h
    refine th_aload_n hx hb dX8_eats_119 rfl (lv_at hL.1 0 rfl) ?_
    obtain ⟨ho, hw⟩ := hw
    refine fg_X8_9 CF hK hR ho dX8_eats_120 ?_
    refine lv_iload_n hx hb dX8_eats_123 rfl (lv_at hL.1 2 rfl) ?_
    refine lv_iconst hx hb dX8_eats_124 (v := 1) rfl ?_
    refine lv_iadd hx hb dX8_eats_125 ?_
    obtain ⟨ha, hw⟩ := hw
    refine th_iald hx hb hK hR ha dX8_eats_126 ?_
    refine lv_iconst hx hb dX8_eats_127 (v := 1) rfl ?_
    refine lv_iadd hx hb dX8_eats_128 ?_
    refine lv_iconst hx hb dX8_eats_129 (v := 2) rfl ?_
    refine lv_idiv hx hb dX8_eats_130 (by decide) ?_
    refine lv_goto hx hb dX8_eats_131 (tgt := 135) (by decide) ?_
    exact tk_X8_eats_b135 E hR hS (hL.sub [0, 2] rfl) hw ⟨by omega, by omega⟩
theorem tk_X8_eats_b60 {p : Program} {l : Launch} {e : Env} {s : State} {m : MethodId} {args : Array Value} {below : List Frame} {meth : Method} {c : Code} {D : tD} {B : Nat} (E : th_E p m c cX8_eats 4 s args RX8 meth ((Option.none : Option Jvm.ClassFile.FieldType)) "eats" D B) {Q : aH → Prop} {G : aH} {H : Heap} {locs : List Loc} {cells slots : Nat} {ls : Array Slot} {a0 : Nat} {x1 : Int32} {x2 : Int32} {tx0 : Int32} (hR : th_H D B G H) (hS : va_S (th_A B) s.heap H locs) (hL : th_L ls 4 [(0, rv a0), (1, .int x1), (2, .int x2)]) (hw : tw_X8_eats_b60 Q G a0 x1 x2 tx0) (hc : cells + (0) ≤ 0 ∧ slots + (0) ≤ 0) : W p l e rm_X8_eats s m args below meth c H locs cells slots (MQ below (th_Qv D B Q) args s 0 0 (th_A B)) (F0 m 60 ls [.int tx0]) := by
  have CF := E.1; have hx := CF.1; have hb := CF.2.1; have hret := E.2.1; have hlk := E.2.2.1; have hnm := E.2.2.2.1; have hK := E.2.2.2.2.1; have hSt := E.2.2.2.2.2
  unfold tw_X8_eats_b60 at hw
  refine th_istore_n hx hb dX8_eats_60 rfl hL (by decide) rfl (fun ls hL => ?_)
  refine th_aload_n hx hb dX8_eats_61 rfl (lv_at hL.1 1 rfl) ?_
  obtain ⟨ho, hw⟩ := hw
  refine fg_X8_9 CF hK hR ho dX8_eats_62 ?_
  refine lv_iload_n hx hb dX8_eats_65 rfl (lv_at hL.1 3 rfl) ?_
  refine lv_iconst hx hb dX8_eats_66 (v := 1) rfl ?_
  refine lv_iadd hx hb dX8_eats_67 ?_
  refine lv_dup2_11 hx hb dX8_eats_68 rfl (rv_cat _) ?_
  obtain ⟨ha, hw⟩ := hw
  refine th_iald hx hb hK hR ha dX8_eats_69 ?_
  refine lv_iload_n hx hb dX8_eats_70 rfl (lv_at hL.1 0 rfl) ?_
  refine lv_if_le hx hb dX8_eats_71 (tgt := 83) (by decide) (fun h => ?_) (fun h => ?_)
  · replace hw := hw.1 h
    refine th_aload_n hx hb dX8_eats_83 rfl (lv_at hL.1 1 rfl) ?_
    obtain ⟨ho, hw⟩ := hw
    refine fg_X8_9 CF hK hR ho dX8_eats_84 ?_
    refine lv_iload_n hx hb dX8_eats_87 rfl (lv_at hL.1 3 rfl) ?_
    refine lv_iconst hx hb dX8_eats_88 (v := 1) rfl ?_
    refine lv_iadd hx hb dX8_eats_89 ?_
    obtain ⟨ha, hw⟩ := hw
    refine th_iald hx hb hK hR ha dX8_eats_90 ?_
    refine lv_iconst hx hb dX8_eats_91 (v := 1) rfl ?_
    refine lv_iadd hx hb dX8_eats_92 ?_
    refine lv_iconst hx hb dX8_eats_93 (v := 2) rfl ?_
    refine lv_idiv hx hb dX8_eats_94 (by decide) ?_
    refine lv_ineg hx hb dX8_eats_95 ?_
    exact tk_X8_eats_b96 E hR hS (hL.sub [1, 2, 3] rfl) hw ⟨by omega, by omega⟩
  · replace hw := hw.2 h
    refine th_aload_n hx hb dX8_eats_74 rfl (lv_at hL.1 1 rfl) ?_
    obtain ⟨ho, hw⟩ := hw
    refine fg_X8_9 CF hK hR ho dX8_eats_75 ?_
    refine lv_iload_n hx hb dX8_eats_78 rfl (lv_at hL.1 3 rfl) ?_
    obtain ⟨ha, hw⟩ := hw
    refine th_iald hx hb hK hR ha dX8_eats_79 ?_
    refine lv_goto hx hb dX8_eats_80 (tgt := 96) (by decide) ?_
    exact tk_X8_eats_b96 E hR hS (hL.sub [1, 2, 3] rfl) hw ⟨by omega, by omega⟩
theorem tk_X8_eats_b37 {p : Program} {l : Launch} {e : Env} {s : State} {m : MethodId} {args : Array Value} {below : List Frame} {meth : Method} {c : Code} {D : tD} {B : Nat} (E : th_E p m c cX8_eats 4 s args RX8 meth ((Option.none : Option Jvm.ClassFile.FieldType)) "eats" D B) {Q : aH → Prop} {G : aH} {H : Heap} {locs : List Loc} {cells slots : Nat} {ls : Array Slot} {a0 : Nat} {x1 : Int32} {x2 : Int32} {tx0 : Int32} {tx1 : Int32} {tx2 : Int32} {ta3 : Nat} (hR : th_H D B G H) (hS : va_S (th_A B) s.heap H locs) (hL : th_L ls 4 [(0, rv a0), (1, .int x1), (2, .int x2)]) (hw : tw_X8_eats_b37 Q G a0 x1 x2 tx0 tx1 tx2 ta3) (hc : cells + (0) ≤ 0 ∧ slots + (0) ≤ 0) : W p l e rm_X8_eats s m args below meth c H locs cells slots (MQ below (th_Qv D B Q) args s 0 0 (th_A B)) (F0 m 37 ls [.int tx0, .int tx1, .int tx2, rv ta3]) := by
  have CF := E.1; have hx := CF.1; have hb := CF.2.1; have hret := E.2.1; have hlk := E.2.2.1; have hnm := E.2.2.2.1; have hK := E.2.2.2.2.1; have hSt := E.2.2.2.2.2
  unfold tw_X8_eats_b37 at hw
  refine lv_iadd hx hb dX8_eats_37 ?_
  obtain ⟨ha, hw⟩ := hw
  refine th_iast hx hb hK hR hS ha dX8_eats_38 (fun G4 H locs hG hR hS => ?_)
  replace hw := hw G4 hG
  refine lv_iload_n hx hb dX8_eats_39 rfl (lv_at hL.1 1 rfl) ?_
  refine lv_iconst hx hb dX8_eats_40 (v := 4) rfl ?_
  refine lv_icmp_ge hx hb dX8_eats_41 (tgt := 52) (by decide) (fun h => ?_) (fun h => ?_)
  · replace hw := hw.1 h
    refine th_aload_n hx hb dX8_eats_52 rfl (lv_at hL.1 0 rfl) ?_
    refine lv_iload_n hx hb dX8_eats_53 rfl (lv_at hL.1 1 rfl) ?_
    refine lv_iconst hx hb dX8_eats_54 (v := 4) rfl ?_
    refine lv_isub hx hb dX8_eats_55 ?_
    refine lv_iconst hx hb dX8_eats_56 (v := 0) rfl ?_
    obtain ⟨ho, hw⟩ := hw
    refine th_ki hS (th_rV CF hK hSt hR hS ho (ci := 8) rfl (rest := []) (tk_X8_store) (cw_X8_178 CF hK (by decide +kernel)) hw rfl hL.1.1 rfl th_cn (Nat.le_of_ble_eq_true rfl) dX8_eats_57 ⟨by show _ ≤ (0 : Nat); omega, by show _ ≤ (0 : Nat); omega⟩) (fun r6 G5 H locs hw hR hS => ?_)
    exact tk_X8_eats_b60 E hR hS (hL.sub [0, 1, 2] rfl) hw ⟨by omega, by omega⟩
  · replace hw := hw.2 h
    refine th_aload_n hx hb dX8_eats_44 rfl (lv_at hL.1 0 rfl) ?_
    refine lv_iload_n hx hb dX8_eats_45 rfl (lv_at hL.1 1 rfl) ?_
    obtain ⟨ho, hw⟩ := hw
    refine th_ki hS (th_rV CF hK hSt hR hS ho (ci := 8) rfl (rest := []) (tk_X8_inBay) (cw_X8_128 CF hK (by decide +kernel)) hw rfl hL.1.1 rfl th_cn (Nat.le_of_ble_eq_true rfl) dX8_eats_46 ⟨by show _ ≤ (0 : Nat); omega, by show _ ≤ (0 : Nat); omega⟩) (fun r11 G10 H locs hw hR hS => ?_)
    refine lv_goto hx hb dX8_eats_49 (tgt := 60) (by decide) ?_
    exact tk_X8_eats_b60 E hR hS (hL.sub [0, 1, 2] rfl) hw ⟨by omega, by omega⟩
theorem tk_X8_eats {l : Launch} {D : tD} {B : Nat} {Q : aH → Prop} {a0 : Nat} {x1 : Int32} : Met l yX8_eats (ws_ yX8_eats cX8_eats 4 ((Option.none : Option Jvm.ClassFile.FieldType))) rm_X8_eats (th_P D B [rv a0, .int x1] (fun G => tw_X8_eats Q G a0 x1)) (th_Qv D B Q) 0 0 (th_A B) :=
  th_ofW (by decide +kernel) (th_cr (th_ci th_cn)) (Nat.le_of_ble_eq_true rfl) (fun p e s m args below meth c CF hret hlk hnm hK hSt G ls hR hS hw hL => by
    have E : th_E p m c cX8_eats 4 s args RX8 meth ((Option.none : Option Jvm.ClassFile.FieldType)) "eats" D B := ⟨CF, hret, hlk, hnm, hK, hSt⟩
    have hx := CF.1; have hb := CF.2.1
    have hL : th_L ls 4 [(0, rv a0), (1, .int x1)] := hL
    unfold tw_X8_eats at hw
    refine lv_sipush hx hb dX8_eats_0 (v := 406) rfl ?_
    refine lv_iconst hx hb dX8_eats_3 (v := 3) rfl ?_
    refine lv_iload_n hx hb dX8_eats_4 rfl (lv_at hL.1 1 rfl) ?_
    refine lv_imul hx hb dX8_eats_5 ?_
    refine lv_iadd hx hb dX8_eats_6 ?_
    obtain ⟨x2_1, hx2_1⟩ : ∃ y : Int32, y = 406 + (3 * x1) := ⟨_, rfl⟩
    replace hw := hw x2_1 hx2_1
    refine th_nmi hx2_1 ?_
    refine th_istore_n hx hb dX8_eats_7 rfl hL (by decide) rfl (fun ls hL => ?_)
    refine th_aload_n hx hb dX8_eats_8 rfl (lv_at hL.1 1 rfl) ?_
    obtain ⟨ho, hw⟩ := hw
    refine fg_X8_9 CF hK hR ho dX8_eats_9 ?_
    refine lv_iload_n hx hb dX8_eats_12 rfl (lv_at hL.1 0 rfl) ?_
    refine lv_iconst hx hb dX8_eats_13 (v := 2) rfl ?_
    refine lv_iadd hx hb dX8_eats_14 ?_
    refine lv_dup2_11 hx hb dX8_eats_15 rfl (rv_cat _) ?_
    obtain ⟨ha, hw⟩ := hw
    refine th_iald hx hb hK hR ha dX8_eats_16 ?_
    refine lv_iload_n hx hb dX8_eats_17 rfl (lv_at hL.1 2 rfl) ?_
    refine lv_iconst hx hb dX8_eats_18 (v := 4) rfl ?_
    refine lv_icmp_ge hx hb dX8_eats_19 (tgt := 30) (by decide) (fun h => ?_) (fun h => ?_)
    · replace hw := hw.1 h
      refine th_aload_n hx hb dX8_eats_30 rfl (lv_at hL.1 1 rfl) ?_
      refine lv_iload_n hx hb dX8_eats_31 rfl (lv_at hL.1 2 rfl) ?_
      refine lv_iconst hx hb dX8_eats_32 (v := 4) rfl ?_
      refine lv_isub hx hb dX8_eats_33 ?_
      obtain ⟨ho, hw⟩ := hw
      refine th_ki hS (th_rV CF hK hSt hR hS ho (ci := 8) rfl (rest := [.int (a_mi G (a_mr G a0 0) (x2_1 + 2).toNatClampNeg), .int (x2_1 + 2), rv (a_mr G a0 0)]) (tk_X8_eatInBin) (cw_X8_207 CF hK (by decide +kernel)) hw rfl hL.1.1 rfl (th_ci (th_ci (th_cr th_cn))) (Nat.le_of_ble_eq_true rfl) dX8_eats_34 ⟨by show _ ≤ (0 : Nat); omega, by show _ ≤ (0 : Nat); omega⟩) (fun r3 G2 H locs hw hR hS => ?_)
      exact tk_X8_eats_b37 E hR hS (hL.sub [1, 2, 0] rfl) hw ⟨by omega, by omega⟩
    · replace hw := hw.2 h
      refine th_aload_n hx hb dX8_eats_22 rfl (lv_at hL.1 1 rfl) ?_
      refine lv_iload_n hx hb dX8_eats_23 rfl (lv_at hL.1 2 rfl) ?_
      obtain ⟨ho, hw⟩ := hw
      refine th_ki hS (th_rV CF hK hSt hR hS ho (ci := 8) rfl (rest := [.int (a_mi G (a_mr G a0 0) (x2_1 + 2).toNatClampNeg), .int (x2_1 + 2), rv (a_mr G a0 0)]) (tk_X8_eatInBay) (cw_X8_204 CF hK (by decide +kernel)) hw rfl hL.1.1 rfl (th_ci (th_ci (th_cr th_cn))) (Nat.le_of_ble_eq_true rfl) dX8_eats_24 ⟨by show _ ≤ (0 : Nat); omega, by show _ ≤ (0 : Nat); omega⟩) (fun r13 G12 H locs hw hR hS => ?_)
      refine lv_goto hx hb dX8_eats_27 (tgt := 37) (by decide) ?_
      exact tk_X8_eats_b37 E hR hS (hL.sub [1, 2, 0] rfl) hw ⟨by omega, by omega⟩)
def tw_X8_dropsDue_b49 (Q : aH → Prop) (G : aH) (a0 : Nat) (x2 : Int32) : Prop :=
  th_o G a0 8 ∧ (
  th_ai G (a_mr G a0 0) 0 (x2 + 4) ∧ (
  th_ai G (a_mr G a0 0) 0 (x2 + 4) ∧ (
  ∀ G2 : aH, G2 = a_si G (a_mr G a0 0) (x2 + 4).toNatClampNeg ((a_mi G (a_mr G a0 0) (x2 + 4).toNatClampNeg) - 1) → 
  Q G2)))
def tw_X8_dropsDue_b9 (Q : aH → Prop) : Nat → aH → Nat → Int32 → Int32 → Prop := fun n => Nat.rec (motive := fun _ => aH → Nat → Int32 → Int32 → Prop) (fun _ _ _ _ => False) (fun _ ih G a0 x2 x3 =>
  th_o G a0 8 ∧ (
  th_ai G (a_mr G a0 0) 0 (x2 + 4) ∧ (
  (3 + (2 * (a_mi G (a_mr G a0 0) (x2 + 4).toNatClampNeg)) ≤ x3 →
    tw_X8_dropsDue_b49 Q G a0 x2) ∧
  (¬ 3 + (2 * (a_mi G (a_mr G a0 0) (x2 + 4).toNatClampNeg)) ≤ x3 →
    th_o G a0 8 ∧ (
    th_o G a0 8 ∧ (
    th_ai G (a_mr G a0 0) 0 ((x2 + x3) + 2) ∧ (
    th_ai G (a_mr G a0 0) 0 (x2 + x3) ∧ (
    ∀ G3 : aH, G3 = a_si G (a_mr G a0 0) (x2 + x3).toNatClampNeg (a_mi G (a_mr G a0 0) ((x2 + x3) + 2).toNatClampNeg) → 
    ∀ x3_4 : Int32, x3_4 = x3 + 1 → 
    ih G3 a0 x2 x3_4)))))))) n
theorem tws_X8_dropsDue_b9 (Q : aH → Prop) (n : Nat) (G : aH) (a0 : Nat) (x2 : Int32) (x3 : Int32) : tw_X8_dropsDue_b9 Q (n + 1) G a0 x2 x3 = (
  th_o G a0 8 ∧ (
  th_ai G (a_mr G a0 0) 0 (x2 + 4) ∧ (
  (3 + (2 * (a_mi G (a_mr G a0 0) (x2 + 4).toNatClampNeg)) ≤ x3 →
    tw_X8_dropsDue_b49 Q G a0 x2) ∧
  (¬ 3 + (2 * (a_mi G (a_mr G a0 0) (x2 + 4).toNatClampNeg)) ≤ x3 →
    th_o G a0 8 ∧ (
    th_o G a0 8 ∧ (
    th_ai G (a_mr G a0 0) 0 ((x2 + x3) + 2) ∧ (
    th_ai G (a_mr G a0 0) 0 (x2 + x3) ∧ (
    ∀ G3 : aH, G3 = a_si G (a_mr G a0 0) (x2 + x3).toNatClampNeg (a_mi G (a_mr G a0 0) ((x2 + x3) + 2).toNatClampNeg) → 
    ∀ x3_4 : Int32, x3_4 = x3 + 1 → 
    tw_X8_dropsDue_b9 Q n G3 a0 x2 x3_4)))))))) := rfl
def tw_X8_dropsDue (Q : aH → Prop) (G : aH) (a0 : Nat) (x1 : Int32) : Prop :=
  ∀ x2_1 : Int32, x2_1 = 1 + (23 * x1) → 
  ∃ n9 : Nat, tw_X8_dropsDue_b9 Q n9 G a0 x2_1 5
theorem tk_X8_dropsDue_b49 {p : Program} {l : Launch} {e : Env} {s : State} {m : MethodId} {args : Array Value} {below : List Frame} {meth : Method} {c : Code} {D : tD} {B : Nat} (E : th_E p m c cX8_dropsDue 4 s args RX8 meth ((Option.none : Option Jvm.ClassFile.FieldType)) "dropsDue" D B) {Q : aH → Prop} {G : aH} {H : Heap} {locs : List Loc} {cells slots : Nat} {ls : Array Slot} {a0 : Nat} {x2 : Int32} (hR : th_H D B G H) (hS : va_S (th_A B) s.heap H locs) (hL : th_L ls 4 [(0, rv a0), (2, .int x2)]) (hw : tw_X8_dropsDue_b49 Q G a0 x2) (hc : cells + (0) ≤ 0 ∧ slots + (0) ≤ 0) : W p l e rm_X8_dropsDue s m args below meth c H locs cells slots (MQ below (th_Qv D B Q) args s 0 0 (th_A B)) (F0 m 49 ls []) := by
  have CF := E.1; have hx := CF.1; have hb := CF.2.1; have hret := E.2.1; have hlk := E.2.2.1; have hnm := E.2.2.2.1; have hK := E.2.2.2.2.1; have hSt := E.2.2.2.2.2
  unfold tw_X8_dropsDue_b49 at hw
  refine th_aload_n hx hb dX8_dropsDue_49 rfl (lv_at hL.1 0 rfl) ?_
  obtain ⟨ho, hw⟩ := hw
  refine fg_X8_9 CF hK hR ho dX8_dropsDue_50 ?_
  refine lv_iload_n hx hb dX8_dropsDue_53 rfl (lv_at hL.1 1 rfl) ?_
  refine lv_iconst hx hb dX8_dropsDue_54 (v := 4) rfl ?_
  refine lv_iadd hx hb dX8_dropsDue_55 ?_
  refine lv_dup2_11 hx hb dX8_dropsDue_56 rfl (rv_cat _) ?_
  obtain ⟨ha, hw⟩ := hw
  refine th_iald hx hb hK hR ha dX8_dropsDue_57 ?_
  refine lv_iconst hx hb dX8_dropsDue_58 (v := 1) rfl ?_
  refine lv_isub hx hb dX8_dropsDue_59 ?_
  obtain ⟨ha, hw⟩ := hw
  refine th_iast hx hb hK hR hS ha dX8_dropsDue_60 (fun G2 H locs hG hR hS => ?_)
  replace hw := hw G2 hG
  exact th_vret hx hb hret hlk hR hS hw (by omega) (by omega) dX8_dropsDue_61
theorem tk_X8_dropsDue_b9 {p : Program} {l : Launch} {e : Env} {s : State} {m : MethodId} {args : Array Value} {below : List Frame} {meth : Method} {c : Code} {D : tD} {B : Nat} (E : th_E p m c cX8_dropsDue 4 s args RX8 meth ((Option.none : Option Jvm.ClassFile.FieldType)) "dropsDue" D B) {Q : aH → Prop} : ∀ (n : Nat) {G : aH} {H : Heap} {locs : List Loc} {cells slots : Nat} {ls : Array Slot} {a0 : Nat} {x2 : Int32} {x3 : Int32} (hR : th_H D B G H) (hS : va_S (th_A B) s.heap H locs) (hL : th_L ls 4 [(0, rv a0), (2, .int x2), (3, .int x3)]) (hw : tw_X8_dropsDue_b9 Q n G a0 x2 x3) (hc : cells + (0) ≤ 0 ∧ slots + (0) ≤ 0), W p l e rm_X8_dropsDue s m args below meth c H locs cells slots (MQ below (th_Qv D B Q) args s 0 0 (th_A B)) (F0 m 9 ls []) := by
  have CF := E.1; have hx := CF.1; have hb := CF.2.1; have hret := E.2.1; have hlk := E.2.2.1; have hnm := E.2.2.2.1; have hK := E.2.2.2.2.1; have hSt := E.2.2.2.2.2
  intro n
  induction n with
  | zero => intro _ _ _ _ _ _ _ _ _ _ _ _ hw; exact hw.elim
  | succ n ih =>
    intro G H locs cells slots ls a0 x2 x3 hR hS hL hw hc
    rw [tws_X8_dropsDue_b9] at hw
    refine lv_iload_n hx hb dX8_dropsDue_9 rfl (lv_at hL.1 2 rfl) ?_
    refine lv_iconst hx hb dX8_dropsDue_10 (v := 3) rfl ?_
    refine lv_iconst hx hb dX8_dropsDue_11 (v := 2) rfl ?_
    refine th_aload_n hx hb dX8_dropsDue_12 rfl (lv_at hL.1 0 rfl) ?_
    obtain ⟨ho, hw⟩ := hw
    refine fg_X8_9 CF hK hR ho dX8_dropsDue_13 ?_
    refine lv_iload_n hx hb dX8_dropsDue_16 rfl (lv_at hL.1 1 rfl) ?_
    refine lv_iconst hx hb dX8_dropsDue_17 (v := 4) rfl ?_
    refine lv_iadd hx hb dX8_dropsDue_18 ?_
    obtain ⟨ha, hw⟩ := hw
    refine th_iald hx hb hK hR ha dX8_dropsDue_19 ?_
    refine lv_imul hx hb dX8_dropsDue_20 ?_
    refine lv_iadd hx hb dX8_dropsDue_21 ?_
    refine lv_icmp_ge hx hb dX8_dropsDue_22 (tgt := 49) (by decide) (fun h => ?_) (fun h => ?_)
    · replace hw := hw.1 h
      exact tk_X8_dropsDue_b49 E hR hS (hL.sub [0, 1] rfl) hw ⟨by omega, by omega⟩
    · replace hw := hw.2 h
      refine th_aload_n hx hb dX8_dropsDue_25 rfl (lv_at hL.1 0 rfl) ?_
      obtain ⟨ho, hw⟩ := hw
      refine fg_X8_9 CF hK hR ho dX8_dropsDue_26 ?_
      refine lv_iload_n hx hb dX8_dropsDue_29 rfl (lv_at hL.1 1 rfl) ?_
      refine lv_iload_n hx hb dX8_dropsDue_30 rfl (lv_at hL.1 2 rfl) ?_
      refine lv_iadd hx hb dX8_dropsDue_31 ?_
      refine th_aload_n hx hb dX8_dropsDue_32 rfl (lv_at hL.1 0 rfl) ?_
      obtain ⟨ho, hw⟩ := hw
      refine fg_X8_9 CF hK hR ho dX8_dropsDue_33 ?_
      refine lv_iload_n hx hb dX8_dropsDue_36 rfl (lv_at hL.1 1 rfl) ?_
      refine lv_iload_n hx hb dX8_dropsDue_37 rfl (lv_at hL.1 2 rfl) ?_
      refine lv_iadd hx hb dX8_dropsDue_38 ?_
      refine lv_iconst hx hb dX8_dropsDue_39 (v := 2) rfl ?_
      refine lv_iadd hx hb dX8_dropsDue_40 ?_
      obtain ⟨ha, hw⟩ := hw
      refine th_iald hx hb hK hR ha dX8_dropsDue_41 ?_
      obtain ⟨ha, hw⟩ := hw
      refine th_iast hx hb hK hR hS ha dX8_dropsDue_42 (fun G3 H locs hG hR hS => ?_)
      replace hw := hw G3 hG
      obtain ⟨x3_4, hx3_4⟩ : ∃ y : Int32, y = x3 + 1 := ⟨_, rfl⟩
      replace hw := hw x3_4 hx3_4
      refine th_iinc hx hb dX8_dropsDue_43 hL (k := 2) rfl (v := x3_4) hx3_4.symm (by decide) rfl (fun ls hL => ?_)
      refine lv_goto hx hb dX8_dropsDue_46 (tgt := 9) (by decide) ?_
      exact ih hR hS (hL.sub [1, 2, 0] rfl) hw ⟨by omega, by omega⟩
theorem tk_X8_dropsDue {l : Launch} {D : tD} {B : Nat} {Q : aH → Prop} {a0 : Nat} {x1 : Int32} : Met l yX8_dropsDue (ws_ yX8_dropsDue cX8_dropsDue 4 ((Option.none : Option Jvm.ClassFile.FieldType))) rm_X8_dropsDue (th_P D B [rv a0, .int x1] (fun G => tw_X8_dropsDue Q G a0 x1)) (th_Qv D B Q) 0 0 (th_A B) :=
  th_ofW (by decide +kernel) (th_cr (th_ci th_cn)) (Nat.le_of_ble_eq_true rfl) (fun p e s m args below meth c CF hret hlk hnm hK hSt G ls hR hS hw hL => by
    have E : th_E p m c cX8_dropsDue 4 s args RX8 meth ((Option.none : Option Jvm.ClassFile.FieldType)) "dropsDue" D B := ⟨CF, hret, hlk, hnm, hK, hSt⟩
    have hx := CF.1; have hb := CF.2.1
    have hL : th_L ls 4 [(0, rv a0), (1, .int x1)] := hL
    unfold tw_X8_dropsDue at hw
    refine lv_iconst hx hb dX8_dropsDue_0 (v := 1) rfl ?_
    refine lv_bipush hx hb dX8_dropsDue_1 (v := 23) rfl ?_
    refine lv_iload_n hx hb dX8_dropsDue_3 rfl (lv_at hL.1 1 rfl) ?_
    refine lv_imul hx hb dX8_dropsDue_4 ?_
    refine lv_iadd hx hb dX8_dropsDue_5 ?_
    obtain ⟨x2_1, hx2_1⟩ : ∃ y : Int32, y = 1 + (23 * x1) := ⟨_, rfl⟩
    replace hw := hw x2_1 hx2_1
    refine th_nmi hx2_1 ?_
    refine th_istore_n hx hb dX8_dropsDue_6 rfl hL (by decide) rfl (fun ls hL => ?_)
    refine lv_iconst hx hb dX8_dropsDue_7 (v := 5) rfl ?_
    refine th_istore_n hx hb dX8_dropsDue_8 rfl hL (by decide) rfl (fun ls hL => ?_)
    obtain ⟨n9, hw⟩ := hw
    exact tk_X8_dropsDue_b9 E n9 hR hS (hL.sub [2, 1, 0] rfl) hw ⟨by omega, by omega⟩)
def tw_X8_falls_b7 (Q : aH → Prop) : Nat → aH → Nat → Int32 → Int32 → Prop := fun n => Nat.rec (motive := fun _ => aH → Nat → Int32 → Int32 → Prop) (fun _ _ _ _ => False) (fun _ ih G a0 x1 x2 =>
  th_o G a0 8 ∧ (
  th_ai G (a_mr G a0 0) 0 (x2 + 4) ∧ (
  (a_mi G (a_mr G a0 0) (x2 + 4).toNatClampNeg ≤ 0 →
    Q G) ∧
  (¬ a_mi G (a_mr G a0 0) (x2 + 4).toNatClampNeg ≤ 0 →
    th_o G a0 8 ∧ (
    th_ai G (a_mr G a0 0) 0 (x2 + 5) ∧ (
    th_o G a0 8 ∧ (
    th_ai G (a_mr G a0 0) 0 428 ∧ (
    ((a_mi G (a_mr G a0 0) (428 : Int32).toNatClampNeg) - 7 < a_mi G (a_mr G a0 0) (x2 + 5).toNatClampNeg →
      Q G) ∧
    (¬ (a_mi G (a_mr G a0 0) (428 : Int32).toNatClampNeg) - 7 < a_mi G (a_mr G a0 0) (x2 + 5).toNatClampNeg →
      th_o G a0 8 ∧ (
      th_ai G (a_mr G a0 0) 0 (x2 + 2) ∧ (
      th_o G a0 8 ∧ (
      th_ai G (a_mr G a0 0) 0 (x2 + 6) ∧ (
      th_ai G (a_mr G a0 0) 0 (x2 + 2) ∧ (
      ∀ G2 : aH, G2 = a_si G (a_mr G a0 0) (x2 + 2).toNatClampNeg ((a_mi G (a_mr G a0 0) (x2 + 2).toNatClampNeg) + (a_mi G (a_mr G a0 0) (x2 + 6).toNatClampNeg)) → 
      th_o G2 a0 8 ∧ (
      (tw_X8_dropsDue
        (fun (G3 : aH) =>
          ih G3 a0 x1 x2)
        G2 a0 x1)))))))))))))))) n
theorem tws_X8_falls_b7 (Q : aH → Prop) (n : Nat) (G : aH) (a0 : Nat) (x1 : Int32) (x2 : Int32) : tw_X8_falls_b7 Q (n + 1) G a0 x1 x2 = (
  th_o G a0 8 ∧ (
  th_ai G (a_mr G a0 0) 0 (x2 + 4) ∧ (
  (a_mi G (a_mr G a0 0) (x2 + 4).toNatClampNeg ≤ 0 →
    Q G) ∧
  (¬ a_mi G (a_mr G a0 0) (x2 + 4).toNatClampNeg ≤ 0 →
    th_o G a0 8 ∧ (
    th_ai G (a_mr G a0 0) 0 (x2 + 5) ∧ (
    th_o G a0 8 ∧ (
    th_ai G (a_mr G a0 0) 0 428 ∧ (
    ((a_mi G (a_mr G a0 0) (428 : Int32).toNatClampNeg) - 7 < a_mi G (a_mr G a0 0) (x2 + 5).toNatClampNeg →
      Q G) ∧
    (¬ (a_mi G (a_mr G a0 0) (428 : Int32).toNatClampNeg) - 7 < a_mi G (a_mr G a0 0) (x2 + 5).toNatClampNeg →
      th_o G a0 8 ∧ (
      th_ai G (a_mr G a0 0) 0 (x2 + 2) ∧ (
      th_o G a0 8 ∧ (
      th_ai G (a_mr G a0 0) 0 (x2 + 6) ∧ (
      th_ai G (a_mr G a0 0) 0 (x2 + 2) ∧ (
      ∀ G2 : aH, G2 = a_si G (a_mr G a0 0) (x2 + 2).toNatClampNeg ((a_mi G (a_mr G a0 0) (x2 + 2).toNatClampNeg) + (a_mi G (a_mr G a0 0) (x2 + 6).toNatClampNeg)) → 
      th_o G2 a0 8 ∧ (
      (tw_X8_dropsDue
        (fun (G3 : aH) =>
          tw_X8_falls_b7 Q n G3 a0 x1 x2)
        G2 a0 x1)))))))))))))))) := rfl
def tw_X8_falls (Q : aH → Prop) (G : aH) (a0 : Nat) (x1 : Int32) : Prop :=
  ∀ x2_1 : Int32, x2_1 = 1 + (23 * x1) → 
  ∃ n9 : Nat, tw_X8_falls_b7 Q n9 G a0 x1 x2_1
theorem tk_X8_falls_b7 {p : Program} {l : Launch} {e : Env} {s : State} {m : MethodId} {args : Array Value} {below : List Frame} {meth : Method} {c : Code} {D : tD} {B : Nat} (E : th_E p m c cX8_falls 3 s args RX8 meth ((Option.none : Option Jvm.ClassFile.FieldType)) "falls" D B) {Q : aH → Prop} : ∀ (n : Nat) {G : aH} {H : Heap} {locs : List Loc} {cells slots : Nat} {ls : Array Slot} {a0 : Nat} {x1 : Int32} {x2 : Int32} (hR : th_H D B G H) (hS : va_S (th_A B) s.heap H locs) (hL : th_L ls 3 [(0, rv a0), (1, .int x1), (2, .int x2)]) (hw : tw_X8_falls_b7 Q n G a0 x1 x2) (hc : cells + (0) ≤ 0 ∧ slots + (0) ≤ 0), W p l e rm_X8_falls s m args below meth c H locs cells slots (MQ below (th_Qv D B Q) args s 0 0 (th_A B)) (F0 m 7 ls []) := by
  have CF := E.1; have hx := CF.1; have hb := CF.2.1; have hret := E.2.1; have hlk := E.2.2.1; have hnm := E.2.2.2.1; have hK := E.2.2.2.2.1; have hSt := E.2.2.2.2.2
  intro n
  induction n with
  | zero => intro _ _ _ _ _ _ _ _ _ _ _ _ hw; exact hw.elim
  | succ n ih =>
    intro G H locs cells slots ls a0 x1 x2 hR hS hL hw hc
    rw [tws_X8_falls_b7] at hw
    refine th_aload_n hx hb dX8_falls_7 rfl (lv_at hL.1 0 rfl) ?_
    obtain ⟨ho, hw⟩ := hw
    refine fg_X8_9 CF hK hR ho dX8_falls_8 ?_
    refine lv_iload_n hx hb dX8_falls_11 rfl (lv_at hL.1 2 rfl) ?_
    refine lv_iconst hx hb dX8_falls_12 (v := 4) rfl ?_
    refine lv_iadd hx hb dX8_falls_13 ?_
    obtain ⟨ha, hw⟩ := hw
    refine th_iald hx hb hK hR ha dX8_falls_14 ?_
    refine lv_if_le hx hb dX8_falls_15 (tgt := 68) (by decide) (fun h => ?_) (fun h => ?_)
    · replace hw := hw.1 h
      exact th_vret hx hb hret hlk hR hS hw (by omega) (by omega) dX8_falls_68
    · replace hw := hw.2 h
      refine th_aload_n hx hb dX8_falls_18 rfl (lv_at hL.1 0 rfl) ?_
      obtain ⟨ho, hw⟩ := hw
      refine fg_X8_9 CF hK hR ho dX8_falls_19 ?_
      refine lv_iload_n hx hb dX8_falls_22 rfl (lv_at hL.1 2 rfl) ?_
      refine lv_iconst hx hb dX8_falls_23 (v := 5) rfl ?_
      refine lv_iadd hx hb dX8_falls_24 ?_
      obtain ⟨ha, hw⟩ := hw
      refine th_iald hx hb hK hR ha dX8_falls_25 ?_
      refine th_aload_n hx hb dX8_falls_26 rfl (lv_at hL.1 0 rfl) ?_
      obtain ⟨ho, hw⟩ := hw
      refine fg_X8_9 CF hK hR ho dX8_falls_27 ?_
      refine lv_sipush hx hb dX8_falls_30 (v := 428) rfl ?_
      obtain ⟨ha, hw⟩ := hw
      refine th_iald hx hb hK hR ha dX8_falls_33 ?_
      refine lv_bipush hx hb dX8_falls_34 (v := 7) rfl ?_
      refine lv_isub hx hb dX8_falls_36 ?_
      refine lv_icmp_gt hx hb dX8_falls_37 (tgt := 68) (by decide) (fun h => ?_) (fun h => ?_)
      · replace hw := hw.1 h
        exact th_vret hx hb hret hlk hR hS hw (by omega) (by omega) dX8_falls_68
      · replace hw := hw.2 h
        refine th_aload_n hx hb dX8_falls_40 rfl (lv_at hL.1 0 rfl) ?_
        obtain ⟨ho, hw⟩ := hw
        refine fg_X8_9 CF hK hR ho dX8_falls_41 ?_
        refine lv_iload_n hx hb dX8_falls_44 rfl (lv_at hL.1 2 rfl) ?_
        refine lv_iconst hx hb dX8_falls_45 (v := 2) rfl ?_
        refine lv_iadd hx hb dX8_falls_46 ?_
        refine lv_dup2_11 hx hb dX8_falls_47 rfl (rv_cat _) ?_
        obtain ⟨ha, hw⟩ := hw
        refine th_iald hx hb hK hR ha dX8_falls_48 ?_
        refine th_aload_n hx hb dX8_falls_49 rfl (lv_at hL.1 0 rfl) ?_
        obtain ⟨ho, hw⟩ := hw
        refine fg_X8_9 CF hK hR ho dX8_falls_50 ?_
        refine lv_iload_n hx hb dX8_falls_53 rfl (lv_at hL.1 2 rfl) ?_
        refine lv_bipush hx hb dX8_falls_54 (v := 6) rfl ?_
        refine lv_iadd hx hb dX8_falls_56 ?_
        obtain ⟨ha, hw⟩ := hw
        refine th_iald hx hb hK hR ha dX8_falls_57 ?_
        refine lv_iadd hx hb dX8_falls_58 ?_
        obtain ⟨ha, hw⟩ := hw
        refine th_iast hx hb hK hR hS ha dX8_falls_59 (fun G2 H locs hG hR hS => ?_)
        replace hw := hw G2 hG
        refine th_aload_n hx hb dX8_falls_60 rfl (lv_at hL.1 0 rfl) ?_
        refine lv_iload_n hx hb dX8_falls_61 rfl (lv_at hL.1 1 rfl) ?_
        obtain ⟨ho, hw⟩ := hw
        refine th_kv hS (th_rV CF hK hSt hR hS ho (ci := 8) rfl (rest := []) (tk_X8_dropsDue) (cw_X8_131 CF hK (by decide +kernel)) hw rfl hL.1.1 rfl th_cn (Nat.le_of_ble_eq_true rfl) dX8_falls_62 ⟨by show _ ≤ (0 : Nat); omega, by show _ ≤ (0 : Nat); omega⟩) (fun G3 H locs hw hR hS => ?_)
        refine lv_goto hx hb dX8_falls_65 (tgt := 7) (by decide) ?_
        exact ih hR hS (hL.sub [0, 1, 2] rfl) hw ⟨by omega, by omega⟩
theorem tk_X8_falls {l : Launch} {D : tD} {B : Nat} {Q : aH → Prop} {a0 : Nat} {x1 : Int32} : Met l yX8_falls (ws_ yX8_falls cX8_falls 3 ((Option.none : Option Jvm.ClassFile.FieldType))) rm_X8_falls (th_P D B [rv a0, .int x1] (fun G => tw_X8_falls Q G a0 x1)) (th_Qv D B Q) 0 0 (th_A B) :=
  th_ofW (by decide +kernel) (th_cr (th_ci th_cn)) (Nat.le_of_ble_eq_true rfl) (fun p e s m args below meth c CF hret hlk hnm hK hSt G ls hR hS hw hL => by
    have E : th_E p m c cX8_falls 3 s args RX8 meth ((Option.none : Option Jvm.ClassFile.FieldType)) "falls" D B := ⟨CF, hret, hlk, hnm, hK, hSt⟩
    have hx := CF.1; have hb := CF.2.1
    have hL : th_L ls 3 [(0, rv a0), (1, .int x1)] := hL
    unfold tw_X8_falls at hw
    refine lv_iconst hx hb dX8_falls_0 (v := 1) rfl ?_
    refine lv_bipush hx hb dX8_falls_1 (v := 23) rfl ?_
    refine lv_iload_n hx hb dX8_falls_3 rfl (lv_at hL.1 1 rfl) ?_
    refine lv_imul hx hb dX8_falls_4 ?_
    refine lv_iadd hx hb dX8_falls_5 ?_
    obtain ⟨x2_1, hx2_1⟩ : ∃ y : Int32, y = 1 + (23 * x1) := ⟨_, rfl⟩
    replace hw := hw x2_1 hx2_1
    refine th_nmi hx2_1 ?_
    refine th_istore_n hx hb dX8_falls_6 rfl hL (by decide) rfl (fun ls hL => ?_)
    obtain ⟨n9, hw⟩ := hw
    exact tk_X8_falls_b7 E n9 hR hS (hL.sub [1, 2, 0] rfl) hw ⟨by omega, by omega⟩)
def tw_X8_day_b65 (Q : Int32 → aH → Prop) (G : aH) (a0 : Nat) (x1 : Int32) : Prop :=
  th_o G a0 8 ∧ (
  th_ai G (a_mr G a0 0) 0 428 ∧ (
  th_ai G (a_mr G a0 0) 0 428 ∧ (
  ∀ G1 : aH, G1 = a_si G (a_mr G a0 0) (428 : Int32).toNatClampNeg ((a_mi G (a_mr G a0 0) (428 : Int32).toNatClampNeg) + 1) → 
  Q x1 G1)))
def tw_X8_day_b44 (Q : Int32 → aH → Prop) : Nat → aH → Nat → Int32 → Int32 → Prop := fun n => Nat.rec (motive := fun _ => aH → Nat → Int32 → Int32 → Prop) (fun _ _ _ _ => False) (fun _ ih G a0 x1 x2 =>
  th_o G a0 8 ∧ (
  th_ai G (a_mr G a0 0) 0 0 ∧ (
  (a_mi G (a_mr G a0 0) (0 : Int32).toNatClampNeg ≤ x2 →
    tw_X8_day_b65 Q G a0 x1) ∧
  (¬ a_mi G (a_mr G a0 0) (0 : Int32).toNatClampNeg ≤ x2 →
    th_o G a0 8 ∧ (
    (tw_X8_falls
      (fun (G2 : aH) =>
        ∀ x2_3 : Int32, x2_3 = x2 + 1 → 
        ih G2 a0 x1 x2_3)
      G a0 x2)))))) n
theorem tws_X8_day_b44 (Q : Int32 → aH → Prop) (n : Nat) (G : aH) (a0 : Nat) (x1 : Int32) (x2 : Int32) : tw_X8_day_b44 Q (n + 1) G a0 x1 x2 = (
  th_o G a0 8 ∧ (
  th_ai G (a_mr G a0 0) 0 0 ∧ (
  (a_mi G (a_mr G a0 0) (0 : Int32).toNatClampNeg ≤ x2 →
    tw_X8_day_b65 Q G a0 x1) ∧
  (¬ a_mi G (a_mr G a0 0) (0 : Int32).toNatClampNeg ≤ x2 →
    th_o G a0 8 ∧ (
    (tw_X8_falls
      (fun (G2 : aH) =>
        ∀ x2_3 : Int32, x2_3 = x2 + 1 → 
        tw_X8_day_b44 Q n G2 a0 x1 x2_3)
      G a0 x2)))))) := rfl
def tw_X8_day_b42 (Q : Int32 → aH → Prop) (G : aH) (a0 : Nat) (x1 : Int32) : Prop :=
  ∃ n9 : Nat, tw_X8_day_b44 Q n9 G a0 x1 0
def tw_X8_day_b25 (Q : Int32 → aH → Prop) : Nat → aH → Nat → Int32 → Int32 → Prop := fun n => Nat.rec (motive := fun _ => aH → Nat → Int32 → Int32 → Prop) (fun _ _ _ _ => False) (fun _ ih G a0 x1 x2 =>
  (7 ≤ x2 →
    tw_X8_day_b42 Q G a0 x1) ∧
  (¬ 7 ≤ x2 →
    th_o G a0 8 ∧ (
    (tw_X8_eats
      (fun (G4 : aH) =>
        ∀ x2_5 : Int32, x2_5 = x2 + 1 → 
        ih G4 a0 x1 x2_5)
      G a0 x2)))) n
theorem tws_X8_day_b25 (Q : Int32 → aH → Prop) (n : Nat) (G : aH) (a0 : Nat) (x1 : Int32) (x2 : Int32) : tw_X8_day_b25 Q (n + 1) G a0 x1 x2 = (
  (7 ≤ x2 →
    tw_X8_day_b42 Q G a0 x1) ∧
  (¬ 7 ≤ x2 →
    th_o G a0 8 ∧ (
    (tw_X8_eats
      (fun (G4 : aH) =>
        ∀ x2_5 : Int32, x2_5 = x2 + 1 → 
        tw_X8_day_b25 Q n G4 a0 x1 x2_5)
      G a0 x2)))) := rfl
def tw_X8_day_b23 (Q : Int32 → aH → Prop) (G : aH) (a0 : Nat) (x1 : Int32) : Prop :=
  ∃ n9 : Nat, tw_X8_day_b25 Q n9 G a0 x1 0
def tw_X8_day_b4 (Q : Int32 → aH → Prop) : Nat → aH → Nat → Int32 → Int32 → Prop := fun n => Nat.rec (motive := fun _ => aH → Nat → Int32 → Int32 → Prop) (fun _ _ _ _ => False) (fun _ ih G a0 x1 x2 =>
  (2 ≤ x2 →
    tw_X8_day_b23 Q G a0 x1) ∧
  (¬ 2 ≤ x2 →
    th_o G a0 8 ∧ (
    (tw_X8_threshedOn
      (fun (r7 : Int32) (G6 : aH) =>
        ∀ x1_8 : Int32, x1_8 = x1 + r7 → 
        ∀ x2_9 : Int32, x2_9 = x2 + 1 → 
        ih G6 a0 x1_8 x2_9)
      G a0 x2)))) n
theorem tws_X8_day_b4 (Q : Int32 → aH → Prop) (n : Nat) (G : aH) (a0 : Nat) (x1 : Int32) (x2 : Int32) : tw_X8_day_b4 Q (n + 1) G a0 x1 x2 = (
  (2 ≤ x2 →
    tw_X8_day_b23 Q G a0 x1) ∧
  (¬ 2 ≤ x2 →
    th_o G a0 8 ∧ (
    (tw_X8_threshedOn
      (fun (r7 : Int32) (G6 : aH) =>
        ∀ x1_8 : Int32, x1_8 = x1 + r7 → 
        ∀ x2_9 : Int32, x2_9 = x2 + 1 → 
        tw_X8_day_b4 Q n G6 a0 x1_8 x2_9)
      G a0 x2)))) := rfl
def tw_X8_day (Q : Int32 → aH → Prop) (G : aH) (a0 : Nat) : Prop :=
  ∃ n9 : Nat, tw_X8_day_b4 Q n9 G a0 0 0
theorem tk_X8_day_b65 {p : Program} {l : Launch} {e : Env} {s : State} {m : MethodId} {args : Array Value} {below : List Frame} {meth : Method} {c : Code} {D : tD} {B : Nat} (E : th_E p m c cX8_day 3 s args RX8 meth ((Option.some Jvm.ClassFile.FieldType.int)) "day" D B) {Q : Int32 → aH → Prop} {G : aH} {H : Heap} {locs : List Loc} {cells slots : Nat} {ls : Array Slot} {a0 : Nat} {x1 : Int32} (hR : th_H D B G H) (hS : va_S (th_A B) s.heap H locs) (hL : th_L ls 3 [(0, rv a0), (1, .int x1)]) (hw : tw_X8_day_b65 Q G a0 x1) (hc : cells + (0) ≤ 0 ∧ slots + (0) ≤ 0) : W p l e rm_X8_day s m args below meth c H locs cells slots (MQ below (th_Qi D B Q) args s 0 0 (th_A B)) (F0 m 65 ls []) := by
  have CF := E.1; have hx := CF.1; have hb := CF.2.1; have hret := E.2.1; have hlk := E.2.2.1; have hnm := E.2.2.2.1; have hK := E.2.2.2.2.1; have hSt := E.2.2.2.2.2
  unfold tw_X8_day_b65 at hw
  refine th_aload_n hx hb dX8_day_65 rfl (lv_at hL.1 0 rfl) ?_
  obtain ⟨ho, hw⟩ := hw
  refine fg_X8_9 CF hK hR ho dX8_day_66 ?_
  refine lv_sipush hx hb dX8_day_69 (v := 428) rfl ?_
  refine lv_dup2_11 hx hb dX8_day_72 rfl (rv_cat _) ?_
  obtain ⟨ha, hw⟩ := hw
  refine th_iald hx hb hK hR ha dX8_day_73 ?_
  refine lv_iconst hx hb dX8_day_74 (v := 1) rfl ?_
  refine lv_iadd hx hb dX8_day_75 ?_
  obtain ⟨ha, hw⟩ := hw
  refine th_iast hx hb hK hR hS ha dX8_day_76 (fun G1 H locs hG hR hS => ?_)
  replace hw := hw G1 hG
  refine lv_iload_n hx hb dX8_day_77 rfl (lv_at hL.1 1 rfl) ?_
  exact th_iret hx hb hret hlk hR hS hw (by omega) (by omega) dX8_day_78
theorem tk_X8_day_b44 {p : Program} {l : Launch} {e : Env} {s : State} {m : MethodId} {args : Array Value} {below : List Frame} {meth : Method} {c : Code} {D : tD} {B : Nat} (E : th_E p m c cX8_day 3 s args RX8 meth ((Option.some Jvm.ClassFile.FieldType.int)) "day" D B) {Q : Int32 → aH → Prop} : ∀ (n : Nat) {G : aH} {H : Heap} {locs : List Loc} {cells slots : Nat} {ls : Array Slot} {a0 : Nat} {x1 : Int32} {x2 : Int32} (hR : th_H D B G H) (hS : va_S (th_A B) s.heap H locs) (hL : th_L ls 3 [(0, rv a0), (1, .int x1), (2, .int x2)]) (hw : tw_X8_day_b44 Q n G a0 x1 x2) (hc : cells + (0) ≤ 0 ∧ slots + (0) ≤ 0), W p l e rm_X8_day s m args below meth c H locs cells slots (MQ below (th_Qi D B Q) args s 0 0 (th_A B)) (F0 m 44 ls []) := by
  have CF := E.1; have hx := CF.1; have hb := CF.2.1; have hret := E.2.1; have hlk := E.2.2.1; have hnm := E.2.2.2.1; have hK := E.2.2.2.2.1; have hSt := E.2.2.2.2.2
  intro n
  induction n with
  | zero => intro _ _ _ _ _ _ _ _ _ _ _ _ hw; exact hw.elim
  | succ n ih =>
    intro G H locs cells slots ls a0 x1 x2 hR hS hL hw hc
    rw [tws_X8_day_b44] at hw
    refine lv_iload_n hx hb dX8_day_44 rfl (lv_at hL.1 2 rfl) ?_
    refine th_aload_n hx hb dX8_day_45 rfl (lv_at hL.1 0 rfl) ?_
    obtain ⟨ho, hw⟩ := hw
    refine fg_X8_9 CF hK hR ho dX8_day_46 ?_
    refine lv_iconst hx hb dX8_day_49 (v := 0) rfl ?_
    obtain ⟨ha, hw⟩ := hw
    refine th_iald hx hb hK hR ha dX8_day_50 ?_
    refine lv_icmp_ge hx hb dX8_day_51 (tgt := 65) (by decide) (fun h => ?_) (fun h => ?_)
    · replace hw := hw.1 h
      exact tk_X8_day_b65 E hR hS (hL.sub [0, 1] rfl) hw ⟨by omega, by omega⟩
    · replace hw := hw.2 h
      refine th_aload_n hx hb dX8_day_54 rfl (lv_at hL.1 0 rfl) ?_
      refine lv_iload_n hx hb dX8_day_55 rfl (lv_at hL.1 2 rfl) ?_
      obtain ⟨ho, hw⟩ := hw
      refine th_kv hS (th_rV CF hK hSt hR hS ho (ci := 8) rfl (rest := []) (tk_X8_falls) (cw_X8_216 CF hK (by decide +kernel)) hw rfl hL.1.1 rfl th_cn (Nat.le_of_ble_eq_true rfl) dX8_day_56 ⟨by show _ ≤ (0 : Nat); omega, by show _ ≤ (0 : Nat); omega⟩) (fun G2 H locs hw hR hS => ?_)
      obtain ⟨x2_3, hx2_3⟩ : ∃ y : Int32, y = x2 + 1 := ⟨_, rfl⟩
      replace hw := hw x2_3 hx2_3
      refine th_iinc hx hb dX8_day_59 hL (k := 2) rfl (v := x2_3) hx2_3.symm (by decide) rfl (fun ls hL => ?_)
      refine lv_goto hx hb dX8_day_62 (tgt := 44) (by decide) ?_
      exact ih hR hS (hL.sub [1, 2, 0] rfl) hw ⟨by omega, by omega⟩
theorem tk_X8_day_b42 {p : Program} {l : Launch} {e : Env} {s : State} {m : MethodId} {args : Array Value} {below : List Frame} {meth : Method} {c : Code} {D : tD} {B : Nat} (E : th_E p m c cX8_day 3 s args RX8 meth ((Option.some Jvm.ClassFile.FieldType.int)) "day" D B) {Q : Int32 → aH → Prop} {G : aH} {H : Heap} {locs : List Loc} {cells slots : Nat} {ls : Array Slot} {a0 : Nat} {x1 : Int32} (hR : th_H D B G H) (hS : va_S (th_A B) s.heap H locs) (hL : th_L ls 3 [(0, rv a0), (1, .int x1)]) (hw : tw_X8_day_b42 Q G a0 x1) (hc : cells + (0) ≤ 0 ∧ slots + (0) ≤ 0) : W p l e rm_X8_day s m args below meth c H locs cells slots (MQ below (th_Qi D B Q) args s 0 0 (th_A B)) (F0 m 42 ls []) := by
  have CF := E.1; have hx := CF.1; have hb := CF.2.1; have hret := E.2.1; have hlk := E.2.2.1; have hnm := E.2.2.2.1; have hK := E.2.2.2.2.1; have hSt := E.2.2.2.2.2
  unfold tw_X8_day_b42 at hw
  refine lv_iconst hx hb dX8_day_42 (v := 0) rfl ?_
  refine th_istore_n hx hb dX8_day_43 rfl hL (by decide) rfl (fun ls hL => ?_)
  obtain ⟨n9, hw⟩ := hw
  exact tk_X8_day_b44 E n9 hR hS (hL.sub [1, 2, 0] rfl) hw ⟨by omega, by omega⟩
theorem tk_X8_day_b25 {p : Program} {l : Launch} {e : Env} {s : State} {m : MethodId} {args : Array Value} {below : List Frame} {meth : Method} {c : Code} {D : tD} {B : Nat} (E : th_E p m c cX8_day 3 s args RX8 meth ((Option.some Jvm.ClassFile.FieldType.int)) "day" D B) {Q : Int32 → aH → Prop} : ∀ (n : Nat) {G : aH} {H : Heap} {locs : List Loc} {cells slots : Nat} {ls : Array Slot} {a0 : Nat} {x1 : Int32} {x2 : Int32} (hR : th_H D B G H) (hS : va_S (th_A B) s.heap H locs) (hL : th_L ls 3 [(0, rv a0), (1, .int x1), (2, .int x2)]) (hw : tw_X8_day_b25 Q n G a0 x1 x2) (hc : cells + (0) ≤ 0 ∧ slots + (0) ≤ 0), W p l e rm_X8_day s m args below meth c H locs cells slots (MQ below (th_Qi D B Q) args s 0 0 (th_A B)) (F0 m 25 ls []) := by
  have CF := E.1; have hx := CF.1; have hb := CF.2.1; have hret := E.2.1; have hlk := E.2.2.1; have hnm := E.2.2.2.1; have hK := E.2.2.2.2.1; have hSt := E.2.2.2.2.2
  intro n
  induction n with
  | zero => intro _ _ _ _ _ _ _ _ _ _ _ _ hw; exact hw.elim
  | succ n ih =>
    intro G H locs cells slots ls a0 x1 x2 hR hS hL hw hc
    rw [tws_X8_day_b25] at hw
    refine lv_iload_n hx hb dX8_day_25 rfl (lv_at hL.1 2 rfl) ?_
    refine lv_bipush hx hb dX8_day_26 (v := 7) rfl ?_
    refine lv_icmp_ge hx hb dX8_day_28 (tgt := 42) (by decide) (fun h => ?_) (fun h => ?_)
    · replace hw := hw.1 h
      exact tk_X8_day_b42 E hR hS (hL.sub [0, 1] rfl) hw ⟨by omega, by omega⟩
    · replace hw := hw.2 h
      refine th_aload_n hx hb dX8_day_31 rfl (lv_at hL.1 0 rfl) ?_
      refine lv_iload_n hx hb dX8_day_32 rfl (lv_at hL.1 2 rfl) ?_
      obtain ⟨ho, hw⟩ := hw
      refine th_kv hS (th_rV CF hK hSt hR hS ho (ci := 8) rfl (rest := []) (tk_X8_eats) (cw_X8_213 CF hK (by decide +kernel)) hw rfl hL.1.1 rfl th_cn (Nat.le_of_ble_eq_true rfl) dX8_day_33 ⟨by show _ ≤ (0 : Nat); omega, by show _ ≤ (0 : Nat); omega⟩) (fun G4 H locs hw hR hS => ?_)
      obtain ⟨x2_5, hx2_5⟩ : ∃ y : Int32, y = x2 + 1 := ⟨_, rfl⟩
      replace hw := hw x2_5 hx2_5
      refine th_iinc hx hb dX8_day_36 hL (k := 2) rfl (v := x2_5) hx2_5.symm (by decide) rfl (fun ls hL => ?_)
      refine lv_goto hx hb dX8_day_39 (tgt := 25) (by decide) ?_
      exact ih hR hS (hL.sub [1, 2, 0] rfl) hw ⟨by omega, by omega⟩
theorem tk_X8_day_b23 {p : Program} {l : Launch} {e : Env} {s : State} {m : MethodId} {args : Array Value} {below : List Frame} {meth : Method} {c : Code} {D : tD} {B : Nat} (E : th_E p m c cX8_day 3 s args RX8 meth ((Option.some Jvm.ClassFile.FieldType.int)) "day" D B) {Q : Int32 → aH → Prop} {G : aH} {H : Heap} {locs : List Loc} {cells slots : Nat} {ls : Array Slot} {a0 : Nat} {x1 : Int32} (hR : th_H D B G H) (hS : va_S (th_A B) s.heap H locs) (hL : th_L ls 3 [(0, rv a0), (1, .int x1)]) (hw : tw_X8_day_b23 Q G a0 x1) (hc : cells + (0) ≤ 0 ∧ slots + (0) ≤ 0) : W p l e rm_X8_day s m args below meth c H locs cells slots (MQ below (th_Qi D B Q) args s 0 0 (th_A B)) (F0 m 23 ls []) := by
  have CF := E.1; have hx := CF.1; have hb := CF.2.1; have hret := E.2.1; have hlk := E.2.2.1; have hnm := E.2.2.2.1; have hK := E.2.2.2.2.1; have hSt := E.2.2.2.2.2
  unfold tw_X8_day_b23 at hw
  refine lv_iconst hx hb dX8_day_23 (v := 0) rfl ?_
  refine th_istore_n hx hb dX8_day_24 rfl hL (by decide) rfl (fun ls hL => ?_)
  obtain ⟨n9, hw⟩ := hw
  exact tk_X8_day_b25 E n9 hR hS (hL.sub [1, 2, 0] rfl) hw ⟨by omega, by omega⟩
theorem tk_X8_day_b4 {p : Program} {l : Launch} {e : Env} {s : State} {m : MethodId} {args : Array Value} {below : List Frame} {meth : Method} {c : Code} {D : tD} {B : Nat} (E : th_E p m c cX8_day 3 s args RX8 meth ((Option.some Jvm.ClassFile.FieldType.int)) "day" D B) {Q : Int32 → aH → Prop} : ∀ (n : Nat) {G : aH} {H : Heap} {locs : List Loc} {cells slots : Nat} {ls : Array Slot} {a0 : Nat} {x1 : Int32} {x2 : Int32} (hR : th_H D B G H) (hS : va_S (th_A B) s.heap H locs) (hL : th_L ls 3 [(0, rv a0), (1, .int x1), (2, .int x2)]) (hw : tw_X8_day_b4 Q n G a0 x1 x2) (hc : cells + (0) ≤ 0 ∧ slots + (0) ≤ 0), W p l e rm_X8_day s m args below meth c H locs cells slots (MQ below (th_Qi D B Q) args s 0 0 (th_A B)) (F0 m 4 ls []) := by
  have CF := E.1; have hx := CF.1; have hb := CF.2.1; have hret := E.2.1; have hlk := E.2.2.1; have hnm := E.2.2.2.1; have hK := E.2.2.2.2.1; have hSt := E.2.2.2.2.2
  intro n
  induction n with
  | zero => intro _ _ _ _ _ _ _ _ _ _ _ _ hw; exact hw.elim
  | succ n ih =>
    intro G H locs cells slots ls a0 x1 x2 hR hS hL hw hc
    rw [tws_X8_day_b4] at hw
    refine lv_iload_n hx hb dX8_day_4 rfl (lv_at hL.1 2 rfl) ?_
    refine lv_iconst hx hb dX8_day_5 (v := 2) rfl ?_
    refine lv_icmp_ge hx hb dX8_day_6 (tgt := 23) (by decide) (fun h => ?_) (fun h => ?_)
    · replace hw := hw.1 h
      exact tk_X8_day_b23 E hR hS (hL.sub [0, 1] rfl) hw ⟨by omega, by omega⟩
    · replace hw := hw.2 h
      refine lv_iload_n hx hb dX8_day_9 rfl (lv_at hL.1 1 rfl) ?_
      refine th_aload_n hx hb dX8_day_10 rfl (lv_at hL.1 0 rfl) ?_
      refine lv_iload_n hx hb dX8_day_11 rfl (lv_at hL.1 2 rfl) ?_
      obtain ⟨ho, hw⟩ := hw
      refine th_ki hS (th_rV CF hK hSt hR hS ho (ci := 8) rfl (rest := [.int x1]) (tk_X8_threshedOn) (cw_X8_210 CF hK (by decide +kernel)) hw rfl hL.1.1 rfl (th_ci th_cn) (Nat.le_of_ble_eq_true rfl) dX8_day_12 ⟨by show _ ≤ (0 : Nat); omega, by show _ ≤ (0 : Nat); omega⟩) (fun r7 G6 H locs hw hR hS => ?_)
      refine lv_iadd hx hb dX8_day_15 ?_
      obtain ⟨x1_8, hx1_8⟩ : ∃ y : Int32, y = x1 + r7 := ⟨_, rfl⟩
      replace hw := hw x1_8 hx1_8
      refine th_nmi hx1_8 ?_
      refine th_istore_n hx hb dX8_day_16 rfl hL (by decide) rfl (fun ls hL => ?_)
      obtain ⟨x2_9, hx2_9⟩ : ∃ y : Int32, y = x2 + 1 := ⟨_, rfl⟩
      replace hw := hw x2_9 hx2_9
      refine th_iinc hx hb dX8_day_17 hL (k := 2) rfl (v := x2_9) hx2_9.symm (by decide) rfl (fun ls hL => ?_)
      refine lv_goto hx hb dX8_day_20 (tgt := 4) (by decide) ?_
      exact ih hR hS (hL.sub [2, 1, 0] rfl) hw ⟨by omega, by omega⟩
theorem tk_X8_day {l : Launch} {D : tD} {B : Nat} {Q : Int32 → aH → Prop} {a0 : Nat} : Met l yX8_day (ws_ yX8_day cX8_day 3 ((Option.some Jvm.ClassFile.FieldType.int))) rm_X8_day (th_P D B [rv a0] (fun G => tw_X8_day Q G a0)) (th_Qi D B Q) 0 0 (th_A B) :=
  th_ofW (by decide +kernel) (th_cr th_cn) (Nat.le_of_ble_eq_true rfl) (fun p e s m args below meth c CF hret hlk hnm hK hSt G ls hR hS hw hL => by
    have E : th_E p m c cX8_day 3 s args RX8 meth ((Option.some Jvm.ClassFile.FieldType.int)) "day" D B := ⟨CF, hret, hlk, hnm, hK, hSt⟩
    have hx := CF.1; have hb := CF.2.1
    have hL : th_L ls 3 [(0, rv a0)] := hL
    unfold tw_X8_day at hw
    refine lv_iconst hx hb dX8_day_0 (v := 0) rfl ?_
    refine th_istore_n hx hb dX8_day_1 rfl hL (by decide) rfl (fun ls hL => ?_)
    refine lv_iconst hx hb dX8_day_2 (v := 0) rfl ?_
    refine th_istore_n hx hb dX8_day_3 rfl hL (by decide) rfl (fun ls hL => ?_)
    obtain ⟨n9, hw⟩ := hw
    exact tk_X8_day_b4 E n9 hR hS (hL.sub [2, 1, 0] rfl) hw ⟨by omega, by omega⟩)
def tw_X8_eatenWith_b41 (Q : Int32 → aH → Prop) (G : aH) (a0 : Nat) : Prop :=
  th_o G a0 8 ∧ (
  th_ai G (a_mr G a0 0) 0 432 ∧ (
  th_o G a0 8 ∧ (
  th_ai G (a_mr G a0 2) 0 432 ∧ (
  ∀ x2_3 : Int32, x2_3 = (a_mi G (a_mr G a0 0) (432 : Int32).toNatClampNeg) - (a_mi G (a_mr G a0 2) (432 : Int32).toNatClampNeg) → 
  th_o G a0 8 ∧ (
  th_o G a0 8 ∧ (
  (tw_X8_copies
    (fun (G4 : aH) =>
      Q x2_3 G4)
    G (a_mr G a0 2) 0 (a_mr G a0 0) 0)))))))
def tw_X8_eatenWith_b24 (Q : Int32 → aH → Prop) : Nat → aH → Nat → Int32 → Prop := fun n => Nat.rec (motive := fun _ => aH → Nat → Int32 → Prop) (fun _ _ _ => False) (fun _ ih G a0 x2 =>
  (10 ≤ x2 →
    tw_X8_eatenWith_b41 Q G a0) ∧
  (¬ 10 ≤ x2 →
    th_o G a0 8 ∧ (
    (tw_X8_day
      (fun (r6 : Int32) (G5 : aH) =>
        ∀ x2_7 : Int32, x2_7 = x2 + 1 → 
        ih G5 a0 x2_7)
      G a0)))) n
theorem tws_X8_eatenWith_b24 (Q : Int32 → aH → Prop) (n : Nat) (G : aH) (a0 : Nat) (x2 : Int32) : tw_X8_eatenWith_b24 Q (n + 1) G a0 x2 = (
  (10 ≤ x2 →
    tw_X8_eatenWith_b41 Q G a0) ∧
  (¬ 10 ≤ x2 →
    th_o G a0 8 ∧ (
    (tw_X8_day
      (fun (r6 : Int32) (G5 : aH) =>
        ∀ x2_7 : Int32, x2_7 = x2 + 1 → 
        tw_X8_eatenWith_b24 Q n G5 a0 x2_7)
      G a0)))) := rfl
def tw_X8_eatenWith (Q : Int32 → aH → Prop) (G : aH) (a0 : Nat) (x1 : Int32) : Prop :=
  th_o G a0 8 ∧ (
  th_o G a0 8 ∧ (
  (tw_X8_copies
    (fun (G1 : aH) =>
      th_o G1 a0 8 ∧ (
      th_ai G1 (a_mr G1 a0 0) 0 427 ∧ (
      ∀ G2 : aH, G2 = a_si G1 (a_mr G1 a0 0) (427 : Int32).toNatClampNeg x1 → 
      ∃ n9 : Nat, tw_X8_eatenWith_b24 Q n9 G2 a0 0)))
    G (a_mr G a0 0) 0 (a_mr G a0 2) 0)))
theorem tk_X8_eatenWith_b41 {p : Program} {l : Launch} {e : Env} {s : State} {m : MethodId} {args : Array Value} {below : List Frame} {meth : Method} {c : Code} {D : tD} {B : Nat} (E : th_E p m c cX8_eatenWith 4 s args RX8 meth ((Option.some Jvm.ClassFile.FieldType.int)) "eatenWith" D B) {Q : Int32 → aH → Prop} {G : aH} {H : Heap} {locs : List Loc} {cells slots : Nat} {ls : Array Slot} {a0 : Nat} (hR : th_H D B G H) (hS : va_S (th_A B) s.heap H locs) (hL : th_L ls 4 [(0, rv a0)]) (hw : tw_X8_eatenWith_b41 Q G a0) (hc : cells + (0) ≤ 0 ∧ slots + (0) ≤ 0) : W p l e rm_X8_eatenWith s m args below meth c H locs cells slots (MQ below (th_Qi D B Q) args s 0 0 (th_A B)) (F0 m 41 ls []) := by
  have CF := E.1; have hx := CF.1; have hb := CF.2.1; have hret := E.2.1; have hlk := E.2.2.1; have hnm := E.2.2.2.1; have hK := E.2.2.2.2.1; have hSt := E.2.2.2.2.2
  unfold tw_X8_eatenWith_b41 at hw
  refine th_aload_n hx hb dX8_eatenWith_41 rfl (lv_at hL.1 0 rfl) ?_
  obtain ⟨ho, hw⟩ := hw
  refine fg_X8_9 CF hK hR ho dX8_eatenWith_42 ?_
  refine lv_sipush hx hb dX8_eatenWith_45 (v := 432) rfl ?_
  obtain ⟨ha, hw⟩ := hw
  refine th_iald hx hb hK hR ha dX8_eatenWith_48 ?_
  refine th_aload_n hx hb dX8_eatenWith_49 rfl (lv_at hL.1 0 rfl) ?_
  obtain ⟨ho, hw⟩ := hw
  refine fg_X8_16 CF hK hR ho dX8_eatenWith_50 ?_
  refine lv_sipush hx hb dX8_eatenWith_53 (v := 432) rfl ?_
  obtain ⟨ha, hw⟩ := hw
  refine th_iald hx hb hK hR ha dX8_eatenWith_56 ?_
  refine lv_isub hx hb dX8_eatenWith_57 ?_
  obtain ⟨x2_3, hx2_3⟩ : ∃ y : Int32, y = (a_mi G (a_mr G a0 0) (432 : Int32).toNatClampNeg) - (a_mi G (a_mr G a0 2) (432 : Int32).toNatClampNeg) := ⟨_, rfl⟩
  replace hw := hw x2_3 hx2_3
  refine th_nmi hx2_3 ?_
  refine th_istore_n hx hb dX8_eatenWith_58 rfl hL (by decide) rfl (fun ls hL => ?_)
  refine th_aload_n hx hb dX8_eatenWith_59 rfl (lv_at hL.1 1 rfl) ?_
  obtain ⟨ho, hw⟩ := hw
  refine fg_X8_16 CF hK hR ho dX8_eatenWith_60 ?_
  refine lv_iconst hx hb dX8_eatenWith_63 (v := 0) rfl ?_
  refine th_aload_n hx hb dX8_eatenWith_64 rfl (lv_at hL.1 1 rfl) ?_
  obtain ⟨ho, hw⟩ := hw
  refine fg_X8_9 CF hK hR ho dX8_eatenWith_65 ?_
  refine lv_iconst hx hb dX8_eatenWith_68 (v := 0) rfl ?_
  refine th_kv hS (th_rS CF hK hSt hR hS (rest := []) (tk_X8_copies) (cw_X8_73 CF hK (by decide +kernel)) hw rfl hL.1.1 rfl th_cn (Nat.le_of_ble_eq_true rfl) dX8_eatenWith_69 ⟨by show _ ≤ (0 : Nat); omega, by show _ ≤ (0 : Nat); omega⟩) (fun G4 H locs hw hR hS => ?_)
  refine lv_iload_n hx hb dX8_eatenWith_72 rfl (lv_at hL.1 0 rfl) ?_
  exact th_iret hx hb hret hlk hR hS hw (by omega) (by omega) dX8_eatenWith_73
theorem tk_X8_eatenWith_b24 {p : Program} {l : Launch} {e : Env} {s : State} {m : MethodId} {args : Array Value} {below : List Frame} {meth : Method} {c : Code} {D : tD} {B : Nat} (E : th_E p m c cX8_eatenWith 4 s args RX8 meth ((Option.some Jvm.ClassFile.FieldType.int)) "eatenWith" D B) {Q : Int32 → aH → Prop} : ∀ (n : Nat) {G : aH} {H : Heap} {locs : List Loc} {cells slots : Nat} {ls : Array Slot} {a0 : Nat} {x2 : Int32} (hR : th_H D B G H) (hS : va_S (th_A B) s.heap H locs) (hL : th_L ls 4 [(0, rv a0), (2, .int x2)]) (hw : tw_X8_eatenWith_b24 Q n G a0 x2) (hc : cells + (0) ≤ 0 ∧ slots + (0) ≤ 0), W p l e rm_X8_eatenWith s m args below meth c H locs cells slots (MQ below (th_Qi D B Q) args s 0 0 (th_A B)) (F0 m 24 ls []) := by
  have CF := E.1; have hx := CF.1; have hb := CF.2.1; have hret := E.2.1; have hlk := E.2.2.1; have hnm := E.2.2.2.1; have hK := E.2.2.2.2.1; have hSt := E.2.2.2.2.2
  intro n
  induction n with
  | zero => intro _ _ _ _ _ _ _ _ _ _ _ hw; exact hw.elim
  | succ n ih =>
    intro G H locs cells slots ls a0 x2 hR hS hL hw hc
    rw [tws_X8_eatenWith_b24] at hw
    refine lv_iload_n hx hb dX8_eatenWith_24 rfl (lv_at hL.1 1 rfl) ?_
    refine lv_bipush hx hb dX8_eatenWith_25 (v := 10) rfl ?_
    refine lv_icmp_ge hx hb dX8_eatenWith_27 (tgt := 41) (by decide) (fun h => ?_) (fun h => ?_)
    · replace hw := hw.1 h
      exact tk_X8_eatenWith_b41 E hR hS (hL.sub [0] rfl) hw ⟨by omega, by omega⟩
    · replace hw := hw.2 h
      refine th_aload_n hx hb dX8_eatenWith_30 rfl (lv_at hL.1 0 rfl) ?_
      obtain ⟨ho, hw⟩ := hw
      refine th_ki hS (th_rV CF hK hSt hR hS ho (ci := 8) rfl (rest := []) (tk_X8_day) (cw_X8_219 CF hK (by decide +kernel)) hw rfl hL.1.1 rfl th_cn (Nat.le_of_ble_eq_true rfl) dX8_eatenWith_31 ⟨by show _ ≤ (0 : Nat); omega, by show _ ≤ (0 : Nat); omega⟩) (fun r6 G5 H locs hw hR hS => ?_)
      refine th_istore_n hx hb dX8_eatenWith_34 rfl hL (by decide) rfl (fun ls hL => ?_)
      obtain ⟨x2_7, hx2_7⟩ : ∃ y : Int32, y = x2 + 1 := ⟨_, rfl⟩
      replace hw := hw x2_7 hx2_7
      refine th_iinc hx hb dX8_eatenWith_35 hL (k := 2) rfl (v := x2_7) hx2_7.symm (by decide) rfl (fun ls hL => ?_)
      refine lv_goto hx hb dX8_eatenWith_38 (tgt := 24) (by decide) ?_
      exact ih hR hS (hL.sub [2, 0] rfl) hw ⟨by omega, by omega⟩
theorem tk_X8_eatenWith {l : Launch} {D : tD} {B : Nat} {Q : Int32 → aH → Prop} {a0 : Nat} {x1 : Int32} : Met l yX8_eatenWith (ws_ yX8_eatenWith cX8_eatenWith 4 ((Option.some Jvm.ClassFile.FieldType.int))) rm_X8_eatenWith (th_P D B [rv a0, .int x1] (fun G => tw_X8_eatenWith Q G a0 x1)) (th_Qi D B Q) 0 0 (th_A B) :=
  th_ofW (by decide +kernel) (th_cr (th_ci th_cn)) (Nat.le_of_ble_eq_true rfl) (fun p e s m args below meth c CF hret hlk hnm hK hSt G ls hR hS hw hL => by
    have E : th_E p m c cX8_eatenWith 4 s args RX8 meth ((Option.some Jvm.ClassFile.FieldType.int)) "eatenWith" D B := ⟨CF, hret, hlk, hnm, hK, hSt⟩
    have hx := CF.1; have hb := CF.2.1
    have hL : th_L ls 4 [(0, rv a0), (1, .int x1)] := hL
    unfold tw_X8_eatenWith at hw
    refine th_aload_n hx hb dX8_eatenWith_0 rfl (lv_at hL.1 0 rfl) ?_
    obtain ⟨ho, hw⟩ := hw
    refine fg_X8_9 CF hK hR ho dX8_eatenWith_1 ?_
    refine lv_iconst hx hb dX8_eatenWith_4 (v := 0) rfl ?_
    refine th_aload_n hx hb dX8_eatenWith_5 rfl (lv_at hL.1 0 rfl) ?_
    obtain ⟨ho, hw⟩ := hw
    refine fg_X8_16 CF hK hR ho dX8_eatenWith_6 ?_
    refine lv_iconst hx hb dX8_eatenWith_9 (v := 0) rfl ?_
    refine th_kv hS (th_rS CF hK hSt hR hS (rest := []) (tk_X8_copies) (cw_X8_73 CF hK (by decide +kernel)) hw rfl hL.1.1 rfl th_cn (Nat.le_of_ble_eq_true rfl) dX8_eatenWith_10 ⟨by show _ ≤ (0 : Nat); omega, by show _ ≤ (0 : Nat); omega⟩) (fun G1 H locs hw hR hS => ?_)
    refine th_aload_n hx hb dX8_eatenWith_13 rfl (lv_at hL.1 0 rfl) ?_
    obtain ⟨ho, hw⟩ := hw
    refine fg_X8_9 CF hK hR ho dX8_eatenWith_14 ?_
    refine lv_sipush hx hb dX8_eatenWith_17 (v := 427) rfl ?_
    refine lv_iload_n hx hb dX8_eatenWith_20 rfl (lv_at hL.1 1 rfl) ?_
    obtain ⟨ha, hw⟩ := hw
    refine th_iast hx hb hK hR hS ha dX8_eatenWith_21 (fun G2 H locs hG hR hS => ?_)
    replace hw := hw G2 hG
    refine lv_iconst hx hb dX8_eatenWith_22 (v := 0) rfl ?_
    refine th_istore_n hx hb dX8_eatenWith_23 rfl hL (by decide) rfl (fun ls hL => ?_)
    obtain ⟨n9, hw⟩ := hw
    exact tk_X8_eatenWith_b24 E n9 hR hS (hL.sub [1, 0] rfl) hw ⟨by omega, by omega⟩)
