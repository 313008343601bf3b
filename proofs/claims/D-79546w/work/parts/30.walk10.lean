/-! WALKS: X8_inBay X8_allInBays X8_floor X8_onFloors X8_sheaf X8_kindOf X8_pints X8_pintsIn X8_store X8_sum X8_allAt X8_bushels X8_account X8_isIn X8_append X8_isBay X8_lotsOf X8_parishesIn X8_bayOf -/
set_option maxRecDepth 100000
def tw_X8_inBay (Q : Int32 → aH → Prop) (G : aH) (a0 : Nat) (x1 : Int32) : Prop :=
  th_o G a0 8 ∧ (
  th_ai G (a_mr G a0 0) 0 (139 + (61 * x1)) ∧ (
  Q (a_mi G (a_mr G a0 0) (139 + (61 * x1)).toNatClampNeg) G))
theorem tk_X8_inBay {l : Launch} {D : tD} {B : Nat} {Q : Int32 → aH → Prop} {a0 : Nat} {x1 : Int32} : Met l yX8_inBay (ws_ yX8_inBay cX8_inBay 2 ((Option.some Jvm.ClassFile.FieldType.int))) rm_X8_inBay (th_P D B [rv a0, .int x1] (fun G => tw_X8_inBay Q G a0 x1)) (th_Qi D B Q) 0 0 (th_A B) :=
  th_ofW (by decide +kernel) (th_cr (th_ci th_cn)) (Nat.le_of_ble_eq_true rfl) (fun p e s m args below meth c CF hret hlk hnm hK hSt G ls hR hS hw hL => by
    have E : th_E p m c cX8_inBay 2 s args RX8 meth ((Option.some Jvm.ClassFile.FieldType.int)) "inBay" D B := ⟨CF, hret, hlk, hnm, hK, hSt⟩
    have hx := CF.1; have hb := CF.2.1
    have hL : th_L ls 2 [(0, rv a0), (1, .int x1)] := hL
    unfold tw_X8_inBay at hw
    refine th_aload_n hx hb dX8_inBay_0 rfl (lv_at hL.1 0 rfl) ?_
    obtain ⟨ho, hw⟩ := hw
    refine fg_X8_9 CF hK hR ho dX8_inBay_1 ?_
    refine lv_sipush hx hb dX8_inBay_4 (v := 139) rfl ?_
    refine lv_bipush hx hb dX8_inBay_7 (v := 61) rfl ?_
    refine lv_iload_n hx hb dX8_inBay_9 rfl (lv_at hL.1 1 rfl) ?_
    refine lv_imul hx hb dX8_inBay_10 ?_
    refine lv_iadd hx hb dX8_inBay_11 ?_
    obtain ⟨ha, hw⟩ := hw
    refine th_iald hx hb hK hR ha dX8_inBay_12 ?_
    exact th_iret hx hb hret hlk hR hS hw (by omega) (by omega) dX8_inBay_13)
def tw_X8_allInBays_b4 (Q : Int32 → aH → Prop) : Nat → aH → Nat → Int32 → Int32 → Prop := fun n => Nat.rec (motive := fun _ => aH → Nat → Int32 → Int32 → Prop) (fun _ _ _ _ => False) (fun _ ih G a0 x1 x2 =>
  (4 ≤ x2 →
    Q x1 G) ∧
  (¬ 4 ≤ x2 →
    th_o G a0 8 ∧ (
    (tw_X8_inBay
      (fun (r2 : Int32) (G1 : aH) =>
        ∀ x1_3 : Int32, x1_3 = x1 + r2 → 
        ∀ x2_4 : Int32, x2_4 = x2 + 1 → 
        ih G1 a0 x1_3 x2_4)
      G a0 x2)))) n
theorem tws_X8_allInBays_b4 (Q : Int32 → aH → Prop) (n : Nat) (G : aH) (a0 : Nat) (x1 : Int32) (x2 : Int32) : tw_X8_allInBays_b4 Q (n + 1) G a0 x1 x2 = (
  (4 ≤ x2 →
    Q x1 G) ∧
  (¬ 4 ≤ x2 →
    th_o G a0 8 ∧ (
    (tw_X8_inBay
      (fun (r2 : Int32) (G1 : aH) =>
        ∀ x1_3 : Int32, x1_3 = x1 + r2 → 
        ∀ x2_4 : Int32, x2_4 = x2 + 1 → 
        tw_X8_allInBays_b4 Q n G1 a0 x1_3 x2_4)
      G a0 x2)))) := rfl
def tw_X8_allInBays (Q : Int32 → aH → Prop) (G : aH) (a0 : Nat) : Prop :=
  ∃ n9 : Nat, tw_X8_allInBays_b4 Q n9 G a0 0 0
theorem tk_X8_allInBays_b4 {p : Program} {l : Launch} {e : Env} {s : State} {m : MethodId} {args : Array Value} {below : List Frame} {meth : Method} {c : Code} {D : tD} {B : Nat} (E : th_E p m c cX8_allInBays 3 s args RX8 meth ((Option.some Jvm.ClassFile.FieldType.int)) "allInBays" D B) {Q : Int32 → aH → Prop} : ∀ (n : Nat) {G : aH} {H : Heap} {locs : List Loc} {cells slots : Nat} {ls : Array Slot} {a0 : Nat} {x1 : Int32} {x2 : Int32} (hR : th_H D B G H) (hS : va_S (th_A B) s.heap H locs) (hL : th_L ls 3 [(0, rv a0), (1, .int x1), (2, .int x2)]) (hw : tw_X8_allInBays_b4 Q n G a0 x1 x2) (hc : cells + (0) ≤ 0 ∧ slots + (0) ≤ 0), W p l e rm_X8_allInBays s m args below meth c H locs cells slots (MQ below (th_Qi D B Q) args s 0 0 (th_A B)) (F0 m 4 ls []) := by
  have CF := E.1; have hx := CF.1; have hb := CF.2.1; have hret := E.2.1; have hlk := E.2.2.1; have hnm := E.2.2.2.1; have hK := E.2.2.2.2.1; have hSt := E.2.2.2.2.2
  intro n
  induction n with
  | zero => intro _ _ _ _ _ _ _ _ _ _ _ _ hw; exact hw.elim
  | succ n ih =>
    intro G H locs cells slots ls a0 x1 x2 hR hS hL hw hc
    rw [tws_X8_allInBays_b4] at hw
    refine lv_iload_n hx hb dX8_allInBays_4 rfl (lv_at hL.1 2 rfl) ?_
    refine lv_iconst hx hb dX8_allInBays_5 (v := 4) rfl ?_
    refine lv_icmp_ge hx hb dX8_allInBays_6 (tgt := 23) (by decide) (fun h => ?_) (fun h => ?_)
    · replace hw := hw.1 h
      refine lv_iload_n hx hb dX8_allInBays_23 rfl (lv_at hL.1 1 rfl) ?_
      exact th_iret hx hb hret hlk hR hS hw (by omega) (by omega) dX8_allInBays_24
    · replace hw := hw.2 h
      refine lv_iload_n hx hb dX8_allInBays_9 rfl (lv_at hL.1 1 rfl) ?_
      refine th_aload_n hx hb dX8_allInBays_10 rfl (lv_at hL.1 0 rfl) ?_
      refine lv_iload_n hx hb dX8_allInBays_11 rfl (lv_at hL.1 2 rfl) ?_
      obtain ⟨ho, hw⟩ := hw
      refine th_ki hS (th_rV CF hK hSt hR hS ho (ci := 8) rfl (rest := [.int x1]) (tk_X8_inBay) (cw_X8_128 CF hK (by decide +kernel)) hw rfl hL.1.1 rfl (th_ci th_cn) (Nat.le_of_ble_eq_true rfl) dX8_allInBays_12 ⟨by show _ ≤ (0 : Nat); omega, by show _ ≤ (0 : Nat); omega⟩) (fun r2 G1 H locs hw hR hS => ?_)
      refine lv_iadd hx hb dX8_allInBays_15 ?_
      obtain ⟨x1_3, hx1_3⟩ : ∃ y : Int32, y = x1 + r2 := ⟨_, rfl⟩
      replace hw := hw x1_3 hx1_3
      refine th_nmi hx1_3 ?_
      refine th_istore_n hx hb dX8_allInBays_16 rfl hL (by decide) rfl (fun ls hL => ?_)
      obtain ⟨x2_4, hx2_4⟩ : ∃ y : Int32, y = x2 + 1 := ⟨_, rfl⟩
      replace hw := hw x2_4 hx2_4
      refine th_iinc hx hb dX8_allInBays_17 hL (k := 2) rfl (v := x2_4) hx2_4.symm (by decide) rfl (fun ls hL => ?_)
      refine lv_goto hx hb dX8_allInBays_20 (tgt := 4) (by decide) ?_
      exact ih hR hS (hL.sub [2, 1, 0] rfl) hw ⟨by omega, by omega⟩
theorem tk_X8_allInBays {l : Launch} {D : tD} {B : Nat} {Q : Int32 → aH → Prop} {a0 : Nat} : Met l yX8_allInBays (ws_ yX8_allInBays cX8_allInBays 3 ((Option.some Jvm.ClassFile.FieldType.int))) rm_X8_allInBays (th_P D B [rv a0] (fun G => tw_X8_allInBays Q G a0)) (th_Qi D B Q) 0 0 (th_A B) :=
  th_ofW (by decide +kernel) (th_cr th_cn) (Nat.le_of_ble_eq_true rfl) (fun p e s m args below meth c CF hret hlk hnm hK hSt G ls hR hS hw hL => by
    have E : th_E p m c cX8_allInBays 3 s args RX8 meth ((Option.some Jvm.ClassFile.FieldType.int)) "allInBays" D B := ⟨CF, hret, hlk, hnm, hK, hSt⟩
    have hx := CF.1; have hb := CF.2.1
    have hL : th_L ls 3 [(0, rv a0)] := hL
    unfold tw_X8_allInBays at hw
    refine lv_iconst hx hb dX8_allInBays_0 (v := 0) rfl ?_
    refine th_istore_n hx hb dX8_allInBays_1 rfl hL (by decide) rfl (fun ls hL => ?_)
    refine lv_iconst hx hb dX8_allInBays_2 (v := 0) rfl ?_
    refine th_istore_n hx hb dX8_allInBays_3 rfl hL (by decide) rfl (fun ls hL => ?_)
    obtain ⟨n9, hw⟩ := hw
    exact tk_X8_allInBays_b4 E n9 hR hS (hL.sub [2, 1, 0] rfl) hw ⟨by omega, by omega⟩)
def tw_X8_floor (Q : Int32 → aH → Prop) (G : aH) (a0 : Nat) (x1 : Int32) (x2 : Int32) : Prop :=
  th_o G a0 8 ∧ (
  th_ai G (a_mr G a0 0) 0 ((383 + (4 * x1)) + x2) ∧ (
  Q (a_mi G (a_mr G a0 0) ((383 + (4 * x1)) + x2).toNatClampNeg) G))
theorem tk_X8_floor {l : Launch} {D : tD} {B : Nat} {Q : Int32 → aH → Prop} {a0 : Nat} {x1 : Int32} {x2 : Int32} : Met l yX8_floor (ws_ yX8_floor cX8_floor 3 ((Option.some Jvm.ClassFile.FieldType.int))) rm_X8_floor (th_P D B [rv a0, .int x1, .int x2] (fun G => tw_X8_floor Q G a0 x1 x2)) (th_Qi D B Q) 0 0 (th_A B) :=
  th_ofW (by decide +kernel) (th_cr (th_ci (th_ci th_cn))) (Nat.le_of_ble_eq_true rfl) (fun p e s m args below meth c CF hret hlk hnm hK hSt G ls hR hS hw hL => by
    have E : th_E p m c cX8_floor 3 s args RX8 meth ((Option.some Jvm.ClassFile.FieldType.int)) "floor" D B := ⟨CF, hret, hlk, hnm, hK, hSt⟩
    have hx := CF.1; have hb := CF.2.1
    have hL : th_L ls 3 [(0, rv a0), (1, .int x1), (2, .int x2)] := hL
    unfold tw_X8_floor at hw
    refine th_aload_n hx hb dX8_floor_0 rfl (lv_at hL.1 0 rfl) ?_
    obtain ⟨ho, hw⟩ := hw
    refine fg_X8_9 CF hK hR ho dX8_floor_1 ?_
    refine lv_sipush hx hb dX8_floor_4 (v := 383) rfl ?_
    refine lv_iconst hx hb dX8_floor_7 (v := 4) rfl ?_
    refine lv_iload_n hx hb dX8_floor_8 rfl (lv_at hL.1 1 rfl) ?_
    refine lv_imul hx hb dX8_floor_9 ?_
    refine lv_iadd hx hb dX8_floor_10 ?_
    refine lv_iload_n hx hb dX8_floor_11 rfl (lv_at hL.1 2 rfl) ?_
    refine lv_iadd hx hb dX8_floor_12 ?_
    obtain ⟨ha, hw⟩ := hw
    refine th_iald hx hb hK hR ha dX8_floor_13 ?_
    exact th_iret hx hb hret hlk hR hS hw (by omega) (by omega) dX8_floor_14)
def tw_X8_onFloors (Q : Int32 → aH → Prop) (G : aH) (a0 : Nat) : Prop :=
  th_o G a0 8 ∧ (
  (tw_X8_floor
    (fun (r2 : Int32) (G1 : aH) =>
      th_o G1 a0 8 ∧ (
      (tw_X8_floor
        (fun (r4 : Int32) (G3 : aH) =>
          Q (r2 + r4) G3)
        G1 a0 1 0)))
    G a0 0 0))
theorem tk_X8_onFloors {l : Launch} {D : tD} {B : Nat} {Q : Int32 → aH → Prop} {a0 : Nat} : Met l yX8_onFloors (ws_ yX8_onFloors cX8_onFloors 1 ((Option.some Jvm.ClassFile.FieldType.int))) rm_X8_onFloors (th_P D B [rv a0] (fun G => tw_X8_onFloors Q G a0)) (th_Qi D B Q) 0 0 (th_A B) :=
  th_ofW (by decide +kernel) (th_cr th_cn) (Nat.le_of_ble_eq_true rfl) (fun p e s m args below meth c CF hret hlk hnm hK hSt G ls hR hS hw hL => by
    have E : th_E p m c cX8_onFloors 1 s args RX8 meth ((Option.some Jvm.ClassFile.FieldType.int)) "onFloors" D B := ⟨CF, hret, hlk, hnm, hK, hSt⟩
    have hx := CF.1; have hb := CF.2.1
    have hL : th_L ls 1 [(0, rv a0)] := hL
    unfold tw_X8_onFloors at hw
    refine th_aload_n hx hb dX8_onFloors_0 rfl (lv_at hL.1 0 rfl) ?_
    refine lv_iconst hx hb dX8_onFloors_1 (v := 0) rfl ?_
    refine lv_iconst hx hb dX8_onFloors_2 (v := 0) rfl ?_
    obtain ⟨ho, hw⟩ := hw
    refine th_ki hS (th_rV CF hK hSt hR hS ho (ci := 8) rfl (rest := []) (tk_X8_floor) (cw_X8_165 CF hK (by decide +kernel)) hw rfl hL.1.1 rfl th_cn (Nat.le_of_ble_eq_true rfl) dX8_onFloors_3 ⟨by show _ ≤ (0 : Nat); omega, by show _ ≤ (0 : Nat); omega⟩) (fun r2 G1 H locs hw hR hS => ?_)
    refine th_aload_n hx hb dX8_onFloors_6 rfl (lv_at hL.1 0 rfl) ?_
    refine lv_iconst hx hb dX8_onFloors_7 (v := 1) rfl ?_
    refine lv_iconst hx hb dX8_onFloors_8 (v := 0) rfl ?_
    obtain ⟨ho, hw⟩ := hw
    refine th_ki hS (th_rV CF hK hSt hR hS ho (ci := 8) rfl (rest := [.int r2]) (tk_X8_floor) (cw_X8_165 CF hK (by decide +kernel)) hw rfl hL.1.1 rfl (th_ci th_cn) (Nat.le_of_ble_eq_true rfl) dX8_onFloors_9 ⟨by show _ ≤ (0 : Nat); omega, by show _ ≤ (0 : Nat); omega⟩) (fun r4 G3 H locs hw hR hS => ?_)
    refine lv_iadd hx hb dX8_onFloors_12 ?_
    exact th_iret hx hb hret hlk hR hS hw (by omega) (by omega) dX8_onFloors_13)
def tw_X8_sheaf (Q : Int32 → aH → Prop) (G : aH) (a0 : Nat) (x1 : Int32) (x2 : Int32) : Prop :=
  th_o G a0 8 ∧ (
  th_ai G (a_mr G a0 0) 0 (((139 + (61 * x1)) + 1) + x2) ∧ (
  Q (a_mi G (a_mr G a0 0) (((139 + (61 * x1)) + 1) + x2).toNatClampNeg) G))
theorem tk_X8_sheaf {l : Launch} {D : tD} {B : Nat} {Q : Int32 → aH → Prop} {a0 : Nat} {x1 : Int32} {x2 : Int32} : Met l yX8_sheaf (ws_ yX8_sheaf cX8_sheaf 3 ((Option.some Jvm.ClassFile.FieldType.int))) rm_X8_sheaf (th_P D B [rv a0, .int x1, .int x2] (fun G => tw_X8_sheaf Q G a0 x1 x2)) (th_Qi D B Q) 0 0 (th_A B) :=
  th_ofW (by decide +kernel) (th_cr (th_ci (th_ci th_cn))) (Nat.le_of_ble_eq_true rfl) (fun p e s m args below meth c CF hret hlk hnm hK hSt G ls hR hS hw hL => by
    have E : th_E p m c cX8_sheaf 3 s args RX8 meth ((Option.some Jvm.ClassFile.FieldType.int)) "sheaf" D B := ⟨CF, hret, hlk, hnm, hK, hSt⟩
    have hx := CF.1; have hb := CF.2.1
    have hL : th_L ls 3 [(0, rv a0), (1, .int x1), (2, .int x2)] := hL
    unfold tw_X8_sheaf at hw
    refine th_aload_n hx hb dX8_sheaf_0 rfl (lv_at hL.1 0 rfl) ?_
    obtain ⟨ho, hw⟩ := hw
    refine fg_X8_9 CF hK hR ho dX8_sheaf_1 ?_
    refine lv_sipush hx hb dX8_sheaf_4 (v := 139) rfl ?_
    refine lv_bipush hx hb dX8_sheaf_7 (v := 61) rfl ?_
    refine lv_iload_n hx hb dX8_sheaf_9 rfl (lv_at hL.1 1 rfl) ?_
    refine lv_imul hx hb dX8_sheaf_10 ?_
    refine lv_iadd hx hb dX8_sheaf_11 ?_
    refine lv_iconst hx hb dX8_sheaf_12 (v := 1) rfl ?_
    refine lv_iadd hx hb dX8_sheaf_13 ?_
    refine lv_iload_n hx hb dX8_sheaf_14 rfl (lv_at hL.1 2 rfl) ?_
    refine lv_iadd hx hb dX8_sheaf_15 ?_
    obtain ⟨ha, hw⟩ := hw
    refine th_iald hx hb hK hR ha dX8_sheaf_16 ?_
    exact th_iret hx hb hret hlk hR hS hw (by omega) (by omega) dX8_sheaf_17)
def tw_X8_kindOf (Q : Int32 → aH → Prop) (G : aH) (a0 : Nat) (x1 : Int32) (x2 : Int32) : Prop :=
  th_o G a0 8 ∧ (
  (tw_X8_sheaf
    (fun (r2 : Int32) (G1 : aH) =>
      th_o G1 a0 8 ∧ (
      (tw_X8_of
        (fun (r4 : Int32) (G3 : aH) =>
          Q r4 G3)
        G1 a0 r2 0)))
    G a0 x1 x2))
theorem tk_X8_kindOf {l : Launch} {D : tD} {B : Nat} {Q : Int32 → aH → Prop} {a0 : Nat} {x1 : Int32} {x2 : Int32} : Met l yX8_kindOf (ws_ yX8_kindOf cX8_kindOf 3 ((Option.some Jvm.ClassFile.FieldType.int))) rm_X8_kindOf (th_P D B [rv a0, .int x1, .int x2] (fun G => tw_X8_kindOf Q G a0 x1 x2)) (th_Qi D B Q) 0 0 (th_A B) :=
  th_ofW (by decide +kernel) (th_cr (th_ci (th_ci th_cn))) (Nat.le_of_ble_eq_true rfl) (fun p e s m args below meth c CF hret hlk hnm hK hSt G ls hR hS hw hL => by
    have E : th_E p m c cX8_kindOf 3 s args RX8 meth ((Option.some Jvm.ClassFile.FieldType.int)) "kindOf" D B := ⟨CF, hret, hlk, hnm, hK, hSt⟩
    have hx := CF.1; have hb := CF.2.1
    have hL : th_L ls 3 [(0, rv a0), (1, .int x1), (2, .int x2)] := hL
    unfold tw_X8_kindOf at hw
    refine th_aload_n hx hb dX8_kindOf_0 rfl (lv_at hL.1 0 rfl) ?_
    refine th_aload_n hx hb dX8_kindOf_1 rfl (lv_at hL.1 0 rfl) ?_
    refine lv_iload_n hx hb dX8_kindOf_2 rfl (lv_at hL.1 1 rfl) ?_
    refine lv_iload_n hx hb dX8_kindOf_3 rfl (lv_at hL.1 2 rfl) ?_
    obtain ⟨ho, hw⟩ := hw
    refine th_ki hS (th_rV CF hK hSt hR hS ho (ci := 8) rfl (rest := [rv a0]) (tk_X8_sheaf) (cw_X8_119 CF hK (by decide +kernel)) hw rfl hL.1.1 rfl (th_cr th_cn) (Nat.le_of_ble_eq_true rfl) dX8_kindOf_4 ⟨by show _ ≤ (0 : Nat); omega, by show _ ≤ (0 : Nat); omega⟩) (fun r2 G1 H locs hw hR hS => ?_)
    refine lv_iconst hx hb dX8_kindOf_7 (v := 0) rfl ?_
    obtain ⟨ho, hw⟩ := hw
    refine th_ki hS (th_rV CF hK hSt hR hS ho (ci := 8) rfl (rest := []) (tk_X8_of) (cw_X8_89 CF hK (by decide +kernel)) hw rfl hL.1.1 rfl th_cn (Nat.le_of_ble_eq_true rfl) dX8_kindOf_8 ⟨by show _ ≤ (0 : Nat); omega, by show _ ≤ (0 : Nat); omega⟩) (fun r4 G3 H locs hw hR hS => ?_)
    exact th_iret hx hb hret hlk hR hS hw (by omega) (by omega) dX8_kindOf_11)
def tw_X8_pints (Q : Int32 → aH → Prop) (G : aH) (x0 : Int32) : Prop :=
  (¬ x0 = 0 →
    (¬ x0 = 1 →
      Q 7 G) ∧
    (x0 = 1 →
      Q 5 G)) ∧
  (x0 = 0 →
    Q 6 G)
theorem tk_X8_pints {l : Launch} {D : tD} {B : Nat} {Q : Int32 → aH → Prop} {x0 : Int32} : Met l yX8_pints (ws_ yX8_pints cX8_pints 1 ((Option.some Jvm.ClassFile.FieldType.int))) rm_X8_pints (th_P D B [.int x0] (fun G => tw_X8_pints Q G x0)) (th_Qi D B Q) 0 0 (th_A B) :=
  th_ofW (by decide +kernel) (th_ci th_cn) (Nat.le_of_ble_eq_true rfl) (fun p e s m args below meth c CF hret hlk hnm hK hSt G ls hR hS hw hL => by
    have E : th_E p m c cX8_pints 1 s args RX8 meth ((Option.some Jvm.ClassFile.FieldType.int)) "pints" D B := ⟨CF, hret, hlk, hnm, hK, hSt⟩
    have hx := CF.1; have hb := CF.2.1
    have hL : th_L ls 1 [(0, .int x0)] := hL
    unfold tw_X8_pints at hw
    refine lv_iload_n hx hb dX8_pints_0 rfl (lv_at hL.1 0 rfl) ?_
    refine lv_if_ne hx hb dX8_pints_1 (tgt := 9) (by decide) (fun h => ?_) (fun h => ?_)
    · replace hw := hw.1 h
      refine lv_iload_n hx hb dX8_pints_9 rfl (lv_at hL.1 0 rfl) ?_
      refine lv_iconst hx hb dX8_pints_10 (v := 1) rfl ?_
      refine lv_icmp_ne hx hb dX8_pints_11 (tgt := 18) (by decide) (fun h => ?_) (fun h => ?_)
      · replace hw := hw.1 h
        refine lv_bipush hx hb dX8_pints_18 (v := 7) rfl ?_
        exact th_iret hx hb hret hlk hR hS hw (by omega) (by omega) dX8_pints_20
      · replace hw := hw.2 h
        refine lv_iconst hx hb dX8_pints_14 (v := 5) rfl ?_
        refine lv_goto hx hb dX8_pints_15 (tgt := 20) (by decide) ?_
        exact th_iret hx hb hret hlk hR hS hw (by omega) (by omega) dX8_pints_20
    · replace hw := hw.2 h
      refine lv_bipush hx hb dX8_pints_4 (v := 6) rfl ?_
      refine lv_goto hx hb dX8_pints_6 (tgt := 20) (by decide) ?_
      exact th_iret hx hb hret hlk hR hS hw (by omega) (by omega) dX8_pints_20)
def tw_X8_pintsIn_b4 (Q : Int32 → aH → Prop) : Nat → aH → Nat → Int32 → Int32 → Int32 → Prop := fun n => Nat.rec (motive := fun _ => aH → Nat → Int32 → Int32 → Int32 → Prop) (fun _ _ _ _ _ => False) (fun _ ih G a0 x1 x2 x3 =>
  th_o G a0 8 ∧ (
  (tw_X8_inBay
    (fun (r2 : Int32) (G1 : aH) =>
      (r2 ≤ x3 →
        Q x2 G1) ∧
      (¬ r2 ≤ x3 →
        th_o G1 a0 8 ∧ (
        (tw_X8_kindOf
          (fun (r4 : Int32) (G3 : aH) =>
            (tw_X8_pints
              (fun (r6 : Int32) (G5 : aH) =>
                ∀ x2_7 : Int32, x2_7 = x2 + r6 → 
                ∀ x3_8 : Int32, x3_8 = x3 + 1 → 
                ih G5 a0 x1 x2_7 x3_8)
              G3 r4))
          G1 a0 x1 x3))))
    G a0 x1))) n
theorem tws_X8_pintsIn_b4 (Q : Int32 → aH → Prop) (n : Nat) (G : aH) (a0 : Nat) (x1 : Int32) (x2 : Int32) (x3 : Int32) : tw_X8_pintsIn_b4 Q (n + 1) G a0 x1 x2 x3 = (
  th_o G a0 8 ∧ (
  (tw_X8_inBay
    (fun (r2 : Int32) (G1 : aH) =>
      (r2 ≤ x3 →
        Q x2 G1) ∧
      (¬ r2 ≤ x3 →
        th_o G1 a0 8 ∧ (
        (tw_X8_kindOf
          (fun (r4 : Int32) (G3 : aH) =>
            (tw_X8_pints
              (fun (r6 : Int32) (G5 : aH) =>
                ∀ x2_7 : Int32, x2_7 = x2 + r6 → 
                ∀ x3_8 : Int32, x3_8 = x3 + 1 → 
                tw_X8_pintsIn_b4 Q n G5 a0 x1 x2_7 x3_8)
              G3 r4))
          G1 a0 x1 x3))))
    G a0 x1))) := rfl
def tw_X8_pintsIn (Q : Int32 → aH → Prop) (G : aH) (a0 : Nat) (x1 : Int32) : Prop :=
  ∃ n9 : Nat, tw_X8_pintsIn_b4 Q n9 G a0 x1 0 0
theorem tk_X8_pintsIn_b4 {p : Program} {l : Launch} {e : Env} {s : State} {m : MethodId} {args : Array Value} {below : List Frame} {meth : Method} {c : Code} {D : tD} {B : Nat} (E : th_E p m c cX8_pintsIn 4 s args RX8 meth ((Option.some Jvm.ClassFile.FieldType.int)) "pintsIn" D B) {Q : Int32 → aH → Prop} : ∀ (n : Nat) {G : aH} {H : Heap} {locs : List Loc} {cells slots : Nat} {ls : Array Slot} {a0 : Nat} {x1 : Int32} {x2 : Int32} {x3 : Int32} (hR : th_H D B G H) (hS : va_S (th_A B) s.heap H locs) (hL : th_L ls 4 [(0, rv a0), (1, .int x1), (2, .int x2), (3, .int x3)]) (hw : tw_X8_pintsIn_b4 Q n G a0 x1 x2 x3) (hc : cells + (0) ≤ 0 ∧ slots + (0) ≤ 0), W p l e rm_X8_pintsIn s m args below meth c H locs cells slots (MQ below (th_Qi D B Q) args s 0 0 (th_A B)) (F0 m 4 ls []) := by
  have CF := E.1; have hx := CF.1; have hb := CF.2.1; have hret := E.2.1; have hlk := E.2.2.1; have hnm := E.2.2.2.1; have hK := E.2.2.2.2.1; have hSt := E.2.2.2.2.2
  intro n
  induction n with
  | zero => intro _ _ _ _ _ _ _ _ _ _ _ _ _ hw; exact hw.elim
  | succ n ih =>
    intro G H locs cells slots ls a0 x1 x2 x3 hR hS hL hw hc
    rw [tws_X8_pintsIn_b4] at hw
    refine lv_iload_n hx hb dX8_pintsIn_4 rfl (lv_at hL.1 3 rfl) ?_
    refine th_aload_n hx hb dX8_pintsIn_5 rfl (lv_at hL.1 0 rfl) ?_
    refine lv_iload_n hx hb dX8_pintsIn_6 rfl (lv_at hL.1 1 rfl) ?_
    obtain ⟨ho, hw⟩ := hw
    refine th_ki hS (th_rV CF hK hSt hR hS ho (ci := 8) rfl (rest := [.int x3]) (tk_X8_inBay) (cw_X8_128 CF hK (by decide +kernel)) hw rfl hL.1.1 rfl (th_ci th_cn) (Nat.le_of_ble_eq_true rfl) dX8_pintsIn_7 ⟨by show _ ≤ (0 : Nat); omega, by show _ ≤ (0 : Nat); omega⟩) (fun r2 G1 H locs hw hR hS => ?_)
    refine lv_icmp_ge hx hb dX8_pintsIn_10 (tgt := 31) (by decide) (fun h => ?_) (fun h => ?_)
    · replace hw := hw.1 h
      refine lv_iload_n hx hb dX8_pintsIn_31 rfl (lv_at hL.1 2 rfl) ?_
      exact th_iret hx hb hret hlk hR hS hw (by omega) (by omega) dX8_pintsIn_32
    · replace hw := hw.2 h
      refine lv_iload_n hx hb dX8_pintsIn_13 rfl (lv_at hL.1 2 rfl) ?_
      refine th_aload_n hx hb dX8_pintsIn_14 rfl (lv_at hL.1 0 rfl) ?_
      refine lv_iload_n hx hb dX8_pintsIn_15 rfl (lv_at hL.1 1 rfl) ?_
      refine lv_iload_n hx hb dX8_pintsIn_16 rfl (lv_at hL.1 3 rfl) ?_
      obtain ⟨ho, hw⟩ := hw
      refine th_ki hS (th_rV CF hK hSt hR hS ho (ci := 8) rfl (rest := [.int x2]) (tk_X8_kindOf) (cw_X8_141 CF hK (by decide +kernel)) hw rfl hL.1.1 rfl (th_ci th_cn) (Nat.le_of_ble_eq_true rfl) dX8_pintsIn_17 ⟨by show _ ≤ (0 : Nat); omega, by show _ ≤ (0 : Nat); omega⟩) (fun r4 G3 H locs hw hR hS => ?_)
      refine th_ki hS (th_rS CF hK hSt hR hS (rest := [.int x2]) (tk_X8_pints) (cw_X8_134 CF hK (by decide +kernel)) hw rfl hL.1.1 rfl (th_ci th_cn) (Nat.le_of_ble_eq_true rfl) dX8_pintsIn_20 ⟨by show _ ≤ (0 : Nat); omega, by show _ ≤ (0 : Nat); omega⟩) (fun r6 G5 H locs hw hR hS => ?_)
      refine lv_iadd hx hb dX8_pintsIn_23 ?_
      obtain ⟨x2_7, hx2_7⟩ : ∃ y : Int32, y = x2 + r6 := ⟨_, rfl⟩
      replace hw := hw x2_7 hx2_7
      refine th_nmi hx2_7 ?_
      refine th_istore_n hx hb dX8_pintsIn_24 rfl hL (by decide) rfl (fun ls hL => ?_)
      obtain ⟨x3_8, hx3_8⟩ : ∃ y : Int32, y = x3 + 1 := ⟨_, rfl⟩
      replace hw := hw x3_8 hx3_8
      refine th_iinc hx hb dX8_pintsIn_25 hL (k := 3) rfl (v := x3_8) hx3_8.symm (by decide) rfl (fun ls hL => ?_)
      refine lv_goto hx hb dX8_pintsIn_28 (tgt := 4) (by decide) ?_
      exact ih hR hS (hL.sub [2, 3, 1, 0] rfl) hw ⟨by omega, by omega⟩
theorem tk_X8_pintsIn {l : Launch} {D : tD} {B : Nat} {Q : Int32 → aH → Prop} {a0 : Nat} {x1 : Int32} : Met l yX8_pintsIn (ws_ yX8_pintsIn cX8_pintsIn 4 ((Option.some Jvm.ClassFile.FieldType.int))) rm_X8_pintsIn (th_P D B [rv a0, .int x1] (fun G => tw_X8_pintsIn Q G a0 x1)) (th_Qi D B Q) 0 0 (th_A B) :=
  th_ofW (by decide +kernel) (th_cr (th_ci th_cn)) (Nat.le_of_ble_eq_true rfl) (fun p e s m args below meth c CF hret hlk hnm hK hSt G ls hR hS hw hL => by
    have E : th_E p m c cX8_pintsIn 4 s args RX8 meth ((Option.some Jvm.ClassFile.FieldType.int)) "pintsIn" D B := ⟨CF, hret, hlk, hnm, hK, hSt⟩
    have hx := CF.1; have hb := CF.2.1
    have hL : th_L ls 4 [(0, rv a0), (1, .int x1)] := hL
    unfold tw_X8_pintsIn at hw
    refine lv_iconst hx hb dX8_pintsIn_0 (v := 0) rfl ?_
    refine th_istore_n hx hb dX8_pintsIn_1 rfl hL (by decide) rfl (fun ls hL => ?_)
    refine lv_iconst hx hb dX8_pintsIn_2 (v := 0) rfl ?_
    refine th_istore_n hx hb dX8_pintsIn_3 rfl hL (by decide) rfl (fun ls hL => ?_)
    obtain ⟨n9, hw⟩ := hw
    exact tk_X8_pintsIn_b4 E n9 hR hS (hL.sub [2, 3, 1, 0] rfl) hw ⟨by omega, by omega⟩)
def tw_X8_store (Q : Int32 → aH → Prop) (G : aH) (a0 : Nat) (x1 : Int32) (x2 : Int32) : Prop :=
  th_o G a0 8 ∧ (
  th_ai G (a_mr G a0 0) 0 ((391 + (5 * x1)) + x2) ∧ (
  Q (a_mi G (a_mr G a0 0) ((391 + (5 * x1)) + x2).toNatClampNeg) G))
theorem tk_X8_store {l : Launch} {D : tD} {B : Nat} {Q : Int32 → aH → Prop} {a0 : Nat} {x1 : Int32} {x2 : Int32} : Met l yX8_store (ws_ yX8_store cX8_store 3 ((Option.some Jvm.ClassFile.FieldType.int))) rm_X8_store (th_P D B [rv a0, .int x1, .int x2] (fun G => tw_X8_store Q G a0 x1 x2)) (th_Qi D B Q) 0 0 (th_A B) :=
  th_ofW (by decide +kernel) (th_cr (th_ci (th_ci th_cn))) (Nat.le_of_ble_eq_true rfl) (fun p e s m args below meth c CF hret hlk hnm hK hSt G ls hR hS hw hL => by
    have E : th_E p m c cX8_store 3 s args RX8 meth ((Option.some Jvm.ClassFile.FieldType.int)) "store" D B := ⟨CF, hret, hlk, hnm, hK, hSt⟩
    have hx := CF.1; have hb := CF.2.1
    have hL : th_L ls 3 [(0, rv a0), (1, .int x1), (2, .int x2)] := hL
    unfold tw_X8_store at hw
    refine th_aload_n hx hb dX8_store_0 rfl (lv_at hL.1 0 rfl) ?_
    obtain ⟨ho, hw⟩ := hw
    refine fg_X8_9 CF hK hR ho dX8_store_1 ?_
    refine lv_sipush hx hb dX8_store_4 (v := 391) rfl ?_
    refine lv_iconst hx hb dX8_store_7 (v := 5) rfl ?_
    refine lv_iload_n hx hb dX8_store_8 rfl (lv_at hL.1 1 rfl) ?_
    refine lv_imul hx hb dX8_store_9 ?_
    refine lv_iadd hx hb dX8_store_10 ?_
    refine lv_iload_n hx hb dX8_store_11 rfl (lv_at hL.1 2 rfl) ?_
    refine lv_iadd hx hb dX8_store_12 ?_
    obtain ⟨ha, hw⟩ := hw
    refine th_iald hx hb hK hR ha dX8_store_13 ?_
    exact th_iret hx hb hret hlk hR hS hw (by omega) (by omega) dX8_store_14)
def tw_X8_sum_b67 (Q : Int32 → aH → Prop) : Nat → aH → Nat → Int32 → Int32 → Int32 → Prop := fun n => Nat.rec (motive := fun _ => aH → Nat → Int32 → Int32 → Int32 → Prop) (fun _ _ _ _ _ => False) (fun _ ih G a0 x1 x2 x3 =>
  (3 ≤ x3 →
    Q x2 G) ∧
  (¬ 3 ≤ x3 →
    (¬ x1 = 3 →
      Q x2 G) ∧
    (x1 = 3 →
      th_o G a0 8 ∧ (
      (tw_X8_store
        (fun (r2 : Int32) (G1 : aH) =>
          ∀ x2_3 : Int32, x2_3 = x2 + r2 → 
          ∀ x3_4 : Int32, x3_4 = x3 + 1 → 
          ih G1 a0 x1 x2_3 x3_4)
        G a0 x3 0))))) n
theorem tws_X8_sum_b67 (Q : Int32 → aH → Prop) (n : Nat) (G : aH) (a0 : Nat) (x1 : Int32) (x2 : Int32) (x3 : Int32) : tw_X8_sum_b67 Q (n + 1) G a0 x1 x2 x3 = (
  (3 ≤ x3 →
    Q x2 G) ∧
  (¬ 3 ≤ x3 →
    (¬ x1 = 3 →
      Q x2 G) ∧
    (x1 = 3 →
      th_o G a0 8 ∧ (
      (tw_X8_store
        (fun (r2 : Int32) (G1 : aH) =>
          ∀ x2_3 : Int32, x2_3 = x2 + r2 → 
          ∀ x3_4 : Int32, x3_4 = x3 + 1 → 
          tw_X8_sum_b67 Q n G1 a0 x1 x2_3 x3_4)
        G a0 x3 0))))) := rfl
def tw_X8_sum_b65 (Q : Int32 → aH → Prop) (G : aH) (a0 : Nat) (x1 : Int32) (x2 : Int32) : Prop :=
  ∃ n9 : Nat, tw_X8_sum_b67 Q n9 G a0 x1 x2 0
def tw_X8_sum_b30 (Q : Int32 → aH → Prop) : Nat → aH → Nat → Int32 → Int32 → Int32 → Prop := fun n => Nat.rec (motive := fun _ => aH → Nat → Int32 → Int32 → Int32 → Prop) (fun _ _ _ _ _ => False) (fun _ ih G a0 x1 x2 x3 =>
  (2 ≤ x3 →
    tw_X8_sum_b65 Q G a0 x1 x2) ∧
  (¬ 2 ≤ x3 →
    (¬ x1 = 2 →
      tw_X8_sum_b65 Q G a0 x1 x2) ∧
    (x1 = 2 →
      th_o G a0 8 ∧ (
      (tw_X8_floor
        (fun (r6 : Int32) (G5 : aH) =>
          th_o G5 a0 8 ∧ (
          (tw_X8_floor
            (fun (r8 : Int32) (G7 : aH) =>
              (tw_X8_pints
                (fun (r10 : Int32) (G9 : aH) =>
                  ∀ x2_11 : Int32, x2_11 = x2 + (r6 * r10) → 
                  ∀ x3_12 : Int32, x3_12 = x3 + 1 → 
                  ih G9 a0 x1 x2_11 x3_12)
                G7 r8))
            G5 a0 x3 1)))
        G a0 x3 0))))) n
theorem tws_X8_sum_b30 (Q : Int32 → aH → Prop) (n : Nat) (G : aH) (a0 : Nat) (x1 : Int32) (x2 : Int32) (x3 : Int32) : tw_X8_sum_b30 Q (n + 1) G a0 x1 x2 x3 = (
  (2 ≤ x3 →
    tw_X8_sum_b65 Q G a0 x1 x2) ∧
  (¬ 2 ≤ x3 →
    (¬ x1 = 2 →
      tw_X8_sum_b65 Q G a0 x1 x2) ∧
    (x1 = 2 →
      th_o G a0 8 ∧ (
      (tw_X8_floor
        (fun (r6 : Int32) (G5 : aH) =>
          th_o G5 a0 8 ∧ (
          (tw_X8_floor
            (fun (r8 : Int32) (G7 : aH) =>
              (tw_X8_pints
                (fun (r10 : Int32) (G9 : aH) =>
                  ∀ x2_11 : Int32, x2_11 = x2 + (r6 * r10) → 
                  ∀ x3_12 : Int32, x3_12 = x3 + 1 → 
                  tw_X8_sum_b30 Q n G9 a0 x1 x2_11 x3_12)
                G7 r8))
            G5 a0 x3 1)))
        G a0 x3 0))))) := rfl
def tw_X8_sum_b28 (Q : Int32 → aH → Prop) (G : aH) (a0 : Nat) (x1 : Int32) (x2 : Int32) : Prop :=
  ∃ n9 : Nat, tw_X8_sum_b30 Q n9 G a0 x1 x2 0
def tw_X8_sum_b4 (Q : Int32 → aH → Prop) : Nat → aH → Nat → Int32 → Int32 → Int32 → Prop := fun n => Nat.rec (motive := fun _ => aH → Nat → Int32 → Int32 → Int32 → Prop) (fun _ _ _ _ _ => False) (fun _ ih G a0 x1 x2 x3 =>
  (4 ≤ x3 →
    tw_X8_sum_b28 Q G a0 x1 x2) ∧
  (¬ 4 ≤ x3 →
    (¬ x1 = 1 →
      tw_X8_sum_b28 Q G a0 x1 x2) ∧
    (x1 = 1 →
      th_o G a0 8 ∧ (
      (tw_X8_pintsIn
        (fun (r14 : Int32) (G13 : aH) =>
          ∀ x2_15 : Int32, x2_15 = x2 + r14 → 
          ∀ x3_16 : Int32, x3_16 = x3 + 1 → 
          ih G13 a0 x1 x2_15 x3_16)
        G a0 x3))))) n
theorem tws_X8_sum_b4 (Q : Int32 → aH → Prop) (n : Nat) (G : aH) (a0 : Nat) (x1 : Int32) (x2 : Int32) (x3 : Int32) : tw_X8_sum_b4 Q (n + 1) G a0 x1 x2 x3 = (
  (4 ≤ x3 →
    tw_X8_sum_b28 Q G a0 x1 x2) ∧
  (¬ 4 ≤ x3 →
    (¬ x1 = 1 →
      tw_X8_sum_b28 Q G a0 x1 x2) ∧
    (x1 = 1 →
      th_o G a0 8 ∧ (
      (tw_X8_pintsIn
        (fun (r14 : Int32) (G13 : aH) =>
          ∀ x2_15 : Int32, x2_15 = x2 + r14 → 
          ∀ x3_16 : Int32, x3_16 = x3 + 1 → 
          tw_X8_sum_b4 Q n G13 a0 x1 x2_15 x3_16)
        G a0 x3))))) := rfl
def tw_X8_sum (Q : Int32 → aH → Prop) (G : aH) (a0 : Nat) (x1 : Int32) : Prop :=
  ∃ n9 : Nat, tw_X8_sum_b4 Q n9 G a0 x1 0 0
theorem tk_X8_sum_b67 {p : Program} {l : Launch} {e : Env} {s : State} {m : MethodId} {args : Array Value} {below : List Frame} {meth : Method} {c : Code} {D : tD} {B : Nat} (E : th_E p m c cX8_sum 4 s args RX8 meth ((Option.some Jvm.ClassFile.FieldType.int)) "sum" D B) {Q : Int32 → aH → Prop} : ∀ (n : Nat) {G : aH} {H : Heap} {locs : List Loc} {cells slots : Nat} {ls : Array Slot} {a0 : Nat} {x1 : Int32} {x2 : Int32} {x3 : Int32} (hR : th_H D B G H) (hS : va_S (th_A B) s.heap H locs) (hL : th_L ls 4 [(0, rv a0), (1, .int x1), (2, .int x2), (3, .int x3)]) (hw : tw_X8_sum_b67 Q n G a0 x1 x2 x3) (hc : cells + (0) ≤ 0 ∧ slots + (0) ≤ 0), W p l e rm_X8_sum s m args below meth c H locs cells slots (MQ below (th_Qi D B Q) args s 0 0 (th_A B)) (F0 m 67 ls []) := by
  have CF := E.1; have hx := CF.1; have hb := CF.2.1; have hret := E.2.1; have hlk := E.2.2.1; have hnm := E.2.2.2.1; have hK := E.2.2.2.2.1; have hSt := E.2.2.2.2.2
  intro n
  induction n with
  | zero => intro _ _ _ _ _ _ _ _ _ _ _ _ _ hw; exact hw.elim
  | succ n ih =>
    intro G H locs cells slots ls a0 x1 x2 x3 hR hS hL hw hc
    rw [tws_X8_sum_b67] at hw
    refine lv_iload_n hx hb dX8_sum_67 rfl (lv_at hL.1 3 rfl) ?_
    refine lv_iconst hx hb dX8_sum_68 (v := 3) rfl ?_
    refine lv_icmp_ge hx hb dX8_sum_69 (tgt := 92) (by decide) (fun h => ?_) (fun h => ?_)
    · replace hw := hw.1 h
      refine lv_iload_n hx hb dX8_sum_92 rfl (lv_at hL.1 2 rfl) ?_
      exact th_iret hx hb hret hlk hR hS hw (by omega) (by omega) dX8_sum_93
    · replace hw := hw.2 h
      refine lv_iload_n hx hb dX8_sum_72 rfl (lv_at hL.1 1 rfl) ?_
      refine lv_iconst hx hb dX8_sum_73 (v := 3) rfl ?_
      refine lv_icmp_ne hx hb dX8_sum_74 (tgt := 92) (by decide) (fun h => ?_) (fun h => ?_)
      · replace hw := hw.1 h
        refine lv_iload_n hx hb dX8_sum_92 rfl (lv_at hL.1 2 rfl) ?_
        exact th_iret hx hb hret hlk hR hS hw (by omega) (by omega) dX8_sum_93
      · replace hw := hw.2 h
        refine lv_iload_n hx hb dX8_sum_77 rfl (lv_at hL.1 2 rfl) ?_
        refine th_aload_n hx hb dX8_sum_78 rfl (lv_at hL.1 0 rfl) ?_
        refine lv_iload_n hx hb dX8_sum_79 rfl (lv_at hL.1 3 rfl) ?_
        refine lv_iconst hx hb dX8_sum_80 (v := 0) rfl ?_
        obtain ⟨ho, hw⟩ := hw
        refine th_ki hS (th_rV CF hK hSt hR hS ho (ci := 8) rfl (rest := [.int x2]) (tk_X8_store) (cw_X8_178 CF hK (by decide +kernel)) hw rfl hL.1.1 rfl (th_ci th_cn) (Nat.le_of_ble_eq_true rfl) dX8_sum_81 ⟨by show _ ≤ (0 : Nat); omega, by show _ ≤ (0 : Nat); omega⟩) (fun r2 G1 H locs hw hR hS => ?_)
        refine lv_iadd hx hb dX8_sum_84 ?_
        obtain ⟨x2_3, hx2_3⟩ : ∃ y : Int32, y = x2 + r2 := ⟨_, rfl⟩
        replace hw := hw x2_3 hx2_3
        refine th_nmi hx2_3 ?_
        refine th_istore_n hx hb dX8_sum_85 rfl hL (by decide) rfl (fun ls hL => ?_)
        obtain ⟨x3_4, hx3_4⟩ : ∃ y : Int32, y = x3 + 1 := ⟨_, rfl⟩
        replace hw := hw x3_4 hx3_4
        refine th_iinc hx hb dX8_sum_86 hL (k := 3) rfl (v := x3_4) hx3_4.symm (by decide) rfl (fun ls hL => ?_)
        refine lv_goto hx hb dX8_sum_89 (tgt := 67) (by decide) ?_
        exact ih hR hS (hL.sub [2, 3, 1, 0] rfl) hw ⟨by omega, by omega⟩
theorem tk_X8_sum_b65 {p : Program} {l : Launch} {e : Env} {s : State} {m : MethodId} {args : Array Value} {below : List Frame} {meth : Method} {c : Code} {D : tD} {B : Nat} (E : th_E p m c cX8_sum 4 s args RX8 meth ((Option.some Jvm.ClassFile.FieldType.int)) "sum" D B) {Q : Int32 → aH → Prop} {G : aH} {H : Heap} {locs : List Loc} {cells slots : Nat} {ls : Array Slot} {a0 : Nat} {x1 : Int32} {x2 : Int32} (hR : th_H D B G H) (hS : va_S (th_A B) s.heap H locs) (hL : th_L ls 4 [(0, rv a0), (1, .int x1), (2, .int x2)]) (hw : tw_X8_sum_b65 Q G a0 x1 x2) (hc : cells + (0) ≤ 0 ∧ slots + (0) ≤ 0) : W p l e rm_X8_sum s m args below meth c H locs cells slots (MQ below (th_Qi D B Q) args s 0 0 (th_A B)) (F0 m 65 ls []) := by
  have CF := E.1; have hx := CF.1; have hb := CF.2.1; have hret := E.2.1; have hlk := E.2.2.1; have hnm := E.2.2.2.1; have hK := E.2.2.2.2.1; have hSt := E.2.2.2.2.2
  unfold tw_X8_sum_b65 at hw
  refine lv_iconst hx hb dX8_sum_65 (v := 0) rfl ?_
  refine th_istore_n hx hb dX8_sum_66 rfl hL (by decide) rfl (fun ls hL => ?_)
  obtain ⟨n9, hw⟩ := hw
  exact tk_X8_sum_b67 E n9 hR hS (hL.sub [1, 2, 3, 0] rfl) hw ⟨by omega, by omega⟩
theorem tk_X8_sum_b30 {p : Program} {l : Launch} {e : Env} {s : State} {m : MethodId} {args : Array Value} {below : List Frame} {meth : Method} {c : Code} {D : tD} {B : Nat} (E : th_E p m c cX8_sum 4 s args RX8 meth ((Option.some Jvm.ClassFile.FieldType.int)) "sum" D B) {Q : Int32 → aH → Prop} : ∀ (n : Nat) {G : aH} {H : Heap} {locs : List Loc} {cells slots : Nat} {ls : Array Slot} {a0 : Nat} {x1 : Int32} {x2 : Int32} {x3 : Int32} (hR : th_H D B G H) (hS : va_S (th_A B) s.heap H locs) (hL : th_L ls 4 [(0, rv a0), (1, .int x1), (2, .int x2), (3, .int x3)]) (hw : tw_X8_sum_b30 Q n G a0 x1 x2 x3) (hc : cells + (0) ≤ 0 ∧ slots + (0) ≤ 0), W p l e rm_X8_sum s m args below meth c H locs cells slots (MQ below (th_Qi D B Q) args s 0 0 (th_A B)) (F0 m 30 ls []) := by
  have CF := E.1; have hx := CF.1; have hb := CF.2.1; have hret := E.2.1; have hlk := E.2.2.1; have hnm := E.2.2.2.1; have hK := E.2.2.2.2.1; have hSt := E.2.2.2.2.2
  intro n
  induction n with
  | zero => intro _ _ _ _ _ _ _ _ _ _ _ _ _ hw; exact hw.elim
  | succ n ih =>
    intro G H locs cells slots ls a0 x1 x2 x3 hR hS hL hw hc
    rw [tws_X8_sum_b30] at hw
    refine lv_iload_n hx hb dX8_sum_30 rfl (lv_at hL.1 3 rfl) ?_
    refine lv_iconst hx hb dX8_sum_31 (v := 2) rfl ?_
    refine lv_icmp_ge hx hb dX8_sum_32 (tgt := 65) (by decide) (fun h => ?_) (fun h => ?_)
    · replace hw := hw.1 h
      exact tk_X8_sum_b65 E hR hS (hL.sub [0, 1, 2] rfl) hw ⟨by omega, by omega⟩
    · replace hw := hw.2 h
      refine lv_iload_n hx hb dX8_sum_35 rfl (lv_at hL.1 1 rfl) ?_
      refine lv_iconst hx hb dX8_sum_36 (v := 2) rfl ?_
      refine lv_icmp_ne hx hb dX8_sum_37 (tgt := 65) (by decide) (fun h => ?_) (fun h => ?_)
      · replace hw := hw.1 h
        exact tk_X8_sum_b65 E hR hS (hL.sub [0, 1, 2] rfl) hw ⟨by omega, by omega⟩
      · replace hw := hw.2 h
        refine lv_iload_n hx hb dX8_sum_40 rfl (lv_at hL.1 2 rfl) ?_
        refine th_aload_n hx hb dX8_sum_41 rfl (lv_at hL.1 0 rfl) ?_
        refine lv_iload_n hx hb dX8_sum_42 rfl (lv_at hL.1 3 rfl) ?_
        refine lv_iconst hx hb dX8_sum_43 (v := 0) rfl ?_
        obtain ⟨ho, hw⟩ := hw
        refine th_ki hS (th_rV CF hK hSt hR hS ho (ci := 8) rfl (rest := [.int x2]) (tk_X8_floor) (cw_X8_165 CF hK (by decide +kernel)) hw rfl hL.1.1 rfl (th_ci th_cn) (Nat.le_of_ble_eq_true rfl) dX8_sum_44 ⟨by show _ ≤ (0 : Nat); omega, by show _ ≤ (0 : Nat); omega⟩) (fun r6 G5 H locs hw hR hS => ?_)
        refine th_aload_n hx hb dX8_sum_47 rfl (lv_at hL.1 0 rfl) ?_
        refine lv_iload_n hx hb dX8_sum_48 rfl (lv_at hL.1 3 rfl) ?_
        refine lv_iconst hx hb dX8_sum_49 (v := 1) rfl ?_
        obtain ⟨ho, hw⟩ := hw
        refine th_ki hS (th_rV CF hK hSt hR hS ho (ci := 8) rfl (rest := [.int r6, .int x2]) (tk_X8_floor) (cw_X8_165 CF hK (by decide +kernel)) hw rfl hL.1.1 rfl (th_ci (th_ci th_cn)) (Nat.le_of_ble_eq_true rfl) dX8_sum_50 ⟨by show _ ≤ (0 : Nat); omega, by show _ ≤ (0 : Nat); omega⟩) (fun r8 G7 H locs hw hR hS => ?_)
        refine th_ki hS (th_rS CF hK hSt hR hS (rest := [.int r6, .int x2]) (tk_X8_pints) (cw_X8_134 CF hK (by decide +kernel)) hw rfl hL.1.1 rfl (th_ci (th_ci th_cn)) (Nat.le_of_ble_eq_true rfl) dX8_sum_53 ⟨by show _ ≤ (0 : Nat); omega, by show _ ≤ (0 : Nat); omega⟩) (fun r10 G9 H locs hw hR hS => ?_)
        refine lv_imul hx hb dX8_sum_56 ?_
        refine lv_iadd hx hb dX8_sum_57 ?_
        obtain ⟨x2_11, hx2_11⟩ : ∃ y : Int32, y = x2 + (r6 * r10) := ⟨_, rfl⟩
        replace hw := hw x2_11 hx2_11
        refine th_nmi hx2_11 ?_
        refine th_istore_n hx hb dX8_sum_58 rfl hL (by decide) rfl (fun ls hL => ?_)
        obtain ⟨x3_12, hx3_12⟩ : ∃ y : Int32, y = x3 + 1 := ⟨_, rfl⟩
        replace hw := hw x3_12 hx3_12
        refine th_iinc hx hb dX8_sum_59 hL (k := 3) rfl (v := x3_12) hx3_12.symm (by decide) rfl (fun ls hL => ?_)
        refine lv_goto hx hb dX8_sum_62 (tgt := 30) (by decide) ?_
        exact ih hR hS (hL.sub [2, 3, 1, 0] rfl) hw ⟨by omega, by omega⟩
theorem tk_X8_sum_b28 {p : Program} {l : Launch} {e : Env} {s : State} {m : MethodId} {args : Array Value} {below : List Frame} {meth : Method} {c : Code} {D : tD} {B : Nat} (E : th_E p m c cX8_sum 4 s args RX8 meth ((Option.some Jvm.ClassFile.FieldType.int)) "sum" D B) {Q : Int32 → aH → Prop} {G : aH} {H : Heap} {locs : List Loc} {cells slots : Nat} {ls : Array Slot} {a0 : Nat} {x1 : Int32} {x2 : Int32} (hR : th_H D B G H) (hS : va_S (th_A B) s.heap H locs) (hL : th_L ls 4 [(0, rv a0), (1, .int x1), (2, .int x2)]) (hw : tw_X8_sum_b28 Q G a0 x1 x2) (hc : cells + (0) ≤ 0 ∧ slots + (0) ≤ 0) : W p l e rm_X8_sum s m args below meth c H locs cells slots (MQ below (th_Qi D B Q) args s 0 0 (th_A B)) (F0 m 28 ls []) := by
  have CF := E.1; have hx := CF.1; have hb := CF.2.1; have hret := E.2.1; have hlk := E.2.2.1; have hnm := E.2.2.2.1; have hK := E.2.2.2.2.1; have hSt := E.2.2.2.2.2
  unfold tw_X8_sum_b28 at hw
  refine lv_iconst hx hb dX8_sum_28 (v := 0) rfl ?_
  refine th_istore_n hx hb dX8_sum_29 rfl hL (by decide) rfl (fun ls hL => ?_)
  obtain ⟨n9, hw⟩ := hw
  exact tk_X8_sum_b30 E n9 hR hS (hL.sub [1, 2, 3, 0] rfl) hw ⟨by omega, by omega⟩
theorem tk_X8_sum_b4 {p : Program} {l : Launch} {e : Env} {s : State} {m : MethodId} {args : Array Value} {below : List Frame} {meth : Method} {c : Code} {D : tD} {B : Nat} (E : th_E p m c cX8_sum 4 s args RX8 meth ((Option.some Jvm.ClassFile.FieldType.int)) "sum" D B) {Q : Int32 → aH → Prop} : ∀ (n : Nat) {G : aH} {H : Heap} {locs : List Loc} {cells slots : Nat} {ls : Array Slot} {a0 : Nat} {x1 : Int32} {x2 : Int32} {x3 : Int32} (hR : th_H D B G H) (hS : va_S (th_A B) s.heap H locs) (hL : th_L ls 4 [(0, rv a0), (1, .int x1), (2, .int x2), (3, .int x3)]) (hw : tw_X8_sum_b4 Q n G a0 x1 x2 x3) (hc : cells + (0) ≤ 0 ∧ slots + (0) ≤ 0), W p l e rm_X8_sum s m args below meth c H locs cells slots (MQ below (th_Qi D B Q) args s 0 0 (th_A B)) (F0 m 4 ls []) := by
  have CF := E.1; have hx := CF.1; have hb := CF.2.1; have hret := E.2.1; have hlk := E.2.2.1; have hnm := E.2.2.2.1; have hK := E.2.2.2.2.1; have hSt := E.2.2.2.2.2
  intro n
  induction n with
  | zero => intro _ _ _ _ _ _ _ _ _ _ _ _ _ hw; exact hw.elim
  | succ n ih =>
    intro G H locs cells slots ls a0 x1 x2 x3 hR hS hL hw hc
    rw [tws_X8_sum_b4] at hw
    refine lv_iload_n hx hb dX8_sum_4 rfl (lv_at hL.1 3 rfl) ?_
    refine lv_iconst hx hb dX8_sum_5 (v := 4) rfl ?_
    refine lv_icmp_ge hx hb dX8_sum_6 (tgt := 28) (by decide) (fun h => ?_) (fun h => ?_)
    · replace hw := hw.1 h
      exact tk_X8_sum_b28 E hR hS (hL.sub [0, 1, 2] rfl) hw ⟨by omega, by omega⟩
    · replace hw := hw.2 h
      refine lv_iload_n hx hb dX8_sum_9 rfl (lv_at hL.1 1 rfl) ?_
      refine lv_iconst hx hb dX8_sum_10 (v := 1) rfl ?_
      refine lv_icmp_ne hx hb dX8_sum_11 (tgt := 28) (by decide) (fun h => ?_) (fun h => ?_)
      · replace hw := hw.1 h
        exact tk_X8_sum_b28 E hR hS (hL.sub [0, 1, 2] rfl) hw ⟨by omega, by omega⟩
      · replace hw := hw.2 h
        refine lv_iload_n hx hb dX8_sum_14 rfl (lv_at hL.1 2 rfl) ?_
        refine th_aload_n hx hb dX8_sum_15 rfl (lv_at hL.1 0 rfl) ?_
        refine lv_iload_n hx hb dX8_sum_16 rfl (lv_at hL.1 3 rfl) ?_
        obtain ⟨ho, hw⟩ := hw
        refine th_ki hS (th_rV CF hK hSt hR hS ho (ci := 8) rfl (rest := [.int x2]) (tk_X8_pintsIn) (cw_X8_147 CF hK (by decide +kernel)) hw rfl hL.1.1 rfl (th_ci th_cn) (Nat.le_of_ble_eq_true rfl) dX8_sum_17 ⟨by show _ ≤ (0 : Nat); omega, by show _ ≤ (0 : Nat); omega⟩) (fun r14 G13 H locs hw hR hS => ?_)
        refine lv_iadd hx hb dX8_sum_20 ?_
        obtain ⟨x2_15, hx2_15⟩ : ∃ y : Int32, y = x2 + r14 := ⟨_, rfl⟩
        replace hw := hw x2_15 hx2_15
        refine th_nmi hx2_15 ?_
        refine th_istore_n hx hb dX8_sum_21 rfl hL (by decide) rfl (fun ls hL => ?_)
        obtain ⟨x3_16, hx3_16⟩ : ∃ y : Int32, y = x3 + 1 := ⟨_, rfl⟩
        replace hw := hw x3_16 hx3_16
        refine th_iinc hx hb dX8_sum_22 hL (k := 3) rfl (v := x3_16) hx3_16.symm (by decide) rfl (fun ls hL => ?_)
        refine lv_goto hx hb dX8_sum_25 (tgt := 4) (by decide) ?_
        exact ih hR hS (hL.sub [2, 3, 1, 0] rfl) hw ⟨by omega, by omega⟩
theorem tk_X8_sum {l : Launch} {D : tD} {B : Nat} {Q : Int32 → aH → Prop} {a0 : Nat} {x1 : Int32} : Met l yX8_sum (ws_ yX8_sum cX8_sum 4 ((Option.some Jvm.ClassFile.FieldType.int))) rm_X8_sum (th_P D B [rv a0, .int x1] (fun G => tw_X8_sum Q G a0 x1)) (th_Qi D B Q) 0 0 (th_A B) :=
  th_ofW (by decide +kernel) (th_cr (th_ci th_cn)) (Nat.le_of_ble_eq_true rfl) (fun p e s m args below meth c CF hret hlk hnm hK hSt G ls hR hS hw hL => by
    have E : th_E p m c cX8_sum 4 s args RX8 meth ((Option.some Jvm.ClassFile.FieldType.int)) "sum" D B := ⟨CF, hret, hlk, hnm, hK, hSt⟩
    have hx := CF.1; have hb := CF.2.1
    have hL : th_L ls 4 [(0, rv a0), (1, .int x1)] := hL
    unfold tw_X8_sum at hw
    refine lv_iconst hx hb dX8_sum_0 (v := 0) rfl ?_
    refine th_istore_n hx hb dX8_sum_1 rfl hL (by decide) rfl (fun ls hL => ?_)
    refine lv_iconst hx hb dX8_sum_2 (v := 0) rfl ?_
    refine th_istore_n hx hb dX8_sum_3 rfl hL (by decide) rfl (fun ls hL => ?_)
    obtain ⟨n9, hw⟩ := hw
    exact tk_X8_sum_b4 E n9 hR hS (hL.sub [2, 3, 1, 0] rfl) hw ⟨by omega, by omega⟩)
def tw_X8_allAt_b4 (Q : Int32 → aH → Prop) : Nat → aH → Nat → Int32 → Int32 → Int32 → Prop := fun n => Nat.rec (motive := fun _ => aH → Nat → Int32 → Int32 → Int32 → Prop) (fun _ _ _ _ _ => False) (fun _ ih G a0 x1 x2 x3 =>
  (7 ≤ x3 →
    Q x2 G) ∧
  (¬ 7 ≤ x3 →
    th_o G a0 8 ∧ (
    th_ai G (a_mr G a0 0) 0 ((406 + (3 * x3)) + x1) ∧ (
    ∀ x2_1 : Int32, x2_1 = x2 + (a_mi G (a_mr G a0 0) ((406 + (3 * x3)) + x1).toNatClampNeg) → 
    ∀ x3_2 : Int32, x3_2 = x3 + 1 → 
    ih G a0 x1 x2_1 x3_2)))) n
theorem tws_X8_allAt_b4 (Q : Int32 → aH → Prop) (n : Nat) (G : aH) (a0 : Nat) (x1 : Int32) (x2 : Int32) (x3 : Int32) : tw_X8_allAt_b4 Q (n + 1) G a0 x1 x2 x3 = (
  (7 ≤ x3 →
    Q x2 G) ∧
  (¬ 7 ≤ x3 →
    th_o G a0 8 ∧ (
    th_ai G (a_mr G a0 0) 0 ((406 + (3 * x3)) + x1) ∧ (
    ∀ x2_1 : Int32, x2_1 = x2 + (a_mi G (a_mr G a0 0) ((406 + (3 * x3)) + x1).toNatClampNeg) → 
    ∀ x3_2 : Int32, x3_2 = x3 + 1 → 
    tw_X8_allAt_b4 Q n G a0 x1 x2_1 x3_2)))) := rfl
def tw_X8_allAt (Q : Int32 → aH → Prop) (G : aH) (a0 : Nat) (x1 : Int32) : Prop :=
  ∃ n9 : Nat, tw_X8_allAt_b4 Q n9 G a0 x1 0 0
theorem tk_X8_allAt_b4 {p : Program} {l : Launch} {e : Env} {s : State} {m : MethodId} {args : Array Value} {below : List Frame} {meth : Method} {c : Code} {D : tD} {B : Nat} (E : th_E p m c cX8_allAt 4 s args RX8 meth ((Option.some Jvm.ClassFile.FieldType.int)) "allAt" D B) {Q : Int32 → aH → Prop} : ∀ (n : Nat) {G : aH} {H : Heap} {locs : List Loc} {cells slots : Nat} {ls : Array Slot} {a0 : Nat} {x1 : Int32} {x2 : Int32} {x3 : Int32} (hR : th_H D B G H) (hS : va_S (th_A B) s.heap H locs) (hL : th_L ls 4 [(0, rv a0), (1, .int x1), (2, .int x2), (3, .int x3)]) (hw : tw_X8_allAt_b4 Q n G a0 x1 x2 x3) (hc : cells + (0) ≤ 0 ∧ slots + (0) ≤ 0), W p l e rm_X8_allAt s m args below meth c H locs cells slots (MQ below (th_Qi D B Q) args s 0 0 (th_A B)) (F0 m 4 ls []) := by
  have CF := E.1; have hx := CF.1; have hb := CF.2.1; have hret := E.2.1; have hlk := E.2.2.1; have hnm := E.2.2.2.1; have hK := E.2.2.2.2.1; have hSt := E.2.2.2.2.2
  intro n
  induction n with
  | zero => intro _ _ _ _ _ _ _ _ _ _ _ _ _ hw; exact hw.elim
  | succ n ih =>
    intro G H locs cells slots ls a0 x1 x2 x3 hR hS hL hw hc
    rw [tws_X8_allAt_b4] at hw
    refine lv_iload_n hx hb dX8_allAt_4 rfl (lv_at hL.1 3 rfl) ?_
    refine lv_bipush hx hb dX8_allAt_5 (v := 7) rfl ?_
    refine lv_icmp_ge hx hb dX8_allAt_7 (tgt := 33) (by decide) (fun h => ?_) (fun h => ?_)
    · replace hw := hw.1 h
      refine lv_iload_n hx hb dX8_allAt_33 rfl (lv_at hL.1 2 rfl) ?_
      exact th_iret hx hb hret hlk hR hS hw (by omega) (by omega) dX8_allAt_34
    · replace hw := hw.2 h
      refine lv_iload_n hx hb dX8_allAt_10 rfl (lv_at hL.1 2 rfl) ?_
      refine th_aload_n hx hb dX8_allAt_11 rfl (lv_at hL.1 0 rfl) ?_
      obtain ⟨ho, hw⟩ := hw
      refine fg_X8_9 CF hK hR ho dX8_allAt_12 ?_
      refine lv_sipush hx hb dX8_allAt_15 (v := 406) rfl ?_
      refine lv_iconst hx hb dX8_allAt_18 (v := 3) rfl ?_
      refine lv_iload_n hx hb dX8_allAt_19 rfl (lv_at hL.1 3 rfl) ?_
      refine lv_imul hx hb dX8_allAt_20 ?_
      refine lv_iadd hx hb dX8_allAt_21 ?_
      refine lv_iload_n hx hb dX8_allAt_22 rfl (lv_at hL.1 1 rfl) ?_
      refine lv_iadd hx hb dX8_allAt_23 ?_
      obtain ⟨ha, hw⟩ := hw
      refine th_iald hx hb hK hR ha dX8_allAt_24 ?_
      refine lv_iadd hx hb dX8_allAt_25 ?_
      obtain ⟨x2_1, hx2_1⟩ : ∃ y : Int32, y = x2 + (a_mi G (a_mr G a0 0) ((406 + (3 * x3)) + x1).toNatClampNeg) := ⟨_, rfl⟩
      replace hw := hw x2_1 hx2_1
      refine th_nmi hx2_1 ?_
      refine th_istore_n hx hb dX8_allAt_26 rfl hL (by decide) rfl (fun ls hL => ?_)
      obtain ⟨x3_2, hx3_2⟩ : ∃ y : Int32, y = x3 + 1 := ⟨_, rfl⟩
      replace hw := hw x3_2 hx3_2
      refine th_iinc hx hb dX8_allAt_27 hL (k := 3) rfl (v := x3_2) hx3_2.symm (by decide) rfl (fun ls hL => ?_)
      refine lv_goto hx hb dX8_allAt_30 (tgt := 4) (by decide) ?_
      exact ih hR hS (hL.sub [2, 3, 1, 0] rfl) hw ⟨by omega, by omega⟩
theorem tk_X8_allAt {l : Launch} {D : tD} {B : Nat} {Q : Int32 → aH → Prop} {a0 : Nat} {x1 : Int32} : Met l yX8_allAt (ws_ yX8_allAt cX8_allAt 4 ((Option.some Jvm.ClassFile.FieldType.int))) rm_X8_allAt (th_P D B [rv a0, .int x1] (fun G => tw_X8_allAt Q G a0 x1)) (th_Qi D B Q) 0 0 (th_A B) :=
  th_ofW (by decide +kernel) (th_cr (th_ci th_cn)) (Nat.le_of_ble_eq_true rfl) (fun p e s m args below meth c CF hret hlk hnm hK hSt G ls hR hS hw hL => by
    have E : th_E p m c cX8_allAt 4 s args RX8 meth ((Option.some Jvm.ClassFile.FieldType.int)) "allAt" D B := ⟨CF, hret, hlk, hnm, hK, hSt⟩
    have hx := CF.1; have hb := CF.2.1
    have hL : th_L ls 4 [(0, rv a0), (1, .int x1)] := hL
    unfold tw_X8_allAt at hw
    refine lv_iconst hx hb dX8_allAt_0 (v := 0) rfl ?_
    refine th_istore_n hx hb dX8_allAt_1 rfl hL (by decide) rfl (fun ls hL => ?_)
    refine lv_iconst hx hb dX8_allAt_2 (v := 0) rfl ?_
    refine th_istore_n hx hb dX8_allAt_3 rfl hL (by decide) rfl (fun ls hL => ?_)
    obtain ⟨n9, hw⟩ := hw
    exact tk_X8_allAt_b4 E n9 hR hS (hL.sub [2, 3, 1, 0] rfl) hw ⟨by omega, by omega⟩)
def tw_X8_bushels (Q : Int32 → aH → Prop) (G : aH) (a0 : Nat) : Prop :=
  th_o G a0 8 ∧ (
  (tw_X8_store
    (fun (r2 : Int32) (G1 : aH) =>
      th_o G1 a0 8 ∧ (
      (tw_X8_store
        (fun (r4 : Int32) (G3 : aH) =>
          th_o G3 a0 8 ∧ (
          (tw_X8_store
            (fun (r6 : Int32) (G5 : aH) =>
              Q ((r2 + r4) + r6) G5)
            G3 a0 2 2)))
        G1 a0 1 2)))
    G a0 0 2))
theorem tk_X8_bushels {l : Launch} {D : tD} {B : Nat} {Q : Int32 → aH → Prop} {a0 : Nat} : Met l yX8_bushels (ws_ yX8_bushels cX8_bushels 1 ((Option.some Jvm.ClassFile.FieldType.int))) rm_X8_bushels (th_P D B [rv a0] (fun G => tw_X8_bushels Q G a0)) (th_Qi D B Q) 0 0 (th_A B) :=
  th_ofW (by decide +kernel) (th_cr th_cn) (Nat.le_of_ble_eq_true rfl) (fun p e s m args below meth c CF hret hlk hnm hK hSt G ls hR hS hw hL => by
    have E : th_E p m c cX8_bushels 1 s args RX8 meth ((Option.some Jvm.ClassFile.FieldType.int)) "bushels" D B := ⟨CF, hret, hlk, hnm, hK, hSt⟩
    have hx := CF.1; have hb := CF.2.1
    have hL : th_L ls 1 [(0, rv a0)] := hL
    unfold tw_X8_bushels at hw
    refine th_aload_n hx hb dX8_bushels_0 rfl (lv_at hL.1 0 rfl) ?_
    refine lv_iconst hx hb dX8_bushels_1 (v := 0) rfl ?_
    refine lv_iconst hx hb dX8_bushels_2 (v := 2) rfl ?_
    obtain ⟨ho, hw⟩ := hw
    refine th_ki hS (th_rV CF hK hSt hR hS ho (ci := 8) rfl (rest := []) (tk_X8_store) (cw_X8_178 CF hK (by decide +kernel)) hw rfl hL.1.1 rfl th_cn (Nat.le_of_ble_eq_true rfl) dX8_bushels_3 ⟨by show _ ≤ (0 : Nat); omega, by show _ ≤ (0 : Nat); omega⟩) (fun r2 G1 H locs hw hR hS => ?_)
    refine th_aload_n hx hb dX8_bushels_6 rfl (lv_at hL.1 0 rfl) ?_
    refine lv_iconst hx hb dX8_bushels_7 (v := 1) rfl ?_
    refine lv_iconst hx hb dX8_bushels_8 (v := 2) rfl ?_
    obtain ⟨ho, hw⟩ := hw
    refine th_ki hS (th_rV CF hK hSt hR hS ho (ci := 8) rfl (rest := [.int r2]) (tk_X8_store) (cw_X8_178 CF hK (by decide +kernel)) hw rfl hL.1.1 rfl (th_ci th_cn) (Nat.le_of_ble_eq_true rfl) dX8_bushels_9 ⟨by show _ ≤ (0 : Nat); omega, by show _ ≤ (0 : Nat); omega⟩) (fun r4 G3 H locs hw hR hS => ?_)
    refine lv_iadd hx hb dX8_bushels_12 ?_
    refine th_aload_n hx hb dX8_bushels_13 rfl (lv_at hL.1 0 rfl) ?_
    refine lv_iconst hx hb dX8_bushels_14 (v := 2) rfl ?_
    refine lv_iconst hx hb dX8_bushels_15 (v := 2) rfl ?_
    obtain ⟨ho, hw⟩ := hw
    refine th_ki hS (th_rV CF hK hSt hR hS ho (ci := 8) rfl (rest := [.int (r2 + r4)]) (tk_X8_store) (cw_X8_178 CF hK (by decide +kernel)) hw rfl hL.1.1 rfl (th_ci th_cn) (Nat.le_of_ble_eq_true rfl) dX8_bushels_16 ⟨by show _ ≤ (0 : Nat); omega, by show _ ≤ (0 : Nat); omega⟩) (fun r6 G5 H locs hw hR hS => ?_)
    refine lv_iadd hx hb dX8_bushels_19 ?_
    exact th_iret hx hb hret hlk hR hS hw (by omega) (by omega) dX8_bushels_20)
def tw_X8_account (Q : Int32 → aH → Prop) (G : aH) (a0 : Nat) (x1 : Int32) : Prop :=
  (x1 = 0 →
    th_o G a0 8 ∧ (
    th_ai G (a_mr G a0 0) 0 0 ∧ (
    Q (a_mi G (a_mr G a0 0) (0 : Int32).toNatClampNeg) G))) ∧
  (x1 = 1 →
    th_o G a0 8 ∧ (
    th_ai G (a_mr G a0 0) 0 428 ∧ (
    Q (a_mi G (a_mr G a0 0) (428 : Int32).toNatClampNeg) G))) ∧
  (x1 = 2 →
    th_o G a0 8 ∧ (
    th_ai G (a_mr G a0 0) 0 429 ∧ (
    Q (a_mi G (a_mr G a0 0) (429 : Int32).toNatClampNeg) G))) ∧
  (x1 = 3 →
    th_o G a0 8 ∧ (
    (tw_X8_total
      (fun (r2 : Int32) (G1 : aH) =>
        Q r2 G1)
      G a0 4))) ∧
  (x1 = 4 →
    th_o G a0 8 ∧ (
    (tw_X8_total
      (fun (r4 : Int32) (G3 : aH) =>
        Q r4 G3)
      G a0 2))) ∧
  (x1 = 5 →
    th_o G a0 8 ∧ (
    (tw_X8_allInBays
      (fun (r6 : Int32) (G5 : aH) =>
        Q r6 G5)
      G a0))) ∧
  (x1 = 6 →
    th_o G a0 8 ∧ (
    (tw_X8_onFloors
      (fun (r8 : Int32) (G7 : aH) =>
        Q r8 G7)
      G a0))) ∧
  (x1 = 7 →
    th_o G a0 8 ∧ (
    (tw_X8_sum
      (fun (r10 : Int32) (G9 : aH) =>
        Q r10 G9)
      G a0 3))) ∧
  (x1 = 8 →
    th_o G a0 8 ∧ (
    (tw_X8_allAt
      (fun (r12 : Int32) (G11 : aH) =>
        Q r12 G11)
      G a0 1))) ∧
  (x1 = 9 →
    th_o G a0 8 ∧ (
    (tw_X8_allAt
      (fun (r14 : Int32) (G13 : aH) =>
        Q r14 G13)
      G a0 0))) ∧
  (x1 = 10 →
    th_o G a0 8 ∧ (
    th_ai G (a_mr G a0 0) 0 427 ∧ (
    Q ((a_mi G (a_mr G a0 0) (427 : Int32).toNatClampNeg) + 1) G))) ∧
  (x1 = 11 →
    th_o G a0 8 ∧ (
    (tw_X8_bushels
      (fun (r16 : Int32) (G15 : aH) =>
        Q r16 G15)
      G a0))) ∧
  (x1 = 12 →
    th_o G a0 8 ∧ (
    Q (a_mi G a0 11) G)) ∧
  (x1 = 13 →
    th_o G a0 8 ∧ (
    Q (a_mi G a0 6) G)) ∧
  (¬ x1 = 0 → ¬ x1 = 1 → ¬ x1 = 2 → ¬ x1 = 3 → ¬ x1 = 4 → ¬ x1 = 5 → ¬ x1 = 6 → ¬ x1 = 7 → ¬ x1 = 8 → ¬ x1 = 9 → ¬ x1 = 10 → ¬ x1 = 11 → ¬ x1 = 12 → ¬ x1 = 13 → 
    Q (-2) G)
theorem tk_X8_account {l : Launch} {D : tD} {B : Nat} {Q : Int32 → aH → Prop} {a0 : Nat} {x1 : Int32} : Met l yX8_account (ws_ yX8_account cX8_account 2 ((Option.some Jvm.ClassFile.FieldType.int))) rm_X8_account (th_P D B [rv a0, .int x1] (fun G => tw_X8_account Q G a0 x1)) (th_Qi D B Q) 0 0 (th_A B) :=
  th_ofW (by decide +kernel) (th_cr (th_ci th_cn)) (Nat.le_of_ble_eq_true rfl) (fun p e s m args below meth c CF hret hlk hnm hK hSt G ls hR hS hw hL => by
    have E : th_E p m c cX8_account 2 s args RX8 meth ((Option.some Jvm.ClassFile.FieldType.int)) "account" D B := ⟨CF, hret, hlk, hnm, hK, hSt⟩
    have hx := CF.1; have hb := CF.2.1
    have hL : th_L ls 2 [(0, rv a0), (1, .int x1)] := hL
    unfold tw_X8_account at hw
    refine lv_iload_n hx hb dX8_account_0 rfl (lv_at hL.1 1 rfl) ?_
    by_cases g0 : x1 = 0
    · replace hw := hw.1 g0
      refine lv_tableIn hx hb dX8_account_1 (tgt := 72) (by rw [g0]; decide) (by rw [g0]; decide) (by rw [g0]; rfl) (by decide) ?_
      refine th_aload_n hx hb dX8_account_72 rfl (lv_at hL.1 0 rfl) ?_
      obtain ⟨ho, hw⟩ := hw
      refine fg_X8_9 CF hK hR ho dX8_account_73 ?_
      refine lv_iconst hx hb dX8_account_76 (v := 0) rfl ?_
      obtain ⟨ha, hw⟩ := hw
      refine th_iald hx hb hK hR ha dX8_account_77 ?_
      exact th_iret hx hb hret hlk hR hS hw (by omega) (by omega) dX8_account_78
    by_cases g1 : x1 = 1
    · replace hw := hw.2.1 g1
      refine lv_tableIn hx hb dX8_account_1 (tgt := 79) (by rw [g1]; decide) (by rw [g1]; decide) (by rw [g1]; rfl) (by decide) ?_
      refine th_aload_n hx hb dX8_account_79 rfl (lv_at hL.1 0 rfl) ?_
      obtain ⟨ho, hw⟩ := hw
      refine fg_X8_9 CF hK hR ho dX8_account_80 ?_
      refine lv_sipush hx hb dX8_account_83 (v := 428) rfl ?_
      obtain ⟨ha, hw⟩ := hw
      refine th_iald hx hb hK hR ha dX8_account_86 ?_
      exact th_iret hx hb hret hlk hR hS hw (by omega) (by omega) dX8_account_87
    by_cases g2 : x1 = 2
    · replace hw := hw.2.2.1 g2
      refine lv_tableIn hx hb dX8_account_1 (tgt := 88) (by rw [g2]; decide) (by rw [g2]; decide) (by rw [g2]; rfl) (by decide) ?_
      refine th_aload_n hx hb dX8_account_88 rfl (lv_at hL.1 0 rfl) ?_
      obtain ⟨ho, hw⟩ := hw
      refine fg_X8_9 CF hK hR ho dX8_account_89 ?_
      refine lv_sipush hx hb dX8_account_92 (v := 429) rfl ?_
      obtain ⟨ha, hw⟩ := hw
      refine th_iald hx hb hK hR ha dX8_account_95 ?_
      exact th_iret hx hb hret hlk hR hS hw (by omega) (by omega) dX8_account_96
    by_cases g3 : x1 = 3
    · replace hw := hw.2.2.2.1 g3
      refine lv_tableIn hx hb dX8_account_1 (tgt := 97) (by rw [g3]; decide) (by rw [g3]; decide) (by rw [g3]; rfl) (by decide) ?_
      refine th_aload_n hx hb dX8_account_97 rfl (lv_at hL.1 0 rfl) ?_
      refine lv_iconst hx hb dX8_account_98 (v := 4) rfl ?_
      obtain ⟨ho, hw⟩ := hw
      refine th_ki hS (th_rV CF hK hSt hR hS ho (ci := 8) rfl (rest := []) (tk_X8_total) (cw_X8_245 CF hK (by decide +kernel)) hw rfl hL.1.1 rfl th_cn (Nat.le_of_ble_eq_true rfl) dX8_account_99 ⟨by show _ ≤ (0 : Nat); omega, by show _ ≤ (0 : Nat); omega⟩) (fun r2 G1 H locs hw hR hS => ?_)
      exact th_iret hx hb hret hlk hR hS hw (by omega) (by omega) dX8_account_102
    by_cases g4 : x1 = 4
    · replace hw := hw.2.2.2.2.1 g4
      refine lv_tableIn hx hb dX8_account_1 (tgt := 103) (by rw [g4]; decide) (by rw [g4]; decide) (by rw [g4]; rfl) (by decide) ?_
      refine th_aload_n hx hb dX8_account_103 rfl (lv_at hL.1 0 rfl) ?_
      refine lv_iconst hx hb dX8_account_104 (v := 2) rfl ?_
      obtain ⟨ho, hw⟩ := hw
      refine th_ki hS (th_rV CF hK hSt hR hS ho (ci := 8) rfl (rest := []) (tk_X8_total) (cw_X8_245 CF hK (by decide +kernel)) hw rfl hL.1.1 rfl th_cn (Nat.le_of_ble_eq_true rfl) dX8_account_105 ⟨by show _ ≤ (0 : Nat); omega, by show _ ≤ (0 : Nat); omega⟩) (fun r4 G3 H locs hw hR hS => ?_)
      exact th_iret hx hb hret hlk hR hS hw (by omega) (by omega) dX8_account_108
    by_cases g5 : x1 = 5
    · replace hw := hw.2.2.2.2.2.1 g5
      refine lv_tableIn hx hb dX8_account_1 (tgt := 109) (by rw [g5]; decide) (by rw [g5]; decide) (by rw [g5]; rfl) (by decide) ?_
      refine th_aload_n hx hb dX8_account_109 rfl (lv_at hL.1 0 rfl) ?_
      obtain ⟨ho, hw⟩ := hw
      refine th_ki hS (th_rV CF hK hSt hR hS ho (ci := 8) rfl (rest := []) (tk_X8_allInBays) (cw_X8_301 CF hK (by decide +kernel)) hw rfl hL.1.1 rfl th_cn (Nat.le_of_ble_eq_true rfl) dX8_account_110 ⟨by show _ ≤ (0 : Nat); omega, by show _ ≤ (0 : Nat); omega⟩) (fun r6 G5 H locs hw hR hS => ?_)
      exact th_iret hx hb hret hlk hR hS hw (by omega) (by omega) dX8_account_113
    by_cases g6 : x1 = 6
    · replace hw := hw.2.2.2.2.2.2.1 g6
      refine lv_tableIn hx hb dX8_account_1 (tgt := 114) (by rw [g6]; decide) (by rw [g6]; decide) (by rw [g6]; rfl) (by decide) ?_
      refine th_aload_n hx hb dX8_account_114 rfl (lv_at hL.1 0 rfl) ?_
      obtain ⟨ho, hw⟩ := hw
      refine th_ki hS (th_rV CF hK hSt hR hS ho (ci := 8) rfl (rest := []) (tk_X8_onFloors) (cw_X8_304 CF hK (by decide +kernel)) hw rfl hL.1.1 rfl th_cn (Nat.le_of_ble_eq_true rfl) dX8_account_115 ⟨by show _ ≤ (0 : Nat); omega, by show _ ≤ (0 : Nat); omega⟩) (fun r8 G7 H locs hw hR hS => ?_)
      exact th_iret hx hb hret hlk hR hS hw (by omega) (by omega) dX8_account_118
    by_cases g7 : x1 = 7
    · replace hw := hw.2.2.2.2.2.2.2.1 g7
      refine lv_tableIn hx hb dX8_account_1 (tgt := 119) (by rw [g7]; decide) (by rw [g7]; decide) (by rw [g7]; rfl) (by decide) ?_
      refine th_aload_n hx hb dX8_account_119 rfl (lv_at hL.1 0 rfl) ?_
      refine lv_iconst hx hb dX8_account_120 (v := 3) rfl ?_
      obtain ⟨ho, hw⟩ := hw
      refine th_ki hS (th_rV CF hK hSt hR hS ho (ci := 8) rfl (rest := []) (tk_X8_sum) (cw_X8_242 CF hK (by decide +kernel)) hw rfl hL.1.1 rfl th_cn (Nat.le_of_ble_eq_true rfl) dX8_account_121 ⟨by show _ ≤ (0 : Nat); omega, by show _ ≤ (0 : Nat); omega⟩) (fun r10 G9 H locs hw hR hS => ?_)
      exact th_iret hx hb hret hlk hR hS hw (by omega) (by omega) dX8_account_124
    by_cases g8 : x1 = 8
    · replace hw := hw.2.2.2.2.2.2.2.2.1 g8
      refine lv_tableIn hx hb dX8_account_1 (tgt := 125) (by rw [g8]; decide) (by rw [g8]; decide) (by rw [g8]; rfl) (by decide) ?_
      refine th_aload_n hx hb dX8_account_125 rfl (lv_at hL.1 0 rfl) ?_
      refine lv_iconst hx hb dX8_account_126 (v := 1) rfl ?_
      obtain ⟨ho, hw⟩ := hw
      refine th_ki hS (th_rV CF hK hSt hR hS ho (ci := 8) rfl (rest := []) (tk_X8_allAt) (cw_X8_248 CF hK (by decide +kernel)) hw rfl hL.1.1 rfl th_cn (Nat.le_of_ble_eq_true rfl) dX8_account_127 ⟨by show _ ≤ (0 : Nat); omega, by show _ ≤ (0 : Nat); omega⟩) (fun r12 G11 H locs hw hR hS => ?_)
      exact th_iret hx hb hret hlk hR hS hw (by omega) (by omega) dX8_account_130
    by_cases g9 : x1 = 9
    · replace hw := hw.2.2.2.2.2.2.2.2.2.1 g9
      refine lv_tableIn hx hb dX8_account_1 (tgt := 131) (by rw [g9]; decide) (by rw [g9]; decide) (by rw [g9]; rfl) (by decide) ?_
      refine th_aload_n hx hb dX8_account_131 rfl (lv_at hL.1 0 rfl) ?_
      refine lv_iconst hx hb dX8_account_132 (v := 0) rfl ?_
      obtain ⟨ho, hw⟩ := hw
      refine th_ki hS (th_rV CF hK hSt hR hS ho (ci := 8) rfl (rest := []) (tk_X8_allAt) (cw_X8_248 CF hK (by decide +kernel)) hw rfl hL.1.1 rfl th_cn (Nat.le_of_ble_eq_true rfl) dX8_account_133 ⟨by show _ ≤ (0 : Nat); omega, by show _ ≤ (0 : Nat); omega⟩) (fun r14 G13 H locs hw hR hS => ?_)
      exact th_iret hx hb hret hlk hR hS hw (by omega) (by omega) dX8_account_136
    by_cases g10 : x1 = 10
    · replace hw := hw.2.2.2.2.2.2.2.2.2.2.1 g10
      refine lv_tableIn hx hb dX8_account_1 (tgt := 137) (by rw [g10]; decide) (by rw [g10]; decide) (by rw [g10]; rfl) (by decide) ?_
      refine th_aload_n hx hb dX8_account_137 rfl (lv_at hL.1 0 rfl) ?_
      obtain ⟨ho, hw⟩ := hw
      refine fg_X8_9 CF hK hR ho dX8_account_138 ?_
      refine lv_sipush hx hb dX8_account_141 (v := 427) rfl ?_
      obtain ⟨ha, hw⟩ := hw
      refine th_iald hx hb hK hR ha dX8_account_144 ?_
      refine lv_iconst hx hb dX8_account_145 (v := 1) rfl ?_
      refine lv_iadd hx hb dX8_account_146 ?_
      exact th_iret hx hb hret hlk hR hS hw (by omega) (by omega) dX8_account_147
    by_cases g11 : x1 = 11
    · replace hw := hw.2.2.2.2.2.2.2.2.2.2.2.1 g11
      refine lv_tableIn hx hb dX8_account_1 (tgt := 148) (by rw [g11]; decide) (by rw [g11]; decide) (by rw [g11]; rfl) (by decide) ?_
      refine th_aload_n hx hb dX8_account_148 rfl (lv_at hL.1 0 rfl) ?_
      obtain ⟨ho, hw⟩ := hw
      refine th_ki hS (th_rV CF hK hSt hR hS ho (ci := 8) rfl (rest := []) (tk_X8_bushels) (cw_X8_307 CF hK (by decide +kernel)) hw rfl hL.1.1 rfl th_cn (Nat.le_of_ble_eq_true rfl) dX8_account_149 ⟨by show _ ≤ (0 : Nat); omega, by show _ ≤ (0 : Nat); omega⟩) (fun r16 G15 H locs hw hR hS => ?_)
      exact th_iret hx hb hret hlk hR hS hw (by omega) (by omega) dX8_account_152
    by_cases g12 : x1 = 12
    · replace hw := hw.2.2.2.2.2.2.2.2.2.2.2.2.1 g12
      refine lv_tableIn hx hb dX8_account_1 (tgt := 153) (by rw [g12]; decide) (by rw [g12]; decide) (by rw [g12]; rfl) (by decide) ?_
      refine th_aload_n hx hb dX8_account_153 rfl (lv_at hL.1 0 rfl) ?_
      obtain ⟨ho, hw⟩ := hw
      refine fg_X8_60 CF hK hR ho dX8_account_154 ?_
      exact th_iret hx hb hret hlk hR hS hw (by omega) (by omega) dX8_account_157
    by_cases g13 : x1 = 13
    · replace hw := hw.2.2.2.2.2.2.2.2.2.2.2.2.2.1 g13
      refine lv_tableIn hx hb dX8_account_1 (tgt := 158) (by rw [g13]; decide) (by rw [g13]; decide) (by rw [g13]; rfl) (by decide) ?_
      refine th_aload_n hx hb dX8_account_158 rfl (lv_at hL.1 0 rfl) ?_
      obtain ⟨ho, hw⟩ := hw
      refine fg_X8_53 CF hK hR ho dX8_account_159 ?_
      exact th_iret hx hb hret hlk hR hS hw (by omega) (by omega) dX8_account_162
    replace hw := hw.2.2.2.2.2.2.2.2.2.2.2.2.2.2 g0 g1 g2 g3 g4 g5 g6 g7 g8 g9 g10 g11 g12 g13
    have w0 := th_sw g0 (k := 0) (by decide)
    have w1 := th_sw g1 (k := 1) (by decide)
    have w2 := th_sw g2 (k := 2) (by decide)
    have w3 := th_sw g3 (k := 3) (by decide)
    have w4 := th_sw g4 (k := 4) (by decide)
    have w5 := th_sw g5 (k := 5) (by decide)
    have w6 := th_sw g6 (k := 6) (by decide)
    have w7 := th_sw g7 (k := 7) (by decide)
    have w8 := th_sw g8 (k := 8) (by decide)
    have w9 := th_sw g9 (k := 9) (by decide)
    have w10 := th_sw g10 (k := 10) (by decide)
    have w11 := th_sw g11 (k := 11) (by decide)
    have w12 := th_sw g12 (k := 12) (by decide)
    have w13 := th_sw g13 (k := 13) (by decide)
    refine lv_tableOut hx hb dX8_account_1 (tgt := 163) (by omega) (by decide) ?_
    refine lv_bipush hx hb dX8_account_163 (v := (-2)) rfl ?_
    exact th_iret hx hb hret hlk hR hS hw (by omega) (by omega) dX8_account_165)
def tw_X8_isIn (Q : Int32 → aH → Prop) (G : aH) (x0 : Int32) (x1 : Int32) (x2 : Int32) : Prop :=
  (x0 < x1 →
    Q 0 G) ∧
  (¬ x0 < x1 →
    (x2 < x0 →
      Q 0 G) ∧
    (¬ x2 < x0 →
      Q 1 G))
theorem tk_X8_isIn {l : Launch} {D : tD} {B : Nat} {Q : Int32 → aH → Prop} {x0 : Int32} {x1 : Int32} {x2 : Int32} : Met l yX8_isIn (ws_ yX8_isIn cX8_isIn 3 ((Option.some Jvm.ClassFile.FieldType.boolean))) rm_X8_isIn (th_P D B [.int x0, .int x1, .int x2] (fun G => tw_X8_isIn Q G x0 x1 x2)) (th_Qi D B Q) 0 0 (th_A B) :=
  th_ofW (by decide +kernel) (th_ci (th_ci (th_ci th_cn))) (Nat.le_of_ble_eq_true rfl) (fun p e s m args below meth c CF hret hlk hnm hK hSt G ls hR hS hw hL => by
    have E : th_E p m c cX8_isIn 3 s args RX8 meth ((Option.some Jvm.ClassFile.FieldType.boolean)) "isIn" D B := ⟨CF, hret, hlk, hnm, hK, hSt⟩
    have hx := CF.1; have hb := CF.2.1
    have hL : th_L ls 3 [(0, .int x0), (1, .int x1), (2, .int x2)] := hL
    unfold tw_X8_isIn at hw
    refine lv_iload_n hx hb dX8_isIn_0 rfl (lv_at hL.1 0 rfl) ?_
    refine lv_iload_n hx hb dX8_isIn_1 rfl (lv_at hL.1 1 rfl) ?_
    refine lv_icmp_lt hx hb dX8_isIn_2 (tgt := 14) (by decide) (fun h => ?_) (fun h => ?_)
    · replace hw := hw.1 h
      refine lv_iconst hx hb dX8_isIn_14 (v := 0) rfl ?_
      exact th_zret .boolean hx hb hret rfl hlk hR hS hw (by omega) (by omega) dX8_isIn_15
    · replace hw := hw.2 h
      refine lv_iload_n hx hb dX8_isIn_5 rfl (lv_at hL.1 0 rfl) ?_
      refine lv_iload_n hx hb dX8_isIn_6 rfl (lv_at hL.1 2 rfl) ?_
      refine lv_icmp_gt hx hb dX8_isIn_7 (tgt := 14) (by decide) (fun h => ?_) (fun h => ?_)
      · replace hw := hw.1 h
        refine lv_iconst hx hb dX8_isIn_14 (v := 0) rfl ?_
        exact th_zret .boolean hx hb hret rfl hlk hR hS hw (by omega) (by omega) dX8_isIn_15
      · replace hw := hw.2 h
        refine lv_iconst hx hb dX8_isIn_10 (v := 1) rfl ?_
        refine lv_goto hx hb dX8_isIn_11 (tgt := 15) (by decide) ?_
        exact th_zret .boolean hx hb hret rfl hlk hR hS hw (by omega) (by omega) dX8_isIn_15)
def tw_X8_append (Q : Int32 → aH → Prop) (G : aH) (a0 : Nat) (x1 : Int32) : Prop :=
  (tw_X8_isIn
    (fun (r2 : Int32) (G1 : aH) =>
      (r2 = 0 →
        Q (-2) G1) ∧
      (¬ r2 = 0 →
        th_o G1 a0 8 ∧ (
        (¬ a_mi G1 a0 11 = 60 →
          th_o G1 a0 8 ∧ (
          th_o G1 a0 8 ∧ (
          th_ai G1 (a_mr G1 a0 10) 0 (a_mi G1 a0 11) ∧ (
          ∀ G3 : aH, G3 = a_si G1 (a_mr G1 a0 10) (a_mi G1 a0 11).toNatClampNeg x1 → 
          th_o G3 a0 8 ∧ (
          th_o G3 a0 8 ∧ (
          ∀ G4 : aH, G4 = a_si G3 a0 11 ((a_mi G3 a0 11) + 1) → 
          th_o G4 a0 8 ∧ (
          Q (a_mi G4 a0 11) G4))))))) ∧
        (a_mi G1 a0 11 = 60 →
          Q (-2) G1))))
    G x1 32 126)
theorem tk_X8_append {l : Launch} {D : tD} {B : Nat} {Q : Int32 → aH → Prop} {a0 : Nat} {x1 : Int32} : Met l yX8_append (ws_ yX8_append cX8_append 2 ((Option.some Jvm.ClassFile.FieldType.int))) rm_X8_append (th_P D B [rv a0, .int x1] (fun G => tw_X8_append Q G a0 x1)) (th_Qi D B Q) 0 0 (th_A B) :=
  th_ofW (by decide +kernel) (th_cr (th_ci th_cn)) (Nat.le_of_ble_eq_true rfl) (fun p e s m args below meth c CF hret hlk hnm hK hSt G ls hR hS hw hL => by
    have E : th_E p m c cX8_append 2 s args RX8 meth ((Option.some Jvm.ClassFile.FieldType.int)) "append" D B := ⟨CF, hret, hlk, hnm, hK, hSt⟩
    have hx := CF.1; have hb := CF.2.1
    have hL : th_L ls 2 [(0, rv a0), (1, .int x1)] := hL
    unfold tw_X8_append at hw
    refine lv_iload_n hx hb dX8_append_0 rfl (lv_at hL.1 1 rfl) ?_
    refine lv_bipush hx hb dX8_append_1 (v := 32) rfl ?_
    refine lv_bipush hx hb dX8_append_3 (v := 126) rfl ?_
    refine th_ki hS (th_rS CF hK hSt hR hS (rest := []) (tk_X8_isIn) (cw_X8_56 CF hK (by decide +kernel)) hw rfl hL.1.1 rfl th_cn (Nat.le_of_ble_eq_true rfl) dX8_append_5 ⟨by show _ ≤ (0 : Nat); omega, by show _ ≤ (0 : Nat); omega⟩) (fun r2 G1 H locs hw hR hS => ?_)
    refine lv_if_eq hx hb dX8_append_8 (tgt := 20) (by decide) (fun h => ?_) (fun h => ?_)
    · replace hw := hw.1 h
      refine lv_bipush hx hb dX8_append_20 (v := (-2)) rfl ?_
      exact th_iret hx hb hret hlk hR hS hw (by omega) (by omega) dX8_append_22
    · replace hw := hw.2 h
      refine th_aload_n hx hb dX8_append_11 rfl (lv_at hL.1 0 rfl) ?_
      obtain ⟨ho, hw⟩ := hw
      refine fg_X8_60 CF hK hR ho dX8_append_12 ?_
      refine lv_bipush hx hb dX8_append_15 (v := 60) rfl ?_
      refine lv_icmp_ne hx hb dX8_append_17 (tgt := 23) (by decide) (fun h => ?_) (fun h => ?_)
      · replace hw := hw.1 h
        refine th_aload_n hx hb dX8_append_23 rfl (lv_at hL.1 0 rfl) ?_
        obtain ⟨ho, hw⟩ := hw
        refine fg_X8_31 CF hK hR ho dX8_append_24 ?_
        refine th_aload_n hx hb dX8_append_27 rfl (lv_at hL.1 0 rfl) ?_
        obtain ⟨ho, hw⟩ := hw
        refine fg_X8_60 CF hK hR ho dX8_append_28 ?_
        refine lv_iload_n hx hb dX8_append_31 rfl (lv_at hL.1 1 rfl) ?_
        obtain ⟨ha, hw⟩ := hw
        refine th_iast hx hb hK hR hS ha dX8_append_32 (fun G3 H locs hG hR hS => ?_)
        replace hw := hw G3 hG
        refine th_aload_n hx hb dX8_append_33 rfl (lv_at hL.1 0 rfl) ?_
        refine lv_dup hx hb dX8_append_34 (rv_cat _) ?_
        obtain ⟨ho, hw⟩ := hw
        refine fg_X8_60 CF hK hR ho dX8_append_35 ?_
        refine lv_iconst hx hb dX8_append_38 (v := 1) rfl ?_
        refine lv_iadd hx hb dX8_append_39 ?_
        obtain ⟨ho, hw⟩ := hw
        refine fp_X8_60 CF hK hR hS ho dX8_append_40 (fun G4 H locs hG hR hS => ?_)
        replace hw := hw G4 hG
        refine th_aload_n hx hb dX8_append_43 rfl (lv_at hL.1 0 rfl) ?_
        obtain ⟨ho, hw⟩ := hw
        refine fg_X8_60 CF hK hR ho dX8_append_44 ?_
        exact th_iret hx hb hret hlk hR hS hw (by omega) (by omega) dX8_append_47
      · replace hw := hw.2 h
        refine lv_bipush hx hb dX8_append_20 (v := (-2)) rfl ?_
        exact th_iret hx hb hret hlk hR hS hw (by omega) (by omega) dX8_append_22)
def tw_X8_isBay (Q : Int32 → aH → Prop) (G : aH) (x0 : Int32) : Prop :=
  (tw_X8_isIn
    (fun (r2 : Int32) (G1 : aH) =>
      narrow .boolean (.int r2) = .int r2 ∧ Q r2 G1)
    G x0 0 3)
theorem tk_X8_isBay {l : Launch} {D : tD} {B : Nat} {Q : Int32 → aH → Prop} {x0 : Int32} : Met l yX8_isBay (ws_ yX8_isBay cX8_isBay 1 ((Option.some Jvm.ClassFile.FieldType.boolean))) rm_X8_isBay (th_P D B [.int x0] (fun G => tw_X8_isBay Q G x0)) (th_Qi D B Q) 0 0 (th_A B) :=
  th_ofW (by decide +kernel) (th_ci th_cn) (Nat.le_of_ble_eq_true rfl) (fun p e s m args below meth c CF hret hlk hnm hK hSt G ls hR hS hw hL => by
    have E : th_E p m c cX8_isBay 1 s args RX8 meth ((Option.some Jvm.ClassFile.FieldType.boolean)) "isBay" D B := ⟨CF, hret, hlk, hnm, hK, hSt⟩
    have hx := CF.1; have hb := CF.2.1
    have hL : th_L ls 1 [(0, .int x0)] := hL
    unfold tw_X8_isBay at hw
    refine lv_iload_n hx hb dX8_isBay_0 rfl (lv_at hL.1 0 rfl) ?_
    refine lv_iconst hx hb dX8_isBay_1 (v := 0) rfl ?_
    refine lv_iconst hx hb dX8_isBay_2 (v := 3) rfl ?_
    refine th_ki hS (th_rS CF hK hSt hR hS (rest := []) (tk_X8_isIn) (cw_X8_56 CF hK (by decide +kernel)) hw rfl hL.1.1 rfl th_cn (Nat.le_of_ble_eq_true rfl) dX8_isBay_3 ⟨by show _ ≤ (0 : Nat); omega, by show _ ≤ (0 : Nat); omega⟩) (fun r2 G1 H locs hw hR hS => ?_)
    exact th_zret .boolean hx hb hret hw.1 hlk hR hS hw.2 (by omega) (by omega) dX8_isBay_6)
def tw_X8_lotsOf_b40 (Q : Int32 → aH → Prop) (k4 : aH → Nat → Int32 → Int32 → Int32 → Prop) (G : aH) (a0 : Nat) (x1 : Int32) (x3 : Int32) (tx0 : Int32) (tx1 : Int32) : Prop :=
  ∀ x2_3 : Int32, x2_3 = tx1 + tx0 → 
  ∀ x3_4 : Int32, x3_4 = x3 + 1 → 
  k4 G a0 x1 x2_3 x3_4
def tw_X8_lotsOf_b35 (Q : Int32 → aH → Prop) (k4 : aH → Nat → Int32 → Int32 → Int32 → Prop) (G : aH) (a0 : Nat) (x1 : Int32) (x3 : Int32) (tx0 : Int32) : Prop :=
  tw_X8_lotsOf_b40 Q k4 G a0 x1 x3 1 tx0
def tw_X8_lotsOf_b4 (Q : Int32 → aH → Prop) : Nat → aH → Nat → Int32 → Int32 → Int32 → Prop := fun n => Nat.rec (motive := fun _ => aH → Nat → Int32 → Int32 → Int32 → Prop) (fun _ _ _ _ _ => False) (fun _ ih G a0 x1 x2 x3 =>
  th_o G a0 8 ∧ (
  (tw_X8_inBay
    (fun (r2 : Int32) (G1 : aH) =>
      (r2 ≤ x3 →
        Q x2 G1) ∧
      (¬ r2 ≤ x3 →
        (x3 = 0 →
          tw_X8_lotsOf_b35 Q (ih) G1 a0 x1 x3 x2) ∧
        (¬ x3 = 0 →
          th_o G1 a0 8 ∧ (
          (tw_X8_sheaf
            (fun (r6 : Int32) (G5 : aH) =>
              th_o G5 a0 8 ∧ (
              (tw_X8_sheaf
                (fun (r8 : Int32) (G7 : aH) =>
                  (r6 = r8 →
                    tw_X8_lotsOf_b40 Q (ih) G7 a0 x1 x3 0 x2) ∧
                  (¬ r6 = r8 →
                    tw_X8_lotsOf_b35 Q (ih) G7 a0 x1 x3 x2))
                G5 a0 x1 (x3 - 1))))
            G1 a0 x1 x3)))))
    G a0 x1))) n
theorem tws_X8_lotsOf_b4 (Q : Int32 → aH → Prop) (n : Nat) (G : aH) (a0 : Nat) (x1 : Int32) (x2 : Int32) (x3 : Int32) : tw_X8_lotsOf_b4 Q (n + 1) G a0 x1 x2 x3 = (
  th_o G a0 8 ∧ (
  (tw_X8_inBay
    (fun (r2 : Int32) (G1 : aH) =>
      (r2 ≤ x3 →
        Q x2 G1) ∧
      (¬ r2 ≤ x3 →
        (x3 = 0 →
          tw_X8_lotsOf_b35 Q (tw_X8_lotsOf_b4 Q n) G1 a0 x1 x3 x2) ∧
        (¬ x3 = 0 →
          th_o G1 a0 8 ∧ (
          (tw_X8_sheaf
            (fun (r6 : Int32) (G5 : aH) =>
              th_o G5 a0 8 ∧ (
              (tw_X8_sheaf
                (fun (r8 : Int32) (G7 : aH) =>
                  (r6 = r8 →
                    tw_X8_lotsOf_b40 Q (tw_X8_lotsOf_b4 Q n) G7 a0 x1 x3 0 x2) ∧
                  (¬ r6 = r8 →
                    tw_X8_lotsOf_b35 Q (tw_X8_lotsOf_b4 Q n) G7 a0 x1 x3 x2))
                G5 a0 x1 (x3 - 1))))
            G1 a0 x1 x3)))))
    G a0 x1))) := rfl
def tw_X8_lotsOf (Q : Int32 → aH → Prop) (G : aH) (a0 : Nat) (x1 : Int32) : Prop :=
  ∃ n9 : Nat, tw_X8_lotsOf_b4 Q n9 G a0 x1 0 0
theorem tk_X8_lotsOf_b40 {p : Program} {l : Launch} {e : Env} {s : State} {m : MethodId} {args : Array Value} {below : List Frame} {meth : Method} {c : Code} {D : tD} {B : Nat} (E : th_E p m c cX8_lotsOf 4 s args RX8 meth ((Option.some Jvm.ClassFile.FieldType.int)) "lotsOf" D B) {Q : Int32 → aH → Prop} {k4 : aH → Nat → Int32 → Int32 → Int32 → Prop} {c4 s4 : Nat} (h4 : ∀ (G : aH) (H : Heap) (locs : List Loc) (cells slots : Nat) (ls : Array Slot) (y4_0 : Nat) (y4_1 : Int32) (y4_2 : Int32) (y4_3 : Int32), k4 G y4_0 y4_1 y4_2 y4_3 → th_H D B G H → va_S (th_A B) s.heap H locs → th_L ls 4 [(0, rv y4_0), (1, .int y4_1), (2, .int y4_2), (3, .int y4_3)] → cells ≤ c4 ∧ slots ≤ s4 → W p l e rm_X8_lotsOf s m args below meth c H locs cells slots (MQ below (th_Qi D B Q) args s 0 0 (th_A B)) (F0 m 4 ls [])) {G : aH} {H : Heap} {locs : List Loc} {cells slots : Nat} {ls : Array Slot} {a0 : Nat} {x1 : Int32} {x3 : Int32} {tx0 : Int32} {tx1 : Int32} (hR : th_H D B G H) (hS : va_S (th_A B) s.heap H locs) (hL : th_L ls 4 [(0, rv a0), (1, .int x1), (3, .int x3)]) (hw : tw_X8_lotsOf_b40 Q k4 G a0 x1 x3 tx0 tx1) (hc : cells + (0) ≤ 0 ∧ slots + (0) ≤ 0 ∧ cells + (0) ≤ c4 ∧ slots + (0) ≤ s4) : W p l e rm_X8_lotsOf s m args below meth c H locs cells slots (MQ below (th_Qi D B Q) args s 0 0 (th_A B)) (F0 m 40 ls [.int tx0, .int tx1]) := by
  have CF := E.1; have hx := CF.1; have hb := CF.2.1; have hret := E.2.1; have hlk := E.2.2.1; have hnm := E.2.2.2.1; have hK := E.2.2.2.2.1; have hSt := E.2.2.2.2.2
  unfold tw_X8_lotsOf_b40 at hw
  refine lv_iadd hx hb dX8_lotsOf_40 ?_
  obtain ⟨x2_3, hx2_3⟩ : ∃ y : Int32, y = tx1 + tx0 := ⟨_, rfl⟩
  replace hw := hw x2_3 hx2_3
  refine th_nmi hx2_3 ?_
  refine th_istore_n hx hb dX8_lotsOf_41 rfl hL (by decide) rfl (fun ls hL => ?_)
  obtain ⟨x3_4, hx3_4⟩ : ∃ y : Int32, y = x3 + 1 := ⟨_, rfl⟩
  replace hw := hw x3_4 hx3_4
  refine th_iinc hx hb dX8_lotsOf_42 hL (k := 3) rfl (v := x3_4) hx3_4.symm (by decide) rfl (fun ls hL => ?_)
  refine lv_goto hx hb dX8_lotsOf_45 (tgt := 4) (by decide) ?_
  exact h4 _ _ _ _ _ _ _ _ _ _ hw hR hS (hL.sub [2, 3, 1, 0] rfl) ⟨by omega, by omega⟩
theorem tk_X8_lotsOf_b35 {p : Program} {l : Launch} {e : Env} {s : State} {m : MethodId} {args : Array Value} {below : List Frame} {meth : Method} {c : Code} {D : tD} {B : Nat} (E : th_E p m c cX8_lotsOf 4 s args RX8 meth ((Option.some Jvm.ClassFile.FieldType.int)) "lotsOf" D B) {Q : Int32 → aH → Prop} {k4 : aH → Nat → Int32 → Int32 → Int32 → Prop} {c4 s4 : Nat} (h4 : ∀ (G : aH) (H : Heap) (locs : List Loc) (cells slots : Nat) (ls : Array Slot) (y4_0 : Nat) (y4_1 : Int32) (y4_2 : Int32) (y4_3 : Int32), k4 G y4_0 y4_1 y4_2 y4_3 → th_H D B G H → va_S (th_A B) s.heap H locs → th_L ls 4 [(0, rv y4_0), (1, .int y4_1), (2, .int y4_2), (3, .int y4_3)] → cells ≤ c4 ∧ slots ≤ s4 → W p l e rm_X8_lotsOf s m args below meth c H locs cells slots (MQ below (th_Qi D B Q) args s 0 0 (th_A B)) (F0 m 4 ls [])) {G : aH} {H : Heap} {locs : List Loc} {cells slots : Nat} {ls : Array Slot} {a0 : Nat} {x1 : Int32} {x3 : Int32} {tx0 : Int32} (hR : th_H D B G H) (hS : va_S (th_A B) s.heap H locs) (hL : th_L ls 4 [(0, rv a0), (1, .int x1), (3, .int x3)]) (hw : tw_X8_lotsOf_b35 Q k4 G a0 x1 x3 tx0) (hc : cells + (0) ≤ 0 ∧ slots + (0) ≤ 0 ∧ cells + (0) ≤ c4 ∧ slots + (0) ≤ s4) : W p l e rm_X8_lotsOf s m args below meth c H locs cells slots (MQ below (th_Qi D B Q) args s 0 0 (th_A B)) (F0 m 35 ls [.int tx0]) := by
  have CF := E.1; have hx := CF.1; have hb := CF.2.1; have hret := E.2.1; have hlk := E.2.2.1; have hnm := E.2.2.2.1; have hK := E.2.2.2.2.1; have hSt := E.2.2.2.2.2
  unfold tw_X8_lotsOf_b35 at hw
  refine lv_iconst hx hb dX8_lotsOf_35 (v := 1) rfl ?_
  refine lv_goto hx hb dX8_lotsOf_36 (tgt := 40) (by decide) ?_
  exact tk_X8_lotsOf_b40 E h4 hR hS (hL.sub [0, 1, 2] rfl) hw ⟨by omega, by omega, by omega, by omega⟩
theorem tk_X8_lotsOf_b4 {p : Program} {l : Launch} {e : Env} {s : State} {m : MethodId} {args : Array Value} {below : List Frame} {meth : Method} {c : Code} {D : tD} {B : Nat} (E : th_E p m c cX8_lotsOf 4 s args RX8 meth ((Option.some Jvm.ClassFile.FieldType.int)) "lotsOf" D B) {Q : Int32 → aH → Prop} : ∀ (n : Nat) {G : aH} {H : Heap} {locs : List Loc} {cells slots : Nat} {ls : Array Slot} {a0 : Nat} {x1 : Int32} {x2 : Int32} {x3 : Int32} (hR : th_H D B G H) (hS : va_S (th_A B) s.heap H locs) (hL : th_L ls 4 [(0, rv a0), (1, .int x1), (2, .int x2), (3, .int x3)]) (hw : tw_X8_lotsOf_b4 Q n G a0 x1 x2 x3) (hc : cells + (0) ≤ 0 ∧ slots + (0) ≤ 0), W p l e rm_X8_lotsOf s m args below meth c H locs cells slots (MQ below (th_Qi D B Q) args s 0 0 (th_A B)) (F0 m 4 ls []) := by
  have CF := E.1; have hx := CF.1; have hb := CF.2.1; have hret := E.2.1; have hlk := E.2.2.1; have hnm := E.2.2.2.1; have hK := E.2.2.2.2.1; have hSt := E.2.2.2.2.2
  intro n
  induction n with
  | zero => intro _ _ _ _ _ _ _ _ _ _ _ _ _ hw; exact hw.elim
  | succ n ih =>
    intro G H locs cells slots ls a0 x1 x2 x3 hR hS hL hw hc
    rw [tws_X8_lotsOf_b4] at hw
    refine lv_iload_n hx hb dX8_lotsOf_4 rfl (lv_at hL.1 3 rfl) ?_
    refine th_aload_n hx hb dX8_lotsOf_5 rfl (lv_at hL.1 0 rfl) ?_
    refine lv_iload_n hx hb dX8_lotsOf_6 rfl (lv_at hL.1 1 rfl) ?_
    obtain ⟨ho, hw⟩ := hw
    refine th_ki hS (th_rV CF hK hSt hR hS ho (ci := 8) rfl (rest := [.int x3]) (tk_X8_inBay) (cw_X8_128 CF hK (by decide +kernel)) hw rfl hL.1.1 rfl (th_ci th_cn) (Nat.le_of_ble_eq_true rfl) dX8_lotsOf_7 ⟨by show _ ≤ (0 : Nat); omega, by show _ ≤ (0 : Nat); omega⟩) (fun r2 G1 H locs hw hR hS => ?_)
    refine lv_icmp_ge hx hb dX8_lotsOf_10 (tgt := 48) (by decide) (fun h => ?_) (fun h => ?_)
    · replace hw := hw.1 h
      refine lv_iload_n hx hb dX8_lotsOf_48 rfl (lv_at hL.1 2 rfl) ?_
      exact th_iret hx hb hret hlk hR hS hw (by omega) (by omega) dX8_lotsOf_49
    · replace hw := hw.2 h
      refine lv_iload_n hx hb dX8_lotsOf_13 rfl (lv_at hL.1 2 rfl) ?_
      refine lv_iload_n hx hb dX8_lotsOf_14 rfl (lv_at hL.1 3 rfl) ?_
      refine lv_if_eq hx hb dX8_lotsOf_15 (tgt := 35) (by decide) (fun h => ?_) (fun h => ?_)
      · replace hw := hw.1 h
        exact tk_X8_lotsOf_b35 E (c4 := cells + 0 + 0) (s4 := slots + 0 + 0) (fun G H locs cells slots ls y0 y1 y2 y3 hw hR hS hL hc => ih hR hS hL hw ⟨by omega, by omega⟩) hR hS (hL.sub [0, 1, 3] rfl) hw ⟨by omega, by omega, by omega, by omega⟩
      · replace hw := hw.2 h
        refine th_aload_n hx hb dX8_lotsOf_18 rfl (lv_at hL.1 0 rfl) ?_
        refine lv_iload_n hx hb dX8_lotsOf_19 rfl (lv_at hL.1 1 rfl) ?_
        refine lv_iload_n hx hb dX8_lotsOf_20 rfl (lv_at hL.1 3 rfl) ?_
        obtain ⟨ho, hw⟩ := hw
        refine th_ki hS (th_rV CF hK hSt hR hS ho (ci := 8) rfl (rest := [.int x2]) (tk_X8_sheaf) (cw_X8_119 CF hK (by decide +kernel)) hw rfl hL.1.1 rfl (th_ci th_cn) (Nat.le_of_ble_eq_true rfl) dX8_lotsOf_21 ⟨by show _ ≤ (0 : Nat); omega, by show _ ≤ (0 : Nat); omega⟩) (fun r6 G5 H locs hw hR hS => ?_)
        refine th_aload_n hx hb dX8_lotsOf_24 rfl (lv_at hL.1 0 rfl) ?_
        refine lv_iload_n hx hb dX8_lotsOf_25 rfl (lv_at hL.1 1 rfl) ?_
        refine lv_iload_n hx hb dX8_lotsOf_26 rfl (lv_at hL.1 3 rfl) ?_
        refine lv_iconst hx hb dX8_lotsOf_27 (v := 1) rfl ?_
        refine lv_isub hx hb dX8_lotsOf_28 ?_
        obtain ⟨ho, hw⟩ := hw
        refine th_ki hS (th_rV CF hK hSt hR hS ho (ci := 8) rfl (rest := [.int r6, .int x2]) (tk_X8_sheaf) (cw_X8_119 CF hK (by decide +kernel)) hw rfl hL.1.1 rfl (th_ci (th_ci th_cn)) (Nat.le_of_ble_eq_true rfl) dX8_lotsOf_29 ⟨by show _ ≤ (0 : Nat); omega, by show _ ≤ (0 : Nat); omega⟩) (fun r8 G7 H locs hw hR hS => ?_)
        refine lv_icmp_eq hx hb dX8_lotsOf_32 (tgt := 39) (by decide) (fun h => ?_) (fun h => ?_)
        · replace hw := hw.1 h
          refine lv_iconst hx hb dX8_lotsOf_39 (v := 0) rfl ?_
          exact tk_X8_lotsOf_b40 E (c4 := cells + 0 + 0 + 0 + 0) (s4 := slots + 0 + 0 + 0 + 0) (fun G H locs cells slots ls y0 y1 y2 y3 hw hR hS hL hc => ih hR hS hL hw ⟨by omega, by omega⟩) hR hS (hL.sub [0, 1, 3] rfl) hw ⟨by omega, by omega, by omega, by omega⟩
        · replace hw := hw.2 h
          exact tk_X8_lotsOf_b35 E (c4 := cells + 0 + 0 + 0 + 0) (s4 := slots + 0 + 0 + 0 + 0) (fun G H locs cells slots ls y0 y1 y2 y3 hw hR hS hL hc => ih hR hS hL hw ⟨by omega, by omega⟩) hR hS (hL.sub [0, 1, 3] rfl) hw ⟨by omega, by omega, by omega, by omega⟩
theorem tk_X8_lotsOf {l : Launch} {D : tD} {B : Nat} {Q : Int32 → aH → Prop} {a0 : Nat} {x1 : Int32} : Met l yX8_lotsOf (ws_ yX8_lotsOf cX8_lotsOf 4 ((Option.some Jvm.ClassFile.FieldType.int))) rm_X8_lotsOf (th_P D B [rv a0, .int x1] (fun G => tw_X8_lotsOf Q G a0 x1)) (th_Qi D B Q) 0 0 (th_A B) :=
  th_ofW (by decide +kernel) (th_cr (th_ci th_cn)) (Nat.le_of_ble_eq_true rfl) (fun p e s m args below meth c CF hret hlk hnm hK hSt G ls hR hS hw hL => by
    have E : th_E p m c cX8_lotsOf 4 s args RX8 meth ((Option.some Jvm.ClassFile.FieldType.int)) "lotsOf" D B := ⟨CF, hret, hlk, hnm, hK, hSt⟩
    have hx := CF.1; have hb := CF.2.1
    have hL : th_L ls 4 [(0, rv a0), (1, .int x1)] := hL
    unfold tw_X8_lotsOf at hw
    refine lv_iconst hx hb dX8_lotsOf_0 (v := 0) rfl ?_
    refine th_istore_n hx hb dX8_lotsOf_1 rfl hL (by decide) rfl (fun ls hL => ?_)
    refine lv_iconst hx hb dX8_lotsOf_2 (v := 0) rfl ?_
    refine th_istore_n hx hb dX8_lotsOf_3 rfl hL (by decide) rfl (fun ls hL => ?_)
    obtain ⟨n9, hw⟩ := hw
    exact tk_X8_lotsOf_b4 E n9 hR hS (hL.sub [2, 3, 1, 0] rfl) hw ⟨by omega, by omega⟩)
def tw_X8_parishesIn_b4 (Q : Int32 → aH → Prop) : Nat → aH → Nat → Int32 → Int32 → Int32 → Prop := fun n => Nat.rec (motive := fun _ => aH → Nat → Int32 → Int32 → Int32 → Prop) (fun _ _ _ _ _ => False) (fun _ ih G a0 x1 x2 x3 =>
  th_o G a0 8 ∧ (
  (tw_X8_inBay
    (fun (r2 : Int32) (G1 : aH) =>
      (r2 ≤ x3 →
        Q x2 G1) ∧
      (¬ r2 ≤ x3 →
        th_o G1 a0 8 ∧ (
        (tw_X8_sheaf
          (fun (r4 : Int32) (G3 : aH) =>
            ∀ x2_5 : Int32, x2_5 = x2 ||| (1 <<< (r4 &&& 31)) → 
            ∀ x3_6 : Int32, x3_6 = x3 + 1 → 
            ih G3 a0 x1 x2_5 x3_6)
          G1 a0 x1 x3))))
    G a0 x1))) n
theorem tws_X8_parishesIn_b4 (Q : Int32 → aH → Prop) (n : Nat) (G : aH) (a0 : Nat) (x1 : Int32) (x2 : Int32) (x3 : Int32) : tw_X8_parishesIn_b4 Q (n + 1) G a0 x1 x2 x3 = (
  th_o G a0 8 ∧ (
  (tw_X8_inBay
    (fun (r2 : Int32) (G1 : aH) =>
      (r2 ≤ x3 →
        Q x2 G1) ∧
      (¬ r2 ≤ x3 →
        th_o G1 a0 8 ∧ (
        (tw_X8_sheaf
          (fun (r4 : Int32) (G3 : aH) =>
            ∀ x2_5 : Int32, x2_5 = x2 ||| (1 <<< (r4 &&& 31)) → 
            ∀ x3_6 : Int32, x3_6 = x3 + 1 → 
            tw_X8_parishesIn_b4 Q n G3 a0 x1 x2_5 x3_6)
          G1 a0 x1 x3))))
    G a0 x1))) := rfl
def tw_X8_parishesIn (Q : Int32 → aH → Prop) (G : aH) (a0 : Nat) (x1 : Int32) : Prop :=
  ∃ n9 : Nat, tw_X8_parishesIn_b4 Q n9 G a0 x1 0 0
theorem tk_X8_parishesIn_b4 {p : Program} {l : Launch} {e : Env} {s : State} {m : MethodId} {args : Array Value} {below : List Frame} {meth : Method} {c : Code} {D : tD} {B : Nat} (E : th_E p m c cX8_parishesIn 4 s args RX8 meth ((Option.some Jvm.ClassFile.FieldType.int)) "parishesIn" D B) {Q : Int32 → aH → Prop} : ∀ (n : Nat) {G : aH} {H : Heap} {locs : List Loc} {cells slots : Nat} {ls : Array Slot} {a0 : Nat} {x1 : Int32} {x2 : Int32} {x3 : Int32} (hR : th_H D B G H) (hS : va_S (th_A B) s.heap H locs) (hL : th_L ls 4 [(0, rv a0), (1, .int x1), (2, .int x2), (3, .int x3)]) (hw : tw_X8_parishesIn_b4 Q n G a0 x1 x2 x3) (hc : cells + (0) ≤ 0 ∧ slots + (0) ≤ 0), W p l e rm_X8_parishesIn s m args below meth c H locs cells slots (MQ below (th_Qi D B Q) args s 0 0 (th_A B)) (F0 m 4 ls []) := by
  have CF := E.1; have hx := CF.1; have hb := CF.2.1; have hret := E.2.1; have hlk := E.2.2.1; have hnm := E.2.2.2.1; have hK := E.2.2.2.2.1; have hSt := E.2.2.2.2.2
  intro n
  induction n with
  | zero => intro _ _ _ _ _ _ _ _ _ _ _ _ _ hw; exact hw.elim
  | succ n ih =>
    intro G H locs cells slots ls a0 x1 x2 x3 hR hS hL hw hc
    rw [tws_X8_parishesIn_b4] at hw
    refine lv_iload_n hx hb dX8_parishesIn_4 rfl (lv_at hL.1 3 rfl) ?_
    refine th_aload_n hx hb dX8_parishesIn_5 rfl (lv_at hL.1 0 rfl) ?_
    refine lv_iload_n hx hb dX8_parishesIn_6 rfl (lv_at hL.1 1 rfl) ?_
    obtain ⟨ho, hw⟩ := hw
    refine th_ki hS (th_rV CF hK hSt hR hS ho (ci := 8) rfl (rest := [.int x3]) (tk_X8_inBay) (cw_X8_128 CF hK (by decide +kernel)) hw rfl hL.1.1 rfl (th_ci th_cn) (Nat.le_of_ble_eq_true rfl) dX8_parishesIn_7 ⟨by show _ ≤ (0 : Nat); omega, by show _ ≤ (0 : Nat); omega⟩) (fun r2 G1 H locs hw hR hS => ?_)
    refine lv_icmp_ge hx hb dX8_parishesIn_10 (tgt := 30) (by decide) (fun h => ?_) (fun h => ?_)
    · replace hw := hw.1 h
      refine lv_iload_n hx hb dX8_parishesIn_30 rfl (lv_at hL.1 2 rfl) ?_
      exact th_iret hx hb hret hlk hR hS hw (by omega) (by omega) dX8_parishesIn_31
    · replace hw := hw.2 h
      refine lv_iload_n hx hb dX8_parishesIn_13 rfl (lv_at hL.1 2 rfl) ?_
      refine lv_iconst hx hb dX8_parishesIn_14 (v := 1) rfl ?_
      refine th_aload_n hx hb dX8_parishesIn_15 rfl (lv_at hL.1 0 rfl) ?_
      refine lv_iload_n hx hb dX8_parishesIn_16 rfl (lv_at hL.1 1 rfl) ?_
      refine lv_iload_n hx hb dX8_parishesIn_17 rfl (lv_at hL.1 3 rfl) ?_
      obtain ⟨ho, hw⟩ := hw
      refine th_ki hS (th_rV CF hK hSt hR hS ho (ci := 8) rfl (rest := [.int 1, .int x2]) (tk_X8_sheaf) (cw_X8_119 CF hK (by decide +kernel)) hw rfl hL.1.1 rfl (th_ci (th_ci th_cn)) (Nat.le_of_ble_eq_true rfl) dX8_parishesIn_18 ⟨by show _ ≤ (0 : Nat); omega, by show _ ≤ (0 : Nat); omega⟩) (fun r4 G3 H locs hw hR hS => ?_)
      refine lv_ishl hx hb dX8_parishesIn_21 ?_
      refine lv_ior hx hb dX8_parishesIn_22 ?_
      obtain ⟨x2_5, hx2_5⟩ : ∃ y : Int32, y = x2 ||| (1 <<< (r4 &&& 31)) := ⟨_, rfl⟩
      replace hw := hw x2_5 hx2_5
      refine th_nmi hx2_5 ?_
      refine th_istore_n hx hb dX8_parishesIn_23 rfl hL (by decide) rfl (fun ls hL => ?_)
      obtain ⟨x3_6, hx3_6⟩ : ∃ y : Int32, y = x3 + 1 := ⟨_, rfl⟩
      replace hw := hw x3_6 hx3_6
      refine th_iinc hx hb dX8_parishesIn_24 hL (k := 3) rfl (v := x3_6) hx3_6.symm (by decide) rfl (fun ls hL => ?_)
      refine lv_goto hx hb dX8_parishesIn_27 (tgt := 4) (by decide) ?_
      exact ih hR hS (hL.sub [2, 3, 1, 0] rfl) hw ⟨by omega, by omega⟩
theorem tk_X8_parishesIn {l : Launch} {D : tD} {B : Nat} {Q : Int32 → aH → Prop} {a0 : Nat} {x1 : Int32} : Met l yX8_parishesIn (ws_ yX8_parishesIn cX8_parishesIn 4 ((Option.some Jvm.ClassFile.FieldType.int))) rm_X8_parishesIn (th_P D B [rv a0, .int x1] (fun G => tw_X8_parishesIn Q G a0 x1)) (th_Qi D B Q) 0 0 (th_A B) :=
  th_ofW (by decide +kernel) (th_cr (th_ci th_cn)) (Nat.le_of_ble_eq_true rfl) (fun p e s m args below meth c CF hret hlk hnm hK hSt G ls hR hS hw hL => by
    have E : th_E p m c cX8_parishesIn 4 s args RX8 meth ((Option.some Jvm.ClassFile.FieldType.int)) "parishesIn" D B := ⟨CF, hret, hlk, hnm, hK, hSt⟩
    have hx := CF.1; have hb := CF.2.1
    have hL : th_L ls 4 [(0, rv a0), (1, .int x1)] := hL
    unfold tw_X8_parishesIn at hw
    refine lv_iconst hx hb dX8_parishesIn_0 (v := 0) rfl ?_
    refine th_istore_n hx hb dX8_parishesIn_1 rfl hL (by decide) rfl (fun ls hL => ?_)
    refine lv_iconst hx hb dX8_parishesIn_2 (v := 0) rfl ?_
    refine th_istore_n hx hb dX8_parishesIn_3 rfl hL (by decide) rfl (fun ls hL => ?_)
    obtain ⟨n9, hw⟩ := hw
    exact tk_X8_parishesIn_b4 E n9 hR hS (hL.sub [2, 3, 1, 0] rfl) hw ⟨by omega, by omega⟩)
def tw_X8_bayOf (Q : Int32 → aH → Prop) (G : aH) (a0 : Nat) (x1 : Int32) (x2 : Int32) : Prop :=
  (tw_X8_isBay
    (fun (r2 : Int32) (G1 : aH) =>
      (¬ r2 = 0 →
        (x2 = 0 →
          th_o G1 a0 8 ∧ (
          (tw_X8_inBay
            (fun (r4 : Int32) (G3 : aH) =>
              Q r4 G3)
            G1 a0 x1))) ∧
        (x2 = 1 →
          th_o G1 a0 8 ∧ (
          (tw_X8_lotsOf
            (fun (r6 : Int32) (G5 : aH) =>
              Q r6 G5)
            G1 a0 x1))) ∧
        (x2 = 2 →
          th_o G1 a0 8 ∧ (
          (tw_X8_pintsIn
            (fun (r8 : Int32) (G7 : aH) =>
              Q r8 G7)
            G1 a0 x1))) ∧
        (x2 = 3 →
          th_o G1 a0 8 ∧ (
          (tw_X8_parishesIn
            (fun (r10 : Int32) (G9 : aH) =>
              Q r10 G9)
            G1 a0 x1))) ∧
        (¬ x2 = 0 → ¬ x2 = 1 → ¬ x2 = 2 → ¬ x2 = 3 → 
          Q (-2) G1)) ∧
      (r2 = 0 →
        Q (-1) G1))
    G x1)
theorem tk_X8_bayOf {l : Launch} {D : tD} {B : Nat} {Q : Int32 → aH → Prop} {a0 : Nat} {x1 : Int32} {x2 : Int32} : Met l yX8_bayOf (ws_ yX8_bayOf cX8_bayOf 3 ((Option.some Jvm.ClassFile.FieldType.int))) rm_X8_bayOf (th_P D B [rv a0, .int x1, .int x2] (fun G => tw_X8_bayOf Q G a0 x1 x2)) (th_Qi D B Q) 0 0 (th_A B) :=
  th_ofW (by decide +kernel) (th_cr (th_ci (th_ci th_cn))) (Nat.le_of_ble_eq_true rfl) (fun p e s m args below meth c CF hret hlk hnm hK hSt G ls hR hS hw hL => by
    have E : th_E p m c cX8_bayOf 3 s args RX8 meth ((Option.some Jvm.ClassFile.FieldType.int)) "bayOf" D B := ⟨CF, hret, hlk, hnm, hK, hSt⟩
    have hx := CF.1; have hb := CF.2.1
    have hL : th_L ls 3 [(0, rv a0), (1, .int x1), (2, .int x2)] := hL
    unfold tw_X8_bayOf at hw
    refine lv_iload_n hx hb dX8_bayOf_0 rfl (lv_at hL.1 1 rfl) ?_
    refine th_ki hS (th_rS CF hK hSt hR hS (rest := []) (tk_X8_isBay) (cw_X8_122 CF hK (by decide +kernel)) hw rfl hL.1.1 rfl th_cn (Nat.le_of_ble_eq_true rfl) dX8_bayOf_1 ⟨by show _ ≤ (0 : Nat); omega, by show _ ≤ (0 : Nat); omega⟩) (fun r2 G1 H locs hw hR hS => ?_)
    refine lv_if_ne hx hb dX8_bayOf_4 (tgt := 9) (by decide) (fun h => ?_) (fun h => ?_)
    · replace hw := hw.1 h
      refine lv_iload_n hx hb dX8_bayOf_9 rfl (lv_at hL.1 2 rfl) ?_
      by_cases g0 : x2 = 0
      · replace hw := hw.1 g0
        refine lv_tableIn hx hb dX8_bayOf_10 (tgt := 40) (by rw [g0]; decide) (by rw [g0]; decide) (by rw [g0]; rfl) (by decide) ?_
        refine th_aload_n hx hb dX8_bayOf_40 rfl (lv_at hL.1 0 rfl) ?_
        refine lv_iload_n hx hb dX8_bayOf_41 rfl (lv_at hL.1 1 rfl) ?_
        obtain ⟨ho, hw⟩ := hw
        refine th_ki hS (th_rV CF hK hSt hR hS ho (ci := 8) rfl (rest := []) (tk_X8_inBay) (cw_X8_128 CF hK (by decide +kernel)) hw rfl hL.1.1 rfl th_cn (Nat.le_of_ble_eq_true rfl) dX8_bayOf_42 ⟨by show _ ≤ (0 : Nat); omega, by show _ ≤ (0 : Nat); omega⟩) (fun r4 G3 H locs hw hR hS => ?_)
        exact th_iret hx hb hret hlk hR hS hw (by omega) (by omega) dX8_bayOf_45
      by_cases g1 : x2 = 1
      · replace hw := hw.2.1 g1
        refine lv_tableIn hx hb dX8_bayOf_10 (tgt := 46) (by rw [g1]; decide) (by rw [g1]; decide) (by rw [g1]; rfl) (by decide) ?_
        refine th_aload_n hx hb dX8_bayOf_46 rfl (lv_at hL.1 0 rfl) ?_
        refine lv_iload_n hx hb dX8_bayOf_47 rfl (lv_at hL.1 1 rfl) ?_
        obtain ⟨ho, hw⟩ := hw
        refine th_ki hS (th_rV CF hK hSt hR hS ho (ci := 8) rfl (rest := []) (tk_X8_lotsOf) (cw_X8_144 CF hK (by decide +kernel)) hw rfl hL.1.1 rfl th_cn (Nat.le_of_ble_eq_true rfl) dX8_bayOf_48 ⟨by show _ ≤ (0 : Nat); omega, by show _ ≤ (0 : Nat); omega⟩) (fun r6 G5 H locs hw hR hS => ?_)
        exact th_iret hx hb hret hlk hR hS hw (by omega) (by omega) dX8_bayOf_51
      by_cases g2 : x2 = 2
      · replace hw := hw.2.2.1 g2
        refine lv_tableIn hx hb dX8_bayOf_10 (tgt := 52) (by rw [g2]; decide) (by rw [g2]; decide) (by rw [g2]; rfl) (by decide) ?_
        refine th_aload_n hx hb dX8_bayOf_52 rfl (lv_at hL.1 0 rfl) ?_
        refine lv_iload_n hx hb dX8_bayOf_53 rfl (lv_at hL.1 1 rfl) ?_
        obtain ⟨ho, hw⟩ := hw
        refine th_ki hS (th_rV CF hK hSt hR hS ho (ci := 8) rfl (rest := []) (tk_X8_pintsIn) (cw_X8_147 CF hK (by decide +kernel)) hw rfl hL.1.1 rfl th_cn (Nat.le_of_ble_eq_true rfl) dX8_bayOf_54 ⟨by show _ ≤ (0 : Nat); omega, by show _ ≤ (0 : Nat); omega⟩) (fun r8 G7 H locs hw hR hS => ?_)
        exact th_iret hx hb hret hlk hR hS hw (by omega) (by omega) dX8_bayOf_57
      by_cases g3 : x2 = 3
      · replace hw := hw.2.2.2.1 g3
        refine lv_tableIn hx hb dX8_bayOf_10 (tgt := 58) (by rw [g3]; decide) (by rw [g3]; decide) (by rw [g3]; rfl) (by decide) ?_
        refine th_aload_n hx hb dX8_bayOf_58 rfl (lv_at hL.1 0 rfl) ?_
        refine lv_iload_n hx hb dX8_bayOf_59 rfl (lv_at hL.1 1 rfl) ?_
        obtain ⟨ho, hw⟩ := hw
        refine th_ki hS (th_rV CF hK hSt hR hS ho (ci := 8) rfl (rest := []) (tk_X8_parishesIn) (cw_X8_150 CF hK (by decide +kernel)) hw rfl hL.1.1 rfl th_cn (Nat.le_of_ble_eq_true rfl) dX8_bayOf_60 ⟨by show _ ≤ (0 : Nat); omega, by show _ ≤ (0 : Nat); omega⟩) (fun r10 G9 H locs hw hR hS => ?_)
        exact th_iret hx hb hret hlk hR hS hw (by omega) (by omega) dX8_bayOf_63
      replace hw := hw.2.2.2.2 g0 g1 g2 g3
      have w0 := th_sw g0 (k := 0) (by decide)
      have w1 := th_sw g1 (k := 1) (by decide)
      have w2 := th_sw g2 (k := 2) (by decide)
      have w3 := th_sw g3 (k := 3) (by decide)
      refine lv_tableOut hx hb dX8_bayOf_10 (tgt := 64) (by omega) (by decide) ?_
      refine lv_bipush hx hb dX8_bayOf_64 (v := (-2)) rfl ?_
      exact th_iret hx hb hret hlk hR hS hw (by omega) (by omega) dX8_bayOf_66
    · replace hw := hw.2 h
      refine lv_iconst hx hb dX8_bayOf_7 (v := (-1)) rfl ?_
      exact th_iret hx hb hret hlk hR hS hw (by omega) (by omega) dX8_bayOf_8)
