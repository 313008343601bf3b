/-! WALKS: X8_clear X8_put X8_writes X8_lotSize X8_describe X8_fault X8_isFloor X8_becomes X8_flails X8_floorOf X8_grain X8_grainAgain X8_becomeDue X8_harvests X8_harvest X8_init -/
set_option maxRecDepth 100000
def tw_X8_clear (Q : Int32 → aH → Prop) (G : aH) (a0 : Nat) : Prop :=
  th_o G a0 8 ∧ (
  th_ai G (a_mr G a0 0) 0 0 ∧ (
  ∀ x1_1 : Int32, x1_1 = a_mi G (a_mr G a0 0) (0 : Int32).toNatClampNeg → 
  th_o G a0 8 ∧ (
  (tw_X8_begins
    (fun (G2 : aH) =>
      Q x1_1 G2)
    G a0))))
theorem tk_X8_clear {l : Launch} {D : tD} {B : Nat} {Q : Int32 → aH → Prop} {a0 : Nat} : Met l yX8_clear (ws_ yX8_clear cX8_clear 2 ((Option.some Jvm.ClassFile.FieldType.int))) rm_X8_clear (th_P D B [rv a0] (fun G => tw_X8_clear Q G a0)) (th_Qi D B Q) 0 0 (th_A B) :=
  th_ofW (by decide +kernel) (th_cr th_cn) (Nat.le_of_ble_eq_true rfl) (fun p e s m args below meth c CF hret hlk hnm hK hSt G ls hR hS hw hL => by
    have E : th_E p m c cX8_clear 2 s args RX8 meth ((Option.some Jvm.ClassFile.FieldType.int)) "clear" D B := ⟨CF, hret, hlk, hnm, hK, hSt⟩
    have hx := CF.1; have hb := CF.2.1
    have hL : th_L ls 2 [(0, rv a0)] := hL
    unfold tw_X8_clear at hw
    refine th_aload_n hx hb dX8_clear_0 rfl (lv_at hL.1 0 rfl) ?_
    obtain ⟨ho, hw⟩ := hw
    refine fg_X8_9 CF hK hR ho dX8_clear_1 ?_
    refine lv_iconst hx hb dX8_clear_4 (v := 0) rfl ?_
    obtain ⟨ha, hw⟩ := hw
    refine th_iald hx hb hK hR ha dX8_clear_5 ?_
    obtain ⟨x1_1, hx1_1⟩ : ∃ y : Int32, y = a_mi G (a_mr G a0 0) (0 : Int32).toNatClampNeg := ⟨_, rfl⟩
    replace hw := hw x1_1 hx1_1
    refine th_nmi hx1_1 ?_
    refine th_istore_n hx hb dX8_clear_6 rfl hL (by decide) rfl (fun ls hL => ?_)
    refine th_aload_n hx hb dX8_clear_7 rfl (lv_at hL.1 1 rfl) ?_
    obtain ⟨ho, hw⟩ := hw
    refine th_kv hS (th_rV CF hK hSt hR hS ho (ci := 8) rfl (rest := []) (tk_X8_begins) (cw_X8_50 CF hK (by decide +kernel)) hw rfl hL.1.1 rfl th_cn (Nat.le_of_ble_eq_true rfl) dX8_clear_8 ⟨by show _ ≤ (0 : Nat); omega, by show _ ≤ (0 : Nat); omega⟩) (fun G2 H locs hw hR hS => ?_)
    refine lv_iload_n hx hb dX8_clear_11 rfl (lv_at hL.1 0 rfl) ?_
    exact th_iret hx hb hret hlk hR hS hw (by omega) (by omega) dX8_clear_12)
def tw_X8_put (Q : Int32 → aH → Prop) (G : aH) (a0 : Nat) (x1 : Int32) (x2 : Int32) : Prop :=
  th_o G a0 8 ∧ (
  th_ai G (a_mr G a0 13) 0 x1 ∧ (
  ∀ G1 : aH, G1 = a_si G (a_mr G a0 13) x1.toNatClampNeg x2 → 
  Q (x1 + 1) G1))
theorem tk_X8_put {l : Launch} {D : tD} {B : Nat} {Q : Int32 → aH → Prop} {a0 : Nat} {x1 : Int32} {x2 : Int32} : Met l yX8_put (ws_ yX8_put cX8_put 3 ((Option.some Jvm.ClassFile.FieldType.int))) rm_X8_put (th_P D B [rv a0, .int x1, .int x2] (fun G => tw_X8_put Q G a0 x1 x2)) (th_Qi D B Q) 0 0 (th_A B) :=
  th_ofW (by decide +kernel) (th_cr (th_ci (th_ci th_cn))) (Nat.le_of_ble_eq_true rfl) (fun p e s m args below meth c CF hret hlk hnm hK hSt G ls hR hS hw hL => by
    have E : th_E p m c cX8_put 3 s args RX8 meth ((Option.some Jvm.ClassFile.FieldType.int)) "put" D B := ⟨CF, hret, hlk, hnm, hK, hSt⟩
    have hx := CF.1; have hb := CF.2.1
    have hL : th_L ls 3 [(0, rv a0), (1, .int x1), (2, .int x2)] := hL
    unfold tw_X8_put at hw
    refine th_aload_n hx hb dX8_put_0 rfl (lv_at hL.1 0 rfl) ?_
    obtain ⟨ho, hw⟩ := hw
    refine fg_X8_38 CF hK hR ho dX8_put_1 ?_
    refine lv_iload_n hx hb dX8_put_4 rfl (lv_at hL.1 1 rfl) ?_
    refine lv_iload_n hx hb dX8_put_5 rfl (lv_at hL.1 2 rfl) ?_
    obtain ⟨ha, hw⟩ := hw
    refine th_iast hx hb hK hR hS ha dX8_put_6 (fun G1 H locs hG hR hS => ?_)
    replace hw := hw G1 hG
    refine lv_iload_n hx hb dX8_put_7 rfl (lv_at hL.1 1 rfl) ?_
    refine lv_iconst hx hb dX8_put_8 (v := 1) rfl ?_
    refine lv_iadd hx hb dX8_put_9 ?_
    exact th_iret hx hb hret hlk hR hS hw (by omega) (by omega) dX8_put_10)
def tw_X8_writes_b24 (Q : Int32 → aH → Prop) : Nat → aH → Nat → Int32 → Int32 → Int32 → Prop := fun n => Nat.rec (motive := fun _ => aH → Nat → Int32 → Int32 → Int32 → Prop) (fun _ _ _ _ _ => False) (fun _ ih G a0 x2 x3 x4 =>
  (x4 ≤ 0 →
    Q x3 G) ∧
  (¬ x4 ≤ 0 →
    ¬ x4 = 0 ∧ (
    th_o G a0 8 ∧ (
    (tw_X8_put
      (fun (r2 : Int32) (G1 : aH) =>
        ∀ x4_3 : Int32, x4_3 = x4 / 10 → 
        ih G1 a0 x2 r2 x4_3)
      G a0 x3 (48 + ((x2 / x4) - (x2 / x4) / 10 * 10))))))) n
theorem tws_X8_writes_b24 (Q : Int32 → aH → Prop) (n : Nat) (G : aH) (a0 : Nat) (x2 : Int32) (x3 : Int32) (x4 : Int32) : tw_X8_writes_b24 Q (n + 1) G a0 x2 x3 x4 = (
  (x4 ≤ 0 →
    Q x3 G) ∧
  (¬ x4 ≤ 0 →
    ¬ x4 = 0 ∧ (
    th_o G a0 8 ∧ (
    (tw_X8_put
      (fun (r2 : Int32) (G1 : aH) =>
        ∀ x4_3 : Int32, x4_3 = x4 / 10 → 
        tw_X8_writes_b24 Q n G1 a0 x2 r2 x4_3)
      G a0 x3 (48 + ((x2 / x4) - (x2 / x4) / 10 * 10))))))) := rfl
def tw_X8_writes_b5 (Q : Int32 → aH → Prop) : Nat → aH → Nat → Int32 → Int32 → Int32 → Prop := fun n => Nat.rec (motive := fun _ => aH → Nat → Int32 → Int32 → Int32 → Prop) (fun _ _ _ _ _ => False) (fun _ ih G a0 x2 x3 x4 =>
  ¬ x4 = 0 ∧ (
  (x2 / x4 < 10 →
    ∃ n9 : Nat, tw_X8_writes_b24 Q n9 G a0 x2 x3 x4) ∧
  (¬ x2 / x4 < 10 →
    ∀ x4_4 : Int32, x4_4 = x4 * 10 → 
    ih G a0 x2 x3 x4_4))) n
theorem tws_X8_writes_b5 (Q : Int32 → aH → Prop) (n : Nat) (G : aH) (a0 : Nat) (x2 : Int32) (x3 : Int32) (x4 : Int32) : tw_X8_writes_b5 Q (n + 1) G a0 x2 x3 x4 = (
  ¬ x4 = 0 ∧ (
  (x2 / x4 < 10 →
    ∃ n9 : Nat, tw_X8_writes_b24 Q n9 G a0 x2 x3 x4) ∧
  (¬ x2 / x4 < 10 →
    ∀ x4_4 : Int32, x4_4 = x4 * 10 → 
    tw_X8_writes_b5 Q n G a0 x2 x3 x4_4))) := rfl
def tw_X8_writes (Q : Int32 → aH → Prop) (G : aH) (a0 : Nat) (x1 : Int32) (x2 : Int32) : Prop :=
  ∃ n9 : Nat, tw_X8_writes_b5 Q n9 G a0 x2 x1 1
theorem tk_X8_writes_b24 {p : Program} {l : Launch} {e : Env} {s : State} {m : MethodId} {args : Array Value} {below : List Frame} {meth : Method} {c : Code} {D : tD} {B : Nat} (E : th_E p m c cX8_writes 5 s args RX8 meth ((Option.some Jvm.ClassFile.FieldType.int)) "writes" D B) {Q : Int32 → aH → Prop} : ∀ (n : Nat) {G : aH} {H : Heap} {locs : List Loc} {cells slots : Nat} {ls : Array Slot} {a0 : Nat} {x2 : Int32} {x3 : Int32} {x4 : Int32} (hR : th_H D B G H) (hS : va_S (th_A B) s.heap H locs) (hL : th_L ls 5 [(0, rv a0), (2, .int x2), (3, .int x3), (4, .int x4)]) (hw : tw_X8_writes_b24 Q n G a0 x2 x3 x4) (hc : cells + (0) ≤ 0 ∧ slots + (0) ≤ 0), W p l e rm_X8_writes s m args below meth c H locs cells slots (MQ below (th_Qi D B Q) args s 0 0 (th_A B)) (F0 m 24 ls []) := by
  have CF := E.1; have hx := CF.1; have hb := CF.2.1; have hret := E.2.1; have hlk := E.2.2.1; have hnm := E.2.2.2.1; have hK := E.2.2.2.2.1; have hSt := E.2.2.2.2.2
  intro n
  induction n with
  | zero => intro _ _ _ _ _ _ _ _ _ _ _ _ _ hw; exact hw.elim
  | succ n ih =>
    intro G H locs cells slots ls a0 x2 x3 x4 hR hS hL hw hc
    rw [tws_X8_writes_b24] at hw
    refine lv_iload hx hb dX8_writes_24 (lv_at hL.1 3 rfl) ?_
    refine lv_if_le hx hb dX8_writes_26 (tgt := 55) (by decide) (fun h => ?_) (fun h => ?_)
    · replace hw := hw.1 h
      refine lv_iload_n hx hb dX8_writes_55 rfl (lv_at hL.1 2 rfl) ?_
      exact th_iret hx hb hret hlk hR hS hw (by omega) (by omega) dX8_writes_56
    · replace hw := hw.2 h
      refine th_aload_n hx hb dX8_writes_29 rfl (lv_at hL.1 0 rfl) ?_
      refine lv_iload_n hx hb dX8_writes_30 rfl (lv_at hL.1 2 rfl) ?_
      refine lv_bipush hx hb dX8_writes_31 (v := 48) rfl ?_
      refine lv_iload_n hx hb dX8_writes_33 rfl (lv_at hL.1 1 rfl) ?_
      refine lv_iload hx hb dX8_writes_34 (lv_at hL.1 3 rfl) ?_
      obtain ⟨h0, hw⟩ := hw
      refine lv_idiv hx hb dX8_writes_36 h0 ?_
      refine lv_bipush hx hb dX8_writes_37 (v := 10) rfl ?_
      refine lv_irem hx hb dX8_writes_39 (by decide) ?_
      refine lv_iadd hx hb dX8_writes_40 ?_
      obtain ⟨ho, hw⟩ := hw
      refine th_ki hS (th_rV CF hK hSt hR hS ho (ci := 8) rfl (rest := []) (tk_X8_put) (cw_X8_292 CF hK (by decide +kernel)) hw rfl hL.1.1 rfl th_cn (Nat.le_of_ble_eq_true rfl) dX8_writes_41 ⟨by show _ ≤ (0 : Nat); omega, by show _ ≤ (0 : Nat); omega⟩) (fun r2 G1 H locs hw hR hS => ?_)
      refine th_istore_n hx hb dX8_writes_44 rfl hL (by decide) rfl (fun ls hL => ?_)
      refine lv_iload hx hb dX8_writes_45 (lv_at hL.1 3 rfl) ?_
      refine lv_bipush hx hb dX8_writes_47 (v := 10) rfl ?_
      refine lv_idiv hx hb dX8_writes_49 (by decide) ?_
      obtain ⟨x4_3, hx4_3⟩ : ∃ y : Int32, y = x4 / 10 := ⟨_, rfl⟩
      replace hw := hw x4_3 hx4_3
      refine th_nmi hx4_3 ?_
      refine th_istore hx hb dX8_writes_50 hL (by decide) rfl (fun ls hL => ?_)
      refine lv_goto hx hb dX8_writes_52 (tgt := 24) (by decide) ?_
      exact ih hR hS (hL.sub [2, 3, 1, 0] rfl) hw ⟨by omega, by omega⟩
theorem tk_X8_writes_b5 {p : Program} {l : Launch} {e : Env} {s : State} {m : MethodId} {args : Array Value} {below : List Frame} {meth : Method} {c : Code} {D : tD} {B : Nat} (E : th_E p m c cX8_writes 5 s args RX8 meth ((Option.some Jvm.ClassFile.FieldType.int)) "writes" D B) {Q : Int32 → aH → Prop} : ∀ (n : Nat) {G : aH} {H : Heap} {locs : List Loc} {cells slots : Nat} {ls : Array Slot} {a0 : Nat} {x2 : Int32} {x3 : Int32} {x4 : Int32} (hR : th_H D B G H) (hS : va_S (th_A B) s.heap H locs) (hL : th_L ls 5 [(0, rv a0), (2, .int x2), (3, .int x3), (4, .int x4)]) (hw : tw_X8_writes_b5 Q n G a0 x2 x3 x4) (hc : cells + (0) ≤ 0 ∧ slots + (0) ≤ 0), W p l e rm_X8_writes s m args below meth c H locs cells slots (MQ below (th_Qi D B Q) args s 0 0 (th_A B)) (F0 m 5 ls []) := by
  have CF := E.1; have hx := CF.1; have hb := CF.2.1; have hret := E.2.1; have hlk := E.2.2.1; have hnm := E.2.2.2.1; have hK := E.2.2.2.2.1; have hSt := E.2.2.2.2.2
  intro n
  induction n with
  | zero => intro _ _ _ _ _ _ _ _ _ _ _ _ _ hw; exact hw.elim
  | succ n ih =>
    intro G H locs cells slots ls a0 x2 x3 x4 hR hS hL hw hc
    rw [tws_X8_writes_b5] at hw
    refine lv_iload_n hx hb dX8_writes_5 rfl (lv_at hL.1 1 rfl) ?_
    refine lv_iload hx hb dX8_writes_6 (lv_at hL.1 3 rfl) ?_
    obtain ⟨h0, hw⟩ := hw
    refine lv_idiv hx hb dX8_writes_8 h0 ?_
    refine lv_bipush hx hb dX8_writes_9 (v := 10) rfl ?_
    refine lv_icmp_lt hx hb dX8_writes_11 (tgt := 24) (by decide) (fun h => ?_) (fun h => ?_)
    · replace hw := hw.1 h
      obtain ⟨n9, hw⟩ := hw
      exact tk_X8_writes_b24 E n9 hR hS (hL.sub [0, 1, 2, 3] rfl) hw ⟨by omega, by omega⟩
    · replace hw := hw.2 h
      refine lv_iload hx hb dX8_writes_14 (lv_at hL.1 3 rfl) ?_
      refine lv_bipush hx hb dX8_writes_16 (v := 10) rfl ?_
      refine lv_imul hx hb dX8_writes_18 ?_
      obtain ⟨x4_4, hx4_4⟩ : ∃ y : Int32, y = x4 * 10 := ⟨_, rfl⟩
      replace hw := hw x4_4 hx4_4
      refine th_nmi hx4_4 ?_
      refine th_istore hx hb dX8_writes_19 hL (by decide) rfl (fun ls hL => ?_)
      refine lv_goto hx hb dX8_writes_21 (tgt := 5) (by decide) ?_
      exact ih hR hS (hL.sub [1, 2, 3, 0] rfl) hw ⟨by omega, by omega⟩
theorem tk_X8_writes {l : Launch} {D : tD} {B : Nat} {Q : Int32 → aH → Prop} {a0 : Nat} {x1 : Int32} {x2 : Int32} : Met l yX8_writes (ws_ yX8_writes cX8_writes 5 ((Option.some Jvm.ClassFile.FieldType.int))) rm_X8_writes (th_P D B [rv a0, .int x1, .int x2] (fun G => tw_X8_writes Q G a0 x1 x2)) (th_Qi D B Q) 0 0 (th_A B) :=
  th_ofW (by decide +kernel) (th_cr (th_ci (th_ci th_cn))) (Nat.le_of_ble_eq_true rfl) (fun p e s m args below meth c CF hret hlk hnm hK hSt G ls hR hS hw hL => by
    have E : th_E p m c cX8_writes 5 s args RX8 meth ((Option.some Jvm.ClassFile.FieldType.int)) "writes" D B := ⟨CF, hret, hlk, hnm, hK, hSt⟩
    have hx := CF.1; have hb := CF.2.1
    have hL : th_L ls 5 [(0, rv a0), (1, .int x1), (2, .int x2)] := hL
    unfold tw_X8_writes at hw
    refine lv_iload_n hx hb dX8_writes_0 rfl (lv_at hL.1 1 rfl) ?_
    refine th_istore_n hx hb dX8_writes_1 rfl hL (by decide) rfl (fun ls hL => ?_)
    refine lv_iconst hx hb dX8_writes_2 (v := 1) rfl ?_
    refine th_istore hx hb dX8_writes_3 hL (by decide) rfl (fun ls hL => ?_)
    obtain ⟨n9, hw⟩ := hw
    exact tk_X8_writes_b5 E n9 hR hS (hL.sub [2, 4, 1, 0] rfl) hw ⟨by omega, by omega⟩)
def tw_X8_lotSize_b2 (Q : Int32 → aH → Prop) : Nat → aH → Nat → Int32 → Int32 → Int32 → Prop := fun n => Nat.rec (motive := fun _ => aH → Nat → Int32 → Int32 → Int32 → Prop) (fun _ _ _ _ _ => False) (fun _ ih G a0 x1 x2 x3 =>
  th_o G a0 8 ∧ (
  (tw_X8_inBay
    (fun (r2 : Int32) (G1 : aH) =>
      (r2 ≤ x3 →
        Q (x3 - x2) G1) ∧
      (¬ r2 ≤ x3 →
        th_o G1 a0 8 ∧ (
        (tw_X8_sheaf
          (fun (r4 : Int32) (G3 : aH) =>
            th_o G3 a0 8 ∧ (
            (tw_X8_sheaf
              (fun (r6 : Int32) (G5 : aH) =>
                (¬ r4 = r6 →
                  Q (x3 - x2) G5) ∧
                (r4 = r6 →
                  ∀ x3_7 : Int32, x3_7 = x3 + 1 → 
                  ih G5 a0 x1 x2 x3_7))
              G3 a0 x1 x2)))
          G1 a0 x1 x3))))
    G a0 x1))) n
theorem tws_X8_lotSize_b2 (Q : Int32 → aH → Prop) (n : Nat) (G : aH) (a0 : Nat) (x1 : Int32) (x2 : Int32) (x3 : Int32) : tw_X8_lotSize_b2 Q (n + 1) G a0 x1 x2 x3 = (
  th_o G a0 8 ∧ (
  (tw_X8_inBay
    (fun (r2 : Int32) (G1 : aH) =>
      (r2 ≤ x3 →
        Q (x3 - x2) G1) ∧
      (¬ r2 ≤ x3 →
        th_o G1 a0 8 ∧ (
        (tw_X8_sheaf
          (fun (r4 : Int32) (G3 : aH) =>
            th_o G3 a0 8 ∧ (
            (tw_X8_sheaf
              (fun (r6 : Int32) (G5 : aH) =>
                (¬ r4 = r6 →
                  Q (x3 - x2) G5) ∧
                (r4 = r6 →
                  ∀ x3_7 : Int32, x3_7 = x3 + 1 → 
                  tw_X8_lotSize_b2 Q n G5 a0 x1 x2 x3_7))
              G3 a0 x1 x2)))
          G1 a0 x1 x3))))
    G a0 x1))) := rfl
def tw_X8_lotSize (Q : Int32 → aH → Prop) (G : aH) (a0 : Nat) (x1 : Int32) (x2 : Int32) : Prop :=
  ∃ n9 : Nat, tw_X8_lotSize_b2 Q n9 G a0 x1 x2 x2
theorem tk_X8_lotSize_b2 {p : Program} {l : Launch} {e : Env} {s : State} {m : MethodId} {args : Array Value} {below : List Frame} {meth : Method} {c : Code} {D : tD} {B : Nat} (E : th_E p m c cX8_lotSize 4 s args RX8 meth ((Option.some Jvm.ClassFile.FieldType.int)) "lotSize" D B) {Q : Int32 → aH → Prop} : ∀ (n : Nat) {G : aH} {H : Heap} {locs : List Loc} {cells slots : Nat} {ls : Array Slot} {a0 : Nat} {x1 : Int32} {x2 : Int32} {x3 : Int32} (hR : th_H D B G H) (hS : va_S (th_A B) s.heap H locs) (hL : th_L ls 4 [(0, rv a0), (1, .int x1), (2, .int x2), (3, .int x3)]) (hw : tw_X8_lotSize_b2 Q n G a0 x1 x2 x3) (hc : cells + (0) ≤ 0 ∧ slots + (0) ≤ 0), W p l e rm_X8_lotSize s m args below meth c H locs cells slots (MQ below (th_Qi D B Q) args s 0 0 (th_A B)) (F0 m 2 ls []) := by
  have CF := E.1; have hx := CF.1; have hb := CF.2.1; have hret := E.2.1; have hlk := E.2.2.1; have hnm := E.2.2.2.1; have hK := E.2.2.2.2.1; have hSt := E.2.2.2.2.2
  intro n
  induction n with
  | zero => intro _ _ _ _ _ _ _ _ _ _ _ _ _ hw; exact hw.elim
  | succ n ih =>
    intro G H locs cells slots ls a0 x1 x2 x3 hR hS hL hw hc
    rw [tws_X8_lotSize_b2] at hw
    refine lv_iload_n hx hb dX8_lotSize_2 rfl (lv_at hL.1 3 rfl) ?_
    refine th_aload_n hx hb dX8_lotSize_3 rfl (lv_at hL.1 0 rfl) ?_
    refine lv_iload_n hx hb dX8_lotSize_4 rfl (lv_at hL.1 1 rfl) ?_
    obtain ⟨ho, hw⟩ := hw
    refine th_ki hS (th_rV CF hK hSt hR hS ho (ci := 8) rfl (rest := [.int x3]) (tk_X8_inBay) (cw_X8_128 CF hK (by decide +kernel)) hw rfl hL.1.1 rfl (th_ci th_cn) (Nat.le_of_ble_eq_true rfl) dX8_lotSize_5 ⟨by show _ ≤ (0 : Nat); omega, by show _ ≤ (0 : Nat); omega⟩) (fun r2 G1 H locs hw hR hS => ?_)
    refine lv_icmp_ge hx hb dX8_lotSize_8 (tgt := 32) (by decide) (fun h => ?_) (fun h => ?_)
    · replace hw := hw.1 h
      refine lv_iload_n hx hb dX8_lotSize_32 rfl (lv_at hL.1 3 rfl) ?_
      refine lv_iload_n hx hb dX8_lotSize_33 rfl (lv_at hL.1 2 rfl) ?_
      refine lv_isub hx hb dX8_lotSize_34 ?_
      exact th_iret hx hb hret hlk hR hS hw (by omega) (by omega) dX8_lotSize_35
    · replace hw := hw.2 h
      refine th_aload_n hx hb dX8_lotSize_11 rfl (lv_at hL.1 0 rfl) ?_
      refine lv_iload_n hx hb dX8_lotSize_12 rfl (lv_at hL.1 1 rfl) ?_
      refine lv_iload_n hx hb dX8_lotSize_13 rfl (lv_at hL.1 3 rfl) ?_
      obtain ⟨ho, hw⟩ := hw
      refine th_ki hS (th_rV CF hK hSt hR hS ho (ci := 8) rfl (rest := []) (tk_X8_sheaf) (cw_X8_119 CF hK (by decide +kernel)) hw rfl hL.1.1 rfl th_cn (Nat.le_of_ble_eq_true rfl) dX8_lotSize_14 ⟨by show _ ≤ (0 : Nat); omega, by show _ ≤ (0 : Nat); omega⟩) (fun r4 G3 H locs hw hR hS => ?_)
      refine th_aload_n hx hb dX8_lotSize_17 rfl (lv_at hL.1 0 rfl) ?_
      refine lv_iload_n hx hb dX8_lotSize_18 rfl (lv_at hL.1 1 rfl) ?_
      refine lv_iload_n hx hb dX8_lotSize_19 rfl (lv_at hL.1 2 rfl) ?_
      obtain ⟨ho, hw⟩ := hw
      refine th_ki hS (th_rV CF hK hSt hR hS ho (ci := 8) rfl (rest := [.int r4]) (tk_X8_sheaf) (cw_X8_119 CF hK (by decide +kernel)) hw rfl hL.1.1 rfl (th_ci th_cn) (Nat.le_of_ble_eq_true rfl) dX8_lotSize_20 ⟨by show _ ≤ (0 : Nat); omega, by show _ ≤ (0 : Nat); omega⟩) (fun r6 G5 H locs hw hR hS => ?_)
      refine lv_icmp_ne hx hb dX8_lotSize_23 (tgt := 32) (by decide) (fun h => ?_) (fun h => ?_)
      · replace hw := hw.1 h
        refine lv_iload_n hx hb dX8_lotSize_32 rfl (lv_at hL.1 3 rfl) ?_
        refine lv_iload_n hx hb dX8_lotSize_33 rfl (lv_at hL.1 2 rfl) ?_
        refine lv_isub hx hb dX8_lotSize_34 ?_
        exact th_iret hx hb hret hlk hR hS hw (by omega) (by omega) dX8_lotSize_35
      · replace hw := hw.2 h
        obtain ⟨x3_7, hx3_7⟩ : ∃ y : Int32, y = x3 + 1 := ⟨_, rfl⟩
        replace hw := hw x3_7 hx3_7
        refine th_iinc hx hb dX8_lotSize_26 hL (k := 3) rfl (v := x3_7) hx3_7.symm (by decide) rfl (fun ls hL => ?_)
        refine lv_goto hx hb dX8_lotSize_29 (tgt := 2) (by decide) ?_
        exact ih hR hS (hL.sub [1, 2, 3, 0] rfl) hw ⟨by omega, by omega⟩
theorem tk_X8_lotSize {l : Launch} {D : tD} {B : Nat} {Q : Int32 → aH → Prop} {a0 : Nat} {x1 : Int32} {x2 : Int32} : Met l yX8_lotSize (ws_ yX8_lotSize cX8_lotSize 4 ((Option.some Jvm.ClassFile.FieldType.int))) rm_X8_lotSize (th_P D B [rv a0, .int x1, .int x2] (fun G => tw_X8_lotSize Q G a0 x1 x2)) (th_Qi D B Q) 0 0 (th_A B) :=
  th_ofW (by decide +kernel) (th_cr (th_ci (th_ci th_cn))) (Nat.le_of_ble_eq_true rfl) (fun p e s m args below meth c CF hret hlk hnm hK hSt G ls hR hS hw hL => by
    have E : th_E p m c cX8_lotSize 4 s args RX8 meth ((Option.some Jvm.ClassFile.FieldType.int)) "lotSize" D B := ⟨CF, hret, hlk, hnm, hK, hSt⟩
    have hx := CF.1; have hb := CF.2.1
    have hL : th_L ls 4 [(0, rv a0), (1, .int x1), (2, .int x2)] := hL
    unfold tw_X8_lotSize at hw
    refine lv_iload_n hx hb dX8_lotSize_0 rfl (lv_at hL.1 2 rfl) ?_
    refine th_istore_n hx hb dX8_lotSize_1 rfl hL (by decide) rfl (fun ls hL => ?_)
    obtain ⟨n9, hw⟩ := hw
    exact tk_X8_lotSize_b2 E n9 hR hS (hL.sub [1, 2, 3, 0] rfl) hw ⟨by omega, by omega⟩)
def tw_X8_describe_b112 (Q : Int32 → aH → Prop) (G : aH) (a0 : Nat) (x2 : Int32) : Prop :=
  th_o G a0 8 ∧ (
  ∀ G9 : aH, G9 = a_si G a0 14 x2 → 
  th_o G9 a0 8 ∧ (
  Q (a_mi G9 a0 14) G9))
def tw_X8_describe_b84 (Q : Int32 → aH → Prop) (k24 : aH → Nat → Int32 → Int32 → Int32 → Prop) (G : aH) (a0 : Nat) (x1 : Int32) (x3 : Int32) (tx0 : Int32) (tx1 : Int32) (ta2 : Nat) : Prop :=
  th_o G ta2 8 ∧ (
  (tw_X8_put
    (fun (r19 : Int32) (G18 : aH) =>
      th_o G18 a0 8 ∧ (
      (tw_X8_lotSize
        (fun (r21 : Int32) (G20 : aH) =>
          th_o G20 a0 8 ∧ (
          (tw_X8_writes
            (fun (r23 : Int32) (G22 : aH) =>
              th_o G22 a0 8 ∧ (
              (tw_X8_lotSize
                (fun (r25 : Int32) (G24 : aH) =>
                  ∀ x3_26 : Int32, x3_26 = x3 + r25 → 
                  k24 G24 a0 x1 r23 x3_26)
                G22 a0 x1 x3)))
            G20 a0 r19 r21)))
        G18 a0 x1 x3)))
    G ta2 tx1 tx0))
def tw_X8_describe_b24 (Q : Int32 → aH → Prop) : Nat → aH → Nat → Int32 → Int32 → Int32 → Prop := fun n => Nat.rec (motive := fun _ => aH → Nat → Int32 → Int32 → Int32 → Prop) (fun _ _ _ _ _ => False) (fun _ ih G a0 x1 x2 x3 =>
  th_o G a0 8 ∧ (
  (tw_X8_inBay
    (fun (r8 : Int32) (G7 : aH) =>
      (r8 ≤ x3 →
        tw_X8_describe_b112 Q G7 a0 x2) ∧
      (¬ r8 ≤ x3 →
        th_o G7 a0 8 ∧ (
        (tw_X8_kindOf
          (fun (r11 : Int32) (G10 : aH) =>
            th_o G10 a0 8 ∧ (
            (tw_X8_put
              (fun (r13 : Int32) (G12 : aH) =>
                th_o G12 a0 8 ∧ (
                (tw_X8_sheaf
                  (fun (r15 : Int32) (G14 : aH) =>
                    th_o G14 a0 8 ∧ (
                    (tw_X8_writes
                      (fun (r17 : Int32) (G16 : aH) =>
                        (¬ r11 = 0 →
                          (¬ r11 = 1 →
                            tw_X8_describe_b84 Q (ih) G16 a0 x1 x3 98 r17 a0) ∧
                          (r11 = 1 →
                            tw_X8_describe_b84 Q (ih) G16 a0 x1 x3 114 r17 a0)) ∧
                        (r11 = 0 →
                          tw_X8_describe_b84 Q (ih) G16 a0 x1 x3 119 r17 a0))
                      G14 a0 r13 r15)))
                  G12 a0 x1 x3)))
              G10 a0 x2 32)))
          G7 a0 x1 x3))))
    G a0 x1))) n
theorem tws_X8_describe_b24 (Q : Int32 → aH → Prop) (n : Nat) (G : aH) (a0 : Nat) (x1 : Int32) (x2 : Int32) (x3 : Int32) : tw_X8_describe_b24 Q (n + 1) G a0 x1 x2 x3 = (
  th_o G a0 8 ∧ (
  (tw_X8_inBay
    (fun (r8 : Int32) (G7 : aH) =>
      (r8 ≤ x3 →
        tw_X8_describe_b112 Q G7 a0 x2) ∧
      (¬ r8 ≤ x3 →
        th_o G7 a0 8 ∧ (
        (tw_X8_kindOf
          (fun (r11 : Int32) (G10 : aH) =>
            th_o G10 a0 8 ∧ (
            (tw_X8_put
              (fun (r13 : Int32) (G12 : aH) =>
                th_o G12 a0 8 ∧ (
                (tw_X8_sheaf
                  (fun (r15 : Int32) (G14 : aH) =>
                    th_o G14 a0 8 ∧ (
                    (tw_X8_writes
                      (fun (r17 : Int32) (G16 : aH) =>
                        (¬ r11 = 0 →
                          (¬ r11 = 1 →
                            tw_X8_describe_b84 Q (tw_X8_describe_b24 Q n) G16 a0 x1 x3 98 r17 a0) ∧
                          (r11 = 1 →
                            tw_X8_describe_b84 Q (tw_X8_describe_b24 Q n) G16 a0 x1 x3 114 r17 a0)) ∧
                        (r11 = 0 →
                          tw_X8_describe_b84 Q (tw_X8_describe_b24 Q n) G16 a0 x1 x3 119 r17 a0))
                      G14 a0 r13 r15)))
                  G12 a0 x1 x3)))
              G10 a0 x2 32)))
          G7 a0 x1 x3))))
    G a0 x1))) := rfl
def tw_X8_describe (Q : Int32 → aH → Prop) (G : aH) (a0 : Nat) (x1 : Int32) : Prop :=
  (tw_X8_isBay
    (fun (r2 : Int32) (G1 : aH) =>
      (¬ r2 = 0 →
        th_o G1 a0 8 ∧ (
        (tw_X8_writes
          (fun (r4 : Int32) (G3 : aH) =>
            th_o G3 a0 8 ∧ (
            (tw_X8_put
              (fun (r6 : Int32) (G5 : aH) =>
                ∃ n9 : Nat, tw_X8_describe_b24 Q n9 G5 a0 x1 r6 0)
              G3 a0 r4 58)))
          G1 a0 0 x1))) ∧
      (r2 = 0 →
        Q (-1) G1))
    G x1)
theorem tk_X8_describe_b112 {p : Program} {l : Launch} {e : Env} {s : State} {m : MethodId} {args : Array Value} {below : List Frame} {meth : Method} {c : Code} {D : tD} {B : Nat} (E : th_E p m c cX8_describe 5 s args RX8 meth ((Option.some Jvm.ClassFile.FieldType.int)) "describe" D B) {Q : Int32 → aH → Prop} {G : aH} {H : Heap} {locs : List Loc} {cells slots : Nat} {ls : Array Slot} {a0 : Nat} {x2 : Int32} (hR : th_H D B G H) (hS : va_S (th_A B) s.heap H locs) (hL : th_L ls 5 [(0, rv a0), (2, .int x2)]) (hw : tw_X8_describe_b112 Q G a0 x2) (hc : cells + (0) ≤ 0 ∧ slots + (0) ≤ 0) : W p l e rm_X8_describe s m args below meth c H locs cells slots (MQ below (th_Qi D B Q) args s 0 0 (th_A B)) (F0 m 112 ls []) := by
  have CF := E.1; have hx := CF.1; have hb := CF.2.1; have hret := E.2.1; have hlk := E.2.2.1; have hnm := E.2.2.2.1; have hK := E.2.2.2.2.1; have hSt := E.2.2.2.2.2
  unfold tw_X8_describe_b112 at hw
  refine th_aload_n hx hb dX8_describe_112 rfl (lv_at hL.1 0 rfl) ?_
  refine lv_iload_n hx hb dX8_describe_113 rfl (lv_at hL.1 1 rfl) ?_
  obtain ⟨ho, hw⟩ := hw
  refine fp_X8_298 CF hK hR hS ho dX8_describe_114 (fun G9 H locs hG hR hS => ?_)
  replace hw := hw G9 hG
  refine th_aload_n hx hb dX8_describe_117 rfl (lv_at hL.1 0 rfl) ?_
  obtain ⟨ho, hw⟩ := hw
  refine fg_X8_298 CF hK hR ho dX8_describe_118 ?_
  exact th_iret hx hb hret hlk hR hS hw (by omega) (by omega) dX8_describe_121
theorem tk_X8_describe_b84 {p : Program} {l : Launch} {e : Env} {s : State} {m : MethodId} {args : Array Value} {below : List Frame} {meth : Method} {c : Code} {D : tD} {B : Nat} (E : th_E p m c cX8_describe 5 s args RX8 meth ((Option.some Jvm.ClassFile.FieldType.int)) "describe" D B) {Q : Int32 → aH → Prop} {k24 : aH → Nat → Int32 → Int32 → Int32 → Prop} {c24 s24 : Nat} (h24 : ∀ (G : aH) (H : Heap) (locs : List Loc) (cells slots : Nat) (ls : Array Slot) (y24_0 : Nat) (y24_1 : Int32) (y24_2 : Int32) (y24_3 : Int32), k24 G y24_0 y24_1 y24_2 y24_3 → th_H D B G H → va_S (th_A B) s.heap H locs → th_L ls 5 [(0, rv y24_0), (1, .int y24_1), (2, .int y24_2), (3, .int y24_3)] → cells ≤ c24 ∧ slots ≤ s24 → W p l e rm_X8_describe s m args below meth c H locs cells slots (MQ below (th_Qi D B Q) args s 0 0 (th_A B)) (F0 m 24 ls [])) {G : aH} {H : Heap} {locs : List Loc} {cells slots : Nat} {ls : Array Slot} {a0 : Nat} {x1 : Int32} {x3 : Int32} {tx0 : Int32} {tx1 : Int32} {ta2 : Nat} (hR : th_H D B G H) (hS : va_S (th_A B) s.heap H locs) (hL : th_L ls 5 [(0, rv a0), (1, .int x1), (3, .int x3)]) (hw : tw_X8_describe_b84 Q k24 G a0 x1 x3 tx0 tx1 ta2) (hc : cells + (0) ≤ 0 ∧ slots + (0) ≤ 0 ∧ cells + (0) ≤ c24 ∧ slots + (0) ≤ s24) : W p l e rm_X8_describe s m args below meth c H locs cells slots (MQ below (th_Qi D B Q) args s 0 0 (th_A B)) (F0 m 84 ls [.int tx0, .int tx1, rv ta2]) := by
  have CF := E.1; have hx := CF.1; have hb := CF.2.1; have hret := E.2.1; have hlk := E.2.2.1; have hnm := E.2.2.2.1; have hK := E.2.2.2.2.1; have hSt := E.2.2.2.2.2
  unfold tw_X8_describe_b84 at hw
  obtain ⟨ho, hw⟩ := hw
  refine th_ki hS (th_rV CF hK hSt hR hS ho (ci := 8) rfl (rest := []) (tk_X8_put) (cw_X8_292 CF hK (by decide +kernel)) hw rfl hL.1.1 rfl th_cn (Nat.le_of_ble_eq_true rfl) dX8_describe_84 ⟨by show _ ≤ (0 : Nat); omega, by show _ ≤ (0 : Nat); omega⟩) (fun r19 G18 H locs hw hR hS => ?_)
  refine th_istore_n hx hb dX8_describe_87 rfl hL (by decide) rfl (fun ls hL => ?_)
  refine th_aload_n hx hb dX8_describe_88 rfl (lv_at hL.1 1 rfl) ?_
  refine lv_iload_n hx hb dX8_describe_89 rfl (lv_at hL.1 0 rfl) ?_
  refine th_aload_n hx hb dX8_describe_90 rfl (lv_at hL.1 1 rfl) ?_
  refine lv_iload_n hx hb dX8_describe_91 rfl (lv_at hL.1 2 rfl) ?_
  refine lv_iload_n hx hb dX8_describe_92 rfl (lv_at hL.1 3 rfl) ?_
  obtain ⟨ho, hw⟩ := hw
  refine th_ki hS (th_rV CF hK hSt hR hS ho (ci := 8) rfl (rest := [.int r19, rv a0]) (tk_X8_lotSize) (cw_X8_156 CF hK (by decide +kernel)) hw rfl hL.1.1 rfl (th_ci (th_cr th_cn)) (Nat.le_of_ble_eq_true rfl) dX8_describe_93 ⟨by show _ ≤ (0 : Nat); omega, by show _ ≤ (0 : Nat); omega⟩) (fun r21 G20 H locs hw hR hS => ?_)
  obtain ⟨ho, hw⟩ := hw
  refine th_ki hS (th_rV CF hK hSt hR hS ho (ci := 8) rfl (rest := []) (tk_X8_writes) (cw_X8_295 CF hK (by decide +kernel)) hw rfl hL.1.1 rfl th_cn (Nat.le_of_ble_eq_true rfl) dX8_describe_96 ⟨by show _ ≤ (0 : Nat); omega, by show _ ≤ (0 : Nat); omega⟩) (fun r23 G22 H locs hw hR hS => ?_)
  refine th_istore_n hx hb dX8_describe_99 rfl hL (by decide) rfl (fun ls hL => ?_)
  refine lv_iload_n hx hb dX8_describe_100 rfl (lv_at hL.1 3 rfl) ?_
  refine th_aload_n hx hb dX8_describe_101 rfl (lv_at hL.1 1 rfl) ?_
  refine lv_iload_n hx hb dX8_describe_102 rfl (lv_at hL.1 2 rfl) ?_
  refine lv_iload_n hx hb dX8_describe_103 rfl (lv_at hL.1 3 rfl) ?_
  obtain ⟨ho, hw⟩ := hw
  refine th_ki hS (th_rV CF hK hSt hR hS ho (ci := 8) rfl (rest := [.int x3]) (tk_X8_lotSize) (cw_X8_156 CF hK (by decide +kernel)) hw rfl hL.1.1 rfl (th_ci th_cn) (Nat.le_of_ble_eq_true rfl) dX8_describe_104 ⟨by show _ ≤ (0 : Nat); omega, by show _ ≤ (0 : Nat); omega⟩) (fun r25 G24 H locs hw hR hS => ?_)
  refine lv_iadd hx hb dX8_describe_107 ?_
  obtain ⟨x3_26, hx3_26⟩ : ∃ y : Int32, y = x3 + r25 := ⟨_, rfl⟩
  replace hw := hw x3_26 hx3_26
  refine th_nmi hx3_26 ?_
  refine th_istore_n hx hb dX8_describe_108 rfl hL (by decide) rfl (fun ls hL => ?_)
  refine lv_goto hx hb dX8_describe_109 (tgt := 24) (by decide) ?_
  exact h24 _ _ _ _ _ _ _ _ _ _ hw hR hS (hL.sub [2, 3, 1, 0] rfl) ⟨by omega, by omega⟩
theorem tk_X8_describe_b24 {p : Program} {l : Launch} {e : Env} {s : State} {m : MethodId} {args : Array Value} {below : List Frame} {meth : Method} {c : Code} {D : tD} {B : Nat} (E : th_E p m c cX8_describe 5 s args RX8 meth ((Option.some Jvm.ClassFile.FieldType.int)) "describe" D B) {Q : Int32 → aH → Prop} : ∀ (n : Nat) {G : aH} {H : Heap} {locs : List Loc} {cells slots : Nat} {ls : Array Slot} {a0 : Nat} {x1 : Int32} {x2 : Int32} {x3 : Int32} (hR : th_H D B G H) (hS : va_S (th_A B) s.heap H locs) (hL : th_L ls 5 [(0, rv a0), (1, .int x1), (2, .int x2), (3, .int x3)]) (hw : tw_X8_describe_b24 Q n G a0 x1 x2 x3) (hc : cells + (0) ≤ 0 ∧ slots + (0) ≤ 0), W p l e rm_X8_describe s m args below meth c H locs cells slots (MQ below (th_Qi D B Q) args s 0 0 (th_A B)) (F0 m 24 ls []) := by
  have CF := E.1; have hx := CF.1; have hb := CF.2.1; have hret := E.2.1; have hlk := E.2.2.1; have hnm := E.2.2.2.1; have hK := E.2.2.2.2.1; have hSt := E.2.2.2.2.2
  intro n
  induction n with
  | zero => intro _ _ _ _ _ _ _ _ _ _ _ _ _ hw; exact hw.elim
  | succ n ih =>
    intro G H locs cells slots ls a0 x1 x2 x3 hR hS hL hw hc
    rw [tws_X8_describe_b24] at hw
    refine lv_iload_n hx hb dX8_describe_24 rfl (lv_at hL.1 3 rfl) ?_
    refine th_aload_n hx hb dX8_describe_25 rfl (lv_at hL.1 0 rfl) ?_
    refine lv_iload_n hx hb dX8_describe_26 rfl (lv_at hL.1 1 rfl) ?_
    obtain ⟨ho, hw⟩ := hw
    refine th_ki hS (th_rV CF hK hSt hR hS ho (ci := 8) rfl (rest := [.int x3]) (tk_X8_inBay) (cw_X8_128 CF hK (by decide +kernel)) hw rfl hL.1.1 rfl (th_ci th_cn) (Nat.le_of_ble_eq_true rfl) dX8_describe_27 ⟨by show _ ≤ (0 : Nat); omega, by show _ ≤ (0 : Nat); omega⟩) (fun r8 G7 H locs hw hR hS => ?_)
    refine lv_icmp_ge hx hb dX8_describe_30 (tgt := 112) (by decide) (fun h => ?_) (fun h => ?_)
    · replace hw := hw.1 h
      exact tk_X8_describe_b112 E hR hS (hL.sub [0, 2] rfl) hw ⟨by omega, by omega⟩
    · replace hw := hw.2 h
      refine th_aload_n hx hb dX8_describe_33 rfl (lv_at hL.1 0 rfl) ?_
      refine lv_iload_n hx hb dX8_describe_34 rfl (lv_at hL.1 1 rfl) ?_
      refine lv_iload_n hx hb dX8_describe_35 rfl (lv_at hL.1 3 rfl) ?_
      obtain ⟨ho, hw⟩ := hw
      refine th_ki hS (th_rV CF hK hSt hR hS ho (ci := 8) rfl (rest := []) (tk_X8_kindOf) (cw_X8_141 CF hK (by decide +kernel)) hw rfl hL.1.1 rfl th_cn (Nat.le_of_ble_eq_true rfl) dX8_describe_36 ⟨by show _ ≤ (0 : Nat); omega, by show _ ≤ (0 : Nat); omega⟩) (fun r11 G10 H locs hw hR hS => ?_)
      refine th_istore hx hb dX8_describe_39 hL (by decide) rfl (fun ls hL => ?_)
      refine th_aload_n hx hb dX8_describe_41 rfl (lv_at hL.1 1 rfl) ?_
      refine th_aload_n hx hb dX8_describe_42 rfl (lv_at hL.1 1 rfl) ?_
      refine lv_iload_n hx hb dX8_describe_43 rfl (lv_at hL.1 3 rfl) ?_
      refine lv_bipush hx hb dX8_describe_44 (v := 32) rfl ?_
      obtain ⟨ho, hw⟩ := hw
      refine th_ki hS (th_rV CF hK hSt hR hS ho (ci := 8) rfl (rest := [rv a0]) (tk_X8_put) (cw_X8_292 CF hK (by decide +kernel)) hw rfl hL.1.1 rfl (th_cr th_cn) (Nat.le_of_ble_eq_true rfl) dX8_describe_46 ⟨by show _ ≤ (0 : Nat); omega, by show _ ≤ (0 : Nat); omega⟩) (fun r13 G12 H locs hw hR hS => ?_)
      refine th_aload_n hx hb dX8_describe_49 rfl (lv_at hL.1 1 rfl) ?_
      refine lv_iload_n hx hb dX8_describe_50 rfl (lv_at hL.1 2 rfl) ?_
      refine lv_iload_n hx hb dX8_describe_51 rfl (lv_at hL.1 4 rfl) ?_
      obtain ⟨ho, hw⟩ := hw
      refine th_ki hS (th_rV CF hK hSt hR hS ho (ci := 8) rfl (rest := [.int r13, rv a0]) (tk_X8_sheaf) (cw_X8_119 CF hK (by decide +kernel)) hw rfl hL.1.1 rfl (th_ci (th_cr th_cn)) (Nat.le_of_ble_eq_true rfl) dX8_describe_52 ⟨by show _ ≤ (0 : Nat); omega, by show _ ≤ (0 : Nat); omega⟩) (fun r15 G14 H locs hw hR hS => ?_)
      obtain ⟨ho, hw⟩ := hw
      refine th_ki hS (th_rV CF hK hSt hR hS ho (ci := 8) rfl (rest := []) (tk_X8_writes) (cw_X8_295 CF hK (by decide +kernel)) hw rfl hL.1.1 rfl th_cn (Nat.le_of_ble_eq_true rfl) dX8_describe_55 ⟨by show _ ≤ (0 : Nat); omega, by show _ ≤ (0 : Nat); omega⟩) (fun r17 G16 H locs hw hR hS => ?_)
      refine th_istore_n hx hb dX8_describe_58 rfl hL (by decide) rfl (fun ls hL => ?_)
      refine th_aload_n hx hb dX8_describe_59 rfl (lv_at hL.1 2 rfl) ?_
      refine lv_iload_n hx hb dX8_describe_60 rfl (lv_at hL.1 0 rfl) ?_
      refine lv_iload hx hb dX8_describe_61 (lv_at hL.1 1 rfl) ?_
      refine lv_if_ne hx hb dX8_describe_63 (tgt := 71) (by decide) (fun h => ?_) (fun h => ?_)
      · replace hw := hw.1 h
        refine lv_iload hx hb dX8_describe_71 (lv_at hL.1 1 rfl) ?_
        refine lv_iconst hx hb dX8_describe_73 (v := 1) rfl ?_
        refine lv_icmp_ne hx hb dX8_describe_74 (tgt := 82) (by decide) (fun h => ?_) (fun h => ?_)
        · replace hw := hw.1 h
          refine lv_bipush hx hb dX8_describe_82 (v := 98) rfl ?_
          exact tk_X8_describe_b84 E (c24 := cells + 0 + 0 + 0 + 0 + 0 + 0) (s24 := slots + 0 + 0 + 0 + 0 + 0 + 0) (fun G H locs cells slots ls y0 y1 y2 y3 hw hR hS hL hc => ih hR hS hL hw ⟨by omega, by omega⟩) hR hS (hL.sub [2, 3, 4] rfl) hw ⟨by omega, by omega, by omega, by omega⟩
        · replace hw := hw.2 h
          refine lv_bipush hx hb dX8_describe_77 (v := 114) rfl ?_
          refine lv_goto hx hb dX8_describe_79 (tgt := 84) (by decide) ?_
          exact tk_X8_describe_b84 E (c24 := cells + 0 + 0 + 0 + 0 + 0 + 0) (s24 := slots + 0 + 0 + 0 + 0 + 0 + 0) (fun G H locs cells slots ls y0 y1 y2 y3 hw hR hS hL hc => ih hR hS hL hw ⟨by omega, by omega⟩) hR hS (hL.sub [2, 3, 4] rfl) hw ⟨by omega, by omega, by omega, by omega⟩
      · replace hw := hw.2 h
        refine lv_bipush hx hb dX8_describe_66 (v := 119) rfl ?_
        refine lv_goto hx hb dX8_describe_68 (tgt := 84) (by decide) ?_
        exact tk_X8_describe_b84 E (c24 := cells + 0 + 0 + 0 + 0 + 0 + 0) (s24 := slots + 0 + 0 + 0 + 0 + 0 + 0) (fun G H locs cells slots ls y0 y1 y2 y3 hw hR hS hL hc => ih hR hS hL hw ⟨by omega, by omega⟩) hR hS (hL.sub [2, 3, 4] rfl) hw ⟨by omega, by omega, by omega, by omega⟩
theorem tk_X8_describe {l : Launch} {D : tD} {B : Nat} {Q : Int32 → aH → Prop} {a0 : Nat} {x1 : Int32} : Met l yX8_describe (ws_ yX8_describe cX8_describe 5 ((Option.some Jvm.ClassFile.FieldType.int))) rm_X8_describe (th_P D B [rv a0, .int x1] (fun G => tw_X8_describe Q G a0 x1)) (th_Qi D B Q) 0 0 (th_A B) :=
  th_ofW (by decide +kernel) (th_cr (th_ci th_cn)) (Nat.le_of_ble_eq_true rfl) (fun p e s m args below meth c CF hret hlk hnm hK hSt G ls hR hS hw hL => by
    have E : th_E p m c cX8_describe 5 s args RX8 meth ((Option.some Jvm.ClassFile.FieldType.int)) "describe" D B := ⟨CF, hret, hlk, hnm, hK, hSt⟩
    have hx := CF.1; have hb := CF.2.1
    have hL : th_L ls 5 [(0, rv a0), (1, .int x1)] := hL
    unfold tw_X8_describe at hw
    refine lv_iload_n hx hb dX8_describe_0 rfl (lv_at hL.1 1 rfl) ?_
    refine th_ki hS (th_rS CF hK hSt hR hS (rest := []) (tk_X8_isBay) (cw_X8_122 CF hK (by decide +kernel)) hw rfl hL.1.1 rfl th_cn (Nat.le_of_ble_eq_true rfl) dX8_describe_1 ⟨by show _ ≤ (0 : Nat); omega, by show _ ≤ (0 : Nat); omega⟩) (fun r2 G1 H locs hw hR hS => ?_)
    refine lv_if_ne hx hb dX8_describe_4 (tgt := 9) (by decide) (fun h => ?_) (fun h => ?_)
    · replace hw := hw.1 h
      refine th_aload_n hx hb dX8_describe_9 rfl (lv_at hL.1 0 rfl) ?_
      refine th_aload_n hx hb dX8_describe_10 rfl (lv_at hL.1 0 rfl) ?_
      refine lv_iconst hx hb dX8_describe_11 (v := 0) rfl ?_
      refine lv_iload_n hx hb dX8_describe_12 rfl (lv_at hL.1 1 rfl) ?_
      obtain ⟨ho, hw⟩ := hw
      refine th_ki hS (th_rV CF hK hSt hR hS ho (ci := 8) rfl (rest := [rv a0]) (tk_X8_writes) (cw_X8_295 CF hK (by decide +kernel)) hw rfl hL.1.1 rfl (th_cr th_cn) (Nat.le_of_ble_eq_true rfl) dX8_describe_13 ⟨by show _ ≤ (0 : Nat); omega, by show _ ≤ (0 : Nat); omega⟩) (fun r4 G3 H locs hw hR hS => ?_)
      refine lv_bipush hx hb dX8_describe_16 (v := 58) rfl ?_
      obtain ⟨ho, hw⟩ := hw
      refine th_ki hS (th_rV CF hK hSt hR hS ho (ci := 8) rfl (rest := []) (tk_X8_put) (cw_X8_292 CF hK (by decide +kernel)) hw rfl hL.1.1 rfl th_cn (Nat.le_of_ble_eq_true rfl) dX8_describe_18 ⟨by show _ ≤ (0 : Nat); omega, by show _ ≤ (0 : Nat); omega⟩) (fun r6 G5 H locs hw hR hS => ?_)
      refine th_istore_n hx hb dX8_describe_21 rfl hL (by decide) rfl (fun ls hL => ?_)
      refine lv_iconst hx hb dX8_describe_22 (v := 0) rfl ?_
      refine th_istore_n hx hb dX8_describe_23 rfl hL (by decide) rfl (fun ls hL => ?_)
      obtain ⟨n9, hw⟩ := hw
      exact tk_X8_describe_b24 E n9 hR hS (hL.sub [2, 3, 1, 0] rfl) hw ⟨by omega, by omega⟩
    · replace hw := hw.2 h
      refine lv_iconst hx hb dX8_describe_7 (v := (-1)) rfl ?_
      exact th_iret hx hb hret hlk hR hS hw (by omega) (by omega) dX8_describe_8)
def tw_X8_fault (Q : Int32 → aH → Prop) (G : aH) (a0 : Nat) : Prop :=
  th_o G a0 8 ∧ (
  (¬ a_mi G a0 12 = (-1) →
    th_o G a0 8 ∧ (
    Q (a_mi G a0 12) G)) ∧
  (a_mi G a0 12 = (-1) →
    Q (-4) G))
theorem tk_X8_fault {l : Launch} {D : tD} {B : Nat} {Q : Int32 → aH → Prop} {a0 : Nat} : Met l yX8_fault (ws_ yX8_fault cX8_fault 1 ((Option.some Jvm.ClassFile.FieldType.int))) rm_X8_fault (th_P D B [rv a0] (fun G => tw_X8_fault Q G a0)) (th_Qi D B Q) 0 0 (th_A B) :=
  th_ofW (by decide +kernel) (th_cr th_cn) (Nat.le_of_ble_eq_true rfl) (fun p e s m args below meth c CF hret hlk hnm hK hSt G ls hR hS hw hL => by
    have E : th_E p m c cX8_fault 1 s args RX8 meth ((Option.some Jvm.ClassFile.FieldType.int)) "fault" D B := ⟨CF, hret, hlk, hnm, hK, hSt⟩
    have hx := CF.1; have hb := CF.2.1
    have hL : th_L ls 1 [(0, rv a0)] := hL
    unfold tw_X8_fault at hw
    refine th_aload_n hx hb dX8_fault_0 rfl (lv_at hL.1 0 rfl) ?_
    obtain ⟨ho, hw⟩ := hw
    refine fg_X8_34 CF hK hR ho dX8_fault_1 ?_
    refine lv_iconst hx hb dX8_fault_4 (v := (-1)) rfl ?_
    refine lv_icmp_ne hx hb dX8_fault_5 (tgt := 13) (by decide) (fun h => ?_) (fun h => ?_)
    · replace hw := hw.1 h
      refine th_aload_n hx hb dX8_fault_13 rfl (lv_at hL.1 0 rfl) ?_
      obtain ⟨ho, hw⟩ := hw
      refine fg_X8_34 CF hK hR ho dX8_fault_14 ?_
      exact th_iret hx hb hret hlk hR hS hw (by omega) (by omega) dX8_fault_17
    · replace hw := hw.2 h
      refine lv_bipush hx hb dX8_fault_8 (v := (-4)) rfl ?_
      refine lv_goto hx hb dX8_fault_10 (tgt := 17) (by decide) ?_
      exact th_iret hx hb hret hlk hR hS hw (by omega) (by omega) dX8_fault_17)
def tw_X8_isFloor (Q : Int32 → aH → Prop) (G : aH) (x0 : Int32) : Prop :=
  (tw_X8_isIn
    (fun (r2 : Int32) (G1 : aH) =>
      narrow .boolean (.int r2) = .int r2 ∧ Q r2 G1)
    G x0 0 1)
theorem tk_X8_isFloor {l : Launch} {D : tD} {B : Nat} {Q : Int32 → aH → Prop} {x0 : Int32} : Met l yX8_isFloor (ws_ yX8_isFloor cX8_isFloor 1 ((Option.some Jvm.ClassFile.FieldType.boolean))) rm_X8_isFloor (th_P D B [.int x0] (fun G => tw_X8_isFloor Q G x0)) (th_Qi D B Q) 0 0 (th_A B) :=
  th_ofW (by decide +kernel) (th_ci th_cn) (Nat.le_of_ble_eq_true rfl) (fun p e s m args below meth c CF hret hlk hnm hK hSt G ls hR hS hw hL => by
    have E : th_E p m c cX8_isFloor 1 s args RX8 meth ((Option.some Jvm.ClassFile.FieldType.boolean)) "isFloor" D B := ⟨CF, hret, hlk, hnm, hK, hSt⟩
    have hx := CF.1; have hb := CF.2.1
    have hL : th_L ls 1 [(0, .int x0)] := hL
    unfold tw_X8_isFloor at hw
    refine lv_iload_n hx hb dX8_isFloor_0 rfl (lv_at hL.1 0 rfl) ?_
    refine lv_iconst hx hb dX8_isFloor_1 (v := 0) rfl ?_
    refine lv_iconst hx hb dX8_isFloor_2 (v := 1) rfl ?_
    refine th_ki hS (th_rS CF hK hSt hR hS (rest := []) (tk_X8_isIn) (cw_X8_56 CF hK (by decide +kernel)) hw rfl hL.1.1 rfl th_cn (Nat.le_of_ble_eq_true rfl) dX8_isFloor_3 ⟨by show _ ≤ (0 : Nat); omega, by show _ ≤ (0 : Nat); omega⟩) (fun r2 G1 H locs hw hR hS => ?_)
    exact th_zret .boolean hx hb hret hw.1 hlk hR hS hw.2 (by omega) (by omega) dX8_isFloor_6)
def tw_X8_becomes (Q : Int32 → aH → Prop) (G : aH) (a0 : Nat) (x1 : Int32) (x2 : Int32) : Prop :=
  th_o G a0 8 ∧ (
  (tw_X8_starts
    (fun (G1 : aH) =>
      th_o G1 a0 8 ∧ (
      th_ai G1 (a_mr G1 a0 0) 0 x1 ∧ (
      ∀ x3_2 : Int32, x3_2 = a_mi G1 (a_mr G1 a0 0) x1.toNatClampNeg → 
      th_o G1 a0 8 ∧ (
      th_ai G1 (a_mr G1 a0 0) 0 x1 ∧ (
      ∀ G3 : aH, G3 = a_si G1 (a_mr G1 a0 0) x1.toNatClampNeg x2 → 
      th_o G3 a0 8 ∧ (
      (tw_X8_remembers
        (fun (r5 : Int32) (G4 : aH) =>
          Q r5 G4)
        G3 a0 x3_2)))))))
    G a0))
theorem tk_X8_becomes {l : Launch} {D : tD} {B : Nat} {Q : Int32 → aH → Prop} {a0 : Nat} {x1 : Int32} {x2 : Int32} : Met l yX8_becomes (ws_ yX8_becomes cX8_becomes 4 ((Option.some Jvm.ClassFile.FieldType.int))) rm_X8_becomes (th_P D B [rv a0, .int x1, .int x2] (fun G => tw_X8_becomes Q G a0 x1 x2)) (th_Qi D B Q) 0 0 (th_A B) :=
  th_ofW (by decide +kernel) (th_cr (th_ci (th_ci th_cn))) (Nat.le_of_ble_eq_true rfl) (fun p e s m args below meth c CF hret hlk hnm hK hSt G ls hR hS hw hL => by
    have E : th_E p m c cX8_becomes 4 s args RX8 meth ((Option.some Jvm.ClassFile.FieldType.int)) "becomes" D B := ⟨CF, hret, hlk, hnm, hK, hSt⟩
    have hx := CF.1; have hb := CF.2.1
    have hL : th_L ls 4 [(0, rv a0), (1, .int x1), (2, .int x2)] := hL
    unfold tw_X8_becomes at hw
    refine th_aload_n hx hb dX8_becomes_0 rfl (lv_at hL.1 0 rfl) ?_
    obtain ⟨ho, hw⟩ := hw
    refine th_kv hS (th_rV CF hK hSt hR hS ho (ci := 8) rfl (rest := []) (tk_X8_starts) (cw_X8_97 CF hK (by decide +kernel)) hw rfl hL.1.1 rfl th_cn (Nat.le_of_ble_eq_true rfl) dX8_becomes_1 ⟨by show _ ≤ (0 : Nat); omega, by show _ ≤ (0 : Nat); omega⟩) (fun G1 H locs hw hR hS => ?_)
    refine th_aload_n hx hb dX8_becomes_4 rfl (lv_at hL.1 0 rfl) ?_
    obtain ⟨ho, hw⟩ := hw
    refine fg_X8_9 CF hK hR ho dX8_becomes_5 ?_
    refine lv_iload_n hx hb dX8_becomes_8 rfl (lv_at hL.1 1 rfl) ?_
    obtain ⟨ha, hw⟩ := hw
    refine th_iald hx hb hK hR ha dX8_becomes_9 ?_
    obtain ⟨x3_2, hx3_2⟩ : ∃ y : Int32, y = a_mi G1 (a_mr G1 a0 0) x1.toNatClampNeg := ⟨_, rfl⟩
    replace hw := hw x3_2 hx3_2
    refine th_nmi hx3_2 ?_
    refine th_istore_n hx hb dX8_becomes_10 rfl hL (by decide) rfl (fun ls hL => ?_)
    refine th_aload_n hx hb dX8_becomes_11 rfl (lv_at hL.1 1 rfl) ?_
    obtain ⟨ho, hw⟩ := hw
    refine fg_X8_9 CF hK hR ho dX8_becomes_12 ?_
    refine lv_iload_n hx hb dX8_becomes_15 rfl (lv_at hL.1 2 rfl) ?_
    refine lv_iload_n hx hb dX8_becomes_16 rfl (lv_at hL.1 3 rfl) ?_
    obtain ⟨ha, hw⟩ := hw
    refine th_iast hx hb hK hR hS ha dX8_becomes_17 (fun G3 H locs hG hR hS => ?_)
    replace hw := hw G3 hG
    refine th_aload_n hx hb dX8_becomes_18 rfl (lv_at hL.1 1 rfl) ?_
    refine lv_iload_n hx hb dX8_becomes_19 rfl (lv_at hL.1 0 rfl) ?_
    obtain ⟨ho, hw⟩ := hw
    refine th_ki hS (th_rV CF hK hSt hR hS ho (ci := 8) rfl (rest := []) (tk_X8_remembers) (cw_X8_81 CF hK (by decide +kernel)) hw rfl hL.1.1 rfl th_cn (Nat.le_of_ble_eq_true rfl) dX8_becomes_20 ⟨by show _ ≤ (0 : Nat); omega, by show _ ≤ (0 : Nat); omega⟩) (fun r5 G4 H locs hw hR hS => ?_)
    exact th_iret hx hb hret hlk hR hS hw (by omega) (by omega) dX8_becomes_23)
def tw_X8_flails (Q : Int32 → aH → Prop) (G : aH) (a0 : Nat) (x1 : Int32) (x2 : Int32) : Prop :=
  (tw_X8_isFloor
    (fun (r2 : Int32) (G1 : aH) =>
      (¬ r2 = 0 →
        (tw_X8_isIn
          (fun (r4 : Int32) (G3 : aH) =>
            (r4 = 0 →
              Q (-2) G3) ∧
            (¬ r4 = 0 →
              th_o G3 a0 8 ∧ (
              (tw_X8_becomes
                (fun (r6 : Int32) (G5 : aH) =>
                  Q r6 G5)
                G3 a0 ((383 + (4 * x1)) + 2) x2))))
          G1 x2 1 6)) ∧
      (r2 = 0 →
        Q (-1) G1))
    G x1)
theorem tk_X8_flails {l : Launch} {D : tD} {B : Nat} {Q : Int32 → aH → Prop} {a0 : Nat} {x1 : Int32} {x2 : Int32} : Met l yX8_flails (ws_ yX8_flails cX8_flails 3 ((Option.some Jvm.ClassFile.FieldType.int))) rm_X8_flails (th_P D B [rv a0, .int x1, .int x2] (fun G => tw_X8_flails Q G a0 x1 x2)) (th_Qi D B Q) 0 0 (th_A B) :=
  th_ofW (by decide +kernel) (th_cr (th_ci (th_ci th_cn))) (Nat.le_of_ble_eq_true rfl) (fun p e s m args below meth c CF hret hlk hnm hK hSt G ls hR hS hw hL => by
    have E : th_E p m c cX8_flails 3 s args RX8 meth ((Option.some Jvm.ClassFile.FieldType.int)) "flails" D B := ⟨CF, hret, hlk, hnm, hK, hSt⟩
    have hx := CF.1; have hb := CF.2.1
    have hL : th_L ls 3 [(0, rv a0), (1, .int x1), (2, .int x2)] := hL
    unfold tw_X8_flails at hw
    refine lv_iload_n hx hb dX8_flails_0 rfl (lv_at hL.1 1 rfl) ?_
    refine th_ki hS (th_rS CF hK hSt hR hS (rest := []) (tk_X8_isFloor) (cw_X8_159 CF hK (by decide +kernel)) hw rfl hL.1.1 rfl th_cn (Nat.le_of_ble_eq_true rfl) dX8_flails_1 ⟨by show _ ≤ (0 : Nat); omega, by show _ ≤ (0 : Nat); omega⟩) (fun r2 G1 H locs hw hR hS => ?_)
    refine lv_if_ne hx hb dX8_flails_4 (tgt := 11) (by decide) (fun h => ?_) (fun h => ?_)
    · replace hw := hw.1 h
      refine lv_iload_n hx hb dX8_flails_11 rfl (lv_at hL.1 2 rfl) ?_
      refine lv_iconst hx hb dX8_flails_12 (v := 1) rfl ?_
      refine lv_bipush hx hb dX8_flails_13 (v := 6) rfl ?_
      refine th_ki hS (th_rS CF hK hSt hR hS (rest := []) (tk_X8_isIn) (cw_X8_56 CF hK (by decide +kernel)) hw rfl hL.1.1 rfl th_cn (Nat.le_of_ble_eq_true rfl) dX8_flails_15 ⟨by show _ ≤ (0 : Nat); omega, by show _ ≤ (0 : Nat); omega⟩) (fun r4 G3 H locs hw hR hS => ?_)
      refine lv_if_eq hx hb dX8_flails_18 (tgt := 38) (by decide) (fun h => ?_) (fun h => ?_)
      · replace hw := hw.1 h
        refine lv_bipush hx hb dX8_flails_38 (v := (-2)) rfl ?_
        exact th_iret hx hb hret hlk hR hS hw (by omega) (by omega) dX8_flails_40
      · replace hw := hw.2 h
        refine th_aload_n hx hb dX8_flails_21 rfl (lv_at hL.1 0 rfl) ?_
        refine lv_sipush hx hb dX8_flails_22 (v := 383) rfl ?_
        refine lv_iconst hx hb dX8_flails_25 (v := 4) rfl ?_
        refine lv_iload_n hx hb dX8_flails_26 rfl (lv_at hL.1 1 rfl) ?_
        refine lv_imul hx hb dX8_flails_27 ?_
        refine lv_iadd hx hb dX8_flails_28 ?_
        refine lv_iconst hx hb dX8_flails_29 (v := 2) rfl ?_
        refine lv_iadd hx hb dX8_flails_30 ?_
        refine lv_iload_n hx hb dX8_flails_31 rfl (lv_at hL.1 2 rfl) ?_
        obtain ⟨ho, hw⟩ := hw
        refine th_ki hS (th_rV CF hK hSt hR hS ho (ci := 8) rfl (rest := []) (tk_X8_becomes) (cw_X8_175 CF hK (by decide +kernel)) hw rfl hL.1.1 rfl th_cn (Nat.le_of_ble_eq_true rfl) dX8_flails_32 ⟨by show _ ≤ (0 : Nat); omega, by show _ ≤ (0 : Nat); omega⟩) (fun r6 G5 H locs hw hR hS => ?_)
        refine lv_goto hx hb dX8_flails_35 (tgt := 40) (by decide) ?_
        exact th_iret hx hb hret hlk hR hS hw (by omega) (by omega) dX8_flails_40
    · replace hw := hw.2 h
      refine lv_iconst hx hb dX8_flails_7 (v := (-1)) rfl ?_
      refine lv_goto hx hb dX8_flails_8 (tgt := 40) (by decide) ?_
      exact th_iret hx hb hret hlk hR hS hw (by omega) (by omega) dX8_flails_40)
def tw_X8_floorOf_b40 (Q : Int32 → aH → Prop) (G : aH) (a0 : Nat) (x1 : Int32) (x2 : Int32) : Prop :=
  th_o G a0 8 ∧ (
  (tw_X8_floor
    (fun (r6 : Int32) (G5 : aH) =>
      Q r6 G5)
    G a0 x1 x2))
def tw_X8_floorOf (Q : Int32 → aH → Prop) (G : aH) (a0 : Nat) (x1 : Int32) (x2 : Int32) : Prop :=
  (tw_X8_isFloor
    (fun (r2 : Int32) (G1 : aH) =>
      (¬ r2 = 0 →
        (tw_X8_isIn
          (fun (r4 : Int32) (G3 : aH) =>
            (¬ r4 = 0 →
              (¬ x2 = 1 →
                tw_X8_floorOf_b40 Q G3 a0 x1 x2) ∧
              (x2 = 1 →
                th_o G3 a0 8 ∧ (
                (tw_X8_floor
                  (fun (r8 : Int32) (G7 : aH) =>
                    (¬ r8 = 0 →
                      tw_X8_floorOf_b40 Q G7 a0 x1 x2) ∧
                    (r8 = 0 →
                      Q (-4) G7))
                  G3 a0 x1 0)))) ∧
            (r4 = 0 →
              Q (-2) G3))
          G1 x2 0 3)) ∧
      (r2 = 0 →
        Q (-1) G1))
    G x1)
theorem tk_X8_floorOf_b40 {p : Program} {l : Launch} {e : Env} {s : State} {m : MethodId} {args : Array Value} {below : List Frame} {meth : Method} {c : Code} {D : tD} {B : Nat} (E : th_E p m c cX8_floorOf 3 s args RX8 meth ((Option.some Jvm.ClassFile.FieldType.int)) "floorOf" D B) {Q : Int32 → aH → Prop} {G : aH} {H : Heap} {locs : List Loc} {cells slots : Nat} {ls : Array Slot} {a0 : Nat} {x1 : Int32} {x2 : Int32} (hR : th_H D B G H) (hS : va_S (th_A B) s.heap H locs) (hL : th_L ls 3 [(0, rv a0), (1, .int x1), (2, .int x2)]) (hw : tw_X8_floorOf_b40 Q G a0 x1 x2) (hc : cells + (0) ≤ 0 ∧ slots + (0) ≤ 0) : W p l e rm_X8_floorOf s m args below meth c H locs cells slots (MQ below (th_Qi D B Q) args s 0 0 (th_A B)) (F0 m 40 ls []) := by
  have CF := E.1; have hx := CF.1; have hb := CF.2.1; have hret := E.2.1; have hlk := E.2.2.1; have hnm := E.2.2.2.1; have hK := E.2.2.2.2.1; have hSt := E.2.2.2.2.2
  unfold tw_X8_floorOf_b40 at hw
  refine th_aload_n hx hb dX8_floorOf_40 rfl (lv_at hL.1 0 rfl) ?_
  refine lv_iload_n hx hb dX8_floorOf_41 rfl (lv_at hL.1 1 rfl) ?_
  refine lv_iload_n hx hb dX8_floorOf_42 rfl (lv_at hL.1 2 rfl) ?_
  obtain ⟨ho, hw⟩ := hw
  refine th_ki hS (th_rV CF hK hSt hR hS ho (ci := 8) rfl (rest := []) (tk_X8_floor) (cw_X8_165 CF hK (by decide +kernel)) hw rfl hL.1.1 rfl th_cn (Nat.le_of_ble_eq_true rfl) dX8_floorOf_43 ⟨by show _ ≤ (0 : Nat); omega, by show _ ≤ (0 : Nat); omega⟩) (fun r6 G5 H locs hw hR hS => ?_)
  exact th_iret hx hb hret hlk hR hS hw (by omega) (by omega) dX8_floorOf_46
theorem tk_X8_floorOf {l : Launch} {D : tD} {B : Nat} {Q : Int32 → aH → Prop} {a0 : Nat} {x1 : Int32} {x2 : Int32} : Met l yX8_floorOf (ws_ yX8_floorOf cX8_floorOf 3 ((Option.some Jvm.ClassFile.FieldType.int))) rm_X8_floorOf (th_P D B [rv a0, .int x1, .int x2] (fun G => tw_X8_floorOf Q G a0 x1 x2)) (th_Qi D B Q) 0 0 (th_A B) :=
  th_ofW (by decide +kernel) (th_cr (th_ci (th_ci th_cn))) (Nat.le_of_ble_eq_true rfl) (fun p e s m args below meth c CF hret hlk hnm hK hSt G ls hR hS hw hL => by
    have E : th_E p m c cX8_floorOf 3 s args RX8 meth ((Option.some Jvm.ClassFile.FieldType.int)) "floorOf" D B := ⟨CF, hret, hlk, hnm, hK, hSt⟩
    have hx := CF.1; have hb := CF.2.1
    have hL : th_L ls 3 [(0, rv a0), (1, .int x1), (2, .int x2)] := hL
    unfold tw_X8_floorOf at hw
    refine lv_iload_n hx hb dX8_floorOf_0 rfl (lv_at hL.1 1 rfl) ?_
    refine th_ki hS (th_rS CF hK hSt hR hS (rest := []) (tk_X8_isFloor) (cw_X8_159 CF hK (by decide +kernel)) hw rfl hL.1.1 rfl th_cn (Nat.le_of_ble_eq_true rfl) dX8_floorOf_1 ⟨by show _ ≤ (0 : Nat); omega, by show _ ≤ (0 : Nat); omega⟩) (fun r2 G1 H locs hw hR hS => ?_)
    refine lv_if_ne hx hb dX8_floorOf_4 (tgt := 9) (by decide) (fun h => ?_) (fun h => ?_)
    · replace hw := hw.1 h
      refine lv_iload_n hx hb dX8_floorOf_9 rfl (lv_at hL.1 2 rfl) ?_
      refine lv_iconst hx hb dX8_floorOf_10 (v := 0) rfl ?_
      refine lv_iconst hx hb dX8_floorOf_11 (v := 3) rfl ?_
      refine th_ki hS (th_rS CF hK hSt hR hS (rest := []) (tk_X8_isIn) (cw_X8_56 CF hK (by decide +kernel)) hw rfl hL.1.1 rfl th_cn (Nat.le_of_ble_eq_true rfl) dX8_floorOf_12 ⟨by show _ ≤ (0 : Nat); omega, by show _ ≤ (0 : Nat); omega⟩) (fun r4 G3 H locs hw hR hS => ?_)
      refine lv_if_ne hx hb dX8_floorOf_15 (tgt := 21) (by decide) (fun h => ?_) (fun h => ?_)
      · replace hw := hw.1 h
        refine lv_iload_n hx hb dX8_floorOf_21 rfl (lv_at hL.1 2 rfl) ?_
        refine lv_iconst hx hb dX8_floorOf_22 (v := 1) rfl ?_
        refine lv_icmp_ne hx hb dX8_floorOf_23 (tgt := 40) (by decide) (fun h => ?_) (fun h => ?_)
        · replace hw := hw.1 h
          exact tk_X8_floorOf_b40 E hR hS (hL.sub [0, 1, 2] rfl) hw ⟨by omega, by omega⟩
        · replace hw := hw.2 h
          refine th_aload_n hx hb dX8_floorOf_26 rfl (lv_at hL.1 0 rfl) ?_
          refine lv_iload_n hx hb dX8_floorOf_27 rfl (lv_at hL.1 1 rfl) ?_
          refine lv_iconst hx hb dX8_floorOf_28 (v := 0) rfl ?_
          obtain ⟨ho, hw⟩ := hw
          refine th_ki hS (th_rV CF hK hSt hR hS ho (ci := 8) rfl (rest := []) (tk_X8_floor) (cw_X8_165 CF hK (by decide +kernel)) hw rfl hL.1.1 rfl th_cn (Nat.le_of_ble_eq_true rfl) dX8_floorOf_29 ⟨by show _ ≤ (0 : Nat); omega, by show _ ≤ (0 : Nat); omega⟩) (fun r8 G7 H locs hw hR hS => ?_)
          refine lv_if_ne hx hb dX8_floorOf_32 (tgt := 40) (by decide) (fun h => ?_) (fun h => ?_)
          · replace hw := hw.1 h
            exact tk_X8_floorOf_b40 E hR hS (hL.sub [0, 1, 2] rfl) hw ⟨by omega, by omega⟩
          · replace hw := hw.2 h
            refine lv_bipush hx hb dX8_floorOf_35 (v := (-4)) rfl ?_
            refine lv_goto hx hb dX8_floorOf_37 (tgt := 46) (by decide) ?_
            exact th_iret hx hb hret hlk hR hS hw (by omega) (by omega) dX8_floorOf_46
      · replace hw := hw.2 h
        refine lv_bipush hx hb dX8_floorOf_18 (v := (-2)) rfl ?_
        exact th_iret hx hb hret hlk hR hS hw (by omega) (by omega) dX8_floorOf_20
    · replace hw := hw.2 h
      refine lv_iconst hx hb dX8_floorOf_7 (v := (-1)) rfl ?_
      exact th_iret hx hb hret hlk hR hS hw (by omega) (by omega) dX8_floorOf_8)
def tw_X8_grain (Q : Int32 → aH → Prop) (G : aH) (a0 : Nat) (x1 : Int32) : Prop :=
  (x1 = 0 →
    th_o G a0 8 ∧ (
    th_ai G (a_mr G a0 0) 0 430 ∧ (
    Q (a_mi G (a_mr G a0 0) (430 : Int32).toNatClampNeg) G))) ∧
  (x1 = 1 →
    th_o G a0 8 ∧ (
    (tw_X8_sum
      (fun (r2 : Int32) (G1 : aH) =>
        Q r2 G1)
      G a0 x1))) ∧
  (x1 = 2 →
    th_o G a0 8 ∧ (
    (tw_X8_sum
      (fun (r4 : Int32) (G3 : aH) =>
        Q r4 G3)
      G a0 x1))) ∧
  (x1 = 3 →
    th_o G a0 8 ∧ (
    (tw_X8_sum
      (fun (r6 : Int32) (G5 : aH) =>
        Q r6 G5)
      G a0 x1))) ∧
  (x1 = 4 →
    th_o G a0 8 ∧ (
    th_ai G (a_mr G a0 0) 0 431 ∧ (
    Q (a_mi G (a_mr G a0 0) (431 : Int32).toNatClampNeg) G))) ∧
  (x1 = 5 →
    th_o G a0 8 ∧ (
    th_ai G (a_mr G a0 0) 0 432 ∧ (
    Q (a_mi G (a_mr G a0 0) (432 : Int32).toNatClampNeg) G))) ∧
  (¬ x1 = 0 → ¬ x1 = 1 → ¬ x1 = 2 → ¬ x1 = 3 → ¬ x1 = 4 → ¬ x1 = 5 → 
    Q (-2) G)
theorem tk_X8_grain {l : Launch} {D : tD} {B : Nat} {Q : Int32 → aH → Prop} {a0 : Nat} {x1 : Int32} : Met l yX8_grain (ws_ yX8_grain cX8_grain 2 ((Option.some Jvm.ClassFile.FieldType.int))) rm_X8_grain (th_P D B [rv a0, .int x1] (fun G => tw_X8_grain Q G a0 x1)) (th_Qi D B Q) 0 0 (th_A B) :=
  th_ofW (by decide +kernel) (th_cr (th_ci th_cn)) (Nat.le_of_ble_eq_true rfl) (fun p e s m args below meth c CF hret hlk hnm hK hSt G ls hR hS hw hL => by
    have E : th_E p m c cX8_grain 2 s args RX8 meth ((Option.some Jvm.ClassFile.FieldType.int)) "grain" D B := ⟨CF, hret, hlk, hnm, hK, hSt⟩
    have hx := CF.1; have hb := CF.2.1
    have hL : th_L ls 2 [(0, rv a0), (1, .int x1)] := hL
    unfold tw_X8_grain at hw
    refine lv_iload_n hx hb dX8_grain_0 rfl (lv_at hL.1 1 rfl) ?_
    by_cases g0 : x1 = 0
    · replace hw := hw.1 g0
      refine lv_tableIn hx hb dX8_grain_1 (tgt := 40) (by rw [g0]; decide) (by rw [g0]; decide) (by rw [g0]; rfl) (by decide) ?_
      refine th_aload_n hx hb dX8_grain_40 rfl (lv_at hL.1 0 rfl) ?_
      obtain ⟨ho, hw⟩ := hw
      refine fg_X8_9 CF hK hR ho dX8_grain_41 ?_
      refine lv_sipush hx hb dX8_grain_44 (v := 430) rfl ?_
      obtain ⟨ha, hw⟩ := hw
      refine th_iald hx hb hK hR ha dX8_grain_47 ?_
      exact th_iret hx hb hret hlk hR hS hw (by omega) (by omega) dX8_grain_48
    by_cases g1 : x1 = 1
    · replace hw := hw.2.1 g1
      refine lv_tableIn hx hb dX8_grain_1 (tgt := 49) (by rw [g1]; decide) (by rw [g1]; decide) (by rw [g1]; rfl) (by decide) ?_
      refine th_aload_n hx hb dX8_grain_49 rfl (lv_at hL.1 0 rfl) ?_
      refine lv_iload_n hx hb dX8_grain_50 rfl (lv_at hL.1 1 rfl) ?_
      obtain ⟨ho, hw⟩ := hw
      refine th_ki hS (th_rV CF hK hSt hR hS ho (ci := 8) rfl (rest := []) (tk_X8_sum) (cw_X8_242 CF hK (by decide +kernel)) hw rfl hL.1.1 rfl th_cn (Nat.le_of_ble_eq_true rfl) dX8_grain_51 ⟨by show _ ≤ (0 : Nat); omega, by show _ ≤ (0 : Nat); omega⟩) (fun r2 G1 H locs hw hR hS => ?_)
      exact th_iret hx hb hret hlk hR hS hw (by omega) (by omega) dX8_grain_54
    by_cases g2 : x1 = 2
    · replace hw := hw.2.2.1 g2
      refine lv_tableIn hx hb dX8_grain_1 (tgt := 49) (by rw [g2]; decide) (by rw [g2]; decide) (by rw [g2]; rfl) (by decide) ?_
      refine th_aload_n hx hb dX8_grain_49 rfl (lv_at hL.1 0 rfl) ?_
      refine lv_iload_n hx hb dX8_grain_50 rfl (lv_at hL.1 1 rfl) ?_
      obtain ⟨ho, hw⟩ := hw
      refine th_ki hS (th_rV CF hK hSt hR hS ho (ci := 8) rfl (rest := []) (tk_X8_sum) (cw_X8_242 CF hK (by decide +kernel)) hw rfl hL.1.1 rfl th_cn (Nat.le_of_ble_eq_true rfl) dX8_grain_51 ⟨by show _ ≤ (0 : Nat); omega, by show _ ≤ (0 : Nat); omega⟩) (fun r4 G3 H locs hw hR hS => ?_)
      exact th_iret hx hb hret hlk hR hS hw (by omega) (by omega) dX8_grain_54
    by_cases g3 : x1 = 3
    · replace hw := hw.2.2.2.1 g3
      refine lv_tableIn hx hb dX8_grain_1 (tgt := 49) (by rw [g3]; decide) (by rw [g3]; decide) (by rw [g3]; rfl) (by decide) ?_
      refine th_aload_n hx hb dX8_grain_49 rfl (lv_at hL.1 0 rfl) ?_
      refine lv_iload_n hx hb dX8_grain_50 rfl (lv_at hL.1 1 rfl) ?_
      obtain ⟨ho, hw⟩ := hw
      refine th_ki hS (th_rV CF hK hSt hR hS ho (ci := 8) rfl (rest := []) (tk_X8_sum) (cw_X8_242 CF hK (by decide +kernel)) hw rfl hL.1.1 rfl th_cn (Nat.le_of_ble_eq_true rfl) dX8_grain_51 ⟨by show _ ≤ (0 : Nat); omega, by show _ ≤ (0 : Nat); omega⟩) (fun r6 G5 H locs hw hR hS => ?_)
      exact th_iret hx hb hret hlk hR hS hw (by omega) (by omega) dX8_grain_54
    by_cases g4 : x1 = 4
    · replace hw := hw.2.2.2.2.1 g4
      refine lv_tableIn hx hb dX8_grain_1 (tgt := 55) (by rw [g4]; decide) (by rw [g4]; decide) (by rw [g4]; rfl) (by decide) ?_
      refine th_aload_n hx hb dX8_grain_55 rfl (lv_at hL.1 0 rfl) ?_
      obtain ⟨ho, hw⟩ := hw
      refine fg_X8_9 CF hK hR ho dX8_grain_56 ?_
      refine lv_sipush hx hb dX8_grain_59 (v := 431) rfl ?_
      obtain ⟨ha, hw⟩ := hw
      refine th_iald hx hb hK hR ha dX8_grain_62 ?_
      exact th_iret hx hb hret hlk hR hS hw (by omega) (by omega) dX8_grain_63
    by_cases g5 : x1 = 5
    · replace hw := hw.2.2.2.2.2.1 g5
      refine lv_tableIn hx hb dX8_grain_1 (tgt := 64) (by rw [g5]; decide) (by rw [g5]; decide) (by rw [g5]; rfl) (by decide) ?_
      refine th_aload_n hx hb dX8_grain_64 rfl (lv_at hL.1 0 rfl) ?_
      obtain ⟨ho, hw⟩ := hw
      refine fg_X8_9 CF hK hR ho dX8_grain_65 ?_
      refine lv_sipush hx hb dX8_grain_68 (v := 432) rfl ?_
      obtain ⟨ha, hw⟩ := hw
      refine th_iald hx hb hK hR ha dX8_grain_71 ?_
      exact th_iret hx hb hret hlk hR hS hw (by omega) (by omega) dX8_grain_72
    replace hw := hw.2.2.2.2.2.2 g0 g1 g2 g3 g4 g5
    have w0 := th_sw g0 (k := 0) (by decide)
    have w1 := th_sw g1 (k := 1) (by decide)
    have w2 := th_sw g2 (k := 2) (by decide)
    have w3 := th_sw g3 (k := 3) (by decide)
    have w4 := th_sw g4 (k := 4) (by decide)
    have w5 := th_sw g5 (k := 5) (by decide)
    refine lv_tableOut hx hb dX8_grain_1 (tgt := 73) (by omega) (by decide) ?_
    refine lv_bipush hx hb dX8_grain_73 (v := (-2)) rfl ?_
    exact th_iret hx hb hret hlk hR hS hw (by omega) (by omega) dX8_grain_75)
def tw_X8_grainAgain (Q : Int32 → aH → Prop) (G : aH) (a0 : Nat) : Prop :=
  th_o G a0 8 ∧ (
  (tw_X8_sum
    (fun (r2 : Int32) (G1 : aH) =>
      th_o G1 a0 8 ∧ (
      (tw_X8_sum
        (fun (r4 : Int32) (G3 : aH) =>
          th_o G3 a0 8 ∧ (
          (tw_X8_sum
            (fun (r6 : Int32) (G5 : aH) =>
              th_o G5 a0 8 ∧ (
              th_ai G5 (a_mr G5 a0 0) 0 431 ∧ (
              th_o G5 a0 8 ∧ (
              th_ai G5 (a_mr G5 a0 0) 0 432 ∧ (
              Q ((((r2 + r4) + r6) + (a_mi G5 (a_mr G5 a0 0) (431 : Int32).toNatClampNeg)) + (a_mi G5 (a_mr G5 a0 0) (432 : Int32).toNatClampNeg)) G5)))))
            G3 a0 3)))
        G1 a0 2)))
    G a0 1))
theorem tk_X8_grainAgain {l : Launch} {D : tD} {B : Nat} {Q : Int32 → aH → Prop} {a0 : Nat} : Met l yX8_grainAgain (ws_ yX8_grainAgain cX8_grainAgain 1 ((Option.some Jvm.ClassFile.FieldType.int))) rm_X8_grainAgain (th_P D B [rv a0] (fun G => tw_X8_grainAgain Q G a0)) (th_Qi D B Q) 0 0 (th_A B) :=
  th_ofW (by decide +kernel) (th_cr th_cn) (Nat.le_of_ble_eq_true rfl) (fun p e s m args below meth c CF hret hlk hnm hK hSt G ls hR hS hw hL => by
    have E : th_E p m c cX8_grainAgain 1 s args RX8 meth ((Option.some Jvm.ClassFile.FieldType.int)) "grainAgain" D B := ⟨CF, hret, hlk, hnm, hK, hSt⟩
    have hx := CF.1; have hb := CF.2.1
    have hL : th_L ls 1 [(0, rv a0)] := hL
    unfold tw_X8_grainAgain at hw
    refine th_aload_n hx hb dX8_grainAgain_0 rfl (lv_at hL.1 0 rfl) ?_
    refine lv_iconst hx hb dX8_grainAgain_1 (v := 1) rfl ?_
    obtain ⟨ho, hw⟩ := hw
    refine th_ki hS (th_rV CF hK hSt hR hS ho (ci := 8) rfl (rest := []) (tk_X8_sum) (cw_X8_242 CF hK (by decide +kernel)) hw rfl hL.1.1 rfl th_cn (Nat.le_of_ble_eq_true rfl) dX8_grainAgain_2 ⟨by show _ ≤ (0 : Nat); omega, by show _ ≤ (0 : Nat); omega⟩) (fun r2 G1 H locs hw hR hS => ?_)
    refine th_aload_n hx hb dX8_grainAgain_5 rfl (lv_at hL.1 0 rfl) ?_
    refine lv_iconst hx hb dX8_grainAgain_6 (v := 2) rfl ?_
    obtain ⟨ho, hw⟩ := hw
    refine th_ki hS (th_rV CF hK hSt hR hS ho (ci := 8) rfl (rest := [.int r2]) (tk_X8_sum) (cw_X8_242 CF hK (by decide +kernel)) hw rfl hL.1.1 rfl (th_ci th_cn) (Nat.le_of_ble_eq_true rfl) dX8_grainAgain_7 ⟨by show _ ≤ (0 : Nat); omega, by show _ ≤ (0 : Nat); omega⟩) (fun r4 G3 H locs hw hR hS => ?_)
    refine lv_iadd hx hb dX8_grainAgain_10 ?_
    refine th_aload_n hx hb dX8_grainAgain_11 rfl (lv_at hL.1 0 rfl) ?_
    refine lv_iconst hx hb dX8_grainAgain_12 (v := 3) rfl ?_
    obtain ⟨ho, hw⟩ := hw
    refine th_ki hS (th_rV CF hK hSt hR hS ho (ci := 8) rfl (rest := [.int (r2 + r4)]) (tk_X8_sum) (cw_X8_242 CF hK (by decide +kernel)) hw rfl hL.1.1 rfl (th_ci th_cn) (Nat.le_of_ble_eq_true rfl) dX8_grainAgain_13 ⟨by show _ ≤ (0 : Nat); omega, by show _ ≤ (0 : Nat); omega⟩) (fun r6 G5 H locs hw hR hS => ?_)
    refine lv_iadd hx hb dX8_grainAgain_16 ?_
    refine th_aload_n hx hb dX8_grainAgain_17 rfl (lv_at hL.1 0 rfl) ?_
    obtain ⟨ho, hw⟩ := hw
    refine fg_X8_9 CF hK hR ho dX8_grainAgain_18 ?_
    refine lv_sipush hx hb dX8_grainAgain_21 (v := 431) rfl ?_
    obtain ⟨ha, hw⟩ := hw
    refine th_iald hx hb hK hR ha dX8_grainAgain_24 ?_
    refine lv_iadd hx hb dX8_grainAgain_25 ?_
    refine th_aload_n hx hb dX8_grainAgain_26 rfl (lv_at hL.1 0 rfl) ?_
    obtain ⟨ho, hw⟩ := hw
    refine fg_X8_9 CF hK hR ho dX8_grainAgain_27 ?_
    refine lv_sipush hx hb dX8_grainAgain_30 (v := 432) rfl ?_
    obtain ⟨ha, hw⟩ := hw
    refine th_iald hx hb hK hR ha dX8_grainAgain_33 ?_
    refine lv_iadd hx hb dX8_grainAgain_34 ?_
    exact th_iret hx hb hret hlk hR hS hw (by omega) (by omega) dX8_grainAgain_35)
def tw_X8_becomeDue (Q : Int32 → aH → Prop) (G : aH) (a0 : Nat) (x1 : Int32) (x2 : Int32) : Prop :=
  th_o G a0 8 ∧ (
  (tw_X8_of
    (fun (r2 : Int32) (G1 : aH) =>
      th_o G1 a0 8 ∧ (
      (tw_X8_of
        (fun (r4 : Int32) (G3 : aH) =>
          Q (((r2 + x2) / 10) - (r4 / 10)) G3)
        G1 a0 x1 1)))
    G a0 x1 1))
theorem tk_X8_becomeDue {l : Launch} {D : tD} {B : Nat} {Q : Int32 → aH → Prop} {a0 : Nat} {x1 : Int32} {x2 : Int32} : Met l yX8_becomeDue (ws_ yX8_becomeDue cX8_becomeDue 3 ((Option.some Jvm.ClassFile.FieldType.int))) rm_X8_becomeDue (th_P D B [rv a0, .int x1, .int x2] (fun G => tw_X8_becomeDue Q G a0 x1 x2)) (th_Qi D B Q) 0 0 (th_A B) :=
  th_ofW (by decide +kernel) (th_cr (th_ci (th_ci th_cn))) (Nat.le_of_ble_eq_true rfl) (fun p e s m args below meth c CF hret hlk hnm hK hSt G ls hR hS hw hL => by
    have E : th_E p m c cX8_becomeDue 3 s args RX8 meth ((Option.some Jvm.ClassFile.FieldType.int)) "becomeDue" D B := ⟨CF, hret, hlk, hnm, hK, hSt⟩
    have hx := CF.1; have hb := CF.2.1
    have hL : th_L ls 3 [(0, rv a0), (1, .int x1), (2, .int x2)] := hL
    unfold tw_X8_becomeDue at hw
    refine th_aload_n hx hb dX8_becomeDue_0 rfl (lv_at hL.1 0 rfl) ?_
    refine lv_iload_n hx hb dX8_becomeDue_1 rfl (lv_at hL.1 1 rfl) ?_
    refine lv_iconst hx hb dX8_becomeDue_2 (v := 1) rfl ?_
    obtain ⟨ho, hw⟩ := hw
    refine th_ki hS (th_rV CF hK hSt hR hS ho (ci := 8) rfl (rest := []) (tk_X8_of) (cw_X8_89 CF hK (by decide +kernel)) hw rfl hL.1.1 rfl th_cn (Nat.le_of_ble_eq_true rfl) dX8_becomeDue_3 ⟨by show _ ≤ (0 : Nat); omega, by show _ ≤ (0 : Nat); omega⟩) (fun r2 G1 H locs hw hR hS => ?_)
    refine lv_iload_n hx hb dX8_becomeDue_6 rfl (lv_at hL.1 2 rfl) ?_
    refine lv_iadd hx hb dX8_becomeDue_7 ?_
    refine lv_bipush hx hb dX8_becomeDue_8 (v := 10) rfl ?_
    refine lv_idiv hx hb dX8_becomeDue_10 (by decide) ?_
    refine th_aload_n hx hb dX8_becomeDue_11 rfl (lv_at hL.1 0 rfl) ?_
    refine lv_iload_n hx hb dX8_becomeDue_12 rfl (lv_at hL.1 1 rfl) ?_
    refine lv_iconst hx hb dX8_becomeDue_13 (v := 1) rfl ?_
    obtain ⟨ho, hw⟩ := hw
    refine th_ki hS (th_rV CF hK hSt hR hS ho (ci := 8) rfl (rest := [.int ((r2 + x2) / 10)]) (tk_X8_of) (cw_X8_89 CF hK (by decide +kernel)) hw rfl hL.1.1 rfl (th_ci th_cn) (Nat.le_of_ble_eq_true rfl) dX8_becomeDue_14 ⟨by show _ ≤ (0 : Nat); omega, by show _ ≤ (0 : Nat); omega⟩) (fun r4 G3 H locs hw hR hS => ?_)
    refine lv_bipush hx hb dX8_becomeDue_17 (v := 10) rfl ?_
    refine lv_idiv hx hb dX8_becomeDue_19 (by decide) ?_
    refine lv_isub hx hb dX8_becomeDue_20 ?_
    exact th_iret hx hb hret hlk hR hS hw (by omega) (by omega) dX8_becomeDue_21)
def tw_X8_harvests_b149 (Q : Int32 → aH → Prop) (G : aH) (a0 : Nat) (x3 : Int32) (x4 : Int32) (x5 : Int32) : Prop :=
  (x4 ≤ 0 →
    Q x4 G) ∧
  (¬ x4 ≤ 0 →
    th_o G a0 8 ∧ (
    th_ai G (a_mr G a0 0) 0 (((x3 + 5) + (2 * (x5 - 1))) + 1) ∧ (
    th_ai G (a_mr G a0 0) 0 (((x3 + 5) + (2 * (x5 - 1))) + 1) ∧ (
    ∀ G10 : aH, G10 = a_si G (a_mr G a0 0) (((x3 + 5) + (2 * (x5 - 1))) + 1).toNatClampNeg ((a_mi G (a_mr G a0 0) (((x3 + 5) + (2 * (x5 - 1))) + 1).toNatClampNeg) + x4) → 
    Q x4 G10))))
def tw_X8_harvests_b97 (Q : Int32 → aH → Prop) (G : aH) (a0 : Nat) (x3 : Int32) (x4 : Int32) (x5 : Int32) : Prop :=
  th_o G a0 8 ∧ (
  th_o G a0 8 ∧ (
  th_ai G (a_mr G a0 0) 0 428 ∧ (
  th_ai G (a_mr G a0 0) 0 ((x3 + 5) + (2 * x5)) ∧ (
  ∀ G11 : aH, G11 = a_si G (a_mr G a0 0) ((x3 + 5) + (2 * x5)).toNatClampNeg (a_mi G (a_mr G a0 0) (428 : Int32).toNatClampNeg) → 
  th_o G11 a0 8 ∧ (
  th_ai G11 (a_mr G11 a0 0) 0 (((x3 + 5) + (2 * x5)) + 1) ∧ (
  ∀ G12 : aH, G12 = a_si G11 (a_mr G11 a0 0) (((x3 + 5) + (2 * x5)) + 1).toNatClampNeg 0 → 
  th_o G12 a0 8 ∧ (
  th_ai G12 (a_mr G12 a0 0) 0 (x3 + 4) ∧ (
  th_ai G12 (a_mr G12 a0 0) 0 (x3 + 4) ∧ (
  ∀ G13 : aH, G13 = a_si G12 (a_mr G12 a0 0) (x3 + 4).toNatClampNeg ((a_mi G12 (a_mr G12 a0 0) (x3 + 4).toNatClampNeg) + 1) → 
  ∀ x5_14 : Int32, x5_14 = x5 + 1 → 
  tw_X8_harvests_b149 Q G13 a0 x3 x4 x5_14)))))))))
def tw_X8_harvests (Q : Int32 → aH → Prop) (G : aH) (a0 : Nat) (x1 : Int32) (x2 : Int32) : Prop :=
  th_o G a0 8 ∧ (
  (tw_X8_isParish
    (fun (r2 : Int32) (G1 : aH) =>
      (¬ r2 = 0 →
        (tw_X8_isIn
          (fun (r4 : Int32) (G3 : aH) =>
            (¬ r4 = 0 →
              ∀ x3_5 : Int32, x3_5 = 1 + (23 * x1) → 
              th_o G3 a0 8 ∧ (
              (tw_X8_becomeDue
                (fun (r7 : Int32) (G6 : aH) =>
                  th_o G6 a0 8 ∧ (
                  th_ai G6 (a_mr G6 a0 0) 0 (x3_5 + 4) ∧ (
                  ∀ x5_8 : Int32, x5_8 = a_mi G6 (a_mr G6 a0 0) (x3_5 + 4).toNatClampNeg → 
                  th_o G6 a0 8 ∧ (
                  th_ai G6 (a_mr G6 a0 0) 0 (x3_5 + 1) ∧ (
                  th_ai G6 (a_mr G6 a0 0) 0 (x3_5 + 1) ∧ (
                  ∀ G9 : aH, G9 = a_si G6 (a_mr G6 a0 0) (x3_5 + 1).toNatClampNeg ((a_mi G6 (a_mr G6 a0 0) (x3_5 + 1).toNatClampNeg) + x2) → 
                  (r7 ≤ 0 →
                    tw_X8_harvests_b149 Q G9 a0 x3_5 r7 x5_8) ∧
                  (¬ r7 ≤ 0 →
                    (x5_8 = 0 →
                      tw_X8_harvests_b97 Q G9 a0 x3_5 r7 x5_8) ∧
                    (¬ x5_8 = 0 →
                      th_o G9 a0 8 ∧ (
                      th_ai G9 (a_mr G9 a0 0) 0 ((x3_5 + 5) + (2 * (x5_8 - 1))) ∧ (
                      th_o G9 a0 8 ∧ (
                      th_ai G9 (a_mr G9 a0 0) 0 428 ∧ (
                      (a_mi G9 (a_mr G9 a0 0) ((x3_5 + 5) + (2 * (x5_8 - 1))).toNatClampNeg = a_mi G9 (a_mr G9 a0 0) (428 : Int32).toNatClampNeg →
                        tw_X8_harvests_b149 Q G9 a0 x3_5 r7 x5_8) ∧
                      (¬ a_mi G9 (a_mr G9 a0 0) ((x3_5 + 5) + (2 * (x5_8 - 1))).toNatClampNeg = a_mi G9 (a_mr G9 a0 0) (428 : Int32).toNatClampNeg →
                        tw_X8_harvests_b97 Q G9 a0 x3_5 r7 x5_8)))))))))))))
                G3 a0 x1 x2))) ∧
            (r4 = 0 →
              Q (-2) G3))
          G1 x2 1 999)) ∧
      (r2 = 0 →
        Q (-1) G1))
    G a0 x1))
theorem tk_X8_harvests_b149 {p : Program} {l : Launch} {e : Env} {s : State} {m : MethodId} {args : Array Value} {below : List Frame} {meth : Method} {c : Code} {D : tD} {B : Nat} (E : th_E p m c cX8_harvests 6 s args RX8 meth ((Option.some Jvm.ClassFile.FieldType.int)) "harvests" D B) {Q : Int32 → aH → Prop} {G : aH} {H : Heap} {locs : List Loc} {cells slots : Nat} {ls : Array Slot} {a0 : Nat} {x3 : Int32} {x4 : Int32} {x5 : Int32} (hR : th_H D B G H) (hS : va_S (th_A B) s.heap H locs) (hL : th_L ls 6 [(0, rv a0), (3, .int x3), (4, .int x4), (5, .int x5)]) (hw : tw_X8_harvests_b149 Q G a0 x3 x4 x5) (hc : cells + (0) ≤ 0 ∧ slots + (0) ≤ 0) : W p l e rm_X8_harvests s m args below meth c H locs cells slots (MQ below (th_Qi D B Q) args s 0 0 (th_A B)) (F0 m 149 ls []) := by
  have CF := E.1; have hx := CF.1; have hb := CF.2.1; have hret := E.2.1; have hlk := E.2.2.1; have hnm := E.2.2.2.1; have hK := E.2.2.2.2.1; have hSt := E.2.2.2.2.2
  unfold tw_X8_harvests_b149 at hw
  refine lv_iload hx hb dX8_harvests_149 (lv_at hL.1 2 rfl) ?_
  refine lv_if_le hx hb dX8_harvests_151 (tgt := 176) (by decide) (fun h => ?_) (fun h => ?_)
  · replace hw := hw.1 h
    refine lv_iload hx hb dX8_harvests_176 (lv_at hL.1 2 rfl) ?_
    exact th_iret hx hb hret hlk hR hS hw (by omega) (by omega) dX8_harvests_178
  · replace hw := hw.2 h
    refine th_aload_n hx hb dX8_harvests_154 rfl (lv_at hL.1 0 rfl) ?_
    obtain ⟨ho, hw⟩ := hw
    refine fg_X8_9 CF hK hR ho dX8_harvests_155 ?_
    refine lv_iload_n hx hb dX8_harvests_158 rfl (lv_at hL.1 1 rfl) ?_
    refine lv_iconst hx hb dX8_harvests_159 (v := 5) rfl ?_
    refine lv_iadd hx hb dX8_harvests_160 ?_
    refine lv_iconst hx hb dX8_harvests_161 (v := 2) rfl ?_
    refine lv_iload hx hb dX8_harvests_162 (lv_at hL.1 3 rfl) ?_
    refine lv_iconst hx hb dX8_harvests_164 (v := 1) rfl ?_
    refine lv_isub hx hb dX8_harvests_165 ?_
    refine lv_imul hx hb dX8_harvests_166 ?_
    refine lv_iadd hx hb dX8_harvests_167 ?_
    refine lv_iconst hx hb dX8_harvests_168 (v := 1) rfl ?_
    refine lv_iadd hx hb dX8_harvests_169 ?_
    refine lv_dup2_11 hx hb dX8_harvests_170 rfl (rv_cat _) ?_
    obtain ⟨ha, hw⟩ := hw
    refine th_iald hx hb hK hR ha dX8_harvests_171 ?_
    refine lv_iload hx hb dX8_harvests_172 (lv_at hL.1 2 rfl) ?_
    refine lv_iadd hx hb dX8_harvests_174 ?_
    obtain ⟨ha, hw⟩ := hw
    refine th_iast hx hb hK hR hS ha dX8_harvests_175 (fun G10 H locs hG hR hS => ?_)
    replace hw := hw G10 hG
    refine lv_iload hx hb dX8_harvests_176 (lv_at hL.1 2 rfl) ?_
    exact th_iret hx hb hret hlk hR hS hw (by omega) (by omega) dX8_harvests_178
theorem tk_X8_harvests_b97 {p : Program} {l : Launch} {e : Env} {s : State} {m : MethodId} {args : Array Value} {below : List Frame} {meth : Method} {c : Code} {D : tD} {B : Nat} (E : th_E p m c cX8_harvests 6 s args RX8 meth ((Option.some Jvm.ClassFile.FieldType.int)) "harvests" D B) {Q : Int32 → aH → Prop} {G : aH} {H : Heap} {locs : List Loc} {cells slots : Nat} {ls : Array Slot} {a0 : Nat} {x3 : Int32} {x4 : Int32} {x5 : Int32} (hR : th_H D B G H) (hS : va_S (th_A B) s.heap H locs) (hL : th_L ls 6 [(0, rv a0), (3, .int x3), (4, .int x4), (5, .int x5)]) (hw : tw_X8_harvests_b97 Q G a0 x3 x4 x5) (hc : cells + (0) ≤ 0 ∧ slots + (0) ≤ 0) : W p l e rm_X8_harvests s m args below meth c H locs cells slots (MQ below (th_Qi D B Q) args s 0 0 (th_A B)) (F0 m 97 ls []) := by
  have CF := E.1; have hx := CF.1; have hb := CF.2.1; have hret := E.2.1; have hlk := E.2.2.1; have hnm := E.2.2.2.1; have hK := E.2.2.2.2.1; have hSt := E.2.2.2.2.2
  unfold tw_X8_harvests_b97 at hw
  refine th_aload_n hx hb dX8_harvests_97 rfl (lv_at hL.1 0 rfl) ?_
  obtain ⟨ho, hw⟩ := hw
  refine fg_X8_9 CF hK hR ho dX8_harvests_98 ?_
  refine lv_iload_n hx hb dX8_harvests_101 rfl (lv_at hL.1 1 rfl) ?_
  refine lv_iconst hx hb dX8_harvests_102 (v := 5) rfl ?_
  refine lv_iadd hx hb dX8_harvests_103 ?_
  refine lv_iconst hx hb dX8_harvests_104 (v := 2) rfl ?_
  refine lv_iload hx hb dX8_harvests_105 (lv_at hL.1 3 rfl) ?_
  refine lv_imul hx hb dX8_harvests_107 ?_
  refine lv_iadd hx hb dX8_harvests_108 ?_
  refine th_aload_n hx hb dX8_harvests_109 rfl (lv_at hL.1 0 rfl) ?_
  obtain ⟨ho, hw⟩ := hw
  refine fg_X8_9 CF hK hR ho dX8_harvests_110 ?_
  refine lv_sipush hx hb dX8_harvests_113 (v := 428) rfl ?_
  obtain ⟨ha, hw⟩ := hw
  refine th_iald hx hb hK hR ha dX8_harvests_116 ?_
  obtain ⟨ha, hw⟩ := hw
  refine th_iast hx hb hK hR hS ha dX8_harvests_117 (fun G11 H locs hG hR hS => ?_)
  replace hw := hw G11 hG
  refine th_aload_n hx hb dX8_harvests_118 rfl (lv_at hL.1 0 rfl) ?_
  obtain ⟨ho, hw⟩ := hw
  refine fg_X8_9 CF hK hR ho dX8_harvests_119 ?_
  refine lv_iload_n hx hb dX8_harvests_122 rfl (lv_at hL.1 1 rfl) ?_
  refine lv_iconst hx hb dX8_harvests_123 (v := 5) rfl ?_
  refine lv_iadd hx hb dX8_harvests_124 ?_
  refine lv_iconst hx hb dX8_harvests_125 (v := 2) rfl ?_
  refine lv_iload hx hb dX8_harvests_126 (lv_at hL.1 3 rfl) ?_
  refine lv_imul hx hb dX8_harvests_128 ?_
  refine lv_iadd hx hb dX8_harvests_129 ?_
  refine lv_iconst hx hb dX8_harvests_130 (v := 1) rfl ?_
  refine lv_iadd hx hb dX8_harvests_131 ?_
  refine lv_iconst hx hb dX8_harvests_132 (v := 0) rfl ?_
  obtain ⟨ha, hw⟩ := hw
  refine th_iast hx hb hK hR hS ha dX8_harvests_133 (fun G12 H locs hG hR hS => ?_)
  replace hw := hw G12 hG
  refine th_aload_n hx hb dX8_harvests_134 rfl (lv_at hL.1 0 rfl) ?_
  obtain ⟨ho, hw⟩ := hw
  refine fg_X8_9 CF hK hR ho dX8_harvests_135 ?_
  refine lv_iload_n hx hb dX8_harvests_138 rfl (lv_at hL.1 1 rfl) ?_
  refine lv_iconst hx hb dX8_harvests_139 (v := 4) rfl ?_
  refine lv_iadd hx hb dX8_harvests_140 ?_
  refine lv_dup2_11 hx hb dX8_harvests_141 rfl (rv_cat _) ?_
  obtain ⟨ha, hw⟩ := hw
  refine th_iald hx hb hK hR ha dX8_harvests_142 ?_
  refine lv_iconst hx hb dX8_harvests_143 (v := 1) rfl ?_
  refine lv_iadd hx hb dX8_harvests_144 ?_
  obtain ⟨ha, hw⟩ := hw
  refine th_iast hx hb hK hR hS ha dX8_harvests_145 (fun G13 H locs hG hR hS => ?_)
  replace hw := hw G13 hG
  obtain ⟨x5_14, hx5_14⟩ : ∃ y : Int32, y = x5 + 1 := ⟨_, rfl⟩
  replace hw := hw x5_14 hx5_14
  refine th_iinc hx hb dX8_harvests_146 hL (k := 3) rfl (v := x5_14) hx5_14.symm (by decide) rfl (fun ls hL => ?_)
  exact tk_X8_harvests_b149 E hR hS (hL.sub [1, 2, 3, 0] rfl) hw ⟨by omega, by omega⟩
theorem tk_X8_harvests {l : Launch} {D : tD} {B : Nat} {Q : Int32 → aH → Prop} {a0 : Nat} {x1 : Int32} {x2 : Int32} : Met l yX8_harvests (ws_ yX8_harvests cX8_harvests 6 ((Option.some Jvm.ClassFile.FieldType.int))) rm_X8_harvests (th_P D B [rv a0, .int x1, .int x2] (fun G => tw_X8_harvests Q G a0 x1 x2)) (th_Qi D B Q) 0 0 (th_A B) :=
  th_ofW (by decide +kernel) (th_cr (th_ci (th_ci th_cn))) (Nat.le_of_ble_eq_true rfl) (fun p e s m args below meth c CF hret hlk hnm hK hSt G ls hR hS hw hL => by
    have E : th_E p m c cX8_harvests 6 s args RX8 meth ((Option.some Jvm.ClassFile.FieldType.int)) "harvests" D B := ⟨CF, hret, hlk, hnm, hK, hSt⟩
    have hx := CF.1; have hb := CF.2.1
    have hL : th_L ls 6 [(0, rv a0), (1, .int x1), (2, .int x2)] := hL
    unfold tw_X8_harvests at hw
    refine th_aload_n hx hb dX8_harvests_0 rfl (lv_at hL.1 0 rfl) ?_
    refine lv_iload_n hx hb dX8_harvests_1 rfl (lv_at hL.1 1 rfl) ?_
    obtain ⟨ho, hw⟩ := hw
    refine th_ki hS (th_rV CF hK hSt hR hS ho (ci := 8) rfl (rest := []) (tk_X8_isParish) (cw_X8_107 CF hK (by decide +kernel)) hw rfl hL.1.1 rfl th_cn (Nat.le_of_ble_eq_true rfl) dX8_harvests_2 ⟨by show _ ≤ (0 : Nat); omega, by show _ ≤ (0 : Nat); omega⟩) (fun r2 G1 H locs hw hR hS => ?_)
    refine lv_if_ne hx hb dX8_harvests_5 (tgt := 10) (by decide) (fun h => ?_) (fun h => ?_)
    · replace hw := hw.1 h
      refine lv_iload_n hx hb dX8_harvests_10 rfl (lv_at hL.1 2 rfl) ?_
      refine lv_iconst hx hb dX8_harvests_11 (v := 1) rfl ?_
      refine lv_sipush hx hb dX8_harvests_12 (v := 999) rfl ?_
      refine th_ki hS (th_rS CF hK hSt hR hS (rest := []) (tk_X8_isIn) (cw_X8_56 CF hK (by decide +kernel)) hw rfl hL.1.1 rfl th_cn (Nat.le_of_ble_eq_true rfl) dX8_harvests_15 ⟨by show _ ≤ (0 : Nat); omega, by show _ ≤ (0 : Nat); omega⟩) (fun r4 G3 H locs hw hR hS => ?_)
      refine lv_if_ne hx hb dX8_harvests_18 (tgt := 24) (by decide) (fun h => ?_) (fun h => ?_)
      · replace hw := hw.1 h
        refine lv_iconst hx hb dX8_harvests_24 (v := 1) rfl ?_
        refine lv_bipush hx hb dX8_harvests_25 (v := 23) rfl ?_
        refine lv_iload_n hx hb dX8_harvests_27 rfl (lv_at hL.1 1 rfl) ?_
        refine lv_imul hx hb dX8_harvests_28 ?_
        refine lv_iadd hx hb dX8_harvests_29 ?_
        obtain ⟨x3_5, hx3_5⟩ : ∃ y : Int32, y = 1 + (23 * x1) := ⟨_, rfl⟩
        replace hw := hw x3_5 hx3_5
        refine th_nmi hx3_5 ?_
        refine th_istore_n hx hb dX8_harvests_30 rfl hL (by decide) rfl (fun ls hL => ?_)
        refine th_aload_n hx hb dX8_harvests_31 rfl (lv_at hL.1 1 rfl) ?_
        refine lv_iload_n hx hb dX8_harvests_32 rfl (lv_at hL.1 2 rfl) ?_
        refine lv_iload_n hx hb dX8_harvests_33 rfl (lv_at hL.1 3 rfl) ?_
        obtain ⟨ho, hw⟩ := hw
        refine th_ki hS (th_rV CF hK hSt hR hS ho (ci := 8) rfl (rest := []) (tk_X8_becomeDue) (cw_X8_110 CF hK (by decide +kernel)) hw rfl hL.1.1 rfl th_cn (Nat.le_of_ble_eq_true rfl) dX8_harvests_34 ⟨by show _ ≤ (0 : Nat); omega, by show _ ≤ (0 : Nat); omega⟩) (fun r7 G6 H locs hw hR hS => ?_)
        refine th_istore hx hb dX8_harvests_37 hL (by decide) rfl (fun ls hL => ?_)
        refine th_aload_n hx hb dX8_harvests_39 rfl (lv_at hL.1 2 rfl) ?_
        obtain ⟨ho, hw⟩ := hw
        refine fg_X8_9 CF hK hR ho dX8_harvests_40 ?_
        refine lv_iload_n hx hb dX8_harvests_43 rfl (lv_at hL.1 1 rfl) ?_
        refine lv_iconst hx hb dX8_harvests_44 (v := 4) rfl ?_
        refine lv_iadd hx hb dX8_harvests_45 ?_
        obtain ⟨ha, hw⟩ := hw
        refine th_iald hx hb hK hR ha dX8_harvests_46 ?_
        obtain ⟨x5_8, hx5_8⟩ : ∃ y : Int32, y = a_mi G6 (a_mr G6 a0 0) (x3_5 + 4).toNatClampNeg := ⟨_, rfl⟩
        replace hw := hw x5_8 hx5_8
        refine th_nmi hx5_8 ?_
        refine th_istore hx hb dX8_harvests_47 hL (by decide) rfl (fun ls hL => ?_)
        refine th_aload_n hx hb dX8_harvests_49 rfl (lv_at hL.1 3 rfl) ?_
        obtain ⟨ho, hw⟩ := hw
        refine fg_X8_9 CF hK hR ho dX8_harvests_50 ?_
        refine lv_iload_n hx hb dX8_harvests_53 rfl (lv_at hL.1 2 rfl) ?_
        refine lv_iconst hx hb dX8_harvests_54 (v := 1) rfl ?_
        refine lv_iadd hx hb dX8_harvests_55 ?_
        refine lv_dup2_11 hx hb dX8_harvests_56 rfl (rv_cat _) ?_
        obtain ⟨ha, hw⟩ := hw
        refine th_iald hx hb hK hR ha dX8_harvests_57 ?_
        refine lv_iload_n hx hb dX8_harvests_58 rfl (lv_at hL.1 5 rfl) ?_
        refine lv_iadd hx hb dX8_harvests_59 ?_
        obtain ⟨ha, hw⟩ := hw
        refine th_iast hx hb hK hR hS ha dX8_harvests_60 (fun G9 H locs hG hR hS => ?_)
        replace hw := hw G9 hG
        refine lv_iload hx hb dX8_harvests_61 (lv_at hL.1 1 rfl) ?_
        refine lv_if_le hx hb dX8_harvests_63 (tgt := 149) (by decide) (fun h => ?_) (fun h => ?_)
        · replace hw := hw.1 h
          exact tk_X8_harvests_b149 E hR hS (hL.sub [3, 2, 1, 0] rfl) hw ⟨by omega, by omega⟩
        · replace hw := hw.2 h
          refine lv_iload hx hb dX8_harvests_66 (lv_at hL.1 0 rfl) ?_
          refine lv_if_eq hx hb dX8_harvests_68 (tgt := 97) (by decide) (fun h => ?_) (fun h => ?_)
          · replace hw := hw.1 h
            exact tk_X8_harvests_b97 E hR hS (hL.sub [3, 2, 1, 0] rfl) hw ⟨by omega, by omega⟩
          · replace hw := hw.2 h
            refine th_aload_n hx hb dX8_harvests_71 rfl (lv_at hL.1 3 rfl) ?_
            obtain ⟨ho, hw⟩ := hw
            refine fg_X8_9 CF hK hR ho dX8_harvests_72 ?_
            refine lv_iload_n hx hb dX8_harvests_75 rfl (lv_at hL.1 2 rfl) ?_
            refine lv_iconst hx hb dX8_harvests_76 (v := 5) rfl ?_
            refine lv_iadd hx hb dX8_harvests_77 ?_
            refine lv_iconst hx hb dX8_harvests_78 (v := 2) rfl ?_
            refine lv_iload hx hb dX8_harvests_79 (lv_at hL.1 0 rfl) ?_
            refine lv_iconst hx hb dX8_harvests_81 (v := 1) rfl ?_
            refine lv_isub hx hb dX8_harvests_82 ?_
            refine lv_imul hx hb dX8_harvests_83 ?_
            refine lv_iadd hx hb dX8_harvests_84 ?_
            obtain ⟨ha, hw⟩ := hw
            refine th_iald hx hb hK hR ha dX8_harvests_85 ?_
            refine th_aload_n hx hb dX8_harvests_86 rfl (lv_at hL.1 3 rfl) ?_
            obtain ⟨ho, hw⟩ := hw
            refine fg_X8_9 CF hK hR ho dX8_harvests_87 ?_
            refine lv_sipush hx hb dX8_harvests_90 (v := 428) rfl ?_
            obtain ⟨ha, hw⟩ := hw
            refine th_iald hx hb hK hR ha dX8_harvests_93 ?_
            refine lv_icmp_eq hx hb dX8_harvests_94 (tgt := 149) (by decide) (fun h => ?_) (fun h => ?_)
            · replace hw := hw.1 h
              exact tk_X8_harvests_b149 E hR hS (hL.sub [3, 2, 1, 0] rfl) hw ⟨by omega, by omega⟩
            · replace hw := hw.2 h
              exact tk_X8_harvests_b97 E hR hS (hL.sub [3, 2, 1, 0] rfl) hw ⟨by omega, by omega⟩
      · replace hw := hw.2 h
        refine lv_bipush hx hb dX8_harvests_21 (v := (-2)) rfl ?_
        exact th_iret hx hb hret hlk hR hS hw (by omega) (by omega) dX8_harvests_23
    · replace hw := hw.2 h
      refine lv_iconst hx hb dX8_harvests_8 (v := (-1)) rfl ?_
      exact th_iret hx hb hret hlk hR hS hw (by omega) (by omega) dX8_harvests_9)
def tw_X8_harvest (Q : Int32 → aH → Prop) (G : aH) (a0 : Nat) (x1 : Int32) (x2 : Int32) : Prop :=
  th_o G a0 8 ∧ (
  (tw_X8_starts
    (fun (G1 : aH) =>
      th_o G1 a0 8 ∧ (
      (tw_X8_harvests
        (fun (r3 : Int32) (G2 : aH) =>
          th_o G2 a0 8 ∧ (
          (tw_X8_ends
            (fun (r5 : Int32) (G4 : aH) =>
              Q r5 G4)
            G2 a0 r3)))
        G1 a0 x1 x2)))
    G a0))
theorem tk_X8_harvest {l : Launch} {D : tD} {B : Nat} {Q : Int32 → aH → Prop} {a0 : Nat} {x1 : Int32} {x2 : Int32} : Met l yX8_harvest (ws_ yX8_harvest cX8_harvest 3 ((Option.some Jvm.ClassFile.FieldType.int))) rm_X8_harvest (th_P D B [rv a0, .int x1, .int x2] (fun G => tw_X8_harvest Q G a0 x1 x2)) (th_Qi D B Q) 0 0 (th_A B) :=
  th_ofW (by decide +kernel) (th_cr (th_ci (th_ci th_cn))) (Nat.le_of_ble_eq_true rfl) (fun p e s m args below meth c CF hret hlk hnm hK hSt G ls hR hS hw hL => by
    have E : th_E p m c cX8_harvest 3 s args RX8 meth ((Option.some Jvm.ClassFile.FieldType.int)) "harvest" D B := ⟨CF, hret, hlk, hnm, hK, hSt⟩
    have hx := CF.1; have hb := CF.2.1
    have hL : th_L ls 3 [(0, rv a0), (1, .int x1), (2, .int x2)] := hL
    unfold tw_X8_harvest at hw
    refine th_aload_n hx hb dX8_harvest_0 rfl (lv_at hL.1 0 rfl) ?_
    obtain ⟨ho, hw⟩ := hw
    refine th_kv hS (th_rV CF hK hSt hR hS ho (ci := 8) rfl (rest := []) (tk_X8_starts) (cw_X8_97 CF hK (by decide +kernel)) hw rfl hL.1.1 rfl th_cn (Nat.le_of_ble_eq_true rfl) dX8_harvest_1 ⟨by show _ ≤ (0 : Nat); omega, by show _ ≤ (0 : Nat); omega⟩) (fun G1 H locs hw hR hS => ?_)
    refine th_aload_n hx hb dX8_harvest_4 rfl (lv_at hL.1 0 rfl) ?_
    refine th_aload_n hx hb dX8_harvest_5 rfl (lv_at hL.1 0 rfl) ?_
    refine lv_iload_n hx hb dX8_harvest_6 rfl (lv_at hL.1 1 rfl) ?_
    refine lv_iload_n hx hb dX8_harvest_7 rfl (lv_at hL.1 2 rfl) ?_
    obtain ⟨ho, hw⟩ := hw
    refine th_ki hS (th_rV CF hK hSt hR hS ho (ci := 8) rfl (rest := [rv a0]) (tk_X8_harvests) (cw_X8_113 CF hK (by decide +kernel)) hw rfl hL.1.1 rfl (th_cr th_cn) (Nat.le_of_ble_eq_true rfl) dX8_harvest_8 ⟨by show _ ≤ (0 : Nat); omega, by show _ ≤ (0 : Nat); omega⟩) (fun r3 G2 H locs hw hR hS => ?_)
    obtain ⟨ho, hw⟩ := hw
    refine th_ki hS (th_rV CF hK hSt hR hS ho (ci := 8) rfl (rest := []) (tk_X8_ends) (cw_X8_104 CF hK (by decide +kernel)) hw rfl hL.1.1 rfl th_cn (Nat.le_of_ble_eq_true rfl) dX8_harvest_11 ⟨by show _ ≤ (0 : Nat); omega, by show _ ≤ (0 : Nat); omega⟩) (fun r5 G4 H locs hw hR hS => ?_)
    exact th_iret hx hb hret hlk hR hS hw (by omega) (by omega) dX8_harvest_14)
def tw_X8_init (Q : aH → Prop) (G : aH) (a0 : Nat) : Prop :=
  (a_sh G a0).1 ≠ 0 ∧ (
  ∀ z1 : Nat, z1 = a_sz G → ∀ G2 : aH, G2 = a_nw G (100 + 0) 433 → 
  th_o G2 a0 8 ∧ (
  ∀ G3 : aH, G3 = a_sr G2 a0 0 z1 → 
  ∀ z4 : Nat, z4 = a_sz G3 → ∀ G5 : aH, G5 = a_nw G3 (100 + 0) 433 → 
  th_o G5 a0 8 ∧ (
  ∀ G6 : aH, G6 = a_sr G5 a0 1 z4 → 
  ∀ z7 : Nat, z7 = a_sz G6 → ∀ G8 : aH, G8 = a_nw G6 (100 + 0) 433 → 
  th_o G8 a0 8 ∧ (
  ∀ G9 : aH, G9 = a_sr G8 a0 2 z7 → 
  ∀ z10 : Nat, z10 = a_sz G9 → ∀ G11 : aH, G11 = a_nw G9 (100 + 0) 433 → 
  th_o G11 a0 8 ∧ (
  ∀ G12 : aH, G12 = a_sr G11 a0 3 z10 → 
  ∀ z13 : Nat, z13 = a_sz G12 → ∀ G14 : aH, G14 = a_nw G12 (100 + 0) 3464 → 
  th_o G14 a0 8 ∧ (
  ∀ G15 : aH, G15 = a_sr G14 a0 4 z13 → 
  ∀ z16 : Nat, z16 = a_sz G15 → ∀ G17 : aH, G17 = a_nw G15 (100 + 0) 3 → 
  th_o G17 a0 8 ∧ (
  ∀ G18 : aH, G18 = a_sr G17 a0 8 z16 → 
  ∀ z19 : Nat, z19 = a_sz G18 → ∀ G20 : aH, G20 = a_nw G18 (100 + 0) 3 → 
  th_o G20 a0 8 ∧ (
  ∀ G21 : aH, G21 = a_sr G20 a0 9 z19 → 
  ∀ z22 : Nat, z22 = a_sz G21 → ∀ G23 : aH, G23 = a_nw G21 (100 + 0) 60 → 
  th_o G23 a0 8 ∧ (
  ∀ G24 : aH, G24 = a_sr G23 a0 10 z22 → 
  th_o G24 a0 8 ∧ (
  ∀ G25 : aH, G25 = a_si G24 a0 12 (-1) → 
  ∀ z26 : Nat, z26 = a_sz G25 → ∀ G27 : aH, G27 = a_nw G25 (100 + 0) 400 → 
  th_o G27 a0 8 ∧ (
  ∀ G28 : aH, G28 = a_sr G27 a0 13 z26 → 
  ∀ z29 : Nat, z29 = a_sz G28 → ∀ G30 : aH, G30 = a_nw G28 (100 + 0) 4 → 
  th_o G30 a0 8 ∧ (
  ∀ G31 : aH, G31 = a_sr G30 a0 16 z29 → 
  ∀ z32 : Nat, z32 = a_sz G31 → ∀ G33 : aH, G33 = a_nw G31 (100 + 0) 30 → 
  th_o G33 a0 8 ∧ (
  ∀ G34 : aH, G34 = a_sr G33 a0 21 z32 → 
  ∀ z35 : Nat, z35 = a_sz G34 → ∀ G36 : aH, G36 = a_nw G34 (100 + 0) 90 → 
  th_o G36 a0 8 ∧ (
  ∀ G37 : aH, G37 = a_sr G36 a0 22 z35 → 
  th_o G37 a0 8 ∧ (
  (tw_X8_begins
    (fun (G38 : aH) =>
      Q G38)
    G37 a0))))))))))))))))
theorem tk_X8_init {l : Launch} {D : tD} {B : Nat} {Q : aH → Prop} {a0 : Nat} : Met l yX8_init (ws_ yX8_init cX8_init 1 ((Option.none : Option Jvm.ClassFile.FieldType))) rm_X8_init (th_P D B [rv a0] (fun G => tw_X8_init Q G a0)) (th_Qv D B Q) 12 5786 (th_A B) :=
  th_ofW (by decide +kernel) (th_cr th_cn) (Nat.le_of_ble_eq_true rfl) (fun p e s m args below meth c CF hret hlk hnm hK hSt G ls hR hS hw hL => by
    have E : th_E p m c cX8_init 1 s args RX8 meth ((Option.none : Option Jvm.ClassFile.FieldType)) "<init>" D B := ⟨CF, hret, hlk, hnm, hK, hSt⟩
    have hx := CF.1; have hb := CF.2.1
    have hL : th_L ls 1 [(0, rv a0)] := hL
    unfold tw_X8_init at hw
    refine th_aload_n hx hb dX8_init_0 rfl (lv_at hL.1 0 rfl) ?_
    obtain ⟨h0, hw⟩ := hw
    refine th_objInit hx hb CF.2.2.2.1 (CF.2.2.2.2 _ q1426) (CF.2.2.2.2 _ q148) (CF.2.2.2.2 _ q149) (hL.1.1.trans CF.2.2.1.symm) hR h0 th_cn (Nat.le_of_ble_eq_true rfl) (by decide) (by decide) dX8_init_1 ?_
    refine th_aload_n hx hb dX8_init_4 rfl (lv_at hL.1 0 rfl) ?_
    refine lv_sipush hx hb dX8_init_5 (v := 433) rfl ?_
    refine th_newa hx hb 0 (atype := .int) (CF.2.2.2.2 _ q200) rfl (by decide) (n := 433) 433 (by decide) rfl (by decide +kernel) hK hR hS (by show _ ≤ (12 : Nat); omega) (by show _ ≤ (5786 : Nat); omega) dX8_init_8 (fun z1 G2 H hz hG hR hS => ?_)
    replace hw := hw z1 hz G2 hG
    obtain ⟨ho, hw⟩ := hw
    refine fp_X8_9 CF hK hR hS hnm ho dX8_init_10 (fun G3 H locs hG hR hS => ?_)
    replace hw := hw G3 hG
    refine th_aload_n hx hb dX8_init_13 rfl (lv_at hL.1 0 rfl) ?_
    refine lv_sipush hx hb dX8_init_14 (v := 433) rfl ?_
    refine th_newa hx hb 0 (atype := .int) (CF.2.2.2.2 _ q200) rfl (by decide) (n := 433) 433 (by decide) rfl (by decide +kernel) hK hR hS (by show _ ≤ (12 : Nat); omega) (by show _ ≤ (5786 : Nat); omega) dX8_init_17 (fun z4 G5 H hz hG hR hS => ?_)
    replace hw := hw z4 hz G5 hG
    obtain ⟨ho, hw⟩ := hw
    refine fp_X8_13 CF hK hR hS hnm ho dX8_init_19 (fun G6 H locs hG hR hS => ?_)
    replace hw := hw G6 hG
    refine th_aload_n hx hb dX8_init_22 rfl (lv_at hL.1 0 rfl) ?_
    refine lv_sipush hx hb dX8_init_23 (v := 433) rfl ?_
    refine th_newa hx hb 0 (atype := .int) (CF.2.2.2.2 _ q200) rfl (by decide) (n := 433) 433 (by decide) rfl (by decide +kernel) hK hR hS (by show _ ≤ (12 : Nat); omega) (by show _ ≤ (5786 : Nat); omega) dX8_init_26 (fun z7 G8 H hz hG hR hS => ?_)
    replace hw := hw z7 hz G8 hG
    obtain ⟨ho, hw⟩ := hw
    refine fp_X8_16 CF hK hR hS hnm ho dX8_init_28 (fun G9 H locs hG hR hS => ?_)
    replace hw := hw G9 hG
    refine th_aload_n hx hb dX8_init_31 rfl (lv_at hL.1 0 rfl) ?_
    refine lv_sipush hx hb dX8_init_32 (v := 433) rfl ?_
    refine th_newa hx hb 0 (atype := .int) (CF.2.2.2.2 _ q200) rfl (by decide) (n := 433) 433 (by decide) rfl (by decide +kernel) hK hR hS (by show _ ≤ (12 : Nat); omega) (by show _ ≤ (5786 : Nat); omega) dX8_init_35 (fun z10 G11 H hz hG hR hS => ?_)
    replace hw := hw z10 hz G11 hG
    obtain ⟨ho, hw⟩ := hw
    refine fp_X8_19 CF hK hR hS hnm ho dX8_init_37 (fun G12 H locs hG hR hS => ?_)
    replace hw := hw G12 hG
    refine th_aload_n hx hb dX8_init_40 rfl (lv_at hL.1 0 rfl) ?_
    refine lv_sipush hx hb dX8_init_41 (v := 3464) rfl ?_
    refine th_newa hx hb 0 (atype := .int) (CF.2.2.2.2 _ q200) rfl (by decide) (n := 3464) 3464 (by decide) rfl (by decide +kernel) hK hR hS (by show _ ≤ (12 : Nat); omega) (by show _ ≤ (5786 : Nat); omega) dX8_init_44 (fun z13 G14 H hz hG hR hS => ?_)
    replace hw := hw z13 hz G14 hG
    obtain ⟨ho, hw⟩ := hw
    refine fp_X8_22 CF hK hR hS hnm ho dX8_init_46 (fun G15 H locs hG hR hS => ?_)
    replace hw := hw G15 hG
    refine th_aload_n hx hb dX8_init_49 rfl (lv_at hL.1 0 rfl) ?_
    refine lv_iconst hx hb dX8_init_50 (v := 3) rfl ?_
    refine th_newa hx hb 0 (atype := .int) (CF.2.2.2.2 _ q200) rfl (by decide) (n := 3) 3 (by decide) rfl (by decide +kernel) hK hR hS (by show _ ≤ (12 : Nat); omega) (by show _ ≤ (5786 : Nat); omega) dX8_init_51 (fun z16 G17 H hz hG hR hS => ?_)
    replace hw := hw z16 hz G17 hG
    obtain ⟨ho, hw⟩ := hw
    refine fp_X8_25 CF hK hR hS hnm ho dX8_init_53 (fun G18 H locs hG hR hS => ?_)
    replace hw := hw G18 hG
    refine th_aload_n hx hb dX8_init_56 rfl (lv_at hL.1 0 rfl) ?_
    refine lv_iconst hx hb dX8_init_57 (v := 3) rfl ?_
    refine th_newa hx hb 0 (atype := .int) (CF.2.2.2.2 _ q200) rfl (by decide) (n := 3) 3 (by decide) rfl (by decide +kernel) hK hR hS (by show _ ≤ (12 : Nat); omega) (by show _ ≤ (5786 : Nat); omega) dX8_init_58 (fun z19 G20 H hz hG hR hS => ?_)
    replace hw := hw z19 hz G20 hG
    obtain ⟨ho, hw⟩ := hw
    refine fp_X8_28 CF hK hR hS hnm ho dX8_init_60 (fun G21 H locs hG hR hS => ?_)
    replace hw := hw G21 hG
    refine th_aload_n hx hb dX8_init_63 rfl (lv_at hL.1 0 rfl) ?_
    refine lv_bipush hx hb dX8_init_64 (v := 60) rfl ?_
    refine th_newa hx hb 0 (atype := .int) (CF.2.2.2.2 _ q200) rfl (by decide) (n := 60) 60 (by decide) rfl (by decide +kernel) hK hR hS (by show _ ≤ (12 : Nat); omega) (by show _ ≤ (5786 : Nat); omega) dX8_init_66 (fun z22 G23 H hz hG hR hS => ?_)
    replace hw := hw z22 hz G23 hG
    obtain ⟨ho, hw⟩ := hw
    refine fp_X8_31 CF hK hR hS hnm ho dX8_init_68 (fun G24 H locs hG hR hS => ?_)
    replace hw := hw G24 hG
    refine th_aload_n hx hb dX8_init_71 rfl (lv_at hL.1 0 rfl) ?_
    refine lv_iconst hx hb dX8_init_72 (v := (-1)) rfl ?_
    obtain ⟨ho, hw⟩ := hw
    refine fp_X8_34 CF hK hR hS ho dX8_init_73 (fun G25 H locs hG hR hS => ?_)
    replace hw := hw G25 hG
    refine th_aload_n hx hb dX8_init_76 rfl (lv_at hL.1 0 rfl) ?_
    refine lv_sipush hx hb dX8_init_77 (v := 400) rfl ?_
    refine th_newa hx hb 0 (atype := .int) (CF.2.2.2.2 _ q200) rfl (by decide) (n := 400) 400 (by decide) rfl (by decide +kernel) hK hR hS (by show _ ≤ (12 : Nat); omega) (by show _ ≤ (5786 : Nat); omega) dX8_init_80 (fun z26 G27 H hz hG hR hS => ?_)
    replace hw := hw z26 hz G27 hG
    obtain ⟨ho, hw⟩ := hw
    refine fp_X8_38 CF hK hR hS hnm ho dX8_init_82 (fun G28 H locs hG hR hS => ?_)
    replace hw := hw G28 hG
    refine th_aload_n hx hb dX8_init_85 rfl (lv_at hL.1 0 rfl) ?_
    refine lv_iconst hx hb dX8_init_86 (v := 4) rfl ?_
    refine th_newa hx hb 0 (atype := .int) (CF.2.2.2.2 _ q200) rfl (by decide) (n := 4) 4 (by decide) rfl (by decide +kernel) hK hR hS (by show _ ≤ (12 : Nat); omega) (by show _ ≤ (5786 : Nat); omega) dX8_init_87 (fun z29 G30 H hz hG hR hS => ?_)
    replace hw := hw z29 hz G30 hG
    obtain ⟨ho, hw⟩ := hw
    refine fp_X8_41 CF hK hR hS hnm ho dX8_init_89 (fun G31 H locs hG hR hS => ?_)
    replace hw := hw G31 hG
    refine th_aload_n hx hb dX8_init_92 rfl (lv_at hL.1 0 rfl) ?_
    refine lv_bipush hx hb dX8_init_93 (v := 30) rfl ?_
    refine th_newa hx hb 0 (atype := .int) (CF.2.2.2.2 _ q200) rfl (by decide) (n := 30) 30 (by decide) rfl (by decide +kernel) hK hR hS (by show _ ≤ (12 : Nat); omega) (by show _ ≤ (5786 : Nat); omega) dX8_init_95 (fun z32 G33 H hz hG hR hS => ?_)
    replace hw := hw z32 hz G33 hG
    obtain ⟨ho, hw⟩ := hw
    refine fp_X8_44 CF hK hR hS hnm ho dX8_init_97 (fun G34 H locs hG hR hS => ?_)
    replace hw := hw G34 hG
    refine th_aload_n hx hb dX8_init_100 rfl (lv_at hL.1 0 rfl) ?_
    refine lv_bipush hx hb dX8_init_101 (v := 90) rfl ?_
    refine th_newa hx hb 0 (atype := .int) (CF.2.2.2.2 _ q200) rfl (by decide) (n := 90) 90 (by decide) rfl (by decide +kernel) hK hR hS (by show _ ≤ (12 : Nat); omega) (by show _ ≤ (5786 : Nat); omega) dX8_init_103 (fun z35 G36 H hz hG hR hS => ?_)
    replace hw := hw z35 hz G36 hG
    obtain ⟨ho, hw⟩ := hw
    refine fp_X8_47 CF hK hR hS hnm ho dX8_init_105 (fun G37 H locs hG hR hS => ?_)
    replace hw := hw G37 hG
    refine th_aload_n hx hb dX8_init_108 rfl (lv_at hL.1 0 rfl) ?_
    obtain ⟨ho, hw⟩ := hw
    refine th_kv hS (th_rV CF hK hSt hR hS ho (ci := 8) rfl (rest := []) (tk_X8_begins) (cw_X8_50 CF hK (by decide +kernel)) hw rfl hL.1.1 rfl th_cn (Nat.le_of_ble_eq_true rfl) dX8_init_109 ⟨by show _ ≤ (12 : Nat); omega, by show _ ≤ (5786 : Nat); omega⟩) (fun G38 H locs hw hR hS => ?_)
    exact th_vret hx hb hret hlk hR hS hw (by omega) (by omega) dX8_init_112)
