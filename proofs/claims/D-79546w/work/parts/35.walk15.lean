/-! WALKS: X8_placeOf X8_price X8_ranked X8_reason X8_restore X8_save X8_sign X8_reads X8_tells X8_number X8_readsKind X8_readsSale X8_readsCommand -/
set_option maxRecDepth 100000
def tw_X8_placeOf (Q : Int32 → aH → Prop) (G : aH) (a0 : Nat) (x1 : Int32) (x2 : Int32) : Prop :=
  (tw_X8_isPlace
    (fun (r2 : Int32) (G1 : aH) =>
      (¬ r2 = 0 →
        (tw_X8_isIn
          (fun (r4 : Int32) (G3 : aH) =>
            (r4 = 0 →
              (¬ x2 = 3 →
                Q (-2) G3) ∧
              (x2 = 3 →
                th_o G3 a0 8 ∧ (
                th_ai G3 (a_mr G3 a0 0) 0 427 ∧ (
                (¬ a_mi G3 (a_mr G3 a0 0) (427 : Int32).toNatClampNeg = x1 →
                  Q 0 G3) ∧
                (a_mi G3 (a_mr G3 a0 0) (427 : Int32).toNatClampNeg = x1 →
                  Q 1 G3))))) ∧
            (¬ r4 = 0 →
              th_o G3 a0 8 ∧ (
              th_ai G3 (a_mr G3 a0 0) 0 ((406 + (3 * x1)) + x2) ∧ (
              Q (a_mi G3 (a_mr G3 a0 0) ((406 + (3 * x1)) + x2).toNatClampNeg) G3))))
          G1 x2 0 2)) ∧
      (r2 = 0 →
        Q (-1) G1))
    G x1)
theorem tk_X8_placeOf {l : Launch} {D : tD} {B : Nat} {Q : Int32 → aH → Prop} {a0 : Nat} {x1 : Int32} {x2 : Int32} : Met l yX8_placeOf (ws_ yX8_placeOf cX8_placeOf 3 ((Option.some Jvm.ClassFile.FieldType.int))) rm_X8_placeOf (th_P D B [rv a0, .int x1, .int x2] (fun G => tw_X8_placeOf Q G a0 x1 x2)) (th_Qi D B Q) 0 0 (th_A B) :=
  th_ofW (by decide +kernel) (th_cr (th_ci (th_ci th_cn))) (Nat.le_of_ble_eq_true rfl) (fun p e s m args below meth c CF hret hlk hnm hK hSt G ls hR hS hw hL => by
    have E : th_E p m c cX8_placeOf 3 s args RX8 meth ((Option.some Jvm.ClassFile.FieldType.int)) "placeOf" D B := ⟨CF, hret, hlk, hnm, hK, hSt⟩
    have hx := CF.1; have hb := CF.2.1
    have hL : th_L ls 3 [(0, rv a0), (1, .int x1), (2, .int x2)] := hL
    unfold tw_X8_placeOf at hw
    refine lv_iload_n hx hb dX8_placeOf_0 rfl (lv_at hL.1 1 rfl) ?_
    refine th_ki hS (th_rS CF hK hSt hR hS (rest := []) (tk_X8_isPlace) (cw_X8_190 CF hK (by decide +kernel)) hw rfl hL.1.1 rfl th_cn (Nat.le_of_ble_eq_true rfl) dX8_placeOf_1 ⟨by show _ ≤ (0 : Nat); omega, by show _ ≤ (0 : Nat); omega⟩) (fun r2 G1 H locs hw hR hS => ?_)
    refine lv_if_ne hx hb dX8_placeOf_4 (tgt := 9) (by decide) (fun h => ?_) (fun h => ?_)
    · replace hw := hw.1 h
      refine lv_iload_n hx hb dX8_placeOf_9 rfl (lv_at hL.1 2 rfl) ?_
      refine lv_iconst hx hb dX8_placeOf_10 (v := 0) rfl ?_
      refine lv_iconst hx hb dX8_placeOf_11 (v := 2) rfl ?_
      refine th_ki hS (th_rS CF hK hSt hR hS (rest := []) (tk_X8_isIn) (cw_X8_56 CF hK (by decide +kernel)) hw rfl hL.1.1 rfl th_cn (Nat.le_of_ble_eq_true rfl) dX8_placeOf_12 ⟨by show _ ≤ (0 : Nat); omega, by show _ ≤ (0 : Nat); omega⟩) (fun r4 G3 H locs hw hR hS => ?_)
      refine lv_if_eq hx hb dX8_placeOf_15 (tgt := 35) (by decide) (fun h => ?_) (fun h => ?_)
      · replace hw := hw.1 h
        refine lv_iload_n hx hb dX8_placeOf_35 rfl (lv_at hL.1 2 rfl) ?_
        refine lv_iconst hx hb dX8_placeOf_36 (v := 3) rfl ?_
        refine lv_icmp_ne hx hb dX8_placeOf_37 (tgt := 60) (by decide) (fun h => ?_) (fun h => ?_)
        · replace hw := hw.1 h
          refine lv_bipush hx hb dX8_placeOf_60 (v := (-2)) rfl ?_
          exact th_iret hx hb hret hlk hR hS hw (by omega) (by omega) dX8_placeOf_62
        · replace hw := hw.2 h
          refine th_aload_n hx hb dX8_placeOf_40 rfl (lv_at hL.1 0 rfl) ?_
          obtain ⟨ho, hw⟩ := hw
          refine fg_X8_9 CF hK hR ho dX8_placeOf_41 ?_
          refine lv_sipush hx hb dX8_placeOf_44 (v := 427) rfl ?_
          obtain ⟨ha, hw⟩ := hw
          refine th_iald hx hb hK hR ha dX8_placeOf_47 ?_
          refine lv_iload_n hx hb dX8_placeOf_48 rfl (lv_at hL.1 1 rfl) ?_
          refine lv_icmp_ne hx hb dX8_placeOf_49 (tgt := 56) (by decide) (fun h => ?_) (fun h => ?_)
          · replace hw := hw.1 h
            refine lv_iconst hx hb dX8_placeOf_56 (v := 0) rfl ?_
            refine lv_goto hx hb dX8_placeOf_57 (tgt := 62) (by decide) ?_
            exact th_iret hx hb hret hlk hR hS hw (by omega) (by omega) dX8_placeOf_62
          · replace hw := hw.2 h
            refine lv_iconst hx hb dX8_placeOf_52 (v := 1) rfl ?_
            refine lv_goto hx hb dX8_placeOf_53 (tgt := 62) (by decide) ?_
            exact th_iret hx hb hret hlk hR hS hw (by omega) (by omega) dX8_placeOf_62
      · replace hw := hw.2 h
        refine th_aload_n hx hb dX8_placeOf_18 rfl (lv_at hL.1 0 rfl) ?_
        obtain ⟨ho, hw⟩ := hw
        refine fg_X8_9 CF hK hR ho dX8_placeOf_19 ?_
        refine lv_sipush hx hb dX8_placeOf_22 (v := 406) rfl ?_
        refine lv_iconst hx hb dX8_placeOf_25 (v := 3) rfl ?_
        refine lv_iload_n hx hb dX8_placeOf_26 rfl (lv_at hL.1 1 rfl) ?_
        refine lv_imul hx hb dX8_placeOf_27 ?_
        refine lv_iadd hx hb dX8_placeOf_28 ?_
        refine lv_iload_n hx hb dX8_placeOf_29 rfl (lv_at hL.1 2 rfl) ?_
        refine lv_iadd hx hb dX8_placeOf_30 ?_
        obtain ⟨ha, hw⟩ := hw
        refine th_iald hx hb hK hR ha dX8_placeOf_31 ?_
        refine lv_goto hx hb dX8_placeOf_32 (tgt := 62) (by decide) ?_
        exact th_iret hx hb hret hlk hR hS hw (by omega) (by omega) dX8_placeOf_62
    · replace hw := hw.2 h
      refine lv_iconst hx hb dX8_placeOf_7 (v := (-1)) rfl ?_
      exact th_iret hx hb hret hlk hR hS hw (by omega) (by omega) dX8_placeOf_8)
def tw_X8_price (Q : Int32 → aH → Prop) (G : aH) (a0 : Nat) (x1 : Int32) (x2 : Int32) : Prop :=
  (tw_X8_isKind
    (fun (r2 : Int32) (G1 : aH) =>
      (¬ r2 = 0 →
        (tw_X8_isIn
          (fun (r4 : Int32) (G3 : aH) =>
            (r4 = 0 →
              Q (-2) G3) ∧
            (¬ r4 = 0 →
              th_o G3 a0 8 ∧ (
              (tw_X8_becomes
                (fun (r6 : Int32) (G5 : aH) =>
                  Q r6 G5)
                G3 a0 ((391 + (5 * x1)) + 1) x2))))
          G1 x2 1 50)) ∧
      (r2 = 0 →
        Q (-1) G1))
    G x1)
theorem tk_X8_price {l : Launch} {D : tD} {B : Nat} {Q : Int32 → aH → Prop} {a0 : Nat} {x1 : Int32} {x2 : Int32} : Met l yX8_price (ws_ yX8_price cX8_price 3 ((Option.some Jvm.ClassFile.FieldType.int))) rm_X8_price (th_P D B [rv a0, .int x1, .int x2] (fun G => tw_X8_price Q G a0 x1 x2)) (th_Qi D B Q) 0 0 (th_A B) :=
  th_ofW (by decide +kernel) (th_cr (th_ci (th_ci th_cn))) (Nat.le_of_ble_eq_true rfl) (fun p e s m args below meth c CF hret hlk hnm hK hSt G ls hR hS hw hL => by
    have E : th_E p m c cX8_price 3 s args RX8 meth ((Option.some Jvm.ClassFile.FieldType.int)) "price" D B := ⟨CF, hret, hlk, hnm, hK, hSt⟩
    have hx := CF.1; have hb := CF.2.1
    have hL : th_L ls 3 [(0, rv a0), (1, .int x1), (2, .int x2)] := hL
    unfold tw_X8_price at hw
    refine lv_iload_n hx hb dX8_price_0 rfl (lv_at hL.1 1 rfl) ?_
    refine th_ki hS (th_rS CF hK hSt hR hS (rest := []) (tk_X8_isKind) (cw_X8_93 CF hK (by decide +kernel)) hw rfl hL.1.1 rfl th_cn (Nat.le_of_ble_eq_true rfl) dX8_price_1 ⟨by show _ ≤ (0 : Nat); omega, by show _ ≤ (0 : Nat); omega⟩) (fun r2 G1 H locs hw hR hS => ?_)
    refine lv_if_ne hx hb dX8_price_4 (tgt := 11) (by decide) (fun h => ?_) (fun h => ?_)
    · replace hw := hw.1 h
      refine lv_iload_n hx hb dX8_price_11 rfl (lv_at hL.1 2 rfl) ?_
      refine lv_iconst hx hb dX8_price_12 (v := 1) rfl ?_
      refine lv_bipush hx hb dX8_price_13 (v := 50) rfl ?_
      refine th_ki hS (th_rS CF hK hSt hR hS (rest := []) (tk_X8_isIn) (cw_X8_56 CF hK (by decide +kernel)) hw rfl hL.1.1 rfl th_cn (Nat.le_of_ble_eq_true rfl) dX8_price_15 ⟨by show _ ≤ (0 : Nat); omega, by show _ ≤ (0 : Nat); omega⟩) (fun r4 G3 H locs hw hR hS => ?_)
      refine lv_if_eq hx hb dX8_price_18 (tgt := 38) (by decide) (fun h => ?_) (fun h => ?_)
      · replace hw := hw.1 h
        refine lv_bipush hx hb dX8_price_38 (v := (-2)) rfl ?_
        exact th_iret hx hb hret hlk hR hS hw (by omega) (by omega) dX8_price_40
      · replace hw := hw.2 h
        refine th_aload_n hx hb dX8_price_21 rfl (lv_at hL.1 0 rfl) ?_
        refine lv_sipush hx hb dX8_price_22 (v := 391) rfl ?_
        refine lv_iconst hx hb dX8_price_25 (v := 5) rfl ?_
        refine lv_iload_n hx hb dX8_price_26 rfl (lv_at hL.1 1 rfl) ?_
        refine lv_imul hx hb dX8_price_27 ?_
        refine lv_iadd hx hb dX8_price_28 ?_
        refine lv_iconst hx hb dX8_price_29 (v := 1) rfl ?_
        refine lv_iadd hx hb dX8_price_30 ?_
        refine lv_iload_n hx hb dX8_price_31 rfl (lv_at hL.1 2 rfl) ?_
        obtain ⟨ho, hw⟩ := hw
        refine th_ki hS (th_rV CF hK hSt hR hS ho (ci := 8) rfl (rest := []) (tk_X8_becomes) (cw_X8_175 CF hK (by decide +kernel)) hw rfl hL.1.1 rfl th_cn (Nat.le_of_ble_eq_true rfl) dX8_price_32 ⟨by show _ ≤ (0 : Nat); omega, by show _ ≤ (0 : Nat); omega⟩) (fun r6 G5 H locs hw hR hS => ?_)
        refine lv_goto hx hb dX8_price_35 (tgt := 40) (by decide) ?_
        exact th_iret hx hb hret hlk hR hS hw (by omega) (by omega) dX8_price_40
    · replace hw := hw.2 h
      refine lv_iconst hx hb dX8_price_7 (v := (-1)) rfl ?_
      refine lv_goto hx hb dX8_price_8 (tgt := 40) (by decide) ?_
      exact th_iret hx hb hret hlk hR hS hw (by omega) (by omega) dX8_price_40)
def tw_X8_ranked_b28 (Q : Int32 → aH → Prop) (k4 : aH → Nat → Int32 → Int32 → Int32 → Prop) (G : aH) (a0 : Nat) (x1 : Int32) (x3 : Int32) (tx0 : Int32) : Prop :=
  ∀ x3_3 : Int32, x3_3 = x3 + 1 → 
  k4 G a0 x1 tx0 x3_3
def tw_X8_ranked_b4 (Q : Int32 → aH → Prop) : Nat → aH → Nat → Int32 → Int32 → Int32 → Prop := fun n => Nat.rec (motive := fun _ => aH → Nat → Int32 → Int32 → Int32 → Prop) (fun _ _ _ _ _ => False) (fun _ ih G a0 x1 x2 x3 =>
  th_o G a0 8 ∧ (
  th_ai G (a_mr G a0 0) 0 0 ∧ (
  (a_mi G (a_mr G a0 0) (0 : Int32).toNatClampNeg ≤ x3 →
    Q x2 G) ∧
  (¬ a_mi G (a_mr G a0 0) (0 : Int32).toNatClampNeg ≤ x3 →
    th_o G a0 8 ∧ (
    (tw_X8_rankOf
      (fun (r2 : Int32) (G1 : aH) =>
        (¬ r2 = x1 →
          tw_X8_ranked_b28 Q (ih) G1 a0 x1 x3 x2) ∧
        (r2 = x1 →
          tw_X8_ranked_b28 Q (ih) G1 a0 x1 x3 x3))
      G a0 x3)))))) n
theorem tws_X8_ranked_b4 (Q : Int32 → aH → Prop) (n : Nat) (G : aH) (a0 : Nat) (x1 : Int32) (x2 : Int32) (x3 : Int32) : tw_X8_ranked_b4 Q (n + 1) G a0 x1 x2 x3 = (
  th_o G a0 8 ∧ (
  th_ai G (a_mr G a0 0) 0 0 ∧ (
  (a_mi G (a_mr G a0 0) (0 : Int32).toNatClampNeg ≤ x3 →
    Q x2 G) ∧
  (¬ a_mi G (a_mr G a0 0) (0 : Int32).toNatClampNeg ≤ x3 →
    th_o G a0 8 ∧ (
    (tw_X8_rankOf
      (fun (r2 : Int32) (G1 : aH) =>
        (¬ r2 = x1 →
          tw_X8_ranked_b28 Q (tw_X8_ranked_b4 Q n) G1 a0 x1 x3 x2) ∧
        (r2 = x1 →
          tw_X8_ranked_b28 Q (tw_X8_ranked_b4 Q n) G1 a0 x1 x3 x3))
      G a0 x3)))))) := rfl
def tw_X8_ranked (Q : Int32 → aH → Prop) (G : aH) (a0 : Nat) (x1 : Int32) : Prop :=
  ∃ n9 : Nat, tw_X8_ranked_b4 Q n9 G a0 x1 (-1) 0
theorem tk_X8_ranked_b28 {p : Program} {l : Launch} {e : Env} {s : State} {m : MethodId} {args : Array Value} {below : List Frame} {meth : Method} {c : Code} {D : tD} {B : Nat} (E : th_E p m c cX8_ranked 4 s args RX8 meth ((Option.some Jvm.ClassFile.FieldType.int)) "ranked" D B) {Q : Int32 → aH → Prop} {k4 : aH → Nat → Int32 → Int32 → Int32 → Prop} {c4 s4 : Nat} (h4 : ∀ (G : aH) (H : Heap) (locs : List Loc) (cells slots : Nat) (ls : Array Slot) (y4_0 : Nat) (y4_1 : Int32) (y4_2 : Int32) (y4_3 : Int32), k4 G y4_0 y4_1 y4_2 y4_3 → th_H D B G H → va_S (th_A B) s.heap H locs → th_L ls 4 [(0, rv y4_0), (1, .int y4_1), (2, .int y4_2), (3, .int y4_3)] → cells ≤ c4 ∧ slots ≤ s4 → W p l e rm_X8_ranked s m args below meth c H locs cells slots (MQ below (th_Qi D B Q) args s 0 0 (th_A B)) (F0 m 4 ls [])) {G : aH} {H : Heap} {locs : List Loc} {cells slots : Nat} {ls : Array Slot} {a0 : Nat} {x1 : Int32} {x3 : Int32} {tx0 : Int32} (hR : th_H D B G H) (hS : va_S (th_A B) s.heap H locs) (hL : th_L ls 4 [(0, rv a0), (1, .int x1), (3, .int x3)]) (hw : tw_X8_ranked_b28 Q k4 G a0 x1 x3 tx0) (hc : cells + (0) ≤ 0 ∧ slots + (0) ≤ 0 ∧ cells + (0) ≤ c4 ∧ slots + (0) ≤ s4) : W p l e rm_X8_ranked s m args below meth c H locs cells slots (MQ below (th_Qi D B Q) args s 0 0 (th_A B)) (F0 m 28 ls [.int tx0]) := by
  have CF := E.1; have hx := CF.1; have hb := CF.2.1; have hret := E.2.1; have hlk := E.2.2.1; have hnm := E.2.2.2.1; have hK := E.2.2.2.2.1; have hSt := E.2.2.2.2.2
  unfold tw_X8_ranked_b28 at hw
  refine th_istore_n hx hb dX8_ranked_28 rfl hL (by decide) rfl (fun ls hL => ?_)
  obtain ⟨x3_3, hx3_3⟩ : ∃ y : Int32, y = x3 + 1 := ⟨_, rfl⟩
  replace hw := hw x3_3 hx3_3
  refine th_iinc hx hb dX8_ranked_29 hL (k := 3) rfl (v := x3_3) hx3_3.symm (by decide) rfl (fun ls hL => ?_)
  refine lv_goto hx hb dX8_ranked_32 (tgt := 4) (by decide) ?_
  exact h4 _ _ _ _ _ _ _ _ _ _ hw hR hS (hL.sub [2, 3, 1, 0] rfl) ⟨by omega, by omega⟩
theorem tk_X8_ranked_b4 {p : Program} {l : Launch} {e : Env} {s : State} {m : MethodId} {args : Array Value} {below : List Frame} {meth : Method} {c : Code} {D : tD} {B : Nat} (E : th_E p m c cX8_ranked 4 s args RX8 meth ((Option.some Jvm.ClassFile.FieldType.int)) "ranked" D B) {Q : Int32 → aH → Prop} : ∀ (n : Nat) {G : aH} {H : Heap} {locs : List Loc} {cells slots : Nat} {ls : Array Slot} {a0 : Nat} {x1 : Int32} {x2 : Int32} {x3 : Int32} (hR : th_H D B G H) (hS : va_S (th_A B) s.heap H locs) (hL : th_L ls 4 [(0, rv a0), (1, .int x1), (2, .int x2), (3, .int x3)]) (hw : tw_X8_ranked_b4 Q n G a0 x1 x2 x3) (hc : cells + (0) ≤ 0 ∧ slots + (0) ≤ 0), W p l e rm_X8_ranked s m args below meth c H locs cells slots (MQ below (th_Qi D B Q) args s 0 0 (th_A B)) (F0 m 4 ls []) := by
  have CF := E.1; have hx := CF.1; have hb := CF.2.1; have hret := E.2.1; have hlk := E.2.2.1; have hnm := E.2.2.2.1; have hK := E.2.2.2.2.1; have hSt := E.2.2.2.2.2
  intro n
  induction n with
  | zero => intro _ _ _ _ _ _ _ _ _ _ _ _ _ hw; exact hw.elim
  | succ n ih =>
    intro G H locs cells slots ls a0 x1 x2 x3 hR hS hL hw hc
    rw [tws_X8_ranked_b4] at hw
    refine lv_iload_n hx hb dX8_ranked_4 rfl (lv_at hL.1 3 rfl) ?_
    refine th_aload_n hx hb dX8_ranked_5 rfl (lv_at hL.1 0 rfl) ?_
    obtain ⟨ho, hw⟩ := hw
    refine fg_X8_9 CF hK hR ho dX8_ranked_6 ?_
    refine lv_iconst hx hb dX8_ranked_9 (v := 0) rfl ?_
    obtain ⟨ha, hw⟩ := hw
    refine th_iald hx hb hK hR ha dX8_ranked_10 ?_
    refine lv_icmp_ge hx hb dX8_ranked_11 (tgt := 35) (by decide) (fun h => ?_) (fun h => ?_)
    · replace hw := hw.1 h
      refine lv_iload_n hx hb dX8_ranked_35 rfl (lv_at hL.1 2 rfl) ?_
      exact th_iret hx hb hret hlk hR hS hw (by omega) (by omega) dX8_ranked_36
    · replace hw := hw.2 h
      refine th_aload_n hx hb dX8_ranked_14 rfl (lv_at hL.1 0 rfl) ?_
      refine lv_iload_n hx hb dX8_ranked_15 rfl (lv_at hL.1 3 rfl) ?_
      obtain ⟨ho, hw⟩ := hw
      refine th_ki hS (th_rV CF hK hSt hR hS ho (ci := 8) rfl (rest := []) (tk_X8_rankOf) (cw_X8_236 CF hK (by decide +kernel)) hw rfl hL.1.1 rfl th_cn (Nat.le_of_ble_eq_true rfl) dX8_ranked_16 ⟨by show _ ≤ (0 : Nat); omega, by show _ ≤ (0 : Nat); omega⟩) (fun r2 G1 H locs hw hR hS => ?_)
      refine lv_iload_n hx hb dX8_ranked_19 rfl (lv_at hL.1 1 rfl) ?_
      refine lv_icmp_ne hx hb dX8_ranked_20 (tgt := 27) (by decide) (fun h => ?_) (fun h => ?_)
      · replace hw := hw.1 h
        refine lv_iload_n hx hb dX8_ranked_27 rfl (lv_at hL.1 2 rfl) ?_
        exact tk_X8_ranked_b28 E (c4 := cells + 0 + 0) (s4 := slots + 0 + 0) (fun G H locs cells slots ls y0 y1 y2 y3 hw hR hS hL hc => ih hR hS hL hw ⟨by omega, by omega⟩) hR hS (hL.sub [0, 1, 3] rfl) hw ⟨by omega, by omega, by omega, by omega⟩
      · replace hw := hw.2 h
        refine lv_iload_n hx hb dX8_ranked_23 rfl (lv_at hL.1 3 rfl) ?_
        refine lv_goto hx hb dX8_ranked_24 (tgt := 28) (by decide) ?_
        exact tk_X8_ranked_b28 E (c4 := cells + 0 + 0) (s4 := slots + 0 + 0) (fun G H locs cells slots ls y0 y1 y2 y3 hw hR hS hL hc => ih hR hS hL hw ⟨by omega, by omega⟩) hR hS (hL.sub [0, 1, 3] rfl) hw ⟨by omega, by omega, by omega, by omega⟩
theorem tk_X8_ranked {l : Launch} {D : tD} {B : Nat} {Q : Int32 → aH → Prop} {a0 : Nat} {x1 : Int32} : Met l yX8_ranked (ws_ yX8_ranked cX8_ranked 4 ((Option.some Jvm.ClassFile.FieldType.int))) rm_X8_ranked (th_P D B [rv a0, .int x1] (fun G => tw_X8_ranked Q G a0 x1)) (th_Qi D B Q) 0 0 (th_A B) :=
  th_ofW (by decide +kernel) (th_cr (th_ci th_cn)) (Nat.le_of_ble_eq_true rfl) (fun p e s m args below meth c CF hret hlk hnm hK hSt G ls hR hS hw hL => by
    have E : th_E p m c cX8_ranked 4 s args RX8 meth ((Option.some Jvm.ClassFile.FieldType.int)) "ranked" D B := ⟨CF, hret, hlk, hnm, hK, hSt⟩
    have hx := CF.1; have hb := CF.2.1
    have hL : th_L ls 4 [(0, rv a0), (1, .int x1)] := hL
    unfold tw_X8_ranked at hw
    refine lv_iconst hx hb dX8_ranked_0 (v := (-1)) rfl ?_
    refine th_istore_n hx hb dX8_ranked_1 rfl hL (by decide) rfl (fun ls hL => ?_)
    refine lv_iconst hx hb dX8_ranked_2 (v := 0) rfl ?_
    refine th_istore_n hx hb dX8_ranked_3 rfl hL (by decide) rfl (fun ls hL => ?_)
    obtain ⟨n9, hw⟩ := hw
    exact tk_X8_ranked_b4 E n9 hR hS (hL.sub [2, 3, 1, 0] rfl) hw ⟨by omega, by omega⟩)
def tw_X8_reason (Q : Int32 → aH → Prop) (G : aH) (a0 : Nat) (x1 : Int32) (x2 : Int32) : Prop :=
  (x1 < 0 →
    Q (-2) G) ∧
  (¬ x1 < 0 →
    (tw_X8_isIn
      (fun (r2 : Int32) (G1 : aH) =>
        (¬ r2 = 0 →
          th_o G1 a0 8 ∧ (
          (x1 < a_mi G1 a0 7 →
            (¬ x2 = 1 →
              th_o G1 a0 8 ∧ (
              th_ai G1 (a_mr G1 a0 8) 0 x1 ∧ (
              Q (a_mi G1 (a_mr G1 a0 8) x1.toNatClampNeg) G1))) ∧
            (x2 = 1 →
              th_o G1 a0 8 ∧ (
              th_ai G1 (a_mr G1 a0 9) 0 x1 ∧ (
              Q (a_mi G1 (a_mr G1 a0 9) x1.toNatClampNeg) G1)))) ∧
          (¬ x1 < a_mi G1 a0 7 →
            Q (-4) G1))) ∧
        (r2 = 0 →
          Q (-2) G1))
      G x2 0 1))
theorem tk_X8_reason {l : Launch} {D : tD} {B : Nat} {Q : Int32 → aH → Prop} {a0 : Nat} {x1 : Int32} {x2 : Int32} : Met l yX8_reason (ws_ yX8_reason cX8_reason 3 ((Option.some Jvm.ClassFile.FieldType.int))) rm_X8_reason (th_P D B [rv a0, .int x1, .int x2] (fun G => tw_X8_reason Q G a0 x1 x2)) (th_Qi D B Q) 0 0 (th_A B) :=
  th_ofW (by decide +kernel) (th_cr (th_ci (th_ci th_cn))) (Nat.le_of_ble_eq_true rfl) (fun p e s m args below meth c CF hret hlk hnm hK hSt G ls hR hS hw hL => by
    have E : th_E p m c cX8_reason 3 s args RX8 meth ((Option.some Jvm.ClassFile.FieldType.int)) "reason" D B := ⟨CF, hret, hlk, hnm, hK, hSt⟩
    have hx := CF.1; have hb := CF.2.1
    have hL : th_L ls 3 [(0, rv a0), (1, .int x1), (2, .int x2)] := hL
    unfold tw_X8_reason at hw
    refine lv_iload_n hx hb dX8_reason_0 rfl (lv_at hL.1 1 rfl) ?_
    refine lv_if_lt hx hb dX8_reason_1 (tgt := 13) (by decide) (fun h => ?_) (fun h => ?_)
    · replace hw := hw.1 h
      refine lv_bipush hx hb dX8_reason_13 (v := (-2)) rfl ?_
      exact th_iret hx hb hret hlk hR hS hw (by omega) (by omega) dX8_reason_15
    · replace hw := hw.2 h
      refine lv_iload_n hx hb dX8_reason_4 rfl (lv_at hL.1 2 rfl) ?_
      refine lv_iconst hx hb dX8_reason_5 (v := 0) rfl ?_
      refine lv_iconst hx hb dX8_reason_6 (v := 1) rfl ?_
      refine th_ki hS (th_rS CF hK hSt hR hS (rest := []) (tk_X8_isIn) (cw_X8_56 CF hK (by decide +kernel)) hw rfl hL.1.1 rfl th_cn (Nat.le_of_ble_eq_true rfl) dX8_reason_7 ⟨by show _ ≤ (0 : Nat); omega, by show _ ≤ (0 : Nat); omega⟩) (fun r2 G1 H locs hw hR hS => ?_)
      refine lv_if_ne hx hb dX8_reason_10 (tgt := 16) (by decide) (fun h => ?_) (fun h => ?_)
      · replace hw := hw.1 h
        refine lv_iload_n hx hb dX8_reason_16 rfl (lv_at hL.1 1 rfl) ?_
        refine th_aload_n hx hb dX8_reason_17 rfl (lv_at hL.1 0 rfl) ?_
        obtain ⟨ho, hw⟩ := hw
        refine fg_X8_66 CF hK hR ho dX8_reason_18 ?_
        refine lv_icmp_lt hx hb dX8_reason_21 (tgt := 29) (by decide) (fun h => ?_) (fun h => ?_)
        · replace hw := hw.1 h
          refine lv_iload_n hx hb dX8_reason_29 rfl (lv_at hL.1 2 rfl) ?_
          refine lv_iconst hx hb dX8_reason_30 (v := 1) rfl ?_
          refine lv_icmp_ne hx hb dX8_reason_31 (tgt := 43) (by decide) (fun h => ?_) (fun h => ?_)
          · replace hw := hw.1 h
            refine th_aload_n hx hb dX8_reason_43 rfl (lv_at hL.1 0 rfl) ?_
            obtain ⟨ho, hw⟩ := hw
            refine fg_X8_25 CF hK hR ho dX8_reason_44 ?_
            refine lv_iload_n hx hb dX8_reason_47 rfl (lv_at hL.1 1 rfl) ?_
            obtain ⟨ha, hw⟩ := hw
            refine th_iald hx hb hK hR ha dX8_reason_48 ?_
            exact th_iret hx hb hret hlk hR hS hw (by omega) (by omega) dX8_reason_49
          · replace hw := hw.2 h
            refine th_aload_n hx hb dX8_reason_34 rfl (lv_at hL.1 0 rfl) ?_
            obtain ⟨ho, hw⟩ := hw
            refine fg_X8_28 CF hK hR ho dX8_reason_35 ?_
            refine lv_iload_n hx hb dX8_reason_38 rfl (lv_at hL.1 1 rfl) ?_
            obtain ⟨ha, hw⟩ := hw
            refine th_iald hx hb hK hR ha dX8_reason_39 ?_
            refine lv_goto hx hb dX8_reason_40 (tgt := 49) (by decide) ?_
            exact th_iret hx hb hret hlk hR hS hw (by omega) (by omega) dX8_reason_49
        · replace hw := hw.2 h
          refine lv_bipush hx hb dX8_reason_24 (v := (-4)) rfl ?_
          refine lv_goto hx hb dX8_reason_26 (tgt := 49) (by decide) ?_
          exact th_iret hx hb hret hlk hR hS hw (by omega) (by omega) dX8_reason_49
      · replace hw := hw.2 h
        refine lv_bipush hx hb dX8_reason_13 (v := (-2)) rfl ?_
        exact th_iret hx hb hret hlk hR hS hw (by omega) (by omega) dX8_reason_15)
def tw_X8_restore (Q : Int32 → aH → Prop) (G : aH) (a0 : Nat) : Prop :=
  th_o G a0 8 ∧ (
  (¬ a_mi G a0 5 = 0 →
    th_o G a0 8 ∧ (
    th_o G a0 8 ∧ (
    (tw_X8_copies
      (fun (G1 : aH) =>
        th_o G1 a0 8 ∧ (
        ∀ G2 : aH, G2 = a_si G1 a0 6 0 → 
        th_o G2 a0 8 ∧ (
        th_ai G2 (a_mr G2 a0 0) 0 0 ∧ (
        Q (a_mi G2 (a_mr G2 a0 0) (0 : Int32).toNatClampNeg) G2))))
      G (a_mr G a0 3) 0 (a_mr G a0 0) 0)))) ∧
  (a_mi G a0 5 = 0 →
    Q (-4) G))
theorem tk_X8_restore {l : Launch} {D : tD} {B : Nat} {Q : Int32 → aH → Prop} {a0 : Nat} : Met l yX8_restore (ws_ yX8_restore cX8_restore 1 ((Option.some Jvm.ClassFile.FieldType.int))) rm_X8_restore (th_P D B [rv a0] (fun G => tw_X8_restore Q G a0)) (th_Qi D B Q) 0 0 (th_A B) :=
  th_ofW (by decide +kernel) (th_cr th_cn) (Nat.le_of_ble_eq_true rfl) (fun p e s m args below meth c CF hret hlk hnm hK hSt G ls hR hS hw hL => by
    have E : th_E p m c cX8_restore 1 s args RX8 meth ((Option.some Jvm.ClassFile.FieldType.int)) "restore" D B := ⟨CF, hret, hlk, hnm, hK, hSt⟩
    have hx := CF.1; have hb := CF.2.1
    have hL : th_L ls 1 [(0, rv a0)] := hL
    unfold tw_X8_restore at hw
    refine th_aload_n hx hb dX8_restore_0 rfl (lv_at hL.1 0 rfl) ?_
    obtain ⟨ho, hw⟩ := hw
    refine fg_X8_85 CF hK hR ho dX8_restore_1 ?_
    refine lv_if_ne hx hb dX8_restore_4 (tgt := 10) (by decide) (fun h => ?_) (fun h => ?_)
    · replace hw := hw.1 h
      refine th_aload_n hx hb dX8_restore_10 rfl (lv_at hL.1 0 rfl) ?_
      obtain ⟨ho, hw⟩ := hw
      refine fg_X8_19 CF hK hR ho dX8_restore_11 ?_
      refine lv_iconst hx hb dX8_restore_14 (v := 0) rfl ?_
      refine th_aload_n hx hb dX8_restore_15 rfl (lv_at hL.1 0 rfl) ?_
      obtain ⟨ho, hw⟩ := hw
      refine fg_X8_9 CF hK hR ho dX8_restore_16 ?_
      refine lv_iconst hx hb dX8_restore_19 (v := 0) rfl ?_
      refine th_kv hS (th_rS CF hK hSt hR hS (rest := []) (tk_X8_copies) (cw_X8_73 CF hK (by decide +kernel)) hw rfl hL.1.1 rfl th_cn (Nat.le_of_ble_eq_true rfl) dX8_restore_20 ⟨by show _ ≤ (0 : Nat); omega, by show _ ≤ (0 : Nat); omega⟩) (fun G1 H locs hw hR hS => ?_)
      refine th_aload_n hx hb dX8_restore_23 rfl (lv_at hL.1 0 rfl) ?_
      refine lv_iconst hx hb dX8_restore_24 (v := 0) rfl ?_
      obtain ⟨ho, hw⟩ := hw
      refine fp_X8_53 CF hK hR hS ho dX8_restore_25 (fun G2 H locs hG hR hS => ?_)
      replace hw := hw G2 hG
      refine th_aload_n hx hb dX8_restore_28 rfl (lv_at hL.1 0 rfl) ?_
      obtain ⟨ho, hw⟩ := hw
      refine fg_X8_9 CF hK hR ho dX8_restore_29 ?_
      refine lv_iconst hx hb dX8_restore_32 (v := 0) rfl ?_
      obtain ⟨ha, hw⟩ := hw
      refine th_iald hx hb hK hR ha dX8_restore_33 ?_
      exact th_iret hx hb hret hlk hR hS hw (by omega) (by omega) dX8_restore_34
    · replace hw := hw.2 h
      refine lv_bipush hx hb dX8_restore_7 (v := (-4)) rfl ?_
      exact th_iret hx hb hret hlk hR hS hw (by omega) (by omega) dX8_restore_9)
def tw_X8_save (Q : Int32 → aH → Prop) (G : aH) (a0 : Nat) : Prop :=
  th_o G a0 8 ∧ (
  th_o G a0 8 ∧ (
  (tw_X8_copies
    (fun (G1 : aH) =>
      th_o G1 a0 8 ∧ (
      ∀ G2 : aH, G2 = a_si G1 a0 5 1 → 
      th_o G2 a0 8 ∧ (
      th_ai G2 (a_mr G2 a0 0) 0 0 ∧ (
      Q (a_mi G2 (a_mr G2 a0 0) (0 : Int32).toNatClampNeg) G2))))
    G (a_mr G a0 0) 0 (a_mr G a0 3) 0)))
theorem tk_X8_save {l : Launch} {D : tD} {B : Nat} {Q : Int32 → aH → Prop} {a0 : Nat} : Met l yX8_save (ws_ yX8_save cX8_save 1 ((Option.some Jvm.ClassFile.FieldType.int))) rm_X8_save (th_P D B [rv a0] (fun G => tw_X8_save Q G a0)) (th_Qi D B Q) 0 0 (th_A B) :=
  th_ofW (by decide +kernel) (th_cr th_cn) (Nat.le_of_ble_eq_true rfl) (fun p e s m args below meth c CF hret hlk hnm hK hSt G ls hR hS hw hL => by
    have E : th_E p m c cX8_save 1 s args RX8 meth ((Option.some Jvm.ClassFile.FieldType.int)) "save" D B := ⟨CF, hret, hlk, hnm, hK, hSt⟩
    have hx := CF.1; have hb := CF.2.1
    have hL : th_L ls 1 [(0, rv a0)] := hL
    unfold tw_X8_save at hw
    refine th_aload_n hx hb dX8_save_0 rfl (lv_at hL.1 0 rfl) ?_
    obtain ⟨ho, hw⟩ := hw
    refine fg_X8_9 CF hK hR ho dX8_save_1 ?_
    refine lv_iconst hx hb dX8_save_4 (v := 0) rfl ?_
    refine th_aload_n hx hb dX8_save_5 rfl (lv_at hL.1 0 rfl) ?_
    obtain ⟨ho, hw⟩ := hw
    refine fg_X8_19 CF hK hR ho dX8_save_6 ?_
    refine lv_iconst hx hb dX8_save_9 (v := 0) rfl ?_
    refine th_kv hS (th_rS CF hK hSt hR hS (rest := []) (tk_X8_copies) (cw_X8_73 CF hK (by decide +kernel)) hw rfl hL.1.1 rfl th_cn (Nat.le_of_ble_eq_true rfl) dX8_save_10 ⟨by show _ ≤ (0 : Nat); omega, by show _ ≤ (0 : Nat); omega⟩) (fun G1 H locs hw hR hS => ?_)
    refine th_aload_n hx hb dX8_save_13 rfl (lv_at hL.1 0 rfl) ?_
    refine lv_iconst hx hb dX8_save_14 (v := 1) rfl ?_
    obtain ⟨ho, hw⟩ := hw
    refine fp_X8_85 CF hK hR hS (Or.inr rfl) ho dX8_save_15 (fun G2 H locs hG hR hS => ?_)
    replace hw := hw G2 hG
    refine th_aload_n hx hb dX8_save_18 rfl (lv_at hL.1 0 rfl) ?_
    obtain ⟨ho, hw⟩ := hw
    refine fg_X8_9 CF hK hR ho dX8_save_19 ?_
    refine lv_iconst hx hb dX8_save_22 (v := 0) rfl ?_
    obtain ⟨ha, hw⟩ := hw
    refine th_iald hx hb hK hR ha dX8_save_23 ?_
    exact th_iret hx hb hret hlk hR hS hw (by omega) (by omega) dX8_save_24)
def tw_X8_sign (Q : Int32 → aH → Prop) (G : aH) (a0 : Nat) : Prop :=
  th_o G a0 8 ∧ (
  th_o G a0 8 ∧ (
  (a_mi G a0 17 ≤ a_mi G a0 18 →
    Q (-1) G) ∧
  (¬ a_mi G a0 17 ≤ a_mi G a0 18 →
    th_o G a0 8 ∧ (
    th_o G a0 8 ∧ (
    th_ai G (a_mr G a0 10) 0 (a_mi G a0 18) ∧ (
    Q (a_mi G (a_mr G a0 10) (a_mi G a0 18).toNatClampNeg) G))))))
theorem tk_X8_sign {l : Launch} {D : tD} {B : Nat} {Q : Int32 → aH → Prop} {a0 : Nat} : Met l yX8_sign (ws_ yX8_sign cX8_sign 1 ((Option.some Jvm.ClassFile.FieldType.int))) rm_X8_sign (th_P D B [rv a0] (fun G => tw_X8_sign Q G a0)) (th_Qi D B Q) 0 0 (th_A B) :=
  th_ofW (by decide +kernel) (th_cr th_cn) (Nat.le_of_ble_eq_true rfl) (fun p e s m args below meth c CF hret hlk hnm hK hSt G ls hR hS hw hL => by
    have E : th_E p m c cX8_sign 1 s args RX8 meth ((Option.some Jvm.ClassFile.FieldType.int)) "sign" D B := ⟨CF, hret, hlk, hnm, hK, hSt⟩
    have hx := CF.1; have hb := CF.2.1
    have hL : th_L ls 1 [(0, rv a0)] := hL
    unfold tw_X8_sign at hw
    refine th_aload_n hx hb dX8_sign_0 rfl (lv_at hL.1 0 rfl) ?_
    obtain ⟨ho, hw⟩ := hw
    refine fg_X8_253 CF hK hR ho dX8_sign_1 ?_
    refine th_aload_n hx hb dX8_sign_4 rfl (lv_at hL.1 0 rfl) ?_
    obtain ⟨ho, hw⟩ := hw
    refine fg_X8_256 CF hK hR ho dX8_sign_5 ?_
    refine lv_icmp_ge hx hb dX8_sign_8 (tgt := 23) (by decide) (fun h => ?_) (fun h => ?_)
    · replace hw := hw.1 h
      refine lv_iconst hx hb dX8_sign_23 (v := (-1)) rfl ?_
      exact th_iret hx hb hret hlk hR hS hw (by omega) (by omega) dX8_sign_24
    · replace hw := hw.2 h
      refine th_aload_n hx hb dX8_sign_11 rfl (lv_at hL.1 0 rfl) ?_
      obtain ⟨ho, hw⟩ := hw
      refine fg_X8_31 CF hK hR ho dX8_sign_12 ?_
      refine th_aload_n hx hb dX8_sign_15 rfl (lv_at hL.1 0 rfl) ?_
      obtain ⟨ho, hw⟩ := hw
      refine fg_X8_253 CF hK hR ho dX8_sign_16 ?_
      obtain ⟨ha, hw⟩ := hw
      refine th_iald hx hb hK hR ha dX8_sign_19 ?_
      refine lv_goto hx hb dX8_sign_20 (tgt := 24) (by decide) ?_
      exact th_iret hx hb hret hlk hR hS hw (by omega) (by omega) dX8_sign_24)
def tw_X8_reads_b65 (Q : Int32 → aH → Prop) (G : aH) (tx0 : Int32) (ta1 : Nat) : Prop :=
  th_o G ta1 8 ∧ (
  ∀ G1 : aH, G1 = a_si G ta1 19 tx0 → 
  Q 0 G1)
def tw_X8_reads_b45 (Q : Int32 → aH → Prop) (G : aH) (a0 : Nat) : Prop :=
  th_o G a0 8 ∧ (
  (¬ a_mi G a0 19 = (-1) →
    th_o G a0 8 ∧ (
    tw_X8_reads_b65 Q G (a_mi G a0 19) a0)) ∧
  (a_mi G a0 19 = (-1) →
    th_o G a0 8 ∧ (
    tw_X8_reads_b65 Q G (a_mi G a0 18) a0)))
def tw_X8_reads (Q : Int32 → aH → Prop) (G : aH) (a0 : Nat) (x1 : Int32) (x2 : Int32) : Prop :=
  th_o G a0 8 ∧ (
  (¬ a_mi G a0 19 = (-1) →
    tw_X8_reads_b45 Q G a0) ∧
  (a_mi G a0 19 = (-1) →
    th_o G a0 8 ∧ (
    (tw_X8_sign
      (fun (r3 : Int32) (G2 : aH) =>
        (tw_X8_isIn
          (fun (r5 : Int32) (G4 : aH) =>
            (r5 = 0 →
              tw_X8_reads_b45 Q G4 a0) ∧
            (¬ r5 = 0 →
              th_o G4 a0 8 ∧ (
              th_o G4 a0 8 ∧ (
              ∀ G6 : aH, G6 = a_si G4 a0 18 ((a_mi G4 a0 18) + 1) → 
              th_o G6 a0 8 ∧ (
              th_o G6 a0 8 ∧ (
              th_ai G6 (a_mr G6 a0 10) 0 ((a_mi G6 a0 18) - 1) ∧ (
              Q ((a_mi G6 (a_mr G6 a0 10) ((a_mi G6 a0 18) - 1).toNatClampNeg) - 48) G6)))))))
          G2 r3 x1 x2))
      G a0))))
theorem tk_X8_reads_b65 {p : Program} {l : Launch} {e : Env} {s : State} {m : MethodId} {args : Array Value} {below : List Frame} {meth : Method} {c : Code} {D : tD} {B : Nat} (E : th_E p m c cX8_reads 3 s args RX8 meth ((Option.some Jvm.ClassFile.FieldType.int)) "reads" D B) {Q : Int32 → aH → Prop} {G : aH} {H : Heap} {locs : List Loc} {cells slots : Nat} {ls : Array Slot} {tx0 : Int32} {ta1 : Nat} (hR : th_H D B G H) (hS : va_S (th_A B) s.heap H locs) (hL : th_L ls 3 []) (hw : tw_X8_reads_b65 Q G tx0 ta1) (hc : cells + (0) ≤ 0 ∧ slots + (0) ≤ 0) : W p l e rm_X8_reads s m args below meth c H locs cells slots (MQ below (th_Qi D B Q) args s 0 0 (th_A B)) (F0 m 65 ls [.int tx0, rv ta1]) := by
  have CF := E.1; have hx := CF.1; have hb := CF.2.1; have hret := E.2.1; have hlk := E.2.2.1; have hnm := E.2.2.2.1; have hK := E.2.2.2.2.1; have hSt := E.2.2.2.2.2
  unfold tw_X8_reads_b65 at hw
  obtain ⟨ho, hw⟩ := hw
  refine fp_X8_259 CF hK hR hS ho dX8_reads_65 (fun G1 H locs hG hR hS => ?_)
  replace hw := hw G1 hG
  refine lv_iconst hx hb dX8_reads_68 (v := 0) rfl ?_
  exact th_iret hx hb hret hlk hR hS hw (by omega) (by omega) dX8_reads_69
theorem tk_X8_reads_b45 {p : Program} {l : Launch} {e : Env} {s : State} {m : MethodId} {args : Array Value} {below : List Frame} {meth : Method} {c : Code} {D : tD} {B : Nat} (E : th_E p m c cX8_reads 3 s args RX8 meth ((Option.some Jvm.ClassFile.FieldType.int)) "reads" D B) {Q : Int32 → aH → Prop} {G : aH} {H : Heap} {locs : List Loc} {cells slots : Nat} {ls : Array Slot} {a0 : Nat} (hR : th_H D B G H) (hS : va_S (th_A B) s.heap H locs) (hL : th_L ls 3 [(0, rv a0)]) (hw : tw_X8_reads_b45 Q G a0) (hc : cells + (0) ≤ 0 ∧ slots + (0) ≤ 0) : W p l e rm_X8_reads s m args below meth c H locs cells slots (MQ below (th_Qi D B Q) args s 0 0 (th_A B)) (F0 m 45 ls []) := by
  have CF := E.1; have hx := CF.1; have hb := CF.2.1; have hret := E.2.1; have hlk := E.2.2.1; have hnm := E.2.2.2.1; have hK := E.2.2.2.2.1; have hSt := E.2.2.2.2.2
  unfold tw_X8_reads_b45 at hw
  refine th_aload_n hx hb dX8_reads_45 rfl (lv_at hL.1 0 rfl) ?_
  refine th_aload_n hx hb dX8_reads_46 rfl (lv_at hL.1 0 rfl) ?_
  obtain ⟨ho, hw⟩ := hw
  refine fg_X8_259 CF hK hR ho dX8_reads_47 ?_
  refine lv_iconst hx hb dX8_reads_50 (v := (-1)) rfl ?_
  refine lv_icmp_ne hx hb dX8_reads_51 (tgt := 61) (by decide) (fun h => ?_) (fun h => ?_)
  · replace hw := hw.1 h
    refine th_aload_n hx hb dX8_reads_61 rfl (lv_at hL.1 0 rfl) ?_
    obtain ⟨ho, hw⟩ := hw
    refine fg_X8_259 CF hK hR ho dX8_reads_62 ?_
    exact tk_X8_reads_b65 E hR hS (hL.sub [] rfl) hw ⟨by omega, by omega⟩
  · replace hw := hw.2 h
    refine th_aload_n hx hb dX8_reads_54 rfl (lv_at hL.1 0 rfl) ?_
    obtain ⟨ho, hw⟩ := hw
    refine fg_X8_253 CF hK hR ho dX8_reads_55 ?_
    refine lv_goto hx hb dX8_reads_58 (tgt := 65) (by decide) ?_
    exact tk_X8_reads_b65 E hR hS (hL.sub [] rfl) hw ⟨by omega, by omega⟩
theorem tk_X8_reads {l : Launch} {D : tD} {B : Nat} {Q : Int32 → aH → Prop} {a0 : Nat} {x1 : Int32} {x2 : Int32} : Met l yX8_reads (ws_ yX8_reads cX8_reads 3 ((Option.some Jvm.ClassFile.FieldType.int))) rm_X8_reads (th_P D B [rv a0, .int x1, .int x2] (fun G => tw_X8_reads Q G a0 x1 x2)) (th_Qi D B Q) 0 0 (th_A B) :=
  th_ofW (by decide +kernel) (th_cr (th_ci (th_ci th_cn))) (Nat.le_of_ble_eq_true rfl) (fun p e s m args below meth c CF hret hlk hnm hK hSt G ls hR hS hw hL => by
    have E : th_E p m c cX8_reads 3 s args RX8 meth ((Option.some Jvm.ClassFile.FieldType.int)) "reads" D B := ⟨CF, hret, hlk, hnm, hK, hSt⟩
    have hx := CF.1; have hb := CF.2.1
    have hL : th_L ls 3 [(0, rv a0), (1, .int x1), (2, .int x2)] := hL
    unfold tw_X8_reads at hw
    refine th_aload_n hx hb dX8_reads_0 rfl (lv_at hL.1 0 rfl) ?_
    obtain ⟨ho, hw⟩ := hw
    refine fg_X8_259 CF hK hR ho dX8_reads_1 ?_
    refine lv_iconst hx hb dX8_reads_4 (v := (-1)) rfl ?_
    refine lv_icmp_ne hx hb dX8_reads_5 (tgt := 45) (by decide) (fun h => ?_) (fun h => ?_)
    · replace hw := hw.1 h
      exact tk_X8_reads_b45 E hR hS (hL.sub [0] rfl) hw ⟨by omega, by omega⟩
    · replace hw := hw.2 h
      refine th_aload_n hx hb dX8_reads_8 rfl (lv_at hL.1 0 rfl) ?_
      obtain ⟨ho, hw⟩ := hw
      refine th_ki hS (th_rV CF hK hSt hR hS ho (ci := 8) rfl (rest := []) (tk_X8_sign) (cw_X8_262 CF hK (by decide +kernel)) hw rfl hL.1.1 rfl th_cn (Nat.le_of_ble_eq_true rfl) dX8_reads_9 ⟨by show _ ≤ (0 : Nat); omega, by show _ ≤ (0 : Nat); omega⟩) (fun r3 G2 H locs hw hR hS => ?_)
      refine lv_iload_n hx hb dX8_reads_12 rfl (lv_at hL.1 1 rfl) ?_
      refine lv_iload_n hx hb dX8_reads_13 rfl (lv_at hL.1 2 rfl) ?_
      refine th_ki hS (th_rS CF hK hSt hR hS (rest := []) (tk_X8_isIn) (cw_X8_56 CF hK (by decide +kernel)) hw rfl hL.1.1 rfl th_cn (Nat.le_of_ble_eq_true rfl) dX8_reads_14 ⟨by show _ ≤ (0 : Nat); omega, by show _ ≤ (0 : Nat); omega⟩) (fun r5 G4 H locs hw hR hS => ?_)
      refine lv_if_eq hx hb dX8_reads_17 (tgt := 45) (by decide) (fun h => ?_) (fun h => ?_)
      · replace hw := hw.1 h
        exact tk_X8_reads_b45 E hR hS (hL.sub [0] rfl) hw ⟨by omega, by omega⟩
      · replace hw := hw.2 h
        refine th_aload_n hx hb dX8_reads_20 rfl (lv_at hL.1 0 rfl) ?_
        refine lv_dup hx hb dX8_reads_21 (rv_cat _) ?_
        obtain ⟨ho, hw⟩ := hw
        refine fg_X8_253 CF hK hR ho dX8_reads_22 ?_
        refine lv_iconst hx hb dX8_reads_25 (v := 1) rfl ?_
        refine lv_iadd hx hb dX8_reads_26 ?_
        obtain ⟨ho, hw⟩ := hw
        refine fp_X8_253 CF hK hR hS ho dX8_reads_27 (fun G6 H locs hG hR hS => ?_)
        replace hw := hw G6 hG
        refine th_aload_n hx hb dX8_reads_30 rfl (lv_at hL.1 0 rfl) ?_
        obtain ⟨ho, hw⟩ := hw
        refine fg_X8_31 CF hK hR ho dX8_reads_31 ?_
        refine th_aload_n hx hb dX8_reads_34 rfl (lv_at hL.1 0 rfl) ?_
        obtain ⟨ho, hw⟩ := hw
        refine fg_X8_253 CF hK hR ho dX8_reads_35 ?_
        refine lv_iconst hx hb dX8_reads_38 (v := 1) rfl ?_
        refine lv_isub hx hb dX8_reads_39 ?_
        obtain ⟨ha, hw⟩ := hw
        refine th_iald hx hb hK hR ha dX8_reads_40 ?_
        refine lv_bipush hx hb dX8_reads_41 (v := 48) rfl ?_
        refine lv_isub hx hb dX8_reads_43 ?_
        exact th_iret hx hb hret hlk hR hS hw (by omega) (by omega) dX8_reads_44)
def tw_X8_tells (Q : aH → Prop) (G : aH) (a0 : Nat) (x1 : Int32) (x2 : Int32) : Prop :=
  th_o G a0 8 ∧ (
  th_o G a0 8 ∧ (
  th_ai G (a_mr G a0 22) 0 ((3 * (a_mi G a0 20)) + x1) ∧ (
  ∀ G1 : aH, G1 = a_si G (a_mr G a0 22) ((3 * (a_mi G a0 20)) + x1).toNatClampNeg x2 → 
  Q G1)))
theorem tk_X8_tells {l : Launch} {D : tD} {B : Nat} {Q : aH → Prop} {a0 : Nat} {x1 : Int32} {x2 : Int32} : Met l yX8_tells (ws_ yX8_tells cX8_tells 3 ((Option.none : Option Jvm.ClassFile.FieldType))) rm_X8_tells (th_P D B [rv a0, .int x1, .int x2] (fun G => tw_X8_tells Q G a0 x1 x2)) (th_Qv D B Q) 0 0 (th_A B) :=
  th_ofW (by decide +kernel) (th_cr (th_ci (th_ci th_cn))) (Nat.le_of_ble_eq_true rfl) (fun p e s m args below meth c CF hret hlk hnm hK hSt G ls hR hS hw hL => by
    have E : th_E p m c cX8_tells 3 s args RX8 meth ((Option.none : Option Jvm.ClassFile.FieldType)) "tells" D B := ⟨CF, hret, hlk, hnm, hK, hSt⟩
    have hx := CF.1; have hb := CF.2.1
    have hL : th_L ls 3 [(0, rv a0), (1, .int x1), (2, .int x2)] := hL
    unfold tw_X8_tells at hw
    refine th_aload_n hx hb dX8_tells_0 rfl (lv_at hL.1 0 rfl) ?_
    obtain ⟨ho, hw⟩ := hw
    refine fg_X8_47 CF hK hR ho dX8_tells_1 ?_
    refine lv_iconst hx hb dX8_tells_4 (v := 3) rfl ?_
    refine th_aload_n hx hb dX8_tells_5 rfl (lv_at hL.1 0 rfl) ?_
    obtain ⟨ho, hw⟩ := hw
    refine fg_X8_268 CF hK hR ho dX8_tells_6 ?_
    refine lv_imul hx hb dX8_tells_9 ?_
    refine lv_iload_n hx hb dX8_tells_10 rfl (lv_at hL.1 1 rfl) ?_
    refine lv_iadd hx hb dX8_tells_11 ?_
    refine lv_iload_n hx hb dX8_tells_12 rfl (lv_at hL.1 2 rfl) ?_
    obtain ⟨ha, hw⟩ := hw
    refine th_iast hx hb hK hR hS ha dX8_tells_13 (fun G1 H locs hG hR hS => ?_)
    replace hw := hw G1 hG
    exact th_vret hx hb hret hlk hR hS hw (by omega) (by omega) dX8_tells_14)
def tw_X8_number_b11 (Q : Int32 → aH → Prop) : Nat → aH → Nat → Int32 → Int32 → Prop := fun n => Nat.rec (motive := fun _ => aH → Nat → Int32 → Int32 → Prop) (fun _ _ _ _ => False) (fun _ ih G a0 x1 x2 =>
  (3 ≤ x2 →
    Q x1 G) ∧
  (¬ 3 ≤ x2 →
    th_o G a0 8 ∧ (
    (¬ a_mi G a0 19 = (-1) →
      Q x1 G) ∧
    (a_mi G a0 19 = (-1) →
      th_o G a0 8 ∧ (
      (tw_X8_sign
        (fun (r4 : Int32) (G3 : aH) =>
          (tw_X8_isIn
            (fun (r6 : Int32) (G5 : aH) =>
              (r6 = 0 →
                Q x1 G5) ∧
              (¬ r6 = 0 →
                th_o G5 a0 8 ∧ (
                (tw_X8_reads
                  (fun (r8 : Int32) (G7 : aH) =>
                    ∀ x1_9 : Int32, x1_9 = (10 * x1) + r8 → 
                    ∀ x2_10 : Int32, x2_10 = x2 + 1 → 
                    ih G7 a0 x1_9 x2_10)
                  G5 a0 48 57))))
            G3 r4 48 57))
        G a0)))))) n
theorem tws_X8_number_b11 (Q : Int32 → aH → Prop) (n : Nat) (G : aH) (a0 : Nat) (x1 : Int32) (x2 : Int32) : tw_X8_number_b11 Q (n + 1) G a0 x1 x2 = (
  (3 ≤ x2 →
    Q x1 G) ∧
  (¬ 3 ≤ x2 →
    th_o G a0 8 ∧ (
    (¬ a_mi G a0 19 = (-1) →
      Q x1 G) ∧
    (a_mi G a0 19 = (-1) →
      th_o G a0 8 ∧ (
      (tw_X8_sign
        (fun (r4 : Int32) (G3 : aH) =>
          (tw_X8_isIn
            (fun (r6 : Int32) (G5 : aH) =>
              (r6 = 0 →
                Q x1 G5) ∧
              (¬ r6 = 0 →
                th_o G5 a0 8 ∧ (
                (tw_X8_reads
                  (fun (r8 : Int32) (G7 : aH) =>
                    ∀ x1_9 : Int32, x1_9 = (10 * x1) + r8 → 
                    ∀ x2_10 : Int32, x2_10 = x2 + 1 → 
                    tw_X8_number_b11 Q n G7 a0 x1_9 x2_10)
                  G5 a0 48 57))))
            G3 r4 48 57))
        G a0)))))) := rfl
def tw_X8_number (Q : Int32 → aH → Prop) (G : aH) (a0 : Nat) : Prop :=
  th_o G a0 8 ∧ (
  (tw_X8_reads
    (fun (r2 : Int32) (G1 : aH) =>
      ∃ n9 : Nat, tw_X8_number_b11 Q n9 G1 a0 r2 1)
    G a0 48 57))
theorem tk_X8_number_b11 {p : Program} {l : Launch} {e : Env} {s : State} {m : MethodId} {args : Array Value} {below : List Frame} {meth : Method} {c : Code} {D : tD} {B : Nat} (E : th_E p m c cX8_number 3 s args RX8 meth ((Option.some Jvm.ClassFile.FieldType.int)) "number" D B) {Q : Int32 → aH → Prop} : ∀ (n : Nat) {G : aH} {H : Heap} {locs : List Loc} {cells slots : Nat} {ls : Array Slot} {a0 : Nat} {x1 : Int32} {x2 : Int32} (hR : th_H D B G H) (hS : va_S (th_A B) s.heap H locs) (hL : th_L ls 3 [(0, rv a0), (1, .int x1), (2, .int x2)]) (hw : tw_X8_number_b11 Q n G a0 x1 x2) (hc : cells + (0) ≤ 0 ∧ slots + (0) ≤ 0), W p l e rm_X8_number s m args below meth c H locs cells slots (MQ below (th_Qi D B Q) args s 0 0 (th_A B)) (F0 m 11 ls []) := by
  have CF := E.1; have hx := CF.1; have hb := CF.2.1; have hret := E.2.1; have hlk := E.2.2.1; have hnm := E.2.2.2.1; have hK := E.2.2.2.2.1; have hSt := E.2.2.2.2.2
  intro n
  induction n with
  | zero => intro _ _ _ _ _ _ _ _ _ _ _ _ hw; exact hw.elim
  | succ n ih =>
    intro G H locs cells slots ls a0 x1 x2 hR hS hL hw hc
    rw [tws_X8_number_b11] at hw
    refine lv_iload_n hx hb dX8_number_11 rfl (lv_at hL.1 2 rfl) ?_
    refine lv_iconst hx hb dX8_number_12 (v := 3) rfl ?_
    refine lv_icmp_ge hx hb dX8_number_13 (tgt := 58) (by decide) (fun h => ?_) (fun h => ?_)
    · replace hw := hw.1 h
      refine lv_iload_n hx hb dX8_number_58 rfl (lv_at hL.1 1 rfl) ?_
      exact th_iret hx hb hret hlk hR hS hw (by omega) (by omega) dX8_number_59
    · replace hw := hw.2 h
      refine th_aload_n hx hb dX8_number_16 rfl (lv_at hL.1 0 rfl) ?_
      obtain ⟨ho, hw⟩ := hw
      refine fg_X8_259 CF hK hR ho dX8_number_17 ?_
      refine lv_iconst hx hb dX8_number_20 (v := (-1)) rfl ?_
      refine lv_icmp_ne hx hb dX8_number_21 (tgt := 58) (by decide) (fun h => ?_) (fun h => ?_)
      · replace hw := hw.1 h
        refine lv_iload_n hx hb dX8_number_58 rfl (lv_at hL.1 1 rfl) ?_
        exact th_iret hx hb hret hlk hR hS hw (by omega) (by omega) dX8_number_59
      · replace hw := hw.2 h
        refine th_aload_n hx hb dX8_number_24 rfl (lv_at hL.1 0 rfl) ?_
        obtain ⟨ho, hw⟩ := hw
        refine th_ki hS (th_rV CF hK hSt hR hS ho (ci := 8) rfl (rest := []) (tk_X8_sign) (cw_X8_262 CF hK (by decide +kernel)) hw rfl hL.1.1 rfl th_cn (Nat.le_of_ble_eq_true rfl) dX8_number_25 ⟨by show _ ≤ (0 : Nat); omega, by show _ ≤ (0 : Nat); omega⟩) (fun r4 G3 H locs hw hR hS => ?_)
        refine lv_bipush hx hb dX8_number_28 (v := 48) rfl ?_
        refine lv_bipush hx hb dX8_number_30 (v := 57) rfl ?_
        refine th_ki hS (th_rS CF hK hSt hR hS (rest := []) (tk_X8_isIn) (cw_X8_56 CF hK (by decide +kernel)) hw rfl hL.1.1 rfl th_cn (Nat.le_of_ble_eq_true rfl) dX8_number_32 ⟨by show _ ≤ (0 : Nat); omega, by show _ ≤ (0 : Nat); omega⟩) (fun r6 G5 H locs hw hR hS => ?_)
        refine lv_if_eq hx hb dX8_number_35 (tgt := 58) (by decide) (fun h => ?_) (fun h => ?_)
        · replace hw := hw.1 h
          refine lv_iload_n hx hb dX8_number_58 rfl (lv_at hL.1 1 rfl) ?_
          exact th_iret hx hb hret hlk hR hS hw (by omega) (by omega) dX8_number_59
        · replace hw := hw.2 h
          refine lv_bipush hx hb dX8_number_38 (v := 10) rfl ?_
          refine lv_iload_n hx hb dX8_number_40 rfl (lv_at hL.1 1 rfl) ?_
          refine lv_imul hx hb dX8_number_41 ?_
          refine th_aload_n hx hb dX8_number_42 rfl (lv_at hL.1 0 rfl) ?_
          refine lv_bipush hx hb dX8_number_43 (v := 48) rfl ?_
          refine lv_bipush hx hb dX8_number_45 (v := 57) rfl ?_
          obtain ⟨ho, hw⟩ := hw
          refine th_ki hS (th_rV CF hK hSt hR hS ho (ci := 8) rfl (rest := [.int (10 * x1)]) (tk_X8_reads) (cw_X8_265 CF hK (by decide +kernel)) hw rfl hL.1.1 rfl (th_ci th_cn) (Nat.le_of_ble_eq_true rfl) dX8_number_47 ⟨by show _ ≤ (0 : Nat); omega, by show _ ≤ (0 : Nat); omega⟩) (fun r8 G7 H locs hw hR hS => ?_)
          refine lv_iadd hx hb dX8_number_50 ?_
          obtain ⟨x1_9, hx1_9⟩ : ∃ y : Int32, y = (10 * x1) + r8 := ⟨_, rfl⟩
          replace hw := hw x1_9 hx1_9
          refine th_nmi hx1_9 ?_
          refine th_istore_n hx hb dX8_number_51 rfl hL (by decide) rfl (fun ls hL => ?_)
          obtain ⟨x2_10, hx2_10⟩ : ∃ y : Int32, y = x2 + 1 := ⟨_, rfl⟩
          replace hw := hw x2_10 hx2_10
          refine th_iinc hx hb dX8_number_52 hL (k := 2) rfl (v := x2_10) hx2_10.symm (by decide) rfl (fun ls hL => ?_)
          refine lv_goto hx hb dX8_number_55 (tgt := 11) (by decide) ?_
          exact ih hR hS (hL.sub [2, 1, 0] rfl) hw ⟨by omega, by omega⟩
theorem tk_X8_number {l : Launch} {D : tD} {B : Nat} {Q : Int32 → aH → Prop} {a0 : Nat} : Met l yX8_number (ws_ yX8_number cX8_number 3 ((Option.some Jvm.ClassFile.FieldType.int))) rm_X8_number (th_P D B [rv a0] (fun G => tw_X8_number Q G a0)) (th_Qi D B Q) 0 0 (th_A B) :=
  th_ofW (by decide +kernel) (th_cr th_cn) (Nat.le_of_ble_eq_true rfl) (fun p e s m args below meth c CF hret hlk hnm hK hSt G ls hR hS hw hL => by
    have E : th_E p m c cX8_number 3 s args RX8 meth ((Option.some Jvm.ClassFile.FieldType.int)) "number" D B := ⟨CF, hret, hlk, hnm, hK, hSt⟩
    have hx := CF.1; have hb := CF.2.1
    have hL : th_L ls 3 [(0, rv a0)] := hL
    unfold tw_X8_number at hw
    refine th_aload_n hx hb dX8_number_0 rfl (lv_at hL.1 0 rfl) ?_
    refine lv_bipush hx hb dX8_number_1 (v := 48) rfl ?_
    refine lv_bipush hx hb dX8_number_3 (v := 57) rfl ?_
    obtain ⟨ho, hw⟩ := hw
    refine th_ki hS (th_rV CF hK hSt hR hS ho (ci := 8) rfl (rest := []) (tk_X8_reads) (cw_X8_265 CF hK (by decide +kernel)) hw rfl hL.1.1 rfl th_cn (Nat.le_of_ble_eq_true rfl) dX8_number_5 ⟨by show _ ≤ (0 : Nat); omega, by show _ ≤ (0 : Nat); omega⟩) (fun r2 G1 H locs hw hR hS => ?_)
    refine th_istore_n hx hb dX8_number_8 rfl hL (by decide) rfl (fun ls hL => ?_)
    refine lv_iconst hx hb dX8_number_9 (v := 1) rfl ?_
    refine th_istore_n hx hb dX8_number_10 rfl hL (by decide) rfl (fun ls hL => ?_)
    obtain ⟨n9, hw⟩ := hw
    exact tk_X8_number_b11 E n9 hR hS (hL.sub [2, 1, 0] rfl) hw ⟨by omega, by omega⟩)
def tw_X8_readsKind_b80 (Q : Int32 → aH → Prop) (G : aH) (x2 : Int32) (tx0 : Int32) (tx1 : Int32) (ta2 : Nat) : Prop :=
  th_o G ta2 8 ∧ (
  ∀ G4 : aH, G4 = a_si G ta2 18 (tx1 + tx0) → 
  Q x2 G4)
def tw_X8_readsKind_b62 (Q : Int32 → aH → Prop) (G : aH) (a0 : Nat) (x2 : Int32) (tx0 : Int32) (ta1 : Nat) : Prop :=
  th_o G ta1 8 ∧ (
  ∀ G3 : aH, G3 = a_si G ta1 19 tx0 → 
  th_o G3 a0 8 ∧ (
  (¬ x2 = (-1) →
    tw_X8_readsKind_b80 Q G3 x2 1 (a_mi G3 a0 18) a0) ∧
  (x2 = (-1) →
    tw_X8_readsKind_b80 Q G3 x2 0 (a_mi G3 a0 18) a0)))
def tw_X8_readsKind_b58 (Q : Int32 → aH → Prop) (G : aH) (a0 : Nat) (x2 : Int32) (ta0 : Nat) : Prop :=
  th_o G a0 8 ∧ (
  tw_X8_readsKind_b62 Q G a0 x2 (a_mi G a0 19) ta0)
def tw_X8_readsKind_b36 (Q : Int32 → aH → Prop) (G : aH) (a0 : Nat) (tx0 : Int32) : Prop :=
  th_o G a0 8 ∧ (
  (¬ a_mi G a0 19 = (-1) →
    tw_X8_readsKind_b58 Q G a0 tx0 a0) ∧
  (a_mi G a0 19 = (-1) →
    (¬ tx0 = (-1) →
      tw_X8_readsKind_b58 Q G a0 tx0 a0) ∧
    (tx0 = (-1) →
      th_o G a0 8 ∧ (
      tw_X8_readsKind_b62 Q G a0 tx0 (a_mi G a0 18) a0))))
def tw_X8_readsKind (Q : Int32 → aH → Prop) (G : aH) (a0 : Nat) : Prop :=
  th_o G a0 8 ∧ (
  (tw_X8_sign
    (fun (r2 : Int32) (G1 : aH) =>
      (¬ r2 = 119 →
        (¬ r2 = 114 →
          (¬ r2 = 98 →
            tw_X8_readsKind_b36 Q G1 a0 (-1)) ∧
          (r2 = 98 →
            tw_X8_readsKind_b36 Q G1 a0 2)) ∧
        (r2 = 114 →
          tw_X8_readsKind_b36 Q G1 a0 1)) ∧
      (r2 = 119 →
        tw_X8_readsKind_b36 Q G1 a0 0))
    G a0))
theorem tk_X8_readsKind_b80 {p : Program} {l : Launch} {e : Env} {s : State} {m : MethodId} {args : Array Value} {below : List Frame} {meth : Method} {c : Code} {D : tD} {B : Nat} (E : th_E p m c cX8_readsKind 3 s args RX8 meth ((Option.some Jvm.ClassFile.FieldType.int)) "readsKind" D B) {Q : Int32 → aH → Prop} {G : aH} {H : Heap} {locs : List Loc} {cells slots : Nat} {ls : Array Slot} {x2 : Int32} {tx0 : Int32} {tx1 : Int32} {ta2 : Nat} (hR : th_H D B G H) (hS : va_S (th_A B) s.heap H locs) (hL : th_L ls 3 [(2, .int x2)]) (hw : tw_X8_readsKind_b80 Q G x2 tx0 tx1 ta2) (hc : cells + (0) ≤ 0 ∧ slots + (0) ≤ 0) : W p l e rm_X8_readsKind s m args below meth c H locs cells slots (MQ below (th_Qi D B Q) args s 0 0 (th_A B)) (F0 m 80 ls [.int tx0, .int tx1, rv ta2]) := by
  have CF := E.1; have hx := CF.1; have hb := CF.2.1; have hret := E.2.1; have hlk := E.2.2.1; have hnm := E.2.2.2.1; have hK := E.2.2.2.2.1; have hSt := E.2.2.2.2.2
  unfold tw_X8_readsKind_b80 at hw
  refine lv_iadd hx hb dX8_readsKind_80 ?_
  obtain ⟨ho, hw⟩ := hw
  refine fp_X8_253 CF hK hR hS ho dX8_readsKind_81 (fun G4 H locs hG hR hS => ?_)
  replace hw := hw G4 hG
  refine lv_iload_n hx hb dX8_readsKind_84 rfl (lv_at hL.1 0 rfl) ?_
  exact th_iret hx hb hret hlk hR hS hw (by omega) (by omega) dX8_readsKind_85
theorem tk_X8_readsKind_b62 {p : Program} {l : Launch} {e : Env} {s : State} {m : MethodId} {args : Array Value} {below : List Frame} {meth : Method} {c : Code} {D : tD} {B : Nat} (E : th_E p m c cX8_readsKind 3 s args RX8 meth ((Option.some Jvm.ClassFile.FieldType.int)) "readsKind" D B) {Q : Int32 → aH → Prop} {G : aH} {H : Heap} {locs : List Loc} {cells slots : Nat} {ls : Array Slot} {a0 : Nat} {x2 : Int32} {tx0 : Int32} {ta1 : Nat} (hR : th_H D B G H) (hS : va_S (th_A B) s.heap H locs) (hL : th_L ls 3 [(0, rv a0), (2, .int x2)]) (hw : tw_X8_readsKind_b62 Q G a0 x2 tx0 ta1) (hc : cells + (0) ≤ 0 ∧ slots + (0) ≤ 0) : W p l e rm_X8_readsKind s m args below meth c H locs cells slots (MQ below (th_Qi D B Q) args s 0 0 (th_A B)) (F0 m 62 ls [.int tx0, rv ta1]) := by
  have CF := E.1; have hx := CF.1; have hb := CF.2.1; have hret := E.2.1; have hlk := E.2.2.1; have hnm := E.2.2.2.1; have hK := E.2.2.2.2.1; have hSt := E.2.2.2.2.2
  unfold tw_X8_readsKind_b62 at hw
  obtain ⟨ho, hw⟩ := hw
  refine fp_X8_259 CF hK hR hS ho dX8_readsKind_62 (fun G3 H locs hG hR hS => ?_)
  replace hw := hw G3 hG
  refine th_aload_n hx hb dX8_readsKind_65 rfl (lv_at hL.1 0 rfl) ?_
  refine lv_dup hx hb dX8_readsKind_66 (rv_cat _) ?_
  obtain ⟨ho, hw⟩ := hw
  refine fg_X8_253 CF hK hR ho dX8_readsKind_67 ?_
  refine lv_iload_n hx hb dX8_readsKind_70 rfl (lv_at hL.1 1 rfl) ?_
  refine lv_iconst hx hb dX8_readsKind_71 (v := (-1)) rfl ?_
  refine lv_icmp_ne hx hb dX8_readsKind_72 (tgt := 79) (by decide) (fun h => ?_) (fun h => ?_)
  · replace hw := hw.1 h
    refine lv_iconst hx hb dX8_readsKind_79 (v := 1) rfl ?_
    exact tk_X8_readsKind_b80 E hR hS (hL.sub [1] rfl) hw ⟨by omega, by omega⟩
  · replace hw := hw.2 h
    refine lv_iconst hx hb dX8_readsKind_75 (v := 0) rfl ?_
    refine lv_goto hx hb dX8_readsKind_76 (tgt := 80) (by decide) ?_
    exact tk_X8_readsKind_b80 E hR hS (hL.sub [1] rfl) hw ⟨by omega, by omega⟩
theorem tk_X8_readsKind_b58 {p : Program} {l : Launch} {e : Env} {s : State} {m : MethodId} {args : Array Value} {below : List Frame} {meth : Method} {c : Code} {D : tD} {B : Nat} (E : th_E p m c cX8_readsKind 3 s args RX8 meth ((Option.some Jvm.ClassFile.FieldType.int)) "readsKind" D B) {Q : Int32 → aH → Prop} {G : aH} {H : Heap} {locs : List Loc} {cells slots : Nat} {ls : Array Slot} {a0 : Nat} {x2 : Int32} {ta0 : Nat} (hR : th_H D B G H) (hS : va_S (th_A B) s.heap H locs) (hL : th_L ls 3 [(0, rv a0), (2, .int x2)]) (hw : tw_X8_readsKind_b58 Q G a0 x2 ta0) (hc : cells + (0) ≤ 0 ∧ slots + (0) ≤ 0) : W p l e rm_X8_readsKind s m args below meth c H locs cells slots (MQ below (th_Qi D B Q) args s 0 0 (th_A B)) (F0 m 58 ls [rv ta0]) := by
  have CF := E.1; have hx := CF.1; have hb := CF.2.1; have hret := E.2.1; have hlk := E.2.2.1; have hnm := E.2.2.2.1; have hK := E.2.2.2.2.1; have hSt := E.2.2.2.2.2
  unfold tw_X8_readsKind_b58 at hw
  refine th_aload_n hx hb dX8_readsKind_58 rfl (lv_at hL.1 0 rfl) ?_
  obtain ⟨ho, hw⟩ := hw
  refine fg_X8_259 CF hK hR ho dX8_readsKind_59 ?_
  exact tk_X8_readsKind_b62 E hR hS (hL.sub [0, 1] rfl) hw ⟨by omega, by omega⟩
theorem tk_X8_readsKind_b36 {p : Program} {l : Launch} {e : Env} {s : State} {m : MethodId} {args : Array Value} {below : List Frame} {meth : Method} {c : Code} {D : tD} {B : Nat} (E : th_E p m c cX8_readsKind 3 s args RX8 meth ((Option.some Jvm.ClassFile.FieldType.int)) "readsKind" D B) {Q : Int32 → aH → Prop} {G : aH} {H : Heap} {locs : List Loc} {cells slots : Nat} {ls : Array Slot} {a0 : Nat} {tx0 : Int32} (hR : th_H D B G H) (hS : va_S (th_A B) s.heap H locs) (hL : th_L ls 3 [(0, rv a0)]) (hw : tw_X8_readsKind_b36 Q G a0 tx0) (hc : cells + (0) ≤ 0 ∧ slots + (0) ≤ 0) : W p l e rm_X8_readsKind s m args below meth c H locs cells slots (MQ below (th_Qi D B Q) args s 0 0 (th_A B)) (F0 m 36 ls [.int tx0]) := by
  have CF := E.1; have hx := CF.1; have hb := CF.2.1; have hret := E.2.1; have hlk := E.2.2.1; have hnm := E.2.2.2.1; have hK := E.2.2.2.2.1; have hSt := E.2.2.2.2.2
  unfold tw_X8_readsKind_b36 at hw
  refine th_istore_n hx hb dX8_readsKind_36 rfl hL (by decide) rfl (fun ls hL => ?_)
  refine th_aload_n hx hb dX8_readsKind_37 rfl (lv_at hL.1 1 rfl) ?_
  refine th_aload_n hx hb dX8_readsKind_38 rfl (lv_at hL.1 1 rfl) ?_
  obtain ⟨ho, hw⟩ := hw
  refine fg_X8_259 CF hK hR ho dX8_readsKind_39 ?_
  refine lv_iconst hx hb dX8_readsKind_42 (v := (-1)) rfl ?_
  refine lv_icmp_ne hx hb dX8_readsKind_43 (tgt := 58) (by decide) (fun h => ?_) (fun h => ?_)
  · replace hw := hw.1 h
    exact tk_X8_readsKind_b58 E hR hS (hL.sub [1, 0] rfl) hw ⟨by omega, by omega⟩
  · replace hw := hw.2 h
    refine lv_iload_n hx hb dX8_readsKind_46 rfl (lv_at hL.1 0 rfl) ?_
    refine lv_iconst hx hb dX8_readsKind_47 (v := (-1)) rfl ?_
    refine lv_icmp_ne hx hb dX8_readsKind_48 (tgt := 58) (by decide) (fun h => ?_) (fun h => ?_)
    · replace hw := hw.1 h
      exact tk_X8_readsKind_b58 E hR hS (hL.sub [1, 0] rfl) hw ⟨by omega, by omega⟩
    · replace hw := hw.2 h
      refine th_aload_n hx hb dX8_readsKind_51 rfl (lv_at hL.1 1 rfl) ?_
      obtain ⟨ho, hw⟩ := hw
      refine fg_X8_253 CF hK hR ho dX8_readsKind_52 ?_
      refine lv_goto hx hb dX8_readsKind_55 (tgt := 62) (by decide) ?_
      exact tk_X8_readsKind_b62 E hR hS (hL.sub [1, 0] rfl) hw ⟨by omega, by omega⟩
theorem tk_X8_readsKind {l : Launch} {D : tD} {B : Nat} {Q : Int32 → aH → Prop} {a0 : Nat} : Met l yX8_readsKind (ws_ yX8_readsKind cX8_readsKind 3 ((Option.some Jvm.ClassFile.FieldType.int))) rm_X8_readsKind (th_P D B [rv a0] (fun G => tw_X8_readsKind Q G a0)) (th_Qi D B Q) 0 0 (th_A B) :=
  th_ofW (by decide +kernel) (th_cr th_cn) (Nat.le_of_ble_eq_true rfl) (fun p e s m args below meth c CF hret hlk hnm hK hSt G ls hR hS hw hL => by
    have E : th_E p m c cX8_readsKind 3 s args RX8 meth ((Option.some Jvm.ClassFile.FieldType.int)) "readsKind" D B := ⟨CF, hret, hlk, hnm, hK, hSt⟩
    have hx := CF.1; have hb := CF.2.1
    have hL : th_L ls 3 [(0, rv a0)] := hL
    unfold tw_X8_readsKind at hw
    refine th_aload_n hx hb dX8_readsKind_0 rfl (lv_at hL.1 0 rfl) ?_
    obtain ⟨ho, hw⟩ := hw
    refine th_ki hS (th_rV CF hK hSt hR hS ho (ci := 8) rfl (rest := []) (tk_X8_sign) (cw_X8_262 CF hK (by decide +kernel)) hw rfl hL.1.1 rfl th_cn (Nat.le_of_ble_eq_true rfl) dX8_readsKind_1 ⟨by show _ ≤ (0 : Nat); omega, by show _ ≤ (0 : Nat); omega⟩) (fun r2 G1 H locs hw hR hS => ?_)
    refine th_istore_n hx hb dX8_readsKind_4 rfl hL (by decide) rfl (fun ls hL => ?_)
    refine lv_iload_n hx hb dX8_readsKind_5 rfl (lv_at hL.1 0 rfl) ?_
    refine lv_bipush hx hb dX8_readsKind_6 (v := 119) rfl ?_
    refine lv_icmp_ne hx hb dX8_readsKind_8 (tgt := 15) (by decide) (fun h => ?_) (fun h => ?_)
    · replace hw := hw.1 h
      refine lv_iload_n hx hb dX8_readsKind_15 rfl (lv_at hL.1 0 rfl) ?_
      refine lv_bipush hx hb dX8_readsKind_16 (v := 114) rfl ?_
      refine lv_icmp_ne hx hb dX8_readsKind_18 (tgt := 25) (by decide) (fun h => ?_) (fun h => ?_)
      · replace hw := hw.1 h
        refine lv_iload_n hx hb dX8_readsKind_25 rfl (lv_at hL.1 0 rfl) ?_
        refine lv_bipush hx hb dX8_readsKind_26 (v := 98) rfl ?_
        refine lv_icmp_ne hx hb dX8_readsKind_28 (tgt := 35) (by decide) (fun h => ?_) (fun h => ?_)
        · replace hw := hw.1 h
          refine lv_iconst hx hb dX8_readsKind_35 (v := (-1)) rfl ?_
          exact tk_X8_readsKind_b36 E hR hS (hL.sub [1] rfl) hw ⟨by omega, by omega⟩
        · replace hw := hw.2 h
          refine lv_iconst hx hb dX8_readsKind_31 (v := 2) rfl ?_
          refine lv_goto hx hb dX8_readsKind_32 (tgt := 36) (by decide) ?_
          exact tk_X8_readsKind_b36 E hR hS (hL.sub [1] rfl) hw ⟨by omega, by omega⟩
      · replace hw := hw.2 h
        refine lv_iconst hx hb dX8_readsKind_21 (v := 1) rfl ?_
        refine lv_goto hx hb dX8_readsKind_22 (tgt := 36) (by decide) ?_
        exact tk_X8_readsKind_b36 E hR hS (hL.sub [1] rfl) hw ⟨by omega, by omega⟩
    · replace hw := hw.2 h
      refine lv_iconst hx hb dX8_readsKind_11 (v := 0) rfl ?_
      refine lv_goto hx hb dX8_readsKind_12 (tgt := 36) (by decide) ?_
      exact tk_X8_readsKind_b36 E hR hS (hL.sub [1] rfl) hw ⟨by omega, by omega⟩)
def tw_X8_readsSale_b69 (Q : aH → Prop) (G : aH) (tx0 : Int32) (tx1 : Int32) (ta2 : Nat) : Prop :=
  th_o G ta2 8 ∧ (
  ∀ G8 : aH, G8 = a_si G ta2 18 (tx1 + tx0) → 
  Q G8)
def tw_X8_readsSale_b52 (Q : aH → Prop) (G : aH) (a0 : Nat) (x1 : Int32) (tx0 : Int32) (tx1 : Int32) (ta2 : Nat) : Prop :=
  th_o G ta2 8 ∧ (
  (tw_X8_tells
    (fun (G7 : aH) =>
      th_o G7 a0 8 ∧ (
      (x1 = 0 →
        tw_X8_readsSale_b69 Q G7 0 (a_mi G7 a0 18) a0) ∧
      (¬ x1 = 0 →
        tw_X8_readsSale_b69 Q G7 1 (a_mi G7 a0 18) a0)))
    G ta2 tx1 tx0))
def tw_X8_readsSale_b40 (Q : aH → Prop) (G : aH) (a0 : Nat) (tx0 : Int32) : Prop :=
  (tx0 = 0 →
    tw_X8_readsSale_b52 Q G a0 tx0 0 2 a0) ∧
  (¬ tx0 = 0 →
    tw_X8_readsSale_b52 Q G a0 tx0 1 2 a0)
def tw_X8_readsSale_b39 (Q : aH → Prop) (G : aH) (a0 : Nat) : Prop :=
  tw_X8_readsSale_b40 Q G a0 0
def tw_X8_readsSale (Q : aH → Prop) (G : aH) (a0 : Nat) : Prop :=
  th_o G a0 8 ∧ (
  (tw_X8_readsKind
    (fun (r2 : Int32) (G1 : aH) =>
      th_o G1 a0 8 ∧ (
      (tw_X8_tells
        (fun (G3 : aH) =>
          th_o G3 a0 8 ∧ (
          (tw_X8_number
            (fun (r5 : Int32) (G4 : aH) =>
              th_o G4 a0 8 ∧ (
              (tw_X8_tells
                (fun (G6 : aH) =>
                  th_o G6 a0 8 ∧ (
                  (¬ a_mi G6 a0 19 = (-1) →
                    tw_X8_readsSale_b39 Q G6 a0) ∧
                  (a_mi G6 a0 19 = (-1) →
                    th_o G6 a0 8 ∧ (
                    (tw_X8_sign
                      (fun (r10 : Int32) (G9 : aH) =>
                        (¬ r10 = 104 →
                          tw_X8_readsSale_b39 Q G9 a0) ∧
                        (r10 = 104 →
                          tw_X8_readsSale_b40 Q G9 a0 1))
                      G6 a0)))))
                G4 a0 1 r5)))
            G3 a0)))
        G1 a0 0 r2)))
    G a0))
theorem tk_X8_readsSale_b69 {p : Program} {l : Launch} {e : Env} {s : State} {m : MethodId} {args : Array Value} {below : List Frame} {meth : Method} {c : Code} {D : tD} {B : Nat} (E : th_E p m c cX8_readsSale 2 s args RX8 meth ((Option.none : Option Jvm.ClassFile.FieldType)) "readsSale" D B) {Q : aH → Prop} {G : aH} {H : Heap} {locs : List Loc} {cells slots : Nat} {ls : Array Slot} {tx0 : Int32} {tx1 : Int32} {ta2 : Nat} (hR : th_H D B G H) (hS : va_S (th_A B) s.heap H locs) (hL : th_L ls 2 []) (hw : tw_X8_readsSale_b69 Q G tx0 tx1 ta2) (hc : cells + (0) ≤ 0 ∧ slots + (0) ≤ 0) : W p l e rm_X8_readsSale s m args below meth c H locs cells slots (MQ below (th_Qv D B Q) args s 0 0 (th_A B)) (F0 m 69 ls [.int tx0, .int tx1, rv ta2]) := by
  have CF := E.1; have hx := CF.1; have hb := CF.2.1; have hret := E.2.1; have hlk := E.2.2.1; have hnm := E.2.2.2.1; have hK := E.2.2.2.2.1; have hSt := E.2.2.2.2.2
  unfold tw_X8_readsSale_b69 at hw
  refine lv_iadd hx hb dX8_readsSale_69 ?_
  obtain ⟨ho, hw⟩ := hw
  refine fp_X8_253 CF hK hR hS ho dX8_readsSale_70 (fun G8 H locs hG hR hS => ?_)
  replace hw := hw G8 hG
  exact th_vret hx hb hret hlk hR hS hw (by omega) (by omega) dX8_readsSale_73
theorem tk_X8_readsSale_b52 {p : Program} {l : Launch} {e : Env} {s : State} {m : MethodId} {args : Array Value} {below : List Frame} {meth : Method} {c : Code} {D : tD} {B : Nat} (E : th_E p m c cX8_readsSale 2 s args RX8 meth ((Option.none : Option Jvm.ClassFile.FieldType)) "readsSale" D B) {Q : aH → Prop} {G : aH} {H : Heap} {locs : List Loc} {cells slots : Nat} {ls : Array Slot} {a0 : Nat} {x1 : Int32} {tx0 : Int32} {tx1 : Int32} {ta2 : Nat} (hR : th_H D B G H) (hS : va_S (th_A B) s.heap H locs) (hL : th_L ls 2 [(0, rv a0), (1, .int x1)]) (hw : tw_X8_readsSale_b52 Q G a0 x1 tx0 tx1 ta2) (hc : cells + (0) ≤ 0 ∧ slots + (0) ≤ 0) : W p l e rm_X8_readsSale s m args below meth c H locs cells slots (MQ below (th_Qv D B Q) args s 0 0 (th_A B)) (F0 m 52 ls [.int tx0, .int tx1, rv ta2]) := by
  have CF := E.1; have hx := CF.1; have hb := CF.2.1; have hret := E.2.1; have hlk := E.2.2.1; have hnm := E.2.2.2.1; have hK := E.2.2.2.2.1; have hSt := E.2.2.2.2.2
  unfold tw_X8_readsSale_b52 at hw
  obtain ⟨ho, hw⟩ := hw
  refine th_kv hS (th_rV CF hK hSt hR hS ho (ci := 8) rfl (rest := []) (tk_X8_tells) (cw_X8_274 CF hK (by decide +kernel)) hw rfl hL.1.1 rfl th_cn (Nat.le_of_ble_eq_true rfl) dX8_readsSale_52 ⟨by show _ ≤ (0 : Nat); omega, by show _ ≤ (0 : Nat); omega⟩) (fun G7 H locs hw hR hS => ?_)
  refine th_aload_n hx hb dX8_readsSale_55 rfl (lv_at hL.1 0 rfl) ?_
  refine lv_dup hx hb dX8_readsSale_56 (rv_cat _) ?_
  obtain ⟨ho, hw⟩ := hw
  refine fg_X8_253 CF hK hR ho dX8_readsSale_57 ?_
  refine lv_iload_n hx hb dX8_readsSale_60 rfl (lv_at hL.1 1 rfl) ?_
  refine lv_if_eq hx hb dX8_readsSale_61 (tgt := 68) (by decide) (fun h => ?_) (fun h => ?_)
  · replace hw := hw.1 h
    refine lv_iconst hx hb dX8_readsSale_68 (v := 0) rfl ?_
    exact tk_X8_readsSale_b69 E hR hS (hL.sub [] rfl) hw ⟨by omega, by omega⟩
  · replace hw := hw.2 h
    refine lv_iconst hx hb dX8_readsSale_64 (v := 1) rfl ?_
    refine lv_goto hx hb dX8_readsSale_65 (tgt := 69) (by decide) ?_
    exact tk_X8_readsSale_b69 E hR hS (hL.sub [] rfl) hw ⟨by omega, by omega⟩
theorem tk_X8_readsSale_b40 {p : Program} {l : Launch} {e : Env} {s : State} {m : MethodId} {args : Array Value} {below : List Frame} {meth : Method} {c : Code} {D : tD} {B : Nat} (E : th_E p m c cX8_readsSale 2 s args RX8 meth ((Option.none : Option Jvm.ClassFile.FieldType)) "readsSale" D B) {Q : aH → Prop} {G : aH} {H : Heap} {locs : List Loc} {cells slots : Nat} {ls : Array Slot} {a0 : Nat} {tx0 : Int32} (hR : th_H D B G H) (hS : va_S (th_A B) s.heap H locs) (hL : th_L ls 2 [(0, rv a0)]) (hw : tw_X8_readsSale_b40 Q G a0 tx0) (hc : cells + (0) ≤ 0 ∧ slots + (0) ≤ 0) : W p l e rm_X8_readsSale s m args below meth c H locs cells slots (MQ below (th_Qv D B Q) args s 0 0 (th_A B)) (F0 m 40 ls [.int tx0]) := by
  have CF := E.1; have hx := CF.1; have hb := CF.2.1; have hret := E.2.1; have hlk := E.2.2.1; have hnm := E.2.2.2.1; have hK := E.2.2.2.2.1; have hSt := E.2.2.2.2.2
  unfold tw_X8_readsSale_b40 at hw
  refine th_istore_n hx hb dX8_readsSale_40 rfl hL (by decide) rfl (fun ls hL => ?_)
  refine th_aload_n hx hb dX8_readsSale_41 rfl (lv_at hL.1 1 rfl) ?_
  refine lv_iconst hx hb dX8_readsSale_42 (v := 2) rfl ?_
  refine lv_iload_n hx hb dX8_readsSale_43 rfl (lv_at hL.1 0 rfl) ?_
  refine lv_if_eq hx hb dX8_readsSale_44 (tgt := 51) (by decide) (fun h => ?_) (fun h => ?_)
  · replace hw := hw.1 h
    refine lv_iconst hx hb dX8_readsSale_51 (v := 0) rfl ?_
    exact tk_X8_readsSale_b52 E hR hS (hL.sub [1, 0] rfl) hw ⟨by omega, by omega⟩
  · replace hw := hw.2 h
    refine lv_iconst hx hb dX8_readsSale_47 (v := 1) rfl ?_
    refine lv_goto hx hb dX8_readsSale_48 (tgt := 52) (by decide) ?_
    exact tk_X8_readsSale_b52 E hR hS (hL.sub [1, 0] rfl) hw ⟨by omega, by omega⟩
theorem tk_X8_readsSale_b39 {p : Program} {l : Launch} {e : Env} {s : State} {m : MethodId} {args : Array Value} {below : List Frame} {meth : Method} {c : Code} {D : tD} {B : Nat} (E : th_E p m c cX8_readsSale 2 s args RX8 meth ((Option.none : Option Jvm.ClassFile.FieldType)) "readsSale" D B) {Q : aH → Prop} {G : aH} {H : Heap} {locs : List Loc} {cells slots : Nat} {ls : Array Slot} {a0 : Nat} (hR : th_H D B G H) (hS : va_S (th_A B) s.heap H locs) (hL : th_L ls 2 [(0, rv a0)]) (hw : tw_X8_readsSale_b39 Q G a0) (hc : cells + (0) ≤ 0 ∧ slots + (0) ≤ 0) : W p l e rm_X8_readsSale s m args below meth c H locs cells slots (MQ below (th_Qv D B Q) args s 0 0 (th_A B)) (F0 m 39 ls []) := by
  have CF := E.1; have hx := CF.1; have hb := CF.2.1; have hret := E.2.1; have hlk := E.2.2.1; have hnm := E.2.2.2.1; have hK := E.2.2.2.2.1; have hSt := E.2.2.2.2.2
  unfold tw_X8_readsSale_b39 at hw
  refine lv_iconst hx hb dX8_readsSale_39 (v := 0) rfl ?_
  exact tk_X8_readsSale_b40 E hR hS (hL.sub [0] rfl) hw ⟨by omega, by omega⟩
theorem tk_X8_readsSale {l : Launch} {D : tD} {B : Nat} {Q : aH → Prop} {a0 : Nat} : Met l yX8_readsSale (ws_ yX8_readsSale cX8_readsSale 2 ((Option.none : Option Jvm.ClassFile.FieldType))) rm_X8_readsSale (th_P D B [rv a0] (fun G => tw_X8_readsSale Q G a0)) (th_Qv D B Q) 0 0 (th_A B) :=
  th_ofW (by decide +kernel) (th_cr th_cn) (Nat.le_of_ble_eq_true rfl) (fun p e s m args below meth c CF hret hlk hnm hK hSt G ls hR hS hw hL => by
    have E : th_E p m c cX8_readsSale 2 s args RX8 meth ((Option.none : Option Jvm.ClassFile.FieldType)) "readsSale" D B := ⟨CF, hret, hlk, hnm, hK, hSt⟩
    have hx := CF.1; have hb := CF.2.1
    have hL : th_L ls 2 [(0, rv a0)] := hL
    unfold tw_X8_readsSale at hw
    refine th_aload_n hx hb dX8_readsSale_0 rfl (lv_at hL.1 0 rfl) ?_
    refine lv_iconst hx hb dX8_readsSale_1 (v := 0) rfl ?_
    refine th_aload_n hx hb dX8_readsSale_2 rfl (lv_at hL.1 0 rfl) ?_
    obtain ⟨ho, hw⟩ := hw
    refine th_ki hS (th_rV CF hK hSt hR hS ho (ci := 8) rfl (rest := [.int 0, rv a0]) (tk_X8_readsKind) (cw_X8_271 CF hK (by decide +kernel)) hw rfl hL.1.1 rfl (th_ci (th_cr th_cn)) (Nat.le_of_ble_eq_true rfl) dX8_readsSale_3 ⟨by show _ ≤ (0 : Nat); omega, by show _ ≤ (0 : Nat); omega⟩) (fun r2 G1 H locs hw hR hS => ?_)
    obtain ⟨ho, hw⟩ := hw
    refine th_kv hS (th_rV CF hK hSt hR hS ho (ci := 8) rfl (rest := []) (tk_X8_tells) (cw_X8_274 CF hK (by decide +kernel)) hw rfl hL.1.1 rfl th_cn (Nat.le_of_ble_eq_true rfl) dX8_readsSale_6 ⟨by show _ ≤ (0 : Nat); omega, by show _ ≤ (0 : Nat); omega⟩) (fun G3 H locs hw hR hS => ?_)
    refine th_aload_n hx hb dX8_readsSale_9 rfl (lv_at hL.1 0 rfl) ?_
    refine lv_iconst hx hb dX8_readsSale_10 (v := 1) rfl ?_
    refine th_aload_n hx hb dX8_readsSale_11 rfl (lv_at hL.1 0 rfl) ?_
    obtain ⟨ho, hw⟩ := hw
    refine th_ki hS (th_rV CF hK hSt hR hS ho (ci := 8) rfl (rest := [.int 1, rv a0]) (tk_X8_number) (cw_X8_277 CF hK (by decide +kernel)) hw rfl hL.1.1 rfl (th_ci (th_cr th_cn)) (Nat.le_of_ble_eq_true rfl) dX8_readsSale_12 ⟨by show _ ≤ (0 : Nat); omega, by show _ ≤ (0 : Nat); omega⟩) (fun r5 G4 H locs hw hR hS => ?_)
    obtain ⟨ho, hw⟩ := hw
    refine th_kv hS (th_rV CF hK hSt hR hS ho (ci := 8) rfl (rest := []) (tk_X8_tells) (cw_X8_274 CF hK (by decide +kernel)) hw rfl hL.1.1 rfl th_cn (Nat.le_of_ble_eq_true rfl) dX8_readsSale_15 ⟨by show _ ≤ (0 : Nat); omega, by show _ ≤ (0 : Nat); omega⟩) (fun G6 H locs hw hR hS => ?_)
    refine th_aload_n hx hb dX8_readsSale_18 rfl (lv_at hL.1 0 rfl) ?_
    obtain ⟨ho, hw⟩ := hw
    refine fg_X8_259 CF hK hR ho dX8_readsSale_19 ?_
    refine lv_iconst hx hb dX8_readsSale_22 (v := (-1)) rfl ?_
    refine lv_icmp_ne hx hb dX8_readsSale_23 (tgt := 39) (by decide) (fun h => ?_) (fun h => ?_)
    · replace hw := hw.1 h
      exact tk_X8_readsSale_b39 E hR hS (hL.sub [0] rfl) hw ⟨by omega, by omega⟩
    · replace hw := hw.2 h
      refine th_aload_n hx hb dX8_readsSale_26 rfl (lv_at hL.1 0 rfl) ?_
      obtain ⟨ho, hw⟩ := hw
      refine th_ki hS (th_rV CF hK hSt hR hS ho (ci := 8) rfl (rest := []) (tk_X8_sign) (cw_X8_262 CF hK (by decide +kernel)) hw rfl hL.1.1 rfl th_cn (Nat.le_of_ble_eq_true rfl) dX8_readsSale_27 ⟨by show _ ≤ (0 : Nat); omega, by show _ ≤ (0 : Nat); omega⟩) (fun r10 G9 H locs hw hR hS => ?_)
      refine lv_bipush hx hb dX8_readsSale_30 (v := 104) rfl ?_
      refine lv_icmp_ne hx hb dX8_readsSale_32 (tgt := 39) (by decide) (fun h => ?_) (fun h => ?_)
      · replace hw := hw.1 h
        exact tk_X8_readsSale_b39 E hR hS (hL.sub [0] rfl) hw ⟨by omega, by omega⟩
      · replace hw := hw.2 h
        refine lv_iconst hx hb dX8_readsSale_35 (v := 1) rfl ?_
        refine lv_goto hx hb dX8_readsSale_36 (tgt := 40) (by decide) ?_
        exact tk_X8_readsSale_b40 E hR hS (hL.sub [0] rfl) hw ⟨by omega, by omega⟩)
def tw_X8_readsCommand_b330 (Q : aH → Prop) (G : aH) (a0 : Nat) : Prop :=
  th_o G a0 8 ∧ (
  th_o G a0 8 ∧ (
  ∀ G18 : aH, G18 = a_si G a0 20 ((a_mi G a0 20) + 1) → 
  Q G18))
def tw_X8_readsCommand_b327 (Q : aH → Prop) (G : aH) (a0 : Nat) (tx0 : Int32) (ta1 : Nat) : Prop :=
  th_o G ta1 8 ∧ (
  ∀ G20 : aH, G20 = a_si G ta1 19 tx0 → 
  tw_X8_readsCommand_b330 Q G20 a0)
def tw_X8_readsCommand (Q : aH → Prop) (G : aH) (a0 : Nat) : Prop :=
  th_o G a0 8 ∧ (
  (tw_X8_sign
    (fun (r2 : Int32) (G1 : aH) =>
      th_o G1 a0 8 ∧ (
      th_o G1 a0 8 ∧ (
      th_ai G1 (a_mr G1 a0 21) 0 (a_mi G1 a0 20) ∧ (
      ∀ G3 : aH, G3 = a_si G1 (a_mr G1 a0 21) (a_mi G1 a0 20).toNatClampNeg r2 → 
      th_o G3 a0 8 ∧ (
      th_o G3 a0 8 ∧ (
      ∀ G4 : aH, G4 = a_si G3 a0 18 ((a_mi G3 a0 18) + 1) → 
      (r2 = 99 →
        th_o G4 a0 8 ∧ (
        (tw_X8_reads
          (fun (r6 : Int32) (G5 : aH) =>
            th_o G5 a0 8 ∧ (
            (tw_X8_tells
              (fun (G7 : aH) =>
                th_o G7 a0 8 ∧ (
                (tw_X8_reads
                  (fun (r9 : Int32) (G8 : aH) =>
                    th_o G8 a0 8 ∧ (
                    (tw_X8_number
                      (fun (r11 : Int32) (G10 : aH) =>
                        th_o G10 a0 8 ∧ (
                        (tw_X8_tells
                          (fun (G12 : aH) =>
                            th_o G12 a0 8 ∧ (
                            (tw_X8_reads
                              (fun (r14 : Int32) (G13 : aH) =>
                                th_o G13 a0 8 ∧ (
                                (tw_X8_reads
                                  (fun (r16 : Int32) (G15 : aH) =>
                                    th_o G15 a0 8 ∧ (
                                    (tw_X8_tells
                                      (fun (G17 : aH) =>
                                        tw_X8_readsCommand_b330 Q G17 a0)
                                      G15 a0 2 r16)))
                                  G13 a0 48 57)))
                              G12 a0 64 64)))
                          G10 a0 1 r11)))
                      G8 a0)))
                  G7 a0 58 58)))
              G5 a0 0 r6)))
          G4 a0 48 57))) ∧
      (r2 = 100 →
        th_o G4 a0 8 ∧ (
        th_o G4 a0 8 ∧ (
        ∀ G19 : aH, G19 = a_si G4 a0 18 ((a_mi G4 a0 18) - 1) → 
        th_o G19 a0 8 ∧ (
        (¬ a_mi G19 a0 19 = (-1) →
          th_o G19 a0 8 ∧ (
          tw_X8_readsCommand_b327 Q G19 a0 (a_mi G19 a0 19) a0)) ∧
        (a_mi G19 a0 19 = (-1) →
          th_o G19 a0 8 ∧ (
          tw_X8_readsCommand_b327 Q G19 a0 (a_mi G19 a0 18) a0)))))) ∧
      (r2 = 101 →
        th_o G4 a0 8 ∧ (
        th_o G4 a0 8 ∧ (
        ∀ G21 : aH, G21 = a_si G4 a0 18 ((a_mi G4 a0 18) - 1) → 
        th_o G21 a0 8 ∧ (
        (¬ a_mi G21 a0 19 = (-1) →
          th_o G21 a0 8 ∧ (
          tw_X8_readsCommand_b327 Q G21 a0 (a_mi G21 a0 19) a0)) ∧
        (a_mi G21 a0 19 = (-1) →
          th_o G21 a0 8 ∧ (
          tw_X8_readsCommand_b327 Q G21 a0 (a_mi G21 a0 18) a0)))))) ∧
      (r2 = 102 →
        th_o G4 a0 8 ∧ (
        th_o G4 a0 8 ∧ (
        ∀ G22 : aH, G22 = a_si G4 a0 18 ((a_mi G4 a0 18) - 1) → 
        th_o G22 a0 8 ∧ (
        (¬ a_mi G22 a0 19 = (-1) →
          th_o G22 a0 8 ∧ (
          tw_X8_readsCommand_b327 Q G22 a0 (a_mi G22 a0 19) a0)) ∧
        (a_mi G22 a0 19 = (-1) →
          th_o G22 a0 8 ∧ (
          tw_X8_readsCommand_b327 Q G22 a0 (a_mi G22 a0 18) a0)))))) ∧
      (r2 = 103 →
        th_o G4 a0 8 ∧ (
        (tw_X8_reads
          (fun (r24 : Int32) (G23 : aH) =>
            th_o G23 a0 8 ∧ (
            (tw_X8_tells
              (fun (G25 : aH) =>
                tw_X8_readsCommand_b330 Q G25 a0)
              G23 a0 0 r24)))
          G4 a0 48 57))) ∧
      (r2 = 104 →
        th_o G4 a0 8 ∧ (
        (tw_X8_reads
          (fun (r27 : Int32) (G26 : aH) =>
            th_o G26 a0 8 ∧ (
            (tw_X8_tells
              (fun (G28 : aH) =>
                th_o G28 a0 8 ∧ (
                (tw_X8_reads
                  (fun (r30 : Int32) (G29 : aH) =>
                    th_o G29 a0 8 ∧ (
                    (tw_X8_number
                      (fun (r32 : Int32) (G31 : aH) =>
                        th_o G31 a0 8 ∧ (
                        (tw_X8_tells
                          (fun (G33 : aH) =>
                            tw_X8_readsCommand_b330 Q G33 a0)
                          G31 a0 1 r32)))
                      G29 a0)))
                  G28 a0 42 42)))
              G26 a0 0 r27)))
          G4 a0 48 57))) ∧
      (r2 = 105 →
        th_o G4 a0 8 ∧ (
        th_o G4 a0 8 ∧ (
        ∀ G34 : aH, G34 = a_si G4 a0 18 ((a_mi G4 a0 18) - 1) → 
        th_o G34 a0 8 ∧ (
        (¬ a_mi G34 a0 19 = (-1) →
          th_o G34 a0 8 ∧ (
          tw_X8_readsCommand_b327 Q G34 a0 (a_mi G34 a0 19) a0)) ∧
        (a_mi G34 a0 19 = (-1) →
          th_o G34 a0 8 ∧ (
          tw_X8_readsCommand_b327 Q G34 a0 (a_mi G34 a0 18) a0)))))) ∧
      (r2 = 106 →
        th_o G4 a0 8 ∧ (
        th_o G4 a0 8 ∧ (
        ∀ G35 : aH, G35 = a_si G4 a0 18 ((a_mi G4 a0 18) - 1) → 
        th_o G35 a0 8 ∧ (
        (¬ a_mi G35 a0 19 = (-1) →
          th_o G35 a0 8 ∧ (
          tw_X8_readsCommand_b327 Q G35 a0 (a_mi G35 a0 19) a0)) ∧
        (a_mi G35 a0 19 = (-1) →
          th_o G35 a0 8 ∧ (
          tw_X8_readsCommand_b327 Q G35 a0 (a_mi G35 a0 18) a0)))))) ∧
      (r2 = 107 →
        th_o G4 a0 8 ∧ (
        (tw_X8_reads
          (fun (r37 : Int32) (G36 : aH) =>
            th_o G36 a0 8 ∧ (
            (tw_X8_tells
              (fun (G38 : aH) =>
                tw_X8_readsCommand_b330 Q G38 a0)
              G36 a0 0 r37)))
          G4 a0 48 57))) ∧
      (r2 = 108 →
        th_o G4 a0 8 ∧ (
        th_o G4 a0 8 ∧ (
        ∀ G39 : aH, G39 = a_si G4 a0 18 ((a_mi G4 a0 18) - 1) → 
        th_o G39 a0 8 ∧ (
        (¬ a_mi G39 a0 19 = (-1) →
          th_o G39 a0 8 ∧ (
          tw_X8_readsCommand_b327 Q G39 a0 (a_mi G39 a0 19) a0)) ∧
        (a_mi G39 a0 19 = (-1) →
          th_o G39 a0 8 ∧ (
          tw_X8_readsCommand_b327 Q G39 a0 (a_mi G39 a0 18) a0)))))) ∧
      (r2 = 109 →
        th_o G4 a0 8 ∧ (
        th_o G4 a0 8 ∧ (
        ∀ G40 : aH, G40 = a_si G4 a0 18 ((a_mi G4 a0 18) - 1) → 
        th_o G40 a0 8 ∧ (
        (¬ a_mi G40 a0 19 = (-1) →
          th_o G40 a0 8 ∧ (
          tw_X8_readsCommand_b327 Q G40 a0 (a_mi G40 a0 19) a0)) ∧
        (a_mi G40 a0 19 = (-1) →
          th_o G40 a0 8 ∧ (
          tw_X8_readsCommand_b327 Q G40 a0 (a_mi G40 a0 18) a0)))))) ∧
      (r2 = 110 →
        th_o G4 a0 8 ∧ (
        (tw_X8_number
          (fun (r42 : Int32) (G41 : aH) =>
            th_o G41 a0 8 ∧ (
            (tw_X8_tells
              (fun (G43 : aH) =>
                tw_X8_readsCommand_b330 Q G43 a0)
              G41 a0 0 r42)))
          G4 a0))) ∧
      (r2 = 111 →
        th_o G4 a0 8 ∧ (
        th_o G4 a0 8 ∧ (
        ∀ G44 : aH, G44 = a_si G4 a0 18 ((a_mi G4 a0 18) - 1) → 
        th_o G44 a0 8 ∧ (
        (¬ a_mi G44 a0 19 = (-1) →
          th_o G44 a0 8 ∧ (
          tw_X8_readsCommand_b327 Q G44 a0 (a_mi G44 a0 19) a0)) ∧
        (a_mi G44 a0 19 = (-1) →
          th_o G44 a0 8 ∧ (
          tw_X8_readsCommand_b327 Q G44 a0 (a_mi G44 a0 18) a0)))))) ∧
      (r2 = 112 →
        th_o G4 a0 8 ∧ (
        th_o G4 a0 8 ∧ (
        ∀ G45 : aH, G45 = a_si G4 a0 18 ((a_mi G4 a0 18) - 1) → 
        th_o G45 a0 8 ∧ (
        (¬ a_mi G45 a0 19 = (-1) →
          th_o G45 a0 8 ∧ (
          tw_X8_readsCommand_b327 Q G45 a0 (a_mi G45 a0 19) a0)) ∧
        (a_mi G45 a0 19 = (-1) →
          th_o G45 a0 8 ∧ (
          tw_X8_readsCommand_b327 Q G45 a0 (a_mi G45 a0 18) a0)))))) ∧
      (r2 = 113 →
        th_o G4 a0 8 ∧ (
        th_o G4 a0 8 ∧ (
        ∀ G46 : aH, G46 = a_si G4 a0 18 ((a_mi G4 a0 18) - 1) → 
        th_o G46 a0 8 ∧ (
        (¬ a_mi G46 a0 19 = (-1) →
          th_o G46 a0 8 ∧ (
          tw_X8_readsCommand_b327 Q G46 a0 (a_mi G46 a0 19) a0)) ∧
        (a_mi G46 a0 19 = (-1) →
          th_o G46 a0 8 ∧ (
          tw_X8_readsCommand_b327 Q G46 a0 (a_mi G46 a0 18) a0)))))) ∧
      (r2 = 114 →
        th_o G4 a0 8 ∧ (
        th_o G4 a0 8 ∧ (
        ∀ G47 : aH, G47 = a_si G4 a0 18 ((a_mi G4 a0 18) - 1) → 
        th_o G47 a0 8 ∧ (
        (¬ a_mi G47 a0 19 = (-1) →
          th_o G47 a0 8 ∧ (
          tw_X8_readsCommand_b327 Q G47 a0 (a_mi G47 a0 19) a0)) ∧
        (a_mi G47 a0 19 = (-1) →
          th_o G47 a0 8 ∧ (
          tw_X8_readsCommand_b327 Q G47 a0 (a_mi G47 a0 18) a0)))))) ∧
      (r2 = 115 →
        th_o G4 a0 8 ∧ (
        (tw_X8_readsSale
          (fun (G48 : aH) =>
            tw_X8_readsCommand_b330 Q G48 a0)
          G4 a0))) ∧
      (r2 = 116 →
        th_o G4 a0 8 ∧ (
        (tw_X8_reads
          (fun (r50 : Int32) (G49 : aH) =>
            th_o G49 a0 8 ∧ (
            (tw_X8_tells
              (fun (G51 : aH) =>
                th_o G51 a0 8 ∧ (
                (tw_X8_reads
                  (fun (r53 : Int32) (G52 : aH) =>
                    th_o G52 a0 8 ∧ (
                    (tw_X8_reads
                      (fun (r55 : Int32) (G54 : aH) =>
                        th_o G54 a0 8 ∧ (
                        (tw_X8_tells
                          (fun (G56 : aH) =>
                            th_o G56 a0 8 ∧ (
                            (tw_X8_reads
                              (fun (r58 : Int32) (G57 : aH) =>
                                th_o G57 a0 8 ∧ (
                                (tw_X8_number
                                  (fun (r60 : Int32) (G59 : aH) =>
                                    th_o G59 a0 8 ∧ (
                                    (tw_X8_tells
                                      (fun (G61 : aH) =>
                                        tw_X8_readsCommand_b330 Q G61 a0)
                                      G59 a0 2 r60)))
                                  G57 a0)))
                              G56 a0 58 58)))
                          G54 a0 1 r55)))
                      G52 a0 48 57)))
                  G51 a0 60 60)))
              G49 a0 0 r50)))
          G4 a0 48 57))) ∧
      (¬ r2 = 99 → ¬ r2 = 100 → ¬ r2 = 101 → ¬ r2 = 102 → ¬ r2 = 103 → ¬ r2 = 104 → ¬ r2 = 105 → ¬ r2 = 106 → ¬ r2 = 107 → ¬ r2 = 108 → ¬ r2 = 109 → ¬ r2 = 110 → ¬ r2 = 111 → ¬ r2 = 112 → ¬ r2 = 113 → ¬ r2 = 114 → ¬ r2 = 115 → ¬ r2 = 116 → 
        th_o G4 a0 8 ∧ (
        th_o G4 a0 8 ∧ (
        ∀ G62 : aH, G62 = a_si G4 a0 18 ((a_mi G4 a0 18) - 1) → 
        th_o G62 a0 8 ∧ (
        (¬ a_mi G62 a0 19 = (-1) →
          th_o G62 a0 8 ∧ (
          tw_X8_readsCommand_b327 Q G62 a0 (a_mi G62 a0 19) a0)) ∧
        (a_mi G62 a0 19 = (-1) →
          th_o G62 a0 8 ∧ (
          tw_X8_readsCommand_b327 Q G62 a0 (a_mi G62 a0 18) a0))))))))))))
    G a0))
theorem tk_X8_readsCommand_b330 {p : Program} {l : Launch} {e : Env} {s : State} {m : MethodId} {args : Array Value} {below : List Frame} {meth : Method} {c : Code} {D : tD} {B : Nat} (E : th_E p m c cX8_readsCommand 3 s args RX8 meth ((Option.none : Option Jvm.ClassFile.FieldType)) "readsCommand" D B) {Q : aH → Prop} {G : aH} {H : Heap} {locs : List Loc} {cells slots : Nat} {ls : Array Slot} {a0 : Nat} (hR : th_H D B G H) (hS : va_S (th_A B) s.heap H locs) (hL : th_L ls 3 [(0, rv a0)]) (hw : tw_X8_readsCommand_b330 Q G a0) (hc : cells + (0) ≤ 0 ∧ slots + (0) ≤ 0) : W p l e rm_X8_readsCommand s m args below meth c H locs cells slots (MQ below (th_Qv D B Q) args s 0 0 (th_A B)) (F0 m 330 ls []) := by
  have CF := E.1; have hx := CF.1; have hb := CF.2.1; have hret := E.2.1; have hlk := E.2.2.1; have hnm := E.2.2.2.1; have hK := E.2.2.2.2.1; have hSt := E.2.2.2.2.2
  unfold tw_X8_readsCommand_b330 at hw
  refine th_aload_n hx hb dX8_readsCommand_330 rfl (lv_at hL.1 0 rfl) ?_
  refine lv_dup hx hb dX8_readsCommand_331 (rv_cat _) ?_
  obtain ⟨ho, hw⟩ := hw
  refine fg_X8_268 CF hK hR ho dX8_readsCommand_332 ?_
  refine lv_iconst hx hb dX8_readsCommand_335 (v := 1) rfl ?_
  refine lv_iadd hx hb dX8_readsCommand_336 ?_
  obtain ⟨ho, hw⟩ := hw
  refine fp_X8_268 CF hK hR hS ho dX8_readsCommand_337 (fun G18 H locs hG hR hS => ?_)
  replace hw := hw G18 hG
  exact th_vret hx hb hret hlk hR hS hw (by omega) (by omega) dX8_readsCommand_340
theorem tk_X8_readsCommand_b327 {p : Program} {l : Launch} {e : Env} {s : State} {m : MethodId} {args : Array Value} {below : List Frame} {meth : Method} {c : Code} {D : tD} {B : Nat} (E : th_E p m c cX8_readsCommand 3 s args RX8 meth ((Option.none : Option Jvm.ClassFile.FieldType)) "readsCommand" D B) {Q : aH → Prop} {G : aH} {H : Heap} {locs : List Loc} {cells slots : Nat} {ls : Array Slot} {a0 : Nat} {tx0 : Int32} {ta1 : Nat} (hR : th_H D B G H) (hS : va_S (th_A B) s.heap H locs) (hL : th_L ls 3 [(0, rv a0)]) (hw : tw_X8_readsCommand_b327 Q G a0 tx0 ta1) (hc : cells + (0) ≤ 0 ∧ slots + (0) ≤ 0) : W p l e rm_X8_readsCommand s m args below meth c H locs cells slots (MQ below (th_Qv D B Q) args s 0 0 (th_A B)) (F0 m 327 ls [.int tx0, rv ta1]) := by
  have CF := E.1; have hx := CF.1; have hb := CF.2.1; have hret := E.2.1; have hlk := E.2.2.1; have hnm := E.2.2.2.1; have hK := E.2.2.2.2.1; have hSt := E.2.2.2.2.2
  unfold tw_X8_readsCommand_b327 at hw
  obtain ⟨ho, hw⟩ := hw
  refine fp_X8_259 CF hK hR hS ho dX8_readsCommand_327 (fun G20 H locs hG hR hS => ?_)
  replace hw := hw G20 hG
  exact tk_X8_readsCommand_b330 E hR hS (hL.sub [0] rfl) hw ⟨by omega, by omega⟩
theorem tk_X8_readsCommand {l : Launch} {D : tD} {B : Nat} {Q : aH → Prop} {a0 : Nat} : Met l yX8_readsCommand (ws_ yX8_readsCommand cX8_readsCommand 3 ((Option.none : Option Jvm.ClassFile.FieldType))) rm_X8_readsCommand (th_P D B [rv a0] (fun G => tw_X8_readsCommand Q G a0)) (th_Qv D B Q) 0 0 (th_A B) :=
  th_ofW (by decide +kernel) (th_cr th_cn) (Nat.le_of_ble_eq_true rfl) (fun p e s m args below meth c CF hret hlk hnm hK hSt G ls hR hS hw hL => by
    have E : th_E p m c cX8_readsCommand 3 s args RX8 meth ((Option.none : Option Jvm.ClassFile.FieldType)) "readsCommand" D B := ⟨CF, hret, hlk, hnm, hK, hSt⟩
    have hx := CF.1; have hb := CF.2.1
    have hL : th_L ls 3 [(0, rv a0)] := hL
    unfold tw_X8_readsCommand at hw
    refine th_aload_n hx hb dX8_readsCommand_0 rfl (lv_at hL.1 0 rfl) ?_
    obtain ⟨ho, hw⟩ := hw
    refine th_ki hS (th_rV CF hK hSt hR hS ho (ci := 8) rfl (rest := []) (tk_X8_sign) (cw_X8_262 CF hK (by decide +kernel)) hw rfl hL.1.1 rfl th_cn (Nat.le_of_ble_eq_true rfl) dX8_readsCommand_1 ⟨by show _ ≤ (0 : Nat); omega, by show _ ≤ (0 : Nat); omega⟩) (fun r2 G1 H locs hw hR hS => ?_)
    refine th_istore_n hx hb dX8_readsCommand_4 rfl hL (by decide) rfl (fun ls hL => ?_)
    refine th_aload_n hx hb dX8_readsCommand_5 rfl (lv_at hL.1 1 rfl) ?_
    obtain ⟨ho, hw⟩ := hw
    refine fg_X8_44 CF hK hR ho dX8_readsCommand_6 ?_
    refine th_aload_n hx hb dX8_readsCommand_9 rfl (lv_at hL.1 1 rfl) ?_
    obtain ⟨ho, hw⟩ := hw
    refine fg_X8_268 CF hK hR ho dX8_readsCommand_10 ?_
    refine lv_iload_n hx hb dX8_readsCommand_13 rfl (lv_at hL.1 0 rfl) ?_
    obtain ⟨ha, hw⟩ := hw
    refine th_iast hx hb hK hR hS ha dX8_readsCommand_14 (fun G3 H locs hG hR hS => ?_)
    replace hw := hw G3 hG
    refine th_aload_n hx hb dX8_readsCommand_15 rfl (lv_at hL.1 1 rfl) ?_
    refine lv_dup hx hb dX8_readsCommand_16 (rv_cat _) ?_
    obtain ⟨ho, hw⟩ := hw
    refine fg_X8_253 CF hK hR ho dX8_readsCommand_17 ?_
    refine lv_iconst hx hb dX8_readsCommand_20 (v := 1) rfl ?_
    refine lv_iadd hx hb dX8_readsCommand_21 ?_
    obtain ⟨ho, hw⟩ := hw
    refine fp_X8_253 CF hK hR hS ho dX8_readsCommand_22 (fun G4 H locs hG hR hS => ?_)
    replace hw := hw G4 hG
    refine lv_iconst hx hb dX8_readsCommand_25 (v := 0) rfl ?_
    refine th_istore_n hx hb dX8_readsCommand_26 rfl hL (by decide) rfl (fun ls hL => ?_)
    refine lv_iload_n hx hb dX8_readsCommand_27 rfl (lv_at hL.1 1 rfl) ?_
    by_cases g99 : r2 = 99
    · replace hw := hw.1 g99
      refine lv_tableIn hx hb dX8_readsCommand_28 (tgt := 150) (by rw [g99]; decide) (by rw [g99]; decide) (by rw [g99]; rfl) (by decide) ?_
      refine th_aload_n hx hb dX8_readsCommand_150 rfl (lv_at hL.1 2 rfl) ?_
      refine lv_iconst hx hb dX8_readsCommand_151 (v := 0) rfl ?_
      refine th_aload_n hx hb dX8_readsCommand_152 rfl (lv_at hL.1 2 rfl) ?_
      refine lv_bipush hx hb dX8_readsCommand_153 (v := 48) rfl ?_
      refine lv_bipush hx hb dX8_readsCommand_155 (v := 57) rfl ?_
      obtain ⟨ho, hw⟩ := hw
      refine th_ki hS (th_rV CF hK hSt hR hS ho (ci := 8) rfl (rest := [.int 0, rv a0]) (tk_X8_reads) (cw_X8_265 CF hK (by decide +kernel)) hw rfl hL.1.1 rfl (th_ci (th_cr th_cn)) (Nat.le_of_ble_eq_true rfl) dX8_readsCommand_157 ⟨by show _ ≤ (0 : Nat); omega, by show _ ≤ (0 : Nat); omega⟩) (fun r6 G5 H locs hw hR hS => ?_)
      obtain ⟨ho, hw⟩ := hw
      refine th_kv hS (th_rV CF hK hSt hR hS ho (ci := 8) rfl (rest := []) (tk_X8_tells) (cw_X8_274 CF hK (by decide +kernel)) hw rfl hL.1.1 rfl th_cn (Nat.le_of_ble_eq_true rfl) dX8_readsCommand_160 ⟨by show _ ≤ (0 : Nat); omega, by show _ ≤ (0 : Nat); omega⟩) (fun G7 H locs hw hR hS => ?_)
      refine th_aload_n hx hb dX8_readsCommand_163 rfl (lv_at hL.1 2 rfl) ?_
      refine lv_bipush hx hb dX8_readsCommand_164 (v := 58) rfl ?_
      refine lv_bipush hx hb dX8_readsCommand_166 (v := 58) rfl ?_
      obtain ⟨ho, hw⟩ := hw
      refine th_ki hS (th_rV CF hK hSt hR hS ho (ci := 8) rfl (rest := []) (tk_X8_reads) (cw_X8_265 CF hK (by decide +kernel)) hw rfl hL.1.1 rfl th_cn (Nat.le_of_ble_eq_true rfl) dX8_readsCommand_168 ⟨by show _ ≤ (0 : Nat); omega, by show _ ≤ (0 : Nat); omega⟩) (fun r9 G8 H locs hw hR hS => ?_)
      refine th_istore_n hx hb dX8_readsCommand_171 rfl hL (by decide) rfl (fun ls hL => ?_)
      refine th_aload_n hx hb dX8_readsCommand_172 rfl (lv_at hL.1 2 rfl) ?_
      refine lv_iconst hx hb dX8_readsCommand_173 (v := 1) rfl ?_
      refine th_aload_n hx hb dX8_readsCommand_174 rfl (lv_at hL.1 2 rfl) ?_
      obtain ⟨ho, hw⟩ := hw
      refine th_ki hS (th_rV CF hK hSt hR hS ho (ci := 8) rfl (rest := [.int 1, rv a0]) (tk_X8_number) (cw_X8_277 CF hK (by decide +kernel)) hw rfl hL.1.1 rfl (th_ci (th_cr th_cn)) (Nat.le_of_ble_eq_true rfl) dX8_readsCommand_175 ⟨by show _ ≤ (0 : Nat); omega, by show _ ≤ (0 : Nat); omega⟩) (fun r11 G10 H locs hw hR hS => ?_)
      obtain ⟨ho, hw⟩ := hw
      refine th_kv hS (th_rV CF hK hSt hR hS ho (ci := 8) rfl (rest := []) (tk_X8_tells) (cw_X8_274 CF hK (by decide +kernel)) hw rfl hL.1.1 rfl th_cn (Nat.le_of_ble_eq_true rfl) dX8_readsCommand_178 ⟨by show _ ≤ (0 : Nat); omega, by show _ ≤ (0 : Nat); omega⟩) (fun G12 H locs hw hR hS => ?_)
      refine th_aload_n hx hb dX8_readsCommand_181 rfl (lv_at hL.1 2 rfl) ?_
      refine lv_bipush hx hb dX8_readsCommand_182 (v := 64) rfl ?_
      refine lv_bipush hx hb dX8_readsCommand_184 (v := 64) rfl ?_
      obtain ⟨ho, hw⟩ := hw
      refine th_ki hS (th_rV CF hK hSt hR hS ho (ci := 8) rfl (rest := []) (tk_X8_reads) (cw_X8_265 CF hK (by decide +kernel)) hw rfl hL.1.1 rfl th_cn (Nat.le_of_ble_eq_true rfl) dX8_readsCommand_186 ⟨by show _ ≤ (0 : Nat); omega, by show _ ≤ (0 : Nat); omega⟩) (fun r14 G13 H locs hw hR hS => ?_)
      refine th_istore_n hx hb dX8_readsCommand_189 rfl hL (by decide) rfl (fun ls hL => ?_)
      refine th_aload_n hx hb dX8_readsCommand_190 rfl (lv_at hL.1 2 rfl) ?_
      refine lv_iconst hx hb dX8_readsCommand_191 (v := 2) rfl ?_
      refine th_aload_n hx hb dX8_readsCommand_192 rfl (lv_at hL.1 2 rfl) ?_
      refine lv_bipush hx hb dX8_readsCommand_193 (v := 48) rfl ?_
      refine lv_bipush hx hb dX8_readsCommand_195 (v := 57) rfl ?_
      obtain ⟨ho, hw⟩ := hw
      refine th_ki hS (th_rV CF hK hSt hR hS ho (ci := 8) rfl (rest := [.int 2, rv a0]) (tk_X8_reads) (cw_X8_265 CF hK (by decide +kernel)) hw rfl hL.1.1 rfl (th_ci (th_cr th_cn)) (Nat.le_of_ble_eq_true rfl) dX8_readsCommand_197 ⟨by show _ ≤ (0 : Nat); omega, by show _ ≤ (0 : Nat); omega⟩) (fun r16 G15 H locs hw hR hS => ?_)
      obtain ⟨ho, hw⟩ := hw
      refine th_kv hS (th_rV CF hK hSt hR hS ho (ci := 8) rfl (rest := []) (tk_X8_tells) (cw_X8_274 CF hK (by decide +kernel)) hw rfl hL.1.1 rfl th_cn (Nat.le_of_ble_eq_true rfl) dX8_readsCommand_200 ⟨by show _ ≤ (0 : Nat); omega, by show _ ≤ (0 : Nat); omega⟩) (fun G17 H locs hw hR hS => ?_)
      refine lv_goto hx hb dX8_readsCommand_203 (tgt := 330) (by decide) ?_
      exact tk_X8_readsCommand_b330 E hR hS (hL.sub [2] rfl) hw ⟨by omega, by omega⟩
    by_cases g100 : r2 = 100
    · replace hw := hw.2.1 g100
      refine lv_tableIn hx hb dX8_readsCommand_28 (tgt := 297) (by rw [g100]; decide) (by rw [g100]; decide) (by rw [g100]; rfl) (by decide) ?_
      refine th_aload_n hx hb dX8_readsCommand_297 rfl (lv_at hL.1 2 rfl) ?_
      refine lv_dup hx hb dX8_readsCommand_298 (rv_cat _) ?_
      obtain ⟨ho, hw⟩ := hw
      refine fg_X8_253 CF hK hR ho dX8_readsCommand_299 ?_
      refine lv_iconst hx hb dX8_readsCommand_302 (v := 1) rfl ?_
      refine lv_isub hx hb dX8_readsCommand_303 ?_
      obtain ⟨ho, hw⟩ := hw
      refine fp_X8_253 CF hK hR hS ho dX8_readsCommand_304 (fun G19 H locs hG hR hS => ?_)
      replace hw := hw G19 hG
      refine th_aload_n hx hb dX8_readsCommand_307 rfl (lv_at hL.1 2 rfl) ?_
      refine th_aload_n hx hb dX8_readsCommand_308 rfl (lv_at hL.1 2 rfl) ?_
      obtain ⟨ho, hw⟩ := hw
      refine fg_X8_259 CF hK hR ho dX8_readsCommand_309 ?_
      refine lv_iconst hx hb dX8_readsCommand_312 (v := (-1)) rfl ?_
      refine lv_icmp_ne hx hb dX8_readsCommand_313 (tgt := 323) (by decide) (fun h => ?_) (fun h => ?_)
      · replace hw := hw.1 h
        refine th_aload_n hx hb dX8_readsCommand_323 rfl (lv_at hL.1 2 rfl) ?_
        obtain ⟨ho, hw⟩ := hw
        refine fg_X8_259 CF hK hR ho dX8_readsCommand_324 ?_
        exact tk_X8_readsCommand_b327 E hR hS (hL.sub [2] rfl) hw ⟨by omega, by omega⟩
      · replace hw := hw.2 h
        refine th_aload_n hx hb dX8_readsCommand_316 rfl (lv_at hL.1 2 rfl) ?_
        obtain ⟨ho, hw⟩ := hw
        refine fg_X8_253 CF hK hR ho dX8_readsCommand_317 ?_
        refine lv_goto hx hb dX8_readsCommand_320 (tgt := 327) (by decide) ?_
        exact tk_X8_readsCommand_b327 E hR hS (hL.sub [2] rfl) hw ⟨by omega, by omega⟩
    by_cases g101 : r2 = 101
    · replace hw := hw.2.2.1 g101
      refine lv_tableIn hx hb dX8_readsCommand_28 (tgt := 297) (by rw [g101]; decide) (by rw [g101]; decide) (by rw [g101]; rfl) (by decide) ?_
      refine th_aload_n hx hb dX8_readsCommand_297 rfl (lv_at hL.1 2 rfl) ?_
      refine lv_dup hx hb dX8_readsCommand_298 (rv_cat _) ?_
      obtain ⟨ho, hw⟩ := hw
      refine fg_X8_253 CF hK hR ho dX8_readsCommand_299 ?_
      refine lv_iconst hx hb dX8_readsCommand_302 (v := 1) rfl ?_
      refine lv_isub hx hb dX8_readsCommand_303 ?_
      obtain ⟨ho, hw⟩ := hw
      refine fp_X8_253 CF hK hR hS ho dX8_readsCommand_304 (fun G21 H locs hG hR hS => ?_)
      replace hw := hw G21 hG
      refine th_aload_n hx hb dX8_readsCommand_307 rfl (lv_at hL.1 2 rfl) ?_
      refine th_aload_n hx hb dX8_readsCommand_308 rfl (lv_at hL.1 2 rfl) ?_
      obtain ⟨ho, hw⟩ := hw
      refine fg_X8_259 CF hK hR ho dX8_readsCommand_309 ?_
      refine lv_iconst hx hb dX8_readsCommand_312 (v := (-1)) rfl ?_
      refine lv_icmp_ne hx hb dX8_readsCommand_313 (tgt := 323) (by decide) (fun h => ?_) (fun h => ?_)
      · replace hw := hw.1 h
        refine th_aload_n hx hb dX8_readsCommand_323 rfl (lv_at hL.1 2 rfl) ?_
        obtain ⟨ho, hw⟩ := hw
        refine fg_X8_259 CF hK hR ho dX8_readsCommand_324 ?_
        exact tk_X8_readsCommand_b327 E hR hS (hL.sub [2] rfl) hw ⟨by omega, by omega⟩
      · replace hw := hw.2 h
        refine th_aload_n hx hb dX8_readsCommand_316 rfl (lv_at hL.1 2 rfl) ?_
        obtain ⟨ho, hw⟩ := hw
        refine fg_X8_253 CF hK hR ho dX8_readsCommand_317 ?_
        refine lv_goto hx hb dX8_readsCommand_320 (tgt := 327) (by decide) ?_
        exact tk_X8_readsCommand_b327 E hR hS (hL.sub [2] rfl) hw ⟨by omega, by omega⟩
    by_cases g102 : r2 = 102
    · replace hw := hw.2.2.2.1 g102
      refine lv_tableIn hx hb dX8_readsCommand_28 (tgt := 297) (by rw [g102]; decide) (by rw [g102]; decide) (by rw [g102]; rfl) (by decide) ?_
      refine th_aload_n hx hb dX8_readsCommand_297 rfl (lv_at hL.1 2 rfl) ?_
      refine lv_dup hx hb dX8_readsCommand_298 (rv_cat _) ?_
      obtain ⟨ho, hw⟩ := hw
      refine fg_X8_253 CF hK hR ho dX8_readsCommand_299 ?_
      refine lv_iconst hx hb dX8_readsCommand_302 (v := 1) rfl ?_
      refine lv_isub hx hb dX8_readsCommand_303 ?_
      obtain ⟨ho, hw⟩ := hw
      refine fp_X8_253 CF hK hR hS ho dX8_readsCommand_304 (fun G22 H locs hG hR hS => ?_)
      replace hw := hw G22 hG
      refine th_aload_n hx hb dX8_readsCommand_307 rfl (lv_at hL.1 2 rfl) ?_
      refine th_aload_n hx hb dX8_readsCommand_308 rfl (lv_at hL.1 2 rfl) ?_
      obtain ⟨ho, hw⟩ := hw
      refine fg_X8_259 CF hK hR ho dX8_readsCommand_309 ?_
      refine lv_iconst hx hb dX8_readsCommand_312 (v := (-1)) rfl ?_
      refine lv_icmp_ne hx hb dX8_readsCommand_313 (tgt := 323) (by decide) (fun h => ?_) (fun h => ?_)
      · replace hw := hw.1 h
        refine th_aload_n hx hb dX8_readsCommand_323 rfl (lv_at hL.1 2 rfl) ?_
        obtain ⟨ho, hw⟩ := hw
        refine fg_X8_259 CF hK hR ho dX8_readsCommand_324 ?_
        exact tk_X8_readsCommand_b327 E hR hS (hL.sub [2] rfl) hw ⟨by omega, by omega⟩
      · replace hw := hw.2 h
        refine th_aload_n hx hb dX8_readsCommand_316 rfl (lv_at hL.1 2 rfl) ?_
        obtain ⟨ho, hw⟩ := hw
        refine fg_X8_253 CF hK hR ho dX8_readsCommand_317 ?_
        refine lv_goto hx hb dX8_readsCommand_320 (tgt := 327) (by decide) ?_
        exact tk_X8_readsCommand_b327 E hR hS (hL.sub [2] rfl) hw ⟨by omega, by omega⟩
    by_cases g103 : r2 = 103
    · replace hw := hw.2.2.2.2.1 g103
      refine lv_tableIn hx hb dX8_readsCommand_28 (tgt := 281) (by rw [g103]; decide) (by rw [g103]; decide) (by rw [g103]; rfl) (by decide) ?_
      refine th_aload_n hx hb dX8_readsCommand_281 rfl (lv_at hL.1 2 rfl) ?_
      refine lv_iconst hx hb dX8_readsCommand_282 (v := 0) rfl ?_
      refine th_aload_n hx hb dX8_readsCommand_283 rfl (lv_at hL.1 2 rfl) ?_
      refine lv_bipush hx hb dX8_readsCommand_284 (v := 48) rfl ?_
      refine lv_bipush hx hb dX8_readsCommand_286 (v := 57) rfl ?_
      obtain ⟨ho, hw⟩ := hw
      refine th_ki hS (th_rV CF hK hSt hR hS ho (ci := 8) rfl (rest := [.int 0, rv a0]) (tk_X8_reads) (cw_X8_265 CF hK (by decide +kernel)) hw rfl hL.1.1 rfl (th_ci (th_cr th_cn)) (Nat.le_of_ble_eq_true rfl) dX8_readsCommand_288 ⟨by show _ ≤ (0 : Nat); omega, by show _ ≤ (0 : Nat); omega⟩) (fun r24 G23 H locs hw hR hS => ?_)
      obtain ⟨ho, hw⟩ := hw
      refine th_kv hS (th_rV CF hK hSt hR hS ho (ci := 8) rfl (rest := []) (tk_X8_tells) (cw_X8_274 CF hK (by decide +kernel)) hw rfl hL.1.1 rfl th_cn (Nat.le_of_ble_eq_true rfl) dX8_readsCommand_291 ⟨by show _ ≤ (0 : Nat); omega, by show _ ≤ (0 : Nat); omega⟩) (fun G25 H locs hw hR hS => ?_)
      refine lv_goto hx hb dX8_readsCommand_294 (tgt := 330) (by decide) ?_
      exact tk_X8_readsCommand_b330 E hR hS (hL.sub [2] rfl) hw ⟨by omega, by omega⟩
    by_cases g104 : r2 = 104
    · replace hw := hw.2.2.2.2.2.1 g104
      refine lv_tableIn hx hb dX8_readsCommand_28 (tgt := 116) (by rw [g104]; decide) (by rw [g104]; decide) (by rw [g104]; rfl) (by decide) ?_
      refine th_aload_n hx hb dX8_readsCommand_116 rfl (lv_at hL.1 2 rfl) ?_
      refine lv_iconst hx hb dX8_readsCommand_117 (v := 0) rfl ?_
      refine th_aload_n hx hb dX8_readsCommand_118 rfl (lv_at hL.1 2 rfl) ?_
      refine lv_bipush hx hb dX8_readsCommand_119 (v := 48) rfl ?_
      refine lv_bipush hx hb dX8_readsCommand_121 (v := 57) rfl ?_
      obtain ⟨ho, hw⟩ := hw
      refine th_ki hS (th_rV CF hK hSt hR hS ho (ci := 8) rfl (rest := [.int 0, rv a0]) (tk_X8_reads) (cw_X8_265 CF hK (by decide +kernel)) hw rfl hL.1.1 rfl (th_ci (th_cr th_cn)) (Nat.le_of_ble_eq_true rfl) dX8_readsCommand_123 ⟨by show _ ≤ (0 : Nat); omega, by show _ ≤ (0 : Nat); omega⟩) (fun r27 G26 H locs hw hR hS => ?_)
      obtain ⟨ho, hw⟩ := hw
      refine th_kv hS (th_rV CF hK hSt hR hS ho (ci := 8) rfl (rest := []) (tk_X8_tells) (cw_X8_274 CF hK (by decide +kernel)) hw rfl hL.1.1 rfl th_cn (Nat.le_of_ble_eq_true rfl) dX8_readsCommand_126 ⟨by show _ ≤ (0 : Nat); omega, by show _ ≤ (0 : Nat); omega⟩) (fun G28 H locs hw hR hS => ?_)
      refine th_aload_n hx hb dX8_readsCommand_129 rfl (lv_at hL.1 2 rfl) ?_
      refine lv_bipush hx hb dX8_readsCommand_130 (v := 42) rfl ?_
      refine lv_bipush hx hb dX8_readsCommand_132 (v := 42) rfl ?_
      obtain ⟨ho, hw⟩ := hw
      refine th_ki hS (th_rV CF hK hSt hR hS ho (ci := 8) rfl (rest := []) (tk_X8_reads) (cw_X8_265 CF hK (by decide +kernel)) hw rfl hL.1.1 rfl th_cn (Nat.le_of_ble_eq_true rfl) dX8_readsCommand_134 ⟨by show _ ≤ (0 : Nat); omega, by show _ ≤ (0 : Nat); omega⟩) (fun r30 G29 H locs hw hR hS => ?_)
      refine th_istore_n hx hb dX8_readsCommand_137 rfl hL (by decide) rfl (fun ls hL => ?_)
      refine th_aload_n hx hb dX8_readsCommand_138 rfl (lv_at hL.1 2 rfl) ?_
      refine lv_iconst hx hb dX8_readsCommand_139 (v := 1) rfl ?_
      refine th_aload_n hx hb dX8_readsCommand_140 rfl (lv_at hL.1 2 rfl) ?_
      obtain ⟨ho, hw⟩ := hw
      refine th_ki hS (th_rV CF hK hSt hR hS ho (ci := 8) rfl (rest := [.int 1, rv a0]) (tk_X8_number) (cw_X8_277 CF hK (by decide +kernel)) hw rfl hL.1.1 rfl (th_ci (th_cr th_cn)) (Nat.le_of_ble_eq_true rfl) dX8_readsCommand_141 ⟨by show _ ≤ (0 : Nat); omega, by show _ ≤ (0 : Nat); omega⟩) (fun r32 G31 H locs hw hR hS => ?_)
      obtain ⟨ho, hw⟩ := hw
      refine th_kv hS (th_rV CF hK hSt hR hS ho (ci := 8) rfl (rest := []) (tk_X8_tells) (cw_X8_274 CF hK (by decide +kernel)) hw rfl hL.1.1 rfl th_cn (Nat.le_of_ble_eq_true rfl) dX8_readsCommand_144 ⟨by show _ ≤ (0 : Nat); omega, by show _ ≤ (0 : Nat); omega⟩) (fun G33 H locs hw hR hS => ?_)
      refine lv_goto hx hb dX8_readsCommand_147 (tgt := 330) (by decide) ?_
      exact tk_X8_readsCommand_b330 E hR hS (hL.sub [2] rfl) hw ⟨by omega, by omega⟩
    by_cases g105 : r2 = 105
    · replace hw := hw.2.2.2.2.2.2.1 g105
      refine lv_tableIn hx hb dX8_readsCommand_28 (tgt := 297) (by rw [g105]; decide) (by rw [g105]; decide) (by rw [g105]; rfl) (by decide) ?_
      refine th_aload_n hx hb dX8_readsCommand_297 rfl (lv_at hL.1 2 rfl) ?_
      refine lv_dup hx hb dX8_readsCommand_298 (rv_cat _) ?_
      obtain ⟨ho, hw⟩ := hw
      refine fg_X8_253 CF hK hR ho dX8_readsCommand_299 ?_
      refine lv_iconst hx hb dX8_readsCommand_302 (v := 1) rfl ?_
      refine lv_isub hx hb dX8_readsCommand_303 ?_
      obtain ⟨ho, hw⟩ := hw
      refine fp_X8_253 CF hK hR hS ho dX8_readsCommand_304 (fun G34 H locs hG hR hS => ?_)
      replace hw := hw G34 hG
      refine th_aload_n hx hb dX8_readsCommand_307 rfl (lv_at hL.1 2 rfl) ?_
      refine th_aload_n hx hb dX8_readsCommand_308 rfl (lv_at hL.1 2 rfl) ?_
      obtain ⟨ho, hw⟩ := hw
      refine fg_X8_259 CF hK hR ho dX8_readsCommand_309 ?_
      refine lv_iconst hx hb dX8_readsCommand_312 (v := (-1)) rfl ?_
      refine lv_icmp_ne hx hb dX8_readsCommand_313 (tgt := 323) (by decide) (fun h => ?_) (fun h => ?_)
      · replace hw := hw.1 h
        refine th_aload_n hx hb dX8_readsCommand_323 rfl (lv_at hL.1 2 rfl) ?_
        obtain ⟨ho, hw⟩ := hw
        refine fg_X8_259 CF hK hR ho dX8_readsCommand_324 ?_
        exact tk_X8_readsCommand_b327 E hR hS (hL.sub [2] rfl) hw ⟨by omega, by omega⟩
      · replace hw := hw.2 h
        refine th_aload_n hx hb dX8_readsCommand_316 rfl (lv_at hL.1 2 rfl) ?_
        obtain ⟨ho, hw⟩ := hw
        refine fg_X8_253 CF hK hR ho dX8_readsCommand_317 ?_
        refine lv_goto hx hb dX8_readsCommand_320 (tgt := 327) (by decide) ?_
        exact tk_X8_readsCommand_b327 E hR hS (hL.sub [2] rfl) hw ⟨by omega, by omega⟩
    by_cases g106 : r2 = 106
    · replace hw := hw.2.2.2.2.2.2.2.1 g106
      refine lv_tableIn hx hb dX8_readsCommand_28 (tgt := 297) (by rw [g106]; decide) (by rw [g106]; decide) (by rw [g106]; rfl) (by decide) ?_
      refine th_aload_n hx hb dX8_readsCommand_297 rfl (lv_at hL.1 2 rfl) ?_
      refine lv_dup hx hb dX8_readsCommand_298 (rv_cat _) ?_
      obtain ⟨ho, hw⟩ := hw
      refine fg_X8_253 CF hK hR ho dX8_readsCommand_299 ?_
      refine lv_iconst hx hb dX8_readsCommand_302 (v := 1) rfl ?_
      refine lv_isub hx hb dX8_readsCommand_303 ?_
      obtain ⟨ho, hw⟩ := hw
      refine fp_X8_253 CF hK hR hS ho dX8_readsCommand_304 (fun G35 H locs hG hR hS => ?_)
      replace hw := hw G35 hG
      refine th_aload_n hx hb dX8_readsCommand_307 rfl (lv_at hL.1 2 rfl) ?_
      refine th_aload_n hx hb dX8_readsCommand_308 rfl (lv_at hL.1 2 rfl) ?_
      obtain ⟨ho, hw⟩ := hw
      refine fg_X8_259 CF hK hR ho dX8_readsCommand_309 ?_
      refine lv_iconst hx hb dX8_readsCommand_312 (v := (-1)) rfl ?_
      refine lv_icmp_ne hx hb dX8_readsCommand_313 (tgt := 323) (by decide) (fun h => ?_) (fun h => ?_)
      · replace hw := hw.1 h
        refine th_aload_n hx hb dX8_readsCommand_323 rfl (lv_at hL.1 2 rfl) ?_
        obtain ⟨ho, hw⟩ := hw
        refine fg_X8_259 CF hK hR ho dX8_readsCommand_324 ?_
        exact tk_X8_readsCommand_b327 E hR hS (hL.sub [2] rfl) hw ⟨by omega, by omega⟩
      · replace hw := hw.2 h
        refine th_aload_n hx hb dX8_readsCommand_316 rfl (lv_at hL.1 2 rfl) ?_
        obtain ⟨ho, hw⟩ := hw
        refine fg_X8_253 CF hK hR ho dX8_readsCommand_317 ?_
        refine lv_goto hx hb dX8_readsCommand_320 (tgt := 327) (by decide) ?_
        exact tk_X8_readsCommand_b327 E hR hS (hL.sub [2] rfl) hw ⟨by omega, by omega⟩
    by_cases g107 : r2 = 107
    · replace hw := hw.2.2.2.2.2.2.2.2.1 g107
      refine lv_tableIn hx hb dX8_readsCommand_28 (tgt := 281) (by rw [g107]; decide) (by rw [g107]; decide) (by rw [g107]; rfl) (by decide) ?_
      refine th_aload_n hx hb dX8_readsCommand_281 rfl (lv_at hL.1 2 rfl) ?_
      refine lv_iconst hx hb dX8_readsCommand_282 (v := 0) rfl ?_
      refine th_aload_n hx hb dX8_readsCommand_283 rfl (lv_at hL.1 2 rfl) ?_
      refine lv_bipush hx hb dX8_readsCommand_284 (v := 48) rfl ?_
      refine lv_bipush hx hb dX8_readsCommand_286 (v := 57) rfl ?_
      obtain ⟨ho, hw⟩ := hw
      refine th_ki hS (th_rV CF hK hSt hR hS ho (ci := 8) rfl (rest := [.int 0, rv a0]) (tk_X8_reads) (cw_X8_265 CF hK (by decide +kernel)) hw rfl hL.1.1 rfl (th_ci (th_cr th_cn)) (Nat.le_of_ble_eq_true rfl) dX8_readsCommand_288 ⟨by show _ ≤ (0 : Nat); omega, by show _ ≤ (0 : Nat); omega⟩) (fun r37 G36 H locs hw hR hS => ?_)
      obtain ⟨ho, hw⟩ := hw
      refine th_kv hS (th_rV CF hK hSt hR hS ho (ci := 8) rfl (rest := []) (tk_X8_tells) (cw_X8_274 CF hK (by decide +kernel)) hw rfl hL.1.1 rfl th_cn (Nat.le_of_ble_eq_true rfl) dX8_readsCommand_291 ⟨by show _ ≤ (0 : Nat); omega, by show _ ≤ (0 : Nat); omega⟩) (fun G38 H locs hw hR hS => ?_)
      refine lv_goto hx hb dX8_readsCommand_294 (tgt := 330) (by decide) ?_
      exact tk_X8_readsCommand_b330 E hR hS (hL.sub [2] rfl) hw ⟨by omega, by omega⟩
    by_cases g108 : r2 = 108
    · replace hw := hw.2.2.2.2.2.2.2.2.2.1 g108
      refine lv_tableIn hx hb dX8_readsCommand_28 (tgt := 297) (by rw [g108]; decide) (by rw [g108]; decide) (by rw [g108]; rfl) (by decide) ?_
      refine th_aload_n hx hb dX8_readsCommand_297 rfl (lv_at hL.1 2 rfl) ?_
      refine lv_dup hx hb dX8_readsCommand_298 (rv_cat _) ?_
      obtain ⟨ho, hw⟩ := hw
      refine fg_X8_253 CF hK hR ho dX8_readsCommand_299 ?_
      refine lv_iconst hx hb dX8_readsCommand_302 (v := 1) rfl ?_
      refine lv_isub hx hb dX8_readsCommand_303 ?_
      obtain ⟨ho, hw⟩ := hw
      refine fp_X8_253 CF hK hR hS ho dX8_readsCommand_304 (fun G39 H locs hG hR hS => ?_)
      replace hw := hw G39 hG
      refine th_aload_n hx hb dX8_readsCommand_307 rfl (lv_at hL.1 2 rfl) ?_
      refine th_aload_n hx hb dX8_readsCommand_308 rfl (lv_at hL.1 2 rfl) ?_
      obtain ⟨ho, hw⟩ := hw
      refine fg_X8_259 CF hK hR ho dX8_readsCommand_309 ?_
      refine lv_iconst hx hb dX8_readsCommand_312 (v := (-1)) rfl ?_
      refine lv_icmp_ne hx hb dX8_readsCommand_313 (tgt := 323) (by decide) (fun h => ?_) (fun h => ?_)
      · replace hw := hw.1 h
        refine th_aload_n hx hb dX8_readsCommand_323 rfl (lv_at hL.1 2 rfl) ?_
        obtain ⟨ho, hw⟩ := hw
        refine fg_X8_259 CF hK hR ho dX8_readsCommand_324 ?_
        exact tk_X8_readsCommand_b327 E hR hS (hL.sub [2] rfl) hw ⟨by omega, by omega⟩
      · replace hw := hw.2 h
        refine th_aload_n hx hb dX8_readsCommand_316 rfl (lv_at hL.1 2 rfl) ?_
        obtain ⟨ho, hw⟩ := hw
        refine fg_X8_253 CF hK hR ho dX8_readsCommand_317 ?_
        refine lv_goto hx hb dX8_readsCommand_320 (tgt := 327) (by decide) ?_
        exact tk_X8_readsCommand_b327 E hR hS (hL.sub [2] rfl) hw ⟨by omega, by omega⟩
    by_cases g109 : r2 = 109
    · replace hw := hw.2.2.2.2.2.2.2.2.2.2.1 g109
      refine lv_tableIn hx hb dX8_readsCommand_28 (tgt := 297) (by rw [g109]; decide) (by rw [g109]; decide) (by rw [g109]; rfl) (by decide) ?_
      refine th_aload_n hx hb dX8_readsCommand_297 rfl (lv_at hL.1 2 rfl) ?_
      refine lv_dup hx hb dX8_readsCommand_298 (rv_cat _) ?_
      obtain ⟨ho, hw⟩ := hw
      refine fg_X8_253 CF hK hR ho dX8_readsCommand_299 ?_
      refine lv_iconst hx hb dX8_readsCommand_302 (v := 1) rfl ?_
      refine lv_isub hx hb dX8_readsCommand_303 ?_
      obtain ⟨ho, hw⟩ := hw
      refine fp_X8_253 CF hK hR hS ho dX8_readsCommand_304 (fun G40 H locs hG hR hS => ?_)
      replace hw := hw G40 hG
      refine th_aload_n hx hb dX8_readsCommand_307 rfl (lv_at hL.1 2 rfl) ?_
      refine th_aload_n hx hb dX8_readsCommand_308 rfl (lv_at hL.1 2 rfl) ?_
      obtain ⟨ho, hw⟩ := hw
      refine fg_X8_259 CF hK hR ho dX8_readsCommand_309 ?_
      refine lv_iconst hx hb dX8_readsCommand_312 (v := (-1)) rfl ?_
      refine lv_icmp_ne hx hb dX8_readsCommand_313 (tgt := 323) (by decide) (fun h => ?_) (fun h => ?_)
      · replace hw := hw.1 h
        refine th_aload_n hx hb dX8_readsCommand_323 rfl (lv_at hL.1 2 rfl) ?_
        obtain ⟨ho, hw⟩ := hw
        refine fg_X8_259 CF hK hR ho dX8_readsCommand_324 ?_
        exact tk_X8_readsCommand_b327 E hR hS (hL.sub [2] rfl) hw ⟨by omega, by omega⟩
      · replace hw := hw.2 h
        refine th_aload_n hx hb dX8_readsCommand_316 rfl (lv_at hL.1 2 rfl) ?_
        obtain ⟨ho, hw⟩ := hw
        refine fg_X8_253 CF hK hR ho dX8_readsCommand_317 ?_
        refine lv_goto hx hb dX8_readsCommand_320 (tgt := 327) (by decide) ?_
        exact tk_X8_readsCommand_b327 E hR hS (hL.sub [2] rfl) hw ⟨by omega, by omega⟩
    by_cases g110 : r2 = 110
    · replace hw := hw.2.2.2.2.2.2.2.2.2.2.2.1 g110
      refine lv_tableIn hx hb dX8_readsCommand_28 (tgt := 262) (by rw [g110]; decide) (by rw [g110]; decide) (by rw [g110]; rfl) (by decide) ?_
      refine th_aload_n hx hb dX8_readsCommand_262 rfl (lv_at hL.1 2 rfl) ?_
      refine lv_iconst hx hb dX8_readsCommand_263 (v := 0) rfl ?_
      refine th_aload_n hx hb dX8_readsCommand_264 rfl (lv_at hL.1 2 rfl) ?_
      obtain ⟨ho, hw⟩ := hw
      refine th_ki hS (th_rV CF hK hSt hR hS ho (ci := 8) rfl (rest := [.int 0, rv a0]) (tk_X8_number) (cw_X8_277 CF hK (by decide +kernel)) hw rfl hL.1.1 rfl (th_ci (th_cr th_cn)) (Nat.le_of_ble_eq_true rfl) dX8_readsCommand_265 ⟨by show _ ≤ (0 : Nat); omega, by show _ ≤ (0 : Nat); omega⟩) (fun r42 G41 H locs hw hR hS => ?_)
      obtain ⟨ho, hw⟩ := hw
      refine th_kv hS (th_rV CF hK hSt hR hS ho (ci := 8) rfl (rest := []) (tk_X8_tells) (cw_X8_274 CF hK (by decide +kernel)) hw rfl hL.1.1 rfl th_cn (Nat.le_of_ble_eq_true rfl) dX8_readsCommand_268 ⟨by show _ ≤ (0 : Nat); omega, by show _ ≤ (0 : Nat); omega⟩) (fun G43 H locs hw hR hS => ?_)
      refine lv_goto hx hb dX8_readsCommand_271 (tgt := 330) (by decide) ?_
      exact tk_X8_readsCommand_b330 E hR hS (hL.sub [2] rfl) hw ⟨by omega, by omega⟩
    by_cases g111 : r2 = 111
    · replace hw := hw.2.2.2.2.2.2.2.2.2.2.2.2.1 g111
      refine lv_tableIn hx hb dX8_readsCommand_28 (tgt := 297) (by rw [g111]; decide) (by rw [g111]; decide) (by rw [g111]; rfl) (by decide) ?_
      refine th_aload_n hx hb dX8_readsCommand_297 rfl (lv_at hL.1 2 rfl) ?_
      refine lv_dup hx hb dX8_readsCommand_298 (rv_cat _) ?_
      obtain ⟨ho, hw⟩ := hw
      refine fg_X8_253 CF hK hR ho dX8_readsCommand_299 ?_
      refine lv_iconst hx hb dX8_readsCommand_302 (v := 1) rfl ?_
      refine lv_isub hx hb dX8_readsCommand_303 ?_
      obtain ⟨ho, hw⟩ := hw
      refine fp_X8_253 CF hK hR hS ho dX8_readsCommand_304 (fun G44 H locs hG hR hS => ?_)
      replace hw := hw G44 hG
      refine th_aload_n hx hb dX8_readsCommand_307 rfl (lv_at hL.1 2 rfl) ?_
      refine th_aload_n hx hb dX8_readsCommand_308 rfl (lv_at hL.1 2 rfl) ?_
      obtain ⟨ho, hw⟩ := hw
      refine fg_X8_259 CF hK hR ho dX8_readsCommand_309 ?_
      refine lv_iconst hx hb dX8_readsCommand_312 (v := (-1)) rfl ?_
      refine lv_icmp_ne hx hb dX8_readsCommand_313 (tgt := 323) (by decide) (fun h => ?_) (fun h => ?_)
      · replace hw := hw.1 h
        refine th_aload_n hx hb dX8_readsCommand_323 rfl (lv_at hL.1 2 rfl) ?_
        obtain ⟨ho, hw⟩ := hw
        refine fg_X8_259 CF hK hR ho dX8_readsCommand_324 ?_
        exact tk_X8_readsCommand_b327 E hR hS (hL.sub [2] rfl) hw ⟨by omega, by omega⟩
      · replace hw := hw.2 h
        refine th_aload_n hx hb dX8_readsCommand_316 rfl (lv_at hL.1 2 rfl) ?_
        obtain ⟨ho, hw⟩ := hw
        refine fg_X8_253 CF hK hR ho dX8_readsCommand_317 ?_
        refine lv_goto hx hb dX8_readsCommand_320 (tgt := 327) (by decide) ?_
        exact tk_X8_readsCommand_b327 E hR hS (hL.sub [2] rfl) hw ⟨by omega, by omega⟩
    by_cases g112 : r2 = 112
    · replace hw := hw.2.2.2.2.2.2.2.2.2.2.2.2.2.1 g112
      refine lv_tableIn hx hb dX8_readsCommand_28 (tgt := 297) (by rw [g112]; decide) (by rw [g112]; decide) (by rw [g112]; rfl) (by decide) ?_
      refine th_aload_n hx hb dX8_readsCommand_297 rfl (lv_at hL.1 2 rfl) ?_
      refine lv_dup hx hb dX8_readsCommand_298 (rv_cat _) ?_
      obtain ⟨ho, hw⟩ := hw
      refine fg_X8_253 CF hK hR ho dX8_readsCommand_299 ?_
      refine lv_iconst hx hb dX8_readsCommand_302 (v := 1) rfl ?_
      refine lv_isub hx hb dX8_readsCommand_303 ?_
      obtain ⟨ho, hw⟩ := hw
      refine fp_X8_253 CF hK hR hS ho dX8_readsCommand_304 (fun G45 H locs hG hR hS => ?_)
      replace hw := hw G45 hG
      refine th_aload_n hx hb dX8_readsCommand_307 rfl (lv_at hL.1 2 rfl) ?_
      refine th_aload_n hx hb dX8_readsCommand_308 rfl (lv_at hL.1 2 rfl) ?_
      obtain ⟨ho, hw⟩ := hw
      refine fg_X8_259 CF hK hR ho dX8_readsCommand_309 ?_
      refine lv_iconst hx hb dX8_readsCommand_312 (v := (-1)) rfl ?_
      refine lv_icmp_ne hx hb dX8_readsCommand_313 (tgt := 323) (by decide) (fun h => ?_) (fun h => ?_)
      · replace hw := hw.1 h
        refine th_aload_n hx hb dX8_readsCommand_323 rfl (lv_at hL.1 2 rfl) ?_
        obtain ⟨ho, hw⟩ := hw
        refine fg_X8_259 CF hK hR ho dX8_readsCommand_324 ?_
        exact tk_X8_readsCommand_b327 E hR hS (hL.sub [2] rfl) hw ⟨by omega, by omega⟩
      · replace hw := hw.2 h
        refine th_aload_n hx hb dX8_readsCommand_316 rfl (lv_at hL.1 2 rfl) ?_
        obtain ⟨ho, hw⟩ := hw
        refine fg_X8_253 CF hK hR ho dX8_readsCommand_317 ?_
        refine lv_goto hx hb dX8_readsCommand_320 (tgt := 327) (by decide) ?_
        exact tk_X8_readsCommand_b327 E hR hS (hL.sub [2] rfl) hw ⟨by omega, by omega⟩
    by_cases g113 : r2 = 113
    · replace hw := hw.2.2.2.2.2.2.2.2.2.2.2.2.2.2.1 g113
      refine lv_tableIn hx hb dX8_readsCommand_28 (tgt := 297) (by rw [g113]; decide) (by rw [g113]; decide) (by rw [g113]; rfl) (by decide) ?_
      refine th_aload_n hx hb dX8_readsCommand_297 rfl (lv_at hL.1 2 rfl) ?_
      refine lv_dup hx hb dX8_readsCommand_298 (rv_cat _) ?_
      obtain ⟨ho, hw⟩ := hw
      refine fg_X8_253 CF hK hR ho dX8_readsCommand_299 ?_
      refine lv_iconst hx hb dX8_readsCommand_302 (v := 1) rfl ?_
      refine lv_isub hx hb dX8_readsCommand_303 ?_
      obtain ⟨ho, hw⟩ := hw
      refine fp_X8_253 CF hK hR hS ho dX8_readsCommand_304 (fun G46 H locs hG hR hS => ?_)
      replace hw := hw G46 hG
      refine th_aload_n hx hb dX8_readsCommand_307 rfl (lv_at hL.1 2 rfl) ?_
      refine th_aload_n hx hb dX8_readsCommand_308 rfl (lv_at hL.1 2 rfl) ?_
      obtain ⟨ho, hw⟩ := hw
      refine fg_X8_259 CF hK hR ho dX8_readsCommand_309 ?_
      refine lv_iconst hx hb dX8_readsCommand_312 (v := (-1)) rfl ?_
      refine lv_icmp_ne hx hb dX8_readsCommand_313 (tgt := 323) (by decide) (fun h => ?_) (fun h => ?_)
      · replace hw := hw.1 h
        refine th_aload_n hx hb dX8_readsCommand_323 rfl (lv_at hL.1 2 rfl) ?_
        obtain ⟨ho, hw⟩ := hw
        refine fg_X8_259 CF hK hR ho dX8_readsCommand_324 ?_
        exact tk_X8_readsCommand_b327 E hR hS (hL.sub [2] rfl) hw ⟨by omega, by omega⟩
      · replace hw := hw.2 h
        refine th_aload_n hx hb dX8_readsCommand_316 rfl (lv_at hL.1 2 rfl) ?_
        obtain ⟨ho, hw⟩ := hw
        refine fg_X8_253 CF hK hR ho dX8_readsCommand_317 ?_
        refine lv_goto hx hb dX8_readsCommand_320 (tgt := 327) (by decide) ?_
        exact tk_X8_readsCommand_b327 E hR hS (hL.sub [2] rfl) hw ⟨by omega, by omega⟩
    by_cases g114 : r2 = 114
    · replace hw := hw.2.2.2.2.2.2.2.2.2.2.2.2.2.2.2.1 g114
      refine lv_tableIn hx hb dX8_readsCommand_28 (tgt := 297) (by rw [g114]; decide) (by rw [g114]; decide) (by rw [g114]; rfl) (by decide) ?_
      refine th_aload_n hx hb dX8_readsCommand_297 rfl (lv_at hL.1 2 rfl) ?_
      refine lv_dup hx hb dX8_readsCommand_298 (rv_cat _) ?_
      obtain ⟨ho, hw⟩ := hw
      refine fg_X8_253 CF hK hR ho dX8_readsCommand_299 ?_
      refine lv_iconst hx hb dX8_readsCommand_302 (v := 1) rfl ?_
      refine lv_isub hx hb dX8_readsCommand_303 ?_
      obtain ⟨ho, hw⟩ := hw
      refine fp_X8_253 CF hK hR hS ho dX8_readsCommand_304 (fun G47 H locs hG hR hS => ?_)
      replace hw := hw G47 hG
      refine th_aload_n hx hb dX8_readsCommand_307 rfl (lv_at hL.1 2 rfl) ?_
      refine th_aload_n hx hb dX8_readsCommand_308 rfl (lv_at hL.1 2 rfl) ?_
      obtain ⟨ho, hw⟩ := hw
      refine fg_X8_259 CF hK hR ho dX8_readsCommand_309 ?_
      refine lv_iconst hx hb dX8_readsCommand_312 (v := (-1)) rfl ?_
      refine lv_icmp_ne hx hb dX8_readsCommand_313 (tgt := 323) (by decide) (fun h => ?_) (fun h => ?_)
      · replace hw := hw.1 h
        refine th_aload_n hx hb dX8_readsCommand_323 rfl (lv_at hL.1 2 rfl) ?_
        obtain ⟨ho, hw⟩ := hw
        refine fg_X8_259 CF hK hR ho dX8_readsCommand_324 ?_
        exact tk_X8_readsCommand_b327 E hR hS (hL.sub [2] rfl) hw ⟨by omega, by omega⟩
      · replace hw := hw.2 h
        refine th_aload_n hx hb dX8_readsCommand_316 rfl (lv_at hL.1 2 rfl) ?_
        obtain ⟨ho, hw⟩ := hw
        refine fg_X8_253 CF hK hR ho dX8_readsCommand_317 ?_
        refine lv_goto hx hb dX8_readsCommand_320 (tgt := 327) (by decide) ?_
        exact tk_X8_readsCommand_b327 E hR hS (hL.sub [2] rfl) hw ⟨by omega, by omega⟩
    by_cases g115 : r2 = 115
    · replace hw := hw.2.2.2.2.2.2.2.2.2.2.2.2.2.2.2.2.1 g115
      refine lv_tableIn hx hb dX8_readsCommand_28 (tgt := 274) (by rw [g115]; decide) (by rw [g115]; decide) (by rw [g115]; rfl) (by decide) ?_
      refine th_aload_n hx hb dX8_readsCommand_274 rfl (lv_at hL.1 2 rfl) ?_
      obtain ⟨ho, hw⟩ := hw
      refine th_kv hS (th_rV CF hK hSt hR hS ho (ci := 8) rfl (rest := []) (tk_X8_readsSale) (cw_X8_280 CF hK (by decide +kernel)) hw rfl hL.1.1 rfl th_cn (Nat.le_of_ble_eq_true rfl) dX8_readsCommand_275 ⟨by show _ ≤ (0 : Nat); omega, by show _ ≤ (0 : Nat); omega⟩) (fun G48 H locs hw hR hS => ?_)
      refine lv_goto hx hb dX8_readsCommand_278 (tgt := 330) (by decide) ?_
      exact tk_X8_readsCommand_b330 E hR hS (hL.sub [2] rfl) hw ⟨by omega, by omega⟩
    by_cases g116 : r2 = 116
    · replace hw := hw.2.2.2.2.2.2.2.2.2.2.2.2.2.2.2.2.2.1 g116
      refine lv_tableIn hx hb dX8_readsCommand_28 (tgt := 206) (by rw [g116]; decide) (by rw [g116]; decide) (by rw [g116]; rfl) (by decide) ?_
      refine th_aload_n hx hb dX8_readsCommand_206 rfl (lv_at hL.1 2 rfl) ?_
      refine lv_iconst hx hb dX8_readsCommand_207 (v := 0) rfl ?_
      refine th_aload_n hx hb dX8_readsCommand_208 rfl (lv_at hL.1 2 rfl) ?_
      refine lv_bipush hx hb dX8_readsCommand_209 (v := 48) rfl ?_
      refine lv_bipush hx hb dX8_readsCommand_211 (v := 57) rfl ?_
      obtain ⟨ho, hw⟩ := hw
      refine th_ki hS (th_rV CF hK hSt hR hS ho (ci := 8) rfl (rest := [.int 0, rv a0]) (tk_X8_reads) (cw_X8_265 CF hK (by decide +kernel)) hw rfl hL.1.1 rfl (th_ci (th_cr th_cn)) (Nat.le_of_ble_eq_true rfl) dX8_readsCommand_213 ⟨by show _ ≤ (0 : Nat); omega, by show _ ≤ (0 : Nat); omega⟩) (fun r50 G49 H locs hw hR hS => ?_)
      obtain ⟨ho, hw⟩ := hw
      refine th_kv hS (th_rV CF hK hSt hR hS ho (ci := 8) rfl (rest := []) (tk_X8_tells) (cw_X8_274 CF hK (by decide +kernel)) hw rfl hL.1.1 rfl th_cn (Nat.le_of_ble_eq_true rfl) dX8_readsCommand_216 ⟨by show _ ≤ (0 : Nat); omega, by show _ ≤ (0 : Nat); omega⟩) (fun G51 H locs hw hR hS => ?_)
      refine th_aload_n hx hb dX8_readsCommand_219 rfl (lv_at hL.1 2 rfl) ?_
      refine lv_bipush hx hb dX8_readsCommand_220 (v := 60) rfl ?_
      refine lv_bipush hx hb dX8_readsCommand_222 (v := 60) rfl ?_
      obtain ⟨ho, hw⟩ := hw
      refine th_ki hS (th_rV CF hK hSt hR hS ho (ci := 8) rfl (rest := []) (tk_X8_reads) (cw_X8_265 CF hK (by decide +kernel)) hw rfl hL.1.1 rfl th_cn (Nat.le_of_ble_eq_true rfl) dX8_readsCommand_224 ⟨by show _ ≤ (0 : Nat); omega, by show _ ≤ (0 : Nat); omega⟩) (fun r53 G52 H locs hw hR hS => ?_)
      refine th_istore_n hx hb dX8_readsCommand_227 rfl hL (by decide) rfl (fun ls hL => ?_)
      refine th_aload_n hx hb dX8_readsCommand_228 rfl (lv_at hL.1 2 rfl) ?_
      refine lv_iconst hx hb dX8_readsCommand_229 (v := 1) rfl ?_
      refine th_aload_n hx hb dX8_readsCommand_230 rfl (lv_at hL.1 2 rfl) ?_
      refine lv_bipush hx hb dX8_readsCommand_231 (v := 48) rfl ?_
      refine lv_bipush hx hb dX8_readsCommand_233 (v := 57) rfl ?_
      obtain ⟨ho, hw⟩ := hw
      refine th_ki hS (th_rV CF hK hSt hR hS ho (ci := 8) rfl (rest := [.int 1, rv a0]) (tk_X8_reads) (cw_X8_265 CF hK (by decide +kernel)) hw rfl hL.1.1 rfl (th_ci (th_cr th_cn)) (Nat.le_of_ble_eq_true rfl) dX8_readsCommand_235 ⟨by show _ ≤ (0 : Nat); omega, by show _ ≤ (0 : Nat); omega⟩) (fun r55 G54 H locs hw hR hS => ?_)
      obtain ⟨ho, hw⟩ := hw
      refine th_kv hS (th_rV CF hK hSt hR hS ho (ci := 8) rfl (rest := []) (tk_X8_tells) (cw_X8_274 CF hK (by decide +kernel)) hw rfl hL.1.1 rfl th_cn (Nat.le_of_ble_eq_true rfl) dX8_readsCommand_238 ⟨by show _ ≤ (0 : Nat); omega, by show _ ≤ (0 : Nat); omega⟩) (fun G56 H locs hw hR hS => ?_)
      refine th_aload_n hx hb dX8_readsCommand_241 rfl (lv_at hL.1 2 rfl) ?_
      refine lv_bipush hx hb dX8_readsCommand_242 (v := 58) rfl ?_
      refine lv_bipush hx hb dX8_readsCommand_244 (v := 58) rfl ?_
      obtain ⟨ho, hw⟩ := hw
      refine th_ki hS (th_rV CF hK hSt hR hS ho (ci := 8) rfl (rest := []) (tk_X8_reads) (cw_X8_265 CF hK (by decide +kernel)) hw rfl hL.1.1 rfl th_cn (Nat.le_of_ble_eq_true rfl) dX8_readsCommand_246 ⟨by show _ ≤ (0 : Nat); omega, by show _ ≤ (0 : Nat); omega⟩) (fun r58 G57 H locs hw hR hS => ?_)
      refine th_istore_n hx hb dX8_readsCommand_249 rfl hL (by decide) rfl (fun ls hL => ?_)
      refine th_aload_n hx hb dX8_readsCommand_250 rfl (lv_at hL.1 2 rfl) ?_
      refine lv_iconst hx hb dX8_readsCommand_251 (v := 2) rfl ?_
      refine th_aload_n hx hb dX8_readsCommand_252 rfl (lv_at hL.1 2 rfl) ?_
      obtain ⟨ho, hw⟩ := hw
      refine th_ki hS (th_rV CF hK hSt hR hS ho (ci := 8) rfl (rest := [.int 2, rv a0]) (tk_X8_number) (cw_X8_277 CF hK (by decide +kernel)) hw rfl hL.1.1 rfl (th_ci (th_cr th_cn)) (Nat.le_of_ble_eq_true rfl) dX8_readsCommand_253 ⟨by show _ ≤ (0 : Nat); omega, by show _ ≤ (0 : Nat); omega⟩) (fun r60 G59 H locs hw hR hS => ?_)
      obtain ⟨ho, hw⟩ := hw
      refine th_kv hS (th_rV CF hK hSt hR hS ho (ci := 8) rfl (rest := []) (tk_X8_tells) (cw_X8_274 CF hK (by decide +kernel)) hw rfl hL.1.1 rfl th_cn (Nat.le_of_ble_eq_true rfl) dX8_readsCommand_256 ⟨by show _ ≤ (0 : Nat); omega, by show _ ≤ (0 : Nat); omega⟩) (fun G61 H locs hw hR hS => ?_)
      refine lv_goto hx hb dX8_readsCommand_259 (tgt := 330) (by decide) ?_
      exact tk_X8_readsCommand_b330 E hR hS (hL.sub [2] rfl) hw ⟨by omega, by omega⟩
    replace hw := hw.2.2.2.2.2.2.2.2.2.2.2.2.2.2.2.2.2.2 g99 g100 g101 g102 g103 g104 g105 g106 g107 g108 g109 g110 g111 g112 g113 g114 g115 g116
    have w99 := th_sw g99 (k := 99) (by decide)
    have w100 := th_sw g100 (k := 100) (by decide)
    have w101 := th_sw g101 (k := 101) (by decide)
    have w102 := th_sw g102 (k := 102) (by decide)
    have w103 := th_sw g103 (k := 103) (by decide)
    have w104 := th_sw g104 (k := 104) (by decide)
    have w105 := th_sw g105 (k := 105) (by decide)
    have w106 := th_sw g106 (k := 106) (by decide)
    have w107 := th_sw g107 (k := 107) (by decide)
    have w108 := th_sw g108 (k := 108) (by decide)
    have w109 := th_sw g109 (k := 109) (by decide)
    have w110 := th_sw g110 (k := 110) (by decide)
    have w111 := th_sw g111 (k := 111) (by decide)
    have w112 := th_sw g112 (k := 112) (by decide)
    have w113 := th_sw g113 (k := 113) (by decide)
    have w114 := th_sw g114 (k := 114) (by decide)
    have w115 := th_sw g115 (k := 115) (by decide)
    have w116 := th_sw g116 (k := 116) (by decide)
    refine lv_tableOut hx hb dX8_readsCommand_28 (tgt := 297) (by omega) (by decide) ?_
    refine th_aload_n hx hb dX8_readsCommand_297 rfl (lv_at hL.1 2 rfl) ?_
    refine lv_dup hx hb dX8_readsCommand_298 (rv_cat _) ?_
    obtain ⟨ho, hw⟩ := hw
    refine fg_X8_253 CF hK hR ho dX8_readsCommand_299 ?_
    refine lv_iconst hx hb dX8_readsCommand_302 (v := 1) rfl ?_
    refine lv_isub hx hb dX8_readsCommand_303 ?_
    obtain ⟨ho, hw⟩ := hw
    refine fp_X8_253 CF hK hR hS ho dX8_readsCommand_304 (fun G62 H locs hG hR hS => ?_)
    replace hw := hw G62 hG
    refine th_aload_n hx hb dX8_readsCommand_307 rfl (lv_at hL.1 2 rfl) ?_
    refine th_aload_n hx hb dX8_readsCommand_308 rfl (lv_at hL.1 2 rfl) ?_
    obtain ⟨ho, hw⟩ := hw
    refine fg_X8_259 CF hK hR ho dX8_readsCommand_309 ?_
    refine lv_iconst hx hb dX8_readsCommand_312 (v := (-1)) rfl ?_
    refine lv_icmp_ne hx hb dX8_readsCommand_313 (tgt := 323) (by decide) (fun h => ?_) (fun h => ?_)
    · replace hw := hw.1 h
      refine th_aload_n hx hb dX8_readsCommand_323 rfl (lv_at hL.1 2 rfl) ?_
      obtain ⟨ho, hw⟩ := hw
      refine fg_X8_259 CF hK hR ho dX8_readsCommand_324 ?_
      exact tk_X8_readsCommand_b327 E hR hS (hL.sub [2] rfl) hw ⟨by omega, by omega⟩
    · replace hw := hw.2 h
      refine th_aload_n hx hb dX8_readsCommand_316 rfl (lv_at hL.1 2 rfl) ?_
      obtain ⟨ho, hw⟩ := hw
      refine fg_X8_253 CF hK hR ho dX8_readsCommand_317 ?_
      refine lv_goto hx hb dX8_readsCommand_320 (tgt := 327) (by decide) ?_
      exact tk_X8_readsCommand_b327 E hR hS (hL.sub [2] rfl) hw ⟨by omega, by omega⟩)
