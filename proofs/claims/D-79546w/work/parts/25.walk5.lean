/-! WALKS: X0_flails X0_floorOf X0_cartedPints X0_inAllBays X0_onFloors X0_grain X0_grainAgain X2_tithe X2_owes X0_doHarvest X0_harvest X2_init X4_init_2 X4_init X3_init X5_init X6_init X7_init X1_init -/
set_option maxRecDepth 100000
def tw_X0_flails (Q : Int32 → aH → Prop) (G : aH) (a0 : Nat) (x1 : Int32) (x2 : Int32) : Prop :=
  th_o G a0 0 ∧ (
  (tw_X0_begins
    (fun (G1 : aH) =>
      th_o G1 a0 0 ∧ (
      (tw_X0_doFlails
        (fun (r3 : Int32) (G2 : aH) =>
          th_o G2 a0 0 ∧ (
          (tw_X0_changed
            (fun (r5 : Int32) (G4 : aH) =>
              Q r5 G4)
            G2 a0 r3)))
        (fun (e6 : Nat) (G7 : aH) =>
          (th_o G7 e6 9 ∧ (
            th_o G7 a0 0 ∧ (
            (tw_X0_notDone
              (fun (r9 : Int32) (G8 : aH) =>
                Q r9 G8)
              G7 a0 e6)))))
        G1 a0 x1 x2)))
    G a0))
theorem tk_X0_flails {l : Launch} {D : tD} {B : Nat} {Q : Int32 → aH → Prop} {a0 : Nat} {x1 : Int32} {x2 : Int32} : vz_Met l yX0_flails (wsW_ yX0_flails cX0_flails 4 ((Option.some Jvm.ClassFile.FieldType.int)) [((4 : Nat), (14 : Nat), (15 : Nat), (3 : Nat))]) rm_X0_flails (th_P D B [rv a0, .int x1, .int x2] (fun G => tw_X0_flails Q G a0 x1 x2)) (th_Qi D B Q) (th_X D B (fun _ _ => False)) 2 14 (th_A B) :=
  th_ofXH (by decide +kernel) (th_cr (th_ci (th_ci th_cn))) (Nat.le_of_ble_eq_true rfl) (fun p e s m args below meth c CF hret hlk hnm htab0 hK hSt G ls hR hS hw hL => by
    have E : th_E p m c cX0_flails 4 s args RX0 meth ((Option.some Jvm.ClassFile.FieldType.int)) "flails" D B := ⟨CF, hret, hlk, hnm, hK, hSt⟩
    have htab : c.exceptionTable.toList = tableOf [((4 : Nat), (14 : Nat), (15 : Nat), (3 : Nat))] := htab0
    have hx := CF.1; have hb := CF.2.1
    have hL : th_L ls 4 [(0, rv a0), (1, .int x1), (2, .int x2)] := hL
    unfold tw_X0_flails at hw
    refine th_aload_n hx hb dX0_flails_0 rfl (lv_at hL.1 0 rfl) ?_
    obtain ⟨ho, hw⟩ := hw
    refine th_kv hS (th_rV CF hK hSt hR hS ho (ci := 0) rfl (rest := []) (tk_X0_begins) (cw_X0_110 CF hK (by decide +kernel)) hw rfl hL.1.1 rfl th_cn (Nat.le_of_ble_eq_true rfl) dX0_flails_1 ⟨by show _ ≤ (2 : Nat); omega, by show _ ≤ (14 : Nat); omega⟩) (fun G1 H locs hw hR hS => ?_)
    refine th_aload_n hx hb dX0_flails_4 rfl (lv_at hL.1 0 rfl) ?_
    refine th_aload_n hx hb dX0_flails_5 rfl (lv_at hL.1 0 rfl) ?_
    refine lv_iload_n hx hb dX0_flails_6 rfl (lv_at hL.1 1 rfl) ?_
    refine lv_iload_n hx hb dX0_flails_7 rfl (lv_at hL.1 2 rfl) ?_
    obtain ⟨ho, hw⟩ := hw
    refine th_Xki hS (th_XrV CF hK hSt hR hS ho (ci := 0) rfl (rest := [rv a0]) (tk_X0_doFlails) (cw_X0_223 CF hK (by decide +kernel)) hw rfl hL.1.1 rfl (th_cr th_cn) (Nat.le_of_ble_eq_true rfl) dX0_flails_8 ⟨by show _ ≤ (2 : Nat); omega, by show _ ≤ (14 : Nat); omega⟩) (fun e6 G7 H locs hw ho hR hS => ?_) (fun r3 G2 H locs hw hR hS => ?_)
    · obtain ⟨hk, hw⟩ := hw
      refine th_catch (ci := 9) (nm := "TitheBarn$Wrong") CF.2.2.2.1 hK hR hk rfl htab [] (⟨4, 14, 15, 3⟩ : ExceptionTableEntry) [] rfl (by intro z hz; cases hz) rfl (by decide) (CF.2.2.2.2 _ q466) q517 ?_
      refine th_astore_n hx hb dX0_flails_15 rfl hL (by decide) rfl (fun ls hL => ?_)
      refine th_aload_n hx hb dX0_flails_16 rfl (lv_at hL.1 1 rfl) ?_
      refine th_aload_n hx hb dX0_flails_17 rfl (lv_at hL.1 0 rfl) ?_
      obtain ⟨ho, hw⟩ := hw
      refine th_ki hS (th_rV CF hK hSt hR hS ho (ci := 0) rfl (rest := []) (tk_X0_notDone) (cw_X0_120 CF hK (by decide +kernel)) hw rfl hL.1.1 rfl th_cn (Nat.le_of_ble_eq_true rfl) dX0_flails_18 ⟨by show _ ≤ (2 : Nat); omega, by show _ ≤ (14 : Nat); omega⟩) (fun r9 G8 H locs hw hR hS => ?_)
      exact vz_ret (th_iret hx hb hret hlk hR hS hw (by omega) (by omega) dX0_flails_21)
    · skip
      obtain ⟨ho, hw⟩ := hw
      refine th_ki hS (th_rV CF hK hSt hR hS ho (ci := 0) rfl (rest := []) (tk_X0_changed) (cw_X0_117 CF hK (by decide +kernel)) hw rfl hL.1.1 rfl th_cn (Nat.le_of_ble_eq_true rfl) dX0_flails_11 ⟨by show _ ≤ (2 : Nat); omega, by show _ ≤ (14 : Nat); omega⟩) (fun r5 G4 H locs hw hR hS => ?_)
      exact vz_ret (th_iret hx hb hret hlk hR hS hw (by omega) (by omega) dX0_flails_14))
def tw_X0_floorOf (Q : Int32 → aH → Prop) (G : aH) (a0 : Nat) (x1 : Int32) (x2 : Int32) : Prop :=
  (tw_X0_isFloor
    (fun (r2 : Int32) (G1 : aH) =>
      (¬ r2 = 0 →
        th_o G1 a0 0 ∧ (
        th_o G1 (a_mr G1 a0 0) 1 ∧ (
        th_ai G1 (a_mr G1 (a_mr G1 a0 0) 3) 6 x1 ∧ (
        ∀ a3_3 : Nat, a3_3 = a_mr G1 (a_mr G1 (a_mr G1 a0 0) 3) x1.toNatClampNeg → 
        (x2 = 0 →
          th_o G1 a3_3 5 ∧ (
          Q (a_mi G1 a3_3 1) G1)) ∧
        (x2 = 1 →
          th_o G1 a3_3 5 ∧ (
          (¬ a_mi G1 a3_3 1 = 0 →
            th_o G1 a3_3 5 ∧ (
            Q (a_mi G1 a3_3 0) G1)) ∧
          (a_mi G1 a3_3 1 = 0 →
            Q (-4) G1))) ∧
        (x2 = 2 →
          th_o G1 a3_3 5 ∧ (
          Q (a_mi G1 a3_3 2) G1)) ∧
        (x2 = 3 →
          th_o G1 a3_3 5 ∧ (
          Q (a_mi G1 a3_3 3) G1)) ∧
        (¬ x2 = 0 → ¬ x2 = 1 → ¬ x2 = 2 → ¬ x2 = 3 → 
          Q (-2) G1))))) ∧
      (r2 = 0 →
        Q (-1) G1))
    G x1)
theorem tk_X0_floorOf {l : Launch} {D : tD} {B : Nat} {Q : Int32 → aH → Prop} {a0 : Nat} {x1 : Int32} {x2 : Int32} : Met l yX0_floorOf (ws_ yX0_floorOf cX0_floorOf 4 ((Option.some Jvm.ClassFile.FieldType.int))) rm_X0_floorOf (th_P D B [rv a0, .int x1, .int x2] (fun G => tw_X0_floorOf Q G a0 x1 x2)) (th_Qi D B Q) 0 0 (th_A B) :=
  th_ofW (by decide +kernel) (th_cr (th_ci (th_ci th_cn))) (Nat.le_of_ble_eq_true rfl) (fun p e s m args below meth c CF hret hlk hnm hK hSt G ls hR hS hw hL => by
    have E : th_E p m c cX0_floorOf 4 s args RX0 meth ((Option.some Jvm.ClassFile.FieldType.int)) "floorOf" D B := ⟨CF, hret, hlk, hnm, hK, hSt⟩
    have hx := CF.1; have hb := CF.2.1
    have hL : th_L ls 4 [(0, rv a0), (1, .int x1), (2, .int x2)] := hL
    unfold tw_X0_floorOf at hw
    refine lv_iload_n hx hb dX0_floorOf_0 rfl (lv_at hL.1 1 rfl) ?_
    refine th_ki hS (th_rS CF hK hSt hR hS (rest := []) (tk_X0_isFloor) (cw_X0_199 CF hK (by decide +kernel)) hw rfl hL.1.1 rfl th_cn (Nat.le_of_ble_eq_true rfl) dX0_floorOf_1 ⟨by show _ ≤ (0 : Nat); omega, by show _ ≤ (0 : Nat); omega⟩) (fun r2 G1 H locs hw hR hS => ?_)
    refine lv_if_ne hx hb dX0_floorOf_4 (tgt := 9) (by decide) (fun h => ?_) (fun h => ?_)
    · replace hw := hw.1 h
      refine th_aload_n hx hb dX0_floorOf_9 rfl (lv_at hL.1 0 rfl) ?_
      obtain ⟨ho, hw⟩ := hw
      refine fg_X0_22 CF hK hR ho dX0_floorOf_10 ?_
      obtain ⟨ho, hw⟩ := hw
      refine fg_X0_202 CF hK hR ho dX0_floorOf_13 ?_
      refine lv_iload_n hx hb dX0_floorOf_16 rfl (lv_at hL.1 1 rfl) ?_
      obtain ⟨ha, hw⟩ := hw
      refine th_aald hx hb hK 6 (by decide) rfl rfl hR ha dX0_floorOf_17 ?_
      obtain ⟨a3_3, ha3_3⟩ : ∃ y : Nat, y = a_mr G1 (a_mr G1 (a_mr G1 a0 0) 3) x1.toNatClampNeg := ⟨_, rfl⟩
      replace hw := hw a3_3 ha3_3
      refine th_nmr ha3_3 ?_
      refine th_astore_n hx hb dX0_floorOf_18 rfl hL (by decide) rfl (fun ls hL => ?_)
      refine lv_iload_n hx hb dX0_floorOf_19 rfl (lv_at hL.1 3 rfl) ?_
      by_cases g0 : x2 = 0
      · replace hw := hw.1 g0
        refine lv_tableIn hx hb dX0_floorOf_20 (tgt := 52) (by rw [g0]; decide) (by rw [g0]; decide) (by rw [g0]; rfl) (by decide) ?_
        refine th_aload_n hx hb dX0_floorOf_52 rfl (lv_at hL.1 0 rfl) ?_
        obtain ⟨ho, hw⟩ := hw
        refine fg_X0_210 CF hK hR ho dX0_floorOf_53 ?_
        exact th_iret hx hb hret hlk hR hS hw (by omega) (by omega) dX0_floorOf_56
      by_cases g1 : x2 = 1
      · replace hw := hw.2.1 g1
        refine lv_tableIn hx hb dX0_floorOf_20 (tgt := 57) (by rw [g1]; decide) (by rw [g1]; decide) (by rw [g1]; rfl) (by decide) ?_
        refine th_aload_n hx hb dX0_floorOf_57 rfl (lv_at hL.1 0 rfl) ?_
        obtain ⟨ho, hw⟩ := hw
        refine fg_X0_210 CF hK hR ho dX0_floorOf_58 ?_
        refine lv_if_ne hx hb dX0_floorOf_61 (tgt := 69) (by decide) (fun h => ?_) (fun h => ?_)
        · replace hw := hw.1 h
          refine th_aload_n hx hb dX0_floorOf_69 rfl (lv_at hL.1 0 rfl) ?_
          obtain ⟨ho, hw⟩ := hw
          refine fg_X0_213 CF hK hR ho dX0_floorOf_70 ?_
          exact th_iret hx hb hret hlk hR hS hw (by omega) (by omega) dX0_floorOf_73
        · replace hw := hw.2 h
          refine lv_bipush hx hb dX0_floorOf_64 (v := (-4)) rfl ?_
          refine lv_goto hx hb dX0_floorOf_66 (tgt := 73) (by decide) ?_
          exact th_iret hx hb hret hlk hR hS hw (by omega) (by omega) dX0_floorOf_73
      by_cases g2 : x2 = 2
      · replace hw := hw.2.2.1 g2
        refine lv_tableIn hx hb dX0_floorOf_20 (tgt := 74) (by rw [g2]; decide) (by rw [g2]; decide) (by rw [g2]; rfl) (by decide) ?_
        refine th_aload_n hx hb dX0_floorOf_74 rfl (lv_at hL.1 0 rfl) ?_
        obtain ⟨ho, hw⟩ := hw
        refine fg_X0_220 CF hK hR ho dX0_floorOf_75 ?_
        exact th_iret hx hb hret hlk hR hS hw (by omega) (by omega) dX0_floorOf_78
      by_cases g3 : x2 = 3
      · replace hw := hw.2.2.2.1 g3
        refine lv_tableIn hx hb dX0_floorOf_20 (tgt := 79) (by rw [g3]; decide) (by rw [g3]; decide) (by rw [g3]; rfl) (by decide) ?_
        refine th_aload_n hx hb dX0_floorOf_79 rfl (lv_at hL.1 0 rfl) ?_
        obtain ⟨ho, hw⟩ := hw
        refine fg_X0_421 CF hK hR ho dX0_floorOf_80 ?_
        exact th_iret hx hb hret hlk hR hS hw (by omega) (by omega) dX0_floorOf_83
      replace hw := hw.2.2.2.2 g0 g1 g2 g3
      have w0 := th_sw g0 (k := 0) (by decide)
      have w1 := th_sw g1 (k := 1) (by decide)
      have w2 := th_sw g2 (k := 2) (by decide)
      have w3 := th_sw g3 (k := 3) (by decide)
      refine lv_tableOut hx hb dX0_floorOf_20 (tgt := 84) (by omega) (by decide) ?_
      refine lv_bipush hx hb dX0_floorOf_84 (v := (-2)) rfl ?_
      exact th_iret hx hb hret hlk hR hS hw (by omega) (by omega) dX0_floorOf_86
    · replace hw := hw.2 h
      refine lv_iconst hx hb dX0_floorOf_7 (v := (-1)) rfl ?_
      exact th_iret hx hb hret hlk hR hS hw (by omega) (by omega) dX0_floorOf_8)
def tw_X0_cartedPints_b4 (Q : Int32 → aH → Prop) : Nat → aH → Nat → Int32 → Int32 → Prop := fun n => Nat.rec (motive := fun _ => aH → Nat → Int32 → Int32 → Prop) (fun _ _ _ _ => False) (fun _ ih G a0 x1 x2 =>
  th_o G a0 0 ∧ (
  th_o G (a_mr G a0 0) 1 ∧ (
  (a_mi G (a_mr G a0 0) 1 ≤ x2 →
    Q x1 G) ∧
  (¬ a_mi G (a_mr G a0 0) 1 ≤ x2 →
    th_o G a0 0 ∧ (
    th_o G (a_mr G a0 0) 1 ∧ (
    th_ai G (a_mr G (a_mr G a0 0) 0) 4 x2 ∧ (
    th_o G (a_mr G (a_mr G (a_mr G a0 0) 0) x2.toNatClampNeg) 2 ∧ (
    th_o G a0 0 ∧ (
    th_o G (a_mr G a0 0) 1 ∧ (
    th_ai G (a_mr G (a_mr G a0 0) 0) 4 x2 ∧ (
    th_o G (a_mr G (a_mr G (a_mr G a0 0) 0) x2.toNatClampNeg) 2 ∧ (
    (tw_X0_pintsOf
      (fun (r2 : Int32) (G1 : aH) =>
        ∀ x1_3 : Int32, x1_3 = x1 + ((a_mi G (a_mr G (a_mr G (a_mr G a0 0) 0) x2.toNatClampNeg) 2) * r2) → 
        ∀ x2_4 : Int32, x2_4 = x2 + 1 → 
        ih G1 a0 x1_3 x2_4)
      G (a_mi G (a_mr G (a_mr G (a_mr G a0 0) 0) x2.toNatClampNeg) 0)))))))))))))) n
theorem tws_X0_cartedPints_b4 (Q : Int32 → aH → Prop) (n : Nat) (G : aH) (a0 : Nat) (x1 : Int32) (x2 : Int32) : tw_X0_cartedPints_b4 Q (n + 1) G a0 x1 x2 = (
  th_o G a0 0 ∧ (
  th_o G (a_mr G a0 0) 1 ∧ (
  (a_mi G (a_mr G a0 0) 1 ≤ x2 →
    Q x1 G) ∧
  (¬ a_mi G (a_mr G a0 0) 1 ≤ x2 →
    th_o G a0 0 ∧ (
    th_o G (a_mr G a0 0) 1 ∧ (
    th_ai G (a_mr G (a_mr G a0 0) 0) 4 x2 ∧ (
    th_o G (a_mr G (a_mr G (a_mr G a0 0) 0) x2.toNatClampNeg) 2 ∧ (
    th_o G a0 0 ∧ (
    th_o G (a_mr G a0 0) 1 ∧ (
    th_ai G (a_mr G (a_mr G a0 0) 0) 4 x2 ∧ (
    th_o G (a_mr G (a_mr G (a_mr G a0 0) 0) x2.toNatClampNeg) 2 ∧ (
    (tw_X0_pintsOf
      (fun (r2 : Int32) (G1 : aH) =>
        ∀ x1_3 : Int32, x1_3 = x1 + ((a_mi G (a_mr G (a_mr G (a_mr G a0 0) 0) x2.toNatClampNeg) 2) * r2) → 
        ∀ x2_4 : Int32, x2_4 = x2 + 1 → 
        tw_X0_cartedPints_b4 Q n G1 a0 x1_3 x2_4)
      G (a_mi G (a_mr G (a_mr G (a_mr G a0 0) 0) x2.toNatClampNeg) 0)))))))))))))) := rfl
def tw_X0_cartedPints (Q : Int32 → aH → Prop) (G : aH) (a0 : Nat) : Prop :=
  ∃ n9 : Nat, tw_X0_cartedPints_b4 Q n9 G a0 0 0
theorem tk_X0_cartedPints_b4 {p : Program} {l : Launch} {e : Env} {s : State} {m : MethodId} {args : Array Value} {below : List Frame} {meth : Method} {c : Code} {D : tD} {B : Nat} (E : th_E p m c cX0_cartedPints 3 s args RX0 meth ((Option.some Jvm.ClassFile.FieldType.int)) "cartedPints" D B) {Q : Int32 → aH → Prop} : ∀ (n : Nat) {G : aH} {H : Heap} {locs : List Loc} {cells slots : Nat} {ls : Array Slot} {a0 : Nat} {x1 : Int32} {x2 : Int32} (hR : th_H D B G H) (hS : va_S (th_A B) s.heap H locs) (hL : th_L ls 3 [(0, rv a0), (1, .int x1), (2, .int x2)]) (hw : tw_X0_cartedPints_b4 Q n G a0 x1 x2) (hc : cells + (0) ≤ 0 ∧ slots + (0) ≤ 0), W p l e rm_X0_cartedPints s m args below meth c H locs cells slots (MQ below (th_Qi D B Q) args s 0 0 (th_A B)) (F0 m 4 ls []) := by
  have CF := E.1; have hx := CF.1; have hb := CF.2.1; have hret := E.2.1; have hlk := E.2.2.1; have hnm := E.2.2.2.1; have hK := E.2.2.2.2.1; have hSt := E.2.2.2.2.2
  intro n
  induction n with
  | zero => intro _ _ _ _ _ _ _ _ _ _ _ _ hw; exact hw.elim
  | succ n ih =>
    intro G H locs cells slots ls a0 x1 x2 hR hS hL hw hc
    rw [tws_X0_cartedPints_b4] at hw
    refine lv_iload_n hx hb dX0_cartedPints_4 rfl (lv_at hL.1 2 rfl) ?_
    refine th_aload_n hx hb dX0_cartedPints_5 rfl (lv_at hL.1 0 rfl) ?_
    obtain ⟨ho, hw⟩ := hw
    refine fg_X0_22 CF hK hR ho dX0_cartedPints_6 ?_
    obtain ⟨ho, hw⟩ := hw
    refine fg_X0_79 CF hK hR ho dX0_cartedPints_9 ?_
    refine lv_icmp_ge hx hb dX0_cartedPints_12 (tgt := 52) (by decide) (fun h => ?_) (fun h => ?_)
    · replace hw := hw.1 h
      refine lv_iload_n hx hb dX0_cartedPints_52 rfl (lv_at hL.1 1 rfl) ?_
      exact th_iret hx hb hret hlk hR hS hw (by omega) (by omega) dX0_cartedPints_53
    · replace hw := hw.2 h
      refine lv_iload_n hx hb dX0_cartedPints_15 rfl (lv_at hL.1 1 rfl) ?_
      refine th_aload_n hx hb dX0_cartedPints_16 rfl (lv_at hL.1 0 rfl) ?_
      obtain ⟨ho, hw⟩ := hw
      refine fg_X0_22 CF hK hR ho dX0_cartedPints_17 ?_
      obtain ⟨ho, hw⟩ := hw
      refine fg_X0_101 CF hK hR ho dX0_cartedPints_20 ?_
      refine lv_iload_n hx hb dX0_cartedPints_23 rfl (lv_at hL.1 2 rfl) ?_
      obtain ⟨ha, hw⟩ := hw
      refine th_aald hx hb hK 4 (by decide) rfl rfl hR ha dX0_cartedPints_24 ?_
      obtain ⟨ho, hw⟩ := hw
      refine fg_X0_408 CF hK hR ho dX0_cartedPints_25 ?_
      refine th_aload_n hx hb dX0_cartedPints_28 rfl (lv_at hL.1 0 rfl) ?_
      obtain ⟨ho, hw⟩ := hw
      refine fg_X0_22 CF hK hR ho dX0_cartedPints_29 ?_
      obtain ⟨ho, hw⟩ := hw
      refine fg_X0_101 CF hK hR ho dX0_cartedPints_32 ?_
      refine lv_iload_n hx hb dX0_cartedPints_35 rfl (lv_at hL.1 2 rfl) ?_
      obtain ⟨ha, hw⟩ := hw
      refine th_aald hx hb hK 4 (by decide) rfl rfl hR ha dX0_cartedPints_36 ?_
      obtain ⟨ho, hw⟩ := hw
      refine fg_X0_184 CF hK hR ho dX0_cartedPints_37 ?_
      refine th_ki hS (th_rS CF hK hSt hR hS (rest := [.int (a_mi G (a_mr G (a_mr G (a_mr G a0 0) 0) x2.toNatClampNeg) 2), .int x1]) (tk_X0_pintsOf) (cw_X0_448 CF hK (by decide +kernel)) hw rfl hL.1.1 rfl (th_ci (th_ci th_cn)) (Nat.le_of_ble_eq_true rfl) dX0_cartedPints_40 ⟨by show _ ≤ (0 : Nat); omega, by show _ ≤ (0 : Nat); omega⟩) (fun r2 G1 H locs hw hR hS => ?_)
      refine lv_imul hx hb dX0_cartedPints_43 ?_
      refine lv_iadd hx hb dX0_cartedPints_44 ?_
      obtain ⟨x1_3, hx1_3⟩ : ∃ y : Int32, y = x1 + ((a_mi G (a_mr G (a_mr G (a_mr G a0 0) 0) x2.toNatClampNeg) 2) * r2) := ⟨_, rfl⟩
      replace hw := hw x1_3 hx1_3
      refine th_nmi hx1_3 ?_
      refine th_istore_n hx hb dX0_cartedPints_45 rfl hL (by decide) rfl (fun ls hL => ?_)
      obtain ⟨x2_4, hx2_4⟩ : ∃ y : Int32, y = x2 + 1 := ⟨_, rfl⟩
      replace hw := hw x2_4 hx2_4
      refine th_iinc hx hb dX0_cartedPints_46 hL (k := 2) rfl (v := x2_4) hx2_4.symm (by decide) rfl (fun ls hL => ?_)
      refine lv_goto hx hb dX0_cartedPints_49 (tgt := 4) (by decide) ?_
      exact ih hR hS (hL.sub [2, 1, 0] rfl) hw ⟨by omega, by omega⟩
theorem tk_X0_cartedPints {l : Launch} {D : tD} {B : Nat} {Q : Int32 → aH → Prop} {a0 : Nat} : Met l yX0_cartedPints (ws_ yX0_cartedPints cX0_cartedPints 3 ((Option.some Jvm.ClassFile.FieldType.int))) rm_X0_cartedPints (th_P D B [rv a0] (fun G => tw_X0_cartedPints Q G a0)) (th_Qi D B Q) 0 0 (th_A B) :=
  th_ofW (by decide +kernel) (th_cr th_cn) (Nat.le_of_ble_eq_true rfl) (fun p e s m args below meth c CF hret hlk hnm hK hSt G ls hR hS hw hL => by
    have E : th_E p m c cX0_cartedPints 3 s args RX0 meth ((Option.some Jvm.ClassFile.FieldType.int)) "cartedPints" D B := ⟨CF, hret, hlk, hnm, hK, hSt⟩
    have hx := CF.1; have hb := CF.2.1
    have hL : th_L ls 3 [(0, rv a0)] := hL
    unfold tw_X0_cartedPints at hw
    refine lv_iconst hx hb dX0_cartedPints_0 (v := 0) rfl ?_
    refine th_istore_n hx hb dX0_cartedPints_1 rfl hL (by decide) rfl (fun ls hL => ?_)
    refine lv_iconst hx hb dX0_cartedPints_2 (v := 0) rfl ?_
    refine th_istore_n hx hb dX0_cartedPints_3 rfl hL (by decide) rfl (fun ls hL => ?_)
    obtain ⟨n9, hw⟩ := hw
    exact tk_X0_cartedPints_b4 E n9 hR hS (hL.sub [2, 1, 0] rfl) hw ⟨by omega, by omega⟩)
def tw_X0_inAllBays_b16 (Q : Int32 → aH → Prop) : Nat → aH → Nat → Int32 → Nat → Int32 → Int32 → Prop := fun n => Nat.rec (motive := fun _ => aH → Nat → Int32 → Nat → Int32 → Int32 → Prop) (fun _ _ _ _ _ _ => False) (fun _ ih G a0 x1 a2 x3 x4 =>
  (x3 ≤ x4 →
    Q x1 G) ∧
  (¬ x3 ≤ x4 →
    th_ai G a2 5 x4 ∧ (
    ∀ a5_3 : Nat, a5_3 = a_mr G a2 x4.toNatClampNeg → 
    th_o G a0 0 ∧ (
    th_o G (a_mr G a0 0) 1 ∧ (
    (tw_X1_pintsIn
      (fun (r5 : Int32) (G4 : aH) =>
        ∀ x1_6 : Int32, x1_6 = x1 + r5 → 
        ∀ x4_7 : Int32, x4_7 = x4 + 1 → 
        ih G4 a0 x1_6 a2 x3 x4_7)
      G (a_mr G a0 0) a5_3)))))) n
theorem tws_X0_inAllBays_b16 (Q : Int32 → aH → Prop) (n : Nat) (G : aH) (a0 : Nat) (x1 : Int32) (a2 : Nat) (x3 : Int32) (x4 : Int32) : tw_X0_inAllBays_b16 Q (n + 1) G a0 x1 a2 x3 x4 = (
  (x3 ≤ x4 →
    Q x1 G) ∧
  (¬ x3 ≤ x4 →
    th_ai G a2 5 x4 ∧ (
    ∀ a5_3 : Nat, a5_3 = a_mr G a2 x4.toNatClampNeg → 
    th_o G a0 0 ∧ (
    th_o G (a_mr G a0 0) 1 ∧ (
    (tw_X1_pintsIn
      (fun (r5 : Int32) (G4 : aH) =>
        ∀ x1_6 : Int32, x1_6 = x1 + r5 → 
        ∀ x4_7 : Int32, x4_7 = x4 + 1 → 
        tw_X0_inAllBays_b16 Q n G4 a0 x1_6 a2 x3 x4_7)
      G (a_mr G a0 0) a5_3)))))) := rfl
def tw_X0_inAllBays (Q : Int32 → aH → Prop) (G : aH) (a0 : Nat) : Prop :=
  th_o G a0 0 ∧ (
  th_o G (a_mr G a0 0) 1 ∧ (
  ∀ a2_1 : Nat, a2_1 = a_mr G (a_mr G a0 0) 2 → 
  th_a G a2_1 5 ∧ (
  ∀ x3_2 : Int32, x3_2 = th_len G a2_1 → 
  tw_X0_inAllBays_b16 Q 5 G a0 0 a2_1 x3_2 0)))
theorem tk_X0_inAllBays_b16 {p : Program} {l : Launch} {e : Env} {s : State} {m : MethodId} {args : Array Value} {below : List Frame} {meth : Method} {c : Code} {D : tD} {B : Nat} (E : th_E p m c cX0_inAllBays 6 s args RX0 meth ((Option.some Jvm.ClassFile.FieldType.int)) "inAllBays" D B) {Q : Int32 → aH → Prop} : ∀ (n : Nat) {G : aH} {H : Heap} {locs : List Loc} {cells slots : Nat} {ls : Array Slot} {a0 : Nat} {x1 : Int32} {a2 : Nat} {x3 : Int32} {x4 : Int32} (hR : th_H D B G H) (hS : va_S (th_A B) s.heap H locs) (hL : th_L ls 6 [(0, rv a0), (1, .int x1), (2, rv a2), (3, .int x3), (4, .int x4)]) (hw : tw_X0_inAllBays_b16 Q n G a0 x1 a2 x3 x4) (hc : cells + (n * 1 + 0) ≤ 5 ∧ slots + (n * 2 + 0) ≤ 10), W p l e rm_X0_inAllBays s m args below meth c H locs cells slots (MQ below (th_Qi D B Q) args s 5 10 (th_A B)) (F0 m 16 ls []) := by
  have CF := E.1; have hx := CF.1; have hb := CF.2.1; have hret := E.2.1; have hlk := E.2.2.1; have hnm := E.2.2.2.1; have hK := E.2.2.2.2.1; have hSt := E.2.2.2.2.2
  intro n
  induction n with
  | zero => intro _ _ _ _ _ _ _ _ _ _ _ _ _ _ hw; exact hw.elim
  | succ n ih =>
    intro G H locs cells slots ls a0 x1 a2 x3 x4 hR hS hL hw hc
    rw [tws_X0_inAllBays_b16] at hw
    refine lv_iload hx hb dX0_inAllBays_16 (lv_at hL.1 4 rfl) ?_
    refine lv_iload_n hx hb dX0_inAllBays_18 rfl (lv_at hL.1 3 rfl) ?_
    refine lv_icmp_ge hx hb dX0_inAllBays_19 (tgt := 46) (by decide) (fun h => ?_) (fun h => ?_)
    · replace hw := hw.1 h
      refine lv_iload_n hx hb dX0_inAllBays_46 rfl (lv_at hL.1 1 rfl) ?_
      exact th_iret hx hb hret hlk hR hS hw (by omega) (by omega) dX0_inAllBays_47
    · replace hw := hw.2 h
      refine th_aload_n hx hb dX0_inAllBays_22 rfl (lv_at hL.1 2 rfl) ?_
      refine lv_iload hx hb dX0_inAllBays_23 (lv_at hL.1 4 rfl) ?_
      obtain ⟨ha, hw⟩ := hw
      refine th_aald hx hb hK 5 (by decide) rfl rfl hR ha dX0_inAllBays_25 ?_
      obtain ⟨a5_3, ha5_3⟩ : ∃ y : Nat, y = a_mr G a2 x4.toNatClampNeg := ⟨_, rfl⟩
      replace hw := hw a5_3 ha5_3
      refine th_nmr ha5_3 ?_
      refine th_astore hx hb dX0_inAllBays_26 hL (by decide) rfl (fun ls hL => ?_)
      refine lv_iload_n hx hb dX0_inAllBays_28 rfl (lv_at hL.1 2 rfl) ?_
      refine th_aload_n hx hb dX0_inAllBays_29 rfl (lv_at hL.1 1 rfl) ?_
      obtain ⟨ho, hw⟩ := hw
      refine fg_X0_22 CF hK hR ho dX0_inAllBays_30 ?_
      refine th_aload hx hb dX0_inAllBays_33 (lv_at hL.1 0 rfl) ?_
      obtain ⟨ho, hw⟩ := hw
      refine th_ki hS (th_rV CF hK hSt hR hS ho (ci := 1) rfl (rest := [.int x1]) (tk_X1_pintsIn) (cw_X0_417 CF hK (by decide +kernel)) hw rfl hL.1.1 rfl (th_ci th_cn) (Nat.le_of_ble_eq_true rfl) dX0_inAllBays_35 ⟨by show _ ≤ (5 : Nat); omega, by show _ ≤ (10 : Nat); omega⟩) (fun r5 G4 H locs hw hR hS => ?_)
      refine lv_iadd hx hb dX0_inAllBays_38 ?_
      obtain ⟨x1_6, hx1_6⟩ : ∃ y : Int32, y = x1 + r5 := ⟨_, rfl⟩
      replace hw := hw x1_6 hx1_6
      refine th_nmi hx1_6 ?_
      refine th_istore_n hx hb dX0_inAllBays_39 rfl hL (by decide) rfl (fun ls hL => ?_)
      obtain ⟨x4_7, hx4_7⟩ : ∃ y : Int32, y = x4 + 1 := ⟨_, rfl⟩
      replace hw := hw x4_7 hx4_7
      refine th_iinc hx hb dX0_inAllBays_40 hL (k := 5) rfl (v := x4_7) hx4_7.symm (by decide) rfl (fun ls hL => ?_)
      refine lv_goto hx hb dX0_inAllBays_43 (tgt := 16) (by decide) ?_
      exact ih hR hS (hL.sub [3, 1, 4, 5, 0] rfl) hw ⟨by omega, by omega⟩
theorem tk_X0_inAllBays {l : Launch} {D : tD} {B : Nat} {Q : Int32 → aH → Prop} {a0 : Nat} : Met l yX0_inAllBays (ws_ yX0_inAllBays cX0_inAllBays 6 ((Option.some Jvm.ClassFile.FieldType.int))) rm_X0_inAllBays (th_P D B [rv a0] (fun G => tw_X0_inAllBays Q G a0)) (th_Qi D B Q) 5 10 (th_A B) :=
  th_ofW (by decide +kernel) (th_cr th_cn) (Nat.le_of_ble_eq_true rfl) (fun p e s m args below meth c CF hret hlk hnm hK hSt G ls hR hS hw hL => by
    have E : th_E p m c cX0_inAllBays 6 s args RX0 meth ((Option.some Jvm.ClassFile.FieldType.int)) "inAllBays" D B := ⟨CF, hret, hlk, hnm, hK, hSt⟩
    have hx := CF.1; have hb := CF.2.1
    have hL : th_L ls 6 [(0, rv a0)] := hL
    unfold tw_X0_inAllBays at hw
    refine lv_iconst hx hb dX0_inAllBays_0 (v := 0) rfl ?_
    refine th_istore_n hx hb dX0_inAllBays_1 rfl hL (by decide) rfl (fun ls hL => ?_)
    refine th_aload_n hx hb dX0_inAllBays_2 rfl (lv_at hL.1 1 rfl) ?_
    obtain ⟨ho, hw⟩ := hw
    refine fg_X0_22 CF hK hR ho dX0_inAllBays_3 ?_
    obtain ⟨ho, hw⟩ := hw
    refine fg_X0_150 CF hK hR ho dX0_inAllBays_6 ?_
    obtain ⟨a2_1, ha2_1⟩ : ∃ y : Nat, y = a_mr G (a_mr G a0 0) 2 := ⟨_, rfl⟩
    replace hw := hw a2_1 ha2_1
    refine th_nmr ha2_1 ?_
    refine th_astore_n hx hb dX0_inAllBays_9 rfl hL (by decide) rfl (fun ls hL => ?_)
    refine th_aload_n hx hb dX0_inAllBays_10 rfl (lv_at hL.1 0 rfl) ?_
    obtain ⟨ha, hw⟩ := hw
    refine th_alen hx hb hK 5 (by decide) hR ha dX0_inAllBays_11 ?_
    obtain ⟨x3_2, hx3_2⟩ : ∃ y : Int32, y = th_len G a2_1 := ⟨_, rfl⟩
    replace hw := hw x3_2 hx3_2
    refine th_nmi hx3_2 ?_
    refine th_istore_n hx hb dX0_inAllBays_12 rfl hL (by decide) rfl (fun ls hL => ?_)
    refine lv_iconst hx hb dX0_inAllBays_13 (v := 0) rfl ?_
    refine th_istore hx hb dX0_inAllBays_14 hL (by decide) rfl (fun ls hL => ?_)
    exact tk_X0_inAllBays_b16 E 5 hR hS (hL.sub [4, 3, 2, 1, 0] rfl) hw ⟨by omega, by omega⟩)
def tw_X0_onFloors_b16 (Q : Int32 → aH → Prop) : Nat → aH → Int32 → Nat → Int32 → Int32 → Prop := fun n => Nat.rec (motive := fun _ => aH → Int32 → Nat → Int32 → Int32 → Prop) (fun _ _ _ _ _ => False) (fun _ ih G x1 a2 x3 x4 =>
  (x3 ≤ x4 →
    Q x1 G) ∧
  (¬ x3 ≤ x4 →
    th_ai G a2 6 x4 ∧ (
    ∀ a5_3 : Nat, a5_3 = a_mr G a2 x4.toNatClampNeg → 
    th_o G a5_3 5 ∧ (
    th_o G a5_3 5 ∧ (
    (tw_X0_pintsOf
      (fun (r5 : Int32) (G4 : aH) =>
        ∀ x1_6 : Int32, x1_6 = x1 + ((a_mi G a5_3 1) * r5) → 
        ∀ x4_7 : Int32, x4_7 = x4 + 1 → 
        ih G4 x1_6 a2 x3 x4_7)
      G (a_mi G a5_3 0))))))) n
theorem tws_X0_onFloors_b16 (Q : Int32 → aH → Prop) (n : Nat) (G : aH) (x1 : Int32) (a2 : Nat) (x3 : Int32) (x4 : Int32) : tw_X0_onFloors_b16 Q (n + 1) G x1 a2 x3 x4 = (
  (x3 ≤ x4 →
    Q x1 G) ∧
  (¬ x3 ≤ x4 →
    th_ai G a2 6 x4 ∧ (
    ∀ a5_3 : Nat, a5_3 = a_mr G a2 x4.toNatClampNeg → 
    th_o G a5_3 5 ∧ (
    th_o G a5_3 5 ∧ (
    (tw_X0_pintsOf
      (fun (r5 : Int32) (G4 : aH) =>
        ∀ x1_6 : Int32, x1_6 = x1 + ((a_mi G a5_3 1) * r5) → 
        ∀ x4_7 : Int32, x4_7 = x4 + 1 → 
        tw_X0_onFloors_b16 Q n G4 x1_6 a2 x3 x4_7)
      G (a_mi G a5_3 0))))))) := rfl
def tw_X0_onFloors (Q : Int32 → aH → Prop) (G : aH) (a0 : Nat) : Prop :=
  th_o G a0 0 ∧ (
  th_o G (a_mr G a0 0) 1 ∧ (
  ∀ a2_1 : Nat, a2_1 = a_mr G (a_mr G a0 0) 3 → 
  th_a G a2_1 6 ∧ (
  ∀ x3_2 : Int32, x3_2 = th_len G a2_1 → 
  ∃ n9 : Nat, tw_X0_onFloors_b16 Q n9 G 0 a2_1 x3_2 0)))
theorem tk_X0_onFloors_b16 {p : Program} {l : Launch} {e : Env} {s : State} {m : MethodId} {args : Array Value} {below : List Frame} {meth : Method} {c : Code} {D : tD} {B : Nat} (E : th_E p m c cX0_onFloors 6 s args RX0 meth ((Option.some Jvm.ClassFile.FieldType.int)) "onFloors" D B) {Q : Int32 → aH → Prop} : ∀ (n : Nat) {G : aH} {H : Heap} {locs : List Loc} {cells slots : Nat} {ls : Array Slot} {x1 : Int32} {a2 : Nat} {x3 : Int32} {x4 : Int32} (hR : th_H D B G H) (hS : va_S (th_A B) s.heap H locs) (hL : th_L ls 6 [(1, .int x1), (2, rv a2), (3, .int x3), (4, .int x4)]) (hw : tw_X0_onFloors_b16 Q n G x1 a2 x3 x4) (hc : cells + (0) ≤ 0 ∧ slots + (0) ≤ 0), W p l e rm_X0_onFloors s m args below meth c H locs cells slots (MQ below (th_Qi D B Q) args s 0 0 (th_A B)) (F0 m 16 ls []) := by
  have CF := E.1; have hx := CF.1; have hb := CF.2.1; have hret := E.2.1; have hlk := E.2.2.1; have hnm := E.2.2.2.1; have hK := E.2.2.2.2.1; have hSt := E.2.2.2.2.2
  intro n
  induction n with
  | zero => intro _ _ _ _ _ _ _ _ _ _ _ _ _ hw; exact hw.elim
  | succ n ih =>
    intro G H locs cells slots ls x1 a2 x3 x4 hR hS hL hw hc
    rw [tws_X0_onFloors_b16] at hw
    refine lv_iload hx hb dX0_onFloors_16 (lv_at hL.1 3 rfl) ?_
    refine lv_iload_n hx hb dX0_onFloors_18 rfl (lv_at hL.1 2 rfl) ?_
    refine lv_icmp_ge hx hb dX0_onFloors_19 (tgt := 51) (by decide) (fun h => ?_) (fun h => ?_)
    · replace hw := hw.1 h
      refine lv_iload_n hx hb dX0_onFloors_51 rfl (lv_at hL.1 0 rfl) ?_
      exact th_iret hx hb hret hlk hR hS hw (by omega) (by omega) dX0_onFloors_52
    · replace hw := hw.2 h
      refine th_aload_n hx hb dX0_onFloors_22 rfl (lv_at hL.1 1 rfl) ?_
      refine lv_iload hx hb dX0_onFloors_23 (lv_at hL.1 3 rfl) ?_
      obtain ⟨ha, hw⟩ := hw
      refine th_aald hx hb hK 6 (by decide) rfl rfl hR ha dX0_onFloors_25 ?_
      obtain ⟨a5_3, ha5_3⟩ : ∃ y : Nat, y = a_mr G a2 x4.toNatClampNeg := ⟨_, rfl⟩
      replace hw := hw a5_3 ha5_3
      refine th_nmr ha5_3 ?_
      refine th_astore hx hb dX0_onFloors_26 hL (by decide) rfl (fun ls hL => ?_)
      refine lv_iload_n hx hb dX0_onFloors_28 rfl (lv_at hL.1 1 rfl) ?_
      refine th_aload hx hb dX0_onFloors_29 (lv_at hL.1 0 rfl) ?_
      obtain ⟨ho, hw⟩ := hw
      refine fg_X0_210 CF hK hR ho dX0_onFloors_31 ?_
      refine th_aload hx hb dX0_onFloors_34 (lv_at hL.1 0 rfl) ?_
      obtain ⟨ho, hw⟩ := hw
      refine fg_X0_213 CF hK hR ho dX0_onFloors_36 ?_
      refine th_ki hS (th_rS CF hK hSt hR hS (rest := [.int (a_mi G a5_3 1), .int x1]) (tk_X0_pintsOf) (cw_X0_448 CF hK (by decide +kernel)) hw rfl hL.1.1 rfl (th_ci (th_ci th_cn)) (Nat.le_of_ble_eq_true rfl) dX0_onFloors_39 ⟨by show _ ≤ (0 : Nat); omega, by show _ ≤ (0 : Nat); omega⟩) (fun r5 G4 H locs hw hR hS => ?_)
      refine lv_imul hx hb dX0_onFloors_42 ?_
      refine lv_iadd hx hb dX0_onFloors_43 ?_
      obtain ⟨x1_6, hx1_6⟩ : ∃ y : Int32, y = x1 + ((a_mi G a5_3 1) * r5) := ⟨_, rfl⟩
      replace hw := hw x1_6 hx1_6
      refine th_nmi hx1_6 ?_
      refine th_istore_n hx hb dX0_onFloors_44 rfl hL (by decide) rfl (fun ls hL => ?_)
      obtain ⟨x4_7, hx4_7⟩ : ∃ y : Int32, y = x4 + 1 := ⟨_, rfl⟩
      replace hw := hw x4_7 hx4_7
      refine th_iinc hx hb dX0_onFloors_45 hL (k := 4) rfl (v := x4_7) hx4_7.symm (by decide) rfl (fun ls hL => ?_)
      refine lv_goto hx hb dX0_onFloors_48 (tgt := 16) (by decide) ?_
      exact ih hR hS (hL.sub [1, 3, 4, 0] rfl) hw ⟨by omega, by omega⟩
theorem tk_X0_onFloors {l : Launch} {D : tD} {B : Nat} {Q : Int32 → aH → Prop} {a0 : Nat} : Met l yX0_onFloors (ws_ yX0_onFloors cX0_onFloors 6 ((Option.some Jvm.ClassFile.FieldType.int))) rm_X0_onFloors (th_P D B [rv a0] (fun G => tw_X0_onFloors Q G a0)) (th_Qi D B Q) 0 0 (th_A B) :=
  th_ofW (by decide +kernel) (th_cr th_cn) (Nat.le_of_ble_eq_true rfl) (fun p e s m args below meth c CF hret hlk hnm hK hSt G ls hR hS hw hL => by
    have E : th_E p m c cX0_onFloors 6 s args RX0 meth ((Option.some Jvm.ClassFile.FieldType.int)) "onFloors" D B := ⟨CF, hret, hlk, hnm, hK, hSt⟩
    have hx := CF.1; have hb := CF.2.1
    have hL : th_L ls 6 [(0, rv a0)] := hL
    unfold tw_X0_onFloors at hw
    refine lv_iconst hx hb dX0_onFloors_0 (v := 0) rfl ?_
    refine th_istore_n hx hb dX0_onFloors_1 rfl hL (by decide) rfl (fun ls hL => ?_)
    refine th_aload_n hx hb dX0_onFloors_2 rfl (lv_at hL.1 1 rfl) ?_
    obtain ⟨ho, hw⟩ := hw
    refine fg_X0_22 CF hK hR ho dX0_onFloors_3 ?_
    obtain ⟨ho, hw⟩ := hw
    refine fg_X0_202 CF hK hR ho dX0_onFloors_6 ?_
    obtain ⟨a2_1, ha2_1⟩ : ∃ y : Nat, y = a_mr G (a_mr G a0 0) 3 := ⟨_, rfl⟩
    replace hw := hw a2_1 ha2_1
    refine th_nmr ha2_1 ?_
    refine th_astore_n hx hb dX0_onFloors_9 rfl hL (by decide) rfl (fun ls hL => ?_)
    refine th_aload_n hx hb dX0_onFloors_10 rfl (lv_at hL.1 0 rfl) ?_
    obtain ⟨ha, hw⟩ := hw
    refine th_alen hx hb hK 6 (by decide) hR ha dX0_onFloors_11 ?_
    obtain ⟨x3_2, hx3_2⟩ : ∃ y : Int32, y = th_len G a2_1 := ⟨_, rfl⟩
    replace hw := hw x3_2 hx3_2
    refine th_nmi hx3_2 ?_
    refine th_istore_n hx hb dX0_onFloors_12 rfl hL (by decide) rfl (fun ls hL => ?_)
    refine lv_iconst hx hb dX0_onFloors_13 (v := 0) rfl ?_
    refine th_istore hx hb dX0_onFloors_14 hL (by decide) rfl (fun ls hL => ?_)
    obtain ⟨n9, hw⟩ := hw
    exact tk_X0_onFloors_b16 E n9 hR hS (hL.sub [3, 2, 1, 0] rfl) hw ⟨by omega, by omega⟩)
def tw_X0_grain (Q : Int32 → aH → Prop) (G : aH) (a0 : Nat) (x1 : Int32) : Prop :=
  (x1 = 0 →
    th_o G a0 0 ∧ (
    (tw_X0_cartedPints
      (fun (r2 : Int32) (G1 : aH) =>
        Q r2 G1)
      G a0))) ∧
  (x1 = 1 →
    th_o G a0 0 ∧ (
    (tw_X0_inAllBays
      (fun (r4 : Int32) (G3 : aH) =>
        Q r4 G3)
      G a0))) ∧
  (x1 = 2 →
    th_o G a0 0 ∧ (
    (tw_X0_onFloors
      (fun (r6 : Int32) (G5 : aH) =>
        Q r6 G5)
      G a0))) ∧
  (x1 = 3 →
    th_o G a0 0 ∧ (
    (tw_X0_overBins
      (fun (r8 : Int32) (G7 : aH) =>
        Q r8 G7)
      G a0 0))) ∧
  (x1 = 4 →
    th_o G a0 0 ∧ (
    (tw_X0_overBins
      (fun (r10 : Int32) (G9 : aH) =>
        Q r10 G9)
      G a0 3))) ∧
  (x1 = 5 →
    th_o G a0 0 ∧ (
    th_o G (a_mr G a0 0) 1 ∧ (
    Q (a_mi G (a_mr G a0 0) 9) G))) ∧
  (¬ x1 = 0 → ¬ x1 = 1 → ¬ x1 = 2 → ¬ x1 = 3 → ¬ x1 = 4 → ¬ x1 = 5 → 
    Q (-2) G)
theorem tk_X0_grain {l : Launch} {D : tD} {B : Nat} {Q : Int32 → aH → Prop} {a0 : Nat} {x1 : Int32} : Met l yX0_grain (ws_ yX0_grain cX0_grain 2 ((Option.some Jvm.ClassFile.FieldType.int))) rm_X0_grain (th_P D B [rv a0, .int x1] (fun G => tw_X0_grain Q G a0 x1)) (th_Qi D B Q) 5 10 (th_A B) :=
  th_ofW (by decide +kernel) (th_cr (th_ci th_cn)) (Nat.le_of_ble_eq_true rfl) (fun p e s m args below meth c CF hret hlk hnm hK hSt G ls hR hS hw hL => by
    have E : th_E p m c cX0_grain 2 s args RX0 meth ((Option.some Jvm.ClassFile.FieldType.int)) "grain" D B := ⟨CF, hret, hlk, hnm, hK, hSt⟩
    have hx := CF.1; have hb := CF.2.1
    have hL : th_L ls 2 [(0, rv a0), (1, .int x1)] := hL
    unfold tw_X0_grain at hw
    refine lv_iload_n hx hb dX0_grain_0 rfl (lv_at hL.1 1 rfl) ?_
    by_cases g0 : x1 = 0
    · replace hw := hw.1 g0
      refine lv_tableIn hx hb dX0_grain_1 (tgt := 40) (by rw [g0]; decide) (by rw [g0]; decide) (by rw [g0]; rfl) (by decide) ?_
      refine th_aload_n hx hb dX0_grain_40 rfl (lv_at hL.1 0 rfl) ?_
      obtain ⟨ho, hw⟩ := hw
      refine th_ki hS (th_rV CF hK hSt hR hS ho (ci := 0) rfl (rest := []) (tk_X0_cartedPints) (cw_X0_460 CF hK (by decide +kernel)) hw rfl hL.1.1 rfl th_cn (Nat.le_of_ble_eq_true rfl) dX0_grain_41 ⟨by show _ ≤ (5 : Nat); omega, by show _ ≤ (10 : Nat); omega⟩) (fun r2 G1 H locs hw hR hS => ?_)
      exact th_iret hx hb hret hlk hR hS hw (by omega) (by omega) dX0_grain_44
    by_cases g1 : x1 = 1
    · replace hw := hw.2.1 g1
      refine lv_tableIn hx hb dX0_grain_1 (tgt := 45) (by rw [g1]; decide) (by rw [g1]; decide) (by rw [g1]; rfl) (by decide) ?_
      refine th_aload_n hx hb dX0_grain_45 rfl (lv_at hL.1 0 rfl) ?_
      obtain ⟨ho, hw⟩ := hw
      refine th_ki hS (th_rV CF hK hSt hR hS ho (ci := 0) rfl (rest := []) (tk_X0_inAllBays) (cw_X0_463 CF hK (by decide +kernel)) hw rfl hL.1.1 rfl th_cn (Nat.le_of_ble_eq_true rfl) dX0_grain_46 ⟨by show _ ≤ (5 : Nat); omega, by show _ ≤ (10 : Nat); omega⟩) (fun r4 G3 H locs hw hR hS => ?_)
      exact th_iret hx hb hret hlk hR hS hw (by omega) (by omega) dX0_grain_49
    by_cases g2 : x1 = 2
    · replace hw := hw.2.2.1 g2
      refine lv_tableIn hx hb dX0_grain_1 (tgt := 50) (by rw [g2]; decide) (by rw [g2]; decide) (by rw [g2]; rfl) (by decide) ?_
      refine th_aload_n hx hb dX0_grain_50 rfl (lv_at hL.1 0 rfl) ?_
      obtain ⟨ho, hw⟩ := hw
      refine th_ki hS (th_rV CF hK hSt hR hS ho (ci := 0) rfl (rest := []) (tk_X0_onFloors) (cw_X0_466 CF hK (by decide +kernel)) hw rfl hL.1.1 rfl th_cn (Nat.le_of_ble_eq_true rfl) dX0_grain_51 ⟨by show _ ≤ (5 : Nat); omega, by show _ ≤ (10 : Nat); omega⟩) (fun r6 G5 H locs hw hR hS => ?_)
      exact th_iret hx hb hret hlk hR hS hw (by omega) (by omega) dX0_grain_54
    by_cases g3 : x1 = 3
    · replace hw := hw.2.2.2.1 g3
      refine lv_tableIn hx hb dX0_grain_1 (tgt := 55) (by rw [g3]; decide) (by rw [g3]; decide) (by rw [g3]; rfl) (by decide) ?_
      refine th_aload_n hx hb dX0_grain_55 rfl (lv_at hL.1 0 rfl) ?_
      refine lv_iconst hx hb dX0_grain_56 (v := 0) rfl ?_
      obtain ⟨ho, hw⟩ := hw
      refine th_ki hS (th_rV CF hK hSt hR hS ho (ci := 0) rfl (rest := []) (tk_X0_overBins) (cw_X0_469 CF hK (by decide +kernel)) hw rfl hL.1.1 rfl th_cn (Nat.le_of_ble_eq_true rfl) dX0_grain_57 ⟨by show _ ≤ (5 : Nat); omega, by show _ ≤ (10 : Nat); omega⟩) (fun r8 G7 H locs hw hR hS => ?_)
      exact th_iret hx hb hret hlk hR hS hw (by omega) (by omega) dX0_grain_60
    by_cases g4 : x1 = 4
    · replace hw := hw.2.2.2.2.1 g4
      refine lv_tableIn hx hb dX0_grain_1 (tgt := 61) (by rw [g4]; decide) (by rw [g4]; decide) (by rw [g4]; rfl) (by decide) ?_
      refine th_aload_n hx hb dX0_grain_61 rfl (lv_at hL.1 0 rfl) ?_
      refine lv_iconst hx hb dX0_grain_62 (v := 3) rfl ?_
      obtain ⟨ho, hw⟩ := hw
      refine th_ki hS (th_rV CF hK hSt hR hS ho (ci := 0) rfl (rest := []) (tk_X0_overBins) (cw_X0_469 CF hK (by decide +kernel)) hw rfl hL.1.1 rfl th_cn (Nat.le_of_ble_eq_true rfl) dX0_grain_63 ⟨by show _ ≤ (5 : Nat); omega, by show _ ≤ (10 : Nat); omega⟩) (fun r10 G9 H locs hw hR hS => ?_)
      exact th_iret hx hb hret hlk hR hS hw (by omega) (by omega) dX0_grain_66
    by_cases g5 : x1 = 5
    · replace hw := hw.2.2.2.2.2.1 g5
      refine lv_tableIn hx hb dX0_grain_1 (tgt := 67) (by rw [g5]; decide) (by rw [g5]; decide) (by rw [g5]; rfl) (by decide) ?_
      refine th_aload_n hx hb dX0_grain_67 rfl (lv_at hL.1 0 rfl) ?_
      obtain ⟨ho, hw⟩ := hw
      refine fg_X0_22 CF hK hR ho dX0_grain_68 ?_
      obtain ⟨ho, hw⟩ := hw
      refine fg_X0_430 CF hK hR ho dX0_grain_71 ?_
      exact th_iret hx hb hret hlk hR hS hw (by omega) (by omega) dX0_grain_74
    replace hw := hw.2.2.2.2.2.2 g0 g1 g2 g3 g4 g5
    have w0 := th_sw g0 (k := 0) (by decide)
    have w1 := th_sw g1 (k := 1) (by decide)
    have w2 := th_sw g2 (k := 2) (by decide)
    have w3 := th_sw g3 (k := 3) (by decide)
    have w4 := th_sw g4 (k := 4) (by decide)
    have w5 := th_sw g5 (k := 5) (by decide)
    refine lv_tableOut hx hb dX0_grain_1 (tgt := 75) (by omega) (by decide) ?_
    refine lv_bipush hx hb dX0_grain_75 (v := (-2)) rfl ?_
    exact th_iret hx hb hret hlk hR hS hw (by omega) (by omega) dX0_grain_77)
def tw_X0_grainAgain (Q : Int32 → aH → Prop) (G : aH) (a0 : Nat) : Prop :=
  th_o G a0 0 ∧ (
  (tw_X0_inAllBays
    (fun (r2 : Int32) (G1 : aH) =>
      th_o G1 a0 0 ∧ (
      (tw_X0_onFloors
        (fun (r4 : Int32) (G3 : aH) =>
          th_o G3 a0 0 ∧ (
          (tw_X0_overBins
            (fun (r6 : Int32) (G5 : aH) =>
              th_o G5 a0 0 ∧ (
              (tw_X0_overBins
                (fun (r8 : Int32) (G7 : aH) =>
                  th_o G7 a0 0 ∧ (
                  th_o G7 (a_mr G7 a0 0) 1 ∧ (
                  Q ((((r2 + r4) + r6) + r8) + (a_mi G7 (a_mr G7 a0 0) 9)) G7)))
                G5 a0 3)))
            G3 a0 0)))
        G1 a0)))
    G a0))
theorem tk_X0_grainAgain {l : Launch} {D : tD} {B : Nat} {Q : Int32 → aH → Prop} {a0 : Nat} : Met l yX0_grainAgain (ws_ yX0_grainAgain cX0_grainAgain 1 ((Option.some Jvm.ClassFile.FieldType.int))) rm_X0_grainAgain (th_P D B [rv a0] (fun G => tw_X0_grainAgain Q G a0)) (th_Qi D B Q) 5 10 (th_A B) :=
  th_ofW (by decide +kernel) (th_cr th_cn) (Nat.le_of_ble_eq_true rfl) (fun p e s m args below meth c CF hret hlk hnm hK hSt G ls hR hS hw hL => by
    have E : th_E p m c cX0_grainAgain 1 s args RX0 meth ((Option.some Jvm.ClassFile.FieldType.int)) "grainAgain" D B := ⟨CF, hret, hlk, hnm, hK, hSt⟩
    have hx := CF.1; have hb := CF.2.1
    have hL : th_L ls 1 [(0, rv a0)] := hL
    unfold tw_X0_grainAgain at hw
    refine th_aload_n hx hb dX0_grainAgain_0 rfl (lv_at hL.1 0 rfl) ?_
    obtain ⟨ho, hw⟩ := hw
    refine th_ki hS (th_rV CF hK hSt hR hS ho (ci := 0) rfl (rest := []) (tk_X0_inAllBays) (cw_X0_463 CF hK (by decide +kernel)) hw rfl hL.1.1 rfl th_cn (Nat.le_of_ble_eq_true rfl) dX0_grainAgain_1 ⟨by show _ ≤ (5 : Nat); omega, by show _ ≤ (10 : Nat); omega⟩) (fun r2 G1 H locs hw hR hS => ?_)
    refine th_aload_n hx hb dX0_grainAgain_4 rfl (lv_at hL.1 0 rfl) ?_
    obtain ⟨ho, hw⟩ := hw
    refine th_ki hS (th_rV CF hK hSt hR hS ho (ci := 0) rfl (rest := [.int r2]) (tk_X0_onFloors) (cw_X0_466 CF hK (by decide +kernel)) hw rfl hL.1.1 rfl (th_ci th_cn) (Nat.le_of_ble_eq_true rfl) dX0_grainAgain_5 ⟨by show _ ≤ (5 : Nat); omega, by show _ ≤ (10 : Nat); omega⟩) (fun r4 G3 H locs hw hR hS => ?_)
    refine lv_iadd hx hb dX0_grainAgain_8 ?_
    refine th_aload_n hx hb dX0_grainAgain_9 rfl (lv_at hL.1 0 rfl) ?_
    refine lv_iconst hx hb dX0_grainAgain_10 (v := 0) rfl ?_
    obtain ⟨ho, hw⟩ := hw
    refine th_ki hS (th_rV CF hK hSt hR hS ho (ci := 0) rfl (rest := [.int (r2 + r4)]) (tk_X0_overBins) (cw_X0_469 CF hK (by decide +kernel)) hw rfl hL.1.1 rfl (th_ci th_cn) (Nat.le_of_ble_eq_true rfl) dX0_grainAgain_11 ⟨by show _ ≤ (5 : Nat); omega, by show _ ≤ (10 : Nat); omega⟩) (fun r6 G5 H locs hw hR hS => ?_)
    refine lv_iadd hx hb dX0_grainAgain_14 ?_
    refine th_aload_n hx hb dX0_grainAgain_15 rfl (lv_at hL.1 0 rfl) ?_
    refine lv_iconst hx hb dX0_grainAgain_16 (v := 3) rfl ?_
    obtain ⟨ho, hw⟩ := hw
    refine th_ki hS (th_rV CF hK hSt hR hS ho (ci := 0) rfl (rest := [.int ((r2 + r4) + r6)]) (tk_X0_overBins) (cw_X0_469 CF hK (by decide +kernel)) hw rfl hL.1.1 rfl (th_ci th_cn) (Nat.le_of_ble_eq_true rfl) dX0_grainAgain_17 ⟨by show _ ≤ (5 : Nat); omega, by show _ ≤ (10 : Nat); omega⟩) (fun r8 G7 H locs hw hR hS => ?_)
    refine lv_iadd hx hb dX0_grainAgain_20 ?_
    refine th_aload_n hx hb dX0_grainAgain_21 rfl (lv_at hL.1 0 rfl) ?_
    obtain ⟨ho, hw⟩ := hw
    refine fg_X0_22 CF hK hR ho dX0_grainAgain_22 ?_
    obtain ⟨ho, hw⟩ := hw
    refine fg_X0_430 CF hK hR ho dX0_grainAgain_25 ?_
    refine lv_iadd hx hb dX0_grainAgain_28 ?_
    exact th_iret hx hb hret hlk hR hS hw (by omega) (by omega) dX0_grainAgain_29)
def tw_X2_tithe (Q : Int32 → aH → Prop) (G : aH) (a0 : Nat) (x1 : Int32) : Prop :=
  th_o G a0 2 ∧ (
  Q ((((a_mi G a0 1) - (a_mi G a0 1) / 10 * 10) + x1) / 10) G)
theorem tk_X2_tithe {l : Launch} {D : tD} {B : Nat} {Q : Int32 → aH → Prop} {a0 : Nat} {x1 : Int32} : Met l yX2_tithe (ws_ yX2_tithe cX2_tithe 2 ((Option.some Jvm.ClassFile.FieldType.int))) rm_X2_tithe (th_P D B [rv a0, .int x1] (fun G => tw_X2_tithe Q G a0 x1)) (th_Qi D B Q) 0 0 (th_A B) :=
  th_ofW (by decide +kernel) (th_cr (th_ci th_cn)) (Nat.le_of_ble_eq_true rfl) (fun p e s m args below meth c CF hret hlk hnm hK hSt G ls hR hS hw hL => by
    have E : th_E p m c cX2_tithe 2 s args RX2 meth ((Option.some Jvm.ClassFile.FieldType.int)) "tithe" D B := ⟨CF, hret, hlk, hnm, hK, hSt⟩
    have hx := CF.1; have hb := CF.2.1
    have hL : th_L ls 2 [(0, rv a0), (1, .int x1)] := hL
    unfold tw_X2_tithe at hw
    refine th_aload_n hx hb dX2_tithe_0 rfl (lv_at hL.1 0 rfl) ?_
    obtain ⟨ho, hw⟩ := hw
    refine fg_X2_22 CF hK hR ho dX2_tithe_1 ?_
    refine lv_bipush hx hb dX2_tithe_4 (v := 10) rfl ?_
    refine lv_irem hx hb dX2_tithe_6 (by decide) ?_
    refine lv_iload_n hx hb dX2_tithe_7 rfl (lv_at hL.1 1 rfl) ?_
    refine lv_iadd hx hb dX2_tithe_8 ?_
    refine lv_bipush hx hb dX2_tithe_9 (v := 10) rfl ?_
    refine lv_idiv hx hb dX2_tithe_11 (by decide) ?_
    exact th_iret hx hb hret hlk hR hS hw (by omega) (by omega) dX2_tithe_12)
def tw_X2_owes_b52 (Q : aH → Prop) (G : aH) (a0 : Nat) (x2 : Int32) : Prop :=
  th_o G a0 2 ∧ (
  th_o G a0 2 ∧ (
  th_ai G (a_mr G a0 5) 0 ((a_mi G a0 6) - 1) ∧ (
  th_ai G (a_mr G a0 5) 0 ((a_mi G a0 6) - 1) ∧ (
  ∀ G4 : aH, G4 = a_si G (a_mr G a0 5) ((a_mi G a0 6) - 1).toNatClampNeg ((a_mi G (a_mr G a0 5) ((a_mi G a0 6) - 1).toNatClampNeg) + x2) → 
  Q G4))))
def tw_X2_owes_b22 (Q : aH → Prop) (G : aH) (a0 : Nat) (x1 : Int32) (x2 : Int32) : Prop :=
  th_o G a0 2 ∧ (
  th_o G a0 2 ∧ (
  th_ai G (a_mr G a0 4) 0 (a_mi G a0 6) ∧ (
  ∀ G1 : aH, G1 = a_si G (a_mr G a0 4) (a_mi G a0 6).toNatClampNeg x1 → 
  th_o G1 a0 2 ∧ (
  th_o G1 a0 2 ∧ (
  th_ai G1 (a_mr G1 a0 5) 0 (a_mi G1 a0 6) ∧ (
  ∀ G2 : aH, G2 = a_si G1 (a_mr G1 a0 5) (a_mi G1 a0 6).toNatClampNeg 0 → 
  th_o G2 a0 2 ∧ (
  th_o G2 a0 2 ∧ (
  ∀ G3 : aH, G3 = a_si G2 a0 6 ((a_mi G2 a0 6) + 1) → 
  tw_X2_owes_b52 Q G3 a0 x2))))))))
def tw_X2_owes (Q : aH → Prop) (G : aH) (a0 : Nat) (x1 : Int32) (x2 : Int32) : Prop :=
  th_o G a0 2 ∧ (
  (a_mi G a0 6 = 0 →
    tw_X2_owes_b22 Q G a0 x1 x2) ∧
  (¬ a_mi G a0 6 = 0 →
    th_o G a0 2 ∧ (
    th_o G a0 2 ∧ (
    th_ai G (a_mr G a0 4) 0 ((a_mi G a0 6) - 1) ∧ (
    (a_mi G (a_mr G a0 4) ((a_mi G a0 6) - 1).toNatClampNeg = x1 →
      tw_X2_owes_b52 Q G a0 x2) ∧
    (¬ a_mi G (a_mr G a0 4) ((a_mi G a0 6) - 1).toNatClampNeg = x1 →
      tw_X2_owes_b22 Q G a0 x1 x2))))))
theorem tk_X2_owes_b52 {p : Program} {l : Launch} {e : Env} {s : State} {m : MethodId} {args : Array Value} {below : List Frame} {meth : Method} {c : Code} {D : tD} {B : Nat} (E : th_E p m c cX2_owes 3 s args RX2 meth ((Option.none : Option Jvm.ClassFile.FieldType)) "owes" D B) {Q : aH → Prop} {G : aH} {H : Heap} {locs : List Loc} {cells slots : Nat} {ls : Array Slot} {a0 : Nat} {x2 : Int32} (hR : th_H D B G H) (hS : va_S (th_A B) s.heap H locs) (hL : th_L ls 3 [(0, rv a0), (2, .int x2)]) (hw : tw_X2_owes_b52 Q G a0 x2) (hc : cells + (0) ≤ 0 ∧ slots + (0) ≤ 0) : W p l e rm_X2_owes s m args below meth c H locs cells slots (MQ below (th_Qv D B Q) args s 0 0 (th_A B)) (F0 m 52 ls []) := by
  have CF := E.1; have hx := CF.1; have hb := CF.2.1; have hret := E.2.1; have hlk := E.2.2.1; have hnm := E.2.2.2.1; have hK := E.2.2.2.2.1; have hSt := E.2.2.2.2.2
  unfold tw_X2_owes_b52 at hw
  refine th_aload_n hx hb dX2_owes_52 rfl (lv_at hL.1 0 rfl) ?_
  obtain ⟨ho, hw⟩ := hw
  refine fg_X2_15 CF hK hR ho dX2_owes_53 ?_
  refine th_aload_n hx hb dX2_owes_56 rfl (lv_at hL.1 0 rfl) ?_
  obtain ⟨ho, hw⟩ := hw
  refine fg_X2_31 CF hK hR ho dX2_owes_57 ?_
  refine lv_iconst hx hb dX2_owes_60 (v := 1) rfl ?_
  refine lv_isub hx hb dX2_owes_61 ?_
  refine lv_dup2_11 hx hb dX2_owes_62 rfl (rv_cat _) ?_
  obtain ⟨ha, hw⟩ := hw
  refine th_iald hx hb hK hR ha dX2_owes_63 ?_
  refine lv_iload_n hx hb dX2_owes_64 rfl (lv_at hL.1 1 rfl) ?_
  refine lv_iadd hx hb dX2_owes_65 ?_
  obtain ⟨ha, hw⟩ := hw
  refine th_iast hx hb hK hR hS ha dX2_owes_66 (fun G4 H locs hG hR hS => ?_)
  replace hw := hw G4 hG
  exact th_vret hx hb hret hlk hR hS hw (by omega) (by omega) dX2_owes_67
theorem tk_X2_owes_b22 {p : Program} {l : Launch} {e : Env} {s : State} {m : MethodId} {args : Array Value} {below : List Frame} {meth : Method} {c : Code} {D : tD} {B : Nat} (E : th_E p m c cX2_owes 3 s args RX2 meth ((Option.none : Option Jvm.ClassFile.FieldType)) "owes" D B) {Q : aH → Prop} {G : aH} {H : Heap} {locs : List Loc} {cells slots : Nat} {ls : Array Slot} {a0 : Nat} {x1 : Int32} {x2 : Int32} (hR : th_H D B G H) (hS : va_S (th_A B) s.heap H locs) (hL : th_L ls 3 [(0, rv a0), (1, .int x1), (2, .int x2)]) (hw : tw_X2_owes_b22 Q G a0 x1 x2) (hc : cells + (0) ≤ 0 ∧ slots + (0) ≤ 0) : W p l e rm_X2_owes s m args below meth c H locs cells slots (MQ below (th_Qv D B Q) args s 0 0 (th_A B)) (F0 m 22 ls []) := by
  have CF := E.1; have hx := CF.1; have hb := CF.2.1; have hret := E.2.1; have hlk := E.2.2.1; have hnm := E.2.2.2.1; have hK := E.2.2.2.2.1; have hSt := E.2.2.2.2.2
  unfold tw_X2_owes_b22 at hw
  refine th_aload_n hx hb dX2_owes_22 rfl (lv_at hL.1 0 rfl) ?_
  obtain ⟨ho, hw⟩ := hw
  refine fg_X2_9 CF hK hR ho dX2_owes_23 ?_
  refine th_aload_n hx hb dX2_owes_26 rfl (lv_at hL.1 0 rfl) ?_
  obtain ⟨ho, hw⟩ := hw
  refine fg_X2_31 CF hK hR ho dX2_owes_27 ?_
  refine lv_iload_n hx hb dX2_owes_30 rfl (lv_at hL.1 1 rfl) ?_
  obtain ⟨ha, hw⟩ := hw
  refine th_iast hx hb hK hR hS ha dX2_owes_31 (fun G1 H locs hG hR hS => ?_)
  replace hw := hw G1 hG
  refine th_aload_n hx hb dX2_owes_32 rfl (lv_at hL.1 0 rfl) ?_
  obtain ⟨ho, hw⟩ := hw
  refine fg_X2_15 CF hK hR ho dX2_owes_33 ?_
  refine th_aload_n hx hb dX2_owes_36 rfl (lv_at hL.1 0 rfl) ?_
  obtain ⟨ho, hw⟩ := hw
  refine fg_X2_31 CF hK hR ho dX2_owes_37 ?_
  refine lv_iconst hx hb dX2_owes_40 (v := 0) rfl ?_
  obtain ⟨ha, hw⟩ := hw
  refine th_iast hx hb hK hR hS ha dX2_owes_41 (fun G2 H locs hG hR hS => ?_)
  replace hw := hw G2 hG
  refine th_aload_n hx hb dX2_owes_42 rfl (lv_at hL.1 0 rfl) ?_
  refine lv_dup hx hb dX2_owes_43 (rv_cat _) ?_
  obtain ⟨ho, hw⟩ := hw
  refine fg_X2_31 CF hK hR ho dX2_owes_44 ?_
  refine lv_iconst hx hb dX2_owes_47 (v := 1) rfl ?_
  refine lv_iadd hx hb dX2_owes_48 ?_
  obtain ⟨ho, hw⟩ := hw
  refine fp_X2_31 CF hK hR hS ho dX2_owes_49 (fun G3 H locs hG hR hS => ?_)
  replace hw := hw G3 hG
  exact tk_X2_owes_b52 E hR hS (hL.sub [0, 2] rfl) hw ⟨by omega, by omega⟩
theorem tk_X2_owes {l : Launch} {D : tD} {B : Nat} {Q : aH → Prop} {a0 : Nat} {x1 : Int32} {x2 : Int32} : Met l yX2_owes (ws_ yX2_owes cX2_owes 3 ((Option.none : Option Jvm.ClassFile.FieldType))) rm_X2_owes (th_P D B [rv a0, .int x1, .int x2] (fun G => tw_X2_owes Q G a0 x1 x2)) (th_Qv D B Q) 0 0 (th_A B) :=
  th_ofW (by decide +kernel) (th_cr (th_ci (th_ci th_cn))) (Nat.le_of_ble_eq_true rfl) (fun p e s m args below meth c CF hret hlk hnm hK hSt G ls hR hS hw hL => by
    have E : th_E p m c cX2_owes 3 s args RX2 meth ((Option.none : Option Jvm.ClassFile.FieldType)) "owes" D B := ⟨CF, hret, hlk, hnm, hK, hSt⟩
    have hx := CF.1; have hb := CF.2.1
    have hL : th_L ls 3 [(0, rv a0), (1, .int x1), (2, .int x2)] := hL
    unfold tw_X2_owes at hw
    refine th_aload_n hx hb dX2_owes_0 rfl (lv_at hL.1 0 rfl) ?_
    obtain ⟨ho, hw⟩ := hw
    refine fg_X2_31 CF hK hR ho dX2_owes_1 ?_
    refine lv_if_eq hx hb dX2_owes_4 (tgt := 22) (by decide) (fun h => ?_) (fun h => ?_)
    · replace hw := hw.1 h
      exact tk_X2_owes_b22 E hR hS (hL.sub [0, 1, 2] rfl) hw ⟨by omega, by omega⟩
    · replace hw := hw.2 h
      refine th_aload_n hx hb dX2_owes_7 rfl (lv_at hL.1 0 rfl) ?_
      obtain ⟨ho, hw⟩ := hw
      refine fg_X2_9 CF hK hR ho dX2_owes_8 ?_
      refine th_aload_n hx hb dX2_owes_11 rfl (lv_at hL.1 0 rfl) ?_
      obtain ⟨ho, hw⟩ := hw
      refine fg_X2_31 CF hK hR ho dX2_owes_12 ?_
      refine lv_iconst hx hb dX2_owes_15 (v := 1) rfl ?_
      refine lv_isub hx hb dX2_owes_16 ?_
      obtain ⟨ha, hw⟩ := hw
      refine th_iald hx hb hK hR ha dX2_owes_17 ?_
      refine lv_iload_n hx hb dX2_owes_18 rfl (lv_at hL.1 1 rfl) ?_
      refine lv_icmp_eq hx hb dX2_owes_19 (tgt := 52) (by decide) (fun h => ?_) (fun h => ?_)
      · replace hw := hw.1 h
        exact tk_X2_owes_b52 E hR hS (hL.sub [0, 2] rfl) hw ⟨by omega, by omega⟩
      · replace hw := hw.2 h
        exact tk_X2_owes_b22 E hR hS (hL.sub [0, 1, 2] rfl) hw ⟨by omega, by omega⟩)
def tw_X0_doHarvest (Q : Int32 → aH → Prop) (X : Nat → aH → Prop) (G : aH) (a0 : Nat) (x1 : Int32) (x2 : Int32) : Prop :=
  th_o G a0 0 ∧ (
  (tw_X0_isParish
    (fun (r2 : Int32) (G1 : aH) =>
      (tw_X0_want
        (fun (G3 : aH) =>
          (tw_X0_within
            (fun (r5 : Int32) (G4 : aH) =>
              (tw_X0_want
                (fun (G6 : aH) =>
                  th_o G6 a0 0 ∧ (
                  th_o G6 (a_mr G6 a0 0) 1 ∧ (
                  th_ai G6 (a_mr G6 (a_mr G6 a0 0) 0) 4 x1 ∧ (
                  ∀ a3_7 : Nat, a3_7 = a_mr G6 (a_mr G6 (a_mr G6 a0 0) 0) x1.toNatClampNeg → 
                  th_o G6 a3_7 2 ∧ (
                  (tw_X2_tithe
                    (fun (r9 : Int32) (G8 : aH) =>
                      th_o G8 a3_7 2 ∧ (
                      th_o G8 a3_7 2 ∧ (
                      ∀ G10 : aH, G10 = a_si G8 a3_7 1 ((a_mi G8 a3_7 1) + x2) → 
                      (r9 ≤ 0 →
                        Q r9 G10) ∧
                      (¬ r9 ≤ 0 →
                        th_o G10 a0 0 ∧ (
                        th_o G10 (a_mr G10 a0 0) 1 ∧ (
                        th_o G10 a3_7 2 ∧ (
                        (tw_X2_owes
                          (fun (G11 : aH) =>
                            Q r9 G11)
                          G10 a3_7 (a_mi G10 (a_mr G10 a0 0) 7) r9))))))))
                    G6 a3_7 x2))))))
                X
                G4 r5 (-2)))
            G3 x2 1 999))
        X
        G1 r2 (-1)))
    G a0 x1))
theorem tk_X0_doHarvest {l : Launch} {D : tD} {B : Nat} {Q : Int32 → aH → Prop} {X : Nat → aH → Prop} {a0 : Nat} {x1 : Int32} {x2 : Int32} : vz_Met l yX0_doHarvest (ws_ yX0_doHarvest cX0_doHarvest 5 ((Option.some Jvm.ClassFile.FieldType.int))) rm_X0_doHarvest (th_P D B [rv a0, .int x1, .int x2] (fun G => tw_X0_doHarvest Q X G a0 x1 x2)) (th_Qi D B Q) (th_X D B X) 2 14 (th_A B) :=
  th_ofX (by decide +kernel) (th_cr (th_ci (th_ci th_cn))) (Nat.le_of_ble_eq_true rfl) (fun p e s m args below meth c CF hret hlk hnm htab0 hK hSt G ls hR hS hw hL => by
    have E : th_E p m c cX0_doHarvest 5 s args RX0 meth ((Option.some Jvm.ClassFile.FieldType.int)) "doHarvest" D B := ⟨CF, hret, hlk, hnm, hK, hSt⟩
    have htab : c.exceptionTable.toList = tableOf [] := th_notab htab0
    have hx := CF.1; have hb := CF.2.1
    have hL : th_L ls 5 [(0, rv a0), (1, .int x1), (2, .int x2)] := hL
    unfold tw_X0_doHarvest at hw
    refine th_aload_n hx hb dX0_doHarvest_0 rfl (lv_at hL.1 0 rfl) ?_
    refine lv_iload_n hx hb dX0_doHarvest_1 rfl (lv_at hL.1 1 rfl) ?_
    obtain ⟨ho, hw⟩ := hw
    refine th_ki hS (th_rV CF hK hSt hR hS ho (ci := 0) rfl (rest := []) (tk_X0_isParish) (cw_X0_124 CF hK (by decide +kernel)) hw rfl hL.1.1 rfl th_cn (Nat.le_of_ble_eq_true rfl) dX0_doHarvest_2 ⟨by show _ ≤ (2 : Nat); omega, by show _ ≤ (14 : Nat); omega⟩) (fun r2 G1 H locs hw hR hS => ?_)
    refine lv_iconst hx hb dX0_doHarvest_5 (v := (-1)) rfl ?_
    refine th_Xkv hS (th_XrS CF hK hSt hR hS (rest := []) (tk_X0_want) (cw_X0_93 CF hK (by decide +kernel)) hw rfl hL.1.1 rfl th_cn (Nat.le_of_ble_eq_true rfl) dX0_doHarvest_6 ⟨by show _ ≤ (2 : Nat); omega, by show _ ≤ (14 : Nat); omega⟩) (fun e9 G9 H locs hw ho hR hS => ?_) (fun G3 H locs hw hR hS => ?_)
    · exact th_out hK hlk (by rw [htab]; decide) hR hS hw ho (by omega) (by omega)
    · skip
      refine lv_iload_n hx hb dX0_doHarvest_9 rfl (lv_at hL.1 2 rfl) ?_
      refine lv_iconst hx hb dX0_doHarvest_10 (v := 1) rfl ?_
      refine lv_sipush hx hb dX0_doHarvest_11 (v := 999) rfl ?_
      refine th_ki hS (th_rS CF hK hSt hR hS (rest := []) (tk_X0_within) (cw_X0_82 CF hK (by decide +kernel)) hw rfl hL.1.1 rfl th_cn (Nat.le_of_ble_eq_true rfl) dX0_doHarvest_14 ⟨by show _ ≤ (2 : Nat); omega, by show _ ≤ (14 : Nat); omega⟩) (fun r5 G4 H locs hw hR hS => ?_)
      refine lv_bipush hx hb dX0_doHarvest_17 (v := (-2)) rfl ?_
      refine th_Xkv hS (th_XrS CF hK hSt hR hS (rest := []) (tk_X0_want) (cw_X0_93 CF hK (by decide +kernel)) hw rfl hL.1.1 rfl th_cn (Nat.le_of_ble_eq_true rfl) dX0_doHarvest_19 ⟨by show _ ≤ (2 : Nat); omega, by show _ ≤ (14 : Nat); omega⟩) (fun e9 G9 H locs hw ho hR hS => ?_) (fun G6 H locs hw hR hS => ?_)
      · exact th_out hK hlk (by rw [htab]; decide) hR hS hw ho (by omega) (by omega)
      · skip
        refine th_aload_n hx hb dX0_doHarvest_22 rfl (lv_at hL.1 0 rfl) ?_
        obtain ⟨ho, hw⟩ := hw
        refine fg_X0_22 CF hK hR ho dX0_doHarvest_23 ?_
        obtain ⟨ho, hw⟩ := hw
        refine fg_X0_101 CF hK hR ho dX0_doHarvest_26 ?_
        refine lv_iload_n hx hb dX0_doHarvest_29 rfl (lv_at hL.1 1 rfl) ?_
        obtain ⟨ha, hw⟩ := hw
        refine th_aald hx hb hK 4 (by decide) rfl rfl hR ha dX0_doHarvest_30 ?_
        obtain ⟨a3_7, ha3_7⟩ : ∃ y : Nat, y = a_mr G6 (a_mr G6 (a_mr G6 a0 0) 0) x1.toNatClampNeg := ⟨_, rfl⟩
        replace hw := hw a3_7 ha3_7
        refine th_nmr ha3_7 ?_
        refine th_astore_n hx hb dX0_doHarvest_31 rfl hL (by decide) rfl (fun ls hL => ?_)
        refine th_aload_n hx hb dX0_doHarvest_32 rfl (lv_at hL.1 0 rfl) ?_
        refine lv_iload_n hx hb dX0_doHarvest_33 rfl (lv_at hL.1 3 rfl) ?_
        obtain ⟨ho, hw⟩ := hw
        refine th_ki hS (th_rV CF hK hSt hR hS ho (ci := 2) rfl (rest := []) (tk_X2_tithe) (cw_X0_127 CF hK (by decide +kernel)) hw rfl hL.1.1 rfl th_cn (Nat.le_of_ble_eq_true rfl) dX0_doHarvest_34 ⟨by show _ ≤ (2 : Nat); omega, by show _ ≤ (14 : Nat); omega⟩) (fun r9 G8 H locs hw hR hS => ?_)
        refine th_istore hx hb dX0_doHarvest_37 hL (by decide) rfl (fun ls hL => ?_)
        refine th_aload_n hx hb dX0_doHarvest_39 rfl (lv_at hL.1 1 rfl) ?_
        refine lv_dup hx hb dX0_doHarvest_40 (rv_cat _) ?_
        obtain ⟨ho, hw⟩ := hw
        refine fg_X0_130 CF hK hR ho dX0_doHarvest_41 ?_
        refine lv_iload_n hx hb dX0_doHarvest_44 rfl (lv_at hL.1 4 rfl) ?_
        refine lv_iadd hx hb dX0_doHarvest_45 ?_
        obtain ⟨ho, hw⟩ := hw
        refine fp_X0_130 CF hK hR hS ho dX0_doHarvest_46 (fun G10 H locs hG hR hS => ?_)
        replace hw := hw G10 hG
        refine lv_iload hx hb dX0_doHarvest_49 (lv_at hL.1 0 rfl) ?_
        refine lv_if_le hx hb dX0_doHarvest_51 (tgt := 67) (by decide) (fun h => ?_) (fun h => ?_)
        · replace hw := hw.1 h
          refine lv_iload hx hb dX0_doHarvest_67 (lv_at hL.1 0 rfl) ?_
          exact vz_ret (th_iret hx hb hret hlk hR hS hw (by omega) (by omega) dX0_doHarvest_69)
        · replace hw := hw.2 h
          refine th_aload_n hx hb dX0_doHarvest_54 rfl (lv_at hL.1 1 rfl) ?_
          refine th_aload_n hx hb dX0_doHarvest_55 rfl (lv_at hL.1 2 rfl) ?_
          obtain ⟨ho, hw⟩ := hw
          refine fg_X0_22 CF hK hR ho dX0_doHarvest_56 ?_
          obtain ⟨ho, hw⟩ := hw
          refine fg_X0_133 CF hK hR ho dX0_doHarvest_59 ?_
          refine lv_iload hx hb dX0_doHarvest_62 (lv_at hL.1 0 rfl) ?_
          obtain ⟨ho, hw⟩ := hw
          refine th_kv hS (th_rV CF hK hSt hR hS ho (ci := 2) rfl (rest := []) (tk_X2_owes) (cw_X0_136 CF hK (by decide +kernel)) hw rfl hL.1.1 rfl th_cn (Nat.le_of_ble_eq_true rfl) dX0_doHarvest_64 ⟨by show _ ≤ (2 : Nat); omega, by show _ ≤ (14 : Nat); omega⟩) (fun G11 H locs hw hR hS => ?_)
          refine lv_iload hx hb dX0_doHarvest_67 (lv_at hL.1 0 rfl) ?_
          exact vz_ret (th_iret hx hb hret hlk hR hS hw (by omega) (by omega) dX0_doHarvest_69))
def tw_X0_harvest (Q : Int32 → aH → Prop) (G : aH) (a0 : Nat) (x1 : Int32) (x2 : Int32) : Prop :=
  th_o G a0 0 ∧ (
  (tw_X0_begins
    (fun (G1 : aH) =>
      th_o G1 a0 0 ∧ (
      (tw_X0_doHarvest
        (fun (r3 : Int32) (G2 : aH) =>
          th_o G2 a0 0 ∧ (
          (tw_X0_changed
            (fun (r5 : Int32) (G4 : aH) =>
              Q r5 G4)
            G2 a0 r3)))
        (fun (e6 : Nat) (G7 : aH) =>
          (th_o G7 e6 9 ∧ (
            th_o G7 a0 0 ∧ (
            (tw_X0_notDone
              (fun (r9 : Int32) (G8 : aH) =>
                Q r9 G8)
              G7 a0 e6)))))
        G1 a0 x1 x2)))
    G a0))
theorem tk_X0_harvest {l : Launch} {D : tD} {B : Nat} {Q : Int32 → aH → Prop} {a0 : Nat} {x1 : Int32} {x2 : Int32} : vz_Met l yX0_harvest (wsW_ yX0_harvest cX0_harvest 4 ((Option.some Jvm.ClassFile.FieldType.int)) [((4 : Nat), (14 : Nat), (15 : Nat), (3 : Nat))]) rm_X0_harvest (th_P D B [rv a0, .int x1, .int x2] (fun G => tw_X0_harvest Q G a0 x1 x2)) (th_Qi D B Q) (th_X D B (fun _ _ => False)) 2 14 (th_A B) :=
  th_ofXH (by decide +kernel) (th_cr (th_ci (th_ci th_cn))) (Nat.le_of_ble_eq_true rfl) (fun p e s m args below meth c CF hret hlk hnm htab0 hK hSt G ls hR hS hw hL => by
    have E : th_E p m c cX0_harvest 4 s args RX0 meth ((Option.some Jvm.ClassFile.FieldType.int)) "harvest" D B := ⟨CF, hret, hlk, hnm, hK, hSt⟩
    have htab : c.exceptionTable.toList = tableOf [((4 : Nat), (14 : Nat), (15 : Nat), (3 : Nat))] := htab0
    have hx := CF.1; have hb := CF.2.1
    have hL : th_L ls 4 [(0, rv a0), (1, .int x1), (2, .int x2)] := hL
    unfold tw_X0_harvest at hw
    refine th_aload_n hx hb dX0_harvest_0 rfl (lv_at hL.1 0 rfl) ?_
    obtain ⟨ho, hw⟩ := hw
    refine th_kv hS (th_rV CF hK hSt hR hS ho (ci := 0) rfl (rest := []) (tk_X0_begins) (cw_X0_110 CF hK (by decide +kernel)) hw rfl hL.1.1 rfl th_cn (Nat.le_of_ble_eq_true rfl) dX0_harvest_1 ⟨by show _ ≤ (2 : Nat); omega, by show _ ≤ (14 : Nat); omega⟩) (fun G1 H locs hw hR hS => ?_)
    refine th_aload_n hx hb dX0_harvest_4 rfl (lv_at hL.1 0 rfl) ?_
    refine th_aload_n hx hb dX0_harvest_5 rfl (lv_at hL.1 0 rfl) ?_
    refine lv_iload_n hx hb dX0_harvest_6 rfl (lv_at hL.1 1 rfl) ?_
    refine lv_iload_n hx hb dX0_harvest_7 rfl (lv_at hL.1 2 rfl) ?_
    obtain ⟨ho, hw⟩ := hw
    refine th_Xki hS (th_XrV CF hK hSt hR hS ho (ci := 0) rfl (rest := [rv a0]) (tk_X0_doHarvest) (cw_X0_139 CF hK (by decide +kernel)) hw rfl hL.1.1 rfl (th_cr th_cn) (Nat.le_of_ble_eq_true rfl) dX0_harvest_8 ⟨by show _ ≤ (2 : Nat); omega, by show _ ≤ (14 : Nat); omega⟩) (fun e6 G7 H locs hw ho hR hS => ?_) (fun r3 G2 H locs hw hR hS => ?_)
    · obtain ⟨hk, hw⟩ := hw
      refine th_catch (ci := 9) (nm := "TitheBarn$Wrong") CF.2.2.2.1 hK hR hk rfl htab [] (⟨4, 14, 15, 3⟩ : ExceptionTableEntry) [] rfl (by intro z hz; cases hz) rfl (by decide) (CF.2.2.2.2 _ q466) q517 ?_
      refine th_astore_n hx hb dX0_harvest_15 rfl hL (by decide) rfl (fun ls hL => ?_)
      refine th_aload_n hx hb dX0_harvest_16 rfl (lv_at hL.1 1 rfl) ?_
      refine th_aload_n hx hb dX0_harvest_17 rfl (lv_at hL.1 0 rfl) ?_
      obtain ⟨ho, hw⟩ := hw
      refine th_ki hS (th_rV CF hK hSt hR hS ho (ci := 0) rfl (rest := []) (tk_X0_notDone) (cw_X0_120 CF hK (by decide +kernel)) hw rfl hL.1.1 rfl th_cn (Nat.le_of_ble_eq_true rfl) dX0_harvest_18 ⟨by show _ ≤ (2 : Nat); omega, by show _ ≤ (14 : Nat); omega⟩) (fun r9 G8 H locs hw hR hS => ?_)
      exact vz_ret (th_iret hx hb hret hlk hR hS hw (by omega) (by omega) dX0_harvest_21)
    · skip
      obtain ⟨ho, hw⟩ := hw
      refine th_ki hS (th_rV CF hK hSt hR hS ho (ci := 0) rfl (rest := []) (tk_X0_changed) (cw_X0_117 CF hK (by decide +kernel)) hw rfl hL.1.1 rfl th_cn (Nat.le_of_ble_eq_true rfl) dX0_harvest_11 ⟨by show _ ≤ (2 : Nat); omega, by show _ ≤ (14 : Nat); omega⟩) (fun r5 G4 H locs hw hR hS => ?_)
      exact vz_ret (th_iret hx hb hret hlk hR hS hw (by omega) (by omega) dX0_harvest_14))
def tw_X2_init (Q : aH → Prop) (G : aH) (a0 : Nat) : Prop :=
  (a_sh G a0).1 ≠ 0 ∧ (
  ∀ z1 : Nat, z1 = a_sz G → ∀ G2 : aH, G2 = a_nw G (100 + 0) 8 → 
  th_o G2 a0 2 ∧ (
  ∀ G3 : aH, G3 = a_sr G2 a0 4 z1 → 
  ∀ z4 : Nat, z4 = a_sz G3 → ∀ G5 : aH, G5 = a_nw G3 (100 + 0) 8 → 
  th_o G5 a0 2 ∧ (
  ∀ G6 : aH, G6 = a_sr G5 a0 5 z4 → 
  Q G6)))
theorem tk_X2_init {l : Launch} {D : tD} {B : Nat} {Q : aH → Prop} {a0 : Nat} : Met l yX2_init (ws_ yX2_init cX2_init 1 ((Option.none : Option Jvm.ClassFile.FieldType))) rm_X2_init (th_P D B [rv a0] (fun G => tw_X2_init Q G a0)) (th_Qv D B Q) 2 16 (th_A B) :=
  th_ofW (by decide +kernel) (th_cr th_cn) (Nat.le_of_ble_eq_true rfl) (fun p e s m args below meth c CF hret hlk hnm hK hSt G ls hR hS hw hL => by
    have E : th_E p m c cX2_init 1 s args RX2 meth ((Option.none : Option Jvm.ClassFile.FieldType)) "<init>" D B := ⟨CF, hret, hlk, hnm, hK, hSt⟩
    have hx := CF.1; have hb := CF.2.1
    have hL : th_L ls 1 [(0, rv a0)] := hL
    unfold tw_X2_init at hw
    refine th_aload_n hx hb dX2_init_0 rfl (lv_at hL.1 0 rfl) ?_
    obtain ⟨h0, hw⟩ := hw
    refine th_objInit hx hb CF.2.2.2.1 (CF.2.2.2.2 _ q170) (CF.2.2.2.2 _ q148) (CF.2.2.2.2 _ q149) (hL.1.1.trans CF.2.2.1.symm) hR h0 th_cn (Nat.le_of_ble_eq_true rfl) (by decide) (by decide) dX2_init_1 ?_
    refine th_aload_n hx hb dX2_init_4 rfl (lv_at hL.1 0 rfl) ?_
    refine lv_bipush hx hb dX2_init_5 (v := 8) rfl ?_
    refine th_newa hx hb 0 (atype := .int) (CF.2.2.2.2 _ q200) rfl (by decide) (n := 8) 8 (by decide) rfl (by decide +kernel) hK hR hS (by show _ ≤ (2 : Nat); omega) (by show _ ≤ (16 : Nat); omega) dX2_init_7 (fun z1 G2 H hz hG hR hS => ?_)
    replace hw := hw z1 hz G2 hG
    obtain ⟨ho, hw⟩ := hw
    refine fp_X2_9 CF hK hR hS hnm ho dX2_init_9 (fun G3 H locs hG hR hS => ?_)
    replace hw := hw G3 hG
    refine th_aload_n hx hb dX2_init_12 rfl (lv_at hL.1 0 rfl) ?_
    refine lv_bipush hx hb dX2_init_13 (v := 8) rfl ?_
    refine th_newa hx hb 0 (atype := .int) (CF.2.2.2.2 _ q200) rfl (by decide) (n := 8) 8 (by decide) rfl (by decide +kernel) hK hR hS (by show _ ≤ (2 : Nat); omega) (by show _ ≤ (16 : Nat); omega) dX2_init_15 (fun z4 G5 H hz hG hR hS => ?_)
    replace hw := hw z4 hz G5 hG
    obtain ⟨ho, hw⟩ := hw
    refine fp_X2_15 CF hK hR hS hnm ho dX2_init_17 (fun G6 H locs hG hR hS => ?_)
    replace hw := hw G6 hG
    exact th_vret hx hb hret hlk hR hS hw (by omega) (by omega) dX2_init_20)
def tw_X4_init_2 (Q : aH → Prop) (G : aH) (a0 : Nat) (x1 : Int32) (x2 : Int32) : Prop :=
  (a_sh G a0).1 ≠ 0 ∧ (
  th_o G a0 4 ∧ (
  ∀ G1 : aH, G1 = a_si G a0 0 x1 → 
  th_o G1 a0 4 ∧ (
  ∀ G2 : aH, G2 = a_si G1 a0 1 x2 → 
  Q G2)))
theorem tk_X4_init_2 {l : Launch} {D : tD} {B : Nat} {Q : aH → Prop} {a0 : Nat} {x1 : Int32} {x2 : Int32} : Met l yX4_init_2 (ws_ yX4_init_2 cX4_init_2 3 ((Option.none : Option Jvm.ClassFile.FieldType))) rm_X4_init_2 (th_P D B [rv a0, .int x1, .int x2] (fun G => tw_X4_init_2 Q G a0 x1 x2)) (th_Qv D B Q) 0 0 (th_A B) :=
  th_ofW (by decide +kernel) (th_cr (th_ci (th_ci th_cn))) (Nat.le_of_ble_eq_true rfl) (fun p e s m args below meth c CF hret hlk hnm hK hSt G ls hR hS hw hL => by
    have E : th_E p m c cX4_init_2 3 s args RX4 meth ((Option.none : Option Jvm.ClassFile.FieldType)) "<init>" D B := ⟨CF, hret, hlk, hnm, hK, hSt⟩
    have hx := CF.1; have hb := CF.2.1
    have hL : th_L ls 3 [(0, rv a0), (1, .int x1), (2, .int x2)] := hL
    unfold tw_X4_init_2 at hw
    refine th_aload_n hx hb dX4_init_2_0 rfl (lv_at hL.1 0 rfl) ?_
    obtain ⟨h0, hw⟩ := hw
    refine th_objInit hx hb CF.2.2.2.1 (CF.2.2.2.2 _ q215) (CF.2.2.2.2 _ q148) (CF.2.2.2.2 _ q149) (hL.1.1.trans CF.2.2.1.symm) hR h0 th_cn (Nat.le_of_ble_eq_true rfl) (by decide) (by decide) dX4_init_2_1 ?_
    refine th_aload_n hx hb dX4_init_2_4 rfl (lv_at hL.1 0 rfl) ?_
    refine lv_iload_n hx hb dX4_init_2_5 rfl (lv_at hL.1 1 rfl) ?_
    obtain ⟨ho, hw⟩ := hw
    refine fp_X4_14 CF hK hR hS ho dX4_init_2_6 (fun G1 H locs hG hR hS => ?_)
    replace hw := hw G1 hG
    refine th_aload_n hx hb dX4_init_2_9 rfl (lv_at hL.1 0 rfl) ?_
    refine lv_iload_n hx hb dX4_init_2_10 rfl (lv_at hL.1 2 rfl) ?_
    obtain ⟨ho, hw⟩ := hw
    refine fp_X4_18 CF hK hR hS ho dX4_init_2_11 (fun G2 H locs hG hR hS => ?_)
    replace hw := hw G2 hG
    exact th_vret hx hb hret hlk hR hS hw (by omega) (by omega) dX4_init_2_14)
def tw_X4_init (Q : aH → Prop) (G : aH) (a0 : Nat) : Prop :=
  (a_sh G a0).1 ≠ 0 ∧ (
  (tw_X4_init_2
    (fun (G1 : aH) =>
      Q G1)
    G a0 (-1) 0))
theorem tk_X4_init {l : Launch} {D : tD} {B : Nat} {Q : aH → Prop} {a0 : Nat} : Met l yX4_init (ws_ yX4_init cX4_init 1 ((Option.none : Option Jvm.ClassFile.FieldType))) rm_X4_init (th_P D B [rv a0] (fun G => tw_X4_init Q G a0)) (th_Qv D B Q) 0 0 (th_A B) :=
  th_ofW (by decide +kernel) (th_cr th_cn) (Nat.le_of_ble_eq_true rfl) (fun p e s m args below meth c CF hret hlk hnm hK hSt G ls hR hS hw hL => by
    have E : th_E p m c cX4_init 1 s args RX4 meth ((Option.none : Option Jvm.ClassFile.FieldType)) "<init>" D B := ⟨CF, hret, hlk, hnm, hK, hSt⟩
    have hx := CF.1; have hb := CF.2.1
    have hL : th_L ls 1 [(0, rv a0)] := hL
    unfold tw_X4_init at hw
    refine th_aload_n hx hb dX4_init_0 rfl (lv_at hL.1 0 rfl) ?_
    refine lv_iconst hx hb dX4_init_1 (v := (-1)) rfl ?_
    refine lv_iconst hx hb dX4_init_2 (v := 0) rfl ?_
    obtain ⟨h0, hw⟩ := hw
    refine th_kv hS (th_rI CF hK hSt hR hS h0 (rest := []) (tk_X4_init_2) (cw_X4_3 CF hK (by decide +kernel)) hw rfl hL.1.1 rfl th_cn (Nat.le_of_ble_eq_true rfl) dX4_init_3 ⟨by show _ ≤ (0 : Nat); omega, by show _ ≤ (0 : Nat); omega⟩) (fun G1 H locs hw hR hS => ?_)
    exact th_vret hx hb hret hlk hR hS hw (by omega) (by omega) dX4_init_6)
def tw_X3_init_b15 (Q : aH → Prop) : Nat → aH → Nat → Int32 → Prop := fun n => Nat.rec (motive := fun _ => aH → Nat → Int32 → Prop) (fun _ _ _ => False) (fun _ ih G a0 x1 =>
  (60 ≤ x1 →
    Q G) ∧
  (¬ 60 ≤ x1 →
    th_o G a0 3 ∧ (
    ∀ z4 : Nat, z4 = a_sz G → ∀ G5 : aH, G5 = a_nw G (4 + 1) 0 → 
    (a_sh G5 z4).1 ≠ 0 ∧ (
    (tw_X4_init
      (fun (G6 : aH) =>
        th_ai G6 (a_mr G a0 0) 3 x1 ∧ th_o G6 z4 4 ∧ (
        ∀ G7 : aH, G7 = a_sr G6 (a_mr G a0 0) x1.toNatClampNeg z4 → 
        ∀ x1_8 : Int32, x1_8 = x1 + 1 → 
        ih G7 a0 x1_8))
      G5 z4))))) n
theorem tws_X3_init_b15 (Q : aH → Prop) (n : Nat) (G : aH) (a0 : Nat) (x1 : Int32) : tw_X3_init_b15 Q (n + 1) G a0 x1 = (
  (60 ≤ x1 →
    Q G) ∧
  (¬ 60 ≤ x1 →
    th_o G a0 3 ∧ (
    ∀ z4 : Nat, z4 = a_sz G → ∀ G5 : aH, G5 = a_nw G (4 + 1) 0 → 
    (a_sh G5 z4).1 ≠ 0 ∧ (
    (tw_X4_init
      (fun (G6 : aH) =>
        th_ai G6 (a_mr G a0 0) 3 x1 ∧ th_o G6 z4 4 ∧ (
        ∀ G7 : aH, G7 = a_sr G6 (a_mr G a0 0) x1.toNatClampNeg z4 → 
        ∀ x1_8 : Int32, x1_8 = x1 + 1 → 
        tw_X3_init_b15 Q n G7 a0 x1_8))
      G5 z4))))) := rfl
def tw_X3_init (Q : aH → Prop) (G : aH) (a0 : Nat) : Prop :=
  (a_sh G a0).1 ≠ 0 ∧ (
  ∀ z1 : Nat, z1 = a_sz G → ∀ G2 : aH, G2 = a_nw G (100 + 3) 60 → 
  th_o G2 a0 3 ∧ (
  ∀ G3 : aH, G3 = a_sr G2 a0 0 z1 → 
  tw_X3_init_b15 Q 61 G3 a0 0))
theorem tk_X3_init_b15 {p : Program} {l : Launch} {e : Env} {s : State} {m : MethodId} {args : Array Value} {below : List Frame} {meth : Method} {c : Code} {D : tD} {B : Nat} (E : th_E p m c cX3_init 2 s args RX3 meth ((Option.none : Option Jvm.ClassFile.FieldType)) "<init>" D B) {Q : aH → Prop} : ∀ (n : Nat) {G : aH} {H : Heap} {locs : List Loc} {cells slots : Nat} {ls : Array Slot} {a0 : Nat} {x1 : Int32} (hR : th_H D B G H) (hS : va_S (th_A B) s.heap H locs) (hL : th_L ls 2 [(0, rv a0), (1, .int x1)]) (hw : tw_X3_init_b15 Q n G a0 x1) (hc : cells + (n * 1 + 0) ≤ 62 ∧ slots + (n * 2 + 0) ≤ 182), W p l e rm_X3_init s m args below meth c H locs cells slots (MQ below (th_Qv D B Q) args s 62 182 (th_A B)) (F0 m 15 ls []) := by
  have CF := E.1; have hx := CF.1; have hb := CF.2.1; have hret := E.2.1; have hlk := E.2.2.1; have hnm := E.2.2.2.1; have hK := E.2.2.2.2.1; have hSt := E.2.2.2.2.2
  intro n
  induction n with
  | zero => intro _ _ _ _ _ _ _ _ _ _ _ hw; exact hw.elim
  | succ n ih =>
    intro G H locs cells slots ls a0 x1 hR hS hL hw hc
    rw [tws_X3_init_b15] at hw
    refine lv_iload_n hx hb dX3_init_15 rfl (lv_at hL.1 1 rfl) ?_
    refine lv_bipush hx hb dX3_init_16 (v := 60) rfl ?_
    refine lv_icmp_ge hx hb dX3_init_18 (tgt := 40) (by decide) (fun h => ?_) (fun h => ?_)
    · replace hw := hw.1 h
      exact th_vret hx hb hret hlk hR hS hw (by omega) (by omega) dX3_init_40
    · replace hw := hw.2 h
      refine th_aload_n hx hb dX3_init_21 rfl (lv_at hL.1 0 rfl) ?_
      obtain ⟨ho, hw⟩ := hw
      refine fg_X3_11 CF hK hR ho dX3_init_22 ?_
      refine lv_iload_n hx hb dX3_init_25 rfl (lv_at hL.1 1 rfl) ?_
      refine fn_X3_9 CF hK hR hS (by show _ ≤ (62 : Nat); omega) (by show _ ≤ (182 : Nat); omega) dX3_init_26 (fun z4 G5 H hz hG hR hS => ?_)
      replace hw := hw z4 hz G5 hG
      refine lv_dup hx hb dX3_init_29 (rv_cat _) ?_
      obtain ⟨h0, hw⟩ := hw
      refine th_kv hS (th_rI CF hK hSt hR hS h0 (rest := [rv z4, .int x1, rv (a_mr G a0 0)]) (tk_X4_init) (cw_X3_17 CF hK (by decide +kernel)) hw rfl hL.1.1 rfl (th_cr (th_ci (th_cr th_cn))) (Nat.le_of_ble_eq_true rfl) dX3_init_30 ⟨by show _ ≤ (62 : Nat); omega, by show _ ≤ (182 : Nat); omega⟩) (fun G6 H locs hw hR hS => ?_)
      obtain ⟨ha, ho, hw⟩ := hw
      refine th_aast hx hb hK 3 (by decide) rfl (ci := 4) rfl (Or.inl rfl) hR hS ha ho dX3_init_33 (fun G7 H locs hG hR hS => ?_)
      replace hw := hw G7 hG
      obtain ⟨x1_8, hx1_8⟩ : ∃ y : Int32, y = x1 + 1 := ⟨_, rfl⟩
      replace hw := hw x1_8 hx1_8
      refine th_iinc hx hb dX3_init_34 hL (k := 1) rfl (v := x1_8) hx1_8.symm (by decide) rfl (fun ls hL => ?_)
      refine lv_goto hx hb dX3_init_37 (tgt := 15) (by decide) ?_
      exact ih hR hS (hL.sub [1, 0] rfl) hw ⟨by omega, by omega⟩
theorem tk_X3_init {l : Launch} {D : tD} {B : Nat} {Q : aH → Prop} {a0 : Nat} : Met l yX3_init (ws_ yX3_init cX3_init 2 ((Option.none : Option Jvm.ClassFile.FieldType))) rm_X3_init (th_P D B [rv a0] (fun G => tw_X3_init Q G a0)) (th_Qv D B Q) 62 182 (th_A B) :=
  th_ofW (by decide +kernel) (th_cr th_cn) (Nat.le_of_ble_eq_true rfl) (fun p e s m args below meth c CF hret hlk hnm hK hSt G ls hR hS hw hL => by
    have E : th_E p m c cX3_init 2 s args RX3 meth ((Option.none : Option Jvm.ClassFile.FieldType)) "<init>" D B := ⟨CF, hret, hlk, hnm, hK, hSt⟩
    have hx := CF.1; have hb := CF.2.1
    have hL : th_L ls 2 [(0, rv a0)] := hL
    unfold tw_X3_init at hw
    refine th_aload_n hx hb dX3_init_0 rfl (lv_at hL.1 0 rfl) ?_
    obtain ⟨h0, hw⟩ := hw
    refine th_objInit hx hb CF.2.2.2.1 (CF.2.2.2.2 _ q205) (CF.2.2.2.2 _ q148) (CF.2.2.2.2 _ q149) (hL.1.1.trans CF.2.2.1.symm) hR h0 th_cn (Nat.le_of_ble_eq_true rfl) (by decide) (by decide) dX3_init_1 ?_
    refine th_aload_n hx hb dX3_init_4 rfl (lv_at hL.1 0 rfl) ?_
    refine lv_bipush hx hb dX3_init_5 (v := 60) rfl ?_
    refine th_newq hx hb 3 CF.2.2.2.1 (CF.2.2.2.2 _ q206) q207 rfl (by decide) (n := 60) 60 (by decide) rfl (by decide) hK hR hS (by show _ ≤ (62 : Nat); omega) (by show _ ≤ (182 : Nat); omega) dX3_init_7 (fun z1 G2 H hz hG hR hS => ?_)
    replace hw := hw z1 hz G2 hG
    obtain ⟨ho, hw⟩ := hw
    refine fp_X3_11 CF hK hR hS hnm ho dX3_init_10 (fun G3 H locs hG hR hS => ?_)
    replace hw := hw G3 hG
    refine lv_iconst hx hb dX3_init_13 (v := 0) rfl ?_
    refine th_istore_n hx hb dX3_init_14 rfl hL (by decide) rfl (fun ls hL => ?_)
    exact tk_X3_init_b15 E 61 hR hS (hL.sub [1, 0] rfl) hw ⟨by omega, by omega⟩)
def tw_X5_init (Q : aH → Prop) (G : aH) (a0 : Nat) : Prop :=
  (a_sh G a0).1 ≠ 0 ∧ (
  th_o G a0 5 ∧ (
  ∀ G1 : aH, G1 = a_si G a0 2 2 → 
  Q G1))
theorem tk_X5_init {l : Launch} {D : tD} {B : Nat} {Q : aH → Prop} {a0 : Nat} : Met l yX5_init (ws_ yX5_init cX5_init 1 ((Option.none : Option Jvm.ClassFile.FieldType))) rm_X5_init (th_P D B [rv a0] (fun G => tw_X5_init Q G a0)) (th_Qv D B Q) 0 0 (th_A B) :=
  th_ofW (by decide +kernel) (th_cr th_cn) (Nat.le_of_ble_eq_true rfl) (fun p e s m args below meth c CF hret hlk hnm hK hSt G ls hR hS hw hL => by
    have E : th_E p m c cX5_init 1 s args RX5 meth ((Option.none : Option Jvm.ClassFile.FieldType)) "<init>" D B := ⟨CF, hret, hlk, hnm, hK, hSt⟩
    have hx := CF.1; have hb := CF.2.1
    have hL : th_L ls 1 [(0, rv a0)] := hL
    unfold tw_X5_init at hw
    refine th_aload_n hx hb dX5_init_0 rfl (lv_at hL.1 0 rfl) ?_
    obtain ⟨h0, hw⟩ := hw
    refine th_objInit hx hb CF.2.2.2.1 (CF.2.2.2.2 _ q249) (CF.2.2.2.2 _ q148) (CF.2.2.2.2 _ q149) (hL.1.1.trans CF.2.2.1.symm) hR h0 th_cn (Nat.le_of_ble_eq_true rfl) (by decide) (by decide) dX5_init_1 ?_
    refine th_aload_n hx hb dX5_init_4 rfl (lv_at hL.1 0 rfl) ?_
    refine lv_iconst hx hb dX5_init_5 (v := 2) rfl ?_
    obtain ⟨ho, hw⟩ := hw
    refine fp_X5_7 CF hK hR hS ho dX5_init_6 (fun G1 H locs hG hR hS => ?_)
    replace hw := hw G1 hG
    exact th_vret hx hb hret hlk hR hS hw (by omega) (by omega) dX5_init_9)
def tw_X6_init (Q : aH → Prop) (G : aH) (a0 : Nat) : Prop :=
  (a_sh G a0).1 ≠ 0 ∧ (
  th_o G a0 6 ∧ (
  ∀ G1 : aH, G1 = a_si G a0 1 10 → 
  Q G1))
theorem tk_X6_init {l : Launch} {D : tD} {B : Nat} {Q : aH → Prop} {a0 : Nat} : Met l yX6_init (ws_ yX6_init cX6_init 1 ((Option.none : Option Jvm.ClassFile.FieldType))) rm_X6_init (th_P D B [rv a0] (fun G => tw_X6_init Q G a0)) (th_Qv D B Q) 0 0 (th_A B) :=
  th_ofW (by decide +kernel) (th_cr th_cn) (Nat.le_of_ble_eq_true rfl) (fun p e s m args below meth c CF hret hlk hnm hK hSt G ls hR hS hw hL => by
    have E : th_E p m c cX6_init 1 s args RX6 meth ((Option.none : Option Jvm.ClassFile.FieldType)) "<init>" D B := ⟨CF, hret, hlk, hnm, hK, hSt⟩
    have hx := CF.1; have hb := CF.2.1
    have hL : th_L ls 1 [(0, rv a0)] := hL
    unfold tw_X6_init at hw
    refine th_aload_n hx hb dX6_init_0 rfl (lv_at hL.1 0 rfl) ?_
    obtain ⟨h0, hw⟩ := hw
    refine th_objInit hx hb CF.2.2.2.1 (CF.2.2.2.2 _ q275) (CF.2.2.2.2 _ q148) (CF.2.2.2.2 _ q149) (hL.1.1.trans CF.2.2.1.symm) hR h0 th_cn (Nat.le_of_ble_eq_true rfl) (by decide) (by decide) dX6_init_1 ?_
    refine th_aload_n hx hb dX6_init_4 rfl (lv_at hL.1 0 rfl) ?_
    refine lv_bipush hx hb dX6_init_5 (v := 10) rfl ?_
    obtain ⟨ho, hw⟩ := hw
    refine fp_X6_7 CF hK hR hS ho dX6_init_7 (fun G1 H locs hG hR hS => ?_)
    replace hw := hw G1 hG
    exact th_vret hx hb hret hlk hR hS hw (by omega) (by omega) dX6_init_10)
def tw_X7_init (Q : aH → Prop) (G : aH) (a0 : Nat) : Prop :=
  (a_sh G a0).1 ≠ 0 ∧ (
  th_o G a0 7 ∧ (
  ∀ G1 : aH, G1 = a_si G a0 0 2 → 
  Q G1))
theorem tk_X7_init {l : Launch} {D : tD} {B : Nat} {Q : aH → Prop} {a0 : Nat} : Met l yX7_init (ws_ yX7_init cX7_init 1 ((Option.none : Option Jvm.ClassFile.FieldType))) rm_X7_init (th_P D B [rv a0] (fun G => tw_X7_init Q G a0)) (th_Qv D B Q) 0 0 (th_A B) :=
  th_ofW (by decide +kernel) (th_cr th_cn) (Nat.le_of_ble_eq_true rfl) (fun p e s m args below meth c CF hret hlk hnm hK hSt G ls hR hS hw hL => by
    have E : th_E p m c cX7_init 1 s args RX7 meth ((Option.none : Option Jvm.ClassFile.FieldType)) "<init>" D B := ⟨CF, hret, hlk, hnm, hK, hSt⟩
    have hx := CF.1; have hb := CF.2.1
    have hL : th_L ls 1 [(0, rv a0)] := hL
    unfold tw_X7_init at hw
    refine th_aload_n hx hb dX7_init_0 rfl (lv_at hL.1 0 rfl) ?_
    obtain ⟨h0, hw⟩ := hw
    refine th_objInit hx hb CF.2.2.2.1 (CF.2.2.2.2 _ q303) (CF.2.2.2.2 _ q148) (CF.2.2.2.2 _ q149) (hL.1.1.trans CF.2.2.1.symm) hR h0 th_cn (Nat.le_of_ble_eq_true rfl) (by decide) (by decide) dX7_init_1 ?_
    refine th_aload_n hx hb dX7_init_4 rfl (lv_at hL.1 0 rfl) ?_
    refine lv_iconst hx hb dX7_init_5 (v := 2) rfl ?_
    obtain ⟨ho, hw⟩ := hw
    refine fp_X7_9 CF hK hR hS ho dX7_init_6 (fun G1 H locs hG hR hS => ?_)
    replace hw := hw G1 hG
    exact th_vret hx hb hret hlk hR hS hw (by omega) (by omega) dX7_init_9)
def tw_X1_init_b158 (Q : aH → Prop) : Nat → aH → Nat → Int32 → Prop := fun n => Nat.rec (motive := fun _ => aH → Nat → Int32 → Prop) (fun _ _ _ => False) (fun _ ih G a0 x1 =>
  (7 ≤ x1 →
    Q G) ∧
  (¬ 7 ≤ x1 →
    th_o G a0 1 ∧ (
    ∀ z17 : Nat, z17 = a_sz G → ∀ G18 : aH, G18 = a_nw G (7 + 1) 0 → 
    (a_sh G18 z17).1 ≠ 0 ∧ (
    (tw_X7_init
      (fun (G19 : aH) =>
        th_ai G19 (a_mr G a0 5) 8 x1 ∧ th_o G19 z17 7 ∧ (
        ∀ G20 : aH, G20 = a_sr G19 (a_mr G a0 5) x1.toNatClampNeg z17 → 
        ∀ x1_21 : Int32, x1_21 = x1 + 1 → 
        ih G20 a0 x1_21))
      G18 z17))))) n
theorem tws_X1_init_b158 (Q : aH → Prop) (n : Nat) (G : aH) (a0 : Nat) (x1 : Int32) : tw_X1_init_b158 Q (n + 1) G a0 x1 = (
  (7 ≤ x1 →
    Q G) ∧
  (¬ 7 ≤ x1 →
    th_o G a0 1 ∧ (
    ∀ z17 : Nat, z17 = a_sz G → ∀ G18 : aH, G18 = a_nw G (7 + 1) 0 → 
    (a_sh G18 z17).1 ≠ 0 ∧ (
    (tw_X7_init
      (fun (G19 : aH) =>
        th_ai G19 (a_mr G a0 5) 8 x1 ∧ th_o G19 z17 7 ∧ (
        ∀ G20 : aH, G20 = a_sr G19 (a_mr G a0 5) x1.toNatClampNeg z17 → 
        ∀ x1_21 : Int32, x1_21 = x1 + 1 → 
        tw_X1_init_b158 Q n G20 a0 x1_21))
      G18 z17))))) := rfl
def tw_X1_init_b156 (Q : aH → Prop) (G : aH) (a0 : Nat) : Prop :=
  tw_X1_init_b158 Q 8 G a0 0
def tw_X1_init_b132 (Q : aH → Prop) : Nat → aH → Nat → Int32 → Prop := fun n => Nat.rec (motive := fun _ => aH → Nat → Int32 → Prop) (fun _ _ _ => False) (fun _ ih G a0 x1 =>
  (3 ≤ x1 →
    tw_X1_init_b156 Q G a0) ∧
  (¬ 3 ≤ x1 →
    th_o G a0 1 ∧ (
    ∀ z22 : Nat, z22 = a_sz G → ∀ G23 : aH, G23 = a_nw G (6 + 1) 0 → 
    (a_sh G23 z22).1 ≠ 0 ∧ (
    (tw_X6_init
      (fun (G24 : aH) =>
        th_ai G24 (a_mr G a0 4) 7 x1 ∧ th_o G24 z22 6 ∧ (
        ∀ G25 : aH, G25 = a_sr G24 (a_mr G a0 4) x1.toNatClampNeg z22 → 
        ∀ x1_26 : Int32, x1_26 = x1 + 1 → 
        ih G25 a0 x1_26))
      G23 z22))))) n
theorem tws_X1_init_b132 (Q : aH → Prop) (n : Nat) (G : aH) (a0 : Nat) (x1 : Int32) : tw_X1_init_b132 Q (n + 1) G a0 x1 = (
  (3 ≤ x1 →
    tw_X1_init_b156 Q G a0) ∧
  (¬ 3 ≤ x1 →
    th_o G a0 1 ∧ (
    ∀ z22 : Nat, z22 = a_sz G → ∀ G23 : aH, G23 = a_nw G (6 + 1) 0 → 
    (a_sh G23 z22).1 ≠ 0 ∧ (
    (tw_X6_init
      (fun (G24 : aH) =>
        th_ai G24 (a_mr G a0 4) 7 x1 ∧ th_o G24 z22 6 ∧ (
        ∀ G25 : aH, G25 = a_sr G24 (a_mr G a0 4) x1.toNatClampNeg z22 → 
        ∀ x1_26 : Int32, x1_26 = x1 + 1 → 
        tw_X1_init_b132 Q n G25 a0 x1_26))
      G23 z22))))) := rfl
def tw_X1_init_b130 (Q : aH → Prop) (G : aH) (a0 : Nat) : Prop :=
  tw_X1_init_b132 Q 4 G a0 0
def tw_X1_init_b106 (Q : aH → Prop) : Nat → aH → Nat → Int32 → Prop := fun n => Nat.rec (motive := fun _ => aH → Nat → Int32 → Prop) (fun _ _ _ => False) (fun _ ih G a0 x1 =>
  (2 ≤ x1 →
    tw_X1_init_b130 Q G a0) ∧
  (¬ 2 ≤ x1 →
    th_o G a0 1 ∧ (
    ∀ z27 : Nat, z27 = a_sz G → ∀ G28 : aH, G28 = a_nw G (5 + 1) 0 → 
    (a_sh G28 z27).1 ≠ 0 ∧ (
    (tw_X5_init
      (fun (G29 : aH) =>
        th_ai G29 (a_mr G a0 3) 6 x1 ∧ th_o G29 z27 5 ∧ (
        ∀ G30 : aH, G30 = a_sr G29 (a_mr G a0 3) x1.toNatClampNeg z27 → 
        ∀ x1_31 : Int32, x1_31 = x1 + 1 → 
        ih G30 a0 x1_31))
      G28 z27))))) n
theorem tws_X1_init_b106 (Q : aH → Prop) (n : Nat) (G : aH) (a0 : Nat) (x1 : Int32) : tw_X1_init_b106 Q (n + 1) G a0 x1 = (
  (2 ≤ x1 →
    tw_X1_init_b130 Q G a0) ∧
  (¬ 2 ≤ x1 →
    th_o G a0 1 ∧ (
    ∀ z27 : Nat, z27 = a_sz G → ∀ G28 : aH, G28 = a_nw G (5 + 1) 0 → 
    (a_sh G28 z27).1 ≠ 0 ∧ (
    (tw_X5_init
      (fun (G29 : aH) =>
        th_ai G29 (a_mr G a0 3) 6 x1 ∧ th_o G29 z27 5 ∧ (
        ∀ G30 : aH, G30 = a_sr G29 (a_mr G a0 3) x1.toNatClampNeg z27 → 
        ∀ x1_31 : Int32, x1_31 = x1 + 1 → 
        tw_X1_init_b106 Q n G30 a0 x1_31))
      G28 z27))))) := rfl
def tw_X1_init_b104 (Q : aH → Prop) (G : aH) (a0 : Nat) : Prop :=
  tw_X1_init_b106 Q 3 G a0 0
def tw_X1_init_b80 (Q : aH → Prop) : Nat → aH → Nat → Int32 → Prop := fun n => Nat.rec (motive := fun _ => aH → Nat → Int32 → Prop) (fun _ _ _ => False) (fun _ ih G a0 x1 =>
  (4 ≤ x1 →
    tw_X1_init_b104 Q G a0) ∧
  (¬ 4 ≤ x1 →
    th_o G a0 1 ∧ (
    ∀ z32 : Nat, z32 = a_sz G → ∀ G33 : aH, G33 = a_nw G (3 + 1) 0 → 
    (a_sh G33 z32).1 ≠ 0 ∧ (
    (tw_X3_init
      (fun (G34 : aH) =>
        th_ai G34 (a_mr G a0 2) 5 x1 ∧ th_o G34 z32 3 ∧ (
        ∀ G35 : aH, G35 = a_sr G34 (a_mr G a0 2) x1.toNatClampNeg z32 → 
        ∀ x1_36 : Int32, x1_36 = x1 + 1 → 
        ih G35 a0 x1_36))
      G33 z32))))) n
theorem tws_X1_init_b80 (Q : aH → Prop) (n : Nat) (G : aH) (a0 : Nat) (x1 : Int32) : tw_X1_init_b80 Q (n + 1) G a0 x1 = (
  (4 ≤ x1 →
    tw_X1_init_b104 Q G a0) ∧
  (¬ 4 ≤ x1 →
    th_o G a0 1 ∧ (
    ∀ z32 : Nat, z32 = a_sz G → ∀ G33 : aH, G33 = a_nw G (3 + 1) 0 → 
    (a_sh G33 z32).1 ≠ 0 ∧ (
    (tw_X3_init
      (fun (G34 : aH) =>
        th_ai G34 (a_mr G a0 2) 5 x1 ∧ th_o G34 z32 3 ∧ (
        ∀ G35 : aH, G35 = a_sr G34 (a_mr G a0 2) x1.toNatClampNeg z32 → 
        ∀ x1_36 : Int32, x1_36 = x1 + 1 → 
        tw_X1_init_b80 Q n G35 a0 x1_36))
      G33 z32))))) := rfl
def tw_X1_init_b78 (Q : aH → Prop) (G : aH) (a0 : Nat) : Prop :=
  tw_X1_init_b80 Q 5 G a0 0
def tw_X1_init_b53 (Q : aH → Prop) : Nat → aH → Nat → Int32 → Prop := fun n => Nat.rec (motive := fun _ => aH → Nat → Int32 → Prop) (fun _ _ _ => False) (fun _ ih G a0 x1 =>
  (6 ≤ x1 →
    tw_X1_init_b78 Q G a0) ∧
  (¬ 6 ≤ x1 →
    th_o G a0 1 ∧ (
    ∀ z37 : Nat, z37 = a_sz G → ∀ G38 : aH, G38 = a_nw G (2 + 1) 0 → 
    (a_sh G38 z37).1 ≠ 0 ∧ (
    (tw_X2_init
      (fun (G39 : aH) =>
        th_ai G39 (a_mr G a0 0) 4 x1 ∧ th_o G39 z37 2 ∧ (
        ∀ G40 : aH, G40 = a_sr G39 (a_mr G a0 0) x1.toNatClampNeg z37 → 
        ∀ x1_41 : Int32, x1_41 = x1 + 1 → 
        ih G40 a0 x1_41))
      G38 z37))))) n
theorem tws_X1_init_b53 (Q : aH → Prop) (n : Nat) (G : aH) (a0 : Nat) (x1 : Int32) : tw_X1_init_b53 Q (n + 1) G a0 x1 = (
  (6 ≤ x1 →
    tw_X1_init_b78 Q G a0) ∧
  (¬ 6 ≤ x1 →
    th_o G a0 1 ∧ (
    ∀ z37 : Nat, z37 = a_sz G → ∀ G38 : aH, G38 = a_nw G (2 + 1) 0 → 
    (a_sh G38 z37).1 ≠ 0 ∧ (
    (tw_X2_init
      (fun (G39 : aH) =>
        th_ai G39 (a_mr G a0 0) 4 x1 ∧ th_o G39 z37 2 ∧ (
        ∀ G40 : aH, G40 = a_sr G39 (a_mr G a0 0) x1.toNatClampNeg z37 → 
        ∀ x1_41 : Int32, x1_41 = x1 + 1 → 
        tw_X1_init_b53 Q n G40 a0 x1_41))
      G38 z37))))) := rfl
def tw_X1_init (Q : aH → Prop) (G : aH) (a0 : Nat) : Prop :=
  (a_sh G a0).1 ≠ 0 ∧ (
  ∀ z1 : Nat, z1 = a_sz G → ∀ G2 : aH, G2 = a_nw G (100 + 4) 6 → 
  th_o G2 a0 1 ∧ (
  ∀ G3 : aH, G3 = a_sr G2 a0 0 z1 → 
  ∀ z4 : Nat, z4 = a_sz G3 → ∀ G5 : aH, G5 = a_nw G3 (100 + 5) 4 → 
  th_o G5 a0 1 ∧ (
  ∀ G6 : aH, G6 = a_sr G5 a0 2 z4 → 
  ∀ z7 : Nat, z7 = a_sz G6 → ∀ G8 : aH, G8 = a_nw G6 (100 + 6) 2 → 
  th_o G8 a0 1 ∧ (
  ∀ G9 : aH, G9 = a_sr G8 a0 3 z7 → 
  ∀ z10 : Nat, z10 = a_sz G9 → ∀ G11 : aH, G11 = a_nw G9 (100 + 7) 3 → 
  th_o G11 a0 1 ∧ (
  ∀ G12 : aH, G12 = a_sr G11 a0 4 z10 → 
  ∀ z13 : Nat, z13 = a_sz G12 → ∀ G14 : aH, G14 = a_nw G12 (100 + 8) 7 → 
  th_o G14 a0 1 ∧ (
  ∀ G15 : aH, G15 = a_sr G14 a0 5 z13 → 
  th_o G15 a0 1 ∧ (
  ∀ G16 : aH, G16 = a_si G15 a0 6 (-1) → 
  tw_X1_init_b53 Q 7 G16 a0 0)))))))
theorem tk_X1_init_b158 {p : Program} {l : Launch} {e : Env} {s : State} {m : MethodId} {args : Array Value} {below : List Frame} {meth : Method} {c : Code} {D : tD} {B : Nat} (E : th_E p m c cX1_init 2 s args RX1 meth ((Option.none : Option Jvm.ClassFile.FieldType)) "<init>" D B) {Q : aH → Prop} : ∀ (n : Nat) {G : aH} {H : Heap} {locs : List Loc} {cells slots : Nat} {ls : Array Slot} {a0 : Nat} {x1 : Int32} (hR : th_H D B G H) (hS : va_S (th_A B) s.heap H locs) (hL : th_L ls 2 [(0, rv a0), (1, .int x1)]) (hw : tw_X1_init_b158 Q n G a0 x1) (hc : cells + (n * 1 + 0) ≤ 356 ∧ slots + (n * 3 + 0) ≤ 1164), W p l e rm_X1_init s m args below meth c H locs cells slots (MQ below (th_Qv D B Q) args s 356 1164 (th_A B)) (F0 m 158 ls []) := by
  have CF := E.1; have hx := CF.1; have hb := CF.2.1; have hret := E.2.1; have hlk := E.2.2.1; have hnm := E.2.2.2.1; have hK := E.2.2.2.2.1; have hSt := E.2.2.2.2.2
  intro n
  induction n with
  | zero => intro _ _ _ _ _ _ _ _ _ _ _ hw; exact hw.elim
  | succ n ih =>
    intro G H locs cells slots ls a0 x1 hR hS hL hw hc
    rw [tws_X1_init_b158] at hw
    refine lv_iload_n hx hb dX1_init_158 rfl (lv_at hL.1 1 rfl) ?_
    refine lv_bipush hx hb dX1_init_159 (v := 7) rfl ?_
    refine lv_icmp_ge hx hb dX1_init_161 (tgt := 183) (by decide) (fun h => ?_) (fun h => ?_)
    · replace hw := hw.1 h
      exact th_vret hx hb hret hlk hR hS hw (by omega) (by omega) dX1_init_183
    · replace hw := hw.2 h
      refine th_aload_n hx hb dX1_init_164 rfl (lv_at hL.1 0 rfl) ?_
      obtain ⟨ho, hw⟩ := hw
      refine fg_X1_37 CF hK hR ho dX1_init_165 ?_
      refine lv_iload_n hx hb dX1_init_168 rfl (lv_at hL.1 1 rfl) ?_
      refine fn_X1_35 CF hK hR hS (by show _ ≤ (356 : Nat); omega) (by show _ ≤ (1164 : Nat); omega) dX1_init_169 (fun z17 G18 H hz hG hR hS => ?_)
      replace hw := hw z17 hz G18 hG
      refine lv_dup hx hb dX1_init_172 (rv_cat _) ?_
      obtain ⟨h0, hw⟩ := hw
      refine th_kv hS (th_rIN CF hK hSt hR hS h0 (rest := [rv z17, .int x1, rv (a_mr G a0 5)]) (tk_X7_init) (cw_X1_49 CF hK (by decide +kernel)) hw rfl hL.1.1 rfl (th_cr (th_ci (th_cr th_cn))) (Nat.le_of_ble_eq_true rfl) dX1_init_173 ⟨by show _ ≤ (356 : Nat); omega, by show _ ≤ (1164 : Nat); omega⟩) (fun G19 H locs hw hR hS => ?_)
      obtain ⟨ha, ho, hw⟩ := hw
      refine th_aast hx hb hK 8 (by decide) rfl (ci := 7) rfl (Or.inl rfl) hR hS ha ho dX1_init_176 (fun G20 H locs hG hR hS => ?_)
      replace hw := hw G20 hG
      obtain ⟨x1_21, hx1_21⟩ : ∃ y : Int32, y = x1 + 1 := ⟨_, rfl⟩
      replace hw := hw x1_21 hx1_21
      refine th_iinc hx hb dX1_init_177 hL (k := 1) rfl (v := x1_21) hx1_21.symm (by decide) rfl (fun ls hL => ?_)
      refine lv_goto hx hb dX1_init_180 (tgt := 158) (by decide) ?_
      exact ih hR hS (hL.sub [1, 0] rfl) hw ⟨by omega, by omega⟩
theorem tk_X1_init_b156 {p : Program} {l : Launch} {e : Env} {s : State} {m : MethodId} {args : Array Value} {below : List Frame} {meth : Method} {c : Code} {D : tD} {B : Nat} (E : th_E p m c cX1_init 2 s args RX1 meth ((Option.none : Option Jvm.ClassFile.FieldType)) "<init>" D B) {Q : aH → Prop} {G : aH} {H : Heap} {locs : List Loc} {cells slots : Nat} {ls : Array Slot} {a0 : Nat} (hR : th_H D B G H) (hS : va_S (th_A B) s.heap H locs) (hL : th_L ls 2 [(0, rv a0)]) (hw : tw_X1_init_b156 Q G a0) (hc : cells + (8) ≤ 356 ∧ slots + (24) ≤ 1164) : W p l e rm_X1_init s m args below meth c H locs cells slots (MQ below (th_Qv D B Q) args s 356 1164 (th_A B)) (F0 m 156 ls []) := by
  have CF := E.1; have hx := CF.1; have hb := CF.2.1; have hret := E.2.1; have hlk := E.2.2.1; have hnm := E.2.2.2.1; have hK := E.2.2.2.2.1; have hSt := E.2.2.2.2.2
  unfold tw_X1_init_b156 at hw
  refine lv_iconst hx hb dX1_init_156 (v := 0) rfl ?_
  refine th_istore_n hx hb dX1_init_157 rfl hL (by decide) rfl (fun ls hL => ?_)
  exact tk_X1_init_b158 E 8 hR hS (hL.sub [1, 0] rfl) hw ⟨by omega, by omega⟩
theorem tk_X1_init_b132 {p : Program} {l : Launch} {e : Env} {s : State} {m : MethodId} {args : Array Value} {below : List Frame} {meth : Method} {c : Code} {D : tD} {B : Nat} (E : th_E p m c cX1_init 2 s args RX1 meth ((Option.none : Option Jvm.ClassFile.FieldType)) "<init>" D B) {Q : aH → Prop} : ∀ (n : Nat) {G : aH} {H : Heap} {locs : List Loc} {cells slots : Nat} {ls : Array Slot} {a0 : Nat} {x1 : Int32} (hR : th_H D B G H) (hS : va_S (th_A B) s.heap H locs) (hL : th_L ls 2 [(0, rv a0), (1, .int x1)]) (hw : tw_X1_init_b132 Q n G a0 x1) (hc : cells + (n * 1 + 8) ≤ 356 ∧ slots + (n * 5 + 24) ≤ 1164), W p l e rm_X1_init s m args below meth c H locs cells slots (MQ below (th_Qv D B Q) args s 356 1164 (th_A B)) (F0 m 132 ls []) := by
  have CF := E.1; have hx := CF.1; have hb := CF.2.1; have hret := E.2.1; have hlk := E.2.2.1; have hnm := E.2.2.2.1; have hK := E.2.2.2.2.1; have hSt := E.2.2.2.2.2
  intro n
  induction n with
  | zero => intro _ _ _ _ _ _ _ _ _ _ _ hw; exact hw.elim
  | succ n ih =>
    intro G H locs cells slots ls a0 x1 hR hS hL hw hc
    rw [tws_X1_init_b132] at hw
    refine lv_iload_n hx hb dX1_init_132 rfl (lv_at hL.1 1 rfl) ?_
    refine lv_iconst hx hb dX1_init_133 (v := 3) rfl ?_
    refine lv_icmp_ge hx hb dX1_init_134 (tgt := 156) (by decide) (fun h => ?_) (fun h => ?_)
    · replace hw := hw.1 h
      exact tk_X1_init_b156 E hR hS (hL.sub [0] rfl) hw ⟨by omega, by omega⟩
    · replace hw := hw.2 h
      refine th_aload_n hx hb dX1_init_137 rfl (lv_at hL.1 0 rfl) ?_
      obtain ⟨ho, hw⟩ := hw
      refine fg_X1_31 CF hK hR ho dX1_init_138 ?_
      refine lv_iload_n hx hb dX1_init_141 rfl (lv_at hL.1 1 rfl) ?_
      refine fn_X1_29 CF hK hR hS (by show _ ≤ (356 : Nat); omega) (by show _ ≤ (1164 : Nat); omega) dX1_init_142 (fun z22 G23 H hz hG hR hS => ?_)
      replace hw := hw z22 hz G23 hG
      refine lv_dup hx hb dX1_init_145 (rv_cat _) ?_
      obtain ⟨h0, hw⟩ := hw
      refine th_kv hS (th_rIN CF hK hSt hR hS h0 (rest := [rv z22, .int x1, rv (a_mr G a0 4)]) (tk_X6_init) (cw_X1_48 CF hK (by decide +kernel)) hw rfl hL.1.1 rfl (th_cr (th_ci (th_cr th_cn))) (Nat.le_of_ble_eq_true rfl) dX1_init_146 ⟨by show _ ≤ (356 : Nat); omega, by show _ ≤ (1164 : Nat); omega⟩) (fun G24 H locs hw hR hS => ?_)
      obtain ⟨ha, ho, hw⟩ := hw
      refine th_aast hx hb hK 7 (by decide) rfl (ci := 6) rfl (Or.inl rfl) hR hS ha ho dX1_init_149 (fun G25 H locs hG hR hS => ?_)
      replace hw := hw G25 hG
      obtain ⟨x1_26, hx1_26⟩ : ∃ y : Int32, y = x1 + 1 := ⟨_, rfl⟩
      replace hw := hw x1_26 hx1_26
      refine th_iinc hx hb dX1_init_150 hL (k := 1) rfl (v := x1_26) hx1_26.symm (by decide) rfl (fun ls hL => ?_)
      refine lv_goto hx hb dX1_init_153 (tgt := 132) (by decide) ?_
      exact ih hR hS (hL.sub [1, 0] rfl) hw ⟨by omega, by omega⟩
theorem tk_X1_init_b130 {p : Program} {l : Launch} {e : Env} {s : State} {m : MethodId} {args : Array Value} {below : List Frame} {meth : Method} {c : Code} {D : tD} {B : Nat} (E : th_E p m c cX1_init 2 s args RX1 meth ((Option.none : Option Jvm.ClassFile.FieldType)) "<init>" D B) {Q : aH → Prop} {G : aH} {H : Heap} {locs : List Loc} {cells slots : Nat} {ls : Array Slot} {a0 : Nat} (hR : th_H D B G H) (hS : va_S (th_A B) s.heap H locs) (hL : th_L ls 2 [(0, rv a0)]) (hw : tw_X1_init_b130 Q G a0) (hc : cells + (12) ≤ 356 ∧ slots + (44) ≤ 1164) : W p l e rm_X1_init s m args below meth c H locs cells slots (MQ below (th_Qv D B Q) args s 356 1164 (th_A B)) (F0 m 130 ls []) := by
  have CF := E.1; have hx := CF.1; have hb := CF.2.1; have hret := E.2.1; have hlk := E.2.2.1; have hnm := E.2.2.2.1; have hK := E.2.2.2.2.1; have hSt := E.2.2.2.2.2
  unfold tw_X1_init_b130 at hw
  refine lv_iconst hx hb dX1_init_130 (v := 0) rfl ?_
  refine th_istore_n hx hb dX1_init_131 rfl hL (by decide) rfl (fun ls hL => ?_)
  exact tk_X1_init_b132 E 4 hR hS (hL.sub [1, 0] rfl) hw ⟨by omega, by omega⟩
theorem tk_X1_init_b106 {p : Program} {l : Launch} {e : Env} {s : State} {m : MethodId} {args : Array Value} {below : List Frame} {meth : Method} {c : Code} {D : tD} {B : Nat} (E : th_E p m c cX1_init 2 s args RX1 meth ((Option.none : Option Jvm.ClassFile.FieldType)) "<init>" D B) {Q : aH → Prop} : ∀ (n : Nat) {G : aH} {H : Heap} {locs : List Loc} {cells slots : Nat} {ls : Array Slot} {a0 : Nat} {x1 : Int32} (hR : th_H D B G H) (hS : va_S (th_A B) s.heap H locs) (hL : th_L ls 2 [(0, rv a0), (1, .int x1)]) (hw : tw_X1_init_b106 Q n G a0 x1) (hc : cells + (n * 1 + 12) ≤ 356 ∧ slots + (n * 4 + 44) ≤ 1164), W p l e rm_X1_init s m args below meth c H locs cells slots (MQ below (th_Qv D B Q) args s 356 1164 (th_A B)) (F0 m 106 ls []) := by
  have CF := E.1; have hx := CF.1; have hb := CF.2.1; have hret := E.2.1; have hlk := E.2.2.1; have hnm := E.2.2.2.1; have hK := E.2.2.2.2.1; have hSt := E.2.2.2.2.2
  intro n
  induction n with
  | zero => intro _ _ _ _ _ _ _ _ _ _ _ hw; exact hw.elim
  | succ n ih =>
    intro G H locs cells slots ls a0 x1 hR hS hL hw hc
    rw [tws_X1_init_b106] at hw
    refine lv_iload_n hx hb dX1_init_106 rfl (lv_at hL.1 1 rfl) ?_
    refine lv_iconst hx hb dX1_init_107 (v := 2) rfl ?_
    refine lv_icmp_ge hx hb dX1_init_108 (tgt := 130) (by decide) (fun h => ?_) (fun h => ?_)
    · replace hw := hw.1 h
      exact tk_X1_init_b130 E hR hS (hL.sub [0] rfl) hw ⟨by omega, by omega⟩
    · replace hw := hw.2 h
      refine th_aload_n hx hb dX1_init_111 rfl (lv_at hL.1 0 rfl) ?_
      obtain ⟨ho, hw⟩ := hw
      refine fg_X1_25 CF hK hR ho dX1_init_112 ?_
      refine lv_iload_n hx hb dX1_init_115 rfl (lv_at hL.1 1 rfl) ?_
      refine fn_X1_23 CF hK hR hS (by show _ ≤ (356 : Nat); omega) (by show _ ≤ (1164 : Nat); omega) dX1_init_116 (fun z27 G28 H hz hG hR hS => ?_)
      replace hw := hw z27 hz G28 hG
      refine lv_dup hx hb dX1_init_119 (rv_cat _) ?_
      obtain ⟨h0, hw⟩ := hw
      refine th_kv hS (th_rIN CF hK hSt hR hS h0 (rest := [rv z27, .int x1, rv (a_mr G a0 3)]) (tk_X5_init) (cw_X1_47 CF hK (by decide +kernel)) hw rfl hL.1.1 rfl (th_cr (th_ci (th_cr th_cn))) (Nat.le_of_ble_eq_true rfl) dX1_init_120 ⟨by show _ ≤ (356 : Nat); omega, by show _ ≤ (1164 : Nat); omega⟩) (fun G29 H locs hw hR hS => ?_)
      obtain ⟨ha, ho, hw⟩ := hw
      refine th_aast hx hb hK 6 (by decide) rfl (ci := 5) rfl (Or.inl rfl) hR hS ha ho dX1_init_123 (fun G30 H locs hG hR hS => ?_)
      replace hw := hw G30 hG
      obtain ⟨x1_31, hx1_31⟩ : ∃ y : Int32, y = x1 + 1 := ⟨_, rfl⟩
      replace hw := hw x1_31 hx1_31
      refine th_iinc hx hb dX1_init_124 hL (k := 1) rfl (v := x1_31) hx1_31.symm (by decide) rfl (fun ls hL => ?_)
      refine lv_goto hx hb dX1_init_127 (tgt := 106) (by decide) ?_
      exact ih hR hS (hL.sub [1, 0] rfl) hw ⟨by omega, by omega⟩
theorem tk_X1_init_b104 {p : Program} {l : Launch} {e : Env} {s : State} {m : MethodId} {args : Array Value} {below : List Frame} {meth : Method} {c : Code} {D : tD} {B : Nat} (E : th_E p m c cX1_init 2 s args RX1 meth ((Option.none : Option Jvm.ClassFile.FieldType)) "<init>" D B) {Q : aH → Prop} {G : aH} {H : Heap} {locs : List Loc} {cells slots : Nat} {ls : Array Slot} {a0 : Nat} (hR : th_H D B G H) (hS : va_S (th_A B) s.heap H locs) (hL : th_L ls 2 [(0, rv a0)]) (hw : tw_X1_init_b104 Q G a0) (hc : cells + (15) ≤ 356 ∧ slots + (56) ≤ 1164) : W p l e rm_X1_init s m args below meth c H locs cells slots (MQ below (th_Qv D B Q) args s 356 1164 (th_A B)) (F0 m 104 ls []) := by
  have CF := E.1; have hx := CF.1; have hb := CF.2.1; have hret := E.2.1; have hlk := E.2.2.1; have hnm := E.2.2.2.1; have hK := E.2.2.2.2.1; have hSt := E.2.2.2.2.2
  unfold tw_X1_init_b104 at hw
  refine lv_iconst hx hb dX1_init_104 (v := 0) rfl ?_
  refine th_istore_n hx hb dX1_init_105 rfl hL (by decide) rfl (fun ls hL => ?_)
  exact tk_X1_init_b106 E 3 hR hS (hL.sub [1, 0] rfl) hw ⟨by omega, by omega⟩
theorem tk_X1_init_b80 {p : Program} {l : Launch} {e : Env} {s : State} {m : MethodId} {args : Array Value} {below : List Frame} {meth : Method} {c : Code} {D : tD} {B : Nat} (E : th_E p m c cX1_init 2 s args RX1 meth ((Option.none : Option Jvm.ClassFile.FieldType)) "<init>" D B) {Q : aH → Prop} : ∀ (n : Nat) {G : aH} {H : Heap} {locs : List Loc} {cells slots : Nat} {ls : Array Slot} {a0 : Nat} {x1 : Int32} (hR : th_H D B G H) (hS : va_S (th_A B) s.heap H locs) (hL : th_L ls 2 [(0, rv a0), (1, .int x1)]) (hw : tw_X1_init_b80 Q n G a0 x1) (hc : cells + (n * 63 + 15) ≤ 356 ∧ slots + (n * 185 + 56) ≤ 1164), W p l e rm_X1_init s m args below meth c H locs cells slots (MQ below (th_Qv D B Q) args s 356 1164 (th_A B)) (F0 m 80 ls []) := by
  have CF := E.1; have hx := CF.1; have hb := CF.2.1; have hret := E.2.1; have hlk := E.2.2.1; have hnm := E.2.2.2.1; have hK := E.2.2.2.2.1; have hSt := E.2.2.2.2.2
  intro n
  induction n with
  | zero => intro _ _ _ _ _ _ _ _ _ _ _ hw; exact hw.elim
  | succ n ih =>
    intro G H locs cells slots ls a0 x1 hR hS hL hw hc
    rw [tws_X1_init_b80] at hw
    refine lv_iload_n hx hb dX1_init_80 rfl (lv_at hL.1 1 rfl) ?_
    refine lv_iconst hx hb dX1_init_81 (v := 4) rfl ?_
    refine lv_icmp_ge hx hb dX1_init_82 (tgt := 104) (by decide) (fun h => ?_) (fun h => ?_)
    · replace hw := hw.1 h
      exact tk_X1_init_b104 E hR hS (hL.sub [0] rfl) hw ⟨by omega, by omega⟩
    · replace hw := hw.2 h
      refine th_aload_n hx hb dX1_init_85 rfl (lv_at hL.1 0 rfl) ?_
      obtain ⟨ho, hw⟩ := hw
      refine fg_X1_19 CF hK hR ho dX1_init_86 ?_
      refine lv_iload_n hx hb dX1_init_89 rfl (lv_at hL.1 1 rfl) ?_
      refine fn_X1_17 CF hK hR hS (by show _ ≤ (356 : Nat); omega) (by show _ ≤ (1164 : Nat); omega) dX1_init_90 (fun z32 G33 H hz hG hR hS => ?_)
      replace hw := hw z32 hz G33 hG
      refine lv_dup hx hb dX1_init_93 (rv_cat _) ?_
      obtain ⟨h0, hw⟩ := hw
      refine th_kv hS (th_rIN CF hK hSt hR hS h0 (rest := [rv z32, .int x1, rv (a_mr G a0 2)]) (tk_X3_init) (cw_X1_46 CF hK (by decide +kernel)) hw rfl hL.1.1 rfl (th_cr (th_ci (th_cr th_cn))) (Nat.le_of_ble_eq_true rfl) dX1_init_94 ⟨by show _ ≤ (356 : Nat); omega, by show _ ≤ (1164 : Nat); omega⟩) (fun G34 H locs hw hR hS => ?_)
      obtain ⟨ha, ho, hw⟩ := hw
      refine th_aast hx hb hK 5 (by decide) rfl (ci := 3) rfl (Or.inl rfl) hR hS ha ho dX1_init_97 (fun G35 H locs hG hR hS => ?_)
      replace hw := hw G35 hG
      obtain ⟨x1_36, hx1_36⟩ : ∃ y : Int32, y = x1 + 1 := ⟨_, rfl⟩
      replace hw := hw x1_36 hx1_36
      refine th_iinc hx hb dX1_init_98 hL (k := 1) rfl (v := x1_36) hx1_36.symm (by decide) rfl (fun ls hL => ?_)
      refine lv_goto hx hb dX1_init_101 (tgt := 80) (by decide) ?_
      exact ih hR hS (hL.sub [1, 0] rfl) hw ⟨by omega, by omega⟩
theorem tk_X1_init_b78 {p : Program} {l : Launch} {e : Env} {s : State} {m : MethodId} {args : Array Value} {below : List Frame} {meth : Method} {c : Code} {D : tD} {B : Nat} (E : th_E p m c cX1_init 2 s args RX1 meth ((Option.none : Option Jvm.ClassFile.FieldType)) "<init>" D B) {Q : aH → Prop} {G : aH} {H : Heap} {locs : List Loc} {cells slots : Nat} {ls : Array Slot} {a0 : Nat} (hR : th_H D B G H) (hS : va_S (th_A B) s.heap H locs) (hL : th_L ls 2 [(0, rv a0)]) (hw : tw_X1_init_b78 Q G a0) (hc : cells + (330) ≤ 356 ∧ slots + (981) ≤ 1164) : W p l e rm_X1_init s m args below meth c H locs cells slots (MQ below (th_Qv D B Q) args s 356 1164 (th_A B)) (F0 m 78 ls []) := by
  have CF := E.1; have hx := CF.1; have hb := CF.2.1; have hret := E.2.1; have hlk := E.2.2.1; have hnm := E.2.2.2.1; have hK := E.2.2.2.2.1; have hSt := E.2.2.2.2.2
  unfold tw_X1_init_b78 at hw
  refine lv_iconst hx hb dX1_init_78 (v := 0) rfl ?_
  refine th_istore_n hx hb dX1_init_79 rfl hL (by decide) rfl (fun ls hL => ?_)
  exact tk_X1_init_b80 E 5 hR hS (hL.sub [1, 0] rfl) hw ⟨by omega, by omega⟩
theorem tk_X1_init_b53 {p : Program} {l : Launch} {e : Env} {s : State} {m : MethodId} {args : Array Value} {below : List Frame} {meth : Method} {c : Code} {D : tD} {B : Nat} (E : th_E p m c cX1_init 2 s args RX1 meth ((Option.none : Option Jvm.ClassFile.FieldType)) "<init>" D B) {Q : aH → Prop} : ∀ (n : Nat) {G : aH} {H : Heap} {locs : List Loc} {cells slots : Nat} {ls : Array Slot} {a0 : Nat} {x1 : Int32} (hR : th_H D B G H) (hS : va_S (th_A B) s.heap H locs) (hL : th_L ls 2 [(0, rv a0), (1, .int x1)]) (hw : tw_X1_init_b53 Q n G a0 x1) (hc : cells + (n * 3 + 330) ≤ 356 ∧ slots + (n * 23 + 981) ≤ 1164), W p l e rm_X1_init s m args below meth c H locs cells slots (MQ below (th_Qv D B Q) args s 356 1164 (th_A B)) (F0 m 53 ls []) := by
  have CF := E.1; have hx := CF.1; have hb := CF.2.1; have hret := E.2.1; have hlk := E.2.2.1; have hnm := E.2.2.2.1; have hK := E.2.2.2.2.1; have hSt := E.2.2.2.2.2
  intro n
  induction n with
  | zero => intro _ _ _ _ _ _ _ _ _ _ _ hw; exact hw.elim
  | succ n ih =>
    intro G H locs cells slots ls a0 x1 hR hS hL hw hc
    rw [tws_X1_init_b53] at hw
    refine lv_iload_n hx hb dX1_init_53 rfl (lv_at hL.1 1 rfl) ?_
    refine lv_bipush hx hb dX1_init_54 (v := 6) rfl ?_
    refine lv_icmp_ge hx hb dX1_init_56 (tgt := 78) (by decide) (fun h => ?_) (fun h => ?_)
    · replace hw := hw.1 h
      exact tk_X1_init_b78 E hR hS (hL.sub [0] rfl) hw ⟨by omega, by omega⟩
    · replace hw := hw.2 h
      refine th_aload_n hx hb dX1_init_59 rfl (lv_at hL.1 0 rfl) ?_
      obtain ⟨ho, hw⟩ := hw
      refine fg_X1_11 CF hK hR ho dX1_init_60 ?_
      refine lv_iload_n hx hb dX1_init_63 rfl (lv_at hL.1 1 rfl) ?_
      refine fn_X1_9 CF hK hR hS (by show _ ≤ (356 : Nat); omega) (by show _ ≤ (1164 : Nat); omega) dX1_init_64 (fun z37 G38 H hz hG hR hS => ?_)
      replace hw := hw z37 hz G38 hG
      refine lv_dup hx hb dX1_init_67 (rv_cat _) ?_
      obtain ⟨h0, hw⟩ := hw
      refine th_kv hS (th_rIN CF hK hSt hR hS h0 (rest := [rv z37, .int x1, rv (a_mr G a0 0)]) (tk_X2_init) (cw_X1_45 CF hK (by decide +kernel)) hw rfl hL.1.1 rfl (th_cr (th_ci (th_cr th_cn))) (Nat.le_of_ble_eq_true rfl) dX1_init_68 ⟨by show _ ≤ (356 : Nat); omega, by show _ ≤ (1164 : Nat); omega⟩) (fun G39 H locs hw hR hS => ?_)
      obtain ⟨ha, ho, hw⟩ := hw
      refine th_aast hx hb hK 4 (by decide) rfl (ci := 2) rfl (Or.inl rfl) hR hS ha ho dX1_init_71 (fun G40 H locs hG hR hS => ?_)
      replace hw := hw G40 hG
      obtain ⟨x1_41, hx1_41⟩ : ∃ y : Int32, y = x1 + 1 := ⟨_, rfl⟩
      replace hw := hw x1_41 hx1_41
      refine th_iinc hx hb dX1_init_72 hL (k := 1) rfl (v := x1_41) hx1_41.symm (by decide) rfl (fun ls hL => ?_)
      refine lv_goto hx hb dX1_init_75 (tgt := 53) (by decide) ?_
      exact ih hR hS (hL.sub [1, 0] rfl) hw ⟨by omega, by omega⟩
theorem tk_X1_init {l : Launch} {D : tD} {B : Nat} {Q : aH → Prop} {a0 : Nat} : Met l yX1_init (ws_ yX1_init cX1_init 2 ((Option.none : Option Jvm.ClassFile.FieldType))) rm_X1_init (th_P D B [rv a0] (fun G => tw_X1_init Q G a0)) (th_Qv D B Q) 356 1164 (th_A B) :=
  th_ofW (by decide +kernel) (th_cr th_cn) (Nat.le_of_ble_eq_true rfl) (fun p e s m args below meth c CF hret hlk hnm hK hSt G ls hR hS hw hL => by
    have E : th_E p m c cX1_init 2 s args RX1 meth ((Option.none : Option Jvm.ClassFile.FieldType)) "<init>" D B := ⟨CF, hret, hlk, hnm, hK, hSt⟩
    have hx := CF.1; have hb := CF.2.1
    have hL : th_L ls 2 [(0, rv a0)] := hL
    unfold tw_X1_init at hw
    refine th_aload_n hx hb dX1_init_0 rfl (lv_at hL.1 0 rfl) ?_
    obtain ⟨h0, hw⟩ := hw
    refine th_objInit hx hb CF.2.2.2.1 (CF.2.2.2.2 _ q155) (CF.2.2.2.2 _ q148) (CF.2.2.2.2 _ q149) (hL.1.1.trans CF.2.2.1.symm) hR h0 th_cn (Nat.le_of_ble_eq_true rfl) (by decide) (by decide) dX1_init_1 ?_
    refine th_aload_n hx hb dX1_init_4 rfl (lv_at hL.1 0 rfl) ?_
    refine lv_bipush hx hb dX1_init_5 (v := 6) rfl ?_
    refine th_newq hx hb 4 CF.2.2.2.1 (CF.2.2.2.2 _ q156) q157 rfl (by decide) (n := 6) 6 (by decide) rfl (by decide) hK hR hS (by show _ ≤ (356 : Nat); omega) (by show _ ≤ (1164 : Nat); omega) dX1_init_7 (fun z1 G2 H hz hG hR hS => ?_)
    replace hw := hw z1 hz G2 hG
    obtain ⟨ho, hw⟩ := hw
    refine fp_X1_11 CF hK hR hS hnm ho dX1_init_10 (fun G3 H locs hG hR hS => ?_)
    replace hw := hw G3 hG
    refine th_aload_n hx hb dX1_init_13 rfl (lv_at hL.1 0 rfl) ?_
    refine lv_iconst hx hb dX1_init_14 (v := 4) rfl ?_
    refine th_newq hx hb 5 CF.2.2.2.1 (CF.2.2.2.2 _ q158) q159 rfl (by decide) (n := 4) 4 (by decide) rfl (by decide) hK hR hS (by show _ ≤ (356 : Nat); omega) (by show _ ≤ (1164 : Nat); omega) dX1_init_15 (fun z4 G5 H hz hG hR hS => ?_)
    replace hw := hw z4 hz G5 hG
    obtain ⟨ho, hw⟩ := hw
    refine fp_X1_19 CF hK hR hS hnm ho dX1_init_18 (fun G6 H locs hG hR hS => ?_)
    replace hw := hw G6 hG
    refine th_aload_n hx hb dX1_init_21 rfl (lv_at hL.1 0 rfl) ?_
    refine lv_iconst hx hb dX1_init_22 (v := 2) rfl ?_
    refine th_newq hx hb 6 CF.2.2.2.1 (CF.2.2.2.2 _ q160) q161 rfl (by decide) (n := 2) 2 (by decide) rfl (by decide) hK hR hS (by show _ ≤ (356 : Nat); omega) (by show _ ≤ (1164 : Nat); omega) dX1_init_23 (fun z7 G8 H hz hG hR hS => ?_)
    replace hw := hw z7 hz G8 hG
    obtain ⟨ho, hw⟩ := hw
    refine fp_X1_25 CF hK hR hS hnm ho dX1_init_26 (fun G9 H locs hG hR hS => ?_)
    replace hw := hw G9 hG
    refine th_aload_n hx hb dX1_init_29 rfl (lv_at hL.1 0 rfl) ?_
    refine lv_iconst hx hb dX1_init_30 (v := 3) rfl ?_
    refine th_newq hx hb 7 CF.2.2.2.1 (CF.2.2.2.2 _ q162) q163 rfl (by decide) (n := 3) 3 (by decide) rfl (by decide) hK hR hS (by show _ ≤ (356 : Nat); omega) (by show _ ≤ (1164 : Nat); omega) dX1_init_31 (fun z10 G11 H hz hG hR hS => ?_)
    replace hw := hw z10 hz G11 hG
    obtain ⟨ho, hw⟩ := hw
    refine fp_X1_31 CF hK hR hS hnm ho dX1_init_34 (fun G12 H locs hG hR hS => ?_)
    replace hw := hw G12 hG
    refine th_aload_n hx hb dX1_init_37 rfl (lv_at hL.1 0 rfl) ?_
    refine lv_bipush hx hb dX1_init_38 (v := 7) rfl ?_
    refine th_newq hx hb 8 CF.2.2.2.1 (CF.2.2.2.2 _ q164) q165 rfl (by decide) (n := 7) 7 (by decide) rfl (by decide) hK hR hS (by show _ ≤ (356 : Nat); omega) (by show _ ≤ (1164 : Nat); omega) dX1_init_40 (fun z13 G14 H hz hG hR hS => ?_)
    replace hw := hw z13 hz G14 hG
    obtain ⟨ho, hw⟩ := hw
    refine fp_X1_37 CF hK hR hS hnm ho dX1_init_43 (fun G15 H locs hG hR hS => ?_)
    replace hw := hw G15 hG
    refine th_aload_n hx hb dX1_init_46 rfl (lv_at hL.1 0 rfl) ?_
    refine lv_iconst hx hb dX1_init_47 (v := (-1)) rfl ?_
    obtain ⟨ho, hw⟩ := hw
    refine fp_X1_41 CF hK hR hS ho dX1_init_48 (fun G16 H locs hG hR hS => ?_)
    replace hw := hw G16 hG
    refine lv_iconst hx hb dX1_init_51 (v := 0) rfl ?_
    refine th_istore_n hx hb dX1_init_52 rfl hL (by decide) rfl (fun ls hL => ?_)
    exact tk_X1_init_b53 E 7 hR hS (hL.sub [1, 0] rfl) hw ⟨by omega, by omega⟩)
