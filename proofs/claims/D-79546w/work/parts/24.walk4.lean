/-! WALKS: X7_clear X1_clear X0_clear J0_setLength J1_setLength J13_stringSize J13_getChars J0_append_2 J1_append_2 X0_kindOfLot X0_signOf X0_describe X0_fault X0_isFloor X0_doFlails -/
set_option maxRecDepth 100000
def tw_X7_clear (Q : aH → Prop) (G : aH) (a0 : Nat) : Prop :=
  th_o G a0 7 ∧ (
  ∀ G1 : aH, G1 = a_si G a0 0 2 → 
  th_o G1 a0 7 ∧ (
  ∀ G2 : aH, G2 = a_si G1 a0 1 0 → 
  th_o G2 a0 7 ∧ (
  ∀ G3 : aH, G3 = a_si G2 a0 2 0 → 
  Q G3)))
theorem tk_X7_clear {l : Launch} {D : tD} {B : Nat} {Q : aH → Prop} {a0 : Nat} : Met l yX7_clear (ws_ yX7_clear cX7_clear 1 ((Option.none : Option Jvm.ClassFile.FieldType))) rm_X7_clear (th_P D B [rv a0] (fun G => tw_X7_clear Q G a0)) (th_Qv D B Q) 0 0 (th_A B) :=
  th_ofW (by decide +kernel) (th_cr th_cn) (Nat.le_of_ble_eq_true rfl) (fun p e s m args below meth c CF hret hlk hnm hK hSt G ls hR hS hw hL => by
    have E : th_E p m c cX7_clear 1 s args RX7 meth ((Option.none : Option Jvm.ClassFile.FieldType)) "clear" D B := ⟨CF, hret, hlk, hnm, hK, hSt⟩
    have hx := CF.1; have hb := CF.2.1
    have hL : th_L ls 1 [(0, rv a0)] := hL
    unfold tw_X7_clear at hw
    refine th_aload_n hx hb dX7_clear_0 rfl (lv_at hL.1 0 rfl) ?_
    refine lv_iconst hx hb dX7_clear_1 (v := 2) rfl ?_
    obtain ⟨ho, hw⟩ := hw
    refine fp_X7_9 CF hK hR hS ho dX7_clear_2 (fun G1 H locs hG hR hS => ?_)
    replace hw := hw G1 hG
    refine th_aload_n hx hb dX7_clear_5 rfl (lv_at hL.1 0 rfl) ?_
    refine lv_iconst hx hb dX7_clear_6 (v := 0) rfl ?_
    obtain ⟨ho, hw⟩ := hw
    refine fp_X7_15 CF hK hR hS ho dX7_clear_7 (fun G2 H locs hG hR hS => ?_)
    replace hw := hw G2 hG
    refine th_aload_n hx hb dX7_clear_10 rfl (lv_at hL.1 0 rfl) ?_
    refine lv_iconst hx hb dX7_clear_11 (v := 0) rfl ?_
    obtain ⟨ho, hw⟩ := hw
    refine fp_X7_18 CF hK hR hS ho dX7_clear_12 (fun G3 H locs hG hR hS => ?_)
    replace hw := hw G3 hG
    exact th_vret hx hb hret hlk hR hS hw (by omega) (by omega) dX7_clear_15)
def tw_X1_clear_b128 (Q : aH → Prop) : Nat → aH → Nat → Int32 → Int32 → Prop := fun n => Nat.rec (motive := fun _ => aH → Nat → Int32 → Int32 → Prop) (fun _ _ _ _ => False) (fun _ ih G a1 x2 x3 =>
  (x2 ≤ x3 →
    Q G) ∧
  (¬ x2 ≤ x3 →
    th_ai G a1 8 x3 ∧ (
    ∀ a4_14 : Nat, a4_14 = a_mr G a1 x3.toNatClampNeg → 
    th_o G a4_14 7 ∧ (
    (tw_X7_clear
      (fun (G15 : aH) =>
        ∀ x3_16 : Int32, x3_16 = x3 + 1 → 
        ih G15 a1 x2 x3_16)
      G a4_14))))) n
theorem tws_X1_clear_b128 (Q : aH → Prop) (n : Nat) (G : aH) (a1 : Nat) (x2 : Int32) (x3 : Int32) : tw_X1_clear_b128 Q (n + 1) G a1 x2 x3 = (
  (x2 ≤ x3 →
    Q G) ∧
  (¬ x2 ≤ x3 →
    th_ai G a1 8 x3 ∧ (
    ∀ a4_14 : Nat, a4_14 = a_mr G a1 x3.toNatClampNeg → 
    th_o G a4_14 7 ∧ (
    (tw_X7_clear
      (fun (G15 : aH) =>
        ∀ x3_16 : Int32, x3_16 = x3 + 1 → 
        tw_X1_clear_b128 Q n G15 a1 x2 x3_16)
      G a4_14))))) := rfl
def tw_X1_clear_b118 (Q : aH → Prop) (G : aH) (a0 : Nat) : Prop :=
  th_o G a0 1 ∧ (
  ∀ a1_12 : Nat, a1_12 = a_mr G a0 5 → 
  th_a G a1_12 8 ∧ (
  ∀ x2_13 : Int32, x2_13 = th_len G a1_12 → 
  ∃ n9 : Nat, tw_X1_clear_b128 Q n9 G a1_12 x2_13 0))
def tw_X1_clear_b97 (Q : aH → Prop) : Nat → aH → Nat → Nat → Int32 → Int32 → Prop := fun n => Nat.rec (motive := fun _ => aH → Nat → Nat → Int32 → Int32 → Prop) (fun _ _ _ _ _ => False) (fun _ ih G a0 a1 x2 x3 =>
  (x2 ≤ x3 →
    tw_X1_clear_b118 Q G a0) ∧
  (¬ x2 ≤ x3 →
    th_ai G a1 7 x3 ∧ (
    ∀ a4_17 : Nat, a4_17 = a_mr G a1 x3.toNatClampNeg → 
    th_o G a4_17 6 ∧ (
    (tw_X6_clear
      (fun (G18 : aH) =>
        ∀ x3_19 : Int32, x3_19 = x3 + 1 → 
        ih G18 a0 a1 x2 x3_19)
      G a4_17))))) n
theorem tws_X1_clear_b97 (Q : aH → Prop) (n : Nat) (G : aH) (a0 : Nat) (a1 : Nat) (x2 : Int32) (x3 : Int32) : tw_X1_clear_b97 Q (n + 1) G a0 a1 x2 x3 = (
  (x2 ≤ x3 →
    tw_X1_clear_b118 Q G a0) ∧
  (¬ x2 ≤ x3 →
    th_ai G a1 7 x3 ∧ (
    ∀ a4_17 : Nat, a4_17 = a_mr G a1 x3.toNatClampNeg → 
    th_o G a4_17 6 ∧ (
    (tw_X6_clear
      (fun (G18 : aH) =>
        ∀ x3_19 : Int32, x3_19 = x3 + 1 → 
        tw_X1_clear_b97 Q n G18 a0 a1 x2 x3_19)
      G a4_17))))) := rfl
def tw_X1_clear_b87 (Q : aH → Prop) (G : aH) (a0 : Nat) : Prop :=
  th_o G a0 1 ∧ (
  ∀ a1_10 : Nat, a1_10 = a_mr G a0 4 → 
  th_a G a1_10 7 ∧ (
  ∀ x2_11 : Int32, x2_11 = th_len G a1_10 → 
  ∃ n9 : Nat, tw_X1_clear_b97 Q n9 G a0 a1_10 x2_11 0))
def tw_X1_clear_b66 (Q : aH → Prop) : Nat → aH → Nat → Nat → Int32 → Int32 → Prop := fun n => Nat.rec (motive := fun _ => aH → Nat → Nat → Int32 → Int32 → Prop) (fun _ _ _ _ _ => False) (fun _ ih G a0 a1 x2 x3 =>
  (x2 ≤ x3 →
    tw_X1_clear_b87 Q G a0) ∧
  (¬ x2 ≤ x3 →
    th_ai G a1 6 x3 ∧ (
    ∀ a4_20 : Nat, a4_20 = a_mr G a1 x3.toNatClampNeg → 
    th_o G a4_20 5 ∧ (
    (tw_X5_clear
      (fun (G21 : aH) =>
        ∀ x3_22 : Int32, x3_22 = x3 + 1 → 
        ih G21 a0 a1 x2 x3_22)
      G a4_20))))) n
theorem tws_X1_clear_b66 (Q : aH → Prop) (n : Nat) (G : aH) (a0 : Nat) (a1 : Nat) (x2 : Int32) (x3 : Int32) : tw_X1_clear_b66 Q (n + 1) G a0 a1 x2 x3 = (
  (x2 ≤ x3 →
    tw_X1_clear_b87 Q G a0) ∧
  (¬ x2 ≤ x3 →
    th_ai G a1 6 x3 ∧ (
    ∀ a4_20 : Nat, a4_20 = a_mr G a1 x3.toNatClampNeg → 
    th_o G a4_20 5 ∧ (
    (tw_X5_clear
      (fun (G21 : aH) =>
        ∀ x3_22 : Int32, x3_22 = x3 + 1 → 
        tw_X1_clear_b66 Q n G21 a0 a1 x2 x3_22)
      G a4_20))))) := rfl
def tw_X1_clear_b56 (Q : aH → Prop) (G : aH) (a0 : Nat) : Prop :=
  th_o G a0 1 ∧ (
  ∀ a1_8 : Nat, a1_8 = a_mr G a0 3 → 
  th_a G a1_8 6 ∧ (
  ∀ x2_9 : Int32, x2_9 = th_len G a1_8 → 
  ∃ n9 : Nat, tw_X1_clear_b66 Q n9 G a0 a1_8 x2_9 0))
def tw_X1_clear_b35 (Q : aH → Prop) : Nat → aH → Nat → Nat → Int32 → Int32 → Prop := fun n => Nat.rec (motive := fun _ => aH → Nat → Nat → Int32 → Int32 → Prop) (fun _ _ _ _ _ => False) (fun _ ih G a0 a1 x2 x3 =>
  (x2 ≤ x3 →
    tw_X1_clear_b56 Q G a0) ∧
  (¬ x2 ≤ x3 →
    th_ai G a1 5 x3 ∧ (
    ∀ a4_23 : Nat, a4_23 = a_mr G a1 x3.toNatClampNeg → 
    th_o G a4_23 3 ∧ (
    (tw_X3_clear
      (fun (G24 : aH) =>
        ∀ x3_25 : Int32, x3_25 = x3 + 1 → 
        ih G24 a0 a1 x2 x3_25)
      G a4_23))))) n
theorem tws_X1_clear_b35 (Q : aH → Prop) (n : Nat) (G : aH) (a0 : Nat) (a1 : Nat) (x2 : Int32) (x3 : Int32) : tw_X1_clear_b35 Q (n + 1) G a0 a1 x2 x3 = (
  (x2 ≤ x3 →
    tw_X1_clear_b56 Q G a0) ∧
  (¬ x2 ≤ x3 →
    th_ai G a1 5 x3 ∧ (
    ∀ a4_23 : Nat, a4_23 = a_mr G a1 x3.toNatClampNeg → 
    th_o G a4_23 3 ∧ (
    (tw_X3_clear
      (fun (G24 : aH) =>
        ∀ x3_25 : Int32, x3_25 = x3 + 1 → 
        tw_X1_clear_b35 Q n G24 a0 a1 x2 x3_25)
      G a4_23))))) := rfl
def tw_X1_clear (Q : aH → Prop) (G : aH) (a0 : Nat) : Prop :=
  th_o G a0 1 ∧ (
  ∀ G1 : aH, G1 = a_si G a0 1 0 → 
  th_o G1 a0 1 ∧ (
  ∀ G2 : aH, G2 = a_si G1 a0 6 (-1) → 
  th_o G2 a0 1 ∧ (
  ∀ G3 : aH, G3 = a_si G2 a0 7 0 → 
  th_o G3 a0 1 ∧ (
  ∀ G4 : aH, G4 = a_si G3 a0 8 0 → 
  th_o G4 a0 1 ∧ (
  ∀ G5 : aH, G5 = a_si G4 a0 9 0 → 
  th_o G5 a0 1 ∧ (
  ∀ a1_6 : Nat, a1_6 = a_mr G5 a0 2 → 
  th_a G5 a1_6 5 ∧ (
  ∀ x2_7 : Int32, x2_7 = th_len G5 a1_6 → 
  ∃ n9 : Nat, tw_X1_clear_b35 Q n9 G5 a0 a1_6 x2_7 0)))))))
theorem tk_X1_clear_b128 {p : Program} {l : Launch} {e : Env} {s : State} {m : MethodId} {args : Array Value} {below : List Frame} {meth : Method} {c : Code} {D : tD} {B : Nat} (E : th_E p m c cX1_clear 5 s args RX1 meth ((Option.none : Option Jvm.ClassFile.FieldType)) "clear" D B) {Q : aH → Prop} : ∀ (n : Nat) {G : aH} {H : Heap} {locs : List Loc} {cells slots : Nat} {ls : Array Slot} {a1 : Nat} {x2 : Int32} {x3 : Int32} (hR : th_H D B G H) (hS : va_S (th_A B) s.heap H locs) (hL : th_L ls 5 [(1, rv a1), (2, .int x2), (3, .int x3)]) (hw : tw_X1_clear_b128 Q n G a1 x2 x3) (hc : cells + (0) ≤ 0 ∧ slots + (0) ≤ 0), W p l e rm_X1_clear s m args below meth c H locs cells slots (MQ below (th_Qv D B Q) args s 0 0 (th_A B)) (F0 m 128 ls []) := by
  have CF := E.1; have hx := CF.1; have hb := CF.2.1; have hret := E.2.1; have hlk := E.2.2.1; have hnm := E.2.2.2.1; have hK := E.2.2.2.2.1; have hSt := E.2.2.2.2.2
  intro n
  induction n with
  | zero => intro _ _ _ _ _ _ _ _ _ _ _ _ hw; exact hw.elim
  | succ n ih =>
    intro G H locs cells slots ls a1 x2 x3 hR hS hL hw hc
    rw [tws_X1_clear_b128] at hw
    refine lv_iload_n hx hb dX1_clear_128 rfl (lv_at hL.1 2 rfl) ?_
    refine lv_iload_n hx hb dX1_clear_129 rfl (lv_at hL.1 1 rfl) ?_
    refine lv_icmp_ge hx hb dX1_clear_130 (tgt := 149) (by decide) (fun h => ?_) (fun h => ?_)
    · replace hw := hw.1 h
      exact th_vret hx hb hret hlk hR hS hw (by omega) (by omega) dX1_clear_149
    · replace hw := hw.2 h
      refine th_aload_n hx hb dX1_clear_133 rfl (lv_at hL.1 0 rfl) ?_
      refine lv_iload_n hx hb dX1_clear_134 rfl (lv_at hL.1 2 rfl) ?_
      obtain ⟨ha, hw⟩ := hw
      refine th_aald hx hb hK 8 (by decide) rfl rfl hR ha dX1_clear_135 ?_
      obtain ⟨a4_14, ha4_14⟩ : ∃ y : Nat, y = a_mr G a1 x3.toNatClampNeg := ⟨_, rfl⟩
      replace hw := hw a4_14 ha4_14
      refine th_nmr ha4_14 ?_
      refine th_astore hx hb dX1_clear_136 hL (by decide) rfl (fun ls hL => ?_)
      refine th_aload hx hb dX1_clear_138 (lv_at hL.1 0 rfl) ?_
      obtain ⟨ho, hw⟩ := hw
      refine th_kv hS (th_rV CF hK hSt hR hS ho (ci := 7) rfl (rest := []) (tk_X7_clear) (cw_X1_67 CF hK (by decide +kernel)) hw rfl hL.1.1 rfl th_cn (Nat.le_of_ble_eq_true rfl) dX1_clear_140 ⟨by show _ ≤ (0 : Nat); omega, by show _ ≤ (0 : Nat); omega⟩) (fun G15 H locs hw hR hS => ?_)
      obtain ⟨x3_16, hx3_16⟩ : ∃ y : Int32, y = x3 + 1 := ⟨_, rfl⟩
      replace hw := hw x3_16 hx3_16
      refine th_iinc hx hb dX1_clear_143 hL (k := 3) rfl (v := x3_16) hx3_16.symm (by decide) rfl (fun ls hL => ?_)
      refine lv_goto hx hb dX1_clear_146 (tgt := 128) (by decide) ?_
      exact ih hR hS (hL.sub [2, 3, 0] rfl) hw ⟨by omega, by omega⟩
theorem tk_X1_clear_b118 {p : Program} {l : Launch} {e : Env} {s : State} {m : MethodId} {args : Array Value} {below : List Frame} {meth : Method} {c : Code} {D : tD} {B : Nat} (E : th_E p m c cX1_clear 5 s args RX1 meth ((Option.none : Option Jvm.ClassFile.FieldType)) "clear" D B) {Q : aH → Prop} {G : aH} {H : Heap} {locs : List Loc} {cells slots : Nat} {ls : Array Slot} {a0 : Nat} (hR : th_H D B G H) (hS : va_S (th_A B) s.heap H locs) (hL : th_L ls 5 [(0, rv a0)]) (hw : tw_X1_clear_b118 Q G a0) (hc : cells + (0) ≤ 0 ∧ slots + (0) ≤ 0) : W p l e rm_X1_clear s m args below meth c H locs cells slots (MQ below (th_Qv D B Q) args s 0 0 (th_A B)) (F0 m 118 ls []) := by
  have CF := E.1; have hx := CF.1; have hb := CF.2.1; have hret := E.2.1; have hlk := E.2.2.1; have hnm := E.2.2.2.1; have hK := E.2.2.2.2.1; have hSt := E.2.2.2.2.2
  unfold tw_X1_clear_b118 at hw
  refine th_aload_n hx hb dX1_clear_118 rfl (lv_at hL.1 0 rfl) ?_
  obtain ⟨ho, hw⟩ := hw
  refine fg_X1_37 CF hK hR ho dX1_clear_119 ?_
  obtain ⟨a1_12, ha1_12⟩ : ∃ y : Nat, y = a_mr G a0 5 := ⟨_, rfl⟩
  replace hw := hw a1_12 ha1_12
  refine th_nmr ha1_12 ?_
  refine th_astore_n hx hb dX1_clear_122 rfl hL (by decide) rfl (fun ls hL => ?_)
  refine th_aload_n hx hb dX1_clear_123 rfl (lv_at hL.1 0 rfl) ?_
  obtain ⟨ha, hw⟩ := hw
  refine th_alen hx hb hK 8 (by decide) hR ha dX1_clear_124 ?_
  obtain ⟨x2_13, hx2_13⟩ : ∃ y : Int32, y = th_len G a1_12 := ⟨_, rfl⟩
  replace hw := hw x2_13 hx2_13
  refine th_nmi hx2_13 ?_
  refine th_istore_n hx hb dX1_clear_125 rfl hL (by decide) rfl (fun ls hL => ?_)
  refine lv_iconst hx hb dX1_clear_126 (v := 0) rfl ?_
  refine th_istore_n hx hb dX1_clear_127 rfl hL (by decide) rfl (fun ls hL => ?_)
  obtain ⟨n9, hw⟩ := hw
  exact tk_X1_clear_b128 E n9 hR hS (hL.sub [2, 1, 0] rfl) hw ⟨by omega, by omega⟩
theorem tk_X1_clear_b97 {p : Program} {l : Launch} {e : Env} {s : State} {m : MethodId} {args : Array Value} {below : List Frame} {meth : Method} {c : Code} {D : tD} {B : Nat} (E : th_E p m c cX1_clear 5 s args RX1 meth ((Option.none : Option Jvm.ClassFile.FieldType)) "clear" D B) {Q : aH → Prop} : ∀ (n : Nat) {G : aH} {H : Heap} {locs : List Loc} {cells slots : Nat} {ls : Array Slot} {a0 : Nat} {a1 : Nat} {x2 : Int32} {x3 : Int32} (hR : th_H D B G H) (hS : va_S (th_A B) s.heap H locs) (hL : th_L ls 5 [(0, rv a0), (1, rv a1), (2, .int x2), (3, .int x3)]) (hw : tw_X1_clear_b97 Q n G a0 a1 x2 x3) (hc : cells + (0) ≤ 0 ∧ slots + (0) ≤ 0), W p l e rm_X1_clear s m args below meth c H locs cells slots (MQ below (th_Qv D B Q) args s 0 0 (th_A B)) (F0 m 97 ls []) := by
  have CF := E.1; have hx := CF.1; have hb := CF.2.1; have hret := E.2.1; have hlk := E.2.2.1; have hnm := E.2.2.2.1; have hK := E.2.2.2.2.1; have hSt := E.2.2.2.2.2
  intro n
  induction n with
  | zero => intro _ _ _ _ _ _ _ _ _ _ _ _ _ hw; exact hw.elim
  | succ n ih =>
    intro G H locs cells slots ls a0 a1 x2 x3 hR hS hL hw hc
    rw [tws_X1_clear_b97] at hw
    refine lv_iload_n hx hb dX1_clear_97 rfl (lv_at hL.1 3 rfl) ?_
    refine lv_iload_n hx hb dX1_clear_98 rfl (lv_at hL.1 2 rfl) ?_
    refine lv_icmp_ge hx hb dX1_clear_99 (tgt := 118) (by decide) (fun h => ?_) (fun h => ?_)
    · replace hw := hw.1 h
      exact tk_X1_clear_b118 E hR hS (hL.sub [0] rfl) hw ⟨by omega, by omega⟩
    · replace hw := hw.2 h
      refine th_aload_n hx hb dX1_clear_102 rfl (lv_at hL.1 1 rfl) ?_
      refine lv_iload_n hx hb dX1_clear_103 rfl (lv_at hL.1 3 rfl) ?_
      obtain ⟨ha, hw⟩ := hw
      refine th_aald hx hb hK 7 (by decide) rfl rfl hR ha dX1_clear_104 ?_
      obtain ⟨a4_17, ha4_17⟩ : ∃ y : Nat, y = a_mr G a1 x3.toNatClampNeg := ⟨_, rfl⟩
      replace hw := hw a4_17 ha4_17
      refine th_nmr ha4_17 ?_
      refine th_astore hx hb dX1_clear_105 hL (by decide) rfl (fun ls hL => ?_)
      refine th_aload hx hb dX1_clear_107 (lv_at hL.1 0 rfl) ?_
      obtain ⟨ho, hw⟩ := hw
      refine th_kv hS (th_rV CF hK hSt hR hS ho (ci := 6) rfl (rest := []) (tk_X6_clear) (cw_X1_66 CF hK (by decide +kernel)) hw rfl hL.1.1 rfl th_cn (Nat.le_of_ble_eq_true rfl) dX1_clear_109 ⟨by show _ ≤ (0 : Nat); omega, by show _ ≤ (0 : Nat); omega⟩) (fun G18 H locs hw hR hS => ?_)
      obtain ⟨x3_19, hx3_19⟩ : ∃ y : Int32, y = x3 + 1 := ⟨_, rfl⟩
      replace hw := hw x3_19 hx3_19
      refine th_iinc hx hb dX1_clear_112 hL (k := 4) rfl (v := x3_19) hx3_19.symm (by decide) rfl (fun ls hL => ?_)
      refine lv_goto hx hb dX1_clear_115 (tgt := 97) (by decide) ?_
      exact ih hR hS (hL.sub [2, 3, 4, 0] rfl) hw ⟨by omega, by omega⟩
theorem tk_X1_clear_b87 {p : Program} {l : Launch} {e : Env} {s : State} {m : MethodId} {args : Array Value} {below : List Frame} {meth : Method} {c : Code} {D : tD} {B : Nat} (E : th_E p m c cX1_clear 5 s args RX1 meth ((Option.none : Option Jvm.ClassFile.FieldType)) "clear" D B) {Q : aH → Prop} {G : aH} {H : Heap} {locs : List Loc} {cells slots : Nat} {ls : Array Slot} {a0 : Nat} (hR : th_H D B G H) (hS : va_S (th_A B) s.heap H locs) (hL : th_L ls 5 [(0, rv a0)]) (hw : tw_X1_clear_b87 Q G a0) (hc : cells + (0) ≤ 0 ∧ slots + (0) ≤ 0) : W p l e rm_X1_clear s m args below meth c H locs cells slots (MQ below (th_Qv D B Q) args s 0 0 (th_A B)) (F0 m 87 ls []) := by
  have CF := E.1; have hx := CF.1; have hb := CF.2.1; have hret := E.2.1; have hlk := E.2.2.1; have hnm := E.2.2.2.1; have hK := E.2.2.2.2.1; have hSt := E.2.2.2.2.2
  unfold tw_X1_clear_b87 at hw
  refine th_aload_n hx hb dX1_clear_87 rfl (lv_at hL.1 0 rfl) ?_
  obtain ⟨ho, hw⟩ := hw
  refine fg_X1_31 CF hK hR ho dX1_clear_88 ?_
  obtain ⟨a1_10, ha1_10⟩ : ∃ y : Nat, y = a_mr G a0 4 := ⟨_, rfl⟩
  replace hw := hw a1_10 ha1_10
  refine th_nmr ha1_10 ?_
  refine th_astore_n hx hb dX1_clear_91 rfl hL (by decide) rfl (fun ls hL => ?_)
  refine th_aload_n hx hb dX1_clear_92 rfl (lv_at hL.1 0 rfl) ?_
  obtain ⟨ha, hw⟩ := hw
  refine th_alen hx hb hK 7 (by decide) hR ha dX1_clear_93 ?_
  obtain ⟨x2_11, hx2_11⟩ : ∃ y : Int32, y = th_len G a1_10 := ⟨_, rfl⟩
  replace hw := hw x2_11 hx2_11
  refine th_nmi hx2_11 ?_
  refine th_istore_n hx hb dX1_clear_94 rfl hL (by decide) rfl (fun ls hL => ?_)
  refine lv_iconst hx hb dX1_clear_95 (v := 0) rfl ?_
  refine th_istore_n hx hb dX1_clear_96 rfl hL (by decide) rfl (fun ls hL => ?_)
  obtain ⟨n9, hw⟩ := hw
  exact tk_X1_clear_b97 E n9 hR hS (hL.sub [3, 2, 1, 0] rfl) hw ⟨by omega, by omega⟩
theorem tk_X1_clear_b66 {p : Program} {l : Launch} {e : Env} {s : State} {m : MethodId} {args : Array Value} {below : List Frame} {meth : Method} {c : Code} {D : tD} {B : Nat} (E : th_E p m c cX1_clear 5 s args RX1 meth ((Option.none : Option Jvm.ClassFile.FieldType)) "clear" D B) {Q : aH → Prop} : ∀ (n : Nat) {G : aH} {H : Heap} {locs : List Loc} {cells slots : Nat} {ls : Array Slot} {a0 : Nat} {a1 : Nat} {x2 : Int32} {x3 : Int32} (hR : th_H D B G H) (hS : va_S (th_A B) s.heap H locs) (hL : th_L ls 5 [(0, rv a0), (1, rv a1), (2, .int x2), (3, .int x3)]) (hw : tw_X1_clear_b66 Q n G a0 a1 x2 x3) (hc : cells + (0) ≤ 0 ∧ slots + (0) ≤ 0), W p l e rm_X1_clear s m args below meth c H locs cells slots (MQ below (th_Qv D B Q) args s 0 0 (th_A B)) (F0 m 66 ls []) := by
  have CF := E.1; have hx := CF.1; have hb := CF.2.1; have hret := E.2.1; have hlk := E.2.2.1; have hnm := E.2.2.2.1; have hK := E.2.2.2.2.1; have hSt := E.2.2.2.2.2
  intro n
  induction n with
  | zero => intro _ _ _ _ _ _ _ _ _ _ _ _ _ hw; exact hw.elim
  | succ n ih =>
    intro G H locs cells slots ls a0 a1 x2 x3 hR hS hL hw hc
    rw [tws_X1_clear_b66] at hw
    refine lv_iload_n hx hb dX1_clear_66 rfl (lv_at hL.1 3 rfl) ?_
    refine lv_iload_n hx hb dX1_clear_67 rfl (lv_at hL.1 2 rfl) ?_
    refine lv_icmp_ge hx hb dX1_clear_68 (tgt := 87) (by decide) (fun h => ?_) (fun h => ?_)
    · replace hw := hw.1 h
      exact tk_X1_clear_b87 E hR hS (hL.sub [0] rfl) hw ⟨by omega, by omega⟩
    · replace hw := hw.2 h
      refine th_aload_n hx hb dX1_clear_71 rfl (lv_at hL.1 1 rfl) ?_
      refine lv_iload_n hx hb dX1_clear_72 rfl (lv_at hL.1 3 rfl) ?_
      obtain ⟨ha, hw⟩ := hw
      refine th_aald hx hb hK 6 (by decide) rfl rfl hR ha dX1_clear_73 ?_
      obtain ⟨a4_20, ha4_20⟩ : ∃ y : Nat, y = a_mr G a1 x3.toNatClampNeg := ⟨_, rfl⟩
      replace hw := hw a4_20 ha4_20
      refine th_nmr ha4_20 ?_
      refine th_astore hx hb dX1_clear_74 hL (by decide) rfl (fun ls hL => ?_)
      refine th_aload hx hb dX1_clear_76 (lv_at hL.1 0 rfl) ?_
      obtain ⟨ho, hw⟩ := hw
      refine th_kv hS (th_rV CF hK hSt hR hS ho (ci := 5) rfl (rest := []) (tk_X5_clear) (cw_X1_65 CF hK (by decide +kernel)) hw rfl hL.1.1 rfl th_cn (Nat.le_of_ble_eq_true rfl) dX1_clear_78 ⟨by show _ ≤ (0 : Nat); omega, by show _ ≤ (0 : Nat); omega⟩) (fun G21 H locs hw hR hS => ?_)
      obtain ⟨x3_22, hx3_22⟩ : ∃ y : Int32, y = x3 + 1 := ⟨_, rfl⟩
      replace hw := hw x3_22 hx3_22
      refine th_iinc hx hb dX1_clear_81 hL (k := 4) rfl (v := x3_22) hx3_22.symm (by decide) rfl (fun ls hL => ?_)
      refine lv_goto hx hb dX1_clear_84 (tgt := 66) (by decide) ?_
      exact ih hR hS (hL.sub [2, 3, 4, 0] rfl) hw ⟨by omega, by omega⟩
theorem tk_X1_clear_b56 {p : Program} {l : Launch} {e : Env} {s : State} {m : MethodId} {args : Array Value} {below : List Frame} {meth : Method} {c : Code} {D : tD} {B : Nat} (E : th_E p m c cX1_clear 5 s args RX1 meth ((Option.none : Option Jvm.ClassFile.FieldType)) "clear" D B) {Q : aH → Prop} {G : aH} {H : Heap} {locs : List Loc} {cells slots : Nat} {ls : Array Slot} {a0 : Nat} (hR : th_H D B G H) (hS : va_S (th_A B) s.heap H locs) (hL : th_L ls 5 [(0, rv a0)]) (hw : tw_X1_clear_b56 Q G a0) (hc : cells + (0) ≤ 0 ∧ slots + (0) ≤ 0) : W p l e rm_X1_clear s m args below meth c H locs cells slots (MQ below (th_Qv D B Q) args s 0 0 (th_A B)) (F0 m 56 ls []) := by
  have CF := E.1; have hx := CF.1; have hb := CF.2.1; have hret := E.2.1; have hlk := E.2.2.1; have hnm := E.2.2.2.1; have hK := E.2.2.2.2.1; have hSt := E.2.2.2.2.2
  unfold tw_X1_clear_b56 at hw
  refine th_aload_n hx hb dX1_clear_56 rfl (lv_at hL.1 0 rfl) ?_
  obtain ⟨ho, hw⟩ := hw
  refine fg_X1_25 CF hK hR ho dX1_clear_57 ?_
  obtain ⟨a1_8, ha1_8⟩ : ∃ y : Nat, y = a_mr G a0 3 := ⟨_, rfl⟩
  replace hw := hw a1_8 ha1_8
  refine th_nmr ha1_8 ?_
  refine th_astore_n hx hb dX1_clear_60 rfl hL (by decide) rfl (fun ls hL => ?_)
  refine th_aload_n hx hb dX1_clear_61 rfl (lv_at hL.1 0 rfl) ?_
  obtain ⟨ha, hw⟩ := hw
  refine th_alen hx hb hK 6 (by decide) hR ha dX1_clear_62 ?_
  obtain ⟨x2_9, hx2_9⟩ : ∃ y : Int32, y = th_len G a1_8 := ⟨_, rfl⟩
  replace hw := hw x2_9 hx2_9
  refine th_nmi hx2_9 ?_
  refine th_istore_n hx hb dX1_clear_63 rfl hL (by decide) rfl (fun ls hL => ?_)
  refine lv_iconst hx hb dX1_clear_64 (v := 0) rfl ?_
  refine th_istore_n hx hb dX1_clear_65 rfl hL (by decide) rfl (fun ls hL => ?_)
  obtain ⟨n9, hw⟩ := hw
  exact tk_X1_clear_b66 E n9 hR hS (hL.sub [3, 2, 1, 0] rfl) hw ⟨by omega, by omega⟩
theorem tk_X1_clear_b35 {p : Program} {l : Launch} {e : Env} {s : State} {m : MethodId} {args : Array Value} {below : List Frame} {meth : Method} {c : Code} {D : tD} {B : Nat} (E : th_E p m c cX1_clear 5 s args RX1 meth ((Option.none : Option Jvm.ClassFile.FieldType)) "clear" D B) {Q : aH → Prop} : ∀ (n : Nat) {G : aH} {H : Heap} {locs : List Loc} {cells slots : Nat} {ls : Array Slot} {a0 : Nat} {a1 : Nat} {x2 : Int32} {x3 : Int32} (hR : th_H D B G H) (hS : va_S (th_A B) s.heap H locs) (hL : th_L ls 5 [(0, rv a0), (1, rv a1), (2, .int x2), (3, .int x3)]) (hw : tw_X1_clear_b35 Q n G a0 a1 x2 x3) (hc : cells + (0) ≤ 0 ∧ slots + (0) ≤ 0), W p l e rm_X1_clear s m args below meth c H locs cells slots (MQ below (th_Qv D B Q) args s 0 0 (th_A B)) (F0 m 35 ls []) := by
  have CF := E.1; have hx := CF.1; have hb := CF.2.1; have hret := E.2.1; have hlk := E.2.2.1; have hnm := E.2.2.2.1; have hK := E.2.2.2.2.1; have hSt := E.2.2.2.2.2
  intro n
  induction n with
  | zero => intro _ _ _ _ _ _ _ _ _ _ _ _ _ hw; exact hw.elim
  | succ n ih =>
    intro G H locs cells slots ls a0 a1 x2 x3 hR hS hL hw hc
    rw [tws_X1_clear_b35] at hw
    refine lv_iload_n hx hb dX1_clear_35 rfl (lv_at hL.1 3 rfl) ?_
    refine lv_iload_n hx hb dX1_clear_36 rfl (lv_at hL.1 2 rfl) ?_
    refine lv_icmp_ge hx hb dX1_clear_37 (tgt := 56) (by decide) (fun h => ?_) (fun h => ?_)
    · replace hw := hw.1 h
      exact tk_X1_clear_b56 E hR hS (hL.sub [0] rfl) hw ⟨by omega, by omega⟩
    · replace hw := hw.2 h
      refine th_aload_n hx hb dX1_clear_40 rfl (lv_at hL.1 1 rfl) ?_
      refine lv_iload_n hx hb dX1_clear_41 rfl (lv_at hL.1 3 rfl) ?_
      obtain ⟨ha, hw⟩ := hw
      refine th_aald hx hb hK 5 (by decide) rfl rfl hR ha dX1_clear_42 ?_
      obtain ⟨a4_23, ha4_23⟩ : ∃ y : Nat, y = a_mr G a1 x3.toNatClampNeg := ⟨_, rfl⟩
      replace hw := hw a4_23 ha4_23
      refine th_nmr ha4_23 ?_
      refine th_astore hx hb dX1_clear_43 hL (by decide) rfl (fun ls hL => ?_)
      refine th_aload hx hb dX1_clear_45 (lv_at hL.1 0 rfl) ?_
      obtain ⟨ho, hw⟩ := hw
      refine th_kv hS (th_rV CF hK hSt hR hS ho (ci := 3) rfl (rest := []) (tk_X3_clear) (cw_X1_62 CF hK (by decide +kernel)) hw rfl hL.1.1 rfl th_cn (Nat.le_of_ble_eq_true rfl) dX1_clear_47 ⟨by show _ ≤ (0 : Nat); omega, by show _ ≤ (0 : Nat); omega⟩) (fun G24 H locs hw hR hS => ?_)
      obtain ⟨x3_25, hx3_25⟩ : ∃ y : Int32, y = x3 + 1 := ⟨_, rfl⟩
      replace hw := hw x3_25 hx3_25
      refine th_iinc hx hb dX1_clear_50 hL (k := 4) rfl (v := x3_25) hx3_25.symm (by decide) rfl (fun ls hL => ?_)
      refine lv_goto hx hb dX1_clear_53 (tgt := 35) (by decide) ?_
      exact ih hR hS (hL.sub [2, 3, 4, 0] rfl) hw ⟨by omega, by omega⟩
theorem tk_X1_clear {l : Launch} {D : tD} {B : Nat} {Q : aH → Prop} {a0 : Nat} : Met l yX1_clear (ws_ yX1_clear cX1_clear 5 ((Option.none : Option Jvm.ClassFile.FieldType))) rm_X1_clear (th_P D B [rv a0] (fun G => tw_X1_clear Q G a0)) (th_Qv D B Q) 0 0 (th_A B) :=
  th_ofW (by decide +kernel) (th_cr th_cn) (Nat.le_of_ble_eq_true rfl) (fun p e s m args below meth c CF hret hlk hnm hK hSt G ls hR hS hw hL => by
    have E : th_E p m c cX1_clear 5 s args RX1 meth ((Option.none : Option Jvm.ClassFile.FieldType)) "clear" D B := ⟨CF, hret, hlk, hnm, hK, hSt⟩
    have hx := CF.1; have hb := CF.2.1
    have hL : th_L ls 5 [(0, rv a0)] := hL
    unfold tw_X1_clear at hw
    refine th_aload_n hx hb dX1_clear_0 rfl (lv_at hL.1 0 rfl) ?_
    refine lv_iconst hx hb dX1_clear_1 (v := 0) rfl ?_
    obtain ⟨ho, hw⟩ := hw
    refine fp_X1_50 CF hK hR hS ho dX1_clear_2 (fun G1 H locs hG hR hS => ?_)
    replace hw := hw G1 hG
    refine th_aload_n hx hb dX1_clear_5 rfl (lv_at hL.1 0 rfl) ?_
    refine lv_iconst hx hb dX1_clear_6 (v := (-1)) rfl ?_
    obtain ⟨ho, hw⟩ := hw
    refine fp_X1_41 CF hK hR hS ho dX1_clear_7 (fun G2 H locs hG hR hS => ?_)
    replace hw := hw G2 hG
    refine th_aload_n hx hb dX1_clear_10 rfl (lv_at hL.1 0 rfl) ?_
    refine lv_iconst hx hb dX1_clear_11 (v := 0) rfl ?_
    obtain ⟨ho, hw⟩ := hw
    refine fp_X1_53 CF hK hR hS ho dX1_clear_12 (fun G3 H locs hG hR hS => ?_)
    replace hw := hw G3 hG
    refine th_aload_n hx hb dX1_clear_15 rfl (lv_at hL.1 0 rfl) ?_
    refine lv_iconst hx hb dX1_clear_16 (v := 0) rfl ?_
    obtain ⟨ho, hw⟩ := hw
    refine fp_X1_56 CF hK hR hS ho dX1_clear_17 (fun G4 H locs hG hR hS => ?_)
    replace hw := hw G4 hG
    refine th_aload_n hx hb dX1_clear_20 rfl (lv_at hL.1 0 rfl) ?_
    refine lv_iconst hx hb dX1_clear_21 (v := 0) rfl ?_
    obtain ⟨ho, hw⟩ := hw
    refine fp_X1_59 CF hK hR hS ho dX1_clear_22 (fun G5 H locs hG hR hS => ?_)
    replace hw := hw G5 hG
    refine th_aload_n hx hb dX1_clear_25 rfl (lv_at hL.1 0 rfl) ?_
    obtain ⟨ho, hw⟩ := hw
    refine fg_X1_19 CF hK hR ho dX1_clear_26 ?_
    obtain ⟨a1_6, ha1_6⟩ : ∃ y : Nat, y = a_mr G5 a0 2 := ⟨_, rfl⟩
    replace hw := hw a1_6 ha1_6
    refine th_nmr ha1_6 ?_
    refine th_astore_n hx hb dX1_clear_29 rfl hL (by decide) rfl (fun ls hL => ?_)
    refine th_aload_n hx hb dX1_clear_30 rfl (lv_at hL.1 0 rfl) ?_
    obtain ⟨ha, hw⟩ := hw
    refine th_alen hx hb hK 5 (by decide) hR ha dX1_clear_31 ?_
    obtain ⟨x2_7, hx2_7⟩ : ∃ y : Int32, y = th_len G5 a1_6 := ⟨_, rfl⟩
    replace hw := hw x2_7 hx2_7
    refine th_nmi hx2_7 ?_
    refine th_istore_n hx hb dX1_clear_32 rfl hL (by decide) rfl (fun ls hL => ?_)
    refine lv_iconst hx hb dX1_clear_33 (v := 0) rfl ?_
    refine th_istore_n hx hb dX1_clear_34 rfl hL (by decide) rfl (fun ls hL => ?_)
    obtain ⟨n9, hw⟩ := hw
    exact tk_X1_clear_b35 E n9 hR hS (hL.sub [3, 2, 1, 0] rfl) hw ⟨by omega, by omega⟩)
def tw_X0_clear (Q : Int32 → aH → Prop) (G : aH) (a0 : Nat) : Prop :=
  th_o G a0 0 ∧ (
  th_o G (a_mr G a0 0) 1 ∧ (
  ∀ x1_1 : Int32, x1_1 = a_mi G (a_mr G a0 0) 1 → 
  th_o G a0 0 ∧ (
  th_o G (a_mr G a0 0) 1 ∧ (
  (tw_X1_clear
    (fun (G2 : aH) =>
      th_o G2 a0 0 ∧ (
      ∀ G3 : aH, G3 = a_si G2 a0 6 0 → 
      Q x1_1 G3))
    G (a_mr G a0 0))))))
theorem tk_X0_clear {l : Launch} {D : tD} {B : Nat} {Q : Int32 → aH → Prop} {a0 : Nat} : Met l yX0_clear (ws_ yX0_clear cX0_clear 2 ((Option.some Jvm.ClassFile.FieldType.int))) rm_X0_clear (th_P D B [rv a0] (fun G => tw_X0_clear Q G a0)) (th_Qi D B Q) 0 0 (th_A B) :=
  th_ofW (by decide +kernel) (th_cr th_cn) (Nat.le_of_ble_eq_true rfl) (fun p e s m args below meth c CF hret hlk hnm hK hSt G ls hR hS hw hL => by
    have E : th_E p m c cX0_clear 2 s args RX0 meth ((Option.some Jvm.ClassFile.FieldType.int)) "clear" D B := ⟨CF, hret, hlk, hnm, hK, hSt⟩
    have hx := CF.1; have hb := CF.2.1
    have hL : th_L ls 2 [(0, rv a0)] := hL
    unfold tw_X0_clear at hw
    refine th_aload_n hx hb dX0_clear_0 rfl (lv_at hL.1 0 rfl) ?_
    obtain ⟨ho, hw⟩ := hw
    refine fg_X0_22 CF hK hR ho dX0_clear_1 ?_
    obtain ⟨ho, hw⟩ := hw
    refine fg_X0_79 CF hK hR ho dX0_clear_4 ?_
    obtain ⟨x1_1, hx1_1⟩ : ∃ y : Int32, y = a_mi G (a_mr G a0 0) 1 := ⟨_, rfl⟩
    replace hw := hw x1_1 hx1_1
    refine th_nmi hx1_1 ?_
    refine th_istore_n hx hb dX0_clear_7 rfl hL (by decide) rfl (fun ls hL => ?_)
    refine th_aload_n hx hb dX0_clear_8 rfl (lv_at hL.1 1 rfl) ?_
    obtain ⟨ho, hw⟩ := hw
    refine fg_X0_22 CF hK hR ho dX0_clear_9 ?_
    obtain ⟨ho, hw⟩ := hw
    refine th_kv hS (th_rV CF hK hSt hR hS ho (ci := 1) rfl (rest := []) (tk_X1_clear) (cw_X0_86 CF hK (by decide +kernel)) hw rfl hL.1.1 rfl th_cn (Nat.le_of_ble_eq_true rfl) dX0_clear_12 ⟨by show _ ≤ (0 : Nat); omega, by show _ ≤ (0 : Nat); omega⟩) (fun G2 H locs hw hR hS => ?_)
    refine th_aload_n hx hb dX0_clear_15 rfl (lv_at hL.1 1 rfl) ?_
    refine lv_iconst hx hb dX0_clear_16 (v := 0) rfl ?_
    obtain ⟨ho, hw⟩ := hw
    refine fp_X0_63 CF hK hR hS ho dX0_clear_17 (fun G3 H locs hG hR hS => ?_)
    replace hw := hw G3 hG
    refine lv_iload_n hx hb dX0_clear_20 rfl (lv_at hL.1 0 rfl) ?_
    exact th_iret hx hb hret hlk hR hS hw (by omega) (by omega) dX0_clear_21)
def tw_J0_setLength_b76 (Q : aH → Prop) (G : aH) (a0 : Nat) (x1 : Int32) : Prop :=
  th_o G a0 12 ∧ (
  ∀ G2 : aH, G2 = a_si G a0 3 x1 → 
  Q G2)
def tw_J0_setLength (Q : aH → Prop) (G : aH) (a0 : Nat) (x1 : Int32) : Prop :=
  (0 ≤ x1 →
    th_o G a0 12 ∧ (
    (tw_J0_ensureCapacityInternal
      (fun (G1 : aH) =>
        th_o G1 a0 12 ∧ (
        (x1 ≤ a_mi G1 a0 3 →
          th_o G1 a0 12 ∧ (
          (a_mi G1 a0 3 ≤ x1 →
            tw_J0_setLength_b76 Q G1 a0 x1) ∧
          (¬ a_mi G1 a0 3 ≤ x1 →
            th_o G1 a0 12 ∧ (
            ∀ G3 : aH, G3 = a_si G1 a0 2 1 → 
            tw_J0_setLength_b76 Q G3 a0 x1)))) ∧
        (¬ x1 ≤ a_mi G1 a0 3 →
          False)))
      G a0 x1))) ∧
  (¬ 0 ≤ x1 →
    False)
theorem tk_J0_setLength_b76 {p : Program} {l : Launch} {e : Env} {s : State} {m : MethodId} {args : Array Value} {below : List Frame} {meth : Method} {c : Code} {D : tD} {B : Nat} (E : th_E p m c cJ0_setLength 2 s args RJ0 meth ((Option.none : Option Jvm.ClassFile.FieldType)) "setLength" D B) {Q : aH → Prop} {G : aH} {H : Heap} {locs : List Loc} {cells slots : Nat} {ls : Array Slot} {a0 : Nat} {x1 : Int32} (hR : th_H D B G H) (hS : va_S (th_A B) s.heap H locs) (hL : th_L ls 2 [(0, rv a0), (1, .int x1)]) (hw : tw_J0_setLength_b76 Q G a0 x1) (hc : cells + (0) ≤ 0 ∧ slots + (0) ≤ 0) : W p l e rm_J0_setLength s m args below meth c H locs cells slots (MQ below (th_Qv D B Q) args s 0 0 (th_A B)) (F0 m 76 ls []) := by
  have CF := E.1; have hx := CF.1; have hb := CF.2.1; have hret := E.2.1; have hlk := E.2.2.1; have hnm := E.2.2.2.1; have hK := E.2.2.2.2.1; have hSt := E.2.2.2.2.2
  unfold tw_J0_setLength_b76 at hw
  refine th_aload_n hx hb dJ0_setLength_76 rfl (lv_at hL.1 0 rfl) ?_
  refine lv_iload_n hx hb dJ0_setLength_77 rfl (lv_at hL.1 1 rfl) ?_
  obtain ⟨ho, hw⟩ := hw
  refine fp_J0_79 CF hK hR hS ho dJ0_setLength_78 (fun G2 H locs hG hR hS => ?_)
  replace hw := hw G2 hG
  exact th_vret hx hb hret hlk hR hS hw (by omega) (by omega) dJ0_setLength_81
theorem tk_J0_setLength {l : Launch} {D : tD} {B : Nat} {Q : aH → Prop} {a0 : Nat} {x1 : Int32} : Met l yJ0_setLength (ws_ yJ0_setLength cJ0_setLength 2 ((Option.none : Option Jvm.ClassFile.FieldType))) rm_J0_setLength (th_P D B [rv a0, .int x1] (fun G => tw_J0_setLength Q G a0 x1)) (th_Qv D B Q) 0 0 (th_A B) :=
  th_ofW (by decide +kernel) (th_cr (th_ci th_cn)) (Nat.le_of_ble_eq_true rfl) (fun p e s m args below meth c CF hret hlk hnm hK hSt G ls hR hS hw hL => by
    have E : th_E p m c cJ0_setLength 2 s args RJ0 meth ((Option.none : Option Jvm.ClassFile.FieldType)) "setLength" D B := ⟨CF, hret, hlk, hnm, hK, hSt⟩
    have hx := CF.1; have hb := CF.2.1
    have hL : th_L ls 2 [(0, rv a0), (1, .int x1)] := hL
    unfold tw_J0_setLength at hw
    refine lv_iload_n hx hb dJ0_setLength_0 rfl (lv_at hL.1 1 rfl) ?_
    refine lv_if_ge hx hb dJ0_setLength_1 (tgt := 13) (by decide) (fun h => ?_) (fun h => ?_)
    · replace hw := hw.1 h
      refine th_aload_n hx hb dJ0_setLength_13 rfl (lv_at hL.1 0 rfl) ?_
      refine lv_iload_n hx hb dJ0_setLength_14 rfl (lv_at hL.1 1 rfl) ?_
      obtain ⟨ho, hw⟩ := hw
      refine th_kv hS (th_rV CF hK hSt hR hS ho (ci := 12) rfl (rest := []) (tk_J0_ensureCapacityInternal) (cw_J0_100 CF hK (by decide +kernel)) hw rfl hL.1.1 rfl th_cn (Nat.le_of_ble_eq_true rfl) dJ0_setLength_15 ⟨by show _ ≤ (0 : Nat); omega, by show _ ≤ (0 : Nat); omega⟩) (fun G1 H locs hw hR hS => ?_)
      refine th_aload_n hx hb dJ0_setLength_18 rfl (lv_at hL.1 0 rfl) ?_
      obtain ⟨ho, hw⟩ := hw
      refine fg_J0_79 CF hK hR ho dJ0_setLength_19 ?_
      refine lv_iload_n hx hb dJ0_setLength_22 rfl (lv_at hL.1 1 rfl) ?_
      refine lv_icmp_ge hx hb dJ0_setLength_23 (tgt := 63) (by decide) (fun h => ?_) (fun h => ?_)
      · replace hw := hw.1 h
        refine th_aload_n hx hb dJ0_setLength_63 rfl (lv_at hL.1 0 rfl) ?_
        obtain ⟨ho, hw⟩ := hw
        refine fg_J0_79 CF hK hR ho dJ0_setLength_64 ?_
        refine lv_iload_n hx hb dJ0_setLength_67 rfl (lv_at hL.1 1 rfl) ?_
        refine lv_icmp_le hx hb dJ0_setLength_68 (tgt := 76) (by decide) (fun h => ?_) (fun h => ?_)
        · replace hw := hw.1 h
          exact tk_J0_setLength_b76 E hR hS (hL.sub [0, 1] rfl) hw ⟨by omega, by omega⟩
        · replace hw := hw.2 h
          refine th_aload_n hx hb dJ0_setLength_71 rfl (lv_at hL.1 0 rfl) ?_
          refine lv_iconst hx hb dJ0_setLength_72 (v := 1) rfl ?_
          obtain ⟨ho, hw⟩ := hw
          refine fp_J0_73 CF hK hR hS (Or.inr rfl) ho dJ0_setLength_73 (fun G3 H locs hG hR hS => ?_)
          replace hw := hw G3 hG
          exact tk_J0_setLength_b76 E hR hS (hL.sub [0, 1] rfl) hw ⟨by omega, by omega⟩
      · replace hw := hw.2 h
        exact hw.elim
    · replace hw := hw.2 h
      exact hw.elim)
def tw_J1_setLength (Q : aH → Prop) (G : aH) (a0 : Nat) (x1 : Int32) : Prop :=
  th_o G a0 12 ∧ (
  (tw_J0_setLength
    (fun (G1 : aH) =>
      Q G1)
    G a0 x1))
theorem tk_J1_setLength {l : Launch} {D : tD} {B : Nat} {Q : aH → Prop} {a0 : Nat} {x1 : Int32} : Met l yJ1_setLength (ws_ yJ1_setLength cJ1_setLength 2 ((Option.none : Option Jvm.ClassFile.FieldType))) rm_J1_setLength (th_P D B [rv a0, .int x1] (fun G => tw_J1_setLength Q G a0 x1)) (th_Qv D B Q) 0 0 (th_A B) :=
  th_ofW (by decide +kernel) (th_cr (th_ci th_cn)) (Nat.le_of_ble_eq_true rfl) (fun p e s m args below meth c CF hret hlk hnm hK hSt G ls hR hS hw hL => by
    have E : th_E p m c cJ1_setLength 2 s args RJ1 meth ((Option.none : Option Jvm.ClassFile.FieldType)) "setLength" D B := ⟨CF, hret, hlk, hnm, hK, hSt⟩
    have hx := CF.1; have hb := CF.2.1
    have hL : th_L ls 2 [(0, rv a0), (1, .int x1)] := hL
    unfold tw_J1_setLength at hw
    refine th_aload_n hx hb dJ1_setLength_0 rfl (lv_at hL.1 0 rfl) ?_
    refine lv_iload_n hx hb dJ1_setLength_1 rfl (lv_at hL.1 1 rfl) ?_
    obtain ⟨ho, hw⟩ := hw
    refine th_kv hS (th_rSU CF hK hSt hR hS ho (ci := 12) rfl (rest := []) (tk_J0_setLength) (cw_J1_333 CF hK (by decide +kernel)) hw rfl hL.1.1 rfl th_cn (Nat.le_of_ble_eq_true rfl) dJ1_setLength_2 ⟨by show _ ≤ (0 : Nat); omega, by show _ ≤ (0 : Nat); omega⟩) (fun G1 H locs hw hR hS => ?_)
    exact th_vret hx hb hret hlk hR hS hw (by omega) (by omega) dJ1_setLength_5)
def tw_J13_stringSize_b16 (Q : Int32 → aH → Prop) : Nat → aH → Int32 → Int32 → Int32 → Int32 → Prop := fun n => Nat.rec (motive := fun _ => aH → Int32 → Int32 → Int32 → Int32 → Prop) (fun _ _ _ _ _ => False) (fun _ ih G x0 x1 x2 x3 =>
  (10 ≤ x3 →
    Q (10 + x1) G) ∧
  (¬ 10 ≤ x3 →
    (x0 ≤ x2 →
      ∀ x2_1 : Int32, x2_1 = 10 * x2 → 
      ∀ x3_2 : Int32, x3_2 = x3 + 1 → 
      ih G x0 x1 x2_1 x3_2) ∧
    (¬ x0 ≤ x2 →
      Q (x3 + x1) G))) n
theorem tws_J13_stringSize_b16 (Q : Int32 → aH → Prop) (n : Nat) (G : aH) (x0 : Int32) (x1 : Int32) (x2 : Int32) (x3 : Int32) : tw_J13_stringSize_b16 Q (n + 1) G x0 x1 x2 x3 = (
  (10 ≤ x3 →
    Q (10 + x1) G) ∧
  (¬ 10 ≤ x3 →
    (x0 ≤ x2 →
      ∀ x2_1 : Int32, x2_1 = 10 * x2 → 
      ∀ x3_2 : Int32, x3_2 = x3 + 1 → 
      tw_J13_stringSize_b16 Q n G x0 x1 x2_1 x3_2) ∧
    (¬ x0 ≤ x2 →
      Q (x3 + x1) G))) := rfl
def tw_J13_stringSize_b11 (Q : Int32 → aH → Prop) (G : aH) (x0 : Int32) (x1 : Int32) : Prop :=
  ∃ n9 : Nat, tw_J13_stringSize_b16 Q n9 G x0 x1 (-10) 1
def tw_J13_stringSize (Q : Int32 → aH → Prop) (G : aH) (x0 : Int32) : Prop :=
  (x0 < 0 →
    tw_J13_stringSize_b11 Q G x0 1) ∧
  (¬ x0 < 0 →
    ∀ x0_3 : Int32, x0_3 = -x0 → 
    tw_J13_stringSize_b11 Q G x0_3 0)
theorem tk_J13_stringSize_b16 {p : Program} {l : Launch} {e : Env} {s : State} {m : MethodId} {args : Array Value} {below : List Frame} {meth : Method} {c : Code} {D : tD} {B : Nat} (E : th_E p m c cJ13_stringSize 4 s args RJ13 meth ((Option.some Jvm.ClassFile.FieldType.int)) "stringSize" D B) {Q : Int32 → aH → Prop} : ∀ (n : Nat) {G : aH} {H : Heap} {locs : List Loc} {cells slots : Nat} {ls : Array Slot} {x0 : Int32} {x1 : Int32} {x2 : Int32} {x3 : Int32} (hR : th_H D B G H) (hS : va_S (th_A B) s.heap H locs) (hL : th_L ls 4 [(0, .int x0), (1, .int x1), (2, .int x2), (3, .int x3)]) (hw : tw_J13_stringSize_b16 Q n G x0 x1 x2 x3) (hc : cells + (0) ≤ 0 ∧ slots + (0) ≤ 0), W p l e rm_J13_stringSize s m args below meth c H locs cells slots (MQ below (th_Qi D B Q) args s 0 0 (th_A B)) (F0 m 16 ls []) := by
  have CF := E.1; have hx := CF.1; have hb := CF.2.1; have hret := E.2.1; have hlk := E.2.2.1; have hnm := E.2.2.2.1; have hK := E.2.2.2.2.1; have hSt := E.2.2.2.2.2
  intro n
  induction n with
  | zero => intro _ _ _ _ _ _ _ _ _ _ _ _ _ hw; exact hw.elim
  | succ n ih =>
    intro G H locs cells slots ls x0 x1 x2 x3 hR hS hL hw hc
    rw [tws_J13_stringSize_b16] at hw
    refine lv_iload_n hx hb dJ13_stringSize_16 rfl (lv_at hL.1 3 rfl) ?_
    refine lv_bipush hx hb dJ13_stringSize_17 (v := 10) rfl ?_
    refine lv_icmp_ge hx hb dJ13_stringSize_19 (tgt := 42) (by decide) (fun h => ?_) (fun h => ?_)
    · replace hw := hw.1 h
      refine lv_bipush hx hb dJ13_stringSize_42 (v := 10) rfl ?_
      refine lv_iload_n hx hb dJ13_stringSize_44 rfl (lv_at hL.1 1 rfl) ?_
      refine lv_iadd hx hb dJ13_stringSize_45 ?_
      exact th_iret hx hb hret hlk hR hS hw (by omega) (by omega) dJ13_stringSize_46
    · replace hw := hw.2 h
      refine lv_iload_n hx hb dJ13_stringSize_22 rfl (lv_at hL.1 0 rfl) ?_
      refine lv_iload_n hx hb dJ13_stringSize_23 rfl (lv_at hL.1 2 rfl) ?_
      refine lv_icmp_le hx hb dJ13_stringSize_24 (tgt := 31) (by decide) (fun h => ?_) (fun h => ?_)
      · replace hw := hw.1 h
        refine lv_bipush hx hb dJ13_stringSize_31 (v := 10) rfl ?_
        refine lv_iload_n hx hb dJ13_stringSize_33 rfl (lv_at hL.1 2 rfl) ?_
        refine lv_imul hx hb dJ13_stringSize_34 ?_
        obtain ⟨x2_1, hx2_1⟩ : ∃ y : Int32, y = 10 * x2 := ⟨_, rfl⟩
        replace hw := hw x2_1 hx2_1
        refine th_nmi hx2_1 ?_
        refine th_istore_n hx hb dJ13_stringSize_35 rfl hL (by decide) rfl (fun ls hL => ?_)
        obtain ⟨x3_2, hx3_2⟩ : ∃ y : Int32, y = x3 + 1 := ⟨_, rfl⟩
        replace hw := hw x3_2 hx3_2
        refine th_iinc hx hb dJ13_stringSize_36 hL (k := 3) rfl (v := x3_2) hx3_2.symm (by decide) rfl (fun ls hL => ?_)
        refine lv_goto hx hb dJ13_stringSize_39 (tgt := 16) (by decide) ?_
        exact ih hR hS (hL.sub [2, 3, 1, 0] rfl) hw ⟨by omega, by omega⟩
      · replace hw := hw.2 h
        refine lv_iload_n hx hb dJ13_stringSize_27 rfl (lv_at hL.1 3 rfl) ?_
        refine lv_iload_n hx hb dJ13_stringSize_28 rfl (lv_at hL.1 1 rfl) ?_
        refine lv_iadd hx hb dJ13_stringSize_29 ?_
        exact th_iret hx hb hret hlk hR hS hw (by omega) (by omega) dJ13_stringSize_30
theorem tk_J13_stringSize_b11 {p : Program} {l : Launch} {e : Env} {s : State} {m : MethodId} {args : Array Value} {below : List Frame} {meth : Method} {c : Code} {D : tD} {B : Nat} (E : th_E p m c cJ13_stringSize 4 s args RJ13 meth ((Option.some Jvm.ClassFile.FieldType.int)) "stringSize" D B) {Q : Int32 → aH → Prop} {G : aH} {H : Heap} {locs : List Loc} {cells slots : Nat} {ls : Array Slot} {x0 : Int32} {x1 : Int32} (hR : th_H D B G H) (hS : va_S (th_A B) s.heap H locs) (hL : th_L ls 4 [(0, .int x0), (1, .int x1)]) (hw : tw_J13_stringSize_b11 Q G x0 x1) (hc : cells + (0) ≤ 0 ∧ slots + (0) ≤ 0) : W p l e rm_J13_stringSize s m args below meth c H locs cells slots (MQ below (th_Qi D B Q) args s 0 0 (th_A B)) (F0 m 11 ls []) := by
  have CF := E.1; have hx := CF.1; have hb := CF.2.1; have hret := E.2.1; have hlk := E.2.2.1; have hnm := E.2.2.2.1; have hK := E.2.2.2.2.1; have hSt := E.2.2.2.2.2
  unfold tw_J13_stringSize_b11 at hw
  refine lv_bipush hx hb dJ13_stringSize_11 (v := (-10)) rfl ?_
  refine th_istore_n hx hb dJ13_stringSize_13 rfl hL (by decide) rfl (fun ls hL => ?_)
  refine lv_iconst hx hb dJ13_stringSize_14 (v := 1) rfl ?_
  refine th_istore_n hx hb dJ13_stringSize_15 rfl hL (by decide) rfl (fun ls hL => ?_)
  obtain ⟨n9, hw⟩ := hw
  exact tk_J13_stringSize_b16 E n9 hR hS (hL.sub [2, 3, 1, 0] rfl) hw ⟨by omega, by omega⟩
theorem tk_J13_stringSize {l : Launch} {D : tD} {B : Nat} {Q : Int32 → aH → Prop} {x0 : Int32} : Met l yJ13_stringSize (ws_ yJ13_stringSize cJ13_stringSize 4 ((Option.some Jvm.ClassFile.FieldType.int))) rm_J13_stringSize (th_P D B [.int x0] (fun G => tw_J13_stringSize Q G x0)) (th_Qi D B Q) 0 0 (th_A B) :=
  th_ofW (by decide +kernel) (th_ci th_cn) (Nat.le_of_ble_eq_true rfl) (fun p e s m args below meth c CF hret hlk hnm hK hSt G ls hR hS hw hL => by
    have E : th_E p m c cJ13_stringSize 4 s args RJ13 meth ((Option.some Jvm.ClassFile.FieldType.int)) "stringSize" D B := ⟨CF, hret, hlk, hnm, hK, hSt⟩
    have hx := CF.1; have hb := CF.2.1
    have hL : th_L ls 4 [(0, .int x0)] := hL
    unfold tw_J13_stringSize at hw
    refine lv_iconst hx hb dJ13_stringSize_0 (v := 1) rfl ?_
    refine th_istore_n hx hb dJ13_stringSize_1 rfl hL (by decide) rfl (fun ls hL => ?_)
    refine lv_iload_n hx hb dJ13_stringSize_2 rfl (lv_at hL.1 1 rfl) ?_
    refine lv_if_lt hx hb dJ13_stringSize_3 (tgt := 11) (by decide) (fun h => ?_) (fun h => ?_)
    · replace hw := hw.1 h
      exact tk_J13_stringSize_b11 E hR hS (hL.sub [1, 0] rfl) hw ⟨by omega, by omega⟩
    · replace hw := hw.2 h
      refine lv_iconst hx hb dJ13_stringSize_6 (v := 0) rfl ?_
      refine th_istore_n hx hb dJ13_stringSize_7 rfl hL (by decide) rfl (fun ls hL => ?_)
      refine lv_iload_n hx hb dJ13_stringSize_8 rfl (lv_at hL.1 1 rfl) ?_
      refine lv_ineg hx hb dJ13_stringSize_9 ?_
      obtain ⟨x0_3, hx0_3⟩ : ∃ y : Int32, y = -x0 := ⟨_, rfl⟩
      replace hw := hw x0_3 hx0_3
      refine th_nmi hx0_3 ?_
      refine th_istore_n hx hb dJ13_stringSize_10 rfl hL (by decide) rfl (fun ls hL => ?_)
      exact tk_J13_stringSize_b11 E hR hS (hL.sub [0, 1] rfl) hw ⟨by omega, by omega⟩)
def tw_J13_getChars_b104 (Q : Int32 → aH → Prop) (G : aH) (a2 : Nat) (x5 : Int32) (x6 : Int32) : Prop :=
  (x6 = 0 →
    Q x5 G) ∧
  (¬ x6 = 0 →
    ∀ x5_4 : Int32, x5_4 = x5 + (-1) → 
    th_ai G a2 1 x5_4 ∧ (
    ∀ G5 : aH, G5 = a_si G a2 x5_4.toNatClampNeg ((45 : Int32).toInt8.toInt32) → 
    Q x5_4 G5))
def tw_J13_getChars_b72 (Q : Int32 → aH → Prop) (G : aH) (x0 : Int32) (a2 : Nat) (x5 : Int32) (x6 : Int32) : Prop :=
  ∀ x5_1 : Int32, x5_1 = x5 + (-1) → 
  (¬ (-x0) < 0 ∧ (-x0).toNatClampNeg < 100) ∧ (
  th_ai G a2 1 x5_1 ∧ (
  ∀ G3 : aH, G3 = a_si G a2 x5_1.toNatClampNeg ((Int32.ofNat (48 + (-x0).toNatClampNeg % 10)).toInt8.toInt32) → 
  ((-9) ≤ x0 →
    tw_J13_getChars_b104 Q G3 a2 x5_1 x6) ∧
  (¬ (-9) ≤ x0 →
    ∀ x5_6 : Int32, x5_6 = x5_1 + (-1) → 
    (¬ (-x0) < 0 ∧ (-x0).toNatClampNeg < 100) ∧ (
    th_ai G3 a2 1 x5_6 ∧ (
    ∀ G8 : aH, G8 = a_si G3 a2 x5_6.toNatClampNeg ((Int32.ofNat (48 + (-x0).toNatClampNeg / 10)).toInt8.toInt32) → 
    tw_J13_getChars_b104 Q G8 a2 x5_6 x6)))))
def tw_J13_getChars_b22 (Q : Int32 → aH → Prop) : Nat → aH → Int32 → Nat → Int32 → Int32 → Prop := fun n => Nat.rec (motive := fun _ => aH → Int32 → Nat → Int32 → Int32 → Prop) (fun _ _ _ _ _ => False) (fun _ ih G x0 a2 x5 x6 =>
  ((-100) < x0 →
    tw_J13_getChars_b72 Q G x0 a2 x5 x6) ∧
  (¬ (-100) < x0 →
    ∀ x3_9 : Int32, x3_9 = x0 / 100 → 
    ∀ x4_10 : Int32, x4_10 = (x3_9 * 100) - x0 → 
    ∀ x5_11 : Int32, x5_11 = x5 + (-1) → 
    (¬ x4_10 < 0 ∧ x4_10.toNatClampNeg < 100) ∧ (
    th_ai G a2 1 x5_11 ∧ (
    ∀ G13 : aH, G13 = a_si G a2 x5_11.toNatClampNeg ((Int32.ofNat (48 + x4_10.toNatClampNeg % 10)).toInt8.toInt32) → 
    ∀ x5_14 : Int32, x5_14 = x5_11 + (-1) → 
    (¬ x4_10 < 0 ∧ x4_10.toNatClampNeg < 100) ∧ (
    th_ai G13 a2 1 x5_14 ∧ (
    ∀ G16 : aH, G16 = a_si G13 a2 x5_14.toNatClampNeg ((Int32.ofNat (48 + x4_10.toNatClampNeg / 10)).toInt8.toInt32) → 
    ih G16 x3_9 a2 x5_14 x6)))))) n
theorem tws_J13_getChars_b22 (Q : Int32 → aH → Prop) (n : Nat) (G : aH) (x0 : Int32) (a2 : Nat) (x5 : Int32) (x6 : Int32) : tw_J13_getChars_b22 Q (n + 1) G x0 a2 x5 x6 = (
  ((-100) < x0 →
    tw_J13_getChars_b72 Q G x0 a2 x5 x6) ∧
  (¬ (-100) < x0 →
    ∀ x3_9 : Int32, x3_9 = x0 / 100 → 
    ∀ x4_10 : Int32, x4_10 = (x3_9 * 100) - x0 → 
    ∀ x5_11 : Int32, x5_11 = x5 + (-1) → 
    (¬ x4_10 < 0 ∧ x4_10.toNatClampNeg < 100) ∧ (
    th_ai G a2 1 x5_11 ∧ (
    ∀ G13 : aH, G13 = a_si G a2 x5_11.toNatClampNeg ((Int32.ofNat (48 + x4_10.toNatClampNeg % 10)).toInt8.toInt32) → 
    ∀ x5_14 : Int32, x5_14 = x5_11 + (-1) → 
    (¬ x4_10 < 0 ∧ x4_10.toNatClampNeg < 100) ∧ (
    th_ai G13 a2 1 x5_14 ∧ (
    ∀ G16 : aH, G16 = a_si G13 a2 x5_14.toNatClampNeg ((Int32.ofNat (48 + x4_10.toNatClampNeg / 10)).toInt8.toInt32) → 
    tw_J13_getChars_b22 Q n G16 x3_9 a2 x5_14 x6)))))) := rfl
def tw_J13_getChars_b12 (Q : Int32 → aH → Prop) (G : aH) (x0 : Int32) (a2 : Nat) (x5 : Int32) (tx0 : Int32) : Prop :=
  (¬ tx0 = 0 →
    ∃ n9 : Nat, tw_J13_getChars_b22 Q n9 G x0 a2 x5 tx0) ∧
  (tx0 = 0 →
    ∀ x0_17 : Int32, x0_17 = -x0 → 
    ∃ n9 : Nat, tw_J13_getChars_b22 Q n9 G x0_17 a2 x5 tx0)
def tw_J13_getChars (Q : Int32 → aH → Prop) (G : aH) (x0 : Int32) (x1 : Int32) (a2 : Nat) : Prop :=
  (0 ≤ x0 →
    tw_J13_getChars_b12 Q G x0 a2 x1 0) ∧
  (¬ 0 ≤ x0 →
    tw_J13_getChars_b12 Q G x0 a2 x1 1)
theorem tk_J13_getChars_b104 {p : Program} {l : Launch} {e : Env} {s : State} {m : MethodId} {args : Array Value} {below : List Frame} {meth : Method} {c : Code} {D : tD} {B : Nat} (E : th_E p m c cJ13_getChars 7 s args RJ13 meth ((Option.some Jvm.ClassFile.FieldType.int)) "getChars" D B) {Q : Int32 → aH → Prop} {G : aH} {H : Heap} {locs : List Loc} {cells slots : Nat} {ls : Array Slot} {a2 : Nat} {x5 : Int32} {x6 : Int32} (hR : th_H D B G H) (hS : va_S (th_A B) s.heap H locs) (hL : th_L ls 7 [(2, rv a2), (5, .int x5), (6, .int x6)]) (hw : tw_J13_getChars_b104 Q G a2 x5 x6) (hc : cells + (0) ≤ 0 ∧ slots + (0) ≤ 0) : W p l e rm_J13_getChars s m args below meth c H locs cells slots (MQ below (th_Qi D B Q) args s 0 0 (th_A B)) (F0 m 104 ls []) := by
  have CF := E.1; have hx := CF.1; have hb := CF.2.1; have hret := E.2.1; have hlk := E.2.2.1; have hnm := E.2.2.2.1; have hK := E.2.2.2.2.1; have hSt := E.2.2.2.2.2
  unfold tw_J13_getChars_b104 at hw
  refine lv_iload hx hb dJ13_getChars_104 (lv_at hL.1 2 rfl) ?_
  refine lv_if_eq hx hb dJ13_getChars_106 (tgt := 118) (by decide) (fun h => ?_) (fun h => ?_)
  · replace hw := hw.1 h
    refine lv_iload hx hb dJ13_getChars_118 (lv_at hL.1 1 rfl) ?_
    exact th_iret hx hb hret hlk hR hS hw (by omega) (by omega) dJ13_getChars_120
  · replace hw := hw.2 h
    refine th_aload_n hx hb dJ13_getChars_109 rfl (lv_at hL.1 0 rfl) ?_
    obtain ⟨x5_4, hx5_4⟩ : ∃ y : Int32, y = x5 + (-1) := ⟨_, rfl⟩
    replace hw := hw x5_4 hx5_4
    refine th_iinc hx hb dJ13_getChars_110 hL (k := 1) rfl (v := x5_4) hx5_4.symm (by decide) rfl (fun ls hL => ?_)
    refine lv_iload hx hb dJ13_getChars_113 (lv_at hL.1 0 rfl) ?_
    refine lv_bipush hx hb dJ13_getChars_115 (v := 45) rfl ?_
    obtain ⟨ha, hw⟩ := hw
    refine th_bast hx hb hK hR hS ha dJ13_getChars_117 (fun G5 H locs hG hR hS => ?_)
    replace hw := hw G5 hG
    refine lv_iload hx hb dJ13_getChars_118 (lv_at hL.1 0 rfl) ?_
    exact th_iret hx hb hret hlk hR hS hw (by omega) (by omega) dJ13_getChars_120
theorem tk_J13_getChars_b72 {p : Program} {l : Launch} {e : Env} {s : State} {m : MethodId} {args : Array Value} {below : List Frame} {meth : Method} {c : Code} {D : tD} {B : Nat} (E : th_E p m c cJ13_getChars 7 s args RJ13 meth ((Option.some Jvm.ClassFile.FieldType.int)) "getChars" D B) {Q : Int32 → aH → Prop} {G : aH} {H : Heap} {locs : List Loc} {cells slots : Nat} {ls : Array Slot} {x0 : Int32} {a2 : Nat} {x5 : Int32} {x6 : Int32} (hR : th_H D B G H) (hS : va_S (th_A B) s.heap H locs) (hL : th_L ls 7 [(0, .int x0), (2, rv a2), (5, .int x5), (6, .int x6)]) (hw : tw_J13_getChars_b72 Q G x0 a2 x5 x6) (hc : cells + (0) ≤ 0 ∧ slots + (0) ≤ 0) : W p l e rm_J13_getChars s m args below meth c H locs cells slots (MQ below (th_Qi D B Q) args s 0 0 (th_A B)) (F0 m 72 ls []) := by
  have CF := E.1; have hx := CF.1; have hb := CF.2.1; have hret := E.2.1; have hlk := E.2.2.1; have hnm := E.2.2.2.1; have hK := E.2.2.2.2.1; have hSt := E.2.2.2.2.2
  unfold tw_J13_getChars_b72 at hw
  refine th_aload_n hx hb dJ13_getChars_72 rfl (lv_at hL.1 1 rfl) ?_
  obtain ⟨x5_1, hx5_1⟩ : ∃ y : Int32, y = x5 + (-1) := ⟨_, rfl⟩
  replace hw := hw x5_1 hx5_1
  refine th_iinc hx hb dJ13_getChars_73 hL (k := 2) rfl (v := x5_1) hx5_1.symm (by decide) rfl (fun ls hL => ?_)
  refine lv_iload hx hb dJ13_getChars_76 (lv_at hL.1 0 rfl) ?_
  obtain ⟨tb2, hztb2, htb2⟩ := hSt.2.2.2.2.2
  refine va_gets hx hb hztb2 hS CF.2.2.2.1 (CF.2.2.2.2 _ q1380) (fun _ h => h) dJ13_getChars_78 ?_
  refine lv_iload_n hx hb dJ13_getChars_81 rfl (lv_at hL.1 1 rfl) ?_
  refine lv_ineg hx hb dJ13_getChars_82 ?_
  obtain ⟨ha, hw⟩ := hw
  refine th_tld hx hb htb2 hS ha rfl dJ13_getChars_83 ?_
  obtain ⟨ha, hw⟩ := hw
  refine th_bast hx hb hK hR hS ha dJ13_getChars_84 (fun G3 H locs hG hR hS => ?_)
  replace hw := hw G3 hG
  refine lv_iload_n hx hb dJ13_getChars_85 rfl (lv_at hL.1 1 rfl) ?_
  refine lv_bipush hx hb dJ13_getChars_86 (v := (-9)) rfl ?_
  refine lv_icmp_ge hx hb dJ13_getChars_88 (tgt := 104) (by decide) (fun h => ?_) (fun h => ?_)
  · replace hw := hw.1 h
    exact tk_J13_getChars_b104 E hR hS (hL.sub [2, 0, 3] rfl) hw ⟨by omega, by omega⟩
  · replace hw := hw.2 h
    refine th_aload_n hx hb dJ13_getChars_91 rfl (lv_at hL.1 2 rfl) ?_
    obtain ⟨x5_6, hx5_6⟩ : ∃ y : Int32, y = x5_1 + (-1) := ⟨_, rfl⟩
    replace hw := hw x5_6 hx5_6
    refine th_iinc hx hb dJ13_getChars_92 hL (k := 0) rfl (v := x5_6) hx5_6.symm (by decide) rfl (fun ls hL => ?_)
    refine lv_iload hx hb dJ13_getChars_95 (lv_at hL.1 0 rfl) ?_
    obtain ⟨tb7, hztb7, htb7⟩ := hSt.2.2.2.2.1
    refine va_gets hx hb hztb7 hS CF.2.2.2.1 (CF.2.2.2.2 _ q1382) (fun _ h => h) dJ13_getChars_97 ?_
    refine lv_iload_n hx hb dJ13_getChars_100 rfl (lv_at hL.1 1 rfl) ?_
    refine lv_ineg hx hb dJ13_getChars_101 ?_
    obtain ⟨ha, hw⟩ := hw
    refine th_tld hx hb htb7 hS ha rfl dJ13_getChars_102 ?_
    obtain ⟨ha, hw⟩ := hw
    refine th_bast hx hb hK hR hS ha dJ13_getChars_103 (fun G8 H locs hG hR hS => ?_)
    replace hw := hw G8 hG
    exact tk_J13_getChars_b104 E hR hS (hL.sub [2, 0, 3] rfl) hw ⟨by omega, by omega⟩
theorem tk_J13_getChars_b22 {p : Program} {l : Launch} {e : Env} {s : State} {m : MethodId} {args : Array Value} {below : List Frame} {meth : Method} {c : Code} {D : tD} {B : Nat} (E : th_E p m c cJ13_getChars 7 s args RJ13 meth ((Option.some Jvm.ClassFile.FieldType.int)) "getChars" D B) {Q : Int32 → aH → Prop} : ∀ (n : Nat) {G : aH} {H : Heap} {locs : List Loc} {cells slots : Nat} {ls : Array Slot} {x0 : Int32} {a2 : Nat} {x5 : Int32} {x6 : Int32} (hR : th_H D B G H) (hS : va_S (th_A B) s.heap H locs) (hL : th_L ls 7 [(0, .int x0), (2, rv a2), (5, .int x5), (6, .int x6)]) (hw : tw_J13_getChars_b22 Q n G x0 a2 x5 x6) (hc : cells + (0) ≤ 0 ∧ slots + (0) ≤ 0), W p l e rm_J13_getChars s m args below meth c H locs cells slots (MQ below (th_Qi D B Q) args s 0 0 (th_A B)) (F0 m 22 ls []) := by
  have CF := E.1; have hx := CF.1; have hb := CF.2.1; have hret := E.2.1; have hlk := E.2.2.1; have hnm := E.2.2.2.1; have hK := E.2.2.2.2.1; have hSt := E.2.2.2.2.2
  intro n
  induction n with
  | zero => intro _ _ _ _ _ _ _ _ _ _ _ _ _ hw; exact hw.elim
  | succ n ih =>
    intro G H locs cells slots ls x0 a2 x5 x6 hR hS hL hw hc
    rw [tws_J13_getChars_b22] at hw
    refine lv_iload_n hx hb dJ13_getChars_22 rfl (lv_at hL.1 0 rfl) ?_
    refine lv_bipush hx hb dJ13_getChars_23 (v := (-100)) rfl ?_
    refine lv_icmp_gt hx hb dJ13_getChars_25 (tgt := 72) (by decide) (fun h => ?_) (fun h => ?_)
    · replace hw := hw.1 h
      exact tk_J13_getChars_b72 E hR hS (hL.sub [0, 1, 2, 3] rfl) hw ⟨by omega, by omega⟩
    · replace hw := hw.2 h
      refine lv_iload_n hx hb dJ13_getChars_28 rfl (lv_at hL.1 0 rfl) ?_
      refine lv_bipush hx hb dJ13_getChars_29 (v := 100) rfl ?_
      refine lv_idiv hx hb dJ13_getChars_31 (by decide) ?_
      obtain ⟨x3_9, hx3_9⟩ : ∃ y : Int32, y = x0 / 100 := ⟨_, rfl⟩
      replace hw := hw x3_9 hx3_9
      refine th_nmi hx3_9 ?_
      refine th_istore_n hx hb dJ13_getChars_32 rfl hL (by decide) rfl (fun ls hL => ?_)
      refine lv_iload_n hx hb dJ13_getChars_33 rfl (lv_at hL.1 0 rfl) ?_
      refine lv_bipush hx hb dJ13_getChars_34 (v := 100) rfl ?_
      refine lv_imul hx hb dJ13_getChars_36 ?_
      refine lv_iload_n hx hb dJ13_getChars_37 rfl (lv_at hL.1 1 rfl) ?_
      refine lv_isub hx hb dJ13_getChars_38 ?_
      obtain ⟨x4_10, hx4_10⟩ : ∃ y : Int32, y = (x3_9 * 100) - x0 := ⟨_, rfl⟩
      replace hw := hw x4_10 hx4_10
      refine th_nmi hx4_10 ?_
      refine th_istore hx hb dJ13_getChars_39 hL (by decide) rfl (fun ls hL => ?_)
      refine lv_iload_n hx hb dJ13_getChars_41 rfl (lv_at hL.1 1 rfl) ?_
      refine th_istore_n hx hb dJ13_getChars_42 rfl hL (by decide) rfl (fun ls hL => ?_)
      refine th_aload_n hx hb dJ13_getChars_43 rfl (lv_at hL.1 3 rfl) ?_
      obtain ⟨x5_11, hx5_11⟩ : ∃ y : Int32, y = x5 + (-1) := ⟨_, rfl⟩
      replace hw := hw x5_11 hx5_11
      refine th_iinc hx hb dJ13_getChars_44 hL (k := 4) rfl (v := x5_11) hx5_11.symm (by decide) rfl (fun ls hL => ?_)
      refine lv_iload hx hb dJ13_getChars_47 (lv_at hL.1 0 rfl) ?_
      obtain ⟨tb12, hztb12, htb12⟩ := hSt.2.2.2.2.2
      refine va_gets hx hb hztb12 hS CF.2.2.2.1 (CF.2.2.2.2 _ q1380) (fun _ h => h) dJ13_getChars_49 ?_
      refine lv_iload hx hb dJ13_getChars_52 (lv_at hL.1 2 rfl) ?_
      obtain ⟨ha, hw⟩ := hw
      refine th_tld hx hb htb12 hS ha rfl dJ13_getChars_54 ?_
      obtain ⟨ha, hw⟩ := hw
      refine th_bast hx hb hK hR hS ha dJ13_getChars_55 (fun G13 H locs hG hR hS => ?_)
      replace hw := hw G13 hG
      refine th_aload_n hx hb dJ13_getChars_56 rfl (lv_at hL.1 4 rfl) ?_
      obtain ⟨x5_14, hx5_14⟩ : ∃ y : Int32, y = x5_11 + (-1) := ⟨_, rfl⟩
      replace hw := hw x5_14 hx5_14
      refine th_iinc hx hb dJ13_getChars_57 hL (k := 0) rfl (v := x5_14) hx5_14.symm (by decide) rfl (fun ls hL => ?_)
      refine lv_iload hx hb dJ13_getChars_60 (lv_at hL.1 0 rfl) ?_
      obtain ⟨tb15, hztb15, htb15⟩ := hSt.2.2.2.2.1
      refine va_gets hx hb hztb15 hS CF.2.2.2.1 (CF.2.2.2.2 _ q1382) (fun _ h => h) dJ13_getChars_62 ?_
      refine lv_iload hx hb dJ13_getChars_65 (lv_at hL.1 2 rfl) ?_
      obtain ⟨ha, hw⟩ := hw
      refine th_tld hx hb htb15 hS ha rfl dJ13_getChars_67 ?_
      obtain ⟨ha, hw⟩ := hw
      refine th_bast hx hb hK hR hS ha dJ13_getChars_68 (fun G16 H locs hG hR hS => ?_)
      replace hw := hw G16 hG
      refine lv_goto hx hb dJ13_getChars_69 (tgt := 22) (by decide) ?_
      exact ih hR hS (hL.sub [1, 4, 0, 5] rfl) hw ⟨by omega, by omega⟩
theorem tk_J13_getChars_b12 {p : Program} {l : Launch} {e : Env} {s : State} {m : MethodId} {args : Array Value} {below : List Frame} {meth : Method} {c : Code} {D : tD} {B : Nat} (E : th_E p m c cJ13_getChars 7 s args RJ13 meth ((Option.some Jvm.ClassFile.FieldType.int)) "getChars" D B) {Q : Int32 → aH → Prop} {G : aH} {H : Heap} {locs : List Loc} {cells slots : Nat} {ls : Array Slot} {x0 : Int32} {a2 : Nat} {x5 : Int32} {tx0 : Int32} (hR : th_H D B G H) (hS : va_S (th_A B) s.heap H locs) (hL : th_L ls 7 [(0, .int x0), (2, rv a2), (5, .int x5)]) (hw : tw_J13_getChars_b12 Q G x0 a2 x5 tx0) (hc : cells + (0) ≤ 0 ∧ slots + (0) ≤ 0) : W p l e rm_J13_getChars s m args below meth c H locs cells slots (MQ below (th_Qi D B Q) args s 0 0 (th_A B)) (F0 m 12 ls [.int tx0]) := by
  have CF := E.1; have hx := CF.1; have hb := CF.2.1; have hret := E.2.1; have hlk := E.2.2.1; have hnm := E.2.2.2.1; have hK := E.2.2.2.2.1; have hSt := E.2.2.2.2.2
  unfold tw_J13_getChars_b12 at hw
  refine th_istore hx hb dJ13_getChars_12 hL (by decide) rfl (fun ls hL => ?_)
  refine lv_iload hx hb dJ13_getChars_14 (lv_at hL.1 0 rfl) ?_
  refine lv_if_ne hx hb dJ13_getChars_16 (tgt := 22) (by decide) (fun h => ?_) (fun h => ?_)
  · replace hw := hw.1 h
    obtain ⟨n9, hw⟩ := hw
    exact tk_J13_getChars_b22 E n9 hR hS (hL.sub [1, 2, 3, 0] rfl) hw ⟨by omega, by omega⟩
  · replace hw := hw.2 h
    refine lv_iload_n hx hb dJ13_getChars_19 rfl (lv_at hL.1 1 rfl) ?_
    refine lv_ineg hx hb dJ13_getChars_20 ?_
    obtain ⟨x0_17, hx0_17⟩ : ∃ y : Int32, y = -x0 := ⟨_, rfl⟩
    replace hw := hw x0_17 hx0_17
    refine th_nmi hx0_17 ?_
    refine th_istore_n hx hb dJ13_getChars_21 rfl hL (by decide) rfl (fun ls hL => ?_)
    obtain ⟨n9, hw⟩ := hw
    exact tk_J13_getChars_b22 E n9 hR hS (hL.sub [0, 2, 3, 1] rfl) hw ⟨by omega, by omega⟩
theorem tk_J13_getChars {l : Launch} {D : tD} {B : Nat} {Q : Int32 → aH → Prop} {x0 : Int32} {x1 : Int32} {a2 : Nat} : Met l yJ13_getChars (ws_ yJ13_getChars cJ13_getChars 7 ((Option.some Jvm.ClassFile.FieldType.int))) rm_J13_getChars (th_P D B [.int x0, .int x1, rv a2] (fun G => tw_J13_getChars Q G x0 x1 a2)) (th_Qi D B Q) 0 0 (th_A B) :=
  th_ofW (by decide +kernel) (th_ci (th_ci (th_cr th_cn))) (Nat.le_of_ble_eq_true rfl) (fun p e s m args below meth c CF hret hlk hnm hK hSt G ls hR hS hw hL => by
    have E : th_E p m c cJ13_getChars 7 s args RJ13 meth ((Option.some Jvm.ClassFile.FieldType.int)) "getChars" D B := ⟨CF, hret, hlk, hnm, hK, hSt⟩
    have hx := CF.1; have hb := CF.2.1
    have hL : th_L ls 7 [(0, .int x0), (1, .int x1), (2, rv a2)] := hL
    unfold tw_J13_getChars at hw
    refine lv_iload_n hx hb dJ13_getChars_0 rfl (lv_at hL.1 1 rfl) ?_
    refine th_istore hx hb dJ13_getChars_1 hL (by decide) rfl (fun ls hL => ?_)
    refine lv_iload_n hx hb dJ13_getChars_3 rfl (lv_at hL.1 1 rfl) ?_
    refine lv_if_ge hx hb dJ13_getChars_4 (tgt := 11) (by decide) (fun h => ?_) (fun h => ?_)
    · replace hw := hw.1 h
      refine lv_iconst hx hb dJ13_getChars_11 (v := 0) rfl ?_
      exact tk_J13_getChars_b12 E hR hS (hL.sub [1, 3, 0] rfl) hw ⟨by omega, by omega⟩
    · replace hw := hw.2 h
      refine lv_iconst hx hb dJ13_getChars_7 (v := 1) rfl ?_
      refine lv_goto hx hb dJ13_getChars_8 (tgt := 12) (by decide) ?_
      exact tk_J13_getChars_b12 E hR hS (hL.sub [1, 3, 0] rfl) hw ⟨by omega, by omega⟩)
def tw_J0_append_2 (Q : Nat → aH → Prop) (G : aH) (a0 : Nat) (x1 : Int32) : Prop :=
  th_o G a0 12 ∧ (
  ∀ x2_1 : Int32, x2_1 = a_mi G a0 3 → 
  (tw_J13_stringSize
    (fun (r3 : Int32) (G2 : aH) =>
      ∀ x3_4 : Int32, x3_4 = x2_1 + r3 → 
      th_o G2 a0 12 ∧ (
      (tw_J0_ensureCapacityInternal
        (fun (G5 : aH) =>
          th_o G5 a0 12 ∧ (
          (tw_J0_isLatin1
            (fun (r7 : Int32) (G6 : aH) =>
              (r7 = 0 →
                False) ∧
              (¬ r7 = 0 →
                th_o G6 a0 12 ∧ (
                (tw_J13_getChars
                  (fun (r9 : Int32) (G8 : aH) =>
                    th_o G8 a0 12 ∧ (
                    ∀ G10 : aH, G10 = a_si G8 a0 3 x3_4 → 
                    Q a0 G10))
                  G6 x1 x3_4 (a_mr G6 a0 0)))))
            G5 a0)))
        G2 a0 x3_4)))
    G x1))
theorem tk_J0_append_2 {l : Launch} {D : tD} {B : Nat} {Q : Nat → aH → Prop} {a0 : Nat} {x1 : Int32} : Met l yJ0_append_2 (ws_ yJ0_append_2 cJ0_append_2 4 ((Option.some (Jvm.ClassFile.FieldType.object "java/lang/AbstractStringBuilder")))) rm_J0_append_2 (th_P D B [rv a0, .int x1] (fun G => tw_J0_append_2 Q G a0 x1)) (th_Qr D B Q) 0 0 (th_A B) :=
  th_ofW (by decide +kernel) (th_cr (th_ci th_cn)) (Nat.le_of_ble_eq_true rfl) (fun p e s m args below meth c CF hret hlk hnm hK hSt G ls hR hS hw hL => by
    have E : th_E p m c cJ0_append_2 4 s args RJ0 meth ((Option.some (Jvm.ClassFile.FieldType.object "java/lang/AbstractStringBuilder"))) "append" D B := ⟨CF, hret, hlk, hnm, hK, hSt⟩
    have hx := CF.1; have hb := CF.2.1
    have hL : th_L ls 4 [(0, rv a0), (1, .int x1)] := hL
    unfold tw_J0_append_2 at hw
    refine th_aload_n hx hb dJ0_append_2_0 rfl (lv_at hL.1 0 rfl) ?_
    obtain ⟨ho, hw⟩ := hw
    refine fg_J0_79 CF hK hR ho dJ0_append_2_1 ?_
    obtain ⟨x2_1, hx2_1⟩ : ∃ y : Int32, y = a_mi G a0 3 := ⟨_, rfl⟩
    replace hw := hw x2_1 hx2_1
    refine th_nmi hx2_1 ?_
    refine th_istore_n hx hb dJ0_append_2_4 rfl hL (by decide) rfl (fun ls hL => ?_)
    refine lv_iload_n hx hb dJ0_append_2_5 rfl (lv_at hL.1 0 rfl) ?_
    refine lv_iload_n hx hb dJ0_append_2_6 rfl (lv_at hL.1 2 rfl) ?_
    refine th_ki hS (th_rS CF hK hSt hR hS (rest := [.int x2_1]) (tk_J13_stringSize) (cw_J0_245 CF hK (by decide +kernel)) hw rfl hL.1.1 rfl (th_ci th_cn) (Nat.le_of_ble_eq_true rfl) dJ0_append_2_7 ⟨by show _ ≤ (0 : Nat); omega, by show _ ≤ (0 : Nat); omega⟩) (fun r3 G2 H locs hw hR hS => ?_)
    refine lv_iadd hx hb dJ0_append_2_10 ?_
    obtain ⟨x3_4, hx3_4⟩ : ∃ y : Int32, y = x2_1 + r3 := ⟨_, rfl⟩
    replace hw := hw x3_4 hx3_4
    refine th_nmi hx3_4 ?_
    refine th_istore_n hx hb dJ0_append_2_11 rfl hL (by decide) rfl (fun ls hL => ?_)
    refine th_aload_n hx hb dJ0_append_2_12 rfl (lv_at hL.1 2 rfl) ?_
    refine lv_iload_n hx hb dJ0_append_2_13 rfl (lv_at hL.1 0 rfl) ?_
    obtain ⟨ho, hw⟩ := hw
    refine th_kv hS (th_rV CF hK hSt hR hS ho (ci := 12) rfl (rest := []) (tk_J0_ensureCapacityInternal) (cw_J0_100 CF hK (by decide +kernel)) hw rfl hL.1.1 rfl th_cn (Nat.le_of_ble_eq_true rfl) dJ0_append_2_14 ⟨by show _ ≤ (0 : Nat); omega, by show _ ≤ (0 : Nat); omega⟩) (fun G5 H locs hw hR hS => ?_)
    refine th_aload_n hx hb dJ0_append_2_17 rfl (lv_at hL.1 2 rfl) ?_
    obtain ⟨ho, hw⟩ := hw
    refine th_ki hS (th_rU CF hK hSt hR hS ho (ci := 12) rfl (rest := []) (tk_J0_isLatin1) (cw_J0_83 CF hK (by decide +kernel)) hw rfl hL.1.1 rfl th_cn (Nat.le_of_ble_eq_true rfl) dJ0_append_2_18 ⟨by show _ ≤ (0 : Nat); omega, by show _ ≤ (0 : Nat); omega⟩) (fun r7 G6 H locs hw hR hS => ?_)
    refine lv_if_eq hx hb dJ0_append_2_21 (tgt := 37) (by decide) (fun h => ?_) (fun h => ?_)
    · replace hw := hw.1 h
      exact hw.elim
    · replace hw := hw.2 h
      refine lv_iload_n hx hb dJ0_append_2_24 rfl (lv_at hL.1 3 rfl) ?_
      refine lv_iload_n hx hb dJ0_append_2_25 rfl (lv_at hL.1 0 rfl) ?_
      refine th_aload_n hx hb dJ0_append_2_26 rfl (lv_at hL.1 2 rfl) ?_
      obtain ⟨ho, hw⟩ := hw
      refine fg_J0_15 CF hK hR ho dJ0_append_2_27 ?_
      refine th_ki hS (th_rS CF hK hSt hR hS (rest := []) (tk_J13_getChars) (cw_J0_248 CF hK (by decide +kernel)) hw rfl hL.1.1 rfl th_cn (Nat.le_of_ble_eq_true rfl) dJ0_append_2_30 ⟨by show _ ≤ (0 : Nat); omega, by show _ ≤ (0 : Nat); omega⟩) (fun r9 G8 H locs hw hR hS => ?_)
      refine lv_pop hx hb dJ0_append_2_33 rfl ?_
      refine lv_goto hx hb dJ0_append_2_34 (tgt := 48) (by decide) ?_
      refine th_aload_n hx hb dJ0_append_2_48 rfl (lv_at hL.1 2 rfl) ?_
      refine lv_iload_n hx hb dJ0_append_2_49 rfl (lv_at hL.1 0 rfl) ?_
      obtain ⟨ho, hw⟩ := hw
      refine fp_J0_79 CF hK hR hS ho dJ0_append_2_50 (fun G10 H locs hG hR hS => ?_)
      replace hw := hw G10 hG
      refine th_aload_n hx hb dJ0_append_2_53 rfl (lv_at hL.1 2 rfl) ?_
      exact th_aret hx hb hret (Or.inl ⟨_, rfl⟩) hlk hR hS hw (by omega) (by omega) dJ0_append_2_54)
def tw_J1_append_2 (Q : Nat → aH → Prop) (G : aH) (a0 : Nat) (x1 : Int32) : Prop :=
  th_o G a0 12 ∧ (
  (tw_J0_append_2
    (fun (b2 : Nat) (G1 : aH) =>
      Q a0 G1)
    G a0 x1))
theorem tk_J1_append_2 {l : Launch} {D : tD} {B : Nat} {Q : Nat → aH → Prop} {a0 : Nat} {x1 : Int32} : Met l yJ1_append_2 (ws_ yJ1_append_2 cJ1_append_2 2 ((Option.some (Jvm.ClassFile.FieldType.object "java/lang/StringBuilder")))) rm_J1_append_2 (th_P D B [rv a0, .int x1] (fun G => tw_J1_append_2 Q G a0 x1)) (th_Qr D B Q) 0 0 (th_A B) :=
  th_ofW (by decide +kernel) (th_cr (th_ci th_cn)) (Nat.le_of_ble_eq_true rfl) (fun p e s m args below meth c CF hret hlk hnm hK hSt G ls hR hS hw hL => by
    have E : th_E p m c cJ1_append_2 2 s args RJ1 meth ((Option.some (Jvm.ClassFile.FieldType.object "java/lang/StringBuilder"))) "append" D B := ⟨CF, hret, hlk, hnm, hK, hSt⟩
    have hx := CF.1; have hb := CF.2.1
    have hL : th_L ls 2 [(0, rv a0), (1, .int x1)] := hL
    unfold tw_J1_append_2 at hw
    refine th_aload_n hx hb dJ1_append_2_0 rfl (lv_at hL.1 0 rfl) ?_
    refine lv_iload_n hx hb dJ1_append_2_1 rfl (lv_at hL.1 1 rfl) ?_
    obtain ⟨ho, hw⟩ := hw
    refine th_kr hS (th_rSU CF hK hSt hR hS ho (ci := 12) rfl (rest := []) (tk_J0_append_2) (cw_J1_53 CF hK (by decide +kernel)) hw rfl hL.1.1 rfl th_cn (Nat.le_of_ble_eq_true rfl) dJ1_append_2_2 ⟨by show _ ≤ (0 : Nat); omega, by show _ ≤ (0 : Nat); omega⟩) (fun b2 G1 H locs hw hR hS => ?_)
    refine lv_pop hx hb dJ1_append_2_5 (rv_cat _) ?_
    refine th_aload_n hx hb dJ1_append_2_6 rfl (lv_at hL.1 0 rfl) ?_
    exact th_aret hx hb hret (Or.inl ⟨_, rfl⟩) hlk hR hS hw (by omega) (by omega) dJ1_append_2_7)
def tw_X0_kindOfLot (Q : Int32 → aH → Prop) (G : aH) (a0 : Nat) (a1 : Nat) : Prop :=
  th_o G a0 0 ∧ (
  th_o G (a_mr G a0 0) 1 ∧ (
  th_o G a1 4 ∧ (
  th_ai G (a_mr G (a_mr G a0 0) 0) 4 (a_mi G a1 0) ∧ (
  th_o G (a_mr G (a_mr G (a_mr G a0 0) 0) (a_mi G a1 0).toNatClampNeg) 2 ∧ (
  Q (a_mi G (a_mr G (a_mr G (a_mr G a0 0) 0) (a_mi G a1 0).toNatClampNeg) 0) G)))))
theorem tk_X0_kindOfLot {l : Launch} {D : tD} {B : Nat} {Q : Int32 → aH → Prop} {a0 : Nat} {a1 : Nat} : Met l yX0_kindOfLot (ws_ yX0_kindOfLot cX0_kindOfLot 2 ((Option.some Jvm.ClassFile.FieldType.int))) rm_X0_kindOfLot (th_P D B [rv a0, rv a1] (fun G => tw_X0_kindOfLot Q G a0 a1)) (th_Qi D B Q) 0 0 (th_A B) :=
  th_ofW (by decide +kernel) (th_cr (th_cr th_cn)) (Nat.le_of_ble_eq_true rfl) (fun p e s m args below meth c CF hret hlk hnm hK hSt G ls hR hS hw hL => by
    have E : th_E p m c cX0_kindOfLot 2 s args RX0 meth ((Option.some Jvm.ClassFile.FieldType.int)) "kindOfLot" D B := ⟨CF, hret, hlk, hnm, hK, hSt⟩
    have hx := CF.1; have hb := CF.2.1
    have hL : th_L ls 2 [(0, rv a0), (1, rv a1)] := hL
    unfold tw_X0_kindOfLot at hw
    refine th_aload_n hx hb dX0_kindOfLot_0 rfl (lv_at hL.1 0 rfl) ?_
    obtain ⟨ho, hw⟩ := hw
    refine fg_X0_22 CF hK hR ho dX0_kindOfLot_1 ?_
    obtain ⟨ho, hw⟩ := hw
    refine fg_X0_101 CF hK hR ho dX0_kindOfLot_4 ?_
    refine th_aload_n hx hb dX0_kindOfLot_7 rfl (lv_at hL.1 1 rfl) ?_
    obtain ⟨ho, hw⟩ := hw
    refine fg_X0_179 CF hK hR ho dX0_kindOfLot_8 ?_
    obtain ⟨ha, hw⟩ := hw
    refine th_aald hx hb hK 4 (by decide) rfl rfl hR ha dX0_kindOfLot_11 ?_
    obtain ⟨ho, hw⟩ := hw
    refine fg_X0_184 CF hK hR ho dX0_kindOfLot_12 ?_
    exact th_iret hx hb hret hlk hR hS hw (by omega) (by omega) dX0_kindOfLot_15)
def tw_X0_signOf (Q : Int32 → aH → Prop) (G : aH) (x0 : Int32) : Prop :=
  (¬ x0 = 0 →
    (¬ x0 = 1 →
      narrow .char (.int 98) = .int 98 ∧ Q 98 G) ∧
    (x0 = 1 →
      narrow .char (.int 114) = .int 114 ∧ Q 114 G)) ∧
  (x0 = 0 →
    narrow .char (.int 119) = .int 119 ∧ Q 119 G)
theorem tk_X0_signOf {l : Launch} {D : tD} {B : Nat} {Q : Int32 → aH → Prop} {x0 : Int32} : Met l yX0_signOf (ws_ yX0_signOf cX0_signOf 1 ((Option.some Jvm.ClassFile.FieldType.char))) rm_X0_signOf (th_P D B [.int x0] (fun G => tw_X0_signOf Q G x0)) (th_Qi D B Q) 0 0 (th_A B) :=
  th_ofW (by decide +kernel) (th_ci th_cn) (Nat.le_of_ble_eq_true rfl) (fun p e s m args below meth c CF hret hlk hnm hK hSt G ls hR hS hw hL => by
    have E : th_E p m c cX0_signOf 1 s args RX0 meth ((Option.some Jvm.ClassFile.FieldType.char)) "signOf" D B := ⟨CF, hret, hlk, hnm, hK, hSt⟩
    have hx := CF.1; have hb := CF.2.1
    have hL : th_L ls 1 [(0, .int x0)] := hL
    unfold tw_X0_signOf at hw
    refine lv_iload_n hx hb dX0_signOf_0 rfl (lv_at hL.1 0 rfl) ?_
    refine lv_if_ne hx hb dX0_signOf_1 (tgt := 9) (by decide) (fun h => ?_) (fun h => ?_)
    · replace hw := hw.1 h
      refine lv_iload_n hx hb dX0_signOf_9 rfl (lv_at hL.1 0 rfl) ?_
      refine lv_iconst hx hb dX0_signOf_10 (v := 1) rfl ?_
      refine lv_icmp_ne hx hb dX0_signOf_11 (tgt := 19) (by decide) (fun h => ?_) (fun h => ?_)
      · replace hw := hw.1 h
        refine lv_bipush hx hb dX0_signOf_19 (v := 98) rfl ?_
        exact th_zret .char hx hb hret hw.1 hlk hR hS hw.2 (by omega) (by omega) dX0_signOf_21
      · replace hw := hw.2 h
        refine lv_bipush hx hb dX0_signOf_14 (v := 114) rfl ?_
        refine lv_goto hx hb dX0_signOf_16 (tgt := 21) (by decide) ?_
        exact th_zret .char hx hb hret hw.1 hlk hR hS hw.2 (by omega) (by omega) dX0_signOf_21
    · replace hw := hw.2 h
      refine lv_bipush hx hb dX0_signOf_4 (v := 119) rfl ?_
      refine lv_goto hx hb dX0_signOf_6 (tgt := 21) (by decide) ?_
      exact th_zret .char hx hb hret hw.1 hlk hR hS hw.2 (by omega) (by omega) dX0_signOf_21)
def tw_X0_describe_b101 (Q : Int32 → aH → Prop) (G : aH) (a0 : Nat) : Prop :=
  th_o G a0 0 ∧ (
  th_o G (a_mr G a0 10) 12 ∧ (
  (tw_J1_length
    (fun (r13 : Int32) (G12 : aH) =>
      Q r13 G12)
    G (a_mr G a0 10))))
def tw_X0_describe_b44 (Q : Int32 → aH → Prop) : Nat → aH → Nat → Nat → Prop := fun n => Nat.rec (motive := fun _ => aH → Nat → Nat → Prop) (fun _ _ _ => False) (fun _ ih G a0 a2 =>
  th_o G a2 20 ∧ (
  (tw_X20_hasNext
    (fun (r11 : Int32) (G10 : aH) =>
      (r11 = 0 →
        tw_X0_describe_b101 Q G10 a0) ∧
      (¬ r11 = 0 →
        th_o G10 a2 20 ∧ (
        (tw_X20_next
          (fun (b15 : Nat) (G14 : aH) =>
            (b15 = 0 ∨ th_o G14 b15 4) ∧ (
            th_o G14 a0 0 ∧ (
            th_o G14 (a_mr G14 a0 10) 12 ∧ (
            (tw_J1_append
              (fun (b17 : Nat) (G16 : aH) =>
                th_o G16 b15 4 ∧ (
                th_o G16 b17 12 ∧ (
                (tw_J1_append_2
                  (fun (b19 : Nat) (G18 : aH) =>
                    th_o G18 a0 0 ∧ (
                    (tw_X0_kindOfLot
                      (fun (r21 : Int32) (G20 : aH) =>
                        (tw_X0_signOf
                          (fun (r23 : Int32) (G22 : aH) =>
                            th_o G22 b19 12 ∧ (
                            (tw_J1_append
                              (fun (b25 : Nat) (G24 : aH) =>
                                th_o G24 b15 4 ∧ (
                                th_o G24 b25 12 ∧ (
                                (tw_J1_append_2
                                  (fun (b27 : Nat) (G26 : aH) =>
                                    ih G26 a0 a2)
                                  G24 b25 (a_mi G24 b15 1)))))
                              G22 b19 r23)))
                          G20 r21))
                      G18 a0 b15)))
                  G16 b17 (a_mi G16 b15 0)))))
              G14 (a_mr G14 a0 10) 32)))))
          G10 a2))))
    G a2))) n
theorem tws_X0_describe_b44 (Q : Int32 → aH → Prop) (n : Nat) (G : aH) (a0 : Nat) (a2 : Nat) : tw_X0_describe_b44 Q (n + 1) G a0 a2 = (
  th_o G a2 20 ∧ (
  (tw_X20_hasNext
    (fun (r11 : Int32) (G10 : aH) =>
      (r11 = 0 →
        tw_X0_describe_b101 Q G10 a0) ∧
      (¬ r11 = 0 →
        th_o G10 a2 20 ∧ (
        (tw_X20_next
          (fun (b15 : Nat) (G14 : aH) =>
            (b15 = 0 ∨ th_o G14 b15 4) ∧ (
            th_o G14 a0 0 ∧ (
            th_o G14 (a_mr G14 a0 10) 12 ∧ (
            (tw_J1_append
              (fun (b17 : Nat) (G16 : aH) =>
                th_o G16 b15 4 ∧ (
                th_o G16 b17 12 ∧ (
                (tw_J1_append_2
                  (fun (b19 : Nat) (G18 : aH) =>
                    th_o G18 a0 0 ∧ (
                    (tw_X0_kindOfLot
                      (fun (r21 : Int32) (G20 : aH) =>
                        (tw_X0_signOf
                          (fun (r23 : Int32) (G22 : aH) =>
                            th_o G22 b19 12 ∧ (
                            (tw_J1_append
                              (fun (b25 : Nat) (G24 : aH) =>
                                th_o G24 b15 4 ∧ (
                                th_o G24 b25 12 ∧ (
                                (tw_J1_append_2
                                  (fun (b27 : Nat) (G26 : aH) =>
                                    tw_X0_describe_b44 Q n G26 a0 a2)
                                  G24 b25 (a_mi G24 b15 1)))))
                              G22 b19 r23)))
                          G20 r21))
                      G18 a0 b15)))
                  G16 b17 (a_mi G16 b15 0)))))
              G14 (a_mr G14 a0 10) 32)))))
          G10 a2))))
    G a2))) := rfl
def tw_X0_describe (Q : Int32 → aH → Prop) (G : aH) (a0 : Nat) (x1 : Int32) : Prop :=
  (tw_X0_isBay
    (fun (r2 : Int32) (G1 : aH) =>
      (¬ r2 = 0 →
        th_o G1 a0 0 ∧ (
        th_o G1 (a_mr G1 a0 10) 12 ∧ (
        (tw_J1_setLength
          (fun (G3 : aH) =>
            th_o G3 a0 0 ∧ (
            th_o G3 (a_mr G3 a0 10) 12 ∧ (
            (tw_J1_append_2
              (fun (b5 : Nat) (G4 : aH) =>
                th_o G4 b5 12 ∧ (
                (tw_J1_append
                  (fun (b7 : Nat) (G6 : aH) =>
                    th_o G6 a0 0 ∧ (
                    th_o G6 (a_mr G6 a0 0) 1 ∧ (
                    th_ai G6 (a_mr G6 (a_mr G6 a0 0) 2) 5 x1 ∧ (
                    th_o G6 (a_mr G6 (a_mr G6 (a_mr G6 a0 0) 2) x1.toNatClampNeg) 3 ∧ (
                    (tw_X3_iterator
                      (fun (b9 : Nat) (G8 : aH) =>
                        ∃ n9 : Nat, tw_X0_describe_b44 Q n9 G8 a0 b9)
                      G6 (a_mr G6 (a_mr G6 (a_mr G6 a0 0) 2) x1.toNatClampNeg)))))))
                  G4 b5 58)))
              G3 (a_mr G3 a0 10) x1))))
          G1 (a_mr G1 a0 10) 0)))) ∧
      (r2 = 0 →
        Q (-1) G1))
    G x1)
theorem tk_X0_describe_b101 {p : Program} {l : Launch} {e : Env} {s : State} {m : MethodId} {args : Array Value} {below : List Frame} {meth : Method} {c : Code} {D : tD} {B : Nat} (E : th_E p m c cX0_describe 4 s args RX0 meth ((Option.some Jvm.ClassFile.FieldType.int)) "describe" D B) {Q : Int32 → aH → Prop} {G : aH} {H : Heap} {locs : List Loc} {cells slots : Nat} {ls : Array Slot} {a0 : Nat} (hR : th_H D B G H) (hS : va_S (th_A B) s.heap H locs) (hL : th_L ls 4 [(0, rv a0)]) (hw : tw_X0_describe_b101 Q G a0) (hc : cells + (0) ≤ 1 ∧ slots + (0) ≤ 2) : W p l e rm_X0_describe s m args below meth c H locs cells slots (MQ below (th_Qi D B Q) args s 1 2 (th_A B)) (F0 m 101 ls []) := by
  have CF := E.1; have hx := CF.1; have hb := CF.2.1; have hret := E.2.1; have hlk := E.2.2.1; have hnm := E.2.2.2.1; have hK := E.2.2.2.2.1; have hSt := E.2.2.2.2.2
  unfold tw_X0_describe_b101 at hw
  refine th_aload_n hx hb dX0_describe_101 rfl (lv_at hL.1 0 rfl) ?_
  obtain ⟨ho, hw⟩ := hw
  refine fg_X0_50 CF hK hR ho dX0_describe_102 ?_
  obtain ⟨ho, hw⟩ := hw
  refine th_ki hS (th_rV CF hK hSt hR hS ho (ci := 12) rfl (rest := []) (tk_J1_length) (cw_X0_286 CF hK (by decide +kernel)) hw rfl hL.1.1 rfl th_cn (Nat.le_of_ble_eq_true rfl) dX0_describe_105 ⟨by show _ ≤ (1 : Nat); omega, by show _ ≤ (2 : Nat); omega⟩) (fun r13 G12 H locs hw hR hS => ?_)
  exact th_iret hx hb hret hlk hR hS hw (by omega) (by omega) dX0_describe_108
theorem tk_X0_describe_b44 {p : Program} {l : Launch} {e : Env} {s : State} {m : MethodId} {args : Array Value} {below : List Frame} {meth : Method} {c : Code} {D : tD} {B : Nat} (E : th_E p m c cX0_describe 4 s args RX0 meth ((Option.some Jvm.ClassFile.FieldType.int)) "describe" D B) {Q : Int32 → aH → Prop} : ∀ (n : Nat) {G : aH} {H : Heap} {locs : List Loc} {cells slots : Nat} {ls : Array Slot} {a0 : Nat} {a2 : Nat} (hR : th_H D B G H) (hS : va_S (th_A B) s.heap H locs) (hL : th_L ls 4 [(0, rv a0), (2, rv a2)]) (hw : tw_X0_describe_b44 Q n G a0 a2) (hc : cells + (0) ≤ 1 ∧ slots + (0) ≤ 2), W p l e rm_X0_describe s m args below meth c H locs cells slots (MQ below (th_Qi D B Q) args s 1 2 (th_A B)) (F0 m 44 ls []) := by
  have CF := E.1; have hx := CF.1; have hb := CF.2.1; have hret := E.2.1; have hlk := E.2.2.1; have hnm := E.2.2.2.1; have hK := E.2.2.2.2.1; have hSt := E.2.2.2.2.2
  intro n
  induction n with
  | zero => intro _ _ _ _ _ _ _ _ _ _ _ hw; exact hw.elim
  | succ n ih =>
    intro G H locs cells slots ls a0 a2 hR hS hL hw hc
    rw [tws_X0_describe_b44] at hw
    refine th_aload_n hx hb dX0_describe_44 rfl (lv_at hL.1 1 rfl) ?_
    obtain ⟨ho, hw⟩ := hw
    refine th_k5i hS (th_rF CF hK hSt hR hS ho (ci := 20) rfl (rest := []) (tk_X20_hasNext) (cw_X0_394 CF hK (by decide +kernel)) hw rfl hL.1.1 rfl th_cn (Nat.le_of_ble_eq_true rfl) dX0_describe_45 ⟨by show _ ≤ (1 : Nat); omega, by show _ ≤ (2 : Nat); omega⟩) (fun r11 G10 H locs hw hR hS => ?_)
    refine lv_if_eq hx hb dX0_describe_50 (tgt := 101) (by decide) (fun h => ?_) (fun h => ?_)
    · replace hw := hw.1 h
      exact tk_X0_describe_b101 E hR hS (hL.sub [0] rfl) hw ⟨by omega, by omega⟩
    · replace hw := hw.2 h
      refine th_aload_n hx hb dX0_describe_53 rfl (lv_at hL.1 1 rfl) ?_
      obtain ⟨ho, hw⟩ := hw
      refine th_k5r hS (th_rF CF hK hSt hR hS ho (ci := 20) rfl (rest := []) (tk_X20_next) (cw_X0_399 CF hK (by decide +kernel)) hw rfl hL.1.1 rfl th_cn (Nat.le_of_ble_eq_true rfl) dX0_describe_54 ⟨by show _ ≤ (1 : Nat); omega, by show _ ≤ (2 : Nat); omega⟩) (fun b15 G14 H locs hw hR hS => ?_)
      obtain ⟨ho, hw⟩ := hw
      refine th_cast hx hb CF.2.2.2.1 (ci := 4) rfl (CF.2.2.2.2 _ q1253) hK hR ho dX0_describe_59 ?_
      refine th_astore_n hx hb dX0_describe_62 rfl hL (by decide) rfl (fun ls hL => ?_)
      refine th_aload_n hx hb dX0_describe_63 rfl (lv_at hL.1 1 rfl) ?_
      obtain ⟨ho, hw⟩ := hw
      refine fg_X0_50 CF hK hR ho dX0_describe_64 ?_
      refine lv_bipush hx hb dX0_describe_67 (v := 32) rfl ?_
      obtain ⟨ho, hw⟩ := hw
      refine th_kr hS (th_rV CF hK hSt hR hS ho (ci := 12) rfl (rest := []) (tk_J1_append) (cw_X0_289 CF hK (by decide +kernel)) hw rfl hL.1.1 rfl th_cn (Nat.le_of_ble_eq_true rfl) dX0_describe_69 ⟨by show _ ≤ (1 : Nat); omega, by show _ ≤ (2 : Nat); omega⟩) (fun b17 G16 H locs hw hR hS => ?_)
      refine th_aload_n hx hb dX0_describe_72 rfl (lv_at hL.1 0 rfl) ?_
      obtain ⟨ho, hw⟩ := hw
      refine fg_X0_179 CF hK hR ho dX0_describe_73 ?_
      obtain ⟨ho, hw⟩ := hw
      refine th_kr hS (th_rV CF hK hSt hR hS ho (ci := 12) rfl (rest := []) (tk_J1_append_2) (cw_X0_480 CF hK (by decide +kernel)) hw rfl hL.1.1 rfl th_cn (Nat.le_of_ble_eq_true rfl) dX0_describe_76 ⟨by show _ ≤ (1 : Nat); omega, by show _ ≤ (2 : Nat); omega⟩) (fun b19 G18 H locs hw hR hS => ?_)
      refine th_aload_n hx hb dX0_describe_79 rfl (lv_at hL.1 1 rfl) ?_
      refine th_aload_n hx hb dX0_describe_80 rfl (lv_at hL.1 0 rfl) ?_
      obtain ⟨ho, hw⟩ := hw
      refine th_ki hS (th_rV CF hK hSt hR hS ho (ci := 0) rfl (rest := [rv b19]) (tk_X0_kindOfLot) (cw_X0_194 CF hK (by decide +kernel)) hw rfl hL.1.1 rfl (th_cr th_cn) (Nat.le_of_ble_eq_true rfl) dX0_describe_81 ⟨by show _ ≤ (1 : Nat); omega, by show _ ≤ (2 : Nat); omega⟩) (fun r21 G20 H locs hw hR hS => ?_)
      refine th_ki hS (th_rS CF hK hSt hR hS (rest := [rv b19]) (tk_X0_signOf) (cw_X0_317 CF hK (by decide +kernel)) hw rfl hL.1.1 rfl (th_cr th_cn) (Nat.le_of_ble_eq_true rfl) dX0_describe_84 ⟨by show _ ≤ (1 : Nat); omega, by show _ ≤ (2 : Nat); omega⟩) (fun r23 G22 H locs hw hR hS => ?_)
      obtain ⟨ho, hw⟩ := hw
      refine th_kr hS (th_rV CF hK hSt hR hS ho (ci := 12) rfl (rest := []) (tk_J1_append) (cw_X0_289 CF hK (by decide +kernel)) hw rfl hL.1.1 rfl th_cn (Nat.le_of_ble_eq_true rfl) dX0_describe_87 ⟨by show _ ≤ (1 : Nat); omega, by show _ ≤ (2 : Nat); omega⟩) (fun b25 G24 H locs hw hR hS => ?_)
      refine th_aload_n hx hb dX0_describe_90 rfl (lv_at hL.1 0 rfl) ?_
      obtain ⟨ho, hw⟩ := hw
      refine fg_X0_198 CF hK hR ho dX0_describe_91 ?_
      obtain ⟨ho, hw⟩ := hw
      refine th_kr hS (th_rV CF hK hSt hR hS ho (ci := 12) rfl (rest := []) (tk_J1_append_2) (cw_X0_480 CF hK (by decide +kernel)) hw rfl hL.1.1 rfl th_cn (Nat.le_of_ble_eq_true rfl) dX0_describe_94 ⟨by show _ ≤ (1 : Nat); omega, by show _ ≤ (2 : Nat); omega⟩) (fun b27 G26 H locs hw hR hS => ?_)
      refine lv_pop hx hb dX0_describe_97 (rv_cat _) ?_
      refine lv_goto hx hb dX0_describe_98 (tgt := 44) (by decide) ?_
      exact ih hR hS (hL.sub [1, 2] rfl) hw ⟨by omega, by omega⟩
theorem tk_X0_describe {l : Launch} {D : tD} {B : Nat} {Q : Int32 → aH → Prop} {a0 : Nat} {x1 : Int32} : Met l yX0_describe (ws_ yX0_describe cX0_describe 4 ((Option.some Jvm.ClassFile.FieldType.int))) rm_X0_describe (th_P D B [rv a0, .int x1] (fun G => tw_X0_describe Q G a0 x1)) (th_Qi D B Q) 1 2 (th_A B) :=
  th_ofW (by decide +kernel) (th_cr (th_ci th_cn)) (Nat.le_of_ble_eq_true rfl) (fun p e s m args below meth c CF hret hlk hnm hK hSt G ls hR hS hw hL => by
    have E : th_E p m c cX0_describe 4 s args RX0 meth ((Option.some Jvm.ClassFile.FieldType.int)) "describe" D B := ⟨CF, hret, hlk, hnm, hK, hSt⟩
    have hx := CF.1; have hb := CF.2.1
    have hL : th_L ls 4 [(0, rv a0), (1, .int x1)] := hL
    unfold tw_X0_describe at hw
    refine lv_iload_n hx hb dX0_describe_0 rfl (lv_at hL.1 1 rfl) ?_
    refine th_ki hS (th_rS CF hK hSt hR hS (rest := []) (tk_X0_isBay) (cw_X0_143 CF hK (by decide +kernel)) hw rfl hL.1.1 rfl th_cn (Nat.le_of_ble_eq_true rfl) dX0_describe_1 ⟨by show _ ≤ (1 : Nat); omega, by show _ ≤ (2 : Nat); omega⟩) (fun r2 G1 H locs hw hR hS => ?_)
    refine lv_if_ne hx hb dX0_describe_4 (tgt := 9) (by decide) (fun h => ?_) (fun h => ?_)
    · replace hw := hw.1 h
      refine th_aload_n hx hb dX0_describe_9 rfl (lv_at hL.1 0 rfl) ?_
      obtain ⟨ho, hw⟩ := hw
      refine fg_X0_50 CF hK hR ho dX0_describe_10 ?_
      refine lv_iconst hx hb dX0_describe_13 (v := 0) rfl ?_
      obtain ⟨ho, hw⟩ := hw
      refine th_kv hS (th_rV CF hK hSt hR hS ho (ci := 12) rfl (rest := []) (tk_J1_setLength) (cw_X0_367 CF hK (by decide +kernel)) hw rfl hL.1.1 rfl th_cn (Nat.le_of_ble_eq_true rfl) dX0_describe_14 ⟨by show _ ≤ (1 : Nat); omega, by show _ ≤ (2 : Nat); omega⟩) (fun G3 H locs hw hR hS => ?_)
      refine th_aload_n hx hb dX0_describe_17 rfl (lv_at hL.1 0 rfl) ?_
      obtain ⟨ho, hw⟩ := hw
      refine fg_X0_50 CF hK hR ho dX0_describe_18 ?_
      refine lv_iload_n hx hb dX0_describe_21 rfl (lv_at hL.1 1 rfl) ?_
      obtain ⟨ho, hw⟩ := hw
      refine th_kr hS (th_rV CF hK hSt hR hS ho (ci := 12) rfl (rest := []) (tk_J1_append_2) (cw_X0_480 CF hK (by decide +kernel)) hw rfl hL.1.1 rfl th_cn (Nat.le_of_ble_eq_true rfl) dX0_describe_22 ⟨by show _ ≤ (1 : Nat); omega, by show _ ≤ (2 : Nat); omega⟩) (fun b5 G4 H locs hw hR hS => ?_)
      refine lv_bipush hx hb dX0_describe_25 (v := 58) rfl ?_
      obtain ⟨ho, hw⟩ := hw
      refine th_kr hS (th_rV CF hK hSt hR hS ho (ci := 12) rfl (rest := []) (tk_J1_append) (cw_X0_289 CF hK (by decide +kernel)) hw rfl hL.1.1 rfl th_cn (Nat.le_of_ble_eq_true rfl) dX0_describe_27 ⟨by show _ ≤ (1 : Nat); omega, by show _ ≤ (2 : Nat); omega⟩) (fun b7 G6 H locs hw hR hS => ?_)
      refine lv_pop hx hb dX0_describe_30 (rv_cat _) ?_
      refine th_aload_n hx hb dX0_describe_31 rfl (lv_at hL.1 0 rfl) ?_
      obtain ⟨ho, hw⟩ := hw
      refine fg_X0_22 CF hK hR ho dX0_describe_32 ?_
      obtain ⟨ho, hw⟩ := hw
      refine fg_X0_150 CF hK hR ho dX0_describe_35 ?_
      refine lv_iload_n hx hb dX0_describe_38 rfl (lv_at hL.1 1 rfl) ?_
      obtain ⟨ha, hw⟩ := hw
      refine th_aald hx hb hK 5 (by decide) rfl rfl hR ha dX0_describe_39 ?_
      obtain ⟨ho, hw⟩ := hw
      refine th_kr hS (th_rV CF hK hSt hR hS ho (ci := 3) rfl (rest := []) (tk_X3_iterator) (cw_X0_390 CF hK (by decide +kernel)) hw rfl hL.1.1 rfl th_cn (Nat.le_of_ble_eq_true rfl) dX0_describe_40 ⟨by show _ ≤ (1 : Nat); omega, by show _ ≤ (2 : Nat); omega⟩) (fun b9 G8 H locs hw hR hS => ?_)
      refine th_astore_n hx hb dX0_describe_43 rfl hL (by decide) rfl (fun ls hL => ?_)
      obtain ⟨n9, hw⟩ := hw
      exact tk_X0_describe_b44 E n9 hR hS (hL.sub [1, 0] rfl) hw ⟨by omega, by omega⟩
    · replace hw := hw.2 h
      refine lv_iconst hx hb dX0_describe_7 (v := (-1)) rfl ?_
      exact th_iret hx hb hret hlk hR hS hw (by omega) (by omega) dX0_describe_8)
def tw_X0_fault (Q : Int32 → aH → Prop) (G : aH) (a0 : Nat) : Prop :=
  th_o G a0 0 ∧ (
  Q (a_mi G a0 8) G)
theorem tk_X0_fault {l : Launch} {D : tD} {B : Nat} {Q : Int32 → aH → Prop} {a0 : Nat} : Met l yX0_fault (ws_ yX0_fault cX0_fault 1 ((Option.some Jvm.ClassFile.FieldType.int))) rm_X0_fault (th_P D B [rv a0] (fun G => tw_X0_fault Q G a0)) (th_Qi D B Q) 0 0 (th_A B) :=
  th_ofW (by decide +kernel) (th_cr th_cn) (Nat.le_of_ble_eq_true rfl) (fun p e s m args below meth c CF hret hlk hnm hK hSt G ls hR hS hw hL => by
    have E : th_E p m c cX0_fault 1 s args RX0 meth ((Option.some Jvm.ClassFile.FieldType.int)) "fault" D B := ⟨CF, hret, hlk, hnm, hK, hSt⟩
    have hx := CF.1; have hb := CF.2.1
    have hL : th_L ls 1 [(0, rv a0)] := hL
    unfold tw_X0_fault at hw
    refine th_aload_n hx hb dX0_fault_0 rfl (lv_at hL.1 0 rfl) ?_
    obtain ⟨ho, hw⟩ := hw
    refine fg_X0_39 CF hK hR ho dX0_fault_1 ?_
    exact th_iret hx hb hret hlk hR hS hw (by omega) (by omega) dX0_fault_4)
def tw_X0_isFloor (Q : Int32 → aH → Prop) (G : aH) (x0 : Int32) : Prop :=
  (tw_X0_within
    (fun (r2 : Int32) (G1 : aH) =>
      narrow .boolean (.int r2) = .int r2 ∧ Q r2 G1)
    G x0 0 1)
theorem tk_X0_isFloor {l : Launch} {D : tD} {B : Nat} {Q : Int32 → aH → Prop} {x0 : Int32} : Met l yX0_isFloor (ws_ yX0_isFloor cX0_isFloor 1 ((Option.some Jvm.ClassFile.FieldType.boolean))) rm_X0_isFloor (th_P D B [.int x0] (fun G => tw_X0_isFloor Q G x0)) (th_Qi D B Q) 0 0 (th_A B) :=
  th_ofW (by decide +kernel) (th_ci th_cn) (Nat.le_of_ble_eq_true rfl) (fun p e s m args below meth c CF hret hlk hnm hK hSt G ls hR hS hw hL => by
    have E : th_E p m c cX0_isFloor 1 s args RX0 meth ((Option.some Jvm.ClassFile.FieldType.boolean)) "isFloor" D B := ⟨CF, hret, hlk, hnm, hK, hSt⟩
    have hx := CF.1; have hb := CF.2.1
    have hL : th_L ls 1 [(0, .int x0)] := hL
    unfold tw_X0_isFloor at hw
    refine lv_iload_n hx hb dX0_isFloor_0 rfl (lv_at hL.1 0 rfl) ?_
    refine lv_iconst hx hb dX0_isFloor_1 (v := 0) rfl ?_
    refine lv_iconst hx hb dX0_isFloor_2 (v := 1) rfl ?_
    refine th_ki hS (th_rS CF hK hSt hR hS (rest := []) (tk_X0_within) (cw_X0_82 CF hK (by decide +kernel)) hw rfl hL.1.1 rfl th_cn (Nat.le_of_ble_eq_true rfl) dX0_isFloor_3 ⟨by show _ ≤ (0 : Nat); omega, by show _ ≤ (0 : Nat); omega⟩) (fun r2 G1 H locs hw hR hS => ?_)
    exact th_zret .boolean hx hb hret hw.1 hlk hR hS hw.2 (by omega) (by omega) dX0_isFloor_6)
def tw_X0_doFlails (Q : Int32 → aH → Prop) (X : Nat → aH → Prop) (G : aH) (a0 : Nat) (x1 : Int32) (x2 : Int32) : Prop :=
  (tw_X0_isFloor
    (fun (r2 : Int32) (G1 : aH) =>
      (tw_X0_want
        (fun (G3 : aH) =>
          (tw_X0_within
            (fun (r5 : Int32) (G4 : aH) =>
              (tw_X0_want
                (fun (G6 : aH) =>
                  th_o G6 a0 0 ∧ (
                  th_o G6 (a_mr G6 a0 0) 1 ∧ (
                  th_ai G6 (a_mr G6 (a_mr G6 a0 0) 3) 6 x1 ∧ (
                  th_o G6 (a_mr G6 (a_mr G6 (a_mr G6 a0 0) 3) x1.toNatClampNeg) 5 ∧ (
                  ∀ x3_7 : Int32, x3_7 = a_mi G6 (a_mr G6 (a_mr G6 (a_mr G6 a0 0) 3) x1.toNatClampNeg) 2 → 
                  th_o G6 a0 0 ∧ (
                  th_o G6 (a_mr G6 a0 0) 1 ∧ (
                  th_ai G6 (a_mr G6 (a_mr G6 a0 0) 3) 6 x1 ∧ (
                  th_o G6 (a_mr G6 (a_mr G6 (a_mr G6 a0 0) 3) x1.toNatClampNeg) 5 ∧ (
                  ∀ G8 : aH, G8 = a_si G6 (a_mr G6 (a_mr G6 (a_mr G6 a0 0) 3) x1.toNatClampNeg) 2 x2 → 
                  Q x3_7 G8)))))))))
                X
                G4 r5 (-2)))
            G3 x2 1 6))
        X
        G1 r2 (-1)))
    G x1)
theorem tk_X0_doFlails {l : Launch} {D : tD} {B : Nat} {Q : Int32 → aH → Prop} {X : Nat → aH → Prop} {a0 : Nat} {x1 : Int32} {x2 : Int32} : vz_Met l yX0_doFlails (ws_ yX0_doFlails cX0_doFlails 4 ((Option.some Jvm.ClassFile.FieldType.int))) rm_X0_doFlails (th_P D B [rv a0, .int x1, .int x2] (fun G => tw_X0_doFlails Q X G a0 x1 x2)) (th_Qi D B Q) (th_X D B X) 2 14 (th_A B) :=
  th_ofX (by decide +kernel) (th_cr (th_ci (th_ci th_cn))) (Nat.le_of_ble_eq_true rfl) (fun p e s m args below meth c CF hret hlk hnm htab0 hK hSt G ls hR hS hw hL => by
    have E : th_E p m c cX0_doFlails 4 s args RX0 meth ((Option.some Jvm.ClassFile.FieldType.int)) "doFlails" D B := ⟨CF, hret, hlk, hnm, hK, hSt⟩
    have htab : c.exceptionTable.toList = tableOf [] := th_notab htab0
    have hx := CF.1; have hb := CF.2.1
    have hL : th_L ls 4 [(0, rv a0), (1, .int x1), (2, .int x2)] := hL
    unfold tw_X0_doFlails at hw
    refine lv_iload_n hx hb dX0_doFlails_0 rfl (lv_at hL.1 1 rfl) ?_
    refine th_ki hS (th_rS CF hK hSt hR hS (rest := []) (tk_X0_isFloor) (cw_X0_199 CF hK (by decide +kernel)) hw rfl hL.1.1 rfl th_cn (Nat.le_of_ble_eq_true rfl) dX0_doFlails_1 ⟨by show _ ≤ (2 : Nat); omega, by show _ ≤ (14 : Nat); omega⟩) (fun r2 G1 H locs hw hR hS => ?_)
    refine lv_iconst hx hb dX0_doFlails_4 (v := (-1)) rfl ?_
    refine th_Xkv hS (th_XrS CF hK hSt hR hS (rest := []) (tk_X0_want) (cw_X0_93 CF hK (by decide +kernel)) hw rfl hL.1.1 rfl th_cn (Nat.le_of_ble_eq_true rfl) dX0_doFlails_5 ⟨by show _ ≤ (2 : Nat); omega, by show _ ≤ (14 : Nat); omega⟩) (fun e9 G9 H locs hw ho hR hS => ?_) (fun G3 H locs hw hR hS => ?_)
    · exact th_out hK hlk (by rw [htab]; decide) hR hS hw ho (by omega) (by omega)
    · skip
      refine lv_iload_n hx hb dX0_doFlails_8 rfl (lv_at hL.1 2 rfl) ?_
      refine lv_iconst hx hb dX0_doFlails_9 (v := 1) rfl ?_
      refine lv_bipush hx hb dX0_doFlails_10 (v := 6) rfl ?_
      refine th_ki hS (th_rS CF hK hSt hR hS (rest := []) (tk_X0_within) (cw_X0_82 CF hK (by decide +kernel)) hw rfl hL.1.1 rfl th_cn (Nat.le_of_ble_eq_true rfl) dX0_doFlails_12 ⟨by show _ ≤ (2 : Nat); omega, by show _ ≤ (14 : Nat); omega⟩) (fun r5 G4 H locs hw hR hS => ?_)
      refine lv_bipush hx hb dX0_doFlails_15 (v := (-2)) rfl ?_
      refine th_Xkv hS (th_XrS CF hK hSt hR hS (rest := []) (tk_X0_want) (cw_X0_93 CF hK (by decide +kernel)) hw rfl hL.1.1 rfl th_cn (Nat.le_of_ble_eq_true rfl) dX0_doFlails_17 ⟨by show _ ≤ (2 : Nat); omega, by show _ ≤ (14 : Nat); omega⟩) (fun e9 G9 H locs hw ho hR hS => ?_) (fun G6 H locs hw hR hS => ?_)
      · exact th_out hK hlk (by rw [htab]; decide) hR hS hw ho (by omega) (by omega)
      · skip
        refine th_aload_n hx hb dX0_doFlails_20 rfl (lv_at hL.1 0 rfl) ?_
        obtain ⟨ho, hw⟩ := hw
        refine fg_X0_22 CF hK hR ho dX0_doFlails_21 ?_
        obtain ⟨ho, hw⟩ := hw
        refine fg_X0_202 CF hK hR ho dX0_doFlails_24 ?_
        refine lv_iload_n hx hb dX0_doFlails_27 rfl (lv_at hL.1 1 rfl) ?_
        obtain ⟨ha, hw⟩ := hw
        refine th_aald hx hb hK 6 (by decide) rfl rfl hR ha dX0_doFlails_28 ?_
        obtain ⟨ho, hw⟩ := hw
        refine fg_X0_220 CF hK hR ho dX0_doFlails_29 ?_
        obtain ⟨x3_7, hx3_7⟩ : ∃ y : Int32, y = a_mi G6 (a_mr G6 (a_mr G6 (a_mr G6 a0 0) 3) x1.toNatClampNeg) 2 := ⟨_, rfl⟩
        replace hw := hw x3_7 hx3_7
        refine th_nmi hx3_7 ?_
        refine th_istore_n hx hb dX0_doFlails_32 rfl hL (by decide) rfl (fun ls hL => ?_)
        refine th_aload_n hx hb dX0_doFlails_33 rfl (lv_at hL.1 1 rfl) ?_
        obtain ⟨ho, hw⟩ := hw
        refine fg_X0_22 CF hK hR ho dX0_doFlails_34 ?_
        obtain ⟨ho, hw⟩ := hw
        refine fg_X0_202 CF hK hR ho dX0_doFlails_37 ?_
        refine lv_iload_n hx hb dX0_doFlails_40 rfl (lv_at hL.1 2 rfl) ?_
        obtain ⟨ha, hw⟩ := hw
        refine th_aald hx hb hK 6 (by decide) rfl rfl hR ha dX0_doFlails_41 ?_
        refine lv_iload_n hx hb dX0_doFlails_42 rfl (lv_at hL.1 3 rfl) ?_
        obtain ⟨ho, hw⟩ := hw
        refine fp_X0_220 CF hK hR hS ho dX0_doFlails_43 (fun G8 H locs hG hR hS => ?_)
        replace hw := hw G8 hG
        refine lv_iload_n hx hb dX0_doFlails_46 rfl (lv_at hL.1 0 rfl) ?_
        exact vz_ret (th_iret hx hb hret hlk hR hS hw (by omega) (by omega) dX0_doFlails_47))
