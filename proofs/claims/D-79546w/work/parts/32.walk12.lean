/-! WALKS: X8_bestCat X8_isKind X8_binOf X8_starts X8_isParish X8_refuses X8_carts X8_keeps X8_keepsWhy X8_remembers X8_ends X8_cart X8_isPlace X8_comes X8_cat X8_begins -/
set_option maxRecDepth 100000
def tw_X8_bestCat_b64 (Q : Int32 → aH → Prop) (G : aH) (a0 : Nat) (x1 : Int32) (x2 : Int32) (x3 : Int32) : Prop :=
  (¬ x1 = 1 →
    Q x2 G) ∧
  (x1 = 1 →
    th_o G a0 8 ∧ (
    (tw_X8_eatenWith
      (fun (r6 : Int32) (G5 : aH) =>
        Q (if 0 < r6 - x3 then r6 - x3 else 0) G5)
      G a0 (-1))))
def tw_X8_bestCat_b50 (Q : Int32 → aH → Prop) (k23 : aH → Nat → Int32 → Int32 → Int32 → Int32 → Prop) (G : aH) (a0 : Nat) (x1 : Int32) (x3 : Int32) (x4 : Int32) (x5 : Int32) (tx0 : Int32) : Prop :=
  ∀ x3_9 : Int32, x3_9 = (if x5 < x3 then x5 else x3) → 
  ∀ x4_10 : Int32, x4_10 = x4 + 1 → 
  k23 G a0 x1 tx0 x3_9 x4_10
def tw_X8_bestCat_b23 (Q : Int32 → aH → Prop) : Nat → aH → Nat → Int32 → Int32 → Int32 → Int32 → Prop := fun n => Nat.rec (motive := fun _ => aH → Nat → Int32 → Int32 → Int32 → Int32 → Prop) (fun _ _ _ _ _ _ => False) (fun _ ih G a0 x1 x2 x3 x4 =>
  (7 ≤ x4 →
    tw_X8_bestCat_b64 Q G a0 x1 x2 x3) ∧
  (¬ 7 ≤ x4 →
    th_o G a0 8 ∧ (
    (tw_X8_eatenWith
      (fun (r8 : Int32) (G7 : aH) =>
        (x3 ≤ r8 →
          tw_X8_bestCat_b50 Q (ih) G7 a0 x1 x3 x4 r8 x2) ∧
        (¬ x3 ≤ r8 →
          tw_X8_bestCat_b50 Q (ih) G7 a0 x1 x3 x4 r8 x4))
      G a0 x4)))) n
theorem tws_X8_bestCat_b23 (Q : Int32 → aH → Prop) (n : Nat) (G : aH) (a0 : Nat) (x1 : Int32) (x2 : Int32) (x3 : Int32) (x4 : Int32) : tw_X8_bestCat_b23 Q (n + 1) G a0 x1 x2 x3 x4 = (
  (7 ≤ x4 →
    tw_X8_bestCat_b64 Q G a0 x1 x2 x3) ∧
  (¬ 7 ≤ x4 →
    th_o G a0 8 ∧ (
    (tw_X8_eatenWith
      (fun (r8 : Int32) (G7 : aH) =>
        (x3 ≤ r8 →
          tw_X8_bestCat_b50 Q (tw_X8_bestCat_b23 Q n) G7 a0 x1 x3 x4 r8 x2) ∧
        (¬ x3 ≤ r8 →
          tw_X8_bestCat_b50 Q (tw_X8_bestCat_b23 Q n) G7 a0 x1 x3 x4 r8 x4))
      G a0 x4)))) := rfl
def tw_X8_bestCat (Q : Int32 → aH → Prop) (G : aH) (a0 : Nat) (x1 : Int32) : Prop :=
  (tw_X8_isIn
    (fun (r2 : Int32) (G1 : aH) =>
      (¬ r2 = 0 →
        th_o G1 a0 8 ∧ (
        (tw_X8_eatenWith
          (fun (r4 : Int32) (G3 : aH) =>
            ∃ n9 : Nat, tw_X8_bestCat_b23 Q n9 G3 a0 x1 0 r4 1)
          G1 a0 0))) ∧
      (r2 = 0 →
        Q (-2) G1))
    G x1 0 1)
theorem tk_X8_bestCat_b64 {p : Program} {l : Launch} {e : Env} {s : State} {m : MethodId} {args : Array Value} {below : List Frame} {meth : Method} {c : Code} {D : tD} {B : Nat} (E : th_E p m c cX8_bestCat 6 s args RX8 meth ((Option.some Jvm.ClassFile.FieldType.int)) "bestCat" D B) {Q : Int32 → aH → Prop} {G : aH} {H : Heap} {locs : List Loc} {cells slots : Nat} {ls : Array Slot} {a0 : Nat} {x1 : Int32} {x2 : Int32} {x3 : Int32} (hR : th_H D B G H) (hS : va_S (th_A B) s.heap H locs) (hL : th_L ls 6 [(0, rv a0), (1, .int x1), (2, .int x2), (3, .int x3)]) (hw : tw_X8_bestCat_b64 Q G a0 x1 x2 x3) (hc : cells + (0) ≤ 0 ∧ slots + (0) ≤ 0) : W p l e rm_X8_bestCat s m args below meth c H locs cells slots (MQ below (th_Qi D B Q) args s 0 0 (th_A B)) (F0 m 64 ls []) := by
  have CF := E.1; have hx := CF.1; have hb := CF.2.1; have hret := E.2.1; have hlk := E.2.2.1; have hnm := E.2.2.2.1; have hK := E.2.2.2.2.1; have hSt := E.2.2.2.2.2
  unfold tw_X8_bestCat_b64 at hw
  refine lv_iload_n hx hb dX8_bestCat_64 rfl (lv_at hL.1 1 rfl) ?_
  refine lv_iconst hx hb dX8_bestCat_65 (v := 1) rfl ?_
  refine lv_icmp_ne hx hb dX8_bestCat_66 (tgt := 83) (by decide) (fun h => ?_) (fun h => ?_)
  · replace hw := hw.1 h
    refine lv_iload_n hx hb dX8_bestCat_83 rfl (lv_at hL.1 2 rfl) ?_
    exact th_iret hx hb hret hlk hR hS hw (by omega) (by omega) dX8_bestCat_84
  · replace hw := hw.2 h
    refine lv_iconst hx hb dX8_bestCat_69 (v := 0) rfl ?_
    refine th_aload_n hx hb dX8_bestCat_70 rfl (lv_at hL.1 0 rfl) ?_
    refine lv_iconst hx hb dX8_bestCat_71 (v := (-1)) rfl ?_
    obtain ⟨ho, hw⟩ := hw
    refine th_ki hS (th_rV CF hK hSt hR hS ho (ci := 8) rfl (rest := [.int 0]) (tk_X8_eatenWith) (cw_X8_226 CF hK (by decide +kernel)) hw rfl hL.1.1 rfl (th_ci th_cn) (Nat.le_of_ble_eq_true rfl) dX8_bestCat_72 ⟨by show _ ≤ (0 : Nat); omega, by show _ ≤ (0 : Nat); omega⟩) (fun r6 G5 H locs hw hR hS => ?_)
    refine lv_iload_n hx hb dX8_bestCat_75 rfl (lv_at hL.1 3 rfl) ?_
    refine lv_isub hx hb dX8_bestCat_76 ?_
    refine va_mmax hx hb (CF.2.2.1.trans hL.1.1.symm) CF.2.2.2.1 (CF.2.2.2.2 _ q1788) (CF.2.2.2.2 _ q822) (CF.2.2.2.2 _ q119) (CF.2.2.2.2 _ q823) (by decide) (by rw [th_c1.sum th_cn]; exact Nat.le_of_ble_eq_true rfl) (by show _ ≤ (0 : Nat); omega) (by show _ ≤ (0 : Nat); omega) dX8_bestCat_77 ?_
    refine lv_goto hx hb dX8_bestCat_80 (tgt := 84) (by decide) ?_
    exact th_iret hx hb hret hlk hR hS hw (by omega) (by omega) dX8_bestCat_84
theorem tk_X8_bestCat_b50 {p : Program} {l : Launch} {e : Env} {s : State} {m : MethodId} {args : Array Value} {below : List Frame} {meth : Method} {c : Code} {D : tD} {B : Nat} (E : th_E p m c cX8_bestCat 6 s args RX8 meth ((Option.some Jvm.ClassFile.FieldType.int)) "bestCat" D B) {Q : Int32 → aH → Prop} {k23 : aH → Nat → Int32 → Int32 → Int32 → Int32 → Prop} {c23 s23 : Nat} (h23 : ∀ (G : aH) (H : Heap) (locs : List Loc) (cells slots : Nat) (ls : Array Slot) (y23_0 : Nat) (y23_1 : Int32) (y23_2 : Int32) (y23_3 : Int32) (y23_4 : Int32), k23 G y23_0 y23_1 y23_2 y23_3 y23_4 → th_H D B G H → va_S (th_A B) s.heap H locs → th_L ls 6 [(0, rv y23_0), (1, .int y23_1), (2, .int y23_2), (3, .int y23_3), (4, .int y23_4)] → cells ≤ c23 ∧ slots ≤ s23 → W p l e rm_X8_bestCat s m args below meth c H locs cells slots (MQ below (th_Qi D B Q) args s 0 0 (th_A B)) (F0 m 23 ls [])) {G : aH} {H : Heap} {locs : List Loc} {cells slots : Nat} {ls : Array Slot} {a0 : Nat} {x1 : Int32} {x3 : Int32} {x4 : Int32} {x5 : Int32} {tx0 : Int32} (hR : th_H D B G H) (hS : va_S (th_A B) s.heap H locs) (hL : th_L ls 6 [(0, rv a0), (1, .int x1), (3, .int x3), (4, .int x4), (5, .int x5)]) (hw : tw_X8_bestCat_b50 Q k23 G a0 x1 x3 x4 x5 tx0) (hc : cells + (0) ≤ 0 ∧ slots + (0) ≤ 0 ∧ cells + (0) ≤ c23 ∧ slots + (0) ≤ s23) : W p l e rm_X8_bestCat s m args below meth c H locs cells slots (MQ below (th_Qi D B Q) args s 0 0 (th_A B)) (F0 m 50 ls [.int tx0]) := by
  have CF := E.1; have hx := CF.1; have hb := CF.2.1; have hret := E.2.1; have hlk := E.2.2.1; have hnm := E.2.2.2.1; have hK := E.2.2.2.2.1; have hSt := E.2.2.2.2.2
  unfold tw_X8_bestCat_b50 at hw
  refine th_istore_n hx hb dX8_bestCat_50 rfl hL (by decide) rfl (fun ls hL => ?_)
  refine lv_iload_n hx hb dX8_bestCat_51 rfl (lv_at hL.1 3 rfl) ?_
  refine lv_iload hx hb dX8_bestCat_52 (lv_at hL.1 5 rfl) ?_
  refine va_mmin hx hb (CF.2.2.1.trans hL.1.1.symm) CF.2.2.2.1 (CF.2.2.2.2 _ q1759) (CF.2.2.2.2 _ q666) (CF.2.2.2.2 _ q119) (CF.2.2.2.2 _ q667) (by decide) (by rw [th_c1.sum th_cn]; exact Nat.le_of_ble_eq_true rfl) (by show _ ≤ (0 : Nat); omega) (by show _ ≤ (0 : Nat); omega) dX8_bestCat_54 ?_
  obtain ⟨x3_9, hx3_9⟩ : ∃ y : Int32, y = (if x5 < x3 then x5 else x3) := ⟨_, rfl⟩
  replace hw := hw x3_9 hx3_9
  refine th_nmi hx3_9 ?_
  refine th_istore_n hx hb dX8_bestCat_57 rfl hL (by decide) rfl (fun ls hL => ?_)
  obtain ⟨x4_10, hx4_10⟩ : ∃ y : Int32, y = x4 + 1 := ⟨_, rfl⟩
  replace hw := hw x4_10 hx4_10
  refine th_iinc hx hb dX8_bestCat_58 hL (k := 4) rfl (v := x4_10) hx4_10.symm (by decide) rfl (fun ls hL => ?_)
  refine lv_goto hx hb dX8_bestCat_61 (tgt := 23) (by decide) ?_
  exact h23 _ _ _ _ _ _ _ _ _ _ _ hw hR hS (hL.sub [3, 4, 2, 1, 0] rfl) ⟨by omega, by omega⟩
theorem tk_X8_bestCat_b23 {p : Program} {l : Launch} {e : Env} {s : State} {m : MethodId} {args : Array Value} {below : List Frame} {meth : Method} {c : Code} {D : tD} {B : Nat} (E : th_E p m c cX8_bestCat 6 s args RX8 meth ((Option.some Jvm.ClassFile.FieldType.int)) "bestCat" D B) {Q : Int32 → aH → Prop} : ∀ (n : Nat) {G : aH} {H : Heap} {locs : List Loc} {cells slots : Nat} {ls : Array Slot} {a0 : Nat} {x1 : Int32} {x2 : Int32} {x3 : Int32} {x4 : Int32} (hR : th_H D B G H) (hS : va_S (th_A B) s.heap H locs) (hL : th_L ls 6 [(0, rv a0), (1, .int x1), (2, .int x2), (3, .int x3), (4, .int x4)]) (hw : tw_X8_bestCat_b23 Q n G a0 x1 x2 x3 x4) (hc : cells + (0) ≤ 0 ∧ slots + (0) ≤ 0), W p l e rm_X8_bestCat s m args below meth c H locs cells slots (MQ below (th_Qi D B Q) args s 0 0 (th_A B)) (F0 m 23 ls []) := by
  have CF := E.1; have hx := CF.1; have hb := CF.2.1; have hret := E.2.1; have hlk := E.2.2.1; have hnm := E.2.2.2.1; have hK := E.2.2.2.2.1; have hSt := E.2.2.2.2.2
  intro n
  induction n with
  | zero => intro _ _ _ _ _ _ _ _ _ _ _ _ _ _ hw; exact hw.elim
  | succ n ih =>
    intro G H locs cells slots ls a0 x1 x2 x3 x4 hR hS hL hw hc
    rw [tws_X8_bestCat_b23] at hw
    refine lv_iload hx hb dX8_bestCat_23 (lv_at hL.1 4 rfl) ?_
    refine lv_bipush hx hb dX8_bestCat_25 (v := 7) rfl ?_
    refine lv_icmp_ge hx hb dX8_bestCat_27 (tgt := 64) (by decide) (fun h => ?_) (fun h => ?_)
    · replace hw := hw.1 h
      exact tk_X8_bestCat_b64 E hR hS (hL.sub [0, 1, 2, 3] rfl) hw ⟨by omega, by omega⟩
    · replace hw := hw.2 h
      refine th_aload_n hx hb dX8_bestCat_30 rfl (lv_at hL.1 0 rfl) ?_
      refine lv_iload hx hb dX8_bestCat_31 (lv_at hL.1 4 rfl) ?_
      obtain ⟨ho, hw⟩ := hw
      refine th_ki hS (th_rV CF hK hSt hR hS ho (ci := 8) rfl (rest := []) (tk_X8_eatenWith) (cw_X8_226 CF hK (by decide +kernel)) hw rfl hL.1.1 rfl th_cn (Nat.le_of_ble_eq_true rfl) dX8_bestCat_33 ⟨by show _ ≤ (0 : Nat); omega, by show _ ≤ (0 : Nat); omega⟩) (fun r8 G7 H locs hw hR hS => ?_)
      refine th_istore hx hb dX8_bestCat_36 hL (by decide) rfl (fun ls hL => ?_)
      refine lv_iload hx hb dX8_bestCat_38 (lv_at hL.1 0 rfl) ?_
      refine lv_iload_n hx hb dX8_bestCat_40 rfl (lv_at hL.1 4 rfl) ?_
      refine lv_icmp_ge hx hb dX8_bestCat_41 (tgt := 49) (by decide) (fun h => ?_) (fun h => ?_)
      · replace hw := hw.1 h
        refine lv_iload_n hx hb dX8_bestCat_49 rfl (lv_at hL.1 3 rfl) ?_
        exact tk_X8_bestCat_b50 E (c23 := cells + 0 + 0) (s23 := slots + 0 + 0) (fun G H locs cells slots ls y0 y1 y2 y3 y4 hw hR hS hL hc => ih hR hS hL hw ⟨by omega, by omega⟩) hR hS (hL.sub [1, 2, 4, 5, 0] rfl) hw ⟨by omega, by omega, by omega, by omega⟩
      · replace hw := hw.2 h
        refine lv_iload hx hb dX8_bestCat_44 (lv_at hL.1 5 rfl) ?_
        refine lv_goto hx hb dX8_bestCat_46 (tgt := 50) (by decide) ?_
        exact tk_X8_bestCat_b50 E (c23 := cells + 0 + 0) (s23 := slots + 0 + 0) (fun G H locs cells slots ls y0 y1 y2 y3 y4 hw hR hS hL hc => ih hR hS hL hw ⟨by omega, by omega⟩) hR hS (hL.sub [1, 2, 4, 5, 0] rfl) hw ⟨by omega, by omega, by omega, by omega⟩
theorem tk_X8_bestCat {l : Launch} {D : tD} {B : Nat} {Q : Int32 → aH → Prop} {a0 : Nat} {x1 : Int32} : Met l yX8_bestCat (ws_ yX8_bestCat cX8_bestCat 6 ((Option.some Jvm.ClassFile.FieldType.int))) rm_X8_bestCat (th_P D B [rv a0, .int x1] (fun G => tw_X8_bestCat Q G a0 x1)) (th_Qi D B Q) 0 0 (th_A B) :=
  th_ofW (by decide +kernel) (th_cr (th_ci th_cn)) (Nat.le_of_ble_eq_true rfl) (fun p e s m args below meth c CF hret hlk hnm hK hSt G ls hR hS hw hL => by
    have E : th_E p m c cX8_bestCat 6 s args RX8 meth ((Option.some Jvm.ClassFile.FieldType.int)) "bestCat" D B := ⟨CF, hret, hlk, hnm, hK, hSt⟩
    have hx := CF.1; have hb := CF.2.1
    have hL : th_L ls 6 [(0, rv a0), (1, .int x1)] := hL
    unfold tw_X8_bestCat at hw
    refine lv_iload_n hx hb dX8_bestCat_0 rfl (lv_at hL.1 1 rfl) ?_
    refine lv_iconst hx hb dX8_bestCat_1 (v := 0) rfl ?_
    refine lv_iconst hx hb dX8_bestCat_2 (v := 1) rfl ?_
    refine th_ki hS (th_rS CF hK hSt hR hS (rest := []) (tk_X8_isIn) (cw_X8_56 CF hK (by decide +kernel)) hw rfl hL.1.1 rfl th_cn (Nat.le_of_ble_eq_true rfl) dX8_bestCat_3 ⟨by show _ ≤ (0 : Nat); omega, by show _ ≤ (0 : Nat); omega⟩) (fun r2 G1 H locs hw hR hS => ?_)
    refine lv_if_ne hx hb dX8_bestCat_6 (tgt := 12) (by decide) (fun h => ?_) (fun h => ?_)
    · replace hw := hw.1 h
      refine lv_iconst hx hb dX8_bestCat_12 (v := 0) rfl ?_
      refine th_istore_n hx hb dX8_bestCat_13 rfl hL (by decide) rfl (fun ls hL => ?_)
      refine th_aload_n hx hb dX8_bestCat_14 rfl (lv_at hL.1 1 rfl) ?_
      refine lv_iconst hx hb dX8_bestCat_15 (v := 0) rfl ?_
      obtain ⟨ho, hw⟩ := hw
      refine th_ki hS (th_rV CF hK hSt hR hS ho (ci := 8) rfl (rest := []) (tk_X8_eatenWith) (cw_X8_226 CF hK (by decide +kernel)) hw rfl hL.1.1 rfl th_cn (Nat.le_of_ble_eq_true rfl) dX8_bestCat_16 ⟨by show _ ≤ (0 : Nat); omega, by show _ ≤ (0 : Nat); omega⟩) (fun r4 G3 H locs hw hR hS => ?_)
      refine th_istore_n hx hb dX8_bestCat_19 rfl hL (by decide) rfl (fun ls hL => ?_)
      refine lv_iconst hx hb dX8_bestCat_20 (v := 1) rfl ?_
      refine th_istore hx hb dX8_bestCat_21 hL (by decide) rfl (fun ls hL => ?_)
      obtain ⟨n9, hw⟩ := hw
      exact tk_X8_bestCat_b23 E n9 hR hS (hL.sub [3, 4, 2, 1, 0] rfl) hw ⟨by omega, by omega⟩
    · replace hw := hw.2 h
      refine lv_bipush hx hb dX8_bestCat_9 (v := (-2)) rfl ?_
      exact th_iret hx hb hret hlk hR hS hw (by omega) (by omega) dX8_bestCat_11)
def tw_X8_isKind (Q : Int32 → aH → Prop) (G : aH) (x0 : Int32) : Prop :=
  (tw_X8_isIn
    (fun (r2 : Int32) (G1 : aH) =>
      narrow .boolean (.int r2) = .int r2 ∧ Q r2 G1)
    G x0 0 2)
theorem tk_X8_isKind {l : Launch} {D : tD} {B : Nat} {Q : Int32 → aH → Prop} {x0 : Int32} : Met l yX8_isKind (ws_ yX8_isKind cX8_isKind 1 ((Option.some Jvm.ClassFile.FieldType.boolean))) rm_X8_isKind (th_P D B [.int x0] (fun G => tw_X8_isKind Q G x0)) (th_Qi D B Q) 0 0 (th_A B) :=
  th_ofW (by decide +kernel) (th_ci th_cn) (Nat.le_of_ble_eq_true rfl) (fun p e s m args below meth c CF hret hlk hnm hK hSt G ls hR hS hw hL => by
    have E : th_E p m c cX8_isKind 1 s args RX8 meth ((Option.some Jvm.ClassFile.FieldType.boolean)) "isKind" D B := ⟨CF, hret, hlk, hnm, hK, hSt⟩
    have hx := CF.1; have hb := CF.2.1
    have hL : th_L ls 1 [(0, .int x0)] := hL
    unfold tw_X8_isKind at hw
    refine lv_iload_n hx hb dX8_isKind_0 rfl (lv_at hL.1 0 rfl) ?_
    refine lv_iconst hx hb dX8_isKind_1 (v := 0) rfl ?_
    refine lv_iconst hx hb dX8_isKind_2 (v := 2) rfl ?_
    refine th_ki hS (th_rS CF hK hSt hR hS (rest := []) (tk_X8_isIn) (cw_X8_56 CF hK (by decide +kernel)) hw rfl hL.1.1 rfl th_cn (Nat.le_of_ble_eq_true rfl) dX8_isKind_3 ⟨by show _ ≤ (0 : Nat); omega, by show _ ≤ (0 : Nat); omega⟩) (fun r2 G1 H locs hw hR hS => ?_)
    exact th_zret .boolean hx hb hret hw.1 hlk hR hS hw.2 (by omega) (by omega) dX8_isKind_6)
def tw_X8_binOf (Q : Int32 → aH → Prop) (G : aH) (a0 : Nat) (x1 : Int32) (x2 : Int32) : Prop :=
  (tw_X8_isKind
    (fun (r2 : Int32) (G1 : aH) =>
      (¬ r2 = 0 →
        (tw_X8_isIn
          (fun (r4 : Int32) (G3 : aH) =>
            (r4 = 0 →
              Q (-2) G3) ∧
            (¬ r4 = 0 →
              th_o G3 a0 8 ∧ (
              (tw_X8_store
                (fun (r6 : Int32) (G5 : aH) =>
                  Q r6 G5)
                G3 a0 x1 x2))))
          G1 x2 0 4)) ∧
      (r2 = 0 →
        Q (-1) G1))
    G x1)
theorem tk_X8_binOf {l : Launch} {D : tD} {B : Nat} {Q : Int32 → aH → Prop} {a0 : Nat} {x1 : Int32} {x2 : Int32} : Met l yX8_binOf (ws_ yX8_binOf cX8_binOf 3 ((Option.some Jvm.ClassFile.FieldType.int))) rm_X8_binOf (th_P D B [rv a0, .int x1, .int x2] (fun G => tw_X8_binOf Q G a0 x1 x2)) (th_Qi D B Q) 0 0 (th_A B) :=
  th_ofW (by decide +kernel) (th_cr (th_ci (th_ci th_cn))) (Nat.le_of_ble_eq_true rfl) (fun p e s m args below meth c CF hret hlk hnm hK hSt G ls hR hS hw hL => by
    have E : th_E p m c cX8_binOf 3 s args RX8 meth ((Option.some Jvm.ClassFile.FieldType.int)) "binOf" D B := ⟨CF, hret, hlk, hnm, hK, hSt⟩
    have hx := CF.1; have hb := CF.2.1
    have hL : th_L ls 3 [(0, rv a0), (1, .int x1), (2, .int x2)] := hL
    unfold tw_X8_binOf at hw
    refine lv_iload_n hx hb dX8_binOf_0 rfl (lv_at hL.1 1 rfl) ?_
    refine th_ki hS (th_rS CF hK hSt hR hS (rest := []) (tk_X8_isKind) (cw_X8_93 CF hK (by decide +kernel)) hw rfl hL.1.1 rfl th_cn (Nat.le_of_ble_eq_true rfl) dX8_binOf_1 ⟨by show _ ≤ (0 : Nat); omega, by show _ ≤ (0 : Nat); omega⟩) (fun r2 G1 H locs hw hR hS => ?_)
    refine lv_if_ne hx hb dX8_binOf_4 (tgt := 11) (by decide) (fun h => ?_) (fun h => ?_)
    · replace hw := hw.1 h
      refine lv_iload_n hx hb dX8_binOf_11 rfl (lv_at hL.1 2 rfl) ?_
      refine lv_iconst hx hb dX8_binOf_12 (v := 0) rfl ?_
      refine lv_iconst hx hb dX8_binOf_13 (v := 4) rfl ?_
      refine th_ki hS (th_rS CF hK hSt hR hS (rest := []) (tk_X8_isIn) (cw_X8_56 CF hK (by decide +kernel)) hw rfl hL.1.1 rfl th_cn (Nat.le_of_ble_eq_true rfl) dX8_binOf_14 ⟨by show _ ≤ (0 : Nat); omega, by show _ ≤ (0 : Nat); omega⟩) (fun r4 G3 H locs hw hR hS => ?_)
      refine lv_if_eq hx hb dX8_binOf_17 (tgt := 29) (by decide) (fun h => ?_) (fun h => ?_)
      · replace hw := hw.1 h
        refine lv_bipush hx hb dX8_binOf_29 (v := (-2)) rfl ?_
        exact th_iret hx hb hret hlk hR hS hw (by omega) (by omega) dX8_binOf_31
      · replace hw := hw.2 h
        refine th_aload_n hx hb dX8_binOf_20 rfl (lv_at hL.1 0 rfl) ?_
        refine lv_iload_n hx hb dX8_binOf_21 rfl (lv_at hL.1 1 rfl) ?_
        refine lv_iload_n hx hb dX8_binOf_22 rfl (lv_at hL.1 2 rfl) ?_
        obtain ⟨ho, hw⟩ := hw
        refine th_ki hS (th_rV CF hK hSt hR hS ho (ci := 8) rfl (rest := []) (tk_X8_store) (cw_X8_178 CF hK (by decide +kernel)) hw rfl hL.1.1 rfl th_cn (Nat.le_of_ble_eq_true rfl) dX8_binOf_23 ⟨by show _ ≤ (0 : Nat); omega, by show _ ≤ (0 : Nat); omega⟩) (fun r6 G5 H locs hw hR hS => ?_)
        refine lv_goto hx hb dX8_binOf_26 (tgt := 31) (by decide) ?_
        exact th_iret hx hb hret hlk hR hS hw (by omega) (by omega) dX8_binOf_31
    · replace hw := hw.2 h
      refine lv_iconst hx hb dX8_binOf_7 (v := (-1)) rfl ?_
      refine lv_goto hx hb dX8_binOf_8 (tgt := 31) (by decide) ?_
      exact th_iret hx hb hret hlk hR hS hw (by omega) (by omega) dX8_binOf_31)
def tw_X8_starts (Q : aH → Prop) (G : aH) (a0 : Nat) : Prop :=
  th_o G a0 8 ∧ (
  th_o G a0 8 ∧ (
  (tw_X8_copies
    (fun (G1 : aH) =>
      th_o G1 a0 8 ∧ (
      ∀ G2 : aH, G2 = a_si G1 a0 15 0 → 
      Q G2))
    G (a_mr G a0 0) 0 (a_mr G a0 1) 0)))
theorem tk_X8_starts {l : Launch} {D : tD} {B : Nat} {Q : aH → Prop} {a0 : Nat} : Met l yX8_starts (ws_ yX8_starts cX8_starts 1 ((Option.none : Option Jvm.ClassFile.FieldType))) rm_X8_starts (th_P D B [rv a0] (fun G => tw_X8_starts Q G a0)) (th_Qv D B Q) 0 0 (th_A B) :=
  th_ofW (by decide +kernel) (th_cr th_cn) (Nat.le_of_ble_eq_true rfl) (fun p e s m args below meth c CF hret hlk hnm hK hSt G ls hR hS hw hL => by
    have E : th_E p m c cX8_starts 1 s args RX8 meth ((Option.none : Option Jvm.ClassFile.FieldType)) "starts" D B := ⟨CF, hret, hlk, hnm, hK, hSt⟩
    have hx := CF.1; have hb := CF.2.1
    have hL : th_L ls 1 [(0, rv a0)] := hL
    unfold tw_X8_starts at hw
    refine th_aload_n hx hb dX8_starts_0 rfl (lv_at hL.1 0 rfl) ?_
    obtain ⟨ho, hw⟩ := hw
    refine fg_X8_9 CF hK hR ho dX8_starts_1 ?_
    refine lv_iconst hx hb dX8_starts_4 (v := 0) rfl ?_
    refine th_aload_n hx hb dX8_starts_5 rfl (lv_at hL.1 0 rfl) ?_
    obtain ⟨ho, hw⟩ := hw
    refine fg_X8_13 CF hK hR ho dX8_starts_6 ?_
    refine lv_iconst hx hb dX8_starts_9 (v := 0) rfl ?_
    refine th_kv hS (th_rS CF hK hSt hR hS (rest := []) (tk_X8_copies) (cw_X8_73 CF hK (by decide +kernel)) hw rfl hL.1.1 rfl th_cn (Nat.le_of_ble_eq_true rfl) dX8_starts_10 ⟨by show _ ≤ (0 : Nat); omega, by show _ ≤ (0 : Nat); omega⟩) (fun G1 H locs hw hR hS => ?_)
    refine th_aload_n hx hb dX8_starts_13 rfl (lv_at hL.1 0 rfl) ?_
    refine lv_iconst hx hb dX8_starts_14 (v := 0) rfl ?_
    obtain ⟨ho, hw⟩ := hw
    refine fp_X8_63 CF hK hR hS ho dX8_starts_15 (fun G2 H locs hG hR hS => ?_)
    replace hw := hw G2 hG
    exact th_vret hx hb hret hlk hR hS hw (by omega) (by omega) dX8_starts_18)
def tw_X8_isParish (Q : Int32 → aH → Prop) (G : aH) (a0 : Nat) (x1 : Int32) : Prop :=
  th_o G a0 8 ∧ (
  th_ai G (a_mr G a0 0) 0 0 ∧ (
  (tw_X8_isIn
    (fun (r2 : Int32) (G1 : aH) =>
      narrow .boolean (.int r2) = .int r2 ∧ Q r2 G1)
    G x1 0 ((a_mi G (a_mr G a0 0) (0 : Int32).toNatClampNeg) - 1))))
theorem tk_X8_isParish {l : Launch} {D : tD} {B : Nat} {Q : Int32 → aH → Prop} {a0 : Nat} {x1 : Int32} : Met l yX8_isParish (ws_ yX8_isParish cX8_isParish 2 ((Option.some Jvm.ClassFile.FieldType.boolean))) rm_X8_isParish (th_P D B [rv a0, .int x1] (fun G => tw_X8_isParish Q G a0 x1)) (th_Qi D B Q) 0 0 (th_A B) :=
  th_ofW (by decide +kernel) (th_cr (th_ci th_cn)) (Nat.le_of_ble_eq_true rfl) (fun p e s m args below meth c CF hret hlk hnm hK hSt G ls hR hS hw hL => by
    have E : th_E p m c cX8_isParish 2 s args RX8 meth ((Option.some Jvm.ClassFile.FieldType.boolean)) "isParish" D B := ⟨CF, hret, hlk, hnm, hK, hSt⟩
    have hx := CF.1; have hb := CF.2.1
    have hL : th_L ls 2 [(0, rv a0), (1, .int x1)] := hL
    unfold tw_X8_isParish at hw
    refine lv_iload_n hx hb dX8_isParish_0 rfl (lv_at hL.1 1 rfl) ?_
    refine lv_iconst hx hb dX8_isParish_1 (v := 0) rfl ?_
    refine th_aload_n hx hb dX8_isParish_2 rfl (lv_at hL.1 0 rfl) ?_
    obtain ⟨ho, hw⟩ := hw
    refine fg_X8_9 CF hK hR ho dX8_isParish_3 ?_
    refine lv_iconst hx hb dX8_isParish_6 (v := 0) rfl ?_
    obtain ⟨ha, hw⟩ := hw
    refine th_iald hx hb hK hR ha dX8_isParish_7 ?_
    refine lv_iconst hx hb dX8_isParish_8 (v := 1) rfl ?_
    refine lv_isub hx hb dX8_isParish_9 ?_
    refine th_ki hS (th_rS CF hK hSt hR hS (rest := []) (tk_X8_isIn) (cw_X8_56 CF hK (by decide +kernel)) hw rfl hL.1.1 rfl th_cn (Nat.le_of_ble_eq_true rfl) dX8_isParish_10 ⟨by show _ ≤ (0 : Nat); omega, by show _ ≤ (0 : Nat); omega⟩) (fun r2 G1 H locs hw hR hS => ?_)
    exact th_zret .boolean hx hb hret hw.1 hlk hR hS hw.2 (by omega) (by omega) dX8_isParish_13)
def tw_X8_refuses_b10 (Q : Int32 → aH → Prop) (G : aH) (a0 : Nat) (x1 : Int32) (x2 : Int32) (x3 : Int32) (x4 : Int32) (tx0 : Int32) (ta1 : Nat) : Prop :=
  th_o G ta1 8 ∧ (
  ∀ G1 : aH, G1 = a_si G ta1 15 tx0 → 
  th_o G1 a0 8 ∧ (
  th_ai G1 (a_mr G1 a0 16) 0 0 ∧ (
  ∀ G2 : aH, G2 = a_si G1 (a_mr G1 a0 16) (0 : Int32).toNatClampNeg x1 → 
  th_o G2 a0 8 ∧ (
  th_ai G2 (a_mr G2 a0 16) 0 1 ∧ (
  ∀ G3 : aH, G3 = a_si G2 (a_mr G2 a0 16) (1 : Int32).toNatClampNeg x2 → 
  th_o G3 a0 8 ∧ (
  th_ai G3 (a_mr G3 a0 16) 0 2 ∧ (
  ∀ G4 : aH, G4 = a_si G3 (a_mr G3 a0 16) (2 : Int32).toNatClampNeg x3 → 
  th_o G4 a0 8 ∧ (
  th_ai G4 (a_mr G4 a0 16) 0 3 ∧ (
  ∀ G5 : aH, G5 = a_si G4 (a_mr G4 a0 16) (3 : Int32).toNatClampNeg x4 → 
  Q (-3) G5)))))))))
def tw_X8_refuses (Q : Int32 → aH → Prop) (G : aH) (a0 : Nat) (x1 : Int32) (x2 : Int32) (x3 : Int32) (x4 : Int32) : Prop :=
  (¬ x3 = 0 →
    tw_X8_refuses_b10 Q G a0 x1 x2 x3 x4 2 a0) ∧
  (x3 = 0 →
    tw_X8_refuses_b10 Q G a0 x1 x2 x3 x4 1 a0)
theorem tk_X8_refuses_b10 {p : Program} {l : Launch} {e : Env} {s : State} {m : MethodId} {args : Array Value} {below : List Frame} {meth : Method} {c : Code} {D : tD} {B : Nat} (E : th_E p m c cX8_refuses 5 s args RX8 meth ((Option.some Jvm.ClassFile.FieldType.int)) "refuses" D B) {Q : Int32 → aH → Prop} {G : aH} {H : Heap} {locs : List Loc} {cells slots : Nat} {ls : Array Slot} {a0 : Nat} {x1 : Int32} {x2 : Int32} {x3 : Int32} {x4 : Int32} {tx0 : Int32} {ta1 : Nat} (hR : th_H D B G H) (hS : va_S (th_A B) s.heap H locs) (hL : th_L ls 5 [(0, rv a0), (1, .int x1), (2, .int x2), (3, .int x3), (4, .int x4)]) (hw : tw_X8_refuses_b10 Q G a0 x1 x2 x3 x4 tx0 ta1) (hc : cells + (0) ≤ 0 ∧ slots + (0) ≤ 0) : W p l e rm_X8_refuses s m args below meth c H locs cells slots (MQ below (th_Qi D B Q) args s 0 0 (th_A B)) (F0 m 10 ls [.int tx0, rv ta1]) := by
  have CF := E.1; have hx := CF.1; have hb := CF.2.1; have hret := E.2.1; have hlk := E.2.2.1; have hnm := E.2.2.2.1; have hK := E.2.2.2.2.1; have hSt := E.2.2.2.2.2
  unfold tw_X8_refuses_b10 at hw
  obtain ⟨ho, hw⟩ := hw
  refine fp_X8_63 CF hK hR hS ho dX8_refuses_10 (fun G1 H locs hG hR hS => ?_)
  replace hw := hw G1 hG
  refine th_aload_n hx hb dX8_refuses_13 rfl (lv_at hL.1 0 rfl) ?_
  obtain ⟨ho, hw⟩ := hw
  refine fg_X8_41 CF hK hR ho dX8_refuses_14 ?_
  refine lv_iconst hx hb dX8_refuses_17 (v := 0) rfl ?_
  refine lv_iload_n hx hb dX8_refuses_18 rfl (lv_at hL.1 1 rfl) ?_
  obtain ⟨ha, hw⟩ := hw
  refine th_iast hx hb hK hR hS ha dX8_refuses_19 (fun G2 H locs hG hR hS => ?_)
  replace hw := hw G2 hG
  refine th_aload_n hx hb dX8_refuses_20 rfl (lv_at hL.1 0 rfl) ?_
  obtain ⟨ho, hw⟩ := hw
  refine fg_X8_41 CF hK hR ho dX8_refuses_21 ?_
  refine lv_iconst hx hb dX8_refuses_24 (v := 1) rfl ?_
  refine lv_iload_n hx hb dX8_refuses_25 rfl (lv_at hL.1 2 rfl) ?_
  obtain ⟨ha, hw⟩ := hw
  refine th_iast hx hb hK hR hS ha dX8_refuses_26 (fun G3 H locs hG hR hS => ?_)
  replace hw := hw G3 hG
  refine th_aload_n hx hb dX8_refuses_27 rfl (lv_at hL.1 0 rfl) ?_
  obtain ⟨ho, hw⟩ := hw
  refine fg_X8_41 CF hK hR ho dX8_refuses_28 ?_
  refine lv_iconst hx hb dX8_refuses_31 (v := 2) rfl ?_
  refine lv_iload_n hx hb dX8_refuses_32 rfl (lv_at hL.1 3 rfl) ?_
  obtain ⟨ha, hw⟩ := hw
  refine th_iast hx hb hK hR hS ha dX8_refuses_33 (fun G4 H locs hG hR hS => ?_)
  replace hw := hw G4 hG
  refine th_aload_n hx hb dX8_refuses_34 rfl (lv_at hL.1 0 rfl) ?_
  obtain ⟨ho, hw⟩ := hw
  refine fg_X8_41 CF hK hR ho dX8_refuses_35 ?_
  refine lv_iconst hx hb dX8_refuses_38 (v := 3) rfl ?_
  refine lv_iload hx hb dX8_refuses_39 (lv_at hL.1 4 rfl) ?_
  obtain ⟨ha, hw⟩ := hw
  refine th_iast hx hb hK hR hS ha dX8_refuses_41 (fun G5 H locs hG hR hS => ?_)
  replace hw := hw G5 hG
  refine lv_bipush hx hb dX8_refuses_42 (v := (-3)) rfl ?_
  exact th_iret hx hb hret hlk hR hS hw (by omega) (by omega) dX8_refuses_44
theorem tk_X8_refuses {l : Launch} {D : tD} {B : Nat} {Q : Int32 → aH → Prop} {a0 : Nat} {x1 : Int32} {x2 : Int32} {x3 : Int32} {x4 : Int32} : Met l yX8_refuses (ws_ yX8_refuses cX8_refuses 5 ((Option.some Jvm.ClassFile.FieldType.int))) rm_X8_refuses (th_P D B [rv a0, .int x1, .int x2, .int x3, .int x4] (fun G => tw_X8_refuses Q G a0 x1 x2 x3 x4)) (th_Qi D B Q) 0 0 (th_A B) :=
  th_ofW (by decide +kernel) (th_cr (th_ci (th_ci (th_ci (th_ci th_cn))))) (Nat.le_of_ble_eq_true rfl) (fun p e s m args below meth c CF hret hlk hnm hK hSt G ls hR hS hw hL => by
    have E : th_E p m c cX8_refuses 5 s args RX8 meth ((Option.some Jvm.ClassFile.FieldType.int)) "refuses" D B := ⟨CF, hret, hlk, hnm, hK, hSt⟩
    have hx := CF.1; have hb := CF.2.1
    have hL : th_L ls 5 [(0, rv a0), (1, .int x1), (2, .int x2), (3, .int x3), (4, .int x4)] := hL
    unfold tw_X8_refuses at hw
    refine th_aload_n hx hb dX8_refuses_0 rfl (lv_at hL.1 0 rfl) ?_
    refine lv_iload_n hx hb dX8_refuses_1 rfl (lv_at hL.1 3 rfl) ?_
    refine lv_if_ne hx hb dX8_refuses_2 (tgt := 9) (by decide) (fun h => ?_) (fun h => ?_)
    · replace hw := hw.1 h
      refine lv_iconst hx hb dX8_refuses_9 (v := 2) rfl ?_
      exact tk_X8_refuses_b10 E hR hS (hL.sub [0, 1, 2, 3, 4] rfl) hw ⟨by omega, by omega⟩
    · replace hw := hw.2 h
      refine lv_iconst hx hb dX8_refuses_5 (v := 1) rfl ?_
      refine lv_goto hx hb dX8_refuses_6 (tgt := 10) (by decide) ?_
      exact tk_X8_refuses_b10 E hR hS (hL.sub [0, 1, 2, 3, 4] rfl) hw ⟨by omega, by omega⟩)
def tw_X8_carts_b192 (Q : Int32 → aH → Prop) (G : aH) (a0 : Nat) (x1 : Int32) (x2 : Int32) (x3 : Int32) (x4 : Int32) : Prop :=
  th_o G a0 8 ∧ (
  th_ai G (a_mr G a0 0) 0 (x4 + 3) ∧ (
  th_ai G (a_mr G a0 0) 0 (x4 + 3) ∧ (
  ∀ G12 : aH, G12 = a_si G (a_mr G a0 0) (x4 + 3).toNatClampNeg ((a_mi G (a_mr G a0 0) (x4 + 3).toNatClampNeg) + x2) → 
  th_o G12 a0 8 ∧ (
  th_ai G12 (a_mr G12 a0 0) 0 430 ∧ (
  th_o G12 a0 8 ∧ (
  (tw_X8_of
    (fun (r14 : Int32) (G13 : aH) =>
      (tw_X8_pints
        (fun (r16 : Int32) (G15 : aH) =>
          th_ai G15 (a_mr G12 a0 0) 0 430 ∧ (
          ∀ G17 : aH, G17 = a_si G15 (a_mr G12 a0 0) (430 : Int32).toNatClampNeg ((a_mi G12 (a_mr G12 a0 0) (430 : Int32).toNatClampNeg) + (x2 * r16)) → 
          th_o G17 a0 8 ∧ (
          (tw_X8_inBay
            (fun (r19 : Int32) (G18 : aH) =>
              Q r19 G18)
            G17 a0 x3))))
        G13 r14))
    G12 a0 x1 0)))))))
def tw_X8_carts_b147 (Q : Int32 → aH → Prop) (k110 : aH → Nat → Int32 → Int32 → Int32 → Int32 → Int32 → Prop) (G : aH) (a0 : Nat) (x1 : Int32) (x2 : Int32) (x3 : Int32) (x4 : Int32) (x5 : Int32) : Prop :=
  th_o G a0 8 ∧ (
  th_o G a0 8 ∧ (
  (tw_X8_inBay
    (fun (r22 : Int32) (G21 : aH) =>
      th_ai G21 (a_mr G a0 0) 0 (((139 + (61 * x3)) + 1) + r22) ∧ (
      ∀ G23 : aH, G23 = a_si G21 (a_mr G a0 0) (((139 + (61 * x3)) + 1) + r22).toNatClampNeg x1 → 
      th_o G23 a0 8 ∧ (
      th_ai G23 (a_mr G23 a0 0) 0 (139 + (61 * x3)) ∧ (
      th_ai G23 (a_mr G23 a0 0) 0 (139 + (61 * x3)) ∧ (
      ∀ G24 : aH, G24 = a_si G23 (a_mr G23 a0 0) (139 + (61 * x3)).toNatClampNeg ((a_mi G23 (a_mr G23 a0 0) (139 + (61 * x3)).toNatClampNeg) + 1) → 
      ∀ x5_25 : Int32, x5_25 = x5 + (-1) → 
      k110 G24 a0 x1 x2 x3 x4 x5_25)))))
    G a0 x3)))
def tw_X8_carts_b110 (Q : Int32 → aH → Prop) : Nat → aH → Nat → Int32 → Int32 → Int32 → Int32 → Int32 → Prop := fun n => Nat.rec (motive := fun _ => aH → Nat → Int32 → Int32 → Int32 → Int32 → Int32 → Prop) (fun _ _ _ _ _ _ _ => False) (fun _ ih G a0 x1 x2 x3 x4 x5 =>
  (x5 ≤ 0 →
    tw_X8_carts_b192 Q G a0 x1 x2 x3 x4) ∧
  (¬ x5 ≤ 0 →
    th_o G a0 8 ∧ (
    th_ai G (a_mr G a0 0) 0 (x4 + 6) ∧ (
    th_ai G (a_mr G a0 0) 0 (x4 + 6) ∧ (
    ∀ G20 : aH, G20 = a_si G (a_mr G a0 0) (x4 + 6).toNatClampNeg ((a_mi G (a_mr G a0 0) (x4 + 6).toNatClampNeg) - 1) → 
    th_o G20 a0 8 ∧ (
    th_ai G20 (a_mr G20 a0 0) 0 (x4 + 6) ∧ (
    (¬ a_mi G20 (a_mr G20 a0 0) (x4 + 6).toNatClampNeg = 0 →
      tw_X8_carts_b147 Q (ih) G20 a0 x1 x2 x3 x4 x5) ∧
    (a_mi G20 (a_mr G20 a0 0) (x4 + 6).toNatClampNeg = 0 →
      th_o G20 a0 8 ∧ (
      (tw_X8_dropsDue
        (fun (G26 : aH) =>
          tw_X8_carts_b147 Q (ih) G26 a0 x1 x2 x3 x4 x5)
        G20 a0 x1)))))))))) n
theorem tws_X8_carts_b110 (Q : Int32 → aH → Prop) (n : Nat) (G : aH) (a0 : Nat) (x1 : Int32) (x2 : Int32) (x3 : Int32) (x4 : Int32) (x5 : Int32) : tw_X8_carts_b110 Q (n + 1) G a0 x1 x2 x3 x4 x5 = (
  (x5 ≤ 0 →
    tw_X8_carts_b192 Q G a0 x1 x2 x3 x4) ∧
  (¬ x5 ≤ 0 →
    th_o G a0 8 ∧ (
    th_ai G (a_mr G a0 0) 0 (x4 + 6) ∧ (
    th_ai G (a_mr G a0 0) 0 (x4 + 6) ∧ (
    ∀ G20 : aH, G20 = a_si G (a_mr G a0 0) (x4 + 6).toNatClampNeg ((a_mi G (a_mr G a0 0) (x4 + 6).toNatClampNeg) - 1) → 
    th_o G20 a0 8 ∧ (
    th_ai G20 (a_mr G20 a0 0) 0 (x4 + 6) ∧ (
    (¬ a_mi G20 (a_mr G20 a0 0) (x4 + 6).toNatClampNeg = 0 →
      tw_X8_carts_b147 Q (tw_X8_carts_b110 Q n) G20 a0 x1 x2 x3 x4 x5) ∧
    (a_mi G20 (a_mr G20 a0 0) (x4 + 6).toNatClampNeg = 0 →
      th_o G20 a0 8 ∧ (
      (tw_X8_dropsDue
        (fun (G26 : aH) =>
          tw_X8_carts_b147 Q (tw_X8_carts_b110 Q n) G26 a0 x1 x2 x3 x4 x5)
        G20 a0 x1)))))))))) := rfl
def tw_X8_carts_b61 (Q : Int32 → aH → Prop) (G : aH) (a0 : Nat) (x1 : Int32) (tx0 : Int32) (tx1 : Int32) (tx2 : Int32) (ta3 : Nat) : Prop :=
  th_o G a0 8 ∧ (
  (tw_X8_of
    (fun (r36 : Int32) (G35 : aH) =>
      th_o G35 ta3 8 ∧ (
      (tw_X8_refuses
        (fun (r38 : Int32) (G37 : aH) =>
          Q r38 G37)
        G35 ta3 tx2 tx1 tx0 r36)))
    G a0 x1 2))
def tw_X8_carts (Q : Int32 → aH → Prop) (G : aH) (a0 : Nat) (x1 : Int32) (x2 : Int32) (x3 : Int32) : Prop :=
  th_o G a0 8 ∧ (
  (tw_X8_isParish
    (fun (r2 : Int32) (G1 : aH) =>
      (r2 = 0 →
        Q (-1) G1) ∧
      (¬ r2 = 0 →
        (tw_X8_isBay
          (fun (r4 : Int32) (G3 : aH) =>
            (¬ r4 = 0 →
              (tw_X8_isIn
                (fun (r6 : Int32) (G5 : aH) =>
                  (¬ r6 = 0 →
                    th_o G5 a0 8 ∧ (
                    (tw_X8_dueOf
                      (fun (r8 : Int32) (G7 : aH) =>
                        (x2 ≤ r8 →
                          th_o G7 a0 8 ∧ (
                          (tw_X8_inBay
                            (fun (r10 : Int32) (G9 : aH) =>
                              (x2 ≤ 60 - r10 →
                                ∀ x4_11 : Int32, x4_11 = 1 + (23 * x1) → 
                                ∃ n9 : Nat, tw_X8_carts_b110 Q n9 G9 a0 x1 x2 x3 x4_11 x2) ∧
                              (¬ x2 ≤ 60 - r10 →
                                th_o G9 a0 8 ∧ (
                                (tw_X8_inBay
                                  (fun (r28 : Int32) (G27 : aH) =>
                                    th_o G27 a0 8 ∧ (
                                    (tw_X8_refuses
                                      (fun (r30 : Int32) (G29 : aH) =>
                                        Q r30 G29)
                                      G27 a0 3 (60 - r28) 0 0)))
                                  G9 a0 x3))))
                            G7 a0 x3))) ∧
                        (¬ x2 ≤ r8 →
                          th_o G7 a0 8 ∧ (
                          (tw_X8_dueOf
                            (fun (r32 : Int32) (G31 : aH) =>
                              th_o G31 a0 8 ∧ (
                              (tw_X8_of
                                (fun (r34 : Int32) (G33 : aH) =>
                                  (r34 ≤ 0 →
                                    tw_X8_carts_b61 Q G33 a0 x1 0 r32 2 a0) ∧
                                  (¬ r34 ≤ 0 →
                                    tw_X8_carts_b61 Q G33 a0 x1 12 r32 2 a0))
                                G31 a0 x1 2)))
                            G7 a0 x1))))
                      G5 a0 x1))) ∧
                  (r6 = 0 →
                    Q (-2) G5))
                G3 x2 1 60)) ∧
            (r4 = 0 →
              Q (-1) G3))
          G1 x3)))
    G a0 x1))
theorem tk_X8_carts_b192 {p : Program} {l : Launch} {e : Env} {s : State} {m : MethodId} {args : Array Value} {below : List Frame} {meth : Method} {c : Code} {D : tD} {B : Nat} (E : th_E p m c cX8_carts 6 s args RX8 meth ((Option.some Jvm.ClassFile.FieldType.int)) "carts" D B) {Q : Int32 → aH → Prop} {G : aH} {H : Heap} {locs : List Loc} {cells slots : Nat} {ls : Array Slot} {a0 : Nat} {x1 : Int32} {x2 : Int32} {x3 : Int32} {x4 : Int32} (hR : th_H D B G H) (hS : va_S (th_A B) s.heap H locs) (hL : th_L ls 6 [(0, rv a0), (1, .int x1), (2, .int x2), (3, .int x3), (4, .int x4)]) (hw : tw_X8_carts_b192 Q G a0 x1 x2 x3 x4) (hc : cells + (0) ≤ 0 ∧ slots + (0) ≤ 0) : W p l e rm_X8_carts s m args below meth c H locs cells slots (MQ below (th_Qi D B Q) args s 0 0 (th_A B)) (F0 m 192 ls []) := by
  have CF := E.1; have hx := CF.1; have hb := CF.2.1; have hret := E.2.1; have hlk := E.2.2.1; have hnm := E.2.2.2.1; have hK := E.2.2.2.2.1; have hSt := E.2.2.2.2.2
  unfold tw_X8_carts_b192 at hw
  refine th_aload_n hx hb dX8_carts_192 rfl (lv_at hL.1 0 rfl) ?_
  obtain ⟨ho, hw⟩ := hw
  refine fg_X8_9 CF hK hR ho dX8_carts_193 ?_
  refine lv_iload hx hb dX8_carts_196 (lv_at hL.1 4 rfl) ?_
  refine lv_iconst hx hb dX8_carts_198 (v := 3) rfl ?_
  refine lv_iadd hx hb dX8_carts_199 ?_
  refine lv_dup2_11 hx hb dX8_carts_200 rfl (rv_cat _) ?_
  obtain ⟨ha, hw⟩ := hw
  refine th_iald hx hb hK hR ha dX8_carts_201 ?_
  refine lv_iload_n hx hb dX8_carts_202 rfl (lv_at hL.1 2 rfl) ?_
  refine lv_iadd hx hb dX8_carts_203 ?_
  obtain ⟨ha, hw⟩ := hw
  refine th_iast hx hb hK hR hS ha dX8_carts_204 (fun G12 H locs hG hR hS => ?_)
  replace hw := hw G12 hG
  refine th_aload_n hx hb dX8_carts_205 rfl (lv_at hL.1 0 rfl) ?_
  obtain ⟨ho, hw⟩ := hw
  refine fg_X8_9 CF hK hR ho dX8_carts_206 ?_
  refine lv_sipush hx hb dX8_carts_209 (v := 430) rfl ?_
  refine lv_dup2_11 hx hb dX8_carts_212 rfl (rv_cat _) ?_
  obtain ⟨ha, hw⟩ := hw
  refine th_iald hx hb hK hR ha dX8_carts_213 ?_
  refine lv_iload_n hx hb dX8_carts_214 rfl (lv_at hL.1 2 rfl) ?_
  refine th_aload_n hx hb dX8_carts_215 rfl (lv_at hL.1 0 rfl) ?_
  refine lv_iload_n hx hb dX8_carts_216 rfl (lv_at hL.1 1 rfl) ?_
  refine lv_iconst hx hb dX8_carts_217 (v := 0) rfl ?_
  obtain ⟨ho, hw⟩ := hw
  refine th_ki hS (th_rV CF hK hSt hR hS ho (ci := 8) rfl (rest := [.int x2, .int (a_mi G12 (a_mr G12 a0 0) (430 : Int32).toNatClampNeg), .int 430, rv (a_mr G12 a0 0)]) (tk_X8_of) (cw_X8_89 CF hK (by decide +kernel)) hw rfl hL.1.1 rfl (th_ci (th_ci (th_ci (th_cr th_cn)))) (Nat.le_of_ble_eq_true rfl) dX8_carts_218 ⟨by show _ ≤ (0 : Nat); omega, by show _ ≤ (0 : Nat); omega⟩) (fun r14 G13 H locs hw hR hS => ?_)
  refine th_ki hS (th_rS CF hK hSt hR hS (rest := [.int x2, .int (a_mi G12 (a_mr G12 a0 0) (430 : Int32).toNatClampNeg), .int 430, rv (a_mr G12 a0 0)]) (tk_X8_pints) (cw_X8_134 CF hK (by decide +kernel)) hw rfl hL.1.1 rfl (th_ci (th_ci (th_ci (th_cr th_cn)))) (Nat.le_of_ble_eq_true rfl) dX8_carts_221 ⟨by show _ ≤ (0 : Nat); omega, by show _ ≤ (0 : Nat); omega⟩) (fun r16 G15 H locs hw hR hS => ?_)
  refine lv_imul hx hb dX8_carts_224 ?_
  refine lv_iadd hx hb dX8_carts_225 ?_
  obtain ⟨ha, hw⟩ := hw
  refine th_iast hx hb hK hR hS ha dX8_carts_226 (fun G17 H locs hG hR hS => ?_)
  replace hw := hw G17 hG
  refine th_aload_n hx hb dX8_carts_227 rfl (lv_at hL.1 0 rfl) ?_
  refine lv_iload_n hx hb dX8_carts_228 rfl (lv_at hL.1 3 rfl) ?_
  obtain ⟨ho, hw⟩ := hw
  refine th_ki hS (th_rV CF hK hSt hR hS ho (ci := 8) rfl (rest := []) (tk_X8_inBay) (cw_X8_128 CF hK (by decide +kernel)) hw rfl hL.1.1 rfl th_cn (Nat.le_of_ble_eq_true rfl) dX8_carts_229 ⟨by show _ ≤ (0 : Nat); omega, by show _ ≤ (0 : Nat); omega⟩) (fun r19 G18 H locs hw hR hS => ?_)
  exact th_iret hx hb hret hlk hR hS hw (by omega) (by omega) dX8_carts_232
theorem tk_X8_carts_b147 {p : Program} {l : Launch} {e : Env} {s : State} {m : MethodId} {args : Array Value} {below : List Frame} {meth : Method} {c : Code} {D : tD} {B : Nat} (E : th_E p m c cX8_carts 6 s args RX8 meth ((Option.some Jvm.ClassFile.FieldType.int)) "carts" D B) {Q : Int32 → aH → Prop} {k110 : aH → Nat → Int32 → Int32 → Int32 → Int32 → Int32 → Prop} {c110 s110 : Nat} (h110 : ∀ (G : aH) (H : Heap) (locs : List Loc) (cells slots : Nat) (ls : Array Slot) (y110_0 : Nat) (y110_1 : Int32) (y110_2 : Int32) (y110_3 : Int32) (y110_4 : Int32) (y110_5 : Int32), k110 G y110_0 y110_1 y110_2 y110_3 y110_4 y110_5 → th_H D B G H → va_S (th_A B) s.heap H locs → th_L ls 6 [(0, rv y110_0), (1, .int y110_1), (2, .int y110_2), (3, .int y110_3), (4, .int y110_4), (5, .int y110_5)] → cells ≤ c110 ∧ slots ≤ s110 → W p l e rm_X8_carts s m args below meth c H locs cells slots (MQ below (th_Qi D B Q) args s 0 0 (th_A B)) (F0 m 110 ls [])) {G : aH} {H : Heap} {locs : List Loc} {cells slots : Nat} {ls : Array Slot} {a0 : Nat} {x1 : Int32} {x2 : Int32} {x3 : Int32} {x4 : Int32} {x5 : Int32} (hR : th_H D B G H) (hS : va_S (th_A B) s.heap H locs) (hL : th_L ls 6 [(0, rv a0), (1, .int x1), (2, .int x2), (3, .int x3), (4, .int x4), (5, .int x5)]) (hw : tw_X8_carts_b147 Q k110 G a0 x1 x2 x3 x4 x5) (hc : cells + (0) ≤ 0 ∧ slots + (0) ≤ 0 ∧ cells + (0) ≤ c110 ∧ slots + (0) ≤ s110) : W p l e rm_X8_carts s m args below meth c H locs cells slots (MQ below (th_Qi D B Q) args s 0 0 (th_A B)) (F0 m 147 ls []) := by
  have CF := E.1; have hx := CF.1; have hb := CF.2.1; have hret := E.2.1; have hlk := E.2.2.1; have hnm := E.2.2.2.1; have hK := E.2.2.2.2.1; have hSt := E.2.2.2.2.2
  unfold tw_X8_carts_b147 at hw
  refine th_aload_n hx hb dX8_carts_147 rfl (lv_at hL.1 0 rfl) ?_
  obtain ⟨ho, hw⟩ := hw
  refine fg_X8_9 CF hK hR ho dX8_carts_148 ?_
  refine lv_sipush hx hb dX8_carts_151 (v := 139) rfl ?_
  refine lv_bipush hx hb dX8_carts_154 (v := 61) rfl ?_
  refine lv_iload_n hx hb dX8_carts_156 rfl (lv_at hL.1 3 rfl) ?_
  refine lv_imul hx hb dX8_carts_157 ?_
  refine lv_iadd hx hb dX8_carts_158 ?_
  refine lv_iconst hx hb dX8_carts_159 (v := 1) rfl ?_
  refine lv_iadd hx hb dX8_carts_160 ?_
  refine th_aload_n hx hb dX8_carts_161 rfl (lv_at hL.1 0 rfl) ?_
  refine lv_iload_n hx hb dX8_carts_162 rfl (lv_at hL.1 3 rfl) ?_
  obtain ⟨ho, hw⟩ := hw
  refine th_ki hS (th_rV CF hK hSt hR hS ho (ci := 8) rfl (rest := [.int ((139 + (61 * x3)) + 1), rv (a_mr G a0 0)]) (tk_X8_inBay) (cw_X8_128 CF hK (by decide +kernel)) hw rfl hL.1.1 rfl (th_ci (th_cr th_cn)) (Nat.le_of_ble_eq_true rfl) dX8_carts_163 ⟨by show _ ≤ (0 : Nat); omega, by show _ ≤ (0 : Nat); omega⟩) (fun r22 G21 H locs hw hR hS => ?_)
  refine lv_iadd hx hb dX8_carts_166 ?_
  refine lv_iload_n hx hb dX8_carts_167 rfl (lv_at hL.1 1 rfl) ?_
  obtain ⟨ha, hw⟩ := hw
  refine th_iast hx hb hK hR hS ha dX8_carts_168 (fun G23 H locs hG hR hS => ?_)
  replace hw := hw G23 hG
  refine th_aload_n hx hb dX8_carts_169 rfl (lv_at hL.1 0 rfl) ?_
  obtain ⟨ho, hw⟩ := hw
  refine fg_X8_9 CF hK hR ho dX8_carts_170 ?_
  refine lv_sipush hx hb dX8_carts_173 (v := 139) rfl ?_
  refine lv_bipush hx hb dX8_carts_176 (v := 61) rfl ?_
  refine lv_iload_n hx hb dX8_carts_178 rfl (lv_at hL.1 3 rfl) ?_
  refine lv_imul hx hb dX8_carts_179 ?_
  refine lv_iadd hx hb dX8_carts_180 ?_
  refine lv_dup2_11 hx hb dX8_carts_181 rfl (rv_cat _) ?_
  obtain ⟨ha, hw⟩ := hw
  refine th_iald hx hb hK hR ha dX8_carts_182 ?_
  refine lv_iconst hx hb dX8_carts_183 (v := 1) rfl ?_
  refine lv_iadd hx hb dX8_carts_184 ?_
  obtain ⟨ha, hw⟩ := hw
  refine th_iast hx hb hK hR hS ha dX8_carts_185 (fun G24 H locs hG hR hS => ?_)
  replace hw := hw G24 hG
  obtain ⟨x5_25, hx5_25⟩ : ∃ y : Int32, y = x5 + (-1) := ⟨_, rfl⟩
  replace hw := hw x5_25 hx5_25
  refine th_iinc hx hb dX8_carts_186 hL (k := 5) rfl (v := x5_25) hx5_25.symm (by decide) rfl (fun ls hL => ?_)
  refine lv_goto hx hb dX8_carts_189 (tgt := 110) (by decide) ?_
  exact h110 _ _ _ _ _ _ _ _ _ _ _ _ hw hR hS (hL.sub [1, 2, 3, 4, 5, 0] rfl) ⟨by omega, by omega⟩
theorem tk_X8_carts_b110 {p : Program} {l : Launch} {e : Env} {s : State} {m : MethodId} {args : Array Value} {below : List Frame} {meth : Method} {c : Code} {D : tD} {B : Nat} (E : th_E p m c cX8_carts 6 s args RX8 meth ((Option.some Jvm.ClassFile.FieldType.int)) "carts" D B) {Q : Int32 → aH → Prop} : ∀ (n : Nat) {G : aH} {H : Heap} {locs : List Loc} {cells slots : Nat} {ls : Array Slot} {a0 : Nat} {x1 : Int32} {x2 : Int32} {x3 : Int32} {x4 : Int32} {x5 : Int32} (hR : th_H D B G H) (hS : va_S (th_A B) s.heap H locs) (hL : th_L ls 6 [(0, rv a0), (1, .int x1), (2, .int x2), (3, .int x3), (4, .int x4), (5, .int x5)]) (hw : tw_X8_carts_b110 Q n G a0 x1 x2 x3 x4 x5) (hc : cells + (0) ≤ 0 ∧ slots + (0) ≤ 0), W p l e rm_X8_carts s m args below meth c H locs cells slots (MQ below (th_Qi D B Q) args s 0 0 (th_A B)) (F0 m 110 ls []) := by
  have CF := E.1; have hx := CF.1; have hb := CF.2.1; have hret := E.2.1; have hlk := E.2.2.1; have hnm := E.2.2.2.1; have hK := E.2.2.2.2.1; have hSt := E.2.2.2.2.2
  intro n
  induction n with
  | zero => intro _ _ _ _ _ _ _ _ _ _ _ _ _ _ _ hw; exact hw.elim
  | succ n ih =>
    intro G H locs cells slots ls a0 x1 x2 x3 x4 x5 hR hS hL hw hc
    rw [tws_X8_carts_b110] at hw
    refine lv_iload hx hb dX8_carts_110 (lv_at hL.1 5 rfl) ?_
    refine lv_if_le hx hb dX8_carts_112 (tgt := 192) (by decide) (fun h => ?_) (fun h => ?_)
    · replace hw := hw.1 h
      exact tk_X8_carts_b192 E hR hS (hL.sub [0, 1, 2, 3, 4] rfl) hw ⟨by omega, by omega⟩
    · replace hw := hw.2 h
      refine th_aload_n hx hb dX8_carts_115 rfl (lv_at hL.1 0 rfl) ?_
      obtain ⟨ho, hw⟩ := hw
      refine fg_X8_9 CF hK hR ho dX8_carts_116 ?_
      refine lv_iload hx hb dX8_carts_119 (lv_at hL.1 4 rfl) ?_
      refine lv_bipush hx hb dX8_carts_121 (v := 6) rfl ?_
      refine lv_iadd hx hb dX8_carts_123 ?_
      refine lv_dup2_11 hx hb dX8_carts_124 rfl (rv_cat _) ?_
      obtain ⟨ha, hw⟩ := hw
      refine th_iald hx hb hK hR ha dX8_carts_125 ?_
      refine lv_iconst hx hb dX8_carts_126 (v := 1) rfl ?_
      refine lv_isub hx hb dX8_carts_127 ?_
      obtain ⟨ha, hw⟩ := hw
      refine th_iast hx hb hK hR hS ha dX8_carts_128 (fun G20 H locs hG hR hS => ?_)
      replace hw := hw G20 hG
      refine th_aload_n hx hb dX8_carts_129 rfl (lv_at hL.1 0 rfl) ?_
      obtain ⟨ho, hw⟩ := hw
      refine fg_X8_9 CF hK hR ho dX8_carts_130 ?_
      refine lv_iload hx hb dX8_carts_133 (lv_at hL.1 4 rfl) ?_
      refine lv_bipush hx hb dX8_carts_135 (v := 6) rfl ?_
      refine lv_iadd hx hb dX8_carts_137 ?_
      obtain ⟨ha, hw⟩ := hw
      refine th_iald hx hb hK hR ha dX8_carts_138 ?_
      refine lv_if_ne hx hb dX8_carts_139 (tgt := 147) (by decide) (fun h => ?_) (fun h => ?_)
      · replace hw := hw.1 h
        exact tk_X8_carts_b147 E (c110 := cells + 0) (s110 := slots + 0) (fun G H locs cells slots ls y0 y1 y2 y3 y4 y5 hw hR hS hL hc => ih hR hS hL hw ⟨by omega, by omega⟩) hR hS (hL.sub [0, 1, 2, 3, 4, 5] rfl) hw ⟨by omega, by omega, by omega, by omega⟩
      · replace hw := hw.2 h
        refine th_aload_n hx hb dX8_carts_142 rfl (lv_at hL.1 0 rfl) ?_
        refine lv_iload_n hx hb dX8_carts_143 rfl (lv_at hL.1 1 rfl) ?_
        obtain ⟨ho, hw⟩ := hw
        refine th_kv hS (th_rV CF hK hSt hR hS ho (ci := 8) rfl (rest := []) (tk_X8_dropsDue) (cw_X8_131 CF hK (by decide +kernel)) hw rfl hL.1.1 rfl th_cn (Nat.le_of_ble_eq_true rfl) dX8_carts_144 ⟨by show _ ≤ (0 : Nat); omega, by show _ ≤ (0 : Nat); omega⟩) (fun G26 H locs hw hR hS => ?_)
        exact tk_X8_carts_b147 E (c110 := cells + 0 + 0) (s110 := slots + 0 + 0) (fun G H locs cells slots ls y0 y1 y2 y3 y4 y5 hw hR hS hL hc => ih hR hS hL hw ⟨by omega, by omega⟩) hR hS (hL.sub [0, 1, 2, 3, 4, 5] rfl) hw ⟨by omega, by omega, by omega, by omega⟩
theorem tk_X8_carts_b61 {p : Program} {l : Launch} {e : Env} {s : State} {m : MethodId} {args : Array Value} {below : List Frame} {meth : Method} {c : Code} {D : tD} {B : Nat} (E : th_E p m c cX8_carts 6 s args RX8 meth ((Option.some Jvm.ClassFile.FieldType.int)) "carts" D B) {Q : Int32 → aH → Prop} {G : aH} {H : Heap} {locs : List Loc} {cells slots : Nat} {ls : Array Slot} {a0 : Nat} {x1 : Int32} {tx0 : Int32} {tx1 : Int32} {tx2 : Int32} {ta3 : Nat} (hR : th_H D B G H) (hS : va_S (th_A B) s.heap H locs) (hL : th_L ls 6 [(0, rv a0), (1, .int x1)]) (hw : tw_X8_carts_b61 Q G a0 x1 tx0 tx1 tx2 ta3) (hc : cells + (0) ≤ 0 ∧ slots + (0) ≤ 0) : W p l e rm_X8_carts s m args below meth c H locs cells slots (MQ below (th_Qi D B Q) args s 0 0 (th_A B)) (F0 m 61 ls [.int tx0, .int tx1, .int tx2, rv ta3]) := by
  have CF := E.1; have hx := CF.1; have hb := CF.2.1; have hret := E.2.1; have hlk := E.2.2.1; have hnm := E.2.2.2.1; have hK := E.2.2.2.2.1; have hSt := E.2.2.2.2.2
  unfold tw_X8_carts_b61 at hw
  refine th_aload_n hx hb dX8_carts_61 rfl (lv_at hL.1 0 rfl) ?_
  refine lv_iload_n hx hb dX8_carts_62 rfl (lv_at hL.1 1 rfl) ?_
  refine lv_iconst hx hb dX8_carts_63 (v := 2) rfl ?_
  obtain ⟨ho, hw⟩ := hw
  refine th_ki hS (th_rV CF hK hSt hR hS ho (ci := 8) rfl (rest := [.int tx0, .int tx1, .int tx2, rv ta3]) (tk_X8_of) (cw_X8_89 CF hK (by decide +kernel)) hw rfl hL.1.1 rfl (th_ci (th_ci (th_ci (th_cr th_cn)))) (Nat.le_of_ble_eq_true rfl) dX8_carts_64 ⟨by show _ ≤ (0 : Nat); omega, by show _ ≤ (0 : Nat); omega⟩) (fun r36 G35 H locs hw hR hS => ?_)
  obtain ⟨ho, hw⟩ := hw
  refine th_ki hS (th_rV CF hK hSt hR hS ho (ci := 8) rfl (rest := []) (tk_X8_refuses) (cw_X8_100 CF hK (by decide +kernel)) hw rfl hL.1.1 rfl th_cn (Nat.le_of_ble_eq_true rfl) dX8_carts_67 ⟨by show _ ≤ (0 : Nat); omega, by show _ ≤ (0 : Nat); omega⟩) (fun r38 G37 H locs hw hR hS => ?_)
  exact th_iret hx hb hret hlk hR hS hw (by omega) (by omega) dX8_carts_70
theorem tk_X8_carts {l : Launch} {D : tD} {B : Nat} {Q : Int32 → aH → Prop} {a0 : Nat} {x1 : Int32} {x2 : Int32} {x3 : Int32} : Met l yX8_carts (ws_ yX8_carts cX8_carts 6 ((Option.some Jvm.ClassFile.FieldType.int))) rm_X8_carts (th_P D B [rv a0, .int x1, .int x2, .int x3] (fun G => tw_X8_carts Q G a0 x1 x2 x3)) (th_Qi D B Q) 0 0 (th_A B) :=
  th_ofW (by decide +kernel) (th_cr (th_ci (th_ci (th_ci th_cn)))) (Nat.le_of_ble_eq_true rfl) (fun p e s m args below meth c CF hret hlk hnm hK hSt G ls hR hS hw hL => by
    have E : th_E p m c cX8_carts 6 s args RX8 meth ((Option.some Jvm.ClassFile.FieldType.int)) "carts" D B := ⟨CF, hret, hlk, hnm, hK, hSt⟩
    have hx := CF.1; have hb := CF.2.1
    have hL : th_L ls 6 [(0, rv a0), (1, .int x1), (2, .int x2), (3, .int x3)] := hL
    unfold tw_X8_carts at hw
    refine th_aload_n hx hb dX8_carts_0 rfl (lv_at hL.1 0 rfl) ?_
    refine lv_iload_n hx hb dX8_carts_1 rfl (lv_at hL.1 1 rfl) ?_
    obtain ⟨ho, hw⟩ := hw
    refine th_ki hS (th_rV CF hK hSt hR hS ho (ci := 8) rfl (rest := []) (tk_X8_isParish) (cw_X8_107 CF hK (by decide +kernel)) hw rfl hL.1.1 rfl th_cn (Nat.le_of_ble_eq_true rfl) dX8_carts_2 ⟨by show _ ≤ (0 : Nat); omega, by show _ ≤ (0 : Nat); omega⟩) (fun r2 G1 H locs hw hR hS => ?_)
    refine lv_if_eq hx hb dX8_carts_5 (tgt := 15) (by decide) (fun h => ?_) (fun h => ?_)
    · replace hw := hw.1 h
      refine lv_iconst hx hb dX8_carts_15 (v := (-1)) rfl ?_
      exact th_iret hx hb hret hlk hR hS hw (by omega) (by omega) dX8_carts_16
    · replace hw := hw.2 h
      refine lv_iload_n hx hb dX8_carts_8 rfl (lv_at hL.1 3 rfl) ?_
      refine th_ki hS (th_rS CF hK hSt hR hS (rest := []) (tk_X8_isBay) (cw_X8_122 CF hK (by decide +kernel)) hw rfl hL.1.1 rfl th_cn (Nat.le_of_ble_eq_true rfl) dX8_carts_9 ⟨by show _ ≤ (0 : Nat); omega, by show _ ≤ (0 : Nat); omega⟩) (fun r4 G3 H locs hw hR hS => ?_)
      refine lv_if_ne hx hb dX8_carts_12 (tgt := 17) (by decide) (fun h => ?_) (fun h => ?_)
      · replace hw := hw.1 h
        refine lv_iload_n hx hb dX8_carts_17 rfl (lv_at hL.1 2 rfl) ?_
        refine lv_iconst hx hb dX8_carts_18 (v := 1) rfl ?_
        refine lv_bipush hx hb dX8_carts_19 (v := 60) rfl ?_
        refine th_ki hS (th_rS CF hK hSt hR hS (rest := []) (tk_X8_isIn) (cw_X8_56 CF hK (by decide +kernel)) hw rfl hL.1.1 rfl th_cn (Nat.le_of_ble_eq_true rfl) dX8_carts_21 ⟨by show _ ≤ (0 : Nat); omega, by show _ ≤ (0 : Nat); omega⟩) (fun r6 G5 H locs hw hR hS => ?_)
        refine lv_if_ne hx hb dX8_carts_24 (tgt := 30) (by decide) (fun h => ?_) (fun h => ?_)
        · replace hw := hw.1 h
          refine th_aload_n hx hb dX8_carts_30 rfl (lv_at hL.1 0 rfl) ?_
          refine lv_iload_n hx hb dX8_carts_31 rfl (lv_at hL.1 1 rfl) ?_
          obtain ⟨ho, hw⟩ := hw
          refine th_ki hS (th_rV CF hK hSt hR hS ho (ci := 8) rfl (rest := []) (tk_X8_dueOf) (cw_X8_125 CF hK (by decide +kernel)) hw rfl hL.1.1 rfl th_cn (Nat.le_of_ble_eq_true rfl) dX8_carts_32 ⟨by show _ ≤ (0 : Nat); omega, by show _ ≤ (0 : Nat); omega⟩) (fun r8 G7 H locs hw hR hS => ?_)
          refine lv_iload_n hx hb dX8_carts_35 rfl (lv_at hL.1 2 rfl) ?_
          refine lv_icmp_ge hx hb dX8_carts_36 (tgt := 71) (by decide) (fun h => ?_) (fun h => ?_)
          · replace hw := hw.1 h
            refine lv_bipush hx hb dX8_carts_71 (v := 60) rfl ?_
            refine th_aload_n hx hb dX8_carts_73 rfl (lv_at hL.1 0 rfl) ?_
            refine lv_iload_n hx hb dX8_carts_74 rfl (lv_at hL.1 3 rfl) ?_
            obtain ⟨ho, hw⟩ := hw
            refine th_ki hS (th_rV CF hK hSt hR hS ho (ci := 8) rfl (rest := [.int 60]) (tk_X8_inBay) (cw_X8_128 CF hK (by decide +kernel)) hw rfl hL.1.1 rfl (th_ci th_cn) (Nat.le_of_ble_eq_true rfl) dX8_carts_75 ⟨by show _ ≤ (0 : Nat); omega, by show _ ≤ (0 : Nat); omega⟩) (fun r10 G9 H locs hw hR hS => ?_)
            refine lv_isub hx hb dX8_carts_78 ?_
            refine lv_iload_n hx hb dX8_carts_79 rfl (lv_at hL.1 2 rfl) ?_
            refine lv_icmp_ge hx hb dX8_carts_80 (tgt := 99) (by decide) (fun h => ?_) (fun h => ?_)
            · replace hw := hw.1 h
              refine lv_iconst hx hb dX8_carts_99 (v := 1) rfl ?_
              refine lv_bipush hx hb dX8_carts_100 (v := 23) rfl ?_
              refine lv_iload_n hx hb dX8_carts_102 rfl (lv_at hL.1 1 rfl) ?_
              refine lv_imul hx hb dX8_carts_103 ?_
              refine lv_iadd hx hb dX8_carts_104 ?_
              obtain ⟨x4_11, hx4_11⟩ : ∃ y : Int32, y = 1 + (23 * x1) := ⟨_, rfl⟩
              replace hw := hw x4_11 hx4_11
              refine th_nmi hx4_11 ?_
              refine th_istore hx hb dX8_carts_105 hL (by decide) rfl (fun ls hL => ?_)
              refine lv_iload_n hx hb dX8_carts_107 rfl (lv_at hL.1 3 rfl) ?_
              refine th_istore hx hb dX8_carts_108 hL (by decide) rfl (fun ls hL => ?_)
              obtain ⟨n9, hw⟩ := hw
              exact tk_X8_carts_b110 E n9 hR hS (hL.sub [2, 3, 4, 5, 1, 0] rfl) hw ⟨by omega, by omega⟩
            · replace hw := hw.2 h
              refine th_aload_n hx hb dX8_carts_83 rfl (lv_at hL.1 0 rfl) ?_
              refine lv_iconst hx hb dX8_carts_84 (v := 3) rfl ?_
              refine lv_bipush hx hb dX8_carts_85 (v := 60) rfl ?_
              refine th_aload_n hx hb dX8_carts_87 rfl (lv_at hL.1 0 rfl) ?_
              refine lv_iload_n hx hb dX8_carts_88 rfl (lv_at hL.1 3 rfl) ?_
              obtain ⟨ho, hw⟩ := hw
              refine th_ki hS (th_rV CF hK hSt hR hS ho (ci := 8) rfl (rest := [.int 60, .int 3, rv a0]) (tk_X8_inBay) (cw_X8_128 CF hK (by decide +kernel)) hw rfl hL.1.1 rfl (th_ci (th_ci (th_cr th_cn))) (Nat.le_of_ble_eq_true rfl) dX8_carts_89 ⟨by show _ ≤ (0 : Nat); omega, by show _ ≤ (0 : Nat); omega⟩) (fun r28 G27 H locs hw hR hS => ?_)
              refine lv_isub hx hb dX8_carts_92 ?_
              refine lv_iconst hx hb dX8_carts_93 (v := 0) rfl ?_
              refine lv_iconst hx hb dX8_carts_94 (v := 0) rfl ?_
              obtain ⟨ho, hw⟩ := hw
              refine th_ki hS (th_rV CF hK hSt hR hS ho (ci := 8) rfl (rest := []) (tk_X8_refuses) (cw_X8_100 CF hK (by decide +kernel)) hw rfl hL.1.1 rfl th_cn (Nat.le_of_ble_eq_true rfl) dX8_carts_95 ⟨by show _ ≤ (0 : Nat); omega, by show _ ≤ (0 : Nat); omega⟩) (fun r30 G29 H locs hw hR hS => ?_)
              exact th_iret hx hb hret hlk hR hS hw (by omega) (by omega) dX8_carts_98
          · replace hw := hw.2 h
            refine th_aload_n hx hb dX8_carts_39 rfl (lv_at hL.1 0 rfl) ?_
            refine lv_iconst hx hb dX8_carts_40 (v := 2) rfl ?_
            refine th_aload_n hx hb dX8_carts_41 rfl (lv_at hL.1 0 rfl) ?_
            refine lv_iload_n hx hb dX8_carts_42 rfl (lv_at hL.1 1 rfl) ?_
            obtain ⟨ho, hw⟩ := hw
            refine th_ki hS (th_rV CF hK hSt hR hS ho (ci := 8) rfl (rest := [.int 2, rv a0]) (tk_X8_dueOf) (cw_X8_125 CF hK (by decide +kernel)) hw rfl hL.1.1 rfl (th_ci (th_cr th_cn)) (Nat.le_of_ble_eq_true rfl) dX8_carts_43 ⟨by show _ ≤ (0 : Nat); omega, by show _ ≤ (0 : Nat); omega⟩) (fun r32 G31 H locs hw hR hS => ?_)
            refine th_aload_n hx hb dX8_carts_46 rfl (lv_at hL.1 0 rfl) ?_
            refine lv_iload_n hx hb dX8_carts_47 rfl (lv_at hL.1 1 rfl) ?_
            refine lv_iconst hx hb dX8_carts_48 (v := 2) rfl ?_
            obtain ⟨ho, hw⟩ := hw
            refine th_ki hS (th_rV CF hK hSt hR hS ho (ci := 8) rfl (rest := [.int r32, .int 2, rv a0]) (tk_X8_of) (cw_X8_89 CF hK (by decide +kernel)) hw rfl hL.1.1 rfl (th_ci (th_ci (th_cr th_cn))) (Nat.le_of_ble_eq_true rfl) dX8_carts_49 ⟨by show _ ≤ (0 : Nat); omega, by show _ ≤ (0 : Nat); omega⟩) (fun r34 G33 H locs hw hR hS => ?_)
            refine lv_if_le hx hb dX8_carts_52 (tgt := 60) (by decide) (fun h => ?_) (fun h => ?_)
            · replace hw := hw.1 h
              refine lv_iconst hx hb dX8_carts_60 (v := 0) rfl ?_
              exact tk_X8_carts_b61 E hR hS (hL.sub [0, 1] rfl) hw ⟨by omega, by omega⟩
            · replace hw := hw.2 h
              refine lv_bipush hx hb dX8_carts_55 (v := 12) rfl ?_
              refine lv_goto hx hb dX8_carts_57 (tgt := 61) (by decide) ?_
              exact tk_X8_carts_b61 E hR hS (hL.sub [0, 1] rfl) hw ⟨by omega, by omega⟩
        · replace hw := hw.2 h
          refine lv_bipush hx hb dX8_carts_27 (v := (-2)) rfl ?_
          exact th_iret hx hb hret hlk hR hS hw (by omega) (by omega) dX8_carts_29
      · replace hw := hw.2 h
        refine lv_iconst hx hb dX8_carts_15 (v := (-1)) rfl ?_
        exact th_iret hx hb hret hlk hR hS hw (by omega) (by omega) dX8_carts_16)
def tw_X8_keeps (Q : aH → Prop) (G : aH) (a0 : Nat) (x1 : Int32) (x2 : Int32) (x3 : Int32) : Prop :=
  th_o G a0 8 ∧ (
  ∀ G1 : aH, G1 = a_si G a0 7 (x1 + 1) → 
  th_o G1 a0 8 ∧ (
  th_ai G1 (a_mr G1 a0 8) 0 x1 ∧ (
  ∀ G2 : aH, G2 = a_si G1 (a_mr G1 a0 8) x1.toNatClampNeg x2 → 
  th_o G2 a0 8 ∧ (
  th_ai G2 (a_mr G2 a0 9) 0 x1 ∧ (
  ∀ G3 : aH, G3 = a_si G2 (a_mr G2 a0 9) x1.toNatClampNeg x3 → 
  Q G3)))))
theorem tk_X8_keeps {l : Launch} {D : tD} {B : Nat} {Q : aH → Prop} {a0 : Nat} {x1 : Int32} {x2 : Int32} {x3 : Int32} : Met l yX8_keeps (ws_ yX8_keeps cX8_keeps 4 ((Option.none : Option Jvm.ClassFile.FieldType))) rm_X8_keeps (th_P D B [rv a0, .int x1, .int x2, .int x3] (fun G => tw_X8_keeps Q G a0 x1 x2 x3)) (th_Qv D B Q) 0 0 (th_A B) :=
  th_ofW (by decide +kernel) (th_cr (th_ci (th_ci (th_ci th_cn)))) (Nat.le_of_ble_eq_true rfl) (fun p e s m args below meth c CF hret hlk hnm hK hSt G ls hR hS hw hL => by
    have E : th_E p m c cX8_keeps 4 s args RX8 meth ((Option.none : Option Jvm.ClassFile.FieldType)) "keeps" D B := ⟨CF, hret, hlk, hnm, hK, hSt⟩
    have hx := CF.1; have hb := CF.2.1
    have hL : th_L ls 4 [(0, rv a0), (1, .int x1), (2, .int x2), (3, .int x3)] := hL
    unfold tw_X8_keeps at hw
    refine th_aload_n hx hb dX8_keeps_0 rfl (lv_at hL.1 0 rfl) ?_
    refine lv_iload_n hx hb dX8_keeps_1 rfl (lv_at hL.1 1 rfl) ?_
    refine lv_iconst hx hb dX8_keeps_2 (v := 1) rfl ?_
    refine lv_iadd hx hb dX8_keeps_3 ?_
    obtain ⟨ho, hw⟩ := hw
    refine fp_X8_66 CF hK hR hS ho dX8_keeps_4 (fun G1 H locs hG hR hS => ?_)
    replace hw := hw G1 hG
    refine th_aload_n hx hb dX8_keeps_7 rfl (lv_at hL.1 0 rfl) ?_
    obtain ⟨ho, hw⟩ := hw
    refine fg_X8_25 CF hK hR ho dX8_keeps_8 ?_
    refine lv_iload_n hx hb dX8_keeps_11 rfl (lv_at hL.1 1 rfl) ?_
    refine lv_iload_n hx hb dX8_keeps_12 rfl (lv_at hL.1 2 rfl) ?_
    obtain ⟨ha, hw⟩ := hw
    refine th_iast hx hb hK hR hS ha dX8_keeps_13 (fun G2 H locs hG hR hS => ?_)
    replace hw := hw G2 hG
    refine th_aload_n hx hb dX8_keeps_14 rfl (lv_at hL.1 0 rfl) ?_
    obtain ⟨ho, hw⟩ := hw
    refine fg_X8_28 CF hK hR ho dX8_keeps_15 ?_
    refine lv_iload_n hx hb dX8_keeps_18 rfl (lv_at hL.1 1 rfl) ?_
    refine lv_iload_n hx hb dX8_keeps_19 rfl (lv_at hL.1 3 rfl) ?_
    obtain ⟨ha, hw⟩ := hw
    refine th_iast hx hb hK hR hS ha dX8_keeps_20 (fun G3 H locs hG hR hS => ?_)
    replace hw := hw G3 hG
    exact th_vret hx hb hret hlk hR hS hw (by omega) (by omega) dX8_keeps_21)
def tw_X8_keepsWhy_b2 (Q : aH → Prop) : Nat → aH → Nat → Int32 → Int32 → Prop := fun n => Nat.rec (motive := fun _ => aH → Nat → Int32 → Int32 → Prop) (fun _ _ _ _ => False) (fun _ ih G a0 x1 x2 =>
  th_o G a0 8 ∧ (
  (a_mi G a0 15 ≤ x2 →
    Q G) ∧
  (¬ a_mi G a0 15 ≤ x2 →
    th_o G a0 8 ∧ (
    th_ai G (a_mr G a0 16) 0 (2 * x2) ∧ (
    th_o G a0 8 ∧ (
    th_ai G (a_mr G a0 16) 0 ((2 * x2) + 1) ∧ (
    th_o G a0 8 ∧ (
    (tw_X8_keeps
      (fun (G1 : aH) =>
        ∀ x2_2 : Int32, x2_2 = x2 + 1 → 
        ih G1 a0 x1 x2_2)
      G a0 (x1 + x2) (a_mi G (a_mr G a0 16) (2 * x2).toNatClampNeg) (a_mi G (a_mr G a0 16) ((2 * x2) + 1).toNatClampNeg)))))))))) n
theorem tws_X8_keepsWhy_b2 (Q : aH → Prop) (n : Nat) (G : aH) (a0 : Nat) (x1 : Int32) (x2 : Int32) : tw_X8_keepsWhy_b2 Q (n + 1) G a0 x1 x2 = (
  th_o G a0 8 ∧ (
  (a_mi G a0 15 ≤ x2 →
    Q G) ∧
  (¬ a_mi G a0 15 ≤ x2 →
    th_o G a0 8 ∧ (
    th_ai G (a_mr G a0 16) 0 (2 * x2) ∧ (
    th_o G a0 8 ∧ (
    th_ai G (a_mr G a0 16) 0 ((2 * x2) + 1) ∧ (
    th_o G a0 8 ∧ (
    (tw_X8_keeps
      (fun (G1 : aH) =>
        ∀ x2_2 : Int32, x2_2 = x2 + 1 → 
        tw_X8_keepsWhy_b2 Q n G1 a0 x1 x2_2)
      G a0 (x1 + x2) (a_mi G (a_mr G a0 16) (2 * x2).toNatClampNeg) (a_mi G (a_mr G a0 16) ((2 * x2) + 1).toNatClampNeg)))))))))) := rfl
def tw_X8_keepsWhy (Q : aH → Prop) (G : aH) (a0 : Nat) (x1 : Int32) : Prop :=
  ∃ n9 : Nat, tw_X8_keepsWhy_b2 Q n9 G a0 x1 0
theorem tk_X8_keepsWhy_b2 {p : Program} {l : Launch} {e : Env} {s : State} {m : MethodId} {args : Array Value} {below : List Frame} {meth : Method} {c : Code} {D : tD} {B : Nat} (E : th_E p m c cX8_keepsWhy 3 s args RX8 meth ((Option.none : Option Jvm.ClassFile.FieldType)) "keepsWhy" D B) {Q : aH → Prop} : ∀ (n : Nat) {G : aH} {H : Heap} {locs : List Loc} {cells slots : Nat} {ls : Array Slot} {a0 : Nat} {x1 : Int32} {x2 : Int32} (hR : th_H D B G H) (hS : va_S (th_A B) s.heap H locs) (hL : th_L ls 3 [(0, rv a0), (1, .int x1), (2, .int x2)]) (hw : tw_X8_keepsWhy_b2 Q n G a0 x1 x2) (hc : cells + (0) ≤ 0 ∧ slots + (0) ≤ 0), W p l e rm_X8_keepsWhy s m args below meth c H locs cells slots (MQ below (th_Qv D B Q) args s 0 0 (th_A B)) (F0 m 2 ls []) := by
  have CF := E.1; have hx := CF.1; have hb := CF.2.1; have hret := E.2.1; have hlk := E.2.2.1; have hnm := E.2.2.2.1; have hK := E.2.2.2.2.1; have hSt := E.2.2.2.2.2
  intro n
  induction n with
  | zero => intro _ _ _ _ _ _ _ _ _ _ _ _ hw; exact hw.elim
  | succ n ih =>
    intro G H locs cells slots ls a0 x1 x2 hR hS hL hw hc
    rw [tws_X8_keepsWhy_b2] at hw
    refine lv_iload_n hx hb dX8_keepsWhy_2 rfl (lv_at hL.1 2 rfl) ?_
    refine th_aload_n hx hb dX8_keepsWhy_3 rfl (lv_at hL.1 0 rfl) ?_
    obtain ⟨ho, hw⟩ := hw
    refine fg_X8_63 CF hK hR ho dX8_keepsWhy_4 ?_
    refine lv_icmp_ge hx hb dX8_keepsWhy_7 (tgt := 41) (by decide) (fun h => ?_) (fun h => ?_)
    · replace hw := hw.1 h
      exact th_vret hx hb hret hlk hR hS hw (by omega) (by omega) dX8_keepsWhy_41
    · replace hw := hw.2 h
      refine th_aload_n hx hb dX8_keepsWhy_10 rfl (lv_at hL.1 0 rfl) ?_
      refine lv_iload_n hx hb dX8_keepsWhy_11 rfl (lv_at hL.1 1 rfl) ?_
      refine lv_iload_n hx hb dX8_keepsWhy_12 rfl (lv_at hL.1 2 rfl) ?_
      refine lv_iadd hx hb dX8_keepsWhy_13 ?_
      refine th_aload_n hx hb dX8_keepsWhy_14 rfl (lv_at hL.1 0 rfl) ?_
      obtain ⟨ho, hw⟩ := hw
      refine fg_X8_41 CF hK hR ho dX8_keepsWhy_15 ?_
      refine lv_iconst hx hb dX8_keepsWhy_18 (v := 2) rfl ?_
      refine lv_iload_n hx hb dX8_keepsWhy_19 rfl (lv_at hL.1 2 rfl) ?_
      refine lv_imul hx hb dX8_keepsWhy_20 ?_
      obtain ⟨ha, hw⟩ := hw
      refine th_iald hx hb hK hR ha dX8_keepsWhy_21 ?_
      refine th_aload_n hx hb dX8_keepsWhy_22 rfl (lv_at hL.1 0 rfl) ?_
      obtain ⟨ho, hw⟩ := hw
      refine fg_X8_41 CF hK hR ho dX8_keepsWhy_23 ?_
      refine lv_iconst hx hb dX8_keepsWhy_26 (v := 2) rfl ?_
      refine lv_iload_n hx hb dX8_keepsWhy_27 rfl (lv_at hL.1 2 rfl) ?_
      refine lv_imul hx hb dX8_keepsWhy_28 ?_
      refine lv_iconst hx hb dX8_keepsWhy_29 (v := 1) rfl ?_
      refine lv_iadd hx hb dX8_keepsWhy_30 ?_
      obtain ⟨ha, hw⟩ := hw
      refine th_iald hx hb hK hR ha dX8_keepsWhy_31 ?_
      obtain ⟨ho, hw⟩ := hw
      refine th_kv hS (th_rV CF hK hSt hR hS ho (ci := 8) rfl (rest := []) (tk_X8_keeps) (cw_X8_69 CF hK (by decide +kernel)) hw rfl hL.1.1 rfl th_cn (Nat.le_of_ble_eq_true rfl) dX8_keepsWhy_32 ⟨by show _ ≤ (0 : Nat); omega, by show _ ≤ (0 : Nat); omega⟩) (fun G1 H locs hw hR hS => ?_)
      obtain ⟨x2_2, hx2_2⟩ : ∃ y : Int32, y = x2 + 1 := ⟨_, rfl⟩
      replace hw := hw x2_2 hx2_2
      refine th_iinc hx hb dX8_keepsWhy_35 hL (k := 2) rfl (v := x2_2) hx2_2.symm (by decide) rfl (fun ls hL => ?_)
      refine lv_goto hx hb dX8_keepsWhy_38 (tgt := 2) (by decide) ?_
      exact ih hR hS (hL.sub [1, 2, 0] rfl) hw ⟨by omega, by omega⟩
theorem tk_X8_keepsWhy {l : Launch} {D : tD} {B : Nat} {Q : aH → Prop} {a0 : Nat} {x1 : Int32} : Met l yX8_keepsWhy (ws_ yX8_keepsWhy cX8_keepsWhy 3 ((Option.none : Option Jvm.ClassFile.FieldType))) rm_X8_keepsWhy (th_P D B [rv a0, .int x1] (fun G => tw_X8_keepsWhy Q G a0 x1)) (th_Qv D B Q) 0 0 (th_A B) :=
  th_ofW (by decide +kernel) (th_cr (th_ci th_cn)) (Nat.le_of_ble_eq_true rfl) (fun p e s m args below meth c CF hret hlk hnm hK hSt G ls hR hS hw hL => by
    have E : th_E p m c cX8_keepsWhy 3 s args RX8 meth ((Option.none : Option Jvm.ClassFile.FieldType)) "keepsWhy" D B := ⟨CF, hret, hlk, hnm, hK, hSt⟩
    have hx := CF.1; have hb := CF.2.1
    have hL : th_L ls 3 [(0, rv a0), (1, .int x1)] := hL
    unfold tw_X8_keepsWhy at hw
    refine lv_iconst hx hb dX8_keepsWhy_0 (v := 0) rfl ?_
    refine th_istore_n hx hb dX8_keepsWhy_1 rfl hL (by decide) rfl (fun ls hL => ?_)
    obtain ⟨n9, hw⟩ := hw
    exact tk_X8_keepsWhy_b2 E n9 hR hS (hL.sub [1, 2, 0] rfl) hw ⟨by omega, by omega⟩)
def tw_X8_remembers_b50 (Q : Int32 → aH → Prop) (G : aH) (a0 : Nat) (x1 : Int32) : Prop :=
  th_o G a0 8 ∧ (
  th_o G a0 8 ∧ (
  th_o G a0 8 ∧ (
  (tw_X8_copies
    (fun (G1 : aH) =>
      th_o G1 a0 8 ∧ (
      th_o G1 a0 8 ∧ (
      ∀ G2 : aH, G2 = a_si G1 a0 6 ((a_mi G1 a0 6) + 1) → 
      Q x1 G2)))
    G (a_mr G a0 1) 0 (a_mr G a0 4) ((a_mi G a0 6) * 433)))))
def tw_X8_remembers_b40 (Q : Int32 → aH → Prop) (G : aH) (a0 : Nat) (x1 : Int32) : Prop :=
  th_o G a0 8 ∧ (
  th_o G a0 8 ∧ (
  ∀ G3 : aH, G3 = a_si G a0 6 ((a_mi G a0 6) - 1) → 
  tw_X8_remembers_b50 Q G3 a0 x1))
def tw_X8_remembers_b11 (Q : Int32 → aH → Prop) : Nat → aH → Nat → Int32 → Int32 → Prop := fun n => Nat.rec (motive := fun _ => aH → Nat → Int32 → Int32 → Prop) (fun _ _ _ _ => False) (fun _ ih G a0 x1 x2 =>
  (3031 ≤ x2 →
    tw_X8_remembers_b40 Q G a0 x1) ∧
  (¬ 3031 ≤ x2 →
    th_o G a0 8 ∧ (
    th_o G a0 8 ∧ (
    th_ai G (a_mr G a0 4) 0 (x2 + 433) ∧ (
    th_ai G (a_mr G a0 4) 0 x2 ∧ (
    ∀ G4 : aH, G4 = a_si G (a_mr G a0 4) x2.toNatClampNeg (a_mi G (a_mr G a0 4) (x2 + 433).toNatClampNeg) → 
    ∀ x2_5 : Int32, x2_5 = x2 + 1 → 
    ih G4 a0 x1 x2_5)))))) n
theorem tws_X8_remembers_b11 (Q : Int32 → aH → Prop) (n : Nat) (G : aH) (a0 : Nat) (x1 : Int32) (x2 : Int32) : tw_X8_remembers_b11 Q (n + 1) G a0 x1 x2 = (
  (3031 ≤ x2 →
    tw_X8_remembers_b40 Q G a0 x1) ∧
  (¬ 3031 ≤ x2 →
    th_o G a0 8 ∧ (
    th_o G a0 8 ∧ (
    th_ai G (a_mr G a0 4) 0 (x2 + 433) ∧ (
    th_ai G (a_mr G a0 4) 0 x2 ∧ (
    ∀ G4 : aH, G4 = a_si G (a_mr G a0 4) x2.toNatClampNeg (a_mi G (a_mr G a0 4) (x2 + 433).toNatClampNeg) → 
    ∀ x2_5 : Int32, x2_5 = x2 + 1 → 
    tw_X8_remembers_b11 Q n G4 a0 x1 x2_5)))))) := rfl
def tw_X8_remembers (Q : Int32 → aH → Prop) (G : aH) (a0 : Nat) (x1 : Int32) : Prop :=
  th_o G a0 8 ∧ (
  (¬ a_mi G a0 6 = 8 →
    tw_X8_remembers_b50 Q G a0 x1) ∧
  (a_mi G a0 6 = 8 →
    ∃ n9 : Nat, tw_X8_remembers_b11 Q n9 G a0 x1 0))
theorem tk_X8_remembers_b50 {p : Program} {l : Launch} {e : Env} {s : State} {m : MethodId} {args : Array Value} {below : List Frame} {meth : Method} {c : Code} {D : tD} {B : Nat} (E : th_E p m c cX8_remembers 3 s args RX8 meth ((Option.some Jvm.ClassFile.FieldType.int)) "remembers" D B) {Q : Int32 → aH → Prop} {G : aH} {H : Heap} {locs : List Loc} {cells slots : Nat} {ls : Array Slot} {a0 : Nat} {x1 : Int32} (hR : th_H D B G H) (hS : va_S (th_A B) s.heap H locs) (hL : th_L ls 3 [(0, rv a0), (1, .int x1)]) (hw : tw_X8_remembers_b50 Q G a0 x1) (hc : cells + (0) ≤ 0 ∧ slots + (0) ≤ 0) : W p l e rm_X8_remembers s m args below meth c H locs cells slots (MQ below (th_Qi D B Q) args s 0 0 (th_A B)) (F0 m 50 ls []) := by
  have CF := E.1; have hx := CF.1; have hb := CF.2.1; have hret := E.2.1; have hlk := E.2.2.1; have hnm := E.2.2.2.1; have hK := E.2.2.2.2.1; have hSt := E.2.2.2.2.2
  unfold tw_X8_remembers_b50 at hw
  refine th_aload_n hx hb dX8_remembers_50 rfl (lv_at hL.1 0 rfl) ?_
  obtain ⟨ho, hw⟩ := hw
  refine fg_X8_13 CF hK hR ho dX8_remembers_51 ?_
  refine lv_iconst hx hb dX8_remembers_54 (v := 0) rfl ?_
  refine th_aload_n hx hb dX8_remembers_55 rfl (lv_at hL.1 0 rfl) ?_
  obtain ⟨ho, hw⟩ := hw
  refine fg_X8_22 CF hK hR ho dX8_remembers_56 ?_
  refine th_aload_n hx hb dX8_remembers_59 rfl (lv_at hL.1 0 rfl) ?_
  obtain ⟨ho, hw⟩ := hw
  refine fg_X8_53 CF hK hR ho dX8_remembers_60 ?_
  refine lv_sipush hx hb dX8_remembers_63 (v := 433) rfl ?_
  refine lv_imul hx hb dX8_remembers_66 ?_
  refine th_kv hS (th_rS CF hK hSt hR hS (rest := []) (tk_X8_copies) (cw_X8_73 CF hK (by decide +kernel)) hw rfl hL.1.1 rfl th_cn (Nat.le_of_ble_eq_true rfl) dX8_remembers_67 ⟨by show _ ≤ (0 : Nat); omega, by show _ ≤ (0 : Nat); omega⟩) (fun G1 H locs hw hR hS => ?_)
  refine th_aload_n hx hb dX8_remembers_70 rfl (lv_at hL.1 0 rfl) ?_
  refine lv_dup hx hb dX8_remembers_71 (rv_cat _) ?_
  obtain ⟨ho, hw⟩ := hw
  refine fg_X8_53 CF hK hR ho dX8_remembers_72 ?_
  refine lv_iconst hx hb dX8_remembers_75 (v := 1) rfl ?_
  refine lv_iadd hx hb dX8_remembers_76 ?_
  obtain ⟨ho, hw⟩ := hw
  refine fp_X8_53 CF hK hR hS ho dX8_remembers_77 (fun G2 H locs hG hR hS => ?_)
  replace hw := hw G2 hG
  refine lv_iload_n hx hb dX8_remembers_80 rfl (lv_at hL.1 1 rfl) ?_
  exact th_iret hx hb hret hlk hR hS hw (by omega) (by omega) dX8_remembers_81
theorem tk_X8_remembers_b40 {p : Program} {l : Launch} {e : Env} {s : State} {m : MethodId} {args : Array Value} {below : List Frame} {meth : Method} {c : Code} {D : tD} {B : Nat} (E : th_E p m c cX8_remembers 3 s args RX8 meth ((Option.some Jvm.ClassFile.FieldType.int)) "remembers" D B) {Q : Int32 → aH → Prop} {G : aH} {H : Heap} {locs : List Loc} {cells slots : Nat} {ls : Array Slot} {a0 : Nat} {x1 : Int32} (hR : th_H D B G H) (hS : va_S (th_A B) s.heap H locs) (hL : th_L ls 3 [(0, rv a0), (1, .int x1)]) (hw : tw_X8_remembers_b40 Q G a0 x1) (hc : cells + (0) ≤ 0 ∧ slots + (0) ≤ 0) : W p l e rm_X8_remembers s m args below meth c H locs cells slots (MQ below (th_Qi D B Q) args s 0 0 (th_A B)) (F0 m 40 ls []) := by
  have CF := E.1; have hx := CF.1; have hb := CF.2.1; have hret := E.2.1; have hlk := E.2.2.1; have hnm := E.2.2.2.1; have hK := E.2.2.2.2.1; have hSt := E.2.2.2.2.2
  unfold tw_X8_remembers_b40 at hw
  refine th_aload_n hx hb dX8_remembers_40 rfl (lv_at hL.1 0 rfl) ?_
  refine lv_dup hx hb dX8_remembers_41 (rv_cat _) ?_
  obtain ⟨ho, hw⟩ := hw
  refine fg_X8_53 CF hK hR ho dX8_remembers_42 ?_
  refine lv_iconst hx hb dX8_remembers_45 (v := 1) rfl ?_
  refine lv_isub hx hb dX8_remembers_46 ?_
  obtain ⟨ho, hw⟩ := hw
  refine fp_X8_53 CF hK hR hS ho dX8_remembers_47 (fun G3 H locs hG hR hS => ?_)
  replace hw := hw G3 hG
  exact tk_X8_remembers_b50 E hR hS (hL.sub [0, 1] rfl) hw ⟨by omega, by omega⟩
theorem tk_X8_remembers_b11 {p : Program} {l : Launch} {e : Env} {s : State} {m : MethodId} {args : Array Value} {below : List Frame} {meth : Method} {c : Code} {D : tD} {B : Nat} (E : th_E p m c cX8_remembers 3 s args RX8 meth ((Option.some Jvm.ClassFile.FieldType.int)) "remembers" D B) {Q : Int32 → aH → Prop} : ∀ (n : Nat) {G : aH} {H : Heap} {locs : List Loc} {cells slots : Nat} {ls : Array Slot} {a0 : Nat} {x1 : Int32} {x2 : Int32} (hR : th_H D B G H) (hS : va_S (th_A B) s.heap H locs) (hL : th_L ls 3 [(0, rv a0), (1, .int x1), (2, .int x2)]) (hw : tw_X8_remembers_b11 Q n G a0 x1 x2) (hc : cells + (0) ≤ 0 ∧ slots + (0) ≤ 0), W p l e rm_X8_remembers s m args below meth c H locs cells slots (MQ below (th_Qi D B Q) args s 0 0 (th_A B)) (F0 m 11 ls []) := by
  have CF := E.1; have hx := CF.1; have hb := CF.2.1; have hret := E.2.1; have hlk := E.2.2.1; have hnm := E.2.2.2.1; have hK := E.2.2.2.2.1; have hSt := E.2.2.2.2.2
  intro n
  induction n with
  | zero => intro _ _ _ _ _ _ _ _ _ _ _ _ hw; exact hw.elim
  | succ n ih =>
    intro G H locs cells slots ls a0 x1 x2 hR hS hL hw hc
    rw [tws_X8_remembers_b11] at hw
    refine lv_iload_n hx hb dX8_remembers_11 rfl (lv_at hL.1 2 rfl) ?_
    refine lv_sipush hx hb dX8_remembers_12 (v := 3031) rfl ?_
    refine lv_icmp_ge hx hb dX8_remembers_15 (tgt := 40) (by decide) (fun h => ?_) (fun h => ?_)
    · replace hw := hw.1 h
      exact tk_X8_remembers_b40 E hR hS (hL.sub [0, 1] rfl) hw ⟨by omega, by omega⟩
    · replace hw := hw.2 h
      refine th_aload_n hx hb dX8_remembers_18 rfl (lv_at hL.1 0 rfl) ?_
      obtain ⟨ho, hw⟩ := hw
      refine fg_X8_22 CF hK hR ho dX8_remembers_19 ?_
      refine lv_iload_n hx hb dX8_remembers_22 rfl (lv_at hL.1 2 rfl) ?_
      refine th_aload_n hx hb dX8_remembers_23 rfl (lv_at hL.1 0 rfl) ?_
      obtain ⟨ho, hw⟩ := hw
      refine fg_X8_22 CF hK hR ho dX8_remembers_24 ?_
      refine lv_iload_n hx hb dX8_remembers_27 rfl (lv_at hL.1 2 rfl) ?_
      refine lv_sipush hx hb dX8_remembers_28 (v := 433) rfl ?_
      refine lv_iadd hx hb dX8_remembers_31 ?_
      obtain ⟨ha, hw⟩ := hw
      refine th_iald hx hb hK hR ha dX8_remembers_32 ?_
      obtain ⟨ha, hw⟩ := hw
      refine th_iast hx hb hK hR hS ha dX8_remembers_33 (fun G4 H locs hG hR hS => ?_)
      replace hw := hw G4 hG
      obtain ⟨x2_5, hx2_5⟩ : ∃ y : Int32, y = x2 + 1 := ⟨_, rfl⟩
      replace hw := hw x2_5 hx2_5
      refine th_iinc hx hb dX8_remembers_34 hL (k := 2) rfl (v := x2_5) hx2_5.symm (by decide) rfl (fun ls hL => ?_)
      refine lv_goto hx hb dX8_remembers_37 (tgt := 11) (by decide) ?_
      exact ih hR hS (hL.sub [1, 2, 0] rfl) hw ⟨by omega, by omega⟩
theorem tk_X8_remembers {l : Launch} {D : tD} {B : Nat} {Q : Int32 → aH → Prop} {a0 : Nat} {x1 : Int32} : Met l yX8_remembers (ws_ yX8_remembers cX8_remembers 3 ((Option.some Jvm.ClassFile.FieldType.int))) rm_X8_remembers (th_P D B [rv a0, .int x1] (fun G => tw_X8_remembers Q G a0 x1)) (th_Qi D B Q) 0 0 (th_A B) :=
  th_ofW (by decide +kernel) (th_cr (th_ci th_cn)) (Nat.le_of_ble_eq_true rfl) (fun p e s m args below meth c CF hret hlk hnm hK hSt G ls hR hS hw hL => by
    have E : th_E p m c cX8_remembers 3 s args RX8 meth ((Option.some Jvm.ClassFile.FieldType.int)) "remembers" D B := ⟨CF, hret, hlk, hnm, hK, hSt⟩
    have hx := CF.1; have hb := CF.2.1
    have hL : th_L ls 3 [(0, rv a0), (1, .int x1)] := hL
    unfold tw_X8_remembers at hw
    refine th_aload_n hx hb dX8_remembers_0 rfl (lv_at hL.1 0 rfl) ?_
    obtain ⟨ho, hw⟩ := hw
    refine fg_X8_53 CF hK hR ho dX8_remembers_1 ?_
    refine lv_bipush hx hb dX8_remembers_4 (v := 8) rfl ?_
    refine lv_icmp_ne hx hb dX8_remembers_6 (tgt := 50) (by decide) (fun h => ?_) (fun h => ?_)
    · replace hw := hw.1 h
      exact tk_X8_remembers_b50 E hR hS (hL.sub [0, 1] rfl) hw ⟨by omega, by omega⟩
    · replace hw := hw.2 h
      refine lv_iconst hx hb dX8_remembers_9 (v := 0) rfl ?_
      refine th_istore_n hx hb dX8_remembers_10 rfl hL (by decide) rfl (fun ls hL => ?_)
      obtain ⟨n9, hw⟩ := hw
      exact tk_X8_remembers_b11 E n9 hR hS (hL.sub [1, 2, 0] rfl) hw ⟨by omega, by omega⟩)
def tw_X8_ends (Q : Int32 → aH → Prop) (G : aH) (a0 : Nat) (x1 : Int32) : Prop :=
  (0 ≤ x1 →
    th_o G a0 8 ∧ (
    (tw_X8_remembers
      (fun (r2 : Int32) (G1 : aH) =>
        Q r2 G1)
      G a0 x1))) ∧
  (¬ 0 ≤ x1 →
    th_o G a0 8 ∧ (
    (tw_X8_keepsWhy
      (fun (G3 : aH) =>
        th_o G3 a0 8 ∧ (
        th_o G3 a0 8 ∧ (
        (tw_X8_copies
          (fun (G4 : aH) =>
            Q x1 G4)
          G3 (a_mr G3 a0 1) 0 (a_mr G3 a0 0) 0))))
      G a0 0)))
theorem tk_X8_ends {l : Launch} {D : tD} {B : Nat} {Q : Int32 → aH → Prop} {a0 : Nat} {x1 : Int32} : Met l yX8_ends (ws_ yX8_ends cX8_ends 2 ((Option.some Jvm.ClassFile.FieldType.int))) rm_X8_ends (th_P D B [rv a0, .int x1] (fun G => tw_X8_ends Q G a0 x1)) (th_Qi D B Q) 0 0 (th_A B) :=
  th_ofW (by decide +kernel) (th_cr (th_ci th_cn)) (Nat.le_of_ble_eq_true rfl) (fun p e s m args below meth c CF hret hlk hnm hK hSt G ls hR hS hw hL => by
    have E : th_E p m c cX8_ends 2 s args RX8 meth ((Option.some Jvm.ClassFile.FieldType.int)) "ends" D B := ⟨CF, hret, hlk, hnm, hK, hSt⟩
    have hx := CF.1; have hb := CF.2.1
    have hL : th_L ls 2 [(0, rv a0), (1, .int x1)] := hL
    unfold tw_X8_ends at hw
    refine lv_iload_n hx hb dX8_ends_0 rfl (lv_at hL.1 1 rfl) ?_
    refine lv_if_ge hx hb dX8_ends_1 (tgt := 24) (by decide) (fun h => ?_) (fun h => ?_)
    · replace hw := hw.1 h
      refine th_aload_n hx hb dX8_ends_24 rfl (lv_at hL.1 0 rfl) ?_
      refine lv_iload_n hx hb dX8_ends_25 rfl (lv_at hL.1 1 rfl) ?_
      obtain ⟨ho, hw⟩ := hw
      refine th_ki hS (th_rV CF hK hSt hR hS ho (ci := 8) rfl (rest := []) (tk_X8_remembers) (cw_X8_81 CF hK (by decide +kernel)) hw rfl hL.1.1 rfl th_cn (Nat.le_of_ble_eq_true rfl) dX8_ends_26 ⟨by show _ ≤ (0 : Nat); omega, by show _ ≤ (0 : Nat); omega⟩) (fun r2 G1 H locs hw hR hS => ?_)
      exact th_iret hx hb hret hlk hR hS hw (by omega) (by omega) dX8_ends_29
    · replace hw := hw.2 h
      refine th_aload_n hx hb dX8_ends_4 rfl (lv_at hL.1 0 rfl) ?_
      refine lv_iconst hx hb dX8_ends_5 (v := 0) rfl ?_
      obtain ⟨ho, hw⟩ := hw
      refine th_kv hS (th_rV CF hK hSt hR hS ho (ci := 8) rfl (rest := []) (tk_X8_keepsWhy) (cw_X8_77 CF hK (by decide +kernel)) hw rfl hL.1.1 rfl th_cn (Nat.le_of_ble_eq_true rfl) dX8_ends_6 ⟨by show _ ≤ (0 : Nat); omega, by show _ ≤ (0 : Nat); omega⟩) (fun G3 H locs hw hR hS => ?_)
      refine th_aload_n hx hb dX8_ends_9 rfl (lv_at hL.1 0 rfl) ?_
      obtain ⟨ho, hw⟩ := hw
      refine fg_X8_13 CF hK hR ho dX8_ends_10 ?_
      refine lv_iconst hx hb dX8_ends_13 (v := 0) rfl ?_
      refine th_aload_n hx hb dX8_ends_14 rfl (lv_at hL.1 0 rfl) ?_
      obtain ⟨ho, hw⟩ := hw
      refine fg_X8_9 CF hK hR ho dX8_ends_15 ?_
      refine lv_iconst hx hb dX8_ends_18 (v := 0) rfl ?_
      refine th_kv hS (th_rS CF hK hSt hR hS (rest := []) (tk_X8_copies) (cw_X8_73 CF hK (by decide +kernel)) hw rfl hL.1.1 rfl th_cn (Nat.le_of_ble_eq_true rfl) dX8_ends_19 ⟨by show _ ≤ (0 : Nat); omega, by show _ ≤ (0 : Nat); omega⟩) (fun G4 H locs hw hR hS => ?_)
      refine lv_iload_n hx hb dX8_ends_22 rfl (lv_at hL.1 1 rfl) ?_
      exact th_iret hx hb hret hlk hR hS hw (by omega) (by omega) dX8_ends_23)
def tw_X8_cart (Q : Int32 → aH → Prop) (G : aH) (a0 : Nat) (x1 : Int32) (x2 : Int32) (x3 : Int32) : Prop :=
  th_o G a0 8 ∧ (
  (tw_X8_starts
    (fun (G1 : aH) =>
      th_o G1 a0 8 ∧ (
      (tw_X8_carts
        (fun (r3 : Int32) (G2 : aH) =>
          th_o G2 a0 8 ∧ (
          (tw_X8_ends
            (fun (r5 : Int32) (G4 : aH) =>
              Q r5 G4)
            G2 a0 r3)))
        G1 a0 x1 x2 x3)))
    G a0))
theorem tk_X8_cart {l : Launch} {D : tD} {B : Nat} {Q : Int32 → aH → Prop} {a0 : Nat} {x1 : Int32} {x2 : Int32} {x3 : Int32} : Met l yX8_cart (ws_ yX8_cart cX8_cart 4 ((Option.some Jvm.ClassFile.FieldType.int))) rm_X8_cart (th_P D B [rv a0, .int x1, .int x2, .int x3] (fun G => tw_X8_cart Q G a0 x1 x2 x3)) (th_Qi D B Q) 0 0 (th_A B) :=
  th_ofW (by decide +kernel) (th_cr (th_ci (th_ci (th_ci th_cn)))) (Nat.le_of_ble_eq_true rfl) (fun p e s m args below meth c CF hret hlk hnm hK hSt G ls hR hS hw hL => by
    have E : th_E p m c cX8_cart 4 s args RX8 meth ((Option.some Jvm.ClassFile.FieldType.int)) "cart" D B := ⟨CF, hret, hlk, hnm, hK, hSt⟩
    have hx := CF.1; have hb := CF.2.1
    have hL : th_L ls 4 [(0, rv a0), (1, .int x1), (2, .int x2), (3, .int x3)] := hL
    unfold tw_X8_cart at hw
    refine th_aload_n hx hb dX8_cart_0 rfl (lv_at hL.1 0 rfl) ?_
    obtain ⟨ho, hw⟩ := hw
    refine th_kv hS (th_rV CF hK hSt hR hS ho (ci := 8) rfl (rest := []) (tk_X8_starts) (cw_X8_97 CF hK (by decide +kernel)) hw rfl hL.1.1 rfl th_cn (Nat.le_of_ble_eq_true rfl) dX8_cart_1 ⟨by show _ ≤ (0 : Nat); omega, by show _ ≤ (0 : Nat); omega⟩) (fun G1 H locs hw hR hS => ?_)
    refine th_aload_n hx hb dX8_cart_4 rfl (lv_at hL.1 0 rfl) ?_
    refine th_aload_n hx hb dX8_cart_5 rfl (lv_at hL.1 0 rfl) ?_
    refine lv_iload_n hx hb dX8_cart_6 rfl (lv_at hL.1 1 rfl) ?_
    refine lv_iload_n hx hb dX8_cart_7 rfl (lv_at hL.1 2 rfl) ?_
    refine lv_iload_n hx hb dX8_cart_8 rfl (lv_at hL.1 3 rfl) ?_
    obtain ⟨ho, hw⟩ := hw
    refine th_ki hS (th_rV CF hK hSt hR hS ho (ci := 8) rfl (rest := [rv a0]) (tk_X8_carts) (cw_X8_137 CF hK (by decide +kernel)) hw rfl hL.1.1 rfl (th_cr th_cn) (Nat.le_of_ble_eq_true rfl) dX8_cart_9 ⟨by show _ ≤ (0 : Nat); omega, by show _ ≤ (0 : Nat); omega⟩) (fun r3 G2 H locs hw hR hS => ?_)
    obtain ⟨ho, hw⟩ := hw
    refine th_ki hS (th_rV CF hK hSt hR hS ho (ci := 8) rfl (rest := []) (tk_X8_ends) (cw_X8_104 CF hK (by decide +kernel)) hw rfl hL.1.1 rfl th_cn (Nat.le_of_ble_eq_true rfl) dX8_cart_12 ⟨by show _ ≤ (0 : Nat); omega, by show _ ≤ (0 : Nat); omega⟩) (fun r5 G4 H locs hw hR hS => ?_)
    exact th_iret hx hb hret hlk hR hS hw (by omega) (by omega) dX8_cart_15)
def tw_X8_isPlace (Q : Int32 → aH → Prop) (G : aH) (x0 : Int32) : Prop :=
  (tw_X8_isIn
    (fun (r2 : Int32) (G1 : aH) =>
      narrow .boolean (.int r2) = .int r2 ∧ Q r2 G1)
    G x0 0 6)
theorem tk_X8_isPlace {l : Launch} {D : tD} {B : Nat} {Q : Int32 → aH → Prop} {x0 : Int32} : Met l yX8_isPlace (ws_ yX8_isPlace cX8_isPlace 1 ((Option.some Jvm.ClassFile.FieldType.boolean))) rm_X8_isPlace (th_P D B [.int x0] (fun G => tw_X8_isPlace Q G x0)) (th_Qi D B Q) 0 0 (th_A B) :=
  th_ofW (by decide +kernel) (th_ci th_cn) (Nat.le_of_ble_eq_true rfl) (fun p e s m args below meth c CF hret hlk hnm hK hSt G ls hR hS hw hL => by
    have E : th_E p m c cX8_isPlace 1 s args RX8 meth ((Option.some Jvm.ClassFile.FieldType.boolean)) "isPlace" D B := ⟨CF, hret, hlk, hnm, hK, hSt⟩
    have hx := CF.1; have hb := CF.2.1
    have hL : th_L ls 1 [(0, .int x0)] := hL
    unfold tw_X8_isPlace at hw
    refine lv_iload_n hx hb dX8_isPlace_0 rfl (lv_at hL.1 0 rfl) ?_
    refine lv_iconst hx hb dX8_isPlace_1 (v := 0) rfl ?_
    refine lv_bipush hx hb dX8_isPlace_2 (v := 6) rfl ?_
    refine th_ki hS (th_rS CF hK hSt hR hS (rest := []) (tk_X8_isIn) (cw_X8_56 CF hK (by decide +kernel)) hw rfl hL.1.1 rfl th_cn (Nat.le_of_ble_eq_true rfl) dX8_isPlace_4 ⟨by show _ ≤ (0 : Nat); omega, by show _ ≤ (0 : Nat); omega⟩) (fun r2 G1 H locs hw hR hS => ?_)
    exact th_zret .boolean hx hb hret hw.1 hlk hR hS hw.2 (by omega) (by omega) dX8_isPlace_7)
def tw_X8_comes_b14 (Q : Int32 → aH → Prop) (G : aH) (a0 : Nat) (x1 : Int32) : Prop :=
  th_o G a0 8 ∧ (
  th_ai G (a_mr G a0 0) 0 427 ∧ (
  ∀ x2_3 : Int32, x2_3 = a_mi G (a_mr G a0 0) (427 : Int32).toNatClampNeg → 
  th_o G a0 8 ∧ (
  th_ai G (a_mr G a0 0) 0 427 ∧ (
  ∀ G4 : aH, G4 = a_si G (a_mr G a0 0) (427 : Int32).toNatClampNeg x1 → 
  Q (x2_3 + 1) G4))))
def tw_X8_comes (Q : Int32 → aH → Prop) (G : aH) (a0 : Nat) (x1 : Int32) : Prop :=
  (tw_X8_isPlace
    (fun (r2 : Int32) (G1 : aH) =>
      (¬ r2 = 0 →
        tw_X8_comes_b14 Q G1 a0 x1) ∧
      (r2 = 0 →
        (x1 = (-1) →
          tw_X8_comes_b14 Q G1 a0 x1) ∧
        (¬ x1 = (-1) →
          Q (-1) G1)))
    G x1)
theorem tk_X8_comes_b14 {p : Program} {l : Launch} {e : Env} {s : State} {m : MethodId} {args : Array Value} {below : List Frame} {meth : Method} {c : Code} {D : tD} {B : Nat} (E : th_E p m c cX8_comes 3 s args RX8 meth ((Option.some Jvm.ClassFile.FieldType.int)) "comes" D B) {Q : Int32 → aH → Prop} {G : aH} {H : Heap} {locs : List Loc} {cells slots : Nat} {ls : Array Slot} {a0 : Nat} {x1 : Int32} (hR : th_H D B G H) (hS : va_S (th_A B) s.heap H locs) (hL : th_L ls 3 [(0, rv a0), (1, .int x1)]) (hw : tw_X8_comes_b14 Q G a0 x1) (hc : cells + (0) ≤ 0 ∧ slots + (0) ≤ 0) : W p l e rm_X8_comes s m args below meth c H locs cells slots (MQ below (th_Qi D B Q) args s 0 0 (th_A B)) (F0 m 14 ls []) := by
  have CF := E.1; have hx := CF.1; have hb := CF.2.1; have hret := E.2.1; have hlk := E.2.2.1; have hnm := E.2.2.2.1; have hK := E.2.2.2.2.1; have hSt := E.2.2.2.2.2
  unfold tw_X8_comes_b14 at hw
  refine th_aload_n hx hb dX8_comes_14 rfl (lv_at hL.1 0 rfl) ?_
  obtain ⟨ho, hw⟩ := hw
  refine fg_X8_9 CF hK hR ho dX8_comes_15 ?_
  refine lv_sipush hx hb dX8_comes_18 (v := 427) rfl ?_
  obtain ⟨ha, hw⟩ := hw
  refine th_iald hx hb hK hR ha dX8_comes_21 ?_
  obtain ⟨x2_3, hx2_3⟩ : ∃ y : Int32, y = a_mi G (a_mr G a0 0) (427 : Int32).toNatClampNeg := ⟨_, rfl⟩
  replace hw := hw x2_3 hx2_3
  refine th_nmi hx2_3 ?_
  refine th_istore_n hx hb dX8_comes_22 rfl hL (by decide) rfl (fun ls hL => ?_)
  refine th_aload_n hx hb dX8_comes_23 rfl (lv_at hL.1 1 rfl) ?_
  obtain ⟨ho, hw⟩ := hw
  refine fg_X8_9 CF hK hR ho dX8_comes_24 ?_
  refine lv_sipush hx hb dX8_comes_27 (v := 427) rfl ?_
  refine lv_iload_n hx hb dX8_comes_30 rfl (lv_at hL.1 2 rfl) ?_
  obtain ⟨ha, hw⟩ := hw
  refine th_iast hx hb hK hR hS ha dX8_comes_31 (fun G4 H locs hG hR hS => ?_)
  replace hw := hw G4 hG
  refine lv_iload_n hx hb dX8_comes_32 rfl (lv_at hL.1 0 rfl) ?_
  refine lv_iconst hx hb dX8_comes_33 (v := 1) rfl ?_
  refine lv_iadd hx hb dX8_comes_34 ?_
  exact th_iret hx hb hret hlk hR hS hw (by omega) (by omega) dX8_comes_35
theorem tk_X8_comes {l : Launch} {D : tD} {B : Nat} {Q : Int32 → aH → Prop} {a0 : Nat} {x1 : Int32} : Met l yX8_comes (ws_ yX8_comes cX8_comes 3 ((Option.some Jvm.ClassFile.FieldType.int))) rm_X8_comes (th_P D B [rv a0, .int x1] (fun G => tw_X8_comes Q G a0 x1)) (th_Qi D B Q) 0 0 (th_A B) :=
  th_ofW (by decide +kernel) (th_cr (th_ci th_cn)) (Nat.le_of_ble_eq_true rfl) (fun p e s m args below meth c CF hret hlk hnm hK hSt G ls hR hS hw hL => by
    have E : th_E p m c cX8_comes 3 s args RX8 meth ((Option.some Jvm.ClassFile.FieldType.int)) "comes" D B := ⟨CF, hret, hlk, hnm, hK, hSt⟩
    have hx := CF.1; have hb := CF.2.1
    have hL : th_L ls 3 [(0, rv a0), (1, .int x1)] := hL
    unfold tw_X8_comes at hw
    refine lv_iload_n hx hb dX8_comes_0 rfl (lv_at hL.1 1 rfl) ?_
    refine th_ki hS (th_rS CF hK hSt hR hS (rest := []) (tk_X8_isPlace) (cw_X8_190 CF hK (by decide +kernel)) hw rfl hL.1.1 rfl th_cn (Nat.le_of_ble_eq_true rfl) dX8_comes_1 ⟨by show _ ≤ (0 : Nat); omega, by show _ ≤ (0 : Nat); omega⟩) (fun r2 G1 H locs hw hR hS => ?_)
    refine lv_if_ne hx hb dX8_comes_4 (tgt := 14) (by decide) (fun h => ?_) (fun h => ?_)
    · replace hw := hw.1 h
      exact tk_X8_comes_b14 E hR hS (hL.sub [0, 1] rfl) hw ⟨by omega, by omega⟩
    · replace hw := hw.2 h
      refine lv_iload_n hx hb dX8_comes_7 rfl (lv_at hL.1 1 rfl) ?_
      refine lv_iconst hx hb dX8_comes_8 (v := (-1)) rfl ?_
      refine lv_icmp_eq hx hb dX8_comes_9 (tgt := 14) (by decide) (fun h => ?_) (fun h => ?_)
      · replace hw := hw.1 h
        exact tk_X8_comes_b14 E hR hS (hL.sub [0, 1] rfl) hw ⟨by omega, by omega⟩
      · replace hw := hw.2 h
        refine lv_iconst hx hb dX8_comes_12 (v := (-1)) rfl ?_
        exact th_iret hx hb hret hlk hR hS hw (by omega) (by omega) dX8_comes_13)
def tw_X8_cat (Q : Int32 → aH → Prop) (G : aH) (a0 : Nat) (x1 : Int32) : Prop :=
  th_o G a0 8 ∧ (
  (tw_X8_starts
    (fun (G1 : aH) =>
      th_o G1 a0 8 ∧ (
      (tw_X8_comes
        (fun (r3 : Int32) (G2 : aH) =>
          th_o G2 a0 8 ∧ (
          (tw_X8_ends
            (fun (r5 : Int32) (G4 : aH) =>
              Q r5 G4)
            G2 a0 r3)))
        G1 a0 x1)))
    G a0))
theorem tk_X8_cat {l : Launch} {D : tD} {B : Nat} {Q : Int32 → aH → Prop} {a0 : Nat} {x1 : Int32} : Met l yX8_cat (ws_ yX8_cat cX8_cat 2 ((Option.some Jvm.ClassFile.FieldType.int))) rm_X8_cat (th_P D B [rv a0, .int x1] (fun G => tw_X8_cat Q G a0 x1)) (th_Qi D B Q) 0 0 (th_A B) :=
  th_ofW (by decide +kernel) (th_cr (th_ci th_cn)) (Nat.le_of_ble_eq_true rfl) (fun p e s m args below meth c CF hret hlk hnm hK hSt G ls hR hS hw hL => by
    have E : th_E p m c cX8_cat 2 s args RX8 meth ((Option.some Jvm.ClassFile.FieldType.int)) "cat" D B := ⟨CF, hret, hlk, hnm, hK, hSt⟩
    have hx := CF.1; have hb := CF.2.1
    have hL : th_L ls 2 [(0, rv a0), (1, .int x1)] := hL
    unfold tw_X8_cat at hw
    refine th_aload_n hx hb dX8_cat_0 rfl (lv_at hL.1 0 rfl) ?_
    obtain ⟨ho, hw⟩ := hw
    refine th_kv hS (th_rV CF hK hSt hR hS ho (ci := 8) rfl (rest := []) (tk_X8_starts) (cw_X8_97 CF hK (by decide +kernel)) hw rfl hL.1.1 rfl th_cn (Nat.le_of_ble_eq_true rfl) dX8_cat_1 ⟨by show _ ≤ (0 : Nat); omega, by show _ ≤ (0 : Nat); omega⟩) (fun G1 H locs hw hR hS => ?_)
    refine th_aload_n hx hb dX8_cat_4 rfl (lv_at hL.1 0 rfl) ?_
    refine th_aload_n hx hb dX8_cat_5 rfl (lv_at hL.1 0 rfl) ?_
    refine lv_iload_n hx hb dX8_cat_6 rfl (lv_at hL.1 1 rfl) ?_
    obtain ⟨ho, hw⟩ := hw
    refine th_ki hS (th_rV CF hK hSt hR hS ho (ci := 8) rfl (rest := [rv a0]) (tk_X8_comes) (cw_X8_196 CF hK (by decide +kernel)) hw rfl hL.1.1 rfl (th_cr th_cn) (Nat.le_of_ble_eq_true rfl) dX8_cat_7 ⟨by show _ ≤ (0 : Nat); omega, by show _ ≤ (0 : Nat); omega⟩) (fun r3 G2 H locs hw hR hS => ?_)
    obtain ⟨ho, hw⟩ := hw
    refine th_ki hS (th_rV CF hK hSt hR hS ho (ci := 8) rfl (rest := []) (tk_X8_ends) (cw_X8_104 CF hK (by decide +kernel)) hw rfl hL.1.1 rfl th_cn (Nat.le_of_ble_eq_true rfl) dX8_cat_10 ⟨by show _ ≤ (0 : Nat); omega, by show _ ≤ (0 : Nat); omega⟩) (fun r5 G4 H locs hw hR hS => ?_)
    exact th_iret hx hb hret hlk hR hS hw (by omega) (by omega) dX8_cat_13)
def tw_X8_begins_b106 (Q : aH → Prop) (G : aH) (a0 : Nat) : Prop :=
  th_o G a0 8 ∧ (
  th_ai G (a_mr G a0 0) 0 427 ∧ (
  ∀ G1 : aH, G1 = a_si G (a_mr G a0 0) (427 : Int32).toNatClampNeg (-1) → 
  th_o G1 a0 8 ∧ (
  ∀ G2 : aH, G2 = a_si G1 a0 6 0 → 
  Q G2)))
def tw_X8_begins_b81 (Q : aH → Prop) : Nat → aH → Nat → Int32 → Prop := fun n => Nat.rec (motive := fun _ => aH → Nat → Int32 → Prop) (fun _ _ _ => False) (fun _ ih G a0 x1 =>
  (7 ≤ x1 →
    tw_X8_begins_b106 Q G a0) ∧
  (¬ 7 ≤ x1 →
    th_o G a0 8 ∧ (
    th_ai G (a_mr G a0 0) 0 (406 + (3 * x1)) ∧ (
    ∀ G3 : aH, G3 = a_si G (a_mr G a0 0) (406 + (3 * x1)).toNatClampNeg 2 → 
    ∀ x1_4 : Int32, x1_4 = x1 + 1 → 
    ih G3 a0 x1_4)))) n
theorem tws_X8_begins_b81 (Q : aH → Prop) (n : Nat) (G : aH) (a0 : Nat) (x1 : Int32) : tw_X8_begins_b81 Q (n + 1) G a0 x1 = (
  (7 ≤ x1 →
    tw_X8_begins_b106 Q G a0) ∧
  (¬ 7 ≤ x1 →
    th_o G a0 8 ∧ (
    th_ai G (a_mr G a0 0) 0 (406 + (3 * x1)) ∧ (
    ∀ G3 : aH, G3 = a_si G (a_mr G a0 0) (406 + (3 * x1)).toNatClampNeg 2 → 
    ∀ x1_4 : Int32, x1_4 = x1 + 1 → 
    tw_X8_begins_b81 Q n G3 a0 x1_4)))) := rfl
def tw_X8_begins_b79 (Q : aH → Prop) (G : aH) (a0 : Nat) : Prop :=
  ∃ n9 : Nat, tw_X8_begins_b81 Q n9 G a0 0
def tw_X8_begins_b52 (Q : aH → Prop) : Nat → aH → Nat → Int32 → Prop := fun n => Nat.rec (motive := fun _ => aH → Nat → Int32 → Prop) (fun _ _ _ => False) (fun _ ih G a0 x1 =>
  (3 ≤ x1 →
    tw_X8_begins_b79 Q G a0) ∧
  (¬ 3 ≤ x1 →
    th_o G a0 8 ∧ (
    th_ai G (a_mr G a0 0) 0 ((391 + (5 * x1)) + 1) ∧ (
    ∀ G5 : aH, G5 = a_si G (a_mr G a0 0) ((391 + (5 * x1)) + 1).toNatClampNeg 10 → 
    ∀ x1_6 : Int32, x1_6 = x1 + 1 → 
    ih G5 a0 x1_6)))) n
theorem tws_X8_begins_b52 (Q : aH → Prop) (n : Nat) (G : aH) (a0 : Nat) (x1 : Int32) : tw_X8_begins_b52 Q (n + 1) G a0 x1 = (
  (3 ≤ x1 →
    tw_X8_begins_b79 Q G a0) ∧
  (¬ 3 ≤ x1 →
    th_o G a0 8 ∧ (
    th_ai G (a_mr G a0 0) 0 ((391 + (5 * x1)) + 1) ∧ (
    ∀ G5 : aH, G5 = a_si G (a_mr G a0 0) ((391 + (5 * x1)) + 1).toNatClampNeg 10 → 
    ∀ x1_6 : Int32, x1_6 = x1 + 1 → 
    tw_X8_begins_b52 Q n G5 a0 x1_6)))) := rfl
def tw_X8_begins_b50 (Q : aH → Prop) (G : aH) (a0 : Nat) : Prop :=
  ∃ n9 : Nat, tw_X8_begins_b52 Q n9 G a0 0
def tw_X8_begins_b24 (Q : aH → Prop) : Nat → aH → Nat → Int32 → Prop := fun n => Nat.rec (motive := fun _ => aH → Nat → Int32 → Prop) (fun _ _ _ => False) (fun _ ih G a0 x1 =>
  (2 ≤ x1 →
    tw_X8_begins_b50 Q G a0) ∧
  (¬ 2 ≤ x1 →
    th_o G a0 8 ∧ (
    th_ai G (a_mr G a0 0) 0 ((383 + (4 * x1)) + 2) ∧ (
    ∀ G7 : aH, G7 = a_si G (a_mr G a0 0) ((383 + (4 * x1)) + 2).toNatClampNeg 2 → 
    ∀ x1_8 : Int32, x1_8 = x1 + 1 → 
    ih G7 a0 x1_8)))) n
theorem tws_X8_begins_b24 (Q : aH → Prop) (n : Nat) (G : aH) (a0 : Nat) (x1 : Int32) : tw_X8_begins_b24 Q (n + 1) G a0 x1 = (
  (2 ≤ x1 →
    tw_X8_begins_b50 Q G a0) ∧
  (¬ 2 ≤ x1 →
    th_o G a0 8 ∧ (
    th_ai G (a_mr G a0 0) 0 ((383 + (4 * x1)) + 2) ∧ (
    ∀ G7 : aH, G7 = a_si G (a_mr G a0 0) ((383 + (4 * x1)) + 2).toNatClampNeg 2 → 
    ∀ x1_8 : Int32, x1_8 = x1 + 1 → 
    tw_X8_begins_b24 Q n G7 a0 x1_8)))) := rfl
def tw_X8_begins_b22 (Q : aH → Prop) (G : aH) (a0 : Nat) : Prop :=
  ∃ n9 : Nat, tw_X8_begins_b24 Q n9 G a0 0
def tw_X8_begins_b2 (Q : aH → Prop) : Nat → aH → Nat → Int32 → Prop := fun n => Nat.rec (motive := fun _ => aH → Nat → Int32 → Prop) (fun _ _ _ => False) (fun _ ih G a0 x1 =>
  (433 ≤ x1 →
    tw_X8_begins_b22 Q G a0) ∧
  (¬ 433 ≤ x1 →
    th_o G a0 8 ∧ (
    th_ai G (a_mr G a0 0) 0 x1 ∧ (
    ∀ G9 : aH, G9 = a_si G (a_mr G a0 0) x1.toNatClampNeg 0 → 
    ∀ x1_10 : Int32, x1_10 = x1 + 1 → 
    ih G9 a0 x1_10)))) n
theorem tws_X8_begins_b2 (Q : aH → Prop) (n : Nat) (G : aH) (a0 : Nat) (x1 : Int32) : tw_X8_begins_b2 Q (n + 1) G a0 x1 = (
  (433 ≤ x1 →
    tw_X8_begins_b22 Q G a0) ∧
  (¬ 433 ≤ x1 →
    th_o G a0 8 ∧ (
    th_ai G (a_mr G a0 0) 0 x1 ∧ (
    ∀ G9 : aH, G9 = a_si G (a_mr G a0 0) x1.toNatClampNeg 0 → 
    ∀ x1_10 : Int32, x1_10 = x1 + 1 → 
    tw_X8_begins_b2 Q n G9 a0 x1_10)))) := rfl
def tw_X8_begins (Q : aH → Prop) (G : aH) (a0 : Nat) : Prop :=
  ∃ n9 : Nat, tw_X8_begins_b2 Q n9 G a0 0
theorem tk_X8_begins_b106 {p : Program} {l : Launch} {e : Env} {s : State} {m : MethodId} {args : Array Value} {below : List Frame} {meth : Method} {c : Code} {D : tD} {B : Nat} (E : th_E p m c cX8_begins 2 s args RX8 meth ((Option.none : Option Jvm.ClassFile.FieldType)) "begins" D B) {Q : aH → Prop} {G : aH} {H : Heap} {locs : List Loc} {cells slots : Nat} {ls : Array Slot} {a0 : Nat} (hR : th_H D B G H) (hS : va_S (th_A B) s.heap H locs) (hL : th_L ls 2 [(0, rv a0)]) (hw : tw_X8_begins_b106 Q G a0) (hc : cells + (0) ≤ 0 ∧ slots + (0) ≤ 0) : W p l e rm_X8_begins s m args below meth c H locs cells slots (MQ below (th_Qv D B Q) args s 0 0 (th_A B)) (F0 m 106 ls []) := by
  have CF := E.1; have hx := CF.1; have hb := CF.2.1; have hret := E.2.1; have hlk := E.2.2.1; have hnm := E.2.2.2.1; have hK := E.2.2.2.2.1; have hSt := E.2.2.2.2.2
  unfold tw_X8_begins_b106 at hw
  refine th_aload_n hx hb dX8_begins_106 rfl (lv_at hL.1 0 rfl) ?_
  obtain ⟨ho, hw⟩ := hw
  refine fg_X8_9 CF hK hR ho dX8_begins_107 ?_
  refine lv_sipush hx hb dX8_begins_110 (v := 427) rfl ?_
  refine lv_iconst hx hb dX8_begins_113 (v := (-1)) rfl ?_
  obtain ⟨ha, hw⟩ := hw
  refine th_iast hx hb hK hR hS ha dX8_begins_114 (fun G1 H locs hG hR hS => ?_)
  replace hw := hw G1 hG
  refine th_aload_n hx hb dX8_begins_115 rfl (lv_at hL.1 0 rfl) ?_
  refine lv_iconst hx hb dX8_begins_116 (v := 0) rfl ?_
  obtain ⟨ho, hw⟩ := hw
  refine fp_X8_53 CF hK hR hS ho dX8_begins_117 (fun G2 H locs hG hR hS => ?_)
  replace hw := hw G2 hG
  exact th_vret hx hb hret hlk hR hS hw (by omega) (by omega) dX8_begins_120
theorem tk_X8_begins_b81 {p : Program} {l : Launch} {e : Env} {s : State} {m : MethodId} {args : Array Value} {below : List Frame} {meth : Method} {c : Code} {D : tD} {B : Nat} (E : th_E p m c cX8_begins 2 s args RX8 meth ((Option.none : Option Jvm.ClassFile.FieldType)) "begins" D B) {Q : aH → Prop} : ∀ (n : Nat) {G : aH} {H : Heap} {locs : List Loc} {cells slots : Nat} {ls : Array Slot} {a0 : Nat} {x1 : Int32} (hR : th_H D B G H) (hS : va_S (th_A B) s.heap H locs) (hL : th_L ls 2 [(0, rv a0), (1, .int x1)]) (hw : tw_X8_begins_b81 Q n G a0 x1) (hc : cells + (0) ≤ 0 ∧ slots + (0) ≤ 0), W p l e rm_X8_begins s m args below meth c H locs cells slots (MQ below (th_Qv D B Q) args s 0 0 (th_A B)) (F0 m 81 ls []) := by
  have CF := E.1; have hx := CF.1; have hb := CF.2.1; have hret := E.2.1; have hlk := E.2.2.1; have hnm := E.2.2.2.1; have hK := E.2.2.2.2.1; have hSt := E.2.2.2.2.2
  intro n
  induction n with
  | zero => intro _ _ _ _ _ _ _ _ _ _ _ hw; exact hw.elim
  | succ n ih =>
    intro G H locs cells slots ls a0 x1 hR hS hL hw hc
    rw [tws_X8_begins_b81] at hw
    refine lv_iload_n hx hb dX8_begins_81 rfl (lv_at hL.1 1 rfl) ?_
    refine lv_bipush hx hb dX8_begins_82 (v := 7) rfl ?_
    refine lv_icmp_ge hx hb dX8_begins_84 (tgt := 106) (by decide) (fun h => ?_) (fun h => ?_)
    · replace hw := hw.1 h
      exact tk_X8_begins_b106 E hR hS (hL.sub [0] rfl) hw ⟨by omega, by omega⟩
    · replace hw := hw.2 h
      refine th_aload_n hx hb dX8_begins_87 rfl (lv_at hL.1 0 rfl) ?_
      obtain ⟨ho, hw⟩ := hw
      refine fg_X8_9 CF hK hR ho dX8_begins_88 ?_
      refine lv_sipush hx hb dX8_begins_91 (v := 406) rfl ?_
      refine lv_iconst hx hb dX8_begins_94 (v := 3) rfl ?_
      refine lv_iload_n hx hb dX8_begins_95 rfl (lv_at hL.1 1 rfl) ?_
      refine lv_imul hx hb dX8_begins_96 ?_
      refine lv_iadd hx hb dX8_begins_97 ?_
      refine lv_iconst hx hb dX8_begins_98 (v := 2) rfl ?_
      obtain ⟨ha, hw⟩ := hw
      refine th_iast hx hb hK hR hS ha dX8_begins_99 (fun G3 H locs hG hR hS => ?_)
      replace hw := hw G3 hG
      obtain ⟨x1_4, hx1_4⟩ : ∃ y : Int32, y = x1 + 1 := ⟨_, rfl⟩
      replace hw := hw x1_4 hx1_4
      refine th_iinc hx hb dX8_begins_100 hL (k := 1) rfl (v := x1_4) hx1_4.symm (by decide) rfl (fun ls hL => ?_)
      refine lv_goto hx hb dX8_begins_103 (tgt := 81) (by decide) ?_
      exact ih hR hS (hL.sub [1, 0] rfl) hw ⟨by omega, by omega⟩
theorem tk_X8_begins_b79 {p : Program} {l : Launch} {e : Env} {s : State} {m : MethodId} {args : Array Value} {below : List Frame} {meth : Method} {c : Code} {D : tD} {B : Nat} (E : th_E p m c cX8_begins 2 s args RX8 meth ((Option.none : Option Jvm.ClassFile.FieldType)) "begins" D B) {Q : aH → Prop} {G : aH} {H : Heap} {locs : List Loc} {cells slots : Nat} {ls : Array Slot} {a0 : Nat} (hR : th_H D B G H) (hS : va_S (th_A B) s.heap H locs) (hL : th_L ls 2 [(0, rv a0)]) (hw : tw_X8_begins_b79 Q G a0) (hc : cells + (0) ≤ 0 ∧ slots + (0) ≤ 0) : W p l e rm_X8_begins s m args below meth c H locs cells slots (MQ below (th_Qv D B Q) args s 0 0 (th_A B)) (F0 m 79 ls []) := by
  have CF := E.1; have hx := CF.1; have hb := CF.2.1; have hret := E.2.1; have hlk := E.2.2.1; have hnm := E.2.2.2.1; have hK := E.2.2.2.2.1; have hSt := E.2.2.2.2.2
  unfold tw_X8_begins_b79 at hw
  refine lv_iconst hx hb dX8_begins_79 (v := 0) rfl ?_
  refine th_istore_n hx hb dX8_begins_80 rfl hL (by decide) rfl (fun ls hL => ?_)
  obtain ⟨n9, hw⟩ := hw
  exact tk_X8_begins_b81 E n9 hR hS (hL.sub [1, 0] rfl) hw ⟨by omega, by omega⟩
theorem tk_X8_begins_b52 {p : Program} {l : Launch} {e : Env} {s : State} {m : MethodId} {args : Array Value} {below : List Frame} {meth : Method} {c : Code} {D : tD} {B : Nat} (E : th_E p m c cX8_begins 2 s args RX8 meth ((Option.none : Option Jvm.ClassFile.FieldType)) "begins" D B) {Q : aH → Prop} : ∀ (n : Nat) {G : aH} {H : Heap} {locs : List Loc} {cells slots : Nat} {ls : Array Slot} {a0 : Nat} {x1 : Int32} (hR : th_H D B G H) (hS : va_S (th_A B) s.heap H locs) (hL : th_L ls 2 [(0, rv a0), (1, .int x1)]) (hw : tw_X8_begins_b52 Q n G a0 x1) (hc : cells + (0) ≤ 0 ∧ slots + (0) ≤ 0), W p l e rm_X8_begins s m args below meth c H locs cells slots (MQ below (th_Qv D B Q) args s 0 0 (th_A B)) (F0 m 52 ls []) := by
  have CF := E.1; have hx := CF.1; have hb := CF.2.1; have hret := E.2.1; have hlk := E.2.2.1; have hnm := E.2.2.2.1; have hK := E.2.2.2.2.1; have hSt := E.2.2.2.2.2
  intro n
  induction n with
  | zero => intro _ _ _ _ _ _ _ _ _ _ _ hw; exact hw.elim
  | succ n ih =>
    intro G H locs cells slots ls a0 x1 hR hS hL hw hc
    rw [tws_X8_begins_b52] at hw
    refine lv_iload_n hx hb dX8_begins_52 rfl (lv_at hL.1 1 rfl) ?_
    refine lv_iconst hx hb dX8_begins_53 (v := 3) rfl ?_
    refine lv_icmp_ge hx hb dX8_begins_54 (tgt := 79) (by decide) (fun h => ?_) (fun h => ?_)
    · replace hw := hw.1 h
      exact tk_X8_begins_b79 E hR hS (hL.sub [0] rfl) hw ⟨by omega, by omega⟩
    · replace hw := hw.2 h
      refine th_aload_n hx hb dX8_begins_57 rfl (lv_at hL.1 0 rfl) ?_
      obtain ⟨ho, hw⟩ := hw
      refine fg_X8_9 CF hK hR ho dX8_begins_58 ?_
      refine lv_sipush hx hb dX8_begins_61 (v := 391) rfl ?_
      refine lv_iconst hx hb dX8_begins_64 (v := 5) rfl ?_
      refine lv_iload_n hx hb dX8_begins_65 rfl (lv_at hL.1 1 rfl) ?_
      refine lv_imul hx hb dX8_begins_66 ?_
      refine lv_iadd hx hb dX8_begins_67 ?_
      refine lv_iconst hx hb dX8_begins_68 (v := 1) rfl ?_
      refine lv_iadd hx hb dX8_begins_69 ?_
      refine lv_bipush hx hb dX8_begins_70 (v := 10) rfl ?_
      obtain ⟨ha, hw⟩ := hw
      refine th_iast hx hb hK hR hS ha dX8_begins_72 (fun G5 H locs hG hR hS => ?_)
      replace hw := hw G5 hG
      obtain ⟨x1_6, hx1_6⟩ : ∃ y : Int32, y = x1 + 1 := ⟨_, rfl⟩
      replace hw := hw x1_6 hx1_6
      refine th_iinc hx hb dX8_begins_73 hL (k := 1) rfl (v := x1_6) hx1_6.symm (by decide) rfl (fun ls hL => ?_)
      refine lv_goto hx hb dX8_begins_76 (tgt := 52) (by decide) ?_
      exact ih hR hS (hL.sub [1, 0] rfl) hw ⟨by omega, by omega⟩
theorem tk_X8_begins_b50 {p : Program} {l : Launch} {e : Env} {s : State} {m : MethodId} {args : Array Value} {below : List Frame} {meth : Method} {c : Code} {D : tD} {B : Nat} (E : th_E p m c cX8_begins 2 s args RX8 meth ((Option.none : Option Jvm.ClassFile.FieldType)) "begins" D B) {Q : aH → Prop} {G : aH} {H : Heap} {locs : List Loc} {cells slots : Nat} {ls : Array Slot} {a0 : Nat} (hR : th_H D B G H) (hS : va_S (th_A B) s.heap H locs) (hL : th_L ls 2 [(0, rv a0)]) (hw : tw_X8_begins_b50 Q G a0) (hc : cells + (0) ≤ 0 ∧ slots + (0) ≤ 0) : W p l e rm_X8_begins s m args below meth c H locs cells slots (MQ below (th_Qv D B Q) args s 0 0 (th_A B)) (F0 m 50 ls []) := by
  have CF := E.1; have hx := CF.1; have hb := CF.2.1; have hret := E.2.1; have hlk := E.2.2.1; have hnm := E.2.2.2.1; have hK := E.2.2.2.2.1; have hSt := E.2.2.2.2.2
  unfold tw_X8_begins_b50 at hw
  refine lv_iconst hx hb dX8_begins_50 (v := 0) rfl ?_
  refine th_istore_n hx hb dX8_begins_51 rfl hL (by decide) rfl (fun ls hL => ?_)
  obtain ⟨n9, hw⟩ := hw
  exact tk_X8_begins_b52 E n9 hR hS (hL.sub [1, 0] rfl) hw ⟨by omega, by omega⟩
theorem tk_X8_begins_b24 {p : Program} {l : Launch} {e : Env} {s : State} {m : MethodId} {args : Array Value} {below : List Frame} {meth : Method} {c : Code} {D : tD} {B : Nat} (E : th_E p m c cX8_begins 2 s args RX8 meth ((Option.none : Option Jvm.ClassFile.FieldType)) "begins" D B) {Q : aH → Prop} : ∀ (n : Nat) {G : aH} {H : Heap} {locs : List Loc} {cells slots : Nat} {ls : Array Slot} {a0 : Nat} {x1 : Int32} (hR : th_H D B G H) (hS : va_S (th_A B) s.heap H locs) (hL : th_L ls 2 [(0, rv a0), (1, .int x1)]) (hw : tw_X8_begins_b24 Q n G a0 x1) (hc : cells + (0) ≤ 0 ∧ slots + (0) ≤ 0), W p l e rm_X8_begins s m args below meth c H locs cells slots (MQ below (th_Qv D B Q) args s 0 0 (th_A B)) (F0 m 24 ls []) := by
  have CF := E.1; have hx := CF.1; have hb := CF.2.1; have hret := E.2.1; have hlk := E.2.2.1; have hnm := E.2.2.2.1; have hK := E.2.2.2.2.1; have hSt := E.2.2.2.2.2
  intro n
  induction n with
  | zero => intro _ _ _ _ _ _ _ _ _ _ _ hw; exact hw.elim
  | succ n ih =>
    intro G H locs cells slots ls a0 x1 hR hS hL hw hc
    rw [tws_X8_begins_b24] at hw
    refine lv_iload_n hx hb dX8_begins_24 rfl (lv_at hL.1 1 rfl) ?_
    refine lv_iconst hx hb dX8_begins_25 (v := 2) rfl ?_
    refine lv_icmp_ge hx hb dX8_begins_26 (tgt := 50) (by decide) (fun h => ?_) (fun h => ?_)
    · replace hw := hw.1 h
      exact tk_X8_begins_b50 E hR hS (hL.sub [0] rfl) hw ⟨by omega, by omega⟩
    · replace hw := hw.2 h
      refine th_aload_n hx hb dX8_begins_29 rfl (lv_at hL.1 0 rfl) ?_
      obtain ⟨ho, hw⟩ := hw
      refine fg_X8_9 CF hK hR ho dX8_begins_30 ?_
      refine lv_sipush hx hb dX8_begins_33 (v := 383) rfl ?_
      refine lv_iconst hx hb dX8_begins_36 (v := 4) rfl ?_
      refine lv_iload_n hx hb dX8_begins_37 rfl (lv_at hL.1 1 rfl) ?_
      refine lv_imul hx hb dX8_begins_38 ?_
      refine lv_iadd hx hb dX8_begins_39 ?_
      refine lv_iconst hx hb dX8_begins_40 (v := 2) rfl ?_
      refine lv_iadd hx hb dX8_begins_41 ?_
      refine lv_iconst hx hb dX8_begins_42 (v := 2) rfl ?_
      obtain ⟨ha, hw⟩ := hw
      refine th_iast hx hb hK hR hS ha dX8_begins_43 (fun G7 H locs hG hR hS => ?_)
      replace hw := hw G7 hG
      obtain ⟨x1_8, hx1_8⟩ : ∃ y : Int32, y = x1 + 1 := ⟨_, rfl⟩
      replace hw := hw x1_8 hx1_8
      refine th_iinc hx hb dX8_begins_44 hL (k := 1) rfl (v := x1_8) hx1_8.symm (by decide) rfl (fun ls hL => ?_)
      refine lv_goto hx hb dX8_begins_47 (tgt := 24) (by decide) ?_
      exact ih hR hS (hL.sub [1, 0] rfl) hw ⟨by omega, by omega⟩
theorem tk_X8_begins_b22 {p : Program} {l : Launch} {e : Env} {s : State} {m : MethodId} {args : Array Value} {below : List Frame} {meth : Method} {c : Code} {D : tD} {B : Nat} (E : th_E p m c cX8_begins 2 s args RX8 meth ((Option.none : Option Jvm.ClassFile.FieldType)) "begins" D B) {Q : aH → Prop} {G : aH} {H : Heap} {locs : List Loc} {cells slots : Nat} {ls : Array Slot} {a0 : Nat} (hR : th_H D B G H) (hS : va_S (th_A B) s.heap H locs) (hL : th_L ls 2 [(0, rv a0)]) (hw : tw_X8_begins_b22 Q G a0) (hc : cells + (0) ≤ 0 ∧ slots + (0) ≤ 0) : W p l e rm_X8_begins s m args below meth c H locs cells slots (MQ below (th_Qv D B Q) args s 0 0 (th_A B)) (F0 m 22 ls []) := by
  have CF := E.1; have hx := CF.1; have hb := CF.2.1; have hret := E.2.1; have hlk := E.2.2.1; have hnm := E.2.2.2.1; have hK := E.2.2.2.2.1; have hSt := E.2.2.2.2.2
  unfold tw_X8_begins_b22 at hw
  refine lv_iconst hx hb dX8_begins_22 (v := 0) rfl ?_
  refine th_istore_n hx hb dX8_begins_23 rfl hL (by decide) rfl (fun ls hL => ?_)
  obtain ⟨n9, hw⟩ := hw
  exact tk_X8_begins_b24 E n9 hR hS (hL.sub [1, 0] rfl) hw ⟨by omega, by omega⟩
theorem tk_X8_begins_b2 {p : Program} {l : Launch} {e : Env} {s : State} {m : MethodId} {args : Array Value} {below : List Frame} {meth : Method} {c : Code} {D : tD} {B : Nat} (E : th_E p m c cX8_begins 2 s args RX8 meth ((Option.none : Option Jvm.ClassFile.FieldType)) "begins" D B) {Q : aH → Prop} : ∀ (n : Nat) {G : aH} {H : Heap} {locs : List Loc} {cells slots : Nat} {ls : Array Slot} {a0 : Nat} {x1 : Int32} (hR : th_H D B G H) (hS : va_S (th_A B) s.heap H locs) (hL : th_L ls 2 [(0, rv a0), (1, .int x1)]) (hw : tw_X8_begins_b2 Q n G a0 x1) (hc : cells + (0) ≤ 0 ∧ slots + (0) ≤ 0), W p l e rm_X8_begins s m args below meth c H locs cells slots (MQ below (th_Qv D B Q) args s 0 0 (th_A B)) (F0 m 2 ls []) := by
  have CF := E.1; have hx := CF.1; have hb := CF.2.1; have hret := E.2.1; have hlk := E.2.2.1; have hnm := E.2.2.2.1; have hK := E.2.2.2.2.1; have hSt := E.2.2.2.2.2
  intro n
  induction n with
  | zero => intro _ _ _ _ _ _ _ _ _ _ _ hw; exact hw.elim
  | succ n ih =>
    intro G H locs cells slots ls a0 x1 hR hS hL hw hc
    rw [tws_X8_begins_b2] at hw
    refine lv_iload_n hx hb dX8_begins_2 rfl (lv_at hL.1 1 rfl) ?_
    refine lv_sipush hx hb dX8_begins_3 (v := 433) rfl ?_
    refine lv_icmp_ge hx hb dX8_begins_6 (tgt := 22) (by decide) (fun h => ?_) (fun h => ?_)
    · replace hw := hw.1 h
      exact tk_X8_begins_b22 E hR hS (hL.sub [0] rfl) hw ⟨by omega, by omega⟩
    · replace hw := hw.2 h
      refine th_aload_n hx hb dX8_begins_9 rfl (lv_at hL.1 0 rfl) ?_
      obtain ⟨ho, hw⟩ := hw
      refine fg_X8_9 CF hK hR ho dX8_begins_10 ?_
      refine lv_iload_n hx hb dX8_begins_13 rfl (lv_at hL.1 1 rfl) ?_
      refine lv_iconst hx hb dX8_begins_14 (v := 0) rfl ?_
      obtain ⟨ha, hw⟩ := hw
      refine th_iast hx hb hK hR hS ha dX8_begins_15 (fun G9 H locs hG hR hS => ?_)
      replace hw := hw G9 hG
      obtain ⟨x1_10, hx1_10⟩ : ∃ y : Int32, y = x1 + 1 := ⟨_, rfl⟩
      replace hw := hw x1_10 hx1_10
      refine th_iinc hx hb dX8_begins_16 hL (k := 1) rfl (v := x1_10) hx1_10.symm (by decide) rfl (fun ls hL => ?_)
      refine lv_goto hx hb dX8_begins_19 (tgt := 2) (by decide) ?_
      exact ih hR hS (hL.sub [1, 0] rfl) hw ⟨by omega, by omega⟩
theorem tk_X8_begins {l : Launch} {D : tD} {B : Nat} {Q : aH → Prop} {a0 : Nat} : Met l yX8_begins (ws_ yX8_begins cX8_begins 2 ((Option.none : Option Jvm.ClassFile.FieldType))) rm_X8_begins (th_P D B [rv a0] (fun G => tw_X8_begins Q G a0)) (th_Qv D B Q) 0 0 (th_A B) :=
  th_ofW (by decide +kernel) (th_cr th_cn) (Nat.le_of_ble_eq_true rfl) (fun p e s m args below meth c CF hret hlk hnm hK hSt G ls hR hS hw hL => by
    have E : th_E p m c cX8_begins 2 s args RX8 meth ((Option.none : Option Jvm.ClassFile.FieldType)) "begins" D B := ⟨CF, hret, hlk, hnm, hK, hSt⟩
    have hx := CF.1; have hb := CF.2.1
    have hL : th_L ls 2 [(0, rv a0)] := hL
    unfold tw_X8_begins at hw
    refine lv_iconst hx hb dX8_begins_0 (v := 0) rfl ?_
    refine th_istore_n hx hb dX8_begins_1 rfl hL (by decide) rfl (fun ls hL => ?_)
    obtain ⟨n9, hw⟩ := hw
    exact tk_X8_begins_b2 E n9 hR hS (hL.sub [1, 0] rfl) hw ⟨by omega, by omega⟩)
