/-! WALKS: X8_lasts X8_lotAt X8_lotOf X8_meanRats X8_parish X8_inBays X8_isAhead X8_rankOf X8_parishOf X8_passes X8_pass -/
set_option maxRecDepth 100000
def tw_X8_lasts_b50 (Q : Int32 → aH → Prop) (G : aH) (a0 : Nat) (x2 : Int32) : Prop :=
  th_o G a0 8 ∧ (
  th_o G a0 8 ∧ (
  (tw_X8_copies
    (fun (G4 : aH) =>
      (x2 ≤ 60 →
        Q x2 G4) ∧
      (¬ x2 ≤ 60 →
        Q (-4) G4))
    G (a_mr G a0 2) 0 (a_mr G a0 0) 0)))
def tw_X8_lasts_b24 (Q : Int32 → aH → Prop) : Nat → aH → Nat → Int32 → Int32 → Prop := fun n => Nat.rec (motive := fun _ => aH → Nat → Int32 → Int32 → Prop) (fun _ _ _ _ => False) (fun _ ih G a0 x1 x2 =>
  (60 < x2 →
    tw_X8_lasts_b50 Q G a0 x2) ∧
  (¬ 60 < x2 →
    th_o G a0 8 ∧ (
    (tw_X8_store
      (fun (r6 : Int32) (G5 : aH) =>
        (r6 ≤ 0 →
          tw_X8_lasts_b50 Q G5 a0 x2) ∧
        (¬ r6 ≤ 0 →
          th_o G5 a0 8 ∧ (
          (tw_X8_day
            (fun (r8 : Int32) (G7 : aH) =>
              ∀ x2_9 : Int32, x2_9 = x2 + 1 → 
              ih G7 a0 x1 x2_9)
            G5 a0))))
      G a0 x1 0)))) n
theorem tws_X8_lasts_b24 (Q : Int32 → aH → Prop) (n : Nat) (G : aH) (a0 : Nat) (x1 : Int32) (x2 : Int32) : tw_X8_lasts_b24 Q (n + 1) G a0 x1 x2 = (
  (60 < x2 →
    tw_X8_lasts_b50 Q G a0 x2) ∧
  (¬ 60 < x2 →
    th_o G a0 8 ∧ (
    (tw_X8_store
      (fun (r6 : Int32) (G5 : aH) =>
        (r6 ≤ 0 →
          tw_X8_lasts_b50 Q G5 a0 x2) ∧
        (¬ r6 ≤ 0 →
          th_o G5 a0 8 ∧ (
          (tw_X8_day
            (fun (r8 : Int32) (G7 : aH) =>
              ∀ x2_9 : Int32, x2_9 = x2 + 1 → 
              tw_X8_lasts_b24 Q n G7 a0 x1 x2_9)
            G5 a0))))
      G a0 x1 0)))) := rfl
def tw_X8_lasts (Q : Int32 → aH → Prop) (G : aH) (a0 : Nat) (x1 : Int32) : Prop :=
  (tw_X8_isKind
    (fun (r2 : Int32) (G1 : aH) =>
      (¬ r2 = 0 →
        th_o G1 a0 8 ∧ (
        th_o G1 a0 8 ∧ (
        (tw_X8_copies
          (fun (G3 : aH) =>
            ∃ n9 : Nat, tw_X8_lasts_b24 Q n9 G3 a0 x1 0)
          G1 (a_mr G1 a0 0) 0 (a_mr G1 a0 2) 0)))) ∧
      (r2 = 0 →
        Q (-1) G1))
    G x1)
theorem tk_X8_lasts_b50 {p : Program} {l : Launch} {e : Env} {s : State} {m : MethodId} {args : Array Value} {below : List Frame} {meth : Method} {c : Code} {D : tD} {B : Nat} (E : th_E p m c cX8_lasts 4 s args RX8 meth ((Option.some Jvm.ClassFile.FieldType.int)) "lasts" D B) {Q : Int32 → aH → Prop} {G : aH} {H : Heap} {locs : List Loc} {cells slots : Nat} {ls : Array Slot} {a0 : Nat} {x2 : Int32} (hR : th_H D B G H) (hS : va_S (th_A B) s.heap H locs) (hL : th_L ls 4 [(0, rv a0), (2, .int x2)]) (hw : tw_X8_lasts_b50 Q G a0 x2) (hc : cells + (0) ≤ 0 ∧ slots + (0) ≤ 0) : W p l e rm_X8_lasts s m args below meth c H locs cells slots (MQ below (th_Qi D B Q) args s 0 0 (th_A B)) (F0 m 50 ls []) := by
  have CF := E.1; have hx := CF.1; have hb := CF.2.1; have hret := E.2.1; have hlk := E.2.2.1; have hnm := E.2.2.2.1; have hK := E.2.2.2.2.1; have hSt := E.2.2.2.2.2
  unfold tw_X8_lasts_b50 at hw
  refine th_aload_n hx hb dX8_lasts_50 rfl (lv_at hL.1 0 rfl) ?_
  obtain ⟨ho, hw⟩ := hw
  refine fg_X8_16 CF hK hR ho dX8_lasts_51 ?_
  refine lv_iconst hx hb dX8_lasts_54 (v := 0) rfl ?_
  refine th_aload_n hx hb dX8_lasts_55 rfl (lv_at hL.1 0 rfl) ?_
  obtain ⟨ho, hw⟩ := hw
  refine fg_X8_9 CF hK hR ho dX8_lasts_56 ?_
  refine lv_iconst hx hb dX8_lasts_59 (v := 0) rfl ?_
  refine th_kv hS (th_rS CF hK hSt hR hS (rest := []) (tk_X8_copies) (cw_X8_73 CF hK (by decide +kernel)) hw rfl hL.1.1 rfl th_cn (Nat.le_of_ble_eq_true rfl) dX8_lasts_60 ⟨by show _ ≤ (0 : Nat); omega, by show _ ≤ (0 : Nat); omega⟩) (fun G4 H locs hw hR hS => ?_)
  refine lv_iload_n hx hb dX8_lasts_63 rfl (lv_at hL.1 1 rfl) ?_
  refine lv_bipush hx hb dX8_lasts_64 (v := 60) rfl ?_
  refine lv_icmp_le hx hb dX8_lasts_66 (tgt := 74) (by decide) (fun h => ?_) (fun h => ?_)
  · replace hw := hw.1 h
    refine lv_iload_n hx hb dX8_lasts_74 rfl (lv_at hL.1 1 rfl) ?_
    exact th_iret hx hb hret hlk hR hS hw (by omega) (by omega) dX8_lasts_75
  · replace hw := hw.2 h
    refine lv_bipush hx hb dX8_lasts_69 (v := (-4)) rfl ?_
    refine lv_goto hx hb dX8_lasts_71 (tgt := 75) (by decide) ?_
    exact th_iret hx hb hret hlk hR hS hw (by omega) (by omega) dX8_lasts_75
theorem tk_X8_lasts_b24 {p : Program} {l : Launch} {e : Env} {s : State} {m : MethodId} {args : Array Value} {below : List Frame} {meth : Method} {c : Code} {D : tD} {B : Nat} (E : th_E p m c cX8_lasts 4 s args RX8 meth ((Option.some Jvm.ClassFile.FieldType.int)) "lasts" D B) {Q : Int32 → aH → Prop} : ∀ (n : Nat) {G : aH} {H : Heap} {locs : List Loc} {cells slots : Nat} {ls : Array Slot} {a0 : Nat} {x1 : Int32} {x2 : Int32} (hR : th_H D B G H) (hS : va_S (th_A B) s.heap H locs) (hL : th_L ls 4 [(0, rv a0), (1, .int x1), (2, .int x2)]) (hw : tw_X8_lasts_b24 Q n G a0 x1 x2) (hc : cells + (0) ≤ 0 ∧ slots + (0) ≤ 0), W p l e rm_X8_lasts s m args below meth c H locs cells slots (MQ below (th_Qi D B Q) args s 0 0 (th_A B)) (F0 m 24 ls []) := by
  have CF := E.1; have hx := CF.1; have hb := CF.2.1; have hret := E.2.1; have hlk := E.2.2.1; have hnm := E.2.2.2.1; have hK := E.2.2.2.2.1; have hSt := E.2.2.2.2.2
  intro n
  induction n with
  | zero => intro _ _ _ _ _ _ _ _ _ _ _ _ hw; exact hw.elim
  | succ n ih =>
    intro G H locs cells slots ls a0 x1 x2 hR hS hL hw hc
    rw [tws_X8_lasts_b24] at hw
    refine lv_iload_n hx hb dX8_lasts_24 rfl (lv_at hL.1 2 rfl) ?_
    refine lv_bipush hx hb dX8_lasts_25 (v := 60) rfl ?_
    refine lv_icmp_gt hx hb dX8_lasts_27 (tgt := 50) (by decide) (fun h => ?_) (fun h => ?_)
    · replace hw := hw.1 h
      exact tk_X8_lasts_b50 E hR hS (hL.sub [0, 2] rfl) hw ⟨by omega, by omega⟩
    · replace hw := hw.2 h
      refine th_aload_n hx hb dX8_lasts_30 rfl (lv_at hL.1 0 rfl) ?_
      refine lv_iload_n hx hb dX8_lasts_31 rfl (lv_at hL.1 1 rfl) ?_
      refine lv_iconst hx hb dX8_lasts_32 (v := 0) rfl ?_
      obtain ⟨ho, hw⟩ := hw
      refine th_ki hS (th_rV CF hK hSt hR hS ho (ci := 8) rfl (rest := []) (tk_X8_store) (cw_X8_178 CF hK (by decide +kernel)) hw rfl hL.1.1 rfl th_cn (Nat.le_of_ble_eq_true rfl) dX8_lasts_33 ⟨by show _ ≤ (0 : Nat); omega, by show _ ≤ (0 : Nat); omega⟩) (fun r6 G5 H locs hw hR hS => ?_)
      refine lv_if_le hx hb dX8_lasts_36 (tgt := 50) (by decide) (fun h => ?_) (fun h => ?_)
      · replace hw := hw.1 h
        exact tk_X8_lasts_b50 E hR hS (hL.sub [0, 2] rfl) hw ⟨by omega, by omega⟩
      · replace hw := hw.2 h
        refine th_aload_n hx hb dX8_lasts_39 rfl (lv_at hL.1 0 rfl) ?_
        obtain ⟨ho, hw⟩ := hw
        refine th_ki hS (th_rV CF hK hSt hR hS ho (ci := 8) rfl (rest := []) (tk_X8_day) (cw_X8_219 CF hK (by decide +kernel)) hw rfl hL.1.1 rfl th_cn (Nat.le_of_ble_eq_true rfl) dX8_lasts_40 ⟨by show _ ≤ (0 : Nat); omega, by show _ ≤ (0 : Nat); omega⟩) (fun r8 G7 H locs hw hR hS => ?_)
        refine th_istore_n hx hb dX8_lasts_43 rfl hL (by decide) rfl (fun ls hL => ?_)
        obtain ⟨x2_9, hx2_9⟩ : ∃ y : Int32, y = x2 + 1 := ⟨_, rfl⟩
        replace hw := hw x2_9 hx2_9
        refine th_iinc hx hb dX8_lasts_44 hL (k := 3) rfl (v := x2_9) hx2_9.symm (by decide) rfl (fun ls hL => ?_)
        refine lv_goto hx hb dX8_lasts_47 (tgt := 24) (by decide) ?_
        exact ih hR hS (hL.sub [2, 3, 0] rfl) hw ⟨by omega, by omega⟩
theorem tk_X8_lasts {l : Launch} {D : tD} {B : Nat} {Q : Int32 → aH → Prop} {a0 : Nat} {x1 : Int32} : Met l yX8_lasts (ws_ yX8_lasts cX8_lasts 4 ((Option.some Jvm.ClassFile.FieldType.int))) rm_X8_lasts (th_P D B [rv a0, .int x1] (fun G => tw_X8_lasts Q G a0 x1)) (th_Qi D B Q) 0 0 (th_A B) :=
  th_ofW (by decide +kernel) (th_cr (th_ci th_cn)) (Nat.le_of_ble_eq_true rfl) (fun p e s m args below meth c CF hret hlk hnm hK hSt G ls hR hS hw hL => by
    have E : th_E p m c cX8_lasts 4 s args RX8 meth ((Option.some Jvm.ClassFile.FieldType.int)) "lasts" D B := ⟨CF, hret, hlk, hnm, hK, hSt⟩
    have hx := CF.1; have hb := CF.2.1
    have hL : th_L ls 4 [(0, rv a0), (1, .int x1)] := hL
    unfold tw_X8_lasts at hw
    refine lv_iload_n hx hb dX8_lasts_0 rfl (lv_at hL.1 1 rfl) ?_
    refine th_ki hS (th_rS CF hK hSt hR hS (rest := []) (tk_X8_isKind) (cw_X8_93 CF hK (by decide +kernel)) hw rfl hL.1.1 rfl th_cn (Nat.le_of_ble_eq_true rfl) dX8_lasts_1 ⟨by show _ ≤ (0 : Nat); omega, by show _ ≤ (0 : Nat); omega⟩) (fun r2 G1 H locs hw hR hS => ?_)
    refine lv_if_ne hx hb dX8_lasts_4 (tgt := 9) (by decide) (fun h => ?_) (fun h => ?_)
    · replace hw := hw.1 h
      refine th_aload_n hx hb dX8_lasts_9 rfl (lv_at hL.1 0 rfl) ?_
      obtain ⟨ho, hw⟩ := hw
      refine fg_X8_9 CF hK hR ho dX8_lasts_10 ?_
      refine lv_iconst hx hb dX8_lasts_13 (v := 0) rfl ?_
      refine th_aload_n hx hb dX8_lasts_14 rfl (lv_at hL.1 0 rfl) ?_
      obtain ⟨ho, hw⟩ := hw
      refine fg_X8_16 CF hK hR ho dX8_lasts_15 ?_
      refine lv_iconst hx hb dX8_lasts_18 (v := 0) rfl ?_
      refine th_kv hS (th_rS CF hK hSt hR hS (rest := []) (tk_X8_copies) (cw_X8_73 CF hK (by decide +kernel)) hw rfl hL.1.1 rfl th_cn (Nat.le_of_ble_eq_true rfl) dX8_lasts_19 ⟨by show _ ≤ (0 : Nat); omega, by show _ ≤ (0 : Nat); omega⟩) (fun G3 H locs hw hR hS => ?_)
      refine lv_iconst hx hb dX8_lasts_22 (v := 0) rfl ?_
      refine th_istore_n hx hb dX8_lasts_23 rfl hL (by decide) rfl (fun ls hL => ?_)
      obtain ⟨n9, hw⟩ := hw
      exact tk_X8_lasts_b24 E n9 hR hS (hL.sub [1, 2, 0] rfl) hw ⟨by omega, by omega⟩
    · replace hw := hw.2 h
      refine lv_iconst hx hb dX8_lasts_7 (v := (-1)) rfl ?_
      exact th_iret hx hb hret hlk hR hS hw (by omega) (by omega) dX8_lasts_8)
def tw_X8_lotAt_b43 (Q : Int32 → aH → Prop) (k5 : aH → Nat → Int32 → Int32 → Int32 → Int32 → Prop) (G : aH) (a0 : Nat) (x1 : Int32) (x2 : Int32) (x4 : Int32) (tx0 : Int32) (tx1 : Int32) : Prop :=
  ∀ x3_2 : Int32, x3_2 = tx1 + tx0 → 
  k5 G a0 x1 x2 x3_2 x4
def tw_X8_lotAt_b38 (Q : Int32 → aH → Prop) (k5 : aH → Nat → Int32 → Int32 → Int32 → Int32 → Prop) (G : aH) (a0 : Nat) (x1 : Int32) (x2 : Int32) (x4 : Int32) (tx0 : Int32) : Prop :=
  tw_X8_lotAt_b43 Q k5 G a0 x1 x2 x4 1 tx0
def tw_X8_lotAt_b5 (Q : Int32 → aH → Prop) : Nat → aH → Nat → Int32 → Int32 → Int32 → Int32 → Prop := fun n => Nat.rec (motive := fun _ => aH → Nat → Int32 → Int32 → Int32 → Int32 → Prop) (fun _ _ _ _ _ _ => False) (fun _ ih G a0 x1 x2 x3 x4 =>
  (x2 ≤ x3 →
    Q x4 G) ∧
  (¬ x2 ≤ x3 →
    ∀ x4_1 : Int32, x4_1 = x4 + 1 → 
    (x4_1 = 0 →
      tw_X8_lotAt_b38 Q (ih) G a0 x1 x2 x4_1 x3) ∧
    (¬ x4_1 = 0 →
      th_o G a0 8 ∧ (
      (tw_X8_sheaf
        (fun (r4 : Int32) (G3 : aH) =>
          th_o G3 a0 8 ∧ (
          (tw_X8_sheaf
            (fun (r6 : Int32) (G5 : aH) =>
              (r4 = r6 →
                tw_X8_lotAt_b43 Q (ih) G5 a0 x1 x2 x4_1 0 x3) ∧
              (¬ r4 = r6 →
                tw_X8_lotAt_b38 Q (ih) G5 a0 x1 x2 x4_1 x3))
            G3 a0 x1 (x4_1 - 1))))
        G a0 x1 x4_1))))) n
theorem tws_X8_lotAt_b5 (Q : Int32 → aH → Prop) (n : Nat) (G : aH) (a0 : Nat) (x1 : Int32) (x2 : Int32) (x3 : Int32) (x4 : Int32) : tw_X8_lotAt_b5 Q (n + 1) G a0 x1 x2 x3 x4 = (
  (x2 ≤ x3 →
    Q x4 G) ∧
  (¬ x2 ≤ x3 →
    ∀ x4_1 : Int32, x4_1 = x4 + 1 → 
    (x4_1 = 0 →
      tw_X8_lotAt_b38 Q (tw_X8_lotAt_b5 Q n) G a0 x1 x2 x4_1 x3) ∧
    (¬ x4_1 = 0 →
      th_o G a0 8 ∧ (
      (tw_X8_sheaf
        (fun (r4 : Int32) (G3 : aH) =>
          th_o G3 a0 8 ∧ (
          (tw_X8_sheaf
            (fun (r6 : Int32) (G5 : aH) =>
              (r4 = r6 →
                tw_X8_lotAt_b43 Q (tw_X8_lotAt_b5 Q n) G5 a0 x1 x2 x4_1 0 x3) ∧
              (¬ r4 = r6 →
                tw_X8_lotAt_b38 Q (tw_X8_lotAt_b5 Q n) G5 a0 x1 x2 x4_1 x3))
            G3 a0 x1 (x4_1 - 1))))
        G a0 x1 x4_1))))) := rfl
def tw_X8_lotAt (Q : Int32 → aH → Prop) (G : aH) (a0 : Nat) (x1 : Int32) (x2 : Int32) : Prop :=
  ∃ n9 : Nat, tw_X8_lotAt_b5 Q n9 G a0 x1 x2 (-1) (-1)
theorem tk_X8_lotAt_b43 {p : Program} {l : Launch} {e : Env} {s : State} {m : MethodId} {args : Array Value} {below : List Frame} {meth : Method} {c : Code} {D : tD} {B : Nat} (E : th_E p m c cX8_lotAt 5 s args RX8 meth ((Option.some Jvm.ClassFile.FieldType.int)) "lotAt" D B) {Q : Int32 → aH → Prop} {k5 : aH → Nat → Int32 → Int32 → Int32 → Int32 → Prop} {c5 s5 : Nat} (h5 : ∀ (G : aH) (H : Heap) (locs : List Loc) (cells slots : Nat) (ls : Array Slot) (y5_0 : Nat) (y5_1 : Int32) (y5_2 : Int32) (y5_3 : Int32) (y5_4 : Int32), k5 G y5_0 y5_1 y5_2 y5_3 y5_4 → th_H D B G H → va_S (th_A B) s.heap H locs → th_L ls 5 [(0, rv y5_0), (1, .int y5_1), (2, .int y5_2), (3, .int y5_3), (4, .int y5_4)] → cells ≤ c5 ∧ slots ≤ s5 → W p l e rm_X8_lotAt s m args below meth c H locs cells slots (MQ below (th_Qi D B Q) args s 0 0 (th_A B)) (F0 m 5 ls [])) {G : aH} {H : Heap} {locs : List Loc} {cells slots : Nat} {ls : Array Slot} {a0 : Nat} {x1 : Int32} {x2 : Int32} {x4 : Int32} {tx0 : Int32} {tx1 : Int32} (hR : th_H D B G H) (hS : va_S (th_A B) s.heap H locs) (hL : th_L ls 5 [(0, rv a0), (1, .int x1), (2, .int x2), (4, .int x4)]) (hw : tw_X8_lotAt_b43 Q k5 G a0 x1 x2 x4 tx0 tx1) (hc : cells + (0) ≤ 0 ∧ slots + (0) ≤ 0 ∧ cells + (0) ≤ c5 ∧ slots + (0) ≤ s5) : W p l e rm_X8_lotAt s m args below meth c H locs cells slots (MQ below (th_Qi D B Q) args s 0 0 (th_A B)) (F0 m 43 ls [.int tx0, .int tx1]) := by
  have CF := E.1; have hx := CF.1; have hb := CF.2.1; have hret := E.2.1; have hlk := E.2.2.1; have hnm := E.2.2.2.1; have hK := E.2.2.2.2.1; have hSt := E.2.2.2.2.2
  unfold tw_X8_lotAt_b43 at hw
  refine lv_iadd hx hb dX8_lotAt_43 ?_
  obtain ⟨x3_2, hx3_2⟩ : ∃ y : Int32, y = tx1 + tx0 := ⟨_, rfl⟩
  replace hw := hw x3_2 hx3_2
  refine th_nmi hx3_2 ?_
  refine th_istore_n hx hb dX8_lotAt_44 rfl hL (by decide) rfl (fun ls hL => ?_)
  refine lv_goto hx hb dX8_lotAt_45 (tgt := 5) (by decide) ?_
  exact h5 _ _ _ _ _ _ _ _ _ _ _ hw hR hS (hL.sub [1, 2, 3, 0, 4] rfl) ⟨by omega, by omega⟩
theorem tk_X8_lotAt_b38 {p : Program} {l : Launch} {e : Env} {s : State} {m : MethodId} {args : Array Value} {below : List Frame} {meth : Method} {c : Code} {D : tD} {B : Nat} (E : th_E p m c cX8_lotAt 5 s args RX8 meth ((Option.some Jvm.ClassFile.FieldType.int)) "lotAt" D B) {Q : Int32 → aH → Prop} {k5 : aH → Nat → Int32 → Int32 → Int32 → Int32 → Prop} {c5 s5 : Nat} (h5 : ∀ (G : aH) (H : Heap) (locs : List Loc) (cells slots : Nat) (ls : Array Slot) (y5_0 : Nat) (y5_1 : Int32) (y5_2 : Int32) (y5_3 : Int32) (y5_4 : Int32), k5 G y5_0 y5_1 y5_2 y5_3 y5_4 → th_H D B G H → va_S (th_A B) s.heap H locs → th_L ls 5 [(0, rv y5_0), (1, .int y5_1), (2, .int y5_2), (3, .int y5_3), (4, .int y5_4)] → cells ≤ c5 ∧ slots ≤ s5 → W p l e rm_X8_lotAt s m args below meth c H locs cells slots (MQ below (th_Qi D B Q) args s 0 0 (th_A B)) (F0 m 5 ls [])) {G : aH} {H : Heap} {locs : List Loc} {cells slots : Nat} {ls : Array Slot} {a0 : Nat} {x1 : Int32} {x2 : Int32} {x4 : Int32} {tx0 : Int32} (hR : th_H D B G H) (hS : va_S (th_A B) s.heap H locs) (hL : th_L ls 5 [(0, rv a0), (1, .int x1), (2, .int x2), (4, .int x4)]) (hw : tw_X8_lotAt_b38 Q k5 G a0 x1 x2 x4 tx0) (hc : cells + (0) ≤ 0 ∧ slots + (0) ≤ 0 ∧ cells + (0) ≤ c5 ∧ slots + (0) ≤ s5) : W p l e rm_X8_lotAt s m args below meth c H locs cells slots (MQ below (th_Qi D B Q) args s 0 0 (th_A B)) (F0 m 38 ls [.int tx0]) := by
  have CF := E.1; have hx := CF.1; have hb := CF.2.1; have hret := E.2.1; have hlk := E.2.2.1; have hnm := E.2.2.2.1; have hK := E.2.2.2.2.1; have hSt := E.2.2.2.2.2
  unfold tw_X8_lotAt_b38 at hw
  refine lv_iconst hx hb dX8_lotAt_38 (v := 1) rfl ?_
  refine lv_goto hx hb dX8_lotAt_39 (tgt := 43) (by decide) ?_
  exact tk_X8_lotAt_b43 E h5 hR hS (hL.sub [0, 1, 2, 3] rfl) hw ⟨by omega, by omega, by omega, by omega⟩
theorem tk_X8_lotAt_b5 {p : Program} {l : Launch} {e : Env} {s : State} {m : MethodId} {args : Array Value} {below : List Frame} {meth : Method} {c : Code} {D : tD} {B : Nat} (E : th_E p m c cX8_lotAt 5 s args RX8 meth ((Option.some Jvm.ClassFile.FieldType.int)) "lotAt" D B) {Q : Int32 → aH → Prop} : ∀ (n : Nat) {G : aH} {H : Heap} {locs : List Loc} {cells slots : Nat} {ls : Array Slot} {a0 : Nat} {x1 : Int32} {x2 : Int32} {x3 : Int32} {x4 : Int32} (hR : th_H D B G H) (hS : va_S (th_A B) s.heap H locs) (hL : th_L ls 5 [(0, rv a0), (1, .int x1), (2, .int x2), (3, .int x3), (4, .int x4)]) (hw : tw_X8_lotAt_b5 Q n G a0 x1 x2 x3 x4) (hc : cells + (0) ≤ 0 ∧ slots + (0) ≤ 0), W p l e rm_X8_lotAt s m args below meth c H locs cells slots (MQ below (th_Qi D B Q) args s 0 0 (th_A B)) (F0 m 5 ls []) := by
  have CF := E.1; have hx := CF.1; have hb := CF.2.1; have hret := E.2.1; have hlk := E.2.2.1; have hnm := E.2.2.2.1; have hK := E.2.2.2.2.1; have hSt := E.2.2.2.2.2
  intro n
  induction n with
  | zero => intro _ _ _ _ _ _ _ _ _ _ _ _ _ _ hw; exact hw.elim
  | succ n ih =>
    intro G H locs cells slots ls a0 x1 x2 x3 x4 hR hS hL hw hc
    rw [tws_X8_lotAt_b5] at hw
    refine lv_iload_n hx hb dX8_lotAt_5 rfl (lv_at hL.1 3 rfl) ?_
    refine lv_iload_n hx hb dX8_lotAt_6 rfl (lv_at hL.1 2 rfl) ?_
    refine lv_icmp_ge hx hb dX8_lotAt_7 (tgt := 48) (by decide) (fun h => ?_) (fun h => ?_)
    · replace hw := hw.1 h
      refine lv_iload hx hb dX8_lotAt_48 (lv_at hL.1 4 rfl) ?_
      exact th_iret hx hb hret hlk hR hS hw (by omega) (by omega) dX8_lotAt_50
    · replace hw := hw.2 h
      obtain ⟨x4_1, hx4_1⟩ : ∃ y : Int32, y = x4 + 1 := ⟨_, rfl⟩
      replace hw := hw x4_1 hx4_1
      refine th_iinc hx hb dX8_lotAt_10 hL (k := 4) rfl (v := x4_1) hx4_1.symm (by decide) rfl (fun ls hL => ?_)
      refine lv_iload_n hx hb dX8_lotAt_13 rfl (lv_at hL.1 4 rfl) ?_
      refine lv_iload hx hb dX8_lotAt_14 (lv_at hL.1 0 rfl) ?_
      refine lv_if_eq hx hb dX8_lotAt_16 (tgt := 38) (by decide) (fun h => ?_) (fun h => ?_)
      · replace hw := hw.1 h
        exact tk_X8_lotAt_b38 E (c5 := cells + 0) (s5 := slots + 0) (fun G H locs cells slots ls y0 y1 y2 y3 y4 hw hR hS hL hc => ih hR hS hL hw ⟨by omega, by omega⟩) hR hS (hL.sub [1, 2, 3, 0] rfl) hw ⟨by omega, by omega, by omega, by omega⟩
      · replace hw := hw.2 h
        refine th_aload_n hx hb dX8_lotAt_19 rfl (lv_at hL.1 1 rfl) ?_
        refine lv_iload_n hx hb dX8_lotAt_20 rfl (lv_at hL.1 2 rfl) ?_
        refine lv_iload hx hb dX8_lotAt_21 (lv_at hL.1 0 rfl) ?_
        obtain ⟨ho, hw⟩ := hw
        refine th_ki hS (th_rV CF hK hSt hR hS ho (ci := 8) rfl (rest := [.int x3]) (tk_X8_sheaf) (cw_X8_119 CF hK (by decide +kernel)) hw rfl hL.1.1 rfl (th_ci th_cn) (Nat.le_of_ble_eq_true rfl) dX8_lotAt_23 ⟨by show _ ≤ (0 : Nat); omega, by show _ ≤ (0 : Nat); omega⟩) (fun r4 G3 H locs hw hR hS => ?_)
        refine th_aload_n hx hb dX8_lotAt_26 rfl (lv_at hL.1 1 rfl) ?_
        refine lv_iload_n hx hb dX8_lotAt_27 rfl (lv_at hL.1 2 rfl) ?_
        refine lv_iload hx hb dX8_lotAt_28 (lv_at hL.1 0 rfl) ?_
        refine lv_iconst hx hb dX8_lotAt_30 (v := 1) rfl ?_
        refine lv_isub hx hb dX8_lotAt_31 ?_
        obtain ⟨ho, hw⟩ := hw
        refine th_ki hS (th_rV CF hK hSt hR hS ho (ci := 8) rfl (rest := [.int r4, .int x3]) (tk_X8_sheaf) (cw_X8_119 CF hK (by decide +kernel)) hw rfl hL.1.1 rfl (th_ci (th_ci th_cn)) (Nat.le_of_ble_eq_true rfl) dX8_lotAt_32 ⟨by show _ ≤ (0 : Nat); omega, by show _ ≤ (0 : Nat); omega⟩) (fun r6 G5 H locs hw hR hS => ?_)
        refine lv_icmp_eq hx hb dX8_lotAt_35 (tgt := 42) (by decide) (fun h => ?_) (fun h => ?_)
        · replace hw := hw.1 h
          refine lv_iconst hx hb dX8_lotAt_42 (v := 0) rfl ?_
          exact tk_X8_lotAt_b43 E (c5 := cells + 0 + 0 + 0) (s5 := slots + 0 + 0 + 0) (fun G H locs cells slots ls y0 y1 y2 y3 y4 hw hR hS hL hc => ih hR hS hL hw ⟨by omega, by omega⟩) hR hS (hL.sub [1, 2, 3, 0] rfl) hw ⟨by omega, by omega, by omega, by omega⟩
        · replace hw := hw.2 h
          exact tk_X8_lotAt_b38 E (c5 := cells + 0 + 0 + 0) (s5 := slots + 0 + 0 + 0) (fun G H locs cells slots ls y0 y1 y2 y3 y4 hw hR hS hL hc => ih hR hS hL hw ⟨by omega, by omega⟩) hR hS (hL.sub [1, 2, 3, 0] rfl) hw ⟨by omega, by omega, by omega, by omega⟩
theorem tk_X8_lotAt {l : Launch} {D : tD} {B : Nat} {Q : Int32 → aH → Prop} {a0 : Nat} {x1 : Int32} {x2 : Int32} : Met l yX8_lotAt (ws_ yX8_lotAt cX8_lotAt 5 ((Option.some Jvm.ClassFile.FieldType.int))) rm_X8_lotAt (th_P D B [rv a0, .int x1, .int x2] (fun G => tw_X8_lotAt Q G a0 x1 x2)) (th_Qi D B Q) 0 0 (th_A B) :=
  th_ofW (by decide +kernel) (th_cr (th_ci (th_ci th_cn))) (Nat.le_of_ble_eq_true rfl) (fun p e s m args below meth c CF hret hlk hnm hK hSt G ls hR hS hw hL => by
    have E : th_E p m c cX8_lotAt 5 s args RX8 meth ((Option.some Jvm.ClassFile.FieldType.int)) "lotAt" D B := ⟨CF, hret, hlk, hnm, hK, hSt⟩
    have hx := CF.1; have hb := CF.2.1
    have hL : th_L ls 5 [(0, rv a0), (1, .int x1), (2, .int x2)] := hL
    unfold tw_X8_lotAt at hw
    refine lv_iconst hx hb dX8_lotAt_0 (v := (-1)) rfl ?_
    refine th_istore_n hx hb dX8_lotAt_1 rfl hL (by decide) rfl (fun ls hL => ?_)
    refine lv_iconst hx hb dX8_lotAt_2 (v := (-1)) rfl ?_
    refine th_istore hx hb dX8_lotAt_3 hL (by decide) rfl (fun ls hL => ?_)
    obtain ⟨n9, hw⟩ := hw
    exact tk_X8_lotAt_b5 E n9 hR hS (hL.sub [2, 3, 4, 1, 0] rfl) hw ⟨by omega, by omega⟩)
def tw_X8_lotOf (Q : Int32 → aH → Prop) (G : aH) (a0 : Nat) (x1 : Int32) (x2 : Int32) (x3 : Int32) : Prop :=
  (tw_X8_isBay
    (fun (r2 : Int32) (G1 : aH) =>
      (r2 = 0 →
        Q (-1) G1) ∧
      (¬ r2 = 0 →
        th_o G1 a0 8 ∧ (
        (tw_X8_lotsOf
          (fun (r4 : Int32) (G3 : aH) =>
            (tw_X8_isIn
              (fun (r6 : Int32) (G5 : aH) =>
                (¬ r6 = 0 →
                  th_o G5 a0 8 ∧ (
                  (tw_X8_lotAt
                    (fun (r8 : Int32) (G7 : aH) =>
                      (¬ x3 = 0 →
                        (¬ x3 = 1 →
                          Q (-2) G7) ∧
                        (x3 = 1 →
                          th_o G7 a0 8 ∧ (
                          (tw_X8_lotSize
                            (fun (r10 : Int32) (G9 : aH) =>
                              Q r10 G9)
                            G7 a0 x1 r8)))) ∧
                      (x3 = 0 →
                        th_o G7 a0 8 ∧ (
                        (tw_X8_sheaf
                          (fun (r12 : Int32) (G11 : aH) =>
                            Q r12 G11)
                          G7 a0 x1 r8))))
                    G5 a0 x1 x2))) ∧
                (r6 = 0 →
                  Q (-1) G5))
              G3 x2 0 (r4 - 1)))
          G1 a0 x1))))
    G x1)
theorem tk_X8_lotOf {l : Launch} {D : tD} {B : Nat} {Q : Int32 → aH → Prop} {a0 : Nat} {x1 : Int32} {x2 : Int32} {x3 : Int32} : Met l yX8_lotOf (ws_ yX8_lotOf cX8_lotOf 5 ((Option.some Jvm.ClassFile.FieldType.int))) rm_X8_lotOf (th_P D B [rv a0, .int x1, .int x2, .int x3] (fun G => tw_X8_lotOf Q G a0 x1 x2 x3)) (th_Qi D B Q) 0 0 (th_A B) :=
  th_ofW (by decide +kernel) (th_cr (th_ci (th_ci (th_ci th_cn)))) (Nat.le_of_ble_eq_true rfl) (fun p e s m args below meth c CF hret hlk hnm hK hSt G ls hR hS hw hL => by
    have E : th_E p m c cX8_lotOf 5 s args RX8 meth ((Option.some Jvm.ClassFile.FieldType.int)) "lotOf" D B := ⟨CF, hret, hlk, hnm, hK, hSt⟩
    have hx := CF.1; have hb := CF.2.1
    have hL : th_L ls 5 [(0, rv a0), (1, .int x1), (2, .int x2), (3, .int x3)] := hL
    unfold tw_X8_lotOf at hw
    refine lv_iload_n hx hb dX8_lotOf_0 rfl (lv_at hL.1 1 rfl) ?_
    refine th_ki hS (th_rS CF hK hSt hR hS (rest := []) (tk_X8_isBay) (cw_X8_122 CF hK (by decide +kernel)) hw rfl hL.1.1 rfl th_cn (Nat.le_of_ble_eq_true rfl) dX8_lotOf_1 ⟨by show _ ≤ (0 : Nat); omega, by show _ ≤ (0 : Nat); omega⟩) (fun r2 G1 H locs hw hR hS => ?_)
    refine lv_if_eq hx hb dX8_lotOf_4 (tgt := 22) (by decide) (fun h => ?_) (fun h => ?_)
    · replace hw := hw.1 h
      refine lv_iconst hx hb dX8_lotOf_22 (v := (-1)) rfl ?_
      exact th_iret hx hb hret hlk hR hS hw (by omega) (by omega) dX8_lotOf_23
    · replace hw := hw.2 h
      refine lv_iload_n hx hb dX8_lotOf_7 rfl (lv_at hL.1 2 rfl) ?_
      refine lv_iconst hx hb dX8_lotOf_8 (v := 0) rfl ?_
      refine th_aload_n hx hb dX8_lotOf_9 rfl (lv_at hL.1 0 rfl) ?_
      refine lv_iload_n hx hb dX8_lotOf_10 rfl (lv_at hL.1 1 rfl) ?_
      obtain ⟨ho, hw⟩ := hw
      refine th_ki hS (th_rV CF hK hSt hR hS ho (ci := 8) rfl (rest := [.int 0, .int x2]) (tk_X8_lotsOf) (cw_X8_144 CF hK (by decide +kernel)) hw rfl hL.1.1 rfl (th_ci (th_ci th_cn)) (Nat.le_of_ble_eq_true rfl) dX8_lotOf_11 ⟨by show _ ≤ (0 : Nat); omega, by show _ ≤ (0 : Nat); omega⟩) (fun r4 G3 H locs hw hR hS => ?_)
      refine lv_iconst hx hb dX8_lotOf_14 (v := 1) rfl ?_
      refine lv_isub hx hb dX8_lotOf_15 ?_
      refine th_ki hS (th_rS CF hK hSt hR hS (rest := []) (tk_X8_isIn) (cw_X8_56 CF hK (by decide +kernel)) hw rfl hL.1.1 rfl th_cn (Nat.le_of_ble_eq_true rfl) dX8_lotOf_16 ⟨by show _ ≤ (0 : Nat); omega, by show _ ≤ (0 : Nat); omega⟩) (fun r6 G5 H locs hw hR hS => ?_)
      refine lv_if_ne hx hb dX8_lotOf_19 (tgt := 24) (by decide) (fun h => ?_) (fun h => ?_)
      · replace hw := hw.1 h
        refine th_aload_n hx hb dX8_lotOf_24 rfl (lv_at hL.1 0 rfl) ?_
        refine lv_iload_n hx hb dX8_lotOf_25 rfl (lv_at hL.1 1 rfl) ?_
        refine lv_iload_n hx hb dX8_lotOf_26 rfl (lv_at hL.1 2 rfl) ?_
        obtain ⟨ho, hw⟩ := hw
        refine th_ki hS (th_rV CF hK hSt hR hS ho (ci := 8) rfl (rest := []) (tk_X8_lotAt) (cw_X8_153 CF hK (by decide +kernel)) hw rfl hL.1.1 rfl th_cn (Nat.le_of_ble_eq_true rfl) dX8_lotOf_27 ⟨by show _ ≤ (0 : Nat); omega, by show _ ≤ (0 : Nat); omega⟩) (fun r8 G7 H locs hw hR hS => ?_)
        refine th_istore hx hb dX8_lotOf_30 hL (by decide) rfl (fun ls hL => ?_)
        refine lv_iload_n hx hb dX8_lotOf_32 rfl (lv_at hL.1 4 rfl) ?_
        refine lv_if_ne hx hb dX8_lotOf_33 (tgt := 46) (by decide) (fun h => ?_) (fun h => ?_)
        · replace hw := hw.1 h
          refine lv_iload_n hx hb dX8_lotOf_46 rfl (lv_at hL.1 4 rfl) ?_
          refine lv_iconst hx hb dX8_lotOf_47 (v := 1) rfl ?_
          refine lv_icmp_ne hx hb dX8_lotOf_48 (tgt := 61) (by decide) (fun h => ?_) (fun h => ?_)
          · replace hw := hw.1 h
            refine lv_bipush hx hb dX8_lotOf_61 (v := (-2)) rfl ?_
            exact th_iret hx hb hret hlk hR hS hw (by omega) (by omega) dX8_lotOf_63
          · replace hw := hw.2 h
            refine th_aload_n hx hb dX8_lotOf_51 rfl (lv_at hL.1 1 rfl) ?_
            refine lv_iload_n hx hb dX8_lotOf_52 rfl (lv_at hL.1 2 rfl) ?_
            refine lv_iload hx hb dX8_lotOf_53 (lv_at hL.1 0 rfl) ?_
            obtain ⟨ho, hw⟩ := hw
            refine th_ki hS (th_rV CF hK hSt hR hS ho (ci := 8) rfl (rest := []) (tk_X8_lotSize) (cw_X8_156 CF hK (by decide +kernel)) hw rfl hL.1.1 rfl th_cn (Nat.le_of_ble_eq_true rfl) dX8_lotOf_55 ⟨by show _ ≤ (0 : Nat); omega, by show _ ≤ (0 : Nat); omega⟩) (fun r10 G9 H locs hw hR hS => ?_)
            refine lv_goto hx hb dX8_lotOf_58 (tgt := 63) (by decide) ?_
            exact th_iret hx hb hret hlk hR hS hw (by omega) (by omega) dX8_lotOf_63
        · replace hw := hw.2 h
          refine th_aload_n hx hb dX8_lotOf_36 rfl (lv_at hL.1 1 rfl) ?_
          refine lv_iload_n hx hb dX8_lotOf_37 rfl (lv_at hL.1 2 rfl) ?_
          refine lv_iload hx hb dX8_lotOf_38 (lv_at hL.1 0 rfl) ?_
          obtain ⟨ho, hw⟩ := hw
          refine th_ki hS (th_rV CF hK hSt hR hS ho (ci := 8) rfl (rest := []) (tk_X8_sheaf) (cw_X8_119 CF hK (by decide +kernel)) hw rfl hL.1.1 rfl th_cn (Nat.le_of_ble_eq_true rfl) dX8_lotOf_40 ⟨by show _ ≤ (0 : Nat); omega, by show _ ≤ (0 : Nat); omega⟩) (fun r12 G11 H locs hw hR hS => ?_)
          refine lv_goto hx hb dX8_lotOf_43 (tgt := 63) (by decide) ?_
          exact th_iret hx hb hret hlk hR hS hw (by omega) (by omega) dX8_lotOf_63
      · replace hw := hw.2 h
        refine lv_iconst hx hb dX8_lotOf_22 (v := (-1)) rfl ?_
        exact th_iret hx hb hret hlk hR hS hw (by omega) (by omega) dX8_lotOf_23)
def tw_X8_meanRats (Q : UInt64 → aH → Prop) (G : aH) (a0 : Nat) : Prop :=
  th_o G a0 8 ∧ (
  (tw_X8_allAt
    (fun (r2 : Int32) (G1 : aH) =>
      vf_n64 (FP.ddiv (FP.i2d r2) (4619567317775286272 : UInt64)) ∧ (
      Q (FP.ddiv (FP.i2d r2) (4619567317775286272 : UInt64)) G1))
    G a0 1))
theorem tk_X8_meanRats {l : Launch} {D : tD} {B : Nat} {Q : UInt64 → aH → Prop} {a0 : Nat} : Met l yX8_meanRats (ws_ yX8_meanRats cX8_meanRats 1 ((Option.some Jvm.ClassFile.FieldType.double))) rm_X8_meanRats (th_P D B [rv a0] (fun G => tw_X8_meanRats Q G a0)) (th_Qd D B Q) 0 0 (th_A B) :=
  th_ofW (by decide +kernel) (th_cr th_cn) (Nat.le_of_ble_eq_true rfl) (fun p e s m args below meth c CF hret hlk hnm hK hSt G ls hR hS hw hL => by
    have E : th_E p m c cX8_meanRats 1 s args RX8 meth ((Option.some Jvm.ClassFile.FieldType.double)) "meanRats" D B := ⟨CF, hret, hlk, hnm, hK, hSt⟩
    have hx := CF.1; have hb := CF.2.1
    have hL : th_L ls 1 [(0, rv a0)] := hL
    unfold tw_X8_meanRats at hw
    refine th_aload_n hx hb dX8_meanRats_0 rfl (lv_at hL.1 0 rfl) ?_
    refine lv_iconst hx hb dX8_meanRats_1 (v := 1) rfl ?_
    obtain ⟨ho, hw⟩ := hw
    refine th_ki hS (th_rV CF hK hSt hR hS ho (ci := 8) rfl (rest := []) (tk_X8_allAt) (cw_X8_248 CF hK (by decide +kernel)) hw rfl hL.1.1 rfl th_cn (Nat.le_of_ble_eq_true rfl) dX8_meanRats_2 ⟨by show _ ≤ (0 : Nat); omega, by show _ ≤ (0 : Nat); omega⟩) (fun r2 G1 H locs hw hR hS => ?_)
    refine lv_i2d hx hb dX8_meanRats_5 ?_
    refine lv_ldc2d hx hb (v := 4619567317775286272) CF.2.2.2.1 (CF.2.2.2.2 _ q1837) dX8_meanRats_6 ?_
    obtain ⟨h0, hw⟩ := hw
    refine lv_ddiv hx hb dX8_meanRats_9 h0 ?_
    exact th_dret hx hb hret hlk hR hS hw (by omega) (by omega) dX8_meanRats_10)
def tw_X8_parish (Q : Int32 → aH → Prop) (G : aH) (a0 : Nat) (x1 : Int32) : Prop :=
  (tw_X8_isKind
    (fun (r2 : Int32) (G1 : aH) =>
      (¬ r2 = 0 →
        th_o G1 a0 8 ∧ (
        (tw_X8_starts
          (fun (G3 : aH) =>
            th_o G3 a0 8 ∧ (
            th_ai G3 (a_mr G3 a0 0) 0 0 ∧ (
            (¬ a_mi G3 (a_mr G3 a0 0) (0 : Int32).toNatClampNeg = 6 →
              th_o G3 a0 8 ∧ (
              th_ai G3 (a_mr G3 a0 0) 0 0 ∧ (
              ∀ x2_4 : Int32, x2_4 = a_mi G3 (a_mr G3 a0 0) (0 : Int32).toNatClampNeg → 
              th_o G3 a0 8 ∧ (
              th_ai G3 (a_mr G3 a0 0) 0 (1 + (23 * x2_4)) ∧ (
              ∀ G5 : aH, G5 = a_si G3 (a_mr G3 a0 0) (1 + (23 * x2_4)).toNatClampNeg x1 → 
              th_o G5 a0 8 ∧ (
              th_ai G5 (a_mr G5 a0 0) 0 0 ∧ (
              th_ai G5 (a_mr G5 a0 0) 0 0 ∧ (
              ∀ G6 : aH, G6 = a_si G5 (a_mr G5 a0 0) (0 : Int32).toNatClampNeg ((a_mi G5 (a_mr G5 a0 0) (0 : Int32).toNatClampNeg) + 1) → 
              th_o G6 a0 8 ∧ (
              (tw_X8_ends
                (fun (r8 : Int32) (G7 : aH) =>
                  Q r8 G7)
                G6 a0 x2_4)))))))))) ∧
            (a_mi G3 (a_mr G3 a0 0) (0 : Int32).toNatClampNeg = 6 →
              th_o G3 a0 8 ∧ (
              (tw_X8_refuses
                (fun (r10 : Int32) (G9 : aH) =>
                  th_o G9 a0 8 ∧ (
                  (tw_X8_ends
                    (fun (r12 : Int32) (G11 : aH) =>
                      Q r12 G11)
                    G9 a0 r10)))
                G3 a0 1 6 0 0))))))
          G1 a0))) ∧
      (r2 = 0 →
        Q (-1) G1))
    G x1)
theorem tk_X8_parish {l : Launch} {D : tD} {B : Nat} {Q : Int32 → aH → Prop} {a0 : Nat} {x1 : Int32} : Met l yX8_parish (ws_ yX8_parish cX8_parish 3 ((Option.some Jvm.ClassFile.FieldType.int))) rm_X8_parish (th_P D B [rv a0, .int x1] (fun G => tw_X8_parish Q G a0 x1)) (th_Qi D B Q) 0 0 (th_A B) :=
  th_ofW (by decide +kernel) (th_cr (th_ci th_cn)) (Nat.le_of_ble_eq_true rfl) (fun p e s m args below meth c CF hret hlk hnm hK hSt G ls hR hS hw hL => by
    have E : th_E p m c cX8_parish 3 s args RX8 meth ((Option.some Jvm.ClassFile.FieldType.int)) "parish" D B := ⟨CF, hret, hlk, hnm, hK, hSt⟩
    have hx := CF.1; have hb := CF.2.1
    have hL : th_L ls 3 [(0, rv a0), (1, .int x1)] := hL
    unfold tw_X8_parish at hw
    refine lv_iload_n hx hb dX8_parish_0 rfl (lv_at hL.1 1 rfl) ?_
    refine th_ki hS (th_rS CF hK hSt hR hS (rest := []) (tk_X8_isKind) (cw_X8_93 CF hK (by decide +kernel)) hw rfl hL.1.1 rfl th_cn (Nat.le_of_ble_eq_true rfl) dX8_parish_1 ⟨by show _ ≤ (0 : Nat); omega, by show _ ≤ (0 : Nat); omega⟩) (fun r2 G1 H locs hw hR hS => ?_)
    refine lv_if_ne hx hb dX8_parish_4 (tgt := 9) (by decide) (fun h => ?_) (fun h => ?_)
    · replace hw := hw.1 h
      refine th_aload_n hx hb dX8_parish_9 rfl (lv_at hL.1 0 rfl) ?_
      obtain ⟨ho, hw⟩ := hw
      refine th_kv hS (th_rV CF hK hSt hR hS ho (ci := 8) rfl (rest := []) (tk_X8_starts) (cw_X8_97 CF hK (by decide +kernel)) hw rfl hL.1.1 rfl th_cn (Nat.le_of_ble_eq_true rfl) dX8_parish_10 ⟨by show _ ≤ (0 : Nat); omega, by show _ ≤ (0 : Nat); omega⟩) (fun G3 H locs hw hR hS => ?_)
      refine th_aload_n hx hb dX8_parish_13 rfl (lv_at hL.1 0 rfl) ?_
      obtain ⟨ho, hw⟩ := hw
      refine fg_X8_9 CF hK hR ho dX8_parish_14 ?_
      refine lv_iconst hx hb dX8_parish_17 (v := 0) rfl ?_
      obtain ⟨ha, hw⟩ := hw
      refine th_iald hx hb hK hR ha dX8_parish_18 ?_
      refine lv_bipush hx hb dX8_parish_19 (v := 6) rfl ?_
      refine lv_icmp_ne hx hb dX8_parish_21 (tgt := 38) (by decide) (fun h => ?_) (fun h => ?_)
      · replace hw := hw.1 h
        refine th_aload_n hx hb dX8_parish_38 rfl (lv_at hL.1 0 rfl) ?_
        obtain ⟨ho, hw⟩ := hw
        refine fg_X8_9 CF hK hR ho dX8_parish_39 ?_
        refine lv_iconst hx hb dX8_parish_42 (v := 0) rfl ?_
        obtain ⟨ha, hw⟩ := hw
        refine th_iald hx hb hK hR ha dX8_parish_43 ?_
        obtain ⟨x2_4, hx2_4⟩ : ∃ y : Int32, y = a_mi G3 (a_mr G3 a0 0) (0 : Int32).toNatClampNeg := ⟨_, rfl⟩
        replace hw := hw x2_4 hx2_4
        refine th_nmi hx2_4 ?_
        refine th_istore_n hx hb dX8_parish_44 rfl hL (by decide) rfl (fun ls hL => ?_)
        refine th_aload_n hx hb dX8_parish_45 rfl (lv_at hL.1 1 rfl) ?_
        obtain ⟨ho, hw⟩ := hw
        refine fg_X8_9 CF hK hR ho dX8_parish_46 ?_
        refine lv_iconst hx hb dX8_parish_49 (v := 1) rfl ?_
        refine lv_bipush hx hb dX8_parish_50 (v := 23) rfl ?_
        refine lv_iload_n hx hb dX8_parish_52 rfl (lv_at hL.1 0 rfl) ?_
        refine lv_imul hx hb dX8_parish_53 ?_
        refine lv_iadd hx hb dX8_parish_54 ?_
        refine lv_iload_n hx hb dX8_parish_55 rfl (lv_at hL.1 2 rfl) ?_
        obtain ⟨ha, hw⟩ := hw
        refine th_iast hx hb hK hR hS ha dX8_parish_56 (fun G5 H locs hG hR hS => ?_)
        replace hw := hw G5 hG
        refine th_aload_n hx hb dX8_parish_57 rfl (lv_at hL.1 1 rfl) ?_
        obtain ⟨ho, hw⟩ := hw
        refine fg_X8_9 CF hK hR ho dX8_parish_58 ?_
        refine lv_iconst hx hb dX8_parish_61 (v := 0) rfl ?_
        refine lv_dup2_11 hx hb dX8_parish_62 rfl (rv_cat _) ?_
        obtain ⟨ha, hw⟩ := hw
        refine th_iald hx hb hK hR ha dX8_parish_63 ?_
        refine lv_iconst hx hb dX8_parish_64 (v := 1) rfl ?_
        refine lv_iadd hx hb dX8_parish_65 ?_
        obtain ⟨ha, hw⟩ := hw
        refine th_iast hx hb hK hR hS ha dX8_parish_66 (fun G6 H locs hG hR hS => ?_)
        replace hw := hw G6 hG
        refine th_aload_n hx hb dX8_parish_67 rfl (lv_at hL.1 1 rfl) ?_
        refine lv_iload_n hx hb dX8_parish_68 rfl (lv_at hL.1 0 rfl) ?_
        obtain ⟨ho, hw⟩ := hw
        refine th_ki hS (th_rV CF hK hSt hR hS ho (ci := 8) rfl (rest := []) (tk_X8_ends) (cw_X8_104 CF hK (by decide +kernel)) hw rfl hL.1.1 rfl th_cn (Nat.le_of_ble_eq_true rfl) dX8_parish_69 ⟨by show _ ≤ (0 : Nat); omega, by show _ ≤ (0 : Nat); omega⟩) (fun r8 G7 H locs hw hR hS => ?_)
        exact th_iret hx hb hret hlk hR hS hw (by omega) (by omega) dX8_parish_72
      · replace hw := hw.2 h
        refine th_aload_n hx hb dX8_parish_24 rfl (lv_at hL.1 0 rfl) ?_
        refine th_aload_n hx hb dX8_parish_25 rfl (lv_at hL.1 0 rfl) ?_
        refine lv_iconst hx hb dX8_parish_26 (v := 1) rfl ?_
        refine lv_bipush hx hb dX8_parish_27 (v := 6) rfl ?_
        refine lv_iconst hx hb dX8_parish_29 (v := 0) rfl ?_
        refine lv_iconst hx hb dX8_parish_30 (v := 0) rfl ?_
        obtain ⟨ho, hw⟩ := hw
        refine th_ki hS (th_rV CF hK hSt hR hS ho (ci := 8) rfl (rest := [rv a0]) (tk_X8_refuses) (cw_X8_100 CF hK (by decide +kernel)) hw rfl hL.1.1 rfl (th_cr th_cn) (Nat.le_of_ble_eq_true rfl) dX8_parish_31 ⟨by show _ ≤ (0 : Nat); omega, by show _ ≤ (0 : Nat); omega⟩) (fun r10 G9 H locs hw hR hS => ?_)
        obtain ⟨ho, hw⟩ := hw
        refine th_ki hS (th_rV CF hK hSt hR hS ho (ci := 8) rfl (rest := []) (tk_X8_ends) (cw_X8_104 CF hK (by decide +kernel)) hw rfl hL.1.1 rfl th_cn (Nat.le_of_ble_eq_true rfl) dX8_parish_34 ⟨by show _ ≤ (0 : Nat); omega, by show _ ≤ (0 : Nat); omega⟩) (fun r12 G11 H locs hw hR hS => ?_)
        exact th_iret hx hb hret hlk hR hS hw (by omega) (by omega) dX8_parish_37
    · replace hw := hw.2 h
      refine lv_iconst hx hb dX8_parish_7 (v := (-1)) rfl ?_
      exact th_iret hx hb hret hlk hR hS hw (by omega) (by omega) dX8_parish_8)
def tw_X8_inBays_b47 (Q : Int32 → aH → Prop) (k4 : aH → Nat → Int32 → Int32 → Int32 → Prop) (G : aH) (a0 : Nat) (x1 : Int32) (x2 : Int32) (x3 : Int32) : Prop :=
  ∀ x3_3 : Int32, x3_3 = x3 + 1 → 
  k4 G a0 x1 x2 x3_3
def tw_X8_inBays_b39 (Q : Int32 → aH → Prop) (k4 : aH → Nat → Int32 → Int32 → Int32 → Prop) (k12 : aH → Nat → Int32 → Int32 → Int32 → Int32 → Prop) (G : aH) (a0 : Nat) (x1 : Int32) (x3 : Int32) (x4 : Int32) (tx0 : Int32) (tx1 : Int32) : Prop :=
  ∀ x2_6 : Int32, x2_6 = tx1 + tx0 → 
  ∀ x4_7 : Int32, x4_7 = x4 + 1 → 
  k12 G a0 x1 x2_6 x3 x4_7
def tw_X8_inBays_b12 (Q : Int32 → aH → Prop) (k4 : aH → Nat → Int32 → Int32 → Int32 → Prop) : Nat → aH → Nat → Int32 → Int32 → Int32 → Int32 → Prop := fun n => Nat.rec (motive := fun _ => aH → Nat → Int32 → Int32 → Int32 → Int32 → Prop) (fun _ _ _ _ _ _ => False) (fun _ ih G a0 x1 x2 x3 x4 =>
  th_o G a0 8 ∧ (
  (tw_X8_inBay
    (fun (r2 : Int32) (G1 : aH) =>
      (r2 ≤ x4 →
        tw_X8_inBays_b47 Q k4 G1 a0 x1 x2 x3) ∧
      (¬ r2 ≤ x4 →
        th_o G1 a0 8 ∧ (
        (tw_X8_sheaf
          (fun (r5 : Int32) (G4 : aH) =>
            (¬ r5 = x1 →
              tw_X8_inBays_b39 Q k4 (ih) G4 a0 x1 x3 x4 0 x2) ∧
            (r5 = x1 →
              tw_X8_inBays_b39 Q k4 (ih) G4 a0 x1 x3 x4 1 x2))
          G1 a0 x3 x4))))
    G a0 x3))) n
theorem tws_X8_inBays_b12 (Q : Int32 → aH → Prop) (k4 : aH → Nat → Int32 → Int32 → Int32 → Prop) (n : Nat) (G : aH) (a0 : Nat) (x1 : Int32) (x2 : Int32) (x3 : Int32) (x4 : Int32) : tw_X8_inBays_b12 Q k4 (n + 1) G a0 x1 x2 x3 x4 = (
  th_o G a0 8 ∧ (
  (tw_X8_inBay
    (fun (r2 : Int32) (G1 : aH) =>
      (r2 ≤ x4 →
        tw_X8_inBays_b47 Q k4 G1 a0 x1 x2 x3) ∧
      (¬ r2 ≤ x4 →
        th_o G1 a0 8 ∧ (
        (tw_X8_sheaf
          (fun (r5 : Int32) (G4 : aH) =>
            (¬ r5 = x1 →
              tw_X8_inBays_b39 Q k4 (tw_X8_inBays_b12 Q k4 n) G4 a0 x1 x3 x4 0 x2) ∧
            (r5 = x1 →
              tw_X8_inBays_b39 Q k4 (tw_X8_inBays_b12 Q k4 n) G4 a0 x1 x3 x4 1 x2))
          G1 a0 x3 x4))))
    G a0 x3))) := rfl
def tw_X8_inBays_b4 (Q : Int32 → aH → Prop) : Nat → aH → Nat → Int32 → Int32 → Int32 → Prop := fun n => Nat.rec (motive := fun _ => aH → Nat → Int32 → Int32 → Int32 → Prop) (fun _ _ _ _ _ => False) (fun _ ih G a0 x1 x2 x3 =>
  (4 ≤ x3 →
    Q x2 G) ∧
  (¬ 4 ≤ x3 →
    ∃ n9 : Nat, tw_X8_inBays_b12 Q (ih) n9 G a0 x1 x2 x3 0)) n
theorem tws_X8_inBays_b4 (Q : Int32 → aH → Prop) (n : Nat) (G : aH) (a0 : Nat) (x1 : Int32) (x2 : Int32) (x3 : Int32) : tw_X8_inBays_b4 Q (n + 1) G a0 x1 x2 x3 = (
  (4 ≤ x3 →
    Q x2 G) ∧
  (¬ 4 ≤ x3 →
    ∃ n9 : Nat, tw_X8_inBays_b12 Q (tw_X8_inBays_b4 Q n) n9 G a0 x1 x2 x3 0)) := rfl
def tw_X8_inBays (Q : Int32 → aH → Prop) (G : aH) (a0 : Nat) (x1 : Int32) : Prop :=
  ∃ n9 : Nat, tw_X8_inBays_b4 Q n9 G a0 x1 0 0
theorem tk_X8_inBays_b47 {p : Program} {l : Launch} {e : Env} {s : State} {m : MethodId} {args : Array Value} {below : List Frame} {meth : Method} {c : Code} {D : tD} {B : Nat} (E : th_E p m c cX8_inBays 5 s args RX8 meth ((Option.some Jvm.ClassFile.FieldType.int)) "inBays" D B) {Q : Int32 → aH → Prop} {k4 : aH → Nat → Int32 → Int32 → Int32 → Prop} {c4 s4 : Nat} (h4 : ∀ (G : aH) (H : Heap) (locs : List Loc) (cells slots : Nat) (ls : Array Slot) (y4_0 : Nat) (y4_1 : Int32) (y4_2 : Int32) (y4_3 : Int32), k4 G y4_0 y4_1 y4_2 y4_3 → th_H D B G H → va_S (th_A B) s.heap H locs → th_L ls 5 [(0, rv y4_0), (1, .int y4_1), (2, .int y4_2), (3, .int y4_3)] → cells ≤ c4 ∧ slots ≤ s4 → W p l e rm_X8_inBays s m args below meth c H locs cells slots (MQ below (th_Qi D B Q) args s 0 0 (th_A B)) (F0 m 4 ls [])) {G : aH} {H : Heap} {locs : List Loc} {cells slots : Nat} {ls : Array Slot} {a0 : Nat} {x1 : Int32} {x2 : Int32} {x3 : Int32} (hR : th_H D B G H) (hS : va_S (th_A B) s.heap H locs) (hL : th_L ls 5 [(0, rv a0), (1, .int x1), (2, .int x2), (3, .int x3)]) (hw : tw_X8_inBays_b47 Q k4 G a0 x1 x2 x3) (hc : cells + (0) ≤ 0 ∧ slots + (0) ≤ 0 ∧ cells + (0) ≤ c4 ∧ slots + (0) ≤ s4) : W p l e rm_X8_inBays s m args below meth c H locs cells slots (MQ below (th_Qi D B Q) args s 0 0 (th_A B)) (F0 m 47 ls []) := by
  have CF := E.1; have hx := CF.1; have hb := CF.2.1; have hret := E.2.1; have hlk := E.2.2.1; have hnm := E.2.2.2.1; have hK := E.2.2.2.2.1; have hSt := E.2.2.2.2.2
  unfold tw_X8_inBays_b47 at hw
  obtain ⟨x3_3, hx3_3⟩ : ∃ y : Int32, y = x3 + 1 := ⟨_, rfl⟩
  replace hw := hw x3_3 hx3_3
  refine th_iinc hx hb dX8_inBays_47 hL (k := 3) rfl (v := x3_3) hx3_3.symm (by decide) rfl (fun ls hL => ?_)
  refine lv_goto hx hb dX8_inBays_50 (tgt := 4) (by decide) ?_
  exact h4 _ _ _ _ _ _ _ _ _ _ hw hR hS (hL.sub [1, 2, 3, 0] rfl) ⟨by omega, by omega⟩
theorem tk_X8_inBays_b39 {p : Program} {l : Launch} {e : Env} {s : State} {m : MethodId} {args : Array Value} {below : List Frame} {meth : Method} {c : Code} {D : tD} {B : Nat} (E : th_E p m c cX8_inBays 5 s args RX8 meth ((Option.some Jvm.ClassFile.FieldType.int)) "inBays" D B) {Q : Int32 → aH → Prop} {k4 : aH → Nat → Int32 → Int32 → Int32 → Prop} {c4 s4 : Nat} (h4 : ∀ (G : aH) (H : Heap) (locs : List Loc) (cells slots : Nat) (ls : Array Slot) (y4_0 : Nat) (y4_1 : Int32) (y4_2 : Int32) (y4_3 : Int32), k4 G y4_0 y4_1 y4_2 y4_3 → th_H D B G H → va_S (th_A B) s.heap H locs → th_L ls 5 [(0, rv y4_0), (1, .int y4_1), (2, .int y4_2), (3, .int y4_3)] → cells ≤ c4 ∧ slots ≤ s4 → W p l e rm_X8_inBays s m args below meth c H locs cells slots (MQ below (th_Qi D B Q) args s 0 0 (th_A B)) (F0 m 4 ls [])) {k12 : aH → Nat → Int32 → Int32 → Int32 → Int32 → Prop} {c12 s12 : Nat} (h12 : ∀ (G : aH) (H : Heap) (locs : List Loc) (cells slots : Nat) (ls : Array Slot) (y12_0 : Nat) (y12_1 : Int32) (y12_2 : Int32) (y12_3 : Int32) (y12_4 : Int32), k12 G y12_0 y12_1 y12_2 y12_3 y12_4 → th_H D B G H → va_S (th_A B) s.heap H locs → th_L ls 5 [(0, rv y12_0), (1, .int y12_1), (2, .int y12_2), (3, .int y12_3), (4, .int y12_4)] → cells ≤ c12 ∧ slots ≤ s12 → W p l e rm_X8_inBays s m args below meth c H locs cells slots (MQ below (th_Qi D B Q) args s 0 0 (th_A B)) (F0 m 12 ls [])) {G : aH} {H : Heap} {locs : List Loc} {cells slots : Nat} {ls : Array Slot} {a0 : Nat} {x1 : Int32} {x3 : Int32} {x4 : Int32} {tx0 : Int32} {tx1 : Int32} (hR : th_H D B G H) (hS : va_S (th_A B) s.heap H locs) (hL : th_L ls 5 [(0, rv a0), (1, .int x1), (3, .int x3), (4, .int x4)]) (hw : tw_X8_inBays_b39 Q k4 k12 G a0 x1 x3 x4 tx0 tx1) (hc : cells + (0) ≤ 0 ∧ slots + (0) ≤ 0 ∧ cells + (0) ≤ c4 ∧ slots + (0) ≤ s4 ∧ cells + (0) ≤ c12 ∧ slots + (0) ≤ s12) : W p l e rm_X8_inBays s m args below meth c H locs cells slots (MQ below (th_Qi D B Q) args s 0 0 (th_A B)) (F0 m 39 ls [.int tx0, .int tx1]) := by
  have CF := E.1; have hx := CF.1; have hb := CF.2.1; have hret := E.2.1; have hlk := E.2.2.1; have hnm := E.2.2.2.1; have hK := E.2.2.2.2.1; have hSt := E.2.2.2.2.2
  unfold tw_X8_inBays_b39 at hw
  refine lv_iadd hx hb dX8_inBays_39 ?_
  obtain ⟨x2_6, hx2_6⟩ : ∃ y : Int32, y = tx1 + tx0 := ⟨_, rfl⟩
  replace hw := hw x2_6 hx2_6
  refine th_nmi hx2_6 ?_
  refine th_istore_n hx hb dX8_inBays_40 rfl hL (by decide) rfl (fun ls hL => ?_)
  obtain ⟨x4_7, hx4_7⟩ : ∃ y : Int32, y = x4 + 1 := ⟨_, rfl⟩
  replace hw := hw x4_7 hx4_7
  refine th_iinc hx hb dX8_inBays_41 hL (k := 4) rfl (v := x4_7) hx4_7.symm (by decide) rfl (fun ls hL => ?_)
  refine lv_goto hx hb dX8_inBays_44 (tgt := 12) (by decide) ?_
  exact h12 _ _ _ _ _ _ _ _ _ _ _ hw hR hS (hL.sub [2, 3, 1, 4, 0] rfl) ⟨by omega, by omega⟩
theorem tk_X8_inBays_b12 {p : Program} {l : Launch} {e : Env} {s : State} {m : MethodId} {args : Array Value} {below : List Frame} {meth : Method} {c : Code} {D : tD} {B : Nat} (E : th_E p m c cX8_inBays 5 s args RX8 meth ((Option.some Jvm.ClassFile.FieldType.int)) "inBays" D B) {Q : Int32 → aH → Prop} {k4 : aH → Nat → Int32 → Int32 → Int32 → Prop} {c4 s4 : Nat} (h4 : ∀ (G : aH) (H : Heap) (locs : List Loc) (cells slots : Nat) (ls : Array Slot) (y4_0 : Nat) (y4_1 : Int32) (y4_2 : Int32) (y4_3 : Int32), k4 G y4_0 y4_1 y4_2 y4_3 → th_H D B G H → va_S (th_A B) s.heap H locs → th_L ls 5 [(0, rv y4_0), (1, .int y4_1), (2, .int y4_2), (3, .int y4_3)] → cells ≤ c4 ∧ slots ≤ s4 → W p l e rm_X8_inBays s m args below meth c H locs cells slots (MQ below (th_Qi D B Q) args s 0 0 (th_A B)) (F0 m 4 ls [])) : ∀ (n : Nat) {G : aH} {H : Heap} {locs : List Loc} {cells slots : Nat} {ls : Array Slot} {a0 : Nat} {x1 : Int32} {x2 : Int32} {x3 : Int32} {x4 : Int32} (hR : th_H D B G H) (hS : va_S (th_A B) s.heap H locs) (hL : th_L ls 5 [(0, rv a0), (1, .int x1), (2, .int x2), (3, .int x3), (4, .int x4)]) (hw : tw_X8_inBays_b12 Q k4 n G a0 x1 x2 x3 x4) (hc : cells + (0) ≤ 0 ∧ slots + (0) ≤ 0 ∧ cells + (0) ≤ c4 ∧ slots + (0) ≤ s4), W p l e rm_X8_inBays s m args below meth c H locs cells slots (MQ below (th_Qi D B Q) args s 0 0 (th_A B)) (F0 m 12 ls []) := by
  have CF := E.1; have hx := CF.1; have hb := CF.2.1; have hret := E.2.1; have hlk := E.2.2.1; have hnm := E.2.2.2.1; have hK := E.2.2.2.2.1; have hSt := E.2.2.2.2.2
  intro n
  induction n with
  | zero => intro _ _ _ _ _ _ _ _ _ _ _ _ _ _ hw; exact hw.elim
  | succ n ih =>
    intro G H locs cells slots ls a0 x1 x2 x3 x4 hR hS hL hw hc
    rw [tws_X8_inBays_b12] at hw
    refine lv_iload hx hb dX8_inBays_12 (lv_at hL.1 4 rfl) ?_
    refine th_aload_n hx hb dX8_inBays_14 rfl (lv_at hL.1 0 rfl) ?_
    refine lv_iload_n hx hb dX8_inBays_15 rfl (lv_at hL.1 3 rfl) ?_
    obtain ⟨ho, hw⟩ := hw
    refine th_ki hS (th_rV CF hK hSt hR hS ho (ci := 8) rfl (rest := [.int x4]) (tk_X8_inBay) (cw_X8_128 CF hK (by decide +kernel)) hw rfl hL.1.1 rfl (th_ci th_cn) (Nat.le_of_ble_eq_true rfl) dX8_inBays_16 ⟨by show _ ≤ (0 : Nat); omega, by show _ ≤ (0 : Nat); omega⟩) (fun r2 G1 H locs hw hR hS => ?_)
    refine lv_icmp_ge hx hb dX8_inBays_19 (tgt := 47) (by decide) (fun h => ?_) (fun h => ?_)
    · replace hw := hw.1 h
      exact tk_X8_inBays_b47 E h4 hR hS (hL.sub [0, 1, 2, 3] rfl) hw ⟨by omega, by omega, by omega, by omega⟩
    · replace hw := hw.2 h
      refine lv_iload_n hx hb dX8_inBays_22 rfl (lv_at hL.1 2 rfl) ?_
      refine th_aload_n hx hb dX8_inBays_23 rfl (lv_at hL.1 0 rfl) ?_
      refine lv_iload_n hx hb dX8_inBays_24 rfl (lv_at hL.1 3 rfl) ?_
      refine lv_iload hx hb dX8_inBays_25 (lv_at hL.1 4 rfl) ?_
      obtain ⟨ho, hw⟩ := hw
      refine th_ki hS (th_rV CF hK hSt hR hS ho (ci := 8) rfl (rest := [.int x2]) (tk_X8_sheaf) (cw_X8_119 CF hK (by decide +kernel)) hw rfl hL.1.1 rfl (th_ci th_cn) (Nat.le_of_ble_eq_true rfl) dX8_inBays_27 ⟨by show _ ≤ (0 : Nat); omega, by show _ ≤ (0 : Nat); omega⟩) (fun r5 G4 H locs hw hR hS => ?_)
      refine lv_iload_n hx hb dX8_inBays_30 rfl (lv_at hL.1 1 rfl) ?_
      refine lv_icmp_ne hx hb dX8_inBays_31 (tgt := 38) (by decide) (fun h => ?_) (fun h => ?_)
      · replace hw := hw.1 h
        refine lv_iconst hx hb dX8_inBays_38 (v := 0) rfl ?_
        exact tk_X8_inBays_b39 E h4 (c12 := cells + 0 + 0 + 0) (s12 := slots + 0 + 0 + 0) (fun G H locs cells slots ls y0 y1 y2 y3 y4 hw hR hS hL hc => ih hR hS hL hw ⟨by omega, by omega, by omega, by omega⟩) hR hS (hL.sub [0, 1, 3, 4] rfl) hw ⟨by omega, by omega, by omega, by omega, by omega, by omega⟩
      · replace hw := hw.2 h
        refine lv_iconst hx hb dX8_inBays_34 (v := 1) rfl ?_
        refine lv_goto hx hb dX8_inBays_35 (tgt := 39) (by decide) ?_
        exact tk_X8_inBays_b39 E h4 (c12 := cells + 0 + 0 + 0) (s12 := slots + 0 + 0 + 0) (fun G H locs cells slots ls y0 y1 y2 y3 y4 hw hR hS hL hc => ih hR hS hL hw ⟨by omega, by omega, by omega, by omega⟩) hR hS (hL.sub [0, 1, 3, 4] rfl) hw ⟨by omega, by omega, by omega, by omega, by omega, by omega⟩
theorem tk_X8_inBays_b4 {p : Program} {l : Launch} {e : Env} {s : State} {m : MethodId} {args : Array Value} {below : List Frame} {meth : Method} {c : Code} {D : tD} {B : Nat} (E : th_E p m c cX8_inBays 5 s args RX8 meth ((Option.some Jvm.ClassFile.FieldType.int)) "inBays" D B) {Q : Int32 → aH → Prop} : ∀ (n : Nat) {G : aH} {H : Heap} {locs : List Loc} {cells slots : Nat} {ls : Array Slot} {a0 : Nat} {x1 : Int32} {x2 : Int32} {x3 : Int32} (hR : th_H D B G H) (hS : va_S (th_A B) s.heap H locs) (hL : th_L ls 5 [(0, rv a0), (1, .int x1), (2, .int x2), (3, .int x3)]) (hw : tw_X8_inBays_b4 Q n G a0 x1 x2 x3) (hc : cells + (0) ≤ 0 ∧ slots + (0) ≤ 0), W p l e rm_X8_inBays s m args below meth c H locs cells slots (MQ below (th_Qi D B Q) args s 0 0 (th_A B)) (F0 m 4 ls []) := by
  have CF := E.1; have hx := CF.1; have hb := CF.2.1; have hret := E.2.1; have hlk := E.2.2.1; have hnm := E.2.2.2.1; have hK := E.2.2.2.2.1; have hSt := E.2.2.2.2.2
  intro n
  induction n with
  | zero => intro _ _ _ _ _ _ _ _ _ _ _ _ _ hw; exact hw.elim
  | succ n ih =>
    intro G H locs cells slots ls a0 x1 x2 x3 hR hS hL hw hc
    rw [tws_X8_inBays_b4] at hw
    refine lv_iload_n hx hb dX8_inBays_4 rfl (lv_at hL.1 3 rfl) ?_
    refine lv_iconst hx hb dX8_inBays_5 (v := 4) rfl ?_
    refine lv_icmp_ge hx hb dX8_inBays_6 (tgt := 53) (by decide) (fun h => ?_) (fun h => ?_)
    · replace hw := hw.1 h
      refine lv_iload_n hx hb dX8_inBays_53 rfl (lv_at hL.1 2 rfl) ?_
      exact th_iret hx hb hret hlk hR hS hw (by omega) (by omega) dX8_inBays_54
    · replace hw := hw.2 h
      refine lv_iconst hx hb dX8_inBays_9 (v := 0) rfl ?_
      refine th_istore hx hb dX8_inBays_10 hL (by decide) rfl (fun ls hL => ?_)
      obtain ⟨n9, hw⟩ := hw
      exact tk_X8_inBays_b12 E (c4 := cells + 0) (s4 := slots + 0) (fun G H locs cells slots ls y0 y1 y2 y3 hw hR hS hL hc => ih hR hS hL hw ⟨by omega, by omega⟩) n9 hR hS (hL.sub [1, 2, 3, 4, 0] rfl) hw ⟨by omega, by omega, by omega, by omega⟩
theorem tk_X8_inBays {l : Launch} {D : tD} {B : Nat} {Q : Int32 → aH → Prop} {a0 : Nat} {x1 : Int32} : Met l yX8_inBays (ws_ yX8_inBays cX8_inBays 5 ((Option.some Jvm.ClassFile.FieldType.int))) rm_X8_inBays (th_P D B [rv a0, .int x1] (fun G => tw_X8_inBays Q G a0 x1)) (th_Qi D B Q) 0 0 (th_A B) :=
  th_ofW (by decide +kernel) (th_cr (th_ci th_cn)) (Nat.le_of_ble_eq_true rfl) (fun p e s m args below meth c CF hret hlk hnm hK hSt G ls hR hS hw hL => by
    have E : th_E p m c cX8_inBays 5 s args RX8 meth ((Option.some Jvm.ClassFile.FieldType.int)) "inBays" D B := ⟨CF, hret, hlk, hnm, hK, hSt⟩
    have hx := CF.1; have hb := CF.2.1
    have hL : th_L ls 5 [(0, rv a0), (1, .int x1)] := hL
    unfold tw_X8_inBays at hw
    refine lv_iconst hx hb dX8_inBays_0 (v := 0) rfl ?_
    refine th_istore_n hx hb dX8_inBays_1 rfl hL (by decide) rfl (fun ls hL => ?_)
    refine lv_iconst hx hb dX8_inBays_2 (v := 0) rfl ?_
    refine th_istore_n hx hb dX8_inBays_3 rfl hL (by decide) rfl (fun ls hL => ?_)
    obtain ⟨n9, hw⟩ := hw
    exact tk_X8_inBays_b4 E n9 hR hS (hL.sub [2, 3, 1, 0] rfl) hw ⟨by omega, by omega⟩)
def tw_X8_isAhead (Q : Int32 → aH → Prop) (G : aH) (a0 : Nat) (x1 : Int32) (x2 : Int32) : Prop :=
  th_o G a0 8 ∧ (
  (tw_X8_of
    (fun (r2 : Int32) (G1 : aH) =>
      th_o G1 a0 8 ∧ (
      (tw_X8_of
        (fun (r4 : Int32) (G3 : aH) =>
          (r2 = r4 →
            th_o G3 a0 8 ∧ (
            (tw_X8_dueOf
              (fun (r6 : Int32) (G5 : aH) =>
                th_o G5 a0 8 ∧ (
                (tw_X8_dueOf
                  (fun (r8 : Int32) (G7 : aH) =>
                    (r6 = r8 →
                      (x2 ≤ x1 →
                        Q 0 G7) ∧
                      (¬ x2 ≤ x1 →
                        Q 1 G7)) ∧
                    (¬ r6 = r8 →
                      th_o G7 a0 8 ∧ (
                      (tw_X8_dueOf
                        (fun (r10 : Int32) (G9 : aH) =>
                          th_o G9 a0 8 ∧ (
                          (tw_X8_dueOf
                            (fun (r12 : Int32) (G11 : aH) =>
                              (r10 ≤ r12 →
                                Q 0 G11) ∧
                              (¬ r10 ≤ r12 →
                                Q 1 G11))
                            G9 a0 x2)))
                        G7 a0 x1))))
                  G5 a0 x2)))
              G3 a0 x1))) ∧
          (¬ r2 = r4 →
            th_o G3 a0 8 ∧ (
            (tw_X8_of
              (fun (r14 : Int32) (G13 : aH) =>
                th_o G13 a0 8 ∧ (
                (tw_X8_of
                  (fun (r16 : Int32) (G15 : aH) =>
                    (r14 ≤ r16 →
                      Q 0 G15) ∧
                    (¬ r14 ≤ r16 →
                      Q 1 G15))
                  G13 a0 x2 2)))
              G3 a0 x1 2))))
        G1 a0 x2 2)))
    G a0 x1 2))
theorem tk_X8_isAhead {l : Launch} {D : tD} {B : Nat} {Q : Int32 → aH → Prop} {a0 : Nat} {x1 : Int32} {x2 : Int32} : Met l yX8_isAhead (ws_ yX8_isAhead cX8_isAhead 3 ((Option.some Jvm.ClassFile.FieldType.boolean))) rm_X8_isAhead (th_P D B [rv a0, .int x1, .int x2] (fun G => tw_X8_isAhead Q G a0 x1 x2)) (th_Qi D B Q) 0 0 (th_A B) :=
  th_ofW (by decide +kernel) (th_cr (th_ci (th_ci th_cn))) (Nat.le_of_ble_eq_true rfl) (fun p e s m args below meth c CF hret hlk hnm hK hSt G ls hR hS hw hL => by
    have E : th_E p m c cX8_isAhead 3 s args RX8 meth ((Option.some Jvm.ClassFile.FieldType.boolean)) "isAhead" D B := ⟨CF, hret, hlk, hnm, hK, hSt⟩
    have hx := CF.1; have hb := CF.2.1
    have hL : th_L ls 3 [(0, rv a0), (1, .int x1), (2, .int x2)] := hL
    unfold tw_X8_isAhead at hw
    refine th_aload_n hx hb dX8_isAhead_0 rfl (lv_at hL.1 0 rfl) ?_
    refine lv_iload_n hx hb dX8_isAhead_1 rfl (lv_at hL.1 1 rfl) ?_
    refine lv_iconst hx hb dX8_isAhead_2 (v := 2) rfl ?_
    obtain ⟨ho, hw⟩ := hw
    refine th_ki hS (th_rV CF hK hSt hR hS ho (ci := 8) rfl (rest := []) (tk_X8_of) (cw_X8_89 CF hK (by decide +kernel)) hw rfl hL.1.1 rfl th_cn (Nat.le_of_ble_eq_true rfl) dX8_isAhead_3 ⟨by show _ ≤ (0 : Nat); omega, by show _ ≤ (0 : Nat); omega⟩) (fun r2 G1 H locs hw hR hS => ?_)
    refine th_aload_n hx hb dX8_isAhead_6 rfl (lv_at hL.1 0 rfl) ?_
    refine lv_iload_n hx hb dX8_isAhead_7 rfl (lv_at hL.1 2 rfl) ?_
    refine lv_iconst hx hb dX8_isAhead_8 (v := 2) rfl ?_
    obtain ⟨ho, hw⟩ := hw
    refine th_ki hS (th_rV CF hK hSt hR hS ho (ci := 8) rfl (rest := [.int r2]) (tk_X8_of) (cw_X8_89 CF hK (by decide +kernel)) hw rfl hL.1.1 rfl (th_ci th_cn) (Nat.le_of_ble_eq_true rfl) dX8_isAhead_9 ⟨by show _ ≤ (0 : Nat); omega, by show _ ≤ (0 : Nat); omega⟩) (fun r4 G3 H locs hw hR hS => ?_)
    refine lv_icmp_eq hx hb dX8_isAhead_12 (tgt := 36) (by decide) (fun h => ?_) (fun h => ?_)
    · replace hw := hw.1 h
      refine th_aload_n hx hb dX8_isAhead_36 rfl (lv_at hL.1 0 rfl) ?_
      refine lv_iload_n hx hb dX8_isAhead_37 rfl (lv_at hL.1 1 rfl) ?_
      obtain ⟨ho, hw⟩ := hw
      refine th_ki hS (th_rV CF hK hSt hR hS ho (ci := 8) rfl (rest := []) (tk_X8_dueOf) (cw_X8_125 CF hK (by decide +kernel)) hw rfl hL.1.1 rfl th_cn (Nat.le_of_ble_eq_true rfl) dX8_isAhead_38 ⟨by show _ ≤ (0 : Nat); omega, by show _ ≤ (0 : Nat); omega⟩) (fun r6 G5 H locs hw hR hS => ?_)
      refine th_aload_n hx hb dX8_isAhead_41 rfl (lv_at hL.1 0 rfl) ?_
      refine lv_iload_n hx hb dX8_isAhead_42 rfl (lv_at hL.1 2 rfl) ?_
      obtain ⟨ho, hw⟩ := hw
      refine th_ki hS (th_rV CF hK hSt hR hS ho (ci := 8) rfl (rest := [.int r6]) (tk_X8_dueOf) (cw_X8_125 CF hK (by decide +kernel)) hw rfl hL.1.1 rfl (th_ci th_cn) (Nat.le_of_ble_eq_true rfl) dX8_isAhead_43 ⟨by show _ ≤ (0 : Nat); omega, by show _ ≤ (0 : Nat); omega⟩) (fun r8 G7 H locs hw hR hS => ?_)
      refine lv_icmp_eq hx hb dX8_isAhead_46 (tgt := 70) (by decide) (fun h => ?_) (fun h => ?_)
      · replace hw := hw.1 h
        refine lv_iload_n hx hb dX8_isAhead_70 rfl (lv_at hL.1 1 rfl) ?_
        refine lv_iload_n hx hb dX8_isAhead_71 rfl (lv_at hL.1 2 rfl) ?_
        refine lv_icmp_ge hx hb dX8_isAhead_72 (tgt := 79) (by decide) (fun h => ?_) (fun h => ?_)
        · replace hw := hw.1 h
          refine lv_iconst hx hb dX8_isAhead_79 (v := 0) rfl ?_
          exact th_zret .boolean hx hb hret rfl hlk hR hS hw (by omega) (by omega) dX8_isAhead_80
        · replace hw := hw.2 h
          refine lv_iconst hx hb dX8_isAhead_75 (v := 1) rfl ?_
          refine lv_goto hx hb dX8_isAhead_76 (tgt := 80) (by decide) ?_
          exact th_zret .boolean hx hb hret rfl hlk hR hS hw (by omega) (by omega) dX8_isAhead_80
      · replace hw := hw.2 h
        refine th_aload_n hx hb dX8_isAhead_49 rfl (lv_at hL.1 0 rfl) ?_
        refine lv_iload_n hx hb dX8_isAhead_50 rfl (lv_at hL.1 1 rfl) ?_
        obtain ⟨ho, hw⟩ := hw
        refine th_ki hS (th_rV CF hK hSt hR hS ho (ci := 8) rfl (rest := []) (tk_X8_dueOf) (cw_X8_125 CF hK (by decide +kernel)) hw rfl hL.1.1 rfl th_cn (Nat.le_of_ble_eq_true rfl) dX8_isAhead_51 ⟨by show _ ≤ (0 : Nat); omega, by show _ ≤ (0 : Nat); omega⟩) (fun r10 G9 H locs hw hR hS => ?_)
        refine th_aload_n hx hb dX8_isAhead_54 rfl (lv_at hL.1 0 rfl) ?_
        refine lv_iload_n hx hb dX8_isAhead_55 rfl (lv_at hL.1 2 rfl) ?_
        obtain ⟨ho, hw⟩ := hw
        refine th_ki hS (th_rV CF hK hSt hR hS ho (ci := 8) rfl (rest := [.int r10]) (tk_X8_dueOf) (cw_X8_125 CF hK (by decide +kernel)) hw rfl hL.1.1 rfl (th_ci th_cn) (Nat.le_of_ble_eq_true rfl) dX8_isAhead_56 ⟨by show _ ≤ (0 : Nat); omega, by show _ ≤ (0 : Nat); omega⟩) (fun r12 G11 H locs hw hR hS => ?_)
        refine lv_icmp_le hx hb dX8_isAhead_59 (tgt := 66) (by decide) (fun h => ?_) (fun h => ?_)
        · replace hw := hw.1 h
          refine lv_iconst hx hb dX8_isAhead_66 (v := 0) rfl ?_
          refine lv_goto hx hb dX8_isAhead_67 (tgt := 80) (by decide) ?_
          exact th_zret .boolean hx hb hret rfl hlk hR hS hw (by omega) (by omega) dX8_isAhead_80
        · replace hw := hw.2 h
          refine lv_iconst hx hb dX8_isAhead_62 (v := 1) rfl ?_
          refine lv_goto hx hb dX8_isAhead_63 (tgt := 80) (by decide) ?_
          exact th_zret .boolean hx hb hret rfl hlk hR hS hw (by omega) (by omega) dX8_isAhead_80
    · replace hw := hw.2 h
      refine th_aload_n hx hb dX8_isAhead_15 rfl (lv_at hL.1 0 rfl) ?_
      refine lv_iload_n hx hb dX8_isAhead_16 rfl (lv_at hL.1 1 rfl) ?_
      refine lv_iconst hx hb dX8_isAhead_17 (v := 2) rfl ?_
      obtain ⟨ho, hw⟩ := hw
      refine th_ki hS (th_rV CF hK hSt hR hS ho (ci := 8) rfl (rest := []) (tk_X8_of) (cw_X8_89 CF hK (by decide +kernel)) hw rfl hL.1.1 rfl th_cn (Nat.le_of_ble_eq_true rfl) dX8_isAhead_18 ⟨by show _ ≤ (0 : Nat); omega, by show _ ≤ (0 : Nat); omega⟩) (fun r14 G13 H locs hw hR hS => ?_)
      refine th_aload_n hx hb dX8_isAhead_21 rfl (lv_at hL.1 0 rfl) ?_
      refine lv_iload_n hx hb dX8_isAhead_22 rfl (lv_at hL.1 2 rfl) ?_
      refine lv_iconst hx hb dX8_isAhead_23 (v := 2) rfl ?_
      obtain ⟨ho, hw⟩ := hw
      refine th_ki hS (th_rV CF hK hSt hR hS ho (ci := 8) rfl (rest := [.int r14]) (tk_X8_of) (cw_X8_89 CF hK (by decide +kernel)) hw rfl hL.1.1 rfl (th_ci th_cn) (Nat.le_of_ble_eq_true rfl) dX8_isAhead_24 ⟨by show _ ≤ (0 : Nat); omega, by show _ ≤ (0 : Nat); omega⟩) (fun r16 G15 H locs hw hR hS => ?_)
      refine lv_icmp_le hx hb dX8_isAhead_27 (tgt := 34) (by decide) (fun h => ?_) (fun h => ?_)
      · replace hw := hw.1 h
        refine lv_iconst hx hb dX8_isAhead_34 (v := 0) rfl ?_
        exact th_zret .boolean hx hb hret rfl hlk hR hS hw (by omega) (by omega) dX8_isAhead_35
      · replace hw := hw.2 h
        refine lv_iconst hx hb dX8_isAhead_30 (v := 1) rfl ?_
        refine lv_goto hx hb dX8_isAhead_31 (tgt := 35) (by decide) ?_
        exact th_zret .boolean hx hb hret rfl hlk hR hS hw (by omega) (by omega) dX8_isAhead_35)
def tw_X8_rankOf_b34 (Q : Int32 → aH → Prop) (k4 : aH → Nat → Int32 → Int32 → Int32 → Prop) (G : aH) (a0 : Nat) (x1 : Int32) (x3 : Int32) (tx0 : Int32) (tx1 : Int32) : Prop :=
  ∀ x2_1 : Int32, x2_1 = tx1 + tx0 → 
  ∀ x3_2 : Int32, x3_2 = x3 + 1 → 
  k4 G a0 x1 x2_1 x3_2
def tw_X8_rankOf_b33 (Q : Int32 → aH → Prop) (k4 : aH → Nat → Int32 → Int32 → Int32 → Prop) (G : aH) (a0 : Nat) (x1 : Int32) (x3 : Int32) (tx0 : Int32) : Prop :=
  tw_X8_rankOf_b34 Q k4 G a0 x1 x3 0 tx0
def tw_X8_rankOf_b4 (Q : Int32 → aH → Prop) : Nat → aH → Nat → Int32 → Int32 → Int32 → Prop := fun n => Nat.rec (motive := fun _ => aH → Nat → Int32 → Int32 → Int32 → Prop) (fun _ _ _ _ _ => False) (fun _ ih G a0 x1 x2 x3 =>
  th_o G a0 8 ∧ (
  th_ai G (a_mr G a0 0) 0 0 ∧ (
  (a_mi G (a_mr G a0 0) (0 : Int32).toNatClampNeg ≤ x3 →
    Q x2 G) ∧
  (¬ a_mi G (a_mr G a0 0) (0 : Int32).toNatClampNeg ≤ x3 →
    (x3 = x1 →
      tw_X8_rankOf_b33 Q (ih) G a0 x1 x3 x2) ∧
    (¬ x3 = x1 →
      th_o G a0 8 ∧ (
      (tw_X8_isAhead
        (fun (r4 : Int32) (G3 : aH) =>
          (r4 = 0 →
            tw_X8_rankOf_b33 Q (ih) G3 a0 x1 x3 x2) ∧
          (¬ r4 = 0 →
            tw_X8_rankOf_b34 Q (ih) G3 a0 x1 x3 1 x2))
        G a0 x3 x1))))))) n
theorem tws_X8_rankOf_b4 (Q : Int32 → aH → Prop) (n : Nat) (G : aH) (a0 : Nat) (x1 : Int32) (x2 : Int32) (x3 : Int32) : tw_X8_rankOf_b4 Q (n + 1) G a0 x1 x2 x3 = (
  th_o G a0 8 ∧ (
  th_ai G (a_mr G a0 0) 0 0 ∧ (
  (a_mi G (a_mr G a0 0) (0 : Int32).toNatClampNeg ≤ x3 →
    Q x2 G) ∧
  (¬ a_mi G (a_mr G a0 0) (0 : Int32).toNatClampNeg ≤ x3 →
    (x3 = x1 →
      tw_X8_rankOf_b33 Q (tw_X8_rankOf_b4 Q n) G a0 x1 x3 x2) ∧
    (¬ x3 = x1 →
      th_o G a0 8 ∧ (
      (tw_X8_isAhead
        (fun (r4 : Int32) (G3 : aH) =>
          (r4 = 0 →
            tw_X8_rankOf_b33 Q (tw_X8_rankOf_b4 Q n) G3 a0 x1 x3 x2) ∧
          (¬ r4 = 0 →
            tw_X8_rankOf_b34 Q (tw_X8_rankOf_b4 Q n) G3 a0 x1 x3 1 x2))
        G a0 x3 x1))))))) := rfl
def tw_X8_rankOf (Q : Int32 → aH → Prop) (G : aH) (a0 : Nat) (x1 : Int32) : Prop :=
  ∃ n9 : Nat, tw_X8_rankOf_b4 Q n9 G a0 x1 0 0
theorem tk_X8_rankOf_b34 {p : Program} {l : Launch} {e : Env} {s : State} {m : MethodId} {args : Array Value} {below : List Frame} {meth : Method} {c : Code} {D : tD} {B : Nat} (E : th_E p m c cX8_rankOf 4 s args RX8 meth ((Option.some Jvm.ClassFile.FieldType.int)) "rankOf" D B) {Q : Int32 → aH → Prop} {k4 : aH → Nat → Int32 → Int32 → Int32 → Prop} {c4 s4 : Nat} (h4 : ∀ (G : aH) (H : Heap) (locs : List Loc) (cells slots : Nat) (ls : Array Slot) (y4_0 : Nat) (y4_1 : Int32) (y4_2 : Int32) (y4_3 : Int32), k4 G y4_0 y4_1 y4_2 y4_3 → th_H D B G H → va_S (th_A B) s.heap H locs → th_L ls 4 [(0, rv y4_0), (1, .int y4_1), (2, .int y4_2), (3, .int y4_3)] → cells ≤ c4 ∧ slots ≤ s4 → W p l e rm_X8_rankOf s m args below meth c H locs cells slots (MQ below (th_Qi D B Q) args s 0 0 (th_A B)) (F0 m 4 ls [])) {G : aH} {H : Heap} {locs : List Loc} {cells slots : Nat} {ls : Array Slot} {a0 : Nat} {x1 : Int32} {x3 : Int32} {tx0 : Int32} {tx1 : Int32} (hR : th_H D B G H) (hS : va_S (th_A B) s.heap H locs) (hL : th_L ls 4 [(0, rv a0), (1, .int x1), (3, .int x3)]) (hw : tw_X8_rankOf_b34 Q k4 G a0 x1 x3 tx0 tx1) (hc : cells + (0) ≤ 0 ∧ slots + (0) ≤ 0 ∧ cells + (0) ≤ c4 ∧ slots + (0) ≤ s4) : W p l e rm_X8_rankOf s m args below meth c H locs cells slots (MQ below (th_Qi D B Q) args s 0 0 (th_A B)) (F0 m 34 ls [.int tx0, .int tx1]) := by
  have CF := E.1; have hx := CF.1; have hb := CF.2.1; have hret := E.2.1; have hlk := E.2.2.1; have hnm := E.2.2.2.1; have hK := E.2.2.2.2.1; have hSt := E.2.2.2.2.2
  unfold tw_X8_rankOf_b34 at hw
  refine lv_iadd hx hb dX8_rankOf_34 ?_
  obtain ⟨x2_1, hx2_1⟩ : ∃ y : Int32, y = tx1 + tx0 := ⟨_, rfl⟩
  replace hw := hw x2_1 hx2_1
  refine th_nmi hx2_1 ?_
  refine th_istore_n hx hb dX8_rankOf_35 rfl hL (by decide) rfl (fun ls hL => ?_)
  obtain ⟨x3_2, hx3_2⟩ : ∃ y : Int32, y = x3 + 1 := ⟨_, rfl⟩
  replace hw := hw x3_2 hx3_2
  refine th_iinc hx hb dX8_rankOf_36 hL (k := 3) rfl (v := x3_2) hx3_2.symm (by decide) rfl (fun ls hL => ?_)
  refine lv_goto hx hb dX8_rankOf_39 (tgt := 4) (by decide) ?_
  exact h4 _ _ _ _ _ _ _ _ _ _ hw hR hS (hL.sub [2, 3, 1, 0] rfl) ⟨by omega, by omega⟩
theorem tk_X8_rankOf_b33 {p : Program} {l : Launch} {e : Env} {s : State} {m : MethodId} {args : Array Value} {below : List Frame} {meth : Method} {c : Code} {D : tD} {B : Nat} (E : th_E p m c cX8_rankOf 4 s args RX8 meth ((Option.some Jvm.ClassFile.FieldType.int)) "rankOf" D B) {Q : Int32 → aH → Prop} {k4 : aH → Nat → Int32 → Int32 → Int32 → Prop} {c4 s4 : Nat} (h4 : ∀ (G : aH) (H : Heap) (locs : List Loc) (cells slots : Nat) (ls : Array Slot) (y4_0 : Nat) (y4_1 : Int32) (y4_2 : Int32) (y4_3 : Int32), k4 G y4_0 y4_1 y4_2 y4_3 → th_H D B G H → va_S (th_A B) s.heap H locs → th_L ls 4 [(0, rv y4_0), (1, .int y4_1), (2, .int y4_2), (3, .int y4_3)] → cells ≤ c4 ∧ slots ≤ s4 → W p l e rm_X8_rankOf s m args below meth c H locs cells slots (MQ below (th_Qi D B Q) args s 0 0 (th_A B)) (F0 m 4 ls [])) {G : aH} {H : Heap} {locs : List Loc} {cells slots : Nat} {ls : Array Slot} {a0 : Nat} {x1 : Int32} {x3 : Int32} {tx0 : Int32} (hR : th_H D B G H) (hS : va_S (th_A B) s.heap H locs) (hL : th_L ls 4 [(0, rv a0), (1, .int x1), (3, .int x3)]) (hw : tw_X8_rankOf_b33 Q k4 G a0 x1 x3 tx0) (hc : cells + (0) ≤ 0 ∧ slots + (0) ≤ 0 ∧ cells + (0) ≤ c4 ∧ slots + (0) ≤ s4) : W p l e rm_X8_rankOf s m args below meth c H locs cells slots (MQ below (th_Qi D B Q) args s 0 0 (th_A B)) (F0 m 33 ls [.int tx0]) := by
  have CF := E.1; have hx := CF.1; have hb := CF.2.1; have hret := E.2.1; have hlk := E.2.2.1; have hnm := E.2.2.2.1; have hK := E.2.2.2.2.1; have hSt := E.2.2.2.2.2
  unfold tw_X8_rankOf_b33 at hw
  refine lv_iconst hx hb dX8_rankOf_33 (v := 0) rfl ?_
  exact tk_X8_rankOf_b34 E h4 hR hS (hL.sub [0, 1, 2] rfl) hw ⟨by omega, by omega, by omega, by omega⟩
theorem tk_X8_rankOf_b4 {p : Program} {l : Launch} {e : Env} {s : State} {m : MethodId} {args : Array Value} {below : List Frame} {meth : Method} {c : Code} {D : tD} {B : Nat} (E : th_E p m c cX8_rankOf 4 s args RX8 meth ((Option.some Jvm.ClassFile.FieldType.int)) "rankOf" D B) {Q : Int32 → aH → Prop} : ∀ (n : Nat) {G : aH} {H : Heap} {locs : List Loc} {cells slots : Nat} {ls : Array Slot} {a0 : Nat} {x1 : Int32} {x2 : Int32} {x3 : Int32} (hR : th_H D B G H) (hS : va_S (th_A B) s.heap H locs) (hL : th_L ls 4 [(0, rv a0), (1, .int x1), (2, .int x2), (3, .int x3)]) (hw : tw_X8_rankOf_b4 Q n G a0 x1 x2 x3) (hc : cells + (0) ≤ 0 ∧ slots + (0) ≤ 0), W p l e rm_X8_rankOf s m args below meth c H locs cells slots (MQ below (th_Qi D B Q) args s 0 0 (th_A B)) (F0 m 4 ls []) := by
  have CF := E.1; have hx := CF.1; have hb := CF.2.1; have hret := E.2.1; have hlk := E.2.2.1; have hnm := E.2.2.2.1; have hK := E.2.2.2.2.1; have hSt := E.2.2.2.2.2
  intro n
  induction n with
  | zero => intro _ _ _ _ _ _ _ _ _ _ _ _ _ hw; exact hw.elim
  | succ n ih =>
    intro G H locs cells slots ls a0 x1 x2 x3 hR hS hL hw hc
    rw [tws_X8_rankOf_b4] at hw
    refine lv_iload_n hx hb dX8_rankOf_4 rfl (lv_at hL.1 3 rfl) ?_
    refine th_aload_n hx hb dX8_rankOf_5 rfl (lv_at hL.1 0 rfl) ?_
    obtain ⟨ho, hw⟩ := hw
    refine fg_X8_9 CF hK hR ho dX8_rankOf_6 ?_
    refine lv_iconst hx hb dX8_rankOf_9 (v := 0) rfl ?_
    obtain ⟨ha, hw⟩ := hw
    refine th_iald hx hb hK hR ha dX8_rankOf_10 ?_
    refine lv_icmp_ge hx hb dX8_rankOf_11 (tgt := 42) (by decide) (fun h => ?_) (fun h => ?_)
    · replace hw := hw.1 h
      refine lv_iload_n hx hb dX8_rankOf_42 rfl (lv_at hL.1 2 rfl) ?_
      exact th_iret hx hb hret hlk hR hS hw (by omega) (by omega) dX8_rankOf_43
    · replace hw := hw.2 h
      refine lv_iload_n hx hb dX8_rankOf_14 rfl (lv_at hL.1 2 rfl) ?_
      refine lv_iload_n hx hb dX8_rankOf_15 rfl (lv_at hL.1 3 rfl) ?_
      refine lv_iload_n hx hb dX8_rankOf_16 rfl (lv_at hL.1 1 rfl) ?_
      refine lv_icmp_eq hx hb dX8_rankOf_17 (tgt := 33) (by decide) (fun h => ?_) (fun h => ?_)
      · replace hw := hw.1 h
        exact tk_X8_rankOf_b33 E (c4 := cells + 0) (s4 := slots + 0) (fun G H locs cells slots ls y0 y1 y2 y3 hw hR hS hL hc => ih hR hS hL hw ⟨by omega, by omega⟩) hR hS (hL.sub [0, 1, 3] rfl) hw ⟨by omega, by omega, by omega, by omega⟩
      · replace hw := hw.2 h
        refine th_aload_n hx hb dX8_rankOf_20 rfl (lv_at hL.1 0 rfl) ?_
        refine lv_iload_n hx hb dX8_rankOf_21 rfl (lv_at hL.1 3 rfl) ?_
        refine lv_iload_n hx hb dX8_rankOf_22 rfl (lv_at hL.1 1 rfl) ?_
        obtain ⟨ho, hw⟩ := hw
        refine th_ki hS (th_rV CF hK hSt hR hS ho (ci := 8) rfl (rest := [.int x2]) (tk_X8_isAhead) (cw_X8_232 CF hK (by decide +kernel)) hw rfl hL.1.1 rfl (th_ci th_cn) (Nat.le_of_ble_eq_true rfl) dX8_rankOf_23 ⟨by show _ ≤ (0 : Nat); omega, by show _ ≤ (0 : Nat); omega⟩) (fun r4 G3 H locs hw hR hS => ?_)
        refine lv_if_eq hx hb dX8_rankOf_26 (tgt := 33) (by decide) (fun h => ?_) (fun h => ?_)
        · replace hw := hw.1 h
          exact tk_X8_rankOf_b33 E (c4 := cells + 0 + 0) (s4 := slots + 0 + 0) (fun G H locs cells slots ls y0 y1 y2 y3 hw hR hS hL hc => ih hR hS hL hw ⟨by omega, by omega⟩) hR hS (hL.sub [0, 1, 3] rfl) hw ⟨by omega, by omega, by omega, by omega⟩
        · replace hw := hw.2 h
          refine lv_iconst hx hb dX8_rankOf_29 (v := 1) rfl ?_
          refine lv_goto hx hb dX8_rankOf_30 (tgt := 34) (by decide) ?_
          exact tk_X8_rankOf_b34 E (c4 := cells + 0 + 0) (s4 := slots + 0 + 0) (fun G H locs cells slots ls y0 y1 y2 y3 hw hR hS hL hc => ih hR hS hL hw ⟨by omega, by omega⟩) hR hS (hL.sub [0, 1, 3] rfl) hw ⟨by omega, by omega, by omega, by omega⟩
theorem tk_X8_rankOf {l : Launch} {D : tD} {B : Nat} {Q : Int32 → aH → Prop} {a0 : Nat} {x1 : Int32} : Met l yX8_rankOf (ws_ yX8_rankOf cX8_rankOf 4 ((Option.some Jvm.ClassFile.FieldType.int))) rm_X8_rankOf (th_P D B [rv a0, .int x1] (fun G => tw_X8_rankOf Q G a0 x1)) (th_Qi D B Q) 0 0 (th_A B) :=
  th_ofW (by decide +kernel) (th_cr (th_ci th_cn)) (Nat.le_of_ble_eq_true rfl) (fun p e s m args below meth c CF hret hlk hnm hK hSt G ls hR hS hw hL => by
    have E : th_E p m c cX8_rankOf 4 s args RX8 meth ((Option.some Jvm.ClassFile.FieldType.int)) "rankOf" D B := ⟨CF, hret, hlk, hnm, hK, hSt⟩
    have hx := CF.1; have hb := CF.2.1
    have hL : th_L ls 4 [(0, rv a0), (1, .int x1)] := hL
    unfold tw_X8_rankOf at hw
    refine lv_iconst hx hb dX8_rankOf_0 (v := 0) rfl ?_
    refine th_istore_n hx hb dX8_rankOf_1 rfl hL (by decide) rfl (fun ls hL => ?_)
    refine lv_iconst hx hb dX8_rankOf_2 (v := 0) rfl ?_
    refine th_istore_n hx hb dX8_rankOf_3 rfl hL (by decide) rfl (fun ls hL => ?_)
    obtain ⟨n9, hw⟩ := hw
    exact tk_X8_rankOf_b4 E n9 hR hS (hL.sub [2, 3, 1, 0] rfl) hw ⟨by omega, by omega⟩)
def tw_X8_parishOf (Q : Int32 → aH → Prop) (G : aH) (a0 : Nat) (x1 : Int32) (x2 : Int32) : Prop :=
  th_o G a0 8 ∧ (
  (tw_X8_isParish
    (fun (r2 : Int32) (G1 : aH) =>
      (¬ r2 = 0 →
        (x2 = 0 →
          th_o G1 a0 8 ∧ (
          (tw_X8_of
            (fun (r4 : Int32) (G3 : aH) =>
              Q r4 G3)
            G1 a0 x1 x2))) ∧
        (x2 = 1 →
          th_o G1 a0 8 ∧ (
          (tw_X8_of
            (fun (r6 : Int32) (G5 : aH) =>
              Q r6 G5)
            G1 a0 x1 x2))) ∧
        (x2 = 2 →
          th_o G1 a0 8 ∧ (
          (tw_X8_dueOf
            (fun (r8 : Int32) (G7 : aH) =>
              Q r8 G7)
            G1 a0 x1))) ∧
        (x2 = 3 →
          th_o G1 a0 8 ∧ (
          (tw_X8_of
            (fun (r10 : Int32) (G9 : aH) =>
              Q r10 G9)
            G1 a0 x1 2))) ∧
        (x2 = 4 →
          th_o G1 a0 8 ∧ (
          (tw_X8_of
            (fun (r12 : Int32) (G11 : aH) =>
              Q r12 G11)
            G1 a0 x1 4))) ∧
        (x2 = 5 →
          th_o G1 a0 8 ∧ (
          (tw_X8_of
            (fun (r14 : Int32) (G13 : aH) =>
              (¬ r14 = 0 →
                th_o G13 a0 8 ∧ (
                (tw_X8_of
                  (fun (r16 : Int32) (G15 : aH) =>
                    Q r16 G15)
                  G13 a0 x1 5))) ∧
              (r14 = 0 →
                Q (-4) G13))
            G1 a0 x1 4))) ∧
        (x2 = 6 →
          th_o G1 a0 8 ∧ (
          (tw_X8_of
            (fun (r18 : Int32) (G17 : aH) =>
              Q r18 G17)
            G1 a0 x1 3))) ∧
        (x2 = 7 →
          th_o G1 a0 8 ∧ (
          (tw_X8_inBays
            (fun (r20 : Int32) (G19 : aH) =>
              Q r20 G19)
            G1 a0 x1))) ∧
        (x2 = 8 →
          th_o G1 a0 8 ∧ (
          (tw_X8_rankOf
            (fun (r22 : Int32) (G21 : aH) =>
              Q r22 G21)
            G1 a0 x1))) ∧
        (¬ x2 = 0 → ¬ x2 = 1 → ¬ x2 = 2 → ¬ x2 = 3 → ¬ x2 = 4 → ¬ x2 = 5 → ¬ x2 = 6 → ¬ x2 = 7 → ¬ x2 = 8 → 
          Q (-2) G1)) ∧
      (r2 = 0 →
        Q (-1) G1))
    G a0 x1))
theorem tk_X8_parishOf {l : Launch} {D : tD} {B : Nat} {Q : Int32 → aH → Prop} {a0 : Nat} {x1 : Int32} {x2 : Int32} : Met l yX8_parishOf (ws_ yX8_parishOf cX8_parishOf 3 ((Option.some Jvm.ClassFile.FieldType.int))) rm_X8_parishOf (th_P D B [rv a0, .int x1, .int x2] (fun G => tw_X8_parishOf Q G a0 x1 x2)) (th_Qi D B Q) 0 0 (th_A B) :=
  th_ofW (by decide +kernel) (th_cr (th_ci (th_ci th_cn))) (Nat.le_of_ble_eq_true rfl) (fun p e s m args below meth c CF hret hlk hnm hK hSt G ls hR hS hw hL => by
    have E : th_E p m c cX8_parishOf 3 s args RX8 meth ((Option.some Jvm.ClassFile.FieldType.int)) "parishOf" D B := ⟨CF, hret, hlk, hnm, hK, hSt⟩
    have hx := CF.1; have hb := CF.2.1
    have hL : th_L ls 3 [(0, rv a0), (1, .int x1), (2, .int x2)] := hL
    unfold tw_X8_parishOf at hw
    refine th_aload_n hx hb dX8_parishOf_0 rfl (lv_at hL.1 0 rfl) ?_
    refine lv_iload_n hx hb dX8_parishOf_1 rfl (lv_at hL.1 1 rfl) ?_
    obtain ⟨ho, hw⟩ := hw
    refine th_ki hS (th_rV CF hK hSt hR hS ho (ci := 8) rfl (rest := []) (tk_X8_isParish) (cw_X8_107 CF hK (by decide +kernel)) hw rfl hL.1.1 rfl th_cn (Nat.le_of_ble_eq_true rfl) dX8_parishOf_2 ⟨by show _ ≤ (0 : Nat); omega, by show _ ≤ (0 : Nat); omega⟩) (fun r2 G1 H locs hw hR hS => ?_)
    refine lv_if_ne hx hb dX8_parishOf_5 (tgt := 10) (by decide) (fun h => ?_) (fun h => ?_)
    · replace hw := hw.1 h
      refine lv_iload_n hx hb dX8_parishOf_10 rfl (lv_at hL.1 2 rfl) ?_
      by_cases g0 : x2 = 0
      · replace hw := hw.1 g0
        refine lv_tableIn hx hb dX8_parishOf_11 (tgt := 60) (by rw [g0]; decide) (by rw [g0]; decide) (by rw [g0]; rfl) (by decide) ?_
        refine th_aload_n hx hb dX8_parishOf_60 rfl (lv_at hL.1 0 rfl) ?_
        refine lv_iload_n hx hb dX8_parishOf_61 rfl (lv_at hL.1 1 rfl) ?_
        refine lv_iload_n hx hb dX8_parishOf_62 rfl (lv_at hL.1 2 rfl) ?_
        obtain ⟨ho, hw⟩ := hw
        refine th_ki hS (th_rV CF hK hSt hR hS ho (ci := 8) rfl (rest := []) (tk_X8_of) (cw_X8_89 CF hK (by decide +kernel)) hw rfl hL.1.1 rfl th_cn (Nat.le_of_ble_eq_true rfl) dX8_parishOf_63 ⟨by show _ ≤ (0 : Nat); omega, by show _ ≤ (0 : Nat); omega⟩) (fun r4 G3 H locs hw hR hS => ?_)
        exact th_iret hx hb hret hlk hR hS hw (by omega) (by omega) dX8_parishOf_66
      by_cases g1 : x2 = 1
      · replace hw := hw.2.1 g1
        refine lv_tableIn hx hb dX8_parishOf_11 (tgt := 60) (by rw [g1]; decide) (by rw [g1]; decide) (by rw [g1]; rfl) (by decide) ?_
        refine th_aload_n hx hb dX8_parishOf_60 rfl (lv_at hL.1 0 rfl) ?_
        refine lv_iload_n hx hb dX8_parishOf_61 rfl (lv_at hL.1 1 rfl) ?_
        refine lv_iload_n hx hb dX8_parishOf_62 rfl (lv_at hL.1 2 rfl) ?_
        obtain ⟨ho, hw⟩ := hw
        refine th_ki hS (th_rV CF hK hSt hR hS ho (ci := 8) rfl (rest := []) (tk_X8_of) (cw_X8_89 CF hK (by decide +kernel)) hw rfl hL.1.1 rfl th_cn (Nat.le_of_ble_eq_true rfl) dX8_parishOf_63 ⟨by show _ ≤ (0 : Nat); omega, by show _ ≤ (0 : Nat); omega⟩) (fun r6 G5 H locs hw hR hS => ?_)
        exact th_iret hx hb hret hlk hR hS hw (by omega) (by omega) dX8_parishOf_66
      by_cases g2 : x2 = 2
      · replace hw := hw.2.2.1 g2
        refine lv_tableIn hx hb dX8_parishOf_11 (tgt := 67) (by rw [g2]; decide) (by rw [g2]; decide) (by rw [g2]; rfl) (by decide) ?_
        refine th_aload_n hx hb dX8_parishOf_67 rfl (lv_at hL.1 0 rfl) ?_
        refine lv_iload_n hx hb dX8_parishOf_68 rfl (lv_at hL.1 1 rfl) ?_
        obtain ⟨ho, hw⟩ := hw
        refine th_ki hS (th_rV CF hK hSt hR hS ho (ci := 8) rfl (rest := []) (tk_X8_dueOf) (cw_X8_125 CF hK (by decide +kernel)) hw rfl hL.1.1 rfl th_cn (Nat.le_of_ble_eq_true rfl) dX8_parishOf_69 ⟨by show _ ≤ (0 : Nat); omega, by show _ ≤ (0 : Nat); omega⟩) (fun r8 G7 H locs hw hR hS => ?_)
        exact th_iret hx hb hret hlk hR hS hw (by omega) (by omega) dX8_parishOf_72
      by_cases g3 : x2 = 3
      · replace hw := hw.2.2.2.1 g3
        refine lv_tableIn hx hb dX8_parishOf_11 (tgt := 73) (by rw [g3]; decide) (by rw [g3]; decide) (by rw [g3]; rfl) (by decide) ?_
        refine th_aload_n hx hb dX8_parishOf_73 rfl (lv_at hL.1 0 rfl) ?_
        refine lv_iload_n hx hb dX8_parishOf_74 rfl (lv_at hL.1 1 rfl) ?_
        refine lv_iconst hx hb dX8_parishOf_75 (v := 2) rfl ?_
        obtain ⟨ho, hw⟩ := hw
        refine th_ki hS (th_rV CF hK hSt hR hS ho (ci := 8) rfl (rest := []) (tk_X8_of) (cw_X8_89 CF hK (by decide +kernel)) hw rfl hL.1.1 rfl th_cn (Nat.le_of_ble_eq_true rfl) dX8_parishOf_76 ⟨by show _ ≤ (0 : Nat); omega, by show _ ≤ (0 : Nat); omega⟩) (fun r10 G9 H locs hw hR hS => ?_)
        exact th_iret hx hb hret hlk hR hS hw (by omega) (by omega) dX8_parishOf_79
      by_cases g4 : x2 = 4
      · replace hw := hw.2.2.2.2.1 g4
        refine lv_tableIn hx hb dX8_parishOf_11 (tgt := 80) (by rw [g4]; decide) (by rw [g4]; decide) (by rw [g4]; rfl) (by decide) ?_
        refine th_aload_n hx hb dX8_parishOf_80 rfl (lv_at hL.1 0 rfl) ?_
        refine lv_iload_n hx hb dX8_parishOf_81 rfl (lv_at hL.1 1 rfl) ?_
        refine lv_iconst hx hb dX8_parishOf_82 (v := 4) rfl ?_
        obtain ⟨ho, hw⟩ := hw
        refine th_ki hS (th_rV CF hK hSt hR hS ho (ci := 8) rfl (rest := []) (tk_X8_of) (cw_X8_89 CF hK (by decide +kernel)) hw rfl hL.1.1 rfl th_cn (Nat.le_of_ble_eq_true rfl) dX8_parishOf_83 ⟨by show _ ≤ (0 : Nat); omega, by show _ ≤ (0 : Nat); omega⟩) (fun r12 G11 H locs hw hR hS => ?_)
        exact th_iret hx hb hret hlk hR hS hw (by omega) (by omega) dX8_parishOf_86
      by_cases g5 : x2 = 5
      · replace hw := hw.2.2.2.2.2.1 g5
        refine lv_tableIn hx hb dX8_parishOf_11 (tgt := 87) (by rw [g5]; decide) (by rw [g5]; decide) (by rw [g5]; rfl) (by decide) ?_
        refine th_aload_n hx hb dX8_parishOf_87 rfl (lv_at hL.1 0 rfl) ?_
        refine lv_iload_n hx hb dX8_parishOf_88 rfl (lv_at hL.1 1 rfl) ?_
        refine lv_iconst hx hb dX8_parishOf_89 (v := 4) rfl ?_
        obtain ⟨ho, hw⟩ := hw
        refine th_ki hS (th_rV CF hK hSt hR hS ho (ci := 8) rfl (rest := []) (tk_X8_of) (cw_X8_89 CF hK (by decide +kernel)) hw rfl hL.1.1 rfl th_cn (Nat.le_of_ble_eq_true rfl) dX8_parishOf_90 ⟨by show _ ≤ (0 : Nat); omega, by show _ ≤ (0 : Nat); omega⟩) (fun r14 G13 H locs hw hR hS => ?_)
        refine lv_if_ne hx hb dX8_parishOf_93 (tgt := 101) (by decide) (fun h => ?_) (fun h => ?_)
        · replace hw := hw.1 h
          refine th_aload_n hx hb dX8_parishOf_101 rfl (lv_at hL.1 0 rfl) ?_
          refine lv_iload_n hx hb dX8_parishOf_102 rfl (lv_at hL.1 1 rfl) ?_
          refine lv_iconst hx hb dX8_parishOf_103 (v := 5) rfl ?_
          obtain ⟨ho, hw⟩ := hw
          refine th_ki hS (th_rV CF hK hSt hR hS ho (ci := 8) rfl (rest := []) (tk_X8_of) (cw_X8_89 CF hK (by decide +kernel)) hw rfl hL.1.1 rfl th_cn (Nat.le_of_ble_eq_true rfl) dX8_parishOf_104 ⟨by show _ ≤ (0 : Nat); omega, by show _ ≤ (0 : Nat); omega⟩) (fun r16 G15 H locs hw hR hS => ?_)
          exact th_iret hx hb hret hlk hR hS hw (by omega) (by omega) dX8_parishOf_107
        · replace hw := hw.2 h
          refine lv_bipush hx hb dX8_parishOf_96 (v := (-4)) rfl ?_
          refine lv_goto hx hb dX8_parishOf_98 (tgt := 107) (by decide) ?_
          exact th_iret hx hb hret hlk hR hS hw (by omega) (by omega) dX8_parishOf_107
      by_cases g6 : x2 = 6
      · replace hw := hw.2.2.2.2.2.2.1 g6
        refine lv_tableIn hx hb dX8_parishOf_11 (tgt := 108) (by rw [g6]; decide) (by rw [g6]; decide) (by rw [g6]; rfl) (by decide) ?_
        refine th_aload_n hx hb dX8_parishOf_108 rfl (lv_at hL.1 0 rfl) ?_
        refine lv_iload_n hx hb dX8_parishOf_109 rfl (lv_at hL.1 1 rfl) ?_
        refine lv_iconst hx hb dX8_parishOf_110 (v := 3) rfl ?_
        obtain ⟨ho, hw⟩ := hw
        refine th_ki hS (th_rV CF hK hSt hR hS ho (ci := 8) rfl (rest := []) (tk_X8_of) (cw_X8_89 CF hK (by decide +kernel)) hw rfl hL.1.1 rfl th_cn (Nat.le_of_ble_eq_true rfl) dX8_parishOf_111 ⟨by show _ ≤ (0 : Nat); omega, by show _ ≤ (0 : Nat); omega⟩) (fun r18 G17 H locs hw hR hS => ?_)
        exact th_iret hx hb hret hlk hR hS hw (by omega) (by omega) dX8_parishOf_114
      by_cases g7 : x2 = 7
      · replace hw := hw.2.2.2.2.2.2.2.1 g7
        refine lv_tableIn hx hb dX8_parishOf_11 (tgt := 115) (by rw [g7]; decide) (by rw [g7]; decide) (by rw [g7]; rfl) (by decide) ?_
        refine th_aload_n hx hb dX8_parishOf_115 rfl (lv_at hL.1 0 rfl) ?_
        refine lv_iload_n hx hb dX8_parishOf_116 rfl (lv_at hL.1 1 rfl) ?_
        obtain ⟨ho, hw⟩ := hw
        refine th_ki hS (th_rV CF hK hSt hR hS ho (ci := 8) rfl (rest := []) (tk_X8_inBays) (cw_X8_239 CF hK (by decide +kernel)) hw rfl hL.1.1 rfl th_cn (Nat.le_of_ble_eq_true rfl) dX8_parishOf_117 ⟨by show _ ≤ (0 : Nat); omega, by show _ ≤ (0 : Nat); omega⟩) (fun r20 G19 H locs hw hR hS => ?_)
        exact th_iret hx hb hret hlk hR hS hw (by omega) (by omega) dX8_parishOf_120
      by_cases g8 : x2 = 8
      · replace hw := hw.2.2.2.2.2.2.2.2.1 g8
        refine lv_tableIn hx hb dX8_parishOf_11 (tgt := 121) (by rw [g8]; decide) (by rw [g8]; decide) (by rw [g8]; rfl) (by decide) ?_
        refine th_aload_n hx hb dX8_parishOf_121 rfl (lv_at hL.1 0 rfl) ?_
        refine lv_iload_n hx hb dX8_parishOf_122 rfl (lv_at hL.1 1 rfl) ?_
        obtain ⟨ho, hw⟩ := hw
        refine th_ki hS (th_rV CF hK hSt hR hS ho (ci := 8) rfl (rest := []) (tk_X8_rankOf) (cw_X8_236 CF hK (by decide +kernel)) hw rfl hL.1.1 rfl th_cn (Nat.le_of_ble_eq_true rfl) dX8_parishOf_123 ⟨by show _ ≤ (0 : Nat); omega, by show _ ≤ (0 : Nat); omega⟩) (fun r22 G21 H locs hw hR hS => ?_)
        exact th_iret hx hb hret hlk hR hS hw (by omega) (by omega) dX8_parishOf_126
      replace hw := hw.2.2.2.2.2.2.2.2.2 g0 g1 g2 g3 g4 g5 g6 g7 g8
      have w0 := th_sw g0 (k := 0) (by decide)
      have w1 := th_sw g1 (k := 1) (by decide)
      have w2 := th_sw g2 (k := 2) (by decide)
      have w3 := th_sw g3 (k := 3) (by decide)
      have w4 := th_sw g4 (k := 4) (by decide)
      have w5 := th_sw g5 (k := 5) (by decide)
      have w6 := th_sw g6 (k := 6) (by decide)
      have w7 := th_sw g7 (k := 7) (by decide)
      have w8 := th_sw g8 (k := 8) (by decide)
      refine lv_tableOut hx hb dX8_parishOf_11 (tgt := 127) (by omega) (by decide) ?_
      refine lv_bipush hx hb dX8_parishOf_127 (v := (-2)) rfl ?_
      exact th_iret hx hb hret hlk hR hS hw (by omega) (by omega) dX8_parishOf_129
    · replace hw := hw.2 h
      refine lv_iconst hx hb dX8_parishOf_8 (v := (-1)) rfl ?_
      exact th_iret hx hb hret hlk hR hS hw (by omega) (by omega) dX8_parishOf_9)
def tw_X8_passes_b17 (Q : Int32 → aH → Prop) : Nat → aH → Nat → Int32 → Int32 → Int32 → Prop := fun n => Nat.rec (motive := fun _ => aH → Nat → Int32 → Int32 → Int32 → Prop) (fun _ _ _ _ _ => False) (fun _ ih G a0 x1 x2 x3 =>
  (x1 ≤ x3 →
    Q x2 G) ∧
  (¬ x1 ≤ x3 →
    th_o G a0 8 ∧ (
    (tw_X8_day
      (fun (r4 : Int32) (G3 : aH) =>
        ∀ x2_5 : Int32, x2_5 = x2 + r4 → 
        ∀ x3_6 : Int32, x3_6 = x3 + 1 → 
        ih G3 a0 x1 x2_5 x3_6)
      G a0)))) n
theorem tws_X8_passes_b17 (Q : Int32 → aH → Prop) (n : Nat) (G : aH) (a0 : Nat) (x1 : Int32) (x2 : Int32) (x3 : Int32) : tw_X8_passes_b17 Q (n + 1) G a0 x1 x2 x3 = (
  (x1 ≤ x3 →
    Q x2 G) ∧
  (¬ x1 ≤ x3 →
    th_o G a0 8 ∧ (
    (tw_X8_day
      (fun (r4 : Int32) (G3 : aH) =>
        ∀ x2_5 : Int32, x2_5 = x2 + r4 → 
        ∀ x3_6 : Int32, x3_6 = x3 + 1 → 
        tw_X8_passes_b17 Q n G3 a0 x1 x2_5 x3_6)
      G a0)))) := rfl
def tw_X8_passes (Q : Int32 → aH → Prop) (G : aH) (a0 : Nat) (x1 : Int32) : Prop :=
  (tw_X8_isIn
    (fun (r2 : Int32) (G1 : aH) =>
      (¬ r2 = 0 →
        ∃ n9 : Nat, tw_X8_passes_b17 Q n9 G1 a0 x1 0 0) ∧
      (r2 = 0 →
        Q (-2) G1))
    G x1 1 30)
theorem tk_X8_passes_b17 {p : Program} {l : Launch} {e : Env} {s : State} {m : MethodId} {args : Array Value} {below : List Frame} {meth : Method} {c : Code} {D : tD} {B : Nat} (E : th_E p m c cX8_passes 4 s args RX8 meth ((Option.some Jvm.ClassFile.FieldType.int)) "passes" D B) {Q : Int32 → aH → Prop} : ∀ (n : Nat) {G : aH} {H : Heap} {locs : List Loc} {cells slots : Nat} {ls : Array Slot} {a0 : Nat} {x1 : Int32} {x2 : Int32} {x3 : Int32} (hR : th_H D B G H) (hS : va_S (th_A B) s.heap H locs) (hL : th_L ls 4 [(0, rv a0), (1, .int x1), (2, .int x2), (3, .int x3)]) (hw : tw_X8_passes_b17 Q n G a0 x1 x2 x3) (hc : cells + (0) ≤ 0 ∧ slots + (0) ≤ 0), W p l e rm_X8_passes s m args below meth c H locs cells slots (MQ below (th_Qi D B Q) args s 0 0 (th_A B)) (F0 m 17 ls []) := by
  have CF := E.1; have hx := CF.1; have hb := CF.2.1; have hret := E.2.1; have hlk := E.2.2.1; have hnm := E.2.2.2.1; have hK := E.2.2.2.2.1; have hSt := E.2.2.2.2.2
  intro n
  induction n with
  | zero => intro _ _ _ _ _ _ _ _ _ _ _ _ _ hw; exact hw.elim
  | succ n ih =>
    intro G H locs cells slots ls a0 x1 x2 x3 hR hS hL hw hc
    rw [tws_X8_passes_b17] at hw
    refine lv_iload_n hx hb dX8_passes_17 rfl (lv_at hL.1 3 rfl) ?_
    refine lv_iload_n hx hb dX8_passes_18 rfl (lv_at hL.1 1 rfl) ?_
    refine lv_icmp_ge hx hb dX8_passes_19 (tgt := 35) (by decide) (fun h => ?_) (fun h => ?_)
    · replace hw := hw.1 h
      refine lv_iload_n hx hb dX8_passes_35 rfl (lv_at hL.1 2 rfl) ?_
      exact th_iret hx hb hret hlk hR hS hw (by omega) (by omega) dX8_passes_36
    · replace hw := hw.2 h
      refine lv_iload_n hx hb dX8_passes_22 rfl (lv_at hL.1 2 rfl) ?_
      refine th_aload_n hx hb dX8_passes_23 rfl (lv_at hL.1 0 rfl) ?_
      obtain ⟨ho, hw⟩ := hw
      refine th_ki hS (th_rV CF hK hSt hR hS ho (ci := 8) rfl (rest := [.int x2]) (tk_X8_day) (cw_X8_219 CF hK (by decide +kernel)) hw rfl hL.1.1 rfl (th_ci th_cn) (Nat.le_of_ble_eq_true rfl) dX8_passes_24 ⟨by show _ ≤ (0 : Nat); omega, by show _ ≤ (0 : Nat); omega⟩) (fun r4 G3 H locs hw hR hS => ?_)
      refine lv_iadd hx hb dX8_passes_27 ?_
      obtain ⟨x2_5, hx2_5⟩ : ∃ y : Int32, y = x2 + r4 := ⟨_, rfl⟩
      replace hw := hw x2_5 hx2_5
      refine th_nmi hx2_5 ?_
      refine th_istore_n hx hb dX8_passes_28 rfl hL (by decide) rfl (fun ls hL => ?_)
      obtain ⟨x3_6, hx3_6⟩ : ∃ y : Int32, y = x3 + 1 := ⟨_, rfl⟩
      replace hw := hw x3_6 hx3_6
      refine th_iinc hx hb dX8_passes_29 hL (k := 3) rfl (v := x3_6) hx3_6.symm (by decide) rfl (fun ls hL => ?_)
      refine lv_goto hx hb dX8_passes_32 (tgt := 17) (by decide) ?_
      exact ih hR hS (hL.sub [2, 3, 1, 0] rfl) hw ⟨by omega, by omega⟩
theorem tk_X8_passes {l : Launch} {D : tD} {B : Nat} {Q : Int32 → aH → Prop} {a0 : Nat} {x1 : Int32} : Met l yX8_passes (ws_ yX8_passes cX8_passes 4 ((Option.some Jvm.ClassFile.FieldType.int))) rm_X8_passes (th_P D B [rv a0, .int x1] (fun G => tw_X8_passes Q G a0 x1)) (th_Qi D B Q) 0 0 (th_A B) :=
  th_ofW (by decide +kernel) (th_cr (th_ci th_cn)) (Nat.le_of_ble_eq_true rfl) (fun p e s m args below meth c CF hret hlk hnm hK hSt G ls hR hS hw hL => by
    have E : th_E p m c cX8_passes 4 s args RX8 meth ((Option.some Jvm.ClassFile.FieldType.int)) "passes" D B := ⟨CF, hret, hlk, hnm, hK, hSt⟩
    have hx := CF.1; have hb := CF.2.1
    have hL : th_L ls 4 [(0, rv a0), (1, .int x1)] := hL
    unfold tw_X8_passes at hw
    refine lv_iload_n hx hb dX8_passes_0 rfl (lv_at hL.1 1 rfl) ?_
    refine lv_iconst hx hb dX8_passes_1 (v := 1) rfl ?_
    refine lv_bipush hx hb dX8_passes_2 (v := 30) rfl ?_
    refine th_ki hS (th_rS CF hK hSt hR hS (rest := []) (tk_X8_isIn) (cw_X8_56 CF hK (by decide +kernel)) hw rfl hL.1.1 rfl th_cn (Nat.le_of_ble_eq_true rfl) dX8_passes_4 ⟨by show _ ≤ (0 : Nat); omega, by show _ ≤ (0 : Nat); omega⟩) (fun r2 G1 H locs hw hR hS => ?_)
    refine lv_if_ne hx hb dX8_passes_7 (tgt := 13) (by decide) (fun h => ?_) (fun h => ?_)
    · replace hw := hw.1 h
      refine lv_iconst hx hb dX8_passes_13 (v := 0) rfl ?_
      refine th_istore_n hx hb dX8_passes_14 rfl hL (by decide) rfl (fun ls hL => ?_)
      refine lv_iconst hx hb dX8_passes_15 (v := 0) rfl ?_
      refine th_istore_n hx hb dX8_passes_16 rfl hL (by decide) rfl (fun ls hL => ?_)
      obtain ⟨n9, hw⟩ := hw
      exact tk_X8_passes_b17 E n9 hR hS (hL.sub [2, 3, 1, 0] rfl) hw ⟨by omega, by omega⟩
    · replace hw := hw.2 h
      refine lv_bipush hx hb dX8_passes_10 (v := (-2)) rfl ?_
      exact th_iret hx hb hret hlk hR hS hw (by omega) (by omega) dX8_passes_12)
def tw_X8_pass (Q : Int32 → aH → Prop) (G : aH) (a0 : Nat) (x1 : Int32) : Prop :=
  th_o G a0 8 ∧ (
  (tw_X8_starts
    (fun (G1 : aH) =>
      th_o G1 a0 8 ∧ (
      (tw_X8_passes
        (fun (r3 : Int32) (G2 : aH) =>
          th_o G2 a0 8 ∧ (
          (tw_X8_ends
            (fun (r5 : Int32) (G4 : aH) =>
              Q r5 G4)
            G2 a0 r3)))
        G1 a0 x1)))
    G a0))
theorem tk_X8_pass {l : Launch} {D : tD} {B : Nat} {Q : Int32 → aH → Prop} {a0 : Nat} {x1 : Int32} : Met l yX8_pass (ws_ yX8_pass cX8_pass 2 ((Option.some Jvm.ClassFile.FieldType.int))) rm_X8_pass (th_P D B [rv a0, .int x1] (fun G => tw_X8_pass Q G a0 x1)) (th_Qi D B Q) 0 0 (th_A B) :=
  th_ofW (by decide +kernel) (th_cr (th_ci th_cn)) (Nat.le_of_ble_eq_true rfl) (fun p e s m args below meth c CF hret hlk hnm hK hSt G ls hR hS hw hL => by
    have E : th_E p m c cX8_pass 2 s args RX8 meth ((Option.some Jvm.ClassFile.FieldType.int)) "pass" D B := ⟨CF, hret, hlk, hnm, hK, hSt⟩
    have hx := CF.1; have hb := CF.2.1
    have hL : th_L ls 2 [(0, rv a0), (1, .int x1)] := hL
    unfold tw_X8_pass at hw
    refine th_aload_n hx hb dX8_pass_0 rfl (lv_at hL.1 0 rfl) ?_
    obtain ⟨ho, hw⟩ := hw
    refine th_kv hS (th_rV CF hK hSt hR hS ho (ci := 8) rfl (rest := []) (tk_X8_starts) (cw_X8_97 CF hK (by decide +kernel)) hw rfl hL.1.1 rfl th_cn (Nat.le_of_ble_eq_true rfl) dX8_pass_1 ⟨by show _ ≤ (0 : Nat); omega, by show _ ≤ (0 : Nat); omega⟩) (fun G1 H locs hw hR hS => ?_)
    refine th_aload_n hx hb dX8_pass_4 rfl (lv_at hL.1 0 rfl) ?_
    refine th_aload_n hx hb dX8_pass_5 rfl (lv_at hL.1 0 rfl) ?_
    refine lv_iload_n hx hb dX8_pass_6 rfl (lv_at hL.1 1 rfl) ?_
    obtain ⟨ho, hw⟩ := hw
    refine th_ki hS (th_rV CF hK hSt hR hS ho (ci := 8) rfl (rest := [rv a0]) (tk_X8_passes) (cw_X8_223 CF hK (by decide +kernel)) hw rfl hL.1.1 rfl (th_cr th_cn) (Nat.le_of_ble_eq_true rfl) dX8_pass_7 ⟨by show _ ≤ (0 : Nat); omega, by show _ ≤ (0 : Nat); omega⟩) (fun r3 G2 H locs hw hR hS => ?_)
    obtain ⟨ho, hw⟩ := hw
    refine th_ki hS (th_rV CF hK hSt hR hS ho (ci := 8) rfl (rest := []) (tk_X8_ends) (cw_X8_104 CF hK (by decide +kernel)) hw rfl hL.1.1 rfl th_cn (Nat.le_of_ble_eq_true rfl) dX8_pass_10 ⟨by show _ ≤ (0 : Nat); omega, by show _ ≤ (0 : Nat); omega⟩) (fun r5 G4 H locs hw hR hS => ?_)
    exact th_iret hx hb hret hlk hR hS hw (by omega) (by omega) dX8_pass_13)
