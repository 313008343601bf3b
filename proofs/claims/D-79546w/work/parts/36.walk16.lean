/-! WALKS: X8_readsAll X8_unlike X8_threshes X8_sells X8_stops X8_does X8_script -/
set_option maxRecDepth 100000
def tw_X8_readsAll_b59 (Q : aH → Prop) (k19 : aH → Nat → Prop) (G : aH) (a0 : Nat) : Prop :=
  k19 G a0
def tw_X8_readsAll_b19 (Q : aH → Prop) : Nat → aH → Nat → Prop := fun n => Nat.rec (motive := fun _ => aH → Nat → Prop) (fun _ _ => False) (fun _ ih G a0 =>
  th_o G a0 8 ∧ (
  (¬ a_mi G a0 19 = (-1) →
    Q G) ∧
  (a_mi G a0 19 = (-1) →
    th_o G a0 8 ∧ (
    th_o G a0 8 ∧ (
    (a_mi G a0 17 ≤ a_mi G a0 18 →
      Q G) ∧
    (¬ a_mi G a0 17 ≤ a_mi G a0 18 →
      th_o G a0 8 ∧ (
      (tw_X8_reads
        (fun (r6 : Int32) (G5 : aH) =>
          th_o G5 a0 8 ∧ (
          (¬ a_mi G5 a0 19 = (-1) →
            tw_X8_readsAll_b59 Q (ih) G5 a0) ∧
          (a_mi G5 a0 19 = (-1) →
            th_o G5 a0 8 ∧ (
            (tw_X8_readsCommand
              (fun (G7 : aH) =>
                tw_X8_readsAll_b59 Q (ih) G7 a0)
              G5 a0)))))
        G a0 59 59)))))))) n
theorem tws_X8_readsAll_b19 (Q : aH → Prop) (n : Nat) (G : aH) (a0 : Nat) : tw_X8_readsAll_b19 Q (n + 1) G a0 = (
  th_o G a0 8 ∧ (
  (¬ a_mi G a0 19 = (-1) →
    Q G) ∧
  (a_mi G a0 19 = (-1) →
    th_o G a0 8 ∧ (
    th_o G a0 8 ∧ (
    (a_mi G a0 17 ≤ a_mi G a0 18 →
      Q G) ∧
    (¬ a_mi G a0 17 ≤ a_mi G a0 18 →
      th_o G a0 8 ∧ (
      (tw_X8_reads
        (fun (r6 : Int32) (G5 : aH) =>
          th_o G5 a0 8 ∧ (
          (¬ a_mi G5 a0 19 = (-1) →
            tw_X8_readsAll_b59 Q (tw_X8_readsAll_b19 Q n) G5 a0) ∧
          (a_mi G5 a0 19 = (-1) →
            th_o G5 a0 8 ∧ (
            (tw_X8_readsCommand
              (fun (G7 : aH) =>
                tw_X8_readsAll_b59 Q (tw_X8_readsAll_b19 Q n) G7 a0)
              G5 a0)))))
        G a0 59 59)))))))) := rfl
def tw_X8_readsAll (Q : aH → Prop) (G : aH) (a0 : Nat) : Prop :=
  th_o G a0 8 ∧ (
  ∀ G1 : aH, G1 = a_si G a0 18 0 → 
  th_o G1 a0 8 ∧ (
  ∀ G2 : aH, G2 = a_si G1 a0 19 (-1) → 
  th_o G2 a0 8 ∧ (
  ∀ G3 : aH, G3 = a_si G2 a0 20 0 → 
  th_o G3 a0 8 ∧ (
  (tw_X8_readsCommand
    (fun (G4 : aH) =>
      ∃ n9 : Nat, tw_X8_readsAll_b19 Q n9 G4 a0)
    G3 a0)))))
theorem tk_X8_readsAll_b59 {p : Program} {l : Launch} {e : Env} {s : State} {m : MethodId} {args : Array Value} {below : List Frame} {meth : Method} {c : Code} {D : tD} {B : Nat} (E : th_E p m c cX8_readsAll 2 s args RX8 meth ((Option.none : Option Jvm.ClassFile.FieldType)) "readsAll" D B) {Q : aH → Prop} {k19 : aH → Nat → Prop} {c19 s19 : Nat} (h19 : ∀ (G : aH) (H : Heap) (locs : List Loc) (cells slots : Nat) (ls : Array Slot) (y19_0 : Nat), k19 G y19_0 → th_H D B G H → va_S (th_A B) s.heap H locs → th_L ls 2 [(0, rv y19_0)] → cells ≤ c19 ∧ slots ≤ s19 → W p l e rm_X8_readsAll s m args below meth c H locs cells slots (MQ below (th_Qv D B Q) args s 0 0 (th_A B)) (F0 m 19 ls [])) {G : aH} {H : Heap} {locs : List Loc} {cells slots : Nat} {ls : Array Slot} {a0 : Nat} (hR : th_H D B G H) (hS : va_S (th_A B) s.heap H locs) (hL : th_L ls 2 [(0, rv a0)]) (hw : tw_X8_readsAll_b59 Q k19 G a0) (hc : cells + (0) ≤ 0 ∧ slots + (0) ≤ 0 ∧ cells + (0) ≤ c19 ∧ slots + (0) ≤ s19) : W p l e rm_X8_readsAll s m args below meth c H locs cells slots (MQ below (th_Qv D B Q) args s 0 0 (th_A B)) (F0 m 59 ls []) := by
  have CF := E.1; have hx := CF.1; have hb := CF.2.1; have hret := E.2.1; have hlk := E.2.2.1; have hnm := E.2.2.2.1; have hK := E.2.2.2.2.1; have hSt := E.2.2.2.2.2
  unfold tw_X8_readsAll_b59 at hw
  refine lv_goto hx hb dX8_readsAll_59 (tgt := 19) (by decide) ?_
  exact h19 _ _ _ _ _ _ _ hw hR hS (hL.sub [0] rfl) ⟨by omega, by omega⟩
theorem tk_X8_readsAll_b19 {p : Program} {l : Launch} {e : Env} {s : State} {m : MethodId} {args : Array Value} {below : List Frame} {meth : Method} {c : Code} {D : tD} {B : Nat} (E : th_E p m c cX8_readsAll 2 s args RX8 meth ((Option.none : Option Jvm.ClassFile.FieldType)) "readsAll" D B) {Q : aH → Prop} : ∀ (n : Nat) {G : aH} {H : Heap} {locs : List Loc} {cells slots : Nat} {ls : Array Slot} {a0 : Nat} (hR : th_H D B G H) (hS : va_S (th_A B) s.heap H locs) (hL : th_L ls 2 [(0, rv a0)]) (hw : tw_X8_readsAll_b19 Q n G a0) (hc : cells + (0) ≤ 0 ∧ slots + (0) ≤ 0), W p l e rm_X8_readsAll s m args below meth c H locs cells slots (MQ below (th_Qv D B Q) args s 0 0 (th_A B)) (F0 m 19 ls []) := by
  have CF := E.1; have hx := CF.1; have hb := CF.2.1; have hret := E.2.1; have hlk := E.2.2.1; have hnm := E.2.2.2.1; have hK := E.2.2.2.2.1; have hSt := E.2.2.2.2.2
  intro n
  induction n with
  | zero => intro _ _ _ _ _ _ _ _ _ _ hw; exact hw.elim
  | succ n ih =>
    intro G H locs cells slots ls a0 hR hS hL hw hc
    rw [tws_X8_readsAll_b19] at hw
    refine th_aload_n hx hb dX8_readsAll_19 rfl (lv_at hL.1 0 rfl) ?_
    obtain ⟨ho, hw⟩ := hw
    refine fg_X8_259 CF hK hR ho dX8_readsAll_20 ?_
    refine lv_iconst hx hb dX8_readsAll_23 (v := (-1)) rfl ?_
    refine lv_icmp_ne hx hb dX8_readsAll_24 (tgt := 62) (by decide) (fun h => ?_) (fun h => ?_)
    · replace hw := hw.1 h
      exact th_vret hx hb hret hlk hR hS hw (by omega) (by omega) dX8_readsAll_62
    · replace hw := hw.2 h
      refine th_aload_n hx hb dX8_readsAll_27 rfl (lv_at hL.1 0 rfl) ?_
      obtain ⟨ho, hw⟩ := hw
      refine fg_X8_253 CF hK hR ho dX8_readsAll_28 ?_
      refine th_aload_n hx hb dX8_readsAll_31 rfl (lv_at hL.1 0 rfl) ?_
      obtain ⟨ho, hw⟩ := hw
      refine fg_X8_256 CF hK hR ho dX8_readsAll_32 ?_
      refine lv_icmp_ge hx hb dX8_readsAll_35 (tgt := 62) (by decide) (fun h => ?_) (fun h => ?_)
      · replace hw := hw.1 h
        exact th_vret hx hb hret hlk hR hS hw (by omega) (by omega) dX8_readsAll_62
      · replace hw := hw.2 h
        refine th_aload_n hx hb dX8_readsAll_38 rfl (lv_at hL.1 0 rfl) ?_
        refine lv_bipush hx hb dX8_readsAll_39 (v := 59) rfl ?_
        refine lv_bipush hx hb dX8_readsAll_41 (v := 59) rfl ?_
        obtain ⟨ho, hw⟩ := hw
        refine th_ki hS (th_rV CF hK hSt hR hS ho (ci := 8) rfl (rest := []) (tk_X8_reads) (cw_X8_265 CF hK (by decide +kernel)) hw rfl hL.1.1 rfl th_cn (Nat.le_of_ble_eq_true rfl) dX8_readsAll_43 ⟨by show _ ≤ (0 : Nat); omega, by show _ ≤ (0 : Nat); omega⟩) (fun r6 G5 H locs hw hR hS => ?_)
        refine th_istore_n hx hb dX8_readsAll_46 rfl hL (by decide) rfl (fun ls hL => ?_)
        refine th_aload_n hx hb dX8_readsAll_47 rfl (lv_at hL.1 1 rfl) ?_
        obtain ⟨ho, hw⟩ := hw
        refine fg_X8_259 CF hK hR ho dX8_readsAll_48 ?_
        refine lv_iconst hx hb dX8_readsAll_51 (v := (-1)) rfl ?_
        refine lv_icmp_ne hx hb dX8_readsAll_52 (tgt := 59) (by decide) (fun h => ?_) (fun h => ?_)
        · replace hw := hw.1 h
          exact tk_X8_readsAll_b59 E (c19 := cells + 0 + 0) (s19 := slots + 0 + 0) (fun G H locs cells slots ls y0 hw hR hS hL hc => ih hR hS hL hw ⟨by omega, by omega⟩) hR hS (hL.sub [1] rfl) hw ⟨by omega, by omega, by omega, by omega⟩
        · replace hw := hw.2 h
          refine th_aload_n hx hb dX8_readsAll_55 rfl (lv_at hL.1 1 rfl) ?_
          obtain ⟨ho, hw⟩ := hw
          refine th_kv hS (th_rV CF hK hSt hR hS ho (ci := 8) rfl (rest := []) (tk_X8_readsCommand) (cw_X8_283 CF hK (by decide +kernel)) hw rfl hL.1.1 rfl th_cn (Nat.le_of_ble_eq_true rfl) dX8_readsAll_56 ⟨by show _ ≤ (0 : Nat); omega, by show _ ≤ (0 : Nat); omega⟩) (fun G7 H locs hw hR hS => ?_)
          exact tk_X8_readsAll_b59 E (c19 := cells + 0 + 0 + 0) (s19 := slots + 0 + 0 + 0) (fun G H locs cells slots ls y0 hw hR hS hL hc => ih hR hS hL hw ⟨by omega, by omega⟩) hR hS (hL.sub [1] rfl) hw ⟨by omega, by omega, by omega, by omega⟩
theorem tk_X8_readsAll {l : Launch} {D : tD} {B : Nat} {Q : aH → Prop} {a0 : Nat} : Met l yX8_readsAll (ws_ yX8_readsAll cX8_readsAll 2 ((Option.none : Option Jvm.ClassFile.FieldType))) rm_X8_readsAll (th_P D B [rv a0] (fun G => tw_X8_readsAll Q G a0)) (th_Qv D B Q) 0 0 (th_A B) :=
  th_ofW (by decide +kernel) (th_cr th_cn) (Nat.le_of_ble_eq_true rfl) (fun p e s m args below meth c CF hret hlk hnm hK hSt G ls hR hS hw hL => by
    have E : th_E p m c cX8_readsAll 2 s args RX8 meth ((Option.none : Option Jvm.ClassFile.FieldType)) "readsAll" D B := ⟨CF, hret, hlk, hnm, hK, hSt⟩
    have hx := CF.1; have hb := CF.2.1
    have hL : th_L ls 2 [(0, rv a0)] := hL
    unfold tw_X8_readsAll at hw
    refine th_aload_n hx hb dX8_readsAll_0 rfl (lv_at hL.1 0 rfl) ?_
    refine lv_iconst hx hb dX8_readsAll_1 (v := 0) rfl ?_
    obtain ⟨ho, hw⟩ := hw
    refine fp_X8_253 CF hK hR hS ho dX8_readsAll_2 (fun G1 H locs hG hR hS => ?_)
    replace hw := hw G1 hG
    refine th_aload_n hx hb dX8_readsAll_5 rfl (lv_at hL.1 0 rfl) ?_
    refine lv_iconst hx hb dX8_readsAll_6 (v := (-1)) rfl ?_
    obtain ⟨ho, hw⟩ := hw
    refine fp_X8_259 CF hK hR hS ho dX8_readsAll_7 (fun G2 H locs hG hR hS => ?_)
    replace hw := hw G2 hG
    refine th_aload_n hx hb dX8_readsAll_10 rfl (lv_at hL.1 0 rfl) ?_
    refine lv_iconst hx hb dX8_readsAll_11 (v := 0) rfl ?_
    obtain ⟨ho, hw⟩ := hw
    refine fp_X8_268 CF hK hR hS ho dX8_readsAll_12 (fun G3 H locs hG hR hS => ?_)
    replace hw := hw G3 hG
    refine th_aload_n hx hb dX8_readsAll_15 rfl (lv_at hL.1 0 rfl) ?_
    obtain ⟨ho, hw⟩ := hw
    refine th_kv hS (th_rV CF hK hSt hR hS ho (ci := 8) rfl (rest := []) (tk_X8_readsCommand) (cw_X8_283 CF hK (by decide +kernel)) hw rfl hL.1.1 rfl th_cn (Nat.le_of_ble_eq_true rfl) dX8_readsAll_16 ⟨by show _ ≤ (0 : Nat); omega, by show _ ≤ (0 : Nat); omega⟩) (fun G4 H locs hw hR hS => ?_)
    obtain ⟨n9, hw⟩ := hw
    exact tk_X8_readsAll_b19 E n9 hR hS (hL.sub [0] rfl) hw ⟨by omega, by omega⟩)
def tw_X8_unlike_b57 (Q : Int32 → aH → Prop) (k14 : aH → Nat → Int32 → Int32 → Int32 → Int32 → Int32 → Prop) (G : aH) (a0 : Nat) (x1 : Int32) (x2 : Int32) (x3 : Int32) (x5 : Int32) (tx0 : Int32) : Prop :=
  ∀ x5_8 : Int32, x5_8 = x5 + 1 → 
  k14 G a0 x1 x2 x3 tx0 x5_8
def tw_X8_unlike_b14 (Q : Int32 → aH → Prop) : Nat → aH → Nat → Int32 → Int32 → Int32 → Int32 → Int32 → Prop := fun n => Nat.rec (motive := fun _ => aH → Nat → Int32 → Int32 → Int32 → Int32 → Int32 → Prop) (fun _ _ _ _ _ _ _ => False) (fun _ ih G a0 x1 x2 x3 x4 x5 =>
  (x2 ≤ x5 →
    Q x4 G) ∧
  (¬ x2 ≤ x5 →
    (¬ x4 = (-1) →
      Q x4 G) ∧
    (x4 = (-1) →
      th_o G a0 8 ∧ (
      (tw_X8_kindOf
        (fun (r5 : Int32) (G4 : aH) =>
          th_o G4 a0 8 ∧ (
          (tw_X8_kindOf
            (fun (r7 : Int32) (G6 : aH) =>
              (r5 = r7 →
                tw_X8_unlike_b57 Q (ih) G6 a0 x1 x2 x3 x5 (-1)) ∧
              (¬ r5 = r7 →
                th_o G6 a0 8 ∧ (
                (tw_X8_kindOf
                  (fun (r10 : Int32) (G9 : aH) =>
                    tw_X8_unlike_b57 Q (ih) G9 a0 x1 x2 x3 x5 r10)
                  G6 a0 x1 (x3 - x5)))))
            G4 a0 x1 x3)))
        G a0 x1 (x3 - x5)))))) n
theorem tws_X8_unlike_b14 (Q : Int32 → aH → Prop) (n : Nat) (G : aH) (a0 : Nat) (x1 : Int32) (x2 : Int32) (x3 : Int32) (x4 : Int32) (x5 : Int32) : tw_X8_unlike_b14 Q (n + 1) G a0 x1 x2 x3 x4 x5 = (
  (x2 ≤ x5 →
    Q x4 G) ∧
  (¬ x2 ≤ x5 →
    (¬ x4 = (-1) →
      Q x4 G) ∧
    (x4 = (-1) →
      th_o G a0 8 ∧ (
      (tw_X8_kindOf
        (fun (r5 : Int32) (G4 : aH) =>
          th_o G4 a0 8 ∧ (
          (tw_X8_kindOf
            (fun (r7 : Int32) (G6 : aH) =>
              (r5 = r7 →
                tw_X8_unlike_b57 Q (tw_X8_unlike_b14 Q n) G6 a0 x1 x2 x3 x5 (-1)) ∧
              (¬ r5 = r7 →
                th_o G6 a0 8 ∧ (
                (tw_X8_kindOf
                  (fun (r10 : Int32) (G9 : aH) =>
                    tw_X8_unlike_b57 Q (tw_X8_unlike_b14 Q n) G9 a0 x1 x2 x3 x5 r10)
                  G6 a0 x1 (x3 - x5)))))
            G4 a0 x1 x3)))
        G a0 x1 (x3 - x5)))))) := rfl
def tw_X8_unlike (Q : Int32 → aH → Prop) (G : aH) (a0 : Nat) (x1 : Int32) (x2 : Int32) : Prop :=
  th_o G a0 8 ∧ (
  (tw_X8_inBay
    (fun (r2 : Int32) (G1 : aH) =>
      ∀ x3_3 : Int32, x3_3 = r2 - 1 → 
      ∃ n9 : Nat, tw_X8_unlike_b14 Q n9 G1 a0 x1 x2 x3_3 (-1) 0)
    G a0 x1))
theorem tk_X8_unlike_b57 {p : Program} {l : Launch} {e : Env} {s : State} {m : MethodId} {args : Array Value} {below : List Frame} {meth : Method} {c : Code} {D : tD} {B : Nat} (E : th_E p m c cX8_unlike 6 s args RX8 meth ((Option.some Jvm.ClassFile.FieldType.int)) "unlike" D B) {Q : Int32 → aH → Prop} {k14 : aH → Nat → Int32 → Int32 → Int32 → Int32 → Int32 → Prop} {c14 s14 : Nat} (h14 : ∀ (G : aH) (H : Heap) (locs : List Loc) (cells slots : Nat) (ls : Array Slot) (y14_0 : Nat) (y14_1 : Int32) (y14_2 : Int32) (y14_3 : Int32) (y14_4 : Int32) (y14_5 : Int32), k14 G y14_0 y14_1 y14_2 y14_3 y14_4 y14_5 → th_H D B G H → va_S (th_A B) s.heap H locs → th_L ls 6 [(0, rv y14_0), (1, .int y14_1), (2, .int y14_2), (3, .int y14_3), (4, .int y14_4), (5, .int y14_5)] → cells ≤ c14 ∧ slots ≤ s14 → W p l e rm_X8_unlike s m args below meth c H locs cells slots (MQ below (th_Qi D B Q) args s 0 0 (th_A B)) (F0 m 14 ls [])) {G : aH} {H : Heap} {locs : List Loc} {cells slots : Nat} {ls : Array Slot} {a0 : Nat} {x1 : Int32} {x2 : Int32} {x3 : Int32} {x5 : Int32} {tx0 : Int32} (hR : th_H D B G H) (hS : va_S (th_A B) s.heap H locs) (hL : th_L ls 6 [(0, rv a0), (1, .int x1), (2, .int x2), (3, .int x3), (5, .int x5)]) (hw : tw_X8_unlike_b57 Q k14 G a0 x1 x2 x3 x5 tx0) (hc : cells + (0) ≤ 0 ∧ slots + (0) ≤ 0 ∧ cells + (0) ≤ c14 ∧ slots + (0) ≤ s14) : W p l e rm_X8_unlike s m args below meth c H locs cells slots (MQ below (th_Qi D B Q) args s 0 0 (th_A B)) (F0 m 57 ls [.int tx0]) := by
  have CF := E.1; have hx := CF.1; have hb := CF.2.1; have hret := E.2.1; have hlk := E.2.2.1; have hnm := E.2.2.2.1; have hK := E.2.2.2.2.1; have hSt := E.2.2.2.2.2
  unfold tw_X8_unlike_b57 at hw
  refine th_istore hx hb dX8_unlike_57 hL (by decide) rfl (fun ls hL => ?_)
  obtain ⟨x5_8, hx5_8⟩ : ∃ y : Int32, y = x5 + 1 := ⟨_, rfl⟩
  replace hw := hw x5_8 hx5_8
  refine th_iinc hx hb dX8_unlike_59 hL (k := 5) rfl (v := x5_8) hx5_8.symm (by decide) rfl (fun ls hL => ?_)
  refine lv_goto hx hb dX8_unlike_62 (tgt := 14) (by decide) ?_
  exact h14 _ _ _ _ _ _ _ _ _ _ _ _ hw hR hS (hL.sub [2, 3, 4, 5, 1, 0] rfl) ⟨by omega, by omega⟩
theorem tk_X8_unlike_b14 {p : Program} {l : Launch} {e : Env} {s : State} {m : MethodId} {args : Array Value} {below : List Frame} {meth : Method} {c : Code} {D : tD} {B : Nat} (E : th_E p m c cX8_unlike 6 s args RX8 meth ((Option.some Jvm.ClassFile.FieldType.int)) "unlike" D B) {Q : Int32 → aH → Prop} : ∀ (n : Nat) {G : aH} {H : Heap} {locs : List Loc} {cells slots : Nat} {ls : Array Slot} {a0 : Nat} {x1 : Int32} {x2 : Int32} {x3 : Int32} {x4 : Int32} {x5 : Int32} (hR : th_H D B G H) (hS : va_S (th_A B) s.heap H locs) (hL : th_L ls 6 [(0, rv a0), (1, .int x1), (2, .int x2), (3, .int x3), (4, .int x4), (5, .int x5)]) (hw : tw_X8_unlike_b14 Q n G a0 x1 x2 x3 x4 x5) (hc : cells + (0) ≤ 0 ∧ slots + (0) ≤ 0), W p l e rm_X8_unlike s m args below meth c H locs cells slots (MQ below (th_Qi D B Q) args s 0 0 (th_A B)) (F0 m 14 ls []) := by
  have CF := E.1; have hx := CF.1; have hb := CF.2.1; have hret := E.2.1; have hlk := E.2.2.1; have hnm := E.2.2.2.1; have hK := E.2.2.2.2.1; have hSt := E.2.2.2.2.2
  intro n
  induction n with
  | zero => intro _ _ _ _ _ _ _ _ _ _ _ _ _ _ _ hw; exact hw.elim
  | succ n ih =>
    intro G H locs cells slots ls a0 x1 x2 x3 x4 x5 hR hS hL hw hc
    rw [tws_X8_unlike_b14] at hw
    refine lv_iload hx hb dX8_unlike_14 (lv_at hL.1 5 rfl) ?_
    refine lv_iload_n hx hb dX8_unlike_16 rfl (lv_at hL.1 2 rfl) ?_
    refine lv_icmp_ge hx hb dX8_unlike_17 (tgt := 65) (by decide) (fun h => ?_) (fun h => ?_)
    · replace hw := hw.1 h
      refine lv_iload hx hb dX8_unlike_65 (lv_at hL.1 4 rfl) ?_
      exact th_iret hx hb hret hlk hR hS hw (by omega) (by omega) dX8_unlike_67
    · replace hw := hw.2 h
      refine lv_iload hx hb dX8_unlike_20 (lv_at hL.1 4 rfl) ?_
      refine lv_iconst hx hb dX8_unlike_22 (v := (-1)) rfl ?_
      refine lv_icmp_ne hx hb dX8_unlike_23 (tgt := 65) (by decide) (fun h => ?_) (fun h => ?_)
      · replace hw := hw.1 h
        refine lv_iload hx hb dX8_unlike_65 (lv_at hL.1 4 rfl) ?_
        exact th_iret hx hb hret hlk hR hS hw (by omega) (by omega) dX8_unlike_67
      · replace hw := hw.2 h
        refine th_aload_n hx hb dX8_unlike_26 rfl (lv_at hL.1 0 rfl) ?_
        refine lv_iload_n hx hb dX8_unlike_27 rfl (lv_at hL.1 1 rfl) ?_
        refine lv_iload_n hx hb dX8_unlike_28 rfl (lv_at hL.1 3 rfl) ?_
        refine lv_iload hx hb dX8_unlike_29 (lv_at hL.1 5 rfl) ?_
        refine lv_isub hx hb dX8_unlike_31 ?_
        obtain ⟨ho, hw⟩ := hw
        refine th_ki hS (th_rV CF hK hSt hR hS ho (ci := 8) rfl (rest := []) (tk_X8_kindOf) (cw_X8_141 CF hK (by decide +kernel)) hw rfl hL.1.1 rfl th_cn (Nat.le_of_ble_eq_true rfl) dX8_unlike_32 ⟨by show _ ≤ (0 : Nat); omega, by show _ ≤ (0 : Nat); omega⟩) (fun r5 G4 H locs hw hR hS => ?_)
        refine th_aload_n hx hb dX8_unlike_35 rfl (lv_at hL.1 0 rfl) ?_
        refine lv_iload_n hx hb dX8_unlike_36 rfl (lv_at hL.1 1 rfl) ?_
        refine lv_iload_n hx hb dX8_unlike_37 rfl (lv_at hL.1 3 rfl) ?_
        obtain ⟨ho, hw⟩ := hw
        refine th_ki hS (th_rV CF hK hSt hR hS ho (ci := 8) rfl (rest := [.int r5]) (tk_X8_kindOf) (cw_X8_141 CF hK (by decide +kernel)) hw rfl hL.1.1 rfl (th_ci th_cn) (Nat.le_of_ble_eq_true rfl) dX8_unlike_38 ⟨by show _ ≤ (0 : Nat); omega, by show _ ≤ (0 : Nat); omega⟩) (fun r7 G6 H locs hw hR hS => ?_)
        refine lv_icmp_eq hx hb dX8_unlike_41 (tgt := 56) (by decide) (fun h => ?_) (fun h => ?_)
        · replace hw := hw.1 h
          refine lv_iconst hx hb dX8_unlike_56 (v := (-1)) rfl ?_
          exact tk_X8_unlike_b57 E (c14 := cells + 0 + 0 + 0) (s14 := slots + 0 + 0 + 0) (fun G H locs cells slots ls y0 y1 y2 y3 y4 y5 hw hR hS hL hc => ih hR hS hL hw ⟨by omega, by omega⟩) hR hS (hL.sub [0, 1, 2, 3, 5] rfl) hw ⟨by omega, by omega, by omega, by omega⟩
        · replace hw := hw.2 h
          refine th_aload_n hx hb dX8_unlike_44 rfl (lv_at hL.1 0 rfl) ?_
          refine lv_iload_n hx hb dX8_unlike_45 rfl (lv_at hL.1 1 rfl) ?_
          refine lv_iload_n hx hb dX8_unlike_46 rfl (lv_at hL.1 3 rfl) ?_
          refine lv_iload hx hb dX8_unlike_47 (lv_at hL.1 5 rfl) ?_
          refine lv_isub hx hb dX8_unlike_49 ?_
          obtain ⟨ho, hw⟩ := hw
          refine th_ki hS (th_rV CF hK hSt hR hS ho (ci := 8) rfl (rest := []) (tk_X8_kindOf) (cw_X8_141 CF hK (by decide +kernel)) hw rfl hL.1.1 rfl th_cn (Nat.le_of_ble_eq_true rfl) dX8_unlike_50 ⟨by show _ ≤ (0 : Nat); omega, by show _ ≤ (0 : Nat); omega⟩) (fun r10 G9 H locs hw hR hS => ?_)
          refine lv_goto hx hb dX8_unlike_53 (tgt := 57) (by decide) ?_
          exact tk_X8_unlike_b57 E (c14 := cells + 0 + 0 + 0 + 0) (s14 := slots + 0 + 0 + 0 + 0) (fun G H locs cells slots ls y0 y1 y2 y3 y4 y5 hw hR hS hL hc => ih hR hS hL hw ⟨by omega, by omega⟩) hR hS (hL.sub [0, 1, 2, 3, 5] rfl) hw ⟨by omega, by omega, by omega, by omega⟩
theorem tk_X8_unlike {l : Launch} {D : tD} {B : Nat} {Q : Int32 → aH → Prop} {a0 : Nat} {x1 : Int32} {x2 : Int32} : Met l yX8_unlike (ws_ yX8_unlike cX8_unlike 6 ((Option.some Jvm.ClassFile.FieldType.int))) rm_X8_unlike (th_P D B [rv a0, .int x1, .int x2] (fun G => tw_X8_unlike Q G a0 x1 x2)) (th_Qi D B Q) 0 0 (th_A B) :=
  th_ofW (by decide +kernel) (th_cr (th_ci (th_ci th_cn))) (Nat.le_of_ble_eq_true rfl) (fun p e s m args below meth c CF hret hlk hnm hK hSt G ls hR hS hw hL => by
    have E : th_E p m c cX8_unlike 6 s args RX8 meth ((Option.some Jvm.ClassFile.FieldType.int)) "unlike" D B := ⟨CF, hret, hlk, hnm, hK, hSt⟩
    have hx := CF.1; have hb := CF.2.1
    have hL : th_L ls 6 [(0, rv a0), (1, .int x1), (2, .int x2)] := hL
    unfold tw_X8_unlike at hw
    refine th_aload_n hx hb dX8_unlike_0 rfl (lv_at hL.1 0 rfl) ?_
    refine lv_iload_n hx hb dX8_unlike_1 rfl (lv_at hL.1 1 rfl) ?_
    obtain ⟨ho, hw⟩ := hw
    refine th_ki hS (th_rV CF hK hSt hR hS ho (ci := 8) rfl (rest := []) (tk_X8_inBay) (cw_X8_128 CF hK (by decide +kernel)) hw rfl hL.1.1 rfl th_cn (Nat.le_of_ble_eq_true rfl) dX8_unlike_2 ⟨by show _ ≤ (0 : Nat); omega, by show _ ≤ (0 : Nat); omega⟩) (fun r2 G1 H locs hw hR hS => ?_)
    refine lv_iconst hx hb dX8_unlike_5 (v := 1) rfl ?_
    refine lv_isub hx hb dX8_unlike_6 ?_
    obtain ⟨x3_3, hx3_3⟩ : ∃ y : Int32, y = r2 - 1 := ⟨_, rfl⟩
    replace hw := hw x3_3 hx3_3
    refine th_nmi hx3_3 ?_
    refine th_istore_n hx hb dX8_unlike_7 rfl hL (by decide) rfl (fun ls hL => ?_)
    refine lv_iconst hx hb dX8_unlike_8 (v := (-1)) rfl ?_
    refine th_istore hx hb dX8_unlike_9 hL (by decide) rfl (fun ls hL => ?_)
    refine lv_iconst hx hb dX8_unlike_11 (v := 0) rfl ?_
    refine th_istore hx hb dX8_unlike_12 hL (by decide) rfl (fun ls hL => ?_)
    obtain ⟨n9, hw⟩ := hw
    exact tk_X8_unlike_b14 E n9 hR hS (hL.sub [3, 4, 5, 2, 1, 0] rfl) hw ⟨by omega, by omega⟩)
def tw_X8_threshes_b124 (Q : Int32 → aH → Prop) (G : aH) (a0 : Nat) (x1 : Int32) (x2 : Int32) (x3 : Int32) (x5 : Int32) : Prop :=
  th_o G a0 8 ∧ (
  (tw_X8_floor
    (fun (r18 : Int32) (G17 : aH) =>
      (x3 ≤ 20 - r18 →
        th_o G17 a0 8 ∧ (
        (tw_X8_takes
          (fun (G19 : aH) =>
            th_o G19 a0 8 ∧ (
            th_ai G19 (a_mr G19 a0 0) 0 (383 + (4 * x1)) ∧ (
            th_ai G19 (a_mr G19 a0 0) 0 (383 + (4 * x1)) ∧ (
            ∀ G20 : aH, G20 = a_si G19 (a_mr G19 a0 0) (383 + (4 * x1)).toNatClampNeg ((a_mi G19 (a_mr G19 a0 0) (383 + (4 * x1)).toNatClampNeg) + x3) → 
            th_o G20 a0 8 ∧ (
            th_ai G20 (a_mr G20 a0 0) 0 ((383 + (4 * x1)) + 1) ∧ (
            ∀ G21 : aH, G21 = a_si G20 (a_mr G20 a0 0) ((383 + (4 * x1)) + 1).toNatClampNeg x5 → 
            th_o G21 a0 8 ∧ (
            (tw_X8_floor
              (fun (r23 : Int32) (G22 : aH) =>
                Q r23 G22)
              G21 a0 x1 0))))))))
          G17 a0 x2 x3))) ∧
      (¬ x3 ≤ 20 - r18 →
        th_o G17 a0 8 ∧ (
        (tw_X8_floor
          (fun (r25 : Int32) (G24 : aH) =>
            th_o G24 a0 8 ∧ (
            (tw_X8_refuses
              (fun (r27 : Int32) (G26 : aH) =>
                Q r27 G26)
              G24 a0 6 (20 - r25) 0 0)))
          G17 a0 x1 0))))
    G a0 x1 0))
def tw_X8_threshes (Q : Int32 → aH → Prop) (G : aH) (a0 : Nat) (x1 : Int32) (x2 : Int32) (x3 : Int32) : Prop :=
  (tw_X8_isFloor
    (fun (r2 : Int32) (G1 : aH) =>
      (r2 = 0 →
        Q (-1) G1) ∧
      (¬ r2 = 0 →
        (tw_X8_isBay
          (fun (r4 : Int32) (G3 : aH) =>
            (¬ r4 = 0 →
              (tw_X8_isIn
                (fun (r6 : Int32) (G5 : aH) =>
                  (¬ r6 = 0 →
                    th_o G5 a0 8 ∧ (
                    (tw_X8_inBay
                      (fun (r8 : Int32) (G7 : aH) =>
                        (x3 ≤ r8 →
                          th_o G7 a0 8 ∧ (
                          (tw_X8_unlike
                            (fun (r10 : Int32) (G9 : aH) =>
                              (r10 = (-1) →
                                th_o G9 a0 8 ∧ (
                                (tw_X8_inBay
                                  (fun (r12 : Int32) (G11 : aH) =>
                                    th_o G11 a0 8 ∧ (
                                    (tw_X8_kindOf
                                      (fun (r14 : Int32) (G13 : aH) =>
                                        th_o G13 a0 8 ∧ (
                                        (tw_X8_floor
                                          (fun (r16 : Int32) (G15 : aH) =>
                                            (r16 ≤ 0 →
                                              tw_X8_threshes_b124 Q G15 a0 x1 x2 x3 r14) ∧
                                            (¬ r16 ≤ 0 →
                                              th_o G15 a0 8 ∧ (
                                              (tw_X8_floor
                                                (fun (r29 : Int32) (G28 : aH) =>
                                                  (r29 = r14 →
                                                    tw_X8_threshes_b124 Q G28 a0 x1 x2 x3 r14) ∧
                                                  (¬ r29 = r14 →
                                                    th_o G28 a0 8 ∧ (
                                                    (tw_X8_floor
                                                      (fun (r31 : Int32) (G30 : aH) =>
                                                        th_o G30 a0 8 ∧ (
                                                        (tw_X8_refuses
                                                          (fun (r33 : Int32) (G32 : aH) =>
                                                            Q r33 G32)
                                                          G30 a0 5 r31 0 0)))
                                                      G28 a0 x1 1))))
                                                G15 a0 x1 1))))
                                          G13 a0 x1 0)))
                                      G11 a0 x2 (r12 - 1))))
                                  G9 a0 x2))) ∧
                              (¬ r10 = (-1) →
                                th_o G9 a0 8 ∧ (
                                (tw_X8_refuses
                                  (fun (r35 : Int32) (G34 : aH) =>
                                    Q r35 G34)
                                  G9 a0 7 r10 0 0))))
                            G7 a0 x2 x3))) ∧
                        (¬ x3 ≤ r8 →
                          th_o G7 a0 8 ∧ (
                          (tw_X8_inBay
                            (fun (r37 : Int32) (G36 : aH) =>
                              th_o G36 a0 8 ∧ (
                              (tw_X8_refuses
                                (fun (r39 : Int32) (G38 : aH) =>
                                  Q r39 G38)
                                G36 a0 4 r37 0 0)))
                            G7 a0 x2))))
                      G5 a0 x2))) ∧
                  (r6 = 0 →
                    Q (-2) G5))
                G3 x3 1 20)) ∧
            (r4 = 0 →
              Q (-1) G3))
          G1 x2)))
    G x1)
theorem tk_X8_threshes_b124 {p : Program} {l : Launch} {e : Env} {s : State} {m : MethodId} {args : Array Value} {below : List Frame} {meth : Method} {c : Code} {D : tD} {B : Nat} (E : th_E p m c cX8_threshes 6 s args RX8 meth ((Option.some Jvm.ClassFile.FieldType.int)) "threshes" D B) {Q : Int32 → aH → Prop} {G : aH} {H : Heap} {locs : List Loc} {cells slots : Nat} {ls : Array Slot} {a0 : Nat} {x1 : Int32} {x2 : Int32} {x3 : Int32} {x5 : Int32} (hR : th_H D B G H) (hS : va_S (th_A B) s.heap H locs) (hL : th_L ls 6 [(0, rv a0), (1, .int x1), (2, .int x2), (3, .int x3), (5, .int x5)]) (hw : tw_X8_threshes_b124 Q G a0 x1 x2 x3 x5) (hc : cells + (0) ≤ 0 ∧ slots + (0) ≤ 0) : W p l e rm_X8_threshes s m args below meth c H locs cells slots (MQ below (th_Qi D B Q) args s 0 0 (th_A B)) (F0 m 124 ls []) := by
  have CF := E.1; have hx := CF.1; have hb := CF.2.1; have hret := E.2.1; have hlk := E.2.2.1; have hnm := E.2.2.2.1; have hK := E.2.2.2.2.1; have hSt := E.2.2.2.2.2
  unfold tw_X8_threshes_b124 at hw
  refine lv_bipush hx hb dX8_threshes_124 (v := 20) rfl ?_
  refine th_aload_n hx hb dX8_threshes_126 rfl (lv_at hL.1 0 rfl) ?_
  refine lv_iload_n hx hb dX8_threshes_127 rfl (lv_at hL.1 1 rfl) ?_
  refine lv_iconst hx hb dX8_threshes_128 (v := 0) rfl ?_
  obtain ⟨ho, hw⟩ := hw
  refine th_ki hS (th_rV CF hK hSt hR hS ho (ci := 8) rfl (rest := [.int 20]) (tk_X8_floor) (cw_X8_165 CF hK (by decide +kernel)) hw rfl hL.1.1 rfl (th_ci th_cn) (Nat.le_of_ble_eq_true rfl) dX8_threshes_129 ⟨by show _ ≤ (0 : Nat); omega, by show _ ≤ (0 : Nat); omega⟩) (fun r18 G17 H locs hw hR hS => ?_)
  refine lv_isub hx hb dX8_threshes_132 ?_
  refine lv_iload_n hx hb dX8_threshes_133 rfl (lv_at hL.1 3 rfl) ?_
  refine lv_icmp_ge hx hb dX8_threshes_134 (tgt := 155) (by decide) (fun h => ?_) (fun h => ?_)
  · replace hw := hw.1 h
    refine th_aload_n hx hb dX8_threshes_155 rfl (lv_at hL.1 0 rfl) ?_
    refine lv_iload_n hx hb dX8_threshes_156 rfl (lv_at hL.1 2 rfl) ?_
    refine lv_iload_n hx hb dX8_threshes_157 rfl (lv_at hL.1 3 rfl) ?_
    obtain ⟨ho, hw⟩ := hw
    refine th_kv hS (th_rV CF hK hSt hR hS ho (ci := 8) rfl (rest := []) (tk_X8_takes) (cw_X8_168 CF hK (by decide +kernel)) hw rfl hL.1.1 rfl th_cn (Nat.le_of_ble_eq_true rfl) dX8_threshes_158 ⟨by show _ ≤ (0 : Nat); omega, by show _ ≤ (0 : Nat); omega⟩) (fun G19 H locs hw hR hS => ?_)
    refine th_aload_n hx hb dX8_threshes_161 rfl (lv_at hL.1 0 rfl) ?_
    obtain ⟨ho, hw⟩ := hw
    refine fg_X8_9 CF hK hR ho dX8_threshes_162 ?_
    refine lv_sipush hx hb dX8_threshes_165 (v := 383) rfl ?_
    refine lv_iconst hx hb dX8_threshes_168 (v := 4) rfl ?_
    refine lv_iload_n hx hb dX8_threshes_169 rfl (lv_at hL.1 1 rfl) ?_
    refine lv_imul hx hb dX8_threshes_170 ?_
    refine lv_iadd hx hb dX8_threshes_171 ?_
    refine lv_dup2_11 hx hb dX8_threshes_172 rfl (rv_cat _) ?_
    obtain ⟨ha, hw⟩ := hw
    refine th_iald hx hb hK hR ha dX8_threshes_173 ?_
    refine lv_iload_n hx hb dX8_threshes_174 rfl (lv_at hL.1 3 rfl) ?_
    refine lv_iadd hx hb dX8_threshes_175 ?_
    obtain ⟨ha, hw⟩ := hw
    refine th_iast hx hb hK hR hS ha dX8_threshes_176 (fun G20 H locs hG hR hS => ?_)
    replace hw := hw G20 hG
    refine th_aload_n hx hb dX8_threshes_177 rfl (lv_at hL.1 0 rfl) ?_
    obtain ⟨ho, hw⟩ := hw
    refine fg_X8_9 CF hK hR ho dX8_threshes_178 ?_
    refine lv_sipush hx hb dX8_threshes_181 (v := 383) rfl ?_
    refine lv_iconst hx hb dX8_threshes_184 (v := 4) rfl ?_
    refine lv_iload_n hx hb dX8_threshes_185 rfl (lv_at hL.1 1 rfl) ?_
    refine lv_imul hx hb dX8_threshes_186 ?_
    refine lv_iadd hx hb dX8_threshes_187 ?_
    refine lv_iconst hx hb dX8_threshes_188 (v := 1) rfl ?_
    refine lv_iadd hx hb dX8_threshes_189 ?_
    refine lv_iload hx hb dX8_threshes_190 (lv_at hL.1 4 rfl) ?_
    obtain ⟨ha, hw⟩ := hw
    refine th_iast hx hb hK hR hS ha dX8_threshes_192 (fun G21 H locs hG hR hS => ?_)
    replace hw := hw G21 hG
    refine th_aload_n hx hb dX8_threshes_193 rfl (lv_at hL.1 0 rfl) ?_
    refine lv_iload_n hx hb dX8_threshes_194 rfl (lv_at hL.1 1 rfl) ?_
    refine lv_iconst hx hb dX8_threshes_195 (v := 0) rfl ?_
    obtain ⟨ho, hw⟩ := hw
    refine th_ki hS (th_rV CF hK hSt hR hS ho (ci := 8) rfl (rest := []) (tk_X8_floor) (cw_X8_165 CF hK (by decide +kernel)) hw rfl hL.1.1 rfl th_cn (Nat.le_of_ble_eq_true rfl) dX8_threshes_196 ⟨by show _ ≤ (0 : Nat); omega, by show _ ≤ (0 : Nat); omega⟩) (fun r23 G22 H locs hw hR hS => ?_)
    exact th_iret hx hb hret hlk hR hS hw (by omega) (by omega) dX8_threshes_199
  · replace hw := hw.2 h
    refine th_aload_n hx hb dX8_threshes_137 rfl (lv_at hL.1 0 rfl) ?_
    refine lv_bipush hx hb dX8_threshes_138 (v := 6) rfl ?_
    refine lv_bipush hx hb dX8_threshes_140 (v := 20) rfl ?_
    refine th_aload_n hx hb dX8_threshes_142 rfl (lv_at hL.1 0 rfl) ?_
    refine lv_iload_n hx hb dX8_threshes_143 rfl (lv_at hL.1 1 rfl) ?_
    refine lv_iconst hx hb dX8_threshes_144 (v := 0) rfl ?_
    obtain ⟨ho, hw⟩ := hw
    refine th_ki hS (th_rV CF hK hSt hR hS ho (ci := 8) rfl (rest := [.int 20, .int 6, rv a0]) (tk_X8_floor) (cw_X8_165 CF hK (by decide +kernel)) hw rfl hL.1.1 rfl (th_ci (th_ci (th_cr th_cn))) (Nat.le_of_ble_eq_true rfl) dX8_threshes_145 ⟨by show _ ≤ (0 : Nat); omega, by show _ ≤ (0 : Nat); omega⟩) (fun r25 G24 H locs hw hR hS => ?_)
    refine lv_isub hx hb dX8_threshes_148 ?_
    refine lv_iconst hx hb dX8_threshes_149 (v := 0) rfl ?_
    refine lv_iconst hx hb dX8_threshes_150 (v := 0) rfl ?_
    obtain ⟨ho, hw⟩ := hw
    refine th_ki hS (th_rV CF hK hSt hR hS ho (ci := 8) rfl (rest := []) (tk_X8_refuses) (cw_X8_100 CF hK (by decide +kernel)) hw rfl hL.1.1 rfl th_cn (Nat.le_of_ble_eq_true rfl) dX8_threshes_151 ⟨by show _ ≤ (0 : Nat); omega, by show _ ≤ (0 : Nat); omega⟩) (fun r27 G26 H locs hw hR hS => ?_)
    exact th_iret hx hb hret hlk hR hS hw (by omega) (by omega) dX8_threshes_154
theorem tk_X8_threshes {l : Launch} {D : tD} {B : Nat} {Q : Int32 → aH → Prop} {a0 : Nat} {x1 : Int32} {x2 : Int32} {x3 : Int32} : Met l yX8_threshes (ws_ yX8_threshes cX8_threshes 6 ((Option.some Jvm.ClassFile.FieldType.int))) rm_X8_threshes (th_P D B [rv a0, .int x1, .int x2, .int x3] (fun G => tw_X8_threshes Q G a0 x1 x2 x3)) (th_Qi D B Q) 0 0 (th_A B) :=
  th_ofW (by decide +kernel) (th_cr (th_ci (th_ci (th_ci th_cn)))) (Nat.le_of_ble_eq_true rfl) (fun p e s m args below meth c CF hret hlk hnm hK hSt G ls hR hS hw hL => by
    have E : th_E p m c cX8_threshes 6 s args RX8 meth ((Option.some Jvm.ClassFile.FieldType.int)) "threshes" D B := ⟨CF, hret, hlk, hnm, hK, hSt⟩
    have hx := CF.1; have hb := CF.2.1
    have hL : th_L ls 6 [(0, rv a0), (1, .int x1), (2, .int x2), (3, .int x3)] := hL
    unfold tw_X8_threshes at hw
    refine lv_iload_n hx hb dX8_threshes_0 rfl (lv_at hL.1 1 rfl) ?_
    refine th_ki hS (th_rS CF hK hSt hR hS (rest := []) (tk_X8_isFloor) (cw_X8_159 CF hK (by decide +kernel)) hw rfl hL.1.1 rfl th_cn (Nat.le_of_ble_eq_true rfl) dX8_threshes_1 ⟨by show _ ≤ (0 : Nat); omega, by show _ ≤ (0 : Nat); omega⟩) (fun r2 G1 H locs hw hR hS => ?_)
    refine lv_if_eq hx hb dX8_threshes_4 (tgt := 14) (by decide) (fun h => ?_) (fun h => ?_)
    · replace hw := hw.1 h
      refine lv_iconst hx hb dX8_threshes_14 (v := (-1)) rfl ?_
      exact th_iret hx hb hret hlk hR hS hw (by omega) (by omega) dX8_threshes_15
    · replace hw := hw.2 h
      refine lv_iload_n hx hb dX8_threshes_7 rfl (lv_at hL.1 2 rfl) ?_
      refine th_ki hS (th_rS CF hK hSt hR hS (rest := []) (tk_X8_isBay) (cw_X8_122 CF hK (by decide +kernel)) hw rfl hL.1.1 rfl th_cn (Nat.le_of_ble_eq_true rfl) dX8_threshes_8 ⟨by show _ ≤ (0 : Nat); omega, by show _ ≤ (0 : Nat); omega⟩) (fun r4 G3 H locs hw hR hS => ?_)
      refine lv_if_ne hx hb dX8_threshes_11 (tgt := 16) (by decide) (fun h => ?_) (fun h => ?_)
      · replace hw := hw.1 h
        refine lv_iload_n hx hb dX8_threshes_16 rfl (lv_at hL.1 3 rfl) ?_
        refine lv_iconst hx hb dX8_threshes_17 (v := 1) rfl ?_
        refine lv_bipush hx hb dX8_threshes_18 (v := 20) rfl ?_
        refine th_ki hS (th_rS CF hK hSt hR hS (rest := []) (tk_X8_isIn) (cw_X8_56 CF hK (by decide +kernel)) hw rfl hL.1.1 rfl th_cn (Nat.le_of_ble_eq_true rfl) dX8_threshes_20 ⟨by show _ ≤ (0 : Nat); omega, by show _ ≤ (0 : Nat); omega⟩) (fun r6 G5 H locs hw hR hS => ?_)
        refine lv_if_ne hx hb dX8_threshes_23 (tgt := 29) (by decide) (fun h => ?_) (fun h => ?_)
        · replace hw := hw.1 h
          refine th_aload_n hx hb dX8_threshes_29 rfl (lv_at hL.1 0 rfl) ?_
          refine lv_iload_n hx hb dX8_threshes_30 rfl (lv_at hL.1 2 rfl) ?_
          obtain ⟨ho, hw⟩ := hw
          refine th_ki hS (th_rV CF hK hSt hR hS ho (ci := 8) rfl (rest := []) (tk_X8_inBay) (cw_X8_128 CF hK (by decide +kernel)) hw rfl hL.1.1 rfl th_cn (Nat.le_of_ble_eq_true rfl) dX8_threshes_31 ⟨by show _ ≤ (0 : Nat); omega, by show _ ≤ (0 : Nat); omega⟩) (fun r8 G7 H locs hw hR hS => ?_)
          refine lv_iload_n hx hb dX8_threshes_34 rfl (lv_at hL.1 3 rfl) ?_
          refine lv_icmp_ge hx hb dX8_threshes_35 (tgt := 51) (by decide) (fun h => ?_) (fun h => ?_)
          · replace hw := hw.1 h
            refine th_aload_n hx hb dX8_threshes_51 rfl (lv_at hL.1 0 rfl) ?_
            refine lv_iload_n hx hb dX8_threshes_52 rfl (lv_at hL.1 2 rfl) ?_
            refine lv_iload_n hx hb dX8_threshes_53 rfl (lv_at hL.1 3 rfl) ?_
            obtain ⟨ho, hw⟩ := hw
            refine th_ki hS (th_rV CF hK hSt hR hS ho (ci := 8) rfl (rest := []) (tk_X8_unlike) (cw_X8_162 CF hK (by decide +kernel)) hw rfl hL.1.1 rfl th_cn (Nat.le_of_ble_eq_true rfl) dX8_threshes_54 ⟨by show _ ≤ (0 : Nat); omega, by show _ ≤ (0 : Nat); omega⟩) (fun r10 G9 H locs hw hR hS => ?_)
            refine th_istore hx hb dX8_threshes_57 hL (by decide) rfl (fun ls hL => ?_)
            refine lv_iload hx hb dX8_threshes_59 (lv_at hL.1 0 rfl) ?_
            refine lv_iconst hx hb dX8_threshes_61 (v := (-1)) rfl ?_
            refine lv_icmp_eq hx hb dX8_threshes_62 (tgt := 76) (by decide) (fun h => ?_) (fun h => ?_)
            · replace hw := hw.1 h
              refine th_aload_n hx hb dX8_threshes_76 rfl (lv_at hL.1 1 rfl) ?_
              refine lv_iload_n hx hb dX8_threshes_77 rfl (lv_at hL.1 3 rfl) ?_
              refine th_aload_n hx hb dX8_threshes_78 rfl (lv_at hL.1 1 rfl) ?_
              refine lv_iload_n hx hb dX8_threshes_79 rfl (lv_at hL.1 3 rfl) ?_
              obtain ⟨ho, hw⟩ := hw
              refine th_ki hS (th_rV CF hK hSt hR hS ho (ci := 8) rfl (rest := [.int x2, rv a0]) (tk_X8_inBay) (cw_X8_128 CF hK (by decide +kernel)) hw rfl hL.1.1 rfl (th_ci (th_cr th_cn)) (Nat.le_of_ble_eq_true rfl) dX8_threshes_80 ⟨by show _ ≤ (0 : Nat); omega, by show _ ≤ (0 : Nat); omega⟩) (fun r12 G11 H locs hw hR hS => ?_)
              refine lv_iconst hx hb dX8_threshes_83 (v := 1) rfl ?_
              refine lv_isub hx hb dX8_threshes_84 ?_
              obtain ⟨ho, hw⟩ := hw
              refine th_ki hS (th_rV CF hK hSt hR hS ho (ci := 8) rfl (rest := []) (tk_X8_kindOf) (cw_X8_141 CF hK (by decide +kernel)) hw rfl hL.1.1 rfl th_cn (Nat.le_of_ble_eq_true rfl) dX8_threshes_85 ⟨by show _ ≤ (0 : Nat); omega, by show _ ≤ (0 : Nat); omega⟩) (fun r14 G13 H locs hw hR hS => ?_)
              refine th_istore hx hb dX8_threshes_88 hL (by decide) rfl (fun ls hL => ?_)
              refine th_aload_n hx hb dX8_threshes_90 rfl (lv_at hL.1 2 rfl) ?_
              refine lv_iload_n hx hb dX8_threshes_91 rfl (lv_at hL.1 3 rfl) ?_
              refine lv_iconst hx hb dX8_threshes_92 (v := 0) rfl ?_
              obtain ⟨ho, hw⟩ := hw
              refine th_ki hS (th_rV CF hK hSt hR hS ho (ci := 8) rfl (rest := []) (tk_X8_floor) (cw_X8_165 CF hK (by decide +kernel)) hw rfl hL.1.1 rfl th_cn (Nat.le_of_ble_eq_true rfl) dX8_threshes_93 ⟨by show _ ≤ (0 : Nat); omega, by show _ ≤ (0 : Nat); omega⟩) (fun r16 G15 H locs hw hR hS => ?_)
              refine lv_if_le hx hb dX8_threshes_96 (tgt := 124) (by decide) (fun h => ?_) (fun h => ?_)
              · replace hw := hw.1 h
                exact tk_X8_threshes_b124 E hR hS (hL.sub [2, 3, 4, 5, 0] rfl) hw ⟨by omega, by omega⟩
              · replace hw := hw.2 h
                refine th_aload_n hx hb dX8_threshes_99 rfl (lv_at hL.1 2 rfl) ?_
                refine lv_iload_n hx hb dX8_threshes_100 rfl (lv_at hL.1 3 rfl) ?_
                refine lv_iconst hx hb dX8_threshes_101 (v := 1) rfl ?_
                obtain ⟨ho, hw⟩ := hw
                refine th_ki hS (th_rV CF hK hSt hR hS ho (ci := 8) rfl (rest := []) (tk_X8_floor) (cw_X8_165 CF hK (by decide +kernel)) hw rfl hL.1.1 rfl th_cn (Nat.le_of_ble_eq_true rfl) dX8_threshes_102 ⟨by show _ ≤ (0 : Nat); omega, by show _ ≤ (0 : Nat); omega⟩) (fun r29 G28 H locs hw hR hS => ?_)
                refine lv_iload hx hb dX8_threshes_105 (lv_at hL.1 0 rfl) ?_
                refine lv_icmp_eq hx hb dX8_threshes_107 (tgt := 124) (by decide) (fun h => ?_) (fun h => ?_)
                · replace hw := hw.1 h
                  exact tk_X8_threshes_b124 E hR hS (hL.sub [2, 3, 4, 5, 0] rfl) hw ⟨by omega, by omega⟩
                · replace hw := hw.2 h
                  refine th_aload_n hx hb dX8_threshes_110 rfl (lv_at hL.1 2 rfl) ?_
                  refine lv_iconst hx hb dX8_threshes_111 (v := 5) rfl ?_
                  refine th_aload_n hx hb dX8_threshes_112 rfl (lv_at hL.1 2 rfl) ?_
                  refine lv_iload_n hx hb dX8_threshes_113 rfl (lv_at hL.1 3 rfl) ?_
                  refine lv_iconst hx hb dX8_threshes_114 (v := 1) rfl ?_
                  obtain ⟨ho, hw⟩ := hw
                  refine th_ki hS (th_rV CF hK hSt hR hS ho (ci := 8) rfl (rest := [.int 5, rv a0]) (tk_X8_floor) (cw_X8_165 CF hK (by decide +kernel)) hw rfl hL.1.1 rfl (th_ci (th_cr th_cn)) (Nat.le_of_ble_eq_true rfl) dX8_threshes_115 ⟨by show _ ≤ (0 : Nat); omega, by show _ ≤ (0 : Nat); omega⟩) (fun r31 G30 H locs hw hR hS => ?_)
                  refine lv_iconst hx hb dX8_threshes_118 (v := 0) rfl ?_
                  refine lv_iconst hx hb dX8_threshes_119 (v := 0) rfl ?_
                  obtain ⟨ho, hw⟩ := hw
                  refine th_ki hS (th_rV CF hK hSt hR hS ho (ci := 8) rfl (rest := []) (tk_X8_refuses) (cw_X8_100 CF hK (by decide +kernel)) hw rfl hL.1.1 rfl th_cn (Nat.le_of_ble_eq_true rfl) dX8_threshes_120 ⟨by show _ ≤ (0 : Nat); omega, by show _ ≤ (0 : Nat); omega⟩) (fun r33 G32 H locs hw hR hS => ?_)
                  exact th_iret hx hb hret hlk hR hS hw (by omega) (by omega) dX8_threshes_123
            · replace hw := hw.2 h
              refine th_aload_n hx hb dX8_threshes_65 rfl (lv_at hL.1 1 rfl) ?_
              refine lv_bipush hx hb dX8_threshes_66 (v := 7) rfl ?_
              refine lv_iload hx hb dX8_threshes_68 (lv_at hL.1 0 rfl) ?_
              refine lv_iconst hx hb dX8_threshes_70 (v := 0) rfl ?_
              refine lv_iconst hx hb dX8_threshes_71 (v := 0) rfl ?_
              obtain ⟨ho, hw⟩ := hw
              refine th_ki hS (th_rV CF hK hSt hR hS ho (ci := 8) rfl (rest := []) (tk_X8_refuses) (cw_X8_100 CF hK (by decide +kernel)) hw rfl hL.1.1 rfl th_cn (Nat.le_of_ble_eq_true rfl) dX8_threshes_72 ⟨by show _ ≤ (0 : Nat); omega, by show _ ≤ (0 : Nat); omega⟩) (fun r35 G34 H locs hw hR hS => ?_)
              exact th_iret hx hb hret hlk hR hS hw (by omega) (by omega) dX8_threshes_75
          · replace hw := hw.2 h
            refine th_aload_n hx hb dX8_threshes_38 rfl (lv_at hL.1 0 rfl) ?_
            refine lv_iconst hx hb dX8_threshes_39 (v := 4) rfl ?_
            refine th_aload_n hx hb dX8_threshes_40 rfl (lv_at hL.1 0 rfl) ?_
            refine lv_iload_n hx hb dX8_threshes_41 rfl (lv_at hL.1 2 rfl) ?_
            obtain ⟨ho, hw⟩ := hw
            refine th_ki hS (th_rV CF hK hSt hR hS ho (ci := 8) rfl (rest := [.int 4, rv a0]) (tk_X8_inBay) (cw_X8_128 CF hK (by decide +kernel)) hw rfl hL.1.1 rfl (th_ci (th_cr th_cn)) (Nat.le_of_ble_eq_true rfl) dX8_threshes_42 ⟨by show _ ≤ (0 : Nat); omega, by show _ ≤ (0 : Nat); omega⟩) (fun r37 G36 H locs hw hR hS => ?_)
            refine lv_iconst hx hb dX8_threshes_45 (v := 0) rfl ?_
            refine lv_iconst hx hb dX8_threshes_46 (v := 0) rfl ?_
            obtain ⟨ho, hw⟩ := hw
            refine th_ki hS (th_rV CF hK hSt hR hS ho (ci := 8) rfl (rest := []) (tk_X8_refuses) (cw_X8_100 CF hK (by decide +kernel)) hw rfl hL.1.1 rfl th_cn (Nat.le_of_ble_eq_true rfl) dX8_threshes_47 ⟨by show _ ≤ (0 : Nat); omega, by show _ ≤ (0 : Nat); omega⟩) (fun r39 G38 H locs hw hR hS => ?_)
            exact th_iret hx hb hret hlk hR hS hw (by omega) (by omega) dX8_threshes_50
        · replace hw := hw.2 h
          refine lv_bipush hx hb dX8_threshes_26 (v := (-2)) rfl ?_
          exact th_iret hx hb hret hlk hR hS hw (by omega) (by omega) dX8_threshes_28
      · replace hw := hw.2 h
        refine lv_iconst hx hb dX8_threshes_14 (v := (-1)) rfl ?_
        exact th_iret hx hb hret hlk hR hS hw (by omega) (by omega) dX8_threshes_15)
def tw_X8_sells_b87 (Q : Int32 → aH → Prop) (G : aH) (x5 : Int32) (tx0 : Int32) (tx1 : Int32) (tx2 : Int32) (ta3 : Nat) : Prop :=
  th_o G ta3 8 ∧ (
  (tw_X8_refuses
    (fun (r23 : Int32) (G22 : aH) =>
      Q r23 G22)
    G ta3 tx2 tx1 tx0 x5))
def tw_X8_sells_b44 (Q : Int32 → aH → Prop) (G : aH) (a0 : Nat) (x1 : Int32) (x2 : Int32) (x3 : Int32) (tx0 : Int32) (tx1 : Int32) : Prop :=
  ∀ x4_7 : Int32, x4_7 = tx1 * tx0 → 
  th_o G a0 8 ∧ (
  (tw_X8_rats
    (fun (r9 : Int32) (G8 : aH) =>
      th_o G8 a0 8 ∧ (
      (tw_X8_store
        (fun (r11 : Int32) (G10 : aH) =>
          (x4_7 ≤ r11 →
            th_o G10 a0 8 ∧ (
            (tw_X8_store
              (fun (r13 : Int32) (G12 : aH) =>
                ∀ x6_14 : Int32, x6_14 = x2 * (r13 + x3) → 
                th_o G12 a0 8 ∧ (
                th_ai G12 (a_mr G12 a0 0) 0 (391 + (5 * x1)) ∧ (
                th_ai G12 (a_mr G12 a0 0) 0 (391 + (5 * x1)) ∧ (
                ∀ G15 : aH, G15 = a_si G12 (a_mr G12 a0 0) (391 + (5 * x1)).toNatClampNeg ((a_mi G12 (a_mr G12 a0 0) (391 + (5 * x1)).toNatClampNeg) - x4_7) → 
                th_o G15 a0 8 ∧ (
                th_ai G15 (a_mr G15 a0 0) 0 ((391 + (5 * x1)) + 2) ∧ (
                th_ai G15 (a_mr G15 a0 0) 0 ((391 + (5 * x1)) + 2) ∧ (
                ∀ G16 : aH, G16 = a_si G15 (a_mr G15 a0 0) ((391 + (5 * x1)) + 2).toNatClampNeg ((a_mi G15 (a_mr G15 a0 0) ((391 + (5 * x1)) + 2).toNatClampNeg) + x2) → 
                th_o G16 a0 8 ∧ (
                th_ai G16 (a_mr G16 a0 0) 0 ((391 + (5 * x1)) + 3) ∧ (
                th_ai G16 (a_mr G16 a0 0) 0 ((391 + (5 * x1)) + 3) ∧ (
                ∀ G17 : aH, G17 = a_si G16 (a_mr G16 a0 0) ((391 + (5 * x1)) + 3).toNatClampNeg ((a_mi G16 (a_mr G16 a0 0) ((391 + (5 * x1)) + 3).toNatClampNeg) + x4_7) → 
                th_o G17 a0 8 ∧ (
                th_ai G17 (a_mr G17 a0 0) 0 431 ∧ (
                th_ai G17 (a_mr G17 a0 0) 0 431 ∧ (
                ∀ G18 : aH, G18 = a_si G17 (a_mr G17 a0 0) (431 : Int32).toNatClampNeg ((a_mi G17 (a_mr G17 a0 0) (431 : Int32).toNatClampNeg) + x4_7) → 
                th_o G18 a0 8 ∧ (
                th_ai G18 (a_mr G18 a0 0) 0 429 ∧ (
                th_ai G18 (a_mr G18 a0 0) 0 429 ∧ (
                ∀ G19 : aH, G19 = a_si G18 (a_mr G18 a0 0) (429 : Int32).toNatClampNeg ((a_mi G18 (a_mr G18 a0 0) (429 : Int32).toNatClampNeg) + x6_14) → 
                Q x6_14 G19))))))))))))))))
              G10 a0 x1 1))) ∧
          (¬ x4_7 ≤ r11 →
            th_o G10 a0 8 ∧ (
            (tw_X8_store
              (fun (r21 : Int32) (G20 : aH) =>
                (r9 ≤ 0 →
                  tw_X8_sells_b87 Q G20 r9 0 r21 8 a0) ∧
                (¬ r9 ≤ 0 →
                  tw_X8_sells_b87 Q G20 r9 13 r21 8 a0))
              G10 a0 x1 0))))
        G8 a0 x1 0)))
    G a0 (4 + x1)))
def tw_X8_sells (Q : Int32 → aH → Prop) (G : aH) (a0 : Nat) (x1 : Int32) (x2 : Int32) (x3 : Int32) : Prop :=
  (tw_X8_isKind
    (fun (r2 : Int32) (G1 : aH) =>
      (¬ r2 = 0 →
        (tw_X8_isIn
          (fun (r4 : Int32) (G3 : aH) =>
            (r4 = 0 →
              Q (-2) G3) ∧
            (¬ r4 = 0 →
              (tw_X8_isIn
                (fun (r6 : Int32) (G5 : aH) =>
                  (¬ r6 = 0 →
                    (¬ x3 = 1 →
                      tw_X8_sells_b44 Q G5 a0 x1 x2 x3 64 x2) ∧
                    (x3 = 1 →
                      tw_X8_sells_b44 Q G5 a0 x1 x2 x3 72 x2)) ∧
                  (r6 = 0 →
                    Q (-2) G5))
                G3 x3 0 1)))
          G1 x2 1 30)) ∧
      (r2 = 0 →
        Q (-1) G1))
    G x1)
theorem tk_X8_sells_b87 {p : Program} {l : Launch} {e : Env} {s : State} {m : MethodId} {args : Array Value} {below : List Frame} {meth : Method} {c : Code} {D : tD} {B : Nat} (E : th_E p m c cX8_sells 7 s args RX8 meth ((Option.some Jvm.ClassFile.FieldType.int)) "sells" D B) {Q : Int32 → aH → Prop} {G : aH} {H : Heap} {locs : List Loc} {cells slots : Nat} {ls : Array Slot} {x5 : Int32} {tx0 : Int32} {tx1 : Int32} {tx2 : Int32} {ta3 : Nat} (hR : th_H D B G H) (hS : va_S (th_A B) s.heap H locs) (hL : th_L ls 7 [(5, .int x5)]) (hw : tw_X8_sells_b87 Q G x5 tx0 tx1 tx2 ta3) (hc : cells + (0) ≤ 0 ∧ slots + (0) ≤ 0) : W p l e rm_X8_sells s m args below meth c H locs cells slots (MQ below (th_Qi D B Q) args s 0 0 (th_A B)) (F0 m 87 ls [.int tx0, .int tx1, .int tx2, rv ta3]) := by
  have CF := E.1; have hx := CF.1; have hb := CF.2.1; have hret := E.2.1; have hlk := E.2.2.1; have hnm := E.2.2.2.1; have hK := E.2.2.2.2.1; have hSt := E.2.2.2.2.2
  unfold tw_X8_sells_b87 at hw
  refine lv_iload hx hb dX8_sells_87 (lv_at hL.1 0 rfl) ?_
  obtain ⟨ho, hw⟩ := hw
  refine th_ki hS (th_rV CF hK hSt hR hS ho (ci := 8) rfl (rest := []) (tk_X8_refuses) (cw_X8_100 CF hK (by decide +kernel)) hw rfl hL.1.1 rfl th_cn (Nat.le_of_ble_eq_true rfl) dX8_sells_89 ⟨by show _ ≤ (0 : Nat); omega, by show _ ≤ (0 : Nat); omega⟩) (fun r23 G22 H locs hw hR hS => ?_)
  exact th_iret hx hb hret hlk hR hS hw (by omega) (by omega) dX8_sells_92
theorem tk_X8_sells_b44 {p : Program} {l : Launch} {e : Env} {s : State} {m : MethodId} {args : Array Value} {below : List Frame} {meth : Method} {c : Code} {D : tD} {B : Nat} (E : th_E p m c cX8_sells 7 s args RX8 meth ((Option.some Jvm.ClassFile.FieldType.int)) "sells" D B) {Q : Int32 → aH → Prop} {G : aH} {H : Heap} {locs : List Loc} {cells slots : Nat} {ls : Array Slot} {a0 : Nat} {x1 : Int32} {x2 : Int32} {x3 : Int32} {tx0 : Int32} {tx1 : Int32} (hR : th_H D B G H) (hS : va_S (th_A B) s.heap H locs) (hL : th_L ls 7 [(0, rv a0), (1, .int x1), (2, .int x2), (3, .int x3)]) (hw : tw_X8_sells_b44 Q G a0 x1 x2 x3 tx0 tx1) (hc : cells + (0) ≤ 0 ∧ slots + (0) ≤ 0) : W p l e rm_X8_sells s m args below meth c H locs cells slots (MQ below (th_Qi D B Q) args s 0 0 (th_A B)) (F0 m 44 ls [.int tx0, .int tx1]) := by
  have CF := E.1; have hx := CF.1; have hb := CF.2.1; have hret := E.2.1; have hlk := E.2.2.1; have hnm := E.2.2.2.1; have hK := E.2.2.2.2.1; have hSt := E.2.2.2.2.2
  unfold tw_X8_sells_b44 at hw
  refine lv_imul hx hb dX8_sells_44 ?_
  obtain ⟨x4_7, hx4_7⟩ : ∃ y : Int32, y = tx1 * tx0 := ⟨_, rfl⟩
  replace hw := hw x4_7 hx4_7
  refine th_nmi hx4_7 ?_
  refine th_istore hx hb dX8_sells_45 hL (by decide) rfl (fun ls hL => ?_)
  refine th_aload_n hx hb dX8_sells_47 rfl (lv_at hL.1 1 rfl) ?_
  refine lv_iconst hx hb dX8_sells_48 (v := 4) rfl ?_
  refine lv_iload_n hx hb dX8_sells_49 rfl (lv_at hL.1 2 rfl) ?_
  refine lv_iadd hx hb dX8_sells_50 ?_
  obtain ⟨ho, hw⟩ := hw
  refine th_ki hS (th_rV CF hK hSt hR hS ho (ci := 8) rfl (rest := []) (tk_X8_rats) (cw_X8_181 CF hK (by decide +kernel)) hw rfl hL.1.1 rfl th_cn (Nat.le_of_ble_eq_true rfl) dX8_sells_51 ⟨by show _ ≤ (0 : Nat); omega, by show _ ≤ (0 : Nat); omega⟩) (fun r9 G8 H locs hw hR hS => ?_)
  refine th_istore hx hb dX8_sells_54 hL (by decide) rfl (fun ls hL => ?_)
  refine th_aload_n hx hb dX8_sells_56 rfl (lv_at hL.1 2 rfl) ?_
  refine lv_iload_n hx hb dX8_sells_57 rfl (lv_at hL.1 3 rfl) ?_
  refine lv_iconst hx hb dX8_sells_58 (v := 0) rfl ?_
  obtain ⟨ho, hw⟩ := hw
  refine th_ki hS (th_rV CF hK hSt hR hS ho (ci := 8) rfl (rest := []) (tk_X8_store) (cw_X8_178 CF hK (by decide +kernel)) hw rfl hL.1.1 rfl th_cn (Nat.le_of_ble_eq_true rfl) dX8_sells_59 ⟨by show _ ≤ (0 : Nat); omega, by show _ ≤ (0 : Nat); omega⟩) (fun r11 G10 H locs hw hR hS => ?_)
  refine lv_iload hx hb dX8_sells_62 (lv_at hL.1 1 rfl) ?_
  refine lv_icmp_ge hx hb dX8_sells_64 (tgt := 93) (by decide) (fun h => ?_) (fun h => ?_)
  · replace hw := hw.1 h
    refine lv_iload_n hx hb dX8_sells_93 rfl (lv_at hL.1 4 rfl) ?_
    refine th_aload_n hx hb dX8_sells_94 rfl (lv_at hL.1 2 rfl) ?_
    refine lv_iload_n hx hb dX8_sells_95 rfl (lv_at hL.1 3 rfl) ?_
    refine lv_iconst hx hb dX8_sells_96 (v := 1) rfl ?_
    obtain ⟨ho, hw⟩ := hw
    refine th_ki hS (th_rV CF hK hSt hR hS ho (ci := 8) rfl (rest := [.int x2]) (tk_X8_store) (cw_X8_178 CF hK (by decide +kernel)) hw rfl hL.1.1 rfl (th_ci th_cn) (Nat.le_of_ble_eq_true rfl) dX8_sells_97 ⟨by show _ ≤ (0 : Nat); omega, by show _ ≤ (0 : Nat); omega⟩) (fun r13 G12 H locs hw hR hS => ?_)
    refine lv_iload_n hx hb dX8_sells_100 rfl (lv_at hL.1 5 rfl) ?_
    refine lv_iadd hx hb dX8_sells_101 ?_
    refine lv_imul hx hb dX8_sells_102 ?_
    obtain ⟨x6_14, hx6_14⟩ : ∃ y : Int32, y = x2 * (r13 + x3) := ⟨_, rfl⟩
    replace hw := hw x6_14 hx6_14
    refine th_nmi hx6_14 ?_
    refine th_istore hx hb dX8_sells_103 hL (by decide) rfl (fun ls hL => ?_)
    refine th_aload_n hx hb dX8_sells_105 rfl (lv_at hL.1 3 rfl) ?_
    obtain ⟨ho, hw⟩ := hw
    refine fg_X8_9 CF hK hR ho dX8_sells_106 ?_
    refine lv_sipush hx hb dX8_sells_109 (v := 391) rfl ?_
    refine lv_iconst hx hb dX8_sells_112 (v := 5) rfl ?_
    refine lv_iload_n hx hb dX8_sells_113 rfl (lv_at hL.1 4 rfl) ?_
    refine lv_imul hx hb dX8_sells_114 ?_
    refine lv_iadd hx hb dX8_sells_115 ?_
    refine lv_dup2_11 hx hb dX8_sells_116 rfl (rv_cat _) ?_
    obtain ⟨ha, hw⟩ := hw
    refine th_iald hx hb hK hR ha dX8_sells_117 ?_
    refine lv_iload hx hb dX8_sells_118 (lv_at hL.1 2 rfl) ?_
    refine lv_isub hx hb dX8_sells_120 ?_
    obtain ⟨ha, hw⟩ := hw
    refine th_iast hx hb hK hR hS ha dX8_sells_121 (fun G15 H locs hG hR hS => ?_)
    replace hw := hw G15 hG
    refine th_aload_n hx hb dX8_sells_122 rfl (lv_at hL.1 3 rfl) ?_
    obtain ⟨ho, hw⟩ := hw
    refine fg_X8_9 CF hK hR ho dX8_sells_123 ?_
    refine lv_sipush hx hb dX8_sells_126 (v := 391) rfl ?_
    refine lv_iconst hx hb dX8_sells_129 (v := 5) rfl ?_
    refine lv_iload_n hx hb dX8_sells_130 rfl (lv_at hL.1 4 rfl) ?_
    refine lv_imul hx hb dX8_sells_131 ?_
    refine lv_iadd hx hb dX8_sells_132 ?_
    refine lv_iconst hx hb dX8_sells_133 (v := 2) rfl ?_
    refine lv_iadd hx hb dX8_sells_134 ?_
    refine lv_dup2_11 hx hb dX8_sells_135 rfl (rv_cat _) ?_
    obtain ⟨ha, hw⟩ := hw
    refine th_iald hx hb hK hR ha dX8_sells_136 ?_
    refine lv_iload_n hx hb dX8_sells_137 rfl (lv_at hL.1 5 rfl) ?_
    refine lv_iadd hx hb dX8_sells_138 ?_
    obtain ⟨ha, hw⟩ := hw
    refine th_iast hx hb hK hR hS ha dX8_sells_139 (fun G16 H locs hG hR hS => ?_)
    replace hw := hw G16 hG
    refine th_aload_n hx hb dX8_sells_140 rfl (lv_at hL.1 3 rfl) ?_
    obtain ⟨ho, hw⟩ := hw
    refine fg_X8_9 CF hK hR ho dX8_sells_141 ?_
    refine lv_sipush hx hb dX8_sells_144 (v := 391) rfl ?_
    refine lv_iconst hx hb dX8_sells_147 (v := 5) rfl ?_
    refine lv_iload_n hx hb dX8_sells_148 rfl (lv_at hL.1 4 rfl) ?_
    refine lv_imul hx hb dX8_sells_149 ?_
    refine lv_iadd hx hb dX8_sells_150 ?_
    refine lv_iconst hx hb dX8_sells_151 (v := 3) rfl ?_
    refine lv_iadd hx hb dX8_sells_152 ?_
    refine lv_dup2_11 hx hb dX8_sells_153 rfl (rv_cat _) ?_
    obtain ⟨ha, hw⟩ := hw
    refine th_iald hx hb hK hR ha dX8_sells_154 ?_
    refine lv_iload hx hb dX8_sells_155 (lv_at hL.1 2 rfl) ?_
    refine lv_iadd hx hb dX8_sells_157 ?_
    obtain ⟨ha, hw⟩ := hw
    refine th_iast hx hb hK hR hS ha dX8_sells_158 (fun G17 H locs hG hR hS => ?_)
    replace hw := hw G17 hG
    refine th_aload_n hx hb dX8_sells_159 rfl (lv_at hL.1 3 rfl) ?_
    obtain ⟨ho, hw⟩ := hw
    refine fg_X8_9 CF hK hR ho dX8_sells_160 ?_
    refine lv_sipush hx hb dX8_sells_163 (v := 431) rfl ?_
    refine lv_dup2_11 hx hb dX8_sells_166 rfl (rv_cat _) ?_
    obtain ⟨ha, hw⟩ := hw
    refine th_iald hx hb hK hR ha dX8_sells_167 ?_
    refine lv_iload hx hb dX8_sells_168 (lv_at hL.1 2 rfl) ?_
    refine lv_iadd hx hb dX8_sells_170 ?_
    obtain ⟨ha, hw⟩ := hw
    refine th_iast hx hb hK hR hS ha dX8_sells_171 (fun G18 H locs hG hR hS => ?_)
    replace hw := hw G18 hG
    refine th_aload_n hx hb dX8_sells_172 rfl (lv_at hL.1 3 rfl) ?_
    obtain ⟨ho, hw⟩ := hw
    refine fg_X8_9 CF hK hR ho dX8_sells_173 ?_
    refine lv_sipush hx hb dX8_sells_176 (v := 429) rfl ?_
    refine lv_dup2_11 hx hb dX8_sells_179 rfl (rv_cat _) ?_
    obtain ⟨ha, hw⟩ := hw
    refine th_iald hx hb hK hR ha dX8_sells_180 ?_
    refine lv_iload hx hb dX8_sells_181 (lv_at hL.1 0 rfl) ?_
    refine lv_iadd hx hb dX8_sells_183 ?_
    obtain ⟨ha, hw⟩ := hw
    refine th_iast hx hb hK hR hS ha dX8_sells_184 (fun G19 H locs hG hR hS => ?_)
    replace hw := hw G19 hG
    refine lv_iload hx hb dX8_sells_185 (lv_at hL.1 0 rfl) ?_
    exact th_iret hx hb hret hlk hR hS hw (by omega) (by omega) dX8_sells_187
  · replace hw := hw.2 h
    refine th_aload_n hx hb dX8_sells_67 rfl (lv_at hL.1 2 rfl) ?_
    refine lv_bipush hx hb dX8_sells_68 (v := 8) rfl ?_
    refine th_aload_n hx hb dX8_sells_70 rfl (lv_at hL.1 2 rfl) ?_
    refine lv_iload_n hx hb dX8_sells_71 rfl (lv_at hL.1 3 rfl) ?_
    refine lv_iconst hx hb dX8_sells_72 (v := 0) rfl ?_
    obtain ⟨ho, hw⟩ := hw
    refine th_ki hS (th_rV CF hK hSt hR hS ho (ci := 8) rfl (rest := [.int 8, rv a0]) (tk_X8_store) (cw_X8_178 CF hK (by decide +kernel)) hw rfl hL.1.1 rfl (th_ci (th_cr th_cn)) (Nat.le_of_ble_eq_true rfl) dX8_sells_73 ⟨by show _ ≤ (0 : Nat); omega, by show _ ≤ (0 : Nat); omega⟩) (fun r21 G20 H locs hw hR hS => ?_)
    refine lv_iload hx hb dX8_sells_76 (lv_at hL.1 0 rfl) ?_
    refine lv_if_le hx hb dX8_sells_78 (tgt := 86) (by decide) (fun h => ?_) (fun h => ?_)
    · replace hw := hw.1 h
      refine lv_iconst hx hb dX8_sells_86 (v := 0) rfl ?_
      exact tk_X8_sells_b87 E hR hS (hL.sub [0] rfl) hw ⟨by omega, by omega⟩
    · replace hw := hw.2 h
      refine lv_bipush hx hb dX8_sells_81 (v := 13) rfl ?_
      refine lv_goto hx hb dX8_sells_83 (tgt := 87) (by decide) ?_
      exact tk_X8_sells_b87 E hR hS (hL.sub [0] rfl) hw ⟨by omega, by omega⟩
theorem tk_X8_sells {l : Launch} {D : tD} {B : Nat} {Q : Int32 → aH → Prop} {a0 : Nat} {x1 : Int32} {x2 : Int32} {x3 : Int32} : Met l yX8_sells (ws_ yX8_sells cX8_sells 7 ((Option.some Jvm.ClassFile.FieldType.int))) rm_X8_sells (th_P D B [rv a0, .int x1, .int x2, .int x3] (fun G => tw_X8_sells Q G a0 x1 x2 x3)) (th_Qi D B Q) 0 0 (th_A B) :=
  th_ofW (by decide +kernel) (th_cr (th_ci (th_ci (th_ci th_cn)))) (Nat.le_of_ble_eq_true rfl) (fun p e s m args below meth c CF hret hlk hnm hK hSt G ls hR hS hw hL => by
    have E : th_E p m c cX8_sells 7 s args RX8 meth ((Option.some Jvm.ClassFile.FieldType.int)) "sells" D B := ⟨CF, hret, hlk, hnm, hK, hSt⟩
    have hx := CF.1; have hb := CF.2.1
    have hL : th_L ls 7 [(0, rv a0), (1, .int x1), (2, .int x2), (3, .int x3)] := hL
    unfold tw_X8_sells at hw
    refine lv_iload_n hx hb dX8_sells_0 rfl (lv_at hL.1 1 rfl) ?_
    refine th_ki hS (th_rS CF hK hSt hR hS (rest := []) (tk_X8_isKind) (cw_X8_93 CF hK (by decide +kernel)) hw rfl hL.1.1 rfl th_cn (Nat.le_of_ble_eq_true rfl) dX8_sells_1 ⟨by show _ ≤ (0 : Nat); omega, by show _ ≤ (0 : Nat); omega⟩) (fun r2 G1 H locs hw hR hS => ?_)
    refine lv_if_ne hx hb dX8_sells_4 (tgt := 9) (by decide) (fun h => ?_) (fun h => ?_)
    · replace hw := hw.1 h
      refine lv_iload_n hx hb dX8_sells_9 rfl (lv_at hL.1 2 rfl) ?_
      refine lv_iconst hx hb dX8_sells_10 (v := 1) rfl ?_
      refine lv_bipush hx hb dX8_sells_11 (v := 30) rfl ?_
      refine th_ki hS (th_rS CF hK hSt hR hS (rest := []) (tk_X8_isIn) (cw_X8_56 CF hK (by decide +kernel)) hw rfl hL.1.1 rfl th_cn (Nat.le_of_ble_eq_true rfl) dX8_sells_13 ⟨by show _ ≤ (0 : Nat); omega, by show _ ≤ (0 : Nat); omega⟩) (fun r4 G3 H locs hw hR hS => ?_)
      refine lv_if_eq hx hb dX8_sells_16 (tgt := 28) (by decide) (fun h => ?_) (fun h => ?_)
      · replace hw := hw.1 h
        refine lv_bipush hx hb dX8_sells_28 (v := (-2)) rfl ?_
        exact th_iret hx hb hret hlk hR hS hw (by omega) (by omega) dX8_sells_30
      · replace hw := hw.2 h
        refine lv_iload_n hx hb dX8_sells_19 rfl (lv_at hL.1 3 rfl) ?_
        refine lv_iconst hx hb dX8_sells_20 (v := 0) rfl ?_
        refine lv_iconst hx hb dX8_sells_21 (v := 1) rfl ?_
        refine th_ki hS (th_rS CF hK hSt hR hS (rest := []) (tk_X8_isIn) (cw_X8_56 CF hK (by decide +kernel)) hw rfl hL.1.1 rfl th_cn (Nat.le_of_ble_eq_true rfl) dX8_sells_22 ⟨by show _ ≤ (0 : Nat); omega, by show _ ≤ (0 : Nat); omega⟩) (fun r6 G5 H locs hw hR hS => ?_)
        refine lv_if_ne hx hb dX8_sells_25 (tgt := 31) (by decide) (fun h => ?_) (fun h => ?_)
        · replace hw := hw.1 h
          refine lv_iload_n hx hb dX8_sells_31 rfl (lv_at hL.1 2 rfl) ?_
          refine lv_iload_n hx hb dX8_sells_32 rfl (lv_at hL.1 3 rfl) ?_
          refine lv_iconst hx hb dX8_sells_33 (v := 1) rfl ?_
          refine lv_icmp_ne hx hb dX8_sells_34 (tgt := 42) (by decide) (fun h => ?_) (fun h => ?_)
          · replace hw := hw.1 h
            refine lv_bipush hx hb dX8_sells_42 (v := 64) rfl ?_
            exact tk_X8_sells_b44 E hR hS (hL.sub [0, 1, 2, 3] rfl) hw ⟨by omega, by omega⟩
          · replace hw := hw.2 h
            refine lv_bipush hx hb dX8_sells_37 (v := 72) rfl ?_
            refine lv_goto hx hb dX8_sells_39 (tgt := 44) (by decide) ?_
            exact tk_X8_sells_b44 E hR hS (hL.sub [0, 1, 2, 3] rfl) hw ⟨by omega, by omega⟩
        · replace hw := hw.2 h
          refine lv_bipush hx hb dX8_sells_28 (v := (-2)) rfl ?_
          exact th_iret hx hb hret hlk hR hS hw (by omega) (by omega) dX8_sells_30
    · replace hw := hw.2 h
      refine lv_iconst hx hb dX8_sells_7 (v := (-1)) rfl ?_
      exact th_iret hx hb hret hlk hR hS hw (by omega) (by omega) dX8_sells_8)
def tw_X8_stops (Q : Int32 → aH → Prop) (G : aH) (a0 : Nat) (x1 : Int32) : Prop :=
  (tw_X8_isPlace
    (fun (r2 : Int32) (G1 : aH) =>
      (¬ r2 = 0 →
        th_o G1 a0 8 ∧ (
        th_ai G1 (a_mr G1 a0 0) 0 (406 + (3 * x1)) ∧ (
        (¬ a_mi G1 (a_mr G1 a0 0) (406 + (3 * x1)).toNatClampNeg = 0 →
          th_o G1 a0 8 ∧ (
          th_ai G1 (a_mr G1 a0 0) 0 (406 + (3 * x1)) ∧ (
          th_ai G1 (a_mr G1 a0 0) 0 (406 + (3 * x1)) ∧ (
          ∀ G3 : aH, G3 = a_si G1 (a_mr G1 a0 0) (406 + (3 * x1)).toNatClampNeg ((a_mi G1 (a_mr G1 a0 0) (406 + (3 * x1)).toNatClampNeg) - 1) → 
          th_o G3 a0 8 ∧ (
          th_ai G3 (a_mr G3 a0 0) 0 (406 + (3 * x1)) ∧ (
          Q (a_mi G3 (a_mr G3 a0 0) (406 + (3 * x1)).toNatClampNeg) G3)))))) ∧
        (a_mi G1 (a_mr G1 a0 0) (406 + (3 * x1)).toNatClampNeg = 0 →
          th_o G1 a0 8 ∧ (
          (tw_X8_refuses
            (fun (r5 : Int32) (G4 : aH) =>
              Q r5 G4)
            G1 a0 9 x1 0 0)))))) ∧
      (r2 = 0 →
        Q (-1) G1))
    G x1)
theorem tk_X8_stops {l : Launch} {D : tD} {B : Nat} {Q : Int32 → aH → Prop} {a0 : Nat} {x1 : Int32} : Met l yX8_stops (ws_ yX8_stops cX8_stops 2 ((Option.some Jvm.ClassFile.FieldType.int))) rm_X8_stops (th_P D B [rv a0, .int x1] (fun G => tw_X8_stops Q G a0 x1)) (th_Qi D B Q) 0 0 (th_A B) :=
  th_ofW (by decide +kernel) (th_cr (th_ci th_cn)) (Nat.le_of_ble_eq_true rfl) (fun p e s m args below meth c CF hret hlk hnm hK hSt G ls hR hS hw hL => by
    have E : th_E p m c cX8_stops 2 s args RX8 meth ((Option.some Jvm.ClassFile.FieldType.int)) "stops" D B := ⟨CF, hret, hlk, hnm, hK, hSt⟩
    have hx := CF.1; have hb := CF.2.1
    have hL : th_L ls 2 [(0, rv a0), (1, .int x1)] := hL
    unfold tw_X8_stops at hw
    refine lv_iload_n hx hb dX8_stops_0 rfl (lv_at hL.1 1 rfl) ?_
    refine th_ki hS (th_rS CF hK hSt hR hS (rest := []) (tk_X8_isPlace) (cw_X8_190 CF hK (by decide +kernel)) hw rfl hL.1.1 rfl th_cn (Nat.le_of_ble_eq_true rfl) dX8_stops_1 ⟨by show _ ≤ (0 : Nat); omega, by show _ ≤ (0 : Nat); omega⟩) (fun r2 G1 H locs hw hR hS => ?_)
    refine lv_if_ne hx hb dX8_stops_4 (tgt := 9) (by decide) (fun h => ?_) (fun h => ?_)
    · replace hw := hw.1 h
      refine th_aload_n hx hb dX8_stops_9 rfl (lv_at hL.1 0 rfl) ?_
      obtain ⟨ho, hw⟩ := hw
      refine fg_X8_9 CF hK hR ho dX8_stops_10 ?_
      refine lv_sipush hx hb dX8_stops_13 (v := 406) rfl ?_
      refine lv_iconst hx hb dX8_stops_16 (v := 3) rfl ?_
      refine lv_iload_n hx hb dX8_stops_17 rfl (lv_at hL.1 1 rfl) ?_
      refine lv_imul hx hb dX8_stops_18 ?_
      refine lv_iadd hx hb dX8_stops_19 ?_
      obtain ⟨ha, hw⟩ := hw
      refine th_iald hx hb hK hR ha dX8_stops_20 ?_
      refine lv_if_ne hx hb dX8_stops_21 (tgt := 34) (by decide) (fun h => ?_) (fun h => ?_)
      · replace hw := hw.1 h
        refine th_aload_n hx hb dX8_stops_34 rfl (lv_at hL.1 0 rfl) ?_
        obtain ⟨ho, hw⟩ := hw
        refine fg_X8_9 CF hK hR ho dX8_stops_35 ?_
        refine lv_sipush hx hb dX8_stops_38 (v := 406) rfl ?_
        refine lv_iconst hx hb dX8_stops_41 (v := 3) rfl ?_
        refine lv_iload_n hx hb dX8_stops_42 rfl (lv_at hL.1 1 rfl) ?_
        refine lv_imul hx hb dX8_stops_43 ?_
        refine lv_iadd hx hb dX8_stops_44 ?_
        refine lv_dup2_11 hx hb dX8_stops_45 rfl (rv_cat _) ?_
        obtain ⟨ha, hw⟩ := hw
        refine th_iald hx hb hK hR ha dX8_stops_46 ?_
        refine lv_iconst hx hb dX8_stops_47 (v := 1) rfl ?_
        refine lv_isub hx hb dX8_stops_48 ?_
        obtain ⟨ha, hw⟩ := hw
        refine th_iast hx hb hK hR hS ha dX8_stops_49 (fun G3 H locs hG hR hS => ?_)
        replace hw := hw G3 hG
        refine th_aload_n hx hb dX8_stops_50 rfl (lv_at hL.1 0 rfl) ?_
        obtain ⟨ho, hw⟩ := hw
        refine fg_X8_9 CF hK hR ho dX8_stops_51 ?_
        refine lv_sipush hx hb dX8_stops_54 (v := 406) rfl ?_
        refine lv_iconst hx hb dX8_stops_57 (v := 3) rfl ?_
        refine lv_iload_n hx hb dX8_stops_58 rfl (lv_at hL.1 1 rfl) ?_
        refine lv_imul hx hb dX8_stops_59 ?_
        refine lv_iadd hx hb dX8_stops_60 ?_
        obtain ⟨ha, hw⟩ := hw
        refine th_iald hx hb hK hR ha dX8_stops_61 ?_
        exact th_iret hx hb hret hlk hR hS hw (by omega) (by omega) dX8_stops_62
      · replace hw := hw.2 h
        refine th_aload_n hx hb dX8_stops_24 rfl (lv_at hL.1 0 rfl) ?_
        refine lv_bipush hx hb dX8_stops_25 (v := 9) rfl ?_
        refine lv_iload_n hx hb dX8_stops_27 rfl (lv_at hL.1 1 rfl) ?_
        refine lv_iconst hx hb dX8_stops_28 (v := 0) rfl ?_
        refine lv_iconst hx hb dX8_stops_29 (v := 0) rfl ?_
        obtain ⟨ho, hw⟩ := hw
        refine th_ki hS (th_rV CF hK hSt hR hS ho (ci := 8) rfl (rest := []) (tk_X8_refuses) (cw_X8_100 CF hK (by decide +kernel)) hw rfl hL.1.1 rfl th_cn (Nat.le_of_ble_eq_true rfl) dX8_stops_30 ⟨by show _ ≤ (0 : Nat); omega, by show _ ≤ (0 : Nat); omega⟩) (fun r5 G4 H locs hw hR hS => ?_)
        exact th_iret hx hb hret hlk hR hS hw (by omega) (by omega) dX8_stops_33
    · replace hw := hw.2 h
      refine lv_iconst hx hb dX8_stops_7 (v := (-1)) rfl ?_
      exact th_iret hx hb hret hlk hR hS hw (by omega) (by omega) dX8_stops_8)
def tw_X8_does (Q : Int32 → aH → Prop) (G : aH) (a0 : Nat) (x1 : Int32) (x2 : Int32) (x3 : Int32) (x4 : Int32) : Prop :=
  (x1 = 99 →
    th_o G a0 8 ∧ (
    (tw_X8_carts
      (fun (r2 : Int32) (G1 : aH) =>
        Q r2 G1)
      G a0 x2 x3 x4))) ∧
  (x1 = 100 →
    th_o G a0 8 ∧ (
    (tw_X8_stops
      (fun (r4 : Int32) (G3 : aH) =>
        Q r4 G3)
      G a0 x2))) ∧
  (x1 = 101 →
    th_o G a0 8 ∧ (
    (tw_X8_stops
      (fun (r6 : Int32) (G5 : aH) =>
        Q r6 G5)
      G a0 x2))) ∧
  (x1 = 102 →
    th_o G a0 8 ∧ (
    (tw_X8_stops
      (fun (r8 : Int32) (G7 : aH) =>
        Q r8 G7)
      G a0 x2))) ∧
  (x1 = 103 →
    th_o G a0 8 ∧ (
    (tw_X8_stops
      (fun (r10 : Int32) (G9 : aH) =>
        Q r10 G9)
      G a0 x2))) ∧
  (x1 = 104 →
    th_o G a0 8 ∧ (
    (tw_X8_harvests
      (fun (r12 : Int32) (G11 : aH) =>
        Q r12 G11)
      G a0 x2 x3))) ∧
  (x1 = 105 →
    th_o G a0 8 ∧ (
    (tw_X8_stops
      (fun (r14 : Int32) (G13 : aH) =>
        Q r14 G13)
      G a0 x2))) ∧
  (x1 = 106 →
    th_o G a0 8 ∧ (
    (tw_X8_stops
      (fun (r16 : Int32) (G15 : aH) =>
        Q r16 G15)
      G a0 x2))) ∧
  (x1 = 107 →
    th_o G a0 8 ∧ (
    (tw_X8_comes
      (fun (r18 : Int32) (G17 : aH) =>
        Q r18 G17)
      G a0 x2))) ∧
  (x1 = 108 →
    th_o G a0 8 ∧ (
    (tw_X8_stops
      (fun (r20 : Int32) (G19 : aH) =>
        Q r20 G19)
      G a0 x2))) ∧
  (x1 = 109 →
    th_o G a0 8 ∧ (
    (tw_X8_stops
      (fun (r22 : Int32) (G21 : aH) =>
        Q r22 G21)
      G a0 x2))) ∧
  (x1 = 110 →
    th_o G a0 8 ∧ (
    (tw_X8_passes
      (fun (r24 : Int32) (G23 : aH) =>
        Q r24 G23)
      G a0 x2))) ∧
  (x1 = 111 →
    th_o G a0 8 ∧ (
    (tw_X8_stops
      (fun (r26 : Int32) (G25 : aH) =>
        Q r26 G25)
      G a0 x2))) ∧
  (x1 = 112 →
    th_o G a0 8 ∧ (
    (tw_X8_stops
      (fun (r28 : Int32) (G27 : aH) =>
        Q r28 G27)
      G a0 x2))) ∧
  (x1 = 113 →
    th_o G a0 8 ∧ (
    (tw_X8_stops
      (fun (r30 : Int32) (G29 : aH) =>
        Q r30 G29)
      G a0 x2))) ∧
  (x1 = 114 →
    th_o G a0 8 ∧ (
    (tw_X8_stops
      (fun (r32 : Int32) (G31 : aH) =>
        Q r32 G31)
      G a0 x2))) ∧
  (x1 = 115 →
    th_o G a0 8 ∧ (
    (tw_X8_sells
      (fun (r34 : Int32) (G33 : aH) =>
        Q r34 G33)
      G a0 x2 x3 x4))) ∧
  (x1 = 116 →
    th_o G a0 8 ∧ (
    (tw_X8_threshes
      (fun (r36 : Int32) (G35 : aH) =>
        Q r36 G35)
      G a0 x2 x3 x4))) ∧
  (¬ x1 = 99 → ¬ x1 = 100 → ¬ x1 = 101 → ¬ x1 = 102 → ¬ x1 = 103 → ¬ x1 = 104 → ¬ x1 = 105 → ¬ x1 = 106 → ¬ x1 = 107 → ¬ x1 = 108 → ¬ x1 = 109 → ¬ x1 = 110 → ¬ x1 = 111 → ¬ x1 = 112 → ¬ x1 = 113 → ¬ x1 = 114 → ¬ x1 = 115 → ¬ x1 = 116 → 
    th_o G a0 8 ∧ (
    (tw_X8_stops
      (fun (r38 : Int32) (G37 : aH) =>
        Q r38 G37)
      G a0 x2)))
theorem tk_X8_does {l : Launch} {D : tD} {B : Nat} {Q : Int32 → aH → Prop} {a0 : Nat} {x1 : Int32} {x2 : Int32} {x3 : Int32} {x4 : Int32} : Met l yX8_does (ws_ yX8_does cX8_does 5 ((Option.some Jvm.ClassFile.FieldType.int))) rm_X8_does (th_P D B [rv a0, .int x1, .int x2, .int x3, .int x4] (fun G => tw_X8_does Q G a0 x1 x2 x3 x4)) (th_Qi D B Q) 0 0 (th_A B) :=
  th_ofW (by decide +kernel) (th_cr (th_ci (th_ci (th_ci (th_ci th_cn))))) (Nat.le_of_ble_eq_true rfl) (fun p e s m args below meth c CF hret hlk hnm hK hSt G ls hR hS hw hL => by
    have E : th_E p m c cX8_does 5 s args RX8 meth ((Option.some Jvm.ClassFile.FieldType.int)) "does" D B := ⟨CF, hret, hlk, hnm, hK, hSt⟩
    have hx := CF.1; have hb := CF.2.1
    have hL : th_L ls 5 [(0, rv a0), (1, .int x1), (2, .int x2), (3, .int x3), (4, .int x4)] := hL
    unfold tw_X8_does at hw
    refine lv_iload_n hx hb dX8_does_0 rfl (lv_at hL.1 1 rfl) ?_
    by_cases g99 : x1 = 99
    · replace hw := hw.1 g99
      refine lv_tableIn hx hb dX8_does_1 (tgt := 95) (by rw [g99]; decide) (by rw [g99]; decide) (by rw [g99]; rfl) (by decide) ?_
      refine th_aload_n hx hb dX8_does_95 rfl (lv_at hL.1 0 rfl) ?_
      refine lv_iload_n hx hb dX8_does_96 rfl (lv_at hL.1 2 rfl) ?_
      refine lv_iload_n hx hb dX8_does_97 rfl (lv_at hL.1 3 rfl) ?_
      refine lv_iload hx hb dX8_does_98 (lv_at hL.1 4 rfl) ?_
      obtain ⟨ho, hw⟩ := hw
      refine th_ki hS (th_rV CF hK hSt hR hS ho (ci := 8) rfl (rest := []) (tk_X8_carts) (cw_X8_137 CF hK (by decide +kernel)) hw rfl hL.1.1 rfl th_cn (Nat.le_of_ble_eq_true rfl) dX8_does_100 ⟨by show _ ≤ (0 : Nat); omega, by show _ ≤ (0 : Nat); omega⟩) (fun r2 G1 H locs hw hR hS => ?_)
      exact th_iret hx hb hret hlk hR hS hw (by omega) (by omega) dX8_does_103
    by_cases g100 : x1 = 100
    · replace hw := hw.2.1 g100
      refine lv_tableIn hx hb dX8_does_1 (tgt := 134) (by rw [g100]; decide) (by rw [g100]; decide) (by rw [g100]; rfl) (by decide) ?_
      refine th_aload_n hx hb dX8_does_134 rfl (lv_at hL.1 0 rfl) ?_
      refine lv_iload_n hx hb dX8_does_135 rfl (lv_at hL.1 2 rfl) ?_
      obtain ⟨ho, hw⟩ := hw
      refine th_ki hS (th_rV CF hK hSt hR hS ho (ci := 8) rfl (rest := []) (tk_X8_stops) (cw_X8_193 CF hK (by decide +kernel)) hw rfl hL.1.1 rfl th_cn (Nat.le_of_ble_eq_true rfl) dX8_does_136 ⟨by show _ ≤ (0 : Nat); omega, by show _ ≤ (0 : Nat); omega⟩) (fun r4 G3 H locs hw hR hS => ?_)
      exact th_iret hx hb hret hlk hR hS hw (by omega) (by omega) dX8_does_139
    by_cases g101 : x1 = 101
    · replace hw := hw.2.2.1 g101
      refine lv_tableIn hx hb dX8_does_1 (tgt := 134) (by rw [g101]; decide) (by rw [g101]; decide) (by rw [g101]; rfl) (by decide) ?_
      refine th_aload_n hx hb dX8_does_134 rfl (lv_at hL.1 0 rfl) ?_
      refine lv_iload_n hx hb dX8_does_135 rfl (lv_at hL.1 2 rfl) ?_
      obtain ⟨ho, hw⟩ := hw
      refine th_ki hS (th_rV CF hK hSt hR hS ho (ci := 8) rfl (rest := []) (tk_X8_stops) (cw_X8_193 CF hK (by decide +kernel)) hw rfl hL.1.1 rfl th_cn (Nat.le_of_ble_eq_true rfl) dX8_does_136 ⟨by show _ ≤ (0 : Nat); omega, by show _ ≤ (0 : Nat); omega⟩) (fun r6 G5 H locs hw hR hS => ?_)
      exact th_iret hx hb hret hlk hR hS hw (by omega) (by omega) dX8_does_139
    by_cases g102 : x1 = 102
    · replace hw := hw.2.2.2.1 g102
      refine lv_tableIn hx hb dX8_does_1 (tgt := 134) (by rw [g102]; decide) (by rw [g102]; decide) (by rw [g102]; rfl) (by decide) ?_
      refine th_aload_n hx hb dX8_does_134 rfl (lv_at hL.1 0 rfl) ?_
      refine lv_iload_n hx hb dX8_does_135 rfl (lv_at hL.1 2 rfl) ?_
      obtain ⟨ho, hw⟩ := hw
      refine th_ki hS (th_rV CF hK hSt hR hS ho (ci := 8) rfl (rest := []) (tk_X8_stops) (cw_X8_193 CF hK (by decide +kernel)) hw rfl hL.1.1 rfl th_cn (Nat.le_of_ble_eq_true rfl) dX8_does_136 ⟨by show _ ≤ (0 : Nat); omega, by show _ ≤ (0 : Nat); omega⟩) (fun r8 G7 H locs hw hR hS => ?_)
      exact th_iret hx hb hret hlk hR hS hw (by omega) (by omega) dX8_does_139
    by_cases g103 : x1 = 103
    · replace hw := hw.2.2.2.2.1 g103
      refine lv_tableIn hx hb dX8_does_1 (tgt := 134) (by rw [g103]; decide) (by rw [g103]; decide) (by rw [g103]; rfl) (by decide) ?_
      refine th_aload_n hx hb dX8_does_134 rfl (lv_at hL.1 0 rfl) ?_
      refine lv_iload_n hx hb dX8_does_135 rfl (lv_at hL.1 2 rfl) ?_
      obtain ⟨ho, hw⟩ := hw
      refine th_ki hS (th_rV CF hK hSt hR hS ho (ci := 8) rfl (rest := []) (tk_X8_stops) (cw_X8_193 CF hK (by decide +kernel)) hw rfl hL.1.1 rfl th_cn (Nat.le_of_ble_eq_true rfl) dX8_does_136 ⟨by show _ ≤ (0 : Nat); omega, by show _ ≤ (0 : Nat); omega⟩) (fun r10 G9 H locs hw hR hS => ?_)
      exact th_iret hx hb hret hlk hR hS hw (by omega) (by omega) dX8_does_139
    by_cases g104 : x1 = 104
    · replace hw := hw.2.2.2.2.2.1 g104
      refine lv_tableIn hx hb dX8_does_1 (tgt := 88) (by rw [g104]; decide) (by rw [g104]; decide) (by rw [g104]; rfl) (by decide) ?_
      refine th_aload_n hx hb dX8_does_88 rfl (lv_at hL.1 0 rfl) ?_
      refine lv_iload_n hx hb dX8_does_89 rfl (lv_at hL.1 2 rfl) ?_
      refine lv_iload_n hx hb dX8_does_90 rfl (lv_at hL.1 3 rfl) ?_
      obtain ⟨ho, hw⟩ := hw
      refine th_ki hS (th_rV CF hK hSt hR hS ho (ci := 8) rfl (rest := []) (tk_X8_harvests) (cw_X8_113 CF hK (by decide +kernel)) hw rfl hL.1.1 rfl th_cn (Nat.le_of_ble_eq_true rfl) dX8_does_91 ⟨by show _ ≤ (0 : Nat); omega, by show _ ≤ (0 : Nat); omega⟩) (fun r12 G11 H locs hw hR hS => ?_)
      exact th_iret hx hb hret hlk hR hS hw (by omega) (by omega) dX8_does_94
    by_cases g105 : x1 = 105
    · replace hw := hw.2.2.2.2.2.2.1 g105
      refine lv_tableIn hx hb dX8_does_1 (tgt := 134) (by rw [g105]; decide) (by rw [g105]; decide) (by rw [g105]; rfl) (by decide) ?_
      refine th_aload_n hx hb dX8_does_134 rfl (lv_at hL.1 0 rfl) ?_
      refine lv_iload_n hx hb dX8_does_135 rfl (lv_at hL.1 2 rfl) ?_
      obtain ⟨ho, hw⟩ := hw
      refine th_ki hS (th_rV CF hK hSt hR hS ho (ci := 8) rfl (rest := []) (tk_X8_stops) (cw_X8_193 CF hK (by decide +kernel)) hw rfl hL.1.1 rfl th_cn (Nat.le_of_ble_eq_true rfl) dX8_does_136 ⟨by show _ ≤ (0 : Nat); omega, by show _ ≤ (0 : Nat); omega⟩) (fun r14 G13 H locs hw hR hS => ?_)
      exact th_iret hx hb hret hlk hR hS hw (by omega) (by omega) dX8_does_139
    by_cases g106 : x1 = 106
    · replace hw := hw.2.2.2.2.2.2.2.1 g106
      refine lv_tableIn hx hb dX8_does_1 (tgt := 134) (by rw [g106]; decide) (by rw [g106]; decide) (by rw [g106]; rfl) (by decide) ?_
      refine th_aload_n hx hb dX8_does_134 rfl (lv_at hL.1 0 rfl) ?_
      refine lv_iload_n hx hb dX8_does_135 rfl (lv_at hL.1 2 rfl) ?_
      obtain ⟨ho, hw⟩ := hw
      refine th_ki hS (th_rV CF hK hSt hR hS ho (ci := 8) rfl (rest := []) (tk_X8_stops) (cw_X8_193 CF hK (by decide +kernel)) hw rfl hL.1.1 rfl th_cn (Nat.le_of_ble_eq_true rfl) dX8_does_136 ⟨by show _ ≤ (0 : Nat); omega, by show _ ≤ (0 : Nat); omega⟩) (fun r16 G15 H locs hw hR hS => ?_)
      exact th_iret hx hb hret hlk hR hS hw (by omega) (by omega) dX8_does_139
    by_cases g107 : x1 = 107
    · replace hw := hw.2.2.2.2.2.2.2.2.1 g107
      refine lv_tableIn hx hb dX8_does_1 (tgt := 128) (by rw [g107]; decide) (by rw [g107]; decide) (by rw [g107]; rfl) (by decide) ?_
      refine th_aload_n hx hb dX8_does_128 rfl (lv_at hL.1 0 rfl) ?_
      refine lv_iload_n hx hb dX8_does_129 rfl (lv_at hL.1 2 rfl) ?_
      obtain ⟨ho, hw⟩ := hw
      refine th_ki hS (th_rV CF hK hSt hR hS ho (ci := 8) rfl (rest := []) (tk_X8_comes) (cw_X8_196 CF hK (by decide +kernel)) hw rfl hL.1.1 rfl th_cn (Nat.le_of_ble_eq_true rfl) dX8_does_130 ⟨by show _ ≤ (0 : Nat); omega, by show _ ≤ (0 : Nat); omega⟩) (fun r18 G17 H locs hw hR hS => ?_)
      exact th_iret hx hb hret hlk hR hS hw (by omega) (by omega) dX8_does_133
    by_cases g108 : x1 = 108
    · replace hw := hw.2.2.2.2.2.2.2.2.2.1 g108
      refine lv_tableIn hx hb dX8_does_1 (tgt := 134) (by rw [g108]; decide) (by rw [g108]; decide) (by rw [g108]; rfl) (by decide) ?_
      refine th_aload_n hx hb dX8_does_134 rfl (lv_at hL.1 0 rfl) ?_
      refine lv_iload_n hx hb dX8_does_135 rfl (lv_at hL.1 2 rfl) ?_
      obtain ⟨ho, hw⟩ := hw
      refine th_ki hS (th_rV CF hK hSt hR hS ho (ci := 8) rfl (rest := []) (tk_X8_stops) (cw_X8_193 CF hK (by decide +kernel)) hw rfl hL.1.1 rfl th_cn (Nat.le_of_ble_eq_true rfl) dX8_does_136 ⟨by show _ ≤ (0 : Nat); omega, by show _ ≤ (0 : Nat); omega⟩) (fun r20 G19 H locs hw hR hS => ?_)
      exact th_iret hx hb hret hlk hR hS hw (by omega) (by omega) dX8_does_139
    by_cases g109 : x1 = 109
    · replace hw := hw.2.2.2.2.2.2.2.2.2.2.1 g109
      refine lv_tableIn hx hb dX8_does_1 (tgt := 134) (by rw [g109]; decide) (by rw [g109]; decide) (by rw [g109]; rfl) (by decide) ?_
      refine th_aload_n hx hb dX8_does_134 rfl (lv_at hL.1 0 rfl) ?_
      refine lv_iload_n hx hb dX8_does_135 rfl (lv_at hL.1 2 rfl) ?_
      obtain ⟨ho, hw⟩ := hw
      refine th_ki hS (th_rV CF hK hSt hR hS ho (ci := 8) rfl (rest := []) (tk_X8_stops) (cw_X8_193 CF hK (by decide +kernel)) hw rfl hL.1.1 rfl th_cn (Nat.le_of_ble_eq_true rfl) dX8_does_136 ⟨by show _ ≤ (0 : Nat); omega, by show _ ≤ (0 : Nat); omega⟩) (fun r22 G21 H locs hw hR hS => ?_)
      exact th_iret hx hb hret hlk hR hS hw (by omega) (by omega) dX8_does_139
    by_cases g110 : x1 = 110
    · replace hw := hw.2.2.2.2.2.2.2.2.2.2.2.1 g110
      refine lv_tableIn hx hb dX8_does_1 (tgt := 113) (by rw [g110]; decide) (by rw [g110]; decide) (by rw [g110]; rfl) (by decide) ?_
      refine th_aload_n hx hb dX8_does_113 rfl (lv_at hL.1 0 rfl) ?_
      refine lv_iload_n hx hb dX8_does_114 rfl (lv_at hL.1 2 rfl) ?_
      obtain ⟨ho, hw⟩ := hw
      refine th_ki hS (th_rV CF hK hSt hR hS ho (ci := 8) rfl (rest := []) (tk_X8_passes) (cw_X8_223 CF hK (by decide +kernel)) hw rfl hL.1.1 rfl th_cn (Nat.le_of_ble_eq_true rfl) dX8_does_115 ⟨by show _ ≤ (0 : Nat); omega, by show _ ≤ (0 : Nat); omega⟩) (fun r24 G23 H locs hw hR hS => ?_)
      exact th_iret hx hb hret hlk hR hS hw (by omega) (by omega) dX8_does_118
    by_cases g111 : x1 = 111
    · replace hw := hw.2.2.2.2.2.2.2.2.2.2.2.2.1 g111
      refine lv_tableIn hx hb dX8_does_1 (tgt := 134) (by rw [g111]; decide) (by rw [g111]; decide) (by rw [g111]; rfl) (by decide) ?_
      refine th_aload_n hx hb dX8_does_134 rfl (lv_at hL.1 0 rfl) ?_
      refine lv_iload_n hx hb dX8_does_135 rfl (lv_at hL.1 2 rfl) ?_
      obtain ⟨ho, hw⟩ := hw
      refine th_ki hS (th_rV CF hK hSt hR hS ho (ci := 8) rfl (rest := []) (tk_X8_stops) (cw_X8_193 CF hK (by decide +kernel)) hw rfl hL.1.1 rfl th_cn (Nat.le_of_ble_eq_true rfl) dX8_does_136 ⟨by show _ ≤ (0 : Nat); omega, by show _ ≤ (0 : Nat); omega⟩) (fun r26 G25 H locs hw hR hS => ?_)
      exact th_iret hx hb hret hlk hR hS hw (by omega) (by omega) dX8_does_139
    by_cases g112 : x1 = 112
    · replace hw := hw.2.2.2.2.2.2.2.2.2.2.2.2.2.1 g112
      refine lv_tableIn hx hb dX8_does_1 (tgt := 134) (by rw [g112]; decide) (by rw [g112]; decide) (by rw [g112]; rfl) (by decide) ?_
      refine th_aload_n hx hb dX8_does_134 rfl (lv_at hL.1 0 rfl) ?_
      refine lv_iload_n hx hb dX8_does_135 rfl (lv_at hL.1 2 rfl) ?_
      obtain ⟨ho, hw⟩ := hw
      refine th_ki hS (th_rV CF hK hSt hR hS ho (ci := 8) rfl (rest := []) (tk_X8_stops) (cw_X8_193 CF hK (by decide +kernel)) hw rfl hL.1.1 rfl th_cn (Nat.le_of_ble_eq_true rfl) dX8_does_136 ⟨by show _ ≤ (0 : Nat); omega, by show _ ≤ (0 : Nat); omega⟩) (fun r28 G27 H locs hw hR hS => ?_)
      exact th_iret hx hb hret hlk hR hS hw (by omega) (by omega) dX8_does_139
    by_cases g113 : x1 = 113
    · replace hw := hw.2.2.2.2.2.2.2.2.2.2.2.2.2.2.1 g113
      refine lv_tableIn hx hb dX8_does_1 (tgt := 134) (by rw [g113]; decide) (by rw [g113]; decide) (by rw [g113]; rfl) (by decide) ?_
      refine th_aload_n hx hb dX8_does_134 rfl (lv_at hL.1 0 rfl) ?_
      refine lv_iload_n hx hb dX8_does_135 rfl (lv_at hL.1 2 rfl) ?_
      obtain ⟨ho, hw⟩ := hw
      refine th_ki hS (th_rV CF hK hSt hR hS ho (ci := 8) rfl (rest := []) (tk_X8_stops) (cw_X8_193 CF hK (by decide +kernel)) hw rfl hL.1.1 rfl th_cn (Nat.le_of_ble_eq_true rfl) dX8_does_136 ⟨by show _ ≤ (0 : Nat); omega, by show _ ≤ (0 : Nat); omega⟩) (fun r30 G29 H locs hw hR hS => ?_)
      exact th_iret hx hb hret hlk hR hS hw (by omega) (by omega) dX8_does_139
    by_cases g114 : x1 = 114
    · replace hw := hw.2.2.2.2.2.2.2.2.2.2.2.2.2.2.2.1 g114
      refine lv_tableIn hx hb dX8_does_1 (tgt := 134) (by rw [g114]; decide) (by rw [g114]; decide) (by rw [g114]; rfl) (by decide) ?_
      refine th_aload_n hx hb dX8_does_134 rfl (lv_at hL.1 0 rfl) ?_
      refine lv_iload_n hx hb dX8_does_135 rfl (lv_at hL.1 2 rfl) ?_
      obtain ⟨ho, hw⟩ := hw
      refine th_ki hS (th_rV CF hK hSt hR hS ho (ci := 8) rfl (rest := []) (tk_X8_stops) (cw_X8_193 CF hK (by decide +kernel)) hw rfl hL.1.1 rfl th_cn (Nat.le_of_ble_eq_true rfl) dX8_does_136 ⟨by show _ ≤ (0 : Nat); omega, by show _ ≤ (0 : Nat); omega⟩) (fun r32 G31 H locs hw hR hS => ?_)
      exact th_iret hx hb hret hlk hR hS hw (by omega) (by omega) dX8_does_139
    by_cases g115 : x1 = 115
    · replace hw := hw.2.2.2.2.2.2.2.2.2.2.2.2.2.2.2.2.1 g115
      refine lv_tableIn hx hb dX8_does_1 (tgt := 119) (by rw [g115]; decide) (by rw [g115]; decide) (by rw [g115]; rfl) (by decide) ?_
      refine th_aload_n hx hb dX8_does_119 rfl (lv_at hL.1 0 rfl) ?_
      refine lv_iload_n hx hb dX8_does_120 rfl (lv_at hL.1 2 rfl) ?_
      refine lv_iload_n hx hb dX8_does_121 rfl (lv_at hL.1 3 rfl) ?_
      refine lv_iload hx hb dX8_does_122 (lv_at hL.1 4 rfl) ?_
      obtain ⟨ho, hw⟩ := hw
      refine th_ki hS (th_rV CF hK hSt hR hS ho (ci := 8) rfl (rest := []) (tk_X8_sells) (cw_X8_184 CF hK (by decide +kernel)) hw rfl hL.1.1 rfl th_cn (Nat.le_of_ble_eq_true rfl) dX8_does_124 ⟨by show _ ≤ (0 : Nat); omega, by show _ ≤ (0 : Nat); omega⟩) (fun r34 G33 H locs hw hR hS => ?_)
      exact th_iret hx hb hret hlk hR hS hw (by omega) (by omega) dX8_does_127
    by_cases g116 : x1 = 116
    · replace hw := hw.2.2.2.2.2.2.2.2.2.2.2.2.2.2.2.2.2.1 g116
      refine lv_tableIn hx hb dX8_does_1 (tgt := 104) (by rw [g116]; decide) (by rw [g116]; decide) (by rw [g116]; rfl) (by decide) ?_
      refine th_aload_n hx hb dX8_does_104 rfl (lv_at hL.1 0 rfl) ?_
      refine lv_iload_n hx hb dX8_does_105 rfl (lv_at hL.1 2 rfl) ?_
      refine lv_iload_n hx hb dX8_does_106 rfl (lv_at hL.1 3 rfl) ?_
      refine lv_iload hx hb dX8_does_107 (lv_at hL.1 4 rfl) ?_
      obtain ⟨ho, hw⟩ := hw
      refine th_ki hS (th_rV CF hK hSt hR hS ho (ci := 8) rfl (rest := []) (tk_X8_threshes) (cw_X8_172 CF hK (by decide +kernel)) hw rfl hL.1.1 rfl th_cn (Nat.le_of_ble_eq_true rfl) dX8_does_109 ⟨by show _ ≤ (0 : Nat); omega, by show _ ≤ (0 : Nat); omega⟩) (fun r36 G35 H locs hw hR hS => ?_)
      exact th_iret hx hb hret hlk hR hS hw (by omega) (by omega) dX8_does_112
    replace hw := hw.2.2.2.2.2.2.2.2.2.2.2.2.2.2.2.2.2.2 g99 g100 g101 g102 g103 g104 g105 g106 g107 g108 g109 g110 g111 g112 g113 g114 g115 g116
    have w99 := th_sw g99 (k := 99) (by decide)
    have w100 := th_sw g100 (k := 100) (by decide)
    have w101 := th_sw g101 (k := 101) (by decide)
    have w102 := th_sw g102 (k := 102) (by decide)
    have w103 := th_sw g103 (k := 103) (by decide)
    have w104 := th_sw g104 (k := 104) (by decide)
    have w105 := th_sw g105 (k := 105) (by decide)
    have w106 := th_sw g106 (k := 106) (by decide)
    have w107 := th_sw g107 (k := 107) (by decide)
    have w108 := th_sw g108 (k := 108) (by decide)
    have w109 := th_sw g109 (k := 109) (by decide)
    have w110 := th_sw g110 (k := 110) (by decide)
    have w111 := th_sw g111 (k := 111) (by decide)
    have w112 := th_sw g112 (k := 112) (by decide)
    have w113 := th_sw g113 (k := 113) (by decide)
    have w114 := th_sw g114 (k := 114) (by decide)
    have w115 := th_sw g115 (k := 115) (by decide)
    have w116 := th_sw g116 (k := 116) (by decide)
    refine lv_tableOut hx hb dX8_does_1 (tgt := 134) (by omega) (by decide) ?_
    refine th_aload_n hx hb dX8_does_134 rfl (lv_at hL.1 0 rfl) ?_
    refine lv_iload_n hx hb dX8_does_135 rfl (lv_at hL.1 2 rfl) ?_
    obtain ⟨ho, hw⟩ := hw
    refine th_ki hS (th_rV CF hK hSt hR hS ho (ci := 8) rfl (rest := []) (tk_X8_stops) (cw_X8_193 CF hK (by decide +kernel)) hw rfl hL.1.1 rfl th_cn (Nat.le_of_ble_eq_true rfl) dX8_does_136 ⟨by show _ ≤ (0 : Nat); omega, by show _ ≤ (0 : Nat); omega⟩) (fun r38 G37 H locs hw hR hS => ?_)
    exact th_iret hx hb hret hlk hR hS hw (by omega) (by omega) dX8_does_139)
def tw_X8_script_b126 (Q : Int32 → aH → Prop) (G : aH) (a0 : Nat) : Prop :=
  th_o G a0 8 ∧ (
  th_o G a0 8 ∧ (
  (tw_X8_remembers
    (fun (r6 : Int32) (G5 : aH) =>
      Q r6 G5)
    G a0 (a_mi G a0 20))))
def tw_X8_script_b91 (Q : Int32 → aH → Prop) (G : aH) (a0 : Nat) (x1 : Int32) : Prop :=
  th_o G a0 8 ∧ (
  (tw_X8_keeps
    (fun (G10 : aH) =>
      th_o G10 a0 8 ∧ (
      (tw_X8_keepsWhy
        (fun (G11 : aH) =>
          th_o G11 a0 8 ∧ (
          th_o G11 a0 8 ∧ (
          (tw_X8_copies
            (fun (G12 : aH) =>
              Q (-3) G12)
            G11 (a_mr G11 a0 1) 0 (a_mr G11 a0 0) 0))))
        G10 a0 1)))
    G a0 0 11 x1))
def tw_X8_script_b42 (Q : Int32 → aH → Prop) : Nat → aH → Nat → Int32 → Prop := fun n => Nat.rec (motive := fun _ => aH → Nat → Int32 → Prop) (fun _ _ _ => False) (fun _ ih G a0 x1 =>
  th_o G a0 8 ∧ (
  (a_mi G a0 20 ≤ x1 →
    tw_X8_script_b126 Q G a0) ∧
  (¬ a_mi G a0 20 ≤ x1 →
    th_o G a0 8 ∧ (
    th_ai G (a_mr G a0 21) 0 x1 ∧ (
    th_o G a0 8 ∧ (
    th_ai G (a_mr G a0 22) 0 (3 * x1) ∧ (
    th_o G a0 8 ∧ (
    th_ai G (a_mr G a0 22) 0 ((3 * x1) + 1) ∧ (
    th_o G a0 8 ∧ (
    th_ai G (a_mr G a0 22) 0 ((3 * x1) + 2) ∧ (
    th_o G a0 8 ∧ (
    (tw_X8_does
      (fun (r8 : Int32) (G7 : aH) =>
        (0 ≤ r8 →
          ∀ x1_9 : Int32, x1_9 = x1 + 1 → 
          ih G7 a0 x1_9) ∧
        (¬ 0 ≤ r8 →
          tw_X8_script_b91 Q G7 a0 x1))
      G a0 (a_mi G (a_mr G a0 21) x1.toNatClampNeg) (a_mi G (a_mr G a0 22) (3 * x1).toNatClampNeg) (a_mi G (a_mr G a0 22) ((3 * x1) + 1).toNatClampNeg) (a_mi G (a_mr G a0 22) ((3 * x1) + 2).toNatClampNeg)))))))))))))) n
theorem tws_X8_script_b42 (Q : Int32 → aH → Prop) (n : Nat) (G : aH) (a0 : Nat) (x1 : Int32) : tw_X8_script_b42 Q (n + 1) G a0 x1 = (
  th_o G a0 8 ∧ (
  (a_mi G a0 20 ≤ x1 →
    tw_X8_script_b126 Q G a0) ∧
  (¬ a_mi G a0 20 ≤ x1 →
    th_o G a0 8 ∧ (
    th_ai G (a_mr G a0 21) 0 x1 ∧ (
    th_o G a0 8 ∧ (
    th_ai G (a_mr G a0 22) 0 (3 * x1) ∧ (
    th_o G a0 8 ∧ (
    th_ai G (a_mr G a0 22) 0 ((3 * x1) + 1) ∧ (
    th_o G a0 8 ∧ (
    th_ai G (a_mr G a0 22) 0 ((3 * x1) + 2) ∧ (
    th_o G a0 8 ∧ (
    (tw_X8_does
      (fun (r8 : Int32) (G7 : aH) =>
        (0 ≤ r8 →
          ∀ x1_9 : Int32, x1_9 = x1 + 1 → 
          tw_X8_script_b42 Q n G7 a0 x1_9) ∧
        (¬ 0 ≤ r8 →
          tw_X8_script_b91 Q G7 a0 x1))
      G a0 (a_mi G (a_mr G a0 21) x1.toNatClampNeg) (a_mi G (a_mr G a0 22) (3 * x1).toNatClampNeg) (a_mi G (a_mr G a0 22) ((3 * x1) + 1).toNatClampNeg) (a_mi G (a_mr G a0 22) ((3 * x1) + 2).toNatClampNeg)))))))))))))) := rfl
def tw_X8_script (Q : Int32 → aH → Prop) (G : aH) (a0 : Nat) : Prop :=
  th_o G a0 8 ∧ (
  th_o G a0 8 ∧ (
  ∀ G1 : aH, G1 = a_si G a0 17 (a_mi G a0 11) → 
  th_o G1 a0 8 ∧ (
  ∀ G2 : aH, G2 = a_si G1 a0 11 0 → 
  th_o G2 a0 8 ∧ (
  (tw_X8_readsAll
    (fun (G3 : aH) =>
      th_o G3 a0 8 ∧ (
      (a_mi G3 a0 19 = (-1) →
        th_o G3 a0 8 ∧ (
        (tw_X8_starts
          (fun (G4 : aH) =>
            ∃ n9 : Nat, tw_X8_script_b42 Q n9 G4 a0 0)
          G3 a0))) ∧
      (¬ a_mi G3 a0 19 = (-1) →
        th_o G3 a0 8 ∧ (
        th_o G3 a0 8 ∧ (
        ∀ G13 : aH, G13 = a_si G3 a0 12 (a_mi G3 a0 19) → 
        Q (-2) G13)))))
    G2 a0)))))
theorem tk_X8_script_b126 {p : Program} {l : Launch} {e : Env} {s : State} {m : MethodId} {args : Array Value} {below : List Frame} {meth : Method} {c : Code} {D : tD} {B : Nat} (E : th_E p m c cX8_script 2 s args RX8 meth ((Option.some Jvm.ClassFile.FieldType.int)) "script" D B) {Q : Int32 → aH → Prop} {G : aH} {H : Heap} {locs : List Loc} {cells slots : Nat} {ls : Array Slot} {a0 : Nat} (hR : th_H D B G H) (hS : va_S (th_A B) s.heap H locs) (hL : th_L ls 2 [(0, rv a0)]) (hw : tw_X8_script_b126 Q G a0) (hc : cells + (0) ≤ 0 ∧ slots + (0) ≤ 0) : W p l e rm_X8_script s m args below meth c H locs cells slots (MQ below (th_Qi D B Q) args s 0 0 (th_A B)) (F0 m 126 ls []) := by
  have CF := E.1; have hx := CF.1; have hb := CF.2.1; have hret := E.2.1; have hlk := E.2.2.1; have hnm := E.2.2.2.1; have hK := E.2.2.2.2.1; have hSt := E.2.2.2.2.2
  unfold tw_X8_script_b126 at hw
  refine th_aload_n hx hb dX8_script_126 rfl (lv_at hL.1 0 rfl) ?_
  refine th_aload_n hx hb dX8_script_127 rfl (lv_at hL.1 0 rfl) ?_
  obtain ⟨ho, hw⟩ := hw
  refine fg_X8_268 CF hK hR ho dX8_script_128 ?_
  obtain ⟨ho, hw⟩ := hw
  refine th_ki hS (th_rV CF hK hSt hR hS ho (ci := 8) rfl (rest := []) (tk_X8_remembers) (cw_X8_81 CF hK (by decide +kernel)) hw rfl hL.1.1 rfl th_cn (Nat.le_of_ble_eq_true rfl) dX8_script_131 ⟨by show _ ≤ (0 : Nat); omega, by show _ ≤ (0 : Nat); omega⟩) (fun r6 G5 H locs hw hR hS => ?_)
  exact th_iret hx hb hret hlk hR hS hw (by omega) (by omega) dX8_script_134
theorem tk_X8_script_b91 {p : Program} {l : Launch} {e : Env} {s : State} {m : MethodId} {args : Array Value} {below : List Frame} {meth : Method} {c : Code} {D : tD} {B : Nat} (E : th_E p m c cX8_script 2 s args RX8 meth ((Option.some Jvm.ClassFile.FieldType.int)) "script" D B) {Q : Int32 → aH → Prop} {G : aH} {H : Heap} {locs : List Loc} {cells slots : Nat} {ls : Array Slot} {a0 : Nat} {x1 : Int32} (hR : th_H D B G H) (hS : va_S (th_A B) s.heap H locs) (hL : th_L ls 2 [(0, rv a0), (1, .int x1)]) (hw : tw_X8_script_b91 Q G a0 x1) (hc : cells + (0) ≤ 0 ∧ slots + (0) ≤ 0) : W p l e rm_X8_script s m args below meth c H locs cells slots (MQ below (th_Qi D B Q) args s 0 0 (th_A B)) (F0 m 91 ls []) := by
  have CF := E.1; have hx := CF.1; have hb := CF.2.1; have hret := E.2.1; have hlk := E.2.2.1; have hnm := E.2.2.2.1; have hK := E.2.2.2.2.1; have hSt := E.2.2.2.2.2
  unfold tw_X8_script_b91 at hw
  refine th_aload_n hx hb dX8_script_91 rfl (lv_at hL.1 0 rfl) ?_
  refine lv_iconst hx hb dX8_script_92 (v := 0) rfl ?_
  refine lv_bipush hx hb dX8_script_93 (v := 11) rfl ?_
  refine lv_iload_n hx hb dX8_script_95 rfl (lv_at hL.1 1 rfl) ?_
  obtain ⟨ho, hw⟩ := hw
  refine th_kv hS (th_rV CF hK hSt hR hS ho (ci := 8) rfl (rest := []) (tk_X8_keeps) (cw_X8_69 CF hK (by decide +kernel)) hw rfl hL.1.1 rfl th_cn (Nat.le_of_ble_eq_true rfl) dX8_script_96 ⟨by show _ ≤ (0 : Nat); omega, by show _ ≤ (0 : Nat); omega⟩) (fun G10 H locs hw hR hS => ?_)
  refine th_aload_n hx hb dX8_script_99 rfl (lv_at hL.1 0 rfl) ?_
  refine lv_iconst hx hb dX8_script_100 (v := 1) rfl ?_
  obtain ⟨ho, hw⟩ := hw
  refine th_kv hS (th_rV CF hK hSt hR hS ho (ci := 8) rfl (rest := []) (tk_X8_keepsWhy) (cw_X8_77 CF hK (by decide +kernel)) hw rfl hL.1.1 rfl th_cn (Nat.le_of_ble_eq_true rfl) dX8_script_101 ⟨by show _ ≤ (0 : Nat); omega, by show _ ≤ (0 : Nat); omega⟩) (fun G11 H locs hw hR hS => ?_)
  refine th_aload_n hx hb dX8_script_104 rfl (lv_at hL.1 0 rfl) ?_
  obtain ⟨ho, hw⟩ := hw
  refine fg_X8_13 CF hK hR ho dX8_script_105 ?_
  refine lv_iconst hx hb dX8_script_108 (v := 0) rfl ?_
  refine th_aload_n hx hb dX8_script_109 rfl (lv_at hL.1 0 rfl) ?_
  obtain ⟨ho, hw⟩ := hw
  refine fg_X8_9 CF hK hR ho dX8_script_110 ?_
  refine lv_iconst hx hb dX8_script_113 (v := 0) rfl ?_
  refine th_kv hS (th_rS CF hK hSt hR hS (rest := []) (tk_X8_copies) (cw_X8_73 CF hK (by decide +kernel)) hw rfl hL.1.1 rfl th_cn (Nat.le_of_ble_eq_true rfl) dX8_script_114 ⟨by show _ ≤ (0 : Nat); omega, by show _ ≤ (0 : Nat); omega⟩) (fun G12 H locs hw hR hS => ?_)
  refine lv_bipush hx hb dX8_script_117 (v := (-3)) rfl ?_
  exact th_iret hx hb hret hlk hR hS hw (by omega) (by omega) dX8_script_119
theorem tk_X8_script_b42 {p : Program} {l : Launch} {e : Env} {s : State} {m : MethodId} {args : Array Value} {below : List Frame} {meth : Method} {c : Code} {D : tD} {B : Nat} (E : th_E p m c cX8_script 2 s args RX8 meth ((Option.some Jvm.ClassFile.FieldType.int)) "script" D B) {Q : Int32 → aH → Prop} : ∀ (n : Nat) {G : aH} {H : Heap} {locs : List Loc} {cells slots : Nat} {ls : Array Slot} {a0 : Nat} {x1 : Int32} (hR : th_H D B G H) (hS : va_S (th_A B) s.heap H locs) (hL : th_L ls 2 [(0, rv a0), (1, .int x1)]) (hw : tw_X8_script_b42 Q n G a0 x1) (hc : cells + (0) ≤ 0 ∧ slots + (0) ≤ 0), W p l e rm_X8_script s m args below meth c H locs cells slots (MQ below (th_Qi D B Q) args s 0 0 (th_A B)) (F0 m 42 ls []) := by
  have CF := E.1; have hx := CF.1; have hb := CF.2.1; have hret := E.2.1; have hlk := E.2.2.1; have hnm := E.2.2.2.1; have hK := E.2.2.2.2.1; have hSt := E.2.2.2.2.2
  intro n
  induction n with
  | zero => intro _ _ _ _ _ _ _ _ _ _ _ hw; exact hw.elim
  | succ n ih =>
    intro G H locs cells slots ls a0 x1 hR hS hL hw hc
    rw [tws_X8_script_b42] at hw
    refine lv_iload_n hx hb dX8_script_42 rfl (lv_at hL.1 1 rfl) ?_
    refine th_aload_n hx hb dX8_script_43 rfl (lv_at hL.1 0 rfl) ?_
    obtain ⟨ho, hw⟩ := hw
    refine fg_X8_268 CF hK hR ho dX8_script_44 ?_
    refine lv_icmp_ge hx hb dX8_script_47 (tgt := 126) (by decide) (fun h => ?_) (fun h => ?_)
    · replace hw := hw.1 h
      exact tk_X8_script_b126 E hR hS (hL.sub [0] rfl) hw ⟨by omega, by omega⟩
    · replace hw := hw.2 h
      refine th_aload_n hx hb dX8_script_50 rfl (lv_at hL.1 0 rfl) ?_
      refine th_aload_n hx hb dX8_script_51 rfl (lv_at hL.1 0 rfl) ?_
      obtain ⟨ho, hw⟩ := hw
      refine fg_X8_44 CF hK hR ho dX8_script_52 ?_
      refine lv_iload_n hx hb dX8_script_55 rfl (lv_at hL.1 1 rfl) ?_
      obtain ⟨ha, hw⟩ := hw
      refine th_iald hx hb hK hR ha dX8_script_56 ?_
      refine th_aload_n hx hb dX8_script_57 rfl (lv_at hL.1 0 rfl) ?_
      obtain ⟨ho, hw⟩ := hw
      refine fg_X8_47 CF hK hR ho dX8_script_58 ?_
      refine lv_iconst hx hb dX8_script_61 (v := 3) rfl ?_
      refine lv_iload_n hx hb dX8_script_62 rfl (lv_at hL.1 1 rfl) ?_
      refine lv_imul hx hb dX8_script_63 ?_
      obtain ⟨ha, hw⟩ := hw
      refine th_iald hx hb hK hR ha dX8_script_64 ?_
      refine th_aload_n hx hb dX8_script_65 rfl (lv_at hL.1 0 rfl) ?_
      obtain ⟨ho, hw⟩ := hw
      refine fg_X8_47 CF hK hR ho dX8_script_66 ?_
      refine lv_iconst hx hb dX8_script_69 (v := 3) rfl ?_
      refine lv_iload_n hx hb dX8_script_70 rfl (lv_at hL.1 1 rfl) ?_
      refine lv_imul hx hb dX8_script_71 ?_
      refine lv_iconst hx hb dX8_script_72 (v := 1) rfl ?_
      refine lv_iadd hx hb dX8_script_73 ?_
      obtain ⟨ha, hw⟩ := hw
      refine th_iald hx hb hK hR ha dX8_script_74 ?_
      refine th_aload_n hx hb dX8_script_75 rfl (lv_at hL.1 0 rfl) ?_
      obtain ⟨ho, hw⟩ := hw
      refine fg_X8_47 CF hK hR ho dX8_script_76 ?_
      refine lv_iconst hx hb dX8_script_79 (v := 3) rfl ?_
      refine lv_iload_n hx hb dX8_script_80 rfl (lv_at hL.1 1 rfl) ?_
      refine lv_imul hx hb dX8_script_81 ?_
      refine lv_iconst hx hb dX8_script_82 (v := 2) rfl ?_
      refine lv_iadd hx hb dX8_script_83 ?_
      obtain ⟨ha, hw⟩ := hw
      refine th_iald hx hb hK hR ha dX8_script_84 ?_
      obtain ⟨ho, hw⟩ := hw
      refine th_ki hS (th_rV CF hK hSt hR hS ho (ci := 8) rfl (rest := []) (tk_X8_does) (cw_X8_289 CF hK (by decide +kernel)) hw rfl hL.1.1 rfl th_cn (Nat.le_of_ble_eq_true rfl) dX8_script_85 ⟨by show _ ≤ (0 : Nat); omega, by show _ ≤ (0 : Nat); omega⟩) (fun r8 G7 H locs hw hR hS => ?_)
      refine lv_if_ge hx hb dX8_script_88 (tgt := 120) (by decide) (fun h => ?_) (fun h => ?_)
      · replace hw := hw.1 h
        obtain ⟨x1_9, hx1_9⟩ : ∃ y : Int32, y = x1 + 1 := ⟨_, rfl⟩
        replace hw := hw x1_9 hx1_9
        refine th_iinc hx hb dX8_script_120 hL (k := 1) rfl (v := x1_9) hx1_9.symm (by decide) rfl (fun ls hL => ?_)
        refine lv_goto hx hb dX8_script_123 (tgt := 42) (by decide) ?_
        exact ih hR hS (hL.sub [1, 0] rfl) hw ⟨by omega, by omega⟩
      · replace hw := hw.2 h
        exact tk_X8_script_b91 E hR hS (hL.sub [0, 1] rfl) hw ⟨by omega, by omega⟩
theorem tk_X8_script {l : Launch} {D : tD} {B : Nat} {Q : Int32 → aH → Prop} {a0 : Nat} : Met l yX8_script (ws_ yX8_script cX8_script 2 ((Option.some Jvm.ClassFile.FieldType.int))) rm_X8_script (th_P D B [rv a0] (fun G => tw_X8_script Q G a0)) (th_Qi D B Q) 0 0 (th_A B) :=
  th_ofW (by decide +kernel) (th_cr th_cn) (Nat.le_of_ble_eq_true rfl) (fun p e s m args below meth c CF hret hlk hnm hK hSt G ls hR hS hw hL => by
    have E : th_E p m c cX8_script 2 s args RX8 meth ((Option.some Jvm.ClassFile.FieldType.int)) "script" D B := ⟨CF, hret, hlk, hnm, hK, hSt⟩
    have hx := CF.1; have hb := CF.2.1
    have hL : th_L ls 2 [(0, rv a0)] := hL
    unfold tw_X8_script at hw
    refine th_aload_n hx hb dX8_script_0 rfl (lv_at hL.1 0 rfl) ?_
    refine th_aload_n hx hb dX8_script_1 rfl (lv_at hL.1 0 rfl) ?_
    obtain ⟨ho, hw⟩ := hw
    refine fg_X8_60 CF hK hR ho dX8_script_2 ?_
    obtain ⟨ho, hw⟩ := hw
    refine fp_X8_256 CF hK hR hS ho dX8_script_5 (fun G1 H locs hG hR hS => ?_)
    replace hw := hw G1 hG
    refine th_aload_n hx hb dX8_script_8 rfl (lv_at hL.1 0 rfl) ?_
    refine lv_iconst hx hb dX8_script_9 (v := 0) rfl ?_
    obtain ⟨ho, hw⟩ := hw
    refine fp_X8_60 CF hK hR hS ho dX8_script_10 (fun G2 H locs hG hR hS => ?_)
    replace hw := hw G2 hG
    refine th_aload_n hx hb dX8_script_13 rfl (lv_at hL.1 0 rfl) ?_
    obtain ⟨ho, hw⟩ := hw
    refine th_kv hS (th_rV CF hK hSt hR hS ho (ci := 8) rfl (rest := []) (tk_X8_readsAll) (cw_X8_286 CF hK (by decide +kernel)) hw rfl hL.1.1 rfl th_cn (Nat.le_of_ble_eq_true rfl) dX8_script_14 ⟨by show _ ≤ (0 : Nat); omega, by show _ ≤ (0 : Nat); omega⟩) (fun G3 H locs hw hR hS => ?_)
    refine th_aload_n hx hb dX8_script_17 rfl (lv_at hL.1 0 rfl) ?_
    obtain ⟨ho, hw⟩ := hw
    refine fg_X8_259 CF hK hR ho dX8_script_18 ?_
    refine lv_iconst hx hb dX8_script_21 (v := (-1)) rfl ?_
    refine lv_icmp_eq hx hb dX8_script_22 (tgt := 36) (by decide) (fun h => ?_) (fun h => ?_)
    · replace hw := hw.1 h
      refine th_aload_n hx hb dX8_script_36 rfl (lv_at hL.1 0 rfl) ?_
      obtain ⟨ho, hw⟩ := hw
      refine th_kv hS (th_rV CF hK hSt hR hS ho (ci := 8) rfl (rest := []) (tk_X8_starts) (cw_X8_97 CF hK (by decide +kernel)) hw rfl hL.1.1 rfl th_cn (Nat.le_of_ble_eq_true rfl) dX8_script_37 ⟨by show _ ≤ (0 : Nat); omega, by show _ ≤ (0 : Nat); omega⟩) (fun G4 H locs hw hR hS => ?_)
      refine lv_iconst hx hb dX8_script_40 (v := 0) rfl ?_
      refine th_istore_n hx hb dX8_script_41 rfl hL (by decide) rfl (fun ls hL => ?_)
      obtain ⟨n9, hw⟩ := hw
      exact tk_X8_script_b42 E n9 hR hS (hL.sub [1, 0] rfl) hw ⟨by omega, by omega⟩
    · replace hw := hw.2 h
      refine th_aload_n hx hb dX8_script_25 rfl (lv_at hL.1 0 rfl) ?_
      refine th_aload_n hx hb dX8_script_26 rfl (lv_at hL.1 0 rfl) ?_
      obtain ⟨ho, hw⟩ := hw
      refine fg_X8_259 CF hK hR ho dX8_script_27 ?_
      obtain ⟨ho, hw⟩ := hw
      refine fp_X8_34 CF hK hR hS ho dX8_script_30 (fun G13 H locs hG hR hS => ?_)
      replace hw := hw G13 hG
      refine lv_bipush hx hb dX8_script_33 (v := (-2)) rfl ?_
      exact th_iret hx hb hret hlk hR hS hw (by omega) (by omega) dX8_script_35)
