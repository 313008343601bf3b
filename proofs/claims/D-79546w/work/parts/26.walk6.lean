/-! WALKS: J0_init J1_init X0_init X0_lasts X0_lotOf X0_meanRats X2_becomes X0_doParish X0_parish X0_doPass X0_pass X0_doPrice X0_price X0_ranked X10_behind X0_reason X0_restore -/
set_option maxRecDepth 100000
def tw_J0_init (Q : aH → Prop) (G : aH) (a0 : Nat) (x1 : Int32) : Prop :=
  (a_sh G a0).1 ≠ 0 ∧ (
  ((1 : Int32) = 0 →
    False) ∧
  (¬ (1 : Int32) = 0 →
    (¬ x1 < 0 ∧ x1.toNatClampNeg = 300) ∧ (
    ∀ z1 : Nat, z1 = a_sz G → ∀ G2 : aH, G2 = a_nw G (100 + 1) 300 → 
    th_o G2 a0 12 ∧ (
    ∀ G3 : aH, G3 = a_sr G2 a0 0 z1 → 
    th_o G3 a0 12 ∧ (
    ∀ G4 : aH, G4 = a_si G3 a0 1 0 → 
    Q G4)))))
theorem tk_J0_init {l : Launch} {D : tD} {B : Nat} {Q : aH → Prop} {a0 : Nat} {x1 : Int32} : Met l yJ0_init (ws_ yJ0_init cJ0_init 2 ((Option.none : Option Jvm.ClassFile.FieldType))) rm_J0_init (th_P D B [rv a0, .int x1] (fun G => tw_J0_init Q G a0 x1)) (th_Qv D B Q) 1 300 (th_A B) :=
  th_ofW (by decide +kernel) (th_cr (th_ci th_cn)) (Nat.le_of_ble_eq_true rfl) (fun p e s m args below meth c CF hret hlk hnm hK hSt G ls hR hS hw hL => by
    have E : th_E p m c cJ0_init 2 s args RJ0 meth ((Option.none : Option Jvm.ClassFile.FieldType)) "<init>" D B := ⟨CF, hret, hlk, hnm, hK, hSt⟩
    have hx := CF.1; have hb := CF.2.1
    have hL : th_L ls 2 [(0, rv a0), (1, .int x1)] := hL
    unfold tw_J0_init at hw
    refine th_aload_n hx hb dJ0_init_0 rfl (lv_at hL.1 0 rfl) ?_
    obtain ⟨h0, hw⟩ := hw
    refine th_objInit hx hb CF.2.2.2.1 (CF.2.2.2.2 _ q369) (CF.2.2.2.2 _ q148) (CF.2.2.2.2 _ q149) (hL.1.1.trans CF.2.2.1.symm) hR h0 th_cn (Nat.le_of_ble_eq_true rfl) (by decide) (by decide) dJ0_init_1 ?_
    refine va_gets hx hb hSt.1 hS CF.2.2.2.1 (CF.2.2.2.2 _ q370) (fun _ h => h) dJ0_init_4 ?_
    refine lv_if_eq hx hb dJ0_init_7 (tgt := 25) (by decide) (fun h => ?_) (fun h => ?_)
    · replace hw := hw.1 h
      exact hw.elim
    · replace hw := hw.2 h
      refine th_aload_n hx hb dJ0_init_10 rfl (lv_at hL.1 0 rfl) ?_
      refine lv_iload_n hx hb dJ0_init_11 rfl (lv_at hL.1 1 rfl) ?_
      obtain ⟨h0, hw⟩ := hw
      refine th_newa hx hb 1 (atype := .byte) (CF.2.2.2.2 _ q392) rfl (by decide) (n := x1) 300 h0.1 h0.2 (by decide +kernel) hK hR hS (by show _ ≤ (1 : Nat); omega) (by show _ ≤ (300 : Nat); omega) dJ0_init_12 (fun z1 G2 H hz hG hR hS => ?_)
      replace hw := hw z1 hz G2 hG
      obtain ⟨ho, hw⟩ := hw
      refine fp_J0_15 CF hK hR hS ho dJ0_init_14 (fun G3 H locs hG hR hS => ?_)
      replace hw := hw G3 hG
      refine th_aload_n hx hb dJ0_init_17 rfl (lv_at hL.1 0 rfl) ?_
      refine lv_iconst hx hb dJ0_init_18 (v := 0) rfl ?_
      obtain ⟨ho, hw⟩ := hw
      refine fp_J0_22 CF hK hR hS (Or.inl rfl) ho dJ0_init_19 (fun G4 H locs hG hR hS => ?_)
      replace hw := hw G4 hG
      refine lv_goto hx hb dJ0_init_22 (tgt := 38) (by decide) ?_
      exact th_vret hx hb hret hlk hR hS hw (by omega) (by omega) dJ0_init_38)
def tw_J1_init (Q : aH → Prop) (G : aH) (a0 : Nat) (x1 : Int32) : Prop :=
  (a_sh G a0).1 ≠ 0 ∧ (
  (tw_J0_init
    (fun (G1 : aH) =>
      Q G1)
    G a0 x1))
theorem tk_J1_init {l : Launch} {D : tD} {B : Nat} {Q : aH → Prop} {a0 : Nat} {x1 : Int32} : Met l yJ1_init (ws_ yJ1_init cJ1_init 2 ((Option.none : Option Jvm.ClassFile.FieldType))) rm_J1_init (th_P D B [rv a0, .int x1] (fun G => tw_J1_init Q G a0 x1)) (th_Qv D B Q) 1 300 (th_A B) :=
  th_ofW (by decide +kernel) (th_cr (th_ci th_cn)) (Nat.le_of_ble_eq_true rfl) (fun p e s m args below meth c CF hret hlk hnm hK hSt G ls hR hS hw hL => by
    have E : th_E p m c cJ1_init 2 s args RJ1 meth ((Option.none : Option Jvm.ClassFile.FieldType)) "<init>" D B := ⟨CF, hret, hlk, hnm, hK, hSt⟩
    have hx := CF.1; have hb := CF.2.1
    have hL : th_L ls 2 [(0, rv a0), (1, .int x1)] := hL
    unfold tw_J1_init at hw
    refine th_aload_n hx hb dJ1_init_0 rfl (lv_at hL.1 0 rfl) ?_
    refine lv_iload_n hx hb dJ1_init_1 rfl (lv_at hL.1 1 rfl) ?_
    obtain ⟨h0, hw⟩ := hw
    refine th_kv hS (th_rI CF hK hSt hR hS h0 (rest := []) (tk_J0_init) (cw_J1_1 CF hK (by decide +kernel)) hw rfl hL.1.1 rfl th_cn (Nat.le_of_ble_eq_true rfl) dJ1_init_2 ⟨by show _ ≤ (1 : Nat); omega, by show _ ≤ (300 : Nat); omega⟩) (fun G1 H locs hw hR hS => ?_)
    exact th_vret hx hb hret hlk hR hS hw (by omega) (by omega) dJ1_init_5)
def tw_X0_init_b117 (Q : aH → Prop) (G : aH) (a0 : Nat) : Prop :=
  ∀ z29 : Nat, z29 = a_sz G → ∀ G30 : aH, G30 = a_nw G (100 + 10) 60 → 
  th_o G30 a0 0 ∧ (
  ∀ G31 : aH, G31 = a_sr G30 a0 11 z29 → 
  Q G31)
def tw_X0_init_b92 (Q : aH → Prop) : Nat → aH → Nat → Int32 → Prop := fun n => Nat.rec (motive := fun _ => aH → Nat → Int32 → Prop) (fun _ _ _ => False) (fun _ ih G a0 x1 =>
  (8 ≤ x1 →
    tw_X0_init_b117 Q G a0) ∧
  (¬ 8 ≤ x1 →
    th_o G a0 0 ∧ (
    ∀ z32 : Nat, z32 = a_sz G → ∀ G33 : aH, G33 = a_nw G (1 + 1) 0 → 
    (a_sh G33 z32).1 ≠ 0 ∧ (
    (tw_X1_init
      (fun (G34 : aH) =>
        th_ai G34 (a_mr G a0 5) 9 x1 ∧ th_o G34 z32 1 ∧ (
        ∀ G35 : aH, G35 = a_sr G34 (a_mr G a0 5) x1.toNatClampNeg z32 → 
        ∀ x1_36 : Int32, x1_36 = x1 + 1 → 
        ih G35 a0 x1_36))
      G33 z32))))) n
theorem tws_X0_init_b92 (Q : aH → Prop) (n : Nat) (G : aH) (a0 : Nat) (x1 : Int32) : tw_X0_init_b92 Q (n + 1) G a0 x1 = (
  (8 ≤ x1 →
    tw_X0_init_b117 Q G a0) ∧
  (¬ 8 ≤ x1 →
    th_o G a0 0 ∧ (
    ∀ z32 : Nat, z32 = a_sz G → ∀ G33 : aH, G33 = a_nw G (1 + 1) 0 → 
    (a_sh G33 z32).1 ≠ 0 ∧ (
    (tw_X1_init
      (fun (G34 : aH) =>
        th_ai G34 (a_mr G a0 5) 9 x1 ∧ th_o G34 z32 1 ∧ (
        ∀ G35 : aH, G35 = a_sr G34 (a_mr G a0 5) x1.toNatClampNeg z32 → 
        ∀ x1_36 : Int32, x1_36 = x1 + 1 → 
        tw_X0_init_b92 Q n G35 a0 x1_36))
      G33 z32))))) := rfl
def tw_X0_init (Q : aH → Prop) (G : aH) (a0 : Nat) : Prop :=
  (a_sh G a0).1 ≠ 0 ∧ (
  ∀ z1 : Nat, z1 = a_sz G → ∀ G2 : aH, G2 = a_nw G (1 + 1) 0 → 
  (a_sh G2 z1).1 ≠ 0 ∧ (
  (tw_X1_init
    (fun (G3 : aH) =>
      th_o G3 a0 0 ∧ (
      ∀ G4 : aH, G4 = a_sr G3 a0 0 z1 → 
      ∀ z5 : Nat, z5 = a_sz G4 → ∀ G6 : aH, G6 = a_nw G4 (1 + 1) 0 → 
      (a_sh G6 z5).1 ≠ 0 ∧ (
      (tw_X1_init
        (fun (G7 : aH) =>
          th_o G7 a0 0 ∧ (
          ∀ G8 : aH, G8 = a_sr G7 a0 1 z5 → 
          ∀ z9 : Nat, z9 = a_sz G8 → ∀ G10 : aH, G10 = a_nw G8 (1 + 1) 0 → 
          (a_sh G10 z9).1 ≠ 0 ∧ (
          (tw_X1_init
            (fun (G11 : aH) =>
              th_o G11 a0 0 ∧ (
              ∀ G12 : aH, G12 = a_sr G11 a0 2 z9 → 
              ∀ z13 : Nat, z13 = a_sz G12 → ∀ G14 : aH, G14 = a_nw G12 (1 + 1) 0 → 
              (a_sh G14 z13).1 ≠ 0 ∧ (
              (tw_X1_init
                (fun (G15 : aH) =>
                  th_o G15 a0 0 ∧ (
                  ∀ G16 : aH, G16 = a_sr G15 a0 3 z13 → 
                  ∀ z17 : Nat, z17 = a_sz G16 → ∀ G18 : aH, G18 = a_nw G16 (100 + 9) 8 → 
                  th_o G18 a0 0 ∧ (
                  ∀ G19 : aH, G19 = a_sr G18 a0 5 z17 → 
                  th_o G19 a0 0 ∧ (
                  ∀ G20 : aH, G20 = a_si G19 a0 8 (-4) → 
                  ∀ z21 : Nat, z21 = a_sz G20 → ∀ G22 : aH, G22 = a_nw G20 (12 + 1) 0 → 
                  (a_sh G22 z21).1 ≠ 0 ∧ (
                  (tw_J1_init
                    (fun (G23 : aH) =>
                      th_o G23 a0 0 ∧ (
                      ∀ G24 : aH, G24 = a_sr G23 a0 9 z21 → 
                      ∀ z25 : Nat, z25 = a_sz G24 → ∀ G26 : aH, G26 = a_nw G24 (12 + 1) 0 → 
                      (a_sh G26 z25).1 ≠ 0 ∧ (
                      (tw_J1_init
                        (fun (G27 : aH) =>
                          th_o G27 a0 0 ∧ (
                          ∀ G28 : aH, G28 = a_sr G27 a0 10 z25 → 
                          tw_X0_init_b92 Q 9 G28 a0 0))
                        G26 z25 300))))
                    G22 z21 60))))))
                G14 z13))))
            G10 z9))))
        G6 z5))))
    G2 z1)))
theorem tk_X0_init_b117 {p : Program} {l : Launch} {e : Env} {s : State} {m : MethodId} {args : Array Value} {below : List Frame} {meth : Method} {c : Code} {D : tD} {B : Nat} (E : th_E p m c cX0_init 2 s args RX0 meth ((Option.none : Option Jvm.ClassFile.FieldType)) "<init>" D B) {Q : aH → Prop} {G : aH} {H : Heap} {locs : List Loc} {cells slots : Nat} {ls : Array Slot} {a0 : Nat} (hR : th_H D B G H) (hS : va_S (th_A B) s.heap H locs) (hL : th_L ls 2 [(0, rv a0)]) (hw : tw_X0_init_b117 Q G a0) (hc : cells + (1) ≤ 4647 ∧ slots + (60) ≤ 15938) : W p l e rm_X0_init s m args below meth c H locs cells slots (MQ below (th_Qv D B Q) args s 4647 15938 (th_A B)) (F0 m 117 ls []) := by
  have CF := E.1; have hx := CF.1; have hb := CF.2.1; have hret := E.2.1; have hlk := E.2.2.1; have hnm := E.2.2.2.1; have hK := E.2.2.2.2.1; have hSt := E.2.2.2.2.2
  unfold tw_X0_init_b117 at hw
  refine th_aload_n hx hb dX0_init_117 rfl (lv_at hL.1 0 rfl) ?_
  refine lv_bipush hx hb dX0_init_118 (v := 60) rfl ?_
  refine th_newq hx hb 10 CF.2.2.2.1 (CF.2.2.2.2 _ q393) q394 rfl (by decide) (n := 60) 60 (by decide) rfl (by decide) hK hR hS (by show _ ≤ (4647 : Nat); omega) (by show _ ≤ (15938 : Nat); omega) dX0_init_120 (fun z29 G30 H hz hG hR hS => ?_)
  replace hw := hw z29 hz G30 hG
  obtain ⟨ho, hw⟩ := hw
  refine fp_X0_55 CF hK hR hS hnm ho dX0_init_123 (fun G31 H locs hG hR hS => ?_)
  replace hw := hw G31 hG
  exact th_vret hx hb hret hlk hR hS hw (by omega) (by omega) dX0_init_126
theorem tk_X0_init_b92 {p : Program} {l : Launch} {e : Env} {s : State} {m : MethodId} {args : Array Value} {below : List Frame} {meth : Method} {c : Code} {D : tD} {B : Nat} (E : th_E p m c cX0_init 2 s args RX0 meth ((Option.none : Option Jvm.ClassFile.FieldType)) "<init>" D B) {Q : aH → Prop} : ∀ (n : Nat) {G : aH} {H : Heap} {locs : List Loc} {cells slots : Nat} {ls : Array Slot} {a0 : Nat} {x1 : Int32} (hR : th_H D B G H) (hS : va_S (th_A B) s.heap H locs) (hL : th_L ls 2 [(0, rv a0), (1, .int x1)]) (hw : tw_X0_init_b92 Q n G a0 x1) (hc : cells + (n * 357 + 1) ≤ 4647 ∧ slots + (n * 1174 + 60) ≤ 15938), W p l e rm_X0_init s m args below meth c H locs cells slots (MQ below (th_Qv D B Q) args s 4647 15938 (th_A B)) (F0 m 92 ls []) := by
  have CF := E.1; have hx := CF.1; have hb := CF.2.1; have hret := E.2.1; have hlk := E.2.2.1; have hnm := E.2.2.2.1; have hK := E.2.2.2.2.1; have hSt := E.2.2.2.2.2
  intro n
  induction n with
  | zero => intro _ _ _ _ _ _ _ _ _ _ _ hw; exact hw.elim
  | succ n ih =>
    intro G H locs cells slots ls a0 x1 hR hS hL hw hc
    rw [tws_X0_init_b92] at hw
    refine lv_iload_n hx hb dX0_init_92 rfl (lv_at hL.1 1 rfl) ?_
    refine lv_bipush hx hb dX0_init_93 (v := 8) rfl ?_
    refine lv_icmp_ge hx hb dX0_init_95 (tgt := 117) (by decide) (fun h => ?_) (fun h => ?_)
    · replace hw := hw.1 h
      exact tk_X0_init_b117 E hR hS (hL.sub [0] rfl) hw ⟨by omega, by omega⟩
    · replace hw := hw.2 h
      refine th_aload_n hx hb dX0_init_98 rfl (lv_at hL.1 0 rfl) ?_
      obtain ⟨ho, hw⟩ := hw
      refine fg_X0_35 CF hK hR ho dX0_init_99 ?_
      refine lv_iload_n hx hb dX0_init_102 rfl (lv_at hL.1 1 rfl) ?_
      refine fn_X0_19 CF hK hR hS (by show _ ≤ (4647 : Nat); omega) (by show _ ≤ (15938 : Nat); omega) dX0_init_103 (fun z32 G33 H hz hG hR hS => ?_)
      replace hw := hw z32 hz G33 hG
      refine lv_dup hx hb dX0_init_106 (rv_cat _) ?_
      obtain ⟨h0, hw⟩ := hw
      refine th_kv hS (th_rIN CF hK hSt hR hS h0 (rest := [rv z32, .int x1, rv (a_mr G a0 5)]) (tk_X1_init) (cw_X0_21 CF hK (by decide +kernel)) hw rfl hL.1.1 rfl (th_cr (th_ci (th_cr th_cn))) (Nat.le_of_ble_eq_true rfl) dX0_init_107 ⟨by show _ ≤ (4647 : Nat); omega, by show _ ≤ (15938 : Nat); omega⟩) (fun G34 H locs hw hR hS => ?_)
      obtain ⟨ha, ho, hw⟩ := hw
      refine th_aast hx hb hK 9 (by decide) rfl (ci := 1) rfl (Or.inl rfl) hR hS ha ho dX0_init_110 (fun G35 H locs hG hR hS => ?_)
      replace hw := hw G35 hG
      obtain ⟨x1_36, hx1_36⟩ : ∃ y : Int32, y = x1 + 1 := ⟨_, rfl⟩
      replace hw := hw x1_36 hx1_36
      refine th_iinc hx hb dX0_init_111 hL (k := 1) rfl (v := x1_36) hx1_36.symm (by decide) rfl (fun ls hL => ?_)
      refine lv_goto hx hb dX0_init_114 (tgt := 92) (by decide) ?_
      exact ih hR hS (hL.sub [1, 0] rfl) hw ⟨by omega, by omega⟩
theorem tk_X0_init {l : Launch} {D : tD} {B : Nat} {Q : aH → Prop} {a0 : Nat} : Met l yX0_init (ws_ yX0_init cX0_init 2 ((Option.none : Option Jvm.ClassFile.FieldType))) rm_X0_init (th_P D B [rv a0] (fun G => tw_X0_init Q G a0)) (th_Qv D B Q) 4647 15938 (th_A B) :=
  th_ofW (by decide +kernel) (th_cr th_cn) (Nat.le_of_ble_eq_true rfl) (fun p e s m args below meth c CF hret hlk hnm hK hSt G ls hR hS hw hL => by
    have E : th_E p m c cX0_init 2 s args RX0 meth ((Option.none : Option Jvm.ClassFile.FieldType)) "<init>" D B := ⟨CF, hret, hlk, hnm, hK, hSt⟩
    have hx := CF.1; have hb := CF.2.1
    have hL : th_L ls 2 [(0, rv a0)] := hL
    unfold tw_X0_init at hw
    refine th_aload_n hx hb dX0_init_0 rfl (lv_at hL.1 0 rfl) ?_
    obtain ⟨h0, hw⟩ := hw
    refine th_objInit hx hb CF.2.2.2.1 (CF.2.2.2.2 _ q147) (CF.2.2.2.2 _ q148) (CF.2.2.2.2 _ q149) (hL.1.1.trans CF.2.2.1.symm) hR h0 th_cn (Nat.le_of_ble_eq_true rfl) (by decide) (by decide) dX0_init_1 ?_
    refine th_aload_n hx hb dX0_init_4 rfl (lv_at hL.1 0 rfl) ?_
    refine fn_X0_19 CF hK hR hS (by show _ ≤ (4647 : Nat); omega) (by show _ ≤ (15938 : Nat); omega) dX0_init_5 (fun z1 G2 H hz hG hR hS => ?_)
    replace hw := hw z1 hz G2 hG
    refine lv_dup hx hb dX0_init_8 (rv_cat _) ?_
    obtain ⟨h0, hw⟩ := hw
    refine th_kv hS (th_rIN CF hK hSt hR hS h0 (rest := [rv z1, rv a0]) (tk_X1_init) (cw_X0_21 CF hK (by decide +kernel)) hw rfl hL.1.1 rfl (th_cr (th_cr th_cn)) (Nat.le_of_ble_eq_true rfl) dX0_init_9 ⟨by show _ ≤ (4647 : Nat); omega, by show _ ≤ (15938 : Nat); omega⟩) (fun G3 H locs hw hR hS => ?_)
    obtain ⟨ho, hw⟩ := hw
    refine fp_X0_22 CF hK hR hS hnm ho dX0_init_12 (fun G4 H locs hG hR hS => ?_)
    replace hw := hw G4 hG
    refine th_aload_n hx hb dX0_init_15 rfl (lv_at hL.1 0 rfl) ?_
    refine fn_X0_19 CF hK hR hS (by show _ ≤ (4647 : Nat); omega) (by show _ ≤ (15938 : Nat); omega) dX0_init_16 (fun z5 G6 H hz hG hR hS => ?_)
    replace hw := hw z5 hz G6 hG
    refine lv_dup hx hb dX0_init_19 (rv_cat _) ?_
    obtain ⟨h0, hw⟩ := hw
    refine th_kv hS (th_rIN CF hK hSt hR hS h0 (rest := [rv z5, rv a0]) (tk_X1_init) (cw_X0_21 CF hK (by decide +kernel)) hw rfl hL.1.1 rfl (th_cr (th_cr th_cn)) (Nat.le_of_ble_eq_true rfl) dX0_init_20 ⟨by show _ ≤ (4647 : Nat); omega, by show _ ≤ (15938 : Nat); omega⟩) (fun G7 H locs hw hR hS => ?_)
    obtain ⟨ho, hw⟩ := hw
    refine fp_X0_26 CF hK hR hS hnm ho dX0_init_23 (fun G8 H locs hG hR hS => ?_)
    replace hw := hw G8 hG
    refine th_aload_n hx hb dX0_init_26 rfl (lv_at hL.1 0 rfl) ?_
    refine fn_X0_19 CF hK hR hS (by show _ ≤ (4647 : Nat); omega) (by show _ ≤ (15938 : Nat); omega) dX0_init_27 (fun z9 G10 H hz hG hR hS => ?_)
    replace hw := hw z9 hz G10 hG
    refine lv_dup hx hb dX0_init_30 (rv_cat _) ?_
    obtain ⟨h0, hw⟩ := hw
    refine th_kv hS (th_rIN CF hK hSt hR hS h0 (rest := [rv z9, rv a0]) (tk_X1_init) (cw_X0_21 CF hK (by decide +kernel)) hw rfl hL.1.1 rfl (th_cr (th_cr th_cn)) (Nat.le_of_ble_eq_true rfl) dX0_init_31 ⟨by show _ ≤ (4647 : Nat); omega, by show _ ≤ (15938 : Nat); omega⟩) (fun G11 H locs hw hR hS => ?_)
    obtain ⟨ho, hw⟩ := hw
    refine fp_X0_29 CF hK hR hS hnm ho dX0_init_34 (fun G12 H locs hG hR hS => ?_)
    replace hw := hw G12 hG
    refine th_aload_n hx hb dX0_init_37 rfl (lv_at hL.1 0 rfl) ?_
    refine fn_X0_19 CF hK hR hS (by show _ ≤ (4647 : Nat); omega) (by show _ ≤ (15938 : Nat); omega) dX0_init_38 (fun z13 G14 H hz hG hR hS => ?_)
    replace hw := hw z13 hz G14 hG
    refine lv_dup hx hb dX0_init_41 (rv_cat _) ?_
    obtain ⟨h0, hw⟩ := hw
    refine th_kv hS (th_rIN CF hK hSt hR hS h0 (rest := [rv z13, rv a0]) (tk_X1_init) (cw_X0_21 CF hK (by decide +kernel)) hw rfl hL.1.1 rfl (th_cr (th_cr th_cn)) (Nat.le_of_ble_eq_true rfl) dX0_init_42 ⟨by show _ ≤ (4647 : Nat); omega, by show _ ≤ (15938 : Nat); omega⟩) (fun G15 H locs hw hR hS => ?_)
    obtain ⟨ho, hw⟩ := hw
    refine fp_X0_32 CF hK hR hS hnm ho dX0_init_45 (fun G16 H locs hG hR hS => ?_)
    replace hw := hw G16 hG
    refine th_aload_n hx hb dX0_init_48 rfl (lv_at hL.1 0 rfl) ?_
    refine lv_bipush hx hb dX0_init_49 (v := 8) rfl ?_
    refine th_newq hx hb 9 CF.2.2.2.1 (CF.2.2.2.2 _ q150) q360 rfl (by decide) (n := 8) 8 (by decide) rfl (by decide) hK hR hS (by show _ ≤ (4647 : Nat); omega) (by show _ ≤ (15938 : Nat); omega) dX0_init_51 (fun z17 G18 H hz hG hR hS => ?_)
    replace hw := hw z17 hz G18 hG
    obtain ⟨ho, hw⟩ := hw
    refine fp_X0_35 CF hK hR hS hnm ho dX0_init_54 (fun G19 H locs hG hR hS => ?_)
    replace hw := hw G19 hG
    refine th_aload_n hx hb dX0_init_57 rfl (lv_at hL.1 0 rfl) ?_
    refine lv_bipush hx hb dX0_init_58 (v := (-4)) rfl ?_
    obtain ⟨ho, hw⟩ := hw
    refine fp_X0_39 CF hK hR hS ho dX0_init_60 (fun G20 H locs hG hR hS => ?_)
    replace hw := hw G20 hG
    refine th_aload_n hx hb dX0_init_63 rfl (lv_at hL.1 0 rfl) ?_
    refine fn_X0_43 CF hK hR hS (by show _ ≤ (4647 : Nat); omega) (by show _ ≤ (15938 : Nat); omega) dX0_init_64 (fun z21 G22 H hz hG hR hS => ?_)
    replace hw := hw z21 hz G22 hG
    refine lv_dup hx hb dX0_init_67 (rv_cat _) ?_
    refine lv_bipush hx hb dX0_init_68 (v := 60) rfl ?_
    obtain ⟨h0, hw⟩ := hw
    refine th_kv hS (th_rI CF hK hSt hR hS h0 (rest := [rv z21, rv a0]) (tk_J1_init) (cw_X0_45 CF hK (by decide +kernel)) hw rfl hL.1.1 rfl (th_cr (th_cr th_cn)) (Nat.le_of_ble_eq_true rfl) dX0_init_70 ⟨by show _ ≤ (4647 : Nat); omega, by show _ ≤ (15938 : Nat); omega⟩) (fun G23 H locs hw hR hS => ?_)
    obtain ⟨ho, hw⟩ := hw
    refine fp_X0_46 CF hK hR hS hnm ho dX0_init_73 (fun G24 H locs hG hR hS => ?_)
    replace hw := hw G24 hG
    refine th_aload_n hx hb dX0_init_76 rfl (lv_at hL.1 0 rfl) ?_
    refine fn_X0_43 CF hK hR hS (by show _ ≤ (4647 : Nat); omega) (by show _ ≤ (15938 : Nat); omega) dX0_init_77 (fun z25 G26 H hz hG hR hS => ?_)
    replace hw := hw z25 hz G26 hG
    refine lv_dup hx hb dX0_init_80 (rv_cat _) ?_
    refine lv_sipush hx hb dX0_init_81 (v := 300) rfl ?_
    obtain ⟨h0, hw⟩ := hw
    refine th_kv hS (th_rI CF hK hSt hR hS h0 (rest := [rv z25, rv a0]) (tk_J1_init) (cw_X0_45 CF hK (by decide +kernel)) hw rfl hL.1.1 rfl (th_cr (th_cr th_cn)) (Nat.le_of_ble_eq_true rfl) dX0_init_84 ⟨by show _ ≤ (4647 : Nat); omega, by show _ ≤ (15938 : Nat); omega⟩) (fun G27 H locs hw hR hS => ?_)
    obtain ⟨ho, hw⟩ := hw
    refine fp_X0_50 CF hK hR hS hnm ho dX0_init_87 (fun G28 H locs hG hR hS => ?_)
    replace hw := hw G28 hG
    refine lv_iconst hx hb dX0_init_90 (v := 0) rfl ?_
    refine th_istore_n hx hb dX0_init_91 rfl hL (by decide) rfl (fun ls hL => ?_)
    exact tk_X0_init_b92 E 9 hR hS (hL.sub [1, 0] rfl) hw ⟨by omega, by omega⟩)
def tw_X0_lasts_b57 (Q : Int32 → aH → Prop) (G : aH) (x2 : Int32) : Prop :=
  (x2 ≤ 60 →
    Q x2 G) ∧
  (¬ x2 ≤ 60 →
    Q (-4) G)
def tw_X0_lasts_b22 (Q : Int32 → aH → Prop) : Nat → aH → Nat → Int32 → Int32 → Prop := fun n => Nat.rec (motive := fun _ => aH → Nat → Int32 → Int32 → Prop) (fun _ _ _ _ => False) (fun _ ih G a0 x1 x2 =>
  th_o G a0 0 ∧ (
  th_o G (a_mr G a0 2) 1 ∧ (
  th_ai G (a_mr G (a_mr G a0 2) 4) 7 x1 ∧ (
  th_o G (a_mr G (a_mr G (a_mr G a0 2) 4) x1.toNatClampNeg) 6 ∧ (
  (a_mi G (a_mr G (a_mr G (a_mr G a0 2) 4) x1.toNatClampNeg) 0 ≤ 0 →
    tw_X0_lasts_b57 Q G x2) ∧
  (¬ a_mi G (a_mr G (a_mr G (a_mr G a0 2) 4) x1.toNatClampNeg) 0 ≤ 0 →
    (60 < x2 →
      tw_X0_lasts_b57 Q G x2) ∧
    (¬ 60 < x2 →
      th_o G a0 0 ∧ (
      th_o G (a_mr G a0 2) 1 ∧ (
      (tw_X1_passes
        (fun (r5 : Int32) (G4 : aH) =>
          ∀ x2_6 : Int32, x2_6 = x2 + 1 → 
          ih G4 a0 x1 x2_6)
        G (a_mr G a0 2))))))))))) n
theorem tws_X0_lasts_b22 (Q : Int32 → aH → Prop) (n : Nat) (G : aH) (a0 : Nat) (x1 : Int32) (x2 : Int32) : tw_X0_lasts_b22 Q (n + 1) G a0 x1 x2 = (
  th_o G a0 0 ∧ (
  th_o G (a_mr G a0 2) 1 ∧ (
  th_ai G (a_mr G (a_mr G a0 2) 4) 7 x1 ∧ (
  th_o G (a_mr G (a_mr G (a_mr G a0 2) 4) x1.toNatClampNeg) 6 ∧ (
  (a_mi G (a_mr G (a_mr G (a_mr G a0 2) 4) x1.toNatClampNeg) 0 ≤ 0 →
    tw_X0_lasts_b57 Q G x2) ∧
  (¬ a_mi G (a_mr G (a_mr G (a_mr G a0 2) 4) x1.toNatClampNeg) 0 ≤ 0 →
    (60 < x2 →
      tw_X0_lasts_b57 Q G x2) ∧
    (¬ 60 < x2 →
      th_o G a0 0 ∧ (
      th_o G (a_mr G a0 2) 1 ∧ (
      (tw_X1_passes
        (fun (r5 : Int32) (G4 : aH) =>
          ∀ x2_6 : Int32, x2_6 = x2 + 1 → 
          tw_X0_lasts_b22 Q n G4 a0 x1 x2_6)
        G (a_mr G a0 2))))))))))) := rfl
def tw_X0_lasts (Q : Int32 → aH → Prop) (G : aH) (a0 : Nat) (x1 : Int32) : Prop :=
  (tw_X0_isKind
    (fun (r2 : Int32) (G1 : aH) =>
      (¬ r2 = 0 →
        th_o G1 a0 0 ∧ (
        th_o G1 a0 0 ∧ (
        th_o G1 (a_mr G1 a0 2) 1 ∧ (
        (tw_X1_like
          (fun (G3 : aH) =>
            ∃ n9 : Nat, tw_X0_lasts_b22 Q n9 G3 a0 x1 0)
          G1 (a_mr G1 a0 2) (a_mr G1 a0 0)))))) ∧
      (r2 = 0 →
        Q (-1) G1))
    G x1)
theorem tk_X0_lasts_b57 {p : Program} {l : Launch} {e : Env} {s : State} {m : MethodId} {args : Array Value} {below : List Frame} {meth : Method} {c : Code} {D : tD} {B : Nat} (E : th_E p m c cX0_lasts 4 s args RX0 meth ((Option.some Jvm.ClassFile.FieldType.int)) "lasts" D B) {Q : Int32 → aH → Prop} {G : aH} {H : Heap} {locs : List Loc} {cells slots : Nat} {ls : Array Slot} {x2 : Int32} (hR : th_H D B G H) (hS : va_S (th_A B) s.heap H locs) (hL : th_L ls 4 [(2, .int x2)]) (hw : tw_X0_lasts_b57 Q G x2) (hc : cells + (0) ≤ 0 ∧ slots + (0) ≤ 0) : W p l e rm_X0_lasts s m args below meth c H locs cells slots (MQ below (th_Qi D B Q) args s 0 0 (th_A B)) (F0 m 57 ls []) := by
  have CF := E.1; have hx := CF.1; have hb := CF.2.1; have hret := E.2.1; have hlk := E.2.2.1; have hnm := E.2.2.2.1; have hK := E.2.2.2.2.1; have hSt := E.2.2.2.2.2
  unfold tw_X0_lasts_b57 at hw
  refine lv_iload_n hx hb dX0_lasts_57 rfl (lv_at hL.1 0 rfl) ?_
  refine lv_bipush hx hb dX0_lasts_58 (v := 60) rfl ?_
  refine lv_icmp_le hx hb dX0_lasts_60 (tgt := 68) (by decide) (fun h => ?_) (fun h => ?_)
  · replace hw := hw.1 h
    refine lv_iload_n hx hb dX0_lasts_68 rfl (lv_at hL.1 0 rfl) ?_
    exact th_iret hx hb hret hlk hR hS hw (by omega) (by omega) dX0_lasts_69
  · replace hw := hw.2 h
    refine lv_bipush hx hb dX0_lasts_63 (v := (-4)) rfl ?_
    refine lv_goto hx hb dX0_lasts_65 (tgt := 69) (by decide) ?_
    exact th_iret hx hb hret hlk hR hS hw (by omega) (by omega) dX0_lasts_69
theorem tk_X0_lasts_b22 {p : Program} {l : Launch} {e : Env} {s : State} {m : MethodId} {args : Array Value} {below : List Frame} {meth : Method} {c : Code} {D : tD} {B : Nat} (E : th_E p m c cX0_lasts 4 s args RX0 meth ((Option.some Jvm.ClassFile.FieldType.int)) "lasts" D B) {Q : Int32 → aH → Prop} : ∀ (n : Nat) {G : aH} {H : Heap} {locs : List Loc} {cells slots : Nat} {ls : Array Slot} {a0 : Nat} {x1 : Int32} {x2 : Int32} (hR : th_H D B G H) (hS : va_S (th_A B) s.heap H locs) (hL : th_L ls 4 [(0, rv a0), (1, .int x1), (2, .int x2)]) (hw : tw_X0_lasts_b22 Q n G a0 x1 x2) (hc : cells + (0) ≤ 0 ∧ slots + (0) ≤ 0), W p l e rm_X0_lasts s m args below meth c H locs cells slots (MQ below (th_Qi D B Q) args s 0 0 (th_A B)) (F0 m 22 ls []) := by
  have CF := E.1; have hx := CF.1; have hb := CF.2.1; have hret := E.2.1; have hlk := E.2.2.1; have hnm := E.2.2.2.1; have hK := E.2.2.2.2.1; have hSt := E.2.2.2.2.2
  intro n
  induction n with
  | zero => intro _ _ _ _ _ _ _ _ _ _ _ _ hw; exact hw.elim
  | succ n ih =>
    intro G H locs cells slots ls a0 x1 x2 hR hS hL hw hc
    rw [tws_X0_lasts_b22] at hw
    refine th_aload_n hx hb dX0_lasts_22 rfl (lv_at hL.1 0 rfl) ?_
    obtain ⟨ho, hw⟩ := hw
    refine fg_X0_29 CF hK hR ho dX0_lasts_23 ?_
    obtain ⟨ho, hw⟩ := hw
    refine fg_X0_226 CF hK hR ho dX0_lasts_26 ?_
    refine lv_iload_n hx hb dX0_lasts_29 rfl (lv_at hL.1 1 rfl) ?_
    obtain ⟨ha, hw⟩ := hw
    refine th_aald hx hb hK 7 (by decide) rfl rfl hR ha dX0_lasts_30 ?_
    obtain ⟨ho, hw⟩ := hw
    refine fg_X0_238 CF hK hR ho dX0_lasts_31 ?_
    refine lv_if_le hx hb dX0_lasts_34 (tgt := 57) (by decide) (fun h => ?_) (fun h => ?_)
    · replace hw := hw.1 h
      exact tk_X0_lasts_b57 E hR hS (hL.sub [2] rfl) hw ⟨by omega, by omega⟩
    · replace hw := hw.2 h
      refine lv_iload_n hx hb dX0_lasts_37 rfl (lv_at hL.1 2 rfl) ?_
      refine lv_bipush hx hb dX0_lasts_38 (v := 60) rfl ?_
      refine lv_icmp_gt hx hb dX0_lasts_40 (tgt := 57) (by decide) (fun h => ?_) (fun h => ?_)
      · replace hw := hw.1 h
        exact tk_X0_lasts_b57 E hR hS (hL.sub [2] rfl) hw ⟨by omega, by omega⟩
      · replace hw := hw.2 h
        refine th_aload_n hx hb dX0_lasts_43 rfl (lv_at hL.1 0 rfl) ?_
        obtain ⟨ho, hw⟩ := hw
        refine fg_X0_29 CF hK hR ho dX0_lasts_44 ?_
        obtain ⟨ho, hw⟩ := hw
        refine th_ki hS (th_rV CF hK hSt hR hS ho (ci := 1) rfl (rest := []) (tk_X1_passes) (cw_X0_280 CF hK (by decide +kernel)) hw rfl hL.1.1 rfl th_cn (Nat.le_of_ble_eq_true rfl) dX0_lasts_47 ⟨by show _ ≤ (0 : Nat); omega, by show _ ≤ (0 : Nat); omega⟩) (fun r5 G4 H locs hw hR hS => ?_)
        refine th_istore_n hx hb dX0_lasts_50 rfl hL (by decide) rfl (fun ls hL => ?_)
        obtain ⟨x2_6, hx2_6⟩ : ∃ y : Int32, y = x2 + 1 := ⟨_, rfl⟩
        replace hw := hw x2_6 hx2_6
        refine th_iinc hx hb dX0_lasts_51 hL (k := 3) rfl (v := x2_6) hx2_6.symm (by decide) rfl (fun ls hL => ?_)
        refine lv_goto hx hb dX0_lasts_54 (tgt := 22) (by decide) ?_
        exact ih hR hS (hL.sub [2, 3, 0] rfl) hw ⟨by omega, by omega⟩
theorem tk_X0_lasts {l : Launch} {D : tD} {B : Nat} {Q : Int32 → aH → Prop} {a0 : Nat} {x1 : Int32} : Met l yX0_lasts (ws_ yX0_lasts cX0_lasts 4 ((Option.some Jvm.ClassFile.FieldType.int))) rm_X0_lasts (th_P D B [rv a0, .int x1] (fun G => tw_X0_lasts Q G a0 x1)) (th_Qi D B Q) 0 0 (th_A B) :=
  th_ofW (by decide +kernel) (th_cr (th_ci th_cn)) (Nat.le_of_ble_eq_true rfl) (fun p e s m args below meth c CF hret hlk hnm hK hSt G ls hR hS hw hL => by
    have E : th_E p m c cX0_lasts 4 s args RX0 meth ((Option.some Jvm.ClassFile.FieldType.int)) "lasts" D B := ⟨CF, hret, hlk, hnm, hK, hSt⟩
    have hx := CF.1; have hb := CF.2.1
    have hL : th_L ls 4 [(0, rv a0), (1, .int x1)] := hL
    unfold tw_X0_lasts at hw
    refine lv_iload_n hx hb dX0_lasts_0 rfl (lv_at hL.1 1 rfl) ?_
    refine th_ki hS (th_rS CF hK hSt hR hS (rest := []) (tk_X0_isKind) (cw_X0_89 CF hK (by decide +kernel)) hw rfl hL.1.1 rfl th_cn (Nat.le_of_ble_eq_true rfl) dX0_lasts_1 ⟨by show _ ≤ (0 : Nat); omega, by show _ ≤ (0 : Nat); omega⟩) (fun r2 G1 H locs hw hR hS => ?_)
    refine lv_if_ne hx hb dX0_lasts_4 (tgt := 9) (by decide) (fun h => ?_) (fun h => ?_)
    · replace hw := hw.1 h
      refine th_aload_n hx hb dX0_lasts_9 rfl (lv_at hL.1 0 rfl) ?_
      obtain ⟨ho, hw⟩ := hw
      refine fg_X0_29 CF hK hR ho dX0_lasts_10 ?_
      refine th_aload_n hx hb dX0_lasts_13 rfl (lv_at hL.1 0 rfl) ?_
      obtain ⟨ho, hw⟩ := hw
      refine fg_X0_22 CF hK hR ho dX0_lasts_14 ?_
      obtain ⟨ho, hw⟩ := hw
      refine th_kv hS (th_rV CF hK hSt hR hS ho (ci := 1) rfl (rest := []) (tk_X1_like) (cw_X0_59 CF hK (by decide +kernel)) hw rfl hL.1.1 rfl th_cn (Nat.le_of_ble_eq_true rfl) dX0_lasts_17 ⟨by show _ ≤ (0 : Nat); omega, by show _ ≤ (0 : Nat); omega⟩) (fun G3 H locs hw hR hS => ?_)
      refine lv_iconst hx hb dX0_lasts_20 (v := 0) rfl ?_
      refine th_istore_n hx hb dX0_lasts_21 rfl hL (by decide) rfl (fun ls hL => ?_)
      obtain ⟨n9, hw⟩ := hw
      exact tk_X0_lasts_b22 E n9 hR hS (hL.sub [1, 2, 0] rfl) hw ⟨by omega, by omega⟩
    · replace hw := hw.2 h
      refine lv_iconst hx hb dX0_lasts_7 (v := (-1)) rfl ?_
      exact th_iret hx hb hret hlk hR hS hw (by omega) (by omega) dX0_lasts_8)
def tw_X0_lotOf (Q : Int32 → aH → Prop) (G : aH) (a0 : Nat) (x1 : Int32) (x2 : Int32) (x3 : Int32) : Prop :=
  (tw_X0_isBay
    (fun (r2 : Int32) (G1 : aH) =>
      (r2 = 0 →
        Q (-1) G1) ∧
      (¬ r2 = 0 →
        th_o G1 a0 0 ∧ (
        th_o G1 (a_mr G1 a0 0) 1 ∧ (
        th_ai G1 (a_mr G1 (a_mr G1 a0 0) 2) 5 x1 ∧ (
        th_o G1 (a_mr G1 (a_mr G1 (a_mr G1 a0 0) 2) x1.toNatClampNeg) 3 ∧ (
        (tw_X0_within
          (fun (r4 : Int32) (G3 : aH) =>
            (¬ r4 = 0 →
              th_o G3 a0 0 ∧ (
              th_o G3 (a_mr G3 a0 0) 1 ∧ (
              th_ai G3 (a_mr G3 (a_mr G3 a0 0) 2) 5 x1 ∧ (
              th_o G3 (a_mr G3 (a_mr G3 (a_mr G3 a0 0) 2) x1.toNatClampNeg) 3 ∧ (
              th_ai G3 (a_mr G3 (a_mr G3 (a_mr G3 (a_mr G3 a0 0) 2) x1.toNatClampNeg) 0) 3 x2 ∧ (
              ∀ a4_5 : Nat, a4_5 = a_mr G3 (a_mr G3 (a_mr G3 (a_mr G3 (a_mr G3 a0 0) 2) x1.toNatClampNeg) 0) x2.toNatClampNeg → 
              (¬ x3 = 0 →
                (¬ x3 = 1 →
                  Q (-2) G3) ∧
                (x3 = 1 →
                  th_o G3 a4_5 4 ∧ (
                  Q (a_mi G3 a4_5 1) G3))) ∧
              (x3 = 0 →
                th_o G3 a4_5 4 ∧ (
                Q (a_mi G3 a4_5 0) G3)))))))) ∧
            (r4 = 0 →
              Q (-1) G3))
          G1 x2 0 ((a_mi G1 (a_mr G1 (a_mr G1 (a_mr G1 a0 0) 2) x1.toNatClampNeg) 1) - 1))))))))
    G x1)
theorem tk_X0_lotOf {l : Launch} {D : tD} {B : Nat} {Q : Int32 → aH → Prop} {a0 : Nat} {x1 : Int32} {x2 : Int32} {x3 : Int32} : Met l yX0_lotOf (ws_ yX0_lotOf cX0_lotOf 5 ((Option.some Jvm.ClassFile.FieldType.int))) rm_X0_lotOf (th_P D B [rv a0, .int x1, .int x2, .int x3] (fun G => tw_X0_lotOf Q G a0 x1 x2 x3)) (th_Qi D B Q) 0 0 (th_A B) :=
  th_ofW (by decide +kernel) (th_cr (th_ci (th_ci (th_ci th_cn)))) (Nat.le_of_ble_eq_true rfl) (fun p e s m args below meth c CF hret hlk hnm hK hSt G ls hR hS hw hL => by
    have E : th_E p m c cX0_lotOf 5 s args RX0 meth ((Option.some Jvm.ClassFile.FieldType.int)) "lotOf" D B := ⟨CF, hret, hlk, hnm, hK, hSt⟩
    have hx := CF.1; have hb := CF.2.1
    have hL : th_L ls 5 [(0, rv a0), (1, .int x1), (2, .int x2), (3, .int x3)] := hL
    unfold tw_X0_lotOf at hw
    refine lv_iload_n hx hb dX0_lotOf_0 rfl (lv_at hL.1 1 rfl) ?_
    refine th_ki hS (th_rS CF hK hSt hR hS (rest := []) (tk_X0_isBay) (cw_X0_143 CF hK (by decide +kernel)) hw rfl hL.1.1 rfl th_cn (Nat.le_of_ble_eq_true rfl) dX0_lotOf_1 ⟨by show _ ≤ (0 : Nat); omega, by show _ ≤ (0 : Nat); omega⟩) (fun r2 G1 H locs hw hR hS => ?_)
    refine lv_if_eq hx hb dX0_lotOf_4 (tgt := 29) (by decide) (fun h => ?_) (fun h => ?_)
    · replace hw := hw.1 h
      refine lv_iconst hx hb dX0_lotOf_29 (v := (-1)) rfl ?_
      exact th_iret hx hb hret hlk hR hS hw (by omega) (by omega) dX0_lotOf_30
    · replace hw := hw.2 h
      refine lv_iload_n hx hb dX0_lotOf_7 rfl (lv_at hL.1 2 rfl) ?_
      refine lv_iconst hx hb dX0_lotOf_8 (v := 0) rfl ?_
      refine th_aload_n hx hb dX0_lotOf_9 rfl (lv_at hL.1 0 rfl) ?_
      obtain ⟨ho, hw⟩ := hw
      refine fg_X0_22 CF hK hR ho dX0_lotOf_10 ?_
      obtain ⟨ho, hw⟩ := hw
      refine fg_X0_150 CF hK hR ho dX0_lotOf_13 ?_
      refine lv_iload_n hx hb dX0_lotOf_16 rfl (lv_at hL.1 1 rfl) ?_
      obtain ⟨ha, hw⟩ := hw
      refine th_aald hx hb hK 5 (by decide) rfl rfl hR ha dX0_lotOf_17 ?_
      obtain ⟨ho, hw⟩ := hw
      refine fg_X0_191 CF hK hR ho dX0_lotOf_18 ?_
      refine lv_iconst hx hb dX0_lotOf_21 (v := 1) rfl ?_
      refine lv_isub hx hb dX0_lotOf_22 ?_
      refine th_ki hS (th_rS CF hK hSt hR hS (rest := []) (tk_X0_within) (cw_X0_82 CF hK (by decide +kernel)) hw rfl hL.1.1 rfl th_cn (Nat.le_of_ble_eq_true rfl) dX0_lotOf_23 ⟨by show _ ≤ (0 : Nat); omega, by show _ ≤ (0 : Nat); omega⟩) (fun r4 G3 H locs hw hR hS => ?_)
      refine lv_if_ne hx hb dX0_lotOf_26 (tgt := 31) (by decide) (fun h => ?_) (fun h => ?_)
      · replace hw := hw.1 h
        refine th_aload_n hx hb dX0_lotOf_31 rfl (lv_at hL.1 0 rfl) ?_
        obtain ⟨ho, hw⟩ := hw
        refine fg_X0_22 CF hK hR ho dX0_lotOf_32 ?_
        obtain ⟨ho, hw⟩ := hw
        refine fg_X0_150 CF hK hR ho dX0_lotOf_35 ?_
        refine lv_iload_n hx hb dX0_lotOf_38 rfl (lv_at hL.1 1 rfl) ?_
        obtain ⟨ha, hw⟩ := hw
        refine th_aald hx hb hK 5 (by decide) rfl rfl hR ha dX0_lotOf_39 ?_
        obtain ⟨ho, hw⟩ := hw
        refine fg_X0_187 CF hK hR ho dX0_lotOf_40 ?_
        refine lv_iload_n hx hb dX0_lotOf_43 rfl (lv_at hL.1 2 rfl) ?_
        obtain ⟨ha, hw⟩ := hw
        refine th_aald hx hb hK 3 (by decide) rfl rfl hR ha dX0_lotOf_44 ?_
        obtain ⟨a4_5, ha4_5⟩ : ∃ y : Nat, y = a_mr G3 (a_mr G3 (a_mr G3 (a_mr G3 (a_mr G3 a0 0) 2) x1.toNatClampNeg) 0) x2.toNatClampNeg := ⟨_, rfl⟩
        replace hw := hw a4_5 ha4_5
        refine th_nmr ha4_5 ?_
        refine th_astore hx hb dX0_lotOf_45 hL (by decide) rfl (fun ls hL => ?_)
        refine lv_iload_n hx hb dX0_lotOf_47 rfl (lv_at hL.1 4 rfl) ?_
        refine lv_if_ne hx hb dX0_lotOf_48 (tgt := 59) (by decide) (fun h => ?_) (fun h => ?_)
        · replace hw := hw.1 h
          refine lv_iload_n hx hb dX0_lotOf_59 rfl (lv_at hL.1 4 rfl) ?_
          refine lv_iconst hx hb dX0_lotOf_60 (v := 1) rfl ?_
          refine lv_icmp_ne hx hb dX0_lotOf_61 (tgt := 72) (by decide) (fun h => ?_) (fun h => ?_)
          · replace hw := hw.1 h
            refine lv_bipush hx hb dX0_lotOf_72 (v := (-2)) rfl ?_
            exact th_iret hx hb hret hlk hR hS hw (by omega) (by omega) dX0_lotOf_74
          · replace hw := hw.2 h
            refine th_aload hx hb dX0_lotOf_64 (lv_at hL.1 0 rfl) ?_
            obtain ⟨ho, hw⟩ := hw
            refine fg_X0_198 CF hK hR ho dX0_lotOf_66 ?_
            refine lv_goto hx hb dX0_lotOf_69 (tgt := 74) (by decide) ?_
            exact th_iret hx hb hret hlk hR hS hw (by omega) (by omega) dX0_lotOf_74
        · replace hw := hw.2 h
          refine th_aload hx hb dX0_lotOf_51 (lv_at hL.1 0 rfl) ?_
          obtain ⟨ho, hw⟩ := hw
          refine fg_X0_179 CF hK hR ho dX0_lotOf_53 ?_
          refine lv_goto hx hb dX0_lotOf_56 (tgt := 74) (by decide) ?_
          exact th_iret hx hb hret hlk hR hS hw (by omega) (by omega) dX0_lotOf_74
      · replace hw := hw.2 h
        refine lv_iconst hx hb dX0_lotOf_29 (v := (-1)) rfl ?_
        exact th_iret hx hb hret hlk hR hS hw (by omega) (by omega) dX0_lotOf_30)
def tw_X0_meanRats (Q : UInt64 → aH → Prop) (G : aH) (a0 : Nat) : Prop :=
  th_o G a0 0 ∧ (
  (tw_X0_overPlaces
    (fun (r2 : Int32) (G1 : aH) =>
      vf_n64 (FP.ddiv (FP.i2d r2) (4619567317775286272 : UInt64)) ∧ (
      Q (FP.ddiv (FP.i2d r2) (4619567317775286272 : UInt64)) G1))
    G a0 1))
theorem tk_X0_meanRats {l : Launch} {D : tD} {B : Nat} {Q : UInt64 → aH → Prop} {a0 : Nat} : Met l yX0_meanRats (ws_ yX0_meanRats cX0_meanRats 1 ((Option.some Jvm.ClassFile.FieldType.double))) rm_X0_meanRats (th_P D B [rv a0] (fun G => tw_X0_meanRats Q G a0)) (th_Qd D B Q) 0 0 (th_A B) :=
  th_ofW (by decide +kernel) (th_cr th_cn) (Nat.le_of_ble_eq_true rfl) (fun p e s m args below meth c CF hret hlk hnm hK hSt G ls hR hS hw hL => by
    have E : th_E p m c cX0_meanRats 1 s args RX0 meth ((Option.some Jvm.ClassFile.FieldType.double)) "meanRats" D B := ⟨CF, hret, hlk, hnm, hK, hSt⟩
    have hx := CF.1; have hb := CF.2.1
    have hL : th_L ls 1 [(0, rv a0)] := hL
    unfold tw_X0_meanRats at hw
    refine th_aload_n hx hb dX0_meanRats_0 rfl (lv_at hL.1 0 rfl) ?_
    refine lv_iconst hx hb dX0_meanRats_1 (v := 1) rfl ?_
    obtain ⟨ho, hw⟩ := hw
    refine th_ki hS (th_rV CF hK hSt hR hS ho (ci := 0) rfl (rest := []) (tk_X0_overPlaces) (cw_X0_475 CF hK (by decide +kernel)) hw rfl hL.1.1 rfl th_cn (Nat.le_of_ble_eq_true rfl) dX0_meanRats_2 ⟨by show _ ≤ (0 : Nat); omega, by show _ ≤ (0 : Nat); omega⟩) (fun r2 G1 H locs hw hR hS => ?_)
    refine lv_i2d hx hb dX0_meanRats_5 ?_
    refine lv_ldc2d hx hb (v := 4619567317775286272) CF.2.2.2.1 (CF.2.2.2.2 _ q1362) dX0_meanRats_6 ?_
    obtain ⟨h0, hw⟩ := hw
    refine lv_ddiv hx hb dX0_meanRats_9 h0 ?_
    exact th_dret hx hb hret hlk hR hS hw (by omega) (by omega) dX0_meanRats_10)
def tw_X2_becomes (Q : aH → Prop) (G : aH) (a0 : Nat) (x1 : Int32) : Prop :=
  th_o G a0 2 ∧ (
  ∀ G1 : aH, G1 = a_si G a0 0 x1 → 
  th_o G1 a0 2 ∧ (
  ∀ G2 : aH, G2 = a_si G1 a0 1 0 → 
  th_o G2 a0 2 ∧ (
  ∀ G3 : aH, G3 = a_si G2 a0 2 0 → 
  th_o G3 a0 2 ∧ (
  ∀ G4 : aH, G4 = a_si G3 a0 3 0 → 
  th_o G4 a0 2 ∧ (
  ∀ G5 : aH, G5 = a_si G4 a0 6 0 → 
  Q G5)))))
theorem tk_X2_becomes {l : Launch} {D : tD} {B : Nat} {Q : aH → Prop} {a0 : Nat} {x1 : Int32} : Met l yX2_becomes (ws_ yX2_becomes cX2_becomes 2 ((Option.none : Option Jvm.ClassFile.FieldType))) rm_X2_becomes (th_P D B [rv a0, .int x1] (fun G => tw_X2_becomes Q G a0 x1)) (th_Qv D B Q) 0 0 (th_A B) :=
  th_ofW (by decide +kernel) (th_cr (th_ci th_cn)) (Nat.le_of_ble_eq_true rfl) (fun p e s m args below meth c CF hret hlk hnm hK hSt G ls hR hS hw hL => by
    have E : th_E p m c cX2_becomes 2 s args RX2 meth ((Option.none : Option Jvm.ClassFile.FieldType)) "becomes" D B := ⟨CF, hret, hlk, hnm, hK, hSt⟩
    have hx := CF.1; have hb := CF.2.1
    have hL : th_L ls 2 [(0, rv a0), (1, .int x1)] := hL
    unfold tw_X2_becomes at hw
    refine th_aload_n hx hb dX2_becomes_0 rfl (lv_at hL.1 0 rfl) ?_
    refine lv_iload_n hx hb dX2_becomes_1 rfl (lv_at hL.1 1 rfl) ?_
    obtain ⟨ho, hw⟩ := hw
    refine fp_X2_18 CF hK hR hS ho dX2_becomes_2 (fun G1 H locs hG hR hS => ?_)
    replace hw := hw G1 hG
    refine th_aload_n hx hb dX2_becomes_5 rfl (lv_at hL.1 0 rfl) ?_
    refine lv_iconst hx hb dX2_becomes_6 (v := 0) rfl ?_
    obtain ⟨ho, hw⟩ := hw
    refine fp_X2_22 CF hK hR hS ho dX2_becomes_7 (fun G2 H locs hG hR hS => ?_)
    replace hw := hw G2 hG
    refine th_aload_n hx hb dX2_becomes_10 rfl (lv_at hL.1 0 rfl) ?_
    refine lv_iconst hx hb dX2_becomes_11 (v := 0) rfl ?_
    obtain ⟨ho, hw⟩ := hw
    refine fp_X2_25 CF hK hR hS ho dX2_becomes_12 (fun G3 H locs hG hR hS => ?_)
    replace hw := hw G3 hG
    refine th_aload_n hx hb dX2_becomes_15 rfl (lv_at hL.1 0 rfl) ?_
    refine lv_iconst hx hb dX2_becomes_16 (v := 0) rfl ?_
    obtain ⟨ho, hw⟩ := hw
    refine fp_X2_28 CF hK hR hS ho dX2_becomes_17 (fun G4 H locs hG hR hS => ?_)
    replace hw := hw G4 hG
    refine th_aload_n hx hb dX2_becomes_20 rfl (lv_at hL.1 0 rfl) ?_
    refine lv_iconst hx hb dX2_becomes_21 (v := 0) rfl ?_
    obtain ⟨ho, hw⟩ := hw
    refine fp_X2_31 CF hK hR hS ho dX2_becomes_22 (fun G5 H locs hG hR hS => ?_)
    replace hw := hw G5 hG
    exact th_vret hx hb hret hlk hR hS hw (by omega) (by omega) dX2_becomes_25)
def tw_X0_doParish_b25 (Q : Int32 → aH → Prop) (X : Nat → aH → Prop) (G : aH) (a0 : Nat) (x1 : Int32) (tx0 : Int32) : Prop :=
  (tw_X0_allow
    (fun (G4 : aH) =>
      th_o G4 a0 0 ∧ (
      th_o G4 (a_mr G4 a0 0) 1 ∧ (
      th_o G4 a0 0 ∧ (
      th_o G4 (a_mr G4 a0 0) 1 ∧ (
      th_ai G4 (a_mr G4 (a_mr G4 a0 0) 0) 4 (a_mi G4 (a_mr G4 a0 0) 1) ∧ (
      th_o G4 (a_mr G4 (a_mr G4 (a_mr G4 a0 0) 0) (a_mi G4 (a_mr G4 a0 0) 1).toNatClampNeg) 2 ∧ (
      (tw_X2_becomes
        (fun (G5 : aH) =>
          th_o G5 a0 0 ∧ (
          th_o G5 (a_mr G5 a0 0) 1 ∧ (
          th_o G5 (a_mr G5 a0 0) 1 ∧ (
          ∀ G6 : aH, G6 = a_si G5 (a_mr G5 a0 0) 1 ((a_mi G5 (a_mr G5 a0 0) 1) + 1) → 
          th_o G6 a0 0 ∧ (
          th_o G6 (a_mr G6 a0 0) 1 ∧ (
          Q ((a_mi G6 (a_mr G6 a0 0) 1) - 1) G6))))))
        G4 (a_mr G4 (a_mr G4 (a_mr G4 a0 0) 0) (a_mi G4 (a_mr G4 a0 0) 1).toNatClampNeg) x1))))))))
    X
    G tx0 1 6)
def tw_X0_doParish (Q : Int32 → aH → Prop) (X : Nat → aH → Prop) (G : aH) (a0 : Nat) (x1 : Int32) : Prop :=
  (tw_X0_isKind
    (fun (r2 : Int32) (G1 : aH) =>
      (tw_X0_want
        (fun (G3 : aH) =>
          th_o G3 a0 0 ∧ (
          th_o G3 (a_mr G3 a0 0) 1 ∧ (
          (6 ≤ a_mi G3 (a_mr G3 a0 0) 1 →
            tw_X0_doParish_b25 Q X G3 a0 x1 0) ∧
          (¬ 6 ≤ a_mi G3 (a_mr G3 a0 0) 1 →
            tw_X0_doParish_b25 Q X G3 a0 x1 1))))
        X
        G1 r2 (-1)))
    G x1)
theorem tk_X0_doParish_b25 {p : Program} {l : Launch} {e : Env} {s : State} {m : MethodId} {args : Array Value} {below : List Frame} {meth : Method} {c : Code} {D : tD} {B : Nat} (E : th_E p m c cX0_doParish 2 s args RX0 meth ((Option.some Jvm.ClassFile.FieldType.int)) "doParish" D B) (htab : c.exceptionTable.toList = tableOf []) {Q : Int32 → aH → Prop} {X : Nat → aH → Prop} {G : aH} {H : Heap} {locs : List Loc} {cells slots : Nat} {ls : Array Slot} {a0 : Nat} {x1 : Int32} {tx0 : Int32} (hR : th_H D B G H) (hS : va_S (th_A B) s.heap H locs) (hL : th_L ls 2 [(0, rv a0), (1, .int x1)]) (hw : tw_X0_doParish_b25 Q X G a0 x1 tx0) (hc : cells + (1) ≤ 2 ∧ slots + (8) ≤ 15) : W p l e rm_X0_doParish s m args below meth c H locs cells slots (vz_MQ below (th_Qi D B Q) (th_X D B X) args s 2 15 (th_A B)) (F0 m 25 ls [.int tx0]) := by
  have CF := E.1; have hx := CF.1; have hb := CF.2.1; have hret := E.2.1; have hlk := E.2.2.1; have hnm := E.2.2.2.1; have hK := E.2.2.2.2.1; have hSt := E.2.2.2.2.2
  unfold tw_X0_doParish_b25 at hw
  refine lv_iconst hx hb dX0_doParish_25 (v := 1) rfl ?_
  refine lv_bipush hx hb dX0_doParish_26 (v := 6) rfl ?_
  refine th_Xkv hS (th_XrS CF hK hSt hR hS (rest := []) (tk_X0_allow) (cw_X0_97 CF hK (by decide +kernel)) hw rfl hL.1.1 rfl th_cn (Nat.le_of_ble_eq_true rfl) dX0_doParish_28 ⟨by show _ ≤ (2 : Nat); omega, by show _ ≤ (15 : Nat); omega⟩) (fun e9 G9 H locs hw ho hR hS => ?_) (fun G4 H locs hw hR hS => ?_)
  · exact th_out hK hlk (by rw [htab]; decide) hR hS hw ho (by omega) (by omega)
  · skip
    refine th_aload_n hx hb dX0_doParish_31 rfl (lv_at hL.1 0 rfl) ?_
    obtain ⟨ho, hw⟩ := hw
    refine fg_X0_22 CF hK hR ho dX0_doParish_32 ?_
    obtain ⟨ho, hw⟩ := hw
    refine fg_X0_101 CF hK hR ho dX0_doParish_35 ?_
    refine th_aload_n hx hb dX0_doParish_38 rfl (lv_at hL.1 0 rfl) ?_
    obtain ⟨ho, hw⟩ := hw
    refine fg_X0_22 CF hK hR ho dX0_doParish_39 ?_
    obtain ⟨ho, hw⟩ := hw
    refine fg_X0_79 CF hK hR ho dX0_doParish_42 ?_
    obtain ⟨ha, hw⟩ := hw
    refine th_aald hx hb hK 4 (by decide) rfl rfl hR ha dX0_doParish_45 ?_
    refine lv_iload_n hx hb dX0_doParish_46 rfl (lv_at hL.1 1 rfl) ?_
    obtain ⟨ho, hw⟩ := hw
    refine th_kv hS (th_rV CF hK hSt hR hS ho (ci := 2) rfl (rest := []) (tk_X2_becomes) (cw_X0_105 CF hK (by decide +kernel)) hw rfl hL.1.1 rfl th_cn (Nat.le_of_ble_eq_true rfl) dX0_doParish_47 ⟨by show _ ≤ (2 : Nat); omega, by show _ ≤ (15 : Nat); omega⟩) (fun G5 H locs hw hR hS => ?_)
    refine th_aload_n hx hb dX0_doParish_50 rfl (lv_at hL.1 0 rfl) ?_
    obtain ⟨ho, hw⟩ := hw
    refine fg_X0_22 CF hK hR ho dX0_doParish_51 ?_
    refine lv_dup hx hb dX0_doParish_54 (rv_cat _) ?_
    obtain ⟨ho, hw⟩ := hw
    refine fg_X0_79 CF hK hR ho dX0_doParish_55 ?_
    refine lv_iconst hx hb dX0_doParish_58 (v := 1) rfl ?_
    refine lv_iadd hx hb dX0_doParish_59 ?_
    obtain ⟨ho, hw⟩ := hw
    refine fp_X0_79 CF hK hR hS ho dX0_doParish_60 (fun G6 H locs hG hR hS => ?_)
    replace hw := hw G6 hG
    refine th_aload_n hx hb dX0_doParish_63 rfl (lv_at hL.1 0 rfl) ?_
    obtain ⟨ho, hw⟩ := hw
    refine fg_X0_22 CF hK hR ho dX0_doParish_64 ?_
    obtain ⟨ho, hw⟩ := hw
    refine fg_X0_79 CF hK hR ho dX0_doParish_67 ?_
    refine lv_iconst hx hb dX0_doParish_70 (v := 1) rfl ?_
    refine lv_isub hx hb dX0_doParish_71 ?_
    exact vz_ret (th_iret hx hb hret hlk hR hS hw (by omega) (by omega) dX0_doParish_72)
theorem tk_X0_doParish {l : Launch} {D : tD} {B : Nat} {Q : Int32 → aH → Prop} {X : Nat → aH → Prop} {a0 : Nat} {x1 : Int32} : vz_Met l yX0_doParish (ws_ yX0_doParish cX0_doParish 2 ((Option.some Jvm.ClassFile.FieldType.int))) rm_X0_doParish (th_P D B [rv a0, .int x1] (fun G => tw_X0_doParish Q X G a0 x1)) (th_Qi D B Q) (th_X D B X) 2 15 (th_A B) :=
  th_ofX (by decide +kernel) (th_cr (th_ci th_cn)) (Nat.le_of_ble_eq_true rfl) (fun p e s m args below meth c CF hret hlk hnm htab0 hK hSt G ls hR hS hw hL => by
    have E : th_E p m c cX0_doParish 2 s args RX0 meth ((Option.some Jvm.ClassFile.FieldType.int)) "doParish" D B := ⟨CF, hret, hlk, hnm, hK, hSt⟩
    have htab : c.exceptionTable.toList = tableOf [] := th_notab htab0
    have hx := CF.1; have hb := CF.2.1
    have hL : th_L ls 2 [(0, rv a0), (1, .int x1)] := hL
    unfold tw_X0_doParish at hw
    refine lv_iload_n hx hb dX0_doParish_0 rfl (lv_at hL.1 1 rfl) ?_
    refine th_ki hS (th_rS CF hK hSt hR hS (rest := []) (tk_X0_isKind) (cw_X0_89 CF hK (by decide +kernel)) hw rfl hL.1.1 rfl th_cn (Nat.le_of_ble_eq_true rfl) dX0_doParish_1 ⟨by show _ ≤ (2 : Nat); omega, by show _ ≤ (15 : Nat); omega⟩) (fun r2 G1 H locs hw hR hS => ?_)
    refine lv_iconst hx hb dX0_doParish_4 (v := (-1)) rfl ?_
    refine th_Xkv hS (th_XrS CF hK hSt hR hS (rest := []) (tk_X0_want) (cw_X0_93 CF hK (by decide +kernel)) hw rfl hL.1.1 rfl th_cn (Nat.le_of_ble_eq_true rfl) dX0_doParish_5 ⟨by show _ ≤ (2 : Nat); omega, by show _ ≤ (15 : Nat); omega⟩) (fun e9 G9 H locs hw ho hR hS => ?_) (fun G3 H locs hw hR hS => ?_)
    · exact th_out hK hlk (by rw [htab]; decide) hR hS hw ho (by omega) (by omega)
    · skip
      refine th_aload_n hx hb dX0_doParish_8 rfl (lv_at hL.1 0 rfl) ?_
      obtain ⟨ho, hw⟩ := hw
      refine fg_X0_22 CF hK hR ho dX0_doParish_9 ?_
      obtain ⟨ho, hw⟩ := hw
      refine fg_X0_79 CF hK hR ho dX0_doParish_12 ?_
      refine lv_bipush hx hb dX0_doParish_15 (v := 6) rfl ?_
      refine lv_icmp_ge hx hb dX0_doParish_17 (tgt := 24) (by decide) (fun h => ?_) (fun h => ?_)
      · replace hw := hw.1 h
        refine lv_iconst hx hb dX0_doParish_24 (v := 0) rfl ?_
        exact tk_X0_doParish_b25 E htab hR hS (hL.sub [0, 1] rfl) hw ⟨by omega, by omega⟩
      · replace hw := hw.2 h
        refine lv_iconst hx hb dX0_doParish_20 (v := 1) rfl ?_
        refine lv_goto hx hb dX0_doParish_21 (tgt := 25) (by decide) ?_
        exact tk_X0_doParish_b25 E htab hR hS (hL.sub [0, 1] rfl) hw ⟨by omega, by omega⟩)
def tw_X0_parish (Q : Int32 → aH → Prop) (G : aH) (a0 : Nat) (x1 : Int32) : Prop :=
  th_o G a0 0 ∧ (
  (tw_X0_begins
    (fun (G1 : aH) =>
      th_o G1 a0 0 ∧ (
      (tw_X0_doParish
        (fun (r3 : Int32) (G2 : aH) =>
          th_o G2 a0 0 ∧ (
          (tw_X0_changed
            (fun (r5 : Int32) (G4 : aH) =>
              Q r5 G4)
            G2 a0 r3)))
        (fun (e6 : Nat) (G7 : aH) =>
          (th_o G7 e6 9 ∧ (
            th_o G7 a0 0 ∧ (
            (tw_X0_notDone
              (fun (r9 : Int32) (G8 : aH) =>
                Q r9 G8)
              G7 a0 e6)))) ∨
          (th_o G7 e6 10 ∧ (
            th_o G7 a0 0 ∧ (
            (tw_X0_notDone
              (fun (r11 : Int32) (G10 : aH) =>
                Q r11 G10)
              G7 a0 e6)))))
        G1 a0 x1)))
    G a0))
theorem tk_X0_parish {l : Launch} {D : tD} {B : Nat} {Q : Int32 → aH → Prop} {a0 : Nat} {x1 : Int32} : vz_Met l yX0_parish (wsW_ yX0_parish cX0_parish 3 ((Option.some Jvm.ClassFile.FieldType.int)) [((4 : Nat), (13 : Nat), (14 : Nat), (3 : Nat)), ((4 : Nat), (13 : Nat), (14 : Nat), (9 : Nat))]) rm_X0_parish (th_P D B [rv a0, .int x1] (fun G => tw_X0_parish Q G a0 x1)) (th_Qi D B Q) (th_X D B (fun _ _ => False)) 2 15 (th_A B) :=
  th_ofXH (by decide +kernel) (th_cr (th_ci th_cn)) (Nat.le_of_ble_eq_true rfl) (fun p e s m args below meth c CF hret hlk hnm htab0 hK hSt G ls hR hS hw hL => by
    have E : th_E p m c cX0_parish 3 s args RX0 meth ((Option.some Jvm.ClassFile.FieldType.int)) "parish" D B := ⟨CF, hret, hlk, hnm, hK, hSt⟩
    have htab : c.exceptionTable.toList = tableOf [((4 : Nat), (13 : Nat), (14 : Nat), (3 : Nat)), ((4 : Nat), (13 : Nat), (14 : Nat), (9 : Nat))] := htab0
    have hx := CF.1; have hb := CF.2.1
    have hL : th_L ls 3 [(0, rv a0), (1, .int x1)] := hL
    unfold tw_X0_parish at hw
    refine th_aload_n hx hb dX0_parish_0 rfl (lv_at hL.1 0 rfl) ?_
    obtain ⟨ho, hw⟩ := hw
    refine th_kv hS (th_rV CF hK hSt hR hS ho (ci := 0) rfl (rest := []) (tk_X0_begins) (cw_X0_110 CF hK (by decide +kernel)) hw rfl hL.1.1 rfl th_cn (Nat.le_of_ble_eq_true rfl) dX0_parish_1 ⟨by show _ ≤ (2 : Nat); omega, by show _ ≤ (15 : Nat); omega⟩) (fun G1 H locs hw hR hS => ?_)
    refine th_aload_n hx hb dX0_parish_4 rfl (lv_at hL.1 0 rfl) ?_
    refine th_aload_n hx hb dX0_parish_5 rfl (lv_at hL.1 0 rfl) ?_
    refine lv_iload_n hx hb dX0_parish_6 rfl (lv_at hL.1 1 rfl) ?_
    obtain ⟨ho, hw⟩ := hw
    refine th_Xki hS (th_XrV CF hK hSt hR hS ho (ci := 0) rfl (rest := [rv a0]) (tk_X0_doParish) (cw_X0_113 CF hK (by decide +kernel)) hw rfl hL.1.1 rfl (th_cr th_cn) (Nat.le_of_ble_eq_true rfl) dX0_parish_7 ⟨by show _ ≤ (2 : Nat); omega, by show _ ≤ (15 : Nat); omega⟩) (fun e6 G7 H locs hw ho hR hS => ?_) (fun r3 G2 H locs hw hR hS => ?_)
    · rcases hw with hw | hw
      · obtain ⟨hk, hw⟩ := hw
        refine th_catch (ci := 9) (nm := "TitheBarn$Wrong") CF.2.2.2.1 hK hR hk rfl htab [] (⟨4, 13, 14, 3⟩ : ExceptionTableEntry) [(⟨4, 13, 14, 9⟩ : ExceptionTableEntry)] rfl (by intro z hz; cases hz) rfl (by decide) (CF.2.2.2.2 _ q466) q517 ?_
        refine th_astore_n hx hb dX0_parish_14 rfl hL (by decide) rfl (fun ls hL => ?_)
        refine th_aload_n hx hb dX0_parish_15 rfl (lv_at hL.1 1 rfl) ?_
        refine th_aload_n hx hb dX0_parish_16 rfl (lv_at hL.1 0 rfl) ?_
        obtain ⟨ho, hw⟩ := hw
        refine th_ki hS (th_rV CF hK hSt hR hS ho (ci := 0) rfl (rest := []) (tk_X0_notDone) (cw_X0_120 CF hK (by decide +kernel)) hw rfl hL.1.1 rfl th_cn (Nat.le_of_ble_eq_true rfl) dX0_parish_17 ⟨by show _ ≤ (2 : Nat); omega, by show _ ≤ (15 : Nat); omega⟩) (fun r9 G8 H locs hw hR hS => ?_)
        exact vz_ret (th_iret hx hb hret hlk hR hS hw (by omega) (by omega) dX0_parish_20)
      · obtain ⟨hk, hw⟩ := hw
        refine th_catch (ci := 10) (nm := "TitheBarn$Refused") CF.2.2.2.1 hK hR hk rfl htab [(⟨4, 13, 14, 3⟩ : ExceptionTableEntry)] (⟨4, 13, 14, 9⟩ : ExceptionTableEntry) [] rfl (by intro z hz; rw [List.mem_singleton.mp hz]; exact Or.inr ⟨by decide, _, CF.2.2.2.2 _ q466, hK.2.2.2.2.1⟩) rfl (by decide) (CF.2.2.2.2 _ q467) q585 ?_
        refine th_astore_n hx hb dX0_parish_14 rfl hL (by decide) rfl (fun ls hL => ?_)
        refine th_aload_n hx hb dX0_parish_15 rfl (lv_at hL.1 1 rfl) ?_
        refine th_aload_n hx hb dX0_parish_16 rfl (lv_at hL.1 0 rfl) ?_
        obtain ⟨ho, hw⟩ := hw
        refine th_ki hS (th_rV CF hK hSt hR hS ho (ci := 0) rfl (rest := []) (tk_X0_notDone) (cw_X0_120 CF hK (by decide +kernel)) hw rfl hL.1.1 rfl th_cn (Nat.le_of_ble_eq_true rfl) dX0_parish_17 ⟨by show _ ≤ (2 : Nat); omega, by show _ ≤ (15 : Nat); omega⟩) (fun r11 G10 H locs hw hR hS => ?_)
        exact vz_ret (th_iret hx hb hret hlk hR hS hw (by omega) (by omega) dX0_parish_20)
    · skip
      obtain ⟨ho, hw⟩ := hw
      refine th_ki hS (th_rV CF hK hSt hR hS ho (ci := 0) rfl (rest := []) (tk_X0_changed) (cw_X0_117 CF hK (by decide +kernel)) hw rfl hL.1.1 rfl th_cn (Nat.le_of_ble_eq_true rfl) dX0_parish_10 ⟨by show _ ≤ (2 : Nat); omega, by show _ ≤ (15 : Nat); omega⟩) (fun r5 G4 H locs hw hR hS => ?_)
      exact vz_ret (th_iret hx hb hret hlk hR hS hw (by omega) (by omega) dX0_parish_13))
def tw_X0_doPass_b16 (Q : Int32 → aH → Prop) (X : Nat → aH → Prop) : Nat → aH → Nat → Int32 → Int32 → Int32 → Prop := fun n => Nat.rec (motive := fun _ => aH → Nat → Int32 → Int32 → Int32 → Prop) (fun _ _ _ _ _ => False) (fun _ ih G a0 x1 x2 x3 =>
  (x1 ≤ x3 →
    Q x2 G) ∧
  (¬ x1 ≤ x3 →
    th_o G a0 0 ∧ (
    th_o G (a_mr G a0 0) 1 ∧ (
    (tw_X1_passes
      (fun (r5 : Int32) (G4 : aH) =>
        ∀ x2_6 : Int32, x2_6 = x2 + r5 → 
        ∀ x3_7 : Int32, x3_7 = x3 + 1 → 
        ih G4 a0 x1 x2_6 x3_7)
      G (a_mr G a0 0)))))) n
theorem tws_X0_doPass_b16 (Q : Int32 → aH → Prop) (X : Nat → aH → Prop) (n : Nat) (G : aH) (a0 : Nat) (x1 : Int32) (x2 : Int32) (x3 : Int32) : tw_X0_doPass_b16 Q X (n + 1) G a0 x1 x2 x3 = (
  (x1 ≤ x3 →
    Q x2 G) ∧
  (¬ x1 ≤ x3 →
    th_o G a0 0 ∧ (
    th_o G (a_mr G a0 0) 1 ∧ (
    (tw_X1_passes
      (fun (r5 : Int32) (G4 : aH) =>
        ∀ x2_6 : Int32, x2_6 = x2 + r5 → 
        ∀ x3_7 : Int32, x3_7 = x3 + 1 → 
        tw_X0_doPass_b16 Q X n G4 a0 x1 x2_6 x3_7)
      G (a_mr G a0 0)))))) := rfl
def tw_X0_doPass (Q : Int32 → aH → Prop) (X : Nat → aH → Prop) (G : aH) (a0 : Nat) (x1 : Int32) : Prop :=
  (tw_X0_within
    (fun (r2 : Int32) (G1 : aH) =>
      (tw_X0_want
        (fun (G3 : aH) =>
          ∃ n9 : Nat, tw_X0_doPass_b16 Q X n9 G3 a0 x1 0 0)
        X
        G1 r2 (-2)))
    G x1 1 30)
theorem tk_X0_doPass_b16 {p : Program} {l : Launch} {e : Env} {s : State} {m : MethodId} {args : Array Value} {below : List Frame} {meth : Method} {c : Code} {D : tD} {B : Nat} (E : th_E p m c cX0_doPass 4 s args RX0 meth ((Option.some Jvm.ClassFile.FieldType.int)) "doPass" D B) (htab : c.exceptionTable.toList = tableOf []) {Q : Int32 → aH → Prop} {X : Nat → aH → Prop} : ∀ (n : Nat) {G : aH} {H : Heap} {locs : List Loc} {cells slots : Nat} {ls : Array Slot} {a0 : Nat} {x1 : Int32} {x2 : Int32} {x3 : Int32} (hR : th_H D B G H) (hS : va_S (th_A B) s.heap H locs) (hL : th_L ls 4 [(0, rv a0), (1, .int x1), (2, .int x2), (3, .int x3)]) (hw : tw_X0_doPass_b16 Q X n G a0 x1 x2 x3) (hc : cells + (0) ≤ 1 ∧ slots + (0) ≤ 7), W p l e rm_X0_doPass s m args below meth c H locs cells slots (vz_MQ below (th_Qi D B Q) (th_X D B X) args s 1 7 (th_A B)) (F0 m 16 ls []) := by
  have CF := E.1; have hx := CF.1; have hb := CF.2.1; have hret := E.2.1; have hlk := E.2.2.1; have hnm := E.2.2.2.1; have hK := E.2.2.2.2.1; have hSt := E.2.2.2.2.2
  intro n
  induction n with
  | zero => intro _ _ _ _ _ _ _ _ _ _ _ _ _ hw; exact hw.elim
  | succ n ih =>
    intro G H locs cells slots ls a0 x1 x2 x3 hR hS hL hw hc
    rw [tws_X0_doPass_b16] at hw
    refine lv_iload_n hx hb dX0_doPass_16 rfl (lv_at hL.1 3 rfl) ?_
    refine lv_iload_n hx hb dX0_doPass_17 rfl (lv_at hL.1 1 rfl) ?_
    refine lv_icmp_ge hx hb dX0_doPass_18 (tgt := 37) (by decide) (fun h => ?_) (fun h => ?_)
    · replace hw := hw.1 h
      refine lv_iload_n hx hb dX0_doPass_37 rfl (lv_at hL.1 2 rfl) ?_
      exact vz_ret (th_iret hx hb hret hlk hR hS hw (by omega) (by omega) dX0_doPass_38)
    · replace hw := hw.2 h
      refine lv_iload_n hx hb dX0_doPass_21 rfl (lv_at hL.1 2 rfl) ?_
      refine th_aload_n hx hb dX0_doPass_22 rfl (lv_at hL.1 0 rfl) ?_
      obtain ⟨ho, hw⟩ := hw
      refine fg_X0_22 CF hK hR ho dX0_doPass_23 ?_
      obtain ⟨ho, hw⟩ := hw
      refine th_ki hS (th_rV CF hK hSt hR hS ho (ci := 1) rfl (rest := [.int x2]) (tk_X1_passes) (cw_X0_280 CF hK (by decide +kernel)) hw rfl hL.1.1 rfl (th_ci th_cn) (Nat.le_of_ble_eq_true rfl) dX0_doPass_26 ⟨by show _ ≤ (1 : Nat); omega, by show _ ≤ (7 : Nat); omega⟩) (fun r5 G4 H locs hw hR hS => ?_)
      refine lv_iadd hx hb dX0_doPass_29 ?_
      obtain ⟨x2_6, hx2_6⟩ : ∃ y : Int32, y = x2 + r5 := ⟨_, rfl⟩
      replace hw := hw x2_6 hx2_6
      refine th_nmi hx2_6 ?_
      refine th_istore_n hx hb dX0_doPass_30 rfl hL (by decide) rfl (fun ls hL => ?_)
      obtain ⟨x3_7, hx3_7⟩ : ∃ y : Int32, y = x3 + 1 := ⟨_, rfl⟩
      replace hw := hw x3_7 hx3_7
      refine th_iinc hx hb dX0_doPass_31 hL (k := 3) rfl (v := x3_7) hx3_7.symm (by decide) rfl (fun ls hL => ?_)
      refine lv_goto hx hb dX0_doPass_34 (tgt := 16) (by decide) ?_
      exact ih hR hS (hL.sub [2, 3, 1, 0] rfl) hw ⟨by omega, by omega⟩
theorem tk_X0_doPass {l : Launch} {D : tD} {B : Nat} {Q : Int32 → aH → Prop} {X : Nat → aH → Prop} {a0 : Nat} {x1 : Int32} : vz_Met l yX0_doPass (ws_ yX0_doPass cX0_doPass 4 ((Option.some Jvm.ClassFile.FieldType.int))) rm_X0_doPass (th_P D B [rv a0, .int x1] (fun G => tw_X0_doPass Q X G a0 x1)) (th_Qi D B Q) (th_X D B X) 1 7 (th_A B) :=
  th_ofX (by decide +kernel) (th_cr (th_ci th_cn)) (Nat.le_of_ble_eq_true rfl) (fun p e s m args below meth c CF hret hlk hnm htab0 hK hSt G ls hR hS hw hL => by
    have E : th_E p m c cX0_doPass 4 s args RX0 meth ((Option.some Jvm.ClassFile.FieldType.int)) "doPass" D B := ⟨CF, hret, hlk, hnm, hK, hSt⟩
    have htab : c.exceptionTable.toList = tableOf [] := th_notab htab0
    have hx := CF.1; have hb := CF.2.1
    have hL : th_L ls 4 [(0, rv a0), (1, .int x1)] := hL
    unfold tw_X0_doPass at hw
    refine lv_iload_n hx hb dX0_doPass_0 rfl (lv_at hL.1 1 rfl) ?_
    refine lv_iconst hx hb dX0_doPass_1 (v := 1) rfl ?_
    refine lv_bipush hx hb dX0_doPass_2 (v := 30) rfl ?_
    refine th_ki hS (th_rS CF hK hSt hR hS (rest := []) (tk_X0_within) (cw_X0_82 CF hK (by decide +kernel)) hw rfl hL.1.1 rfl th_cn (Nat.le_of_ble_eq_true rfl) dX0_doPass_4 ⟨by show _ ≤ (1 : Nat); omega, by show _ ≤ (7 : Nat); omega⟩) (fun r2 G1 H locs hw hR hS => ?_)
    refine lv_bipush hx hb dX0_doPass_7 (v := (-2)) rfl ?_
    refine th_Xkv hS (th_XrS CF hK hSt hR hS (rest := []) (tk_X0_want) (cw_X0_93 CF hK (by decide +kernel)) hw rfl hL.1.1 rfl th_cn (Nat.le_of_ble_eq_true rfl) dX0_doPass_9 ⟨by show _ ≤ (1 : Nat); omega, by show _ ≤ (7 : Nat); omega⟩) (fun e9 G9 H locs hw ho hR hS => ?_) (fun G3 H locs hw hR hS => ?_)
    · exact th_out hK hlk (by rw [htab]; decide) hR hS hw ho (by omega) (by omega)
    · skip
      refine lv_iconst hx hb dX0_doPass_12 (v := 0) rfl ?_
      refine th_istore_n hx hb dX0_doPass_13 rfl hL (by decide) rfl (fun ls hL => ?_)
      refine lv_iconst hx hb dX0_doPass_14 (v := 0) rfl ?_
      refine th_istore_n hx hb dX0_doPass_15 rfl hL (by decide) rfl (fun ls hL => ?_)
      obtain ⟨n9, hw⟩ := hw
      exact tk_X0_doPass_b16 E htab n9 hR hS (hL.sub [2, 3, 1, 0] rfl) hw ⟨by omega, by omega⟩)
def tw_X0_pass (Q : Int32 → aH → Prop) (G : aH) (a0 : Nat) (x1 : Int32) : Prop :=
  th_o G a0 0 ∧ (
  (tw_X0_begins
    (fun (G1 : aH) =>
      th_o G1 a0 0 ∧ (
      (tw_X0_doPass
        (fun (r3 : Int32) (G2 : aH) =>
          th_o G2 a0 0 ∧ (
          (tw_X0_changed
            (fun (r5 : Int32) (G4 : aH) =>
              Q r5 G4)
            G2 a0 r3)))
        (fun (e6 : Nat) (G7 : aH) =>
          (th_o G7 e6 9 ∧ (
            th_o G7 a0 0 ∧ (
            (tw_X0_notDone
              (fun (r9 : Int32) (G8 : aH) =>
                Q r9 G8)
              G7 a0 e6)))))
        G1 a0 x1)))
    G a0))
theorem tk_X0_pass {l : Launch} {D : tD} {B : Nat} {Q : Int32 → aH → Prop} {a0 : Nat} {x1 : Int32} : vz_Met l yX0_pass (wsW_ yX0_pass cX0_pass 3 ((Option.some Jvm.ClassFile.FieldType.int)) [((4 : Nat), (13 : Nat), (14 : Nat), (3 : Nat))]) rm_X0_pass (th_P D B [rv a0, .int x1] (fun G => tw_X0_pass Q G a0 x1)) (th_Qi D B Q) (th_X D B (fun _ _ => False)) 1 7 (th_A B) :=
  th_ofXH (by decide +kernel) (th_cr (th_ci th_cn)) (Nat.le_of_ble_eq_true rfl) (fun p e s m args below meth c CF hret hlk hnm htab0 hK hSt G ls hR hS hw hL => by
    have E : th_E p m c cX0_pass 3 s args RX0 meth ((Option.some Jvm.ClassFile.FieldType.int)) "pass" D B := ⟨CF, hret, hlk, hnm, hK, hSt⟩
    have htab : c.exceptionTable.toList = tableOf [((4 : Nat), (13 : Nat), (14 : Nat), (3 : Nat))] := htab0
    have hx := CF.1; have hb := CF.2.1
    have hL : th_L ls 3 [(0, rv a0), (1, .int x1)] := hL
    unfold tw_X0_pass at hw
    refine th_aload_n hx hb dX0_pass_0 rfl (lv_at hL.1 0 rfl) ?_
    obtain ⟨ho, hw⟩ := hw
    refine th_kv hS (th_rV CF hK hSt hR hS ho (ci := 0) rfl (rest := []) (tk_X0_begins) (cw_X0_110 CF hK (by decide +kernel)) hw rfl hL.1.1 rfl th_cn (Nat.le_of_ble_eq_true rfl) dX0_pass_1 ⟨by show _ ≤ (1 : Nat); omega, by show _ ≤ (7 : Nat); omega⟩) (fun G1 H locs hw hR hS => ?_)
    refine th_aload_n hx hb dX0_pass_4 rfl (lv_at hL.1 0 rfl) ?_
    refine th_aload_n hx hb dX0_pass_5 rfl (lv_at hL.1 0 rfl) ?_
    refine lv_iload_n hx hb dX0_pass_6 rfl (lv_at hL.1 1 rfl) ?_
    obtain ⟨ho, hw⟩ := hw
    refine th_Xki hS (th_XrV CF hK hSt hR hS ho (ci := 0) rfl (rest := [rv a0]) (tk_X0_doPass) (cw_X0_283 CF hK (by decide +kernel)) hw rfl hL.1.1 rfl (th_cr th_cn) (Nat.le_of_ble_eq_true rfl) dX0_pass_7 ⟨by show _ ≤ (1 : Nat); omega, by show _ ≤ (7 : Nat); omega⟩) (fun e6 G7 H locs hw ho hR hS => ?_) (fun r3 G2 H locs hw hR hS => ?_)
    · obtain ⟨hk, hw⟩ := hw
      refine th_catch (ci := 9) (nm := "TitheBarn$Wrong") CF.2.2.2.1 hK hR hk rfl htab [] (⟨4, 13, 14, 3⟩ : ExceptionTableEntry) [] rfl (by intro z hz; cases hz) rfl (by decide) (CF.2.2.2.2 _ q466) q517 ?_
      refine th_astore_n hx hb dX0_pass_14 rfl hL (by decide) rfl (fun ls hL => ?_)
      refine th_aload_n hx hb dX0_pass_15 rfl (lv_at hL.1 1 rfl) ?_
      refine th_aload_n hx hb dX0_pass_16 rfl (lv_at hL.1 0 rfl) ?_
      obtain ⟨ho, hw⟩ := hw
      refine th_ki hS (th_rV CF hK hSt hR hS ho (ci := 0) rfl (rest := []) (tk_X0_notDone) (cw_X0_120 CF hK (by decide +kernel)) hw rfl hL.1.1 rfl th_cn (Nat.le_of_ble_eq_true rfl) dX0_pass_17 ⟨by show _ ≤ (1 : Nat); omega, by show _ ≤ (7 : Nat); omega⟩) (fun r9 G8 H locs hw hR hS => ?_)
      exact vz_ret (th_iret hx hb hret hlk hR hS hw (by omega) (by omega) dX0_pass_20)
    · skip
      obtain ⟨ho, hw⟩ := hw
      refine th_ki hS (th_rV CF hK hSt hR hS ho (ci := 0) rfl (rest := []) (tk_X0_changed) (cw_X0_117 CF hK (by decide +kernel)) hw rfl hL.1.1 rfl th_cn (Nat.le_of_ble_eq_true rfl) dX0_pass_10 ⟨by show _ ≤ (1 : Nat); omega, by show _ ≤ (7 : Nat); omega⟩) (fun r5 G4 H locs hw hR hS => ?_)
      exact vz_ret (th_iret hx hb hret hlk hR hS hw (by omega) (by omega) dX0_pass_13))
def tw_X0_doPrice (Q : Int32 → aH → Prop) (X : Nat → aH → Prop) (G : aH) (a0 : Nat) (x1 : Int32) (x2 : Int32) : Prop :=
  (tw_X0_isKind
    (fun (r2 : Int32) (G1 : aH) =>
      (tw_X0_want
        (fun (G3 : aH) =>
          (tw_X0_within
            (fun (r5 : Int32) (G4 : aH) =>
              (tw_X0_want
                (fun (G6 : aH) =>
                  th_o G6 a0 0 ∧ (
                  th_o G6 (a_mr G6 a0 0) 1 ∧ (
                  th_ai G6 (a_mr G6 (a_mr G6 a0 0) 4) 7 x1 ∧ (
                  th_o G6 (a_mr G6 (a_mr G6 (a_mr G6 a0 0) 4) x1.toNatClampNeg) 6 ∧ (
                  ∀ x3_7 : Int32, x3_7 = a_mi G6 (a_mr G6 (a_mr G6 (a_mr G6 a0 0) 4) x1.toNatClampNeg) 1 → 
                  th_o G6 a0 0 ∧ (
                  th_o G6 (a_mr G6 a0 0) 1 ∧ (
                  th_ai G6 (a_mr G6 (a_mr G6 a0 0) 4) 7 x1 ∧ (
                  th_o G6 (a_mr G6 (a_mr G6 (a_mr G6 a0 0) 4) x1.toNatClampNeg) 6 ∧ (
                  ∀ G8 : aH, G8 = a_si G6 (a_mr G6 (a_mr G6 (a_mr G6 a0 0) 4) x1.toNatClampNeg) 1 x2 → 
                  Q x3_7 G8)))))))))
                X
                G4 r5 (-2)))
            G3 x2 1 50))
        X
        G1 r2 (-1)))
    G x1)
theorem tk_X0_doPrice {l : Launch} {D : tD} {B : Nat} {Q : Int32 → aH → Prop} {X : Nat → aH → Prop} {a0 : Nat} {x1 : Int32} {x2 : Int32} : vz_Met l yX0_doPrice (ws_ yX0_doPrice cX0_doPrice 4 ((Option.some Jvm.ClassFile.FieldType.int))) rm_X0_doPrice (th_P D B [rv a0, .int x1, .int x2] (fun G => tw_X0_doPrice Q X G a0 x1 x2)) (th_Qi D B Q) (th_X D B X) 2 14 (th_A B) :=
  th_ofX (by decide +kernel) (th_cr (th_ci (th_ci th_cn))) (Nat.le_of_ble_eq_true rfl) (fun p e s m args below meth c CF hret hlk hnm htab0 hK hSt G ls hR hS hw hL => by
    have E : th_E p m c cX0_doPrice 4 s args RX0 meth ((Option.some Jvm.ClassFile.FieldType.int)) "doPrice" D B := ⟨CF, hret, hlk, hnm, hK, hSt⟩
    have htab : c.exceptionTable.toList = tableOf [] := th_notab htab0
    have hx := CF.1; have hb := CF.2.1
    have hL : th_L ls 4 [(0, rv a0), (1, .int x1), (2, .int x2)] := hL
    unfold tw_X0_doPrice at hw
    refine lv_iload_n hx hb dX0_doPrice_0 rfl (lv_at hL.1 1 rfl) ?_
    refine th_ki hS (th_rS CF hK hSt hR hS (rest := []) (tk_X0_isKind) (cw_X0_89 CF hK (by decide +kernel)) hw rfl hL.1.1 rfl th_cn (Nat.le_of_ble_eq_true rfl) dX0_doPrice_1 ⟨by show _ ≤ (2 : Nat); omega, by show _ ≤ (14 : Nat); omega⟩) (fun r2 G1 H locs hw hR hS => ?_)
    refine lv_iconst hx hb dX0_doPrice_4 (v := (-1)) rfl ?_
    refine th_Xkv hS (th_XrS CF hK hSt hR hS (rest := []) (tk_X0_want) (cw_X0_93 CF hK (by decide +kernel)) hw rfl hL.1.1 rfl th_cn (Nat.le_of_ble_eq_true rfl) dX0_doPrice_5 ⟨by show _ ≤ (2 : Nat); omega, by show _ ≤ (14 : Nat); omega⟩) (fun e9 G9 H locs hw ho hR hS => ?_) (fun G3 H locs hw hR hS => ?_)
    · exact th_out hK hlk (by rw [htab]; decide) hR hS hw ho (by omega) (by omega)
    · skip
      refine lv_iload_n hx hb dX0_doPrice_8 rfl (lv_at hL.1 2 rfl) ?_
      refine lv_iconst hx hb dX0_doPrice_9 (v := 1) rfl ?_
      refine lv_bipush hx hb dX0_doPrice_10 (v := 50) rfl ?_
      refine th_ki hS (th_rS CF hK hSt hR hS (rest := []) (tk_X0_within) (cw_X0_82 CF hK (by decide +kernel)) hw rfl hL.1.1 rfl th_cn (Nat.le_of_ble_eq_true rfl) dX0_doPrice_12 ⟨by show _ ≤ (2 : Nat); omega, by show _ ≤ (14 : Nat); omega⟩) (fun r5 G4 H locs hw hR hS => ?_)
      refine lv_bipush hx hb dX0_doPrice_15 (v := (-2)) rfl ?_
      refine th_Xkv hS (th_XrS CF hK hSt hR hS (rest := []) (tk_X0_want) (cw_X0_93 CF hK (by decide +kernel)) hw rfl hL.1.1 rfl th_cn (Nat.le_of_ble_eq_true rfl) dX0_doPrice_17 ⟨by show _ ≤ (2 : Nat); omega, by show _ ≤ (14 : Nat); omega⟩) (fun e9 G9 H locs hw ho hR hS => ?_) (fun G6 H locs hw hR hS => ?_)
      · exact th_out hK hlk (by rw [htab]; decide) hR hS hw ho (by omega) (by omega)
      · skip
        refine th_aload_n hx hb dX0_doPrice_20 rfl (lv_at hL.1 0 rfl) ?_
        obtain ⟨ho, hw⟩ := hw
        refine fg_X0_22 CF hK hR ho dX0_doPrice_21 ?_
        obtain ⟨ho, hw⟩ := hw
        refine fg_X0_226 CF hK hR ho dX0_doPrice_24 ?_
        refine lv_iload_n hx hb dX0_doPrice_27 rfl (lv_at hL.1 1 rfl) ?_
        obtain ⟨ha, hw⟩ := hw
        refine th_aald hx hb hK 7 (by decide) rfl rfl hR ha dX0_doPrice_28 ?_
        obtain ⟨ho, hw⟩ := hw
        refine fg_X0_230 CF hK hR ho dX0_doPrice_29 ?_
        obtain ⟨x3_7, hx3_7⟩ : ∃ y : Int32, y = a_mi G6 (a_mr G6 (a_mr G6 (a_mr G6 a0 0) 4) x1.toNatClampNeg) 1 := ⟨_, rfl⟩
        replace hw := hw x3_7 hx3_7
        refine th_nmi hx3_7 ?_
        refine th_istore_n hx hb dX0_doPrice_32 rfl hL (by decide) rfl (fun ls hL => ?_)
        refine th_aload_n hx hb dX0_doPrice_33 rfl (lv_at hL.1 1 rfl) ?_
        obtain ⟨ho, hw⟩ := hw
        refine fg_X0_22 CF hK hR ho dX0_doPrice_34 ?_
        obtain ⟨ho, hw⟩ := hw
        refine fg_X0_226 CF hK hR ho dX0_doPrice_37 ?_
        refine lv_iload_n hx hb dX0_doPrice_40 rfl (lv_at hL.1 2 rfl) ?_
        obtain ⟨ha, hw⟩ := hw
        refine th_aald hx hb hK 7 (by decide) rfl rfl hR ha dX0_doPrice_41 ?_
        refine lv_iload_n hx hb dX0_doPrice_42 rfl (lv_at hL.1 3 rfl) ?_
        obtain ⟨ho, hw⟩ := hw
        refine fp_X0_230 CF hK hR hS ho dX0_doPrice_43 (fun G8 H locs hG hR hS => ?_)
        replace hw := hw G8 hG
        refine lv_iload_n hx hb dX0_doPrice_46 rfl (lv_at hL.1 0 rfl) ?_
        exact vz_ret (th_iret hx hb hret hlk hR hS hw (by omega) (by omega) dX0_doPrice_47))
def tw_X0_price (Q : Int32 → aH → Prop) (G : aH) (a0 : Nat) (x1 : Int32) (x2 : Int32) : Prop :=
  th_o G a0 0 ∧ (
  (tw_X0_begins
    (fun (G1 : aH) =>
      th_o G1 a0 0 ∧ (
      (tw_X0_doPrice
        (fun (r3 : Int32) (G2 : aH) =>
          th_o G2 a0 0 ∧ (
          (tw_X0_changed
            (fun (r5 : Int32) (G4 : aH) =>
              Q r5 G4)
            G2 a0 r3)))
        (fun (e6 : Nat) (G7 : aH) =>
          (th_o G7 e6 9 ∧ (
            th_o G7 a0 0 ∧ (
            (tw_X0_notDone
              (fun (r9 : Int32) (G8 : aH) =>
                Q r9 G8)
              G7 a0 e6)))))
        G1 a0 x1 x2)))
    G a0))
theorem tk_X0_price {l : Launch} {D : tD} {B : Nat} {Q : Int32 → aH → Prop} {a0 : Nat} {x1 : Int32} {x2 : Int32} : vz_Met l yX0_price (wsW_ yX0_price cX0_price 4 ((Option.some Jvm.ClassFile.FieldType.int)) [((4 : Nat), (14 : Nat), (15 : Nat), (3 : Nat))]) rm_X0_price (th_P D B [rv a0, .int x1, .int x2] (fun G => tw_X0_price Q G a0 x1 x2)) (th_Qi D B Q) (th_X D B (fun _ _ => False)) 2 14 (th_A B) :=
  th_ofXH (by decide +kernel) (th_cr (th_ci (th_ci th_cn))) (Nat.le_of_ble_eq_true rfl) (fun p e s m args below meth c CF hret hlk hnm htab0 hK hSt G ls hR hS hw hL => by
    have E : th_E p m c cX0_price 4 s args RX0 meth ((Option.some Jvm.ClassFile.FieldType.int)) "price" D B := ⟨CF, hret, hlk, hnm, hK, hSt⟩
    have htab : c.exceptionTable.toList = tableOf [((4 : Nat), (14 : Nat), (15 : Nat), (3 : Nat))] := htab0
    have hx := CF.1; have hb := CF.2.1
    have hL : th_L ls 4 [(0, rv a0), (1, .int x1), (2, .int x2)] := hL
    unfold tw_X0_price at hw
    refine th_aload_n hx hb dX0_price_0 rfl (lv_at hL.1 0 rfl) ?_
    obtain ⟨ho, hw⟩ := hw
    refine th_kv hS (th_rV CF hK hSt hR hS ho (ci := 0) rfl (rest := []) (tk_X0_begins) (cw_X0_110 CF hK (by decide +kernel)) hw rfl hL.1.1 rfl th_cn (Nat.le_of_ble_eq_true rfl) dX0_price_1 ⟨by show _ ≤ (2 : Nat); omega, by show _ ≤ (14 : Nat); omega⟩) (fun G1 H locs hw hR hS => ?_)
    refine th_aload_n hx hb dX0_price_4 rfl (lv_at hL.1 0 rfl) ?_
    refine th_aload_n hx hb dX0_price_5 rfl (lv_at hL.1 0 rfl) ?_
    refine lv_iload_n hx hb dX0_price_6 rfl (lv_at hL.1 1 rfl) ?_
    refine lv_iload_n hx hb dX0_price_7 rfl (lv_at hL.1 2 rfl) ?_
    obtain ⟨ho, hw⟩ := hw
    refine th_Xki hS (th_XrV CF hK hSt hR hS ho (ci := 0) rfl (rest := [rv a0]) (tk_X0_doPrice) (cw_X0_235 CF hK (by decide +kernel)) hw rfl hL.1.1 rfl (th_cr th_cn) (Nat.le_of_ble_eq_true rfl) dX0_price_8 ⟨by show _ ≤ (2 : Nat); omega, by show _ ≤ (14 : Nat); omega⟩) (fun e6 G7 H locs hw ho hR hS => ?_) (fun r3 G2 H locs hw hR hS => ?_)
    · obtain ⟨hk, hw⟩ := hw
      refine th_catch (ci := 9) (nm := "TitheBarn$Wrong") CF.2.2.2.1 hK hR hk rfl htab [] (⟨4, 14, 15, 3⟩ : ExceptionTableEntry) [] rfl (by intro z hz; cases hz) rfl (by decide) (CF.2.2.2.2 _ q466) q517 ?_
      refine th_astore_n hx hb dX0_price_15 rfl hL (by decide) rfl (fun ls hL => ?_)
      refine th_aload_n hx hb dX0_price_16 rfl (lv_at hL.1 1 rfl) ?_
      refine th_aload_n hx hb dX0_price_17 rfl (lv_at hL.1 0 rfl) ?_
      obtain ⟨ho, hw⟩ := hw
      refine th_ki hS (th_rV CF hK hSt hR hS ho (ci := 0) rfl (rest := []) (tk_X0_notDone) (cw_X0_120 CF hK (by decide +kernel)) hw rfl hL.1.1 rfl th_cn (Nat.le_of_ble_eq_true rfl) dX0_price_18 ⟨by show _ ≤ (2 : Nat); omega, by show _ ≤ (14 : Nat); omega⟩) (fun r9 G8 H locs hw hR hS => ?_)
      exact vz_ret (th_iret hx hb hret hlk hR hS hw (by omega) (by omega) dX0_price_21)
    · skip
      obtain ⟨ho, hw⟩ := hw
      refine th_ki hS (th_rV CF hK hSt hR hS ho (ci := 0) rfl (rest := []) (tk_X0_changed) (cw_X0_117 CF hK (by decide +kernel)) hw rfl hL.1.1 rfl th_cn (Nat.le_of_ble_eq_true rfl) dX0_price_11 ⟨by show _ ≤ (2 : Nat); omega, by show _ ≤ (14 : Nat); omega⟩) (fun r5 G4 H locs hw hR hS => ?_)
      exact vz_ret (th_iret hx hb hret hlk hR hS hw (by omega) (by omega) dX0_price_14))
def tw_X0_ranked_b2 (Q : Int32 → aH → Prop) : Nat → aH → Nat → Int32 → Int32 → Prop := fun n => Nat.rec (motive := fun _ => aH → Nat → Int32 → Int32 → Prop) (fun _ _ _ _ => False) (fun _ ih G a0 x1 x2 =>
  th_o G a0 0 ∧ (
  th_o G (a_mr G a0 0) 1 ∧ (
  (a_mi G (a_mr G a0 0) 1 ≤ x2 →
    Q (-1) G) ∧
  (¬ a_mi G (a_mr G a0 0) 1 ≤ x2 →
    th_o G a0 0 ∧ (
    (tw_X0_rankOf
      (fun (r2 : Int32) (G1 : aH) =>
        (¬ r2 = x1 →
          ∀ x2_3 : Int32, x2_3 = x2 + 1 → 
          ih G1 a0 x1 x2_3) ∧
        (r2 = x1 →
          Q x2 G1))
      G a0 x2)))))) n
theorem tws_X0_ranked_b2 (Q : Int32 → aH → Prop) (n : Nat) (G : aH) (a0 : Nat) (x1 : Int32) (x2 : Int32) : tw_X0_ranked_b2 Q (n + 1) G a0 x1 x2 = (
  th_o G a0 0 ∧ (
  th_o G (a_mr G a0 0) 1 ∧ (
  (a_mi G (a_mr G a0 0) 1 ≤ x2 →
    Q (-1) G) ∧
  (¬ a_mi G (a_mr G a0 0) 1 ≤ x2 →
    th_o G a0 0 ∧ (
    (tw_X0_rankOf
      (fun (r2 : Int32) (G1 : aH) =>
        (¬ r2 = x1 →
          ∀ x2_3 : Int32, x2_3 = x2 + 1 → 
          tw_X0_ranked_b2 Q n G1 a0 x1 x2_3) ∧
        (r2 = x1 →
          Q x2 G1))
      G a0 x2)))))) := rfl
def tw_X0_ranked (Q : Int32 → aH → Prop) (G : aH) (a0 : Nat) (x1 : Int32) : Prop :=
  ∃ n9 : Nat, tw_X0_ranked_b2 Q n9 G a0 x1 0
theorem tk_X0_ranked_b2 {p : Program} {l : Launch} {e : Env} {s : State} {m : MethodId} {args : Array Value} {below : List Frame} {meth : Method} {c : Code} {D : tD} {B : Nat} (E : th_E p m c cX0_ranked 3 s args RX0 meth ((Option.some Jvm.ClassFile.FieldType.int)) "ranked" D B) {Q : Int32 → aH → Prop} : ∀ (n : Nat) {G : aH} {H : Heap} {locs : List Loc} {cells slots : Nat} {ls : Array Slot} {a0 : Nat} {x1 : Int32} {x2 : Int32} (hR : th_H D B G H) (hS : va_S (th_A B) s.heap H locs) (hL : th_L ls 3 [(0, rv a0), (1, .int x1), (2, .int x2)]) (hw : tw_X0_ranked_b2 Q n G a0 x1 x2) (hc : cells + (0) ≤ 0 ∧ slots + (0) ≤ 0), W p l e rm_X0_ranked s m args below meth c H locs cells slots (MQ below (th_Qi D B Q) args s 0 0 (th_A B)) (F0 m 2 ls []) := by
  have CF := E.1; have hx := CF.1; have hb := CF.2.1; have hret := E.2.1; have hlk := E.2.2.1; have hnm := E.2.2.2.1; have hK := E.2.2.2.2.1; have hSt := E.2.2.2.2.2
  intro n
  induction n with
  | zero => intro _ _ _ _ _ _ _ _ _ _ _ _ hw; exact hw.elim
  | succ n ih =>
    intro G H locs cells slots ls a0 x1 x2 hR hS hL hw hc
    rw [tws_X0_ranked_b2] at hw
    refine lv_iload_n hx hb dX0_ranked_2 rfl (lv_at hL.1 2 rfl) ?_
    refine th_aload_n hx hb dX0_ranked_3 rfl (lv_at hL.1 0 rfl) ?_
    obtain ⟨ho, hw⟩ := hw
    refine fg_X0_22 CF hK hR ho dX0_ranked_4 ?_
    obtain ⟨ho, hw⟩ := hw
    refine fg_X0_79 CF hK hR ho dX0_ranked_7 ?_
    refine lv_icmp_ge hx hb dX0_ranked_10 (tgt := 30) (by decide) (fun h => ?_) (fun h => ?_)
    · replace hw := hw.1 h
      refine lv_iconst hx hb dX0_ranked_30 (v := (-1)) rfl ?_
      exact th_iret hx hb hret hlk hR hS hw (by omega) (by omega) dX0_ranked_31
    · replace hw := hw.2 h
      refine th_aload_n hx hb dX0_ranked_13 rfl (lv_at hL.1 0 rfl) ?_
      refine lv_iload_n hx hb dX0_ranked_14 rfl (lv_at hL.1 2 rfl) ?_
      obtain ⟨ho, hw⟩ := hw
      refine th_ki hS (th_rV CF hK hSt hR hS ho (ci := 0) rfl (rest := []) (tk_X0_rankOf) (cw_X0_414 CF hK (by decide +kernel)) hw rfl hL.1.1 rfl th_cn (Nat.le_of_ble_eq_true rfl) dX0_ranked_15 ⟨by show _ ≤ (0 : Nat); omega, by show _ ≤ (0 : Nat); omega⟩) (fun r2 G1 H locs hw hR hS => ?_)
      refine lv_iload_n hx hb dX0_ranked_18 rfl (lv_at hL.1 1 rfl) ?_
      refine lv_icmp_ne hx hb dX0_ranked_19 (tgt := 24) (by decide) (fun h => ?_) (fun h => ?_)
      · replace hw := hw.1 h
        obtain ⟨x2_3, hx2_3⟩ : ∃ y : Int32, y = x2 + 1 := ⟨_, rfl⟩
        replace hw := hw x2_3 hx2_3
        refine th_iinc hx hb dX0_ranked_24 hL (k := 2) rfl (v := x2_3) hx2_3.symm (by decide) rfl (fun ls hL => ?_)
        refine lv_goto hx hb dX0_ranked_27 (tgt := 2) (by decide) ?_
        exact ih hR hS (hL.sub [1, 2, 0] rfl) hw ⟨by omega, by omega⟩
      · replace hw := hw.2 h
        refine lv_iload_n hx hb dX0_ranked_22 rfl (lv_at hL.1 2 rfl) ?_
        exact th_iret hx hb hret hlk hR hS hw (by omega) (by omega) dX0_ranked_23
theorem tk_X0_ranked {l : Launch} {D : tD} {B : Nat} {Q : Int32 → aH → Prop} {a0 : Nat} {x1 : Int32} : Met l yX0_ranked (ws_ yX0_ranked cX0_ranked 3 ((Option.some Jvm.ClassFile.FieldType.int))) rm_X0_ranked (th_P D B [rv a0, .int x1] (fun G => tw_X0_ranked Q G a0 x1)) (th_Qi D B Q) 0 0 (th_A B) :=
  th_ofW (by decide +kernel) (th_cr (th_ci th_cn)) (Nat.le_of_ble_eq_true rfl) (fun p e s m args below meth c CF hret hlk hnm hK hSt G ls hR hS hw hL => by
    have E : th_E p m c cX0_ranked 3 s args RX0 meth ((Option.some Jvm.ClassFile.FieldType.int)) "ranked" D B := ⟨CF, hret, hlk, hnm, hK, hSt⟩
    have hx := CF.1; have hb := CF.2.1
    have hL : th_L ls 3 [(0, rv a0), (1, .int x1)] := hL
    unfold tw_X0_ranked at hw
    refine lv_iconst hx hb dX0_ranked_0 (v := 0) rfl ?_
    refine th_istore_n hx hb dX0_ranked_1 rfl hL (by decide) rfl (fun ls hL => ?_)
    obtain ⟨n9, hw⟩ := hw
    exact tk_X0_ranked_b2 E n9 hR hS (hL.sub [1, 2, 0] rfl) hw ⟨by omega, by omega⟩)
def tw_X10_behind_b24 (Q : Nat → aH → Prop) (G : aH) (a2 : Nat) : Prop :=
  ∃ o1 : Int32, ((a2 = 0 ∧ o1 = 0) ∨ (th_o G a2 10 ∧ o1 = 1)) ∧ (
  (o1 = 0 →
    Q 0 G) ∧
  (¬ o1 = 0 →
    (a2 = 0 ∨ th_o G a2 10) ∧ (
    Q a2 G)))
def tw_X10_behind_b4 (Q : Nat → aH → Prop) : Nat → aH → Int32 → Nat → Int32 → Prop := fun n => Nat.rec (motive := fun _ => aH → Int32 → Nat → Int32 → Prop) (fun _ _ _ _ => False) (fun _ ih G x1 a2 x3 =>
  (x1 ≤ x3 →
    tw_X10_behind_b24 Q G a2) ∧
  (¬ x1 ≤ x3 →
    (a2 = 0 →
      tw_X10_behind_b24 Q G a2) ∧
    (¬ a2 = 0 →
      th_oo G a2 [9, 10, 11] ∧ (∀ c2 : Nat, c2 = (if a_mr G a2 0 = a2 then 0 else a_mr G a2 0) → 
      ∀ x3_3 : Int32, x3_3 = x3 + 1 → 
      ih G x1 c2 x3_3)))) n
theorem tws_X10_behind_b4 (Q : Nat → aH → Prop) (n : Nat) (G : aH) (x1 : Int32) (a2 : Nat) (x3 : Int32) : tw_X10_behind_b4 Q (n + 1) G x1 a2 x3 = (
  (x1 ≤ x3 →
    tw_X10_behind_b24 Q G a2) ∧
  (¬ x1 ≤ x3 →
    (a2 = 0 →
      tw_X10_behind_b24 Q G a2) ∧
    (¬ a2 = 0 →
      th_oo G a2 [9, 10, 11] ∧ (∀ c2 : Nat, c2 = (if a_mr G a2 0 = a2 then 0 else a_mr G a2 0) → 
      ∀ x3_3 : Int32, x3_3 = x3 + 1 → 
      tw_X10_behind_b4 Q n G x1 c2 x3_3)))) := rfl
def tw_X10_behind (Q : Nat → aH → Prop) (G : aH) (a0 : Nat) (x1 : Int32) : Prop :=
  ∃ n9 : Nat, tw_X10_behind_b4 Q n9 G x1 a0 0
theorem tk_X10_behind_b24 {p : Program} {l : Launch} {e : Env} {s : State} {m : MethodId} {args : Array Value} {below : List Frame} {meth : Method} {c : Code} {D : tD} {B : Nat} (E : th_E p m c cX10_behind 4 s args RX10 meth ((Option.some (Jvm.ClassFile.FieldType.object "TitheBarn$Refused"))) "behind" D B) {Q : Nat → aH → Prop} {G : aH} {H : Heap} {locs : List Loc} {cells slots : Nat} {ls : Array Slot} {a2 : Nat} (hR : th_H D B G H) (hS : va_S (th_A B) s.heap H locs) (hL : th_L ls 4 [(2, rv a2)]) (hw : tw_X10_behind_b24 Q G a2) (hc : cells + (0) ≤ 0 ∧ slots + (0) ≤ 0) : W p l e rm_X10_behind s m args below meth c H locs cells slots (MQ below (th_Qr D B Q) args s 0 0 (th_A B)) (F0 m 24 ls []) := by
  have CF := E.1; have hx := CF.1; have hb := CF.2.1; have hret := E.2.1; have hlk := E.2.2.1; have hnm := E.2.2.2.1; have hK := E.2.2.2.2.1; have hSt := E.2.2.2.2.2
  unfold tw_X10_behind_b24 at hw
  refine th_aload_n hx hb dX10_behind_24 rfl (lv_at hL.1 0 rfl) ?_
  obtain ⟨o1, hx9, hw⟩ := hw
  suffices hkk : W p l e rm_X10_behind s m args below meth c H locs (cells) (slots) (MQ below (th_Qr D B Q) args s 0 0 (th_A B)) (F0 m 28 ls [.int o1]) from by
    rcases hx9 with ⟨ho, h1⟩ | ⟨ho, h1⟩
    · subst h1
      have e9 := ho; rw [show (a2 : Nat) = 0 from ho]; exact th_inst0 hx hb dX10_behind_25 hkk
    · subst h1
      exact th_inst hx hb CF.2.2.2.1 (ci := 10) rfl (CF.2.2.2.2 _ q1180) hK hR ho dX10_behind_25 hkk
  refine lv_if_eq hx hb dX10_behind_28 (tgt := 38) (by decide) (fun h => ?_) (fun h => ?_)
  · replace hw := hw.1 h
    refine th_null hx hb dX10_behind_38 ?_
    exact th_aret hx hb hret (Or.inl ⟨_, rfl⟩) hlk hR hS hw (by omega) (by omega) dX10_behind_39
  · replace hw := hw.2 h
    refine th_aload_n hx hb dX10_behind_31 rfl (lv_at hL.1 0 rfl) ?_
    obtain ⟨ho, hw⟩ := hw
    refine th_cast hx hb CF.2.2.2.1 (ci := 10) rfl (CF.2.2.2.2 _ q1180) hK hR ho dX10_behind_32 ?_
    refine lv_goto hx hb dX10_behind_35 (tgt := 39) (by decide) ?_
    exact th_aret hx hb hret (Or.inl ⟨_, rfl⟩) hlk hR hS hw (by omega) (by omega) dX10_behind_39
theorem tk_X10_behind_b4 {p : Program} {l : Launch} {e : Env} {s : State} {m : MethodId} {args : Array Value} {below : List Frame} {meth : Method} {c : Code} {D : tD} {B : Nat} (E : th_E p m c cX10_behind 4 s args RX10 meth ((Option.some (Jvm.ClassFile.FieldType.object "TitheBarn$Refused"))) "behind" D B) {Q : Nat → aH → Prop} : ∀ (n : Nat) {G : aH} {H : Heap} {locs : List Loc} {cells slots : Nat} {ls : Array Slot} {x1 : Int32} {a2 : Nat} {x3 : Int32} (hR : th_H D B G H) (hS : va_S (th_A B) s.heap H locs) (hL : th_L ls 4 [(1, .int x1), (2, rv a2), (3, .int x3)]) (hw : tw_X10_behind_b4 Q n G x1 a2 x3) (hc : cells + (0) ≤ 0 ∧ slots + (0) ≤ 0), W p l e rm_X10_behind s m args below meth c H locs cells slots (MQ below (th_Qr D B Q) args s 0 0 (th_A B)) (F0 m 4 ls []) := by
  have CF := E.1; have hx := CF.1; have hb := CF.2.1; have hret := E.2.1; have hlk := E.2.2.1; have hnm := E.2.2.2.1; have hK := E.2.2.2.2.1; have hSt := E.2.2.2.2.2
  intro n
  induction n with
  | zero => intro _ _ _ _ _ _ _ _ _ _ _ _ hw; exact hw.elim
  | succ n ih =>
    intro G H locs cells slots ls x1 a2 x3 hR hS hL hw hc
    rw [tws_X10_behind_b4] at hw
    refine lv_iload_n hx hb dX10_behind_4 rfl (lv_at hL.1 2 rfl) ?_
    refine lv_iload_n hx hb dX10_behind_5 rfl (lv_at hL.1 0 rfl) ?_
    refine lv_icmp_ge hx hb dX10_behind_6 (tgt := 24) (by decide) (fun h => ?_) (fun h => ?_)
    · replace hw := hw.1 h
      exact tk_X10_behind_b24 E hR hS (hL.sub [1] rfl) hw ⟨by omega, by omega⟩
    · replace hw := hw.2 h
      refine th_aload_n hx hb dX10_behind_9 rfl (lv_at hL.1 1 rfl) ?_
      refine th_ifnull hx hb dX10_behind_10 (tgt := 24) (by decide) (fun h => ?_) (fun h => ?_)
      · replace hw := hw.1 h
        exact tk_X10_behind_b24 E hR hS (hL.sub [1] rfl) hw ⟨by omega, by omega⟩
      · replace hw := hw.2 h
        refine th_aload_n hx hb dX10_behind_13 rfl (lv_at hL.1 1 rfl) ?_
        obtain ⟨ho, hw⟩ := hw
        refine th_getCause CF hK hR hS ho hL.1.1 th_cn (Nat.le_of_ble_eq_true rfl) (by decide) (by decide) dX10_behind_14 (fun c2 H locs hr9 hR hS => ?_)
        replace hw := hw c2 hr9
        refine th_astore_n hx hb dX10_behind_17 rfl hL (by decide) rfl (fun ls hL => ?_)
        obtain ⟨x3_3, hx3_3⟩ : ∃ y : Int32, y = x3 + 1 := ⟨_, rfl⟩
        replace hw := hw x3_3 hx3_3
        refine th_iinc hx hb dX10_behind_18 hL (k := 2) rfl (v := x3_3) hx3_3.symm (by decide) rfl (fun ls hL => ?_)
        refine lv_goto hx hb dX10_behind_21 (tgt := 4) (by decide) ?_
        exact ih hR hS (hL.sub [2, 1, 0] rfl) hw ⟨by omega, by omega⟩
theorem tk_X10_behind {l : Launch} {D : tD} {B : Nat} {Q : Nat → aH → Prop} {a0 : Nat} {x1 : Int32} : Met l yX10_behind (ws_ yX10_behind cX10_behind 4 ((Option.some (Jvm.ClassFile.FieldType.object "TitheBarn$Refused")))) rm_X10_behind (th_P D B [rv a0, .int x1] (fun G => tw_X10_behind Q G a0 x1)) (th_Qr D B Q) 0 0 (th_A B) :=
  th_ofW (by decide +kernel) (th_cr (th_ci th_cn)) (Nat.le_of_ble_eq_true rfl) (fun p e s m args below meth c CF hret hlk hnm hK hSt G ls hR hS hw hL => by
    have E : th_E p m c cX10_behind 4 s args RX10 meth ((Option.some (Jvm.ClassFile.FieldType.object "TitheBarn$Refused"))) "behind" D B := ⟨CF, hret, hlk, hnm, hK, hSt⟩
    have hx := CF.1; have hb := CF.2.1
    have hL : th_L ls 4 [(0, rv a0), (1, .int x1)] := hL
    unfold tw_X10_behind at hw
    refine th_aload_n hx hb dX10_behind_0 rfl (lv_at hL.1 0 rfl) ?_
    refine th_astore_n hx hb dX10_behind_1 rfl hL (by decide) rfl (fun ls hL => ?_)
    refine lv_iconst hx hb dX10_behind_2 (v := 0) rfl ?_
    refine th_istore_n hx hb dX10_behind_3 rfl hL (by decide) rfl (fun ls hL => ?_)
    obtain ⟨n9, hw⟩ := hw
    exact tk_X10_behind_b4 E n9 hR hS (hL.sub [3, 1, 0] rfl) hw ⟨by omega, by omega⟩)
def tw_X0_reason_b35 (Q : Int32 → aH → Prop) (G : aH) (x2 : Int32) (ta0 : Nat) : Prop :=
  (¬ ta0 = 0 →
    (¬ x2 = 1 →
      th_o G ta0 10 ∧ (
      Q (a_mi G ta0 1) G)) ∧
    (x2 = 1 →
      th_o G ta0 10 ∧ (
      Q (a_mi G ta0 2) G))) ∧
  (ta0 = 0 →
    Q (-4) G)
def tw_X0_reason (Q : Int32 → aH → Prop) (G : aH) (a0 : Nat) (x1 : Int32) (x2 : Int32) : Prop :=
  (x1 < 0 →
    Q (-2) G) ∧
  (¬ x1 < 0 →
    (tw_X0_within
      (fun (r2 : Int32) (G1 : aH) =>
        (¬ r2 = 0 →
          th_o G1 a0 0 ∧ (
          (¬ (a_mr G1 a0 7) = 0 →
            th_o G1 a0 0 ∧ (
            th_o G1 (a_mr G1 a0 7) 10 ∧ (
            (tw_X10_behind
              (fun (b4 : Nat) (G3 : aH) =>
                tw_X0_reason_b35 Q G3 x2 b4)
              G1 (a_mr G1 a0 7) x1)))) ∧
          ((a_mr G1 a0 7) = 0 →
            tw_X0_reason_b35 Q G1 x2 0))) ∧
        (r2 = 0 →
          Q (-2) G1))
      G x2 0 1))
theorem tk_X0_reason_b35 {p : Program} {l : Launch} {e : Env} {s : State} {m : MethodId} {args : Array Value} {below : List Frame} {meth : Method} {c : Code} {D : tD} {B : Nat} (E : th_E p m c cX0_reason 4 s args RX0 meth ((Option.some Jvm.ClassFile.FieldType.int)) "reason" D B) {Q : Int32 → aH → Prop} {G : aH} {H : Heap} {locs : List Loc} {cells slots : Nat} {ls : Array Slot} {x2 : Int32} {ta0 : Nat} (hR : th_H D B G H) (hS : va_S (th_A B) s.heap H locs) (hL : th_L ls 4 [(2, .int x2)]) (hw : tw_X0_reason_b35 Q G x2 ta0) (hc : cells + (0) ≤ 0 ∧ slots + (0) ≤ 0) : W p l e rm_X0_reason s m args below meth c H locs cells slots (MQ below (th_Qi D B Q) args s 0 0 (th_A B)) (F0 m 35 ls [rv ta0]) := by
  have CF := E.1; have hx := CF.1; have hb := CF.2.1; have hret := E.2.1; have hlk := E.2.2.1; have hnm := E.2.2.2.1; have hK := E.2.2.2.2.1; have hSt := E.2.2.2.2.2
  unfold tw_X0_reason_b35 at hw
  refine th_astore_n hx hb dX0_reason_35 rfl hL (by decide) rfl (fun ls hL => ?_)
  refine th_aload_n hx hb dX0_reason_36 rfl (lv_at hL.1 0 rfl) ?_
  refine th_ifnonnull hx hb dX0_reason_37 (tgt := 45) (by decide) (fun h => ?_) (fun h => ?_)
  · replace hw := hw.1 h
    refine lv_iload_n hx hb dX0_reason_45 rfl (lv_at hL.1 1 rfl) ?_
    refine lv_iconst hx hb dX0_reason_46 (v := 1) rfl ?_
    refine lv_icmp_ne hx hb dX0_reason_47 (tgt := 57) (by decide) (fun h => ?_) (fun h => ?_)
    · replace hw := hw.1 h
      refine th_aload_n hx hb dX0_reason_57 rfl (lv_at hL.1 0 rfl) ?_
      obtain ⟨ho, hw⟩ := hw
      refine fg_X0_387 CF hK hR ho dX0_reason_58 ?_
      exact th_iret hx hb hret hlk hR hS hw (by omega) (by omega) dX0_reason_61
    · replace hw := hw.2 h
      refine th_aload_n hx hb dX0_reason_50 rfl (lv_at hL.1 0 rfl) ?_
      obtain ⟨ho, hw⟩ := hw
      refine fg_X0_384 CF hK hR ho dX0_reason_51 ?_
      refine lv_goto hx hb dX0_reason_54 (tgt := 61) (by decide) ?_
      exact th_iret hx hb hret hlk hR hS hw (by omega) (by omega) dX0_reason_61
  · replace hw := hw.2 h
    refine lv_bipush hx hb dX0_reason_40 (v := (-4)) rfl ?_
    refine lv_goto hx hb dX0_reason_42 (tgt := 61) (by decide) ?_
    exact th_iret hx hb hret hlk hR hS hw (by omega) (by omega) dX0_reason_61
theorem tk_X0_reason {l : Launch} {D : tD} {B : Nat} {Q : Int32 → aH → Prop} {a0 : Nat} {x1 : Int32} {x2 : Int32} : Met l yX0_reason (ws_ yX0_reason cX0_reason 4 ((Option.some Jvm.ClassFile.FieldType.int))) rm_X0_reason (th_P D B [rv a0, .int x1, .int x2] (fun G => tw_X0_reason Q G a0 x1 x2)) (th_Qi D B Q) 0 0 (th_A B) :=
  th_ofW (by decide +kernel) (th_cr (th_ci (th_ci th_cn))) (Nat.le_of_ble_eq_true rfl) (fun p e s m args below meth c CF hret hlk hnm hK hSt G ls hR hS hw hL => by
    have E : th_E p m c cX0_reason 4 s args RX0 meth ((Option.some Jvm.ClassFile.FieldType.int)) "reason" D B := ⟨CF, hret, hlk, hnm, hK, hSt⟩
    have hx := CF.1; have hb := CF.2.1
    have hL : th_L ls 4 [(0, rv a0), (1, .int x1), (2, .int x2)] := hL
    unfold tw_X0_reason at hw
    refine lv_iload_n hx hb dX0_reason_0 rfl (lv_at hL.1 1 rfl) ?_
    refine lv_if_lt hx hb dX0_reason_1 (tgt := 13) (by decide) (fun h => ?_) (fun h => ?_)
    · replace hw := hw.1 h
      refine lv_bipush hx hb dX0_reason_13 (v := (-2)) rfl ?_
      exact th_iret hx hb hret hlk hR hS hw (by omega) (by omega) dX0_reason_15
    · replace hw := hw.2 h
      refine lv_iload_n hx hb dX0_reason_4 rfl (lv_at hL.1 2 rfl) ?_
      refine lv_iconst hx hb dX0_reason_5 (v := 0) rfl ?_
      refine lv_iconst hx hb dX0_reason_6 (v := 1) rfl ?_
      refine th_ki hS (th_rS CF hK hSt hR hS (rest := []) (tk_X0_within) (cw_X0_82 CF hK (by decide +kernel)) hw rfl hL.1.1 rfl th_cn (Nat.le_of_ble_eq_true rfl) dX0_reason_7 ⟨by show _ ≤ (0 : Nat); omega, by show _ ≤ (0 : Nat); omega⟩) (fun r2 G1 H locs hw hR hS => ?_)
      refine lv_if_ne hx hb dX0_reason_10 (tgt := 16) (by decide) (fun h => ?_) (fun h => ?_)
      · replace hw := hw.1 h
        refine th_aload_n hx hb dX0_reason_16 rfl (lv_at hL.1 0 rfl) ?_
        obtain ⟨ho, hw⟩ := hw
        refine fg_X0_75 CF hK hR ho dX0_reason_17 ?_
        refine th_ifnonnull hx hb dX0_reason_20 (tgt := 27) (by decide) (fun h => ?_) (fun h => ?_)
        · replace hw := hw.1 h
          refine th_aload_n hx hb dX0_reason_27 rfl (lv_at hL.1 0 rfl) ?_
          obtain ⟨ho, hw⟩ := hw
          refine fg_X0_75 CF hK hR ho dX0_reason_28 ?_
          refine lv_iload_n hx hb dX0_reason_31 rfl (lv_at hL.1 1 rfl) ?_
          obtain ⟨ho, hw⟩ := hw
          refine th_kr hS (th_rV CF hK hSt hR hS ho (ci := 10) rfl (rest := []) (tk_X10_behind) (cw_X0_380 CF hK (by decide +kernel)) hw rfl hL.1.1 rfl th_cn (Nat.le_of_ble_eq_true rfl) dX0_reason_32 ⟨by show _ ≤ (0 : Nat); omega, by show _ ≤ (0 : Nat); omega⟩) (fun b4 G3 H locs hw hR hS => ?_)
          exact tk_X0_reason_b35 E hR hS (hL.sub [2] rfl) hw ⟨by omega, by omega⟩
        · replace hw := hw.2 h
          refine th_null hx hb dX0_reason_23 ?_
          refine lv_goto hx hb dX0_reason_24 (tgt := 35) (by decide) ?_
          exact tk_X0_reason_b35 E hR hS (hL.sub [2] rfl) hw ⟨by omega, by omega⟩
      · replace hw := hw.2 h
        refine lv_bipush hx hb dX0_reason_13 (v := (-2)) rfl ?_
        exact th_iret hx hb hret hlk hR hS hw (by omega) (by omega) dX0_reason_15)
def tw_X0_restore (Q : Int32 → aH → Prop) (G : aH) (a0 : Nat) : Prop :=
  th_o G a0 0 ∧ (
  (¬ a_mi G a0 4 = 0 →
    th_o G a0 0 ∧ (
    th_o G a0 0 ∧ (
    th_o G (a_mr G a0 0) 1 ∧ (
    (tw_X1_like
      (fun (G1 : aH) =>
        th_o G1 a0 0 ∧ (
        ∀ G2 : aH, G2 = a_si G1 a0 6 0 → 
        th_o G2 a0 0 ∧ (
        th_o G2 (a_mr G2 a0 0) 1 ∧ (
        Q (a_mi G2 (a_mr G2 a0 0) 1) G2))))
      G (a_mr G a0 0) (a_mr G a0 3)))))) ∧
  (a_mi G a0 4 = 0 →
    Q (-4) G))
theorem tk_X0_restore {l : Launch} {D : tD} {B : Nat} {Q : Int32 → aH → Prop} {a0 : Nat} : Met l yX0_restore (ws_ yX0_restore cX0_restore 1 ((Option.some Jvm.ClassFile.FieldType.int))) rm_X0_restore (th_P D B [rv a0] (fun G => tw_X0_restore Q G a0)) (th_Qi D B Q) 0 0 (th_A B) :=
  th_ofW (by decide +kernel) (th_cr th_cn) (Nat.le_of_ble_eq_true rfl) (fun p e s m args below meth c CF hret hlk hnm hK hSt G ls hR hS hw hL => by
    have E : th_E p m c cX0_restore 1 s args RX0 meth ((Option.some Jvm.ClassFile.FieldType.int)) "restore" D B := ⟨CF, hret, hlk, hnm, hK, hSt⟩
    have hx := CF.1; have hb := CF.2.1
    have hL : th_L ls 1 [(0, rv a0)] := hL
    unfold tw_X0_restore at hw
    refine th_aload_n hx hb dX0_restore_0 rfl (lv_at hL.1 0 rfl) ?_
    obtain ⟨ho, hw⟩ := hw
    refine fg_X0_483 CF hK hR ho dX0_restore_1 ?_
    refine lv_if_ne hx hb dX0_restore_4 (tgt := 10) (by decide) (fun h => ?_) (fun h => ?_)
    · replace hw := hw.1 h
      refine th_aload_n hx hb dX0_restore_10 rfl (lv_at hL.1 0 rfl) ?_
      obtain ⟨ho, hw⟩ := hw
      refine fg_X0_22 CF hK hR ho dX0_restore_11 ?_
      refine th_aload_n hx hb dX0_restore_14 rfl (lv_at hL.1 0 rfl) ?_
      obtain ⟨ho, hw⟩ := hw
      refine fg_X0_32 CF hK hR ho dX0_restore_15 ?_
      obtain ⟨ho, hw⟩ := hw
      refine th_kv hS (th_rV CF hK hSt hR hS ho (ci := 1) rfl (rest := []) (tk_X1_like) (cw_X0_59 CF hK (by decide +kernel)) hw rfl hL.1.1 rfl th_cn (Nat.le_of_ble_eq_true rfl) dX0_restore_18 ⟨by show _ ≤ (0 : Nat); omega, by show _ ≤ (0 : Nat); omega⟩) (fun G1 H locs hw hR hS => ?_)
      refine th_aload_n hx hb dX0_restore_21 rfl (lv_at hL.1 0 rfl) ?_
      refine lv_iconst hx hb dX0_restore_22 (v := 0) rfl ?_
      obtain ⟨ho, hw⟩ := hw
      refine fp_X0_63 CF hK hR hS ho dX0_restore_23 (fun G2 H locs hG hR hS => ?_)
      replace hw := hw G2 hG
      refine th_aload_n hx hb dX0_restore_26 rfl (lv_at hL.1 0 rfl) ?_
      obtain ⟨ho, hw⟩ := hw
      refine fg_X0_22 CF hK hR ho dX0_restore_27 ?_
      obtain ⟨ho, hw⟩ := hw
      refine fg_X0_79 CF hK hR ho dX0_restore_30 ?_
      exact th_iret hx hb hret hlk hR hS hw (by omega) (by omega) dX0_restore_33
    · replace hw := hw.2 h
      refine lv_bipush hx hb dX0_restore_7 (v := (-4)) rfl ?_
      exact th_iret hx hb hret hlk hR hS hw (by omega) (by omega) dX0_restore_9)
